/-! HeldTongueModel -/
set_option maxRecDepth 100000
def RX4 : String := "HeldTongueModel"
def TX4 : u_T := fun k => match k with
  | 0 => ("HeldTongueModel", "a", "[I", true)
  | 1 => ("HeldTongueModel", "image", "[I", true)
  | 2 => ("HeldTongueModel", "tape", "[B", true)
  | 3 => ("HeldTongueModel", "taped", "I", false)
  | 4 => ("HeldTongueModel", "fault", "I", false)
  | 5 => ("HeldTongueModel", "faultAt", "I", false)
  | 6 => ("HeldTongueModel", "clauses", "[I", true)
  | 7 => ("HeldTongueModel", "clauseWord", "[I", true)
  | 8 => ("HeldTongueModel", "clauseAt", "[I", true)
  | 9 => ("HeldTongueModel", "senseWord", "[I", true)
  | 10 => ("HeldTongueModel", "senseSort", "[I", true)
  | 11 => ("HeldTongueModel", "senseA", "[I", true)
  | 12 => ("HeldTongueModel", "senseB", "[I", true)
  | 13 => ("HeldTongueModel", "senseK", "[I", true)
  | 14 => ("HeldTongueModel", "senseG", "[I", true)
  | 15 => ("HeldTongueModel", "senseM", "[I", true)
  | 16 => ("HeldTongueModel", "order", "[I", true)
  | 17 => ("HeldTongueModel", "value", "[I", true)
  | 18 => ("HeldTongueModel", "length", "I", false)
  | 19 => ("HeldTongueModel", "at", "I", false)
  | 20 => ("HeldTongueModel", "token", "I", false)
  | 21 => ("HeldTongueModel", "sort", "I", false)
  | 22 => ("HeldTongueModel", "told", "I", false)
  | 23 => ("HeldTongueModel", "wrong", "I", false)
  | 24 => ("HeldTongueModel", "wrongAt", "I", false)
  | 25 => ("HeldTongueModel", "open", "I", false)
  | 26 => ("HeldTongueModel", "frames", "I", false)
  | 27 => ("HeldTongueModel", "frame", "[I", true)
  | 28 => ("HeldTongueModel", "compare", "[I", true)
  | 29 => ("HeldTongueModel", "waits", "I", false)
  | 30 => ("HeldTongueModel", "wait", "[I", true)
  | 31 => ("HeldTongueModel", "waitFrame", "[I", true)
  | 32 => ("HeldTongueModel", "state", "I", false)
  | 33 => ("HeldTongueModel", "newClauses", "I", false)
  | 34 => ("HeldTongueModel", "newKind", "I", false)
  | 35 => ("HeldTongueModel", "newWord", "[I", true)
  | 36 => ("HeldTongueModel", "newAt", "[I", true)
  | 37 => ("HeldTongueModel", "newSense", "[I", true)
  | 38 => ("HeldTongueModel", "newOrders", "I", false)
  | 39 => ("HeldTongueModel", "newOrder", "[I", true)
  | 40 => ("HeldTongueModel", "newValue", "[I", true)
  | 41 => ("HeldTongueModel", "name", "[I", true)
  | 42 => ("HeldTongueModel", "pile", "[J", true)
  | 43 => ("HeldTongueModel", "one", "[J", true)
  | 44 => ("HeldTongueModel", "many", "[J", true)
  | 45 => ("HeldTongueModel", "by", "J", false)
  | 46 => ("HeldTongueModel", "prime", "[J", true)
  | 47 => ("HeldTongueModel", "rest", "[J", true)
  | 48 => ("HeldTongueModel", "digit", "[J", true)
  | 49 => ("HeldTongueModel", "sense", "[I", true)
  | 50 => ("HeldTongueModel", "m", "[I", true)
  | 51 => ("HeldTongueModel", "need", "[I", true)
  | 52 => ("HeldTongueModel", "made", "[J", true)
  | 53 => ("HeldTongueModel", "ease", "[I", true)
  | 54 => ("HeldTongueModel", "eases", "[I", true)
  | 55 => ("HeldTongueModel", "meanings", "I", false)
  | 56 => ("HeldTongueModel", "partsAll", "I", false)
  | 57 => ("HeldTongueModel", "meaningSort", "[I", true)
  | 58 => ("HeldTongueModel", "meaningMark", "[I", true)
  | 59 => ("HeldTongueModel", "meaningAt", "[I", true)
  | 60 => ("HeldTongueModel", "meaningMany", "[I", true)
  | 61 => ("HeldTongueModel", "part", "[I", true)
  | 62 => ("HeldTongueModel", "newPart", "[I", true)
  | 63 => ("HeldTongueModel", "heldKind", "[I", true)
  | 64 => ("HeldTongueModel", "heldMeaning", "[I", true)
  | 65 => ("HeldTongueModel", "heldWeight", "[I", true)
  | 66 => ("HeldTongueModel", "heldBy", "[I", true)
  | 67 => ("HeldTongueModel", "held", "I", false)
  | 68 => ("HeldTongueModel", "weightAt", "[I", true)
  | 69 => ("HeldTongueModel", "mostHeld", "I", false)
  | 70 => ("HeldTongueModel", "meant", "[Z", true)
  | 71 => ("HeldTongueModel", "lost", "I", false)
  | 72 => ("HeldTongueModel", "dropped", "I", false)
  | 73 => ("HeldTongueModel", "first", "I", false)
  | 74 => ("HeldTongueModel", "asked", "Z", false)
  | 75 => ("HeldTongueModel", "cost", "[I", true)
  | 76 => ("HeldTongueModel", "choice", "[I", true)
  | 77 => ("HeldTongueModel", "turned", "[I", true)
  | 78 => ("HeldTongueModel", "place", "[I", true)
  | 79 => ("HeldTongueModel", "toSay", "[I", true)
  | 80 => ("HeldTongueModel", "said", "[I", true)
  | 81 => ("HeldTongueModel", "bestSaid", "[I", true)
  | _ => ("HeldTongueModel", "saidMany", "I", false)
def tyX4 : Nat → FieldType := fun k => match k with
  | 0 => .array .int
  | 1 => .array .int
  | 2 => .array .byte
  | 3 => .int
  | 4 => .int
  | 5 => .int
  | 6 => .array .int
  | 7 => .array .int
  | 8 => .array .int
  | 9 => .array .int
  | 10 => .array .int
  | 11 => .array .int
  | 12 => .array .int
  | 13 => .array .int
  | 14 => .array .int
  | 15 => .array .int
  | 16 => .array .int
  | 17 => .array .int
  | 18 => .int
  | 19 => .int
  | 20 => .int
  | 21 => .int
  | 22 => .int
  | 23 => .int
  | 24 => .int
  | 25 => .int
  | 26 => .int
  | 27 => .array .int
  | 28 => .array .int
  | 29 => .int
  | 30 => .array .int
  | 31 => .array .int
  | 32 => .int
  | 33 => .int
  | 34 => .int
  | 35 => .array .int
  | 36 => .array .int
  | 37 => .array .int
  | 38 => .int
  | 39 => .array .int
  | 40 => .array .int
  | 41 => .array .int
  | 42 => .array .long
  | 43 => .array .long
  | 44 => .array .long
  | 45 => .long
  | 46 => .array .long
  | 47 => .array .long
  | 48 => .array .long
  | 49 => .array .int
  | 50 => .array .int
  | 51 => .array .int
  | 52 => .array .long
  | 53 => .array .int
  | 54 => .array .int
  | 55 => .int
  | 56 => .int
  | 57 => .array .int
  | 58 => .array .int
  | 59 => .array .int
  | 60 => .array .int
  | 61 => .array .int
  | 62 => .array .int
  | 63 => .array .int
  | 64 => .array .int
  | 65 => .array .int
  | 66 => .array .int
  | 67 => .int
  | 68 => .array .int
  | 69 => .int
  | 70 => .array .boolean
  | 71 => .int
  | 72 => .int
  | 73 => .int
  | 74 => .boolean
  | 75 => .array .int
  | 76 => .array .int
  | 77 => .array .int
  | 78 => .array .int
  | 79 => .array .int
  | 80 => .array .int
  | 81 => .array .int
  | _ => .int
abbrev wsX40 : List Cond := u_ws RX4 TX4 83
set_option maxRecDepth 100000 in
theorem nmX4 : ∀ a, a < 83 → ∀ b, b < 83 → a ≠ b → (TX4 a).2.1 ≠ (TX4 b).2.1 := by decide +kernel
set_option maxRecDepth 100000 in
theorem tyX4_ok : ∀ k, k < 83 → parseFieldDescriptor (TX4 k).2.2.1 = some (tyX4 k) := by decide +kernel
abbrev cX4_init : ByteArray := prog_23_method_1_code
def yX4_init : MethodName := ⟨RX4, "<init>", "()V"⟩
def dkwX4_init_21 : List UInt8 := [188, 10, 181, 0, 185, 42, 180, 0, 7, 4, 2, 79, 42, 4, 182, 0, 188, 177]
abbrev dktX4_init_21 : List UInt8 := dkwX4_init_21 ++ []
def dkwX4_init_20 : List UInt8 := [181, 0, 176, 42, 17, 0, 128, 188, 10, 181, 0, 179, 42, 16, 100, 188, 10, 181, 0, 182, 42, 16, 100]
abbrev dktX4_init_20 : List UInt8 := dkwX4_init_20 ++ dktX4_init_21
def dkwX4_init_19 : List UInt8 := [17, 19, 128, 188, 10, 181, 0, 170, 42, 17, 19, 128, 188, 10, 181, 0, 173, 42, 16, 6, 188, 10]
abbrev dktX4_init_19 : List UInt8 := dkwX4_init_19 ++ dktX4_init_20
def dkwX4_init_18 : List UInt8 := [181, 0, 160, 42, 17, 28, 132, 188, 4, 181, 0, 163, 42, 17, 19, 128, 188, 10, 181, 0, 167, 42]
abbrev dktX4_init_18 : List UInt8 := dkwX4_init_18 ++ dktX4_init_19
def dkwX4_init_17 : List UInt8 := [181, 0, 151, 42, 16, 26, 188, 10, 181, 0, 154, 42, 16, 26, 188, 10, 181, 0, 157, 42, 16, 24, 188, 10]
abbrev dktX4_init_17 : List UInt8 := dkwX4_init_17 ++ dktX4_init_18
def dkwX4_init_16 : List UInt8 := [181, 0, 142, 42, 16, 6, 188, 10, 181, 0, 145, 42, 16, 26, 188, 10, 181, 0, 148, 42, 16, 26, 188, 10]
abbrev dktX4_init_16 : List UInt8 := dkwX4_init_16 ++ dktX4_init_17
def dkwX4_init_15 : List UInt8 := [17, 28, 132, 188, 10, 181, 0, 136, 42, 17, 28, 132, 188, 10, 181, 0, 139, 42, 17, 57, 8, 188, 10]
abbrev dktX4_init_15 : List UInt8 := dkwX4_init_15 ++ dktX4_init_16
def dkwX4_init_14 : List UInt8 := [181, 0, 127, 42, 17, 28, 132, 188, 10, 181, 0, 130, 42, 17, 28, 132, 188, 10, 181, 0, 133, 42]
abbrev dktX4_init_14 : List UInt8 := dkwX4_init_14 ++ dktX4_init_15
def dkwX4_init_13 : List UInt8 := [17, 3, 57, 188, 11, 181, 0, 121, 42, 17, 18, 0, 188, 10, 181, 0, 124, 42, 17, 108, 0, 188, 10]
abbrev dktX4_init_13 : List UInt8 := dkwX4_init_13 ++ dktX4_init_14
def dkwX4_init_12 : List UInt8 := [16, 24, 188, 10, 181, 0, 112, 42, 16, 24, 188, 10, 181, 0, 115, 42, 16, 32, 188, 10, 181, 0, 118, 42]
abbrev dktX4_init_12 : List UInt8 := dkwX4_init_12 ++ dktX4_init_13
def dkwX4_init_11 : List UInt8 := [16, 6, 188, 11, 181, 0, 103, 42, 16, 6, 188, 11, 181, 0, 106, 42, 16, 7, 188, 11, 181, 0, 109, 42]
abbrev dktX4_init_11 : List UInt8 := dkwX4_init_11 ++ dktX4_init_12
def dkwX4_init_10 : List UInt8 := [188, 11, 181, 0, 93, 42, 17, 18, 0, 188, 11, 181, 0, 97, 42, 17, 108, 0, 188, 11, 181, 0, 100, 42]
abbrev dktX4_init_10 : List UInt8 := dkwX4_init_10 ++ dktX4_init_11
def dkwX4_init_9 : List UInt8 := [181, 0, 84, 42, 17, 1, 144, 188, 10, 181, 0, 87, 42, 16, 7, 188, 10, 181, 0, 90, 42, 17, 0, 200]
abbrev dktX4_init_9 : List UInt8 := dkwX4_init_9 ++ dktX4_init_10
def dkwX4_init_8 : List UInt8 := [42, 16, 24, 188, 10, 181, 0, 78, 42, 17, 0, 168, 188, 10, 181, 0, 81, 42, 17, 1, 144, 188, 10]
abbrev dktX4_init_8 : List UInt8 := dkwX4_init_8 ++ dktX4_init_9
def dkwX4_init_7 : List UInt8 := [42, 16, 80, 188, 10, 181, 0, 69, 42, 16, 80, 188, 10, 181, 0, 72, 42, 16, 24, 188, 10, 181, 0, 75]
abbrev dktX4_init_7 : List UInt8 := dkwX4_init_7 ++ dktX4_init_8
def dkwX4_init_6 : List UInt8 := [17, 9, 96, 188, 10, 181, 0, 60, 42, 16, 40, 188, 10, 181, 0, 63, 42, 16, 41, 188, 10, 181, 0, 66]
abbrev dktX4_init_6 : List UInt8 := dkwX4_init_6 ++ dktX4_init_7
def dkwX4_init_5 : List UInt8 := [181, 0, 51, 42, 17, 0, 144, 188, 10, 181, 0, 54, 42, 17, 9, 96, 188, 10, 181, 0, 57, 42]
abbrev dktX4_init_5 : List UInt8 := dkwX4_init_5 ++ dktX4_init_6
def dkwX4_init_4 : List UInt8 := [17, 0, 144, 188, 10, 181, 0, 45, 42, 17, 0, 144, 188, 10, 181, 0, 48, 42, 17, 0, 144, 188, 10]
abbrev dktX4_init_4 : List UInt8 := dkwX4_init_4 ++ dktX4_init_5
def dkwX4_init_3 : List UInt8 := [181, 0, 36, 42, 17, 0, 144, 188, 10, 181, 0, 39, 42, 17, 0, 144, 188, 10, 181, 0, 42, 42]
abbrev dktX4_init_3 : List UInt8 := dkwX4_init_3 ++ dktX4_init_4
def dkwX4_init_2 : List UInt8 := [17, 0, 144, 188, 10, 181, 0, 30, 42, 17, 0, 144, 188, 10, 181, 0, 33, 42, 17, 0, 144, 188, 10]
abbrev dktX4_init_2 : List UInt8 := dkwX4_init_2 ++ dktX4_init_3
def dkwX4_init_1 : List UInt8 := [188, 8, 181, 0, 16, 42, 2, 181, 0, 20, 42, 2, 181, 0, 24, 42, 16, 6, 188, 10, 181, 0, 27, 42]
abbrev dktX4_init_1 : List UInt8 := dkwX4_init_1 ++ dktX4_init_2
def dkwX4_init_0 : List UInt8 := [42, 183, 0, 1, 42, 16, 40, 188, 10, 181, 0, 7, 42, 16, 40, 188, 10, 181, 0, 13, 42, 17, 1, 44]
abbrev dktX4_init_0 : List UInt8 := dkwX4_init_0 ++ dktX4_init_1
theorem dksX4_init_0 : cX4_init.data.toList.drop 0 = dktX4_init_0 := by decide +kernel
theorem dksX4_init_1 : cX4_init.data.toList.drop 24 = dktX4_init_1 := dk_seg dksX4_init_0 24 rfl rfl
theorem dksX4_init_2 : cX4_init.data.toList.drop 48 = dktX4_init_2 := dk_seg dksX4_init_1 24 rfl rfl
theorem dksX4_init_3 : cX4_init.data.toList.drop 71 = dktX4_init_3 := dk_seg dksX4_init_2 23 rfl rfl
theorem dksX4_init_4 : cX4_init.data.toList.drop 93 = dktX4_init_4 := dk_seg dksX4_init_3 22 rfl rfl
theorem dksX4_init_5 : cX4_init.data.toList.drop 116 = dktX4_init_5 := dk_seg dksX4_init_4 23 rfl rfl
theorem dksX4_init_6 : cX4_init.data.toList.drop 138 = dktX4_init_6 := dk_seg dksX4_init_5 22 rfl rfl
theorem dksX4_init_7 : cX4_init.data.toList.drop 162 = dktX4_init_7 := dk_seg dksX4_init_6 24 rfl rfl
theorem dksX4_init_8 : cX4_init.data.toList.drop 186 = dktX4_init_8 := dk_seg dksX4_init_7 24 rfl rfl
theorem dksX4_init_9 : cX4_init.data.toList.drop 209 = dktX4_init_9 := dk_seg dksX4_init_8 23 rfl rfl
theorem dksX4_init_10 : cX4_init.data.toList.drop 233 = dktX4_init_10 := dk_seg dksX4_init_9 24 rfl rfl
theorem dksX4_init_11 : cX4_init.data.toList.drop 257 = dktX4_init_11 := dk_seg dksX4_init_10 24 rfl rfl
theorem dksX4_init_12 : cX4_init.data.toList.drop 281 = dktX4_init_12 := dk_seg dksX4_init_11 24 rfl rfl
theorem dksX4_init_13 : cX4_init.data.toList.drop 305 = dktX4_init_13 := dk_seg dksX4_init_12 24 rfl rfl
theorem dksX4_init_14 : cX4_init.data.toList.drop 328 = dktX4_init_14 := dk_seg dksX4_init_13 23 rfl rfl
theorem dksX4_init_15 : cX4_init.data.toList.drop 350 = dktX4_init_15 := dk_seg dksX4_init_14 22 rfl rfl
theorem dksX4_init_16 : cX4_init.data.toList.drop 373 = dktX4_init_16 := dk_seg dksX4_init_15 23 rfl rfl
theorem dksX4_init_17 : cX4_init.data.toList.drop 397 = dktX4_init_17 := dk_seg dksX4_init_16 24 rfl rfl
theorem dksX4_init_18 : cX4_init.data.toList.drop 421 = dktX4_init_18 := dk_seg dksX4_init_17 24 rfl rfl
theorem dksX4_init_19 : cX4_init.data.toList.drop 443 = dktX4_init_19 := dk_seg dksX4_init_18 22 rfl rfl
theorem dksX4_init_20 : cX4_init.data.toList.drop 465 = dktX4_init_20 := dk_seg dksX4_init_19 22 rfl rfl
theorem dksX4_init_21 : cX4_init.data.toList.drop 488 = dktX4_init_21 := dk_seg dksX4_init_20 23 rfl rfl
theorem dX4_init_0 : decode cX4_init 0 = .ok (.aload_n 0, 1) := dk_42 (dk_at dksX4_init_0 0 rfl rfl)
theorem dX4_init_1 : decode cX4_init 1 = .ok (.invokespecial 1, 3) := dk_183 0 1 (dk_at dksX4_init_0 1 rfl rfl)
theorem dX4_init_4 : decode cX4_init 4 = .ok (.aload_n 0, 1) := dk_42 (dk_at dksX4_init_0 4 rfl rfl)
theorem dX4_init_5 : decode cX4_init 5 = .ok (.bipush 40, 2) := dk_16 40 (dk_at dksX4_init_0 5 rfl rfl)
theorem dX4_init_7 : decode cX4_init 7 = .ok (.newarray .int, 2) := dk_188_10 (dk_at dksX4_init_0 7 rfl rfl)
theorem dX4_init_9 : decode cX4_init 9 = .ok (.putfield 7, 3) := dk_181 0 7 (dk_at dksX4_init_0 9 rfl rfl)
theorem dX4_init_12 : decode cX4_init 12 = .ok (.aload_n 0, 1) := dk_42 (dk_at dksX4_init_0 12 rfl rfl)
theorem dX4_init_13 : decode cX4_init 13 = .ok (.bipush 40, 2) := dk_16 40 (dk_at dksX4_init_0 13 rfl rfl)
theorem dX4_init_15 : decode cX4_init 15 = .ok (.newarray .int, 2) := dk_188_10 (dk_at dksX4_init_0 15 rfl rfl)
theorem dX4_init_17 : decode cX4_init 17 = .ok (.putfield 13, 3) := dk_181 0 13 (dk_at dksX4_init_0 17 rfl rfl)
theorem dX4_init_20 : decode cX4_init 20 = .ok (.aload_n 0, 1) := dk_42 (dk_at dksX4_init_0 20 rfl rfl)
theorem dX4_init_21 : decode cX4_init 21 = .ok (.sipush 300, 3) := dk_17 1 44 (dk_at dksX4_init_0 21 rfl rfl)
theorem dX4_init_24 : decode cX4_init 24 = .ok (.newarray .byte, 2) := dk_188_8 (dk_at dksX4_init_1 0 rfl rfl)
theorem dX4_init_26 : decode cX4_init 26 = .ok (.putfield 16, 3) := dk_181 0 16 (dk_at dksX4_init_1 2 rfl rfl)
theorem dX4_init_29 : decode cX4_init 29 = .ok (.aload_n 0, 1) := dk_42 (dk_at dksX4_init_1 5 rfl rfl)
theorem dX4_init_30 : decode cX4_init 30 = .ok (.iconst (-1), 1) := dk_2 (dk_at dksX4_init_1 6 rfl rfl)
theorem dX4_init_31 : decode cX4_init 31 = .ok (.putfield 20, 3) := dk_181 0 20 (dk_at dksX4_init_1 7 rfl rfl)
theorem dX4_init_34 : decode cX4_init 34 = .ok (.aload_n 0, 1) := dk_42 (dk_at dksX4_init_1 10 rfl rfl)
theorem dX4_init_35 : decode cX4_init 35 = .ok (.iconst (-1), 1) := dk_2 (dk_at dksX4_init_1 11 rfl rfl)
theorem dX4_init_36 : decode cX4_init 36 = .ok (.putfield 24, 3) := dk_181 0 24 (dk_at dksX4_init_1 12 rfl rfl)
theorem dX4_init_39 : decode cX4_init 39 = .ok (.aload_n 0, 1) := dk_42 (dk_at dksX4_init_1 15 rfl rfl)
theorem dX4_init_40 : decode cX4_init 40 = .ok (.bipush 6, 2) := dk_16 6 (dk_at dksX4_init_1 16 rfl rfl)
theorem dX4_init_42 : decode cX4_init 42 = .ok (.newarray .int, 2) := dk_188_10 (dk_at dksX4_init_1 18 rfl rfl)
theorem dX4_init_44 : decode cX4_init 44 = .ok (.putfield 27, 3) := dk_181 0 27 (dk_at dksX4_init_1 20 rfl rfl)
theorem dX4_init_47 : decode cX4_init 47 = .ok (.aload_n 0, 1) := dk_42 (dk_at dksX4_init_1 23 rfl rfl)
theorem dX4_init_48 : decode cX4_init 48 = .ok (.sipush 144, 3) := dk_17 0 144 (dk_at dksX4_init_2 0 rfl rfl)
theorem dX4_init_51 : decode cX4_init 51 = .ok (.newarray .int, 2) := dk_188_10 (dk_at dksX4_init_2 3 rfl rfl)
theorem dX4_init_53 : decode cX4_init 53 = .ok (.putfield 30, 3) := dk_181 0 30 (dk_at dksX4_init_2 5 rfl rfl)
theorem dX4_init_56 : decode cX4_init 56 = .ok (.aload_n 0, 1) := dk_42 (dk_at dksX4_init_2 8 rfl rfl)
theorem dX4_init_57 : decode cX4_init 57 = .ok (.sipush 144, 3) := dk_17 0 144 (dk_at dksX4_init_2 9 rfl rfl)
theorem dX4_init_60 : decode cX4_init 60 = .ok (.newarray .int, 2) := dk_188_10 (dk_at dksX4_init_2 12 rfl rfl)
theorem dX4_init_62 : decode cX4_init 62 = .ok (.putfield 33, 3) := dk_181 0 33 (dk_at dksX4_init_2 14 rfl rfl)
theorem dX4_init_65 : decode cX4_init 65 = .ok (.aload_n 0, 1) := dk_42 (dk_at dksX4_init_2 17 rfl rfl)
theorem dX4_init_66 : decode cX4_init 66 = .ok (.sipush 144, 3) := dk_17 0 144 (dk_at dksX4_init_2 18 rfl rfl)
theorem dX4_init_69 : decode cX4_init 69 = .ok (.newarray .int, 2) := dk_188_10 (dk_at dksX4_init_2 21 rfl rfl)
theorem dX4_init_71 : decode cX4_init 71 = .ok (.putfield 36, 3) := dk_181 0 36 (dk_at dksX4_init_3 0 rfl rfl)
theorem dX4_init_74 : decode cX4_init 74 = .ok (.aload_n 0, 1) := dk_42 (dk_at dksX4_init_3 3 rfl rfl)
theorem dX4_init_75 : decode cX4_init 75 = .ok (.sipush 144, 3) := dk_17 0 144 (dk_at dksX4_init_3 4 rfl rfl)
theorem dX4_init_78 : decode cX4_init 78 = .ok (.newarray .int, 2) := dk_188_10 (dk_at dksX4_init_3 7 rfl rfl)
theorem dX4_init_80 : decode cX4_init 80 = .ok (.putfield 39, 3) := dk_181 0 39 (dk_at dksX4_init_3 9 rfl rfl)
theorem dX4_init_83 : decode cX4_init 83 = .ok (.aload_n 0, 1) := dk_42 (dk_at dksX4_init_3 12 rfl rfl)
theorem dX4_init_84 : decode cX4_init 84 = .ok (.sipush 144, 3) := dk_17 0 144 (dk_at dksX4_init_3 13 rfl rfl)
theorem dX4_init_87 : decode cX4_init 87 = .ok (.newarray .int, 2) := dk_188_10 (dk_at dksX4_init_3 16 rfl rfl)
theorem dX4_init_89 : decode cX4_init 89 = .ok (.putfield 42, 3) := dk_181 0 42 (dk_at dksX4_init_3 18 rfl rfl)
theorem dX4_init_92 : decode cX4_init 92 = .ok (.aload_n 0, 1) := dk_42 (dk_at dksX4_init_3 21 rfl rfl)
theorem dX4_init_93 : decode cX4_init 93 = .ok (.sipush 144, 3) := dk_17 0 144 (dk_at dksX4_init_4 0 rfl rfl)
theorem dX4_init_96 : decode cX4_init 96 = .ok (.newarray .int, 2) := dk_188_10 (dk_at dksX4_init_4 3 rfl rfl)
theorem dX4_init_98 : decode cX4_init 98 = .ok (.putfield 45, 3) := dk_181 0 45 (dk_at dksX4_init_4 5 rfl rfl)
theorem dX4_init_101 : decode cX4_init 101 = .ok (.aload_n 0, 1) := dk_42 (dk_at dksX4_init_4 8 rfl rfl)
theorem dX4_init_102 : decode cX4_init 102 = .ok (.sipush 144, 3) := dk_17 0 144 (dk_at dksX4_init_4 9 rfl rfl)
theorem dX4_init_105 : decode cX4_init 105 = .ok (.newarray .int, 2) := dk_188_10 (dk_at dksX4_init_4 12 rfl rfl)
theorem dX4_init_107 : decode cX4_init 107 = .ok (.putfield 48, 3) := dk_181 0 48 (dk_at dksX4_init_4 14 rfl rfl)
theorem dX4_init_110 : decode cX4_init 110 = .ok (.aload_n 0, 1) := dk_42 (dk_at dksX4_init_4 17 rfl rfl)
theorem dX4_init_111 : decode cX4_init 111 = .ok (.sipush 144, 3) := dk_17 0 144 (dk_at dksX4_init_4 18 rfl rfl)
theorem dX4_init_114 : decode cX4_init 114 = .ok (.newarray .int, 2) := dk_188_10 (dk_at dksX4_init_4 21 rfl rfl)
theorem dX4_init_116 : decode cX4_init 116 = .ok (.putfield 51, 3) := dk_181 0 51 (dk_at dksX4_init_5 0 rfl rfl)
theorem dX4_init_119 : decode cX4_init 119 = .ok (.aload_n 0, 1) := dk_42 (dk_at dksX4_init_5 3 rfl rfl)
theorem dX4_init_120 : decode cX4_init 120 = .ok (.sipush 144, 3) := dk_17 0 144 (dk_at dksX4_init_5 4 rfl rfl)
theorem dX4_init_123 : decode cX4_init 123 = .ok (.newarray .int, 2) := dk_188_10 (dk_at dksX4_init_5 7 rfl rfl)
theorem dX4_init_125 : decode cX4_init 125 = .ok (.putfield 54, 3) := dk_181 0 54 (dk_at dksX4_init_5 9 rfl rfl)
theorem dX4_init_128 : decode cX4_init 128 = .ok (.aload_n 0, 1) := dk_42 (dk_at dksX4_init_5 12 rfl rfl)
theorem dX4_init_129 : decode cX4_init 129 = .ok (.sipush 2400, 3) := dk_17 9 96 (dk_at dksX4_init_5 13 rfl rfl)
theorem dX4_init_132 : decode cX4_init 132 = .ok (.newarray .int, 2) := dk_188_10 (dk_at dksX4_init_5 16 rfl rfl)
theorem dX4_init_134 : decode cX4_init 134 = .ok (.putfield 57, 3) := dk_181 0 57 (dk_at dksX4_init_5 18 rfl rfl)
theorem dX4_init_137 : decode cX4_init 137 = .ok (.aload_n 0, 1) := dk_42 (dk_at dksX4_init_5 21 rfl rfl)
theorem dX4_init_138 : decode cX4_init 138 = .ok (.sipush 2400, 3) := dk_17 9 96 (dk_at dksX4_init_6 0 rfl rfl)
theorem dX4_init_141 : decode cX4_init 141 = .ok (.newarray .int, 2) := dk_188_10 (dk_at dksX4_init_6 3 rfl rfl)
theorem dX4_init_143 : decode cX4_init 143 = .ok (.putfield 60, 3) := dk_181 0 60 (dk_at dksX4_init_6 5 rfl rfl)
theorem dX4_init_146 : decode cX4_init 146 = .ok (.aload_n 0, 1) := dk_42 (dk_at dksX4_init_6 8 rfl rfl)
theorem dX4_init_147 : decode cX4_init 147 = .ok (.bipush 40, 2) := dk_16 40 (dk_at dksX4_init_6 9 rfl rfl)
theorem dX4_init_149 : decode cX4_init 149 = .ok (.newarray .int, 2) := dk_188_10 (dk_at dksX4_init_6 11 rfl rfl)
theorem dX4_init_151 : decode cX4_init 151 = .ok (.putfield 63, 3) := dk_181 0 63 (dk_at dksX4_init_6 13 rfl rfl)
theorem dX4_init_154 : decode cX4_init 154 = .ok (.aload_n 0, 1) := dk_42 (dk_at dksX4_init_6 16 rfl rfl)
theorem dX4_init_155 : decode cX4_init 155 = .ok (.bipush 41, 2) := dk_16 41 (dk_at dksX4_init_6 17 rfl rfl)
theorem dX4_init_157 : decode cX4_init 157 = .ok (.newarray .int, 2) := dk_188_10 (dk_at dksX4_init_6 19 rfl rfl)
theorem dX4_init_159 : decode cX4_init 159 = .ok (.putfield 66, 3) := dk_181 0 66 (dk_at dksX4_init_6 21 rfl rfl)
theorem dX4_init_162 : decode cX4_init 162 = .ok (.aload_n 0, 1) := dk_42 (dk_at dksX4_init_7 0 rfl rfl)
theorem dX4_init_163 : decode cX4_init 163 = .ok (.bipush 80, 2) := dk_16 80 (dk_at dksX4_init_7 1 rfl rfl)
theorem dX4_init_165 : decode cX4_init 165 = .ok (.newarray .int, 2) := dk_188_10 (dk_at dksX4_init_7 3 rfl rfl)
theorem dX4_init_167 : decode cX4_init 167 = .ok (.putfield 69, 3) := dk_181 0 69 (dk_at dksX4_init_7 5 rfl rfl)
theorem dX4_init_170 : decode cX4_init 170 = .ok (.aload_n 0, 1) := dk_42 (dk_at dksX4_init_7 8 rfl rfl)
theorem dX4_init_171 : decode cX4_init 171 = .ok (.bipush 80, 2) := dk_16 80 (dk_at dksX4_init_7 9 rfl rfl)
theorem dX4_init_173 : decode cX4_init 173 = .ok (.newarray .int, 2) := dk_188_10 (dk_at dksX4_init_7 11 rfl rfl)
theorem dX4_init_175 : decode cX4_init 175 = .ok (.putfield 72, 3) := dk_181 0 72 (dk_at dksX4_init_7 13 rfl rfl)
theorem dX4_init_178 : decode cX4_init 178 = .ok (.aload_n 0, 1) := dk_42 (dk_at dksX4_init_7 16 rfl rfl)
theorem dX4_init_179 : decode cX4_init 179 = .ok (.bipush 24, 2) := dk_16 24 (dk_at dksX4_init_7 17 rfl rfl)
theorem dX4_init_181 : decode cX4_init 181 = .ok (.newarray .int, 2) := dk_188_10 (dk_at dksX4_init_7 19 rfl rfl)
theorem dX4_init_183 : decode cX4_init 183 = .ok (.putfield 75, 3) := dk_181 0 75 (dk_at dksX4_init_7 21 rfl rfl)
theorem dX4_init_186 : decode cX4_init 186 = .ok (.aload_n 0, 1) := dk_42 (dk_at dksX4_init_8 0 rfl rfl)
theorem dX4_init_187 : decode cX4_init 187 = .ok (.bipush 24, 2) := dk_16 24 (dk_at dksX4_init_8 1 rfl rfl)
theorem dX4_init_189 : decode cX4_init 189 = .ok (.newarray .int, 2) := dk_188_10 (dk_at dksX4_init_8 3 rfl rfl)
theorem dX4_init_191 : decode cX4_init 191 = .ok (.putfield 78, 3) := dk_181 0 78 (dk_at dksX4_init_8 5 rfl rfl)
theorem dX4_init_194 : decode cX4_init 194 = .ok (.aload_n 0, 1) := dk_42 (dk_at dksX4_init_8 8 rfl rfl)
theorem dX4_init_195 : decode cX4_init 195 = .ok (.sipush 168, 3) := dk_17 0 168 (dk_at dksX4_init_8 9 rfl rfl)
theorem dX4_init_198 : decode cX4_init 198 = .ok (.newarray .int, 2) := dk_188_10 (dk_at dksX4_init_8 12 rfl rfl)
theorem dX4_init_200 : decode cX4_init 200 = .ok (.putfield 81, 3) := dk_181 0 81 (dk_at dksX4_init_8 14 rfl rfl)
theorem dX4_init_203 : decode cX4_init 203 = .ok (.aload_n 0, 1) := dk_42 (dk_at dksX4_init_8 17 rfl rfl)
theorem dX4_init_204 : decode cX4_init 204 = .ok (.sipush 400, 3) := dk_17 1 144 (dk_at dksX4_init_8 18 rfl rfl)
theorem dX4_init_207 : decode cX4_init 207 = .ok (.newarray .int, 2) := dk_188_10 (dk_at dksX4_init_8 21 rfl rfl)
theorem dX4_init_209 : decode cX4_init 209 = .ok (.putfield 84, 3) := dk_181 0 84 (dk_at dksX4_init_9 0 rfl rfl)
theorem dX4_init_212 : decode cX4_init 212 = .ok (.aload_n 0, 1) := dk_42 (dk_at dksX4_init_9 3 rfl rfl)
theorem dX4_init_213 : decode cX4_init 213 = .ok (.sipush 400, 3) := dk_17 1 144 (dk_at dksX4_init_9 4 rfl rfl)
theorem dX4_init_216 : decode cX4_init 216 = .ok (.newarray .int, 2) := dk_188_10 (dk_at dksX4_init_9 7 rfl rfl)
theorem dX4_init_218 : decode cX4_init 218 = .ok (.putfield 87, 3) := dk_181 0 87 (dk_at dksX4_init_9 9 rfl rfl)
theorem dX4_init_221 : decode cX4_init 221 = .ok (.aload_n 0, 1) := dk_42 (dk_at dksX4_init_9 12 rfl rfl)
theorem dX4_init_222 : decode cX4_init 222 = .ok (.bipush 7, 2) := dk_16 7 (dk_at dksX4_init_9 13 rfl rfl)
theorem dX4_init_224 : decode cX4_init 224 = .ok (.newarray .int, 2) := dk_188_10 (dk_at dksX4_init_9 15 rfl rfl)
theorem dX4_init_226 : decode cX4_init 226 = .ok (.putfield 90, 3) := dk_181 0 90 (dk_at dksX4_init_9 17 rfl rfl)
theorem dX4_init_229 : decode cX4_init 229 = .ok (.aload_n 0, 1) := dk_42 (dk_at dksX4_init_9 20 rfl rfl)
theorem dX4_init_230 : decode cX4_init 230 = .ok (.sipush 200, 3) := dk_17 0 200 (dk_at dksX4_init_9 21 rfl rfl)
theorem dX4_init_233 : decode cX4_init 233 = .ok (.newarray .long, 2) := dk_188_11 (dk_at dksX4_init_10 0 rfl rfl)
theorem dX4_init_235 : decode cX4_init 235 = .ok (.putfield 93, 3) := dk_181 0 93 (dk_at dksX4_init_10 2 rfl rfl)
theorem dX4_init_238 : decode cX4_init 238 = .ok (.aload_n 0, 1) := dk_42 (dk_at dksX4_init_10 5 rfl rfl)
theorem dX4_init_239 : decode cX4_init 239 = .ok (.sipush 4608, 3) := dk_17 18 0 (dk_at dksX4_init_10 6 rfl rfl)
theorem dX4_init_242 : decode cX4_init 242 = .ok (.newarray .long, 2) := dk_188_11 (dk_at dksX4_init_10 9 rfl rfl)
theorem dX4_init_244 : decode cX4_init 244 = .ok (.putfield 97, 3) := dk_181 0 97 (dk_at dksX4_init_10 11 rfl rfl)
theorem dX4_init_247 : decode cX4_init 247 = .ok (.aload_n 0, 1) := dk_42 (dk_at dksX4_init_10 14 rfl rfl)
theorem dX4_init_248 : decode cX4_init 248 = .ok (.sipush 27648, 3) := dk_17 108 0 (dk_at dksX4_init_10 15 rfl rfl)
theorem dX4_init_251 : decode cX4_init 251 = .ok (.newarray .long, 2) := dk_188_11 (dk_at dksX4_init_10 18 rfl rfl)
theorem dX4_init_253 : decode cX4_init 253 = .ok (.putfield 100, 3) := dk_181 0 100 (dk_at dksX4_init_10 20 rfl rfl)
theorem dX4_init_256 : decode cX4_init 256 = .ok (.aload_n 0, 1) := dk_42 (dk_at dksX4_init_10 23 rfl rfl)
theorem dX4_init_257 : decode cX4_init 257 = .ok (.bipush 6, 2) := dk_16 6 (dk_at dksX4_init_11 0 rfl rfl)
theorem dX4_init_259 : decode cX4_init 259 = .ok (.newarray .long, 2) := dk_188_11 (dk_at dksX4_init_11 2 rfl rfl)
theorem dX4_init_261 : decode cX4_init 261 = .ok (.putfield 103, 3) := dk_181 0 103 (dk_at dksX4_init_11 4 rfl rfl)
theorem dX4_init_264 : decode cX4_init 264 = .ok (.aload_n 0, 1) := dk_42 (dk_at dksX4_init_11 7 rfl rfl)
theorem dX4_init_265 : decode cX4_init 265 = .ok (.bipush 6, 2) := dk_16 6 (dk_at dksX4_init_11 8 rfl rfl)
theorem dX4_init_267 : decode cX4_init 267 = .ok (.newarray .long, 2) := dk_188_11 (dk_at dksX4_init_11 10 rfl rfl)
theorem dX4_init_269 : decode cX4_init 269 = .ok (.putfield 106, 3) := dk_181 0 106 (dk_at dksX4_init_11 12 rfl rfl)
theorem dX4_init_272 : decode cX4_init 272 = .ok (.aload_n 0, 1) := dk_42 (dk_at dksX4_init_11 15 rfl rfl)
theorem dX4_init_273 : decode cX4_init 273 = .ok (.bipush 7, 2) := dk_16 7 (dk_at dksX4_init_11 16 rfl rfl)
theorem dX4_init_275 : decode cX4_init 275 = .ok (.newarray .long, 2) := dk_188_11 (dk_at dksX4_init_11 18 rfl rfl)
theorem dX4_init_277 : decode cX4_init 277 = .ok (.putfield 109, 3) := dk_181 0 109 (dk_at dksX4_init_11 20 rfl rfl)
theorem dX4_init_280 : decode cX4_init 280 = .ok (.aload_n 0, 1) := dk_42 (dk_at dksX4_init_11 23 rfl rfl)
theorem dX4_init_281 : decode cX4_init 281 = .ok (.bipush 24, 2) := dk_16 24 (dk_at dksX4_init_12 0 rfl rfl)
theorem dX4_init_283 : decode cX4_init 283 = .ok (.newarray .int, 2) := dk_188_10 (dk_at dksX4_init_12 2 rfl rfl)
theorem dX4_init_285 : decode cX4_init 285 = .ok (.putfield 112, 3) := dk_181 0 112 (dk_at dksX4_init_12 4 rfl rfl)
theorem dX4_init_288 : decode cX4_init 288 = .ok (.aload_n 0, 1) := dk_42 (dk_at dksX4_init_12 7 rfl rfl)
theorem dX4_init_289 : decode cX4_init 289 = .ok (.bipush 24, 2) := dk_16 24 (dk_at dksX4_init_12 8 rfl rfl)
theorem dX4_init_291 : decode cX4_init 291 = .ok (.newarray .int, 2) := dk_188_10 (dk_at dksX4_init_12 10 rfl rfl)
theorem dX4_init_293 : decode cX4_init 293 = .ok (.putfield 115, 3) := dk_181 0 115 (dk_at dksX4_init_12 12 rfl rfl)
theorem dX4_init_296 : decode cX4_init 296 = .ok (.aload_n 0, 1) := dk_42 (dk_at dksX4_init_12 15 rfl rfl)
theorem dX4_init_297 : decode cX4_init 297 = .ok (.bipush 32, 2) := dk_16 32 (dk_at dksX4_init_12 16 rfl rfl)
theorem dX4_init_299 : decode cX4_init 299 = .ok (.newarray .int, 2) := dk_188_10 (dk_at dksX4_init_12 18 rfl rfl)
theorem dX4_init_301 : decode cX4_init 301 = .ok (.putfield 118, 3) := dk_181 0 118 (dk_at dksX4_init_12 20 rfl rfl)
theorem dX4_init_304 : decode cX4_init 304 = .ok (.aload_n 0, 1) := dk_42 (dk_at dksX4_init_12 23 rfl rfl)
theorem dX4_init_305 : decode cX4_init 305 = .ok (.sipush 825, 3) := dk_17 3 57 (dk_at dksX4_init_13 0 rfl rfl)
theorem dX4_init_308 : decode cX4_init 308 = .ok (.newarray .long, 2) := dk_188_11 (dk_at dksX4_init_13 3 rfl rfl)
theorem dX4_init_310 : decode cX4_init 310 = .ok (.putfield 121, 3) := dk_181 0 121 (dk_at dksX4_init_13 5 rfl rfl)
theorem dX4_init_313 : decode cX4_init 313 = .ok (.aload_n 0, 1) := dk_42 (dk_at dksX4_init_13 8 rfl rfl)
theorem dX4_init_314 : decode cX4_init 314 = .ok (.sipush 4608, 3) := dk_17 18 0 (dk_at dksX4_init_13 9 rfl rfl)
theorem dX4_init_317 : decode cX4_init 317 = .ok (.newarray .int, 2) := dk_188_10 (dk_at dksX4_init_13 12 rfl rfl)
theorem dX4_init_319 : decode cX4_init 319 = .ok (.putfield 124, 3) := dk_181 0 124 (dk_at dksX4_init_13 14 rfl rfl)
theorem dX4_init_322 : decode cX4_init 322 = .ok (.aload_n 0, 1) := dk_42 (dk_at dksX4_init_13 17 rfl rfl)
theorem dX4_init_323 : decode cX4_init 323 = .ok (.sipush 27648, 3) := dk_17 108 0 (dk_at dksX4_init_13 18 rfl rfl)
theorem dX4_init_326 : decode cX4_init 326 = .ok (.newarray .int, 2) := dk_188_10 (dk_at dksX4_init_13 21 rfl rfl)
theorem dX4_init_328 : decode cX4_init 328 = .ok (.putfield 127, 3) := dk_181 0 127 (dk_at dksX4_init_14 0 rfl rfl)
theorem dX4_init_331 : decode cX4_init 331 = .ok (.aload_n 0, 1) := dk_42 (dk_at dksX4_init_14 3 rfl rfl)
theorem dX4_init_332 : decode cX4_init 332 = .ok (.sipush 7300, 3) := dk_17 28 132 (dk_at dksX4_init_14 4 rfl rfl)
theorem dX4_init_335 : decode cX4_init 335 = .ok (.newarray .int, 2) := dk_188_10 (dk_at dksX4_init_14 7 rfl rfl)
theorem dX4_init_337 : decode cX4_init 337 = .ok (.putfield 130, 3) := dk_181 0 130 (dk_at dksX4_init_14 9 rfl rfl)
theorem dX4_init_340 : decode cX4_init 340 = .ok (.aload_n 0, 1) := dk_42 (dk_at dksX4_init_14 12 rfl rfl)
theorem dX4_init_341 : decode cX4_init 341 = .ok (.sipush 7300, 3) := dk_17 28 132 (dk_at dksX4_init_14 13 rfl rfl)
theorem dX4_init_344 : decode cX4_init 344 = .ok (.newarray .int, 2) := dk_188_10 (dk_at dksX4_init_14 16 rfl rfl)
theorem dX4_init_346 : decode cX4_init 346 = .ok (.putfield 133, 3) := dk_181 0 133 (dk_at dksX4_init_14 18 rfl rfl)
theorem dX4_init_349 : decode cX4_init 349 = .ok (.aload_n 0, 1) := dk_42 (dk_at dksX4_init_14 21 rfl rfl)
theorem dX4_init_350 : decode cX4_init 350 = .ok (.sipush 7300, 3) := dk_17 28 132 (dk_at dksX4_init_15 0 rfl rfl)
theorem dX4_init_353 : decode cX4_init 353 = .ok (.newarray .int, 2) := dk_188_10 (dk_at dksX4_init_15 3 rfl rfl)
theorem dX4_init_355 : decode cX4_init 355 = .ok (.putfield 136, 3) := dk_181 0 136 (dk_at dksX4_init_15 5 rfl rfl)
theorem dX4_init_358 : decode cX4_init 358 = .ok (.aload_n 0, 1) := dk_42 (dk_at dksX4_init_15 8 rfl rfl)
theorem dX4_init_359 : decode cX4_init 359 = .ok (.sipush 7300, 3) := dk_17 28 132 (dk_at dksX4_init_15 9 rfl rfl)
theorem dX4_init_362 : decode cX4_init 362 = .ok (.newarray .int, 2) := dk_188_10 (dk_at dksX4_init_15 12 rfl rfl)
theorem dX4_init_364 : decode cX4_init 364 = .ok (.putfield 139, 3) := dk_181 0 139 (dk_at dksX4_init_15 14 rfl rfl)
theorem dX4_init_367 : decode cX4_init 367 = .ok (.aload_n 0, 1) := dk_42 (dk_at dksX4_init_15 17 rfl rfl)
theorem dX4_init_368 : decode cX4_init 368 = .ok (.sipush 14600, 3) := dk_17 57 8 (dk_at dksX4_init_15 18 rfl rfl)
theorem dX4_init_371 : decode cX4_init 371 = .ok (.newarray .int, 2) := dk_188_10 (dk_at dksX4_init_15 21 rfl rfl)
theorem dX4_init_373 : decode cX4_init 373 = .ok (.putfield 142, 3) := dk_181 0 142 (dk_at dksX4_init_16 0 rfl rfl)
theorem dX4_init_376 : decode cX4_init 376 = .ok (.aload_n 0, 1) := dk_42 (dk_at dksX4_init_16 3 rfl rfl)
theorem dX4_init_377 : decode cX4_init 377 = .ok (.bipush 6, 2) := dk_16 6 (dk_at dksX4_init_16 4 rfl rfl)
theorem dX4_init_379 : decode cX4_init 379 = .ok (.newarray .int, 2) := dk_188_10 (dk_at dksX4_init_16 6 rfl rfl)
theorem dX4_init_381 : decode cX4_init 381 = .ok (.putfield 145, 3) := dk_181 0 145 (dk_at dksX4_init_16 8 rfl rfl)
theorem dX4_init_384 : decode cX4_init 384 = .ok (.aload_n 0, 1) := dk_42 (dk_at dksX4_init_16 11 rfl rfl)
theorem dX4_init_385 : decode cX4_init 385 = .ok (.bipush 26, 2) := dk_16 26 (dk_at dksX4_init_16 12 rfl rfl)
theorem dX4_init_387 : decode cX4_init 387 = .ok (.newarray .int, 2) := dk_188_10 (dk_at dksX4_init_16 14 rfl rfl)
theorem dX4_init_389 : decode cX4_init 389 = .ok (.putfield 148, 3) := dk_181 0 148 (dk_at dksX4_init_16 16 rfl rfl)
theorem dX4_init_392 : decode cX4_init 392 = .ok (.aload_n 0, 1) := dk_42 (dk_at dksX4_init_16 19 rfl rfl)
theorem dX4_init_393 : decode cX4_init 393 = .ok (.bipush 26, 2) := dk_16 26 (dk_at dksX4_init_16 20 rfl rfl)
theorem dX4_init_395 : decode cX4_init 395 = .ok (.newarray .int, 2) := dk_188_10 (dk_at dksX4_init_16 22 rfl rfl)
theorem dX4_init_397 : decode cX4_init 397 = .ok (.putfield 151, 3) := dk_181 0 151 (dk_at dksX4_init_17 0 rfl rfl)
theorem dX4_init_400 : decode cX4_init 400 = .ok (.aload_n 0, 1) := dk_42 (dk_at dksX4_init_17 3 rfl rfl)
theorem dX4_init_401 : decode cX4_init 401 = .ok (.bipush 26, 2) := dk_16 26 (dk_at dksX4_init_17 4 rfl rfl)
theorem dX4_init_403 : decode cX4_init 403 = .ok (.newarray .int, 2) := dk_188_10 (dk_at dksX4_init_17 6 rfl rfl)
theorem dX4_init_405 : decode cX4_init 405 = .ok (.putfield 154, 3) := dk_181 0 154 (dk_at dksX4_init_17 8 rfl rfl)
theorem dX4_init_408 : decode cX4_init 408 = .ok (.aload_n 0, 1) := dk_42 (dk_at dksX4_init_17 11 rfl rfl)
theorem dX4_init_409 : decode cX4_init 409 = .ok (.bipush 26, 2) := dk_16 26 (dk_at dksX4_init_17 12 rfl rfl)
theorem dX4_init_411 : decode cX4_init 411 = .ok (.newarray .int, 2) := dk_188_10 (dk_at dksX4_init_17 14 rfl rfl)
theorem dX4_init_413 : decode cX4_init 413 = .ok (.putfield 157, 3) := dk_181 0 157 (dk_at dksX4_init_17 16 rfl rfl)
theorem dX4_init_416 : decode cX4_init 416 = .ok (.aload_n 0, 1) := dk_42 (dk_at dksX4_init_17 19 rfl rfl)
theorem dX4_init_417 : decode cX4_init 417 = .ok (.bipush 24, 2) := dk_16 24 (dk_at dksX4_init_17 20 rfl rfl)
theorem dX4_init_419 : decode cX4_init 419 = .ok (.newarray .int, 2) := dk_188_10 (dk_at dksX4_init_17 22 rfl rfl)
theorem dX4_init_421 : decode cX4_init 421 = .ok (.putfield 160, 3) := dk_181 0 160 (dk_at dksX4_init_18 0 rfl rfl)
theorem dX4_init_424 : decode cX4_init 424 = .ok (.aload_n 0, 1) := dk_42 (dk_at dksX4_init_18 3 rfl rfl)
theorem dX4_init_425 : decode cX4_init 425 = .ok (.sipush 7300, 3) := dk_17 28 132 (dk_at dksX4_init_18 4 rfl rfl)
theorem dX4_init_428 : decode cX4_init 428 = .ok (.newarray .boolean, 2) := dk_188_4 (dk_at dksX4_init_18 7 rfl rfl)
theorem dX4_init_430 : decode cX4_init 430 = .ok (.putfield 163, 3) := dk_181 0 163 (dk_at dksX4_init_18 9 rfl rfl)
theorem dX4_init_433 : decode cX4_init 433 = .ok (.aload_n 0, 1) := dk_42 (dk_at dksX4_init_18 12 rfl rfl)
theorem dX4_init_434 : decode cX4_init 434 = .ok (.sipush 4992, 3) := dk_17 19 128 (dk_at dksX4_init_18 13 rfl rfl)
theorem dX4_init_437 : decode cX4_init 437 = .ok (.newarray .int, 2) := dk_188_10 (dk_at dksX4_init_18 16 rfl rfl)
theorem dX4_init_439 : decode cX4_init 439 = .ok (.putfield 167, 3) := dk_181 0 167 (dk_at dksX4_init_18 18 rfl rfl)
theorem dX4_init_442 : decode cX4_init 442 = .ok (.aload_n 0, 1) := dk_42 (dk_at dksX4_init_18 21 rfl rfl)
theorem dX4_init_443 : decode cX4_init 443 = .ok (.sipush 4992, 3) := dk_17 19 128 (dk_at dksX4_init_19 0 rfl rfl)
theorem dX4_init_446 : decode cX4_init 446 = .ok (.newarray .int, 2) := dk_188_10 (dk_at dksX4_init_19 3 rfl rfl)
theorem dX4_init_448 : decode cX4_init 448 = .ok (.putfield 170, 3) := dk_181 0 170 (dk_at dksX4_init_19 5 rfl rfl)
theorem dX4_init_451 : decode cX4_init 451 = .ok (.aload_n 0, 1) := dk_42 (dk_at dksX4_init_19 8 rfl rfl)
theorem dX4_init_452 : decode cX4_init 452 = .ok (.sipush 4992, 3) := dk_17 19 128 (dk_at dksX4_init_19 9 rfl rfl)
theorem dX4_init_455 : decode cX4_init 455 = .ok (.newarray .int, 2) := dk_188_10 (dk_at dksX4_init_19 12 rfl rfl)
theorem dX4_init_457 : decode cX4_init 457 = .ok (.putfield 173, 3) := dk_181 0 173 (dk_at dksX4_init_19 14 rfl rfl)
theorem dX4_init_460 : decode cX4_init 460 = .ok (.aload_n 0, 1) := dk_42 (dk_at dksX4_init_19 17 rfl rfl)
theorem dX4_init_461 : decode cX4_init 461 = .ok (.bipush 6, 2) := dk_16 6 (dk_at dksX4_init_19 18 rfl rfl)
theorem dX4_init_463 : decode cX4_init 463 = .ok (.newarray .int, 2) := dk_188_10 (dk_at dksX4_init_19 20 rfl rfl)
theorem dX4_init_465 : decode cX4_init 465 = .ok (.putfield 176, 3) := dk_181 0 176 (dk_at dksX4_init_20 0 rfl rfl)
theorem dX4_init_468 : decode cX4_init 468 = .ok (.aload_n 0, 1) := dk_42 (dk_at dksX4_init_20 3 rfl rfl)
theorem dX4_init_469 : decode cX4_init 469 = .ok (.sipush 128, 3) := dk_17 0 128 (dk_at dksX4_init_20 4 rfl rfl)
theorem dX4_init_472 : decode cX4_init 472 = .ok (.newarray .int, 2) := dk_188_10 (dk_at dksX4_init_20 7 rfl rfl)
theorem dX4_init_474 : decode cX4_init 474 = .ok (.putfield 179, 3) := dk_181 0 179 (dk_at dksX4_init_20 9 rfl rfl)
theorem dX4_init_477 : decode cX4_init 477 = .ok (.aload_n 0, 1) := dk_42 (dk_at dksX4_init_20 12 rfl rfl)
theorem dX4_init_478 : decode cX4_init 478 = .ok (.bipush 100, 2) := dk_16 100 (dk_at dksX4_init_20 13 rfl rfl)
theorem dX4_init_480 : decode cX4_init 480 = .ok (.newarray .int, 2) := dk_188_10 (dk_at dksX4_init_20 15 rfl rfl)
theorem dX4_init_482 : decode cX4_init 482 = .ok (.putfield 182, 3) := dk_181 0 182 (dk_at dksX4_init_20 17 rfl rfl)
theorem dX4_init_485 : decode cX4_init 485 = .ok (.aload_n 0, 1) := dk_42 (dk_at dksX4_init_20 20 rfl rfl)
theorem dX4_init_486 : decode cX4_init 486 = .ok (.bipush 100, 2) := dk_16 100 (dk_at dksX4_init_20 21 rfl rfl)
theorem dX4_init_488 : decode cX4_init 488 = .ok (.newarray .int, 2) := dk_188_10 (dk_at dksX4_init_21 0 rfl rfl)
theorem dX4_init_490 : decode cX4_init 490 = .ok (.putfield 185, 3) := dk_181 0 185 (dk_at dksX4_init_21 2 rfl rfl)
theorem dX4_init_493 : decode cX4_init 493 = .ok (.aload_n 0, 1) := dk_42 (dk_at dksX4_init_21 5 rfl rfl)
theorem dX4_init_494 : decode cX4_init 494 = .ok (.getfield 7, 3) := dk_180 0 7 (dk_at dksX4_init_21 6 rfl rfl)
theorem dX4_init_497 : decode cX4_init 497 = .ok (.iconst 1, 1) := dk_4 (dk_at dksX4_init_21 9 rfl rfl)
theorem dX4_init_498 : decode cX4_init 498 = .ok (.iconst (-1), 1) := dk_2 (dk_at dksX4_init_21 10 rfl rfl)
theorem dX4_init_499 : decode cX4_init 499 = .ok (.iastore, 1) := dk_79 (dk_at dksX4_init_21 11 rfl rfl)
theorem dX4_init_500 : decode cX4_init 500 = .ok (.aload_n 0, 1) := dk_42 (dk_at dksX4_init_21 12 rfl rfl)
theorem dX4_init_501 : decode cX4_init 501 = .ok (.iconst 1, 1) := dk_4 (dk_at dksX4_init_21 13 rfl rfl)
theorem dX4_init_502 : decode cX4_init 502 = .ok (.invokevirtual 188, 3) := dk_182 0 188 (dk_at dksX4_init_21 14 rfl rfl)
theorem dX4_init_505 : decode cX4_init 505 = .ok (.return_, 1) := dk_177 (dk_at dksX4_init_21 17 rfl rfl)
abbrev cX4_copies : ByteArray := prog_23_method_3_code
def yX4_copies : MethodName := ⟨RX4, "copies", "(Z)V"⟩
def dkwX4_copies_1 : List UInt8 := [167, 0, 15, 42, 180, 0, 7, 28, 42, 180, 0, 13, 28, 46, 79, 132, 2, 1, 167, 255, 216, 177]
abbrev dktX4_copies_1 : List UInt8 := dkwX4_copies_1 ++ []
def dkwX4_copies_0 : List UInt8 := [3, 61, 28, 16, 40, 162, 0, 40, 27, 153, 0, 18, 42, 180, 0, 13, 28, 42, 180, 0, 7, 28, 46, 79]
abbrev dktX4_copies_0 : List UInt8 := dkwX4_copies_0 ++ dktX4_copies_1
theorem dksX4_copies_0 : cX4_copies.data.toList.drop 0 = dktX4_copies_0 := by decide +kernel
theorem dksX4_copies_1 : cX4_copies.data.toList.drop 24 = dktX4_copies_1 := dk_seg dksX4_copies_0 24 rfl rfl
theorem dX4_copies_0 : decode cX4_copies 0 = .ok (.iconst 0, 1) := dk_3 (dk_at dksX4_copies_0 0 rfl rfl)
theorem dX4_copies_1 : decode cX4_copies 1 = .ok (.istore_n 2, 1) := dk_61 (dk_at dksX4_copies_0 1 rfl rfl)
theorem dX4_copies_2 : decode cX4_copies 2 = .ok (.iload_n 2, 1) := dk_28 (dk_at dksX4_copies_0 2 rfl rfl)
theorem dX4_copies_3 : decode cX4_copies 3 = .ok (.bipush 40, 2) := dk_16 40 (dk_at dksX4_copies_0 3 rfl rfl)
theorem dX4_copies_5 : decode cX4_copies 5 = .ok (.if_icmp .ge 40, 3) := dk_162 0 40 (dk_at dksX4_copies_0 5 rfl rfl)
theorem dX4_copies_8 : decode cX4_copies 8 = .ok (.iload_n 1, 1) := dk_27 (dk_at dksX4_copies_0 8 rfl rfl)
theorem dX4_copies_9 : decode cX4_copies 9 = .ok (.ifCond .eq 18, 3) := dk_153 0 18 (dk_at dksX4_copies_0 9 rfl rfl)
theorem dX4_copies_12 : decode cX4_copies 12 = .ok (.aload_n 0, 1) := dk_42 (dk_at dksX4_copies_0 12 rfl rfl)
theorem dX4_copies_13 : decode cX4_copies 13 = .ok (.getfield 13, 3) := dk_180 0 13 (dk_at dksX4_copies_0 13 rfl rfl)
theorem dX4_copies_16 : decode cX4_copies 16 = .ok (.iload_n 2, 1) := dk_28 (dk_at dksX4_copies_0 16 rfl rfl)
theorem dX4_copies_17 : decode cX4_copies 17 = .ok (.aload_n 0, 1) := dk_42 (dk_at dksX4_copies_0 17 rfl rfl)
theorem dX4_copies_18 : decode cX4_copies 18 = .ok (.getfield 7, 3) := dk_180 0 7 (dk_at dksX4_copies_0 18 rfl rfl)
theorem dX4_copies_21 : decode cX4_copies 21 = .ok (.iload_n 2, 1) := dk_28 (dk_at dksX4_copies_0 21 rfl rfl)
theorem dX4_copies_22 : decode cX4_copies 22 = .ok (.iaload, 1) := dk_46 (dk_at dksX4_copies_0 22 rfl rfl)
theorem dX4_copies_23 : decode cX4_copies 23 = .ok (.iastore, 1) := dk_79 (dk_at dksX4_copies_0 23 rfl rfl)
theorem dX4_copies_24 : decode cX4_copies 24 = .ok (.goto 15, 3) := dk_167 0 15 (dk_at dksX4_copies_1 0 rfl rfl)
theorem dX4_copies_27 : decode cX4_copies 27 = .ok (.aload_n 0, 1) := dk_42 (dk_at dksX4_copies_1 3 rfl rfl)
theorem dX4_copies_28 : decode cX4_copies 28 = .ok (.getfield 7, 3) := dk_180 0 7 (dk_at dksX4_copies_1 4 rfl rfl)
theorem dX4_copies_31 : decode cX4_copies 31 = .ok (.iload_n 2, 1) := dk_28 (dk_at dksX4_copies_1 7 rfl rfl)
theorem dX4_copies_32 : decode cX4_copies 32 = .ok (.aload_n 0, 1) := dk_42 (dk_at dksX4_copies_1 8 rfl rfl)
theorem dX4_copies_33 : decode cX4_copies 33 = .ok (.getfield 13, 3) := dk_180 0 13 (dk_at dksX4_copies_1 9 rfl rfl)
theorem dX4_copies_36 : decode cX4_copies 36 = .ok (.iload_n 2, 1) := dk_28 (dk_at dksX4_copies_1 12 rfl rfl)
theorem dX4_copies_37 : decode cX4_copies 37 = .ok (.iaload, 1) := dk_46 (dk_at dksX4_copies_1 13 rfl rfl)
theorem dX4_copies_38 : decode cX4_copies 38 = .ok (.iastore, 1) := dk_79 (dk_at dksX4_copies_1 14 rfl rfl)
theorem dX4_copies_39 : decode cX4_copies 39 = .ok (.iinc 2 1, 3) := dk_132 2 1 (dk_at dksX4_copies_1 15 rfl rfl)
theorem dX4_copies_42 : decode cX4_copies 42 = .ok (.goto (-40), 3) := dk_167 255 216 (dk_at dksX4_copies_1 18 rfl rfl)
theorem dX4_copies_45 : decode cX4_copies 45 = .ok (.return_, 1) := dk_177 (dk_at dksX4_copies_1 21 rfl rfl)
abbrev cX4_feed : ByteArray := prog_23_method_5_code
def yX4_feed : MethodName := ⟨RX4, "feed", "(IIIII)I"⟩
def dkwX4_feed_2 : List UInt8 := [172]
abbrev dktX4_feed_2 : List UInt8 := dkwX4_feed_2 ++ []
def dkwX4_feed_1 : List UInt8 := [182, 0, 195, 42, 29, 182, 0, 195, 42, 21, 4, 182, 0, 195, 42, 21, 5, 182, 0, 195, 42, 180, 0, 192]
abbrev dktX4_feed_1 : List UInt8 := dkwX4_feed_1 ++ dktX4_feed_2
def dkwX4_feed_0 : List UInt8 := [42, 180, 0, 192, 16, 20, 96, 17, 1, 44, 164, 0, 5, 2, 172, 42, 27, 182, 0, 195, 42, 28]
abbrev dktX4_feed_0 : List UInt8 := dkwX4_feed_0 ++ dktX4_feed_1
theorem dksX4_feed_0 : cX4_feed.data.toList.drop 0 = dktX4_feed_0 := by decide +kernel
theorem dksX4_feed_1 : cX4_feed.data.toList.drop 22 = dktX4_feed_1 := dk_seg dksX4_feed_0 22 rfl rfl
theorem dksX4_feed_2 : cX4_feed.data.toList.drop 46 = dktX4_feed_2 := dk_seg dksX4_feed_1 24 rfl rfl
theorem dX4_feed_0 : decode cX4_feed 0 = .ok (.aload_n 0, 1) := dk_42 (dk_at dksX4_feed_0 0 rfl rfl)
theorem dX4_feed_1 : decode cX4_feed 1 = .ok (.getfield 192, 3) := dk_180 0 192 (dk_at dksX4_feed_0 1 rfl rfl)
theorem dX4_feed_4 : decode cX4_feed 4 = .ok (.bipush 20, 2) := dk_16 20 (dk_at dksX4_feed_0 4 rfl rfl)
theorem dX4_feed_6 : decode cX4_feed 6 = .ok (.iadd, 1) := dk_96 (dk_at dksX4_feed_0 6 rfl rfl)
theorem dX4_feed_7 : decode cX4_feed 7 = .ok (.sipush 300, 3) := dk_17 1 44 (dk_at dksX4_feed_0 7 rfl rfl)
theorem dX4_feed_10 : decode cX4_feed 10 = .ok (.if_icmp .le 5, 3) := dk_164 0 5 (dk_at dksX4_feed_0 10 rfl rfl)
theorem dX4_feed_13 : decode cX4_feed 13 = .ok (.iconst (-1), 1) := dk_2 (dk_at dksX4_feed_0 13 rfl rfl)
theorem dX4_feed_14 : decode cX4_feed 14 = .ok (.ireturn, 1) := dk_172 (dk_at dksX4_feed_0 14 rfl rfl)
theorem dX4_feed_15 : decode cX4_feed 15 = .ok (.aload_n 0, 1) := dk_42 (dk_at dksX4_feed_0 15 rfl rfl)
theorem dX4_feed_16 : decode cX4_feed 16 = .ok (.iload_n 1, 1) := dk_27 (dk_at dksX4_feed_0 16 rfl rfl)
theorem dX4_feed_17 : decode cX4_feed 17 = .ok (.invokevirtual 195, 3) := dk_182 0 195 (dk_at dksX4_feed_0 17 rfl rfl)
theorem dX4_feed_20 : decode cX4_feed 20 = .ok (.aload_n 0, 1) := dk_42 (dk_at dksX4_feed_0 20 rfl rfl)
theorem dX4_feed_21 : decode cX4_feed 21 = .ok (.iload_n 2, 1) := dk_28 (dk_at dksX4_feed_0 21 rfl rfl)
theorem dX4_feed_22 : decode cX4_feed 22 = .ok (.invokevirtual 195, 3) := dk_182 0 195 (dk_at dksX4_feed_1 0 rfl rfl)
theorem dX4_feed_25 : decode cX4_feed 25 = .ok (.aload_n 0, 1) := dk_42 (dk_at dksX4_feed_1 3 rfl rfl)
theorem dX4_feed_26 : decode cX4_feed 26 = .ok (.iload_n 3, 1) := dk_29 (dk_at dksX4_feed_1 4 rfl rfl)
theorem dX4_feed_27 : decode cX4_feed 27 = .ok (.invokevirtual 195, 3) := dk_182 0 195 (dk_at dksX4_feed_1 5 rfl rfl)
theorem dX4_feed_30 : decode cX4_feed 30 = .ok (.aload_n 0, 1) := dk_42 (dk_at dksX4_feed_1 8 rfl rfl)
theorem dX4_feed_31 : decode cX4_feed 31 = .ok (.iload 4, 2) := dk_21 4 (dk_at dksX4_feed_1 9 rfl rfl)
theorem dX4_feed_33 : decode cX4_feed 33 = .ok (.invokevirtual 195, 3) := dk_182 0 195 (dk_at dksX4_feed_1 11 rfl rfl)
theorem dX4_feed_36 : decode cX4_feed 36 = .ok (.aload_n 0, 1) := dk_42 (dk_at dksX4_feed_1 14 rfl rfl)
theorem dX4_feed_37 : decode cX4_feed 37 = .ok (.iload 5, 2) := dk_21 5 (dk_at dksX4_feed_1 15 rfl rfl)
theorem dX4_feed_39 : decode cX4_feed 39 = .ok (.invokevirtual 195, 3) := dk_182 0 195 (dk_at dksX4_feed_1 17 rfl rfl)
theorem dX4_feed_42 : decode cX4_feed 42 = .ok (.aload_n 0, 1) := dk_42 (dk_at dksX4_feed_1 20 rfl rfl)
theorem dX4_feed_43 : decode cX4_feed 43 = .ok (.getfield 192, 3) := dk_180 0 192 (dk_at dksX4_feed_1 21 rfl rfl)
theorem dX4_feed_46 : decode cX4_feed 46 = .ok (.ireturn, 1) := dk_172 (dk_at dksX4_feed_2 0 rfl rfl)
abbrev cX4_put : ByteArray := prog_23_method_4_code
def yX4_put : MethodName := ⟨RX4, "put", "(I)V"⟩
def dkwX4_put_1 : List UInt8 := [180, 0, 192, 4, 96, 181, 0, 192, 28, 16, 8, 100, 61, 167, 255, 224, 177]
abbrev dktX4_put_1 : List UInt8 := dkwX4_put_1 ++ []
def dkwX4_put_0 : List UInt8 := [16, 24, 61, 28, 155, 0, 34, 42, 180, 0, 16, 42, 180, 0, 192, 27, 28, 122, 145, 84, 42, 89]
abbrev dktX4_put_0 : List UInt8 := dkwX4_put_0 ++ dktX4_put_1
theorem dksX4_put_0 : cX4_put.data.toList.drop 0 = dktX4_put_0 := by decide +kernel
theorem dksX4_put_1 : cX4_put.data.toList.drop 22 = dktX4_put_1 := dk_seg dksX4_put_0 22 rfl rfl
theorem dX4_put_0 : decode cX4_put 0 = .ok (.bipush 24, 2) := dk_16 24 (dk_at dksX4_put_0 0 rfl rfl)
theorem dX4_put_2 : decode cX4_put 2 = .ok (.istore_n 2, 1) := dk_61 (dk_at dksX4_put_0 2 rfl rfl)
theorem dX4_put_3 : decode cX4_put 3 = .ok (.iload_n 2, 1) := dk_28 (dk_at dksX4_put_0 3 rfl rfl)
theorem dX4_put_4 : decode cX4_put 4 = .ok (.ifCond .lt 34, 3) := dk_155 0 34 (dk_at dksX4_put_0 4 rfl rfl)
theorem dX4_put_7 : decode cX4_put 7 = .ok (.aload_n 0, 1) := dk_42 (dk_at dksX4_put_0 7 rfl rfl)
theorem dX4_put_8 : decode cX4_put 8 = .ok (.getfield 16, 3) := dk_180 0 16 (dk_at dksX4_put_0 8 rfl rfl)
theorem dX4_put_11 : decode cX4_put 11 = .ok (.aload_n 0, 1) := dk_42 (dk_at dksX4_put_0 11 rfl rfl)
theorem dX4_put_12 : decode cX4_put 12 = .ok (.getfield 192, 3) := dk_180 0 192 (dk_at dksX4_put_0 12 rfl rfl)
theorem dX4_put_15 : decode cX4_put 15 = .ok (.iload_n 1, 1) := dk_27 (dk_at dksX4_put_0 15 rfl rfl)
theorem dX4_put_16 : decode cX4_put 16 = .ok (.iload_n 2, 1) := dk_28 (dk_at dksX4_put_0 16 rfl rfl)
theorem dX4_put_17 : decode cX4_put 17 = .ok (.ishr, 1) := dk_122 (dk_at dksX4_put_0 17 rfl rfl)
theorem dX4_put_18 : decode cX4_put 18 = .ok (.i2b, 1) := dk_145 (dk_at dksX4_put_0 18 rfl rfl)
theorem dX4_put_19 : decode cX4_put 19 = .ok (.bastore, 1) := dk_84 (dk_at dksX4_put_0 19 rfl rfl)
theorem dX4_put_20 : decode cX4_put 20 = .ok (.aload_n 0, 1) := dk_42 (dk_at dksX4_put_0 20 rfl rfl)
theorem dX4_put_21 : decode cX4_put 21 = .ok (.dup, 1) := dk_89 (dk_at dksX4_put_0 21 rfl rfl)
theorem dX4_put_22 : decode cX4_put 22 = .ok (.getfield 192, 3) := dk_180 0 192 (dk_at dksX4_put_1 0 rfl rfl)
theorem dX4_put_25 : decode cX4_put 25 = .ok (.iconst 1, 1) := dk_4 (dk_at dksX4_put_1 3 rfl rfl)
theorem dX4_put_26 : decode cX4_put 26 = .ok (.iadd, 1) := dk_96 (dk_at dksX4_put_1 4 rfl rfl)
theorem dX4_put_27 : decode cX4_put 27 = .ok (.putfield 192, 3) := dk_181 0 192 (dk_at dksX4_put_1 5 rfl rfl)
theorem dX4_put_30 : decode cX4_put 30 = .ok (.iload_n 2, 1) := dk_28 (dk_at dksX4_put_1 8 rfl rfl)
theorem dX4_put_31 : decode cX4_put 31 = .ok (.bipush 8, 2) := dk_16 8 (dk_at dksX4_put_1 9 rfl rfl)
theorem dX4_put_33 : decode cX4_put 33 = .ok (.isub, 1) := dk_100 (dk_at dksX4_put_1 11 rfl rfl)
theorem dX4_put_34 : decode cX4_put 34 = .ok (.istore_n 2, 1) := dk_61 (dk_at dksX4_put_1 12 rfl rfl)
theorem dX4_put_35 : decode cX4_put 35 = .ok (.goto (-32), 3) := dk_167 255 224 (dk_at dksX4_put_1 13 rfl rfl)
theorem dX4_put_38 : decode cX4_put 38 = .ok (.return_, 1) := dk_177 (dk_at dksX4_put_1 16 rfl rfl)
abbrev cX4_end : ByteArray := prog_23_method_6_code
def yX4_end : MethodName := ⟨RX4, "end", "(I)I"⟩
def dkwX4_end_0 : List UInt8 := [27, 3, 42, 180, 0, 192, 184, 0, 199, 154, 0, 5, 2, 172, 42, 27, 181, 0, 192, 27, 172]
abbrev dktX4_end_0 : List UInt8 := dkwX4_end_0 ++ []
theorem dksX4_end_0 : cX4_end.data.toList.drop 0 = dktX4_end_0 := by decide +kernel
theorem dX4_end_0 : decode cX4_end 0 = .ok (.iload_n 1, 1) := dk_27 (dk_at dksX4_end_0 0 rfl rfl)
theorem dX4_end_1 : decode cX4_end 1 = .ok (.iconst 0, 1) := dk_3 (dk_at dksX4_end_0 1 rfl rfl)
theorem dX4_end_2 : decode cX4_end 2 = .ok (.aload_n 0, 1) := dk_42 (dk_at dksX4_end_0 2 rfl rfl)
theorem dX4_end_3 : decode cX4_end 3 = .ok (.getfield 192, 3) := dk_180 0 192 (dk_at dksX4_end_0 3 rfl rfl)
theorem dX4_end_6 : decode cX4_end 6 = .ok (.invokestatic 199, 3) := dk_184 0 199 (dk_at dksX4_end_0 6 rfl rfl)
theorem dX4_end_9 : decode cX4_end 9 = .ok (.ifCond .ne 5, 3) := dk_154 0 5 (dk_at dksX4_end_0 9 rfl rfl)
theorem dX4_end_12 : decode cX4_end 12 = .ok (.iconst (-1), 1) := dk_2 (dk_at dksX4_end_0 12 rfl rfl)
theorem dX4_end_13 : decode cX4_end 13 = .ok (.ireturn, 1) := dk_172 (dk_at dksX4_end_0 13 rfl rfl)
theorem dX4_end_14 : decode cX4_end 14 = .ok (.aload_n 0, 1) := dk_42 (dk_at dksX4_end_0 14 rfl rfl)
theorem dX4_end_15 : decode cX4_end 15 = .ok (.iload_n 1, 1) := dk_27 (dk_at dksX4_end_0 15 rfl rfl)
theorem dX4_end_16 : decode cX4_end 16 = .ok (.putfield 192, 3) := dk_181 0 192 (dk_at dksX4_end_0 16 rfl rfl)
theorem dX4_end_19 : decode cX4_end 19 = .ok (.iload_n 1, 1) := dk_27 (dk_at dksX4_end_0 19 rfl rfl)
theorem dX4_end_20 : decode cX4_end 20 = .ok (.ireturn, 1) := dk_172 (dk_at dksX4_end_0 20 rfl rfl)
abbrev cX4_in : ByteArray := prog_23_method_2_code
def yX4_in : MethodName := ⟨RX4, "in", "(III)Z"⟩
def dkwX4_in_0 : List UInt8 := [26, 27, 161, 0, 12, 26, 28, 163, 0, 7, 4, 167, 0, 4, 3, 172]
abbrev dktX4_in_0 : List UInt8 := dkwX4_in_0 ++ []
theorem dksX4_in_0 : cX4_in.data.toList.drop 0 = dktX4_in_0 := by decide +kernel
theorem dX4_in_0 : decode cX4_in 0 = .ok (.iload_n 0, 1) := dk_26 (dk_at dksX4_in_0 0 rfl rfl)
theorem dX4_in_1 : decode cX4_in 1 = .ok (.iload_n 1, 1) := dk_27 (dk_at dksX4_in_0 1 rfl rfl)
theorem dX4_in_2 : decode cX4_in 2 = .ok (.if_icmp .lt 12, 3) := dk_161 0 12 (dk_at dksX4_in_0 2 rfl rfl)
theorem dX4_in_5 : decode cX4_in 5 = .ok (.iload_n 0, 1) := dk_26 (dk_at dksX4_in_0 5 rfl rfl)
theorem dX4_in_6 : decode cX4_in 6 = .ok (.iload_n 2, 1) := dk_28 (dk_at dksX4_in_0 6 rfl rfl)
theorem dX4_in_7 : decode cX4_in 7 = .ok (.if_icmp .gt 7, 3) := dk_163 0 7 (dk_at dksX4_in_0 7 rfl rfl)
theorem dX4_in_10 : decode cX4_in 10 = .ok (.iconst 1, 1) := dk_4 (dk_at dksX4_in_0 10 rfl rfl)
theorem dX4_in_11 : decode cX4_in 11 = .ok (.goto 4, 3) := dk_167 0 4 (dk_at dksX4_in_0 11 rfl rfl)
theorem dX4_in_14 : decode cX4_in 14 = .ok (.iconst 0, 1) := dk_3 (dk_at dksX4_in_0 14 rfl rfl)
theorem dX4_in_15 : decode cX4_in 15 = .ok (.ireturn, 1) := dk_172 (dk_at dksX4_in_0 15 rfl rfl)
abbrev cX4_text : ByteArray := prog_23_method_33_code
def yX4_text : MethodName := ⟨RX4, "text", "()I"⟩
def dkwX4_text_9 : List UInt8 := [182, 1, 117, 42, 180, 0, 7, 3, 92, 46, 4, 96, 79, 42, 180, 0, 7, 3, 46, 4, 100, 172]
abbrev dktX4_text_9 : List UInt8 := dkwX4_text_9 ++ []
def dkwX4_text_8 : List UInt8 := [180, 1, 16, 181, 0, 24, 42, 180, 1, 13, 158, 0, 5, 2, 172, 42, 42, 180, 0, 7, 3, 46]
abbrev dktX4_text_8 : List UInt8 := dkwX4_text_8 ++ dktX4_text_9
def dkwX4_text_7 : List UInt8 := [182, 1, 111, 167, 255, 174, 42, 182, 1, 114, 167, 255, 167, 42, 42, 180, 1, 13, 181, 0, 20, 42, 42]
abbrev dktX4_text_7 : List UInt8 := dkwX4_text_7 ++ dktX4_text_8
def dkwX4_text_6 : List UInt8 := [42, 182, 1, 102, 167, 255, 195, 42, 182, 1, 105, 167, 255, 188, 42, 182, 1, 108, 167, 255, 181, 42]
abbrev dktX4_text_6 : List UInt8 := dkwX4_text_6 ++ dktX4_text_7
def dkwX4_text_5 : List UInt8 := [170, 0, 0, 0, 0, 0, 59, 0, 0, 0, 0, 0, 0, 0, 3, 0, 0, 0, 31, 0, 0, 0, 38, 0, 0, 0, 45, 0, 0, 0, 52]
abbrev dktX4_text_5 : List UInt8 := dkwX4_text_5 ++ dktX4_text_6
def dkwX4_text_4 : List UInt8 := [153, 0, 73, 42, 180, 1, 57]
abbrev dktX4_text_4 : List UInt8 := dkwX4_text_4 ++ dktX4_text_5
def dkwX4_text_3 : List UInt8 := [42, 182, 1, 34, 42, 180, 1, 13, 154, 0, 88, 42, 180, 1, 57, 7, 160, 0, 10, 42, 180, 0, 252]
abbrev dktX4_text_3 : List UInt8 := dkwX4_text_3 ++ dktX4_text_4
def dkwX4_text_2 : List UInt8 := [3, 181, 1, 22, 42, 3, 181, 1, 37, 42, 7, 181, 1, 57, 42, 3, 181, 1, 85, 42, 3, 181, 1, 19]
abbrev dktX4_text_2 : List UInt8 := dkwX4_text_2 ++ dktX4_text_3
def dkwX4_text_1 : List UInt8 := [181, 0, 192, 42, 3, 181, 0, 243, 42, 3, 181, 1, 13, 42, 2, 181, 1, 16, 42, 3, 181, 1, 25, 42]
abbrev dktX4_text_1 : List UInt8 := dkwX4_text_1 ++ dktX4_text_2
def dkwX4_text_0 : List UInt8 := [42, 180, 0, 7, 3, 46, 16, 6, 160, 0, 5, 2, 172, 42, 42, 180, 0, 192, 181, 0, 246, 42, 3]
abbrev dktX4_text_0 : List UInt8 := dkwX4_text_0 ++ dktX4_text_1
theorem dksX4_text_0 : cX4_text.data.toList.drop 0 = dktX4_text_0 := by decide +kernel
theorem dksX4_text_1 : cX4_text.data.toList.drop 23 = dktX4_text_1 := dk_seg dksX4_text_0 23 rfl rfl
theorem dksX4_text_2 : cX4_text.data.toList.drop 47 = dktX4_text_2 := dk_seg dksX4_text_1 24 rfl rfl
theorem dksX4_text_3 : cX4_text.data.toList.drop 71 = dktX4_text_3 := dk_seg dksX4_text_2 24 rfl rfl
theorem dksX4_text_4 : cX4_text.data.toList.drop 94 = dktX4_text_4 := dk_seg dksX4_text_3 23 rfl rfl
theorem dksX4_text_5 : cX4_text.data.toList.drop 101 = dktX4_text_5 := dk_seg dksX4_text_4 7 rfl rfl
theorem dksX4_text_6 : cX4_text.data.toList.drop 132 = dktX4_text_6 := dk_seg dksX4_text_5 31 rfl rfl
theorem dksX4_text_7 : cX4_text.data.toList.drop 154 = dktX4_text_7 := dk_seg dksX4_text_6 22 rfl rfl
theorem dksX4_text_8 : cX4_text.data.toList.drop 177 = dktX4_text_8 := dk_seg dksX4_text_7 23 rfl rfl
theorem dksX4_text_9 : cX4_text.data.toList.drop 199 = dktX4_text_9 := dk_seg dksX4_text_8 22 rfl rfl
theorem dX4_text_0 : decode cX4_text 0 = .ok (.aload_n 0, 1) := dk_42 (dk_at dksX4_text_0 0 rfl rfl)
theorem dX4_text_1 : decode cX4_text 1 = .ok (.getfield 7, 3) := dk_180 0 7 (dk_at dksX4_text_0 1 rfl rfl)
theorem dX4_text_4 : decode cX4_text 4 = .ok (.iconst 0, 1) := dk_3 (dk_at dksX4_text_0 4 rfl rfl)
theorem dX4_text_5 : decode cX4_text 5 = .ok (.iaload, 1) := dk_46 (dk_at dksX4_text_0 5 rfl rfl)
theorem dX4_text_6 : decode cX4_text 6 = .ok (.bipush 6, 2) := dk_16 6 (dk_at dksX4_text_0 6 rfl rfl)
theorem dX4_text_8 : decode cX4_text 8 = .ok (.if_icmp .ne 5, 3) := dk_160 0 5 (dk_at dksX4_text_0 8 rfl rfl)
theorem dX4_text_11 : decode cX4_text 11 = .ok (.iconst (-1), 1) := dk_2 (dk_at dksX4_text_0 11 rfl rfl)
theorem dX4_text_12 : decode cX4_text 12 = .ok (.ireturn, 1) := dk_172 (dk_at dksX4_text_0 12 rfl rfl)
theorem dX4_text_13 : decode cX4_text 13 = .ok (.aload_n 0, 1) := dk_42 (dk_at dksX4_text_0 13 rfl rfl)
theorem dX4_text_14 : decode cX4_text 14 = .ok (.aload_n 0, 1) := dk_42 (dk_at dksX4_text_0 14 rfl rfl)
theorem dX4_text_15 : decode cX4_text 15 = .ok (.getfield 192, 3) := dk_180 0 192 (dk_at dksX4_text_0 15 rfl rfl)
theorem dX4_text_18 : decode cX4_text 18 = .ok (.putfield 246, 3) := dk_181 0 246 (dk_at dksX4_text_0 18 rfl rfl)
theorem dX4_text_21 : decode cX4_text 21 = .ok (.aload_n 0, 1) := dk_42 (dk_at dksX4_text_0 21 rfl rfl)
theorem dX4_text_22 : decode cX4_text 22 = .ok (.iconst 0, 1) := dk_3 (dk_at dksX4_text_0 22 rfl rfl)
theorem dX4_text_23 : decode cX4_text 23 = .ok (.putfield 192, 3) := dk_181 0 192 (dk_at dksX4_text_1 0 rfl rfl)
theorem dX4_text_26 : decode cX4_text 26 = .ok (.aload_n 0, 1) := dk_42 (dk_at dksX4_text_1 3 rfl rfl)
theorem dX4_text_27 : decode cX4_text 27 = .ok (.iconst 0, 1) := dk_3 (dk_at dksX4_text_1 4 rfl rfl)
theorem dX4_text_28 : decode cX4_text 28 = .ok (.putfield 243, 3) := dk_181 0 243 (dk_at dksX4_text_1 5 rfl rfl)
theorem dX4_text_31 : decode cX4_text 31 = .ok (.aload_n 0, 1) := dk_42 (dk_at dksX4_text_1 8 rfl rfl)
theorem dX4_text_32 : decode cX4_text 32 = .ok (.iconst 0, 1) := dk_3 (dk_at dksX4_text_1 9 rfl rfl)
theorem dX4_text_33 : decode cX4_text 33 = .ok (.putfield 269, 3) := dk_181 1 13 (dk_at dksX4_text_1 10 rfl rfl)
theorem dX4_text_36 : decode cX4_text 36 = .ok (.aload_n 0, 1) := dk_42 (dk_at dksX4_text_1 13 rfl rfl)
theorem dX4_text_37 : decode cX4_text 37 = .ok (.iconst (-1), 1) := dk_2 (dk_at dksX4_text_1 14 rfl rfl)
theorem dX4_text_38 : decode cX4_text 38 = .ok (.putfield 272, 3) := dk_181 1 16 (dk_at dksX4_text_1 15 rfl rfl)
theorem dX4_text_41 : decode cX4_text 41 = .ok (.aload_n 0, 1) := dk_42 (dk_at dksX4_text_1 18 rfl rfl)
theorem dX4_text_42 : decode cX4_text 42 = .ok (.iconst 0, 1) := dk_3 (dk_at dksX4_text_1 19 rfl rfl)
theorem dX4_text_43 : decode cX4_text 43 = .ok (.putfield 281, 3) := dk_181 1 25 (dk_at dksX4_text_1 20 rfl rfl)
theorem dX4_text_46 : decode cX4_text 46 = .ok (.aload_n 0, 1) := dk_42 (dk_at dksX4_text_1 23 rfl rfl)
theorem dX4_text_47 : decode cX4_text 47 = .ok (.iconst 0, 1) := dk_3 (dk_at dksX4_text_2 0 rfl rfl)
theorem dX4_text_48 : decode cX4_text 48 = .ok (.putfield 278, 3) := dk_181 1 22 (dk_at dksX4_text_2 1 rfl rfl)
theorem dX4_text_51 : decode cX4_text 51 = .ok (.aload_n 0, 1) := dk_42 (dk_at dksX4_text_2 4 rfl rfl)
theorem dX4_text_52 : decode cX4_text 52 = .ok (.iconst 0, 1) := dk_3 (dk_at dksX4_text_2 5 rfl rfl)
theorem dX4_text_53 : decode cX4_text 53 = .ok (.putfield 293, 3) := dk_181 1 37 (dk_at dksX4_text_2 6 rfl rfl)
theorem dX4_text_56 : decode cX4_text 56 = .ok (.aload_n 0, 1) := dk_42 (dk_at dksX4_text_2 9 rfl rfl)
theorem dX4_text_57 : decode cX4_text 57 = .ok (.iconst 4, 1) := dk_7 (dk_at dksX4_text_2 10 rfl rfl)
theorem dX4_text_58 : decode cX4_text 58 = .ok (.putfield 313, 3) := dk_181 1 57 (dk_at dksX4_text_2 11 rfl rfl)
theorem dX4_text_61 : decode cX4_text 61 = .ok (.aload_n 0, 1) := dk_42 (dk_at dksX4_text_2 14 rfl rfl)
theorem dX4_text_62 : decode cX4_text 62 = .ok (.iconst 0, 1) := dk_3 (dk_at dksX4_text_2 15 rfl rfl)
theorem dX4_text_63 : decode cX4_text 63 = .ok (.putfield 341, 3) := dk_181 1 85 (dk_at dksX4_text_2 16 rfl rfl)
theorem dX4_text_66 : decode cX4_text 66 = .ok (.aload_n 0, 1) := dk_42 (dk_at dksX4_text_2 19 rfl rfl)
theorem dX4_text_67 : decode cX4_text 67 = .ok (.iconst 0, 1) := dk_3 (dk_at dksX4_text_2 20 rfl rfl)
theorem dX4_text_68 : decode cX4_text 68 = .ok (.putfield 275, 3) := dk_181 1 19 (dk_at dksX4_text_2 21 rfl rfl)
theorem dX4_text_71 : decode cX4_text 71 = .ok (.aload_n 0, 1) := dk_42 (dk_at dksX4_text_3 0 rfl rfl)
theorem dX4_text_72 : decode cX4_text 72 = .ok (.invokevirtual 290, 3) := dk_182 1 34 (dk_at dksX4_text_3 1 rfl rfl)
theorem dX4_text_75 : decode cX4_text 75 = .ok (.aload_n 0, 1) := dk_42 (dk_at dksX4_text_3 4 rfl rfl)
theorem dX4_text_76 : decode cX4_text 76 = .ok (.getfield 269, 3) := dk_180 1 13 (dk_at dksX4_text_3 5 rfl rfl)
theorem dX4_text_79 : decode cX4_text 79 = .ok (.ifCond .ne 88, 3) := dk_154 0 88 (dk_at dksX4_text_3 8 rfl rfl)
theorem dX4_text_82 : decode cX4_text 82 = .ok (.aload_n 0, 1) := dk_42 (dk_at dksX4_text_3 11 rfl rfl)
theorem dX4_text_83 : decode cX4_text 83 = .ok (.getfield 313, 3) := dk_180 1 57 (dk_at dksX4_text_3 12 rfl rfl)
theorem dX4_text_86 : decode cX4_text 86 = .ok (.iconst 4, 1) := dk_7 (dk_at dksX4_text_3 15 rfl rfl)
theorem dX4_text_87 : decode cX4_text 87 = .ok (.if_icmp .ne 10, 3) := dk_160 0 10 (dk_at dksX4_text_3 16 rfl rfl)
theorem dX4_text_90 : decode cX4_text 90 = .ok (.aload_n 0, 1) := dk_42 (dk_at dksX4_text_3 19 rfl rfl)
theorem dX4_text_91 : decode cX4_text 91 = .ok (.getfield 252, 3) := dk_180 0 252 (dk_at dksX4_text_3 20 rfl rfl)
theorem dX4_text_94 : decode cX4_text 94 = .ok (.ifCond .eq 73, 3) := dk_153 0 73 (dk_at dksX4_text_4 0 rfl rfl)
theorem dX4_text_97 : decode cX4_text 97 = .ok (.aload_n 0, 1) := dk_42 (dk_at dksX4_text_4 3 rfl rfl)
theorem dX4_text_98 : decode cX4_text 98 = .ok (.getfield 313, 3) := dk_180 1 57 (dk_at dksX4_text_4 4 rfl rfl)
theorem dX4_text_101 : decode cX4_text 101 = .ok (.tableswitch 59 0 3 #[31, 38, 45, 52], 31) := by decide +kernel
theorem dX4_text_132 : decode cX4_text 132 = .ok (.aload_n 0, 1) := dk_42 (dk_at dksX4_text_6 0 rfl rfl)
theorem dX4_text_133 : decode cX4_text 133 = .ok (.invokevirtual 358, 3) := dk_182 1 102 (dk_at dksX4_text_6 1 rfl rfl)
theorem dX4_text_136 : decode cX4_text 136 = .ok (.goto (-61), 3) := dk_167 255 195 (dk_at dksX4_text_6 4 rfl rfl)
theorem dX4_text_139 : decode cX4_text 139 = .ok (.aload_n 0, 1) := dk_42 (dk_at dksX4_text_6 7 rfl rfl)
theorem dX4_text_140 : decode cX4_text 140 = .ok (.invokevirtual 361, 3) := dk_182 1 105 (dk_at dksX4_text_6 8 rfl rfl)
theorem dX4_text_143 : decode cX4_text 143 = .ok (.goto (-68), 3) := dk_167 255 188 (dk_at dksX4_text_6 11 rfl rfl)
theorem dX4_text_146 : decode cX4_text 146 = .ok (.aload_n 0, 1) := dk_42 (dk_at dksX4_text_6 14 rfl rfl)
theorem dX4_text_147 : decode cX4_text 147 = .ok (.invokevirtual 364, 3) := dk_182 1 108 (dk_at dksX4_text_6 15 rfl rfl)
theorem dX4_text_150 : decode cX4_text 150 = .ok (.goto (-75), 3) := dk_167 255 181 (dk_at dksX4_text_6 18 rfl rfl)
theorem dX4_text_153 : decode cX4_text 153 = .ok (.aload_n 0, 1) := dk_42 (dk_at dksX4_text_6 21 rfl rfl)
theorem dX4_text_154 : decode cX4_text 154 = .ok (.invokevirtual 367, 3) := dk_182 1 111 (dk_at dksX4_text_7 0 rfl rfl)
theorem dX4_text_157 : decode cX4_text 157 = .ok (.goto (-82), 3) := dk_167 255 174 (dk_at dksX4_text_7 3 rfl rfl)
theorem dX4_text_160 : decode cX4_text 160 = .ok (.aload_n 0, 1) := dk_42 (dk_at dksX4_text_7 6 rfl rfl)
theorem dX4_text_161 : decode cX4_text 161 = .ok (.invokevirtual 370, 3) := dk_182 1 114 (dk_at dksX4_text_7 7 rfl rfl)
theorem dX4_text_164 : decode cX4_text 164 = .ok (.goto (-89), 3) := dk_167 255 167 (dk_at dksX4_text_7 10 rfl rfl)
theorem dX4_text_167 : decode cX4_text 167 = .ok (.aload_n 0, 1) := dk_42 (dk_at dksX4_text_7 13 rfl rfl)
theorem dX4_text_168 : decode cX4_text 168 = .ok (.aload_n 0, 1) := dk_42 (dk_at dksX4_text_7 14 rfl rfl)
theorem dX4_text_169 : decode cX4_text 169 = .ok (.getfield 269, 3) := dk_180 1 13 (dk_at dksX4_text_7 15 rfl rfl)
theorem dX4_text_172 : decode cX4_text 172 = .ok (.putfield 20, 3) := dk_181 0 20 (dk_at dksX4_text_7 18 rfl rfl)
theorem dX4_text_175 : decode cX4_text 175 = .ok (.aload_n 0, 1) := dk_42 (dk_at dksX4_text_7 21 rfl rfl)
theorem dX4_text_176 : decode cX4_text 176 = .ok (.aload_n 0, 1) := dk_42 (dk_at dksX4_text_7 22 rfl rfl)
theorem dX4_text_177 : decode cX4_text 177 = .ok (.getfield 272, 3) := dk_180 1 16 (dk_at dksX4_text_8 0 rfl rfl)
theorem dX4_text_180 : decode cX4_text 180 = .ok (.putfield 24, 3) := dk_181 0 24 (dk_at dksX4_text_8 3 rfl rfl)
theorem dX4_text_183 : decode cX4_text 183 = .ok (.aload_n 0, 1) := dk_42 (dk_at dksX4_text_8 6 rfl rfl)
theorem dX4_text_184 : decode cX4_text 184 = .ok (.getfield 269, 3) := dk_180 1 13 (dk_at dksX4_text_8 7 rfl rfl)
theorem dX4_text_187 : decode cX4_text 187 = .ok (.ifCond .le 5, 3) := dk_158 0 5 (dk_at dksX4_text_8 10 rfl rfl)
theorem dX4_text_190 : decode cX4_text 190 = .ok (.iconst (-1), 1) := dk_2 (dk_at dksX4_text_8 13 rfl rfl)
theorem dX4_text_191 : decode cX4_text 191 = .ok (.ireturn, 1) := dk_172 (dk_at dksX4_text_8 14 rfl rfl)
theorem dX4_text_192 : decode cX4_text 192 = .ok (.aload_n 0, 1) := dk_42 (dk_at dksX4_text_8 15 rfl rfl)
theorem dX4_text_193 : decode cX4_text 193 = .ok (.aload_n 0, 1) := dk_42 (dk_at dksX4_text_8 16 rfl rfl)
theorem dX4_text_194 : decode cX4_text 194 = .ok (.getfield 7, 3) := dk_180 0 7 (dk_at dksX4_text_8 17 rfl rfl)
theorem dX4_text_197 : decode cX4_text 197 = .ok (.iconst 0, 1) := dk_3 (dk_at dksX4_text_8 20 rfl rfl)
theorem dX4_text_198 : decode cX4_text 198 = .ok (.iaload, 1) := dk_46 (dk_at dksX4_text_8 21 rfl rfl)
theorem dX4_text_199 : decode cX4_text 199 = .ok (.invokevirtual 373, 3) := dk_182 1 117 (dk_at dksX4_text_9 0 rfl rfl)
theorem dX4_text_202 : decode cX4_text 202 = .ok (.aload_n 0, 1) := dk_42 (dk_at dksX4_text_9 3 rfl rfl)
theorem dX4_text_203 : decode cX4_text 203 = .ok (.getfield 7, 3) := dk_180 0 7 (dk_at dksX4_text_9 4 rfl rfl)
theorem dX4_text_206 : decode cX4_text 206 = .ok (.iconst 0, 1) := dk_3 (dk_at dksX4_text_9 7 rfl rfl)
theorem dX4_text_207 : decode cX4_text 207 = .ok (.dup2, 1) := dk_92 (dk_at dksX4_text_9 8 rfl rfl)
theorem dX4_text_208 : decode cX4_text 208 = .ok (.iaload, 1) := dk_46 (dk_at dksX4_text_9 9 rfl rfl)
theorem dX4_text_209 : decode cX4_text 209 = .ok (.iconst 1, 1) := dk_4 (dk_at dksX4_text_9 10 rfl rfl)
theorem dX4_text_210 : decode cX4_text 210 = .ok (.iadd, 1) := dk_96 (dk_at dksX4_text_9 11 rfl rfl)
theorem dX4_text_211 : decode cX4_text 211 = .ok (.iastore, 1) := dk_79 (dk_at dksX4_text_9 12 rfl rfl)
theorem dX4_text_212 : decode cX4_text 212 = .ok (.aload_n 0, 1) := dk_42 (dk_at dksX4_text_9 13 rfl rfl)
theorem dX4_text_213 : decode cX4_text 213 = .ok (.getfield 7, 3) := dk_180 0 7 (dk_at dksX4_text_9 14 rfl rfl)
theorem dX4_text_216 : decode cX4_text 216 = .ok (.iconst 0, 1) := dk_3 (dk_at dksX4_text_9 17 rfl rfl)
theorem dX4_text_217 : decode cX4_text 217 = .ok (.iaload, 1) := dk_46 (dk_at dksX4_text_9 18 rfl rfl)
theorem dX4_text_218 : decode cX4_text 218 = .ok (.iconst 1, 1) := dk_4 (dk_at dksX4_text_9 19 rfl rfl)
theorem dX4_text_219 : decode cX4_text 219 = .ok (.isub, 1) := dk_100 (dk_at dksX4_text_9 20 rfl rfl)
theorem dX4_text_220 : decode cX4_text 220 = .ok (.ireturn, 1) := dk_172 (dk_at dksX4_text_9 21 rfl rfl)
abbrev cX4_next : ByteArray := prog_23_method_9_code
def yX4_next : MethodName := ⟨RX4, "next", "()V"⟩
def dkwX4_next_18 : List UInt8 := [167, 0, 6, 17, 1, 45, 181, 1, 9, 42, 89, 180, 0, 243, 4, 96, 181, 0, 243, 177]
abbrev dktX4_next_18 : List UInt8 := dkwX4_next_18 ++ []
def dkwX4_next_17 : List UInt8 := [180, 0, 16, 42, 180, 0, 243, 51, 16, 61, 160, 0, 32, 42, 27, 16, 60, 160, 0, 9, 17, 1, 44]
abbrev dktX4_next_17 : List UInt8 := dkwX4_next_17 ++ dktX4_next_18
def dkwX4_next_16 : List UInt8 := [16, 60, 159, 0, 9, 27, 16, 62, 160, 0, 57, 42, 180, 0, 243, 42, 180, 0, 246, 162, 0, 46, 42]
abbrev dktX4_next_16 : List UInt8 := dkwX4_next_16 ++ dktX4_next_17
def dkwX4_next_15 : List UInt8 := [154, 0, 15, 27, 16, 47, 159, 0, 9, 27, 16, 35, 160, 0, 7, 6, 167, 0, 4, 7, 181, 0, 252, 27]
abbrev dktX4_next_15 : List UInt8 := dkwX4_next_15 ++ dktX4_next_16
def dkwX4_next_14 : List UInt8 := [181, 1, 9, 42, 27, 16, 59, 16, 62, 184, 0, 199, 154, 0, 26, 27, 16, 40, 16, 45, 184, 0, 199]
abbrev dktX4_next_14 : List UInt8 := dkwX4_next_14 ++ dktX4_next_15
def dkwX4_next_13 : List UInt8 := [89, 180, 0, 243, 4, 96, 181, 0, 243, 167, 255, 175, 42, 89, 180, 0, 243, 4, 96, 181, 0, 243, 42, 27]
abbrev dktX4_next_13 : List UInt8 := dkwX4_next_13 ++ dktX4_next_14
def dkwX4_next_12 : List UInt8 := [16, 10, 42, 180, 1, 9, 104, 42, 180, 0, 16, 42, 180, 0, 243, 51, 96, 16, 48, 100, 181, 1, 9, 42]
abbrev dktX4_next_12 : List UInt8 := dkwX4_next_12 ++ dktX4_next_13
def dkwX4_next_11 : List UInt8 := [184, 0, 199, 153, 0, 181, 42, 42, 180, 1, 9, 19, 1, 12, 164, 0, 10, 42, 180, 1, 9, 167, 0, 23]
abbrev dktX4_next_11 : List UInt8 := dkwX4_next_11 ++ dktX4_next_12
def dkwX4_next_10 : List UInt8 := [42, 180, 0, 243, 42, 180, 0, 246, 162, 0, 200, 42, 180, 0, 16, 42, 180, 0, 243, 51, 16, 48, 16, 57]
abbrev dktX4_next_10 : List UInt8 := dkwX4_next_10 ++ dktX4_next_11
def dkwX4_next_9 : List UInt8 := [167, 0, 232, 27, 16, 48, 16, 57, 184, 0, 199, 153, 0, 97, 42, 5, 181, 0, 252, 42, 3, 181, 1, 9]
abbrev dktX4_next_9 : List UInt8 := dkwX4_next_9 ++ dktX4_next_10
def dkwX4_next_8 : List UInt8 := [184, 1, 5, 181, 1, 9, 42, 42, 180, 1, 9, 156, 0, 7, 7, 167, 0, 4, 4, 181, 0, 252]
abbrev dktX4_next_8 : List UInt8 := dkwX4_next_8 ++ dktX4_next_9
def dkwX4_next_7 : List UInt8 := [180, 0, 243, 4, 96, 181, 0, 243, 167, 255, 185, 42, 21, 4, 16, 7, 164, 0, 7, 2, 167, 0, 7, 32]
abbrev dktX4_next_7 : List UInt8 := dkwX4_next_7 ++ dktX4_next_8
def dkwX4_next_6 : List UInt8 := [180, 0, 16, 42, 180, 0, 243, 51, 133, 97, 20, 1, 3, 101, 167, 0, 4, 32, 65, 132, 4, 1, 42, 89]
abbrev dktX4_next_6 : List UInt8 := dkwX4_next_6 ++ dktX4_next_7
def dkwX4_next_5 : List UInt8 := [180, 0, 243, 51, 184, 0, 255, 153, 0, 51, 21, 4, 16, 8, 162, 0, 26, 20, 1, 3, 32, 105, 42]
abbrev dktX4_next_5 : List UInt8 := dkwX4_next_5 ++ dktX4_next_6
def dkwX4_next_4 : List UInt8 := [153, 0, 120, 9, 65, 3, 54, 4, 42, 180, 0, 243, 42, 180, 0, 246, 162, 0, 66, 42, 180, 0, 16, 42]
abbrev dktX4_next_4 : List UInt8 := dkwX4_next_4 ++ dktX4_next_5
def dkwX4_next_3 : List UInt8 := [160, 0, 9, 42, 3, 181, 0, 252, 177, 42, 180, 0, 16, 42, 180, 0, 243, 51, 60, 27, 184, 0, 255]
abbrev dktX4_next_3 : List UInt8 := dkwX4_next_3 ++ dktX4_next_4
def dkwX4_next_2 : List UInt8 := [181, 0, 243, 167, 255, 207, 42, 42, 180, 0, 243, 181, 0, 249, 42, 180, 0, 243, 42, 180, 0, 246]
abbrev dktX4_next_2 : List UInt8 := dkwX4_next_2 ++ dktX4_next_3
def dkwX4_next_1 : List UInt8 := [159, 0, 17, 42, 180, 0, 16, 42, 180, 0, 243, 51, 16, 10, 160, 0, 16, 42, 89, 180, 0, 243, 4, 96]
abbrev dktX4_next_1 : List UInt8 := dkwX4_next_1 ++ dktX4_next_2
def dkwX4_next_0 : List UInt8 := [42, 180, 0, 243, 42, 180, 0, 246, 162, 0, 44, 42, 180, 0, 16, 42, 180, 0, 243, 51, 16, 32]
abbrev dktX4_next_0 : List UInt8 := dkwX4_next_0 ++ dktX4_next_1
theorem dksX4_next_0 : cX4_next.data.toList.drop 0 = dktX4_next_0 := by decide +kernel
theorem dksX4_next_1 : cX4_next.data.toList.drop 22 = dktX4_next_1 := dk_seg dksX4_next_0 22 rfl rfl
theorem dksX4_next_2 : cX4_next.data.toList.drop 46 = dktX4_next_2 := dk_seg dksX4_next_1 24 rfl rfl
theorem dksX4_next_3 : cX4_next.data.toList.drop 68 = dktX4_next_3 := dk_seg dksX4_next_2 22 rfl rfl
theorem dksX4_next_4 : cX4_next.data.toList.drop 91 = dktX4_next_4 := dk_seg dksX4_next_3 23 rfl rfl
theorem dksX4_next_5 : cX4_next.data.toList.drop 115 = dktX4_next_5 := dk_seg dksX4_next_4 24 rfl rfl
theorem dksX4_next_6 : cX4_next.data.toList.drop 138 = dktX4_next_6 := dk_seg dksX4_next_5 23 rfl rfl
theorem dksX4_next_7 : cX4_next.data.toList.drop 162 = dktX4_next_7 := dk_seg dksX4_next_6 24 rfl rfl
theorem dksX4_next_8 : cX4_next.data.toList.drop 186 = dktX4_next_8 := dk_seg dksX4_next_7 24 rfl rfl
theorem dksX4_next_9 : cX4_next.data.toList.drop 208 = dktX4_next_9 := dk_seg dksX4_next_8 22 rfl rfl
theorem dksX4_next_10 : cX4_next.data.toList.drop 232 = dktX4_next_10 := dk_seg dksX4_next_9 24 rfl rfl
theorem dksX4_next_11 : cX4_next.data.toList.drop 256 = dktX4_next_11 := dk_seg dksX4_next_10 24 rfl rfl
theorem dksX4_next_12 : cX4_next.data.toList.drop 280 = dktX4_next_12 := dk_seg dksX4_next_11 24 rfl rfl
theorem dksX4_next_13 : cX4_next.data.toList.drop 304 = dktX4_next_13 := dk_seg dksX4_next_12 24 rfl rfl
theorem dksX4_next_14 : cX4_next.data.toList.drop 328 = dktX4_next_14 := dk_seg dksX4_next_13 24 rfl rfl
theorem dksX4_next_15 : cX4_next.data.toList.drop 351 = dktX4_next_15 := dk_seg dksX4_next_14 23 rfl rfl
theorem dksX4_next_16 : cX4_next.data.toList.drop 375 = dktX4_next_16 := dk_seg dksX4_next_15 24 rfl rfl
theorem dksX4_next_17 : cX4_next.data.toList.drop 398 = dktX4_next_17 := dk_seg dksX4_next_16 23 rfl rfl
theorem dksX4_next_18 : cX4_next.data.toList.drop 421 = dktX4_next_18 := dk_seg dksX4_next_17 23 rfl rfl
theorem dX4_next_0 : decode cX4_next 0 = .ok (.aload_n 0, 1) := dk_42 (dk_at dksX4_next_0 0 rfl rfl)
theorem dX4_next_1 : decode cX4_next 1 = .ok (.getfield 243, 3) := dk_180 0 243 (dk_at dksX4_next_0 1 rfl rfl)
theorem dX4_next_4 : decode cX4_next 4 = .ok (.aload_n 0, 1) := dk_42 (dk_at dksX4_next_0 4 rfl rfl)
theorem dX4_next_5 : decode cX4_next 5 = .ok (.getfield 246, 3) := dk_180 0 246 (dk_at dksX4_next_0 5 rfl rfl)
theorem dX4_next_8 : decode cX4_next 8 = .ok (.if_icmp .ge 44, 3) := dk_162 0 44 (dk_at dksX4_next_0 8 rfl rfl)
theorem dX4_next_11 : decode cX4_next 11 = .ok (.aload_n 0, 1) := dk_42 (dk_at dksX4_next_0 11 rfl rfl)
theorem dX4_next_12 : decode cX4_next 12 = .ok (.getfield 16, 3) := dk_180 0 16 (dk_at dksX4_next_0 12 rfl rfl)
theorem dX4_next_15 : decode cX4_next 15 = .ok (.aload_n 0, 1) := dk_42 (dk_at dksX4_next_0 15 rfl rfl)
theorem dX4_next_16 : decode cX4_next 16 = .ok (.getfield 243, 3) := dk_180 0 243 (dk_at dksX4_next_0 16 rfl rfl)
theorem dX4_next_19 : decode cX4_next 19 = .ok (.baload, 1) := dk_51 (dk_at dksX4_next_0 19 rfl rfl)
theorem dX4_next_20 : decode cX4_next 20 = .ok (.bipush 32, 2) := dk_16 32 (dk_at dksX4_next_0 20 rfl rfl)
theorem dX4_next_22 : decode cX4_next 22 = .ok (.if_icmp .eq 17, 3) := dk_159 0 17 (dk_at dksX4_next_1 0 rfl rfl)
theorem dX4_next_25 : decode cX4_next 25 = .ok (.aload_n 0, 1) := dk_42 (dk_at dksX4_next_1 3 rfl rfl)
theorem dX4_next_26 : decode cX4_next 26 = .ok (.getfield 16, 3) := dk_180 0 16 (dk_at dksX4_next_1 4 rfl rfl)
theorem dX4_next_29 : decode cX4_next 29 = .ok (.aload_n 0, 1) := dk_42 (dk_at dksX4_next_1 7 rfl rfl)
theorem dX4_next_30 : decode cX4_next 30 = .ok (.getfield 243, 3) := dk_180 0 243 (dk_at dksX4_next_1 8 rfl rfl)
theorem dX4_next_33 : decode cX4_next 33 = .ok (.baload, 1) := dk_51 (dk_at dksX4_next_1 11 rfl rfl)
theorem dX4_next_34 : decode cX4_next 34 = .ok (.bipush 10, 2) := dk_16 10 (dk_at dksX4_next_1 12 rfl rfl)
theorem dX4_next_36 : decode cX4_next 36 = .ok (.if_icmp .ne 16, 3) := dk_160 0 16 (dk_at dksX4_next_1 14 rfl rfl)
theorem dX4_next_39 : decode cX4_next 39 = .ok (.aload_n 0, 1) := dk_42 (dk_at dksX4_next_1 17 rfl rfl)
theorem dX4_next_40 : decode cX4_next 40 = .ok (.dup, 1) := dk_89 (dk_at dksX4_next_1 18 rfl rfl)
theorem dX4_next_41 : decode cX4_next 41 = .ok (.getfield 243, 3) := dk_180 0 243 (dk_at dksX4_next_1 19 rfl rfl)
theorem dX4_next_44 : decode cX4_next 44 = .ok (.iconst 1, 1) := dk_4 (dk_at dksX4_next_1 22 rfl rfl)
theorem dX4_next_45 : decode cX4_next 45 = .ok (.iadd, 1) := dk_96 (dk_at dksX4_next_1 23 rfl rfl)
theorem dX4_next_46 : decode cX4_next 46 = .ok (.putfield 243, 3) := dk_181 0 243 (dk_at dksX4_next_2 0 rfl rfl)
theorem dX4_next_49 : decode cX4_next 49 = .ok (.goto (-49), 3) := dk_167 255 207 (dk_at dksX4_next_2 3 rfl rfl)
theorem dX4_next_52 : decode cX4_next 52 = .ok (.aload_n 0, 1) := dk_42 (dk_at dksX4_next_2 6 rfl rfl)
theorem dX4_next_53 : decode cX4_next 53 = .ok (.aload_n 0, 1) := dk_42 (dk_at dksX4_next_2 7 rfl rfl)
theorem dX4_next_54 : decode cX4_next 54 = .ok (.getfield 243, 3) := dk_180 0 243 (dk_at dksX4_next_2 8 rfl rfl)
theorem dX4_next_57 : decode cX4_next 57 = .ok (.putfield 249, 3) := dk_181 0 249 (dk_at dksX4_next_2 11 rfl rfl)
theorem dX4_next_60 : decode cX4_next 60 = .ok (.aload_n 0, 1) := dk_42 (dk_at dksX4_next_2 14 rfl rfl)
theorem dX4_next_61 : decode cX4_next 61 = .ok (.getfield 243, 3) := dk_180 0 243 (dk_at dksX4_next_2 15 rfl rfl)
theorem dX4_next_64 : decode cX4_next 64 = .ok (.aload_n 0, 1) := dk_42 (dk_at dksX4_next_2 18 rfl rfl)
theorem dX4_next_65 : decode cX4_next 65 = .ok (.getfield 246, 3) := dk_180 0 246 (dk_at dksX4_next_2 19 rfl rfl)
theorem dX4_next_68 : decode cX4_next 68 = .ok (.if_icmp .ne 9, 3) := dk_160 0 9 (dk_at dksX4_next_3 0 rfl rfl)
theorem dX4_next_71 : decode cX4_next 71 = .ok (.aload_n 0, 1) := dk_42 (dk_at dksX4_next_3 3 rfl rfl)
theorem dX4_next_72 : decode cX4_next 72 = .ok (.iconst 0, 1) := dk_3 (dk_at dksX4_next_3 4 rfl rfl)
theorem dX4_next_73 : decode cX4_next 73 = .ok (.putfield 252, 3) := dk_181 0 252 (dk_at dksX4_next_3 5 rfl rfl)
theorem dX4_next_76 : decode cX4_next 76 = .ok (.return_, 1) := dk_177 (dk_at dksX4_next_3 8 rfl rfl)
theorem dX4_next_77 : decode cX4_next 77 = .ok (.aload_n 0, 1) := dk_42 (dk_at dksX4_next_3 9 rfl rfl)
theorem dX4_next_78 : decode cX4_next 78 = .ok (.getfield 16, 3) := dk_180 0 16 (dk_at dksX4_next_3 10 rfl rfl)
theorem dX4_next_81 : decode cX4_next 81 = .ok (.aload_n 0, 1) := dk_42 (dk_at dksX4_next_3 13 rfl rfl)
theorem dX4_next_82 : decode cX4_next 82 = .ok (.getfield 243, 3) := dk_180 0 243 (dk_at dksX4_next_3 14 rfl rfl)
theorem dX4_next_85 : decode cX4_next 85 = .ok (.baload, 1) := dk_51 (dk_at dksX4_next_3 17 rfl rfl)
theorem dX4_next_86 : decode cX4_next 86 = .ok (.istore_n 1, 1) := dk_60 (dk_at dksX4_next_3 18 rfl rfl)
theorem dX4_next_87 : decode cX4_next 87 = .ok (.iload_n 1, 1) := dk_27 (dk_at dksX4_next_3 19 rfl rfl)
theorem dX4_next_88 : decode cX4_next 88 = .ok (.invokestatic 255, 3) := dk_184 0 255 (dk_at dksX4_next_3 20 rfl rfl)
theorem dX4_next_91 : decode cX4_next 91 = .ok (.ifCond .eq 120, 3) := dk_153 0 120 (dk_at dksX4_next_4 0 rfl rfl)
theorem dX4_next_94 : decode cX4_next 94 = .ok (.lconst 0, 1) := dk_9 (dk_at dksX4_next_4 3 rfl rfl)
theorem dX4_next_95 : decode cX4_next 95 = .ok (.lstore_n 2, 1) := dk_65 (dk_at dksX4_next_4 4 rfl rfl)
theorem dX4_next_96 : decode cX4_next 96 = .ok (.iconst 0, 1) := dk_3 (dk_at dksX4_next_4 5 rfl rfl)
theorem dX4_next_97 : decode cX4_next 97 = .ok (.istore 4, 2) := dk_54 4 (dk_at dksX4_next_4 6 rfl rfl)
theorem dX4_next_99 : decode cX4_next 99 = .ok (.aload_n 0, 1) := dk_42 (dk_at dksX4_next_4 8 rfl rfl)
theorem dX4_next_100 : decode cX4_next 100 = .ok (.getfield 243, 3) := dk_180 0 243 (dk_at dksX4_next_4 9 rfl rfl)
theorem dX4_next_103 : decode cX4_next 103 = .ok (.aload_n 0, 1) := dk_42 (dk_at dksX4_next_4 12 rfl rfl)
theorem dX4_next_104 : decode cX4_next 104 = .ok (.getfield 246, 3) := dk_180 0 246 (dk_at dksX4_next_4 13 rfl rfl)
theorem dX4_next_107 : decode cX4_next 107 = .ok (.if_icmp .ge 66, 3) := dk_162 0 66 (dk_at dksX4_next_4 16 rfl rfl)
theorem dX4_next_110 : decode cX4_next 110 = .ok (.aload_n 0, 1) := dk_42 (dk_at dksX4_next_4 19 rfl rfl)
theorem dX4_next_111 : decode cX4_next 111 = .ok (.getfield 16, 3) := dk_180 0 16 (dk_at dksX4_next_4 20 rfl rfl)
theorem dX4_next_114 : decode cX4_next 114 = .ok (.aload_n 0, 1) := dk_42 (dk_at dksX4_next_4 23 rfl rfl)
theorem dX4_next_115 : decode cX4_next 115 = .ok (.getfield 243, 3) := dk_180 0 243 (dk_at dksX4_next_5 0 rfl rfl)
theorem dX4_next_118 : decode cX4_next 118 = .ok (.baload, 1) := dk_51 (dk_at dksX4_next_5 3 rfl rfl)
theorem dX4_next_119 : decode cX4_next 119 = .ok (.invokestatic 255, 3) := dk_184 0 255 (dk_at dksX4_next_5 4 rfl rfl)
theorem dX4_next_122 : decode cX4_next 122 = .ok (.ifCond .eq 51, 3) := dk_153 0 51 (dk_at dksX4_next_5 7 rfl rfl)
theorem dX4_next_125 : decode cX4_next 125 = .ok (.iload 4, 2) := dk_21 4 (dk_at dksX4_next_5 10 rfl rfl)
theorem dX4_next_127 : decode cX4_next 127 = .ok (.bipush 8, 2) := dk_16 8 (dk_at dksX4_next_5 12 rfl rfl)
theorem dX4_next_129 : decode cX4_next 129 = .ok (.if_icmp .ge 26, 3) := dk_162 0 26 (dk_at dksX4_next_5 14 rfl rfl)
theorem dX4_next_132 : decode cX4_next 132 = .ok (.ldc2_w 259, 3) := dk_20 1 3 (dk_at dksX4_next_5 17 rfl rfl)
theorem dX4_next_135 : decode cX4_next 135 = .ok (.lload_n 2, 1) := dk_32 (dk_at dksX4_next_5 20 rfl rfl)
theorem dX4_next_136 : decode cX4_next 136 = .ok (.lmul, 1) := dk_105 (dk_at dksX4_next_5 21 rfl rfl)
theorem dX4_next_137 : decode cX4_next 137 = .ok (.aload_n 0, 1) := dk_42 (dk_at dksX4_next_5 22 rfl rfl)
theorem dX4_next_138 : decode cX4_next 138 = .ok (.getfield 16, 3) := dk_180 0 16 (dk_at dksX4_next_6 0 rfl rfl)
theorem dX4_next_141 : decode cX4_next 141 = .ok (.aload_n 0, 1) := dk_42 (dk_at dksX4_next_6 3 rfl rfl)
theorem dX4_next_142 : decode cX4_next 142 = .ok (.getfield 243, 3) := dk_180 0 243 (dk_at dksX4_next_6 4 rfl rfl)
theorem dX4_next_145 : decode cX4_next 145 = .ok (.baload, 1) := dk_51 (dk_at dksX4_next_6 7 rfl rfl)
theorem dX4_next_146 : decode cX4_next 146 = .ok (.i2l, 1) := dk_133 (dk_at dksX4_next_6 8 rfl rfl)
theorem dX4_next_147 : decode cX4_next 147 = .ok (.ladd, 1) := dk_97 (dk_at dksX4_next_6 9 rfl rfl)
theorem dX4_next_148 : decode cX4_next 148 = .ok (.ldc2_w 259, 3) := dk_20 1 3 (dk_at dksX4_next_6 10 rfl rfl)
theorem dX4_next_151 : decode cX4_next 151 = .ok (.lsub, 1) := dk_101 (dk_at dksX4_next_6 13 rfl rfl)
theorem dX4_next_152 : decode cX4_next 152 = .ok (.goto 4, 3) := dk_167 0 4 (dk_at dksX4_next_6 14 rfl rfl)
theorem dX4_next_155 : decode cX4_next 155 = .ok (.lload_n 2, 1) := dk_32 (dk_at dksX4_next_6 17 rfl rfl)
theorem dX4_next_156 : decode cX4_next 156 = .ok (.lstore_n 2, 1) := dk_65 (dk_at dksX4_next_6 18 rfl rfl)
theorem dX4_next_157 : decode cX4_next 157 = .ok (.iinc 4 1, 3) := dk_132 4 1 (dk_at dksX4_next_6 19 rfl rfl)
theorem dX4_next_160 : decode cX4_next 160 = .ok (.aload_n 0, 1) := dk_42 (dk_at dksX4_next_6 22 rfl rfl)
theorem dX4_next_161 : decode cX4_next 161 = .ok (.dup, 1) := dk_89 (dk_at dksX4_next_6 23 rfl rfl)
theorem dX4_next_162 : decode cX4_next 162 = .ok (.getfield 243, 3) := dk_180 0 243 (dk_at dksX4_next_7 0 rfl rfl)
theorem dX4_next_165 : decode cX4_next 165 = .ok (.iconst 1, 1) := dk_4 (dk_at dksX4_next_7 3 rfl rfl)
theorem dX4_next_166 : decode cX4_next 166 = .ok (.iadd, 1) := dk_96 (dk_at dksX4_next_7 4 rfl rfl)
theorem dX4_next_167 : decode cX4_next 167 = .ok (.putfield 243, 3) := dk_181 0 243 (dk_at dksX4_next_7 5 rfl rfl)
theorem dX4_next_170 : decode cX4_next 170 = .ok (.goto (-71), 3) := dk_167 255 185 (dk_at dksX4_next_7 8 rfl rfl)
theorem dX4_next_173 : decode cX4_next 173 = .ok (.aload_n 0, 1) := dk_42 (dk_at dksX4_next_7 11 rfl rfl)
theorem dX4_next_174 : decode cX4_next 174 = .ok (.iload 4, 2) := dk_21 4 (dk_at dksX4_next_7 12 rfl rfl)
theorem dX4_next_176 : decode cX4_next 176 = .ok (.bipush 7, 2) := dk_16 7 (dk_at dksX4_next_7 14 rfl rfl)
theorem dX4_next_178 : decode cX4_next 178 = .ok (.if_icmp .le 7, 3) := dk_164 0 7 (dk_at dksX4_next_7 16 rfl rfl)
theorem dX4_next_181 : decode cX4_next 181 = .ok (.iconst (-1), 1) := dk_2 (dk_at dksX4_next_7 19 rfl rfl)
theorem dX4_next_182 : decode cX4_next 182 = .ok (.goto 7, 3) := dk_167 0 7 (dk_at dksX4_next_7 20 rfl rfl)
theorem dX4_next_185 : decode cX4_next 185 = .ok (.lload_n 2, 1) := dk_32 (dk_at dksX4_next_7 23 rfl rfl)
theorem dX4_next_186 : decode cX4_next 186 = .ok (.invokestatic 261, 3) := dk_184 1 5 (dk_at dksX4_next_8 0 rfl rfl)
theorem dX4_next_189 : decode cX4_next 189 = .ok (.putfield 265, 3) := dk_181 1 9 (dk_at dksX4_next_8 3 rfl rfl)
theorem dX4_next_192 : decode cX4_next 192 = .ok (.aload_n 0, 1) := dk_42 (dk_at dksX4_next_8 6 rfl rfl)
theorem dX4_next_193 : decode cX4_next 193 = .ok (.aload_n 0, 1) := dk_42 (dk_at dksX4_next_8 7 rfl rfl)
theorem dX4_next_194 : decode cX4_next 194 = .ok (.getfield 265, 3) := dk_180 1 9 (dk_at dksX4_next_8 8 rfl rfl)
theorem dX4_next_197 : decode cX4_next 197 = .ok (.ifCond .ge 7, 3) := dk_156 0 7 (dk_at dksX4_next_8 11 rfl rfl)
theorem dX4_next_200 : decode cX4_next 200 = .ok (.iconst 4, 1) := dk_7 (dk_at dksX4_next_8 14 rfl rfl)
theorem dX4_next_201 : decode cX4_next 201 = .ok (.goto 4, 3) := dk_167 0 4 (dk_at dksX4_next_8 15 rfl rfl)
theorem dX4_next_204 : decode cX4_next 204 = .ok (.iconst 1, 1) := dk_4 (dk_at dksX4_next_8 18 rfl rfl)
theorem dX4_next_205 : decode cX4_next 205 = .ok (.putfield 252, 3) := dk_181 0 252 (dk_at dksX4_next_8 19 rfl rfl)
theorem dX4_next_208 : decode cX4_next 208 = .ok (.goto 232, 3) := dk_167 0 232 (dk_at dksX4_next_9 0 rfl rfl)
theorem dX4_next_211 : decode cX4_next 211 = .ok (.iload_n 1, 1) := dk_27 (dk_at dksX4_next_9 3 rfl rfl)
theorem dX4_next_212 : decode cX4_next 212 = .ok (.bipush 48, 2) := dk_16 48 (dk_at dksX4_next_9 4 rfl rfl)
theorem dX4_next_214 : decode cX4_next 214 = .ok (.bipush 57, 2) := dk_16 57 (dk_at dksX4_next_9 6 rfl rfl)
theorem dX4_next_216 : decode cX4_next 216 = .ok (.invokestatic 199, 3) := dk_184 0 199 (dk_at dksX4_next_9 8 rfl rfl)
theorem dX4_next_219 : decode cX4_next 219 = .ok (.ifCond .eq 97, 3) := dk_153 0 97 (dk_at dksX4_next_9 11 rfl rfl)
theorem dX4_next_222 : decode cX4_next 222 = .ok (.aload_n 0, 1) := dk_42 (dk_at dksX4_next_9 14 rfl rfl)
theorem dX4_next_223 : decode cX4_next 223 = .ok (.iconst 2, 1) := dk_5 (dk_at dksX4_next_9 15 rfl rfl)
theorem dX4_next_224 : decode cX4_next 224 = .ok (.putfield 252, 3) := dk_181 0 252 (dk_at dksX4_next_9 16 rfl rfl)
theorem dX4_next_227 : decode cX4_next 227 = .ok (.aload_n 0, 1) := dk_42 (dk_at dksX4_next_9 19 rfl rfl)
theorem dX4_next_228 : decode cX4_next 228 = .ok (.iconst 0, 1) := dk_3 (dk_at dksX4_next_9 20 rfl rfl)
theorem dX4_next_229 : decode cX4_next 229 = .ok (.putfield 265, 3) := dk_181 1 9 (dk_at dksX4_next_9 21 rfl rfl)
theorem dX4_next_232 : decode cX4_next 232 = .ok (.aload_n 0, 1) := dk_42 (dk_at dksX4_next_10 0 rfl rfl)
theorem dX4_next_233 : decode cX4_next 233 = .ok (.getfield 243, 3) := dk_180 0 243 (dk_at dksX4_next_10 1 rfl rfl)
theorem dX4_next_236 : decode cX4_next 236 = .ok (.aload_n 0, 1) := dk_42 (dk_at dksX4_next_10 4 rfl rfl)
theorem dX4_next_237 : decode cX4_next 237 = .ok (.getfield 246, 3) := dk_180 0 246 (dk_at dksX4_next_10 5 rfl rfl)
theorem dX4_next_240 : decode cX4_next 240 = .ok (.if_icmp .ge 200, 3) := dk_162 0 200 (dk_at dksX4_next_10 8 rfl rfl)
theorem dX4_next_243 : decode cX4_next 243 = .ok (.aload_n 0, 1) := dk_42 (dk_at dksX4_next_10 11 rfl rfl)
theorem dX4_next_244 : decode cX4_next 244 = .ok (.getfield 16, 3) := dk_180 0 16 (dk_at dksX4_next_10 12 rfl rfl)
theorem dX4_next_247 : decode cX4_next 247 = .ok (.aload_n 0, 1) := dk_42 (dk_at dksX4_next_10 15 rfl rfl)
theorem dX4_next_248 : decode cX4_next 248 = .ok (.getfield 243, 3) := dk_180 0 243 (dk_at dksX4_next_10 16 rfl rfl)
theorem dX4_next_251 : decode cX4_next 251 = .ok (.baload, 1) := dk_51 (dk_at dksX4_next_10 19 rfl rfl)
theorem dX4_next_252 : decode cX4_next 252 = .ok (.bipush 48, 2) := dk_16 48 (dk_at dksX4_next_10 20 rfl rfl)
theorem dX4_next_254 : decode cX4_next 254 = .ok (.bipush 57, 2) := dk_16 57 (dk_at dksX4_next_10 22 rfl rfl)
theorem dX4_next_256 : decode cX4_next 256 = .ok (.invokestatic 199, 3) := dk_184 0 199 (dk_at dksX4_next_11 0 rfl rfl)
theorem dX4_next_259 : decode cX4_next 259 = .ok (.ifCond .eq 181, 3) := dk_153 0 181 (dk_at dksX4_next_11 3 rfl rfl)
theorem dX4_next_262 : decode cX4_next 262 = .ok (.aload_n 0, 1) := dk_42 (dk_at dksX4_next_11 6 rfl rfl)
theorem dX4_next_263 : decode cX4_next 263 = .ok (.aload_n 0, 1) := dk_42 (dk_at dksX4_next_11 7 rfl rfl)
theorem dX4_next_264 : decode cX4_next 264 = .ok (.getfield 265, 3) := dk_180 1 9 (dk_at dksX4_next_11 8 rfl rfl)
theorem dX4_next_267 : decode cX4_next 267 = .ok (.ldc_w 268, 3) := dk_19 1 12 (dk_at dksX4_next_11 11 rfl rfl)
theorem dX4_next_270 : decode cX4_next 270 = .ok (.if_icmp .le 10, 3) := dk_164 0 10 (dk_at dksX4_next_11 14 rfl rfl)
theorem dX4_next_273 : decode cX4_next 273 = .ok (.aload_n 0, 1) := dk_42 (dk_at dksX4_next_11 17 rfl rfl)
theorem dX4_next_274 : decode cX4_next 274 = .ok (.getfield 265, 3) := dk_180 1 9 (dk_at dksX4_next_11 18 rfl rfl)
theorem dX4_next_277 : decode cX4_next 277 = .ok (.goto 23, 3) := dk_167 0 23 (dk_at dksX4_next_11 21 rfl rfl)
theorem dX4_next_280 : decode cX4_next 280 = .ok (.bipush 10, 2) := dk_16 10 (dk_at dksX4_next_12 0 rfl rfl)
theorem dX4_next_282 : decode cX4_next 282 = .ok (.aload_n 0, 1) := dk_42 (dk_at dksX4_next_12 2 rfl rfl)
theorem dX4_next_283 : decode cX4_next 283 = .ok (.getfield 265, 3) := dk_180 1 9 (dk_at dksX4_next_12 3 rfl rfl)
theorem dX4_next_286 : decode cX4_next 286 = .ok (.imul, 1) := dk_104 (dk_at dksX4_next_12 6 rfl rfl)
theorem dX4_next_287 : decode cX4_next 287 = .ok (.aload_n 0, 1) := dk_42 (dk_at dksX4_next_12 7 rfl rfl)
theorem dX4_next_288 : decode cX4_next 288 = .ok (.getfield 16, 3) := dk_180 0 16 (dk_at dksX4_next_12 8 rfl rfl)
theorem dX4_next_291 : decode cX4_next 291 = .ok (.aload_n 0, 1) := dk_42 (dk_at dksX4_next_12 11 rfl rfl)
theorem dX4_next_292 : decode cX4_next 292 = .ok (.getfield 243, 3) := dk_180 0 243 (dk_at dksX4_next_12 12 rfl rfl)
theorem dX4_next_295 : decode cX4_next 295 = .ok (.baload, 1) := dk_51 (dk_at dksX4_next_12 15 rfl rfl)
theorem dX4_next_296 : decode cX4_next 296 = .ok (.iadd, 1) := dk_96 (dk_at dksX4_next_12 16 rfl rfl)
theorem dX4_next_297 : decode cX4_next 297 = .ok (.bipush 48, 2) := dk_16 48 (dk_at dksX4_next_12 17 rfl rfl)
theorem dX4_next_299 : decode cX4_next 299 = .ok (.isub, 1) := dk_100 (dk_at dksX4_next_12 19 rfl rfl)
theorem dX4_next_300 : decode cX4_next 300 = .ok (.putfield 265, 3) := dk_181 1 9 (dk_at dksX4_next_12 20 rfl rfl)
theorem dX4_next_303 : decode cX4_next 303 = .ok (.aload_n 0, 1) := dk_42 (dk_at dksX4_next_12 23 rfl rfl)
theorem dX4_next_304 : decode cX4_next 304 = .ok (.dup, 1) := dk_89 (dk_at dksX4_next_13 0 rfl rfl)
theorem dX4_next_305 : decode cX4_next 305 = .ok (.getfield 243, 3) := dk_180 0 243 (dk_at dksX4_next_13 1 rfl rfl)
theorem dX4_next_308 : decode cX4_next 308 = .ok (.iconst 1, 1) := dk_4 (dk_at dksX4_next_13 4 rfl rfl)
theorem dX4_next_309 : decode cX4_next 309 = .ok (.iadd, 1) := dk_96 (dk_at dksX4_next_13 5 rfl rfl)
theorem dX4_next_310 : decode cX4_next 310 = .ok (.putfield 243, 3) := dk_181 0 243 (dk_at dksX4_next_13 6 rfl rfl)
theorem dX4_next_313 : decode cX4_next 313 = .ok (.goto (-81), 3) := dk_167 255 175 (dk_at dksX4_next_13 9 rfl rfl)
theorem dX4_next_316 : decode cX4_next 316 = .ok (.aload_n 0, 1) := dk_42 (dk_at dksX4_next_13 12 rfl rfl)
theorem dX4_next_317 : decode cX4_next 317 = .ok (.dup, 1) := dk_89 (dk_at dksX4_next_13 13 rfl rfl)
theorem dX4_next_318 : decode cX4_next 318 = .ok (.getfield 243, 3) := dk_180 0 243 (dk_at dksX4_next_13 14 rfl rfl)
theorem dX4_next_321 : decode cX4_next 321 = .ok (.iconst 1, 1) := dk_4 (dk_at dksX4_next_13 17 rfl rfl)
theorem dX4_next_322 : decode cX4_next 322 = .ok (.iadd, 1) := dk_96 (dk_at dksX4_next_13 18 rfl rfl)
theorem dX4_next_323 : decode cX4_next 323 = .ok (.putfield 243, 3) := dk_181 0 243 (dk_at dksX4_next_13 19 rfl rfl)
theorem dX4_next_326 : decode cX4_next 326 = .ok (.aload_n 0, 1) := dk_42 (dk_at dksX4_next_13 22 rfl rfl)
theorem dX4_next_327 : decode cX4_next 327 = .ok (.iload_n 1, 1) := dk_27 (dk_at dksX4_next_13 23 rfl rfl)
theorem dX4_next_328 : decode cX4_next 328 = .ok (.putfield 265, 3) := dk_181 1 9 (dk_at dksX4_next_14 0 rfl rfl)
theorem dX4_next_331 : decode cX4_next 331 = .ok (.aload_n 0, 1) := dk_42 (dk_at dksX4_next_14 3 rfl rfl)
theorem dX4_next_332 : decode cX4_next 332 = .ok (.iload_n 1, 1) := dk_27 (dk_at dksX4_next_14 4 rfl rfl)
theorem dX4_next_333 : decode cX4_next 333 = .ok (.bipush 59, 2) := dk_16 59 (dk_at dksX4_next_14 5 rfl rfl)
theorem dX4_next_335 : decode cX4_next 335 = .ok (.bipush 62, 2) := dk_16 62 (dk_at dksX4_next_14 7 rfl rfl)
theorem dX4_next_337 : decode cX4_next 337 = .ok (.invokestatic 199, 3) := dk_184 0 199 (dk_at dksX4_next_14 9 rfl rfl)
theorem dX4_next_340 : decode cX4_next 340 = .ok (.ifCond .ne 26, 3) := dk_154 0 26 (dk_at dksX4_next_14 12 rfl rfl)
theorem dX4_next_343 : decode cX4_next 343 = .ok (.iload_n 1, 1) := dk_27 (dk_at dksX4_next_14 15 rfl rfl)
theorem dX4_next_344 : decode cX4_next 344 = .ok (.bipush 40, 2) := dk_16 40 (dk_at dksX4_next_14 16 rfl rfl)
theorem dX4_next_346 : decode cX4_next 346 = .ok (.bipush 45, 2) := dk_16 45 (dk_at dksX4_next_14 18 rfl rfl)
theorem dX4_next_348 : decode cX4_next 348 = .ok (.invokestatic 199, 3) := dk_184 0 199 (dk_at dksX4_next_14 20 rfl rfl)
theorem dX4_next_351 : decode cX4_next 351 = .ok (.ifCond .ne 15, 3) := dk_154 0 15 (dk_at dksX4_next_15 0 rfl rfl)
theorem dX4_next_354 : decode cX4_next 354 = .ok (.iload_n 1, 1) := dk_27 (dk_at dksX4_next_15 3 rfl rfl)
theorem dX4_next_355 : decode cX4_next 355 = .ok (.bipush 47, 2) := dk_16 47 (dk_at dksX4_next_15 4 rfl rfl)
theorem dX4_next_357 : decode cX4_next 357 = .ok (.if_icmp .eq 9, 3) := dk_159 0 9 (dk_at dksX4_next_15 6 rfl rfl)
theorem dX4_next_360 : decode cX4_next 360 = .ok (.iload_n 1, 1) := dk_27 (dk_at dksX4_next_15 9 rfl rfl)
theorem dX4_next_361 : decode cX4_next 361 = .ok (.bipush 35, 2) := dk_16 35 (dk_at dksX4_next_15 10 rfl rfl)
theorem dX4_next_363 : decode cX4_next 363 = .ok (.if_icmp .ne 7, 3) := dk_160 0 7 (dk_at dksX4_next_15 12 rfl rfl)
theorem dX4_next_366 : decode cX4_next 366 = .ok (.iconst 3, 1) := dk_6 (dk_at dksX4_next_15 15 rfl rfl)
theorem dX4_next_367 : decode cX4_next 367 = .ok (.goto 4, 3) := dk_167 0 4 (dk_at dksX4_next_15 16 rfl rfl)
theorem dX4_next_370 : decode cX4_next 370 = .ok (.iconst 4, 1) := dk_7 (dk_at dksX4_next_15 19 rfl rfl)
theorem dX4_next_371 : decode cX4_next 371 = .ok (.putfield 252, 3) := dk_181 0 252 (dk_at dksX4_next_15 20 rfl rfl)
theorem dX4_next_374 : decode cX4_next 374 = .ok (.iload_n 1, 1) := dk_27 (dk_at dksX4_next_15 23 rfl rfl)
theorem dX4_next_375 : decode cX4_next 375 = .ok (.bipush 60, 2) := dk_16 60 (dk_at dksX4_next_16 0 rfl rfl)
theorem dX4_next_377 : decode cX4_next 377 = .ok (.if_icmp .eq 9, 3) := dk_159 0 9 (dk_at dksX4_next_16 2 rfl rfl)
theorem dX4_next_380 : decode cX4_next 380 = .ok (.iload_n 1, 1) := dk_27 (dk_at dksX4_next_16 5 rfl rfl)
theorem dX4_next_381 : decode cX4_next 381 = .ok (.bipush 62, 2) := dk_16 62 (dk_at dksX4_next_16 6 rfl rfl)
theorem dX4_next_383 : decode cX4_next 383 = .ok (.if_icmp .ne 57, 3) := dk_160 0 57 (dk_at dksX4_next_16 8 rfl rfl)
theorem dX4_next_386 : decode cX4_next 386 = .ok (.aload_n 0, 1) := dk_42 (dk_at dksX4_next_16 11 rfl rfl)
theorem dX4_next_387 : decode cX4_next 387 = .ok (.getfield 243, 3) := dk_180 0 243 (dk_at dksX4_next_16 12 rfl rfl)
theorem dX4_next_390 : decode cX4_next 390 = .ok (.aload_n 0, 1) := dk_42 (dk_at dksX4_next_16 15 rfl rfl)
theorem dX4_next_391 : decode cX4_next 391 = .ok (.getfield 246, 3) := dk_180 0 246 (dk_at dksX4_next_16 16 rfl rfl)
theorem dX4_next_394 : decode cX4_next 394 = .ok (.if_icmp .ge 46, 3) := dk_162 0 46 (dk_at dksX4_next_16 19 rfl rfl)
theorem dX4_next_397 : decode cX4_next 397 = .ok (.aload_n 0, 1) := dk_42 (dk_at dksX4_next_16 22 rfl rfl)
theorem dX4_next_398 : decode cX4_next 398 = .ok (.getfield 16, 3) := dk_180 0 16 (dk_at dksX4_next_17 0 rfl rfl)
theorem dX4_next_401 : decode cX4_next 401 = .ok (.aload_n 0, 1) := dk_42 (dk_at dksX4_next_17 3 rfl rfl)
theorem dX4_next_402 : decode cX4_next 402 = .ok (.getfield 243, 3) := dk_180 0 243 (dk_at dksX4_next_17 4 rfl rfl)
theorem dX4_next_405 : decode cX4_next 405 = .ok (.baload, 1) := dk_51 (dk_at dksX4_next_17 7 rfl rfl)
theorem dX4_next_406 : decode cX4_next 406 = .ok (.bipush 61, 2) := dk_16 61 (dk_at dksX4_next_17 8 rfl rfl)
theorem dX4_next_408 : decode cX4_next 408 = .ok (.if_icmp .ne 32, 3) := dk_160 0 32 (dk_at dksX4_next_17 10 rfl rfl)
theorem dX4_next_411 : decode cX4_next 411 = .ok (.aload_n 0, 1) := dk_42 (dk_at dksX4_next_17 13 rfl rfl)
theorem dX4_next_412 : decode cX4_next 412 = .ok (.iload_n 1, 1) := dk_27 (dk_at dksX4_next_17 14 rfl rfl)
theorem dX4_next_413 : decode cX4_next 413 = .ok (.bipush 60, 2) := dk_16 60 (dk_at dksX4_next_17 15 rfl rfl)
theorem dX4_next_415 : decode cX4_next 415 = .ok (.if_icmp .ne 9, 3) := dk_160 0 9 (dk_at dksX4_next_17 17 rfl rfl)
theorem dX4_next_418 : decode cX4_next 418 = .ok (.sipush 300, 3) := dk_17 1 44 (dk_at dksX4_next_17 20 rfl rfl)
theorem dX4_next_421 : decode cX4_next 421 = .ok (.goto 6, 3) := dk_167 0 6 (dk_at dksX4_next_18 0 rfl rfl)
theorem dX4_next_424 : decode cX4_next 424 = .ok (.sipush 301, 3) := dk_17 1 45 (dk_at dksX4_next_18 3 rfl rfl)
theorem dX4_next_427 : decode cX4_next 427 = .ok (.putfield 265, 3) := dk_181 1 9 (dk_at dksX4_next_18 6 rfl rfl)
theorem dX4_next_430 : decode cX4_next 430 = .ok (.aload_n 0, 1) := dk_42 (dk_at dksX4_next_18 9 rfl rfl)
theorem dX4_next_431 : decode cX4_next 431 = .ok (.dup, 1) := dk_89 (dk_at dksX4_next_18 10 rfl rfl)
theorem dX4_next_432 : decode cX4_next 432 = .ok (.getfield 243, 3) := dk_180 0 243 (dk_at dksX4_next_18 11 rfl rfl)
theorem dX4_next_435 : decode cX4_next 435 = .ok (.iconst 1, 1) := dk_4 (dk_at dksX4_next_18 14 rfl rfl)
theorem dX4_next_436 : decode cX4_next 436 = .ok (.iadd, 1) := dk_96 (dk_at dksX4_next_18 15 rfl rfl)
theorem dX4_next_437 : decode cX4_next 437 = .ok (.putfield 243, 3) := dk_181 0 243 (dk_at dksX4_next_18 16 rfl rfl)
theorem dX4_next_440 : decode cX4_next 440 = .ok (.return_, 1) := dk_177 (dk_at dksX4_next_18 19 rfl rfl)
abbrev cX4_isLetter : ByteArray := prog_23_method_7_code
def yX4_isLetter : MethodName := ⟨RX4, "isLetter", "(I)Z"⟩
def dkwX4_isLetter_1 : List UInt8 := [167, 0, 4, 3, 172]
abbrev dktX4_isLetter_1 : List UInt8 := dkwX4_isLetter_1 ++ []
def dkwX4_isLetter_0 : List UInt8 := [26, 16, 97, 16, 122, 184, 0, 199, 154, 0, 14, 26, 16, 65, 16, 90, 184, 0, 199, 153, 0, 7, 4]
abbrev dktX4_isLetter_0 : List UInt8 := dkwX4_isLetter_0 ++ dktX4_isLetter_1
theorem dksX4_isLetter_0 : cX4_isLetter.data.toList.drop 0 = dktX4_isLetter_0 := by decide +kernel
theorem dksX4_isLetter_1 : cX4_isLetter.data.toList.drop 23 = dktX4_isLetter_1 := dk_seg dksX4_isLetter_0 23 rfl rfl
theorem dX4_isLetter_0 : decode cX4_isLetter 0 = .ok (.iload_n 0, 1) := dk_26 (dk_at dksX4_isLetter_0 0 rfl rfl)
theorem dX4_isLetter_1 : decode cX4_isLetter 1 = .ok (.bipush 97, 2) := dk_16 97 (dk_at dksX4_isLetter_0 1 rfl rfl)
theorem dX4_isLetter_3 : decode cX4_isLetter 3 = .ok (.bipush 122, 2) := dk_16 122 (dk_at dksX4_isLetter_0 3 rfl rfl)
theorem dX4_isLetter_5 : decode cX4_isLetter 5 = .ok (.invokestatic 199, 3) := dk_184 0 199 (dk_at dksX4_isLetter_0 5 rfl rfl)
theorem dX4_isLetter_8 : decode cX4_isLetter 8 = .ok (.ifCond .ne 14, 3) := dk_154 0 14 (dk_at dksX4_isLetter_0 8 rfl rfl)
theorem dX4_isLetter_11 : decode cX4_isLetter 11 = .ok (.iload_n 0, 1) := dk_26 (dk_at dksX4_isLetter_0 11 rfl rfl)
theorem dX4_isLetter_12 : decode cX4_isLetter 12 = .ok (.bipush 65, 2) := dk_16 65 (dk_at dksX4_isLetter_0 12 rfl rfl)
theorem dX4_isLetter_14 : decode cX4_isLetter 14 = .ok (.bipush 90, 2) := dk_16 90 (dk_at dksX4_isLetter_0 14 rfl rfl)
theorem dX4_isLetter_16 : decode cX4_isLetter 16 = .ok (.invokestatic 199, 3) := dk_184 0 199 (dk_at dksX4_isLetter_0 16 rfl rfl)
theorem dX4_isLetter_19 : decode cX4_isLetter 19 = .ok (.ifCond .eq 7, 3) := dk_153 0 7 (dk_at dksX4_isLetter_0 19 rfl rfl)
theorem dX4_isLetter_22 : decode cX4_isLetter 22 = .ok (.iconst 1, 1) := dk_4 (dk_at dksX4_isLetter_0 22 rfl rfl)
theorem dX4_isLetter_23 : decode cX4_isLetter 23 = .ok (.goto 4, 3) := dk_167 0 4 (dk_at dksX4_isLetter_1 0 rfl rfl)
theorem dX4_isLetter_26 : decode cX4_isLetter 26 = .ok (.iconst 0, 1) := dk_3 (dk_at dksX4_isLetter_1 3 rfl rfl)
theorem dX4_isLetter_27 : decode cX4_isLetter 27 = .ok (.ireturn, 1) := dk_172 (dk_at dksX4_isLetter_1 4 rfl rfl)
abbrev cX4_wordOf : ByteArray := prog_23_method_8_code
def yX4_wordOf : MethodName := ⟨RX4, "wordOf", "(J)I"⟩
def dkwX4_wordOf_9 : List UInt8 := [20, 0, 241, 148, 154, 0, 6, 16, 19, 172, 2, 172]
abbrev dktX4_wordOf_9 : List UInt8 := dkwX4_wordOf_9 ++ []
def dkwX4_wordOf_8 : List UInt8 := [20, 0, 237, 148, 154, 0, 6, 16, 17, 172, 30, 20, 0, 239, 148, 154, 0, 6, 16, 18, 172, 30]
abbrev dktX4_wordOf_8 : List UInt8 := dkwX4_wordOf_8 ++ dktX4_wordOf_9
def dkwX4_wordOf_7 : List UInt8 := [20, 0, 233, 148, 154, 0, 6, 16, 15, 172, 30, 20, 0, 235, 148, 154, 0, 6, 16, 16, 172, 30]
abbrev dktX4_wordOf_7 : List UInt8 := dkwX4_wordOf_7 ++ dktX4_wordOf_8
def dkwX4_wordOf_6 : List UInt8 := [20, 0, 229, 148, 154, 0, 6, 16, 13, 172, 30, 20, 0, 231, 148, 154, 0, 6, 16, 14, 172, 30]
abbrev dktX4_wordOf_6 : List UInt8 := dkwX4_wordOf_6 ++ dktX4_wordOf_7
def dkwX4_wordOf_5 : List UInt8 := [20, 0, 225, 148, 154, 0, 6, 16, 11, 172, 30, 20, 0, 227, 148, 154, 0, 6, 16, 12, 172, 30]
abbrev dktX4_wordOf_5 : List UInt8 := dkwX4_wordOf_5 ++ dktX4_wordOf_6
def dkwX4_wordOf_4 : List UInt8 := [20, 0, 221, 148, 154, 0, 6, 16, 9, 172, 30, 20, 0, 223, 148, 154, 0, 6, 16, 10, 172, 30]
abbrev dktX4_wordOf_4 : List UInt8 := dkwX4_wordOf_4 ++ dktX4_wordOf_5
def dkwX4_wordOf_3 : List UInt8 := [20, 0, 217, 148, 154, 0, 6, 16, 7, 172, 30, 20, 0, 219, 148, 154, 0, 6, 16, 8, 172, 30]
abbrev dktX4_wordOf_3 : List UInt8 := dkwX4_wordOf_3 ++ dktX4_wordOf_4
def dkwX4_wordOf_2 : List UInt8 := [7, 172, 30, 20, 0, 213, 148, 154, 0, 5, 8, 172, 30, 20, 0, 215, 148, 154, 0, 6, 16, 6, 172, 30]
abbrev dktX4_wordOf_2 : List UInt8 := dkwX4_wordOf_2 ++ dktX4_wordOf_3
def dkwX4_wordOf_1 : List UInt8 := [148, 154, 0, 5, 5, 172, 30, 20, 0, 209, 148, 154, 0, 5, 6, 172, 30, 20, 0, 211, 148, 154, 0, 5]
abbrev dktX4_wordOf_1 : List UInt8 := dkwX4_wordOf_1 ++ dktX4_wordOf_2
def dkwX4_wordOf_0 : List UInt8 := [30, 20, 0, 203, 148, 154, 0, 5, 3, 172, 30, 20, 0, 205, 148, 154, 0, 5, 4, 172, 30, 20, 0, 207]
abbrev dktX4_wordOf_0 : List UInt8 := dkwX4_wordOf_0 ++ dktX4_wordOf_1
theorem dksX4_wordOf_0 : cX4_wordOf.data.toList.drop 0 = dktX4_wordOf_0 := by decide +kernel
theorem dksX4_wordOf_1 : cX4_wordOf.data.toList.drop 24 = dktX4_wordOf_1 := dk_seg dksX4_wordOf_0 24 rfl rfl
theorem dksX4_wordOf_2 : cX4_wordOf.data.toList.drop 48 = dktX4_wordOf_2 := dk_seg dksX4_wordOf_1 24 rfl rfl
theorem dksX4_wordOf_3 : cX4_wordOf.data.toList.drop 72 = dktX4_wordOf_3 := dk_seg dksX4_wordOf_2 24 rfl rfl
theorem dksX4_wordOf_4 : cX4_wordOf.data.toList.drop 94 = dktX4_wordOf_4 := dk_seg dksX4_wordOf_3 22 rfl rfl
theorem dksX4_wordOf_5 : cX4_wordOf.data.toList.drop 116 = dktX4_wordOf_5 := dk_seg dksX4_wordOf_4 22 rfl rfl
theorem dksX4_wordOf_6 : cX4_wordOf.data.toList.drop 138 = dktX4_wordOf_6 := dk_seg dksX4_wordOf_5 22 rfl rfl
theorem dksX4_wordOf_7 : cX4_wordOf.data.toList.drop 160 = dktX4_wordOf_7 := dk_seg dksX4_wordOf_6 22 rfl rfl
theorem dksX4_wordOf_8 : cX4_wordOf.data.toList.drop 182 = dktX4_wordOf_8 := dk_seg dksX4_wordOf_7 22 rfl rfl
theorem dksX4_wordOf_9 : cX4_wordOf.data.toList.drop 204 = dktX4_wordOf_9 := dk_seg dksX4_wordOf_8 22 rfl rfl
theorem dX4_wordOf_0 : decode cX4_wordOf 0 = .ok (.lload_n 0, 1) := dk_30 (dk_at dksX4_wordOf_0 0 rfl rfl)
theorem dX4_wordOf_1 : decode cX4_wordOf 1 = .ok (.ldc2_w 203, 3) := dk_20 0 203 (dk_at dksX4_wordOf_0 1 rfl rfl)
theorem dX4_wordOf_4 : decode cX4_wordOf 4 = .ok (.lcmp, 1) := dk_148 (dk_at dksX4_wordOf_0 4 rfl rfl)
theorem dX4_wordOf_5 : decode cX4_wordOf 5 = .ok (.ifCond .ne 5, 3) := dk_154 0 5 (dk_at dksX4_wordOf_0 5 rfl rfl)
theorem dX4_wordOf_8 : decode cX4_wordOf 8 = .ok (.iconst 0, 1) := dk_3 (dk_at dksX4_wordOf_0 8 rfl rfl)
theorem dX4_wordOf_9 : decode cX4_wordOf 9 = .ok (.ireturn, 1) := dk_172 (dk_at dksX4_wordOf_0 9 rfl rfl)
theorem dX4_wordOf_10 : decode cX4_wordOf 10 = .ok (.lload_n 0, 1) := dk_30 (dk_at dksX4_wordOf_0 10 rfl rfl)
theorem dX4_wordOf_11 : decode cX4_wordOf 11 = .ok (.ldc2_w 205, 3) := dk_20 0 205 (dk_at dksX4_wordOf_0 11 rfl rfl)
theorem dX4_wordOf_14 : decode cX4_wordOf 14 = .ok (.lcmp, 1) := dk_148 (dk_at dksX4_wordOf_0 14 rfl rfl)
theorem dX4_wordOf_15 : decode cX4_wordOf 15 = .ok (.ifCond .ne 5, 3) := dk_154 0 5 (dk_at dksX4_wordOf_0 15 rfl rfl)
theorem dX4_wordOf_18 : decode cX4_wordOf 18 = .ok (.iconst 1, 1) := dk_4 (dk_at dksX4_wordOf_0 18 rfl rfl)
theorem dX4_wordOf_19 : decode cX4_wordOf 19 = .ok (.ireturn, 1) := dk_172 (dk_at dksX4_wordOf_0 19 rfl rfl)
theorem dX4_wordOf_20 : decode cX4_wordOf 20 = .ok (.lload_n 0, 1) := dk_30 (dk_at dksX4_wordOf_0 20 rfl rfl)
theorem dX4_wordOf_21 : decode cX4_wordOf 21 = .ok (.ldc2_w 207, 3) := dk_20 0 207 (dk_at dksX4_wordOf_0 21 rfl rfl)
theorem dX4_wordOf_24 : decode cX4_wordOf 24 = .ok (.lcmp, 1) := dk_148 (dk_at dksX4_wordOf_1 0 rfl rfl)
theorem dX4_wordOf_25 : decode cX4_wordOf 25 = .ok (.ifCond .ne 5, 3) := dk_154 0 5 (dk_at dksX4_wordOf_1 1 rfl rfl)
theorem dX4_wordOf_28 : decode cX4_wordOf 28 = .ok (.iconst 2, 1) := dk_5 (dk_at dksX4_wordOf_1 4 rfl rfl)
theorem dX4_wordOf_29 : decode cX4_wordOf 29 = .ok (.ireturn, 1) := dk_172 (dk_at dksX4_wordOf_1 5 rfl rfl)
theorem dX4_wordOf_30 : decode cX4_wordOf 30 = .ok (.lload_n 0, 1) := dk_30 (dk_at dksX4_wordOf_1 6 rfl rfl)
theorem dX4_wordOf_31 : decode cX4_wordOf 31 = .ok (.ldc2_w 209, 3) := dk_20 0 209 (dk_at dksX4_wordOf_1 7 rfl rfl)
theorem dX4_wordOf_34 : decode cX4_wordOf 34 = .ok (.lcmp, 1) := dk_148 (dk_at dksX4_wordOf_1 10 rfl rfl)
theorem dX4_wordOf_35 : decode cX4_wordOf 35 = .ok (.ifCond .ne 5, 3) := dk_154 0 5 (dk_at dksX4_wordOf_1 11 rfl rfl)
theorem dX4_wordOf_38 : decode cX4_wordOf 38 = .ok (.iconst 3, 1) := dk_6 (dk_at dksX4_wordOf_1 14 rfl rfl)
theorem dX4_wordOf_39 : decode cX4_wordOf 39 = .ok (.ireturn, 1) := dk_172 (dk_at dksX4_wordOf_1 15 rfl rfl)
theorem dX4_wordOf_40 : decode cX4_wordOf 40 = .ok (.lload_n 0, 1) := dk_30 (dk_at dksX4_wordOf_1 16 rfl rfl)
theorem dX4_wordOf_41 : decode cX4_wordOf 41 = .ok (.ldc2_w 211, 3) := dk_20 0 211 (dk_at dksX4_wordOf_1 17 rfl rfl)
theorem dX4_wordOf_44 : decode cX4_wordOf 44 = .ok (.lcmp, 1) := dk_148 (dk_at dksX4_wordOf_1 20 rfl rfl)
theorem dX4_wordOf_45 : decode cX4_wordOf 45 = .ok (.ifCond .ne 5, 3) := dk_154 0 5 (dk_at dksX4_wordOf_1 21 rfl rfl)
theorem dX4_wordOf_48 : decode cX4_wordOf 48 = .ok (.iconst 4, 1) := dk_7 (dk_at dksX4_wordOf_2 0 rfl rfl)
theorem dX4_wordOf_49 : decode cX4_wordOf 49 = .ok (.ireturn, 1) := dk_172 (dk_at dksX4_wordOf_2 1 rfl rfl)
theorem dX4_wordOf_50 : decode cX4_wordOf 50 = .ok (.lload_n 0, 1) := dk_30 (dk_at dksX4_wordOf_2 2 rfl rfl)
theorem dX4_wordOf_51 : decode cX4_wordOf 51 = .ok (.ldc2_w 213, 3) := dk_20 0 213 (dk_at dksX4_wordOf_2 3 rfl rfl)
theorem dX4_wordOf_54 : decode cX4_wordOf 54 = .ok (.lcmp, 1) := dk_148 (dk_at dksX4_wordOf_2 6 rfl rfl)
theorem dX4_wordOf_55 : decode cX4_wordOf 55 = .ok (.ifCond .ne 5, 3) := dk_154 0 5 (dk_at dksX4_wordOf_2 7 rfl rfl)
theorem dX4_wordOf_58 : decode cX4_wordOf 58 = .ok (.iconst 5, 1) := dk_8 (dk_at dksX4_wordOf_2 10 rfl rfl)
theorem dX4_wordOf_59 : decode cX4_wordOf 59 = .ok (.ireturn, 1) := dk_172 (dk_at dksX4_wordOf_2 11 rfl rfl)
theorem dX4_wordOf_60 : decode cX4_wordOf 60 = .ok (.lload_n 0, 1) := dk_30 (dk_at dksX4_wordOf_2 12 rfl rfl)
theorem dX4_wordOf_61 : decode cX4_wordOf 61 = .ok (.ldc2_w 215, 3) := dk_20 0 215 (dk_at dksX4_wordOf_2 13 rfl rfl)
theorem dX4_wordOf_64 : decode cX4_wordOf 64 = .ok (.lcmp, 1) := dk_148 (dk_at dksX4_wordOf_2 16 rfl rfl)
theorem dX4_wordOf_65 : decode cX4_wordOf 65 = .ok (.ifCond .ne 6, 3) := dk_154 0 6 (dk_at dksX4_wordOf_2 17 rfl rfl)
theorem dX4_wordOf_68 : decode cX4_wordOf 68 = .ok (.bipush 6, 2) := dk_16 6 (dk_at dksX4_wordOf_2 20 rfl rfl)
theorem dX4_wordOf_70 : decode cX4_wordOf 70 = .ok (.ireturn, 1) := dk_172 (dk_at dksX4_wordOf_2 22 rfl rfl)
theorem dX4_wordOf_71 : decode cX4_wordOf 71 = .ok (.lload_n 0, 1) := dk_30 (dk_at dksX4_wordOf_2 23 rfl rfl)
theorem dX4_wordOf_72 : decode cX4_wordOf 72 = .ok (.ldc2_w 217, 3) := dk_20 0 217 (dk_at dksX4_wordOf_3 0 rfl rfl)
theorem dX4_wordOf_75 : decode cX4_wordOf 75 = .ok (.lcmp, 1) := dk_148 (dk_at dksX4_wordOf_3 3 rfl rfl)
theorem dX4_wordOf_76 : decode cX4_wordOf 76 = .ok (.ifCond .ne 6, 3) := dk_154 0 6 (dk_at dksX4_wordOf_3 4 rfl rfl)
theorem dX4_wordOf_79 : decode cX4_wordOf 79 = .ok (.bipush 7, 2) := dk_16 7 (dk_at dksX4_wordOf_3 7 rfl rfl)
theorem dX4_wordOf_81 : decode cX4_wordOf 81 = .ok (.ireturn, 1) := dk_172 (dk_at dksX4_wordOf_3 9 rfl rfl)
theorem dX4_wordOf_82 : decode cX4_wordOf 82 = .ok (.lload_n 0, 1) := dk_30 (dk_at dksX4_wordOf_3 10 rfl rfl)
theorem dX4_wordOf_83 : decode cX4_wordOf 83 = .ok (.ldc2_w 219, 3) := dk_20 0 219 (dk_at dksX4_wordOf_3 11 rfl rfl)
theorem dX4_wordOf_86 : decode cX4_wordOf 86 = .ok (.lcmp, 1) := dk_148 (dk_at dksX4_wordOf_3 14 rfl rfl)
theorem dX4_wordOf_87 : decode cX4_wordOf 87 = .ok (.ifCond .ne 6, 3) := dk_154 0 6 (dk_at dksX4_wordOf_3 15 rfl rfl)
theorem dX4_wordOf_90 : decode cX4_wordOf 90 = .ok (.bipush 8, 2) := dk_16 8 (dk_at dksX4_wordOf_3 18 rfl rfl)
theorem dX4_wordOf_92 : decode cX4_wordOf 92 = .ok (.ireturn, 1) := dk_172 (dk_at dksX4_wordOf_3 20 rfl rfl)
theorem dX4_wordOf_93 : decode cX4_wordOf 93 = .ok (.lload_n 0, 1) := dk_30 (dk_at dksX4_wordOf_3 21 rfl rfl)
theorem dX4_wordOf_94 : decode cX4_wordOf 94 = .ok (.ldc2_w 221, 3) := dk_20 0 221 (dk_at dksX4_wordOf_4 0 rfl rfl)
theorem dX4_wordOf_97 : decode cX4_wordOf 97 = .ok (.lcmp, 1) := dk_148 (dk_at dksX4_wordOf_4 3 rfl rfl)
theorem dX4_wordOf_98 : decode cX4_wordOf 98 = .ok (.ifCond .ne 6, 3) := dk_154 0 6 (dk_at dksX4_wordOf_4 4 rfl rfl)
theorem dX4_wordOf_101 : decode cX4_wordOf 101 = .ok (.bipush 9, 2) := dk_16 9 (dk_at dksX4_wordOf_4 7 rfl rfl)
theorem dX4_wordOf_103 : decode cX4_wordOf 103 = .ok (.ireturn, 1) := dk_172 (dk_at dksX4_wordOf_4 9 rfl rfl)
theorem dX4_wordOf_104 : decode cX4_wordOf 104 = .ok (.lload_n 0, 1) := dk_30 (dk_at dksX4_wordOf_4 10 rfl rfl)
theorem dX4_wordOf_105 : decode cX4_wordOf 105 = .ok (.ldc2_w 223, 3) := dk_20 0 223 (dk_at dksX4_wordOf_4 11 rfl rfl)
theorem dX4_wordOf_108 : decode cX4_wordOf 108 = .ok (.lcmp, 1) := dk_148 (dk_at dksX4_wordOf_4 14 rfl rfl)
theorem dX4_wordOf_109 : decode cX4_wordOf 109 = .ok (.ifCond .ne 6, 3) := dk_154 0 6 (dk_at dksX4_wordOf_4 15 rfl rfl)
theorem dX4_wordOf_112 : decode cX4_wordOf 112 = .ok (.bipush 10, 2) := dk_16 10 (dk_at dksX4_wordOf_4 18 rfl rfl)
theorem dX4_wordOf_114 : decode cX4_wordOf 114 = .ok (.ireturn, 1) := dk_172 (dk_at dksX4_wordOf_4 20 rfl rfl)
theorem dX4_wordOf_115 : decode cX4_wordOf 115 = .ok (.lload_n 0, 1) := dk_30 (dk_at dksX4_wordOf_4 21 rfl rfl)
theorem dX4_wordOf_116 : decode cX4_wordOf 116 = .ok (.ldc2_w 225, 3) := dk_20 0 225 (dk_at dksX4_wordOf_5 0 rfl rfl)
theorem dX4_wordOf_119 : decode cX4_wordOf 119 = .ok (.lcmp, 1) := dk_148 (dk_at dksX4_wordOf_5 3 rfl rfl)
theorem dX4_wordOf_120 : decode cX4_wordOf 120 = .ok (.ifCond .ne 6, 3) := dk_154 0 6 (dk_at dksX4_wordOf_5 4 rfl rfl)
theorem dX4_wordOf_123 : decode cX4_wordOf 123 = .ok (.bipush 11, 2) := dk_16 11 (dk_at dksX4_wordOf_5 7 rfl rfl)
theorem dX4_wordOf_125 : decode cX4_wordOf 125 = .ok (.ireturn, 1) := dk_172 (dk_at dksX4_wordOf_5 9 rfl rfl)
theorem dX4_wordOf_126 : decode cX4_wordOf 126 = .ok (.lload_n 0, 1) := dk_30 (dk_at dksX4_wordOf_5 10 rfl rfl)
theorem dX4_wordOf_127 : decode cX4_wordOf 127 = .ok (.ldc2_w 227, 3) := dk_20 0 227 (dk_at dksX4_wordOf_5 11 rfl rfl)
theorem dX4_wordOf_130 : decode cX4_wordOf 130 = .ok (.lcmp, 1) := dk_148 (dk_at dksX4_wordOf_5 14 rfl rfl)
theorem dX4_wordOf_131 : decode cX4_wordOf 131 = .ok (.ifCond .ne 6, 3) := dk_154 0 6 (dk_at dksX4_wordOf_5 15 rfl rfl)
theorem dX4_wordOf_134 : decode cX4_wordOf 134 = .ok (.bipush 12, 2) := dk_16 12 (dk_at dksX4_wordOf_5 18 rfl rfl)
theorem dX4_wordOf_136 : decode cX4_wordOf 136 = .ok (.ireturn, 1) := dk_172 (dk_at dksX4_wordOf_5 20 rfl rfl)
theorem dX4_wordOf_137 : decode cX4_wordOf 137 = .ok (.lload_n 0, 1) := dk_30 (dk_at dksX4_wordOf_5 21 rfl rfl)
theorem dX4_wordOf_138 : decode cX4_wordOf 138 = .ok (.ldc2_w 229, 3) := dk_20 0 229 (dk_at dksX4_wordOf_6 0 rfl rfl)
theorem dX4_wordOf_141 : decode cX4_wordOf 141 = .ok (.lcmp, 1) := dk_148 (dk_at dksX4_wordOf_6 3 rfl rfl)
theorem dX4_wordOf_142 : decode cX4_wordOf 142 = .ok (.ifCond .ne 6, 3) := dk_154 0 6 (dk_at dksX4_wordOf_6 4 rfl rfl)
theorem dX4_wordOf_145 : decode cX4_wordOf 145 = .ok (.bipush 13, 2) := dk_16 13 (dk_at dksX4_wordOf_6 7 rfl rfl)
theorem dX4_wordOf_147 : decode cX4_wordOf 147 = .ok (.ireturn, 1) := dk_172 (dk_at dksX4_wordOf_6 9 rfl rfl)
theorem dX4_wordOf_148 : decode cX4_wordOf 148 = .ok (.lload_n 0, 1) := dk_30 (dk_at dksX4_wordOf_6 10 rfl rfl)
theorem dX4_wordOf_149 : decode cX4_wordOf 149 = .ok (.ldc2_w 231, 3) := dk_20 0 231 (dk_at dksX4_wordOf_6 11 rfl rfl)
theorem dX4_wordOf_152 : decode cX4_wordOf 152 = .ok (.lcmp, 1) := dk_148 (dk_at dksX4_wordOf_6 14 rfl rfl)
theorem dX4_wordOf_153 : decode cX4_wordOf 153 = .ok (.ifCond .ne 6, 3) := dk_154 0 6 (dk_at dksX4_wordOf_6 15 rfl rfl)
theorem dX4_wordOf_156 : decode cX4_wordOf 156 = .ok (.bipush 14, 2) := dk_16 14 (dk_at dksX4_wordOf_6 18 rfl rfl)
theorem dX4_wordOf_158 : decode cX4_wordOf 158 = .ok (.ireturn, 1) := dk_172 (dk_at dksX4_wordOf_6 20 rfl rfl)
theorem dX4_wordOf_159 : decode cX4_wordOf 159 = .ok (.lload_n 0, 1) := dk_30 (dk_at dksX4_wordOf_6 21 rfl rfl)
theorem dX4_wordOf_160 : decode cX4_wordOf 160 = .ok (.ldc2_w 233, 3) := dk_20 0 233 (dk_at dksX4_wordOf_7 0 rfl rfl)
theorem dX4_wordOf_163 : decode cX4_wordOf 163 = .ok (.lcmp, 1) := dk_148 (dk_at dksX4_wordOf_7 3 rfl rfl)
theorem dX4_wordOf_164 : decode cX4_wordOf 164 = .ok (.ifCond .ne 6, 3) := dk_154 0 6 (dk_at dksX4_wordOf_7 4 rfl rfl)
theorem dX4_wordOf_167 : decode cX4_wordOf 167 = .ok (.bipush 15, 2) := dk_16 15 (dk_at dksX4_wordOf_7 7 rfl rfl)
theorem dX4_wordOf_169 : decode cX4_wordOf 169 = .ok (.ireturn, 1) := dk_172 (dk_at dksX4_wordOf_7 9 rfl rfl)
theorem dX4_wordOf_170 : decode cX4_wordOf 170 = .ok (.lload_n 0, 1) := dk_30 (dk_at dksX4_wordOf_7 10 rfl rfl)
theorem dX4_wordOf_171 : decode cX4_wordOf 171 = .ok (.ldc2_w 235, 3) := dk_20 0 235 (dk_at dksX4_wordOf_7 11 rfl rfl)
theorem dX4_wordOf_174 : decode cX4_wordOf 174 = .ok (.lcmp, 1) := dk_148 (dk_at dksX4_wordOf_7 14 rfl rfl)
theorem dX4_wordOf_175 : decode cX4_wordOf 175 = .ok (.ifCond .ne 6, 3) := dk_154 0 6 (dk_at dksX4_wordOf_7 15 rfl rfl)
theorem dX4_wordOf_178 : decode cX4_wordOf 178 = .ok (.bipush 16, 2) := dk_16 16 (dk_at dksX4_wordOf_7 18 rfl rfl)
theorem dX4_wordOf_180 : decode cX4_wordOf 180 = .ok (.ireturn, 1) := dk_172 (dk_at dksX4_wordOf_7 20 rfl rfl)
theorem dX4_wordOf_181 : decode cX4_wordOf 181 = .ok (.lload_n 0, 1) := dk_30 (dk_at dksX4_wordOf_7 21 rfl rfl)
theorem dX4_wordOf_182 : decode cX4_wordOf 182 = .ok (.ldc2_w 237, 3) := dk_20 0 237 (dk_at dksX4_wordOf_8 0 rfl rfl)
theorem dX4_wordOf_185 : decode cX4_wordOf 185 = .ok (.lcmp, 1) := dk_148 (dk_at dksX4_wordOf_8 3 rfl rfl)
theorem dX4_wordOf_186 : decode cX4_wordOf 186 = .ok (.ifCond .ne 6, 3) := dk_154 0 6 (dk_at dksX4_wordOf_8 4 rfl rfl)
theorem dX4_wordOf_189 : decode cX4_wordOf 189 = .ok (.bipush 17, 2) := dk_16 17 (dk_at dksX4_wordOf_8 7 rfl rfl)
theorem dX4_wordOf_191 : decode cX4_wordOf 191 = .ok (.ireturn, 1) := dk_172 (dk_at dksX4_wordOf_8 9 rfl rfl)
theorem dX4_wordOf_192 : decode cX4_wordOf 192 = .ok (.lload_n 0, 1) := dk_30 (dk_at dksX4_wordOf_8 10 rfl rfl)
theorem dX4_wordOf_193 : decode cX4_wordOf 193 = .ok (.ldc2_w 239, 3) := dk_20 0 239 (dk_at dksX4_wordOf_8 11 rfl rfl)
theorem dX4_wordOf_196 : decode cX4_wordOf 196 = .ok (.lcmp, 1) := dk_148 (dk_at dksX4_wordOf_8 14 rfl rfl)
theorem dX4_wordOf_197 : decode cX4_wordOf 197 = .ok (.ifCond .ne 6, 3) := dk_154 0 6 (dk_at dksX4_wordOf_8 15 rfl rfl)
theorem dX4_wordOf_200 : decode cX4_wordOf 200 = .ok (.bipush 18, 2) := dk_16 18 (dk_at dksX4_wordOf_8 18 rfl rfl)
theorem dX4_wordOf_202 : decode cX4_wordOf 202 = .ok (.ireturn, 1) := dk_172 (dk_at dksX4_wordOf_8 20 rfl rfl)
theorem dX4_wordOf_203 : decode cX4_wordOf 203 = .ok (.lload_n 0, 1) := dk_30 (dk_at dksX4_wordOf_8 21 rfl rfl)
theorem dX4_wordOf_204 : decode cX4_wordOf 204 = .ok (.ldc2_w 241, 3) := dk_20 0 241 (dk_at dksX4_wordOf_9 0 rfl rfl)
theorem dX4_wordOf_207 : decode cX4_wordOf 207 = .ok (.lcmp, 1) := dk_148 (dk_at dksX4_wordOf_9 3 rfl rfl)
theorem dX4_wordOf_208 : decode cX4_wordOf 208 = .ok (.ifCond .ne 6, 3) := dk_154 0 6 (dk_at dksX4_wordOf_9 4 rfl rfl)
theorem dX4_wordOf_211 : decode cX4_wordOf 211 = .ok (.bipush 19, 2) := dk_16 19 (dk_at dksX4_wordOf_9 7 rfl rfl)
theorem dX4_wordOf_213 : decode cX4_wordOf 213 = .ok (.ireturn, 1) := dk_172 (dk_at dksX4_wordOf_9 9 rfl rfl)
theorem dX4_wordOf_214 : decode cX4_wordOf 214 = .ok (.iconst (-1), 1) := dk_2 (dk_at dksX4_wordOf_9 10 rfl rfl)
theorem dX4_wordOf_215 : decode cX4_wordOf 215 = .ok (.ireturn, 1) := dk_172 (dk_at dksX4_wordOf_9 11 rfl rfl)
abbrev cX4_asks : ByteArray := prog_23_method_20_code
def yX4_asks : MethodName := ⟨RX4, "asks", "()V"⟩
def dkwX4_asks_1 : List UInt8 := [4, 181, 1, 57, 177]
abbrev dktX4_asks_1 : List UInt8 := dkwX4_asks_1 ++ []
def dkwX4_asks_0 : List UInt8 := [42, 16, 12, 182, 1, 51, 153, 0, 12, 42, 6, 182, 1, 54, 60, 167, 0, 13, 42, 7, 182, 1, 31, 42]
abbrev dktX4_asks_0 : List UInt8 := dkwX4_asks_0 ++ dktX4_asks_1
theorem dksX4_asks_0 : cX4_asks.data.toList.drop 0 = dktX4_asks_0 := by decide +kernel
theorem dksX4_asks_1 : cX4_asks.data.toList.drop 24 = dktX4_asks_1 := dk_seg dksX4_asks_0 24 rfl rfl
theorem dX4_asks_0 : decode cX4_asks 0 = .ok (.aload_n 0, 1) := dk_42 (dk_at dksX4_asks_0 0 rfl rfl)
theorem dX4_asks_1 : decode cX4_asks 1 = .ok (.bipush 12, 2) := dk_16 12 (dk_at dksX4_asks_0 1 rfl rfl)
theorem dX4_asks_3 : decode cX4_asks 3 = .ok (.invokevirtual 307, 3) := dk_182 1 51 (dk_at dksX4_asks_0 3 rfl rfl)
theorem dX4_asks_6 : decode cX4_asks 6 = .ok (.ifCond .eq 12, 3) := dk_153 0 12 (dk_at dksX4_asks_0 6 rfl rfl)
theorem dX4_asks_9 : decode cX4_asks 9 = .ok (.aload_n 0, 1) := dk_42 (dk_at dksX4_asks_0 9 rfl rfl)
theorem dX4_asks_10 : decode cX4_asks 10 = .ok (.iconst 3, 1) := dk_6 (dk_at dksX4_asks_0 10 rfl rfl)
theorem dX4_asks_11 : decode cX4_asks 11 = .ok (.invokevirtual 310, 3) := dk_182 1 54 (dk_at dksX4_asks_0 11 rfl rfl)
theorem dX4_asks_14 : decode cX4_asks 14 = .ok (.istore_n 1, 1) := dk_60 (dk_at dksX4_asks_0 14 rfl rfl)
theorem dX4_asks_15 : decode cX4_asks 15 = .ok (.goto 13, 3) := dk_167 0 13 (dk_at dksX4_asks_0 15 rfl rfl)
theorem dX4_asks_18 : decode cX4_asks 18 = .ok (.aload_n 0, 1) := dk_42 (dk_at dksX4_asks_0 18 rfl rfl)
theorem dX4_asks_19 : decode cX4_asks 19 = .ok (.iconst 4, 1) := dk_7 (dk_at dksX4_asks_0 19 rfl rfl)
theorem dX4_asks_20 : decode cX4_asks 20 = .ok (.invokevirtual 287, 3) := dk_182 1 31 (dk_at dksX4_asks_0 20 rfl rfl)
theorem dX4_asks_23 : decode cX4_asks 23 = .ok (.aload_n 0, 1) := dk_42 (dk_at dksX4_asks_0 23 rfl rfl)
theorem dX4_asks_24 : decode cX4_asks 24 = .ok (.iconst 1, 1) := dk_4 (dk_at dksX4_asks_1 0 rfl rfl)
theorem dX4_asks_25 : decode cX4_asks 25 = .ok (.putfield 313, 3) := dk_181 1 57 (dk_at dksX4_asks_1 1 rfl rfl)
theorem dX4_asks_28 : decode cX4_asks 28 = .ok (.return_, 1) := dk_177 (dk_at dksX4_asks_1 4 rfl rfl)
abbrev cX4_isWord : ByteArray := prog_23_method_11_code
def yX4_isWord : MethodName := ⟨RX4, "isWord", "(I)Z"⟩
def dkwX4_isWord_0 : List UInt8 := [42, 180, 0, 252, 4, 160, 0, 15, 42, 180, 1, 9, 27, 160, 0, 7, 4, 167, 0, 4, 3, 172]
abbrev dktX4_isWord_0 : List UInt8 := dkwX4_isWord_0 ++ []
theorem dksX4_isWord_0 : cX4_isWord.data.toList.drop 0 = dktX4_isWord_0 := by decide +kernel
theorem dX4_isWord_0 : decode cX4_isWord 0 = .ok (.aload_n 0, 1) := dk_42 (dk_at dksX4_isWord_0 0 rfl rfl)
theorem dX4_isWord_1 : decode cX4_isWord 1 = .ok (.getfield 252, 3) := dk_180 0 252 (dk_at dksX4_isWord_0 1 rfl rfl)
theorem dX4_isWord_4 : decode cX4_isWord 4 = .ok (.iconst 1, 1) := dk_4 (dk_at dksX4_isWord_0 4 rfl rfl)
theorem dX4_isWord_5 : decode cX4_isWord 5 = .ok (.if_icmp .ne 15, 3) := dk_160 0 15 (dk_at dksX4_isWord_0 5 rfl rfl)
theorem dX4_isWord_8 : decode cX4_isWord 8 = .ok (.aload_n 0, 1) := dk_42 (dk_at dksX4_isWord_0 8 rfl rfl)
theorem dX4_isWord_9 : decode cX4_isWord 9 = .ok (.getfield 265, 3) := dk_180 1 9 (dk_at dksX4_isWord_0 9 rfl rfl)
theorem dX4_isWord_12 : decode cX4_isWord 12 = .ok (.iload_n 1, 1) := dk_27 (dk_at dksX4_isWord_0 12 rfl rfl)
theorem dX4_isWord_13 : decode cX4_isWord 13 = .ok (.if_icmp .ne 7, 3) := dk_160 0 7 (dk_at dksX4_isWord_0 13 rfl rfl)
theorem dX4_isWord_16 : decode cX4_isWord 16 = .ok (.iconst 1, 1) := dk_4 (dk_at dksX4_isWord_0 16 rfl rfl)
theorem dX4_isWord_17 : decode cX4_isWord 17 = .ok (.goto 4, 3) := dk_167 0 4 (dk_at dksX4_isWord_0 17 rfl rfl)
theorem dX4_isWord_20 : decode cX4_isWord 20 = .ok (.iconst 0, 1) := dk_3 (dk_at dksX4_isWord_0 20 rfl rfl)
theorem dX4_isWord_21 : decode cX4_isWord 21 = .ok (.ireturn, 1) := dk_172 (dk_at dksX4_isWord_0 21 rfl rfl)
abbrev cX4_opensSign : ByteArray := prog_23_method_16_code
def yX4_opensSign : MethodName := ⟨RX4, "opensSign", "(I)Z"⟩
def dkwX4_opensSign_1 : List UInt8 := [181, 1, 25, 42, 27, 182, 1, 31, 42, 182, 1, 34, 4, 172]
abbrev dktX4_opensSign_1 : List UInt8 := dkwX4_opensSign_1 ++ []
def dkwX4_opensSign_0 : List UInt8 := [42, 180, 1, 25, 16, 8, 160, 0, 10, 42, 6, 182, 1, 28, 3, 172, 42, 89, 180, 1, 25, 4, 96]
abbrev dktX4_opensSign_0 : List UInt8 := dkwX4_opensSign_0 ++ dktX4_opensSign_1
theorem dksX4_opensSign_0 : cX4_opensSign.data.toList.drop 0 = dktX4_opensSign_0 := by decide +kernel
theorem dksX4_opensSign_1 : cX4_opensSign.data.toList.drop 23 = dktX4_opensSign_1 := dk_seg dksX4_opensSign_0 23 rfl rfl
theorem dX4_opensSign_0 : decode cX4_opensSign 0 = .ok (.aload_n 0, 1) := dk_42 (dk_at dksX4_opensSign_0 0 rfl rfl)
theorem dX4_opensSign_1 : decode cX4_opensSign 1 = .ok (.getfield 281, 3) := dk_180 1 25 (dk_at dksX4_opensSign_0 1 rfl rfl)
theorem dX4_opensSign_4 : decode cX4_opensSign 4 = .ok (.bipush 8, 2) := dk_16 8 (dk_at dksX4_opensSign_0 4 rfl rfl)
theorem dX4_opensSign_6 : decode cX4_opensSign 6 = .ok (.if_icmp .ne 10, 3) := dk_160 0 10 (dk_at dksX4_opensSign_0 6 rfl rfl)
theorem dX4_opensSign_9 : decode cX4_opensSign 9 = .ok (.aload_n 0, 1) := dk_42 (dk_at dksX4_opensSign_0 9 rfl rfl)
theorem dX4_opensSign_10 : decode cX4_opensSign 10 = .ok (.iconst 3, 1) := dk_6 (dk_at dksX4_opensSign_0 10 rfl rfl)
theorem dX4_opensSign_11 : decode cX4_opensSign 11 = .ok (.invokevirtual 284, 3) := dk_182 1 28 (dk_at dksX4_opensSign_0 11 rfl rfl)
theorem dX4_opensSign_14 : decode cX4_opensSign 14 = .ok (.iconst 0, 1) := dk_3 (dk_at dksX4_opensSign_0 14 rfl rfl)
theorem dX4_opensSign_15 : decode cX4_opensSign 15 = .ok (.ireturn, 1) := dk_172 (dk_at dksX4_opensSign_0 15 rfl rfl)
theorem dX4_opensSign_16 : decode cX4_opensSign 16 = .ok (.aload_n 0, 1) := dk_42 (dk_at dksX4_opensSign_0 16 rfl rfl)
theorem dX4_opensSign_17 : decode cX4_opensSign 17 = .ok (.dup, 1) := dk_89 (dk_at dksX4_opensSign_0 17 rfl rfl)
theorem dX4_opensSign_18 : decode cX4_opensSign 18 = .ok (.getfield 281, 3) := dk_180 1 25 (dk_at dksX4_opensSign_0 18 rfl rfl)
theorem dX4_opensSign_21 : decode cX4_opensSign 21 = .ok (.iconst 1, 1) := dk_4 (dk_at dksX4_opensSign_0 21 rfl rfl)
theorem dX4_opensSign_22 : decode cX4_opensSign 22 = .ok (.iadd, 1) := dk_96 (dk_at dksX4_opensSign_0 22 rfl rfl)
theorem dX4_opensSign_23 : decode cX4_opensSign 23 = .ok (.putfield 281, 3) := dk_181 1 25 (dk_at dksX4_opensSign_1 0 rfl rfl)
theorem dX4_opensSign_26 : decode cX4_opensSign 26 = .ok (.aload_n 0, 1) := dk_42 (dk_at dksX4_opensSign_1 3 rfl rfl)
theorem dX4_opensSign_27 : decode cX4_opensSign 27 = .ok (.iload_n 1, 1) := dk_27 (dk_at dksX4_opensSign_1 4 rfl rfl)
theorem dX4_opensSign_28 : decode cX4_opensSign 28 = .ok (.invokevirtual 287, 3) := dk_182 1 31 (dk_at dksX4_opensSign_1 5 rfl rfl)
theorem dX4_opensSign_31 : decode cX4_opensSign 31 = .ok (.aload_n 0, 1) := dk_42 (dk_at dksX4_opensSign_1 8 rfl rfl)
theorem dX4_opensSign_32 : decode cX4_opensSign 32 = .ok (.invokevirtual 290, 3) := dk_182 1 34 (dk_at dksX4_opensSign_1 9 rfl rfl)
theorem dX4_opensSign_35 : decode cX4_opensSign 35 = .ok (.iconst 1, 1) := dk_4 (dk_at dksX4_opensSign_1 12 rfl rfl)
theorem dX4_opensSign_36 : decode cX4_opensSign 36 = .ok (.ireturn, 1) := dk_172 (dk_at dksX4_opensSign_1 13 rfl rfl)
abbrev cX4_errs : ByteArray := prog_23_method_12_code
def yX4_errs : MethodName := ⟨RX4, "errs", "(I)V"⟩
def dkwX4_errs_0 : List UInt8 := [42, 180, 1, 13, 154, 0, 16, 42, 27, 181, 1, 13, 42, 42, 180, 0, 249, 181, 1, 16, 177]
abbrev dktX4_errs_0 : List UInt8 := dkwX4_errs_0 ++ []
theorem dksX4_errs_0 : cX4_errs.data.toList.drop 0 = dktX4_errs_0 := by decide +kernel
theorem dX4_errs_0 : decode cX4_errs 0 = .ok (.aload_n 0, 1) := dk_42 (dk_at dksX4_errs_0 0 rfl rfl)
theorem dX4_errs_1 : decode cX4_errs 1 = .ok (.getfield 269, 3) := dk_180 1 13 (dk_at dksX4_errs_0 1 rfl rfl)
theorem dX4_errs_4 : decode cX4_errs 4 = .ok (.ifCond .ne 16, 3) := dk_154 0 16 (dk_at dksX4_errs_0 4 rfl rfl)
theorem dX4_errs_7 : decode cX4_errs 7 = .ok (.aload_n 0, 1) := dk_42 (dk_at dksX4_errs_0 7 rfl rfl)
theorem dX4_errs_8 : decode cX4_errs 8 = .ok (.iload_n 1, 1) := dk_27 (dk_at dksX4_errs_0 8 rfl rfl)
theorem dX4_errs_9 : decode cX4_errs 9 = .ok (.putfield 269, 3) := dk_181 1 13 (dk_at dksX4_errs_0 9 rfl rfl)
theorem dX4_errs_12 : decode cX4_errs 12 = .ok (.aload_n 0, 1) := dk_42 (dk_at dksX4_errs_0 12 rfl rfl)
theorem dX4_errs_13 : decode cX4_errs 13 = .ok (.aload_n 0, 1) := dk_42 (dk_at dksX4_errs_0 13 rfl rfl)
theorem dX4_errs_14 : decode cX4_errs 14 = .ok (.getfield 249, 3) := dk_180 0 249 (dk_at dksX4_errs_0 14 rfl rfl)
theorem dX4_errs_17 : decode cX4_errs 17 = .ok (.putfield 272, 3) := dk_181 1 16 (dk_at dksX4_errs_0 17 rfl rfl)
theorem dX4_errs_20 : decode cX4_errs 20 = .ok (.return_, 1) := dk_177 (dk_at dksX4_errs_0 20 rfl rfl)
abbrev cX4_opensFrame : ByteArray := prog_23_method_14_code
def yX4_opensFrame : MethodName := ⟨RX4, "opensFrame", "(I)V"⟩
def dkwX4_opensFrame_0 : List UInt8 := [42, 180, 0, 63, 42, 180, 1, 22, 27, 79, 42, 89, 180, 1, 22, 4, 96, 181, 1, 22, 177]
abbrev dktX4_opensFrame_0 : List UInt8 := dkwX4_opensFrame_0 ++ []
theorem dksX4_opensFrame_0 : cX4_opensFrame.data.toList.drop 0 = dktX4_opensFrame_0 := by decide +kernel
theorem dX4_opensFrame_0 : decode cX4_opensFrame 0 = .ok (.aload_n 0, 1) := dk_42 (dk_at dksX4_opensFrame_0 0 rfl rfl)
theorem dX4_opensFrame_1 : decode cX4_opensFrame 1 = .ok (.getfield 63, 3) := dk_180 0 63 (dk_at dksX4_opensFrame_0 1 rfl rfl)
theorem dX4_opensFrame_4 : decode cX4_opensFrame 4 = .ok (.aload_n 0, 1) := dk_42 (dk_at dksX4_opensFrame_0 4 rfl rfl)
theorem dX4_opensFrame_5 : decode cX4_opensFrame 5 = .ok (.getfield 278, 3) := dk_180 1 22 (dk_at dksX4_opensFrame_0 5 rfl rfl)
theorem dX4_opensFrame_8 : decode cX4_opensFrame 8 = .ok (.iload_n 1, 1) := dk_27 (dk_at dksX4_opensFrame_0 8 rfl rfl)
theorem dX4_opensFrame_9 : decode cX4_opensFrame 9 = .ok (.iastore, 1) := dk_79 (dk_at dksX4_opensFrame_0 9 rfl rfl)
theorem dX4_opensFrame_10 : decode cX4_opensFrame 10 = .ok (.aload_n 0, 1) := dk_42 (dk_at dksX4_opensFrame_0 10 rfl rfl)
theorem dX4_opensFrame_11 : decode cX4_opensFrame 11 = .ok (.dup, 1) := dk_89 (dk_at dksX4_opensFrame_0 11 rfl rfl)
theorem dX4_opensFrame_12 : decode cX4_opensFrame 12 = .ok (.getfield 278, 3) := dk_180 1 22 (dk_at dksX4_opensFrame_0 12 rfl rfl)
theorem dX4_opensFrame_15 : decode cX4_opensFrame 15 = .ok (.iconst 1, 1) := dk_4 (dk_at dksX4_opensFrame_0 15 rfl rfl)
theorem dX4_opensFrame_16 : decode cX4_opensFrame 16 = .ok (.iadd, 1) := dk_96 (dk_at dksX4_opensFrame_0 16 rfl rfl)
theorem dX4_opensFrame_17 : decode cX4_opensFrame 17 = .ok (.putfield 278, 3) := dk_181 1 22 (dk_at dksX4_opensFrame_0 17 rfl rfl)
theorem dX4_opensFrame_20 : decode cX4_opensFrame 20 = .ok (.return_, 1) := dk_177 (dk_at dksX4_opensFrame_0 20 rfl rfl)
abbrev cX4_begins : ByteArray := prog_23_method_21_code
def yX4_begins : MethodName := ⟨RX4, "begins", "()V"⟩
def dkwX4_begins_6 : List UInt8 := [182, 1, 66, 153, 0, 13, 42, 16, 7, 182, 1, 54, 60, 167, 0, 8, 42, 4, 182, 1, 28, 177]
abbrev dktX4_begins_6 : List UInt8 := dkwX4_begins_6 ++ []
def dkwX4_begins_5 : List UInt8 := [42, 16, 40, 182, 1, 66, 153, 0, 13, 42, 16, 6, 182, 1, 54, 60, 167, 0, 27, 42, 16, 45]
abbrev dktX4_begins_5 : List UInt8 := dkwX4_begins_5 ++ dktX4_begins_6
def dkwX4_begins_4 : List UInt8 := [8, 182, 1, 28, 177, 42, 17, 1, 145, 27, 182, 1, 44, 42, 182, 1, 34, 42, 182, 1, 60, 167, 0, 46]
abbrev dktX4_begins_4 : List UInt8 := dkwX4_begins_4 ++ dktX4_begins_5
def dkwX4_begins_3 : List UInt8 := [100, 60, 42, 180, 1, 63, 4, 160, 0, 11, 27, 6, 164, 0, 17, 167, 0, 8, 27, 6, 162, 0, 9, 42]
abbrev dktX4_begins_3 : List UInt8 := dkwX4_begins_3 ++ dktX4_begins_4
def dkwX4_begins_2 : List UInt8 := [180, 0, 252, 4, 160, 0, 68, 42, 180, 1, 9, 16, 12, 164, 0, 59, 42, 180, 1, 9, 16, 12, 100, 4]
abbrev dktX4_begins_2 : List UInt8 := dkwX4_begins_2 ++ dktX4_begins_3
def dkwX4_begins_1 : List UInt8 := [42, 17, 1, 144, 42, 180, 1, 9, 182, 1, 44, 42, 182, 1, 34, 42, 182, 1, 60, 167, 0, 119, 42]
abbrev dktX4_begins_1 : List UInt8 := dkwX4_begins_1 ++ dktX4_begins_2
def dkwX4_begins_0 : List UInt8 := [42, 180, 0, 252, 5, 160, 0, 41, 42, 180, 1, 9, 17, 39, 15, 164, 0, 9, 42, 5, 182, 1, 28, 177]
abbrev dktX4_begins_0 : List UInt8 := dkwX4_begins_0 ++ dktX4_begins_1
theorem dksX4_begins_0 : cX4_begins.data.toList.drop 0 = dktX4_begins_0 := by decide +kernel
theorem dksX4_begins_1 : cX4_begins.data.toList.drop 24 = dktX4_begins_1 := dk_seg dksX4_begins_0 24 rfl rfl
theorem dksX4_begins_2 : cX4_begins.data.toList.drop 47 = dktX4_begins_2 := dk_seg dksX4_begins_1 23 rfl rfl
theorem dksX4_begins_3 : cX4_begins.data.toList.drop 71 = dktX4_begins_3 := dk_seg dksX4_begins_2 24 rfl rfl
theorem dksX4_begins_4 : cX4_begins.data.toList.drop 95 = dktX4_begins_4 := dk_seg dksX4_begins_3 24 rfl rfl
theorem dksX4_begins_5 : cX4_begins.data.toList.drop 119 = dktX4_begins_5 := dk_seg dksX4_begins_4 24 rfl rfl
theorem dksX4_begins_6 : cX4_begins.data.toList.drop 141 = dktX4_begins_6 := dk_seg dksX4_begins_5 22 rfl rfl
theorem dX4_begins_0 : decode cX4_begins 0 = .ok (.aload_n 0, 1) := dk_42 (dk_at dksX4_begins_0 0 rfl rfl)
theorem dX4_begins_1 : decode cX4_begins 1 = .ok (.getfield 252, 3) := dk_180 0 252 (dk_at dksX4_begins_0 1 rfl rfl)
theorem dX4_begins_4 : decode cX4_begins 4 = .ok (.iconst 2, 1) := dk_5 (dk_at dksX4_begins_0 4 rfl rfl)
theorem dX4_begins_5 : decode cX4_begins 5 = .ok (.if_icmp .ne 41, 3) := dk_160 0 41 (dk_at dksX4_begins_0 5 rfl rfl)
theorem dX4_begins_8 : decode cX4_begins 8 = .ok (.aload_n 0, 1) := dk_42 (dk_at dksX4_begins_0 8 rfl rfl)
theorem dX4_begins_9 : decode cX4_begins 9 = .ok (.getfield 265, 3) := dk_180 1 9 (dk_at dksX4_begins_0 9 rfl rfl)
theorem dX4_begins_12 : decode cX4_begins 12 = .ok (.sipush 9999, 3) := dk_17 39 15 (dk_at dksX4_begins_0 12 rfl rfl)
theorem dX4_begins_15 : decode cX4_begins 15 = .ok (.if_icmp .le 9, 3) := dk_164 0 9 (dk_at dksX4_begins_0 15 rfl rfl)
theorem dX4_begins_18 : decode cX4_begins 18 = .ok (.aload_n 0, 1) := dk_42 (dk_at dksX4_begins_0 18 rfl rfl)
theorem dX4_begins_19 : decode cX4_begins 19 = .ok (.iconst 2, 1) := dk_5 (dk_at dksX4_begins_0 19 rfl rfl)
theorem dX4_begins_20 : decode cX4_begins 20 = .ok (.invokevirtual 284, 3) := dk_182 1 28 (dk_at dksX4_begins_0 20 rfl rfl)
theorem dX4_begins_23 : decode cX4_begins 23 = .ok (.return_, 1) := dk_177 (dk_at dksX4_begins_0 23 rfl rfl)
theorem dX4_begins_24 : decode cX4_begins 24 = .ok (.aload_n 0, 1) := dk_42 (dk_at dksX4_begins_1 0 rfl rfl)
theorem dX4_begins_25 : decode cX4_begins 25 = .ok (.sipush 400, 3) := dk_17 1 144 (dk_at dksX4_begins_1 1 rfl rfl)
theorem dX4_begins_28 : decode cX4_begins 28 = .ok (.aload_n 0, 1) := dk_42 (dk_at dksX4_begins_1 4 rfl rfl)
theorem dX4_begins_29 : decode cX4_begins 29 = .ok (.getfield 265, 3) := dk_180 1 9 (dk_at dksX4_begins_1 5 rfl rfl)
theorem dX4_begins_32 : decode cX4_begins 32 = .ok (.invokevirtual 300, 3) := dk_182 1 44 (dk_at dksX4_begins_1 8 rfl rfl)
theorem dX4_begins_35 : decode cX4_begins 35 = .ok (.aload_n 0, 1) := dk_42 (dk_at dksX4_begins_1 11 rfl rfl)
theorem dX4_begins_36 : decode cX4_begins 36 = .ok (.invokevirtual 290, 3) := dk_182 1 34 (dk_at dksX4_begins_1 12 rfl rfl)
theorem dX4_begins_39 : decode cX4_begins 39 = .ok (.aload_n 0, 1) := dk_42 (dk_at dksX4_begins_1 15 rfl rfl)
theorem dX4_begins_40 : decode cX4_begins 40 = .ok (.invokevirtual 316, 3) := dk_182 1 60 (dk_at dksX4_begins_1 16 rfl rfl)
theorem dX4_begins_43 : decode cX4_begins 43 = .ok (.goto 119, 3) := dk_167 0 119 (dk_at dksX4_begins_1 19 rfl rfl)
theorem dX4_begins_46 : decode cX4_begins 46 = .ok (.aload_n 0, 1) := dk_42 (dk_at dksX4_begins_1 22 rfl rfl)
theorem dX4_begins_47 : decode cX4_begins 47 = .ok (.getfield 252, 3) := dk_180 0 252 (dk_at dksX4_begins_2 0 rfl rfl)
theorem dX4_begins_50 : decode cX4_begins 50 = .ok (.iconst 1, 1) := dk_4 (dk_at dksX4_begins_2 3 rfl rfl)
theorem dX4_begins_51 : decode cX4_begins 51 = .ok (.if_icmp .ne 68, 3) := dk_160 0 68 (dk_at dksX4_begins_2 4 rfl rfl)
theorem dX4_begins_54 : decode cX4_begins 54 = .ok (.aload_n 0, 1) := dk_42 (dk_at dksX4_begins_2 7 rfl rfl)
theorem dX4_begins_55 : decode cX4_begins 55 = .ok (.getfield 265, 3) := dk_180 1 9 (dk_at dksX4_begins_2 8 rfl rfl)
theorem dX4_begins_58 : decode cX4_begins 58 = .ok (.bipush 12, 2) := dk_16 12 (dk_at dksX4_begins_2 11 rfl rfl)
theorem dX4_begins_60 : decode cX4_begins 60 = .ok (.if_icmp .le 59, 3) := dk_164 0 59 (dk_at dksX4_begins_2 13 rfl rfl)
theorem dX4_begins_63 : decode cX4_begins 63 = .ok (.aload_n 0, 1) := dk_42 (dk_at dksX4_begins_2 16 rfl rfl)
theorem dX4_begins_64 : decode cX4_begins 64 = .ok (.getfield 265, 3) := dk_180 1 9 (dk_at dksX4_begins_2 17 rfl rfl)
theorem dX4_begins_67 : decode cX4_begins 67 = .ok (.bipush 12, 2) := dk_16 12 (dk_at dksX4_begins_2 20 rfl rfl)
theorem dX4_begins_69 : decode cX4_begins 69 = .ok (.isub, 1) := dk_100 (dk_at dksX4_begins_2 22 rfl rfl)
theorem dX4_begins_70 : decode cX4_begins 70 = .ok (.iconst 1, 1) := dk_4 (dk_at dksX4_begins_2 23 rfl rfl)
theorem dX4_begins_71 : decode cX4_begins 71 = .ok (.isub, 1) := dk_100 (dk_at dksX4_begins_3 0 rfl rfl)
theorem dX4_begins_72 : decode cX4_begins 72 = .ok (.istore_n 1, 1) := dk_60 (dk_at dksX4_begins_3 1 rfl rfl)
theorem dX4_begins_73 : decode cX4_begins 73 = .ok (.aload_n 0, 1) := dk_42 (dk_at dksX4_begins_3 2 rfl rfl)
theorem dX4_begins_74 : decode cX4_begins 74 = .ok (.getfield 319, 3) := dk_180 1 63 (dk_at dksX4_begins_3 3 rfl rfl)
theorem dX4_begins_77 : decode cX4_begins 77 = .ok (.iconst 1, 1) := dk_4 (dk_at dksX4_begins_3 6 rfl rfl)
theorem dX4_begins_78 : decode cX4_begins 78 = .ok (.if_icmp .ne 11, 3) := dk_160 0 11 (dk_at dksX4_begins_3 7 rfl rfl)
theorem dX4_begins_81 : decode cX4_begins 81 = .ok (.iload_n 1, 1) := dk_27 (dk_at dksX4_begins_3 10 rfl rfl)
theorem dX4_begins_82 : decode cX4_begins 82 = .ok (.iconst 3, 1) := dk_6 (dk_at dksX4_begins_3 11 rfl rfl)
theorem dX4_begins_83 : decode cX4_begins 83 = .ok (.if_icmp .le 17, 3) := dk_164 0 17 (dk_at dksX4_begins_3 12 rfl rfl)
theorem dX4_begins_86 : decode cX4_begins 86 = .ok (.goto 8, 3) := dk_167 0 8 (dk_at dksX4_begins_3 15 rfl rfl)
theorem dX4_begins_89 : decode cX4_begins 89 = .ok (.iload_n 1, 1) := dk_27 (dk_at dksX4_begins_3 18 rfl rfl)
theorem dX4_begins_90 : decode cX4_begins 90 = .ok (.iconst 3, 1) := dk_6 (dk_at dksX4_begins_3 19 rfl rfl)
theorem dX4_begins_91 : decode cX4_begins 91 = .ok (.if_icmp .ge 9, 3) := dk_162 0 9 (dk_at dksX4_begins_3 20 rfl rfl)
theorem dX4_begins_94 : decode cX4_begins 94 = .ok (.aload_n 0, 1) := dk_42 (dk_at dksX4_begins_3 23 rfl rfl)
theorem dX4_begins_95 : decode cX4_begins 95 = .ok (.iconst 5, 1) := dk_8 (dk_at dksX4_begins_4 0 rfl rfl)
theorem dX4_begins_96 : decode cX4_begins 96 = .ok (.invokevirtual 284, 3) := dk_182 1 28 (dk_at dksX4_begins_4 1 rfl rfl)
theorem dX4_begins_99 : decode cX4_begins 99 = .ok (.return_, 1) := dk_177 (dk_at dksX4_begins_4 4 rfl rfl)
theorem dX4_begins_100 : decode cX4_begins 100 = .ok (.aload_n 0, 1) := dk_42 (dk_at dksX4_begins_4 5 rfl rfl)
theorem dX4_begins_101 : decode cX4_begins 101 = .ok (.sipush 401, 3) := dk_17 1 145 (dk_at dksX4_begins_4 6 rfl rfl)
theorem dX4_begins_104 : decode cX4_begins 104 = .ok (.iload_n 1, 1) := dk_27 (dk_at dksX4_begins_4 9 rfl rfl)
theorem dX4_begins_105 : decode cX4_begins 105 = .ok (.invokevirtual 300, 3) := dk_182 1 44 (dk_at dksX4_begins_4 10 rfl rfl)
theorem dX4_begins_108 : decode cX4_begins 108 = .ok (.aload_n 0, 1) := dk_42 (dk_at dksX4_begins_4 13 rfl rfl)
theorem dX4_begins_109 : decode cX4_begins 109 = .ok (.invokevirtual 290, 3) := dk_182 1 34 (dk_at dksX4_begins_4 14 rfl rfl)
theorem dX4_begins_112 : decode cX4_begins 112 = .ok (.aload_n 0, 1) := dk_42 (dk_at dksX4_begins_4 17 rfl rfl)
theorem dX4_begins_113 : decode cX4_begins 113 = .ok (.invokevirtual 316, 3) := dk_182 1 60 (dk_at dksX4_begins_4 18 rfl rfl)
theorem dX4_begins_116 : decode cX4_begins 116 = .ok (.goto 46, 3) := dk_167 0 46 (dk_at dksX4_begins_4 21 rfl rfl)
theorem dX4_begins_119 : decode cX4_begins 119 = .ok (.aload_n 0, 1) := dk_42 (dk_at dksX4_begins_5 0 rfl rfl)
theorem dX4_begins_120 : decode cX4_begins 120 = .ok (.bipush 40, 2) := dk_16 40 (dk_at dksX4_begins_5 1 rfl rfl)
theorem dX4_begins_122 : decode cX4_begins 122 = .ok (.invokevirtual 322, 3) := dk_182 1 66 (dk_at dksX4_begins_5 3 rfl rfl)
theorem dX4_begins_125 : decode cX4_begins 125 = .ok (.ifCond .eq 13, 3) := dk_153 0 13 (dk_at dksX4_begins_5 6 rfl rfl)
theorem dX4_begins_128 : decode cX4_begins 128 = .ok (.aload_n 0, 1) := dk_42 (dk_at dksX4_begins_5 9 rfl rfl)
theorem dX4_begins_129 : decode cX4_begins 129 = .ok (.bipush 6, 2) := dk_16 6 (dk_at dksX4_begins_5 10 rfl rfl)
theorem dX4_begins_131 : decode cX4_begins 131 = .ok (.invokevirtual 310, 3) := dk_182 1 54 (dk_at dksX4_begins_5 12 rfl rfl)
theorem dX4_begins_134 : decode cX4_begins 134 = .ok (.istore_n 1, 1) := dk_60 (dk_at dksX4_begins_5 15 rfl rfl)
theorem dX4_begins_135 : decode cX4_begins 135 = .ok (.goto 27, 3) := dk_167 0 27 (dk_at dksX4_begins_5 16 rfl rfl)
theorem dX4_begins_138 : decode cX4_begins 138 = .ok (.aload_n 0, 1) := dk_42 (dk_at dksX4_begins_5 19 rfl rfl)
theorem dX4_begins_139 : decode cX4_begins 139 = .ok (.bipush 45, 2) := dk_16 45 (dk_at dksX4_begins_5 20 rfl rfl)
theorem dX4_begins_141 : decode cX4_begins 141 = .ok (.invokevirtual 322, 3) := dk_182 1 66 (dk_at dksX4_begins_6 0 rfl rfl)
theorem dX4_begins_144 : decode cX4_begins 144 = .ok (.ifCond .eq 13, 3) := dk_153 0 13 (dk_at dksX4_begins_6 3 rfl rfl)
theorem dX4_begins_147 : decode cX4_begins 147 = .ok (.aload_n 0, 1) := dk_42 (dk_at dksX4_begins_6 6 rfl rfl)
theorem dX4_begins_148 : decode cX4_begins 148 = .ok (.bipush 7, 2) := dk_16 7 (dk_at dksX4_begins_6 7 rfl rfl)
theorem dX4_begins_150 : decode cX4_begins 150 = .ok (.invokevirtual 310, 3) := dk_182 1 54 (dk_at dksX4_begins_6 9 rfl rfl)
theorem dX4_begins_153 : decode cX4_begins 153 = .ok (.istore_n 1, 1) := dk_60 (dk_at dksX4_begins_6 12 rfl rfl)
theorem dX4_begins_154 : decode cX4_begins 154 = .ok (.goto 8, 3) := dk_167 0 8 (dk_at dksX4_begins_6 13 rfl rfl)
theorem dX4_begins_157 : decode cX4_begins 157 = .ok (.aload_n 0, 1) := dk_42 (dk_at dksX4_begins_6 16 rfl rfl)
theorem dX4_begins_158 : decode cX4_begins 158 = .ok (.iconst 1, 1) := dk_4 (dk_at dksX4_begins_6 17 rfl rfl)
theorem dX4_begins_159 : decode cX4_begins 159 = .ok (.invokevirtual 284, 3) := dk_182 1 28 (dk_at dksX4_begins_6 18 rfl rfl)
theorem dX4_begins_162 : decode cX4_begins 162 = .ok (.return_, 1) := dk_177 (dk_at dksX4_begins_6 21 rfl rfl)
abbrev cX4_emits : ByteArray := prog_23_method_13_code
def yX4_emits : MethodName := ⟨RX4, "emits", "(II)V"⟩
def dkwX4_emits_1 : List UInt8 := [180, 1, 19, 4, 96, 181, 1, 19, 177]
abbrev dktX4_emits_1 : List UInt8 := dkwX4_emits_1 ++ []
def dkwX4_emits_0 : List UInt8 := [42, 180, 0, 84, 42, 180, 1, 19, 27, 79, 42, 180, 0, 87, 42, 180, 1, 19, 28, 79, 42, 89]
abbrev dktX4_emits_0 : List UInt8 := dkwX4_emits_0 ++ dktX4_emits_1
theorem dksX4_emits_0 : cX4_emits.data.toList.drop 0 = dktX4_emits_0 := by decide +kernel
theorem dksX4_emits_1 : cX4_emits.data.toList.drop 22 = dktX4_emits_1 := dk_seg dksX4_emits_0 22 rfl rfl
theorem dX4_emits_0 : decode cX4_emits 0 = .ok (.aload_n 0, 1) := dk_42 (dk_at dksX4_emits_0 0 rfl rfl)
theorem dX4_emits_1 : decode cX4_emits 1 = .ok (.getfield 84, 3) := dk_180 0 84 (dk_at dksX4_emits_0 1 rfl rfl)
theorem dX4_emits_4 : decode cX4_emits 4 = .ok (.aload_n 0, 1) := dk_42 (dk_at dksX4_emits_0 4 rfl rfl)
theorem dX4_emits_5 : decode cX4_emits 5 = .ok (.getfield 275, 3) := dk_180 1 19 (dk_at dksX4_emits_0 5 rfl rfl)
theorem dX4_emits_8 : decode cX4_emits 8 = .ok (.iload_n 1, 1) := dk_27 (dk_at dksX4_emits_0 8 rfl rfl)
theorem dX4_emits_9 : decode cX4_emits 9 = .ok (.iastore, 1) := dk_79 (dk_at dksX4_emits_0 9 rfl rfl)
theorem dX4_emits_10 : decode cX4_emits 10 = .ok (.aload_n 0, 1) := dk_42 (dk_at dksX4_emits_0 10 rfl rfl)
theorem dX4_emits_11 : decode cX4_emits 11 = .ok (.getfield 87, 3) := dk_180 0 87 (dk_at dksX4_emits_0 11 rfl rfl)
theorem dX4_emits_14 : decode cX4_emits 14 = .ok (.aload_n 0, 1) := dk_42 (dk_at dksX4_emits_0 14 rfl rfl)
theorem dX4_emits_15 : decode cX4_emits 15 = .ok (.getfield 275, 3) := dk_180 1 19 (dk_at dksX4_emits_0 15 rfl rfl)
theorem dX4_emits_18 : decode cX4_emits 18 = .ok (.iload_n 2, 1) := dk_28 (dk_at dksX4_emits_0 18 rfl rfl)
theorem dX4_emits_19 : decode cX4_emits 19 = .ok (.iastore, 1) := dk_79 (dk_at dksX4_emits_0 19 rfl rfl)
theorem dX4_emits_20 : decode cX4_emits 20 = .ok (.aload_n 0, 1) := dk_42 (dk_at dksX4_emits_0 20 rfl rfl)
theorem dX4_emits_21 : decode cX4_emits 21 = .ok (.dup, 1) := dk_89 (dk_at dksX4_emits_0 21 rfl rfl)
theorem dX4_emits_22 : decode cX4_emits 22 = .ok (.getfield 275, 3) := dk_180 1 19 (dk_at dksX4_emits_1 0 rfl rfl)
theorem dX4_emits_25 : decode cX4_emits 25 = .ok (.iconst 1, 1) := dk_4 (dk_at dksX4_emits_1 3 rfl rfl)
theorem dX4_emits_26 : decode cX4_emits 26 = .ok (.iadd, 1) := dk_96 (dk_at dksX4_emits_1 4 rfl rfl)
theorem dX4_emits_27 : decode cX4_emits 27 = .ok (.putfield 275, 3) := dk_181 1 19 (dk_at dksX4_emits_1 5 rfl rfl)
theorem dX4_emits_30 : decode cX4_emits 30 = .ok (.return_, 1) := dk_177 (dk_at dksX4_emits_1 8 rfl rfl)
abbrev cX4_oneIsOver : ByteArray := prog_23_method_22_code
def yX4_oneIsOver : MethodName := ⟨RX4, "oneIsOver", "()V"⟩
def dkwX4_oneIsOver_1 : List UInt8 := [4, 100, 181, 1, 25, 42, 17, 1, 146, 3, 182, 1, 44, 167, 255, 219, 42, 5, 181, 1, 57, 177]
abbrev dktX4_oneIsOver_1 : List UInt8 := dkwX4_oneIsOver_1 ++ []
def dkwX4_oneIsOver_0 : List UInt8 := [42, 182, 1, 69, 16, 7, 160, 0, 34, 42, 89, 180, 1, 22, 4, 100, 181, 1, 22, 42, 89, 180, 1, 25]
abbrev dktX4_oneIsOver_0 : List UInt8 := dkwX4_oneIsOver_0 ++ dktX4_oneIsOver_1
theorem dksX4_oneIsOver_0 : cX4_oneIsOver.data.toList.drop 0 = dktX4_oneIsOver_0 := by decide +kernel
theorem dksX4_oneIsOver_1 : cX4_oneIsOver.data.toList.drop 24 = dktX4_oneIsOver_1 := dk_seg dksX4_oneIsOver_0 24 rfl rfl
theorem dX4_oneIsOver_0 : decode cX4_oneIsOver 0 = .ok (.aload_n 0, 1) := dk_42 (dk_at dksX4_oneIsOver_0 0 rfl rfl)
theorem dX4_oneIsOver_1 : decode cX4_oneIsOver 1 = .ok (.invokevirtual 325, 3) := dk_182 1 69 (dk_at dksX4_oneIsOver_0 1 rfl rfl)
theorem dX4_oneIsOver_4 : decode cX4_oneIsOver 4 = .ok (.bipush 7, 2) := dk_16 7 (dk_at dksX4_oneIsOver_0 4 rfl rfl)
theorem dX4_oneIsOver_6 : decode cX4_oneIsOver 6 = .ok (.if_icmp .ne 34, 3) := dk_160 0 34 (dk_at dksX4_oneIsOver_0 6 rfl rfl)
theorem dX4_oneIsOver_9 : decode cX4_oneIsOver 9 = .ok (.aload_n 0, 1) := dk_42 (dk_at dksX4_oneIsOver_0 9 rfl rfl)
theorem dX4_oneIsOver_10 : decode cX4_oneIsOver 10 = .ok (.dup, 1) := dk_89 (dk_at dksX4_oneIsOver_0 10 rfl rfl)
theorem dX4_oneIsOver_11 : decode cX4_oneIsOver 11 = .ok (.getfield 278, 3) := dk_180 1 22 (dk_at dksX4_oneIsOver_0 11 rfl rfl)
theorem dX4_oneIsOver_14 : decode cX4_oneIsOver 14 = .ok (.iconst 1, 1) := dk_4 (dk_at dksX4_oneIsOver_0 14 rfl rfl)
theorem dX4_oneIsOver_15 : decode cX4_oneIsOver 15 = .ok (.isub, 1) := dk_100 (dk_at dksX4_oneIsOver_0 15 rfl rfl)
theorem dX4_oneIsOver_16 : decode cX4_oneIsOver 16 = .ok (.putfield 278, 3) := dk_181 1 22 (dk_at dksX4_oneIsOver_0 16 rfl rfl)
theorem dX4_oneIsOver_19 : decode cX4_oneIsOver 19 = .ok (.aload_n 0, 1) := dk_42 (dk_at dksX4_oneIsOver_0 19 rfl rfl)
theorem dX4_oneIsOver_20 : decode cX4_oneIsOver 20 = .ok (.dup, 1) := dk_89 (dk_at dksX4_oneIsOver_0 20 rfl rfl)
theorem dX4_oneIsOver_21 : decode cX4_oneIsOver 21 = .ok (.getfield 281, 3) := dk_180 1 25 (dk_at dksX4_oneIsOver_0 21 rfl rfl)
theorem dX4_oneIsOver_24 : decode cX4_oneIsOver 24 = .ok (.iconst 1, 1) := dk_4 (dk_at dksX4_oneIsOver_1 0 rfl rfl)
theorem dX4_oneIsOver_25 : decode cX4_oneIsOver 25 = .ok (.isub, 1) := dk_100 (dk_at dksX4_oneIsOver_1 1 rfl rfl)
theorem dX4_oneIsOver_26 : decode cX4_oneIsOver 26 = .ok (.putfield 281, 3) := dk_181 1 25 (dk_at dksX4_oneIsOver_1 2 rfl rfl)
theorem dX4_oneIsOver_29 : decode cX4_oneIsOver 29 = .ok (.aload_n 0, 1) := dk_42 (dk_at dksX4_oneIsOver_1 5 rfl rfl)
theorem dX4_oneIsOver_30 : decode cX4_oneIsOver 30 = .ok (.sipush 402, 3) := dk_17 1 146 (dk_at dksX4_oneIsOver_1 6 rfl rfl)
theorem dX4_oneIsOver_33 : decode cX4_oneIsOver 33 = .ok (.iconst 0, 1) := dk_3 (dk_at dksX4_oneIsOver_1 9 rfl rfl)
theorem dX4_oneIsOver_34 : decode cX4_oneIsOver 34 = .ok (.invokevirtual 300, 3) := dk_182 1 44 (dk_at dksX4_oneIsOver_1 10 rfl rfl)
theorem dX4_oneIsOver_37 : decode cX4_oneIsOver 37 = .ok (.goto (-37), 3) := dk_167 255 219 (dk_at dksX4_oneIsOver_1 13 rfl rfl)
theorem dX4_oneIsOver_40 : decode cX4_oneIsOver 40 = .ok (.aload_n 0, 1) := dk_42 (dk_at dksX4_oneIsOver_1 16 rfl rfl)
theorem dX4_oneIsOver_41 : decode cX4_oneIsOver 41 = .ok (.iconst 2, 1) := dk_5 (dk_at dksX4_oneIsOver_1 17 rfl rfl)
theorem dX4_oneIsOver_42 : decode cX4_oneIsOver 42 = .ok (.putfield 313, 3) := dk_181 1 57 (dk_at dksX4_oneIsOver_1 18 rfl rfl)
theorem dX4_oneIsOver_45 : decode cX4_oneIsOver 45 = .ok (.return_, 1) := dk_177 (dk_at dksX4_oneIsOver_1 21 rfl rfl)
abbrev cX4_top : ByteArray := prog_23_method_15_code
def yX4_top : MethodName := ⟨RX4, "top", "()I"⟩
def dkwX4_top_0 : List UInt8 := [42, 180, 0, 63, 42, 180, 1, 22, 4, 100, 46, 172]
abbrev dktX4_top_0 : List UInt8 := dkwX4_top_0 ++ []
theorem dksX4_top_0 : cX4_top.data.toList.drop 0 = dktX4_top_0 := by decide +kernel
theorem dX4_top_0 : decode cX4_top 0 = .ok (.aload_n 0, 1) := dk_42 (dk_at dksX4_top_0 0 rfl rfl)
theorem dX4_top_1 : decode cX4_top 1 = .ok (.getfield 63, 3) := dk_180 0 63 (dk_at dksX4_top_0 1 rfl rfl)
theorem dX4_top_4 : decode cX4_top 4 = .ok (.aload_n 0, 1) := dk_42 (dk_at dksX4_top_0 4 rfl rfl)
theorem dX4_top_5 : decode cX4_top 5 = .ok (.getfield 278, 3) := dk_180 1 22 (dk_at dksX4_top_0 5 rfl rfl)
theorem dX4_top_8 : decode cX4_top 8 = .ok (.iconst 1, 1) := dk_4 (dk_at dksX4_top_0 8 rfl rfl)
theorem dX4_top_9 : decode cX4_top 9 = .ok (.isub, 1) := dk_100 (dk_at dksX4_top_0 9 rfl rfl)
theorem dX4_top_10 : decode cX4_top 10 = .ok (.iaload, 1) := dk_46 (dk_at dksX4_top_0 10 rfl rfl)
theorem dX4_top_11 : decode cX4_top 11 = .ok (.ireturn, 1) := dk_172 (dk_at dksX4_top_0 11 rfl rfl)
abbrev cX4_isSign : ByteArray := prog_23_method_10_code
def yX4_isSign : MethodName := ⟨RX4, "isSign", "(I)Z"⟩
def dkwX4_isSign_0 : List UInt8 := [42, 180, 0, 252, 6, 160, 0, 15, 42, 180, 1, 9, 27, 160, 0, 7, 4, 167, 0, 4, 3, 172]
abbrev dktX4_isSign_0 : List UInt8 := dkwX4_isSign_0 ++ []
theorem dksX4_isSign_0 : cX4_isSign.data.toList.drop 0 = dktX4_isSign_0 := by decide +kernel
theorem dX4_isSign_0 : decode cX4_isSign 0 = .ok (.aload_n 0, 1) := dk_42 (dk_at dksX4_isSign_0 0 rfl rfl)
theorem dX4_isSign_1 : decode cX4_isSign 1 = .ok (.getfield 252, 3) := dk_180 0 252 (dk_at dksX4_isSign_0 1 rfl rfl)
theorem dX4_isSign_4 : decode cX4_isSign 4 = .ok (.iconst 3, 1) := dk_6 (dk_at dksX4_isSign_0 4 rfl rfl)
theorem dX4_isSign_5 : decode cX4_isSign 5 = .ok (.if_icmp .ne 15, 3) := dk_160 0 15 (dk_at dksX4_isSign_0 5 rfl rfl)
theorem dX4_isSign_8 : decode cX4_isSign 8 = .ok (.aload_n 0, 1) := dk_42 (dk_at dksX4_isSign_0 8 rfl rfl)
theorem dX4_isSign_9 : decode cX4_isSign 9 = .ok (.getfield 265, 3) := dk_180 1 9 (dk_at dksX4_isSign_0 9 rfl rfl)
theorem dX4_isSign_12 : decode cX4_isSign 12 = .ok (.iload_n 1, 1) := dk_27 (dk_at dksX4_isSign_0 12 rfl rfl)
theorem dX4_isSign_13 : decode cX4_isSign 13 = .ok (.if_icmp .ne 7, 3) := dk_160 0 7 (dk_at dksX4_isSign_0 13 rfl rfl)
theorem dX4_isSign_16 : decode cX4_isSign 16 = .ok (.iconst 1, 1) := dk_4 (dk_at dksX4_isSign_0 16 rfl rfl)
theorem dX4_isSign_17 : decode cX4_isSign 17 = .ok (.goto 4, 3) := dk_167 0 4 (dk_at dksX4_isSign_0 17 rfl rfl)
theorem dX4_isSign_20 : decode cX4_isSign 20 = .ok (.iconst 0, 1) := dk_3 (dk_at dksX4_isSign_0 20 rfl rfl)
theorem dX4_isSign_21 : decode cX4_isSign 21 = .ok (.ireturn, 1) := dk_172 (dk_at dksX4_isSign_0 21 rfl rfl)
abbrev cX4_goesOn : ByteArray := prog_23_method_25_code
def yX4_goesOn : MethodName := ⟨RX4, "goesOn", "()V"⟩
def dkwX4_goesOn_10 : List UInt8 := [182, 1, 66, 153, 0, 10, 42, 182, 1, 82, 167, 0, 8, 42, 4, 182, 1, 28, 177]
abbrev dktX4_goesOn_10 : List UInt8 := dkwX4_goesOn_10 ++ []
def dkwX4_goesOn_9 : List UInt8 := [181, 1, 22, 42, 28, 3, 182, 1, 44, 42, 182, 1, 79, 167, 0, 29, 27, 4, 160, 0, 19, 42, 16, 59]
abbrev dktX4_goesOn_9 : List UInt8 := dkwX4_goesOn_9 ++ dktX4_goesOn_10
def dkwX4_goesOn_8 : List UInt8 := [42, 6, 182, 1, 48, 42, 180, 0, 66, 42, 180, 1, 22, 46, 61, 42, 89, 180, 1, 22, 4, 100]
abbrev dktX4_goesOn_8 : List UInt8 := dkwX4_goesOn_8 ++ dktX4_goesOn_9
def dkwX4_goesOn_7 : List UInt8 := [180, 1, 22, 4, 100, 8, 79, 42, 182, 1, 34, 42, 4, 181, 1, 57, 167, 0, 72, 27, 8, 160, 0, 41]
abbrev dktX4_goesOn_7 : List UInt8 := dkwX4_goesOn_7 ++ dktX4_goesOn_8
def dkwX4_goesOn_6 : List UInt8 := [6, 182, 1, 48, 42, 180, 0, 66, 42, 180, 1, 22, 42, 180, 1, 9, 79, 42, 180, 0, 63, 42]
abbrev dktX4_goesOn_6 : List UInt8 := dkwX4_goesOn_6 ++ dktX4_goesOn_7
def dkwX4_goesOn_5 : List UInt8 := [27, 7, 160, 0, 63, 42, 180, 0, 252, 6, 160, 0, 55, 42, 180, 1, 9, 184, 1, 76, 153, 0, 45, 42]
abbrev dktX4_goesOn_5 : List UInt8 := dkwX4_goesOn_5 ++ dktX4_goesOn_6
def dkwX4_goesOn_4 : List UInt8 := [181, 1, 22, 42, 89, 180, 1, 25, 4, 100, 181, 1, 25, 42, 182, 1, 34, 42, 182, 1, 60, 167, 0, 137]
abbrev dktX4_goesOn_4 : List UInt8 := dkwX4_goesOn_4 ++ dktX4_goesOn_5
def dkwX4_goesOn_3 : List UInt8 := [160, 0, 48, 42, 16, 41, 182, 1, 66, 153, 0, 39, 42, 6, 182, 1, 48, 42, 89, 180, 1, 22, 4, 100]
abbrev dktX4_goesOn_3 : List UInt8 := dkwX4_goesOn_3 ++ dktX4_goesOn_4
def dkwX4_goesOn_2 : List UInt8 := [160, 0, 19, 42, 42, 180, 1, 9, 182, 1, 73, 42, 4, 181, 1, 57, 167, 0, 188, 27, 16, 6]
abbrev dktX4_goesOn_2 : List UInt8 := dkwX4_goesOn_2 ++ dktX4_goesOn_3
def dkwX4_goesOn_1 : List UInt8 := [180, 1, 9, 16, 45, 159, 0, 21, 42, 180, 1, 9, 16, 42, 159, 0, 12, 42, 180, 1, 9, 16, 47]
abbrev dktX4_goesOn_1 : List UInt8 := dkwX4_goesOn_1 ++ dktX4_goesOn_2
def dkwX4_goesOn_0 : List UInt8 := [42, 182, 1, 69, 60, 42, 180, 0, 252, 6, 160, 0, 55, 42, 180, 1, 9, 16, 43, 159, 0, 30, 42]
abbrev dktX4_goesOn_0 : List UInt8 := dkwX4_goesOn_0 ++ dktX4_goesOn_1
theorem dksX4_goesOn_0 : cX4_goesOn.data.toList.drop 0 = dktX4_goesOn_0 := by decide +kernel
theorem dksX4_goesOn_1 : cX4_goesOn.data.toList.drop 23 = dktX4_goesOn_1 := dk_seg dksX4_goesOn_0 23 rfl rfl
theorem dksX4_goesOn_2 : cX4_goesOn.data.toList.drop 46 = dktX4_goesOn_2 := dk_seg dksX4_goesOn_1 23 rfl rfl
theorem dksX4_goesOn_3 : cX4_goesOn.data.toList.drop 68 = dktX4_goesOn_3 := dk_seg dksX4_goesOn_2 22 rfl rfl
theorem dksX4_goesOn_4 : cX4_goesOn.data.toList.drop 92 = dktX4_goesOn_4 := dk_seg dksX4_goesOn_3 24 rfl rfl
theorem dksX4_goesOn_5 : cX4_goesOn.data.toList.drop 116 = dktX4_goesOn_5 := dk_seg dksX4_goesOn_4 24 rfl rfl
theorem dksX4_goesOn_6 : cX4_goesOn.data.toList.drop 140 = dktX4_goesOn_6 := dk_seg dksX4_goesOn_5 24 rfl rfl
theorem dksX4_goesOn_7 : cX4_goesOn.data.toList.drop 162 = dktX4_goesOn_7 := dk_seg dksX4_goesOn_6 22 rfl rfl
theorem dksX4_goesOn_8 : cX4_goesOn.data.toList.drop 186 = dktX4_goesOn_8 := dk_seg dksX4_goesOn_7 24 rfl rfl
theorem dksX4_goesOn_9 : cX4_goesOn.data.toList.drop 208 = dktX4_goesOn_9 := dk_seg dksX4_goesOn_8 22 rfl rfl
theorem dksX4_goesOn_10 : cX4_goesOn.data.toList.drop 232 = dktX4_goesOn_10 := dk_seg dksX4_goesOn_9 24 rfl rfl
theorem dX4_goesOn_0 : decode cX4_goesOn 0 = .ok (.aload_n 0, 1) := dk_42 (dk_at dksX4_goesOn_0 0 rfl rfl)
theorem dX4_goesOn_1 : decode cX4_goesOn 1 = .ok (.invokevirtual 325, 3) := dk_182 1 69 (dk_at dksX4_goesOn_0 1 rfl rfl)
theorem dX4_goesOn_4 : decode cX4_goesOn 4 = .ok (.istore_n 1, 1) := dk_60 (dk_at dksX4_goesOn_0 4 rfl rfl)
theorem dX4_goesOn_5 : decode cX4_goesOn 5 = .ok (.aload_n 0, 1) := dk_42 (dk_at dksX4_goesOn_0 5 rfl rfl)
theorem dX4_goesOn_6 : decode cX4_goesOn 6 = .ok (.getfield 252, 3) := dk_180 0 252 (dk_at dksX4_goesOn_0 6 rfl rfl)
theorem dX4_goesOn_9 : decode cX4_goesOn 9 = .ok (.iconst 3, 1) := dk_6 (dk_at dksX4_goesOn_0 9 rfl rfl)
theorem dX4_goesOn_10 : decode cX4_goesOn 10 = .ok (.if_icmp .ne 55, 3) := dk_160 0 55 (dk_at dksX4_goesOn_0 10 rfl rfl)
theorem dX4_goesOn_13 : decode cX4_goesOn 13 = .ok (.aload_n 0, 1) := dk_42 (dk_at dksX4_goesOn_0 13 rfl rfl)
theorem dX4_goesOn_14 : decode cX4_goesOn 14 = .ok (.getfield 265, 3) := dk_180 1 9 (dk_at dksX4_goesOn_0 14 rfl rfl)
theorem dX4_goesOn_17 : decode cX4_goesOn 17 = .ok (.bipush 43, 2) := dk_16 43 (dk_at dksX4_goesOn_0 17 rfl rfl)
theorem dX4_goesOn_19 : decode cX4_goesOn 19 = .ok (.if_icmp .eq 30, 3) := dk_159 0 30 (dk_at dksX4_goesOn_0 19 rfl rfl)
theorem dX4_goesOn_22 : decode cX4_goesOn 22 = .ok (.aload_n 0, 1) := dk_42 (dk_at dksX4_goesOn_0 22 rfl rfl)
theorem dX4_goesOn_23 : decode cX4_goesOn 23 = .ok (.getfield 265, 3) := dk_180 1 9 (dk_at dksX4_goesOn_1 0 rfl rfl)
theorem dX4_goesOn_26 : decode cX4_goesOn 26 = .ok (.bipush 45, 2) := dk_16 45 (dk_at dksX4_goesOn_1 3 rfl rfl)
theorem dX4_goesOn_28 : decode cX4_goesOn 28 = .ok (.if_icmp .eq 21, 3) := dk_159 0 21 (dk_at dksX4_goesOn_1 5 rfl rfl)
theorem dX4_goesOn_31 : decode cX4_goesOn 31 = .ok (.aload_n 0, 1) := dk_42 (dk_at dksX4_goesOn_1 8 rfl rfl)
theorem dX4_goesOn_32 : decode cX4_goesOn 32 = .ok (.getfield 265, 3) := dk_180 1 9 (dk_at dksX4_goesOn_1 9 rfl rfl)
theorem dX4_goesOn_35 : decode cX4_goesOn 35 = .ok (.bipush 42, 2) := dk_16 42 (dk_at dksX4_goesOn_1 12 rfl rfl)
theorem dX4_goesOn_37 : decode cX4_goesOn 37 = .ok (.if_icmp .eq 12, 3) := dk_159 0 12 (dk_at dksX4_goesOn_1 14 rfl rfl)
theorem dX4_goesOn_40 : decode cX4_goesOn 40 = .ok (.aload_n 0, 1) := dk_42 (dk_at dksX4_goesOn_1 17 rfl rfl)
theorem dX4_goesOn_41 : decode cX4_goesOn 41 = .ok (.getfield 265, 3) := dk_180 1 9 (dk_at dksX4_goesOn_1 18 rfl rfl)
theorem dX4_goesOn_44 : decode cX4_goesOn 44 = .ok (.bipush 47, 2) := dk_16 47 (dk_at dksX4_goesOn_1 21 rfl rfl)
theorem dX4_goesOn_46 : decode cX4_goesOn 46 = .ok (.if_icmp .ne 19, 3) := dk_160 0 19 (dk_at dksX4_goesOn_2 0 rfl rfl)
theorem dX4_goesOn_49 : decode cX4_goesOn 49 = .ok (.aload_n 0, 1) := dk_42 (dk_at dksX4_goesOn_2 3 rfl rfl)
theorem dX4_goesOn_50 : decode cX4_goesOn 50 = .ok (.aload_n 0, 1) := dk_42 (dk_at dksX4_goesOn_2 4 rfl rfl)
theorem dX4_goesOn_51 : decode cX4_goesOn 51 = .ok (.getfield 265, 3) := dk_180 1 9 (dk_at dksX4_goesOn_2 5 rfl rfl)
theorem dX4_goesOn_54 : decode cX4_goesOn 54 = .ok (.invokevirtual 329, 3) := dk_182 1 73 (dk_at dksX4_goesOn_2 8 rfl rfl)
theorem dX4_goesOn_57 : decode cX4_goesOn 57 = .ok (.aload_n 0, 1) := dk_42 (dk_at dksX4_goesOn_2 11 rfl rfl)
theorem dX4_goesOn_58 : decode cX4_goesOn 58 = .ok (.iconst 1, 1) := dk_4 (dk_at dksX4_goesOn_2 12 rfl rfl)
theorem dX4_goesOn_59 : decode cX4_goesOn 59 = .ok (.putfield 313, 3) := dk_181 1 57 (dk_at dksX4_goesOn_2 13 rfl rfl)
theorem dX4_goesOn_62 : decode cX4_goesOn 62 = .ok (.goto 188, 3) := dk_167 0 188 (dk_at dksX4_goesOn_2 16 rfl rfl)
theorem dX4_goesOn_65 : decode cX4_goesOn 65 = .ok (.iload_n 1, 1) := dk_27 (dk_at dksX4_goesOn_2 19 rfl rfl)
theorem dX4_goesOn_66 : decode cX4_goesOn 66 = .ok (.bipush 6, 2) := dk_16 6 (dk_at dksX4_goesOn_2 20 rfl rfl)
theorem dX4_goesOn_68 : decode cX4_goesOn 68 = .ok (.if_icmp .ne 48, 3) := dk_160 0 48 (dk_at dksX4_goesOn_3 0 rfl rfl)
theorem dX4_goesOn_71 : decode cX4_goesOn 71 = .ok (.aload_n 0, 1) := dk_42 (dk_at dksX4_goesOn_3 3 rfl rfl)
theorem dX4_goesOn_72 : decode cX4_goesOn 72 = .ok (.bipush 41, 2) := dk_16 41 (dk_at dksX4_goesOn_3 4 rfl rfl)
theorem dX4_goesOn_74 : decode cX4_goesOn 74 = .ok (.invokevirtual 322, 3) := dk_182 1 66 (dk_at dksX4_goesOn_3 6 rfl rfl)
theorem dX4_goesOn_77 : decode cX4_goesOn 77 = .ok (.ifCond .eq 39, 3) := dk_153 0 39 (dk_at dksX4_goesOn_3 9 rfl rfl)
theorem dX4_goesOn_80 : decode cX4_goesOn 80 = .ok (.aload_n 0, 1) := dk_42 (dk_at dksX4_goesOn_3 12 rfl rfl)
theorem dX4_goesOn_81 : decode cX4_goesOn 81 = .ok (.iconst 3, 1) := dk_6 (dk_at dksX4_goesOn_3 13 rfl rfl)
theorem dX4_goesOn_82 : decode cX4_goesOn 82 = .ok (.invokevirtual 304, 3) := dk_182 1 48 (dk_at dksX4_goesOn_3 14 rfl rfl)
theorem dX4_goesOn_85 : decode cX4_goesOn 85 = .ok (.aload_n 0, 1) := dk_42 (dk_at dksX4_goesOn_3 17 rfl rfl)
theorem dX4_goesOn_86 : decode cX4_goesOn 86 = .ok (.dup, 1) := dk_89 (dk_at dksX4_goesOn_3 18 rfl rfl)
theorem dX4_goesOn_87 : decode cX4_goesOn 87 = .ok (.getfield 278, 3) := dk_180 1 22 (dk_at dksX4_goesOn_3 19 rfl rfl)
theorem dX4_goesOn_90 : decode cX4_goesOn 90 = .ok (.iconst 1, 1) := dk_4 (dk_at dksX4_goesOn_3 22 rfl rfl)
theorem dX4_goesOn_91 : decode cX4_goesOn 91 = .ok (.isub, 1) := dk_100 (dk_at dksX4_goesOn_3 23 rfl rfl)
theorem dX4_goesOn_92 : decode cX4_goesOn 92 = .ok (.putfield 278, 3) := dk_181 1 22 (dk_at dksX4_goesOn_4 0 rfl rfl)
theorem dX4_goesOn_95 : decode cX4_goesOn 95 = .ok (.aload_n 0, 1) := dk_42 (dk_at dksX4_goesOn_4 3 rfl rfl)
theorem dX4_goesOn_96 : decode cX4_goesOn 96 = .ok (.dup, 1) := dk_89 (dk_at dksX4_goesOn_4 4 rfl rfl)
theorem dX4_goesOn_97 : decode cX4_goesOn 97 = .ok (.getfield 281, 3) := dk_180 1 25 (dk_at dksX4_goesOn_4 5 rfl rfl)
theorem dX4_goesOn_100 : decode cX4_goesOn 100 = .ok (.iconst 1, 1) := dk_4 (dk_at dksX4_goesOn_4 8 rfl rfl)
theorem dX4_goesOn_101 : decode cX4_goesOn 101 = .ok (.isub, 1) := dk_100 (dk_at dksX4_goesOn_4 9 rfl rfl)
theorem dX4_goesOn_102 : decode cX4_goesOn 102 = .ok (.putfield 281, 3) := dk_181 1 25 (dk_at dksX4_goesOn_4 10 rfl rfl)
theorem dX4_goesOn_105 : decode cX4_goesOn 105 = .ok (.aload_n 0, 1) := dk_42 (dk_at dksX4_goesOn_4 13 rfl rfl)
theorem dX4_goesOn_106 : decode cX4_goesOn 106 = .ok (.invokevirtual 290, 3) := dk_182 1 34 (dk_at dksX4_goesOn_4 14 rfl rfl)
theorem dX4_goesOn_109 : decode cX4_goesOn 109 = .ok (.aload_n 0, 1) := dk_42 (dk_at dksX4_goesOn_4 17 rfl rfl)
theorem dX4_goesOn_110 : decode cX4_goesOn 110 = .ok (.invokevirtual 316, 3) := dk_182 1 60 (dk_at dksX4_goesOn_4 18 rfl rfl)
theorem dX4_goesOn_113 : decode cX4_goesOn 113 = .ok (.goto 137, 3) := dk_167 0 137 (dk_at dksX4_goesOn_4 21 rfl rfl)
theorem dX4_goesOn_116 : decode cX4_goesOn 116 = .ok (.iload_n 1, 1) := dk_27 (dk_at dksX4_goesOn_5 0 rfl rfl)
theorem dX4_goesOn_117 : decode cX4_goesOn 117 = .ok (.iconst 4, 1) := dk_7 (dk_at dksX4_goesOn_5 1 rfl rfl)
theorem dX4_goesOn_118 : decode cX4_goesOn 118 = .ok (.if_icmp .ne 63, 3) := dk_160 0 63 (dk_at dksX4_goesOn_5 2 rfl rfl)
theorem dX4_goesOn_121 : decode cX4_goesOn 121 = .ok (.aload_n 0, 1) := dk_42 (dk_at dksX4_goesOn_5 5 rfl rfl)
theorem dX4_goesOn_122 : decode cX4_goesOn 122 = .ok (.getfield 252, 3) := dk_180 0 252 (dk_at dksX4_goesOn_5 6 rfl rfl)
theorem dX4_goesOn_125 : decode cX4_goesOn 125 = .ok (.iconst 3, 1) := dk_6 (dk_at dksX4_goesOn_5 9 rfl rfl)
theorem dX4_goesOn_126 : decode cX4_goesOn 126 = .ok (.if_icmp .ne 55, 3) := dk_160 0 55 (dk_at dksX4_goesOn_5 10 rfl rfl)
theorem dX4_goesOn_129 : decode cX4_goesOn 129 = .ok (.aload_n 0, 1) := dk_42 (dk_at dksX4_goesOn_5 13 rfl rfl)
theorem dX4_goesOn_130 : decode cX4_goesOn 130 = .ok (.getfield 265, 3) := dk_180 1 9 (dk_at dksX4_goesOn_5 14 rfl rfl)
theorem dX4_goesOn_133 : decode cX4_goesOn 133 = .ok (.invokestatic 332, 3) := dk_184 1 76 (dk_at dksX4_goesOn_5 17 rfl rfl)
theorem dX4_goesOn_136 : decode cX4_goesOn 136 = .ok (.ifCond .eq 45, 3) := dk_153 0 45 (dk_at dksX4_goesOn_5 20 rfl rfl)
theorem dX4_goesOn_139 : decode cX4_goesOn 139 = .ok (.aload_n 0, 1) := dk_42 (dk_at dksX4_goesOn_5 23 rfl rfl)
theorem dX4_goesOn_140 : decode cX4_goesOn 140 = .ok (.iconst 3, 1) := dk_6 (dk_at dksX4_goesOn_6 0 rfl rfl)
theorem dX4_goesOn_141 : decode cX4_goesOn 141 = .ok (.invokevirtual 304, 3) := dk_182 1 48 (dk_at dksX4_goesOn_6 1 rfl rfl)
theorem dX4_goesOn_144 : decode cX4_goesOn 144 = .ok (.aload_n 0, 1) := dk_42 (dk_at dksX4_goesOn_6 4 rfl rfl)
theorem dX4_goesOn_145 : decode cX4_goesOn 145 = .ok (.getfield 66, 3) := dk_180 0 66 (dk_at dksX4_goesOn_6 5 rfl rfl)
theorem dX4_goesOn_148 : decode cX4_goesOn 148 = .ok (.aload_n 0, 1) := dk_42 (dk_at dksX4_goesOn_6 8 rfl rfl)
theorem dX4_goesOn_149 : decode cX4_goesOn 149 = .ok (.getfield 278, 3) := dk_180 1 22 (dk_at dksX4_goesOn_6 9 rfl rfl)
theorem dX4_goesOn_152 : decode cX4_goesOn 152 = .ok (.aload_n 0, 1) := dk_42 (dk_at dksX4_goesOn_6 12 rfl rfl)
theorem dX4_goesOn_153 : decode cX4_goesOn 153 = .ok (.getfield 265, 3) := dk_180 1 9 (dk_at dksX4_goesOn_6 13 rfl rfl)
theorem dX4_goesOn_156 : decode cX4_goesOn 156 = .ok (.iastore, 1) := dk_79 (dk_at dksX4_goesOn_6 16 rfl rfl)
theorem dX4_goesOn_157 : decode cX4_goesOn 157 = .ok (.aload_n 0, 1) := dk_42 (dk_at dksX4_goesOn_6 17 rfl rfl)
theorem dX4_goesOn_158 : decode cX4_goesOn 158 = .ok (.getfield 63, 3) := dk_180 0 63 (dk_at dksX4_goesOn_6 18 rfl rfl)
theorem dX4_goesOn_161 : decode cX4_goesOn 161 = .ok (.aload_n 0, 1) := dk_42 (dk_at dksX4_goesOn_6 21 rfl rfl)
theorem dX4_goesOn_162 : decode cX4_goesOn 162 = .ok (.getfield 278, 3) := dk_180 1 22 (dk_at dksX4_goesOn_7 0 rfl rfl)
theorem dX4_goesOn_165 : decode cX4_goesOn 165 = .ok (.iconst 1, 1) := dk_4 (dk_at dksX4_goesOn_7 3 rfl rfl)
theorem dX4_goesOn_166 : decode cX4_goesOn 166 = .ok (.isub, 1) := dk_100 (dk_at dksX4_goesOn_7 4 rfl rfl)
theorem dX4_goesOn_167 : decode cX4_goesOn 167 = .ok (.iconst 5, 1) := dk_8 (dk_at dksX4_goesOn_7 5 rfl rfl)
theorem dX4_goesOn_168 : decode cX4_goesOn 168 = .ok (.iastore, 1) := dk_79 (dk_at dksX4_goesOn_7 6 rfl rfl)
theorem dX4_goesOn_169 : decode cX4_goesOn 169 = .ok (.aload_n 0, 1) := dk_42 (dk_at dksX4_goesOn_7 7 rfl rfl)
theorem dX4_goesOn_170 : decode cX4_goesOn 170 = .ok (.invokevirtual 290, 3) := dk_182 1 34 (dk_at dksX4_goesOn_7 8 rfl rfl)
theorem dX4_goesOn_173 : decode cX4_goesOn 173 = .ok (.aload_n 0, 1) := dk_42 (dk_at dksX4_goesOn_7 11 rfl rfl)
theorem dX4_goesOn_174 : decode cX4_goesOn 174 = .ok (.iconst 1, 1) := dk_4 (dk_at dksX4_goesOn_7 12 rfl rfl)
theorem dX4_goesOn_175 : decode cX4_goesOn 175 = .ok (.putfield 313, 3) := dk_181 1 57 (dk_at dksX4_goesOn_7 13 rfl rfl)
theorem dX4_goesOn_178 : decode cX4_goesOn 178 = .ok (.goto 72, 3) := dk_167 0 72 (dk_at dksX4_goesOn_7 16 rfl rfl)
theorem dX4_goesOn_181 : decode cX4_goesOn 181 = .ok (.iload_n 1, 1) := dk_27 (dk_at dksX4_goesOn_7 19 rfl rfl)
theorem dX4_goesOn_182 : decode cX4_goesOn 182 = .ok (.iconst 5, 1) := dk_8 (dk_at dksX4_goesOn_7 20 rfl rfl)
theorem dX4_goesOn_183 : decode cX4_goesOn 183 = .ok (.if_icmp .ne 41, 3) := dk_160 0 41 (dk_at dksX4_goesOn_7 21 rfl rfl)
theorem dX4_goesOn_186 : decode cX4_goesOn 186 = .ok (.aload_n 0, 1) := dk_42 (dk_at dksX4_goesOn_8 0 rfl rfl)
theorem dX4_goesOn_187 : decode cX4_goesOn 187 = .ok (.iconst 3, 1) := dk_6 (dk_at dksX4_goesOn_8 1 rfl rfl)
theorem dX4_goesOn_188 : decode cX4_goesOn 188 = .ok (.invokevirtual 304, 3) := dk_182 1 48 (dk_at dksX4_goesOn_8 2 rfl rfl)
theorem dX4_goesOn_191 : decode cX4_goesOn 191 = .ok (.aload_n 0, 1) := dk_42 (dk_at dksX4_goesOn_8 5 rfl rfl)
theorem dX4_goesOn_192 : decode cX4_goesOn 192 = .ok (.getfield 66, 3) := dk_180 0 66 (dk_at dksX4_goesOn_8 6 rfl rfl)
theorem dX4_goesOn_195 : decode cX4_goesOn 195 = .ok (.aload_n 0, 1) := dk_42 (dk_at dksX4_goesOn_8 9 rfl rfl)
theorem dX4_goesOn_196 : decode cX4_goesOn 196 = .ok (.getfield 278, 3) := dk_180 1 22 (dk_at dksX4_goesOn_8 10 rfl rfl)
theorem dX4_goesOn_199 : decode cX4_goesOn 199 = .ok (.iaload, 1) := dk_46 (dk_at dksX4_goesOn_8 13 rfl rfl)
theorem dX4_goesOn_200 : decode cX4_goesOn 200 = .ok (.istore_n 2, 1) := dk_61 (dk_at dksX4_goesOn_8 14 rfl rfl)
theorem dX4_goesOn_201 : decode cX4_goesOn 201 = .ok (.aload_n 0, 1) := dk_42 (dk_at dksX4_goesOn_8 15 rfl rfl)
theorem dX4_goesOn_202 : decode cX4_goesOn 202 = .ok (.dup, 1) := dk_89 (dk_at dksX4_goesOn_8 16 rfl rfl)
theorem dX4_goesOn_203 : decode cX4_goesOn 203 = .ok (.getfield 278, 3) := dk_180 1 22 (dk_at dksX4_goesOn_8 17 rfl rfl)
theorem dX4_goesOn_206 : decode cX4_goesOn 206 = .ok (.iconst 1, 1) := dk_4 (dk_at dksX4_goesOn_8 20 rfl rfl)
theorem dX4_goesOn_207 : decode cX4_goesOn 207 = .ok (.isub, 1) := dk_100 (dk_at dksX4_goesOn_8 21 rfl rfl)
theorem dX4_goesOn_208 : decode cX4_goesOn 208 = .ok (.putfield 278, 3) := dk_181 1 22 (dk_at dksX4_goesOn_9 0 rfl rfl)
theorem dX4_goesOn_211 : decode cX4_goesOn 211 = .ok (.aload_n 0, 1) := dk_42 (dk_at dksX4_goesOn_9 3 rfl rfl)
theorem dX4_goesOn_212 : decode cX4_goesOn 212 = .ok (.iload_n 2, 1) := dk_28 (dk_at dksX4_goesOn_9 4 rfl rfl)
theorem dX4_goesOn_213 : decode cX4_goesOn 213 = .ok (.iconst 0, 1) := dk_3 (dk_at dksX4_goesOn_9 5 rfl rfl)
theorem dX4_goesOn_214 : decode cX4_goesOn 214 = .ok (.invokevirtual 300, 3) := dk_182 1 44 (dk_at dksX4_goesOn_9 6 rfl rfl)
theorem dX4_goesOn_217 : decode cX4_goesOn 217 = .ok (.aload_n 0, 1) := dk_42 (dk_at dksX4_goesOn_9 9 rfl rfl)
theorem dX4_goesOn_218 : decode cX4_goesOn 218 = .ok (.invokevirtual 335, 3) := dk_182 1 79 (dk_at dksX4_goesOn_9 10 rfl rfl)
theorem dX4_goesOn_221 : decode cX4_goesOn 221 = .ok (.goto 29, 3) := dk_167 0 29 (dk_at dksX4_goesOn_9 13 rfl rfl)
theorem dX4_goesOn_224 : decode cX4_goesOn 224 = .ok (.iload_n 1, 1) := dk_27 (dk_at dksX4_goesOn_9 16 rfl rfl)
theorem dX4_goesOn_225 : decode cX4_goesOn 225 = .ok (.iconst 1, 1) := dk_4 (dk_at dksX4_goesOn_9 17 rfl rfl)
theorem dX4_goesOn_226 : decode cX4_goesOn 226 = .ok (.if_icmp .ne 19, 3) := dk_160 0 19 (dk_at dksX4_goesOn_9 18 rfl rfl)
theorem dX4_goesOn_229 : decode cX4_goesOn 229 = .ok (.aload_n 0, 1) := dk_42 (dk_at dksX4_goesOn_9 21 rfl rfl)
theorem dX4_goesOn_230 : decode cX4_goesOn 230 = .ok (.bipush 59, 2) := dk_16 59 (dk_at dksX4_goesOn_9 22 rfl rfl)
theorem dX4_goesOn_232 : decode cX4_goesOn 232 = .ok (.invokevirtual 322, 3) := dk_182 1 66 (dk_at dksX4_goesOn_10 0 rfl rfl)
theorem dX4_goesOn_235 : decode cX4_goesOn 235 = .ok (.ifCond .eq 10, 3) := dk_153 0 10 (dk_at dksX4_goesOn_10 3 rfl rfl)
theorem dX4_goesOn_238 : decode cX4_goesOn 238 = .ok (.aload_n 0, 1) := dk_42 (dk_at dksX4_goesOn_10 6 rfl rfl)
theorem dX4_goesOn_239 : decode cX4_goesOn 239 = .ok (.invokevirtual 338, 3) := dk_182 1 82 (dk_at dksX4_goesOn_10 7 rfl rfl)
theorem dX4_goesOn_242 : decode cX4_goesOn 242 = .ok (.goto 8, 3) := dk_167 0 8 (dk_at dksX4_goesOn_10 10 rfl rfl)
theorem dX4_goesOn_245 : decode cX4_goesOn 245 = .ok (.aload_n 0, 1) := dk_42 (dk_at dksX4_goesOn_10 13 rfl rfl)
theorem dX4_goesOn_246 : decode cX4_goesOn 246 = .ok (.iconst 1, 1) := dk_4 (dk_at dksX4_goesOn_10 14 rfl rfl)
theorem dX4_goesOn_247 : decode cX4_goesOn 247 = .ok (.invokevirtual 284, 3) := dk_182 1 28 (dk_at dksX4_goesOn_10 15 rfl rfl)
theorem dX4_goesOn_250 : decode cX4_goesOn 250 = .ok (.return_, 1) := dk_177 (dk_at dksX4_goesOn_10 18 rfl rfl)
abbrev cX4_waitsFor : ByteArray := prog_23_method_19_code
def yX4_waitsFor : MethodName := ⟨RX4, "waitsFor", "(I)V"⟩
def dkwX4_waitsFor_1 : List UInt8 := [180, 1, 37, 42, 180, 1, 22, 79, 42, 89, 180, 1, 37, 4, 96, 181, 1, 37, 42, 182, 1, 34, 177]
abbrev dktX4_waitsFor_1 : List UInt8 := dkwX4_waitsFor_1 ++ []
def dkwX4_waitsFor_0 : List UInt8 := [42, 27, 184, 1, 40, 182, 1, 48, 42, 180, 0, 69, 42, 180, 1, 37, 27, 79, 42, 180, 0, 72, 42]
abbrev dktX4_waitsFor_0 : List UInt8 := dkwX4_waitsFor_0 ++ dktX4_waitsFor_1
theorem dksX4_waitsFor_0 : cX4_waitsFor.data.toList.drop 0 = dktX4_waitsFor_0 := by decide +kernel
theorem dksX4_waitsFor_1 : cX4_waitsFor.data.toList.drop 23 = dktX4_waitsFor_1 := dk_seg dksX4_waitsFor_0 23 rfl rfl
theorem dX4_waitsFor_0 : decode cX4_waitsFor 0 = .ok (.aload_n 0, 1) := dk_42 (dk_at dksX4_waitsFor_0 0 rfl rfl)
theorem dX4_waitsFor_1 : decode cX4_waitsFor 1 = .ok (.iload_n 1, 1) := dk_27 (dk_at dksX4_waitsFor_0 1 rfl rfl)
theorem dX4_waitsFor_2 : decode cX4_waitsFor 2 = .ok (.invokestatic 296, 3) := dk_184 1 40 (dk_at dksX4_waitsFor_0 2 rfl rfl)
theorem dX4_waitsFor_5 : decode cX4_waitsFor 5 = .ok (.invokevirtual 304, 3) := dk_182 1 48 (dk_at dksX4_waitsFor_0 5 rfl rfl)
theorem dX4_waitsFor_8 : decode cX4_waitsFor 8 = .ok (.aload_n 0, 1) := dk_42 (dk_at dksX4_waitsFor_0 8 rfl rfl)
theorem dX4_waitsFor_9 : decode cX4_waitsFor 9 = .ok (.getfield 69, 3) := dk_180 0 69 (dk_at dksX4_waitsFor_0 9 rfl rfl)
theorem dX4_waitsFor_12 : decode cX4_waitsFor 12 = .ok (.aload_n 0, 1) := dk_42 (dk_at dksX4_waitsFor_0 12 rfl rfl)
theorem dX4_waitsFor_13 : decode cX4_waitsFor 13 = .ok (.getfield 293, 3) := dk_180 1 37 (dk_at dksX4_waitsFor_0 13 rfl rfl)
theorem dX4_waitsFor_16 : decode cX4_waitsFor 16 = .ok (.iload_n 1, 1) := dk_27 (dk_at dksX4_waitsFor_0 16 rfl rfl)
theorem dX4_waitsFor_17 : decode cX4_waitsFor 17 = .ok (.iastore, 1) := dk_79 (dk_at dksX4_waitsFor_0 17 rfl rfl)
theorem dX4_waitsFor_18 : decode cX4_waitsFor 18 = .ok (.aload_n 0, 1) := dk_42 (dk_at dksX4_waitsFor_0 18 rfl rfl)
theorem dX4_waitsFor_19 : decode cX4_waitsFor 19 = .ok (.getfield 72, 3) := dk_180 0 72 (dk_at dksX4_waitsFor_0 19 rfl rfl)
theorem dX4_waitsFor_22 : decode cX4_waitsFor 22 = .ok (.aload_n 0, 1) := dk_42 (dk_at dksX4_waitsFor_0 22 rfl rfl)
theorem dX4_waitsFor_23 : decode cX4_waitsFor 23 = .ok (.getfield 293, 3) := dk_180 1 37 (dk_at dksX4_waitsFor_1 0 rfl rfl)
theorem dX4_waitsFor_26 : decode cX4_waitsFor 26 = .ok (.aload_n 0, 1) := dk_42 (dk_at dksX4_waitsFor_1 3 rfl rfl)
theorem dX4_waitsFor_27 : decode cX4_waitsFor 27 = .ok (.getfield 278, 3) := dk_180 1 22 (dk_at dksX4_waitsFor_1 4 rfl rfl)
theorem dX4_waitsFor_30 : decode cX4_waitsFor 30 = .ok (.iastore, 1) := dk_79 (dk_at dksX4_waitsFor_1 7 rfl rfl)
theorem dX4_waitsFor_31 : decode cX4_waitsFor 31 = .ok (.aload_n 0, 1) := dk_42 (dk_at dksX4_waitsFor_1 8 rfl rfl)
theorem dX4_waitsFor_32 : decode cX4_waitsFor 32 = .ok (.dup, 1) := dk_89 (dk_at dksX4_waitsFor_1 9 rfl rfl)
theorem dX4_waitsFor_33 : decode cX4_waitsFor 33 = .ok (.getfield 293, 3) := dk_180 1 37 (dk_at dksX4_waitsFor_1 10 rfl rfl)
theorem dX4_waitsFor_36 : decode cX4_waitsFor 36 = .ok (.iconst 1, 1) := dk_4 (dk_at dksX4_waitsFor_1 13 rfl rfl)
theorem dX4_waitsFor_37 : decode cX4_waitsFor 37 = .ok (.iadd, 1) := dk_96 (dk_at dksX4_waitsFor_1 14 rfl rfl)
theorem dX4_waitsFor_38 : decode cX4_waitsFor 38 = .ok (.putfield 293, 3) := dk_181 1 37 (dk_at dksX4_waitsFor_1 15 rfl rfl)
theorem dX4_waitsFor_41 : decode cX4_waitsFor 41 = .ok (.aload_n 0, 1) := dk_42 (dk_at dksX4_waitsFor_1 18 rfl rfl)
theorem dX4_waitsFor_42 : decode cX4_waitsFor 42 = .ok (.invokevirtual 290, 3) := dk_182 1 34 (dk_at dksX4_waitsFor_1 19 rfl rfl)
theorem dX4_waitsFor_45 : decode cX4_waitsFor 45 = .ok (.return_, 1) := dk_177 (dk_at dksX4_waitsFor_1 22 rfl rfl)
abbrev cX4_rank : ByteArray := prog_23_method_17_code
def yX4_rank : MethodName := ⟨RX4, "rank", "(I)I"⟩
def dkwX4_rank_1 : List UInt8 := [16, 43, 159, 0, 9, 26, 16, 45, 160, 0, 7, 6, 167, 0, 4, 7, 172]
abbrev dktX4_rank_1 : List UInt8 := dkwX4_rank_1 ++ []
def dkwX4_rank_0 : List UInt8 := [26, 17, 1, 151, 160, 0, 7, 4, 167, 0, 31, 26, 17, 1, 150, 160, 0, 7, 5, 167, 0, 20, 26]
abbrev dktX4_rank_0 : List UInt8 := dkwX4_rank_0 ++ dktX4_rank_1
theorem dksX4_rank_0 : cX4_rank.data.toList.drop 0 = dktX4_rank_0 := by decide +kernel
theorem dksX4_rank_1 : cX4_rank.data.toList.drop 23 = dktX4_rank_1 := dk_seg dksX4_rank_0 23 rfl rfl
theorem dX4_rank_0 : decode cX4_rank 0 = .ok (.iload_n 0, 1) := dk_26 (dk_at dksX4_rank_0 0 rfl rfl)
theorem dX4_rank_1 : decode cX4_rank 1 = .ok (.sipush 407, 3) := dk_17 1 151 (dk_at dksX4_rank_0 1 rfl rfl)
theorem dX4_rank_4 : decode cX4_rank 4 = .ok (.if_icmp .ne 7, 3) := dk_160 0 7 (dk_at dksX4_rank_0 4 rfl rfl)
theorem dX4_rank_7 : decode cX4_rank 7 = .ok (.iconst 1, 1) := dk_4 (dk_at dksX4_rank_0 7 rfl rfl)
theorem dX4_rank_8 : decode cX4_rank 8 = .ok (.goto 31, 3) := dk_167 0 31 (dk_at dksX4_rank_0 8 rfl rfl)
theorem dX4_rank_11 : decode cX4_rank 11 = .ok (.iload_n 0, 1) := dk_26 (dk_at dksX4_rank_0 11 rfl rfl)
theorem dX4_rank_12 : decode cX4_rank 12 = .ok (.sipush 406, 3) := dk_17 1 150 (dk_at dksX4_rank_0 12 rfl rfl)
theorem dX4_rank_15 : decode cX4_rank 15 = .ok (.if_icmp .ne 7, 3) := dk_160 0 7 (dk_at dksX4_rank_0 15 rfl rfl)
theorem dX4_rank_18 : decode cX4_rank 18 = .ok (.iconst 2, 1) := dk_5 (dk_at dksX4_rank_0 18 rfl rfl)
theorem dX4_rank_19 : decode cX4_rank 19 = .ok (.goto 20, 3) := dk_167 0 20 (dk_at dksX4_rank_0 19 rfl rfl)
theorem dX4_rank_22 : decode cX4_rank 22 = .ok (.iload_n 0, 1) := dk_26 (dk_at dksX4_rank_0 22 rfl rfl)
theorem dX4_rank_23 : decode cX4_rank 23 = .ok (.bipush 43, 2) := dk_16 43 (dk_at dksX4_rank_1 0 rfl rfl)
theorem dX4_rank_25 : decode cX4_rank 25 = .ok (.if_icmp .eq 9, 3) := dk_159 0 9 (dk_at dksX4_rank_1 2 rfl rfl)
theorem dX4_rank_28 : decode cX4_rank 28 = .ok (.iload_n 0, 1) := dk_26 (dk_at dksX4_rank_1 5 rfl rfl)
theorem dX4_rank_29 : decode cX4_rank 29 = .ok (.bipush 45, 2) := dk_16 45 (dk_at dksX4_rank_1 6 rfl rfl)
theorem dX4_rank_31 : decode cX4_rank 31 = .ok (.if_icmp .ne 7, 3) := dk_160 0 7 (dk_at dksX4_rank_1 8 rfl rfl)
theorem dX4_rank_34 : decode cX4_rank 34 = .ok (.iconst 3, 1) := dk_6 (dk_at dksX4_rank_1 11 rfl rfl)
theorem dX4_rank_35 : decode cX4_rank 35 = .ok (.goto 4, 3) := dk_167 0 4 (dk_at dksX4_rank_1 12 rfl rfl)
theorem dX4_rank_38 : decode cX4_rank 38 = .ok (.iconst 4, 1) := dk_7 (dk_at dksX4_rank_1 15 rfl rfl)
theorem dX4_rank_39 : decode cX4_rank 39 = .ok (.ireturn, 1) := dk_172 (dk_at dksX4_rank_1 16 rfl rfl)
abbrev cX4_works : ByteArray := prog_23_method_18_code
def yX4_works : MethodName := ⟨RX4, "works", "(I)V"⟩
def dkwX4_works_3 : List UInt8 := [167, 255, 189, 177]
abbrev dktX4_works_3 : List UInt8 := dkwX4_works_3 ++ []
def dkwX4_works_2 : List UInt8 := [180, 1, 37, 4, 100, 181, 1, 37, 42, 42, 180, 0, 69, 42, 180, 1, 37, 46, 3, 182, 1, 44]
abbrev dktX4_works_2 : List UInt8 := dkwX4_works_2 ++ dktX4_works_3
def dkwX4_works_1 : List UInt8 := [160, 0, 48, 42, 180, 0, 69, 42, 180, 1, 37, 4, 100, 46, 184, 1, 40, 27, 161, 0, 30, 42, 89]
abbrev dktX4_works_1 : List UInt8 := dkwX4_works_1 ++ dktX4_works_2
def dkwX4_works_0 : List UInt8 := [42, 180, 1, 37, 158, 0, 66, 42, 180, 0, 72, 42, 180, 1, 37, 4, 100, 46, 42, 180, 1, 22]
abbrev dktX4_works_0 : List UInt8 := dkwX4_works_0 ++ dktX4_works_1
theorem dksX4_works_0 : cX4_works.data.toList.drop 0 = dktX4_works_0 := by decide +kernel
theorem dksX4_works_1 : cX4_works.data.toList.drop 22 = dktX4_works_1 := dk_seg dksX4_works_0 22 rfl rfl
theorem dksX4_works_2 : cX4_works.data.toList.drop 45 = dktX4_works_2 := dk_seg dksX4_works_1 23 rfl rfl
theorem dksX4_works_3 : cX4_works.data.toList.drop 67 = dktX4_works_3 := dk_seg dksX4_works_2 22 rfl rfl
theorem dX4_works_0 : decode cX4_works 0 = .ok (.aload_n 0, 1) := dk_42 (dk_at dksX4_works_0 0 rfl rfl)
theorem dX4_works_1 : decode cX4_works 1 = .ok (.getfield 293, 3) := dk_180 1 37 (dk_at dksX4_works_0 1 rfl rfl)
theorem dX4_works_4 : decode cX4_works 4 = .ok (.ifCond .le 66, 3) := dk_158 0 66 (dk_at dksX4_works_0 4 rfl rfl)
theorem dX4_works_7 : decode cX4_works 7 = .ok (.aload_n 0, 1) := dk_42 (dk_at dksX4_works_0 7 rfl rfl)
theorem dX4_works_8 : decode cX4_works 8 = .ok (.getfield 72, 3) := dk_180 0 72 (dk_at dksX4_works_0 8 rfl rfl)
theorem dX4_works_11 : decode cX4_works 11 = .ok (.aload_n 0, 1) := dk_42 (dk_at dksX4_works_0 11 rfl rfl)
theorem dX4_works_12 : decode cX4_works 12 = .ok (.getfield 293, 3) := dk_180 1 37 (dk_at dksX4_works_0 12 rfl rfl)
theorem dX4_works_15 : decode cX4_works 15 = .ok (.iconst 1, 1) := dk_4 (dk_at dksX4_works_0 15 rfl rfl)
theorem dX4_works_16 : decode cX4_works 16 = .ok (.isub, 1) := dk_100 (dk_at dksX4_works_0 16 rfl rfl)
theorem dX4_works_17 : decode cX4_works 17 = .ok (.iaload, 1) := dk_46 (dk_at dksX4_works_0 17 rfl rfl)
theorem dX4_works_18 : decode cX4_works 18 = .ok (.aload_n 0, 1) := dk_42 (dk_at dksX4_works_0 18 rfl rfl)
theorem dX4_works_19 : decode cX4_works 19 = .ok (.getfield 278, 3) := dk_180 1 22 (dk_at dksX4_works_0 19 rfl rfl)
theorem dX4_works_22 : decode cX4_works 22 = .ok (.if_icmp .ne 48, 3) := dk_160 0 48 (dk_at dksX4_works_1 0 rfl rfl)
theorem dX4_works_25 : decode cX4_works 25 = .ok (.aload_n 0, 1) := dk_42 (dk_at dksX4_works_1 3 rfl rfl)
theorem dX4_works_26 : decode cX4_works 26 = .ok (.getfield 69, 3) := dk_180 0 69 (dk_at dksX4_works_1 4 rfl rfl)
theorem dX4_works_29 : decode cX4_works 29 = .ok (.aload_n 0, 1) := dk_42 (dk_at dksX4_works_1 7 rfl rfl)
theorem dX4_works_30 : decode cX4_works 30 = .ok (.getfield 293, 3) := dk_180 1 37 (dk_at dksX4_works_1 8 rfl rfl)
theorem dX4_works_33 : decode cX4_works 33 = .ok (.iconst 1, 1) := dk_4 (dk_at dksX4_works_1 11 rfl rfl)
theorem dX4_works_34 : decode cX4_works 34 = .ok (.isub, 1) := dk_100 (dk_at dksX4_works_1 12 rfl rfl)
theorem dX4_works_35 : decode cX4_works 35 = .ok (.iaload, 1) := dk_46 (dk_at dksX4_works_1 13 rfl rfl)
theorem dX4_works_36 : decode cX4_works 36 = .ok (.invokestatic 296, 3) := dk_184 1 40 (dk_at dksX4_works_1 14 rfl rfl)
theorem dX4_works_39 : decode cX4_works 39 = .ok (.iload_n 1, 1) := dk_27 (dk_at dksX4_works_1 17 rfl rfl)
theorem dX4_works_40 : decode cX4_works 40 = .ok (.if_icmp .lt 30, 3) := dk_161 0 30 (dk_at dksX4_works_1 18 rfl rfl)
theorem dX4_works_43 : decode cX4_works 43 = .ok (.aload_n 0, 1) := dk_42 (dk_at dksX4_works_1 21 rfl rfl)
theorem dX4_works_44 : decode cX4_works 44 = .ok (.dup, 1) := dk_89 (dk_at dksX4_works_1 22 rfl rfl)
theorem dX4_works_45 : decode cX4_works 45 = .ok (.getfield 293, 3) := dk_180 1 37 (dk_at dksX4_works_2 0 rfl rfl)
theorem dX4_works_48 : decode cX4_works 48 = .ok (.iconst 1, 1) := dk_4 (dk_at dksX4_works_2 3 rfl rfl)
theorem dX4_works_49 : decode cX4_works 49 = .ok (.isub, 1) := dk_100 (dk_at dksX4_works_2 4 rfl rfl)
theorem dX4_works_50 : decode cX4_works 50 = .ok (.putfield 293, 3) := dk_181 1 37 (dk_at dksX4_works_2 5 rfl rfl)
theorem dX4_works_53 : decode cX4_works 53 = .ok (.aload_n 0, 1) := dk_42 (dk_at dksX4_works_2 8 rfl rfl)
theorem dX4_works_54 : decode cX4_works 54 = .ok (.aload_n 0, 1) := dk_42 (dk_at dksX4_works_2 9 rfl rfl)
theorem dX4_works_55 : decode cX4_works 55 = .ok (.getfield 69, 3) := dk_180 0 69 (dk_at dksX4_works_2 10 rfl rfl)
theorem dX4_works_58 : decode cX4_works 58 = .ok (.aload_n 0, 1) := dk_42 (dk_at dksX4_works_2 13 rfl rfl)
theorem dX4_works_59 : decode cX4_works 59 = .ok (.getfield 293, 3) := dk_180 1 37 (dk_at dksX4_works_2 14 rfl rfl)
theorem dX4_works_62 : decode cX4_works 62 = .ok (.iaload, 1) := dk_46 (dk_at dksX4_works_2 17 rfl rfl)
theorem dX4_works_63 : decode cX4_works 63 = .ok (.iconst 0, 1) := dk_3 (dk_at dksX4_works_2 18 rfl rfl)
theorem dX4_works_64 : decode cX4_works 64 = .ok (.invokevirtual 300, 3) := dk_182 1 44 (dk_at dksX4_works_2 19 rfl rfl)
theorem dX4_works_67 : decode cX4_works 67 = .ok (.goto (-67), 3) := dk_167 255 189 (dk_at dksX4_works_3 0 rfl rfl)
theorem dX4_works_70 : decode cX4_works 70 = .ok (.return_, 1) := dk_177 (dk_at dksX4_works_3 3 rfl rfl)
abbrev cX4_isAsking : ByteArray := prog_23_method_24_code
def yX4_isAsking : MethodName := ⟨RX4, "isAsking", "(I)Z"⟩
def dkwX4_isAsking_1 : List UInt8 := [26, 17, 1, 44, 159, 0, 10, 26, 17, 1, 45, 160, 0, 7, 4, 167, 0, 4, 3, 172]
abbrev dktX4_isAsking_1 : List UInt8 := dkwX4_isAsking_1 ++ []
def dkwX4_isAsking_0 : List UInt8 := [26, 16, 60, 159, 0, 35, 26, 16, 62, 159, 0, 29, 26, 16, 61, 159, 0, 23, 26, 16, 35, 159, 0, 17]
abbrev dktX4_isAsking_0 : List UInt8 := dkwX4_isAsking_0 ++ dktX4_isAsking_1
theorem dksX4_isAsking_0 : cX4_isAsking.data.toList.drop 0 = dktX4_isAsking_0 := by decide +kernel
theorem dksX4_isAsking_1 : cX4_isAsking.data.toList.drop 24 = dktX4_isAsking_1 := dk_seg dksX4_isAsking_0 24 rfl rfl
theorem dX4_isAsking_0 : decode cX4_isAsking 0 = .ok (.iload_n 0, 1) := dk_26 (dk_at dksX4_isAsking_0 0 rfl rfl)
theorem dX4_isAsking_1 : decode cX4_isAsking 1 = .ok (.bipush 60, 2) := dk_16 60 (dk_at dksX4_isAsking_0 1 rfl rfl)
theorem dX4_isAsking_3 : decode cX4_isAsking 3 = .ok (.if_icmp .eq 35, 3) := dk_159 0 35 (dk_at dksX4_isAsking_0 3 rfl rfl)
theorem dX4_isAsking_6 : decode cX4_isAsking 6 = .ok (.iload_n 0, 1) := dk_26 (dk_at dksX4_isAsking_0 6 rfl rfl)
theorem dX4_isAsking_7 : decode cX4_isAsking 7 = .ok (.bipush 62, 2) := dk_16 62 (dk_at dksX4_isAsking_0 7 rfl rfl)
theorem dX4_isAsking_9 : decode cX4_isAsking 9 = .ok (.if_icmp .eq 29, 3) := dk_159 0 29 (dk_at dksX4_isAsking_0 9 rfl rfl)
theorem dX4_isAsking_12 : decode cX4_isAsking 12 = .ok (.iload_n 0, 1) := dk_26 (dk_at dksX4_isAsking_0 12 rfl rfl)
theorem dX4_isAsking_13 : decode cX4_isAsking 13 = .ok (.bipush 61, 2) := dk_16 61 (dk_at dksX4_isAsking_0 13 rfl rfl)
theorem dX4_isAsking_15 : decode cX4_isAsking 15 = .ok (.if_icmp .eq 23, 3) := dk_159 0 23 (dk_at dksX4_isAsking_0 15 rfl rfl)
theorem dX4_isAsking_18 : decode cX4_isAsking 18 = .ok (.iload_n 0, 1) := dk_26 (dk_at dksX4_isAsking_0 18 rfl rfl)
theorem dX4_isAsking_19 : decode cX4_isAsking 19 = .ok (.bipush 35, 2) := dk_16 35 (dk_at dksX4_isAsking_0 19 rfl rfl)
theorem dX4_isAsking_21 : decode cX4_isAsking 21 = .ok (.if_icmp .eq 17, 3) := dk_159 0 17 (dk_at dksX4_isAsking_0 21 rfl rfl)
theorem dX4_isAsking_24 : decode cX4_isAsking 24 = .ok (.iload_n 0, 1) := dk_26 (dk_at dksX4_isAsking_1 0 rfl rfl)
theorem dX4_isAsking_25 : decode cX4_isAsking 25 = .ok (.sipush 300, 3) := dk_17 1 44 (dk_at dksX4_isAsking_1 1 rfl rfl)
theorem dX4_isAsking_28 : decode cX4_isAsking 28 = .ok (.if_icmp .eq 10, 3) := dk_159 0 10 (dk_at dksX4_isAsking_1 4 rfl rfl)
theorem dX4_isAsking_31 : decode cX4_isAsking 31 = .ok (.iload_n 0, 1) := dk_26 (dk_at dksX4_isAsking_1 7 rfl rfl)
theorem dX4_isAsking_32 : decode cX4_isAsking 32 = .ok (.sipush 301, 3) := dk_17 1 45 (dk_at dksX4_isAsking_1 8 rfl rfl)
theorem dX4_isAsking_35 : decode cX4_isAsking 35 = .ok (.if_icmp .ne 7, 3) := dk_160 0 7 (dk_at dksX4_isAsking_1 11 rfl rfl)
theorem dX4_isAsking_38 : decode cX4_isAsking 38 = .ok (.iconst 1, 1) := dk_4 (dk_at dksX4_isAsking_1 14 rfl rfl)
theorem dX4_isAsking_39 : decode cX4_isAsking 39 = .ok (.goto 4, 3) := dk_167 0 4 (dk_at dksX4_isAsking_1 15 rfl rfl)
theorem dX4_isAsking_42 : decode cX4_isAsking 42 = .ok (.iconst 0, 1) := dk_3 (dk_at dksX4_isAsking_1 18 rfl rfl)
theorem dX4_isAsking_43 : decode cX4_isAsking 43 = .ok (.ireturn, 1) := dk_172 (dk_at dksX4_isAsking_1 19 rfl rfl)
abbrev cX4_askIsOver : ByteArray := prog_23_method_23_code
def yX4_askIsOver : MethodName := ⟨RX4, "askIsOver", "()V"⟩
def dkwX4_askIsOver_1 : List UInt8 := [100, 181, 1, 25, 42, 17, 1, 149, 3, 182, 1, 44, 167, 255, 220, 42, 6, 181, 1, 57, 177]
abbrev dktX4_askIsOver_1 : List UInt8 := dkwX4_askIsOver_1 ++ []
def dkwX4_askIsOver_0 : List UInt8 := [42, 182, 1, 69, 6, 160, 0, 34, 42, 89, 180, 1, 22, 4, 100, 181, 1, 22, 42, 89, 180, 1, 25, 4]
abbrev dktX4_askIsOver_0 : List UInt8 := dkwX4_askIsOver_0 ++ dktX4_askIsOver_1
theorem dksX4_askIsOver_0 : cX4_askIsOver.data.toList.drop 0 = dktX4_askIsOver_0 := by decide +kernel
theorem dksX4_askIsOver_1 : cX4_askIsOver.data.toList.drop 24 = dktX4_askIsOver_1 := dk_seg dksX4_askIsOver_0 24 rfl rfl
theorem dX4_askIsOver_0 : decode cX4_askIsOver 0 = .ok (.aload_n 0, 1) := dk_42 (dk_at dksX4_askIsOver_0 0 rfl rfl)
theorem dX4_askIsOver_1 : decode cX4_askIsOver 1 = .ok (.invokevirtual 325, 3) := dk_182 1 69 (dk_at dksX4_askIsOver_0 1 rfl rfl)
theorem dX4_askIsOver_4 : decode cX4_askIsOver 4 = .ok (.iconst 3, 1) := dk_6 (dk_at dksX4_askIsOver_0 4 rfl rfl)
theorem dX4_askIsOver_5 : decode cX4_askIsOver 5 = .ok (.if_icmp .ne 34, 3) := dk_160 0 34 (dk_at dksX4_askIsOver_0 5 rfl rfl)
theorem dX4_askIsOver_8 : decode cX4_askIsOver 8 = .ok (.aload_n 0, 1) := dk_42 (dk_at dksX4_askIsOver_0 8 rfl rfl)
theorem dX4_askIsOver_9 : decode cX4_askIsOver 9 = .ok (.dup, 1) := dk_89 (dk_at dksX4_askIsOver_0 9 rfl rfl)
theorem dX4_askIsOver_10 : decode cX4_askIsOver 10 = .ok (.getfield 278, 3) := dk_180 1 22 (dk_at dksX4_askIsOver_0 10 rfl rfl)
theorem dX4_askIsOver_13 : decode cX4_askIsOver 13 = .ok (.iconst 1, 1) := dk_4 (dk_at dksX4_askIsOver_0 13 rfl rfl)
theorem dX4_askIsOver_14 : decode cX4_askIsOver 14 = .ok (.isub, 1) := dk_100 (dk_at dksX4_askIsOver_0 14 rfl rfl)
theorem dX4_askIsOver_15 : decode cX4_askIsOver 15 = .ok (.putfield 278, 3) := dk_181 1 22 (dk_at dksX4_askIsOver_0 15 rfl rfl)
theorem dX4_askIsOver_18 : decode cX4_askIsOver 18 = .ok (.aload_n 0, 1) := dk_42 (dk_at dksX4_askIsOver_0 18 rfl rfl)
theorem dX4_askIsOver_19 : decode cX4_askIsOver 19 = .ok (.dup, 1) := dk_89 (dk_at dksX4_askIsOver_0 19 rfl rfl)
theorem dX4_askIsOver_20 : decode cX4_askIsOver 20 = .ok (.getfield 281, 3) := dk_180 1 25 (dk_at dksX4_askIsOver_0 20 rfl rfl)
theorem dX4_askIsOver_23 : decode cX4_askIsOver 23 = .ok (.iconst 1, 1) := dk_4 (dk_at dksX4_askIsOver_0 23 rfl rfl)
theorem dX4_askIsOver_24 : decode cX4_askIsOver 24 = .ok (.isub, 1) := dk_100 (dk_at dksX4_askIsOver_1 0 rfl rfl)
theorem dX4_askIsOver_25 : decode cX4_askIsOver 25 = .ok (.putfield 281, 3) := dk_181 1 25 (dk_at dksX4_askIsOver_1 1 rfl rfl)
theorem dX4_askIsOver_28 : decode cX4_askIsOver 28 = .ok (.aload_n 0, 1) := dk_42 (dk_at dksX4_askIsOver_1 4 rfl rfl)
theorem dX4_askIsOver_29 : decode cX4_askIsOver 29 = .ok (.sipush 405, 3) := dk_17 1 149 (dk_at dksX4_askIsOver_1 5 rfl rfl)
theorem dX4_askIsOver_32 : decode cX4_askIsOver 32 = .ok (.iconst 0, 1) := dk_3 (dk_at dksX4_askIsOver_1 8 rfl rfl)
theorem dX4_askIsOver_33 : decode cX4_askIsOver 33 = .ok (.invokevirtual 300, 3) := dk_182 1 44 (dk_at dksX4_askIsOver_1 9 rfl rfl)
theorem dX4_askIsOver_36 : decode cX4_askIsOver 36 = .ok (.goto (-36), 3) := dk_167 255 220 (dk_at dksX4_askIsOver_1 12 rfl rfl)
theorem dX4_askIsOver_39 : decode cX4_askIsOver 39 = .ok (.aload_n 0, 1) := dk_42 (dk_at dksX4_askIsOver_1 15 rfl rfl)
theorem dX4_askIsOver_40 : decode cX4_askIsOver 40 = .ok (.iconst 3, 1) := dk_6 (dk_at dksX4_askIsOver_1 16 rfl rfl)
theorem dX4_askIsOver_41 : decode cX4_askIsOver 41 = .ok (.putfield 313, 3) := dk_181 1 57 (dk_at dksX4_askIsOver_1 17 rfl rfl)
theorem dX4_askIsOver_44 : decode cX4_askIsOver 44 = .ok (.return_, 1) := dk_177 (dk_at dksX4_askIsOver_1 20 rfl rfl)
abbrev cX4_clauseIsOver : ByteArray := prog_23_method_27_code
def yX4_clauseIsOver : MethodName := ⟨RX4, "clauseIsOver", "()V"⟩
def dkwX4_clauseIsOver_1 : List UInt8 := [96, 181, 1, 85, 42, 182, 1, 34, 42, 7, 181, 1, 57, 177]
abbrev dktX4_clauseIsOver_1 : List UInt8 := dkwX4_clauseIsOver_1 ++ []
def dkwX4_clauseIsOver_0 : List UInt8 := [42, 4, 182, 1, 48, 42, 3, 181, 1, 22, 42, 17, 1, 152, 3, 182, 1, 44, 42, 89, 180, 1, 85, 4]
abbrev dktX4_clauseIsOver_0 : List UInt8 := dkwX4_clauseIsOver_0 ++ dktX4_clauseIsOver_1
theorem dksX4_clauseIsOver_0 : cX4_clauseIsOver.data.toList.drop 0 = dktX4_clauseIsOver_0 := by decide +kernel
theorem dksX4_clauseIsOver_1 : cX4_clauseIsOver.data.toList.drop 24 = dktX4_clauseIsOver_1 := dk_seg dksX4_clauseIsOver_0 24 rfl rfl
theorem dX4_clauseIsOver_0 : decode cX4_clauseIsOver 0 = .ok (.aload_n 0, 1) := dk_42 (dk_at dksX4_clauseIsOver_0 0 rfl rfl)
theorem dX4_clauseIsOver_1 : decode cX4_clauseIsOver 1 = .ok (.iconst 1, 1) := dk_4 (dk_at dksX4_clauseIsOver_0 1 rfl rfl)
theorem dX4_clauseIsOver_2 : decode cX4_clauseIsOver 2 = .ok (.invokevirtual 304, 3) := dk_182 1 48 (dk_at dksX4_clauseIsOver_0 2 rfl rfl)
theorem dX4_clauseIsOver_5 : decode cX4_clauseIsOver 5 = .ok (.aload_n 0, 1) := dk_42 (dk_at dksX4_clauseIsOver_0 5 rfl rfl)
theorem dX4_clauseIsOver_6 : decode cX4_clauseIsOver 6 = .ok (.iconst 0, 1) := dk_3 (dk_at dksX4_clauseIsOver_0 6 rfl rfl)
theorem dX4_clauseIsOver_7 : decode cX4_clauseIsOver 7 = .ok (.putfield 278, 3) := dk_181 1 22 (dk_at dksX4_clauseIsOver_0 7 rfl rfl)
theorem dX4_clauseIsOver_10 : decode cX4_clauseIsOver 10 = .ok (.aload_n 0, 1) := dk_42 (dk_at dksX4_clauseIsOver_0 10 rfl rfl)
theorem dX4_clauseIsOver_11 : decode cX4_clauseIsOver 11 = .ok (.sipush 408, 3) := dk_17 1 152 (dk_at dksX4_clauseIsOver_0 11 rfl rfl)
theorem dX4_clauseIsOver_14 : decode cX4_clauseIsOver 14 = .ok (.iconst 0, 1) := dk_3 (dk_at dksX4_clauseIsOver_0 14 rfl rfl)
theorem dX4_clauseIsOver_15 : decode cX4_clauseIsOver 15 = .ok (.invokevirtual 300, 3) := dk_182 1 44 (dk_at dksX4_clauseIsOver_0 15 rfl rfl)
theorem dX4_clauseIsOver_18 : decode cX4_clauseIsOver 18 = .ok (.aload_n 0, 1) := dk_42 (dk_at dksX4_clauseIsOver_0 18 rfl rfl)
theorem dX4_clauseIsOver_19 : decode cX4_clauseIsOver 19 = .ok (.dup, 1) := dk_89 (dk_at dksX4_clauseIsOver_0 19 rfl rfl)
theorem dX4_clauseIsOver_20 : decode cX4_clauseIsOver 20 = .ok (.getfield 341, 3) := dk_180 1 85 (dk_at dksX4_clauseIsOver_0 20 rfl rfl)
theorem dX4_clauseIsOver_23 : decode cX4_clauseIsOver 23 = .ok (.iconst 1, 1) := dk_4 (dk_at dksX4_clauseIsOver_0 23 rfl rfl)
theorem dX4_clauseIsOver_24 : decode cX4_clauseIsOver 24 = .ok (.iadd, 1) := dk_96 (dk_at dksX4_clauseIsOver_1 0 rfl rfl)
theorem dX4_clauseIsOver_25 : decode cX4_clauseIsOver 25 = .ok (.putfield 341, 3) := dk_181 1 85 (dk_at dksX4_clauseIsOver_1 1 rfl rfl)
theorem dX4_clauseIsOver_28 : decode cX4_clauseIsOver 28 = .ok (.aload_n 0, 1) := dk_42 (dk_at dksX4_clauseIsOver_1 4 rfl rfl)
theorem dX4_clauseIsOver_29 : decode cX4_clauseIsOver 29 = .ok (.invokevirtual 290, 3) := dk_182 1 34 (dk_at dksX4_clauseIsOver_1 5 rfl rfl)
theorem dX4_clauseIsOver_32 : decode cX4_clauseIsOver 32 = .ok (.aload_n 0, 1) := dk_42 (dk_at dksX4_clauseIsOver_1 8 rfl rfl)
theorem dX4_clauseIsOver_33 : decode cX4_clauseIsOver 33 = .ok (.iconst 4, 1) := dk_7 (dk_at dksX4_clauseIsOver_1 9 rfl rfl)
theorem dX4_clauseIsOver_34 : decode cX4_clauseIsOver 34 = .ok (.putfield 313, 3) := dk_181 1 57 (dk_at dksX4_clauseIsOver_1 10 rfl rfl)
theorem dX4_clauseIsOver_37 : decode cX4_clauseIsOver 37 = .ok (.return_, 1) := dk_177 (dk_at dksX4_clauseIsOver_1 13 rfl rfl)
abbrev cX4_asksOn : ByteArray := prog_23_method_26_code
def yX4_asksOn : MethodName := ⟨RX4, "asksOn", "()V"⟩
def dkwX4_asksOn_3 : List UInt8 := [167, 0, 8, 42, 4, 182, 1, 28, 177]
abbrev dktX4_asksOn_3 : List UInt8 := dkwX4_asksOn_3 ++ []
def dkwX4_asksOn_2 : List UInt8 := [167, 0, 32, 42, 182, 1, 69, 5, 160, 0, 19, 42, 16, 59, 182, 1, 66, 153, 0, 10, 42, 182, 1, 82]
abbrev dktX4_asksOn_2 : List UInt8 := dkwX4_asksOn_2 ++ dktX4_asksOn_3
def dkwX4_asksOn_1 : List UInt8 := [182, 1, 51, 153, 0, 9, 17, 1, 151, 167, 0, 6, 17, 1, 150, 182, 1, 73, 42, 3, 181, 1, 57]
abbrev dktX4_asksOn_1 : List UInt8 := dkwX4_asksOn_1 ++ dktX4_asksOn_2
def dkwX4_asksOn_0 : List UInt8 := [42, 16, 10, 182, 1, 51, 154, 0, 12, 42, 16, 11, 182, 1, 51, 153, 0, 33, 42, 42, 16, 10]
abbrev dktX4_asksOn_0 : List UInt8 := dkwX4_asksOn_0 ++ dktX4_asksOn_1
theorem dksX4_asksOn_0 : cX4_asksOn.data.toList.drop 0 = dktX4_asksOn_0 := by decide +kernel
theorem dksX4_asksOn_1 : cX4_asksOn.data.toList.drop 22 = dktX4_asksOn_1 := dk_seg dksX4_asksOn_0 22 rfl rfl
theorem dksX4_asksOn_2 : cX4_asksOn.data.toList.drop 45 = dktX4_asksOn_2 := dk_seg dksX4_asksOn_1 23 rfl rfl
theorem dksX4_asksOn_3 : cX4_asksOn.data.toList.drop 69 = dktX4_asksOn_3 := dk_seg dksX4_asksOn_2 24 rfl rfl
theorem dX4_asksOn_0 : decode cX4_asksOn 0 = .ok (.aload_n 0, 1) := dk_42 (dk_at dksX4_asksOn_0 0 rfl rfl)
theorem dX4_asksOn_1 : decode cX4_asksOn 1 = .ok (.bipush 10, 2) := dk_16 10 (dk_at dksX4_asksOn_0 1 rfl rfl)
theorem dX4_asksOn_3 : decode cX4_asksOn 3 = .ok (.invokevirtual 307, 3) := dk_182 1 51 (dk_at dksX4_asksOn_0 3 rfl rfl)
theorem dX4_asksOn_6 : decode cX4_asksOn 6 = .ok (.ifCond .ne 12, 3) := dk_154 0 12 (dk_at dksX4_asksOn_0 6 rfl rfl)
theorem dX4_asksOn_9 : decode cX4_asksOn 9 = .ok (.aload_n 0, 1) := dk_42 (dk_at dksX4_asksOn_0 9 rfl rfl)
theorem dX4_asksOn_10 : decode cX4_asksOn 10 = .ok (.bipush 11, 2) := dk_16 11 (dk_at dksX4_asksOn_0 10 rfl rfl)
theorem dX4_asksOn_12 : decode cX4_asksOn 12 = .ok (.invokevirtual 307, 3) := dk_182 1 51 (dk_at dksX4_asksOn_0 12 rfl rfl)
theorem dX4_asksOn_15 : decode cX4_asksOn 15 = .ok (.ifCond .eq 33, 3) := dk_153 0 33 (dk_at dksX4_asksOn_0 15 rfl rfl)
theorem dX4_asksOn_18 : decode cX4_asksOn 18 = .ok (.aload_n 0, 1) := dk_42 (dk_at dksX4_asksOn_0 18 rfl rfl)
theorem dX4_asksOn_19 : decode cX4_asksOn 19 = .ok (.aload_n 0, 1) := dk_42 (dk_at dksX4_asksOn_0 19 rfl rfl)
theorem dX4_asksOn_20 : decode cX4_asksOn 20 = .ok (.bipush 10, 2) := dk_16 10 (dk_at dksX4_asksOn_0 20 rfl rfl)
theorem dX4_asksOn_22 : decode cX4_asksOn 22 = .ok (.invokevirtual 307, 3) := dk_182 1 51 (dk_at dksX4_asksOn_1 0 rfl rfl)
theorem dX4_asksOn_25 : decode cX4_asksOn 25 = .ok (.ifCond .eq 9, 3) := dk_153 0 9 (dk_at dksX4_asksOn_1 3 rfl rfl)
theorem dX4_asksOn_28 : decode cX4_asksOn 28 = .ok (.sipush 407, 3) := dk_17 1 151 (dk_at dksX4_asksOn_1 6 rfl rfl)
theorem dX4_asksOn_31 : decode cX4_asksOn 31 = .ok (.goto 6, 3) := dk_167 0 6 (dk_at dksX4_asksOn_1 9 rfl rfl)
theorem dX4_asksOn_34 : decode cX4_asksOn 34 = .ok (.sipush 406, 3) := dk_17 1 150 (dk_at dksX4_asksOn_1 12 rfl rfl)
theorem dX4_asksOn_37 : decode cX4_asksOn 37 = .ok (.invokevirtual 329, 3) := dk_182 1 73 (dk_at dksX4_asksOn_1 15 rfl rfl)
theorem dX4_asksOn_40 : decode cX4_asksOn 40 = .ok (.aload_n 0, 1) := dk_42 (dk_at dksX4_asksOn_1 18 rfl rfl)
theorem dX4_asksOn_41 : decode cX4_asksOn 41 = .ok (.iconst 0, 1) := dk_3 (dk_at dksX4_asksOn_1 19 rfl rfl)
theorem dX4_asksOn_42 : decode cX4_asksOn 42 = .ok (.putfield 313, 3) := dk_181 1 57 (dk_at dksX4_asksOn_1 20 rfl rfl)
theorem dX4_asksOn_45 : decode cX4_asksOn 45 = .ok (.goto 32, 3) := dk_167 0 32 (dk_at dksX4_asksOn_2 0 rfl rfl)
theorem dX4_asksOn_48 : decode cX4_asksOn 48 = .ok (.aload_n 0, 1) := dk_42 (dk_at dksX4_asksOn_2 3 rfl rfl)
theorem dX4_asksOn_49 : decode cX4_asksOn 49 = .ok (.invokevirtual 325, 3) := dk_182 1 69 (dk_at dksX4_asksOn_2 4 rfl rfl)
theorem dX4_asksOn_52 : decode cX4_asksOn 52 = .ok (.iconst 2, 1) := dk_5 (dk_at dksX4_asksOn_2 7 rfl rfl)
theorem dX4_asksOn_53 : decode cX4_asksOn 53 = .ok (.if_icmp .ne 19, 3) := dk_160 0 19 (dk_at dksX4_asksOn_2 8 rfl rfl)
theorem dX4_asksOn_56 : decode cX4_asksOn 56 = .ok (.aload_n 0, 1) := dk_42 (dk_at dksX4_asksOn_2 11 rfl rfl)
theorem dX4_asksOn_57 : decode cX4_asksOn 57 = .ok (.bipush 59, 2) := dk_16 59 (dk_at dksX4_asksOn_2 12 rfl rfl)
theorem dX4_asksOn_59 : decode cX4_asksOn 59 = .ok (.invokevirtual 322, 3) := dk_182 1 66 (dk_at dksX4_asksOn_2 14 rfl rfl)
theorem dX4_asksOn_62 : decode cX4_asksOn 62 = .ok (.ifCond .eq 10, 3) := dk_153 0 10 (dk_at dksX4_asksOn_2 17 rfl rfl)
theorem dX4_asksOn_65 : decode cX4_asksOn 65 = .ok (.aload_n 0, 1) := dk_42 (dk_at dksX4_asksOn_2 20 rfl rfl)
theorem dX4_asksOn_66 : decode cX4_asksOn 66 = .ok (.invokevirtual 338, 3) := dk_182 1 82 (dk_at dksX4_asksOn_2 21 rfl rfl)
theorem dX4_asksOn_69 : decode cX4_asksOn 69 = .ok (.goto 8, 3) := dk_167 0 8 (dk_at dksX4_asksOn_3 0 rfl rfl)
theorem dX4_asksOn_72 : decode cX4_asksOn 72 = .ok (.aload_n 0, 1) := dk_42 (dk_at dksX4_asksOn_3 3 rfl rfl)
theorem dX4_asksOn_73 : decode cX4_asksOn 73 = .ok (.iconst 1, 1) := dk_4 (dk_at dksX4_asksOn_3 4 rfl rfl)
theorem dX4_asksOn_74 : decode cX4_asksOn 74 = .ok (.invokevirtual 284, 3) := dk_182 1 28 (dk_at dksX4_asksOn_3 5 rfl rfl)
theorem dX4_asksOn_77 : decode cX4_asksOn 77 = .ok (.return_, 1) := dk_177 (dk_at dksX4_asksOn_3 8 rfl rfl)
abbrev cX4_clause : ByteArray := prog_23_method_32_code
def yX4_clause : MethodName := ⟨RX4, "clause", "()V"⟩
def dkwX4_clause_6 : List UInt8 := [180, 1, 63, 5, 160, 0, 7, 3, 167, 0, 4, 4, 181, 1, 57, 177]
abbrev dktX4_clause_6 : List UInt8 := dkwX4_clause_6 ++ []
def dkwX4_clause_5 : List UInt8 := [167, 0, 37, 42, 42, 180, 1, 63, 5, 160, 0, 7, 5, 167, 0, 4, 4, 182, 1, 31, 42, 42]
abbrev dktX4_clause_5 : List UInt8 := dkwX4_clause_5 ++ dktX4_clause_6
def dkwX4_clause_4 : List UInt8 := [42, 180, 1, 85, 42, 180, 1, 19, 79, 42, 182, 1, 34, 42, 180, 1, 63, 154, 0, 10, 42, 182, 1, 99]
abbrev dktX4_clause_4 : List UInt8 := dkwX4_clause_4 ++ dktX4_clause_5
def dkwX4_clause_3 : List UInt8 := [180, 1, 13, 158, 0, 4, 177, 42, 180, 0, 75, 42, 180, 1, 85, 42, 180, 1, 63, 79, 42, 180, 0, 78]
abbrev dktX4_clause_3 : List UInt8 := dkwX4_clause_3 ++ dktX4_clause_4
def dkwX4_clause_2 : List UInt8 := [182, 1, 28, 167, 0, 18, 42, 180, 1, 85, 16, 24, 160, 0, 9, 42, 16, 6, 182, 1, 28, 42]
abbrev dktX4_clause_2 : List UInt8 := dkwX4_clause_2 ++ dktX4_clause_3
def dkwX4_clause_1 : List UInt8 := [180, 1, 9, 181, 1, 63, 42, 180, 1, 63, 4, 160, 0, 18, 42, 182, 1, 95, 153, 0, 11, 42, 7]
abbrev dktX4_clause_1 : List UInt8 := dkwX4_clause_1 ++ dktX4_clause_2
def dkwX4_clause_0 : List UInt8 := [42, 180, 0, 252, 4, 160, 0, 11, 42, 180, 1, 9, 5, 164, 0, 9, 42, 4, 182, 1, 28, 177, 42, 42]
abbrev dktX4_clause_0 : List UInt8 := dkwX4_clause_0 ++ dktX4_clause_1
theorem dksX4_clause_0 : cX4_clause.data.toList.drop 0 = dktX4_clause_0 := by decide +kernel
theorem dksX4_clause_1 : cX4_clause.data.toList.drop 24 = dktX4_clause_1 := dk_seg dksX4_clause_0 24 rfl rfl
theorem dksX4_clause_2 : cX4_clause.data.toList.drop 47 = dktX4_clause_2 := dk_seg dksX4_clause_1 23 rfl rfl
theorem dksX4_clause_3 : cX4_clause.data.toList.drop 69 = dktX4_clause_3 := dk_seg dksX4_clause_2 22 rfl rfl
theorem dksX4_clause_4 : cX4_clause.data.toList.drop 93 = dktX4_clause_4 := dk_seg dksX4_clause_3 24 rfl rfl
theorem dksX4_clause_5 : cX4_clause.data.toList.drop 117 = dktX4_clause_5 := dk_seg dksX4_clause_4 24 rfl rfl
theorem dksX4_clause_6 : cX4_clause.data.toList.drop 139 = dktX4_clause_6 := dk_seg dksX4_clause_5 22 rfl rfl
theorem dX4_clause_0 : decode cX4_clause 0 = .ok (.aload_n 0, 1) := dk_42 (dk_at dksX4_clause_0 0 rfl rfl)
theorem dX4_clause_1 : decode cX4_clause 1 = .ok (.getfield 252, 3) := dk_180 0 252 (dk_at dksX4_clause_0 1 rfl rfl)
theorem dX4_clause_4 : decode cX4_clause 4 = .ok (.iconst 1, 1) := dk_4 (dk_at dksX4_clause_0 4 rfl rfl)
theorem dX4_clause_5 : decode cX4_clause 5 = .ok (.if_icmp .ne 11, 3) := dk_160 0 11 (dk_at dksX4_clause_0 5 rfl rfl)
theorem dX4_clause_8 : decode cX4_clause 8 = .ok (.aload_n 0, 1) := dk_42 (dk_at dksX4_clause_0 8 rfl rfl)
theorem dX4_clause_9 : decode cX4_clause 9 = .ok (.getfield 265, 3) := dk_180 1 9 (dk_at dksX4_clause_0 9 rfl rfl)
theorem dX4_clause_12 : decode cX4_clause 12 = .ok (.iconst 2, 1) := dk_5 (dk_at dksX4_clause_0 12 rfl rfl)
theorem dX4_clause_13 : decode cX4_clause 13 = .ok (.if_icmp .le 9, 3) := dk_164 0 9 (dk_at dksX4_clause_0 13 rfl rfl)
theorem dX4_clause_16 : decode cX4_clause 16 = .ok (.aload_n 0, 1) := dk_42 (dk_at dksX4_clause_0 16 rfl rfl)
theorem dX4_clause_17 : decode cX4_clause 17 = .ok (.iconst 1, 1) := dk_4 (dk_at dksX4_clause_0 17 rfl rfl)
theorem dX4_clause_18 : decode cX4_clause 18 = .ok (.invokevirtual 284, 3) := dk_182 1 28 (dk_at dksX4_clause_0 18 rfl rfl)
theorem dX4_clause_21 : decode cX4_clause 21 = .ok (.return_, 1) := dk_177 (dk_at dksX4_clause_0 21 rfl rfl)
theorem dX4_clause_22 : decode cX4_clause 22 = .ok (.aload_n 0, 1) := dk_42 (dk_at dksX4_clause_0 22 rfl rfl)
theorem dX4_clause_23 : decode cX4_clause 23 = .ok (.aload_n 0, 1) := dk_42 (dk_at dksX4_clause_0 23 rfl rfl)
theorem dX4_clause_24 : decode cX4_clause 24 = .ok (.getfield 265, 3) := dk_180 1 9 (dk_at dksX4_clause_1 0 rfl rfl)
theorem dX4_clause_27 : decode cX4_clause 27 = .ok (.putfield 319, 3) := dk_181 1 63 (dk_at dksX4_clause_1 3 rfl rfl)
theorem dX4_clause_30 : decode cX4_clause 30 = .ok (.aload_n 0, 1) := dk_42 (dk_at dksX4_clause_1 6 rfl rfl)
theorem dX4_clause_31 : decode cX4_clause 31 = .ok (.getfield 319, 3) := dk_180 1 63 (dk_at dksX4_clause_1 7 rfl rfl)
theorem dX4_clause_34 : decode cX4_clause 34 = .ok (.iconst 1, 1) := dk_4 (dk_at dksX4_clause_1 10 rfl rfl)
theorem dX4_clause_35 : decode cX4_clause 35 = .ok (.if_icmp .ne 18, 3) := dk_160 0 18 (dk_at dksX4_clause_1 11 rfl rfl)
theorem dX4_clause_38 : decode cX4_clause 38 = .ok (.aload_n 0, 1) := dk_42 (dk_at dksX4_clause_1 14 rfl rfl)
theorem dX4_clause_39 : decode cX4_clause 39 = .ok (.invokevirtual 351, 3) := dk_182 1 95 (dk_at dksX4_clause_1 15 rfl rfl)
theorem dX4_clause_42 : decode cX4_clause 42 = .ok (.ifCond .eq 11, 3) := dk_153 0 11 (dk_at dksX4_clause_1 18 rfl rfl)
theorem dX4_clause_45 : decode cX4_clause 45 = .ok (.aload_n 0, 1) := dk_42 (dk_at dksX4_clause_1 21 rfl rfl)
theorem dX4_clause_46 : decode cX4_clause 46 = .ok (.iconst 4, 1) := dk_7 (dk_at dksX4_clause_1 22 rfl rfl)
theorem dX4_clause_47 : decode cX4_clause 47 = .ok (.invokevirtual 284, 3) := dk_182 1 28 (dk_at dksX4_clause_2 0 rfl rfl)
theorem dX4_clause_50 : decode cX4_clause 50 = .ok (.goto 18, 3) := dk_167 0 18 (dk_at dksX4_clause_2 3 rfl rfl)
theorem dX4_clause_53 : decode cX4_clause 53 = .ok (.aload_n 0, 1) := dk_42 (dk_at dksX4_clause_2 6 rfl rfl)
theorem dX4_clause_54 : decode cX4_clause 54 = .ok (.getfield 341, 3) := dk_180 1 85 (dk_at dksX4_clause_2 7 rfl rfl)
theorem dX4_clause_57 : decode cX4_clause 57 = .ok (.bipush 24, 2) := dk_16 24 (dk_at dksX4_clause_2 10 rfl rfl)
theorem dX4_clause_59 : decode cX4_clause 59 = .ok (.if_icmp .ne 9, 3) := dk_160 0 9 (dk_at dksX4_clause_2 12 rfl rfl)
theorem dX4_clause_62 : decode cX4_clause 62 = .ok (.aload_n 0, 1) := dk_42 (dk_at dksX4_clause_2 15 rfl rfl)
theorem dX4_clause_63 : decode cX4_clause 63 = .ok (.bipush 6, 2) := dk_16 6 (dk_at dksX4_clause_2 16 rfl rfl)
theorem dX4_clause_65 : decode cX4_clause 65 = .ok (.invokevirtual 284, 3) := dk_182 1 28 (dk_at dksX4_clause_2 18 rfl rfl)
theorem dX4_clause_68 : decode cX4_clause 68 = .ok (.aload_n 0, 1) := dk_42 (dk_at dksX4_clause_2 21 rfl rfl)
theorem dX4_clause_69 : decode cX4_clause 69 = .ok (.getfield 269, 3) := dk_180 1 13 (dk_at dksX4_clause_3 0 rfl rfl)
theorem dX4_clause_72 : decode cX4_clause 72 = .ok (.ifCond .le 4, 3) := dk_158 0 4 (dk_at dksX4_clause_3 3 rfl rfl)
theorem dX4_clause_75 : decode cX4_clause 75 = .ok (.return_, 1) := dk_177 (dk_at dksX4_clause_3 6 rfl rfl)
theorem dX4_clause_76 : decode cX4_clause 76 = .ok (.aload_n 0, 1) := dk_42 (dk_at dksX4_clause_3 7 rfl rfl)
theorem dX4_clause_77 : decode cX4_clause 77 = .ok (.getfield 75, 3) := dk_180 0 75 (dk_at dksX4_clause_3 8 rfl rfl)
theorem dX4_clause_80 : decode cX4_clause 80 = .ok (.aload_n 0, 1) := dk_42 (dk_at dksX4_clause_3 11 rfl rfl)
theorem dX4_clause_81 : decode cX4_clause 81 = .ok (.getfield 341, 3) := dk_180 1 85 (dk_at dksX4_clause_3 12 rfl rfl)
theorem dX4_clause_84 : decode cX4_clause 84 = .ok (.aload_n 0, 1) := dk_42 (dk_at dksX4_clause_3 15 rfl rfl)
theorem dX4_clause_85 : decode cX4_clause 85 = .ok (.getfield 319, 3) := dk_180 1 63 (dk_at dksX4_clause_3 16 rfl rfl)
theorem dX4_clause_88 : decode cX4_clause 88 = .ok (.iastore, 1) := dk_79 (dk_at dksX4_clause_3 19 rfl rfl)
theorem dX4_clause_89 : decode cX4_clause 89 = .ok (.aload_n 0, 1) := dk_42 (dk_at dksX4_clause_3 20 rfl rfl)
theorem dX4_clause_90 : decode cX4_clause 90 = .ok (.getfield 78, 3) := dk_180 0 78 (dk_at dksX4_clause_3 21 rfl rfl)
theorem dX4_clause_93 : decode cX4_clause 93 = .ok (.aload_n 0, 1) := dk_42 (dk_at dksX4_clause_4 0 rfl rfl)
theorem dX4_clause_94 : decode cX4_clause 94 = .ok (.getfield 341, 3) := dk_180 1 85 (dk_at dksX4_clause_4 1 rfl rfl)
theorem dX4_clause_97 : decode cX4_clause 97 = .ok (.aload_n 0, 1) := dk_42 (dk_at dksX4_clause_4 4 rfl rfl)
theorem dX4_clause_98 : decode cX4_clause 98 = .ok (.getfield 275, 3) := dk_180 1 19 (dk_at dksX4_clause_4 5 rfl rfl)
theorem dX4_clause_101 : decode cX4_clause 101 = .ok (.iastore, 1) := dk_79 (dk_at dksX4_clause_4 8 rfl rfl)
theorem dX4_clause_102 : decode cX4_clause 102 = .ok (.aload_n 0, 1) := dk_42 (dk_at dksX4_clause_4 9 rfl rfl)
theorem dX4_clause_103 : decode cX4_clause 103 = .ok (.invokevirtual 290, 3) := dk_182 1 34 (dk_at dksX4_clause_4 10 rfl rfl)
theorem dX4_clause_106 : decode cX4_clause 106 = .ok (.aload_n 0, 1) := dk_42 (dk_at dksX4_clause_4 13 rfl rfl)
theorem dX4_clause_107 : decode cX4_clause 107 = .ok (.getfield 319, 3) := dk_180 1 63 (dk_at dksX4_clause_4 14 rfl rfl)
theorem dX4_clause_110 : decode cX4_clause 110 = .ok (.ifCond .ne 10, 3) := dk_154 0 10 (dk_at dksX4_clause_4 17 rfl rfl)
theorem dX4_clause_113 : decode cX4_clause 113 = .ok (.aload_n 0, 1) := dk_42 (dk_at dksX4_clause_4 20 rfl rfl)
theorem dX4_clause_114 : decode cX4_clause 114 = .ok (.invokevirtual 355, 3) := dk_182 1 99 (dk_at dksX4_clause_4 21 rfl rfl)
theorem dX4_clause_117 : decode cX4_clause 117 = .ok (.goto 37, 3) := dk_167 0 37 (dk_at dksX4_clause_5 0 rfl rfl)
theorem dX4_clause_120 : decode cX4_clause 120 = .ok (.aload_n 0, 1) := dk_42 (dk_at dksX4_clause_5 3 rfl rfl)
theorem dX4_clause_121 : decode cX4_clause 121 = .ok (.aload_n 0, 1) := dk_42 (dk_at dksX4_clause_5 4 rfl rfl)
theorem dX4_clause_122 : decode cX4_clause 122 = .ok (.getfield 319, 3) := dk_180 1 63 (dk_at dksX4_clause_5 5 rfl rfl)
theorem dX4_clause_125 : decode cX4_clause 125 = .ok (.iconst 2, 1) := dk_5 (dk_at dksX4_clause_5 8 rfl rfl)
theorem dX4_clause_126 : decode cX4_clause 126 = .ok (.if_icmp .ne 7, 3) := dk_160 0 7 (dk_at dksX4_clause_5 9 rfl rfl)
theorem dX4_clause_129 : decode cX4_clause 129 = .ok (.iconst 2, 1) := dk_5 (dk_at dksX4_clause_5 12 rfl rfl)
theorem dX4_clause_130 : decode cX4_clause 130 = .ok (.goto 4, 3) := dk_167 0 4 (dk_at dksX4_clause_5 13 rfl rfl)
theorem dX4_clause_133 : decode cX4_clause 133 = .ok (.iconst 1, 1) := dk_4 (dk_at dksX4_clause_5 16 rfl rfl)
theorem dX4_clause_134 : decode cX4_clause 134 = .ok (.invokevirtual 287, 3) := dk_182 1 31 (dk_at dksX4_clause_5 17 rfl rfl)
theorem dX4_clause_137 : decode cX4_clause 137 = .ok (.aload_n 0, 1) := dk_42 (dk_at dksX4_clause_5 20 rfl rfl)
theorem dX4_clause_138 : decode cX4_clause 138 = .ok (.aload_n 0, 1) := dk_42 (dk_at dksX4_clause_5 21 rfl rfl)
theorem dX4_clause_139 : decode cX4_clause 139 = .ok (.getfield 319, 3) := dk_180 1 63 (dk_at dksX4_clause_6 0 rfl rfl)
theorem dX4_clause_142 : decode cX4_clause 142 = .ok (.iconst 2, 1) := dk_5 (dk_at dksX4_clause_6 3 rfl rfl)
theorem dX4_clause_143 : decode cX4_clause 143 = .ok (.if_icmp .ne 7, 3) := dk_160 0 7 (dk_at dksX4_clause_6 4 rfl rfl)
theorem dX4_clause_146 : decode cX4_clause 146 = .ok (.iconst 0, 1) := dk_3 (dk_at dksX4_clause_6 7 rfl rfl)
theorem dX4_clause_147 : decode cX4_clause 147 = .ok (.goto 4, 3) := dk_167 0 4 (dk_at dksX4_clause_6 8 rfl rfl)
theorem dX4_clause_150 : decode cX4_clause 150 = .ok (.iconst 1, 1) := dk_4 (dk_at dksX4_clause_6 11 rfl rfl)
theorem dX4_clause_151 : decode cX4_clause 151 = .ok (.putfield 313, 3) := dk_181 1 57 (dk_at dksX4_clause_6 12 rfl rfl)
theorem dX4_clause_154 : decode cX4_clause 154 = .ok (.return_, 1) := dk_177 (dk_at dksX4_clause_6 15 rfl rfl)
abbrev cX4_wasWeighed : ByteArray := prog_23_method_31_code
def yX4_wasWeighed : MethodName := ⟨RX4, "wasWeighed", "()Z"⟩
def dkwX4_wasWeighed_1 : List UInt8 := [160, 0, 7, 4, 167, 0, 4, 3, 60, 132, 2, 1, 167, 255, 225, 27, 172]
abbrev dktX4_wasWeighed_1 : List UInt8 := dkwX4_wasWeighed_1 ++ []
def dkwX4_wasWeighed_0 : List UInt8 := [3, 60, 3, 61, 28, 42, 180, 1, 85, 162, 0, 29, 27, 154, 0, 13, 42, 180, 0, 75, 28, 46, 4]
abbrev dktX4_wasWeighed_0 : List UInt8 := dkwX4_wasWeighed_0 ++ dktX4_wasWeighed_1
theorem dksX4_wasWeighed_0 : cX4_wasWeighed.data.toList.drop 0 = dktX4_wasWeighed_0 := by decide +kernel
theorem dksX4_wasWeighed_1 : cX4_wasWeighed.data.toList.drop 23 = dktX4_wasWeighed_1 := dk_seg dksX4_wasWeighed_0 23 rfl rfl
theorem dX4_wasWeighed_0 : decode cX4_wasWeighed 0 = .ok (.iconst 0, 1) := dk_3 (dk_at dksX4_wasWeighed_0 0 rfl rfl)
theorem dX4_wasWeighed_1 : decode cX4_wasWeighed 1 = .ok (.istore_n 1, 1) := dk_60 (dk_at dksX4_wasWeighed_0 1 rfl rfl)
theorem dX4_wasWeighed_2 : decode cX4_wasWeighed 2 = .ok (.iconst 0, 1) := dk_3 (dk_at dksX4_wasWeighed_0 2 rfl rfl)
theorem dX4_wasWeighed_3 : decode cX4_wasWeighed 3 = .ok (.istore_n 2, 1) := dk_61 (dk_at dksX4_wasWeighed_0 3 rfl rfl)
theorem dX4_wasWeighed_4 : decode cX4_wasWeighed 4 = .ok (.iload_n 2, 1) := dk_28 (dk_at dksX4_wasWeighed_0 4 rfl rfl)
theorem dX4_wasWeighed_5 : decode cX4_wasWeighed 5 = .ok (.aload_n 0, 1) := dk_42 (dk_at dksX4_wasWeighed_0 5 rfl rfl)
theorem dX4_wasWeighed_6 : decode cX4_wasWeighed 6 = .ok (.getfield 341, 3) := dk_180 1 85 (dk_at dksX4_wasWeighed_0 6 rfl rfl)
theorem dX4_wasWeighed_9 : decode cX4_wasWeighed 9 = .ok (.if_icmp .ge 29, 3) := dk_162 0 29 (dk_at dksX4_wasWeighed_0 9 rfl rfl)
theorem dX4_wasWeighed_12 : decode cX4_wasWeighed 12 = .ok (.iload_n 1, 1) := dk_27 (dk_at dksX4_wasWeighed_0 12 rfl rfl)
theorem dX4_wasWeighed_13 : decode cX4_wasWeighed 13 = .ok (.ifCond .ne 13, 3) := dk_154 0 13 (dk_at dksX4_wasWeighed_0 13 rfl rfl)
theorem dX4_wasWeighed_16 : decode cX4_wasWeighed 16 = .ok (.aload_n 0, 1) := dk_42 (dk_at dksX4_wasWeighed_0 16 rfl rfl)
theorem dX4_wasWeighed_17 : decode cX4_wasWeighed 17 = .ok (.getfield 75, 3) := dk_180 0 75 (dk_at dksX4_wasWeighed_0 17 rfl rfl)
theorem dX4_wasWeighed_20 : decode cX4_wasWeighed 20 = .ok (.iload_n 2, 1) := dk_28 (dk_at dksX4_wasWeighed_0 20 rfl rfl)
theorem dX4_wasWeighed_21 : decode cX4_wasWeighed 21 = .ok (.iaload, 1) := dk_46 (dk_at dksX4_wasWeighed_0 21 rfl rfl)
theorem dX4_wasWeighed_22 : decode cX4_wasWeighed 22 = .ok (.iconst 1, 1) := dk_4 (dk_at dksX4_wasWeighed_0 22 rfl rfl)
theorem dX4_wasWeighed_23 : decode cX4_wasWeighed 23 = .ok (.if_icmp .ne 7, 3) := dk_160 0 7 (dk_at dksX4_wasWeighed_1 0 rfl rfl)
theorem dX4_wasWeighed_26 : decode cX4_wasWeighed 26 = .ok (.iconst 1, 1) := dk_4 (dk_at dksX4_wasWeighed_1 3 rfl rfl)
theorem dX4_wasWeighed_27 : decode cX4_wasWeighed 27 = .ok (.goto 4, 3) := dk_167 0 4 (dk_at dksX4_wasWeighed_1 4 rfl rfl)
theorem dX4_wasWeighed_30 : decode cX4_wasWeighed 30 = .ok (.iconst 0, 1) := dk_3 (dk_at dksX4_wasWeighed_1 7 rfl rfl)
theorem dX4_wasWeighed_31 : decode cX4_wasWeighed 31 = .ok (.istore_n 1, 1) := dk_60 (dk_at dksX4_wasWeighed_1 8 rfl rfl)
theorem dX4_wasWeighed_32 : decode cX4_wasWeighed 32 = .ok (.iinc 2 1, 3) := dk_132 2 1 (dk_at dksX4_wasWeighed_1 9 rfl rfl)
theorem dX4_wasWeighed_35 : decode cX4_wasWeighed 35 = .ok (.goto (-31), 3) := dk_167 255 225 (dk_at dksX4_wasWeighed_1 12 rfl rfl)
theorem dX4_wasWeighed_38 : decode cX4_wasWeighed 38 = .ok (.iload_n 1, 1) := dk_27 (dk_at dksX4_wasWeighed_1 15 rfl rfl)
theorem dX4_wasWeighed_39 : decode cX4_wasWeighed 39 = .ok (.ireturn, 1) := dk_172 (dk_at dksX4_wasWeighed_1 16 rfl rfl)
abbrev cX4_readsSense : ByteArray := prog_23_method_30_code
def yX4_readsSense : MethodName := ⟨RX4, "readsSense", "()V"⟩
def dkwX4_readsSense_11 : List UInt8 := [180, 1, 13, 154, 0, 7, 42, 182, 1, 82, 177]
abbrev dktX4_readsSense_11 : List UInt8 := dkwX4_readsSense_11 ++ []
def dkwX4_readsSense_10 : List UInt8 := [79, 42, 180, 1, 13, 154, 0, 17, 42, 16, 59, 182, 1, 66, 154, 0, 8, 42, 4, 182, 1, 28, 42]
abbrev dktX4_readsSense_10 : List UInt8 := dkwX4_readsSense_10 ++ dktX4_readsSense_11
def dkwX4_readsSense_9 : List UInt8 := [42, 16, 44, 182, 1, 66, 182, 1, 92, 42, 180, 0, 81, 27, 16, 6, 96, 42, 3, 16, 99, 182, 1, 88]
abbrev dktX4_readsSense_9 : List UInt8 := dkwX4_readsSense_9 ++ dktX4_readsSense_10
def dkwX4_readsSense_8 : List UInt8 := [182, 1, 92, 42, 180, 0, 81, 27, 8, 96, 42, 4, 16, 9, 182, 1, 88, 79, 28, 8, 159, 0, 29, 42]
abbrev dktX4_readsSense_8 : List UInt8 := dkwX4_readsSense_8 ++ dktX4_readsSense_9
def dkwX4_readsSense_7 : List UInt8 := [27, 7, 96, 42, 3, 16, 7, 182, 1, 88, 79, 28, 154, 0, 28, 42, 42, 16, 44, 182, 1, 66]
abbrev dktX4_readsSense_7 : List UInt8 := dkwX4_readsSense_7 ++ dktX4_readsSense_8
def dkwX4_readsSense_6 : List UInt8 := [6, 96, 42, 3, 16, 7, 182, 1, 88, 79, 42, 42, 16, 9, 182, 1, 51, 182, 1, 92, 42, 180, 0, 81]
abbrev dktX4_readsSense_6 : List UInt8 := dkwX4_readsSense_6 ++ dktX4_readsSense_7
def dkwX4_readsSense_5 : List UInt8 := [6, 159, 0, 33, 28, 8, 159, 0, 28, 42, 42, 16, 44, 182, 1, 66, 182, 1, 92, 42, 180, 0, 81, 27]
abbrev dktX4_readsSense_5 : List UInt8 := dkwX4_readsSense_5 ++ dktX4_readsSense_6
def dkwX4_readsSense_4 : List UInt8 := [4, 96, 28, 79, 28, 153, 0, 63, 42, 180, 0, 81, 27, 5, 96, 42, 3, 16, 7, 182, 1, 88, 79, 28]
abbrev dktX4_readsSense_4 : List UInt8 := dkwX4_readsSense_4 ++ dktX4_readsSense_5
def dkwX4_readsSense_3 : List UInt8 := [153, 0, 7, 4, 167, 0, 4, 3, 182, 1, 92, 42, 180, 1, 13, 158, 0, 4, 177, 42, 180, 0, 81, 27]
abbrev dktX4_readsSense_3 : List UInt8 := dkwX4_readsSense_3 ++ dktX4_readsSense_4
def dkwX4_readsSense_2 : List UInt8 := [6, 100, 61, 42, 42, 180, 0, 252, 4, 160, 0, 20, 42, 180, 1, 9, 6, 16, 8, 184, 0, 199]
abbrev dktX4_readsSense_2 : List UInt8 := dkwX4_readsSense_2 ++ dktX4_readsSense_3
def dkwX4_readsSense_1 : List UInt8 := [79, 132, 2, 1, 167, 255, 238, 42, 180, 0, 81, 27, 42, 3, 16, 19, 182, 1, 88, 79, 42, 180, 1, 9]
abbrev dktX4_readsSense_1 : List UInt8 := dkwX4_readsSense_1 ++ dktX4_readsSense_2
def dkwX4_readsSense_0 : List UInt8 := [16, 7, 42, 180, 1, 85, 104, 60, 3, 61, 28, 16, 7, 162, 0, 18, 42, 180, 0, 81, 27, 28, 96, 2]
abbrev dktX4_readsSense_0 : List UInt8 := dkwX4_readsSense_0 ++ dktX4_readsSense_1
theorem dksX4_readsSense_0 : cX4_readsSense.data.toList.drop 0 = dktX4_readsSense_0 := by decide +kernel
theorem dksX4_readsSense_1 : cX4_readsSense.data.toList.drop 24 = dktX4_readsSense_1 := dk_seg dksX4_readsSense_0 24 rfl rfl
theorem dksX4_readsSense_2 : cX4_readsSense.data.toList.drop 48 = dktX4_readsSense_2 := dk_seg dksX4_readsSense_1 24 rfl rfl
theorem dksX4_readsSense_3 : cX4_readsSense.data.toList.drop 70 = dktX4_readsSense_3 := dk_seg dksX4_readsSense_2 22 rfl rfl
theorem dksX4_readsSense_4 : cX4_readsSense.data.toList.drop 94 = dktX4_readsSense_4 := dk_seg dksX4_readsSense_3 24 rfl rfl
theorem dksX4_readsSense_5 : cX4_readsSense.data.toList.drop 118 = dktX4_readsSense_5 := dk_seg dksX4_readsSense_4 24 rfl rfl
theorem dksX4_readsSense_6 : cX4_readsSense.data.toList.drop 142 = dktX4_readsSense_6 := dk_seg dksX4_readsSense_5 24 rfl rfl
theorem dksX4_readsSense_7 : cX4_readsSense.data.toList.drop 166 = dktX4_readsSense_7 := dk_seg dksX4_readsSense_6 24 rfl rfl
theorem dksX4_readsSense_8 : cX4_readsSense.data.toList.drop 188 = dktX4_readsSense_8 := dk_seg dksX4_readsSense_7 22 rfl rfl
theorem dksX4_readsSense_9 : cX4_readsSense.data.toList.drop 212 = dktX4_readsSense_9 := dk_seg dksX4_readsSense_8 24 rfl rfl
theorem dksX4_readsSense_10 : cX4_readsSense.data.toList.drop 236 = dktX4_readsSense_10 := dk_seg dksX4_readsSense_9 24 rfl rfl
theorem dksX4_readsSense_11 : cX4_readsSense.data.toList.drop 259 = dktX4_readsSense_11 := dk_seg dksX4_readsSense_10 23 rfl rfl
theorem dX4_readsSense_0 : decode cX4_readsSense 0 = .ok (.bipush 7, 2) := dk_16 7 (dk_at dksX4_readsSense_0 0 rfl rfl)
theorem dX4_readsSense_2 : decode cX4_readsSense 2 = .ok (.aload_n 0, 1) := dk_42 (dk_at dksX4_readsSense_0 2 rfl rfl)
theorem dX4_readsSense_3 : decode cX4_readsSense 3 = .ok (.getfield 341, 3) := dk_180 1 85 (dk_at dksX4_readsSense_0 3 rfl rfl)
theorem dX4_readsSense_6 : decode cX4_readsSense 6 = .ok (.imul, 1) := dk_104 (dk_at dksX4_readsSense_0 6 rfl rfl)
theorem dX4_readsSense_7 : decode cX4_readsSense 7 = .ok (.istore_n 1, 1) := dk_60 (dk_at dksX4_readsSense_0 7 rfl rfl)
theorem dX4_readsSense_8 : decode cX4_readsSense 8 = .ok (.iconst 0, 1) := dk_3 (dk_at dksX4_readsSense_0 8 rfl rfl)
theorem dX4_readsSense_9 : decode cX4_readsSense 9 = .ok (.istore_n 2, 1) := dk_61 (dk_at dksX4_readsSense_0 9 rfl rfl)
theorem dX4_readsSense_10 : decode cX4_readsSense 10 = .ok (.iload_n 2, 1) := dk_28 (dk_at dksX4_readsSense_0 10 rfl rfl)
theorem dX4_readsSense_11 : decode cX4_readsSense 11 = .ok (.bipush 7, 2) := dk_16 7 (dk_at dksX4_readsSense_0 11 rfl rfl)
theorem dX4_readsSense_13 : decode cX4_readsSense 13 = .ok (.if_icmp .ge 18, 3) := dk_162 0 18 (dk_at dksX4_readsSense_0 13 rfl rfl)
theorem dX4_readsSense_16 : decode cX4_readsSense 16 = .ok (.aload_n 0, 1) := dk_42 (dk_at dksX4_readsSense_0 16 rfl rfl)
theorem dX4_readsSense_17 : decode cX4_readsSense 17 = .ok (.getfield 81, 3) := dk_180 0 81 (dk_at dksX4_readsSense_0 17 rfl rfl)
theorem dX4_readsSense_20 : decode cX4_readsSense 20 = .ok (.iload_n 1, 1) := dk_27 (dk_at dksX4_readsSense_0 20 rfl rfl)
theorem dX4_readsSense_21 : decode cX4_readsSense 21 = .ok (.iload_n 2, 1) := dk_28 (dk_at dksX4_readsSense_0 21 rfl rfl)
theorem dX4_readsSense_22 : decode cX4_readsSense 22 = .ok (.iadd, 1) := dk_96 (dk_at dksX4_readsSense_0 22 rfl rfl)
theorem dX4_readsSense_23 : decode cX4_readsSense 23 = .ok (.iconst (-1), 1) := dk_2 (dk_at dksX4_readsSense_0 23 rfl rfl)
theorem dX4_readsSense_24 : decode cX4_readsSense 24 = .ok (.iastore, 1) := dk_79 (dk_at dksX4_readsSense_1 0 rfl rfl)
theorem dX4_readsSense_25 : decode cX4_readsSense 25 = .ok (.iinc 2 1, 3) := dk_132 2 1 (dk_at dksX4_readsSense_1 1 rfl rfl)
theorem dX4_readsSense_28 : decode cX4_readsSense 28 = .ok (.goto (-18), 3) := dk_167 255 238 (dk_at dksX4_readsSense_1 4 rfl rfl)
theorem dX4_readsSense_31 : decode cX4_readsSense 31 = .ok (.aload_n 0, 1) := dk_42 (dk_at dksX4_readsSense_1 7 rfl rfl)
theorem dX4_readsSense_32 : decode cX4_readsSense 32 = .ok (.getfield 81, 3) := dk_180 0 81 (dk_at dksX4_readsSense_1 8 rfl rfl)
theorem dX4_readsSense_35 : decode cX4_readsSense 35 = .ok (.iload_n 1, 1) := dk_27 (dk_at dksX4_readsSense_1 11 rfl rfl)
theorem dX4_readsSense_36 : decode cX4_readsSense 36 = .ok (.aload_n 0, 1) := dk_42 (dk_at dksX4_readsSense_1 12 rfl rfl)
theorem dX4_readsSense_37 : decode cX4_readsSense 37 = .ok (.iconst 0, 1) := dk_3 (dk_at dksX4_readsSense_1 13 rfl rfl)
theorem dX4_readsSense_38 : decode cX4_readsSense 38 = .ok (.bipush 19, 2) := dk_16 19 (dk_at dksX4_readsSense_1 14 rfl rfl)
theorem dX4_readsSense_40 : decode cX4_readsSense 40 = .ok (.invokevirtual 344, 3) := dk_182 1 88 (dk_at dksX4_readsSense_1 16 rfl rfl)
theorem dX4_readsSense_43 : decode cX4_readsSense 43 = .ok (.iastore, 1) := dk_79 (dk_at dksX4_readsSense_1 19 rfl rfl)
theorem dX4_readsSense_44 : decode cX4_readsSense 44 = .ok (.aload_n 0, 1) := dk_42 (dk_at dksX4_readsSense_1 20 rfl rfl)
theorem dX4_readsSense_45 : decode cX4_readsSense 45 = .ok (.getfield 265, 3) := dk_180 1 9 (dk_at dksX4_readsSense_1 21 rfl rfl)
theorem dX4_readsSense_48 : decode cX4_readsSense 48 = .ok (.iconst 3, 1) := dk_6 (dk_at dksX4_readsSense_2 0 rfl rfl)
theorem dX4_readsSense_49 : decode cX4_readsSense 49 = .ok (.isub, 1) := dk_100 (dk_at dksX4_readsSense_2 1 rfl rfl)
theorem dX4_readsSense_50 : decode cX4_readsSense 50 = .ok (.istore_n 2, 1) := dk_61 (dk_at dksX4_readsSense_2 2 rfl rfl)
theorem dX4_readsSense_51 : decode cX4_readsSense 51 = .ok (.aload_n 0, 1) := dk_42 (dk_at dksX4_readsSense_2 3 rfl rfl)
theorem dX4_readsSense_52 : decode cX4_readsSense 52 = .ok (.aload_n 0, 1) := dk_42 (dk_at dksX4_readsSense_2 4 rfl rfl)
theorem dX4_readsSense_53 : decode cX4_readsSense 53 = .ok (.getfield 252, 3) := dk_180 0 252 (dk_at dksX4_readsSense_2 5 rfl rfl)
theorem dX4_readsSense_56 : decode cX4_readsSense 56 = .ok (.iconst 1, 1) := dk_4 (dk_at dksX4_readsSense_2 8 rfl rfl)
theorem dX4_readsSense_57 : decode cX4_readsSense 57 = .ok (.if_icmp .ne 20, 3) := dk_160 0 20 (dk_at dksX4_readsSense_2 9 rfl rfl)
theorem dX4_readsSense_60 : decode cX4_readsSense 60 = .ok (.aload_n 0, 1) := dk_42 (dk_at dksX4_readsSense_2 12 rfl rfl)
theorem dX4_readsSense_61 : decode cX4_readsSense 61 = .ok (.getfield 265, 3) := dk_180 1 9 (dk_at dksX4_readsSense_2 13 rfl rfl)
theorem dX4_readsSense_64 : decode cX4_readsSense 64 = .ok (.iconst 3, 1) := dk_6 (dk_at dksX4_readsSense_2 16 rfl rfl)
theorem dX4_readsSense_65 : decode cX4_readsSense 65 = .ok (.bipush 8, 2) := dk_16 8 (dk_at dksX4_readsSense_2 17 rfl rfl)
theorem dX4_readsSense_67 : decode cX4_readsSense 67 = .ok (.invokestatic 199, 3) := dk_184 0 199 (dk_at dksX4_readsSense_2 19 rfl rfl)
theorem dX4_readsSense_70 : decode cX4_readsSense 70 = .ok (.ifCond .eq 7, 3) := dk_153 0 7 (dk_at dksX4_readsSense_3 0 rfl rfl)
theorem dX4_readsSense_73 : decode cX4_readsSense 73 = .ok (.iconst 1, 1) := dk_4 (dk_at dksX4_readsSense_3 3 rfl rfl)
theorem dX4_readsSense_74 : decode cX4_readsSense 74 = .ok (.goto 4, 3) := dk_167 0 4 (dk_at dksX4_readsSense_3 4 rfl rfl)
theorem dX4_readsSense_77 : decode cX4_readsSense 77 = .ok (.iconst 0, 1) := dk_3 (dk_at dksX4_readsSense_3 7 rfl rfl)
theorem dX4_readsSense_78 : decode cX4_readsSense 78 = .ok (.invokevirtual 348, 3) := dk_182 1 92 (dk_at dksX4_readsSense_3 8 rfl rfl)
theorem dX4_readsSense_81 : decode cX4_readsSense 81 = .ok (.aload_n 0, 1) := dk_42 (dk_at dksX4_readsSense_3 11 rfl rfl)
theorem dX4_readsSense_82 : decode cX4_readsSense 82 = .ok (.getfield 269, 3) := dk_180 1 13 (dk_at dksX4_readsSense_3 12 rfl rfl)
theorem dX4_readsSense_85 : decode cX4_readsSense 85 = .ok (.ifCond .le 4, 3) := dk_158 0 4 (dk_at dksX4_readsSense_3 15 rfl rfl)
theorem dX4_readsSense_88 : decode cX4_readsSense 88 = .ok (.return_, 1) := dk_177 (dk_at dksX4_readsSense_3 18 rfl rfl)
theorem dX4_readsSense_89 : decode cX4_readsSense 89 = .ok (.aload_n 0, 1) := dk_42 (dk_at dksX4_readsSense_3 19 rfl rfl)
theorem dX4_readsSense_90 : decode cX4_readsSense 90 = .ok (.getfield 81, 3) := dk_180 0 81 (dk_at dksX4_readsSense_3 20 rfl rfl)
theorem dX4_readsSense_93 : decode cX4_readsSense 93 = .ok (.iload_n 1, 1) := dk_27 (dk_at dksX4_readsSense_3 23 rfl rfl)
theorem dX4_readsSense_94 : decode cX4_readsSense 94 = .ok (.iconst 1, 1) := dk_4 (dk_at dksX4_readsSense_4 0 rfl rfl)
theorem dX4_readsSense_95 : decode cX4_readsSense 95 = .ok (.iadd, 1) := dk_96 (dk_at dksX4_readsSense_4 1 rfl rfl)
theorem dX4_readsSense_96 : decode cX4_readsSense 96 = .ok (.iload_n 2, 1) := dk_28 (dk_at dksX4_readsSense_4 2 rfl rfl)
theorem dX4_readsSense_97 : decode cX4_readsSense 97 = .ok (.iastore, 1) := dk_79 (dk_at dksX4_readsSense_4 3 rfl rfl)
theorem dX4_readsSense_98 : decode cX4_readsSense 98 = .ok (.iload_n 2, 1) := dk_28 (dk_at dksX4_readsSense_4 4 rfl rfl)
theorem dX4_readsSense_99 : decode cX4_readsSense 99 = .ok (.ifCond .eq 63, 3) := dk_153 0 63 (dk_at dksX4_readsSense_4 5 rfl rfl)
theorem dX4_readsSense_102 : decode cX4_readsSense 102 = .ok (.aload_n 0, 1) := dk_42 (dk_at dksX4_readsSense_4 8 rfl rfl)
theorem dX4_readsSense_103 : decode cX4_readsSense 103 = .ok (.getfield 81, 3) := dk_180 0 81 (dk_at dksX4_readsSense_4 9 rfl rfl)
theorem dX4_readsSense_106 : decode cX4_readsSense 106 = .ok (.iload_n 1, 1) := dk_27 (dk_at dksX4_readsSense_4 12 rfl rfl)
theorem dX4_readsSense_107 : decode cX4_readsSense 107 = .ok (.iconst 2, 1) := dk_5 (dk_at dksX4_readsSense_4 13 rfl rfl)
theorem dX4_readsSense_108 : decode cX4_readsSense 108 = .ok (.iadd, 1) := dk_96 (dk_at dksX4_readsSense_4 14 rfl rfl)
theorem dX4_readsSense_109 : decode cX4_readsSense 109 = .ok (.aload_n 0, 1) := dk_42 (dk_at dksX4_readsSense_4 15 rfl rfl)
theorem dX4_readsSense_110 : decode cX4_readsSense 110 = .ok (.iconst 0, 1) := dk_3 (dk_at dksX4_readsSense_4 16 rfl rfl)
theorem dX4_readsSense_111 : decode cX4_readsSense 111 = .ok (.bipush 7, 2) := dk_16 7 (dk_at dksX4_readsSense_4 17 rfl rfl)
theorem dX4_readsSense_113 : decode cX4_readsSense 113 = .ok (.invokevirtual 344, 3) := dk_182 1 88 (dk_at dksX4_readsSense_4 19 rfl rfl)
theorem dX4_readsSense_116 : decode cX4_readsSense 116 = .ok (.iastore, 1) := dk_79 (dk_at dksX4_readsSense_4 22 rfl rfl)
theorem dX4_readsSense_117 : decode cX4_readsSense 117 = .ok (.iload_n 2, 1) := dk_28 (dk_at dksX4_readsSense_4 23 rfl rfl)
theorem dX4_readsSense_118 : decode cX4_readsSense 118 = .ok (.iconst 3, 1) := dk_6 (dk_at dksX4_readsSense_5 0 rfl rfl)
theorem dX4_readsSense_119 : decode cX4_readsSense 119 = .ok (.if_icmp .eq 33, 3) := dk_159 0 33 (dk_at dksX4_readsSense_5 1 rfl rfl)
theorem dX4_readsSense_122 : decode cX4_readsSense 122 = .ok (.iload_n 2, 1) := dk_28 (dk_at dksX4_readsSense_5 4 rfl rfl)
theorem dX4_readsSense_123 : decode cX4_readsSense 123 = .ok (.iconst 5, 1) := dk_8 (dk_at dksX4_readsSense_5 5 rfl rfl)
theorem dX4_readsSense_124 : decode cX4_readsSense 124 = .ok (.if_icmp .eq 28, 3) := dk_159 0 28 (dk_at dksX4_readsSense_5 6 rfl rfl)
theorem dX4_readsSense_127 : decode cX4_readsSense 127 = .ok (.aload_n 0, 1) := dk_42 (dk_at dksX4_readsSense_5 9 rfl rfl)
theorem dX4_readsSense_128 : decode cX4_readsSense 128 = .ok (.aload_n 0, 1) := dk_42 (dk_at dksX4_readsSense_5 10 rfl rfl)
theorem dX4_readsSense_129 : decode cX4_readsSense 129 = .ok (.bipush 44, 2) := dk_16 44 (dk_at dksX4_readsSense_5 11 rfl rfl)
theorem dX4_readsSense_131 : decode cX4_readsSense 131 = .ok (.invokevirtual 322, 3) := dk_182 1 66 (dk_at dksX4_readsSense_5 13 rfl rfl)
theorem dX4_readsSense_134 : decode cX4_readsSense 134 = .ok (.invokevirtual 348, 3) := dk_182 1 92 (dk_at dksX4_readsSense_5 16 rfl rfl)
theorem dX4_readsSense_137 : decode cX4_readsSense 137 = .ok (.aload_n 0, 1) := dk_42 (dk_at dksX4_readsSense_5 19 rfl rfl)
theorem dX4_readsSense_138 : decode cX4_readsSense 138 = .ok (.getfield 81, 3) := dk_180 0 81 (dk_at dksX4_readsSense_5 20 rfl rfl)
theorem dX4_readsSense_141 : decode cX4_readsSense 141 = .ok (.iload_n 1, 1) := dk_27 (dk_at dksX4_readsSense_5 23 rfl rfl)
theorem dX4_readsSense_142 : decode cX4_readsSense 142 = .ok (.iconst 3, 1) := dk_6 (dk_at dksX4_readsSense_6 0 rfl rfl)
theorem dX4_readsSense_143 : decode cX4_readsSense 143 = .ok (.iadd, 1) := dk_96 (dk_at dksX4_readsSense_6 1 rfl rfl)
theorem dX4_readsSense_144 : decode cX4_readsSense 144 = .ok (.aload_n 0, 1) := dk_42 (dk_at dksX4_readsSense_6 2 rfl rfl)
theorem dX4_readsSense_145 : decode cX4_readsSense 145 = .ok (.iconst 0, 1) := dk_3 (dk_at dksX4_readsSense_6 3 rfl rfl)
theorem dX4_readsSense_146 : decode cX4_readsSense 146 = .ok (.bipush 7, 2) := dk_16 7 (dk_at dksX4_readsSense_6 4 rfl rfl)
theorem dX4_readsSense_148 : decode cX4_readsSense 148 = .ok (.invokevirtual 344, 3) := dk_182 1 88 (dk_at dksX4_readsSense_6 6 rfl rfl)
theorem dX4_readsSense_151 : decode cX4_readsSense 151 = .ok (.iastore, 1) := dk_79 (dk_at dksX4_readsSense_6 9 rfl rfl)
theorem dX4_readsSense_152 : decode cX4_readsSense 152 = .ok (.aload_n 0, 1) := dk_42 (dk_at dksX4_readsSense_6 10 rfl rfl)
theorem dX4_readsSense_153 : decode cX4_readsSense 153 = .ok (.aload_n 0, 1) := dk_42 (dk_at dksX4_readsSense_6 11 rfl rfl)
theorem dX4_readsSense_154 : decode cX4_readsSense 154 = .ok (.bipush 9, 2) := dk_16 9 (dk_at dksX4_readsSense_6 12 rfl rfl)
theorem dX4_readsSense_156 : decode cX4_readsSense 156 = .ok (.invokevirtual 307, 3) := dk_182 1 51 (dk_at dksX4_readsSense_6 14 rfl rfl)
theorem dX4_readsSense_159 : decode cX4_readsSense 159 = .ok (.invokevirtual 348, 3) := dk_182 1 92 (dk_at dksX4_readsSense_6 17 rfl rfl)
theorem dX4_readsSense_162 : decode cX4_readsSense 162 = .ok (.aload_n 0, 1) := dk_42 (dk_at dksX4_readsSense_6 20 rfl rfl)
theorem dX4_readsSense_163 : decode cX4_readsSense 163 = .ok (.getfield 81, 3) := dk_180 0 81 (dk_at dksX4_readsSense_6 21 rfl rfl)
theorem dX4_readsSense_166 : decode cX4_readsSense 166 = .ok (.iload_n 1, 1) := dk_27 (dk_at dksX4_readsSense_7 0 rfl rfl)
theorem dX4_readsSense_167 : decode cX4_readsSense 167 = .ok (.iconst 4, 1) := dk_7 (dk_at dksX4_readsSense_7 1 rfl rfl)
theorem dX4_readsSense_168 : decode cX4_readsSense 168 = .ok (.iadd, 1) := dk_96 (dk_at dksX4_readsSense_7 2 rfl rfl)
theorem dX4_readsSense_169 : decode cX4_readsSense 169 = .ok (.aload_n 0, 1) := dk_42 (dk_at dksX4_readsSense_7 3 rfl rfl)
theorem dX4_readsSense_170 : decode cX4_readsSense 170 = .ok (.iconst 0, 1) := dk_3 (dk_at dksX4_readsSense_7 4 rfl rfl)
theorem dX4_readsSense_171 : decode cX4_readsSense 171 = .ok (.bipush 7, 2) := dk_16 7 (dk_at dksX4_readsSense_7 5 rfl rfl)
theorem dX4_readsSense_173 : decode cX4_readsSense 173 = .ok (.invokevirtual 344, 3) := dk_182 1 88 (dk_at dksX4_readsSense_7 7 rfl rfl)
theorem dX4_readsSense_176 : decode cX4_readsSense 176 = .ok (.iastore, 1) := dk_79 (dk_at dksX4_readsSense_7 10 rfl rfl)
theorem dX4_readsSense_177 : decode cX4_readsSense 177 = .ok (.iload_n 2, 1) := dk_28 (dk_at dksX4_readsSense_7 11 rfl rfl)
theorem dX4_readsSense_178 : decode cX4_readsSense 178 = .ok (.ifCond .ne 28, 3) := dk_154 0 28 (dk_at dksX4_readsSense_7 12 rfl rfl)
theorem dX4_readsSense_181 : decode cX4_readsSense 181 = .ok (.aload_n 0, 1) := dk_42 (dk_at dksX4_readsSense_7 15 rfl rfl)
theorem dX4_readsSense_182 : decode cX4_readsSense 182 = .ok (.aload_n 0, 1) := dk_42 (dk_at dksX4_readsSense_7 16 rfl rfl)
theorem dX4_readsSense_183 : decode cX4_readsSense 183 = .ok (.bipush 44, 2) := dk_16 44 (dk_at dksX4_readsSense_7 17 rfl rfl)
theorem dX4_readsSense_185 : decode cX4_readsSense 185 = .ok (.invokevirtual 322, 3) := dk_182 1 66 (dk_at dksX4_readsSense_7 19 rfl rfl)
theorem dX4_readsSense_188 : decode cX4_readsSense 188 = .ok (.invokevirtual 348, 3) := dk_182 1 92 (dk_at dksX4_readsSense_8 0 rfl rfl)
theorem dX4_readsSense_191 : decode cX4_readsSense 191 = .ok (.aload_n 0, 1) := dk_42 (dk_at dksX4_readsSense_8 3 rfl rfl)
theorem dX4_readsSense_192 : decode cX4_readsSense 192 = .ok (.getfield 81, 3) := dk_180 0 81 (dk_at dksX4_readsSense_8 4 rfl rfl)
theorem dX4_readsSense_195 : decode cX4_readsSense 195 = .ok (.iload_n 1, 1) := dk_27 (dk_at dksX4_readsSense_8 7 rfl rfl)
theorem dX4_readsSense_196 : decode cX4_readsSense 196 = .ok (.iconst 5, 1) := dk_8 (dk_at dksX4_readsSense_8 8 rfl rfl)
theorem dX4_readsSense_197 : decode cX4_readsSense 197 = .ok (.iadd, 1) := dk_96 (dk_at dksX4_readsSense_8 9 rfl rfl)
theorem dX4_readsSense_198 : decode cX4_readsSense 198 = .ok (.aload_n 0, 1) := dk_42 (dk_at dksX4_readsSense_8 10 rfl rfl)
theorem dX4_readsSense_199 : decode cX4_readsSense 199 = .ok (.iconst 1, 1) := dk_4 (dk_at dksX4_readsSense_8 11 rfl rfl)
theorem dX4_readsSense_200 : decode cX4_readsSense 200 = .ok (.bipush 9, 2) := dk_16 9 (dk_at dksX4_readsSense_8 12 rfl rfl)
theorem dX4_readsSense_202 : decode cX4_readsSense 202 = .ok (.invokevirtual 344, 3) := dk_182 1 88 (dk_at dksX4_readsSense_8 14 rfl rfl)
theorem dX4_readsSense_205 : decode cX4_readsSense 205 = .ok (.iastore, 1) := dk_79 (dk_at dksX4_readsSense_8 17 rfl rfl)
theorem dX4_readsSense_206 : decode cX4_readsSense 206 = .ok (.iload_n 2, 1) := dk_28 (dk_at dksX4_readsSense_8 18 rfl rfl)
theorem dX4_readsSense_207 : decode cX4_readsSense 207 = .ok (.iconst 5, 1) := dk_8 (dk_at dksX4_readsSense_8 19 rfl rfl)
theorem dX4_readsSense_208 : decode cX4_readsSense 208 = .ok (.if_icmp .eq 29, 3) := dk_159 0 29 (dk_at dksX4_readsSense_8 20 rfl rfl)
theorem dX4_readsSense_211 : decode cX4_readsSense 211 = .ok (.aload_n 0, 1) := dk_42 (dk_at dksX4_readsSense_8 23 rfl rfl)
theorem dX4_readsSense_212 : decode cX4_readsSense 212 = .ok (.aload_n 0, 1) := dk_42 (dk_at dksX4_readsSense_9 0 rfl rfl)
theorem dX4_readsSense_213 : decode cX4_readsSense 213 = .ok (.bipush 44, 2) := dk_16 44 (dk_at dksX4_readsSense_9 1 rfl rfl)
theorem dX4_readsSense_215 : decode cX4_readsSense 215 = .ok (.invokevirtual 322, 3) := dk_182 1 66 (dk_at dksX4_readsSense_9 3 rfl rfl)
theorem dX4_readsSense_218 : decode cX4_readsSense 218 = .ok (.invokevirtual 348, 3) := dk_182 1 92 (dk_at dksX4_readsSense_9 6 rfl rfl)
theorem dX4_readsSense_221 : decode cX4_readsSense 221 = .ok (.aload_n 0, 1) := dk_42 (dk_at dksX4_readsSense_9 9 rfl rfl)
theorem dX4_readsSense_222 : decode cX4_readsSense 222 = .ok (.getfield 81, 3) := dk_180 0 81 (dk_at dksX4_readsSense_9 10 rfl rfl)
theorem dX4_readsSense_225 : decode cX4_readsSense 225 = .ok (.iload_n 1, 1) := dk_27 (dk_at dksX4_readsSense_9 13 rfl rfl)
theorem dX4_readsSense_226 : decode cX4_readsSense 226 = .ok (.bipush 6, 2) := dk_16 6 (dk_at dksX4_readsSense_9 14 rfl rfl)
theorem dX4_readsSense_228 : decode cX4_readsSense 228 = .ok (.iadd, 1) := dk_96 (dk_at dksX4_readsSense_9 16 rfl rfl)
theorem dX4_readsSense_229 : decode cX4_readsSense 229 = .ok (.aload_n 0, 1) := dk_42 (dk_at dksX4_readsSense_9 17 rfl rfl)
theorem dX4_readsSense_230 : decode cX4_readsSense 230 = .ok (.iconst 0, 1) := dk_3 (dk_at dksX4_readsSense_9 18 rfl rfl)
theorem dX4_readsSense_231 : decode cX4_readsSense 231 = .ok (.bipush 99, 2) := dk_16 99 (dk_at dksX4_readsSense_9 19 rfl rfl)
theorem dX4_readsSense_233 : decode cX4_readsSense 233 = .ok (.invokevirtual 344, 3) := dk_182 1 88 (dk_at dksX4_readsSense_9 21 rfl rfl)
theorem dX4_readsSense_236 : decode cX4_readsSense 236 = .ok (.iastore, 1) := dk_79 (dk_at dksX4_readsSense_10 0 rfl rfl)
theorem dX4_readsSense_237 : decode cX4_readsSense 237 = .ok (.aload_n 0, 1) := dk_42 (dk_at dksX4_readsSense_10 1 rfl rfl)
theorem dX4_readsSense_238 : decode cX4_readsSense 238 = .ok (.getfield 269, 3) := dk_180 1 13 (dk_at dksX4_readsSense_10 2 rfl rfl)
theorem dX4_readsSense_241 : decode cX4_readsSense 241 = .ok (.ifCond .ne 17, 3) := dk_154 0 17 (dk_at dksX4_readsSense_10 5 rfl rfl)
theorem dX4_readsSense_244 : decode cX4_readsSense 244 = .ok (.aload_n 0, 1) := dk_42 (dk_at dksX4_readsSense_10 8 rfl rfl)
theorem dX4_readsSense_245 : decode cX4_readsSense 245 = .ok (.bipush 59, 2) := dk_16 59 (dk_at dksX4_readsSense_10 9 rfl rfl)
theorem dX4_readsSense_247 : decode cX4_readsSense 247 = .ok (.invokevirtual 322, 3) := dk_182 1 66 (dk_at dksX4_readsSense_10 11 rfl rfl)
theorem dX4_readsSense_250 : decode cX4_readsSense 250 = .ok (.ifCond .ne 8, 3) := dk_154 0 8 (dk_at dksX4_readsSense_10 14 rfl rfl)
theorem dX4_readsSense_253 : decode cX4_readsSense 253 = .ok (.aload_n 0, 1) := dk_42 (dk_at dksX4_readsSense_10 17 rfl rfl)
theorem dX4_readsSense_254 : decode cX4_readsSense 254 = .ok (.iconst 1, 1) := dk_4 (dk_at dksX4_readsSense_10 18 rfl rfl)
theorem dX4_readsSense_255 : decode cX4_readsSense 255 = .ok (.invokevirtual 284, 3) := dk_182 1 28 (dk_at dksX4_readsSense_10 19 rfl rfl)
theorem dX4_readsSense_258 : decode cX4_readsSense 258 = .ok (.aload_n 0, 1) := dk_42 (dk_at dksX4_readsSense_10 22 rfl rfl)
theorem dX4_readsSense_259 : decode cX4_readsSense 259 = .ok (.getfield 269, 3) := dk_180 1 13 (dk_at dksX4_readsSense_11 0 rfl rfl)
theorem dX4_readsSense_262 : decode cX4_readsSense 262 = .ok (.ifCond .ne 7, 3) := dk_154 0 7 (dk_at dksX4_readsSense_11 3 rfl rfl)
theorem dX4_readsSense_265 : decode cX4_readsSense 265 = .ok (.aload_n 0, 1) := dk_42 (dk_at dksX4_readsSense_11 6 rfl rfl)
theorem dX4_readsSense_266 : decode cX4_readsSense 266 = .ok (.invokevirtual 338, 3) := dk_182 1 82 (dk_at dksX4_readsSense_11 7 rfl rfl)
theorem dX4_readsSense_269 : decode cX4_readsSense 269 = .ok (.return_, 1) := dk_177 (dk_at dksX4_readsSense_11 10 rfl rfl)
abbrev cX4_number : ByteArray := prog_23_method_28_code
def yX4_number : MethodName := ⟨RX4, "number", "(II)I"⟩
def dkwX4_number_2 : List UInt8 := [182, 1, 34, 29, 172]
abbrev dktX4_number_2 : List UInt8 := dkwX4_number_2 ++ []
def dkwX4_number_1 : List UInt8 := [180, 1, 9, 27, 28, 184, 0, 199, 154, 0, 10, 42, 5, 182, 1, 28, 27, 172, 42, 180, 1, 9, 62, 42]
abbrev dktX4_number_1 : List UInt8 := dkwX4_number_1 ++ dktX4_number_2
def dkwX4_number_0 : List UInt8 := [42, 180, 1, 13, 157, 0, 11, 42, 180, 0, 252, 5, 159, 0, 10, 42, 4, 182, 1, 28, 27, 172, 42]
abbrev dktX4_number_0 : List UInt8 := dkwX4_number_0 ++ dktX4_number_1
theorem dksX4_number_0 : cX4_number.data.toList.drop 0 = dktX4_number_0 := by decide +kernel
theorem dksX4_number_1 : cX4_number.data.toList.drop 23 = dktX4_number_1 := dk_seg dksX4_number_0 23 rfl rfl
theorem dksX4_number_2 : cX4_number.data.toList.drop 47 = dktX4_number_2 := dk_seg dksX4_number_1 24 rfl rfl
theorem dX4_number_0 : decode cX4_number 0 = .ok (.aload_n 0, 1) := dk_42 (dk_at dksX4_number_0 0 rfl rfl)
theorem dX4_number_1 : decode cX4_number 1 = .ok (.getfield 269, 3) := dk_180 1 13 (dk_at dksX4_number_0 1 rfl rfl)
theorem dX4_number_4 : decode cX4_number 4 = .ok (.ifCond .gt 11, 3) := dk_157 0 11 (dk_at dksX4_number_0 4 rfl rfl)
theorem dX4_number_7 : decode cX4_number 7 = .ok (.aload_n 0, 1) := dk_42 (dk_at dksX4_number_0 7 rfl rfl)
theorem dX4_number_8 : decode cX4_number 8 = .ok (.getfield 252, 3) := dk_180 0 252 (dk_at dksX4_number_0 8 rfl rfl)
theorem dX4_number_11 : decode cX4_number 11 = .ok (.iconst 2, 1) := dk_5 (dk_at dksX4_number_0 11 rfl rfl)
theorem dX4_number_12 : decode cX4_number 12 = .ok (.if_icmp .eq 10, 3) := dk_159 0 10 (dk_at dksX4_number_0 12 rfl rfl)
theorem dX4_number_15 : decode cX4_number 15 = .ok (.aload_n 0, 1) := dk_42 (dk_at dksX4_number_0 15 rfl rfl)
theorem dX4_number_16 : decode cX4_number 16 = .ok (.iconst 1, 1) := dk_4 (dk_at dksX4_number_0 16 rfl rfl)
theorem dX4_number_17 : decode cX4_number 17 = .ok (.invokevirtual 284, 3) := dk_182 1 28 (dk_at dksX4_number_0 17 rfl rfl)
theorem dX4_number_20 : decode cX4_number 20 = .ok (.iload_n 1, 1) := dk_27 (dk_at dksX4_number_0 20 rfl rfl)
theorem dX4_number_21 : decode cX4_number 21 = .ok (.ireturn, 1) := dk_172 (dk_at dksX4_number_0 21 rfl rfl)
theorem dX4_number_22 : decode cX4_number 22 = .ok (.aload_n 0, 1) := dk_42 (dk_at dksX4_number_0 22 rfl rfl)
theorem dX4_number_23 : decode cX4_number 23 = .ok (.getfield 265, 3) := dk_180 1 9 (dk_at dksX4_number_1 0 rfl rfl)
theorem dX4_number_26 : decode cX4_number 26 = .ok (.iload_n 1, 1) := dk_27 (dk_at dksX4_number_1 3 rfl rfl)
theorem dX4_number_27 : decode cX4_number 27 = .ok (.iload_n 2, 1) := dk_28 (dk_at dksX4_number_1 4 rfl rfl)
theorem dX4_number_28 : decode cX4_number 28 = .ok (.invokestatic 199, 3) := dk_184 0 199 (dk_at dksX4_number_1 5 rfl rfl)
theorem dX4_number_31 : decode cX4_number 31 = .ok (.ifCond .ne 10, 3) := dk_154 0 10 (dk_at dksX4_number_1 8 rfl rfl)
theorem dX4_number_34 : decode cX4_number 34 = .ok (.aload_n 0, 1) := dk_42 (dk_at dksX4_number_1 11 rfl rfl)
theorem dX4_number_35 : decode cX4_number 35 = .ok (.iconst 2, 1) := dk_5 (dk_at dksX4_number_1 12 rfl rfl)
theorem dX4_number_36 : decode cX4_number 36 = .ok (.invokevirtual 284, 3) := dk_182 1 28 (dk_at dksX4_number_1 13 rfl rfl)
theorem dX4_number_39 : decode cX4_number 39 = .ok (.iload_n 1, 1) := dk_27 (dk_at dksX4_number_1 16 rfl rfl)
theorem dX4_number_40 : decode cX4_number 40 = .ok (.ireturn, 1) := dk_172 (dk_at dksX4_number_1 17 rfl rfl)
theorem dX4_number_41 : decode cX4_number 41 = .ok (.aload_n 0, 1) := dk_42 (dk_at dksX4_number_1 18 rfl rfl)
theorem dX4_number_42 : decode cX4_number 42 = .ok (.getfield 265, 3) := dk_180 1 9 (dk_at dksX4_number_1 19 rfl rfl)
theorem dX4_number_45 : decode cX4_number 45 = .ok (.istore_n 3, 1) := dk_62 (dk_at dksX4_number_1 22 rfl rfl)
theorem dX4_number_46 : decode cX4_number 46 = .ok (.aload_n 0, 1) := dk_42 (dk_at dksX4_number_1 23 rfl rfl)
theorem dX4_number_47 : decode cX4_number 47 = .ok (.invokevirtual 290, 3) := dk_182 1 34 (dk_at dksX4_number_2 0 rfl rfl)
theorem dX4_number_50 : decode cX4_number 50 = .ok (.iload_n 3, 1) := dk_29 (dk_at dksX4_number_2 3 rfl rfl)
theorem dX4_number_51 : decode cX4_number 51 = .ok (.ireturn, 1) := dk_172 (dk_at dksX4_number_2 4 rfl rfl)
abbrev cX4_wants : ByteArray := prog_23_method_29_code
def yX4_wants : MethodName := ⟨RX4, "wants", "(Z)V"⟩
def dkwX4_wants_1 : List UInt8 := [182, 1, 34, 177]
abbrev dktX4_wants_1 : List UInt8 := dkwX4_wants_1 ++ []
def dkwX4_wants_0 : List UInt8 := [42, 180, 1, 13, 154, 0, 12, 27, 154, 0, 8, 42, 4, 182, 1, 28, 42, 180, 1, 13, 154, 0, 7, 42]
abbrev dktX4_wants_0 : List UInt8 := dkwX4_wants_0 ++ dktX4_wants_1
theorem dksX4_wants_0 : cX4_wants.data.toList.drop 0 = dktX4_wants_0 := by decide +kernel
theorem dksX4_wants_1 : cX4_wants.data.toList.drop 24 = dktX4_wants_1 := dk_seg dksX4_wants_0 24 rfl rfl
theorem dX4_wants_0 : decode cX4_wants 0 = .ok (.aload_n 0, 1) := dk_42 (dk_at dksX4_wants_0 0 rfl rfl)
theorem dX4_wants_1 : decode cX4_wants 1 = .ok (.getfield 269, 3) := dk_180 1 13 (dk_at dksX4_wants_0 1 rfl rfl)
theorem dX4_wants_4 : decode cX4_wants 4 = .ok (.ifCond .ne 12, 3) := dk_154 0 12 (dk_at dksX4_wants_0 4 rfl rfl)
theorem dX4_wants_7 : decode cX4_wants 7 = .ok (.iload_n 1, 1) := dk_27 (dk_at dksX4_wants_0 7 rfl rfl)
theorem dX4_wants_8 : decode cX4_wants 8 = .ok (.ifCond .ne 8, 3) := dk_154 0 8 (dk_at dksX4_wants_0 8 rfl rfl)
theorem dX4_wants_11 : decode cX4_wants 11 = .ok (.aload_n 0, 1) := dk_42 (dk_at dksX4_wants_0 11 rfl rfl)
theorem dX4_wants_12 : decode cX4_wants 12 = .ok (.iconst 1, 1) := dk_4 (dk_at dksX4_wants_0 12 rfl rfl)
theorem dX4_wants_13 : decode cX4_wants 13 = .ok (.invokevirtual 284, 3) := dk_182 1 28 (dk_at dksX4_wants_0 13 rfl rfl)
theorem dX4_wants_16 : decode cX4_wants 16 = .ok (.aload_n 0, 1) := dk_42 (dk_at dksX4_wants_0 16 rfl rfl)
theorem dX4_wants_17 : decode cX4_wants 17 = .ok (.getfield 269, 3) := dk_180 1 13 (dk_at dksX4_wants_0 17 rfl rfl)
theorem dX4_wants_20 : decode cX4_wants 20 = .ok (.ifCond .ne 7, 3) := dk_154 0 7 (dk_at dksX4_wants_0 20 rfl rfl)
theorem dX4_wants_23 : decode cX4_wants 23 = .ok (.aload_n 0, 1) := dk_42 (dk_at dksX4_wants_0 23 rfl rfl)
theorem dX4_wants_24 : decode cX4_wants 24 = .ok (.invokevirtual 290, 3) := dk_182 1 34 (dk_at dksX4_wants_1 0 rfl rfl)
theorem dX4_wants_27 : decode cX4_wants 27 = .ok (.return_, 1) := dk_177 (dk_at dksX4_wants_1 3 rfl rfl)
abbrev cX4_keepsText : ByteArray := prog_23_method_34_code
def yX4_keepsText : MethodName := ⟨RX4, "keepsText", "(I)V"⟩
def dkwX4_keepsText_11 : List UInt8 := [180, 0, 87, 28, 46, 79, 132, 2, 1, 167, 255, 209, 177]
abbrev dktX4_keepsText_11 : List UInt8 := dkwX4_keepsText_11 ++ []
def dkwX4_keepsText_10 : List UInt8 := [104, 28, 96, 42, 180, 0, 84, 28, 46, 79, 42, 180, 0, 60, 17, 1, 144, 27, 104, 28, 96, 42]
abbrev dktX4_keepsText_10 : List UInt8 := dkwX4_keepsText_10 ++ dktX4_keepsText_11
def dkwX4_keepsText_9 : List UInt8 := [132, 2, 1, 167, 255, 56, 3, 61, 28, 42, 180, 1, 19, 162, 0, 45, 42, 180, 0, 57, 17, 1, 144, 27]
abbrev dktX4_keepsText_9 : List UInt8 := dkwX4_keepsText_9 ++ dktX4_keepsText_10
def dkwX4_keepsText_8 : List UInt8 := [8, 96, 46, 79, 42, 180, 0, 54, 29, 42, 180, 0, 81, 16, 7, 28, 104, 16, 6, 96, 46, 79]
abbrev dktX4_keepsText_8 : List UInt8 := dkwX4_keepsText_8 ++ dktX4_keepsText_9
def dkwX4_keepsText_7 : List UInt8 := [180, 0, 81, 16, 7, 28, 104, 7, 96, 46, 79, 42, 180, 0, 51, 29, 42, 180, 0, 81, 16, 7, 28, 104]
abbrev dktX4_keepsText_7 : List UInt8 := dkwX4_keepsText_7 ++ dktX4_keepsText_8
def dkwX4_keepsText_6 : List UInt8 := [180, 0, 45, 29, 42, 180, 0, 81, 16, 7, 28, 104, 6, 96, 46, 79, 42, 180, 0, 48, 29, 42]
abbrev dktX4_keepsText_6 : List UInt8 := dkwX4_keepsText_6 ++ dktX4_keepsText_7
def dkwX4_keepsText_5 : List UInt8 := [167, 0, 4, 2, 79, 42, 180, 0, 42, 29, 42, 180, 0, 81, 16, 7, 28, 104, 5, 96, 46, 79, 42]
abbrev dktX4_keepsText_5 : List UInt8 := dkwX4_keepsText_5 ++ dktX4_keepsText_6
def dkwX4_keepsText_4 : List UInt8 := [79, 42, 180, 0, 39, 29, 21, 4, 153, 0, 17, 42, 180, 0, 81, 16, 7, 28, 104, 4, 96, 46]
abbrev dktX4_keepsText_4 : List UInt8 := dkwX4_keepsText_4 ++ dktX4_keepsText_5
def dkwX4_keepsText_3 : List UInt8 := [79, 42, 180, 0, 36, 29, 21, 4, 153, 0, 15, 42, 180, 0, 81, 16, 7, 28, 104, 46, 167, 0, 4, 2]
abbrev dktX4_keepsText_3 : List UInt8 := dkwX4_keepsText_3 ++ dktX4_keepsText_4
def dkwX4_keepsText_2 : List UInt8 := [42, 180, 0, 75, 28, 46, 79, 42, 180, 0, 33, 29, 17, 1, 144, 27, 104, 42, 180, 0, 78, 28, 46, 96]
abbrev dktX4_keepsText_2 : List UInt8 := dkwX4_keepsText_2 ++ dktX4_keepsText_3
def dkwX4_keepsText_1 : List UInt8 := [28, 96, 62, 42, 180, 0, 75, 28, 46, 154, 0, 7, 4, 167, 0, 4, 3, 54, 4, 42, 180, 0, 30, 29]
abbrev dktX4_keepsText_1 : List UInt8 := dkwX4_keepsText_1 ++ dktX4_keepsText_2
def dkwX4_keepsText_0 : List UInt8 := [42, 180, 0, 27, 27, 42, 180, 1, 85, 79, 3, 61, 28, 42, 180, 1, 85, 162, 0, 198, 16, 24, 27, 104]
abbrev dktX4_keepsText_0 : List UInt8 := dkwX4_keepsText_0 ++ dktX4_keepsText_1
theorem dksX4_keepsText_0 : cX4_keepsText.data.toList.drop 0 = dktX4_keepsText_0 := by decide +kernel
theorem dksX4_keepsText_1 : cX4_keepsText.data.toList.drop 24 = dktX4_keepsText_1 := dk_seg dksX4_keepsText_0 24 rfl rfl
theorem dksX4_keepsText_2 : cX4_keepsText.data.toList.drop 48 = dktX4_keepsText_2 := dk_seg dksX4_keepsText_1 24 rfl rfl
theorem dksX4_keepsText_3 : cX4_keepsText.data.toList.drop 72 = dktX4_keepsText_3 := dk_seg dksX4_keepsText_2 24 rfl rfl
theorem dksX4_keepsText_4 : cX4_keepsText.data.toList.drop 96 = dktX4_keepsText_4 := dk_seg dksX4_keepsText_3 24 rfl rfl
theorem dksX4_keepsText_5 : cX4_keepsText.data.toList.drop 118 = dktX4_keepsText_5 := dk_seg dksX4_keepsText_4 22 rfl rfl
theorem dksX4_keepsText_6 : cX4_keepsText.data.toList.drop 141 = dktX4_keepsText_6 := dk_seg dksX4_keepsText_5 23 rfl rfl
theorem dksX4_keepsText_7 : cX4_keepsText.data.toList.drop 163 = dktX4_keepsText_7 := dk_seg dksX4_keepsText_6 22 rfl rfl
theorem dksX4_keepsText_8 : cX4_keepsText.data.toList.drop 187 = dktX4_keepsText_8 := dk_seg dksX4_keepsText_7 24 rfl rfl
theorem dksX4_keepsText_9 : cX4_keepsText.data.toList.drop 209 = dktX4_keepsText_9 := dk_seg dksX4_keepsText_8 22 rfl rfl
theorem dksX4_keepsText_10 : cX4_keepsText.data.toList.drop 233 = dktX4_keepsText_10 := dk_seg dksX4_keepsText_9 24 rfl rfl
theorem dksX4_keepsText_11 : cX4_keepsText.data.toList.drop 255 = dktX4_keepsText_11 := dk_seg dksX4_keepsText_10 22 rfl rfl
theorem dX4_keepsText_0 : decode cX4_keepsText 0 = .ok (.aload_n 0, 1) := dk_42 (dk_at dksX4_keepsText_0 0 rfl rfl)
theorem dX4_keepsText_1 : decode cX4_keepsText 1 = .ok (.getfield 27, 3) := dk_180 0 27 (dk_at dksX4_keepsText_0 1 rfl rfl)
theorem dX4_keepsText_4 : decode cX4_keepsText 4 = .ok (.iload_n 1, 1) := dk_27 (dk_at dksX4_keepsText_0 4 rfl rfl)
theorem dX4_keepsText_5 : decode cX4_keepsText 5 = .ok (.aload_n 0, 1) := dk_42 (dk_at dksX4_keepsText_0 5 rfl rfl)
theorem dX4_keepsText_6 : decode cX4_keepsText 6 = .ok (.getfield 341, 3) := dk_180 1 85 (dk_at dksX4_keepsText_0 6 rfl rfl)
theorem dX4_keepsText_9 : decode cX4_keepsText 9 = .ok (.iastore, 1) := dk_79 (dk_at dksX4_keepsText_0 9 rfl rfl)
theorem dX4_keepsText_10 : decode cX4_keepsText 10 = .ok (.iconst 0, 1) := dk_3 (dk_at dksX4_keepsText_0 10 rfl rfl)
theorem dX4_keepsText_11 : decode cX4_keepsText 11 = .ok (.istore_n 2, 1) := dk_61 (dk_at dksX4_keepsText_0 11 rfl rfl)
theorem dX4_keepsText_12 : decode cX4_keepsText 12 = .ok (.iload_n 2, 1) := dk_28 (dk_at dksX4_keepsText_0 12 rfl rfl)
theorem dX4_keepsText_13 : decode cX4_keepsText 13 = .ok (.aload_n 0, 1) := dk_42 (dk_at dksX4_keepsText_0 13 rfl rfl)
theorem dX4_keepsText_14 : decode cX4_keepsText 14 = .ok (.getfield 341, 3) := dk_180 1 85 (dk_at dksX4_keepsText_0 14 rfl rfl)
theorem dX4_keepsText_17 : decode cX4_keepsText 17 = .ok (.if_icmp .ge 198, 3) := dk_162 0 198 (dk_at dksX4_keepsText_0 17 rfl rfl)
theorem dX4_keepsText_20 : decode cX4_keepsText 20 = .ok (.bipush 24, 2) := dk_16 24 (dk_at dksX4_keepsText_0 20 rfl rfl)
theorem dX4_keepsText_22 : decode cX4_keepsText 22 = .ok (.iload_n 1, 1) := dk_27 (dk_at dksX4_keepsText_0 22 rfl rfl)
theorem dX4_keepsText_23 : decode cX4_keepsText 23 = .ok (.imul, 1) := dk_104 (dk_at dksX4_keepsText_0 23 rfl rfl)
theorem dX4_keepsText_24 : decode cX4_keepsText 24 = .ok (.iload_n 2, 1) := dk_28 (dk_at dksX4_keepsText_1 0 rfl rfl)
theorem dX4_keepsText_25 : decode cX4_keepsText 25 = .ok (.iadd, 1) := dk_96 (dk_at dksX4_keepsText_1 1 rfl rfl)
theorem dX4_keepsText_26 : decode cX4_keepsText 26 = .ok (.istore_n 3, 1) := dk_62 (dk_at dksX4_keepsText_1 2 rfl rfl)
theorem dX4_keepsText_27 : decode cX4_keepsText 27 = .ok (.aload_n 0, 1) := dk_42 (dk_at dksX4_keepsText_1 3 rfl rfl)
theorem dX4_keepsText_28 : decode cX4_keepsText 28 = .ok (.getfield 75, 3) := dk_180 0 75 (dk_at dksX4_keepsText_1 4 rfl rfl)
theorem dX4_keepsText_31 : decode cX4_keepsText 31 = .ok (.iload_n 2, 1) := dk_28 (dk_at dksX4_keepsText_1 7 rfl rfl)
theorem dX4_keepsText_32 : decode cX4_keepsText 32 = .ok (.iaload, 1) := dk_46 (dk_at dksX4_keepsText_1 8 rfl rfl)
theorem dX4_keepsText_33 : decode cX4_keepsText 33 = .ok (.ifCond .ne 7, 3) := dk_154 0 7 (dk_at dksX4_keepsText_1 9 rfl rfl)
theorem dX4_keepsText_36 : decode cX4_keepsText 36 = .ok (.iconst 1, 1) := dk_4 (dk_at dksX4_keepsText_1 12 rfl rfl)
theorem dX4_keepsText_37 : decode cX4_keepsText 37 = .ok (.goto 4, 3) := dk_167 0 4 (dk_at dksX4_keepsText_1 13 rfl rfl)
theorem dX4_keepsText_40 : decode cX4_keepsText 40 = .ok (.iconst 0, 1) := dk_3 (dk_at dksX4_keepsText_1 16 rfl rfl)
theorem dX4_keepsText_41 : decode cX4_keepsText 41 = .ok (.istore 4, 2) := dk_54 4 (dk_at dksX4_keepsText_1 17 rfl rfl)
theorem dX4_keepsText_43 : decode cX4_keepsText 43 = .ok (.aload_n 0, 1) := dk_42 (dk_at dksX4_keepsText_1 19 rfl rfl)
theorem dX4_keepsText_44 : decode cX4_keepsText 44 = .ok (.getfield 30, 3) := dk_180 0 30 (dk_at dksX4_keepsText_1 20 rfl rfl)
theorem dX4_keepsText_47 : decode cX4_keepsText 47 = .ok (.iload_n 3, 1) := dk_29 (dk_at dksX4_keepsText_1 23 rfl rfl)
theorem dX4_keepsText_48 : decode cX4_keepsText 48 = .ok (.aload_n 0, 1) := dk_42 (dk_at dksX4_keepsText_2 0 rfl rfl)
theorem dX4_keepsText_49 : decode cX4_keepsText 49 = .ok (.getfield 75, 3) := dk_180 0 75 (dk_at dksX4_keepsText_2 1 rfl rfl)
theorem dX4_keepsText_52 : decode cX4_keepsText 52 = .ok (.iload_n 2, 1) := dk_28 (dk_at dksX4_keepsText_2 4 rfl rfl)
theorem dX4_keepsText_53 : decode cX4_keepsText 53 = .ok (.iaload, 1) := dk_46 (dk_at dksX4_keepsText_2 5 rfl rfl)
theorem dX4_keepsText_54 : decode cX4_keepsText 54 = .ok (.iastore, 1) := dk_79 (dk_at dksX4_keepsText_2 6 rfl rfl)
theorem dX4_keepsText_55 : decode cX4_keepsText 55 = .ok (.aload_n 0, 1) := dk_42 (dk_at dksX4_keepsText_2 7 rfl rfl)
theorem dX4_keepsText_56 : decode cX4_keepsText 56 = .ok (.getfield 33, 3) := dk_180 0 33 (dk_at dksX4_keepsText_2 8 rfl rfl)
theorem dX4_keepsText_59 : decode cX4_keepsText 59 = .ok (.iload_n 3, 1) := dk_29 (dk_at dksX4_keepsText_2 11 rfl rfl)
theorem dX4_keepsText_60 : decode cX4_keepsText 60 = .ok (.sipush 400, 3) := dk_17 1 144 (dk_at dksX4_keepsText_2 12 rfl rfl)
theorem dX4_keepsText_63 : decode cX4_keepsText 63 = .ok (.iload_n 1, 1) := dk_27 (dk_at dksX4_keepsText_2 15 rfl rfl)
theorem dX4_keepsText_64 : decode cX4_keepsText 64 = .ok (.imul, 1) := dk_104 (dk_at dksX4_keepsText_2 16 rfl rfl)
theorem dX4_keepsText_65 : decode cX4_keepsText 65 = .ok (.aload_n 0, 1) := dk_42 (dk_at dksX4_keepsText_2 17 rfl rfl)
theorem dX4_keepsText_66 : decode cX4_keepsText 66 = .ok (.getfield 78, 3) := dk_180 0 78 (dk_at dksX4_keepsText_2 18 rfl rfl)
theorem dX4_keepsText_69 : decode cX4_keepsText 69 = .ok (.iload_n 2, 1) := dk_28 (dk_at dksX4_keepsText_2 21 rfl rfl)
theorem dX4_keepsText_70 : decode cX4_keepsText 70 = .ok (.iaload, 1) := dk_46 (dk_at dksX4_keepsText_2 22 rfl rfl)
theorem dX4_keepsText_71 : decode cX4_keepsText 71 = .ok (.iadd, 1) := dk_96 (dk_at dksX4_keepsText_2 23 rfl rfl)
theorem dX4_keepsText_72 : decode cX4_keepsText 72 = .ok (.iastore, 1) := dk_79 (dk_at dksX4_keepsText_3 0 rfl rfl)
theorem dX4_keepsText_73 : decode cX4_keepsText 73 = .ok (.aload_n 0, 1) := dk_42 (dk_at dksX4_keepsText_3 1 rfl rfl)
theorem dX4_keepsText_74 : decode cX4_keepsText 74 = .ok (.getfield 36, 3) := dk_180 0 36 (dk_at dksX4_keepsText_3 2 rfl rfl)
theorem dX4_keepsText_77 : decode cX4_keepsText 77 = .ok (.iload_n 3, 1) := dk_29 (dk_at dksX4_keepsText_3 5 rfl rfl)
theorem dX4_keepsText_78 : decode cX4_keepsText 78 = .ok (.iload 4, 2) := dk_21 4 (dk_at dksX4_keepsText_3 6 rfl rfl)
theorem dX4_keepsText_80 : decode cX4_keepsText 80 = .ok (.ifCond .eq 15, 3) := dk_153 0 15 (dk_at dksX4_keepsText_3 8 rfl rfl)
theorem dX4_keepsText_83 : decode cX4_keepsText 83 = .ok (.aload_n 0, 1) := dk_42 (dk_at dksX4_keepsText_3 11 rfl rfl)
theorem dX4_keepsText_84 : decode cX4_keepsText 84 = .ok (.getfield 81, 3) := dk_180 0 81 (dk_at dksX4_keepsText_3 12 rfl rfl)
theorem dX4_keepsText_87 : decode cX4_keepsText 87 = .ok (.bipush 7, 2) := dk_16 7 (dk_at dksX4_keepsText_3 15 rfl rfl)
theorem dX4_keepsText_89 : decode cX4_keepsText 89 = .ok (.iload_n 2, 1) := dk_28 (dk_at dksX4_keepsText_3 17 rfl rfl)
theorem dX4_keepsText_90 : decode cX4_keepsText 90 = .ok (.imul, 1) := dk_104 (dk_at dksX4_keepsText_3 18 rfl rfl)
theorem dX4_keepsText_91 : decode cX4_keepsText 91 = .ok (.iaload, 1) := dk_46 (dk_at dksX4_keepsText_3 19 rfl rfl)
theorem dX4_keepsText_92 : decode cX4_keepsText 92 = .ok (.goto 4, 3) := dk_167 0 4 (dk_at dksX4_keepsText_3 20 rfl rfl)
theorem dX4_keepsText_95 : decode cX4_keepsText 95 = .ok (.iconst (-1), 1) := dk_2 (dk_at dksX4_keepsText_3 23 rfl rfl)
theorem dX4_keepsText_96 : decode cX4_keepsText 96 = .ok (.iastore, 1) := dk_79 (dk_at dksX4_keepsText_4 0 rfl rfl)
theorem dX4_keepsText_97 : decode cX4_keepsText 97 = .ok (.aload_n 0, 1) := dk_42 (dk_at dksX4_keepsText_4 1 rfl rfl)
theorem dX4_keepsText_98 : decode cX4_keepsText 98 = .ok (.getfield 39, 3) := dk_180 0 39 (dk_at dksX4_keepsText_4 2 rfl rfl)
theorem dX4_keepsText_101 : decode cX4_keepsText 101 = .ok (.iload_n 3, 1) := dk_29 (dk_at dksX4_keepsText_4 5 rfl rfl)
theorem dX4_keepsText_102 : decode cX4_keepsText 102 = .ok (.iload 4, 2) := dk_21 4 (dk_at dksX4_keepsText_4 6 rfl rfl)
theorem dX4_keepsText_104 : decode cX4_keepsText 104 = .ok (.ifCond .eq 17, 3) := dk_153 0 17 (dk_at dksX4_keepsText_4 8 rfl rfl)
theorem dX4_keepsText_107 : decode cX4_keepsText 107 = .ok (.aload_n 0, 1) := dk_42 (dk_at dksX4_keepsText_4 11 rfl rfl)
theorem dX4_keepsText_108 : decode cX4_keepsText 108 = .ok (.getfield 81, 3) := dk_180 0 81 (dk_at dksX4_keepsText_4 12 rfl rfl)
theorem dX4_keepsText_111 : decode cX4_keepsText 111 = .ok (.bipush 7, 2) := dk_16 7 (dk_at dksX4_keepsText_4 15 rfl rfl)
theorem dX4_keepsText_113 : decode cX4_keepsText 113 = .ok (.iload_n 2, 1) := dk_28 (dk_at dksX4_keepsText_4 17 rfl rfl)
theorem dX4_keepsText_114 : decode cX4_keepsText 114 = .ok (.imul, 1) := dk_104 (dk_at dksX4_keepsText_4 18 rfl rfl)
theorem dX4_keepsText_115 : decode cX4_keepsText 115 = .ok (.iconst 1, 1) := dk_4 (dk_at dksX4_keepsText_4 19 rfl rfl)
theorem dX4_keepsText_116 : decode cX4_keepsText 116 = .ok (.iadd, 1) := dk_96 (dk_at dksX4_keepsText_4 20 rfl rfl)
theorem dX4_keepsText_117 : decode cX4_keepsText 117 = .ok (.iaload, 1) := dk_46 (dk_at dksX4_keepsText_4 21 rfl rfl)
theorem dX4_keepsText_118 : decode cX4_keepsText 118 = .ok (.goto 4, 3) := dk_167 0 4 (dk_at dksX4_keepsText_5 0 rfl rfl)
theorem dX4_keepsText_121 : decode cX4_keepsText 121 = .ok (.iconst (-1), 1) := dk_2 (dk_at dksX4_keepsText_5 3 rfl rfl)
theorem dX4_keepsText_122 : decode cX4_keepsText 122 = .ok (.iastore, 1) := dk_79 (dk_at dksX4_keepsText_5 4 rfl rfl)
theorem dX4_keepsText_123 : decode cX4_keepsText 123 = .ok (.aload_n 0, 1) := dk_42 (dk_at dksX4_keepsText_5 5 rfl rfl)
theorem dX4_keepsText_124 : decode cX4_keepsText 124 = .ok (.getfield 42, 3) := dk_180 0 42 (dk_at dksX4_keepsText_5 6 rfl rfl)
theorem dX4_keepsText_127 : decode cX4_keepsText 127 = .ok (.iload_n 3, 1) := dk_29 (dk_at dksX4_keepsText_5 9 rfl rfl)
theorem dX4_keepsText_128 : decode cX4_keepsText 128 = .ok (.aload_n 0, 1) := dk_42 (dk_at dksX4_keepsText_5 10 rfl rfl)
theorem dX4_keepsText_129 : decode cX4_keepsText 129 = .ok (.getfield 81, 3) := dk_180 0 81 (dk_at dksX4_keepsText_5 11 rfl rfl)
theorem dX4_keepsText_132 : decode cX4_keepsText 132 = .ok (.bipush 7, 2) := dk_16 7 (dk_at dksX4_keepsText_5 14 rfl rfl)
theorem dX4_keepsText_134 : decode cX4_keepsText 134 = .ok (.iload_n 2, 1) := dk_28 (dk_at dksX4_keepsText_5 16 rfl rfl)
theorem dX4_keepsText_135 : decode cX4_keepsText 135 = .ok (.imul, 1) := dk_104 (dk_at dksX4_keepsText_5 17 rfl rfl)
theorem dX4_keepsText_136 : decode cX4_keepsText 136 = .ok (.iconst 2, 1) := dk_5 (dk_at dksX4_keepsText_5 18 rfl rfl)
theorem dX4_keepsText_137 : decode cX4_keepsText 137 = .ok (.iadd, 1) := dk_96 (dk_at dksX4_keepsText_5 19 rfl rfl)
theorem dX4_keepsText_138 : decode cX4_keepsText 138 = .ok (.iaload, 1) := dk_46 (dk_at dksX4_keepsText_5 20 rfl rfl)
theorem dX4_keepsText_139 : decode cX4_keepsText 139 = .ok (.iastore, 1) := dk_79 (dk_at dksX4_keepsText_5 21 rfl rfl)
theorem dX4_keepsText_140 : decode cX4_keepsText 140 = .ok (.aload_n 0, 1) := dk_42 (dk_at dksX4_keepsText_5 22 rfl rfl)
theorem dX4_keepsText_141 : decode cX4_keepsText 141 = .ok (.getfield 45, 3) := dk_180 0 45 (dk_at dksX4_keepsText_6 0 rfl rfl)
theorem dX4_keepsText_144 : decode cX4_keepsText 144 = .ok (.iload_n 3, 1) := dk_29 (dk_at dksX4_keepsText_6 3 rfl rfl)
theorem dX4_keepsText_145 : decode cX4_keepsText 145 = .ok (.aload_n 0, 1) := dk_42 (dk_at dksX4_keepsText_6 4 rfl rfl)
theorem dX4_keepsText_146 : decode cX4_keepsText 146 = .ok (.getfield 81, 3) := dk_180 0 81 (dk_at dksX4_keepsText_6 5 rfl rfl)
theorem dX4_keepsText_149 : decode cX4_keepsText 149 = .ok (.bipush 7, 2) := dk_16 7 (dk_at dksX4_keepsText_6 8 rfl rfl)
theorem dX4_keepsText_151 : decode cX4_keepsText 151 = .ok (.iload_n 2, 1) := dk_28 (dk_at dksX4_keepsText_6 10 rfl rfl)
theorem dX4_keepsText_152 : decode cX4_keepsText 152 = .ok (.imul, 1) := dk_104 (dk_at dksX4_keepsText_6 11 rfl rfl)
theorem dX4_keepsText_153 : decode cX4_keepsText 153 = .ok (.iconst 3, 1) := dk_6 (dk_at dksX4_keepsText_6 12 rfl rfl)
theorem dX4_keepsText_154 : decode cX4_keepsText 154 = .ok (.iadd, 1) := dk_96 (dk_at dksX4_keepsText_6 13 rfl rfl)
theorem dX4_keepsText_155 : decode cX4_keepsText 155 = .ok (.iaload, 1) := dk_46 (dk_at dksX4_keepsText_6 14 rfl rfl)
theorem dX4_keepsText_156 : decode cX4_keepsText 156 = .ok (.iastore, 1) := dk_79 (dk_at dksX4_keepsText_6 15 rfl rfl)
theorem dX4_keepsText_157 : decode cX4_keepsText 157 = .ok (.aload_n 0, 1) := dk_42 (dk_at dksX4_keepsText_6 16 rfl rfl)
theorem dX4_keepsText_158 : decode cX4_keepsText 158 = .ok (.getfield 48, 3) := dk_180 0 48 (dk_at dksX4_keepsText_6 17 rfl rfl)
theorem dX4_keepsText_161 : decode cX4_keepsText 161 = .ok (.iload_n 3, 1) := dk_29 (dk_at dksX4_keepsText_6 20 rfl rfl)
theorem dX4_keepsText_162 : decode cX4_keepsText 162 = .ok (.aload_n 0, 1) := dk_42 (dk_at dksX4_keepsText_6 21 rfl rfl)
theorem dX4_keepsText_163 : decode cX4_keepsText 163 = .ok (.getfield 81, 3) := dk_180 0 81 (dk_at dksX4_keepsText_7 0 rfl rfl)
theorem dX4_keepsText_166 : decode cX4_keepsText 166 = .ok (.bipush 7, 2) := dk_16 7 (dk_at dksX4_keepsText_7 3 rfl rfl)
theorem dX4_keepsText_168 : decode cX4_keepsText 168 = .ok (.iload_n 2, 1) := dk_28 (dk_at dksX4_keepsText_7 5 rfl rfl)
theorem dX4_keepsText_169 : decode cX4_keepsText 169 = .ok (.imul, 1) := dk_104 (dk_at dksX4_keepsText_7 6 rfl rfl)
theorem dX4_keepsText_170 : decode cX4_keepsText 170 = .ok (.iconst 4, 1) := dk_7 (dk_at dksX4_keepsText_7 7 rfl rfl)
theorem dX4_keepsText_171 : decode cX4_keepsText 171 = .ok (.iadd, 1) := dk_96 (dk_at dksX4_keepsText_7 8 rfl rfl)
theorem dX4_keepsText_172 : decode cX4_keepsText 172 = .ok (.iaload, 1) := dk_46 (dk_at dksX4_keepsText_7 9 rfl rfl)
theorem dX4_keepsText_173 : decode cX4_keepsText 173 = .ok (.iastore, 1) := dk_79 (dk_at dksX4_keepsText_7 10 rfl rfl)
theorem dX4_keepsText_174 : decode cX4_keepsText 174 = .ok (.aload_n 0, 1) := dk_42 (dk_at dksX4_keepsText_7 11 rfl rfl)
theorem dX4_keepsText_175 : decode cX4_keepsText 175 = .ok (.getfield 51, 3) := dk_180 0 51 (dk_at dksX4_keepsText_7 12 rfl rfl)
theorem dX4_keepsText_178 : decode cX4_keepsText 178 = .ok (.iload_n 3, 1) := dk_29 (dk_at dksX4_keepsText_7 15 rfl rfl)
theorem dX4_keepsText_179 : decode cX4_keepsText 179 = .ok (.aload_n 0, 1) := dk_42 (dk_at dksX4_keepsText_7 16 rfl rfl)
theorem dX4_keepsText_180 : decode cX4_keepsText 180 = .ok (.getfield 81, 3) := dk_180 0 81 (dk_at dksX4_keepsText_7 17 rfl rfl)
theorem dX4_keepsText_183 : decode cX4_keepsText 183 = .ok (.bipush 7, 2) := dk_16 7 (dk_at dksX4_keepsText_7 20 rfl rfl)
theorem dX4_keepsText_185 : decode cX4_keepsText 185 = .ok (.iload_n 2, 1) := dk_28 (dk_at dksX4_keepsText_7 22 rfl rfl)
theorem dX4_keepsText_186 : decode cX4_keepsText 186 = .ok (.imul, 1) := dk_104 (dk_at dksX4_keepsText_7 23 rfl rfl)
theorem dX4_keepsText_187 : decode cX4_keepsText 187 = .ok (.iconst 5, 1) := dk_8 (dk_at dksX4_keepsText_8 0 rfl rfl)
theorem dX4_keepsText_188 : decode cX4_keepsText 188 = .ok (.iadd, 1) := dk_96 (dk_at dksX4_keepsText_8 1 rfl rfl)
theorem dX4_keepsText_189 : decode cX4_keepsText 189 = .ok (.iaload, 1) := dk_46 (dk_at dksX4_keepsText_8 2 rfl rfl)
theorem dX4_keepsText_190 : decode cX4_keepsText 190 = .ok (.iastore, 1) := dk_79 (dk_at dksX4_keepsText_8 3 rfl rfl)
theorem dX4_keepsText_191 : decode cX4_keepsText 191 = .ok (.aload_n 0, 1) := dk_42 (dk_at dksX4_keepsText_8 4 rfl rfl)
theorem dX4_keepsText_192 : decode cX4_keepsText 192 = .ok (.getfield 54, 3) := dk_180 0 54 (dk_at dksX4_keepsText_8 5 rfl rfl)
theorem dX4_keepsText_195 : decode cX4_keepsText 195 = .ok (.iload_n 3, 1) := dk_29 (dk_at dksX4_keepsText_8 8 rfl rfl)
theorem dX4_keepsText_196 : decode cX4_keepsText 196 = .ok (.aload_n 0, 1) := dk_42 (dk_at dksX4_keepsText_8 9 rfl rfl)
theorem dX4_keepsText_197 : decode cX4_keepsText 197 = .ok (.getfield 81, 3) := dk_180 0 81 (dk_at dksX4_keepsText_8 10 rfl rfl)
theorem dX4_keepsText_200 : decode cX4_keepsText 200 = .ok (.bipush 7, 2) := dk_16 7 (dk_at dksX4_keepsText_8 13 rfl rfl)
theorem dX4_keepsText_202 : decode cX4_keepsText 202 = .ok (.iload_n 2, 1) := dk_28 (dk_at dksX4_keepsText_8 15 rfl rfl)
theorem dX4_keepsText_203 : decode cX4_keepsText 203 = .ok (.imul, 1) := dk_104 (dk_at dksX4_keepsText_8 16 rfl rfl)
theorem dX4_keepsText_204 : decode cX4_keepsText 204 = .ok (.bipush 6, 2) := dk_16 6 (dk_at dksX4_keepsText_8 17 rfl rfl)
theorem dX4_keepsText_206 : decode cX4_keepsText 206 = .ok (.iadd, 1) := dk_96 (dk_at dksX4_keepsText_8 19 rfl rfl)
theorem dX4_keepsText_207 : decode cX4_keepsText 207 = .ok (.iaload, 1) := dk_46 (dk_at dksX4_keepsText_8 20 rfl rfl)
theorem dX4_keepsText_208 : decode cX4_keepsText 208 = .ok (.iastore, 1) := dk_79 (dk_at dksX4_keepsText_8 21 rfl rfl)
theorem dX4_keepsText_209 : decode cX4_keepsText 209 = .ok (.iinc 2 1, 3) := dk_132 2 1 (dk_at dksX4_keepsText_9 0 rfl rfl)
theorem dX4_keepsText_212 : decode cX4_keepsText 212 = .ok (.goto (-200), 3) := dk_167 255 56 (dk_at dksX4_keepsText_9 3 rfl rfl)
theorem dX4_keepsText_215 : decode cX4_keepsText 215 = .ok (.iconst 0, 1) := dk_3 (dk_at dksX4_keepsText_9 6 rfl rfl)
theorem dX4_keepsText_216 : decode cX4_keepsText 216 = .ok (.istore_n 2, 1) := dk_61 (dk_at dksX4_keepsText_9 7 rfl rfl)
theorem dX4_keepsText_217 : decode cX4_keepsText 217 = .ok (.iload_n 2, 1) := dk_28 (dk_at dksX4_keepsText_9 8 rfl rfl)
theorem dX4_keepsText_218 : decode cX4_keepsText 218 = .ok (.aload_n 0, 1) := dk_42 (dk_at dksX4_keepsText_9 9 rfl rfl)
theorem dX4_keepsText_219 : decode cX4_keepsText 219 = .ok (.getfield 275, 3) := dk_180 1 19 (dk_at dksX4_keepsText_9 10 rfl rfl)
theorem dX4_keepsText_222 : decode cX4_keepsText 222 = .ok (.if_icmp .ge 45, 3) := dk_162 0 45 (dk_at dksX4_keepsText_9 13 rfl rfl)
theorem dX4_keepsText_225 : decode cX4_keepsText 225 = .ok (.aload_n 0, 1) := dk_42 (dk_at dksX4_keepsText_9 16 rfl rfl)
theorem dX4_keepsText_226 : decode cX4_keepsText 226 = .ok (.getfield 57, 3) := dk_180 0 57 (dk_at dksX4_keepsText_9 17 rfl rfl)
theorem dX4_keepsText_229 : decode cX4_keepsText 229 = .ok (.sipush 400, 3) := dk_17 1 144 (dk_at dksX4_keepsText_9 20 rfl rfl)
theorem dX4_keepsText_232 : decode cX4_keepsText 232 = .ok (.iload_n 1, 1) := dk_27 (dk_at dksX4_keepsText_9 23 rfl rfl)
theorem dX4_keepsText_233 : decode cX4_keepsText 233 = .ok (.imul, 1) := dk_104 (dk_at dksX4_keepsText_10 0 rfl rfl)
theorem dX4_keepsText_234 : decode cX4_keepsText 234 = .ok (.iload_n 2, 1) := dk_28 (dk_at dksX4_keepsText_10 1 rfl rfl)
theorem dX4_keepsText_235 : decode cX4_keepsText 235 = .ok (.iadd, 1) := dk_96 (dk_at dksX4_keepsText_10 2 rfl rfl)
theorem dX4_keepsText_236 : decode cX4_keepsText 236 = .ok (.aload_n 0, 1) := dk_42 (dk_at dksX4_keepsText_10 3 rfl rfl)
theorem dX4_keepsText_237 : decode cX4_keepsText 237 = .ok (.getfield 84, 3) := dk_180 0 84 (dk_at dksX4_keepsText_10 4 rfl rfl)
theorem dX4_keepsText_240 : decode cX4_keepsText 240 = .ok (.iload_n 2, 1) := dk_28 (dk_at dksX4_keepsText_10 7 rfl rfl)
theorem dX4_keepsText_241 : decode cX4_keepsText 241 = .ok (.iaload, 1) := dk_46 (dk_at dksX4_keepsText_10 8 rfl rfl)
theorem dX4_keepsText_242 : decode cX4_keepsText 242 = .ok (.iastore, 1) := dk_79 (dk_at dksX4_keepsText_10 9 rfl rfl)
theorem dX4_keepsText_243 : decode cX4_keepsText 243 = .ok (.aload_n 0, 1) := dk_42 (dk_at dksX4_keepsText_10 10 rfl rfl)
theorem dX4_keepsText_244 : decode cX4_keepsText 244 = .ok (.getfield 60, 3) := dk_180 0 60 (dk_at dksX4_keepsText_10 11 rfl rfl)
theorem dX4_keepsText_247 : decode cX4_keepsText 247 = .ok (.sipush 400, 3) := dk_17 1 144 (dk_at dksX4_keepsText_10 14 rfl rfl)
theorem dX4_keepsText_250 : decode cX4_keepsText 250 = .ok (.iload_n 1, 1) := dk_27 (dk_at dksX4_keepsText_10 17 rfl rfl)
theorem dX4_keepsText_251 : decode cX4_keepsText 251 = .ok (.imul, 1) := dk_104 (dk_at dksX4_keepsText_10 18 rfl rfl)
theorem dX4_keepsText_252 : decode cX4_keepsText 252 = .ok (.iload_n 2, 1) := dk_28 (dk_at dksX4_keepsText_10 19 rfl rfl)
theorem dX4_keepsText_253 : decode cX4_keepsText 253 = .ok (.iadd, 1) := dk_96 (dk_at dksX4_keepsText_10 20 rfl rfl)
theorem dX4_keepsText_254 : decode cX4_keepsText 254 = .ok (.aload_n 0, 1) := dk_42 (dk_at dksX4_keepsText_10 21 rfl rfl)
theorem dX4_keepsText_255 : decode cX4_keepsText 255 = .ok (.getfield 87, 3) := dk_180 0 87 (dk_at dksX4_keepsText_11 0 rfl rfl)
theorem dX4_keepsText_258 : decode cX4_keepsText 258 = .ok (.iload_n 2, 1) := dk_28 (dk_at dksX4_keepsText_11 3 rfl rfl)
theorem dX4_keepsText_259 : decode cX4_keepsText 259 = .ok (.iaload, 1) := dk_46 (dk_at dksX4_keepsText_11 4 rfl rfl)
theorem dX4_keepsText_260 : decode cX4_keepsText 260 = .ok (.iastore, 1) := dk_79 (dk_at dksX4_keepsText_11 5 rfl rfl)
theorem dX4_keepsText_261 : decode cX4_keepsText 261 = .ok (.iinc 2 1, 3) := dk_132 2 1 (dk_at dksX4_keepsText_11 6 rfl rfl)
theorem dX4_keepsText_264 : decode cX4_keepsText 264 = .ok (.goto (-47), 3) := dk_167 255 209 (dk_at dksX4_keepsText_11 9 rfl rfl)
theorem dX4_keepsText_267 : decode cX4_keepsText 267 = .ok (.return_, 1) := dk_177 (dk_at dksX4_keepsText_11 12 rfl rfl)
abbrev cX4_fault : ByteArray := prog_23_method_35_code
def yX4_fault : MethodName := ⟨RX4, "fault", "(I)I"⟩
def dkwX4_fault_1 : List UInt8 := [172]
abbrev dktX4_fault_1 : List UInt8 := dkwX4_fault_1 ++ []
def dkwX4_fault_0 : List UInt8 := [27, 154, 0, 10, 42, 180, 0, 20, 167, 0, 16, 27, 4, 160, 0, 10, 42, 180, 0, 24, 167, 0, 4, 2]
abbrev dktX4_fault_0 : List UInt8 := dkwX4_fault_0 ++ dktX4_fault_1
theorem dksX4_fault_0 : cX4_fault.data.toList.drop 0 = dktX4_fault_0 := by decide +kernel
theorem dksX4_fault_1 : cX4_fault.data.toList.drop 24 = dktX4_fault_1 := dk_seg dksX4_fault_0 24 rfl rfl
theorem dX4_fault_0 : decode cX4_fault 0 = .ok (.iload_n 1, 1) := dk_27 (dk_at dksX4_fault_0 0 rfl rfl)
theorem dX4_fault_1 : decode cX4_fault 1 = .ok (.ifCond .ne 10, 3) := dk_154 0 10 (dk_at dksX4_fault_0 1 rfl rfl)
theorem dX4_fault_4 : decode cX4_fault 4 = .ok (.aload_n 0, 1) := dk_42 (dk_at dksX4_fault_0 4 rfl rfl)
theorem dX4_fault_5 : decode cX4_fault 5 = .ok (.getfield 20, 3) := dk_180 0 20 (dk_at dksX4_fault_0 5 rfl rfl)
theorem dX4_fault_8 : decode cX4_fault 8 = .ok (.goto 16, 3) := dk_167 0 16 (dk_at dksX4_fault_0 8 rfl rfl)
theorem dX4_fault_11 : decode cX4_fault 11 = .ok (.iload_n 1, 1) := dk_27 (dk_at dksX4_fault_0 11 rfl rfl)
theorem dX4_fault_12 : decode cX4_fault 12 = .ok (.iconst 1, 1) := dk_4 (dk_at dksX4_fault_0 12 rfl rfl)
theorem dX4_fault_13 : decode cX4_fault 13 = .ok (.if_icmp .ne 10, 3) := dk_160 0 10 (dk_at dksX4_fault_0 13 rfl rfl)
theorem dX4_fault_16 : decode cX4_fault 16 = .ok (.aload_n 0, 1) := dk_42 (dk_at dksX4_fault_0 16 rfl rfl)
theorem dX4_fault_17 : decode cX4_fault 17 = .ok (.getfield 24, 3) := dk_180 0 24 (dk_at dksX4_fault_0 17 rfl rfl)
theorem dX4_fault_20 : decode cX4_fault 20 = .ok (.goto 4, 3) := dk_167 0 4 (dk_at dksX4_fault_0 20 rfl rfl)
theorem dX4_fault_23 : decode cX4_fault 23 = .ok (.iconst (-1), 1) := dk_2 (dk_at dksX4_fault_0 23 rfl rfl)
theorem dX4_fault_24 : decode cX4_fault 24 = .ok (.ireturn, 1) := dk_172 (dk_at dksX4_fault_1 0 rfl rfl)
abbrev cX4_by : ByteArray := prog_23_method_39_code
def yX4_by : MethodName := ⟨RX4, "by", "(I)Z"⟩
def dkwX4_by_1 : List UInt8 := [180, 0, 7, 4, 27, 79, 4, 172]
abbrev dktX4_by_1 : List UInt8 := dkwX4_by_1 ++ []
def dkwX4_by_0 : List UInt8 := [27, 2, 159, 0, 21, 27, 3, 42, 180, 0, 7, 3, 46, 4, 100, 184, 0, 199, 154, 0, 5, 3, 172, 42]
abbrev dktX4_by_0 : List UInt8 := dkwX4_by_0 ++ dktX4_by_1
theorem dksX4_by_0 : cX4_by.data.toList.drop 0 = dktX4_by_0 := by decide +kernel
theorem dksX4_by_1 : cX4_by.data.toList.drop 24 = dktX4_by_1 := dk_seg dksX4_by_0 24 rfl rfl
theorem dX4_by_0 : decode cX4_by 0 = .ok (.iload_n 1, 1) := dk_27 (dk_at dksX4_by_0 0 rfl rfl)
theorem dX4_by_1 : decode cX4_by 1 = .ok (.iconst (-1), 1) := dk_2 (dk_at dksX4_by_0 1 rfl rfl)
theorem dX4_by_2 : decode cX4_by 2 = .ok (.if_icmp .eq 21, 3) := dk_159 0 21 (dk_at dksX4_by_0 2 rfl rfl)
theorem dX4_by_5 : decode cX4_by 5 = .ok (.iload_n 1, 1) := dk_27 (dk_at dksX4_by_0 5 rfl rfl)
theorem dX4_by_6 : decode cX4_by 6 = .ok (.iconst 0, 1) := dk_3 (dk_at dksX4_by_0 6 rfl rfl)
theorem dX4_by_7 : decode cX4_by 7 = .ok (.aload_n 0, 1) := dk_42 (dk_at dksX4_by_0 7 rfl rfl)
theorem dX4_by_8 : decode cX4_by 8 = .ok (.getfield 7, 3) := dk_180 0 7 (dk_at dksX4_by_0 8 rfl rfl)
theorem dX4_by_11 : decode cX4_by 11 = .ok (.iconst 0, 1) := dk_3 (dk_at dksX4_by_0 11 rfl rfl)
theorem dX4_by_12 : decode cX4_by 12 = .ok (.iaload, 1) := dk_46 (dk_at dksX4_by_0 12 rfl rfl)
theorem dX4_by_13 : decode cX4_by 13 = .ok (.iconst 1, 1) := dk_4 (dk_at dksX4_by_0 13 rfl rfl)
theorem dX4_by_14 : decode cX4_by 14 = .ok (.isub, 1) := dk_100 (dk_at dksX4_by_0 14 rfl rfl)
theorem dX4_by_15 : decode cX4_by 15 = .ok (.invokestatic 199, 3) := dk_184 0 199 (dk_at dksX4_by_0 15 rfl rfl)
theorem dX4_by_18 : decode cX4_by 18 = .ok (.ifCond .ne 5, 3) := dk_154 0 5 (dk_at dksX4_by_0 18 rfl rfl)
theorem dX4_by_21 : decode cX4_by 21 = .ok (.iconst 0, 1) := dk_3 (dk_at dksX4_by_0 21 rfl rfl)
theorem dX4_by_22 : decode cX4_by 22 = .ok (.ireturn, 1) := dk_172 (dk_at dksX4_by_0 22 rfl rfl)
theorem dX4_by_23 : decode cX4_by 23 = .ok (.aload_n 0, 1) := dk_42 (dk_at dksX4_by_0 23 rfl rfl)
theorem dX4_by_24 : decode cX4_by 24 = .ok (.getfield 7, 3) := dk_180 0 7 (dk_at dksX4_by_1 0 rfl rfl)
theorem dX4_by_27 : decode cX4_by 27 = .ok (.iconst 1, 1) := dk_4 (dk_at dksX4_by_1 3 rfl rfl)
theorem dX4_by_28 : decode cX4_by 28 = .ok (.iload_n 1, 1) := dk_27 (dk_at dksX4_by_1 4 rfl rfl)
theorem dX4_by_29 : decode cX4_by 29 = .ok (.iastore, 1) := dk_79 (dk_at dksX4_by_1 5 rfl rfl)
theorem dX4_by_30 : decode cX4_by 30 = .ok (.iconst 1, 1) := dk_4 (dk_at dksX4_by_1 6 rfl rfl)
theorem dX4_by_31 : decode cX4_by 31 = .ok (.ireturn, 1) := dk_172 (dk_at dksX4_by_1 7 rfl rfl)
abbrev cX4_say : ByteArray := prog_23_method_42_code
def yX4_say : MethodName := ⟨RX4, "say", "(I)I"⟩
def dkwX4_say_2 : List UInt8 := [42, 180, 0, 7, 5, 46, 172]
abbrev dktX4_say_2 : List UInt8 := dkwX4_say_2 ++ []
def dkwX4_say_1 : List UInt8 := [180, 0, 7, 16, 10, 42, 180, 0, 7, 5, 46, 96, 27, 79, 42, 180, 0, 7, 5, 92, 46, 4, 96, 79]
abbrev dktX4_say_1 : List UInt8 := dkwX4_say_1 ++ dktX4_say_2
def dkwX4_say_0 : List UInt8 := [27, 3, 16, 19, 184, 0, 199, 153, 0, 14, 42, 180, 0, 7, 5, 46, 16, 24, 160, 0, 5, 2, 172, 42]
abbrev dktX4_say_0 : List UInt8 := dkwX4_say_0 ++ dktX4_say_1
theorem dksX4_say_0 : cX4_say.data.toList.drop 0 = dktX4_say_0 := by decide +kernel
theorem dksX4_say_1 : cX4_say.data.toList.drop 24 = dktX4_say_1 := dk_seg dksX4_say_0 24 rfl rfl
theorem dksX4_say_2 : cX4_say.data.toList.drop 48 = dktX4_say_2 := dk_seg dksX4_say_1 24 rfl rfl
theorem dX4_say_0 : decode cX4_say 0 = .ok (.iload_n 1, 1) := dk_27 (dk_at dksX4_say_0 0 rfl rfl)
theorem dX4_say_1 : decode cX4_say 1 = .ok (.iconst 0, 1) := dk_3 (dk_at dksX4_say_0 1 rfl rfl)
theorem dX4_say_2 : decode cX4_say 2 = .ok (.bipush 19, 2) := dk_16 19 (dk_at dksX4_say_0 2 rfl rfl)
theorem dX4_say_4 : decode cX4_say 4 = .ok (.invokestatic 199, 3) := dk_184 0 199 (dk_at dksX4_say_0 4 rfl rfl)
theorem dX4_say_7 : decode cX4_say 7 = .ok (.ifCond .eq 14, 3) := dk_153 0 14 (dk_at dksX4_say_0 7 rfl rfl)
theorem dX4_say_10 : decode cX4_say 10 = .ok (.aload_n 0, 1) := dk_42 (dk_at dksX4_say_0 10 rfl rfl)
theorem dX4_say_11 : decode cX4_say 11 = .ok (.getfield 7, 3) := dk_180 0 7 (dk_at dksX4_say_0 11 rfl rfl)
theorem dX4_say_14 : decode cX4_say 14 = .ok (.iconst 2, 1) := dk_5 (dk_at dksX4_say_0 14 rfl rfl)
theorem dX4_say_15 : decode cX4_say 15 = .ok (.iaload, 1) := dk_46 (dk_at dksX4_say_0 15 rfl rfl)
theorem dX4_say_16 : decode cX4_say 16 = .ok (.bipush 24, 2) := dk_16 24 (dk_at dksX4_say_0 16 rfl rfl)
theorem dX4_say_18 : decode cX4_say 18 = .ok (.if_icmp .ne 5, 3) := dk_160 0 5 (dk_at dksX4_say_0 18 rfl rfl)
theorem dX4_say_21 : decode cX4_say 21 = .ok (.iconst (-1), 1) := dk_2 (dk_at dksX4_say_0 21 rfl rfl)
theorem dX4_say_22 : decode cX4_say 22 = .ok (.ireturn, 1) := dk_172 (dk_at dksX4_say_0 22 rfl rfl)
theorem dX4_say_23 : decode cX4_say 23 = .ok (.aload_n 0, 1) := dk_42 (dk_at dksX4_say_0 23 rfl rfl)
theorem dX4_say_24 : decode cX4_say 24 = .ok (.getfield 7, 3) := dk_180 0 7 (dk_at dksX4_say_1 0 rfl rfl)
theorem dX4_say_27 : decode cX4_say 27 = .ok (.bipush 10, 2) := dk_16 10 (dk_at dksX4_say_1 3 rfl rfl)
theorem dX4_say_29 : decode cX4_say 29 = .ok (.aload_n 0, 1) := dk_42 (dk_at dksX4_say_1 5 rfl rfl)
theorem dX4_say_30 : decode cX4_say 30 = .ok (.getfield 7, 3) := dk_180 0 7 (dk_at dksX4_say_1 6 rfl rfl)
theorem dX4_say_33 : decode cX4_say 33 = .ok (.iconst 2, 1) := dk_5 (dk_at dksX4_say_1 9 rfl rfl)
theorem dX4_say_34 : decode cX4_say 34 = .ok (.iaload, 1) := dk_46 (dk_at dksX4_say_1 10 rfl rfl)
theorem dX4_say_35 : decode cX4_say 35 = .ok (.iadd, 1) := dk_96 (dk_at dksX4_say_1 11 rfl rfl)
theorem dX4_say_36 : decode cX4_say 36 = .ok (.iload_n 1, 1) := dk_27 (dk_at dksX4_say_1 12 rfl rfl)
theorem dX4_say_37 : decode cX4_say 37 = .ok (.iastore, 1) := dk_79 (dk_at dksX4_say_1 13 rfl rfl)
theorem dX4_say_38 : decode cX4_say 38 = .ok (.aload_n 0, 1) := dk_42 (dk_at dksX4_say_1 14 rfl rfl)
theorem dX4_say_39 : decode cX4_say 39 = .ok (.getfield 7, 3) := dk_180 0 7 (dk_at dksX4_say_1 15 rfl rfl)
theorem dX4_say_42 : decode cX4_say 42 = .ok (.iconst 2, 1) := dk_5 (dk_at dksX4_say_1 18 rfl rfl)
theorem dX4_say_43 : decode cX4_say 43 = .ok (.dup2, 1) := dk_92 (dk_at dksX4_say_1 19 rfl rfl)
theorem dX4_say_44 : decode cX4_say 44 = .ok (.iaload, 1) := dk_46 (dk_at dksX4_say_1 20 rfl rfl)
theorem dX4_say_45 : decode cX4_say 45 = .ok (.iconst 1, 1) := dk_4 (dk_at dksX4_say_1 21 rfl rfl)
theorem dX4_say_46 : decode cX4_say 46 = .ok (.iadd, 1) := dk_96 (dk_at dksX4_say_1 22 rfl rfl)
theorem dX4_say_47 : decode cX4_say 47 = .ok (.iastore, 1) := dk_79 (dk_at dksX4_say_1 23 rfl rfl)
theorem dX4_say_48 : decode cX4_say 48 = .ok (.aload_n 0, 1) := dk_42 (dk_at dksX4_say_2 0 rfl rfl)
theorem dX4_say_49 : decode cX4_say 49 = .ok (.getfield 7, 3) := dk_180 0 7 (dk_at dksX4_say_2 1 rfl rfl)
theorem dX4_say_52 : decode cX4_say 52 = .ok (.iconst 2, 1) := dk_5 (dk_at dksX4_say_2 4 rfl rfl)
theorem dX4_say_53 : decode cX4_say 53 = .ok (.iaload, 1) := dk_46 (dk_at dksX4_say_2 5 rfl rfl)
theorem dX4_say_54 : decode cX4_say 54 = .ok (.ireturn, 1) := dk_172 (dk_at dksX4_say_2 6 rfl rfl)
abbrev cX4_unsay : ByteArray := prog_23_method_43_code
def yX4_unsay : MethodName := ⟨RX4, "unsay", "(I)I"⟩
def dkwX4_unsay_1 : List UInt8 := [100, 79, 42, 180, 0, 7, 5, 46, 172]
abbrev dktX4_unsay_1 : List UInt8 := dkwX4_unsay_1 ++ []
def dkwX4_unsay_0 : List UInt8 := [27, 3, 42, 180, 0, 7, 5, 46, 184, 0, 199, 154, 0, 5, 2, 172, 42, 180, 0, 7, 5, 92, 46, 27]
abbrev dktX4_unsay_0 : List UInt8 := dkwX4_unsay_0 ++ dktX4_unsay_1
theorem dksX4_unsay_0 : cX4_unsay.data.toList.drop 0 = dktX4_unsay_0 := by decide +kernel
theorem dksX4_unsay_1 : cX4_unsay.data.toList.drop 24 = dktX4_unsay_1 := dk_seg dksX4_unsay_0 24 rfl rfl
theorem dX4_unsay_0 : decode cX4_unsay 0 = .ok (.iload_n 1, 1) := dk_27 (dk_at dksX4_unsay_0 0 rfl rfl)
theorem dX4_unsay_1 : decode cX4_unsay 1 = .ok (.iconst 0, 1) := dk_3 (dk_at dksX4_unsay_0 1 rfl rfl)
theorem dX4_unsay_2 : decode cX4_unsay 2 = .ok (.aload_n 0, 1) := dk_42 (dk_at dksX4_unsay_0 2 rfl rfl)
theorem dX4_unsay_3 : decode cX4_unsay 3 = .ok (.getfield 7, 3) := dk_180 0 7 (dk_at dksX4_unsay_0 3 rfl rfl)
theorem dX4_unsay_6 : decode cX4_unsay 6 = .ok (.iconst 2, 1) := dk_5 (dk_at dksX4_unsay_0 6 rfl rfl)
theorem dX4_unsay_7 : decode cX4_unsay 7 = .ok (.iaload, 1) := dk_46 (dk_at dksX4_unsay_0 7 rfl rfl)
theorem dX4_unsay_8 : decode cX4_unsay 8 = .ok (.invokestatic 199, 3) := dk_184 0 199 (dk_at dksX4_unsay_0 8 rfl rfl)
theorem dX4_unsay_11 : decode cX4_unsay 11 = .ok (.ifCond .ne 5, 3) := dk_154 0 5 (dk_at dksX4_unsay_0 11 rfl rfl)
theorem dX4_unsay_14 : decode cX4_unsay 14 = .ok (.iconst (-1), 1) := dk_2 (dk_at dksX4_unsay_0 14 rfl rfl)
theorem dX4_unsay_15 : decode cX4_unsay 15 = .ok (.ireturn, 1) := dk_172 (dk_at dksX4_unsay_0 15 rfl rfl)
theorem dX4_unsay_16 : decode cX4_unsay 16 = .ok (.aload_n 0, 1) := dk_42 (dk_at dksX4_unsay_0 16 rfl rfl)
theorem dX4_unsay_17 : decode cX4_unsay 17 = .ok (.getfield 7, 3) := dk_180 0 7 (dk_at dksX4_unsay_0 17 rfl rfl)
theorem dX4_unsay_20 : decode cX4_unsay 20 = .ok (.iconst 2, 1) := dk_5 (dk_at dksX4_unsay_0 20 rfl rfl)
theorem dX4_unsay_21 : decode cX4_unsay 21 = .ok (.dup2, 1) := dk_92 (dk_at dksX4_unsay_0 21 rfl rfl)
theorem dX4_unsay_22 : decode cX4_unsay 22 = .ok (.iaload, 1) := dk_46 (dk_at dksX4_unsay_0 22 rfl rfl)
theorem dX4_unsay_23 : decode cX4_unsay 23 = .ok (.iload_n 1, 1) := dk_27 (dk_at dksX4_unsay_0 23 rfl rfl)
theorem dX4_unsay_24 : decode cX4_unsay 24 = .ok (.isub, 1) := dk_100 (dk_at dksX4_unsay_1 0 rfl rfl)
theorem dX4_unsay_25 : decode cX4_unsay 25 = .ok (.iastore, 1) := dk_79 (dk_at dksX4_unsay_1 1 rfl rfl)
theorem dX4_unsay_26 : decode cX4_unsay 26 = .ok (.aload_n 0, 1) := dk_42 (dk_at dksX4_unsay_1 2 rfl rfl)
theorem dX4_unsay_27 : decode cX4_unsay 27 = .ok (.getfield 7, 3) := dk_180 0 7 (dk_at dksX4_unsay_1 3 rfl rfl)
theorem dX4_unsay_30 : decode cX4_unsay 30 = .ok (.iconst 2, 1) := dk_5 (dk_at dksX4_unsay_1 6 rfl rfl)
theorem dX4_unsay_31 : decode cX4_unsay 31 = .ok (.iaload, 1) := dk_46 (dk_at dksX4_unsay_1 7 rfl rfl)
theorem dX4_unsay_32 : decode cX4_unsay 32 = .ok (.ireturn, 1) := dk_172 (dk_at dksX4_unsay_1 8 rfl rfl)
abbrev cX4_word : ByteArray := prog_23_method_44_code
def yX4_word : MethodName := ⟨RX4, "word", "(I)I"⟩
def dkwX4_word_1 : List UInt8 := [46, 167, 0, 4, 2, 172]
abbrev dktX4_word_1 : List UInt8 := dkwX4_word_1 ++ []
def dkwX4_word_0 : List UInt8 := [27, 3, 42, 180, 0, 7, 5, 46, 4, 100, 184, 0, 199, 153, 0, 15, 42, 180, 0, 7, 16, 10, 27, 96]
abbrev dktX4_word_0 : List UInt8 := dkwX4_word_0 ++ dktX4_word_1
theorem dksX4_word_0 : cX4_word.data.toList.drop 0 = dktX4_word_0 := by decide +kernel
theorem dksX4_word_1 : cX4_word.data.toList.drop 24 = dktX4_word_1 := dk_seg dksX4_word_0 24 rfl rfl
theorem dX4_word_0 : decode cX4_word 0 = .ok (.iload_n 1, 1) := dk_27 (dk_at dksX4_word_0 0 rfl rfl)
theorem dX4_word_1 : decode cX4_word 1 = .ok (.iconst 0, 1) := dk_3 (dk_at dksX4_word_0 1 rfl rfl)
theorem dX4_word_2 : decode cX4_word 2 = .ok (.aload_n 0, 1) := dk_42 (dk_at dksX4_word_0 2 rfl rfl)
theorem dX4_word_3 : decode cX4_word 3 = .ok (.getfield 7, 3) := dk_180 0 7 (dk_at dksX4_word_0 3 rfl rfl)
theorem dX4_word_6 : decode cX4_word 6 = .ok (.iconst 2, 1) := dk_5 (dk_at dksX4_word_0 6 rfl rfl)
theorem dX4_word_7 : decode cX4_word 7 = .ok (.iaload, 1) := dk_46 (dk_at dksX4_word_0 7 rfl rfl)
theorem dX4_word_8 : decode cX4_word 8 = .ok (.iconst 1, 1) := dk_4 (dk_at dksX4_word_0 8 rfl rfl)
theorem dX4_word_9 : decode cX4_word 9 = .ok (.isub, 1) := dk_100 (dk_at dksX4_word_0 9 rfl rfl)
theorem dX4_word_10 : decode cX4_word 10 = .ok (.invokestatic 199, 3) := dk_184 0 199 (dk_at dksX4_word_0 10 rfl rfl)
theorem dX4_word_13 : decode cX4_word 13 = .ok (.ifCond .eq 15, 3) := dk_153 0 15 (dk_at dksX4_word_0 13 rfl rfl)
theorem dX4_word_16 : decode cX4_word 16 = .ok (.aload_n 0, 1) := dk_42 (dk_at dksX4_word_0 16 rfl rfl)
theorem dX4_word_17 : decode cX4_word 17 = .ok (.getfield 7, 3) := dk_180 0 7 (dk_at dksX4_word_0 17 rfl rfl)
theorem dX4_word_20 : decode cX4_word 20 = .ok (.bipush 10, 2) := dk_16 10 (dk_at dksX4_word_0 20 rfl rfl)
theorem dX4_word_22 : decode cX4_word 22 = .ok (.iload_n 1, 1) := dk_27 (dk_at dksX4_word_0 22 rfl rfl)
theorem dX4_word_23 : decode cX4_word 23 = .ok (.iadd, 1) := dk_96 (dk_at dksX4_word_0 23 rfl rfl)
theorem dX4_word_24 : decode cX4_word 24 = .ok (.iaload, 1) := dk_46 (dk_at dksX4_word_1 0 rfl rfl)
theorem dX4_word_25 : decode cX4_word 25 = .ok (.goto 4, 3) := dk_167 0 4 (dk_at dksX4_word_1 1 rfl rfl)
theorem dX4_word_28 : decode cX4_word 28 = .ok (.iconst (-1), 1) := dk_2 (dk_at dksX4_word_1 4 rfl rfl)
theorem dX4_word_29 : decode cX4_word 29 = .ok (.ireturn, 1) := dk_172 (dk_at dksX4_word_1 5 rfl rfl)
abbrev cX4_count : ByteArray := prog_23_method_56_code
def yX4_count : MethodName := ⟨RX4, "count", "(I)I"⟩
def dkwX4_count_8 : List UInt8 := [27, 47, 136, 172]
abbrev dktX4_count_8 : List UInt8 := dkwX4_count_8 ++ []
def dkwX4_count_7 : List UInt8 := [180, 0, 103, 28, 47, 42, 180, 0, 106, 28, 47, 182, 1, 195, 132, 2, 255, 167, 255, 224, 42, 180, 0, 109]
abbrev dktX4_count_7 : List UInt8 := dkwX4_count_7 ++ dktX4_count_8
def dkwX4_count_6 : List UInt8 := [132, 2, 1, 167, 255, 240, 8, 61, 28, 155, 0, 34, 42, 28, 8, 160, 0, 7, 9, 167, 0, 9, 42]
abbrev dktX4_count_6 : List UInt8 := dkwX4_count_6 ++ dktX4_count_7
def dkwX4_count_5 : List UInt8 := [80, 132, 2, 1, 167, 255, 151, 3, 61, 28, 16, 7, 162, 0, 16, 42, 180, 0, 109, 28, 9, 80]
abbrev dktX4_count_5 : List UInt8 := dkwX4_count_5 ++ dktX4_count_6
def dkwX4_count_4 : List UInt8 := [184, 1, 192, 105, 42, 180, 0, 103, 28, 47, 113, 66, 132, 5, 1, 167, 255, 188, 42, 180, 0, 106, 28, 33]
abbrev dktX4_count_4 : List UInt8 := dkwX4_count_4 ++ dktX4_count_5
def dkwX4_count_3 : List UInt8 := [180, 0, 103, 28, 47, 113, 55, 6, 22, 6, 42, 180, 0, 103, 21, 5, 47, 42, 180, 0, 103, 28, 47]
abbrev dktX4_count_3 : List UInt8 := dkwX4_count_3 ++ dktX4_count_4
def dkwX4_count_2 : List UInt8 := [33, 42, 180, 0, 106, 21, 5, 47, 42, 180, 0, 103, 28, 47, 113, 101, 42, 180, 0, 103, 28, 47, 97, 42]
abbrev dktX4_count_2 : List UInt8 := dkwX4_count_2 ++ dktX4_count_3
def dkwX4_count_1 : List UInt8 := [42, 42, 180, 0, 103, 28, 47, 182, 1, 184, 42, 182, 1, 188, 66, 3, 54, 5, 21, 5, 28, 162, 0, 68]
abbrev dktX4_count_1 : List UInt8 := dkwX4_count_1 ++ dktX4_count_2
def dkwX4_count_0 : List UInt8 := [27, 3, 16, 6, 184, 0, 199, 154, 0, 5, 2, 172, 42, 182, 1, 181, 3, 61, 28, 16, 6, 162, 0, 105]
abbrev dktX4_count_0 : List UInt8 := dkwX4_count_0 ++ dktX4_count_1
theorem dksX4_count_0 : cX4_count.data.toList.drop 0 = dktX4_count_0 := by decide +kernel
theorem dksX4_count_1 : cX4_count.data.toList.drop 24 = dktX4_count_1 := dk_seg dksX4_count_0 24 rfl rfl
theorem dksX4_count_2 : cX4_count.data.toList.drop 48 = dktX4_count_2 := dk_seg dksX4_count_1 24 rfl rfl
theorem dksX4_count_3 : cX4_count.data.toList.drop 72 = dktX4_count_3 := dk_seg dksX4_count_2 24 rfl rfl
theorem dksX4_count_4 : cX4_count.data.toList.drop 95 = dktX4_count_4 := dk_seg dksX4_count_3 23 rfl rfl
theorem dksX4_count_5 : cX4_count.data.toList.drop 119 = dktX4_count_5 := dk_seg dksX4_count_4 24 rfl rfl
theorem dksX4_count_6 : cX4_count.data.toList.drop 141 = dktX4_count_6 := dk_seg dksX4_count_5 22 rfl rfl
theorem dksX4_count_7 : cX4_count.data.toList.drop 164 = dktX4_count_7 := dk_seg dksX4_count_6 23 rfl rfl
theorem dksX4_count_8 : cX4_count.data.toList.drop 188 = dktX4_count_8 := dk_seg dksX4_count_7 24 rfl rfl
theorem dX4_count_0 : decode cX4_count 0 = .ok (.iload_n 1, 1) := dk_27 (dk_at dksX4_count_0 0 rfl rfl)
theorem dX4_count_1 : decode cX4_count 1 = .ok (.iconst 0, 1) := dk_3 (dk_at dksX4_count_0 1 rfl rfl)
theorem dX4_count_2 : decode cX4_count 2 = .ok (.bipush 6, 2) := dk_16 6 (dk_at dksX4_count_0 2 rfl rfl)
theorem dX4_count_4 : decode cX4_count 4 = .ok (.invokestatic 199, 3) := dk_184 0 199 (dk_at dksX4_count_0 4 rfl rfl)
theorem dX4_count_7 : decode cX4_count 7 = .ok (.ifCond .ne 5, 3) := dk_154 0 5 (dk_at dksX4_count_0 7 rfl rfl)
theorem dX4_count_10 : decode cX4_count 10 = .ok (.iconst (-1), 1) := dk_2 (dk_at dksX4_count_0 10 rfl rfl)
theorem dX4_count_11 : decode cX4_count 11 = .ok (.ireturn, 1) := dk_172 (dk_at dksX4_count_0 11 rfl rfl)
theorem dX4_count_12 : decode cX4_count 12 = .ok (.aload_n 0, 1) := dk_42 (dk_at dksX4_count_0 12 rfl rfl)
theorem dX4_count_13 : decode cX4_count 13 = .ok (.invokevirtual 437, 3) := dk_182 1 181 (dk_at dksX4_count_0 13 rfl rfl)
theorem dX4_count_16 : decode cX4_count 16 = .ok (.iconst 0, 1) := dk_3 (dk_at dksX4_count_0 16 rfl rfl)
theorem dX4_count_17 : decode cX4_count 17 = .ok (.istore_n 2, 1) := dk_61 (dk_at dksX4_count_0 17 rfl rfl)
theorem dX4_count_18 : decode cX4_count 18 = .ok (.iload_n 2, 1) := dk_28 (dk_at dksX4_count_0 18 rfl rfl)
theorem dX4_count_19 : decode cX4_count 19 = .ok (.bipush 6, 2) := dk_16 6 (dk_at dksX4_count_0 19 rfl rfl)
theorem dX4_count_21 : decode cX4_count 21 = .ok (.if_icmp .ge 105, 3) := dk_162 0 105 (dk_at dksX4_count_0 21 rfl rfl)
theorem dX4_count_24 : decode cX4_count 24 = .ok (.aload_n 0, 1) := dk_42 (dk_at dksX4_count_1 0 rfl rfl)
theorem dX4_count_25 : decode cX4_count 25 = .ok (.aload_n 0, 1) := dk_42 (dk_at dksX4_count_1 1 rfl rfl)
theorem dX4_count_26 : decode cX4_count 26 = .ok (.getfield 103, 3) := dk_180 0 103 (dk_at dksX4_count_1 2 rfl rfl)
theorem dX4_count_29 : decode cX4_count 29 = .ok (.iload_n 2, 1) := dk_28 (dk_at dksX4_count_1 5 rfl rfl)
theorem dX4_count_30 : decode cX4_count 30 = .ok (.laload, 1) := dk_47 (dk_at dksX4_count_1 6 rfl rfl)
theorem dX4_count_31 : decode cX4_count 31 = .ok (.invokevirtual 440, 3) := dk_182 1 184 (dk_at dksX4_count_1 7 rfl rfl)
theorem dX4_count_34 : decode cX4_count 34 = .ok (.aload_n 0, 1) := dk_42 (dk_at dksX4_count_1 10 rfl rfl)
theorem dX4_count_35 : decode cX4_count 35 = .ok (.invokevirtual 444, 3) := dk_182 1 188 (dk_at dksX4_count_1 11 rfl rfl)
theorem dX4_count_38 : decode cX4_count 38 = .ok (.lstore_n 3, 1) := dk_66 (dk_at dksX4_count_1 14 rfl rfl)
theorem dX4_count_39 : decode cX4_count 39 = .ok (.iconst 0, 1) := dk_3 (dk_at dksX4_count_1 15 rfl rfl)
theorem dX4_count_40 : decode cX4_count 40 = .ok (.istore 5, 2) := dk_54 5 (dk_at dksX4_count_1 16 rfl rfl)
theorem dX4_count_42 : decode cX4_count 42 = .ok (.iload 5, 2) := dk_21 5 (dk_at dksX4_count_1 18 rfl rfl)
theorem dX4_count_44 : decode cX4_count 44 = .ok (.iload_n 2, 1) := dk_28 (dk_at dksX4_count_1 20 rfl rfl)
theorem dX4_count_45 : decode cX4_count 45 = .ok (.if_icmp .ge 68, 3) := dk_162 0 68 (dk_at dksX4_count_1 21 rfl rfl)
theorem dX4_count_48 : decode cX4_count 48 = .ok (.lload_n 3, 1) := dk_33 (dk_at dksX4_count_2 0 rfl rfl)
theorem dX4_count_49 : decode cX4_count 49 = .ok (.aload_n 0, 1) := dk_42 (dk_at dksX4_count_2 1 rfl rfl)
theorem dX4_count_50 : decode cX4_count 50 = .ok (.getfield 106, 3) := dk_180 0 106 (dk_at dksX4_count_2 2 rfl rfl)
theorem dX4_count_53 : decode cX4_count 53 = .ok (.iload 5, 2) := dk_21 5 (dk_at dksX4_count_2 5 rfl rfl)
theorem dX4_count_55 : decode cX4_count 55 = .ok (.laload, 1) := dk_47 (dk_at dksX4_count_2 7 rfl rfl)
theorem dX4_count_56 : decode cX4_count 56 = .ok (.aload_n 0, 1) := dk_42 (dk_at dksX4_count_2 8 rfl rfl)
theorem dX4_count_57 : decode cX4_count 57 = .ok (.getfield 103, 3) := dk_180 0 103 (dk_at dksX4_count_2 9 rfl rfl)
theorem dX4_count_60 : decode cX4_count 60 = .ok (.iload_n 2, 1) := dk_28 (dk_at dksX4_count_2 12 rfl rfl)
theorem dX4_count_61 : decode cX4_count 61 = .ok (.laload, 1) := dk_47 (dk_at dksX4_count_2 13 rfl rfl)
theorem dX4_count_62 : decode cX4_count 62 = .ok (.lrem, 1) := dk_113 (dk_at dksX4_count_2 14 rfl rfl)
theorem dX4_count_63 : decode cX4_count 63 = .ok (.lsub, 1) := dk_101 (dk_at dksX4_count_2 15 rfl rfl)
theorem dX4_count_64 : decode cX4_count 64 = .ok (.aload_n 0, 1) := dk_42 (dk_at dksX4_count_2 16 rfl rfl)
theorem dX4_count_65 : decode cX4_count 65 = .ok (.getfield 103, 3) := dk_180 0 103 (dk_at dksX4_count_2 17 rfl rfl)
theorem dX4_count_68 : decode cX4_count 68 = .ok (.iload_n 2, 1) := dk_28 (dk_at dksX4_count_2 20 rfl rfl)
theorem dX4_count_69 : decode cX4_count 69 = .ok (.laload, 1) := dk_47 (dk_at dksX4_count_2 21 rfl rfl)
theorem dX4_count_70 : decode cX4_count 70 = .ok (.ladd, 1) := dk_97 (dk_at dksX4_count_2 22 rfl rfl)
theorem dX4_count_71 : decode cX4_count 71 = .ok (.aload_n 0, 1) := dk_42 (dk_at dksX4_count_2 23 rfl rfl)
theorem dX4_count_72 : decode cX4_count 72 = .ok (.getfield 103, 3) := dk_180 0 103 (dk_at dksX4_count_3 0 rfl rfl)
theorem dX4_count_75 : decode cX4_count 75 = .ok (.iload_n 2, 1) := dk_28 (dk_at dksX4_count_3 3 rfl rfl)
theorem dX4_count_76 : decode cX4_count 76 = .ok (.laload, 1) := dk_47 (dk_at dksX4_count_3 4 rfl rfl)
theorem dX4_count_77 : decode cX4_count 77 = .ok (.lrem, 1) := dk_113 (dk_at dksX4_count_3 5 rfl rfl)
theorem dX4_count_78 : decode cX4_count 78 = .ok (.lstore 6, 2) := dk_55 6 (dk_at dksX4_count_3 6 rfl rfl)
theorem dX4_count_80 : decode cX4_count 80 = .ok (.lload 6, 2) := dk_22 6 (dk_at dksX4_count_3 8 rfl rfl)
theorem dX4_count_82 : decode cX4_count 82 = .ok (.aload_n 0, 1) := dk_42 (dk_at dksX4_count_3 10 rfl rfl)
theorem dX4_count_83 : decode cX4_count 83 = .ok (.getfield 103, 3) := dk_180 0 103 (dk_at dksX4_count_3 11 rfl rfl)
theorem dX4_count_86 : decode cX4_count 86 = .ok (.iload 5, 2) := dk_21 5 (dk_at dksX4_count_3 14 rfl rfl)
theorem dX4_count_88 : decode cX4_count 88 = .ok (.laload, 1) := dk_47 (dk_at dksX4_count_3 16 rfl rfl)
theorem dX4_count_89 : decode cX4_count 89 = .ok (.aload_n 0, 1) := dk_42 (dk_at dksX4_count_3 17 rfl rfl)
theorem dX4_count_90 : decode cX4_count 90 = .ok (.getfield 103, 3) := dk_180 0 103 (dk_at dksX4_count_3 18 rfl rfl)
theorem dX4_count_93 : decode cX4_count 93 = .ok (.iload_n 2, 1) := dk_28 (dk_at dksX4_count_3 21 rfl rfl)
theorem dX4_count_94 : decode cX4_count 94 = .ok (.laload, 1) := dk_47 (dk_at dksX4_count_3 22 rfl rfl)
theorem dX4_count_95 : decode cX4_count 95 = .ok (.invokestatic 448, 3) := dk_184 1 192 (dk_at dksX4_count_4 0 rfl rfl)
theorem dX4_count_98 : decode cX4_count 98 = .ok (.lmul, 1) := dk_105 (dk_at dksX4_count_4 3 rfl rfl)
theorem dX4_count_99 : decode cX4_count 99 = .ok (.aload_n 0, 1) := dk_42 (dk_at dksX4_count_4 4 rfl rfl)
theorem dX4_count_100 : decode cX4_count 100 = .ok (.getfield 103, 3) := dk_180 0 103 (dk_at dksX4_count_4 5 rfl rfl)
theorem dX4_count_103 : decode cX4_count 103 = .ok (.iload_n 2, 1) := dk_28 (dk_at dksX4_count_4 8 rfl rfl)
theorem dX4_count_104 : decode cX4_count 104 = .ok (.laload, 1) := dk_47 (dk_at dksX4_count_4 9 rfl rfl)
theorem dX4_count_105 : decode cX4_count 105 = .ok (.lrem, 1) := dk_113 (dk_at dksX4_count_4 10 rfl rfl)
theorem dX4_count_106 : decode cX4_count 106 = .ok (.lstore_n 3, 1) := dk_66 (dk_at dksX4_count_4 11 rfl rfl)
theorem dX4_count_107 : decode cX4_count 107 = .ok (.iinc 5 1, 3) := dk_132 5 1 (dk_at dksX4_count_4 12 rfl rfl)
theorem dX4_count_110 : decode cX4_count 110 = .ok (.goto (-68), 3) := dk_167 255 188 (dk_at dksX4_count_4 15 rfl rfl)
theorem dX4_count_113 : decode cX4_count 113 = .ok (.aload_n 0, 1) := dk_42 (dk_at dksX4_count_4 18 rfl rfl)
theorem dX4_count_114 : decode cX4_count 114 = .ok (.getfield 106, 3) := dk_180 0 106 (dk_at dksX4_count_4 19 rfl rfl)
theorem dX4_count_117 : decode cX4_count 117 = .ok (.iload_n 2, 1) := dk_28 (dk_at dksX4_count_4 22 rfl rfl)
theorem dX4_count_118 : decode cX4_count 118 = .ok (.lload_n 3, 1) := dk_33 (dk_at dksX4_count_4 23 rfl rfl)
theorem dX4_count_119 : decode cX4_count 119 = .ok (.lastore, 1) := dk_80 (dk_at dksX4_count_5 0 rfl rfl)
theorem dX4_count_120 : decode cX4_count 120 = .ok (.iinc 2 1, 3) := dk_132 2 1 (dk_at dksX4_count_5 1 rfl rfl)
theorem dX4_count_123 : decode cX4_count 123 = .ok (.goto (-105), 3) := dk_167 255 151 (dk_at dksX4_count_5 4 rfl rfl)
theorem dX4_count_126 : decode cX4_count 126 = .ok (.iconst 0, 1) := dk_3 (dk_at dksX4_count_5 7 rfl rfl)
theorem dX4_count_127 : decode cX4_count 127 = .ok (.istore_n 2, 1) := dk_61 (dk_at dksX4_count_5 8 rfl rfl)
theorem dX4_count_128 : decode cX4_count 128 = .ok (.iload_n 2, 1) := dk_28 (dk_at dksX4_count_5 9 rfl rfl)
theorem dX4_count_129 : decode cX4_count 129 = .ok (.bipush 7, 2) := dk_16 7 (dk_at dksX4_count_5 10 rfl rfl)
theorem dX4_count_131 : decode cX4_count 131 = .ok (.if_icmp .ge 16, 3) := dk_162 0 16 (dk_at dksX4_count_5 12 rfl rfl)
theorem dX4_count_134 : decode cX4_count 134 = .ok (.aload_n 0, 1) := dk_42 (dk_at dksX4_count_5 15 rfl rfl)
theorem dX4_count_135 : decode cX4_count 135 = .ok (.getfield 109, 3) := dk_180 0 109 (dk_at dksX4_count_5 16 rfl rfl)
theorem dX4_count_138 : decode cX4_count 138 = .ok (.iload_n 2, 1) := dk_28 (dk_at dksX4_count_5 19 rfl rfl)
theorem dX4_count_139 : decode cX4_count 139 = .ok (.lconst 0, 1) := dk_9 (dk_at dksX4_count_5 20 rfl rfl)
theorem dX4_count_140 : decode cX4_count 140 = .ok (.lastore, 1) := dk_80 (dk_at dksX4_count_5 21 rfl rfl)
theorem dX4_count_141 : decode cX4_count 141 = .ok (.iinc 2 1, 3) := dk_132 2 1 (dk_at dksX4_count_6 0 rfl rfl)
theorem dX4_count_144 : decode cX4_count 144 = .ok (.goto (-16), 3) := dk_167 255 240 (dk_at dksX4_count_6 3 rfl rfl)
theorem dX4_count_147 : decode cX4_count 147 = .ok (.iconst 5, 1) := dk_8 (dk_at dksX4_count_6 6 rfl rfl)
theorem dX4_count_148 : decode cX4_count 148 = .ok (.istore_n 2, 1) := dk_61 (dk_at dksX4_count_6 7 rfl rfl)
theorem dX4_count_149 : decode cX4_count 149 = .ok (.iload_n 2, 1) := dk_28 (dk_at dksX4_count_6 8 rfl rfl)
theorem dX4_count_150 : decode cX4_count 150 = .ok (.ifCond .lt 34, 3) := dk_155 0 34 (dk_at dksX4_count_6 9 rfl rfl)
theorem dX4_count_153 : decode cX4_count 153 = .ok (.aload_n 0, 1) := dk_42 (dk_at dksX4_count_6 12 rfl rfl)
theorem dX4_count_154 : decode cX4_count 154 = .ok (.iload_n 2, 1) := dk_28 (dk_at dksX4_count_6 13 rfl rfl)
theorem dX4_count_155 : decode cX4_count 155 = .ok (.iconst 5, 1) := dk_8 (dk_at dksX4_count_6 14 rfl rfl)
theorem dX4_count_156 : decode cX4_count 156 = .ok (.if_icmp .ne 7, 3) := dk_160 0 7 (dk_at dksX4_count_6 15 rfl rfl)
theorem dX4_count_159 : decode cX4_count 159 = .ok (.lconst 0, 1) := dk_9 (dk_at dksX4_count_6 18 rfl rfl)
theorem dX4_count_160 : decode cX4_count 160 = .ok (.goto 9, 3) := dk_167 0 9 (dk_at dksX4_count_6 19 rfl rfl)
theorem dX4_count_163 : decode cX4_count 163 = .ok (.aload_n 0, 1) := dk_42 (dk_at dksX4_count_6 22 rfl rfl)
theorem dX4_count_164 : decode cX4_count 164 = .ok (.getfield 103, 3) := dk_180 0 103 (dk_at dksX4_count_7 0 rfl rfl)
theorem dX4_count_167 : decode cX4_count 167 = .ok (.iload_n 2, 1) := dk_28 (dk_at dksX4_count_7 3 rfl rfl)
theorem dX4_count_168 : decode cX4_count 168 = .ok (.laload, 1) := dk_47 (dk_at dksX4_count_7 4 rfl rfl)
theorem dX4_count_169 : decode cX4_count 169 = .ok (.aload_n 0, 1) := dk_42 (dk_at dksX4_count_7 5 rfl rfl)
theorem dX4_count_170 : decode cX4_count 170 = .ok (.getfield 106, 3) := dk_180 0 106 (dk_at dksX4_count_7 6 rfl rfl)
theorem dX4_count_173 : decode cX4_count 173 = .ok (.iload_n 2, 1) := dk_28 (dk_at dksX4_count_7 9 rfl rfl)
theorem dX4_count_174 : decode cX4_count 174 = .ok (.laload, 1) := dk_47 (dk_at dksX4_count_7 10 rfl rfl)
theorem dX4_count_175 : decode cX4_count 175 = .ok (.invokevirtual 451, 3) := dk_182 1 195 (dk_at dksX4_count_7 11 rfl rfl)
theorem dX4_count_178 : decode cX4_count 178 = .ok (.iinc 2 (-1), 3) := dk_132 2 255 (dk_at dksX4_count_7 14 rfl rfl)
theorem dX4_count_181 : decode cX4_count 181 = .ok (.goto (-32), 3) := dk_167 255 224 (dk_at dksX4_count_7 17 rfl rfl)
theorem dX4_count_184 : decode cX4_count 184 = .ok (.aload_n 0, 1) := dk_42 (dk_at dksX4_count_7 20 rfl rfl)
theorem dX4_count_185 : decode cX4_count 185 = .ok (.getfield 109, 3) := dk_180 0 109 (dk_at dksX4_count_7 21 rfl rfl)
theorem dX4_count_188 : decode cX4_count 188 = .ok (.iload_n 1, 1) := dk_27 (dk_at dksX4_count_8 0 rfl rfl)
theorem dX4_count_189 : decode cX4_count 189 = .ok (.laload, 1) := dk_47 (dk_at dksX4_count_8 1 rfl rfl)
theorem dX4_count_190 : decode cX4_count 190 = .ok (.l2i, 1) := dk_136 (dk_at dksX4_count_8 2 rfl rfl)
theorem dX4_count_191 : decode cX4_count 191 = .ok (.ireturn, 1) := dk_172 (dk_at dksX4_count_8 3 rfl rfl)
abbrev cX4_laysPrimes : ByteArray := prog_23_method_54_code
def yX4_laysPrimes : MethodName := ⟨RX4, "laysPrimes", "()V"⟩
def dkwX4_laysPrimes_2 : List UInt8 := [180, 0, 103, 8, 20, 1, 177, 80, 177]
abbrev dktX4_laysPrimes_2 : List UInt8 := dkwX4_laysPrimes_2 ++ []
def dkwX4_laysPrimes_1 : List UInt8 := [20, 1, 171, 80, 42, 180, 0, 103, 6, 20, 1, 173, 80, 42, 180, 0, 103, 7, 20, 1, 175, 80, 42]
abbrev dktX4_laysPrimes_1 : List UInt8 := dkwX4_laysPrimes_1 ++ dktX4_laysPrimes_2
def dkwX4_laysPrimes_0 : List UInt8 := [42, 180, 0, 103, 3, 20, 1, 167, 80, 42, 180, 0, 103, 4, 20, 1, 169, 80, 42, 180, 0, 103, 5]
abbrev dktX4_laysPrimes_0 : List UInt8 := dkwX4_laysPrimes_0 ++ dktX4_laysPrimes_1
theorem dksX4_laysPrimes_0 : cX4_laysPrimes.data.toList.drop 0 = dktX4_laysPrimes_0 := by decide +kernel
theorem dksX4_laysPrimes_1 : cX4_laysPrimes.data.toList.drop 23 = dktX4_laysPrimes_1 := dk_seg dksX4_laysPrimes_0 23 rfl rfl
theorem dksX4_laysPrimes_2 : cX4_laysPrimes.data.toList.drop 46 = dktX4_laysPrimes_2 := dk_seg dksX4_laysPrimes_1 23 rfl rfl
theorem dX4_laysPrimes_0 : decode cX4_laysPrimes 0 = .ok (.aload_n 0, 1) := dk_42 (dk_at dksX4_laysPrimes_0 0 rfl rfl)
theorem dX4_laysPrimes_1 : decode cX4_laysPrimes 1 = .ok (.getfield 103, 3) := dk_180 0 103 (dk_at dksX4_laysPrimes_0 1 rfl rfl)
theorem dX4_laysPrimes_4 : decode cX4_laysPrimes 4 = .ok (.iconst 0, 1) := dk_3 (dk_at dksX4_laysPrimes_0 4 rfl rfl)
theorem dX4_laysPrimes_5 : decode cX4_laysPrimes 5 = .ok (.ldc2_w 423, 3) := dk_20 1 167 (dk_at dksX4_laysPrimes_0 5 rfl rfl)
theorem dX4_laysPrimes_8 : decode cX4_laysPrimes 8 = .ok (.lastore, 1) := dk_80 (dk_at dksX4_laysPrimes_0 8 rfl rfl)
theorem dX4_laysPrimes_9 : decode cX4_laysPrimes 9 = .ok (.aload_n 0, 1) := dk_42 (dk_at dksX4_laysPrimes_0 9 rfl rfl)
theorem dX4_laysPrimes_10 : decode cX4_laysPrimes 10 = .ok (.getfield 103, 3) := dk_180 0 103 (dk_at dksX4_laysPrimes_0 10 rfl rfl)
theorem dX4_laysPrimes_13 : decode cX4_laysPrimes 13 = .ok (.iconst 1, 1) := dk_4 (dk_at dksX4_laysPrimes_0 13 rfl rfl)
theorem dX4_laysPrimes_14 : decode cX4_laysPrimes 14 = .ok (.ldc2_w 425, 3) := dk_20 1 169 (dk_at dksX4_laysPrimes_0 14 rfl rfl)
theorem dX4_laysPrimes_17 : decode cX4_laysPrimes 17 = .ok (.lastore, 1) := dk_80 (dk_at dksX4_laysPrimes_0 17 rfl rfl)
theorem dX4_laysPrimes_18 : decode cX4_laysPrimes 18 = .ok (.aload_n 0, 1) := dk_42 (dk_at dksX4_laysPrimes_0 18 rfl rfl)
theorem dX4_laysPrimes_19 : decode cX4_laysPrimes 19 = .ok (.getfield 103, 3) := dk_180 0 103 (dk_at dksX4_laysPrimes_0 19 rfl rfl)
theorem dX4_laysPrimes_22 : decode cX4_laysPrimes 22 = .ok (.iconst 2, 1) := dk_5 (dk_at dksX4_laysPrimes_0 22 rfl rfl)
theorem dX4_laysPrimes_23 : decode cX4_laysPrimes 23 = .ok (.ldc2_w 427, 3) := dk_20 1 171 (dk_at dksX4_laysPrimes_1 0 rfl rfl)
theorem dX4_laysPrimes_26 : decode cX4_laysPrimes 26 = .ok (.lastore, 1) := dk_80 (dk_at dksX4_laysPrimes_1 3 rfl rfl)
theorem dX4_laysPrimes_27 : decode cX4_laysPrimes 27 = .ok (.aload_n 0, 1) := dk_42 (dk_at dksX4_laysPrimes_1 4 rfl rfl)
theorem dX4_laysPrimes_28 : decode cX4_laysPrimes 28 = .ok (.getfield 103, 3) := dk_180 0 103 (dk_at dksX4_laysPrimes_1 5 rfl rfl)
theorem dX4_laysPrimes_31 : decode cX4_laysPrimes 31 = .ok (.iconst 3, 1) := dk_6 (dk_at dksX4_laysPrimes_1 8 rfl rfl)
theorem dX4_laysPrimes_32 : decode cX4_laysPrimes 32 = .ok (.ldc2_w 429, 3) := dk_20 1 173 (dk_at dksX4_laysPrimes_1 9 rfl rfl)
theorem dX4_laysPrimes_35 : decode cX4_laysPrimes 35 = .ok (.lastore, 1) := dk_80 (dk_at dksX4_laysPrimes_1 12 rfl rfl)
theorem dX4_laysPrimes_36 : decode cX4_laysPrimes 36 = .ok (.aload_n 0, 1) := dk_42 (dk_at dksX4_laysPrimes_1 13 rfl rfl)
theorem dX4_laysPrimes_37 : decode cX4_laysPrimes 37 = .ok (.getfield 103, 3) := dk_180 0 103 (dk_at dksX4_laysPrimes_1 14 rfl rfl)
theorem dX4_laysPrimes_40 : decode cX4_laysPrimes 40 = .ok (.iconst 4, 1) := dk_7 (dk_at dksX4_laysPrimes_1 17 rfl rfl)
theorem dX4_laysPrimes_41 : decode cX4_laysPrimes 41 = .ok (.ldc2_w 431, 3) := dk_20 1 175 (dk_at dksX4_laysPrimes_1 18 rfl rfl)
theorem dX4_laysPrimes_44 : decode cX4_laysPrimes 44 = .ok (.lastore, 1) := dk_80 (dk_at dksX4_laysPrimes_1 21 rfl rfl)
theorem dX4_laysPrimes_45 : decode cX4_laysPrimes 45 = .ok (.aload_n 0, 1) := dk_42 (dk_at dksX4_laysPrimes_1 22 rfl rfl)
theorem dX4_laysPrimes_46 : decode cX4_laysPrimes 46 = .ok (.getfield 103, 3) := dk_180 0 103 (dk_at dksX4_laysPrimes_2 0 rfl rfl)
theorem dX4_laysPrimes_49 : decode cX4_laysPrimes 49 = .ok (.iconst 5, 1) := dk_8 (dk_at dksX4_laysPrimes_2 3 rfl rfl)
theorem dX4_laysPrimes_50 : decode cX4_laysPrimes 50 = .ok (.ldc2_w 433, 3) := dk_20 1 177 (dk_at dksX4_laysPrimes_2 4 rfl rfl)
theorem dX4_laysPrimes_53 : decode cX4_laysPrimes 53 = .ok (.lastore, 1) := dk_80 (dk_at dksX4_laysPrimes_2 7 rfl rfl)
theorem dX4_laysPrimes_54 : decode cX4_laysPrimes 54 = .ok (.return_, 1) := dk_177 (dk_at dksX4_laysPrimes_2 8 rfl rfl)
abbrev cX4_laysSpans : ByteArray := prog_23_method_51_code
def yX4_laysSpans : MethodName := ⟨RX4, "laysSpans", "(J)V"⟩
def dkwX4_laysSpans_8 : List UInt8 := [167, 255, 83, 177]
abbrev dktX4_laysSpans_8 : List UInt8 := dkwX4_laysSpans_8 ++ []
def dkwX4_laysSpans_7 : List UInt8 := [132, 7, 1, 167, 255, 167, 42, 21, 5, 21, 6, 182, 1, 162, 132, 5, 1, 167, 255, 98, 132, 4, 1]
abbrev dktX4_laysSpans_7 : List UInt8 := dkwX4_laysSpans_7 ++ dktX4_laysSpans_8
def dkwX4_laysSpans_6 : List UInt8 := [21, 9, 42, 42, 180, 0, 97, 21, 9, 47, 42, 21, 5, 21, 6, 21, 8, 182, 1, 159, 182, 1, 146, 80]
abbrev dktX4_laysSpans_6 : List UInt8 := dkwX4_laysSpans_6 ++ dktX4_laysSpans_7
def dkwX4_laysSpans_5 : List UInt8 := [21, 5, 104, 21, 6, 96, 16, 8, 104, 42, 180, 0, 48, 21, 8, 46, 96, 54, 9, 42, 180, 0, 97]
abbrev dktX4_laysSpans_5 : List UInt8 := dkwX4_laysSpans_5 ++ dktX4_laysSpans_6
def dkwX4_laysSpans_4 : List UInt8 := [54, 8, 42, 180, 0, 36, 21, 8, 46, 42, 180, 0, 7, 16, 10, 21, 6, 96, 46, 160, 0, 52, 16, 24]
abbrev dktX4_laysSpans_4 : List UInt8 := dkwX4_laysSpans_4 ++ dktX4_laysSpans_5
def dkwX4_laysSpans_3 : List UInt8 := [132, 7, 1, 167, 255, 226, 3, 54, 7, 21, 7, 42, 182, 1, 153, 162, 0, 86, 42, 21, 7, 182, 1, 156]
abbrev dktX4_laysSpans_3 : List UInt8 := dkwX4_laysSpans_3 ++ dktX4_laysSpans_4
def dkwX4_laysSpans_2 : List UInt8 := [162, 0, 29, 42, 180, 0, 97, 16, 24, 21, 5, 104, 21, 6, 96, 16, 8, 104, 21, 7, 96, 9, 80]
abbrev dktX4_laysSpans_2 : List UInt8 := dkwX4_laysSpans_2 ++ dktX4_laysSpans_3
def dkwX4_laysSpans_1 : List UInt8 := [21, 5, 21, 4, 96, 29, 162, 0, 155, 21, 5, 21, 4, 96, 54, 6, 3, 54, 7, 21, 7, 16, 8]
abbrev dktX4_laysSpans_1 : List UInt8 := dkwX4_laysSpans_1 ++ dktX4_laysSpans_2
def dkwX4_laysSpans_0 : List UInt8 := [42, 31, 181, 1, 132, 42, 180, 0, 7, 5, 46, 62, 3, 54, 4, 21, 4, 29, 162, 0, 173, 3, 54, 5]
abbrev dktX4_laysSpans_0 : List UInt8 := dkwX4_laysSpans_0 ++ dktX4_laysSpans_1
theorem dksX4_laysSpans_0 : cX4_laysSpans.data.toList.drop 0 = dktX4_laysSpans_0 := by decide +kernel
theorem dksX4_laysSpans_1 : cX4_laysSpans.data.toList.drop 24 = dktX4_laysSpans_1 := dk_seg dksX4_laysSpans_0 24 rfl rfl
theorem dksX4_laysSpans_2 : cX4_laysSpans.data.toList.drop 47 = dktX4_laysSpans_2 := dk_seg dksX4_laysSpans_1 23 rfl rfl
theorem dksX4_laysSpans_3 : cX4_laysSpans.data.toList.drop 70 = dktX4_laysSpans_3 := dk_seg dksX4_laysSpans_2 23 rfl rfl
theorem dksX4_laysSpans_4 : cX4_laysSpans.data.toList.drop 94 = dktX4_laysSpans_4 := dk_seg dksX4_laysSpans_3 24 rfl rfl
theorem dksX4_laysSpans_5 : cX4_laysSpans.data.toList.drop 118 = dktX4_laysSpans_5 := dk_seg dksX4_laysSpans_4 24 rfl rfl
theorem dksX4_laysSpans_6 : cX4_laysSpans.data.toList.drop 141 = dktX4_laysSpans_6 := dk_seg dksX4_laysSpans_5 23 rfl rfl
theorem dksX4_laysSpans_7 : cX4_laysSpans.data.toList.drop 165 = dktX4_laysSpans_7 := dk_seg dksX4_laysSpans_6 24 rfl rfl
theorem dksX4_laysSpans_8 : cX4_laysSpans.data.toList.drop 188 = dktX4_laysSpans_8 := dk_seg dksX4_laysSpans_7 23 rfl rfl
theorem dX4_laysSpans_0 : decode cX4_laysSpans 0 = .ok (.aload_n 0, 1) := dk_42 (dk_at dksX4_laysSpans_0 0 rfl rfl)
theorem dX4_laysSpans_1 : decode cX4_laysSpans 1 = .ok (.lload_n 1, 1) := dk_31 (dk_at dksX4_laysSpans_0 1 rfl rfl)
theorem dX4_laysSpans_2 : decode cX4_laysSpans 2 = .ok (.putfield 388, 3) := dk_181 1 132 (dk_at dksX4_laysSpans_0 2 rfl rfl)
theorem dX4_laysSpans_5 : decode cX4_laysSpans 5 = .ok (.aload_n 0, 1) := dk_42 (dk_at dksX4_laysSpans_0 5 rfl rfl)
theorem dX4_laysSpans_6 : decode cX4_laysSpans 6 = .ok (.getfield 7, 3) := dk_180 0 7 (dk_at dksX4_laysSpans_0 6 rfl rfl)
theorem dX4_laysSpans_9 : decode cX4_laysSpans 9 = .ok (.iconst 2, 1) := dk_5 (dk_at dksX4_laysSpans_0 9 rfl rfl)
theorem dX4_laysSpans_10 : decode cX4_laysSpans 10 = .ok (.iaload, 1) := dk_46 (dk_at dksX4_laysSpans_0 10 rfl rfl)
theorem dX4_laysSpans_11 : decode cX4_laysSpans 11 = .ok (.istore_n 3, 1) := dk_62 (dk_at dksX4_laysSpans_0 11 rfl rfl)
theorem dX4_laysSpans_12 : decode cX4_laysSpans 12 = .ok (.iconst 0, 1) := dk_3 (dk_at dksX4_laysSpans_0 12 rfl rfl)
theorem dX4_laysSpans_13 : decode cX4_laysSpans 13 = .ok (.istore 4, 2) := dk_54 4 (dk_at dksX4_laysSpans_0 13 rfl rfl)
theorem dX4_laysSpans_15 : decode cX4_laysSpans 15 = .ok (.iload 4, 2) := dk_21 4 (dk_at dksX4_laysSpans_0 15 rfl rfl)
theorem dX4_laysSpans_17 : decode cX4_laysSpans 17 = .ok (.iload_n 3, 1) := dk_29 (dk_at dksX4_laysSpans_0 17 rfl rfl)
theorem dX4_laysSpans_18 : decode cX4_laysSpans 18 = .ok (.if_icmp .ge 173, 3) := dk_162 0 173 (dk_at dksX4_laysSpans_0 18 rfl rfl)
theorem dX4_laysSpans_21 : decode cX4_laysSpans 21 = .ok (.iconst 0, 1) := dk_3 (dk_at dksX4_laysSpans_0 21 rfl rfl)
theorem dX4_laysSpans_22 : decode cX4_laysSpans 22 = .ok (.istore 5, 2) := dk_54 5 (dk_at dksX4_laysSpans_0 22 rfl rfl)
theorem dX4_laysSpans_24 : decode cX4_laysSpans 24 = .ok (.iload 5, 2) := dk_21 5 (dk_at dksX4_laysSpans_1 0 rfl rfl)
theorem dX4_laysSpans_26 : decode cX4_laysSpans 26 = .ok (.iload 4, 2) := dk_21 4 (dk_at dksX4_laysSpans_1 2 rfl rfl)
theorem dX4_laysSpans_28 : decode cX4_laysSpans 28 = .ok (.iadd, 1) := dk_96 (dk_at dksX4_laysSpans_1 4 rfl rfl)
theorem dX4_laysSpans_29 : decode cX4_laysSpans 29 = .ok (.iload_n 3, 1) := dk_29 (dk_at dksX4_laysSpans_1 5 rfl rfl)
theorem dX4_laysSpans_30 : decode cX4_laysSpans 30 = .ok (.if_icmp .ge 155, 3) := dk_162 0 155 (dk_at dksX4_laysSpans_1 6 rfl rfl)
theorem dX4_laysSpans_33 : decode cX4_laysSpans 33 = .ok (.iload 5, 2) := dk_21 5 (dk_at dksX4_laysSpans_1 9 rfl rfl)
theorem dX4_laysSpans_35 : decode cX4_laysSpans 35 = .ok (.iload 4, 2) := dk_21 4 (dk_at dksX4_laysSpans_1 11 rfl rfl)
theorem dX4_laysSpans_37 : decode cX4_laysSpans 37 = .ok (.iadd, 1) := dk_96 (dk_at dksX4_laysSpans_1 13 rfl rfl)
theorem dX4_laysSpans_38 : decode cX4_laysSpans 38 = .ok (.istore 6, 2) := dk_54 6 (dk_at dksX4_laysSpans_1 14 rfl rfl)
theorem dX4_laysSpans_40 : decode cX4_laysSpans 40 = .ok (.iconst 0, 1) := dk_3 (dk_at dksX4_laysSpans_1 16 rfl rfl)
theorem dX4_laysSpans_41 : decode cX4_laysSpans 41 = .ok (.istore 7, 2) := dk_54 7 (dk_at dksX4_laysSpans_1 17 rfl rfl)
theorem dX4_laysSpans_43 : decode cX4_laysSpans 43 = .ok (.iload 7, 2) := dk_21 7 (dk_at dksX4_laysSpans_1 19 rfl rfl)
theorem dX4_laysSpans_45 : decode cX4_laysSpans 45 = .ok (.bipush 8, 2) := dk_16 8 (dk_at dksX4_laysSpans_1 21 rfl rfl)
theorem dX4_laysSpans_47 : decode cX4_laysSpans 47 = .ok (.if_icmp .ge 29, 3) := dk_162 0 29 (dk_at dksX4_laysSpans_2 0 rfl rfl)
theorem dX4_laysSpans_50 : decode cX4_laysSpans 50 = .ok (.aload_n 0, 1) := dk_42 (dk_at dksX4_laysSpans_2 3 rfl rfl)
theorem dX4_laysSpans_51 : decode cX4_laysSpans 51 = .ok (.getfield 97, 3) := dk_180 0 97 (dk_at dksX4_laysSpans_2 4 rfl rfl)
theorem dX4_laysSpans_54 : decode cX4_laysSpans 54 = .ok (.bipush 24, 2) := dk_16 24 (dk_at dksX4_laysSpans_2 7 rfl rfl)
theorem dX4_laysSpans_56 : decode cX4_laysSpans 56 = .ok (.iload 5, 2) := dk_21 5 (dk_at dksX4_laysSpans_2 9 rfl rfl)
theorem dX4_laysSpans_58 : decode cX4_laysSpans 58 = .ok (.imul, 1) := dk_104 (dk_at dksX4_laysSpans_2 11 rfl rfl)
theorem dX4_laysSpans_59 : decode cX4_laysSpans 59 = .ok (.iload 6, 2) := dk_21 6 (dk_at dksX4_laysSpans_2 12 rfl rfl)
theorem dX4_laysSpans_61 : decode cX4_laysSpans 61 = .ok (.iadd, 1) := dk_96 (dk_at dksX4_laysSpans_2 14 rfl rfl)
theorem dX4_laysSpans_62 : decode cX4_laysSpans 62 = .ok (.bipush 8, 2) := dk_16 8 (dk_at dksX4_laysSpans_2 15 rfl rfl)
theorem dX4_laysSpans_64 : decode cX4_laysSpans 64 = .ok (.imul, 1) := dk_104 (dk_at dksX4_laysSpans_2 17 rfl rfl)
theorem dX4_laysSpans_65 : decode cX4_laysSpans 65 = .ok (.iload 7, 2) := dk_21 7 (dk_at dksX4_laysSpans_2 18 rfl rfl)
theorem dX4_laysSpans_67 : decode cX4_laysSpans 67 = .ok (.iadd, 1) := dk_96 (dk_at dksX4_laysSpans_2 20 rfl rfl)
theorem dX4_laysSpans_68 : decode cX4_laysSpans 68 = .ok (.lconst 0, 1) := dk_9 (dk_at dksX4_laysSpans_2 21 rfl rfl)
theorem dX4_laysSpans_69 : decode cX4_laysSpans 69 = .ok (.lastore, 1) := dk_80 (dk_at dksX4_laysSpans_2 22 rfl rfl)
theorem dX4_laysSpans_70 : decode cX4_laysSpans 70 = .ok (.iinc 7 1, 3) := dk_132 7 1 (dk_at dksX4_laysSpans_3 0 rfl rfl)
theorem dX4_laysSpans_73 : decode cX4_laysSpans 73 = .ok (.goto (-30), 3) := dk_167 255 226 (dk_at dksX4_laysSpans_3 3 rfl rfl)
theorem dX4_laysSpans_76 : decode cX4_laysSpans 76 = .ok (.iconst 0, 1) := dk_3 (dk_at dksX4_laysSpans_3 6 rfl rfl)
theorem dX4_laysSpans_77 : decode cX4_laysSpans 77 = .ok (.istore 7, 2) := dk_54 7 (dk_at dksX4_laysSpans_3 7 rfl rfl)
theorem dX4_laysSpans_79 : decode cX4_laysSpans 79 = .ok (.iload 7, 2) := dk_21 7 (dk_at dksX4_laysSpans_3 9 rfl rfl)
theorem dX4_laysSpans_81 : decode cX4_laysSpans 81 = .ok (.aload_n 0, 1) := dk_42 (dk_at dksX4_laysSpans_3 11 rfl rfl)
theorem dX4_laysSpans_82 : decode cX4_laysSpans 82 = .ok (.invokevirtual 409, 3) := dk_182 1 153 (dk_at dksX4_laysSpans_3 12 rfl rfl)
theorem dX4_laysSpans_85 : decode cX4_laysSpans 85 = .ok (.if_icmp .ge 86, 3) := dk_162 0 86 (dk_at dksX4_laysSpans_3 15 rfl rfl)
theorem dX4_laysSpans_88 : decode cX4_laysSpans 88 = .ok (.aload_n 0, 1) := dk_42 (dk_at dksX4_laysSpans_3 18 rfl rfl)
theorem dX4_laysSpans_89 : decode cX4_laysSpans 89 = .ok (.iload 7, 2) := dk_21 7 (dk_at dksX4_laysSpans_3 19 rfl rfl)
theorem dX4_laysSpans_91 : decode cX4_laysSpans 91 = .ok (.invokevirtual 412, 3) := dk_182 1 156 (dk_at dksX4_laysSpans_3 21 rfl rfl)
theorem dX4_laysSpans_94 : decode cX4_laysSpans 94 = .ok (.istore 8, 2) := dk_54 8 (dk_at dksX4_laysSpans_4 0 rfl rfl)
theorem dX4_laysSpans_96 : decode cX4_laysSpans 96 = .ok (.aload_n 0, 1) := dk_42 (dk_at dksX4_laysSpans_4 2 rfl rfl)
theorem dX4_laysSpans_97 : decode cX4_laysSpans 97 = .ok (.getfield 36, 3) := dk_180 0 36 (dk_at dksX4_laysSpans_4 3 rfl rfl)
theorem dX4_laysSpans_100 : decode cX4_laysSpans 100 = .ok (.iload 8, 2) := dk_21 8 (dk_at dksX4_laysSpans_4 6 rfl rfl)
theorem dX4_laysSpans_102 : decode cX4_laysSpans 102 = .ok (.iaload, 1) := dk_46 (dk_at dksX4_laysSpans_4 8 rfl rfl)
theorem dX4_laysSpans_103 : decode cX4_laysSpans 103 = .ok (.aload_n 0, 1) := dk_42 (dk_at dksX4_laysSpans_4 9 rfl rfl)
theorem dX4_laysSpans_104 : decode cX4_laysSpans 104 = .ok (.getfield 7, 3) := dk_180 0 7 (dk_at dksX4_laysSpans_4 10 rfl rfl)
theorem dX4_laysSpans_107 : decode cX4_laysSpans 107 = .ok (.bipush 10, 2) := dk_16 10 (dk_at dksX4_laysSpans_4 13 rfl rfl)
theorem dX4_laysSpans_109 : decode cX4_laysSpans 109 = .ok (.iload 6, 2) := dk_21 6 (dk_at dksX4_laysSpans_4 15 rfl rfl)
theorem dX4_laysSpans_111 : decode cX4_laysSpans 111 = .ok (.iadd, 1) := dk_96 (dk_at dksX4_laysSpans_4 17 rfl rfl)
theorem dX4_laysSpans_112 : decode cX4_laysSpans 112 = .ok (.iaload, 1) := dk_46 (dk_at dksX4_laysSpans_4 18 rfl rfl)
theorem dX4_laysSpans_113 : decode cX4_laysSpans 113 = .ok (.if_icmp .ne 52, 3) := dk_160 0 52 (dk_at dksX4_laysSpans_4 19 rfl rfl)
theorem dX4_laysSpans_116 : decode cX4_laysSpans 116 = .ok (.bipush 24, 2) := dk_16 24 (dk_at dksX4_laysSpans_4 22 rfl rfl)
theorem dX4_laysSpans_118 : decode cX4_laysSpans 118 = .ok (.iload 5, 2) := dk_21 5 (dk_at dksX4_laysSpans_5 0 rfl rfl)
theorem dX4_laysSpans_120 : decode cX4_laysSpans 120 = .ok (.imul, 1) := dk_104 (dk_at dksX4_laysSpans_5 2 rfl rfl)
theorem dX4_laysSpans_121 : decode cX4_laysSpans 121 = .ok (.iload 6, 2) := dk_21 6 (dk_at dksX4_laysSpans_5 3 rfl rfl)
theorem dX4_laysSpans_123 : decode cX4_laysSpans 123 = .ok (.iadd, 1) := dk_96 (dk_at dksX4_laysSpans_5 5 rfl rfl)
theorem dX4_laysSpans_124 : decode cX4_laysSpans 124 = .ok (.bipush 8, 2) := dk_16 8 (dk_at dksX4_laysSpans_5 6 rfl rfl)
theorem dX4_laysSpans_126 : decode cX4_laysSpans 126 = .ok (.imul, 1) := dk_104 (dk_at dksX4_laysSpans_5 8 rfl rfl)
theorem dX4_laysSpans_127 : decode cX4_laysSpans 127 = .ok (.aload_n 0, 1) := dk_42 (dk_at dksX4_laysSpans_5 9 rfl rfl)
theorem dX4_laysSpans_128 : decode cX4_laysSpans 128 = .ok (.getfield 48, 3) := dk_180 0 48 (dk_at dksX4_laysSpans_5 10 rfl rfl)
theorem dX4_laysSpans_131 : decode cX4_laysSpans 131 = .ok (.iload 8, 2) := dk_21 8 (dk_at dksX4_laysSpans_5 13 rfl rfl)
theorem dX4_laysSpans_133 : decode cX4_laysSpans 133 = .ok (.iaload, 1) := dk_46 (dk_at dksX4_laysSpans_5 15 rfl rfl)
theorem dX4_laysSpans_134 : decode cX4_laysSpans 134 = .ok (.iadd, 1) := dk_96 (dk_at dksX4_laysSpans_5 16 rfl rfl)
theorem dX4_laysSpans_135 : decode cX4_laysSpans 135 = .ok (.istore 9, 2) := dk_54 9 (dk_at dksX4_laysSpans_5 17 rfl rfl)
theorem dX4_laysSpans_137 : decode cX4_laysSpans 137 = .ok (.aload_n 0, 1) := dk_42 (dk_at dksX4_laysSpans_5 19 rfl rfl)
theorem dX4_laysSpans_138 : decode cX4_laysSpans 138 = .ok (.getfield 97, 3) := dk_180 0 97 (dk_at dksX4_laysSpans_5 20 rfl rfl)
theorem dX4_laysSpans_141 : decode cX4_laysSpans 141 = .ok (.iload 9, 2) := dk_21 9 (dk_at dksX4_laysSpans_6 0 rfl rfl)
theorem dX4_laysSpans_143 : decode cX4_laysSpans 143 = .ok (.aload_n 0, 1) := dk_42 (dk_at dksX4_laysSpans_6 2 rfl rfl)
theorem dX4_laysSpans_144 : decode cX4_laysSpans 144 = .ok (.aload_n 0, 1) := dk_42 (dk_at dksX4_laysSpans_6 3 rfl rfl)
theorem dX4_laysSpans_145 : decode cX4_laysSpans 145 = .ok (.getfield 97, 3) := dk_180 0 97 (dk_at dksX4_laysSpans_6 4 rfl rfl)
theorem dX4_laysSpans_148 : decode cX4_laysSpans 148 = .ok (.iload 9, 2) := dk_21 9 (dk_at dksX4_laysSpans_6 7 rfl rfl)
theorem dX4_laysSpans_150 : decode cX4_laysSpans 150 = .ok (.laload, 1) := dk_47 (dk_at dksX4_laysSpans_6 9 rfl rfl)
theorem dX4_laysSpans_151 : decode cX4_laysSpans 151 = .ok (.aload_n 0, 1) := dk_42 (dk_at dksX4_laysSpans_6 10 rfl rfl)
theorem dX4_laysSpans_152 : decode cX4_laysSpans 152 = .ok (.iload 5, 2) := dk_21 5 (dk_at dksX4_laysSpans_6 11 rfl rfl)
theorem dX4_laysSpans_154 : decode cX4_laysSpans 154 = .ok (.iload 6, 2) := dk_21 6 (dk_at dksX4_laysSpans_6 13 rfl rfl)
theorem dX4_laysSpans_156 : decode cX4_laysSpans 156 = .ok (.iload 8, 2) := dk_21 8 (dk_at dksX4_laysSpans_6 15 rfl rfl)
theorem dX4_laysSpans_158 : decode cX4_laysSpans 158 = .ok (.invokevirtual 415, 3) := dk_182 1 159 (dk_at dksX4_laysSpans_6 17 rfl rfl)
theorem dX4_laysSpans_161 : decode cX4_laysSpans 161 = .ok (.invokevirtual 402, 3) := dk_182 1 146 (dk_at dksX4_laysSpans_6 20 rfl rfl)
theorem dX4_laysSpans_164 : decode cX4_laysSpans 164 = .ok (.lastore, 1) := dk_80 (dk_at dksX4_laysSpans_6 23 rfl rfl)
theorem dX4_laysSpans_165 : decode cX4_laysSpans 165 = .ok (.iinc 7 1, 3) := dk_132 7 1 (dk_at dksX4_laysSpans_7 0 rfl rfl)
theorem dX4_laysSpans_168 : decode cX4_laysSpans 168 = .ok (.goto (-89), 3) := dk_167 255 167 (dk_at dksX4_laysSpans_7 3 rfl rfl)
theorem dX4_laysSpans_171 : decode cX4_laysSpans 171 = .ok (.aload_n 0, 1) := dk_42 (dk_at dksX4_laysSpans_7 6 rfl rfl)
theorem dX4_laysSpans_172 : decode cX4_laysSpans 172 = .ok (.iload 5, 2) := dk_21 5 (dk_at dksX4_laysSpans_7 7 rfl rfl)
theorem dX4_laysSpans_174 : decode cX4_laysSpans 174 = .ok (.iload 6, 2) := dk_21 6 (dk_at dksX4_laysSpans_7 9 rfl rfl)
theorem dX4_laysSpans_176 : decode cX4_laysSpans 176 = .ok (.invokevirtual 418, 3) := dk_182 1 162 (dk_at dksX4_laysSpans_7 11 rfl rfl)
theorem dX4_laysSpans_179 : decode cX4_laysSpans 179 = .ok (.iinc 5 1, 3) := dk_132 5 1 (dk_at dksX4_laysSpans_7 14 rfl rfl)
theorem dX4_laysSpans_182 : decode cX4_laysSpans 182 = .ok (.goto (-158), 3) := dk_167 255 98 (dk_at dksX4_laysSpans_7 17 rfl rfl)
theorem dX4_laysSpans_185 : decode cX4_laysSpans 185 = .ok (.iinc 4 1, 3) := dk_132 4 1 (dk_at dksX4_laysSpans_7 20 rfl rfl)
theorem dX4_laysSpans_188 : decode cX4_laysSpans 188 = .ok (.goto (-173), 3) := dk_167 255 83 (dk_at dksX4_laysSpans_8 0 rfl rfl)
theorem dX4_laysSpans_191 : decode cX4_laysSpans 191 = .ok (.return_, 1) := dk_177 (dk_at dksX4_laysSpans_8 3 rfl rfl)
abbrev cX4_senses : ByteArray := prog_23_method_40_code
def yX4_senses : MethodName := ⟨RX4, "senses", "()I"⟩
def dkwX4_senses_1 : List UInt8 := [46, 172]
abbrev dktX4_senses_1 : List UInt8 := dkwX4_senses_1 ++ []
def dkwX4_senses_0 : List UInt8 := [42, 180, 0, 7, 4, 46, 2, 160, 0, 7, 3, 167, 0, 14, 42, 180, 0, 27, 42, 180, 0, 7, 4, 46]
abbrev dktX4_senses_0 : List UInt8 := dkwX4_senses_0 ++ dktX4_senses_1
theorem dksX4_senses_0 : cX4_senses.data.toList.drop 0 = dktX4_senses_0 := by decide +kernel
theorem dksX4_senses_1 : cX4_senses.data.toList.drop 24 = dktX4_senses_1 := dk_seg dksX4_senses_0 24 rfl rfl
theorem dX4_senses_0 : decode cX4_senses 0 = .ok (.aload_n 0, 1) := dk_42 (dk_at dksX4_senses_0 0 rfl rfl)
theorem dX4_senses_1 : decode cX4_senses 1 = .ok (.getfield 7, 3) := dk_180 0 7 (dk_at dksX4_senses_0 1 rfl rfl)
theorem dX4_senses_4 : decode cX4_senses 4 = .ok (.iconst 1, 1) := dk_4 (dk_at dksX4_senses_0 4 rfl rfl)
theorem dX4_senses_5 : decode cX4_senses 5 = .ok (.iaload, 1) := dk_46 (dk_at dksX4_senses_0 5 rfl rfl)
theorem dX4_senses_6 : decode cX4_senses 6 = .ok (.iconst (-1), 1) := dk_2 (dk_at dksX4_senses_0 6 rfl rfl)
theorem dX4_senses_7 : decode cX4_senses 7 = .ok (.if_icmp .ne 7, 3) := dk_160 0 7 (dk_at dksX4_senses_0 7 rfl rfl)
theorem dX4_senses_10 : decode cX4_senses 10 = .ok (.iconst 0, 1) := dk_3 (dk_at dksX4_senses_0 10 rfl rfl)
theorem dX4_senses_11 : decode cX4_senses 11 = .ok (.goto 14, 3) := dk_167 0 14 (dk_at dksX4_senses_0 11 rfl rfl)
theorem dX4_senses_14 : decode cX4_senses 14 = .ok (.aload_n 0, 1) := dk_42 (dk_at dksX4_senses_0 14 rfl rfl)
theorem dX4_senses_15 : decode cX4_senses 15 = .ok (.getfield 27, 3) := dk_180 0 27 (dk_at dksX4_senses_0 15 rfl rfl)
theorem dX4_senses_18 : decode cX4_senses 18 = .ok (.aload_n 0, 1) := dk_42 (dk_at dksX4_senses_0 18 rfl rfl)
theorem dX4_senses_19 : decode cX4_senses 19 = .ok (.getfield 7, 3) := dk_180 0 7 (dk_at dksX4_senses_0 19 rfl rfl)
theorem dX4_senses_22 : decode cX4_senses 22 = .ok (.iconst 1, 1) := dk_4 (dk_at dksX4_senses_0 22 rfl rfl)
theorem dX4_senses_23 : decode cX4_senses 23 = .ok (.iaload, 1) := dk_46 (dk_at dksX4_senses_0 23 rfl rfl)
theorem dX4_senses_24 : decode cX4_senses 24 = .ok (.iaload, 1) := dk_46 (dk_at dksX4_senses_1 0 rfl rfl)
theorem dX4_senses_25 : decode cX4_senses 25 = .ok (.ireturn, 1) := dk_172 (dk_at dksX4_senses_1 1 rfl rfl)
abbrev cX4_at24 : ByteArray := prog_23_method_41_code
def yX4_at24 : MethodName := ⟨RX4, "at24", "(I)I"⟩
def dkwX4_at24_0 : List UInt8 := [16, 24, 42, 180, 0, 7, 4, 46, 104, 27, 96, 172]
abbrev dktX4_at24_0 : List UInt8 := dkwX4_at24_0 ++ []
theorem dksX4_at24_0 : cX4_at24.data.toList.drop 0 = dktX4_at24_0 := by decide +kernel
theorem dX4_at24_0 : decode cX4_at24 0 = .ok (.bipush 24, 2) := dk_16 24 (dk_at dksX4_at24_0 0 rfl rfl)
theorem dX4_at24_2 : decode cX4_at24 2 = .ok (.aload_n 0, 1) := dk_42 (dk_at dksX4_at24_0 2 rfl rfl)
theorem dX4_at24_3 : decode cX4_at24 3 = .ok (.getfield 7, 3) := dk_180 0 7 (dk_at dksX4_at24_0 3 rfl rfl)
theorem dX4_at24_6 : decode cX4_at24 6 = .ok (.iconst 1, 1) := dk_4 (dk_at dksX4_at24_0 6 rfl rfl)
theorem dX4_at24_7 : decode cX4_at24 7 = .ok (.iaload, 1) := dk_46 (dk_at dksX4_at24_0 7 rfl rfl)
theorem dX4_at24_8 : decode cX4_at24 8 = .ok (.imul, 1) := dk_104 (dk_at dksX4_at24_0 8 rfl rfl)
theorem dX4_at24_9 : decode cX4_at24 9 = .ok (.iload_n 1, 1) := dk_27 (dk_at dksX4_at24_0 9 rfl rfl)
theorem dX4_at24_10 : decode cX4_at24 10 = .ok (.iadd, 1) := dk_96 (dk_at dksX4_at24_0 10 rfl rfl)
theorem dX4_at24_11 : decode cX4_at24 11 = .ok (.ireturn, 1) := dk_172 (dk_at dksX4_at24_0 11 rfl rfl)
abbrev cX4_waysBy : ByteArray := prog_23_method_49_code
def yX4_waysBy : MethodName := ⟨RX4, "waysBy", "(III)J"⟩
def dkwX4_waysBy_11 : List UInt8 := [182, 1, 150, 182, 1, 146, 55, 6, 132, 8, 1, 167, 255, 211, 22, 6, 173]
abbrev dktX4_waysBy_11 : List UInt8 := dkwX4_waysBy_11 ++ []
def dkwX4_waysBy_10 : List UInt8 := [42, 27, 21, 8, 21, 4, 182, 1, 138, 42, 21, 8, 4, 96, 28, 4, 100, 21, 5, 182, 1, 138]
abbrev dktX4_waysBy_10 : List UInt8 := dkwX4_waysBy_10 ++ dktX4_waysBy_11
def dkwX4_waysBy_9 : List UInt8 := [132, 8, 1, 167, 255, 192, 22, 6, 173, 27, 54, 8, 21, 8, 28, 4, 100, 162, 0, 43, 42, 22, 6, 42]
abbrev dktX4_waysBy_9 : List UInt8 := dkwX4_waysBy_9 ++ dktX4_waysBy_10
def dkwX4_waysBy_8 : List UInt8 := [4, 100, 21, 5, 21, 8, 182, 1, 142, 182, 1, 150, 182, 1, 146, 55, 6, 132, 9, 1, 167, 255, 207]
abbrev dktX4_waysBy_8 : List UInt8 := dkwX4_waysBy_8 ++ dktX4_waysBy_9
def dkwX4_waysBy_7 : List UInt8 := [162, 0, 47, 42, 22, 6, 42, 42, 27, 21, 9, 21, 4, 21, 8, 182, 1, 142, 42, 21, 9, 4, 96, 28]
abbrev dktX4_waysBy_7 : List UInt8 := dkwX4_waysBy_7 ++ dktX4_waysBy_8
def dkwX4_waysBy_6 : List UInt8 := [167, 255, 221, 22, 6, 173, 4, 54, 8, 21, 8, 7, 162, 0, 64, 27, 54, 9, 21, 9, 28, 4, 100]
abbrev dktX4_waysBy_6 : List UInt8 := dkwX4_waysBy_6 ++ dktX4_waysBy_7
def dkwX4_waysBy_5 : List UInt8 := [22, 6, 42, 27, 28, 4, 100, 21, 4, 21, 8, 182, 1, 142, 182, 1, 146, 55, 6, 132, 8, 1]
abbrev dktX4_waysBy_5 : List UInt8 := dkwX4_waysBy_5 ++ dktX4_waysBy_6
def dkwX4_waysBy_4 : List UInt8 := [182, 1, 138, 167, 0, 4, 9, 173, 4, 54, 8, 21, 8, 16, 6, 162, 0, 34, 27, 28, 162, 0, 29, 42]
abbrev dktX4_waysBy_4 : List UInt8 := dkwX4_waysBy_4 ++ dktX4_waysBy_5
def dkwX4_waysBy_3 : List UInt8 := [27, 28, 160, 0, 7, 10, 167, 0, 4, 9, 173, 27, 28, 162, 0, 16, 42, 27, 28, 4, 100, 21, 4]
abbrev dktX4_waysBy_3 : List UInt8 := dkwX4_waysBy_3 ++ dktX4_waysBy_4
def dkwX4_waysBy_2 : List UInt8 := [170, 0, 0, 0, 0, 0, 187, 0, 0, 0, 0, 0, 0, 0, 5, 0, 0, 0, 39, 0, 0, 0, 187, 0, 0, 0, 187, 0, 0, 0, 70, 0, 0, 0, 114, 0, 0, 0, 50]
abbrev dktX4_waysBy_2 : List UInt8 := dkwX4_waysBy_2 ++ dktX4_waysBy_3
def dkwX4_waysBy_1 : List UInt8 := [46]
abbrev dktX4_waysBy_1 : List UInt8 := dkwX4_waysBy_1 ++ dktX4_waysBy_2
def dkwX4_waysBy_0 : List UInt8 := [42, 180, 0, 42, 29, 46, 54, 4, 42, 180, 0, 45, 29, 46, 54, 5, 9, 55, 6, 42, 180, 0, 39, 29]
abbrev dktX4_waysBy_0 : List UInt8 := dkwX4_waysBy_0 ++ dktX4_waysBy_1
theorem dksX4_waysBy_0 : cX4_waysBy.data.toList.drop 0 = dktX4_waysBy_0 := by decide +kernel
theorem dksX4_waysBy_1 : cX4_waysBy.data.toList.drop 24 = dktX4_waysBy_1 := dk_seg dksX4_waysBy_0 24 rfl rfl
theorem dksX4_waysBy_2 : cX4_waysBy.data.toList.drop 25 = dktX4_waysBy_2 := dk_seg dksX4_waysBy_1 1 rfl rfl
theorem dksX4_waysBy_3 : cX4_waysBy.data.toList.drop 64 = dktX4_waysBy_3 := dk_seg dksX4_waysBy_2 39 rfl rfl
theorem dksX4_waysBy_4 : cX4_waysBy.data.toList.drop 87 = dktX4_waysBy_4 := dk_seg dksX4_waysBy_3 23 rfl rfl
theorem dksX4_waysBy_5 : cX4_waysBy.data.toList.drop 111 = dktX4_waysBy_5 := dk_seg dksX4_waysBy_4 24 rfl rfl
theorem dksX4_waysBy_6 : cX4_waysBy.data.toList.drop 133 = dktX4_waysBy_6 := dk_seg dksX4_waysBy_5 22 rfl rfl
theorem dksX4_waysBy_7 : cX4_waysBy.data.toList.drop 156 = dktX4_waysBy_7 := dk_seg dksX4_waysBy_6 23 rfl rfl
theorem dksX4_waysBy_8 : cX4_waysBy.data.toList.drop 180 = dktX4_waysBy_8 := dk_seg dksX4_waysBy_7 24 rfl rfl
theorem dksX4_waysBy_9 : cX4_waysBy.data.toList.drop 203 = dktX4_waysBy_9 := dk_seg dksX4_waysBy_8 23 rfl rfl
theorem dksX4_waysBy_10 : cX4_waysBy.data.toList.drop 227 = dktX4_waysBy_10 := dk_seg dksX4_waysBy_9 24 rfl rfl
theorem dksX4_waysBy_11 : cX4_waysBy.data.toList.drop 249 = dktX4_waysBy_11 := dk_seg dksX4_waysBy_10 22 rfl rfl
theorem dX4_waysBy_0 : decode cX4_waysBy 0 = .ok (.aload_n 0, 1) := dk_42 (dk_at dksX4_waysBy_0 0 rfl rfl)
theorem dX4_waysBy_1 : decode cX4_waysBy 1 = .ok (.getfield 42, 3) := dk_180 0 42 (dk_at dksX4_waysBy_0 1 rfl rfl)
theorem dX4_waysBy_4 : decode cX4_waysBy 4 = .ok (.iload_n 3, 1) := dk_29 (dk_at dksX4_waysBy_0 4 rfl rfl)
theorem dX4_waysBy_5 : decode cX4_waysBy 5 = .ok (.iaload, 1) := dk_46 (dk_at dksX4_waysBy_0 5 rfl rfl)
theorem dX4_waysBy_6 : decode cX4_waysBy 6 = .ok (.istore 4, 2) := dk_54 4 (dk_at dksX4_waysBy_0 6 rfl rfl)
theorem dX4_waysBy_8 : decode cX4_waysBy 8 = .ok (.aload_n 0, 1) := dk_42 (dk_at dksX4_waysBy_0 8 rfl rfl)
theorem dX4_waysBy_9 : decode cX4_waysBy 9 = .ok (.getfield 45, 3) := dk_180 0 45 (dk_at dksX4_waysBy_0 9 rfl rfl)
theorem dX4_waysBy_12 : decode cX4_waysBy 12 = .ok (.iload_n 3, 1) := dk_29 (dk_at dksX4_waysBy_0 12 rfl rfl)
theorem dX4_waysBy_13 : decode cX4_waysBy 13 = .ok (.iaload, 1) := dk_46 (dk_at dksX4_waysBy_0 13 rfl rfl)
theorem dX4_waysBy_14 : decode cX4_waysBy 14 = .ok (.istore 5, 2) := dk_54 5 (dk_at dksX4_waysBy_0 14 rfl rfl)
theorem dX4_waysBy_16 : decode cX4_waysBy 16 = .ok (.lconst 0, 1) := dk_9 (dk_at dksX4_waysBy_0 16 rfl rfl)
theorem dX4_waysBy_17 : decode cX4_waysBy 17 = .ok (.lstore 6, 2) := dk_55 6 (dk_at dksX4_waysBy_0 17 rfl rfl)
theorem dX4_waysBy_19 : decode cX4_waysBy 19 = .ok (.aload_n 0, 1) := dk_42 (dk_at dksX4_waysBy_0 19 rfl rfl)
theorem dX4_waysBy_20 : decode cX4_waysBy 20 = .ok (.getfield 39, 3) := dk_180 0 39 (dk_at dksX4_waysBy_0 20 rfl rfl)
theorem dX4_waysBy_23 : decode cX4_waysBy 23 = .ok (.iload_n 3, 1) := dk_29 (dk_at dksX4_waysBy_0 23 rfl rfl)
theorem dX4_waysBy_24 : decode cX4_waysBy 24 = .ok (.iaload, 1) := dk_46 (dk_at dksX4_waysBy_1 0 rfl rfl)
theorem dX4_waysBy_25 : decode cX4_waysBy 25 = .ok (.tableswitch 187 0 5 #[39, 187, 187, 70, 114, 50], 39) := by decide +kernel
theorem dX4_waysBy_64 : decode cX4_waysBy 64 = .ok (.iload_n 1, 1) := dk_27 (dk_at dksX4_waysBy_3 0 rfl rfl)
theorem dX4_waysBy_65 : decode cX4_waysBy 65 = .ok (.iload_n 2, 1) := dk_28 (dk_at dksX4_waysBy_3 1 rfl rfl)
theorem dX4_waysBy_66 : decode cX4_waysBy 66 = .ok (.if_icmp .ne 7, 3) := dk_160 0 7 (dk_at dksX4_waysBy_3 2 rfl rfl)
theorem dX4_waysBy_69 : decode cX4_waysBy 69 = .ok (.lconst 1, 1) := dk_10 (dk_at dksX4_waysBy_3 5 rfl rfl)
theorem dX4_waysBy_70 : decode cX4_waysBy 70 = .ok (.goto 4, 3) := dk_167 0 4 (dk_at dksX4_waysBy_3 6 rfl rfl)
theorem dX4_waysBy_73 : decode cX4_waysBy 73 = .ok (.lconst 0, 1) := dk_9 (dk_at dksX4_waysBy_3 9 rfl rfl)
theorem dX4_waysBy_74 : decode cX4_waysBy 74 = .ok (.lreturn, 1) := dk_173 (dk_at dksX4_waysBy_3 10 rfl rfl)
theorem dX4_waysBy_75 : decode cX4_waysBy 75 = .ok (.iload_n 1, 1) := dk_27 (dk_at dksX4_waysBy_3 11 rfl rfl)
theorem dX4_waysBy_76 : decode cX4_waysBy 76 = .ok (.iload_n 2, 1) := dk_28 (dk_at dksX4_waysBy_3 12 rfl rfl)
theorem dX4_waysBy_77 : decode cX4_waysBy 77 = .ok (.if_icmp .ge 16, 3) := dk_162 0 16 (dk_at dksX4_waysBy_3 13 rfl rfl)
theorem dX4_waysBy_80 : decode cX4_waysBy 80 = .ok (.aload_n 0, 1) := dk_42 (dk_at dksX4_waysBy_3 16 rfl rfl)
theorem dX4_waysBy_81 : decode cX4_waysBy 81 = .ok (.iload_n 1, 1) := dk_27 (dk_at dksX4_waysBy_3 17 rfl rfl)
theorem dX4_waysBy_82 : decode cX4_waysBy 82 = .ok (.iload_n 2, 1) := dk_28 (dk_at dksX4_waysBy_3 18 rfl rfl)
theorem dX4_waysBy_83 : decode cX4_waysBy 83 = .ok (.iconst 1, 1) := dk_4 (dk_at dksX4_waysBy_3 19 rfl rfl)
theorem dX4_waysBy_84 : decode cX4_waysBy 84 = .ok (.isub, 1) := dk_100 (dk_at dksX4_waysBy_3 20 rfl rfl)
theorem dX4_waysBy_85 : decode cX4_waysBy 85 = .ok (.iload 4, 2) := dk_21 4 (dk_at dksX4_waysBy_3 21 rfl rfl)
theorem dX4_waysBy_87 : decode cX4_waysBy 87 = .ok (.invokevirtual 394, 3) := dk_182 1 138 (dk_at dksX4_waysBy_4 0 rfl rfl)
theorem dX4_waysBy_90 : decode cX4_waysBy 90 = .ok (.goto 4, 3) := dk_167 0 4 (dk_at dksX4_waysBy_4 3 rfl rfl)
theorem dX4_waysBy_93 : decode cX4_waysBy 93 = .ok (.lconst 0, 1) := dk_9 (dk_at dksX4_waysBy_4 6 rfl rfl)
theorem dX4_waysBy_94 : decode cX4_waysBy 94 = .ok (.lreturn, 1) := dk_173 (dk_at dksX4_waysBy_4 7 rfl rfl)
theorem dX4_waysBy_95 : decode cX4_waysBy 95 = .ok (.iconst 1, 1) := dk_4 (dk_at dksX4_waysBy_4 8 rfl rfl)
theorem dX4_waysBy_96 : decode cX4_waysBy 96 = .ok (.istore 8, 2) := dk_54 8 (dk_at dksX4_waysBy_4 9 rfl rfl)
theorem dX4_waysBy_98 : decode cX4_waysBy 98 = .ok (.iload 8, 2) := dk_21 8 (dk_at dksX4_waysBy_4 11 rfl rfl)
theorem dX4_waysBy_100 : decode cX4_waysBy 100 = .ok (.bipush 6, 2) := dk_16 6 (dk_at dksX4_waysBy_4 13 rfl rfl)
theorem dX4_waysBy_102 : decode cX4_waysBy 102 = .ok (.if_icmp .ge 34, 3) := dk_162 0 34 (dk_at dksX4_waysBy_4 15 rfl rfl)
theorem dX4_waysBy_105 : decode cX4_waysBy 105 = .ok (.iload_n 1, 1) := dk_27 (dk_at dksX4_waysBy_4 18 rfl rfl)
theorem dX4_waysBy_106 : decode cX4_waysBy 106 = .ok (.iload_n 2, 1) := dk_28 (dk_at dksX4_waysBy_4 19 rfl rfl)
theorem dX4_waysBy_107 : decode cX4_waysBy 107 = .ok (.if_icmp .ge 29, 3) := dk_162 0 29 (dk_at dksX4_waysBy_4 20 rfl rfl)
theorem dX4_waysBy_110 : decode cX4_waysBy 110 = .ok (.aload_n 0, 1) := dk_42 (dk_at dksX4_waysBy_4 23 rfl rfl)
theorem dX4_waysBy_111 : decode cX4_waysBy 111 = .ok (.lload 6, 2) := dk_22 6 (dk_at dksX4_waysBy_5 0 rfl rfl)
theorem dX4_waysBy_113 : decode cX4_waysBy 113 = .ok (.aload_n 0, 1) := dk_42 (dk_at dksX4_waysBy_5 2 rfl rfl)
theorem dX4_waysBy_114 : decode cX4_waysBy 114 = .ok (.iload_n 1, 1) := dk_27 (dk_at dksX4_waysBy_5 3 rfl rfl)
theorem dX4_waysBy_115 : decode cX4_waysBy 115 = .ok (.iload_n 2, 1) := dk_28 (dk_at dksX4_waysBy_5 4 rfl rfl)
theorem dX4_waysBy_116 : decode cX4_waysBy 116 = .ok (.iconst 1, 1) := dk_4 (dk_at dksX4_waysBy_5 5 rfl rfl)
theorem dX4_waysBy_117 : decode cX4_waysBy 117 = .ok (.isub, 1) := dk_100 (dk_at dksX4_waysBy_5 6 rfl rfl)
theorem dX4_waysBy_118 : decode cX4_waysBy 118 = .ok (.iload 4, 2) := dk_21 4 (dk_at dksX4_waysBy_5 7 rfl rfl)
theorem dX4_waysBy_120 : decode cX4_waysBy 120 = .ok (.iload 8, 2) := dk_21 8 (dk_at dksX4_waysBy_5 9 rfl rfl)
theorem dX4_waysBy_122 : decode cX4_waysBy 122 = .ok (.invokevirtual 398, 3) := dk_182 1 142 (dk_at dksX4_waysBy_5 11 rfl rfl)
theorem dX4_waysBy_125 : decode cX4_waysBy 125 = .ok (.invokevirtual 402, 3) := dk_182 1 146 (dk_at dksX4_waysBy_5 14 rfl rfl)
theorem dX4_waysBy_128 : decode cX4_waysBy 128 = .ok (.lstore 6, 2) := dk_55 6 (dk_at dksX4_waysBy_5 17 rfl rfl)
theorem dX4_waysBy_130 : decode cX4_waysBy 130 = .ok (.iinc 8 1, 3) := dk_132 8 1 (dk_at dksX4_waysBy_5 19 rfl rfl)
theorem dX4_waysBy_133 : decode cX4_waysBy 133 = .ok (.goto (-35), 3) := dk_167 255 221 (dk_at dksX4_waysBy_6 0 rfl rfl)
theorem dX4_waysBy_136 : decode cX4_waysBy 136 = .ok (.lload 6, 2) := dk_22 6 (dk_at dksX4_waysBy_6 3 rfl rfl)
theorem dX4_waysBy_138 : decode cX4_waysBy 138 = .ok (.lreturn, 1) := dk_173 (dk_at dksX4_waysBy_6 5 rfl rfl)
theorem dX4_waysBy_139 : decode cX4_waysBy 139 = .ok (.iconst 1, 1) := dk_4 (dk_at dksX4_waysBy_6 6 rfl rfl)
theorem dX4_waysBy_140 : decode cX4_waysBy 140 = .ok (.istore 8, 2) := dk_54 8 (dk_at dksX4_waysBy_6 7 rfl rfl)
theorem dX4_waysBy_142 : decode cX4_waysBy 142 = .ok (.iload 8, 2) := dk_21 8 (dk_at dksX4_waysBy_6 9 rfl rfl)
theorem dX4_waysBy_144 : decode cX4_waysBy 144 = .ok (.iconst 4, 1) := dk_7 (dk_at dksX4_waysBy_6 11 rfl rfl)
theorem dX4_waysBy_145 : decode cX4_waysBy 145 = .ok (.if_icmp .ge 64, 3) := dk_162 0 64 (dk_at dksX4_waysBy_6 12 rfl rfl)
theorem dX4_waysBy_148 : decode cX4_waysBy 148 = .ok (.iload_n 1, 1) := dk_27 (dk_at dksX4_waysBy_6 15 rfl rfl)
theorem dX4_waysBy_149 : decode cX4_waysBy 149 = .ok (.istore 9, 2) := dk_54 9 (dk_at dksX4_waysBy_6 16 rfl rfl)
theorem dX4_waysBy_151 : decode cX4_waysBy 151 = .ok (.iload 9, 2) := dk_21 9 (dk_at dksX4_waysBy_6 18 rfl rfl)
theorem dX4_waysBy_153 : decode cX4_waysBy 153 = .ok (.iload_n 2, 1) := dk_28 (dk_at dksX4_waysBy_6 20 rfl rfl)
theorem dX4_waysBy_154 : decode cX4_waysBy 154 = .ok (.iconst 1, 1) := dk_4 (dk_at dksX4_waysBy_6 21 rfl rfl)
theorem dX4_waysBy_155 : decode cX4_waysBy 155 = .ok (.isub, 1) := dk_100 (dk_at dksX4_waysBy_6 22 rfl rfl)
theorem dX4_waysBy_156 : decode cX4_waysBy 156 = .ok (.if_icmp .ge 47, 3) := dk_162 0 47 (dk_at dksX4_waysBy_7 0 rfl rfl)
theorem dX4_waysBy_159 : decode cX4_waysBy 159 = .ok (.aload_n 0, 1) := dk_42 (dk_at dksX4_waysBy_7 3 rfl rfl)
theorem dX4_waysBy_160 : decode cX4_waysBy 160 = .ok (.lload 6, 2) := dk_22 6 (dk_at dksX4_waysBy_7 4 rfl rfl)
theorem dX4_waysBy_162 : decode cX4_waysBy 162 = .ok (.aload_n 0, 1) := dk_42 (dk_at dksX4_waysBy_7 6 rfl rfl)
theorem dX4_waysBy_163 : decode cX4_waysBy 163 = .ok (.aload_n 0, 1) := dk_42 (dk_at dksX4_waysBy_7 7 rfl rfl)
theorem dX4_waysBy_164 : decode cX4_waysBy 164 = .ok (.iload_n 1, 1) := dk_27 (dk_at dksX4_waysBy_7 8 rfl rfl)
theorem dX4_waysBy_165 : decode cX4_waysBy 165 = .ok (.iload 9, 2) := dk_21 9 (dk_at dksX4_waysBy_7 9 rfl rfl)
theorem dX4_waysBy_167 : decode cX4_waysBy 167 = .ok (.iload 4, 2) := dk_21 4 (dk_at dksX4_waysBy_7 11 rfl rfl)
theorem dX4_waysBy_169 : decode cX4_waysBy 169 = .ok (.iload 8, 2) := dk_21 8 (dk_at dksX4_waysBy_7 13 rfl rfl)
theorem dX4_waysBy_171 : decode cX4_waysBy 171 = .ok (.invokevirtual 398, 3) := dk_182 1 142 (dk_at dksX4_waysBy_7 15 rfl rfl)
theorem dX4_waysBy_174 : decode cX4_waysBy 174 = .ok (.aload_n 0, 1) := dk_42 (dk_at dksX4_waysBy_7 18 rfl rfl)
theorem dX4_waysBy_175 : decode cX4_waysBy 175 = .ok (.iload 9, 2) := dk_21 9 (dk_at dksX4_waysBy_7 19 rfl rfl)
theorem dX4_waysBy_177 : decode cX4_waysBy 177 = .ok (.iconst 1, 1) := dk_4 (dk_at dksX4_waysBy_7 21 rfl rfl)
theorem dX4_waysBy_178 : decode cX4_waysBy 178 = .ok (.iadd, 1) := dk_96 (dk_at dksX4_waysBy_7 22 rfl rfl)
theorem dX4_waysBy_179 : decode cX4_waysBy 179 = .ok (.iload_n 2, 1) := dk_28 (dk_at dksX4_waysBy_7 23 rfl rfl)
theorem dX4_waysBy_180 : decode cX4_waysBy 180 = .ok (.iconst 1, 1) := dk_4 (dk_at dksX4_waysBy_8 0 rfl rfl)
theorem dX4_waysBy_181 : decode cX4_waysBy 181 = .ok (.isub, 1) := dk_100 (dk_at dksX4_waysBy_8 1 rfl rfl)
theorem dX4_waysBy_182 : decode cX4_waysBy 182 = .ok (.iload 5, 2) := dk_21 5 (dk_at dksX4_waysBy_8 2 rfl rfl)
theorem dX4_waysBy_184 : decode cX4_waysBy 184 = .ok (.iload 8, 2) := dk_21 8 (dk_at dksX4_waysBy_8 4 rfl rfl)
theorem dX4_waysBy_186 : decode cX4_waysBy 186 = .ok (.invokevirtual 398, 3) := dk_182 1 142 (dk_at dksX4_waysBy_8 6 rfl rfl)
theorem dX4_waysBy_189 : decode cX4_waysBy 189 = .ok (.invokevirtual 406, 3) := dk_182 1 150 (dk_at dksX4_waysBy_8 9 rfl rfl)
theorem dX4_waysBy_192 : decode cX4_waysBy 192 = .ok (.invokevirtual 402, 3) := dk_182 1 146 (dk_at dksX4_waysBy_8 12 rfl rfl)
theorem dX4_waysBy_195 : decode cX4_waysBy 195 = .ok (.lstore 6, 2) := dk_55 6 (dk_at dksX4_waysBy_8 15 rfl rfl)
theorem dX4_waysBy_197 : decode cX4_waysBy 197 = .ok (.iinc 9 1, 3) := dk_132 9 1 (dk_at dksX4_waysBy_8 17 rfl rfl)
theorem dX4_waysBy_200 : decode cX4_waysBy 200 = .ok (.goto (-49), 3) := dk_167 255 207 (dk_at dksX4_waysBy_8 20 rfl rfl)
theorem dX4_waysBy_203 : decode cX4_waysBy 203 = .ok (.iinc 8 1, 3) := dk_132 8 1 (dk_at dksX4_waysBy_9 0 rfl rfl)
theorem dX4_waysBy_206 : decode cX4_waysBy 206 = .ok (.goto (-64), 3) := dk_167 255 192 (dk_at dksX4_waysBy_9 3 rfl rfl)
theorem dX4_waysBy_209 : decode cX4_waysBy 209 = .ok (.lload 6, 2) := dk_22 6 (dk_at dksX4_waysBy_9 6 rfl rfl)
theorem dX4_waysBy_211 : decode cX4_waysBy 211 = .ok (.lreturn, 1) := dk_173 (dk_at dksX4_waysBy_9 8 rfl rfl)
theorem dX4_waysBy_212 : decode cX4_waysBy 212 = .ok (.iload_n 1, 1) := dk_27 (dk_at dksX4_waysBy_9 9 rfl rfl)
theorem dX4_waysBy_213 : decode cX4_waysBy 213 = .ok (.istore 8, 2) := dk_54 8 (dk_at dksX4_waysBy_9 10 rfl rfl)
theorem dX4_waysBy_215 : decode cX4_waysBy 215 = .ok (.iload 8, 2) := dk_21 8 (dk_at dksX4_waysBy_9 12 rfl rfl)
theorem dX4_waysBy_217 : decode cX4_waysBy 217 = .ok (.iload_n 2, 1) := dk_28 (dk_at dksX4_waysBy_9 14 rfl rfl)
theorem dX4_waysBy_218 : decode cX4_waysBy 218 = .ok (.iconst 1, 1) := dk_4 (dk_at dksX4_waysBy_9 15 rfl rfl)
theorem dX4_waysBy_219 : decode cX4_waysBy 219 = .ok (.isub, 1) := dk_100 (dk_at dksX4_waysBy_9 16 rfl rfl)
theorem dX4_waysBy_220 : decode cX4_waysBy 220 = .ok (.if_icmp .ge 43, 3) := dk_162 0 43 (dk_at dksX4_waysBy_9 17 rfl rfl)
theorem dX4_waysBy_223 : decode cX4_waysBy 223 = .ok (.aload_n 0, 1) := dk_42 (dk_at dksX4_waysBy_9 20 rfl rfl)
theorem dX4_waysBy_224 : decode cX4_waysBy 224 = .ok (.lload 6, 2) := dk_22 6 (dk_at dksX4_waysBy_9 21 rfl rfl)
theorem dX4_waysBy_226 : decode cX4_waysBy 226 = .ok (.aload_n 0, 1) := dk_42 (dk_at dksX4_waysBy_9 23 rfl rfl)
theorem dX4_waysBy_227 : decode cX4_waysBy 227 = .ok (.aload_n 0, 1) := dk_42 (dk_at dksX4_waysBy_10 0 rfl rfl)
theorem dX4_waysBy_228 : decode cX4_waysBy 228 = .ok (.iload_n 1, 1) := dk_27 (dk_at dksX4_waysBy_10 1 rfl rfl)
theorem dX4_waysBy_229 : decode cX4_waysBy 229 = .ok (.iload 8, 2) := dk_21 8 (dk_at dksX4_waysBy_10 2 rfl rfl)
theorem dX4_waysBy_231 : decode cX4_waysBy 231 = .ok (.iload 4, 2) := dk_21 4 (dk_at dksX4_waysBy_10 4 rfl rfl)
theorem dX4_waysBy_233 : decode cX4_waysBy 233 = .ok (.invokevirtual 394, 3) := dk_182 1 138 (dk_at dksX4_waysBy_10 6 rfl rfl)
theorem dX4_waysBy_236 : decode cX4_waysBy 236 = .ok (.aload_n 0, 1) := dk_42 (dk_at dksX4_waysBy_10 9 rfl rfl)
theorem dX4_waysBy_237 : decode cX4_waysBy 237 = .ok (.iload 8, 2) := dk_21 8 (dk_at dksX4_waysBy_10 10 rfl rfl)
theorem dX4_waysBy_239 : decode cX4_waysBy 239 = .ok (.iconst 1, 1) := dk_4 (dk_at dksX4_waysBy_10 12 rfl rfl)
theorem dX4_waysBy_240 : decode cX4_waysBy 240 = .ok (.iadd, 1) := dk_96 (dk_at dksX4_waysBy_10 13 rfl rfl)
theorem dX4_waysBy_241 : decode cX4_waysBy 241 = .ok (.iload_n 2, 1) := dk_28 (dk_at dksX4_waysBy_10 14 rfl rfl)
theorem dX4_waysBy_242 : decode cX4_waysBy 242 = .ok (.iconst 1, 1) := dk_4 (dk_at dksX4_waysBy_10 15 rfl rfl)
theorem dX4_waysBy_243 : decode cX4_waysBy 243 = .ok (.isub, 1) := dk_100 (dk_at dksX4_waysBy_10 16 rfl rfl)
theorem dX4_waysBy_244 : decode cX4_waysBy 244 = .ok (.iload 5, 2) := dk_21 5 (dk_at dksX4_waysBy_10 17 rfl rfl)
theorem dX4_waysBy_246 : decode cX4_waysBy 246 = .ok (.invokevirtual 394, 3) := dk_182 1 138 (dk_at dksX4_waysBy_10 19 rfl rfl)
theorem dX4_waysBy_249 : decode cX4_waysBy 249 = .ok (.invokevirtual 406, 3) := dk_182 1 150 (dk_at dksX4_waysBy_11 0 rfl rfl)
theorem dX4_waysBy_252 : decode cX4_waysBy 252 = .ok (.invokevirtual 402, 3) := dk_182 1 146 (dk_at dksX4_waysBy_11 3 rfl rfl)
theorem dX4_waysBy_255 : decode cX4_waysBy 255 = .ok (.lstore 6, 2) := dk_55 6 (dk_at dksX4_waysBy_11 6 rfl rfl)
theorem dX4_waysBy_257 : decode cX4_waysBy 257 = .ok (.iinc 8 1, 3) := dk_132 8 1 (dk_at dksX4_waysBy_11 8 rfl rfl)
theorem dX4_waysBy_260 : decode cX4_waysBy 260 = .ok (.goto (-45), 3) := dk_167 255 211 (dk_at dksX4_waysBy_11 11 rfl rfl)
theorem dX4_waysBy_263 : decode cX4_waysBy 263 = .ok (.lload 6, 2) := dk_22 6 (dk_at dksX4_waysBy_11 14 rfl rfl)
theorem dX4_waysBy_265 : decode cX4_waysBy 265 = .ok (.lreturn, 1) := dk_173 (dk_at dksX4_waysBy_11 16 rfl rfl)
abbrev cX4_oneOf : ByteArray := prog_23_method_47_code
def yX4_oneOf : MethodName := ⟨RX4, "oneOf", "(III)J"⟩
def dkwX4_oneOf_0 : List UInt8 := [42, 180, 0, 97, 16, 24, 27, 104, 28, 96, 16, 8, 104, 29, 96, 47, 173]
abbrev dktX4_oneOf_0 : List UInt8 := dkwX4_oneOf_0 ++ []
theorem dksX4_oneOf_0 : cX4_oneOf.data.toList.drop 0 = dktX4_oneOf_0 := by decide +kernel
theorem dX4_oneOf_0 : decode cX4_oneOf 0 = .ok (.aload_n 0, 1) := dk_42 (dk_at dksX4_oneOf_0 0 rfl rfl)
theorem dX4_oneOf_1 : decode cX4_oneOf 1 = .ok (.getfield 97, 3) := dk_180 0 97 (dk_at dksX4_oneOf_0 1 rfl rfl)
theorem dX4_oneOf_4 : decode cX4_oneOf 4 = .ok (.bipush 24, 2) := dk_16 24 (dk_at dksX4_oneOf_0 4 rfl rfl)
theorem dX4_oneOf_6 : decode cX4_oneOf 6 = .ok (.iload_n 1, 1) := dk_27 (dk_at dksX4_oneOf_0 6 rfl rfl)
theorem dX4_oneOf_7 : decode cX4_oneOf 7 = .ok (.imul, 1) := dk_104 (dk_at dksX4_oneOf_0 7 rfl rfl)
theorem dX4_oneOf_8 : decode cX4_oneOf 8 = .ok (.iload_n 2, 1) := dk_28 (dk_at dksX4_oneOf_0 8 rfl rfl)
theorem dX4_oneOf_9 : decode cX4_oneOf 9 = .ok (.iadd, 1) := dk_96 (dk_at dksX4_oneOf_0 9 rfl rfl)
theorem dX4_oneOf_10 : decode cX4_oneOf 10 = .ok (.bipush 8, 2) := dk_16 8 (dk_at dksX4_oneOf_0 10 rfl rfl)
theorem dX4_oneOf_12 : decode cX4_oneOf 12 = .ok (.imul, 1) := dk_104 (dk_at dksX4_oneOf_0 12 rfl rfl)
theorem dX4_oneOf_13 : decode cX4_oneOf 13 = .ok (.iload_n 3, 1) := dk_29 (dk_at dksX4_oneOf_0 13 rfl rfl)
theorem dX4_oneOf_14 : decode cX4_oneOf 14 = .ok (.iadd, 1) := dk_96 (dk_at dksX4_oneOf_0 14 rfl rfl)
theorem dX4_oneOf_15 : decode cX4_oneOf 15 = .ok (.laload, 1) := dk_47 (dk_at dksX4_oneOf_0 15 rfl rfl)
theorem dX4_oneOf_16 : decode cX4_oneOf 16 = .ok (.lreturn, 1) := dk_173 (dk_at dksX4_oneOf_0 16 rfl rfl)
abbrev cX4_manyOf : ByteArray := prog_23_method_48_code
def yX4_manyOf : MethodName := ⟨RX4, "manyOf", "(IIII)J"⟩
def dkwX4_manyOf_0 : List UInt8 := [42, 180, 0, 100, 16, 24, 27, 104, 28, 96, 16, 8, 104, 29, 96, 16, 6, 104, 21, 4, 96, 47, 173]
abbrev dktX4_manyOf_0 : List UInt8 := dkwX4_manyOf_0 ++ []
theorem dksX4_manyOf_0 : cX4_manyOf.data.toList.drop 0 = dktX4_manyOf_0 := by decide +kernel
theorem dX4_manyOf_0 : decode cX4_manyOf 0 = .ok (.aload_n 0, 1) := dk_42 (dk_at dksX4_manyOf_0 0 rfl rfl)
theorem dX4_manyOf_1 : decode cX4_manyOf 1 = .ok (.getfield 100, 3) := dk_180 0 100 (dk_at dksX4_manyOf_0 1 rfl rfl)
theorem dX4_manyOf_4 : decode cX4_manyOf 4 = .ok (.bipush 24, 2) := dk_16 24 (dk_at dksX4_manyOf_0 4 rfl rfl)
theorem dX4_manyOf_6 : decode cX4_manyOf 6 = .ok (.iload_n 1, 1) := dk_27 (dk_at dksX4_manyOf_0 6 rfl rfl)
theorem dX4_manyOf_7 : decode cX4_manyOf 7 = .ok (.imul, 1) := dk_104 (dk_at dksX4_manyOf_0 7 rfl rfl)
theorem dX4_manyOf_8 : decode cX4_manyOf 8 = .ok (.iload_n 2, 1) := dk_28 (dk_at dksX4_manyOf_0 8 rfl rfl)
theorem dX4_manyOf_9 : decode cX4_manyOf 9 = .ok (.iadd, 1) := dk_96 (dk_at dksX4_manyOf_0 9 rfl rfl)
theorem dX4_manyOf_10 : decode cX4_manyOf 10 = .ok (.bipush 8, 2) := dk_16 8 (dk_at dksX4_manyOf_0 10 rfl rfl)
theorem dX4_manyOf_12 : decode cX4_manyOf 12 = .ok (.imul, 1) := dk_104 (dk_at dksX4_manyOf_0 12 rfl rfl)
theorem dX4_manyOf_13 : decode cX4_manyOf 13 = .ok (.iload_n 3, 1) := dk_29 (dk_at dksX4_manyOf_0 13 rfl rfl)
theorem dX4_manyOf_14 : decode cX4_manyOf 14 = .ok (.iadd, 1) := dk_96 (dk_at dksX4_manyOf_0 14 rfl rfl)
theorem dX4_manyOf_15 : decode cX4_manyOf 15 = .ok (.bipush 6, 2) := dk_16 6 (dk_at dksX4_manyOf_0 15 rfl rfl)
theorem dX4_manyOf_17 : decode cX4_manyOf 17 = .ok (.imul, 1) := dk_104 (dk_at dksX4_manyOf_0 17 rfl rfl)
theorem dX4_manyOf_18 : decode cX4_manyOf 18 = .ok (.iload 4, 2) := dk_21 4 (dk_at dksX4_manyOf_0 18 rfl rfl)
theorem dX4_manyOf_20 : decode cX4_manyOf 20 = .ok (.iadd, 1) := dk_96 (dk_at dksX4_manyOf_0 20 rfl rfl)
theorem dX4_manyOf_21 : decode cX4_manyOf 21 = .ok (.laload, 1) := dk_47 (dk_at dksX4_manyOf_0 21 rfl rfl)
theorem dX4_manyOf_22 : decode cX4_manyOf 22 = .ok (.lreturn, 1) := dk_173 (dk_at dksX4_manyOf_0 22 rfl rfl)
abbrev cX4_plus : ByteArray := prog_23_method_45_code
def yX4_plus : MethodName := ⟨RX4, "plus", "(JJ)J"⟩
def dkwX4_plus_1 : List UInt8 := [20, 1, 136, 167, 0, 15, 22, 5, 167, 0, 10, 22, 5, 42, 180, 1, 132, 113, 173]
abbrev dktX4_plus_1 : List UInt8 := dkwX4_plus_1 ++ []
def dkwX4_plus_0 : List UInt8 := [31, 33, 97, 55, 5, 42, 180, 1, 132, 9, 148, 154, 0, 23, 22, 5, 20, 1, 136, 148, 158, 0, 9]
abbrev dktX4_plus_0 : List UInt8 := dkwX4_plus_0 ++ dktX4_plus_1
theorem dksX4_plus_0 : cX4_plus.data.toList.drop 0 = dktX4_plus_0 := by decide +kernel
theorem dksX4_plus_1 : cX4_plus.data.toList.drop 23 = dktX4_plus_1 := dk_seg dksX4_plus_0 23 rfl rfl
theorem dX4_plus_0 : decode cX4_plus 0 = .ok (.lload_n 1, 1) := dk_31 (dk_at dksX4_plus_0 0 rfl rfl)
theorem dX4_plus_1 : decode cX4_plus 1 = .ok (.lload_n 3, 1) := dk_33 (dk_at dksX4_plus_0 1 rfl rfl)
theorem dX4_plus_2 : decode cX4_plus 2 = .ok (.ladd, 1) := dk_97 (dk_at dksX4_plus_0 2 rfl rfl)
theorem dX4_plus_3 : decode cX4_plus 3 = .ok (.lstore 5, 2) := dk_55 5 (dk_at dksX4_plus_0 3 rfl rfl)
theorem dX4_plus_5 : decode cX4_plus 5 = .ok (.aload_n 0, 1) := dk_42 (dk_at dksX4_plus_0 5 rfl rfl)
theorem dX4_plus_6 : decode cX4_plus 6 = .ok (.getfield 388, 3) := dk_180 1 132 (dk_at dksX4_plus_0 6 rfl rfl)
theorem dX4_plus_9 : decode cX4_plus 9 = .ok (.lconst 0, 1) := dk_9 (dk_at dksX4_plus_0 9 rfl rfl)
theorem dX4_plus_10 : decode cX4_plus 10 = .ok (.lcmp, 1) := dk_148 (dk_at dksX4_plus_0 10 rfl rfl)
theorem dX4_plus_11 : decode cX4_plus 11 = .ok (.ifCond .ne 23, 3) := dk_154 0 23 (dk_at dksX4_plus_0 11 rfl rfl)
theorem dX4_plus_14 : decode cX4_plus 14 = .ok (.lload 5, 2) := dk_22 5 (dk_at dksX4_plus_0 14 rfl rfl)
theorem dX4_plus_16 : decode cX4_plus 16 = .ok (.ldc2_w 392, 3) := dk_20 1 136 (dk_at dksX4_plus_0 16 rfl rfl)
theorem dX4_plus_19 : decode cX4_plus 19 = .ok (.lcmp, 1) := dk_148 (dk_at dksX4_plus_0 19 rfl rfl)
theorem dX4_plus_20 : decode cX4_plus 20 = .ok (.ifCond .le 9, 3) := dk_158 0 9 (dk_at dksX4_plus_0 20 rfl rfl)
theorem dX4_plus_23 : decode cX4_plus 23 = .ok (.ldc2_w 392, 3) := dk_20 1 136 (dk_at dksX4_plus_1 0 rfl rfl)
theorem dX4_plus_26 : decode cX4_plus 26 = .ok (.goto 15, 3) := dk_167 0 15 (dk_at dksX4_plus_1 3 rfl rfl)
theorem dX4_plus_29 : decode cX4_plus 29 = .ok (.lload 5, 2) := dk_22 5 (dk_at dksX4_plus_1 6 rfl rfl)
theorem dX4_plus_31 : decode cX4_plus 31 = .ok (.goto 10, 3) := dk_167 0 10 (dk_at dksX4_plus_1 8 rfl rfl)
theorem dX4_plus_34 : decode cX4_plus 34 = .ok (.lload 5, 2) := dk_22 5 (dk_at dksX4_plus_1 11 rfl rfl)
theorem dX4_plus_36 : decode cX4_plus 36 = .ok (.aload_n 0, 1) := dk_42 (dk_at dksX4_plus_1 13 rfl rfl)
theorem dX4_plus_37 : decode cX4_plus 37 = .ok (.getfield 388, 3) := dk_180 1 132 (dk_at dksX4_plus_1 14 rfl rfl)
theorem dX4_plus_40 : decode cX4_plus 40 = .ok (.lrem, 1) := dk_113 (dk_at dksX4_plus_1 17 rfl rfl)
theorem dX4_plus_41 : decode cX4_plus 41 = .ok (.lreturn, 1) := dk_173 (dk_at dksX4_plus_1 18 rfl rfl)
abbrev cX4_times : ByteArray := prog_23_method_46_code
def yX4_times : MethodName := ⟨RX4, "times", "(JJ)J"⟩
def dkwX4_times_1 : List UInt8 := [20, 1, 136, 167, 0, 15, 22, 5, 167, 0, 10, 22, 5, 42, 180, 1, 132, 113, 173]
abbrev dktX4_times_1 : List UInt8 := dkwX4_times_1 ++ []
def dkwX4_times_0 : List UInt8 := [31, 33, 105, 55, 5, 42, 180, 1, 132, 9, 148, 154, 0, 23, 22, 5, 20, 1, 136, 148, 158, 0, 9]
abbrev dktX4_times_0 : List UInt8 := dkwX4_times_0 ++ dktX4_times_1
theorem dksX4_times_0 : cX4_times.data.toList.drop 0 = dktX4_times_0 := by decide +kernel
theorem dksX4_times_1 : cX4_times.data.toList.drop 23 = dktX4_times_1 := dk_seg dksX4_times_0 23 rfl rfl
theorem dX4_times_0 : decode cX4_times 0 = .ok (.lload_n 1, 1) := dk_31 (dk_at dksX4_times_0 0 rfl rfl)
theorem dX4_times_1 : decode cX4_times 1 = .ok (.lload_n 3, 1) := dk_33 (dk_at dksX4_times_0 1 rfl rfl)
theorem dX4_times_2 : decode cX4_times 2 = .ok (.lmul, 1) := dk_105 (dk_at dksX4_times_0 2 rfl rfl)
theorem dX4_times_3 : decode cX4_times 3 = .ok (.lstore 5, 2) := dk_55 5 (dk_at dksX4_times_0 3 rfl rfl)
theorem dX4_times_5 : decode cX4_times 5 = .ok (.aload_n 0, 1) := dk_42 (dk_at dksX4_times_0 5 rfl rfl)
theorem dX4_times_6 : decode cX4_times 6 = .ok (.getfield 388, 3) := dk_180 1 132 (dk_at dksX4_times_0 6 rfl rfl)
theorem dX4_times_9 : decode cX4_times 9 = .ok (.lconst 0, 1) := dk_9 (dk_at dksX4_times_0 9 rfl rfl)
theorem dX4_times_10 : decode cX4_times 10 = .ok (.lcmp, 1) := dk_148 (dk_at dksX4_times_0 10 rfl rfl)
theorem dX4_times_11 : decode cX4_times 11 = .ok (.ifCond .ne 23, 3) := dk_154 0 23 (dk_at dksX4_times_0 11 rfl rfl)
theorem dX4_times_14 : decode cX4_times 14 = .ok (.lload 5, 2) := dk_22 5 (dk_at dksX4_times_0 14 rfl rfl)
theorem dX4_times_16 : decode cX4_times 16 = .ok (.ldc2_w 392, 3) := dk_20 1 136 (dk_at dksX4_times_0 16 rfl rfl)
theorem dX4_times_19 : decode cX4_times 19 = .ok (.lcmp, 1) := dk_148 (dk_at dksX4_times_0 19 rfl rfl)
theorem dX4_times_20 : decode cX4_times 20 = .ok (.ifCond .le 9, 3) := dk_158 0 9 (dk_at dksX4_times_0 20 rfl rfl)
theorem dX4_times_23 : decode cX4_times 23 = .ok (.ldc2_w 392, 3) := dk_20 1 136 (dk_at dksX4_times_1 0 rfl rfl)
theorem dX4_times_26 : decode cX4_times 26 = .ok (.goto 15, 3) := dk_167 0 15 (dk_at dksX4_times_1 3 rfl rfl)
theorem dX4_times_29 : decode cX4_times 29 = .ok (.lload 5, 2) := dk_22 5 (dk_at dksX4_times_1 6 rfl rfl)
theorem dX4_times_31 : decode cX4_times 31 = .ok (.goto 10, 3) := dk_167 0 10 (dk_at dksX4_times_1 8 rfl rfl)
theorem dX4_times_34 : decode cX4_times 34 = .ok (.lload 5, 2) := dk_22 5 (dk_at dksX4_times_1 11 rfl rfl)
theorem dX4_times_36 : decode cX4_times 36 = .ok (.aload_n 0, 1) := dk_42 (dk_at dksX4_times_1 13 rfl rfl)
theorem dX4_times_37 : decode cX4_times 37 = .ok (.getfield 388, 3) := dk_180 1 132 (dk_at dksX4_times_1 14 rfl rfl)
theorem dX4_times_40 : decode cX4_times 40 = .ok (.lrem, 1) := dk_113 (dk_at dksX4_times_1 17 rfl rfl)
theorem dX4_times_41 : decode cX4_times 41 = .ok (.lreturn, 1) := dk_173 (dk_at dksX4_times_1 18 rfl rfl)
abbrev cX4_laysMany : ByteArray := prog_23_method_50_code
def yX4_laysMany : MethodName := ⟨RX4, "laysMany", "(II)V"⟩
def dkwX4_laysMany_5 : List UInt8 := [167, 255, 182, 132, 3, 1, 167, 255, 135, 177]
abbrev dktX4_laysMany_5 : List UInt8 := dkwX4_laysMany_5 ++ []
def dkwX4_laysMany_4 : List UInt8 := [55, 6, 132, 8, 1, 167, 255, 213, 42, 180, 0, 100, 21, 4, 21, 5, 96, 22, 6, 80, 132, 5, 1]
abbrev dktX4_laysMany_4 : List UInt8 := dkwX4_laysMany_4 ++ dktX4_laysMany_5
def dkwX4_laysMany_3 : List UInt8 := [21, 5, 4, 100, 182, 1, 142, 42, 21, 8, 4, 96, 28, 29, 182, 1, 138, 182, 1, 150, 182, 1, 146]
abbrev dktX4_laysMany_3 : List UInt8 := dkwX4_laysMany_3 ++ dktX4_laysMany_4
def dkwX4_laysMany_2 : List UInt8 := [162, 0, 73, 9, 55, 6, 27, 54, 8, 21, 8, 28, 162, 0, 43, 42, 22, 6, 42, 42, 27, 21, 8, 29]
abbrev dktX4_laysMany_2 : List UInt8 := dkwX4_laysMany_2 ++ dktX4_laysMany_3
def dkwX4_laysMany_1 : List UInt8 := [42, 180, 0, 100, 21, 4, 4, 96, 42, 27, 28, 29, 182, 1, 138, 80, 5, 54, 5, 21, 5, 16, 6]
abbrev dktX4_laysMany_1 : List UInt8 := dkwX4_laysMany_1 ++ dktX4_laysMany_2
def dkwX4_laysMany_0 : List UInt8 := [3, 62, 29, 16, 8, 162, 0, 121, 16, 24, 27, 104, 28, 96, 16, 8, 104, 29, 96, 16, 6, 104, 54, 4]
abbrev dktX4_laysMany_0 : List UInt8 := dkwX4_laysMany_0 ++ dktX4_laysMany_1
theorem dksX4_laysMany_0 : cX4_laysMany.data.toList.drop 0 = dktX4_laysMany_0 := by decide +kernel
theorem dksX4_laysMany_1 : cX4_laysMany.data.toList.drop 24 = dktX4_laysMany_1 := dk_seg dksX4_laysMany_0 24 rfl rfl
theorem dksX4_laysMany_2 : cX4_laysMany.data.toList.drop 47 = dktX4_laysMany_2 := dk_seg dksX4_laysMany_1 23 rfl rfl
theorem dksX4_laysMany_3 : cX4_laysMany.data.toList.drop 71 = dktX4_laysMany_3 := dk_seg dksX4_laysMany_2 24 rfl rfl
theorem dksX4_laysMany_4 : cX4_laysMany.data.toList.drop 94 = dktX4_laysMany_4 := dk_seg dksX4_laysMany_3 23 rfl rfl
theorem dksX4_laysMany_5 : cX4_laysMany.data.toList.drop 117 = dktX4_laysMany_5 := dk_seg dksX4_laysMany_4 23 rfl rfl
theorem dX4_laysMany_0 : decode cX4_laysMany 0 = .ok (.iconst 0, 1) := dk_3 (dk_at dksX4_laysMany_0 0 rfl rfl)
theorem dX4_laysMany_1 : decode cX4_laysMany 1 = .ok (.istore_n 3, 1) := dk_62 (dk_at dksX4_laysMany_0 1 rfl rfl)
theorem dX4_laysMany_2 : decode cX4_laysMany 2 = .ok (.iload_n 3, 1) := dk_29 (dk_at dksX4_laysMany_0 2 rfl rfl)
theorem dX4_laysMany_3 : decode cX4_laysMany 3 = .ok (.bipush 8, 2) := dk_16 8 (dk_at dksX4_laysMany_0 3 rfl rfl)
theorem dX4_laysMany_5 : decode cX4_laysMany 5 = .ok (.if_icmp .ge 121, 3) := dk_162 0 121 (dk_at dksX4_laysMany_0 5 rfl rfl)
theorem dX4_laysMany_8 : decode cX4_laysMany 8 = .ok (.bipush 24, 2) := dk_16 24 (dk_at dksX4_laysMany_0 8 rfl rfl)
theorem dX4_laysMany_10 : decode cX4_laysMany 10 = .ok (.iload_n 1, 1) := dk_27 (dk_at dksX4_laysMany_0 10 rfl rfl)
theorem dX4_laysMany_11 : decode cX4_laysMany 11 = .ok (.imul, 1) := dk_104 (dk_at dksX4_laysMany_0 11 rfl rfl)
theorem dX4_laysMany_12 : decode cX4_laysMany 12 = .ok (.iload_n 2, 1) := dk_28 (dk_at dksX4_laysMany_0 12 rfl rfl)
theorem dX4_laysMany_13 : decode cX4_laysMany 13 = .ok (.iadd, 1) := dk_96 (dk_at dksX4_laysMany_0 13 rfl rfl)
theorem dX4_laysMany_14 : decode cX4_laysMany 14 = .ok (.bipush 8, 2) := dk_16 8 (dk_at dksX4_laysMany_0 14 rfl rfl)
theorem dX4_laysMany_16 : decode cX4_laysMany 16 = .ok (.imul, 1) := dk_104 (dk_at dksX4_laysMany_0 16 rfl rfl)
theorem dX4_laysMany_17 : decode cX4_laysMany 17 = .ok (.iload_n 3, 1) := dk_29 (dk_at dksX4_laysMany_0 17 rfl rfl)
theorem dX4_laysMany_18 : decode cX4_laysMany 18 = .ok (.iadd, 1) := dk_96 (dk_at dksX4_laysMany_0 18 rfl rfl)
theorem dX4_laysMany_19 : decode cX4_laysMany 19 = .ok (.bipush 6, 2) := dk_16 6 (dk_at dksX4_laysMany_0 19 rfl rfl)
theorem dX4_laysMany_21 : decode cX4_laysMany 21 = .ok (.imul, 1) := dk_104 (dk_at dksX4_laysMany_0 21 rfl rfl)
theorem dX4_laysMany_22 : decode cX4_laysMany 22 = .ok (.istore 4, 2) := dk_54 4 (dk_at dksX4_laysMany_0 22 rfl rfl)
theorem dX4_laysMany_24 : decode cX4_laysMany 24 = .ok (.aload_n 0, 1) := dk_42 (dk_at dksX4_laysMany_1 0 rfl rfl)
theorem dX4_laysMany_25 : decode cX4_laysMany 25 = .ok (.getfield 100, 3) := dk_180 0 100 (dk_at dksX4_laysMany_1 1 rfl rfl)
theorem dX4_laysMany_28 : decode cX4_laysMany 28 = .ok (.iload 4, 2) := dk_21 4 (dk_at dksX4_laysMany_1 4 rfl rfl)
theorem dX4_laysMany_30 : decode cX4_laysMany 30 = .ok (.iconst 1, 1) := dk_4 (dk_at dksX4_laysMany_1 6 rfl rfl)
theorem dX4_laysMany_31 : decode cX4_laysMany 31 = .ok (.iadd, 1) := dk_96 (dk_at dksX4_laysMany_1 7 rfl rfl)
theorem dX4_laysMany_32 : decode cX4_laysMany 32 = .ok (.aload_n 0, 1) := dk_42 (dk_at dksX4_laysMany_1 8 rfl rfl)
theorem dX4_laysMany_33 : decode cX4_laysMany 33 = .ok (.iload_n 1, 1) := dk_27 (dk_at dksX4_laysMany_1 9 rfl rfl)
theorem dX4_laysMany_34 : decode cX4_laysMany 34 = .ok (.iload_n 2, 1) := dk_28 (dk_at dksX4_laysMany_1 10 rfl rfl)
theorem dX4_laysMany_35 : decode cX4_laysMany 35 = .ok (.iload_n 3, 1) := dk_29 (dk_at dksX4_laysMany_1 11 rfl rfl)
theorem dX4_laysMany_36 : decode cX4_laysMany 36 = .ok (.invokevirtual 394, 3) := dk_182 1 138 (dk_at dksX4_laysMany_1 12 rfl rfl)
theorem dX4_laysMany_39 : decode cX4_laysMany 39 = .ok (.lastore, 1) := dk_80 (dk_at dksX4_laysMany_1 15 rfl rfl)
theorem dX4_laysMany_40 : decode cX4_laysMany 40 = .ok (.iconst 2, 1) := dk_5 (dk_at dksX4_laysMany_1 16 rfl rfl)
theorem dX4_laysMany_41 : decode cX4_laysMany 41 = .ok (.istore 5, 2) := dk_54 5 (dk_at dksX4_laysMany_1 17 rfl rfl)
theorem dX4_laysMany_43 : decode cX4_laysMany 43 = .ok (.iload 5, 2) := dk_21 5 (dk_at dksX4_laysMany_1 19 rfl rfl)
theorem dX4_laysMany_45 : decode cX4_laysMany 45 = .ok (.bipush 6, 2) := dk_16 6 (dk_at dksX4_laysMany_1 21 rfl rfl)
theorem dX4_laysMany_47 : decode cX4_laysMany 47 = .ok (.if_icmp .ge 73, 3) := dk_162 0 73 (dk_at dksX4_laysMany_2 0 rfl rfl)
theorem dX4_laysMany_50 : decode cX4_laysMany 50 = .ok (.lconst 0, 1) := dk_9 (dk_at dksX4_laysMany_2 3 rfl rfl)
theorem dX4_laysMany_51 : decode cX4_laysMany 51 = .ok (.lstore 6, 2) := dk_55 6 (dk_at dksX4_laysMany_2 4 rfl rfl)
theorem dX4_laysMany_53 : decode cX4_laysMany 53 = .ok (.iload_n 1, 1) := dk_27 (dk_at dksX4_laysMany_2 6 rfl rfl)
theorem dX4_laysMany_54 : decode cX4_laysMany 54 = .ok (.istore 8, 2) := dk_54 8 (dk_at dksX4_laysMany_2 7 rfl rfl)
theorem dX4_laysMany_56 : decode cX4_laysMany 56 = .ok (.iload 8, 2) := dk_21 8 (dk_at dksX4_laysMany_2 9 rfl rfl)
theorem dX4_laysMany_58 : decode cX4_laysMany 58 = .ok (.iload_n 2, 1) := dk_28 (dk_at dksX4_laysMany_2 11 rfl rfl)
theorem dX4_laysMany_59 : decode cX4_laysMany 59 = .ok (.if_icmp .ge 43, 3) := dk_162 0 43 (dk_at dksX4_laysMany_2 12 rfl rfl)
theorem dX4_laysMany_62 : decode cX4_laysMany 62 = .ok (.aload_n 0, 1) := dk_42 (dk_at dksX4_laysMany_2 15 rfl rfl)
theorem dX4_laysMany_63 : decode cX4_laysMany 63 = .ok (.lload 6, 2) := dk_22 6 (dk_at dksX4_laysMany_2 16 rfl rfl)
theorem dX4_laysMany_65 : decode cX4_laysMany 65 = .ok (.aload_n 0, 1) := dk_42 (dk_at dksX4_laysMany_2 18 rfl rfl)
theorem dX4_laysMany_66 : decode cX4_laysMany 66 = .ok (.aload_n 0, 1) := dk_42 (dk_at dksX4_laysMany_2 19 rfl rfl)
theorem dX4_laysMany_67 : decode cX4_laysMany 67 = .ok (.iload_n 1, 1) := dk_27 (dk_at dksX4_laysMany_2 20 rfl rfl)
theorem dX4_laysMany_68 : decode cX4_laysMany 68 = .ok (.iload 8, 2) := dk_21 8 (dk_at dksX4_laysMany_2 21 rfl rfl)
theorem dX4_laysMany_70 : decode cX4_laysMany 70 = .ok (.iload_n 3, 1) := dk_29 (dk_at dksX4_laysMany_2 23 rfl rfl)
theorem dX4_laysMany_71 : decode cX4_laysMany 71 = .ok (.iload 5, 2) := dk_21 5 (dk_at dksX4_laysMany_3 0 rfl rfl)
theorem dX4_laysMany_73 : decode cX4_laysMany 73 = .ok (.iconst 1, 1) := dk_4 (dk_at dksX4_laysMany_3 2 rfl rfl)
theorem dX4_laysMany_74 : decode cX4_laysMany 74 = .ok (.isub, 1) := dk_100 (dk_at dksX4_laysMany_3 3 rfl rfl)
theorem dX4_laysMany_75 : decode cX4_laysMany 75 = .ok (.invokevirtual 398, 3) := dk_182 1 142 (dk_at dksX4_laysMany_3 4 rfl rfl)
theorem dX4_laysMany_78 : decode cX4_laysMany 78 = .ok (.aload_n 0, 1) := dk_42 (dk_at dksX4_laysMany_3 7 rfl rfl)
theorem dX4_laysMany_79 : decode cX4_laysMany 79 = .ok (.iload 8, 2) := dk_21 8 (dk_at dksX4_laysMany_3 8 rfl rfl)
theorem dX4_laysMany_81 : decode cX4_laysMany 81 = .ok (.iconst 1, 1) := dk_4 (dk_at dksX4_laysMany_3 10 rfl rfl)
theorem dX4_laysMany_82 : decode cX4_laysMany 82 = .ok (.iadd, 1) := dk_96 (dk_at dksX4_laysMany_3 11 rfl rfl)
theorem dX4_laysMany_83 : decode cX4_laysMany 83 = .ok (.iload_n 2, 1) := dk_28 (dk_at dksX4_laysMany_3 12 rfl rfl)
theorem dX4_laysMany_84 : decode cX4_laysMany 84 = .ok (.iload_n 3, 1) := dk_29 (dk_at dksX4_laysMany_3 13 rfl rfl)
theorem dX4_laysMany_85 : decode cX4_laysMany 85 = .ok (.invokevirtual 394, 3) := dk_182 1 138 (dk_at dksX4_laysMany_3 14 rfl rfl)
theorem dX4_laysMany_88 : decode cX4_laysMany 88 = .ok (.invokevirtual 406, 3) := dk_182 1 150 (dk_at dksX4_laysMany_3 17 rfl rfl)
theorem dX4_laysMany_91 : decode cX4_laysMany 91 = .ok (.invokevirtual 402, 3) := dk_182 1 146 (dk_at dksX4_laysMany_3 20 rfl rfl)
theorem dX4_laysMany_94 : decode cX4_laysMany 94 = .ok (.lstore 6, 2) := dk_55 6 (dk_at dksX4_laysMany_4 0 rfl rfl)
theorem dX4_laysMany_96 : decode cX4_laysMany 96 = .ok (.iinc 8 1, 3) := dk_132 8 1 (dk_at dksX4_laysMany_4 2 rfl rfl)
theorem dX4_laysMany_99 : decode cX4_laysMany 99 = .ok (.goto (-43), 3) := dk_167 255 213 (dk_at dksX4_laysMany_4 5 rfl rfl)
theorem dX4_laysMany_102 : decode cX4_laysMany 102 = .ok (.aload_n 0, 1) := dk_42 (dk_at dksX4_laysMany_4 8 rfl rfl)
theorem dX4_laysMany_103 : decode cX4_laysMany 103 = .ok (.getfield 100, 3) := dk_180 0 100 (dk_at dksX4_laysMany_4 9 rfl rfl)
theorem dX4_laysMany_106 : decode cX4_laysMany 106 = .ok (.iload 4, 2) := dk_21 4 (dk_at dksX4_laysMany_4 12 rfl rfl)
theorem dX4_laysMany_108 : decode cX4_laysMany 108 = .ok (.iload 5, 2) := dk_21 5 (dk_at dksX4_laysMany_4 14 rfl rfl)
theorem dX4_laysMany_110 : decode cX4_laysMany 110 = .ok (.iadd, 1) := dk_96 (dk_at dksX4_laysMany_4 16 rfl rfl)
theorem dX4_laysMany_111 : decode cX4_laysMany 111 = .ok (.lload 6, 2) := dk_22 6 (dk_at dksX4_laysMany_4 17 rfl rfl)
theorem dX4_laysMany_113 : decode cX4_laysMany 113 = .ok (.lastore, 1) := dk_80 (dk_at dksX4_laysMany_4 19 rfl rfl)
theorem dX4_laysMany_114 : decode cX4_laysMany 114 = .ok (.iinc 5 1, 3) := dk_132 5 1 (dk_at dksX4_laysMany_4 20 rfl rfl)
theorem dX4_laysMany_117 : decode cX4_laysMany 117 = .ok (.goto (-74), 3) := dk_167 255 182 (dk_at dksX4_laysMany_5 0 rfl rfl)
theorem dX4_laysMany_120 : decode cX4_laysMany 120 = .ok (.iinc 3 1, 3) := dk_132 3 1 (dk_at dksX4_laysMany_5 3 rfl rfl)
theorem dX4_laysMany_123 : decode cX4_laysMany 123 = .ok (.goto (-121), 3) := dk_167 255 135 (dk_at dksX4_laysMany_5 6 rfl rfl)
theorem dX4_laysMany_126 : decode cX4_laysMany 126 = .ok (.return_, 1) := dk_177 (dk_at dksX4_laysMany_5 9 rfl rfl)
abbrev cX4_readings : ByteArray := prog_23_method_52_code
def yX4_readings : MethodName := ⟨RX4, "readings", "()J"⟩
def dkwX4_readings_1 : List UInt8 := [182, 1, 138, 173]
abbrev dktX4_readings_1 : List UInt8 := dkwX4_readings_1 ++ []
def dkwX4_readings_0 : List UInt8 := [42, 180, 0, 7, 5, 46, 154, 0, 7, 9, 167, 0, 17, 42, 3, 42, 180, 0, 7, 5, 46, 4, 100, 3]
abbrev dktX4_readings_0 : List UInt8 := dkwX4_readings_0 ++ dktX4_readings_1
theorem dksX4_readings_0 : cX4_readings.data.toList.drop 0 = dktX4_readings_0 := by decide +kernel
theorem dksX4_readings_1 : cX4_readings.data.toList.drop 24 = dktX4_readings_1 := dk_seg dksX4_readings_0 24 rfl rfl
theorem dX4_readings_0 : decode cX4_readings 0 = .ok (.aload_n 0, 1) := dk_42 (dk_at dksX4_readings_0 0 rfl rfl)
theorem dX4_readings_1 : decode cX4_readings 1 = .ok (.getfield 7, 3) := dk_180 0 7 (dk_at dksX4_readings_0 1 rfl rfl)
theorem dX4_readings_4 : decode cX4_readings 4 = .ok (.iconst 2, 1) := dk_5 (dk_at dksX4_readings_0 4 rfl rfl)
theorem dX4_readings_5 : decode cX4_readings 5 = .ok (.iaload, 1) := dk_46 (dk_at dksX4_readings_0 5 rfl rfl)
theorem dX4_readings_6 : decode cX4_readings 6 = .ok (.ifCond .ne 7, 3) := dk_154 0 7 (dk_at dksX4_readings_0 6 rfl rfl)
theorem dX4_readings_9 : decode cX4_readings 9 = .ok (.lconst 0, 1) := dk_9 (dk_at dksX4_readings_0 9 rfl rfl)
theorem dX4_readings_10 : decode cX4_readings 10 = .ok (.goto 17, 3) := dk_167 0 17 (dk_at dksX4_readings_0 10 rfl rfl)
theorem dX4_readings_13 : decode cX4_readings 13 = .ok (.aload_n 0, 1) := dk_42 (dk_at dksX4_readings_0 13 rfl rfl)
theorem dX4_readings_14 : decode cX4_readings 14 = .ok (.iconst 0, 1) := dk_3 (dk_at dksX4_readings_0 14 rfl rfl)
theorem dX4_readings_15 : decode cX4_readings 15 = .ok (.aload_n 0, 1) := dk_42 (dk_at dksX4_readings_0 15 rfl rfl)
theorem dX4_readings_16 : decode cX4_readings 16 = .ok (.getfield 7, 3) := dk_180 0 7 (dk_at dksX4_readings_0 16 rfl rfl)
theorem dX4_readings_19 : decode cX4_readings 19 = .ok (.iconst 2, 1) := dk_5 (dk_at dksX4_readings_0 19 rfl rfl)
theorem dX4_readings_20 : decode cX4_readings 20 = .ok (.iaload, 1) := dk_46 (dk_at dksX4_readings_0 20 rfl rfl)
theorem dX4_readings_21 : decode cX4_readings 21 = .ok (.iconst 1, 1) := dk_4 (dk_at dksX4_readings_0 21 rfl rfl)
theorem dX4_readings_22 : decode cX4_readings 22 = .ok (.isub, 1) := dk_100 (dk_at dksX4_readings_0 22 rfl rfl)
theorem dX4_readings_23 : decode cX4_readings 23 = .ok (.iconst 0, 1) := dk_3 (dk_at dksX4_readings_0 23 rfl rfl)
theorem dX4_readings_24 : decode cX4_readings 24 = .ok (.invokevirtual 394, 3) := dk_182 1 138 (dk_at dksX4_readings_1 0 rfl rfl)
theorem dX4_readings_27 : decode cX4_readings 27 = .ok (.lreturn, 1) := dk_173 (dk_at dksX4_readings_1 3 rfl rfl)
abbrev cX4_inverse : ByteArray := prog_23_method_53_code
def yX4_inverse : MethodName := ⟨RX4, "inverse", "(JJ)J"⟩
def dkwX4_inverse_2 : List UInt8 := [22, 6, 22, 6, 105, 32, 113, 55, 6, 22, 8, 20, 1, 165, 109, 55, 8, 167, 255, 207, 22, 4, 173]
abbrev dktX4_inverse_2 : List UInt8 := dkwX4_inverse_2 ++ []
def dkwX4_inverse_1 : List UInt8 := [20, 1, 165, 113, 10, 148, 154, 0, 13, 22, 4, 22, 6, 105, 32, 113, 167, 0, 5, 22, 4, 55, 4]
abbrev dktX4_inverse_1 : List UInt8 := dkwX4_inverse_1 ++ dktX4_inverse_2
def dkwX4_inverse_0 : List UInt8 := [10, 55, 4, 30, 32, 113, 55, 6, 32, 20, 1, 165, 101, 55, 8, 22, 8, 9, 148, 158, 0, 48, 22, 8]
abbrev dktX4_inverse_0 : List UInt8 := dkwX4_inverse_0 ++ dktX4_inverse_1
theorem dksX4_inverse_0 : cX4_inverse.data.toList.drop 0 = dktX4_inverse_0 := by decide +kernel
theorem dksX4_inverse_1 : cX4_inverse.data.toList.drop 24 = dktX4_inverse_1 := dk_seg dksX4_inverse_0 24 rfl rfl
theorem dksX4_inverse_2 : cX4_inverse.data.toList.drop 47 = dktX4_inverse_2 := dk_seg dksX4_inverse_1 23 rfl rfl
theorem dX4_inverse_0 : decode cX4_inverse 0 = .ok (.lconst 1, 1) := dk_10 (dk_at dksX4_inverse_0 0 rfl rfl)
theorem dX4_inverse_1 : decode cX4_inverse 1 = .ok (.lstore 4, 2) := dk_55 4 (dk_at dksX4_inverse_0 1 rfl rfl)
theorem dX4_inverse_3 : decode cX4_inverse 3 = .ok (.lload_n 0, 1) := dk_30 (dk_at dksX4_inverse_0 3 rfl rfl)
theorem dX4_inverse_4 : decode cX4_inverse 4 = .ok (.lload_n 2, 1) := dk_32 (dk_at dksX4_inverse_0 4 rfl rfl)
theorem dX4_inverse_5 : decode cX4_inverse 5 = .ok (.lrem, 1) := dk_113 (dk_at dksX4_inverse_0 5 rfl rfl)
theorem dX4_inverse_6 : decode cX4_inverse 6 = .ok (.lstore 6, 2) := dk_55 6 (dk_at dksX4_inverse_0 6 rfl rfl)
theorem dX4_inverse_8 : decode cX4_inverse 8 = .ok (.lload_n 2, 1) := dk_32 (dk_at dksX4_inverse_0 8 rfl rfl)
theorem dX4_inverse_9 : decode cX4_inverse 9 = .ok (.ldc2_w 421, 3) := dk_20 1 165 (dk_at dksX4_inverse_0 9 rfl rfl)
theorem dX4_inverse_12 : decode cX4_inverse 12 = .ok (.lsub, 1) := dk_101 (dk_at dksX4_inverse_0 12 rfl rfl)
theorem dX4_inverse_13 : decode cX4_inverse 13 = .ok (.lstore 8, 2) := dk_55 8 (dk_at dksX4_inverse_0 13 rfl rfl)
theorem dX4_inverse_15 : decode cX4_inverse 15 = .ok (.lload 8, 2) := dk_22 8 (dk_at dksX4_inverse_0 15 rfl rfl)
theorem dX4_inverse_17 : decode cX4_inverse 17 = .ok (.lconst 0, 1) := dk_9 (dk_at dksX4_inverse_0 17 rfl rfl)
theorem dX4_inverse_18 : decode cX4_inverse 18 = .ok (.lcmp, 1) := dk_148 (dk_at dksX4_inverse_0 18 rfl rfl)
theorem dX4_inverse_19 : decode cX4_inverse 19 = .ok (.ifCond .le 48, 3) := dk_158 0 48 (dk_at dksX4_inverse_0 19 rfl rfl)
theorem dX4_inverse_22 : decode cX4_inverse 22 = .ok (.lload 8, 2) := dk_22 8 (dk_at dksX4_inverse_0 22 rfl rfl)
theorem dX4_inverse_24 : decode cX4_inverse 24 = .ok (.ldc2_w 421, 3) := dk_20 1 165 (dk_at dksX4_inverse_1 0 rfl rfl)
theorem dX4_inverse_27 : decode cX4_inverse 27 = .ok (.lrem, 1) := dk_113 (dk_at dksX4_inverse_1 3 rfl rfl)
theorem dX4_inverse_28 : decode cX4_inverse 28 = .ok (.lconst 1, 1) := dk_10 (dk_at dksX4_inverse_1 4 rfl rfl)
theorem dX4_inverse_29 : decode cX4_inverse 29 = .ok (.lcmp, 1) := dk_148 (dk_at dksX4_inverse_1 5 rfl rfl)
theorem dX4_inverse_30 : decode cX4_inverse 30 = .ok (.ifCond .ne 13, 3) := dk_154 0 13 (dk_at dksX4_inverse_1 6 rfl rfl)
theorem dX4_inverse_33 : decode cX4_inverse 33 = .ok (.lload 4, 2) := dk_22 4 (dk_at dksX4_inverse_1 9 rfl rfl)
theorem dX4_inverse_35 : decode cX4_inverse 35 = .ok (.lload 6, 2) := dk_22 6 (dk_at dksX4_inverse_1 11 rfl rfl)
theorem dX4_inverse_37 : decode cX4_inverse 37 = .ok (.lmul, 1) := dk_105 (dk_at dksX4_inverse_1 13 rfl rfl)
theorem dX4_inverse_38 : decode cX4_inverse 38 = .ok (.lload_n 2, 1) := dk_32 (dk_at dksX4_inverse_1 14 rfl rfl)
theorem dX4_inverse_39 : decode cX4_inverse 39 = .ok (.lrem, 1) := dk_113 (dk_at dksX4_inverse_1 15 rfl rfl)
theorem dX4_inverse_40 : decode cX4_inverse 40 = .ok (.goto 5, 3) := dk_167 0 5 (dk_at dksX4_inverse_1 16 rfl rfl)
theorem dX4_inverse_43 : decode cX4_inverse 43 = .ok (.lload 4, 2) := dk_22 4 (dk_at dksX4_inverse_1 19 rfl rfl)
theorem dX4_inverse_45 : decode cX4_inverse 45 = .ok (.lstore 4, 2) := dk_55 4 (dk_at dksX4_inverse_1 21 rfl rfl)
theorem dX4_inverse_47 : decode cX4_inverse 47 = .ok (.lload 6, 2) := dk_22 6 (dk_at dksX4_inverse_2 0 rfl rfl)
theorem dX4_inverse_49 : decode cX4_inverse 49 = .ok (.lload 6, 2) := dk_22 6 (dk_at dksX4_inverse_2 2 rfl rfl)
theorem dX4_inverse_51 : decode cX4_inverse 51 = .ok (.lmul, 1) := dk_105 (dk_at dksX4_inverse_2 4 rfl rfl)
theorem dX4_inverse_52 : decode cX4_inverse 52 = .ok (.lload_n 2, 1) := dk_32 (dk_at dksX4_inverse_2 5 rfl rfl)
theorem dX4_inverse_53 : decode cX4_inverse 53 = .ok (.lrem, 1) := dk_113 (dk_at dksX4_inverse_2 6 rfl rfl)
theorem dX4_inverse_54 : decode cX4_inverse 54 = .ok (.lstore 6, 2) := dk_55 6 (dk_at dksX4_inverse_2 7 rfl rfl)
theorem dX4_inverse_56 : decode cX4_inverse 56 = .ok (.lload 8, 2) := dk_22 8 (dk_at dksX4_inverse_2 9 rfl rfl)
theorem dX4_inverse_58 : decode cX4_inverse 58 = .ok (.ldc2_w 421, 3) := dk_20 1 165 (dk_at dksX4_inverse_2 11 rfl rfl)
theorem dX4_inverse_61 : decode cX4_inverse 61 = .ok (.ldiv, 1) := dk_109 (dk_at dksX4_inverse_2 14 rfl rfl)
theorem dX4_inverse_62 : decode cX4_inverse 62 = .ok (.lstore 8, 2) := dk_55 8 (dk_at dksX4_inverse_2 15 rfl rfl)
theorem dX4_inverse_64 : decode cX4_inverse 64 = .ok (.goto (-49), 3) := dk_167 255 207 (dk_at dksX4_inverse_2 17 rfl rfl)
theorem dX4_inverse_67 : decode cX4_inverse 67 = .ok (.lload 4, 2) := dk_22 4 (dk_at dksX4_inverse_2 20 rfl rfl)
theorem dX4_inverse_69 : decode cX4_inverse 69 = .ok (.lreturn, 1) := dk_173 (dk_at dksX4_inverse_2 22 rfl rfl)
abbrev cX4_timesPlus : ByteArray := prog_23_method_55_code
def yX4_timesPlus : MethodName := ⟨RX4, "timesPlus", "(JJ)V"⟩
def dkwX4_timesPlus_2 : List UInt8 := [132, 7, 1, 167, 255, 211, 177]
abbrev dktX4_timesPlus_2 : List UInt8 := dkwX4_timesPlus_2 ++ []
def dkwX4_timesPlus_1 : List UInt8 := [97, 55, 8, 42, 180, 0, 109, 21, 7, 22, 8, 20, 1, 179, 113, 80, 22, 8, 20, 1, 179, 109, 55, 5]
abbrev dktX4_timesPlus_1 : List UInt8 := dkwX4_timesPlus_1 ++ dktX4_timesPlus_2
def dkwX4_timesPlus_0 : List UInt8 := [33, 55, 5, 3, 54, 7, 21, 7, 16, 7, 162, 0, 44, 42, 180, 0, 109, 21, 7, 47, 31, 105, 22, 5]
abbrev dktX4_timesPlus_0 : List UInt8 := dkwX4_timesPlus_0 ++ dktX4_timesPlus_1
theorem dksX4_timesPlus_0 : cX4_timesPlus.data.toList.drop 0 = dktX4_timesPlus_0 := by decide +kernel
theorem dksX4_timesPlus_1 : cX4_timesPlus.data.toList.drop 24 = dktX4_timesPlus_1 := dk_seg dksX4_timesPlus_0 24 rfl rfl
theorem dksX4_timesPlus_2 : cX4_timesPlus.data.toList.drop 48 = dktX4_timesPlus_2 := dk_seg dksX4_timesPlus_1 24 rfl rfl
theorem dX4_timesPlus_0 : decode cX4_timesPlus 0 = .ok (.lload_n 3, 1) := dk_33 (dk_at dksX4_timesPlus_0 0 rfl rfl)
theorem dX4_timesPlus_1 : decode cX4_timesPlus 1 = .ok (.lstore 5, 2) := dk_55 5 (dk_at dksX4_timesPlus_0 1 rfl rfl)
theorem dX4_timesPlus_3 : decode cX4_timesPlus 3 = .ok (.iconst 0, 1) := dk_3 (dk_at dksX4_timesPlus_0 3 rfl rfl)
theorem dX4_timesPlus_4 : decode cX4_timesPlus 4 = .ok (.istore 7, 2) := dk_54 7 (dk_at dksX4_timesPlus_0 4 rfl rfl)
theorem dX4_timesPlus_6 : decode cX4_timesPlus 6 = .ok (.iload 7, 2) := dk_21 7 (dk_at dksX4_timesPlus_0 6 rfl rfl)
theorem dX4_timesPlus_8 : decode cX4_timesPlus 8 = .ok (.bipush 7, 2) := dk_16 7 (dk_at dksX4_timesPlus_0 8 rfl rfl)
theorem dX4_timesPlus_10 : decode cX4_timesPlus 10 = .ok (.if_icmp .ge 44, 3) := dk_162 0 44 (dk_at dksX4_timesPlus_0 10 rfl rfl)
theorem dX4_timesPlus_13 : decode cX4_timesPlus 13 = .ok (.aload_n 0, 1) := dk_42 (dk_at dksX4_timesPlus_0 13 rfl rfl)
theorem dX4_timesPlus_14 : decode cX4_timesPlus 14 = .ok (.getfield 109, 3) := dk_180 0 109 (dk_at dksX4_timesPlus_0 14 rfl rfl)
theorem dX4_timesPlus_17 : decode cX4_timesPlus 17 = .ok (.iload 7, 2) := dk_21 7 (dk_at dksX4_timesPlus_0 17 rfl rfl)
theorem dX4_timesPlus_19 : decode cX4_timesPlus 19 = .ok (.laload, 1) := dk_47 (dk_at dksX4_timesPlus_0 19 rfl rfl)
theorem dX4_timesPlus_20 : decode cX4_timesPlus 20 = .ok (.lload_n 1, 1) := dk_31 (dk_at dksX4_timesPlus_0 20 rfl rfl)
theorem dX4_timesPlus_21 : decode cX4_timesPlus 21 = .ok (.lmul, 1) := dk_105 (dk_at dksX4_timesPlus_0 21 rfl rfl)
theorem dX4_timesPlus_22 : decode cX4_timesPlus 22 = .ok (.lload 5, 2) := dk_22 5 (dk_at dksX4_timesPlus_0 22 rfl rfl)
theorem dX4_timesPlus_24 : decode cX4_timesPlus 24 = .ok (.ladd, 1) := dk_97 (dk_at dksX4_timesPlus_1 0 rfl rfl)
theorem dX4_timesPlus_25 : decode cX4_timesPlus 25 = .ok (.lstore 8, 2) := dk_55 8 (dk_at dksX4_timesPlus_1 1 rfl rfl)
theorem dX4_timesPlus_27 : decode cX4_timesPlus 27 = .ok (.aload_n 0, 1) := dk_42 (dk_at dksX4_timesPlus_1 3 rfl rfl)
theorem dX4_timesPlus_28 : decode cX4_timesPlus 28 = .ok (.getfield 109, 3) := dk_180 0 109 (dk_at dksX4_timesPlus_1 4 rfl rfl)
theorem dX4_timesPlus_31 : decode cX4_timesPlus 31 = .ok (.iload 7, 2) := dk_21 7 (dk_at dksX4_timesPlus_1 7 rfl rfl)
theorem dX4_timesPlus_33 : decode cX4_timesPlus 33 = .ok (.lload 8, 2) := dk_22 8 (dk_at dksX4_timesPlus_1 9 rfl rfl)
theorem dX4_timesPlus_35 : decode cX4_timesPlus 35 = .ok (.ldc2_w 435, 3) := dk_20 1 179 (dk_at dksX4_timesPlus_1 11 rfl rfl)
theorem dX4_timesPlus_38 : decode cX4_timesPlus 38 = .ok (.lrem, 1) := dk_113 (dk_at dksX4_timesPlus_1 14 rfl rfl)
theorem dX4_timesPlus_39 : decode cX4_timesPlus 39 = .ok (.lastore, 1) := dk_80 (dk_at dksX4_timesPlus_1 15 rfl rfl)
theorem dX4_timesPlus_40 : decode cX4_timesPlus 40 = .ok (.lload 8, 2) := dk_22 8 (dk_at dksX4_timesPlus_1 16 rfl rfl)
theorem dX4_timesPlus_42 : decode cX4_timesPlus 42 = .ok (.ldc2_w 435, 3) := dk_20 1 179 (dk_at dksX4_timesPlus_1 18 rfl rfl)
theorem dX4_timesPlus_45 : decode cX4_timesPlus 45 = .ok (.ldiv, 1) := dk_109 (dk_at dksX4_timesPlus_1 21 rfl rfl)
theorem dX4_timesPlus_46 : decode cX4_timesPlus 46 = .ok (.lstore 5, 2) := dk_55 5 (dk_at dksX4_timesPlus_1 22 rfl rfl)
theorem dX4_timesPlus_48 : decode cX4_timesPlus 48 = .ok (.iinc 7 1, 3) := dk_132 7 1 (dk_at dksX4_timesPlus_2 0 rfl rfl)
theorem dX4_timesPlus_51 : decode cX4_timesPlus 51 = .ok (.goto (-45), 3) := dk_167 255 211 (dk_at dksX4_timesPlus_2 3 rfl rfl)
theorem dX4_timesPlus_54 : decode cX4_timesPlus 54 = .ok (.return_, 1) := dk_177 (dk_at dksX4_timesPlus_2 6 rfl rfl)
abbrev cX4_sense : ByteArray := prog_23_method_63_code
def yX4_sense : MethodName := ⟨RX4, "sense", "(II)I"⟩
def dkwX4_sense_1 : List UInt8 := [42, 180, 0, 112, 28, 46, 167, 0, 4, 2, 172]
abbrev dktX4_sense_1 : List UInt8 := dkwX4_sense_1 ++ []
def dkwX4_sense_0 : List UInt8 := [28, 3, 42, 180, 0, 7, 5, 46, 4, 100, 184, 0, 199, 153, 0, 20, 42, 27, 182, 1, 215, 153, 0, 12]
abbrev dktX4_sense_0 : List UInt8 := dkwX4_sense_0 ++ dktX4_sense_1
theorem dksX4_sense_0 : cX4_sense.data.toList.drop 0 = dktX4_sense_0 := by decide +kernel
theorem dksX4_sense_1 : cX4_sense.data.toList.drop 24 = dktX4_sense_1 := dk_seg dksX4_sense_0 24 rfl rfl
theorem dX4_sense_0 : decode cX4_sense 0 = .ok (.iload_n 2, 1) := dk_28 (dk_at dksX4_sense_0 0 rfl rfl)
theorem dX4_sense_1 : decode cX4_sense 1 = .ok (.iconst 0, 1) := dk_3 (dk_at dksX4_sense_0 1 rfl rfl)
theorem dX4_sense_2 : decode cX4_sense 2 = .ok (.aload_n 0, 1) := dk_42 (dk_at dksX4_sense_0 2 rfl rfl)
theorem dX4_sense_3 : decode cX4_sense 3 = .ok (.getfield 7, 3) := dk_180 0 7 (dk_at dksX4_sense_0 3 rfl rfl)
theorem dX4_sense_6 : decode cX4_sense 6 = .ok (.iconst 2, 1) := dk_5 (dk_at dksX4_sense_0 6 rfl rfl)
theorem dX4_sense_7 : decode cX4_sense 7 = .ok (.iaload, 1) := dk_46 (dk_at dksX4_sense_0 7 rfl rfl)
theorem dX4_sense_8 : decode cX4_sense 8 = .ok (.iconst 1, 1) := dk_4 (dk_at dksX4_sense_0 8 rfl rfl)
theorem dX4_sense_9 : decode cX4_sense 9 = .ok (.isub, 1) := dk_100 (dk_at dksX4_sense_0 9 rfl rfl)
theorem dX4_sense_10 : decode cX4_sense 10 = .ok (.invokestatic 199, 3) := dk_184 0 199 (dk_at dksX4_sense_0 10 rfl rfl)
theorem dX4_sense_13 : decode cX4_sense 13 = .ok (.ifCond .eq 20, 3) := dk_153 0 20 (dk_at dksX4_sense_0 13 rfl rfl)
theorem dX4_sense_16 : decode cX4_sense 16 = .ok (.aload_n 0, 1) := dk_42 (dk_at dksX4_sense_0 16 rfl rfl)
theorem dX4_sense_17 : decode cX4_sense 17 = .ok (.iload_n 1, 1) := dk_27 (dk_at dksX4_sense_0 17 rfl rfl)
theorem dX4_sense_18 : decode cX4_sense 18 = .ok (.invokevirtual 471, 3) := dk_182 1 215 (dk_at dksX4_sense_0 18 rfl rfl)
theorem dX4_sense_21 : decode cX4_sense 21 = .ok (.ifCond .eq 12, 3) := dk_153 0 12 (dk_at dksX4_sense_0 21 rfl rfl)
theorem dX4_sense_24 : decode cX4_sense 24 = .ok (.aload_n 0, 1) := dk_42 (dk_at dksX4_sense_1 0 rfl rfl)
theorem dX4_sense_25 : decode cX4_sense 25 = .ok (.getfield 112, 3) := dk_180 0 112 (dk_at dksX4_sense_1 1 rfl rfl)
theorem dX4_sense_28 : decode cX4_sense 28 = .ok (.iload_n 2, 1) := dk_28 (dk_at dksX4_sense_1 4 rfl rfl)
theorem dX4_sense_29 : decode cX4_sense 29 = .ok (.iaload, 1) := dk_46 (dk_at dksX4_sense_1 5 rfl rfl)
theorem dX4_sense_30 : decode cX4_sense 30 = .ok (.goto 4, 3) := dk_167 0 4 (dk_at dksX4_sense_1 6 rfl rfl)
theorem dX4_sense_33 : decode cX4_sense 33 = .ok (.iconst (-1), 1) := dk_2 (dk_at dksX4_sense_1 9 rfl rfl)
theorem dX4_sense_34 : decode cX4_sense 34 = .ok (.ireturn, 1) := dk_172 (dk_at dksX4_sense_1 10 rfl rfl)
abbrev cX4_reads : ByteArray := prog_23_method_61_code
def yX4_reads : MethodName := ⟨RX4, "reads", "(I)Z"⟩
def dkwX4_reads_0 : List UInt8 := [42, 9, 182, 1, 184, 42, 27, 182, 1, 199, 172]
abbrev dktX4_reads_0 : List UInt8 := dkwX4_reads_0 ++ []
theorem dksX4_reads_0 : cX4_reads.data.toList.drop 0 = dktX4_reads_0 := by decide +kernel
theorem dX4_reads_0 : decode cX4_reads 0 = .ok (.aload_n 0, 1) := dk_42 (dk_at dksX4_reads_0 0 rfl rfl)
theorem dX4_reads_1 : decode cX4_reads 1 = .ok (.lconst 0, 1) := dk_9 (dk_at dksX4_reads_0 1 rfl rfl)
theorem dX4_reads_2 : decode cX4_reads 2 = .ok (.invokevirtual 440, 3) := dk_182 1 184 (dk_at dksX4_reads_0 2 rfl rfl)
theorem dX4_reads_5 : decode cX4_reads 5 = .ok (.aload_n 0, 1) := dk_42 (dk_at dksX4_reads_0 5 rfl rfl)
theorem dX4_reads_6 : decode cX4_reads 6 = .ok (.iload_n 1, 1) := dk_27 (dk_at dksX4_reads_0 6 rfl rfl)
theorem dX4_reads_7 : decode cX4_reads 7 = .ok (.invokevirtual 455, 3) := dk_182 1 199 (dk_at dksX4_reads_0 7 rfl rfl)
theorem dX4_reads_10 : decode cX4_reads 10 = .ok (.ireturn, 1) := dk_172 (dk_at dksX4_reads_0 10 rfl rfl)
abbrev cX4_finds : ByteArray := prog_23_method_62_code
def yX4_finds : MethodName := ⟨RX4, "finds", "(I)Z"⟩
def dkwX4_finds_13 : List UInt8 := [132, 8, 1, 167, 255, 38, 132, 5, 255, 167, 255, 10, 4, 172]
abbrev dktX4_finds_13 : List UInt8 := dkwX4_finds_13 ++ []
def dkwX4_finds_12 : List UInt8 := [21, 5, 21, 10, 79, 28, 21, 11, 96, 61, 167, 0, 8, 33, 22, 12, 101, 66, 132, 10, 1, 167, 255, 102]
abbrev dktX4_finds_12 : List UInt8 := dkwX4_finds_12 ++ dktX4_finds_13
def dkwX4_finds_11 : List UInt8 := [22, 12, 148, 156, 0, 33, 21, 8, 54, 7, 42, 180, 0, 112, 21, 5, 21, 8, 79, 42, 180, 0, 115]
abbrev dktX4_finds_11 : List UInt8 := dkwX4_finds_11 ++ dktX4_finds_12
def dkwX4_finds_10 : List UInt8 := [132, 14, 1, 167, 255, 217, 42, 180, 0, 121, 16, 25, 28, 21, 11, 96, 104, 21, 5, 96, 47, 55, 12, 33]
abbrev dktX4_finds_10 : List UInt8 := dkwX4_finds_10 ++ dktX4_finds_11
def dkwX4_finds_9 : List UInt8 := [21, 14, 96, 42, 21, 9, 21, 10, 21, 14, 182, 1, 208, 79, 42, 28, 21, 14, 96, 4, 96, 182, 1, 212]
abbrev dktX4_finds_9 : List UInt8 := dkwX4_finds_9 ++ dktX4_finds_10
def dkwX4_finds_8 : List UInt8 := [21, 11, 96, 21, 5, 163, 0, 65, 3, 54, 14, 21, 14, 21, 11, 162, 0, 38, 42, 180, 0, 118, 28]
abbrev dktX4_finds_8 : List UInt8 := dkwX4_finds_8 ++ dktX4_finds_9
def dkwX4_finds_7 : List UInt8 := [21, 7, 2, 160, 0, 139, 42, 180, 0, 39, 21, 9, 46, 21, 10, 184, 1, 205, 54, 11, 9, 55, 12, 28]
abbrev dktX4_finds_7 : List UInt8 := dkwX4_finds_7 ++ dktX4_finds_8
def dkwX4_finds_6 : List UInt8 := [21, 6, 160, 0, 163, 4, 54, 10, 21, 10, 42, 180, 0, 39, 21, 9, 46, 184, 1, 202, 163, 0, 145]
abbrev dktX4_finds_6 : List UInt8 := dkwX4_finds_6 ++ dktX4_finds_7
def dkwX4_finds_5 : List UInt8 := [21, 9, 46, 42, 180, 0, 7, 16, 10, 21, 5, 96, 46, 160, 0, 175, 42, 180, 0, 48, 21, 9, 46]
abbrev dktX4_finds_5 : List UInt8 := dkwX4_finds_5 ++ dktX4_finds_6
def dkwX4_finds_4 : List UInt8 := [182, 1, 153, 162, 0, 215, 21, 7, 2, 160, 0, 209, 42, 21, 8, 182, 1, 156, 54, 9, 42, 180, 0, 36]
abbrev dktX4_finds_4 : List UInt8 := dkwX4_finds_4 ++ dktX4_finds_5
def dkwX4_finds_3 : List UInt8 := [155, 0, 247, 132, 2, 255, 42, 180, 0, 118, 28, 46, 54, 6, 2, 54, 7, 3, 54, 8, 21, 8, 42]
abbrev dktX4_finds_3 : List UInt8 := dkwX4_finds_3 ++ dktX4_finds_4
def dkwX4_finds_2 : List UInt8 := [180, 0, 118, 3, 3, 79, 4, 61, 27, 133, 66, 42, 180, 0, 7, 5, 46, 4, 100, 54, 5, 21, 5]
abbrev dktX4_finds_2 : List UInt8 := dkwX4_finds_2 ++ dktX4_finds_3
def dkwX4_finds_1 : List UInt8 := [42, 180, 0, 121, 28, 28, 154, 0, 7, 10, 167, 0, 4, 9, 80, 132, 2, 1, 167, 255, 232, 42]
abbrev dktX4_finds_1 : List UInt8 := dkwX4_finds_1 ++ dktX4_finds_2
def dkwX4_finds_0 : List UInt8 := [27, 155, 0, 13, 27, 133, 42, 182, 1, 188, 148, 155, 0, 5, 3, 172, 3, 61, 28, 16, 25, 162, 0, 24]
abbrev dktX4_finds_0 : List UInt8 := dkwX4_finds_0 ++ dktX4_finds_1
theorem dksX4_finds_0 : cX4_finds.data.toList.drop 0 = dktX4_finds_0 := by decide +kernel
theorem dksX4_finds_1 : cX4_finds.data.toList.drop 24 = dktX4_finds_1 := dk_seg dksX4_finds_0 24 rfl rfl
theorem dksX4_finds_2 : cX4_finds.data.toList.drop 46 = dktX4_finds_2 := dk_seg dksX4_finds_1 22 rfl rfl
theorem dksX4_finds_3 : cX4_finds.data.toList.drop 69 = dktX4_finds_3 := dk_seg dksX4_finds_2 23 rfl rfl
theorem dksX4_finds_4 : cX4_finds.data.toList.drop 92 = dktX4_finds_4 := dk_seg dksX4_finds_3 23 rfl rfl
theorem dksX4_finds_5 : cX4_finds.data.toList.drop 116 = dktX4_finds_5 := dk_seg dksX4_finds_4 24 rfl rfl
theorem dksX4_finds_6 : cX4_finds.data.toList.drop 139 = dktX4_finds_6 := dk_seg dksX4_finds_5 23 rfl rfl
theorem dksX4_finds_7 : cX4_finds.data.toList.drop 162 = dktX4_finds_7 := dk_seg dksX4_finds_6 23 rfl rfl
theorem dksX4_finds_8 : cX4_finds.data.toList.drop 186 = dktX4_finds_8 := dk_seg dksX4_finds_7 24 rfl rfl
theorem dksX4_finds_9 : cX4_finds.data.toList.drop 209 = dktX4_finds_9 := dk_seg dksX4_finds_8 23 rfl rfl
theorem dksX4_finds_10 : cX4_finds.data.toList.drop 233 = dktX4_finds_10 := dk_seg dksX4_finds_9 24 rfl rfl
theorem dksX4_finds_11 : cX4_finds.data.toList.drop 257 = dktX4_finds_11 := dk_seg dksX4_finds_10 24 rfl rfl
theorem dksX4_finds_12 : cX4_finds.data.toList.drop 280 = dktX4_finds_12 := dk_seg dksX4_finds_11 23 rfl rfl
theorem dksX4_finds_13 : cX4_finds.data.toList.drop 304 = dktX4_finds_13 := dk_seg dksX4_finds_12 24 rfl rfl
theorem dX4_finds_0 : decode cX4_finds 0 = .ok (.iload_n 1, 1) := dk_27 (dk_at dksX4_finds_0 0 rfl rfl)
theorem dX4_finds_1 : decode cX4_finds 1 = .ok (.ifCond .lt 13, 3) := dk_155 0 13 (dk_at dksX4_finds_0 1 rfl rfl)
theorem dX4_finds_4 : decode cX4_finds 4 = .ok (.iload_n 1, 1) := dk_27 (dk_at dksX4_finds_0 4 rfl rfl)
theorem dX4_finds_5 : decode cX4_finds 5 = .ok (.i2l, 1) := dk_133 (dk_at dksX4_finds_0 5 rfl rfl)
theorem dX4_finds_6 : decode cX4_finds 6 = .ok (.aload_n 0, 1) := dk_42 (dk_at dksX4_finds_0 6 rfl rfl)
theorem dX4_finds_7 : decode cX4_finds 7 = .ok (.invokevirtual 444, 3) := dk_182 1 188 (dk_at dksX4_finds_0 7 rfl rfl)
theorem dX4_finds_10 : decode cX4_finds 10 = .ok (.lcmp, 1) := dk_148 (dk_at dksX4_finds_0 10 rfl rfl)
theorem dX4_finds_11 : decode cX4_finds 11 = .ok (.ifCond .lt 5, 3) := dk_155 0 5 (dk_at dksX4_finds_0 11 rfl rfl)
theorem dX4_finds_14 : decode cX4_finds 14 = .ok (.iconst 0, 1) := dk_3 (dk_at dksX4_finds_0 14 rfl rfl)
theorem dX4_finds_15 : decode cX4_finds 15 = .ok (.ireturn, 1) := dk_172 (dk_at dksX4_finds_0 15 rfl rfl)
theorem dX4_finds_16 : decode cX4_finds 16 = .ok (.iconst 0, 1) := dk_3 (dk_at dksX4_finds_0 16 rfl rfl)
theorem dX4_finds_17 : decode cX4_finds 17 = .ok (.istore_n 2, 1) := dk_61 (dk_at dksX4_finds_0 17 rfl rfl)
theorem dX4_finds_18 : decode cX4_finds 18 = .ok (.iload_n 2, 1) := dk_28 (dk_at dksX4_finds_0 18 rfl rfl)
theorem dX4_finds_19 : decode cX4_finds 19 = .ok (.bipush 25, 2) := dk_16 25 (dk_at dksX4_finds_0 19 rfl rfl)
theorem dX4_finds_21 : decode cX4_finds 21 = .ok (.if_icmp .ge 24, 3) := dk_162 0 24 (dk_at dksX4_finds_0 21 rfl rfl)
theorem dX4_finds_24 : decode cX4_finds 24 = .ok (.aload_n 0, 1) := dk_42 (dk_at dksX4_finds_1 0 rfl rfl)
theorem dX4_finds_25 : decode cX4_finds 25 = .ok (.getfield 121, 3) := dk_180 0 121 (dk_at dksX4_finds_1 1 rfl rfl)
theorem dX4_finds_28 : decode cX4_finds 28 = .ok (.iload_n 2, 1) := dk_28 (dk_at dksX4_finds_1 4 rfl rfl)
theorem dX4_finds_29 : decode cX4_finds 29 = .ok (.iload_n 2, 1) := dk_28 (dk_at dksX4_finds_1 5 rfl rfl)
theorem dX4_finds_30 : decode cX4_finds 30 = .ok (.ifCond .ne 7, 3) := dk_154 0 7 (dk_at dksX4_finds_1 6 rfl rfl)
theorem dX4_finds_33 : decode cX4_finds 33 = .ok (.lconst 1, 1) := dk_10 (dk_at dksX4_finds_1 9 rfl rfl)
theorem dX4_finds_34 : decode cX4_finds 34 = .ok (.goto 4, 3) := dk_167 0 4 (dk_at dksX4_finds_1 10 rfl rfl)
theorem dX4_finds_37 : decode cX4_finds 37 = .ok (.lconst 0, 1) := dk_9 (dk_at dksX4_finds_1 13 rfl rfl)
theorem dX4_finds_38 : decode cX4_finds 38 = .ok (.lastore, 1) := dk_80 (dk_at dksX4_finds_1 14 rfl rfl)
theorem dX4_finds_39 : decode cX4_finds 39 = .ok (.iinc 2 1, 3) := dk_132 2 1 (dk_at dksX4_finds_1 15 rfl rfl)
theorem dX4_finds_42 : decode cX4_finds 42 = .ok (.goto (-24), 3) := dk_167 255 232 (dk_at dksX4_finds_1 18 rfl rfl)
theorem dX4_finds_45 : decode cX4_finds 45 = .ok (.aload_n 0, 1) := dk_42 (dk_at dksX4_finds_1 21 rfl rfl)
theorem dX4_finds_46 : decode cX4_finds 46 = .ok (.getfield 118, 3) := dk_180 0 118 (dk_at dksX4_finds_2 0 rfl rfl)
theorem dX4_finds_49 : decode cX4_finds 49 = .ok (.iconst 0, 1) := dk_3 (dk_at dksX4_finds_2 3 rfl rfl)
theorem dX4_finds_50 : decode cX4_finds 50 = .ok (.iconst 0, 1) := dk_3 (dk_at dksX4_finds_2 4 rfl rfl)
theorem dX4_finds_51 : decode cX4_finds 51 = .ok (.iastore, 1) := dk_79 (dk_at dksX4_finds_2 5 rfl rfl)
theorem dX4_finds_52 : decode cX4_finds 52 = .ok (.iconst 1, 1) := dk_4 (dk_at dksX4_finds_2 6 rfl rfl)
theorem dX4_finds_53 : decode cX4_finds 53 = .ok (.istore_n 2, 1) := dk_61 (dk_at dksX4_finds_2 7 rfl rfl)
theorem dX4_finds_54 : decode cX4_finds 54 = .ok (.iload_n 1, 1) := dk_27 (dk_at dksX4_finds_2 8 rfl rfl)
theorem dX4_finds_55 : decode cX4_finds 55 = .ok (.i2l, 1) := dk_133 (dk_at dksX4_finds_2 9 rfl rfl)
theorem dX4_finds_56 : decode cX4_finds 56 = .ok (.lstore_n 3, 1) := dk_66 (dk_at dksX4_finds_2 10 rfl rfl)
theorem dX4_finds_57 : decode cX4_finds 57 = .ok (.aload_n 0, 1) := dk_42 (dk_at dksX4_finds_2 11 rfl rfl)
theorem dX4_finds_58 : decode cX4_finds 58 = .ok (.getfield 7, 3) := dk_180 0 7 (dk_at dksX4_finds_2 12 rfl rfl)
theorem dX4_finds_61 : decode cX4_finds 61 = .ok (.iconst 2, 1) := dk_5 (dk_at dksX4_finds_2 15 rfl rfl)
theorem dX4_finds_62 : decode cX4_finds 62 = .ok (.iaload, 1) := dk_46 (dk_at dksX4_finds_2 16 rfl rfl)
theorem dX4_finds_63 : decode cX4_finds 63 = .ok (.iconst 1, 1) := dk_4 (dk_at dksX4_finds_2 17 rfl rfl)
theorem dX4_finds_64 : decode cX4_finds 64 = .ok (.isub, 1) := dk_100 (dk_at dksX4_finds_2 18 rfl rfl)
theorem dX4_finds_65 : decode cX4_finds 65 = .ok (.istore 5, 2) := dk_54 5 (dk_at dksX4_finds_2 19 rfl rfl)
theorem dX4_finds_67 : decode cX4_finds 67 = .ok (.iload 5, 2) := dk_21 5 (dk_at dksX4_finds_2 21 rfl rfl)
theorem dX4_finds_69 : decode cX4_finds 69 = .ok (.ifCond .lt 247, 3) := dk_155 0 247 (dk_at dksX4_finds_3 0 rfl rfl)
theorem dX4_finds_72 : decode cX4_finds 72 = .ok (.iinc 2 (-1), 3) := dk_132 2 255 (dk_at dksX4_finds_3 3 rfl rfl)
theorem dX4_finds_75 : decode cX4_finds 75 = .ok (.aload_n 0, 1) := dk_42 (dk_at dksX4_finds_3 6 rfl rfl)
theorem dX4_finds_76 : decode cX4_finds 76 = .ok (.getfield 118, 3) := dk_180 0 118 (dk_at dksX4_finds_3 7 rfl rfl)
theorem dX4_finds_79 : decode cX4_finds 79 = .ok (.iload_n 2, 1) := dk_28 (dk_at dksX4_finds_3 10 rfl rfl)
theorem dX4_finds_80 : decode cX4_finds 80 = .ok (.iaload, 1) := dk_46 (dk_at dksX4_finds_3 11 rfl rfl)
theorem dX4_finds_81 : decode cX4_finds 81 = .ok (.istore 6, 2) := dk_54 6 (dk_at dksX4_finds_3 12 rfl rfl)
theorem dX4_finds_83 : decode cX4_finds 83 = .ok (.iconst (-1), 1) := dk_2 (dk_at dksX4_finds_3 14 rfl rfl)
theorem dX4_finds_84 : decode cX4_finds 84 = .ok (.istore 7, 2) := dk_54 7 (dk_at dksX4_finds_3 15 rfl rfl)
theorem dX4_finds_86 : decode cX4_finds 86 = .ok (.iconst 0, 1) := dk_3 (dk_at dksX4_finds_3 17 rfl rfl)
theorem dX4_finds_87 : decode cX4_finds 87 = .ok (.istore 8, 2) := dk_54 8 (dk_at dksX4_finds_3 18 rfl rfl)
theorem dX4_finds_89 : decode cX4_finds 89 = .ok (.iload 8, 2) := dk_21 8 (dk_at dksX4_finds_3 20 rfl rfl)
theorem dX4_finds_91 : decode cX4_finds 91 = .ok (.aload_n 0, 1) := dk_42 (dk_at dksX4_finds_3 22 rfl rfl)
theorem dX4_finds_92 : decode cX4_finds 92 = .ok (.invokevirtual 409, 3) := dk_182 1 153 (dk_at dksX4_finds_4 0 rfl rfl)
theorem dX4_finds_95 : decode cX4_finds 95 = .ok (.if_icmp .ge 215, 3) := dk_162 0 215 (dk_at dksX4_finds_4 3 rfl rfl)
theorem dX4_finds_98 : decode cX4_finds 98 = .ok (.iload 7, 2) := dk_21 7 (dk_at dksX4_finds_4 6 rfl rfl)
theorem dX4_finds_100 : decode cX4_finds 100 = .ok (.iconst (-1), 1) := dk_2 (dk_at dksX4_finds_4 8 rfl rfl)
theorem dX4_finds_101 : decode cX4_finds 101 = .ok (.if_icmp .ne 209, 3) := dk_160 0 209 (dk_at dksX4_finds_4 9 rfl rfl)
theorem dX4_finds_104 : decode cX4_finds 104 = .ok (.aload_n 0, 1) := dk_42 (dk_at dksX4_finds_4 12 rfl rfl)
theorem dX4_finds_105 : decode cX4_finds 105 = .ok (.iload 8, 2) := dk_21 8 (dk_at dksX4_finds_4 13 rfl rfl)
theorem dX4_finds_107 : decode cX4_finds 107 = .ok (.invokevirtual 412, 3) := dk_182 1 156 (dk_at dksX4_finds_4 15 rfl rfl)
theorem dX4_finds_110 : decode cX4_finds 110 = .ok (.istore 9, 2) := dk_54 9 (dk_at dksX4_finds_4 18 rfl rfl)
theorem dX4_finds_112 : decode cX4_finds 112 = .ok (.aload_n 0, 1) := dk_42 (dk_at dksX4_finds_4 20 rfl rfl)
theorem dX4_finds_113 : decode cX4_finds 113 = .ok (.getfield 36, 3) := dk_180 0 36 (dk_at dksX4_finds_4 21 rfl rfl)
theorem dX4_finds_116 : decode cX4_finds 116 = .ok (.iload 9, 2) := dk_21 9 (dk_at dksX4_finds_5 0 rfl rfl)
theorem dX4_finds_118 : decode cX4_finds 118 = .ok (.iaload, 1) := dk_46 (dk_at dksX4_finds_5 2 rfl rfl)
theorem dX4_finds_119 : decode cX4_finds 119 = .ok (.aload_n 0, 1) := dk_42 (dk_at dksX4_finds_5 3 rfl rfl)
theorem dX4_finds_120 : decode cX4_finds 120 = .ok (.getfield 7, 3) := dk_180 0 7 (dk_at dksX4_finds_5 4 rfl rfl)
theorem dX4_finds_123 : decode cX4_finds 123 = .ok (.bipush 10, 2) := dk_16 10 (dk_at dksX4_finds_5 7 rfl rfl)
theorem dX4_finds_125 : decode cX4_finds 125 = .ok (.iload 5, 2) := dk_21 5 (dk_at dksX4_finds_5 9 rfl rfl)
theorem dX4_finds_127 : decode cX4_finds 127 = .ok (.iadd, 1) := dk_96 (dk_at dksX4_finds_5 11 rfl rfl)
theorem dX4_finds_128 : decode cX4_finds 128 = .ok (.iaload, 1) := dk_46 (dk_at dksX4_finds_5 12 rfl rfl)
theorem dX4_finds_129 : decode cX4_finds 129 = .ok (.if_icmp .ne 175, 3) := dk_160 0 175 (dk_at dksX4_finds_5 13 rfl rfl)
theorem dX4_finds_132 : decode cX4_finds 132 = .ok (.aload_n 0, 1) := dk_42 (dk_at dksX4_finds_5 16 rfl rfl)
theorem dX4_finds_133 : decode cX4_finds 133 = .ok (.getfield 48, 3) := dk_180 0 48 (dk_at dksX4_finds_5 17 rfl rfl)
theorem dX4_finds_136 : decode cX4_finds 136 = .ok (.iload 9, 2) := dk_21 9 (dk_at dksX4_finds_5 20 rfl rfl)
theorem dX4_finds_138 : decode cX4_finds 138 = .ok (.iaload, 1) := dk_46 (dk_at dksX4_finds_5 22 rfl rfl)
theorem dX4_finds_139 : decode cX4_finds 139 = .ok (.iload 6, 2) := dk_21 6 (dk_at dksX4_finds_6 0 rfl rfl)
theorem dX4_finds_141 : decode cX4_finds 141 = .ok (.if_icmp .ne 163, 3) := dk_160 0 163 (dk_at dksX4_finds_6 2 rfl rfl)
theorem dX4_finds_144 : decode cX4_finds 144 = .ok (.iconst 1, 1) := dk_4 (dk_at dksX4_finds_6 5 rfl rfl)
theorem dX4_finds_145 : decode cX4_finds 145 = .ok (.istore 10, 2) := dk_54 10 (dk_at dksX4_finds_6 6 rfl rfl)
theorem dX4_finds_147 : decode cX4_finds 147 = .ok (.iload 10, 2) := dk_21 10 (dk_at dksX4_finds_6 8 rfl rfl)
theorem dX4_finds_149 : decode cX4_finds 149 = .ok (.aload_n 0, 1) := dk_42 (dk_at dksX4_finds_6 10 rfl rfl)
theorem dX4_finds_150 : decode cX4_finds 150 = .ok (.getfield 39, 3) := dk_180 0 39 (dk_at dksX4_finds_6 11 rfl rfl)
theorem dX4_finds_153 : decode cX4_finds 153 = .ok (.iload 9, 2) := dk_21 9 (dk_at dksX4_finds_6 14 rfl rfl)
theorem dX4_finds_155 : decode cX4_finds 155 = .ok (.iaload, 1) := dk_46 (dk_at dksX4_finds_6 16 rfl rfl)
theorem dX4_finds_156 : decode cX4_finds 156 = .ok (.invokestatic 458, 3) := dk_184 1 202 (dk_at dksX4_finds_6 17 rfl rfl)
theorem dX4_finds_159 : decode cX4_finds 159 = .ok (.if_icmp .gt 145, 3) := dk_163 0 145 (dk_at dksX4_finds_6 20 rfl rfl)
theorem dX4_finds_162 : decode cX4_finds 162 = .ok (.iload 7, 2) := dk_21 7 (dk_at dksX4_finds_7 0 rfl rfl)
theorem dX4_finds_164 : decode cX4_finds 164 = .ok (.iconst (-1), 1) := dk_2 (dk_at dksX4_finds_7 2 rfl rfl)
theorem dX4_finds_165 : decode cX4_finds 165 = .ok (.if_icmp .ne 139, 3) := dk_160 0 139 (dk_at dksX4_finds_7 3 rfl rfl)
theorem dX4_finds_168 : decode cX4_finds 168 = .ok (.aload_n 0, 1) := dk_42 (dk_at dksX4_finds_7 6 rfl rfl)
theorem dX4_finds_169 : decode cX4_finds 169 = .ok (.getfield 39, 3) := dk_180 0 39 (dk_at dksX4_finds_7 7 rfl rfl)
theorem dX4_finds_172 : decode cX4_finds 172 = .ok (.iload 9, 2) := dk_21 9 (dk_at dksX4_finds_7 10 rfl rfl)
theorem dX4_finds_174 : decode cX4_finds 174 = .ok (.iaload, 1) := dk_46 (dk_at dksX4_finds_7 12 rfl rfl)
theorem dX4_finds_175 : decode cX4_finds 175 = .ok (.iload 10, 2) := dk_21 10 (dk_at dksX4_finds_7 13 rfl rfl)
theorem dX4_finds_177 : decode cX4_finds 177 = .ok (.invokestatic 461, 3) := dk_184 1 205 (dk_at dksX4_finds_7 15 rfl rfl)
theorem dX4_finds_180 : decode cX4_finds 180 = .ok (.istore 11, 2) := dk_54 11 (dk_at dksX4_finds_7 18 rfl rfl)
theorem dX4_finds_182 : decode cX4_finds 182 = .ok (.lconst 0, 1) := dk_9 (dk_at dksX4_finds_7 20 rfl rfl)
theorem dX4_finds_183 : decode cX4_finds 183 = .ok (.lstore 12, 2) := dk_55 12 (dk_at dksX4_finds_7 21 rfl rfl)
theorem dX4_finds_185 : decode cX4_finds 185 = .ok (.iload_n 2, 1) := dk_28 (dk_at dksX4_finds_7 23 rfl rfl)
theorem dX4_finds_186 : decode cX4_finds 186 = .ok (.iload 11, 2) := dk_21 11 (dk_at dksX4_finds_8 0 rfl rfl)
theorem dX4_finds_188 : decode cX4_finds 188 = .ok (.iadd, 1) := dk_96 (dk_at dksX4_finds_8 2 rfl rfl)
theorem dX4_finds_189 : decode cX4_finds 189 = .ok (.iload 5, 2) := dk_21 5 (dk_at dksX4_finds_8 3 rfl rfl)
theorem dX4_finds_191 : decode cX4_finds 191 = .ok (.if_icmp .gt 65, 3) := dk_163 0 65 (dk_at dksX4_finds_8 5 rfl rfl)
theorem dX4_finds_194 : decode cX4_finds 194 = .ok (.iconst 0, 1) := dk_3 (dk_at dksX4_finds_8 8 rfl rfl)
theorem dX4_finds_195 : decode cX4_finds 195 = .ok (.istore 14, 2) := dk_54 14 (dk_at dksX4_finds_8 9 rfl rfl)
theorem dX4_finds_197 : decode cX4_finds 197 = .ok (.iload 14, 2) := dk_21 14 (dk_at dksX4_finds_8 11 rfl rfl)
theorem dX4_finds_199 : decode cX4_finds 199 = .ok (.iload 11, 2) := dk_21 11 (dk_at dksX4_finds_8 13 rfl rfl)
theorem dX4_finds_201 : decode cX4_finds 201 = .ok (.if_icmp .ge 38, 3) := dk_162 0 38 (dk_at dksX4_finds_8 15 rfl rfl)
theorem dX4_finds_204 : decode cX4_finds 204 = .ok (.aload_n 0, 1) := dk_42 (dk_at dksX4_finds_8 18 rfl rfl)
theorem dX4_finds_205 : decode cX4_finds 205 = .ok (.getfield 118, 3) := dk_180 0 118 (dk_at dksX4_finds_8 19 rfl rfl)
theorem dX4_finds_208 : decode cX4_finds 208 = .ok (.iload_n 2, 1) := dk_28 (dk_at dksX4_finds_8 22 rfl rfl)
theorem dX4_finds_209 : decode cX4_finds 209 = .ok (.iload 14, 2) := dk_21 14 (dk_at dksX4_finds_9 0 rfl rfl)
theorem dX4_finds_211 : decode cX4_finds 211 = .ok (.iadd, 1) := dk_96 (dk_at dksX4_finds_9 2 rfl rfl)
theorem dX4_finds_212 : decode cX4_finds 212 = .ok (.aload_n 0, 1) := dk_42 (dk_at dksX4_finds_9 3 rfl rfl)
theorem dX4_finds_213 : decode cX4_finds 213 = .ok (.iload 9, 2) := dk_21 9 (dk_at dksX4_finds_9 4 rfl rfl)
theorem dX4_finds_215 : decode cX4_finds 215 = .ok (.iload 10, 2) := dk_21 10 (dk_at dksX4_finds_9 6 rfl rfl)
theorem dX4_finds_217 : decode cX4_finds 217 = .ok (.iload 14, 2) := dk_21 14 (dk_at dksX4_finds_9 8 rfl rfl)
theorem dX4_finds_219 : decode cX4_finds 219 = .ok (.invokevirtual 464, 3) := dk_182 1 208 (dk_at dksX4_finds_9 10 rfl rfl)
theorem dX4_finds_222 : decode cX4_finds 222 = .ok (.iastore, 1) := dk_79 (dk_at dksX4_finds_9 13 rfl rfl)
theorem dX4_finds_223 : decode cX4_finds 223 = .ok (.aload_n 0, 1) := dk_42 (dk_at dksX4_finds_9 14 rfl rfl)
theorem dX4_finds_224 : decode cX4_finds 224 = .ok (.iload_n 2, 1) := dk_28 (dk_at dksX4_finds_9 15 rfl rfl)
theorem dX4_finds_225 : decode cX4_finds 225 = .ok (.iload 14, 2) := dk_21 14 (dk_at dksX4_finds_9 16 rfl rfl)
theorem dX4_finds_227 : decode cX4_finds 227 = .ok (.iadd, 1) := dk_96 (dk_at dksX4_finds_9 18 rfl rfl)
theorem dX4_finds_228 : decode cX4_finds 228 = .ok (.iconst 1, 1) := dk_4 (dk_at dksX4_finds_9 19 rfl rfl)
theorem dX4_finds_229 : decode cX4_finds 229 = .ok (.iadd, 1) := dk_96 (dk_at dksX4_finds_9 20 rfl rfl)
theorem dX4_finds_230 : decode cX4_finds 230 = .ok (.invokevirtual 468, 3) := dk_182 1 212 (dk_at dksX4_finds_9 21 rfl rfl)
theorem dX4_finds_233 : decode cX4_finds 233 = .ok (.iinc 14 1, 3) := dk_132 14 1 (dk_at dksX4_finds_10 0 rfl rfl)
theorem dX4_finds_236 : decode cX4_finds 236 = .ok (.goto (-39), 3) := dk_167 255 217 (dk_at dksX4_finds_10 3 rfl rfl)
theorem dX4_finds_239 : decode cX4_finds 239 = .ok (.aload_n 0, 1) := dk_42 (dk_at dksX4_finds_10 6 rfl rfl)
theorem dX4_finds_240 : decode cX4_finds 240 = .ok (.getfield 121, 3) := dk_180 0 121 (dk_at dksX4_finds_10 7 rfl rfl)
theorem dX4_finds_243 : decode cX4_finds 243 = .ok (.bipush 25, 2) := dk_16 25 (dk_at dksX4_finds_10 10 rfl rfl)
theorem dX4_finds_245 : decode cX4_finds 245 = .ok (.iload_n 2, 1) := dk_28 (dk_at dksX4_finds_10 12 rfl rfl)
theorem dX4_finds_246 : decode cX4_finds 246 = .ok (.iload 11, 2) := dk_21 11 (dk_at dksX4_finds_10 13 rfl rfl)
theorem dX4_finds_248 : decode cX4_finds 248 = .ok (.iadd, 1) := dk_96 (dk_at dksX4_finds_10 15 rfl rfl)
theorem dX4_finds_249 : decode cX4_finds 249 = .ok (.imul, 1) := dk_104 (dk_at dksX4_finds_10 16 rfl rfl)
theorem dX4_finds_250 : decode cX4_finds 250 = .ok (.iload 5, 2) := dk_21 5 (dk_at dksX4_finds_10 17 rfl rfl)
theorem dX4_finds_252 : decode cX4_finds 252 = .ok (.iadd, 1) := dk_96 (dk_at dksX4_finds_10 19 rfl rfl)
theorem dX4_finds_253 : decode cX4_finds 253 = .ok (.laload, 1) := dk_47 (dk_at dksX4_finds_10 20 rfl rfl)
theorem dX4_finds_254 : decode cX4_finds 254 = .ok (.lstore 12, 2) := dk_55 12 (dk_at dksX4_finds_10 21 rfl rfl)
theorem dX4_finds_256 : decode cX4_finds 256 = .ok (.lload_n 3, 1) := dk_33 (dk_at dksX4_finds_10 23 rfl rfl)
theorem dX4_finds_257 : decode cX4_finds 257 = .ok (.lload 12, 2) := dk_22 12 (dk_at dksX4_finds_11 0 rfl rfl)
theorem dX4_finds_259 : decode cX4_finds 259 = .ok (.lcmp, 1) := dk_148 (dk_at dksX4_finds_11 2 rfl rfl)
theorem dX4_finds_260 : decode cX4_finds 260 = .ok (.ifCond .ge 33, 3) := dk_156 0 33 (dk_at dksX4_finds_11 3 rfl rfl)
theorem dX4_finds_263 : decode cX4_finds 263 = .ok (.iload 8, 2) := dk_21 8 (dk_at dksX4_finds_11 6 rfl rfl)
theorem dX4_finds_265 : decode cX4_finds 265 = .ok (.istore 7, 2) := dk_54 7 (dk_at dksX4_finds_11 8 rfl rfl)
theorem dX4_finds_267 : decode cX4_finds 267 = .ok (.aload_n 0, 1) := dk_42 (dk_at dksX4_finds_11 10 rfl rfl)
theorem dX4_finds_268 : decode cX4_finds 268 = .ok (.getfield 112, 3) := dk_180 0 112 (dk_at dksX4_finds_11 11 rfl rfl)
theorem dX4_finds_271 : decode cX4_finds 271 = .ok (.iload 5, 2) := dk_21 5 (dk_at dksX4_finds_11 14 rfl rfl)
theorem dX4_finds_273 : decode cX4_finds 273 = .ok (.iload 8, 2) := dk_21 8 (dk_at dksX4_finds_11 16 rfl rfl)
theorem dX4_finds_275 : decode cX4_finds 275 = .ok (.iastore, 1) := dk_79 (dk_at dksX4_finds_11 18 rfl rfl)
theorem dX4_finds_276 : decode cX4_finds 276 = .ok (.aload_n 0, 1) := dk_42 (dk_at dksX4_finds_11 19 rfl rfl)
theorem dX4_finds_277 : decode cX4_finds 277 = .ok (.getfield 115, 3) := dk_180 0 115 (dk_at dksX4_finds_11 20 rfl rfl)
theorem dX4_finds_280 : decode cX4_finds 280 = .ok (.iload 5, 2) := dk_21 5 (dk_at dksX4_finds_12 0 rfl rfl)
theorem dX4_finds_282 : decode cX4_finds 282 = .ok (.iload 10, 2) := dk_21 10 (dk_at dksX4_finds_12 2 rfl rfl)
theorem dX4_finds_284 : decode cX4_finds 284 = .ok (.iastore, 1) := dk_79 (dk_at dksX4_finds_12 4 rfl rfl)
theorem dX4_finds_285 : decode cX4_finds 285 = .ok (.iload_n 2, 1) := dk_28 (dk_at dksX4_finds_12 5 rfl rfl)
theorem dX4_finds_286 : decode cX4_finds 286 = .ok (.iload 11, 2) := dk_21 11 (dk_at dksX4_finds_12 6 rfl rfl)
theorem dX4_finds_288 : decode cX4_finds 288 = .ok (.iadd, 1) := dk_96 (dk_at dksX4_finds_12 8 rfl rfl)
theorem dX4_finds_289 : decode cX4_finds 289 = .ok (.istore_n 2, 1) := dk_61 (dk_at dksX4_finds_12 9 rfl rfl)
theorem dX4_finds_290 : decode cX4_finds 290 = .ok (.goto 8, 3) := dk_167 0 8 (dk_at dksX4_finds_12 10 rfl rfl)
theorem dX4_finds_293 : decode cX4_finds 293 = .ok (.lload_n 3, 1) := dk_33 (dk_at dksX4_finds_12 13 rfl rfl)
theorem dX4_finds_294 : decode cX4_finds 294 = .ok (.lload 12, 2) := dk_22 12 (dk_at dksX4_finds_12 14 rfl rfl)
theorem dX4_finds_296 : decode cX4_finds 296 = .ok (.lsub, 1) := dk_101 (dk_at dksX4_finds_12 16 rfl rfl)
theorem dX4_finds_297 : decode cX4_finds 297 = .ok (.lstore_n 3, 1) := dk_66 (dk_at dksX4_finds_12 17 rfl rfl)
theorem dX4_finds_298 : decode cX4_finds 298 = .ok (.iinc 10 1, 3) := dk_132 10 1 (dk_at dksX4_finds_12 18 rfl rfl)
theorem dX4_finds_301 : decode cX4_finds 301 = .ok (.goto (-154), 3) := dk_167 255 102 (dk_at dksX4_finds_12 21 rfl rfl)
theorem dX4_finds_304 : decode cX4_finds 304 = .ok (.iinc 8 1, 3) := dk_132 8 1 (dk_at dksX4_finds_13 0 rfl rfl)
theorem dX4_finds_307 : decode cX4_finds 307 = .ok (.goto (-218), 3) := dk_167 255 38 (dk_at dksX4_finds_13 3 rfl rfl)
theorem dX4_finds_310 : decode cX4_finds 310 = .ok (.iinc 5 (-1), 3) := dk_132 5 255 (dk_at dksX4_finds_13 6 rfl rfl)
theorem dX4_finds_313 : decode cX4_finds 313 = .ok (.goto (-246), 3) := dk_167 255 10 (dk_at dksX4_finds_13 9 rfl rfl)
theorem dX4_finds_316 : decode cX4_finds 316 = .ok (.iconst 1, 1) := dk_4 (dk_at dksX4_finds_13 12 rfl rfl)
theorem dX4_finds_317 : decode cX4_finds 317 = .ok (.ireturn, 1) := dk_172 (dk_at dksX4_finds_13 13 rfl rfl)
abbrev cX4_upTo : ByteArray := prog_23_method_57_code
def yX4_upTo : MethodName := ⟨RX4, "upTo", "(I)I"⟩
def dkwX4_upTo_0 : List UInt8 := [26, 6, 160, 0, 7, 8, 167, 0, 13, 26, 7, 160, 0, 7, 6, 167, 0, 4, 4, 172]
abbrev dktX4_upTo_0 : List UInt8 := dkwX4_upTo_0 ++ []
theorem dksX4_upTo_0 : cX4_upTo.data.toList.drop 0 = dktX4_upTo_0 := by decide +kernel
theorem dX4_upTo_0 : decode cX4_upTo 0 = .ok (.iload_n 0, 1) := dk_26 (dk_at dksX4_upTo_0 0 rfl rfl)
theorem dX4_upTo_1 : decode cX4_upTo 1 = .ok (.iconst 3, 1) := dk_6 (dk_at dksX4_upTo_0 1 rfl rfl)
theorem dX4_upTo_2 : decode cX4_upTo 2 = .ok (.if_icmp .ne 7, 3) := dk_160 0 7 (dk_at dksX4_upTo_0 2 rfl rfl)
theorem dX4_upTo_5 : decode cX4_upTo 5 = .ok (.iconst 5, 1) := dk_8 (dk_at dksX4_upTo_0 5 rfl rfl)
theorem dX4_upTo_6 : decode cX4_upTo 6 = .ok (.goto 13, 3) := dk_167 0 13 (dk_at dksX4_upTo_0 6 rfl rfl)
theorem dX4_upTo_9 : decode cX4_upTo 9 = .ok (.iload_n 0, 1) := dk_26 (dk_at dksX4_upTo_0 9 rfl rfl)
theorem dX4_upTo_10 : decode cX4_upTo 10 = .ok (.iconst 4, 1) := dk_7 (dk_at dksX4_upTo_0 10 rfl rfl)
theorem dX4_upTo_11 : decode cX4_upTo 11 = .ok (.if_icmp .ne 7, 3) := dk_160 0 7 (dk_at dksX4_upTo_0 11 rfl rfl)
theorem dX4_upTo_14 : decode cX4_upTo 14 = .ok (.iconst 3, 1) := dk_6 (dk_at dksX4_upTo_0 14 rfl rfl)
theorem dX4_upTo_15 : decode cX4_upTo 15 = .ok (.goto 4, 3) := dk_167 0 4 (dk_at dksX4_upTo_0 15 rfl rfl)
theorem dX4_upTo_18 : decode cX4_upTo 18 = .ok (.iconst 1, 1) := dk_4 (dk_at dksX4_upTo_0 18 rfl rfl)
theorem dX4_upTo_19 : decode cX4_upTo 19 = .ok (.ireturn, 1) := dk_172 (dk_at dksX4_upTo_0 19 rfl rfl)
abbrev cX4_takes : ByteArray := prog_23_method_58_code
def yX4_takes : MethodName := ⟨RX4, "takes", "(II)I"⟩
def dkwX4_takes_2 : List UInt8 := [3, 172, 4, 172, 27, 172, 5, 27, 104, 172, 5, 172]
abbrev dktX4_takes_2 : List UInt8 := dkwX4_takes_2 ++ []
def dkwX4_takes_1 : List UInt8 := [170, 0, 0, 0, 0, 0, 49, 0, 0, 0, 0, 0, 0, 0, 5, 0, 0, 0, 39, 0, 0, 0, 49, 0, 0, 0, 49, 0, 0, 0, 43, 0, 0, 0, 45, 0, 0, 0, 41]
abbrev dktX4_takes_1 : List UInt8 := dkwX4_takes_1 ++ dktX4_takes_2
def dkwX4_takes_0 : List UInt8 := [26]
abbrev dktX4_takes_0 : List UInt8 := dkwX4_takes_0 ++ dktX4_takes_1
theorem dksX4_takes_0 : cX4_takes.data.toList.drop 0 = dktX4_takes_0 := by decide +kernel
theorem dksX4_takes_1 : cX4_takes.data.toList.drop 1 = dktX4_takes_1 := dk_seg dksX4_takes_0 1 rfl rfl
theorem dksX4_takes_2 : cX4_takes.data.toList.drop 40 = dktX4_takes_2 := dk_seg dksX4_takes_1 39 rfl rfl
theorem dX4_takes_0 : decode cX4_takes 0 = .ok (.iload_n 0, 1) := dk_26 (dk_at dksX4_takes_0 0 rfl rfl)
theorem dX4_takes_1 : decode cX4_takes 1 = .ok (.tableswitch 49 0 5 #[39, 49, 49, 43, 45, 41], 39) := by decide +kernel
theorem dX4_takes_40 : decode cX4_takes 40 = .ok (.iconst 0, 1) := dk_3 (dk_at dksX4_takes_2 0 rfl rfl)
theorem dX4_takes_41 : decode cX4_takes 41 = .ok (.ireturn, 1) := dk_172 (dk_at dksX4_takes_2 1 rfl rfl)
theorem dX4_takes_42 : decode cX4_takes 42 = .ok (.iconst 1, 1) := dk_4 (dk_at dksX4_takes_2 2 rfl rfl)
theorem dX4_takes_43 : decode cX4_takes 43 = .ok (.ireturn, 1) := dk_172 (dk_at dksX4_takes_2 3 rfl rfl)
theorem dX4_takes_44 : decode cX4_takes 44 = .ok (.iload_n 1, 1) := dk_27 (dk_at dksX4_takes_2 4 rfl rfl)
theorem dX4_takes_45 : decode cX4_takes 45 = .ok (.ireturn, 1) := dk_172 (dk_at dksX4_takes_2 5 rfl rfl)
theorem dX4_takes_46 : decode cX4_takes 46 = .ok (.iconst 2, 1) := dk_5 (dk_at dksX4_takes_2 6 rfl rfl)
theorem dX4_takes_47 : decode cX4_takes 47 = .ok (.iload_n 1, 1) := dk_27 (dk_at dksX4_takes_2 7 rfl rfl)
theorem dX4_takes_48 : decode cX4_takes 48 = .ok (.imul, 1) := dk_104 (dk_at dksX4_takes_2 8 rfl rfl)
theorem dX4_takes_49 : decode cX4_takes 49 = .ok (.ireturn, 1) := dk_172 (dk_at dksX4_takes_2 9 rfl rfl)
theorem dX4_takes_50 : decode cX4_takes 50 = .ok (.iconst 2, 1) := dk_5 (dk_at dksX4_takes_2 10 rfl rfl)
theorem dX4_takes_51 : decode cX4_takes 51 = .ok (.ireturn, 1) := dk_172 (dk_at dksX4_takes_2 11 rfl rfl)
abbrev cX4_takenKind : ByteArray := prog_23_method_59_code
def yX4_takenKind : MethodName := ⟨RX4, "takenKind", "(III)I"⟩
def dkwX4_takenKind_2 : List UInt8 := [3, 54, 5, 21, 5, 153, 0, 12, 42, 180, 0, 45, 27, 46, 167, 0, 9, 42, 180, 0, 42, 27, 46, 172]
abbrev dktX4_takenKind_2 : List UInt8 := dkwX4_takenKind_2 ++ []
def dkwX4_takenKind_1 : List UInt8 := [167, 0, 25, 21, 4, 4, 159, 0, 9, 21, 4, 5, 160, 0, 12, 29, 4, 160, 0, 7, 4, 167, 0, 4]
abbrev dktX4_takenKind_1 : List UInt8 := dkwX4_takenKind_1 ++ dktX4_takenKind_2
def dkwX4_takenKind_0 : List UInt8 := [42, 180, 0, 39, 27, 46, 54, 4, 21, 4, 7, 160, 0, 16, 29, 28, 161, 0, 7, 4, 167, 0, 29, 3]
abbrev dktX4_takenKind_0 : List UInt8 := dkwX4_takenKind_0 ++ dktX4_takenKind_1
theorem dksX4_takenKind_0 : cX4_takenKind.data.toList.drop 0 = dktX4_takenKind_0 := by decide +kernel
theorem dksX4_takenKind_1 : cX4_takenKind.data.toList.drop 24 = dktX4_takenKind_1 := dk_seg dksX4_takenKind_0 24 rfl rfl
theorem dksX4_takenKind_2 : cX4_takenKind.data.toList.drop 48 = dktX4_takenKind_2 := dk_seg dksX4_takenKind_1 24 rfl rfl
theorem dX4_takenKind_0 : decode cX4_takenKind 0 = .ok (.aload_n 0, 1) := dk_42 (dk_at dksX4_takenKind_0 0 rfl rfl)
theorem dX4_takenKind_1 : decode cX4_takenKind 1 = .ok (.getfield 39, 3) := dk_180 0 39 (dk_at dksX4_takenKind_0 1 rfl rfl)
theorem dX4_takenKind_4 : decode cX4_takenKind 4 = .ok (.iload_n 1, 1) := dk_27 (dk_at dksX4_takenKind_0 4 rfl rfl)
theorem dX4_takenKind_5 : decode cX4_takenKind 5 = .ok (.iaload, 1) := dk_46 (dk_at dksX4_takenKind_0 5 rfl rfl)
theorem dX4_takenKind_6 : decode cX4_takenKind 6 = .ok (.istore 4, 2) := dk_54 4 (dk_at dksX4_takenKind_0 6 rfl rfl)
theorem dX4_takenKind_8 : decode cX4_takenKind 8 = .ok (.iload 4, 2) := dk_21 4 (dk_at dksX4_takenKind_0 8 rfl rfl)
theorem dX4_takenKind_10 : decode cX4_takenKind 10 = .ok (.iconst 4, 1) := dk_7 (dk_at dksX4_takenKind_0 10 rfl rfl)
theorem dX4_takenKind_11 : decode cX4_takenKind 11 = .ok (.if_icmp .ne 16, 3) := dk_160 0 16 (dk_at dksX4_takenKind_0 11 rfl rfl)
theorem dX4_takenKind_14 : decode cX4_takenKind 14 = .ok (.iload_n 3, 1) := dk_29 (dk_at dksX4_takenKind_0 14 rfl rfl)
theorem dX4_takenKind_15 : decode cX4_takenKind 15 = .ok (.iload_n 2, 1) := dk_28 (dk_at dksX4_takenKind_0 15 rfl rfl)
theorem dX4_takenKind_16 : decode cX4_takenKind 16 = .ok (.if_icmp .lt 7, 3) := dk_161 0 7 (dk_at dksX4_takenKind_0 16 rfl rfl)
theorem dX4_takenKind_19 : decode cX4_takenKind 19 = .ok (.iconst 1, 1) := dk_4 (dk_at dksX4_takenKind_0 19 rfl rfl)
theorem dX4_takenKind_20 : decode cX4_takenKind 20 = .ok (.goto 29, 3) := dk_167 0 29 (dk_at dksX4_takenKind_0 20 rfl rfl)
theorem dX4_takenKind_23 : decode cX4_takenKind 23 = .ok (.iconst 0, 1) := dk_3 (dk_at dksX4_takenKind_0 23 rfl rfl)
theorem dX4_takenKind_24 : decode cX4_takenKind 24 = .ok (.goto 25, 3) := dk_167 0 25 (dk_at dksX4_takenKind_1 0 rfl rfl)
theorem dX4_takenKind_27 : decode cX4_takenKind 27 = .ok (.iload 4, 2) := dk_21 4 (dk_at dksX4_takenKind_1 3 rfl rfl)
theorem dX4_takenKind_29 : decode cX4_takenKind 29 = .ok (.iconst 1, 1) := dk_4 (dk_at dksX4_takenKind_1 5 rfl rfl)
theorem dX4_takenKind_30 : decode cX4_takenKind 30 = .ok (.if_icmp .eq 9, 3) := dk_159 0 9 (dk_at dksX4_takenKind_1 6 rfl rfl)
theorem dX4_takenKind_33 : decode cX4_takenKind 33 = .ok (.iload 4, 2) := dk_21 4 (dk_at dksX4_takenKind_1 9 rfl rfl)
theorem dX4_takenKind_35 : decode cX4_takenKind 35 = .ok (.iconst 2, 1) := dk_5 (dk_at dksX4_takenKind_1 11 rfl rfl)
theorem dX4_takenKind_36 : decode cX4_takenKind 36 = .ok (.if_icmp .ne 12, 3) := dk_160 0 12 (dk_at dksX4_takenKind_1 12 rfl rfl)
theorem dX4_takenKind_39 : decode cX4_takenKind 39 = .ok (.iload_n 3, 1) := dk_29 (dk_at dksX4_takenKind_1 15 rfl rfl)
theorem dX4_takenKind_40 : decode cX4_takenKind 40 = .ok (.iconst 1, 1) := dk_4 (dk_at dksX4_takenKind_1 16 rfl rfl)
theorem dX4_takenKind_41 : decode cX4_takenKind 41 = .ok (.if_icmp .ne 7, 3) := dk_160 0 7 (dk_at dksX4_takenKind_1 17 rfl rfl)
theorem dX4_takenKind_44 : decode cX4_takenKind 44 = .ok (.iconst 1, 1) := dk_4 (dk_at dksX4_takenKind_1 20 rfl rfl)
theorem dX4_takenKind_45 : decode cX4_takenKind 45 = .ok (.goto 4, 3) := dk_167 0 4 (dk_at dksX4_takenKind_1 21 rfl rfl)
theorem dX4_takenKind_48 : decode cX4_takenKind 48 = .ok (.iconst 0, 1) := dk_3 (dk_at dksX4_takenKind_2 0 rfl rfl)
theorem dX4_takenKind_49 : decode cX4_takenKind 49 = .ok (.istore 5, 2) := dk_54 5 (dk_at dksX4_takenKind_2 1 rfl rfl)
theorem dX4_takenKind_51 : decode cX4_takenKind 51 = .ok (.iload 5, 2) := dk_21 5 (dk_at dksX4_takenKind_2 3 rfl rfl)
theorem dX4_takenKind_53 : decode cX4_takenKind 53 = .ok (.ifCond .eq 12, 3) := dk_153 0 12 (dk_at dksX4_takenKind_2 5 rfl rfl)
theorem dX4_takenKind_56 : decode cX4_takenKind 56 = .ok (.aload_n 0, 1) := dk_42 (dk_at dksX4_takenKind_2 8 rfl rfl)
theorem dX4_takenKind_57 : decode cX4_takenKind 57 = .ok (.getfield 45, 3) := dk_180 0 45 (dk_at dksX4_takenKind_2 9 rfl rfl)
theorem dX4_takenKind_60 : decode cX4_takenKind 60 = .ok (.iload_n 1, 1) := dk_27 (dk_at dksX4_takenKind_2 12 rfl rfl)
theorem dX4_takenKind_61 : decode cX4_takenKind 61 = .ok (.iaload, 1) := dk_46 (dk_at dksX4_takenKind_2 13 rfl rfl)
theorem dX4_takenKind_62 : decode cX4_takenKind 62 = .ok (.goto 9, 3) := dk_167 0 9 (dk_at dksX4_takenKind_2 14 rfl rfl)
theorem dX4_takenKind_65 : decode cX4_takenKind 65 = .ok (.aload_n 0, 1) := dk_42 (dk_at dksX4_takenKind_2 17 rfl rfl)
theorem dX4_takenKind_66 : decode cX4_takenKind 66 = .ok (.getfield 42, 3) := dk_180 0 42 (dk_at dksX4_takenKind_2 18 rfl rfl)
theorem dX4_takenKind_69 : decode cX4_takenKind 69 = .ok (.iload_n 1, 1) := dk_27 (dk_at dksX4_takenKind_2 21 rfl rfl)
theorem dX4_takenKind_70 : decode cX4_takenKind 70 = .ok (.iaload, 1) := dk_46 (dk_at dksX4_takenKind_2 22 rfl rfl)
theorem dX4_takenKind_71 : decode cX4_takenKind 71 = .ok (.ireturn, 1) := dk_172 (dk_at dksX4_takenKind_2 23 rfl rfl)
abbrev cX4_laysMade : ByteArray := prog_23_method_60_code
def yX4_laysMade : MethodName := ⟨RX4, "laysMade", "(I)V"⟩
def dkwX4_laysMade_3 : List UInt8 := [180, 0, 121, 16, 25, 27, 104, 28, 96, 33, 80, 132, 2, 1, 167, 255, 173, 177]
abbrev dktX4_laysMade_3 : List UInt8 := dkwX4_laysMade_3 ++ []
def dkwX4_laysMade_2 : List UInt8 := [180, 0, 118, 27, 4, 100, 46, 182, 1, 138, 182, 1, 150, 182, 1, 146, 66, 132, 5, 1, 167, 255, 206, 42]
abbrev dktX4_laysMade_2 : List UInt8 := dkwX4_laysMade_2 ++ dktX4_laysMade_3
def dkwX4_laysMade_1 : List UInt8 := [33, 42, 42, 180, 0, 121, 16, 25, 27, 4, 100, 104, 21, 5, 96, 47, 42, 21, 5, 28, 4, 100, 42]
abbrev dktX4_laysMade_1 : List UInt8 := dkwX4_laysMade_1 ++ dktX4_laysMade_2
def dkwX4_laysMade_0 : List UInt8 := [3, 61, 28, 42, 180, 0, 7, 5, 46, 163, 0, 79, 9, 66, 3, 54, 5, 21, 5, 28, 162, 0, 50, 42]
abbrev dktX4_laysMade_0 : List UInt8 := dkwX4_laysMade_0 ++ dktX4_laysMade_1
theorem dksX4_laysMade_0 : cX4_laysMade.data.toList.drop 0 = dktX4_laysMade_0 := by decide +kernel
theorem dksX4_laysMade_1 : cX4_laysMade.data.toList.drop 24 = dktX4_laysMade_1 := dk_seg dksX4_laysMade_0 24 rfl rfl
theorem dksX4_laysMade_2 : cX4_laysMade.data.toList.drop 47 = dktX4_laysMade_2 := dk_seg dksX4_laysMade_1 23 rfl rfl
theorem dksX4_laysMade_3 : cX4_laysMade.data.toList.drop 71 = dktX4_laysMade_3 := dk_seg dksX4_laysMade_2 24 rfl rfl
theorem dX4_laysMade_0 : decode cX4_laysMade 0 = .ok (.iconst 0, 1) := dk_3 (dk_at dksX4_laysMade_0 0 rfl rfl)
theorem dX4_laysMade_1 : decode cX4_laysMade 1 = .ok (.istore_n 2, 1) := dk_61 (dk_at dksX4_laysMade_0 1 rfl rfl)
theorem dX4_laysMade_2 : decode cX4_laysMade 2 = .ok (.iload_n 2, 1) := dk_28 (dk_at dksX4_laysMade_0 2 rfl rfl)
theorem dX4_laysMade_3 : decode cX4_laysMade 3 = .ok (.aload_n 0, 1) := dk_42 (dk_at dksX4_laysMade_0 3 rfl rfl)
theorem dX4_laysMade_4 : decode cX4_laysMade 4 = .ok (.getfield 7, 3) := dk_180 0 7 (dk_at dksX4_laysMade_0 4 rfl rfl)
theorem dX4_laysMade_7 : decode cX4_laysMade 7 = .ok (.iconst 2, 1) := dk_5 (dk_at dksX4_laysMade_0 7 rfl rfl)
theorem dX4_laysMade_8 : decode cX4_laysMade 8 = .ok (.iaload, 1) := dk_46 (dk_at dksX4_laysMade_0 8 rfl rfl)
theorem dX4_laysMade_9 : decode cX4_laysMade 9 = .ok (.if_icmp .gt 79, 3) := dk_163 0 79 (dk_at dksX4_laysMade_0 9 rfl rfl)
theorem dX4_laysMade_12 : decode cX4_laysMade 12 = .ok (.lconst 0, 1) := dk_9 (dk_at dksX4_laysMade_0 12 rfl rfl)
theorem dX4_laysMade_13 : decode cX4_laysMade 13 = .ok (.lstore_n 3, 1) := dk_66 (dk_at dksX4_laysMade_0 13 rfl rfl)
theorem dX4_laysMade_14 : decode cX4_laysMade 14 = .ok (.iconst 0, 1) := dk_3 (dk_at dksX4_laysMade_0 14 rfl rfl)
theorem dX4_laysMade_15 : decode cX4_laysMade 15 = .ok (.istore 5, 2) := dk_54 5 (dk_at dksX4_laysMade_0 15 rfl rfl)
theorem dX4_laysMade_17 : decode cX4_laysMade 17 = .ok (.iload 5, 2) := dk_21 5 (dk_at dksX4_laysMade_0 17 rfl rfl)
theorem dX4_laysMade_19 : decode cX4_laysMade 19 = .ok (.iload_n 2, 1) := dk_28 (dk_at dksX4_laysMade_0 19 rfl rfl)
theorem dX4_laysMade_20 : decode cX4_laysMade 20 = .ok (.if_icmp .ge 50, 3) := dk_162 0 50 (dk_at dksX4_laysMade_0 20 rfl rfl)
theorem dX4_laysMade_23 : decode cX4_laysMade 23 = .ok (.aload_n 0, 1) := dk_42 (dk_at dksX4_laysMade_0 23 rfl rfl)
theorem dX4_laysMade_24 : decode cX4_laysMade 24 = .ok (.lload_n 3, 1) := dk_33 (dk_at dksX4_laysMade_1 0 rfl rfl)
theorem dX4_laysMade_25 : decode cX4_laysMade 25 = .ok (.aload_n 0, 1) := dk_42 (dk_at dksX4_laysMade_1 1 rfl rfl)
theorem dX4_laysMade_26 : decode cX4_laysMade 26 = .ok (.aload_n 0, 1) := dk_42 (dk_at dksX4_laysMade_1 2 rfl rfl)
theorem dX4_laysMade_27 : decode cX4_laysMade 27 = .ok (.getfield 121, 3) := dk_180 0 121 (dk_at dksX4_laysMade_1 3 rfl rfl)
theorem dX4_laysMade_30 : decode cX4_laysMade 30 = .ok (.bipush 25, 2) := dk_16 25 (dk_at dksX4_laysMade_1 6 rfl rfl)
theorem dX4_laysMade_32 : decode cX4_laysMade 32 = .ok (.iload_n 1, 1) := dk_27 (dk_at dksX4_laysMade_1 8 rfl rfl)
theorem dX4_laysMade_33 : decode cX4_laysMade 33 = .ok (.iconst 1, 1) := dk_4 (dk_at dksX4_laysMade_1 9 rfl rfl)
theorem dX4_laysMade_34 : decode cX4_laysMade 34 = .ok (.isub, 1) := dk_100 (dk_at dksX4_laysMade_1 10 rfl rfl)
theorem dX4_laysMade_35 : decode cX4_laysMade 35 = .ok (.imul, 1) := dk_104 (dk_at dksX4_laysMade_1 11 rfl rfl)
theorem dX4_laysMade_36 : decode cX4_laysMade 36 = .ok (.iload 5, 2) := dk_21 5 (dk_at dksX4_laysMade_1 12 rfl rfl)
theorem dX4_laysMade_38 : decode cX4_laysMade 38 = .ok (.iadd, 1) := dk_96 (dk_at dksX4_laysMade_1 14 rfl rfl)
theorem dX4_laysMade_39 : decode cX4_laysMade 39 = .ok (.laload, 1) := dk_47 (dk_at dksX4_laysMade_1 15 rfl rfl)
theorem dX4_laysMade_40 : decode cX4_laysMade 40 = .ok (.aload_n 0, 1) := dk_42 (dk_at dksX4_laysMade_1 16 rfl rfl)
theorem dX4_laysMade_41 : decode cX4_laysMade 41 = .ok (.iload 5, 2) := dk_21 5 (dk_at dksX4_laysMade_1 17 rfl rfl)
theorem dX4_laysMade_43 : decode cX4_laysMade 43 = .ok (.iload_n 2, 1) := dk_28 (dk_at dksX4_laysMade_1 19 rfl rfl)
theorem dX4_laysMade_44 : decode cX4_laysMade 44 = .ok (.iconst 1, 1) := dk_4 (dk_at dksX4_laysMade_1 20 rfl rfl)
theorem dX4_laysMade_45 : decode cX4_laysMade 45 = .ok (.isub, 1) := dk_100 (dk_at dksX4_laysMade_1 21 rfl rfl)
theorem dX4_laysMade_46 : decode cX4_laysMade 46 = .ok (.aload_n 0, 1) := dk_42 (dk_at dksX4_laysMade_1 22 rfl rfl)
theorem dX4_laysMade_47 : decode cX4_laysMade 47 = .ok (.getfield 118, 3) := dk_180 0 118 (dk_at dksX4_laysMade_2 0 rfl rfl)
theorem dX4_laysMade_50 : decode cX4_laysMade 50 = .ok (.iload_n 1, 1) := dk_27 (dk_at dksX4_laysMade_2 3 rfl rfl)
theorem dX4_laysMade_51 : decode cX4_laysMade 51 = .ok (.iconst 1, 1) := dk_4 (dk_at dksX4_laysMade_2 4 rfl rfl)
theorem dX4_laysMade_52 : decode cX4_laysMade 52 = .ok (.isub, 1) := dk_100 (dk_at dksX4_laysMade_2 5 rfl rfl)
theorem dX4_laysMade_53 : decode cX4_laysMade 53 = .ok (.iaload, 1) := dk_46 (dk_at dksX4_laysMade_2 6 rfl rfl)
theorem dX4_laysMade_54 : decode cX4_laysMade 54 = .ok (.invokevirtual 394, 3) := dk_182 1 138 (dk_at dksX4_laysMade_2 7 rfl rfl)
theorem dX4_laysMade_57 : decode cX4_laysMade 57 = .ok (.invokevirtual 406, 3) := dk_182 1 150 (dk_at dksX4_laysMade_2 10 rfl rfl)
theorem dX4_laysMade_60 : decode cX4_laysMade 60 = .ok (.invokevirtual 402, 3) := dk_182 1 146 (dk_at dksX4_laysMade_2 13 rfl rfl)
theorem dX4_laysMade_63 : decode cX4_laysMade 63 = .ok (.lstore_n 3, 1) := dk_66 (dk_at dksX4_laysMade_2 16 rfl rfl)
theorem dX4_laysMade_64 : decode cX4_laysMade 64 = .ok (.iinc 5 1, 3) := dk_132 5 1 (dk_at dksX4_laysMade_2 17 rfl rfl)
theorem dX4_laysMade_67 : decode cX4_laysMade 67 = .ok (.goto (-50), 3) := dk_167 255 206 (dk_at dksX4_laysMade_2 20 rfl rfl)
theorem dX4_laysMade_70 : decode cX4_laysMade 70 = .ok (.aload_n 0, 1) := dk_42 (dk_at dksX4_laysMade_2 23 rfl rfl)
theorem dX4_laysMade_71 : decode cX4_laysMade 71 = .ok (.getfield 121, 3) := dk_180 0 121 (dk_at dksX4_laysMade_3 0 rfl rfl)
theorem dX4_laysMade_74 : decode cX4_laysMade 74 = .ok (.bipush 25, 2) := dk_16 25 (dk_at dksX4_laysMade_3 3 rfl rfl)
theorem dX4_laysMade_76 : decode cX4_laysMade 76 = .ok (.iload_n 1, 1) := dk_27 (dk_at dksX4_laysMade_3 5 rfl rfl)
theorem dX4_laysMade_77 : decode cX4_laysMade 77 = .ok (.imul, 1) := dk_104 (dk_at dksX4_laysMade_3 6 rfl rfl)
theorem dX4_laysMade_78 : decode cX4_laysMade 78 = .ok (.iload_n 2, 1) := dk_28 (dk_at dksX4_laysMade_3 7 rfl rfl)
theorem dX4_laysMade_79 : decode cX4_laysMade 79 = .ok (.iadd, 1) := dk_96 (dk_at dksX4_laysMade_3 8 rfl rfl)
theorem dX4_laysMade_80 : decode cX4_laysMade 80 = .ok (.lload_n 3, 1) := dk_33 (dk_at dksX4_laysMade_3 9 rfl rfl)
theorem dX4_laysMade_81 : decode cX4_laysMade 81 = .ok (.lastore, 1) := dk_80 (dk_at dksX4_laysMade_3 10 rfl rfl)
theorem dX4_laysMade_82 : decode cX4_laysMade 82 = .ok (.iinc 2 1, 3) := dk_132 2 1 (dk_at dksX4_laysMade_3 11 rfl rfl)
theorem dX4_laysMade_85 : decode cX4_laysMade 85 = .ok (.goto (-83), 3) := dk_167 255 173 (dk_at dksX4_laysMade_3 14 rfl rfl)
theorem dX4_laysMade_88 : decode cX4_laysMade 88 = .ok (.return_, 1) := dk_177 (dk_at dksX4_laysMade_3 17 rfl rfl)
abbrev cX4_taken : ByteArray := prog_23_method_64_code
def yX4_taken : MethodName := ⟨RX4, "taken", "(II)I"⟩
def dkwX4_taken_1 : List UInt8 := [42, 180, 0, 115, 28, 46, 167, 0, 4, 2, 172]
abbrev dktX4_taken_1 : List UInt8 := dkwX4_taken_1 ++ []
def dkwX4_taken_0 : List UInt8 := [28, 3, 42, 180, 0, 7, 5, 46, 4, 100, 184, 0, 199, 153, 0, 20, 42, 27, 182, 1, 215, 153, 0, 12]
abbrev dktX4_taken_0 : List UInt8 := dkwX4_taken_0 ++ dktX4_taken_1
theorem dksX4_taken_0 : cX4_taken.data.toList.drop 0 = dktX4_taken_0 := by decide +kernel
theorem dksX4_taken_1 : cX4_taken.data.toList.drop 24 = dktX4_taken_1 := dk_seg dksX4_taken_0 24 rfl rfl
theorem dX4_taken_0 : decode cX4_taken 0 = .ok (.iload_n 2, 1) := dk_28 (dk_at dksX4_taken_0 0 rfl rfl)
theorem dX4_taken_1 : decode cX4_taken 1 = .ok (.iconst 0, 1) := dk_3 (dk_at dksX4_taken_0 1 rfl rfl)
theorem dX4_taken_2 : decode cX4_taken 2 = .ok (.aload_n 0, 1) := dk_42 (dk_at dksX4_taken_0 2 rfl rfl)
theorem dX4_taken_3 : decode cX4_taken 3 = .ok (.getfield 7, 3) := dk_180 0 7 (dk_at dksX4_taken_0 3 rfl rfl)
theorem dX4_taken_6 : decode cX4_taken 6 = .ok (.iconst 2, 1) := dk_5 (dk_at dksX4_taken_0 6 rfl rfl)
theorem dX4_taken_7 : decode cX4_taken 7 = .ok (.iaload, 1) := dk_46 (dk_at dksX4_taken_0 7 rfl rfl)
theorem dX4_taken_8 : decode cX4_taken 8 = .ok (.iconst 1, 1) := dk_4 (dk_at dksX4_taken_0 8 rfl rfl)
theorem dX4_taken_9 : decode cX4_taken 9 = .ok (.isub, 1) := dk_100 (dk_at dksX4_taken_0 9 rfl rfl)
theorem dX4_taken_10 : decode cX4_taken 10 = .ok (.invokestatic 199, 3) := dk_184 0 199 (dk_at dksX4_taken_0 10 rfl rfl)
theorem dX4_taken_13 : decode cX4_taken 13 = .ok (.ifCond .eq 20, 3) := dk_153 0 20 (dk_at dksX4_taken_0 13 rfl rfl)
theorem dX4_taken_16 : decode cX4_taken 16 = .ok (.aload_n 0, 1) := dk_42 (dk_at dksX4_taken_0 16 rfl rfl)
theorem dX4_taken_17 : decode cX4_taken 17 = .ok (.iload_n 1, 1) := dk_27 (dk_at dksX4_taken_0 17 rfl rfl)
theorem dX4_taken_18 : decode cX4_taken 18 = .ok (.invokevirtual 471, 3) := dk_182 1 215 (dk_at dksX4_taken_0 18 rfl rfl)
theorem dX4_taken_21 : decode cX4_taken 21 = .ok (.ifCond .eq 12, 3) := dk_153 0 12 (dk_at dksX4_taken_0 21 rfl rfl)
theorem dX4_taken_24 : decode cX4_taken 24 = .ok (.aload_n 0, 1) := dk_42 (dk_at dksX4_taken_1 0 rfl rfl)
theorem dX4_taken_25 : decode cX4_taken 25 = .ok (.getfield 115, 3) := dk_180 0 115 (dk_at dksX4_taken_1 1 rfl rfl)
theorem dX4_taken_28 : decode cX4_taken 28 = .ok (.iload_n 2, 1) := dk_28 (dk_at dksX4_taken_1 4 rfl rfl)
theorem dX4_taken_29 : decode cX4_taken 29 = .ok (.iaload, 1) := dk_46 (dk_at dksX4_taken_1 5 rfl rfl)
theorem dX4_taken_30 : decode cX4_taken 30 = .ok (.goto 4, 3) := dk_167 0 4 (dk_at dksX4_taken_1 6 rfl rfl)
theorem dX4_taken_33 : decode cX4_taken 33 = .ok (.iconst (-1), 1) := dk_2 (dk_at dksX4_taken_1 9 rfl rfl)
theorem dX4_taken_34 : decode cX4_taken 34 = .ok (.ireturn, 1) := dk_172 (dk_at dksX4_taken_1 10 rfl rfl)
abbrev cX4_span : ByteArray := prog_23_method_65_code
def yX4_span : MethodName := ⟨RX4, "span", "(II)I"⟩
def dkwX4_span_3 : List UInt8 := [167, 0, 4, 29, 62, 132, 4, 1, 167, 255, 222, 29, 172]
abbrev dktX4_span_3 : List UInt8 := dkwX4_span_3 ++ []
def dkwX4_span_2 : List UInt8 := [162, 0, 33, 42, 27, 28, 21, 4, 182, 1, 138, 9, 148, 158, 0, 12, 29, 4, 21, 4, 120, 128]
abbrev dktX4_span_2 : List UInt8 := dkwX4_span_2 ++ dktX4_span_3
def dkwX4_span_1 : List UInt8 := [4, 100, 184, 0, 199, 154, 0, 5, 2, 172, 42, 9, 182, 1, 184, 3, 62, 3, 54, 4, 21, 4, 16, 8]
abbrev dktX4_span_1 : List UInt8 := dkwX4_span_1 ++ dktX4_span_2
def dkwX4_span_0 : List UInt8 := [27, 3, 42, 180, 0, 7, 5, 46, 4, 100, 184, 0, 199, 153, 0, 19, 28, 27, 42, 180, 0, 7, 5, 46]
abbrev dktX4_span_0 : List UInt8 := dkwX4_span_0 ++ dktX4_span_1
theorem dksX4_span_0 : cX4_span.data.toList.drop 0 = dktX4_span_0 := by decide +kernel
theorem dksX4_span_1 : cX4_span.data.toList.drop 24 = dktX4_span_1 := dk_seg dksX4_span_0 24 rfl rfl
theorem dksX4_span_2 : cX4_span.data.toList.drop 48 = dktX4_span_2 := dk_seg dksX4_span_1 24 rfl rfl
theorem dksX4_span_3 : cX4_span.data.toList.drop 70 = dktX4_span_3 := dk_seg dksX4_span_2 22 rfl rfl
theorem dX4_span_0 : decode cX4_span 0 = .ok (.iload_n 1, 1) := dk_27 (dk_at dksX4_span_0 0 rfl rfl)
theorem dX4_span_1 : decode cX4_span 1 = .ok (.iconst 0, 1) := dk_3 (dk_at dksX4_span_0 1 rfl rfl)
theorem dX4_span_2 : decode cX4_span 2 = .ok (.aload_n 0, 1) := dk_42 (dk_at dksX4_span_0 2 rfl rfl)
theorem dX4_span_3 : decode cX4_span 3 = .ok (.getfield 7, 3) := dk_180 0 7 (dk_at dksX4_span_0 3 rfl rfl)
theorem dX4_span_6 : decode cX4_span 6 = .ok (.iconst 2, 1) := dk_5 (dk_at dksX4_span_0 6 rfl rfl)
theorem dX4_span_7 : decode cX4_span 7 = .ok (.iaload, 1) := dk_46 (dk_at dksX4_span_0 7 rfl rfl)
theorem dX4_span_8 : decode cX4_span 8 = .ok (.iconst 1, 1) := dk_4 (dk_at dksX4_span_0 8 rfl rfl)
theorem dX4_span_9 : decode cX4_span 9 = .ok (.isub, 1) := dk_100 (dk_at dksX4_span_0 9 rfl rfl)
theorem dX4_span_10 : decode cX4_span 10 = .ok (.invokestatic 199, 3) := dk_184 0 199 (dk_at dksX4_span_0 10 rfl rfl)
theorem dX4_span_13 : decode cX4_span 13 = .ok (.ifCond .eq 19, 3) := dk_153 0 19 (dk_at dksX4_span_0 13 rfl rfl)
theorem dX4_span_16 : decode cX4_span 16 = .ok (.iload_n 2, 1) := dk_28 (dk_at dksX4_span_0 16 rfl rfl)
theorem dX4_span_17 : decode cX4_span 17 = .ok (.iload_n 1, 1) := dk_27 (dk_at dksX4_span_0 17 rfl rfl)
theorem dX4_span_18 : decode cX4_span 18 = .ok (.aload_n 0, 1) := dk_42 (dk_at dksX4_span_0 18 rfl rfl)
theorem dX4_span_19 : decode cX4_span 19 = .ok (.getfield 7, 3) := dk_180 0 7 (dk_at dksX4_span_0 19 rfl rfl)
theorem dX4_span_22 : decode cX4_span 22 = .ok (.iconst 2, 1) := dk_5 (dk_at dksX4_span_0 22 rfl rfl)
theorem dX4_span_23 : decode cX4_span 23 = .ok (.iaload, 1) := dk_46 (dk_at dksX4_span_0 23 rfl rfl)
theorem dX4_span_24 : decode cX4_span 24 = .ok (.iconst 1, 1) := dk_4 (dk_at dksX4_span_1 0 rfl rfl)
theorem dX4_span_25 : decode cX4_span 25 = .ok (.isub, 1) := dk_100 (dk_at dksX4_span_1 1 rfl rfl)
theorem dX4_span_26 : decode cX4_span 26 = .ok (.invokestatic 199, 3) := dk_184 0 199 (dk_at dksX4_span_1 2 rfl rfl)
theorem dX4_span_29 : decode cX4_span 29 = .ok (.ifCond .ne 5, 3) := dk_154 0 5 (dk_at dksX4_span_1 5 rfl rfl)
theorem dX4_span_32 : decode cX4_span 32 = .ok (.iconst (-1), 1) := dk_2 (dk_at dksX4_span_1 8 rfl rfl)
theorem dX4_span_33 : decode cX4_span 33 = .ok (.ireturn, 1) := dk_172 (dk_at dksX4_span_1 9 rfl rfl)
theorem dX4_span_34 : decode cX4_span 34 = .ok (.aload_n 0, 1) := dk_42 (dk_at dksX4_span_1 10 rfl rfl)
theorem dX4_span_35 : decode cX4_span 35 = .ok (.lconst 0, 1) := dk_9 (dk_at dksX4_span_1 11 rfl rfl)
theorem dX4_span_36 : decode cX4_span 36 = .ok (.invokevirtual 440, 3) := dk_182 1 184 (dk_at dksX4_span_1 12 rfl rfl)
theorem dX4_span_39 : decode cX4_span 39 = .ok (.iconst 0, 1) := dk_3 (dk_at dksX4_span_1 15 rfl rfl)
theorem dX4_span_40 : decode cX4_span 40 = .ok (.istore_n 3, 1) := dk_62 (dk_at dksX4_span_1 16 rfl rfl)
theorem dX4_span_41 : decode cX4_span 41 = .ok (.iconst 0, 1) := dk_3 (dk_at dksX4_span_1 17 rfl rfl)
theorem dX4_span_42 : decode cX4_span 42 = .ok (.istore 4, 2) := dk_54 4 (dk_at dksX4_span_1 18 rfl rfl)
theorem dX4_span_44 : decode cX4_span 44 = .ok (.iload 4, 2) := dk_21 4 (dk_at dksX4_span_1 20 rfl rfl)
theorem dX4_span_46 : decode cX4_span 46 = .ok (.bipush 8, 2) := dk_16 8 (dk_at dksX4_span_1 22 rfl rfl)
theorem dX4_span_48 : decode cX4_span 48 = .ok (.if_icmp .ge 33, 3) := dk_162 0 33 (dk_at dksX4_span_2 0 rfl rfl)
theorem dX4_span_51 : decode cX4_span 51 = .ok (.aload_n 0, 1) := dk_42 (dk_at dksX4_span_2 3 rfl rfl)
theorem dX4_span_52 : decode cX4_span 52 = .ok (.iload_n 1, 1) := dk_27 (dk_at dksX4_span_2 4 rfl rfl)
theorem dX4_span_53 : decode cX4_span 53 = .ok (.iload_n 2, 1) := dk_28 (dk_at dksX4_span_2 5 rfl rfl)
theorem dX4_span_54 : decode cX4_span 54 = .ok (.iload 4, 2) := dk_21 4 (dk_at dksX4_span_2 6 rfl rfl)
theorem dX4_span_56 : decode cX4_span 56 = .ok (.invokevirtual 394, 3) := dk_182 1 138 (dk_at dksX4_span_2 8 rfl rfl)
theorem dX4_span_59 : decode cX4_span 59 = .ok (.lconst 0, 1) := dk_9 (dk_at dksX4_span_2 11 rfl rfl)
theorem dX4_span_60 : decode cX4_span 60 = .ok (.lcmp, 1) := dk_148 (dk_at dksX4_span_2 12 rfl rfl)
theorem dX4_span_61 : decode cX4_span 61 = .ok (.ifCond .le 12, 3) := dk_158 0 12 (dk_at dksX4_span_2 13 rfl rfl)
theorem dX4_span_64 : decode cX4_span 64 = .ok (.iload_n 3, 1) := dk_29 (dk_at dksX4_span_2 16 rfl rfl)
theorem dX4_span_65 : decode cX4_span 65 = .ok (.iconst 1, 1) := dk_4 (dk_at dksX4_span_2 17 rfl rfl)
theorem dX4_span_66 : decode cX4_span 66 = .ok (.iload 4, 2) := dk_21 4 (dk_at dksX4_span_2 18 rfl rfl)
theorem dX4_span_68 : decode cX4_span 68 = .ok (.ishl, 1) := dk_120 (dk_at dksX4_span_2 20 rfl rfl)
theorem dX4_span_69 : decode cX4_span 69 = .ok (.ior, 1) := dk_128 (dk_at dksX4_span_2 21 rfl rfl)
theorem dX4_span_70 : decode cX4_span 70 = .ok (.goto 4, 3) := dk_167 0 4 (dk_at dksX4_span_3 0 rfl rfl)
theorem dX4_span_73 : decode cX4_span 73 = .ok (.iload_n 3, 1) := dk_29 (dk_at dksX4_span_3 3 rfl rfl)
theorem dX4_span_74 : decode cX4_span 74 = .ok (.istore_n 3, 1) := dk_62 (dk_at dksX4_span_3 4 rfl rfl)
theorem dX4_span_75 : decode cX4_span 75 = .ok (.iinc 4 1, 3) := dk_132 4 1 (dk_at dksX4_span_3 5 rfl rfl)
theorem dX4_span_78 : decode cX4_span 78 = .ok (.goto (-34), 3) := dk_167 255 222 (dk_at dksX4_span_3 8 rfl rfl)
theorem dX4_span_81 : decode cX4_span 81 = .ok (.iload_n 3, 1) := dk_29 (dk_at dksX4_span_3 11 rfl rfl)
theorem dX4_span_82 : decode cX4_span 82 = .ok (.ireturn, 1) := dk_172 (dk_at dksX4_span_3 12 rfl rfl)
abbrev cX4_open : ByteArray := prog_23_method_66_code
def yX4_open : MethodName := ⟨RX4, "open", "()I"⟩
def dkwX4_open_5 : List UInt8 := [79, 28, 172]
abbrev dktX4_open_5 : List UInt8 := dkwX4_open_5 ++ []
def dkwX4_open_4 : List UInt8 := [42, 180, 0, 7, 5, 92, 46, 4, 100, 79, 42, 180, 0, 7, 16, 10, 42, 180, 0, 7, 5, 46, 96, 27]
abbrev dktX4_open_4 : List UInt8 := dkwX4_open_4 ++ dktX4_open_5
def dkwX4_open_3 : List UInt8 := [182, 1, 188, 9, 148, 158, 0, 11, 28, 4, 29, 120, 128, 167, 0, 4, 28, 61, 132, 3, 1, 167, 255, 206]
abbrev dktX4_open_3 : List UInt8 := dkwX4_open_3 ++ dktX4_open_4
def dkwX4_open_2 : List UInt8 := [42, 180, 0, 7, 16, 10, 42, 180, 0, 7, 5, 46, 96, 4, 100, 29, 79, 42, 9, 182, 1, 184, 42]
abbrev dktX4_open_2 : List UInt8 := dkwX4_open_2 ++ dktX4_open_3
def dkwX4_open_1 : List UInt8 := [46, 96, 46, 60, 3, 61, 42, 180, 0, 7, 5, 92, 46, 4, 96, 79, 3, 62, 29, 16, 20, 162, 0, 50]
abbrev dktX4_open_1 : List UInt8 := dkwX4_open_1 ++ dktX4_open_2
def dkwX4_open_0 : List UInt8 := [42, 180, 0, 7, 5, 46, 16, 24, 160, 0, 5, 3, 172, 42, 180, 0, 7, 16, 10, 42, 180, 0, 7, 5]
abbrev dktX4_open_0 : List UInt8 := dkwX4_open_0 ++ dktX4_open_1
theorem dksX4_open_0 : cX4_open.data.toList.drop 0 = dktX4_open_0 := by decide +kernel
theorem dksX4_open_1 : cX4_open.data.toList.drop 24 = dktX4_open_1 := dk_seg dksX4_open_0 24 rfl rfl
theorem dksX4_open_2 : cX4_open.data.toList.drop 48 = dktX4_open_2 := dk_seg dksX4_open_1 24 rfl rfl
theorem dksX4_open_3 : cX4_open.data.toList.drop 71 = dktX4_open_3 := dk_seg dksX4_open_2 23 rfl rfl
theorem dksX4_open_4 : cX4_open.data.toList.drop 95 = dktX4_open_4 := dk_seg dksX4_open_3 24 rfl rfl
theorem dksX4_open_5 : cX4_open.data.toList.drop 119 = dktX4_open_5 := dk_seg dksX4_open_4 24 rfl rfl
theorem dX4_open_0 : decode cX4_open 0 = .ok (.aload_n 0, 1) := dk_42 (dk_at dksX4_open_0 0 rfl rfl)
theorem dX4_open_1 : decode cX4_open 1 = .ok (.getfield 7, 3) := dk_180 0 7 (dk_at dksX4_open_0 1 rfl rfl)
theorem dX4_open_4 : decode cX4_open 4 = .ok (.iconst 2, 1) := dk_5 (dk_at dksX4_open_0 4 rfl rfl)
theorem dX4_open_5 : decode cX4_open 5 = .ok (.iaload, 1) := dk_46 (dk_at dksX4_open_0 5 rfl rfl)
theorem dX4_open_6 : decode cX4_open 6 = .ok (.bipush 24, 2) := dk_16 24 (dk_at dksX4_open_0 6 rfl rfl)
theorem dX4_open_8 : decode cX4_open 8 = .ok (.if_icmp .ne 5, 3) := dk_160 0 5 (dk_at dksX4_open_0 8 rfl rfl)
theorem dX4_open_11 : decode cX4_open 11 = .ok (.iconst 0, 1) := dk_3 (dk_at dksX4_open_0 11 rfl rfl)
theorem dX4_open_12 : decode cX4_open 12 = .ok (.ireturn, 1) := dk_172 (dk_at dksX4_open_0 12 rfl rfl)
theorem dX4_open_13 : decode cX4_open 13 = .ok (.aload_n 0, 1) := dk_42 (dk_at dksX4_open_0 13 rfl rfl)
theorem dX4_open_14 : decode cX4_open 14 = .ok (.getfield 7, 3) := dk_180 0 7 (dk_at dksX4_open_0 14 rfl rfl)
theorem dX4_open_17 : decode cX4_open 17 = .ok (.bipush 10, 2) := dk_16 10 (dk_at dksX4_open_0 17 rfl rfl)
theorem dX4_open_19 : decode cX4_open 19 = .ok (.aload_n 0, 1) := dk_42 (dk_at dksX4_open_0 19 rfl rfl)
theorem dX4_open_20 : decode cX4_open 20 = .ok (.getfield 7, 3) := dk_180 0 7 (dk_at dksX4_open_0 20 rfl rfl)
theorem dX4_open_23 : decode cX4_open 23 = .ok (.iconst 2, 1) := dk_5 (dk_at dksX4_open_0 23 rfl rfl)
theorem dX4_open_24 : decode cX4_open 24 = .ok (.iaload, 1) := dk_46 (dk_at dksX4_open_1 0 rfl rfl)
theorem dX4_open_25 : decode cX4_open 25 = .ok (.iadd, 1) := dk_96 (dk_at dksX4_open_1 1 rfl rfl)
theorem dX4_open_26 : decode cX4_open 26 = .ok (.iaload, 1) := dk_46 (dk_at dksX4_open_1 2 rfl rfl)
theorem dX4_open_27 : decode cX4_open 27 = .ok (.istore_n 1, 1) := dk_60 (dk_at dksX4_open_1 3 rfl rfl)
theorem dX4_open_28 : decode cX4_open 28 = .ok (.iconst 0, 1) := dk_3 (dk_at dksX4_open_1 4 rfl rfl)
theorem dX4_open_29 : decode cX4_open 29 = .ok (.istore_n 2, 1) := dk_61 (dk_at dksX4_open_1 5 rfl rfl)
theorem dX4_open_30 : decode cX4_open 30 = .ok (.aload_n 0, 1) := dk_42 (dk_at dksX4_open_1 6 rfl rfl)
theorem dX4_open_31 : decode cX4_open 31 = .ok (.getfield 7, 3) := dk_180 0 7 (dk_at dksX4_open_1 7 rfl rfl)
theorem dX4_open_34 : decode cX4_open 34 = .ok (.iconst 2, 1) := dk_5 (dk_at dksX4_open_1 10 rfl rfl)
theorem dX4_open_35 : decode cX4_open 35 = .ok (.dup2, 1) := dk_92 (dk_at dksX4_open_1 11 rfl rfl)
theorem dX4_open_36 : decode cX4_open 36 = .ok (.iaload, 1) := dk_46 (dk_at dksX4_open_1 12 rfl rfl)
theorem dX4_open_37 : decode cX4_open 37 = .ok (.iconst 1, 1) := dk_4 (dk_at dksX4_open_1 13 rfl rfl)
theorem dX4_open_38 : decode cX4_open 38 = .ok (.iadd, 1) := dk_96 (dk_at dksX4_open_1 14 rfl rfl)
theorem dX4_open_39 : decode cX4_open 39 = .ok (.iastore, 1) := dk_79 (dk_at dksX4_open_1 15 rfl rfl)
theorem dX4_open_40 : decode cX4_open 40 = .ok (.iconst 0, 1) := dk_3 (dk_at dksX4_open_1 16 rfl rfl)
theorem dX4_open_41 : decode cX4_open 41 = .ok (.istore_n 3, 1) := dk_62 (dk_at dksX4_open_1 17 rfl rfl)
theorem dX4_open_42 : decode cX4_open 42 = .ok (.iload_n 3, 1) := dk_29 (dk_at dksX4_open_1 18 rfl rfl)
theorem dX4_open_43 : decode cX4_open 43 = .ok (.bipush 20, 2) := dk_16 20 (dk_at dksX4_open_1 19 rfl rfl)
theorem dX4_open_45 : decode cX4_open 45 = .ok (.if_icmp .ge 50, 3) := dk_162 0 50 (dk_at dksX4_open_1 21 rfl rfl)
theorem dX4_open_48 : decode cX4_open 48 = .ok (.aload_n 0, 1) := dk_42 (dk_at dksX4_open_2 0 rfl rfl)
theorem dX4_open_49 : decode cX4_open 49 = .ok (.getfield 7, 3) := dk_180 0 7 (dk_at dksX4_open_2 1 rfl rfl)
theorem dX4_open_52 : decode cX4_open 52 = .ok (.bipush 10, 2) := dk_16 10 (dk_at dksX4_open_2 4 rfl rfl)
theorem dX4_open_54 : decode cX4_open 54 = .ok (.aload_n 0, 1) := dk_42 (dk_at dksX4_open_2 6 rfl rfl)
theorem dX4_open_55 : decode cX4_open 55 = .ok (.getfield 7, 3) := dk_180 0 7 (dk_at dksX4_open_2 7 rfl rfl)
theorem dX4_open_58 : decode cX4_open 58 = .ok (.iconst 2, 1) := dk_5 (dk_at dksX4_open_2 10 rfl rfl)
theorem dX4_open_59 : decode cX4_open 59 = .ok (.iaload, 1) := dk_46 (dk_at dksX4_open_2 11 rfl rfl)
theorem dX4_open_60 : decode cX4_open 60 = .ok (.iadd, 1) := dk_96 (dk_at dksX4_open_2 12 rfl rfl)
theorem dX4_open_61 : decode cX4_open 61 = .ok (.iconst 1, 1) := dk_4 (dk_at dksX4_open_2 13 rfl rfl)
theorem dX4_open_62 : decode cX4_open 62 = .ok (.isub, 1) := dk_100 (dk_at dksX4_open_2 14 rfl rfl)
theorem dX4_open_63 : decode cX4_open 63 = .ok (.iload_n 3, 1) := dk_29 (dk_at dksX4_open_2 15 rfl rfl)
theorem dX4_open_64 : decode cX4_open 64 = .ok (.iastore, 1) := dk_79 (dk_at dksX4_open_2 16 rfl rfl)
theorem dX4_open_65 : decode cX4_open 65 = .ok (.aload_n 0, 1) := dk_42 (dk_at dksX4_open_2 17 rfl rfl)
theorem dX4_open_66 : decode cX4_open 66 = .ok (.lconst 0, 1) := dk_9 (dk_at dksX4_open_2 18 rfl rfl)
theorem dX4_open_67 : decode cX4_open 67 = .ok (.invokevirtual 440, 3) := dk_182 1 184 (dk_at dksX4_open_2 19 rfl rfl)
theorem dX4_open_70 : decode cX4_open 70 = .ok (.aload_n 0, 1) := dk_42 (dk_at dksX4_open_2 22 rfl rfl)
theorem dX4_open_71 : decode cX4_open 71 = .ok (.invokevirtual 444, 3) := dk_182 1 188 (dk_at dksX4_open_3 0 rfl rfl)
theorem dX4_open_74 : decode cX4_open 74 = .ok (.lconst 0, 1) := dk_9 (dk_at dksX4_open_3 3 rfl rfl)
theorem dX4_open_75 : decode cX4_open 75 = .ok (.lcmp, 1) := dk_148 (dk_at dksX4_open_3 4 rfl rfl)
theorem dX4_open_76 : decode cX4_open 76 = .ok (.ifCond .le 11, 3) := dk_158 0 11 (dk_at dksX4_open_3 5 rfl rfl)
theorem dX4_open_79 : decode cX4_open 79 = .ok (.iload_n 2, 1) := dk_28 (dk_at dksX4_open_3 8 rfl rfl)
theorem dX4_open_80 : decode cX4_open 80 = .ok (.iconst 1, 1) := dk_4 (dk_at dksX4_open_3 9 rfl rfl)
theorem dX4_open_81 : decode cX4_open 81 = .ok (.iload_n 3, 1) := dk_29 (dk_at dksX4_open_3 10 rfl rfl)
theorem dX4_open_82 : decode cX4_open 82 = .ok (.ishl, 1) := dk_120 (dk_at dksX4_open_3 11 rfl rfl)
theorem dX4_open_83 : decode cX4_open 83 = .ok (.ior, 1) := dk_128 (dk_at dksX4_open_3 12 rfl rfl)
theorem dX4_open_84 : decode cX4_open 84 = .ok (.goto 4, 3) := dk_167 0 4 (dk_at dksX4_open_3 13 rfl rfl)
theorem dX4_open_87 : decode cX4_open 87 = .ok (.iload_n 2, 1) := dk_28 (dk_at dksX4_open_3 16 rfl rfl)
theorem dX4_open_88 : decode cX4_open 88 = .ok (.istore_n 2, 1) := dk_61 (dk_at dksX4_open_3 17 rfl rfl)
theorem dX4_open_89 : decode cX4_open 89 = .ok (.iinc 3 1, 3) := dk_132 3 1 (dk_at dksX4_open_3 18 rfl rfl)
theorem dX4_open_92 : decode cX4_open 92 = .ok (.goto (-50), 3) := dk_167 255 206 (dk_at dksX4_open_3 21 rfl rfl)
theorem dX4_open_95 : decode cX4_open 95 = .ok (.aload_n 0, 1) := dk_42 (dk_at dksX4_open_4 0 rfl rfl)
theorem dX4_open_96 : decode cX4_open 96 = .ok (.getfield 7, 3) := dk_180 0 7 (dk_at dksX4_open_4 1 rfl rfl)
theorem dX4_open_99 : decode cX4_open 99 = .ok (.iconst 2, 1) := dk_5 (dk_at dksX4_open_4 4 rfl rfl)
theorem dX4_open_100 : decode cX4_open 100 = .ok (.dup2, 1) := dk_92 (dk_at dksX4_open_4 5 rfl rfl)
theorem dX4_open_101 : decode cX4_open 101 = .ok (.iaload, 1) := dk_46 (dk_at dksX4_open_4 6 rfl rfl)
theorem dX4_open_102 : decode cX4_open 102 = .ok (.iconst 1, 1) := dk_4 (dk_at dksX4_open_4 7 rfl rfl)
theorem dX4_open_103 : decode cX4_open 103 = .ok (.isub, 1) := dk_100 (dk_at dksX4_open_4 8 rfl rfl)
theorem dX4_open_104 : decode cX4_open 104 = .ok (.iastore, 1) := dk_79 (dk_at dksX4_open_4 9 rfl rfl)
theorem dX4_open_105 : decode cX4_open 105 = .ok (.aload_n 0, 1) := dk_42 (dk_at dksX4_open_4 10 rfl rfl)
theorem dX4_open_106 : decode cX4_open 106 = .ok (.getfield 7, 3) := dk_180 0 7 (dk_at dksX4_open_4 11 rfl rfl)
theorem dX4_open_109 : decode cX4_open 109 = .ok (.bipush 10, 2) := dk_16 10 (dk_at dksX4_open_4 14 rfl rfl)
theorem dX4_open_111 : decode cX4_open 111 = .ok (.aload_n 0, 1) := dk_42 (dk_at dksX4_open_4 16 rfl rfl)
theorem dX4_open_112 : decode cX4_open 112 = .ok (.getfield 7, 3) := dk_180 0 7 (dk_at dksX4_open_4 17 rfl rfl)
theorem dX4_open_115 : decode cX4_open 115 = .ok (.iconst 2, 1) := dk_5 (dk_at dksX4_open_4 20 rfl rfl)
theorem dX4_open_116 : decode cX4_open 116 = .ok (.iaload, 1) := dk_46 (dk_at dksX4_open_4 21 rfl rfl)
theorem dX4_open_117 : decode cX4_open 117 = .ok (.iadd, 1) := dk_96 (dk_at dksX4_open_4 22 rfl rfl)
theorem dX4_open_118 : decode cX4_open 118 = .ok (.iload_n 1, 1) := dk_27 (dk_at dksX4_open_4 23 rfl rfl)
theorem dX4_open_119 : decode cX4_open 119 = .ok (.iastore, 1) := dk_79 (dk_at dksX4_open_5 0 rfl rfl)
theorem dX4_open_120 : decode cX4_open 120 = .ok (.iload_n 2, 1) := dk_28 (dk_at dksX4_open_5 1 rfl rfl)
theorem dX4_open_121 : decode cX4_open 121 = .ok (.ireturn, 1) := dk_172 (dk_at dksX4_open_5 2 rfl rfl)
abbrev cX4_most : ByteArray := prog_23_method_79_code
def yX4_most : MethodName := ⟨RX4, "most", "(I)I"⟩
def dkwX4_most_1 : List UInt8 := [42, 182, 2, 10, 61, 42, 180, 1, 254, 172]
abbrev dktX4_most_1 : List UInt8 := dkwX4_most_1 ++ []
def dkwX4_most_0 : List UInt8 := [27, 2, 160, 0, 8, 42, 182, 2, 4, 172, 42, 27, 182, 1, 215, 154, 0, 5, 2, 172, 42, 182, 2, 7]
abbrev dktX4_most_0 : List UInt8 := dkwX4_most_0 ++ dktX4_most_1
theorem dksX4_most_0 : cX4_most.data.toList.drop 0 = dktX4_most_0 := by decide +kernel
theorem dksX4_most_1 : cX4_most.data.toList.drop 24 = dktX4_most_1 := dk_seg dksX4_most_0 24 rfl rfl
theorem dX4_most_0 : decode cX4_most 0 = .ok (.iload_n 1, 1) := dk_27 (dk_at dksX4_most_0 0 rfl rfl)
theorem dX4_most_1 : decode cX4_most 1 = .ok (.iconst (-1), 1) := dk_2 (dk_at dksX4_most_0 1 rfl rfl)
theorem dX4_most_2 : decode cX4_most 2 = .ok (.if_icmp .ne 8, 3) := dk_160 0 8 (dk_at dksX4_most_0 2 rfl rfl)
theorem dX4_most_5 : decode cX4_most 5 = .ok (.aload_n 0, 1) := dk_42 (dk_at dksX4_most_0 5 rfl rfl)
theorem dX4_most_6 : decode cX4_most 6 = .ok (.invokevirtual 516, 3) := dk_182 2 4 (dk_at dksX4_most_0 6 rfl rfl)
theorem dX4_most_9 : decode cX4_most 9 = .ok (.ireturn, 1) := dk_172 (dk_at dksX4_most_0 9 rfl rfl)
theorem dX4_most_10 : decode cX4_most 10 = .ok (.aload_n 0, 1) := dk_42 (dk_at dksX4_most_0 10 rfl rfl)
theorem dX4_most_11 : decode cX4_most 11 = .ok (.iload_n 1, 1) := dk_27 (dk_at dksX4_most_0 11 rfl rfl)
theorem dX4_most_12 : decode cX4_most 12 = .ok (.invokevirtual 471, 3) := dk_182 1 215 (dk_at dksX4_most_0 12 rfl rfl)
theorem dX4_most_15 : decode cX4_most 15 = .ok (.ifCond .ne 5, 3) := dk_154 0 5 (dk_at dksX4_most_0 15 rfl rfl)
theorem dX4_most_18 : decode cX4_most 18 = .ok (.iconst (-1), 1) := dk_2 (dk_at dksX4_most_0 18 rfl rfl)
theorem dX4_most_19 : decode cX4_most 19 = .ok (.ireturn, 1) := dk_172 (dk_at dksX4_most_0 19 rfl rfl)
theorem dX4_most_20 : decode cX4_most 20 = .ok (.aload_n 0, 1) := dk_42 (dk_at dksX4_most_0 20 rfl rfl)
theorem dX4_most_21 : decode cX4_most 21 = .ok (.invokevirtual 519, 3) := dk_182 2 7 (dk_at dksX4_most_0 21 rfl rfl)
theorem dX4_most_24 : decode cX4_most 24 = .ok (.aload_n 0, 1) := dk_42 (dk_at dksX4_most_1 0 rfl rfl)
theorem dX4_most_25 : decode cX4_most 25 = .ok (.invokevirtual 522, 3) := dk_182 2 10 (dk_at dksX4_most_1 1 rfl rfl)
theorem dX4_most_28 : decode cX4_most 28 = .ok (.istore_n 2, 1) := dk_61 (dk_at dksX4_most_1 4 rfl rfl)
theorem dX4_most_29 : decode cX4_most 29 = .ok (.aload_n 0, 1) := dk_42 (dk_at dksX4_most_1 5 rfl rfl)
theorem dX4_most_30 : decode cX4_most 30 = .ok (.getfield 510, 3) := dk_180 1 254 (dk_at dksX4_most_1 6 rfl rfl)
theorem dX4_most_33 : decode cX4_most 33 = .ok (.ireturn, 1) := dk_172 (dk_at dksX4_most_1 9 rfl rfl)
abbrev cX4_easeOfAll : ByteArray := prog_23_method_71_code
def yX4_easeOfAll : MethodName := ⟨RX4, "easeOfAll", "()I"⟩
def dkwX4_easeOfAll_8 : List UInt8 := [180, 0, 124, 27, 4, 100, 16, 8, 104, 46, 61, 28, 17, 39, 16, 161, 0, 7, 2, 167, 0, 4, 28, 172]
abbrev dktX4_easeOfAll_8 : List UInt8 := dkwX4_easeOfAll_8 ++ []
def dkwX4_easeOfAll_7 : List UInt8 := [132, 3, 1, 167, 255, 105, 132, 2, 1, 167, 255, 92, 27, 154, 0, 9, 17, 39, 16, 167, 0, 14, 42]
abbrev dktX4_easeOfAll_7 : List UInt8 := dkwX4_easeOfAll_7 ++ dktX4_easeOfAll_8
def dkwX4_easeOfAll_6 : List UInt8 := [21, 4, 21, 6, 182, 1, 224, 184, 1, 218, 79, 132, 5, 1, 167, 255, 170, 42, 29, 21, 4, 182, 1, 227]
abbrev dktX4_easeOfAll_6 : List UInt8 := dkwX4_easeOfAll_6 ++ dktX4_easeOfAll_7
def dkwX4_easeOfAll_5 : List UInt8 := [180, 0, 48, 21, 6, 46, 96, 54, 7, 42, 180, 0, 124, 21, 7, 42, 180, 0, 124, 21, 7, 46, 42, 29]
abbrev dktX4_easeOfAll_5 : List UInt8 := dkwX4_easeOfAll_5 ++ dktX4_easeOfAll_6
def dkwX4_easeOfAll_4 : List UInt8 := [180, 0, 7, 16, 10, 21, 4, 96, 46, 160, 0, 49, 16, 24, 29, 104, 21, 4, 96, 16, 8, 104, 42]
abbrev dktX4_easeOfAll_4 : List UInt8 := dkwX4_easeOfAll_4 ++ dktX4_easeOfAll_5
def dkwX4_easeOfAll_3 : List UInt8 := [182, 1, 153, 162, 0, 83, 42, 21, 5, 182, 1, 156, 54, 6, 42, 180, 0, 36, 21, 6, 46, 42]
abbrev dktX4_easeOfAll_3 : List UInt8 := dkwX4_easeOfAll_3 ++ dktX4_easeOfAll_4
def dkwX4_easeOfAll_2 : List UInt8 := [96, 16, 8, 104, 21, 5, 96, 17, 39, 16, 79, 132, 5, 1, 167, 255, 225, 3, 54, 5, 21, 5, 42]
abbrev dktX4_easeOfAll_2 : List UInt8 := dkwX4_easeOfAll_2 ++ dktX4_easeOfAll_3
def dkwX4_easeOfAll_1 : List UInt8 := [28, 96, 54, 4, 3, 54, 5, 21, 5, 16, 8, 162, 0, 30, 42, 180, 0, 124, 16, 24, 29, 104, 21, 4]
abbrev dktX4_easeOfAll_1 : List UInt8 := dkwX4_easeOfAll_1 ++ dktX4_easeOfAll_2
def dkwX4_easeOfAll_0 : List UInt8 := [42, 180, 0, 7, 5, 46, 60, 3, 61, 28, 27, 162, 0, 165, 3, 62, 29, 28, 96, 27, 162, 0, 150, 29]
abbrev dktX4_easeOfAll_0 : List UInt8 := dkwX4_easeOfAll_0 ++ dktX4_easeOfAll_1
theorem dksX4_easeOfAll_0 : cX4_easeOfAll.data.toList.drop 0 = dktX4_easeOfAll_0 := by decide +kernel
theorem dksX4_easeOfAll_1 : cX4_easeOfAll.data.toList.drop 24 = dktX4_easeOfAll_1 := dk_seg dksX4_easeOfAll_0 24 rfl rfl
theorem dksX4_easeOfAll_2 : cX4_easeOfAll.data.toList.drop 48 = dktX4_easeOfAll_2 := dk_seg dksX4_easeOfAll_1 24 rfl rfl
theorem dksX4_easeOfAll_3 : cX4_easeOfAll.data.toList.drop 71 = dktX4_easeOfAll_3 := dk_seg dksX4_easeOfAll_2 23 rfl rfl
theorem dksX4_easeOfAll_4 : cX4_easeOfAll.data.toList.drop 93 = dktX4_easeOfAll_4 := dk_seg dksX4_easeOfAll_3 22 rfl rfl
theorem dksX4_easeOfAll_5 : cX4_easeOfAll.data.toList.drop 116 = dktX4_easeOfAll_5 := dk_seg dksX4_easeOfAll_4 23 rfl rfl
theorem dksX4_easeOfAll_6 : cX4_easeOfAll.data.toList.drop 140 = dktX4_easeOfAll_6 := dk_seg dksX4_easeOfAll_5 24 rfl rfl
theorem dksX4_easeOfAll_7 : cX4_easeOfAll.data.toList.drop 164 = dktX4_easeOfAll_7 := dk_seg dksX4_easeOfAll_6 24 rfl rfl
theorem dksX4_easeOfAll_8 : cX4_easeOfAll.data.toList.drop 187 = dktX4_easeOfAll_8 := dk_seg dksX4_easeOfAll_7 23 rfl rfl
theorem dX4_easeOfAll_0 : decode cX4_easeOfAll 0 = .ok (.aload_n 0, 1) := dk_42 (dk_at dksX4_easeOfAll_0 0 rfl rfl)
theorem dX4_easeOfAll_1 : decode cX4_easeOfAll 1 = .ok (.getfield 7, 3) := dk_180 0 7 (dk_at dksX4_easeOfAll_0 1 rfl rfl)
theorem dX4_easeOfAll_4 : decode cX4_easeOfAll 4 = .ok (.iconst 2, 1) := dk_5 (dk_at dksX4_easeOfAll_0 4 rfl rfl)
theorem dX4_easeOfAll_5 : decode cX4_easeOfAll 5 = .ok (.iaload, 1) := dk_46 (dk_at dksX4_easeOfAll_0 5 rfl rfl)
theorem dX4_easeOfAll_6 : decode cX4_easeOfAll 6 = .ok (.istore_n 1, 1) := dk_60 (dk_at dksX4_easeOfAll_0 6 rfl rfl)
theorem dX4_easeOfAll_7 : decode cX4_easeOfAll 7 = .ok (.iconst 0, 1) := dk_3 (dk_at dksX4_easeOfAll_0 7 rfl rfl)
theorem dX4_easeOfAll_8 : decode cX4_easeOfAll 8 = .ok (.istore_n 2, 1) := dk_61 (dk_at dksX4_easeOfAll_0 8 rfl rfl)
theorem dX4_easeOfAll_9 : decode cX4_easeOfAll 9 = .ok (.iload_n 2, 1) := dk_28 (dk_at dksX4_easeOfAll_0 9 rfl rfl)
theorem dX4_easeOfAll_10 : decode cX4_easeOfAll 10 = .ok (.iload_n 1, 1) := dk_27 (dk_at dksX4_easeOfAll_0 10 rfl rfl)
theorem dX4_easeOfAll_11 : decode cX4_easeOfAll 11 = .ok (.if_icmp .ge 165, 3) := dk_162 0 165 (dk_at dksX4_easeOfAll_0 11 rfl rfl)
theorem dX4_easeOfAll_14 : decode cX4_easeOfAll 14 = .ok (.iconst 0, 1) := dk_3 (dk_at dksX4_easeOfAll_0 14 rfl rfl)
theorem dX4_easeOfAll_15 : decode cX4_easeOfAll 15 = .ok (.istore_n 3, 1) := dk_62 (dk_at dksX4_easeOfAll_0 15 rfl rfl)
theorem dX4_easeOfAll_16 : decode cX4_easeOfAll 16 = .ok (.iload_n 3, 1) := dk_29 (dk_at dksX4_easeOfAll_0 16 rfl rfl)
theorem dX4_easeOfAll_17 : decode cX4_easeOfAll 17 = .ok (.iload_n 2, 1) := dk_28 (dk_at dksX4_easeOfAll_0 17 rfl rfl)
theorem dX4_easeOfAll_18 : decode cX4_easeOfAll 18 = .ok (.iadd, 1) := dk_96 (dk_at dksX4_easeOfAll_0 18 rfl rfl)
theorem dX4_easeOfAll_19 : decode cX4_easeOfAll 19 = .ok (.iload_n 1, 1) := dk_27 (dk_at dksX4_easeOfAll_0 19 rfl rfl)
theorem dX4_easeOfAll_20 : decode cX4_easeOfAll 20 = .ok (.if_icmp .ge 150, 3) := dk_162 0 150 (dk_at dksX4_easeOfAll_0 20 rfl rfl)
theorem dX4_easeOfAll_23 : decode cX4_easeOfAll 23 = .ok (.iload_n 3, 1) := dk_29 (dk_at dksX4_easeOfAll_0 23 rfl rfl)
theorem dX4_easeOfAll_24 : decode cX4_easeOfAll 24 = .ok (.iload_n 2, 1) := dk_28 (dk_at dksX4_easeOfAll_1 0 rfl rfl)
theorem dX4_easeOfAll_25 : decode cX4_easeOfAll 25 = .ok (.iadd, 1) := dk_96 (dk_at dksX4_easeOfAll_1 1 rfl rfl)
theorem dX4_easeOfAll_26 : decode cX4_easeOfAll 26 = .ok (.istore 4, 2) := dk_54 4 (dk_at dksX4_easeOfAll_1 2 rfl rfl)
theorem dX4_easeOfAll_28 : decode cX4_easeOfAll 28 = .ok (.iconst 0, 1) := dk_3 (dk_at dksX4_easeOfAll_1 4 rfl rfl)
theorem dX4_easeOfAll_29 : decode cX4_easeOfAll 29 = .ok (.istore 5, 2) := dk_54 5 (dk_at dksX4_easeOfAll_1 5 rfl rfl)
theorem dX4_easeOfAll_31 : decode cX4_easeOfAll 31 = .ok (.iload 5, 2) := dk_21 5 (dk_at dksX4_easeOfAll_1 7 rfl rfl)
theorem dX4_easeOfAll_33 : decode cX4_easeOfAll 33 = .ok (.bipush 8, 2) := dk_16 8 (dk_at dksX4_easeOfAll_1 9 rfl rfl)
theorem dX4_easeOfAll_35 : decode cX4_easeOfAll 35 = .ok (.if_icmp .ge 30, 3) := dk_162 0 30 (dk_at dksX4_easeOfAll_1 11 rfl rfl)
theorem dX4_easeOfAll_38 : decode cX4_easeOfAll 38 = .ok (.aload_n 0, 1) := dk_42 (dk_at dksX4_easeOfAll_1 14 rfl rfl)
theorem dX4_easeOfAll_39 : decode cX4_easeOfAll 39 = .ok (.getfield 124, 3) := dk_180 0 124 (dk_at dksX4_easeOfAll_1 15 rfl rfl)
theorem dX4_easeOfAll_42 : decode cX4_easeOfAll 42 = .ok (.bipush 24, 2) := dk_16 24 (dk_at dksX4_easeOfAll_1 18 rfl rfl)
theorem dX4_easeOfAll_44 : decode cX4_easeOfAll 44 = .ok (.iload_n 3, 1) := dk_29 (dk_at dksX4_easeOfAll_1 20 rfl rfl)
theorem dX4_easeOfAll_45 : decode cX4_easeOfAll 45 = .ok (.imul, 1) := dk_104 (dk_at dksX4_easeOfAll_1 21 rfl rfl)
theorem dX4_easeOfAll_46 : decode cX4_easeOfAll 46 = .ok (.iload 4, 2) := dk_21 4 (dk_at dksX4_easeOfAll_1 22 rfl rfl)
theorem dX4_easeOfAll_48 : decode cX4_easeOfAll 48 = .ok (.iadd, 1) := dk_96 (dk_at dksX4_easeOfAll_2 0 rfl rfl)
theorem dX4_easeOfAll_49 : decode cX4_easeOfAll 49 = .ok (.bipush 8, 2) := dk_16 8 (dk_at dksX4_easeOfAll_2 1 rfl rfl)
theorem dX4_easeOfAll_51 : decode cX4_easeOfAll 51 = .ok (.imul, 1) := dk_104 (dk_at dksX4_easeOfAll_2 3 rfl rfl)
theorem dX4_easeOfAll_52 : decode cX4_easeOfAll 52 = .ok (.iload 5, 2) := dk_21 5 (dk_at dksX4_easeOfAll_2 4 rfl rfl)
theorem dX4_easeOfAll_54 : decode cX4_easeOfAll 54 = .ok (.iadd, 1) := dk_96 (dk_at dksX4_easeOfAll_2 6 rfl rfl)
theorem dX4_easeOfAll_55 : decode cX4_easeOfAll 55 = .ok (.sipush 10000, 3) := dk_17 39 16 (dk_at dksX4_easeOfAll_2 7 rfl rfl)
theorem dX4_easeOfAll_58 : decode cX4_easeOfAll 58 = .ok (.iastore, 1) := dk_79 (dk_at dksX4_easeOfAll_2 10 rfl rfl)
theorem dX4_easeOfAll_59 : decode cX4_easeOfAll 59 = .ok (.iinc 5 1, 3) := dk_132 5 1 (dk_at dksX4_easeOfAll_2 11 rfl rfl)
theorem dX4_easeOfAll_62 : decode cX4_easeOfAll 62 = .ok (.goto (-31), 3) := dk_167 255 225 (dk_at dksX4_easeOfAll_2 14 rfl rfl)
theorem dX4_easeOfAll_65 : decode cX4_easeOfAll 65 = .ok (.iconst 0, 1) := dk_3 (dk_at dksX4_easeOfAll_2 17 rfl rfl)
theorem dX4_easeOfAll_66 : decode cX4_easeOfAll 66 = .ok (.istore 5, 2) := dk_54 5 (dk_at dksX4_easeOfAll_2 18 rfl rfl)
theorem dX4_easeOfAll_68 : decode cX4_easeOfAll 68 = .ok (.iload 5, 2) := dk_21 5 (dk_at dksX4_easeOfAll_2 20 rfl rfl)
theorem dX4_easeOfAll_70 : decode cX4_easeOfAll 70 = .ok (.aload_n 0, 1) := dk_42 (dk_at dksX4_easeOfAll_2 22 rfl rfl)
theorem dX4_easeOfAll_71 : decode cX4_easeOfAll 71 = .ok (.invokevirtual 409, 3) := dk_182 1 153 (dk_at dksX4_easeOfAll_3 0 rfl rfl)
theorem dX4_easeOfAll_74 : decode cX4_easeOfAll 74 = .ok (.if_icmp .ge 83, 3) := dk_162 0 83 (dk_at dksX4_easeOfAll_3 3 rfl rfl)
theorem dX4_easeOfAll_77 : decode cX4_easeOfAll 77 = .ok (.aload_n 0, 1) := dk_42 (dk_at dksX4_easeOfAll_3 6 rfl rfl)
theorem dX4_easeOfAll_78 : decode cX4_easeOfAll 78 = .ok (.iload 5, 2) := dk_21 5 (dk_at dksX4_easeOfAll_3 7 rfl rfl)
theorem dX4_easeOfAll_80 : decode cX4_easeOfAll 80 = .ok (.invokevirtual 412, 3) := dk_182 1 156 (dk_at dksX4_easeOfAll_3 9 rfl rfl)
theorem dX4_easeOfAll_83 : decode cX4_easeOfAll 83 = .ok (.istore 6, 2) := dk_54 6 (dk_at dksX4_easeOfAll_3 12 rfl rfl)
theorem dX4_easeOfAll_85 : decode cX4_easeOfAll 85 = .ok (.aload_n 0, 1) := dk_42 (dk_at dksX4_easeOfAll_3 14 rfl rfl)
theorem dX4_easeOfAll_86 : decode cX4_easeOfAll 86 = .ok (.getfield 36, 3) := dk_180 0 36 (dk_at dksX4_easeOfAll_3 15 rfl rfl)
theorem dX4_easeOfAll_89 : decode cX4_easeOfAll 89 = .ok (.iload 6, 2) := dk_21 6 (dk_at dksX4_easeOfAll_3 18 rfl rfl)
theorem dX4_easeOfAll_91 : decode cX4_easeOfAll 91 = .ok (.iaload, 1) := dk_46 (dk_at dksX4_easeOfAll_3 20 rfl rfl)
theorem dX4_easeOfAll_92 : decode cX4_easeOfAll 92 = .ok (.aload_n 0, 1) := dk_42 (dk_at dksX4_easeOfAll_3 21 rfl rfl)
theorem dX4_easeOfAll_93 : decode cX4_easeOfAll 93 = .ok (.getfield 7, 3) := dk_180 0 7 (dk_at dksX4_easeOfAll_4 0 rfl rfl)
theorem dX4_easeOfAll_96 : decode cX4_easeOfAll 96 = .ok (.bipush 10, 2) := dk_16 10 (dk_at dksX4_easeOfAll_4 3 rfl rfl)
theorem dX4_easeOfAll_98 : decode cX4_easeOfAll 98 = .ok (.iload 4, 2) := dk_21 4 (dk_at dksX4_easeOfAll_4 5 rfl rfl)
theorem dX4_easeOfAll_100 : decode cX4_easeOfAll 100 = .ok (.iadd, 1) := dk_96 (dk_at dksX4_easeOfAll_4 7 rfl rfl)
theorem dX4_easeOfAll_101 : decode cX4_easeOfAll 101 = .ok (.iaload, 1) := dk_46 (dk_at dksX4_easeOfAll_4 8 rfl rfl)
theorem dX4_easeOfAll_102 : decode cX4_easeOfAll 102 = .ok (.if_icmp .ne 49, 3) := dk_160 0 49 (dk_at dksX4_easeOfAll_4 9 rfl rfl)
theorem dX4_easeOfAll_105 : decode cX4_easeOfAll 105 = .ok (.bipush 24, 2) := dk_16 24 (dk_at dksX4_easeOfAll_4 12 rfl rfl)
theorem dX4_easeOfAll_107 : decode cX4_easeOfAll 107 = .ok (.iload_n 3, 1) := dk_29 (dk_at dksX4_easeOfAll_4 14 rfl rfl)
theorem dX4_easeOfAll_108 : decode cX4_easeOfAll 108 = .ok (.imul, 1) := dk_104 (dk_at dksX4_easeOfAll_4 15 rfl rfl)
theorem dX4_easeOfAll_109 : decode cX4_easeOfAll 109 = .ok (.iload 4, 2) := dk_21 4 (dk_at dksX4_easeOfAll_4 16 rfl rfl)
theorem dX4_easeOfAll_111 : decode cX4_easeOfAll 111 = .ok (.iadd, 1) := dk_96 (dk_at dksX4_easeOfAll_4 18 rfl rfl)
theorem dX4_easeOfAll_112 : decode cX4_easeOfAll 112 = .ok (.bipush 8, 2) := dk_16 8 (dk_at dksX4_easeOfAll_4 19 rfl rfl)
theorem dX4_easeOfAll_114 : decode cX4_easeOfAll 114 = .ok (.imul, 1) := dk_104 (dk_at dksX4_easeOfAll_4 21 rfl rfl)
theorem dX4_easeOfAll_115 : decode cX4_easeOfAll 115 = .ok (.aload_n 0, 1) := dk_42 (dk_at dksX4_easeOfAll_4 22 rfl rfl)
theorem dX4_easeOfAll_116 : decode cX4_easeOfAll 116 = .ok (.getfield 48, 3) := dk_180 0 48 (dk_at dksX4_easeOfAll_5 0 rfl rfl)
theorem dX4_easeOfAll_119 : decode cX4_easeOfAll 119 = .ok (.iload 6, 2) := dk_21 6 (dk_at dksX4_easeOfAll_5 3 rfl rfl)
theorem dX4_easeOfAll_121 : decode cX4_easeOfAll 121 = .ok (.iaload, 1) := dk_46 (dk_at dksX4_easeOfAll_5 5 rfl rfl)
theorem dX4_easeOfAll_122 : decode cX4_easeOfAll 122 = .ok (.iadd, 1) := dk_96 (dk_at dksX4_easeOfAll_5 6 rfl rfl)
theorem dX4_easeOfAll_123 : decode cX4_easeOfAll 123 = .ok (.istore 7, 2) := dk_54 7 (dk_at dksX4_easeOfAll_5 7 rfl rfl)
theorem dX4_easeOfAll_125 : decode cX4_easeOfAll 125 = .ok (.aload_n 0, 1) := dk_42 (dk_at dksX4_easeOfAll_5 9 rfl rfl)
theorem dX4_easeOfAll_126 : decode cX4_easeOfAll 126 = .ok (.getfield 124, 3) := dk_180 0 124 (dk_at dksX4_easeOfAll_5 10 rfl rfl)
theorem dX4_easeOfAll_129 : decode cX4_easeOfAll 129 = .ok (.iload 7, 2) := dk_21 7 (dk_at dksX4_easeOfAll_5 13 rfl rfl)
theorem dX4_easeOfAll_131 : decode cX4_easeOfAll 131 = .ok (.aload_n 0, 1) := dk_42 (dk_at dksX4_easeOfAll_5 15 rfl rfl)
theorem dX4_easeOfAll_132 : decode cX4_easeOfAll 132 = .ok (.getfield 124, 3) := dk_180 0 124 (dk_at dksX4_easeOfAll_5 16 rfl rfl)
theorem dX4_easeOfAll_135 : decode cX4_easeOfAll 135 = .ok (.iload 7, 2) := dk_21 7 (dk_at dksX4_easeOfAll_5 19 rfl rfl)
theorem dX4_easeOfAll_137 : decode cX4_easeOfAll 137 = .ok (.iaload, 1) := dk_46 (dk_at dksX4_easeOfAll_5 21 rfl rfl)
theorem dX4_easeOfAll_138 : decode cX4_easeOfAll 138 = .ok (.aload_n 0, 1) := dk_42 (dk_at dksX4_easeOfAll_5 22 rfl rfl)
theorem dX4_easeOfAll_139 : decode cX4_easeOfAll 139 = .ok (.iload_n 3, 1) := dk_29 (dk_at dksX4_easeOfAll_5 23 rfl rfl)
theorem dX4_easeOfAll_140 : decode cX4_easeOfAll 140 = .ok (.iload 4, 2) := dk_21 4 (dk_at dksX4_easeOfAll_6 0 rfl rfl)
theorem dX4_easeOfAll_142 : decode cX4_easeOfAll 142 = .ok (.iload 6, 2) := dk_21 6 (dk_at dksX4_easeOfAll_6 2 rfl rfl)
theorem dX4_easeOfAll_144 : decode cX4_easeOfAll 144 = .ok (.invokevirtual 480, 3) := dk_182 1 224 (dk_at dksX4_easeOfAll_6 4 rfl rfl)
theorem dX4_easeOfAll_147 : decode cX4_easeOfAll 147 = .ok (.invokestatic 474, 3) := dk_184 1 218 (dk_at dksX4_easeOfAll_6 7 rfl rfl)
theorem dX4_easeOfAll_150 : decode cX4_easeOfAll 150 = .ok (.iastore, 1) := dk_79 (dk_at dksX4_easeOfAll_6 10 rfl rfl)
theorem dX4_easeOfAll_151 : decode cX4_easeOfAll 151 = .ok (.iinc 5 1, 3) := dk_132 5 1 (dk_at dksX4_easeOfAll_6 11 rfl rfl)
theorem dX4_easeOfAll_154 : decode cX4_easeOfAll 154 = .ok (.goto (-86), 3) := dk_167 255 170 (dk_at dksX4_easeOfAll_6 14 rfl rfl)
theorem dX4_easeOfAll_157 : decode cX4_easeOfAll 157 = .ok (.aload_n 0, 1) := dk_42 (dk_at dksX4_easeOfAll_6 17 rfl rfl)
theorem dX4_easeOfAll_158 : decode cX4_easeOfAll 158 = .ok (.iload_n 3, 1) := dk_29 (dk_at dksX4_easeOfAll_6 18 rfl rfl)
theorem dX4_easeOfAll_159 : decode cX4_easeOfAll 159 = .ok (.iload 4, 2) := dk_21 4 (dk_at dksX4_easeOfAll_6 19 rfl rfl)
theorem dX4_easeOfAll_161 : decode cX4_easeOfAll 161 = .ok (.invokevirtual 483, 3) := dk_182 1 227 (dk_at dksX4_easeOfAll_6 21 rfl rfl)
theorem dX4_easeOfAll_164 : decode cX4_easeOfAll 164 = .ok (.iinc 3 1, 3) := dk_132 3 1 (dk_at dksX4_easeOfAll_7 0 rfl rfl)
theorem dX4_easeOfAll_167 : decode cX4_easeOfAll 167 = .ok (.goto (-151), 3) := dk_167 255 105 (dk_at dksX4_easeOfAll_7 3 rfl rfl)
theorem dX4_easeOfAll_170 : decode cX4_easeOfAll 170 = .ok (.iinc 2 1, 3) := dk_132 2 1 (dk_at dksX4_easeOfAll_7 6 rfl rfl)
theorem dX4_easeOfAll_173 : decode cX4_easeOfAll 173 = .ok (.goto (-164), 3) := dk_167 255 92 (dk_at dksX4_easeOfAll_7 9 rfl rfl)
theorem dX4_easeOfAll_176 : decode cX4_easeOfAll 176 = .ok (.iload_n 1, 1) := dk_27 (dk_at dksX4_easeOfAll_7 12 rfl rfl)
theorem dX4_easeOfAll_177 : decode cX4_easeOfAll 177 = .ok (.ifCond .ne 9, 3) := dk_154 0 9 (dk_at dksX4_easeOfAll_7 13 rfl rfl)
theorem dX4_easeOfAll_180 : decode cX4_easeOfAll 180 = .ok (.sipush 10000, 3) := dk_17 39 16 (dk_at dksX4_easeOfAll_7 16 rfl rfl)
theorem dX4_easeOfAll_183 : decode cX4_easeOfAll 183 = .ok (.goto 14, 3) := dk_167 0 14 (dk_at dksX4_easeOfAll_7 19 rfl rfl)
theorem dX4_easeOfAll_186 : decode cX4_easeOfAll 186 = .ok (.aload_n 0, 1) := dk_42 (dk_at dksX4_easeOfAll_7 22 rfl rfl)
theorem dX4_easeOfAll_187 : decode cX4_easeOfAll 187 = .ok (.getfield 124, 3) := dk_180 0 124 (dk_at dksX4_easeOfAll_8 0 rfl rfl)
theorem dX4_easeOfAll_190 : decode cX4_easeOfAll 190 = .ok (.iload_n 1, 1) := dk_27 (dk_at dksX4_easeOfAll_8 3 rfl rfl)
theorem dX4_easeOfAll_191 : decode cX4_easeOfAll 191 = .ok (.iconst 1, 1) := dk_4 (dk_at dksX4_easeOfAll_8 4 rfl rfl)
theorem dX4_easeOfAll_192 : decode cX4_easeOfAll 192 = .ok (.isub, 1) := dk_100 (dk_at dksX4_easeOfAll_8 5 rfl rfl)
theorem dX4_easeOfAll_193 : decode cX4_easeOfAll 193 = .ok (.bipush 8, 2) := dk_16 8 (dk_at dksX4_easeOfAll_8 6 rfl rfl)
theorem dX4_easeOfAll_195 : decode cX4_easeOfAll 195 = .ok (.imul, 1) := dk_104 (dk_at dksX4_easeOfAll_8 8 rfl rfl)
theorem dX4_easeOfAll_196 : decode cX4_easeOfAll 196 = .ok (.iaload, 1) := dk_46 (dk_at dksX4_easeOfAll_8 9 rfl rfl)
theorem dX4_easeOfAll_197 : decode cX4_easeOfAll 197 = .ok (.istore_n 2, 1) := dk_61 (dk_at dksX4_easeOfAll_8 10 rfl rfl)
theorem dX4_easeOfAll_198 : decode cX4_easeOfAll 198 = .ok (.iload_n 2, 1) := dk_28 (dk_at dksX4_easeOfAll_8 11 rfl rfl)
theorem dX4_easeOfAll_199 : decode cX4_easeOfAll 199 = .ok (.sipush 10000, 3) := dk_17 39 16 (dk_at dksX4_easeOfAll_8 12 rfl rfl)
theorem dX4_easeOfAll_202 : decode cX4_easeOfAll 202 = .ok (.if_icmp .lt 7, 3) := dk_161 0 7 (dk_at dksX4_easeOfAll_8 15 rfl rfl)
theorem dX4_easeOfAll_205 : decode cX4_easeOfAll 205 = .ok (.iconst (-1), 1) := dk_2 (dk_at dksX4_easeOfAll_8 18 rfl rfl)
theorem dX4_easeOfAll_206 : decode cX4_easeOfAll 206 = .ok (.goto 4, 3) := dk_167 0 4 (dk_at dksX4_easeOfAll_8 19 rfl rfl)
theorem dX4_easeOfAll_209 : decode cX4_easeOfAll 209 = .ok (.iload_n 2, 1) := dk_28 (dk_at dksX4_easeOfAll_8 22 rfl rfl)
theorem dX4_easeOfAll_210 : decode cX4_easeOfAll 210 = .ok (.ireturn, 1) := dk_172 (dk_at dksX4_easeOfAll_8 23 rfl rfl)
abbrev cX4_easeBy : ByteArray := prog_23_method_69_code
def yX4_easeBy : MethodName := ⟨RX4, "easeBy", "(III)I"⟩
def dkwX4_easeBy_14 : List UInt8 := [184, 1, 221, 184, 1, 218, 54, 6, 132, 7, 1, 167, 255, 193, 21, 6, 172]
abbrev dktX4_easeBy_14 : List UInt8 := dkwX4_easeBy_14 ++ []
def dkwX4_easeBy_13 : List UInt8 := [180, 0, 124, 16, 24, 21, 7, 4, 96, 104, 28, 96, 4, 100, 16, 8, 104, 21, 5, 96, 46, 96]
abbrev dktX4_easeBy_13 : List UInt8 := dkwX4_easeBy_13 ++ dktX4_easeBy_14
def dkwX4_easeBy_12 : List UInt8 := [21, 6, 42, 180, 0, 124, 16, 24, 27, 104, 21, 7, 96, 16, 8, 104, 21, 4, 96, 46, 4, 42]
abbrev dktX4_easeBy_12 : List UInt8 := dkwX4_easeBy_12 ++ dktX4_easeBy_13
def dkwX4_easeBy_11 : List UInt8 := [167, 255, 180, 132, 7, 1, 167, 255, 165, 21, 6, 172, 27, 54, 7, 21, 7, 28, 4, 100, 162, 0, 61]
abbrev dktX4_easeBy_11 : List UInt8 := dkwX4_easeBy_11 ++ dktX4_easeBy_12
def dkwX4_easeBy_10 : List UInt8 := [104, 21, 5, 96, 16, 6, 104, 21, 7, 96, 46, 96, 184, 1, 221, 184, 1, 218, 54, 6, 132, 8, 1]
abbrev dktX4_easeBy_10 : List UInt8 := dkwX4_easeBy_10 ++ dktX4_easeBy_11
def dkwX4_easeBy_9 : List UInt8 := [104, 21, 7, 96, 46, 21, 7, 42, 180, 0, 127, 16, 24, 21, 8, 4, 96, 104, 28, 96, 4, 100, 16, 8]
abbrev dktX4_easeBy_9 : List UInt8 := dkwX4_easeBy_9 ++ dktX4_easeBy_10
def dkwX4_easeBy_8 : List UInt8 := [162, 0, 74, 21, 6, 42, 180, 0, 127, 16, 24, 27, 104, 21, 8, 96, 16, 8, 104, 21, 4, 96, 16, 6]
abbrev dktX4_easeBy_8 : List UInt8 := dkwX4_easeBy_8 ++ dktX4_easeBy_9
def dkwX4_easeBy_7 : List UInt8 := [167, 255, 209, 21, 6, 172, 4, 54, 7, 21, 7, 7, 162, 0, 91, 27, 54, 8, 21, 8, 28, 4, 100]
abbrev dktX4_easeBy_7 : List UInt8 := dkwX4_easeBy_7 ++ dktX4_easeBy_8
def dkwX4_easeBy_6 : List UInt8 := [4, 100, 16, 8, 104, 21, 4, 96, 16, 6, 104, 21, 7, 96, 46, 184, 1, 218, 54, 6, 132, 7, 1]
abbrev dktX4_easeBy_6 : List UInt8 := dkwX4_easeBy_6 ++ dktX4_easeBy_7
def dkwX4_easeBy_5 : List UInt8 := [21, 7, 16, 6, 162, 0, 46, 27, 28, 162, 0, 41, 21, 6, 42, 180, 0, 127, 16, 24, 27, 104, 28, 96]
abbrev dktX4_easeBy_5 : List UInt8 := dkwX4_easeBy_5 ++ dktX4_easeBy_6
def dkwX4_easeBy_4 : List UInt8 := [27, 104, 28, 96, 4, 100, 16, 8, 104, 21, 4, 96, 46, 167, 0, 6, 17, 39, 16, 172, 4, 54, 7]
abbrev dktX4_easeBy_4 : List UInt8 := dkwX4_easeBy_4 ++ dktX4_easeBy_5
def dkwX4_easeBy_3 : List UInt8 := [27, 28, 160, 0, 7, 4, 167, 0, 6, 17, 39, 16, 172, 27, 28, 162, 0, 25, 42, 180, 0, 124, 16, 24]
abbrev dktX4_easeBy_3 : List UInt8 := dkwX4_easeBy_3 ++ dktX4_easeBy_4
def dkwX4_easeBy_2 : List UInt8 := [170, 0, 0, 0, 237, 0, 0, 0, 0, 0, 0, 0, 5, 0, 0, 0, 37, 0, 0, 0, 237, 0, 0, 0, 237, 0, 0, 0, 81, 0, 0, 0, 137, 0, 0, 0, 50]
abbrev dktX4_easeBy_2 : List UInt8 := dkwX4_easeBy_2 ++ dktX4_easeBy_3
def dkwX4_easeBy_1 : List UInt8 := [180, 0, 39, 29, 46]
abbrev dktX4_easeBy_1 : List UInt8 := dkwX4_easeBy_1 ++ dktX4_easeBy_2
def dkwX4_easeBy_0 : List UInt8 := [42, 180, 0, 42, 29, 46, 54, 4, 42, 180, 0, 45, 29, 46, 54, 5, 17, 39, 16, 54, 6, 42]
abbrev dktX4_easeBy_0 : List UInt8 := dkwX4_easeBy_0 ++ dktX4_easeBy_1
theorem dksX4_easeBy_0 : cX4_easeBy.data.toList.drop 0 = dktX4_easeBy_0 := by decide +kernel
theorem dksX4_easeBy_1 : cX4_easeBy.data.toList.drop 22 = dktX4_easeBy_1 := dk_seg dksX4_easeBy_0 22 rfl rfl
theorem dksX4_easeBy_2 : cX4_easeBy.data.toList.drop 27 = dktX4_easeBy_2 := dk_seg dksX4_easeBy_1 5 rfl rfl
theorem dksX4_easeBy_3 : cX4_easeBy.data.toList.drop 64 = dktX4_easeBy_3 := dk_seg dksX4_easeBy_2 37 rfl rfl
theorem dksX4_easeBy_4 : cX4_easeBy.data.toList.drop 88 = dktX4_easeBy_4 := dk_seg dksX4_easeBy_3 24 rfl rfl
theorem dksX4_easeBy_5 : cX4_easeBy.data.toList.drop 111 = dktX4_easeBy_5 := dk_seg dksX4_easeBy_4 23 rfl rfl
theorem dksX4_easeBy_6 : cX4_easeBy.data.toList.drop 135 = dktX4_easeBy_6 := dk_seg dksX4_easeBy_5 24 rfl rfl
theorem dksX4_easeBy_7 : cX4_easeBy.data.toList.drop 158 = dktX4_easeBy_7 := dk_seg dksX4_easeBy_6 23 rfl rfl
theorem dksX4_easeBy_8 : cX4_easeBy.data.toList.drop 181 = dktX4_easeBy_8 := dk_seg dksX4_easeBy_7 23 rfl rfl
theorem dksX4_easeBy_9 : cX4_easeBy.data.toList.drop 205 = dktX4_easeBy_9 := dk_seg dksX4_easeBy_8 24 rfl rfl
theorem dksX4_easeBy_10 : cX4_easeBy.data.toList.drop 229 = dktX4_easeBy_10 := dk_seg dksX4_easeBy_9 24 rfl rfl
theorem dksX4_easeBy_11 : cX4_easeBy.data.toList.drop 252 = dktX4_easeBy_11 := dk_seg dksX4_easeBy_10 23 rfl rfl
theorem dksX4_easeBy_12 : cX4_easeBy.data.toList.drop 275 = dktX4_easeBy_12 := dk_seg dksX4_easeBy_11 23 rfl rfl
theorem dksX4_easeBy_13 : cX4_easeBy.data.toList.drop 297 = dktX4_easeBy_13 := dk_seg dksX4_easeBy_12 22 rfl rfl
theorem dksX4_easeBy_14 : cX4_easeBy.data.toList.drop 319 = dktX4_easeBy_14 := dk_seg dksX4_easeBy_13 22 rfl rfl
theorem dX4_easeBy_0 : decode cX4_easeBy 0 = .ok (.aload_n 0, 1) := dk_42 (dk_at dksX4_easeBy_0 0 rfl rfl)
theorem dX4_easeBy_1 : decode cX4_easeBy 1 = .ok (.getfield 42, 3) := dk_180 0 42 (dk_at dksX4_easeBy_0 1 rfl rfl)
theorem dX4_easeBy_4 : decode cX4_easeBy 4 = .ok (.iload_n 3, 1) := dk_29 (dk_at dksX4_easeBy_0 4 rfl rfl)
theorem dX4_easeBy_5 : decode cX4_easeBy 5 = .ok (.iaload, 1) := dk_46 (dk_at dksX4_easeBy_0 5 rfl rfl)
theorem dX4_easeBy_6 : decode cX4_easeBy 6 = .ok (.istore 4, 2) := dk_54 4 (dk_at dksX4_easeBy_0 6 rfl rfl)
theorem dX4_easeBy_8 : decode cX4_easeBy 8 = .ok (.aload_n 0, 1) := dk_42 (dk_at dksX4_easeBy_0 8 rfl rfl)
theorem dX4_easeBy_9 : decode cX4_easeBy 9 = .ok (.getfield 45, 3) := dk_180 0 45 (dk_at dksX4_easeBy_0 9 rfl rfl)
theorem dX4_easeBy_12 : decode cX4_easeBy 12 = .ok (.iload_n 3, 1) := dk_29 (dk_at dksX4_easeBy_0 12 rfl rfl)
theorem dX4_easeBy_13 : decode cX4_easeBy 13 = .ok (.iaload, 1) := dk_46 (dk_at dksX4_easeBy_0 13 rfl rfl)
theorem dX4_easeBy_14 : decode cX4_easeBy 14 = .ok (.istore 5, 2) := dk_54 5 (dk_at dksX4_easeBy_0 14 rfl rfl)
theorem dX4_easeBy_16 : decode cX4_easeBy 16 = .ok (.sipush 10000, 3) := dk_17 39 16 (dk_at dksX4_easeBy_0 16 rfl rfl)
theorem dX4_easeBy_19 : decode cX4_easeBy 19 = .ok (.istore 6, 2) := dk_54 6 (dk_at dksX4_easeBy_0 19 rfl rfl)
theorem dX4_easeBy_21 : decode cX4_easeBy 21 = .ok (.aload_n 0, 1) := dk_42 (dk_at dksX4_easeBy_0 21 rfl rfl)
theorem dX4_easeBy_22 : decode cX4_easeBy 22 = .ok (.getfield 39, 3) := dk_180 0 39 (dk_at dksX4_easeBy_1 0 rfl rfl)
theorem dX4_easeBy_25 : decode cX4_easeBy 25 = .ok (.iload_n 3, 1) := dk_29 (dk_at dksX4_easeBy_1 3 rfl rfl)
theorem dX4_easeBy_26 : decode cX4_easeBy 26 = .ok (.iaload, 1) := dk_46 (dk_at dksX4_easeBy_1 4 rfl rfl)
theorem dX4_easeBy_27 : decode cX4_easeBy 27 = .ok (.tableswitch 237 0 5 #[37, 237, 237, 81, 137, 50], 37) := by decide +kernel
theorem dX4_easeBy_64 : decode cX4_easeBy 64 = .ok (.iload_n 1, 1) := dk_27 (dk_at dksX4_easeBy_3 0 rfl rfl)
theorem dX4_easeBy_65 : decode cX4_easeBy 65 = .ok (.iload_n 2, 1) := dk_28 (dk_at dksX4_easeBy_3 1 rfl rfl)
theorem dX4_easeBy_66 : decode cX4_easeBy 66 = .ok (.if_icmp .ne 7, 3) := dk_160 0 7 (dk_at dksX4_easeBy_3 2 rfl rfl)
theorem dX4_easeBy_69 : decode cX4_easeBy 69 = .ok (.iconst 1, 1) := dk_4 (dk_at dksX4_easeBy_3 5 rfl rfl)
theorem dX4_easeBy_70 : decode cX4_easeBy 70 = .ok (.goto 6, 3) := dk_167 0 6 (dk_at dksX4_easeBy_3 6 rfl rfl)
theorem dX4_easeBy_73 : decode cX4_easeBy 73 = .ok (.sipush 10000, 3) := dk_17 39 16 (dk_at dksX4_easeBy_3 9 rfl rfl)
theorem dX4_easeBy_76 : decode cX4_easeBy 76 = .ok (.ireturn, 1) := dk_172 (dk_at dksX4_easeBy_3 12 rfl rfl)
theorem dX4_easeBy_77 : decode cX4_easeBy 77 = .ok (.iload_n 1, 1) := dk_27 (dk_at dksX4_easeBy_3 13 rfl rfl)
theorem dX4_easeBy_78 : decode cX4_easeBy 78 = .ok (.iload_n 2, 1) := dk_28 (dk_at dksX4_easeBy_3 14 rfl rfl)
theorem dX4_easeBy_79 : decode cX4_easeBy 79 = .ok (.if_icmp .ge 25, 3) := dk_162 0 25 (dk_at dksX4_easeBy_3 15 rfl rfl)
theorem dX4_easeBy_82 : decode cX4_easeBy 82 = .ok (.aload_n 0, 1) := dk_42 (dk_at dksX4_easeBy_3 18 rfl rfl)
theorem dX4_easeBy_83 : decode cX4_easeBy 83 = .ok (.getfield 124, 3) := dk_180 0 124 (dk_at dksX4_easeBy_3 19 rfl rfl)
theorem dX4_easeBy_86 : decode cX4_easeBy 86 = .ok (.bipush 24, 2) := dk_16 24 (dk_at dksX4_easeBy_3 22 rfl rfl)
theorem dX4_easeBy_88 : decode cX4_easeBy 88 = .ok (.iload_n 1, 1) := dk_27 (dk_at dksX4_easeBy_4 0 rfl rfl)
theorem dX4_easeBy_89 : decode cX4_easeBy 89 = .ok (.imul, 1) := dk_104 (dk_at dksX4_easeBy_4 1 rfl rfl)
theorem dX4_easeBy_90 : decode cX4_easeBy 90 = .ok (.iload_n 2, 1) := dk_28 (dk_at dksX4_easeBy_4 2 rfl rfl)
theorem dX4_easeBy_91 : decode cX4_easeBy 91 = .ok (.iadd, 1) := dk_96 (dk_at dksX4_easeBy_4 3 rfl rfl)
theorem dX4_easeBy_92 : decode cX4_easeBy 92 = .ok (.iconst 1, 1) := dk_4 (dk_at dksX4_easeBy_4 4 rfl rfl)
theorem dX4_easeBy_93 : decode cX4_easeBy 93 = .ok (.isub, 1) := dk_100 (dk_at dksX4_easeBy_4 5 rfl rfl)
theorem dX4_easeBy_94 : decode cX4_easeBy 94 = .ok (.bipush 8, 2) := dk_16 8 (dk_at dksX4_easeBy_4 6 rfl rfl)
theorem dX4_easeBy_96 : decode cX4_easeBy 96 = .ok (.imul, 1) := dk_104 (dk_at dksX4_easeBy_4 8 rfl rfl)
theorem dX4_easeBy_97 : decode cX4_easeBy 97 = .ok (.iload 4, 2) := dk_21 4 (dk_at dksX4_easeBy_4 9 rfl rfl)
theorem dX4_easeBy_99 : decode cX4_easeBy 99 = .ok (.iadd, 1) := dk_96 (dk_at dksX4_easeBy_4 11 rfl rfl)
theorem dX4_easeBy_100 : decode cX4_easeBy 100 = .ok (.iaload, 1) := dk_46 (dk_at dksX4_easeBy_4 12 rfl rfl)
theorem dX4_easeBy_101 : decode cX4_easeBy 101 = .ok (.goto 6, 3) := dk_167 0 6 (dk_at dksX4_easeBy_4 13 rfl rfl)
theorem dX4_easeBy_104 : decode cX4_easeBy 104 = .ok (.sipush 10000, 3) := dk_17 39 16 (dk_at dksX4_easeBy_4 16 rfl rfl)
theorem dX4_easeBy_107 : decode cX4_easeBy 107 = .ok (.ireturn, 1) := dk_172 (dk_at dksX4_easeBy_4 19 rfl rfl)
theorem dX4_easeBy_108 : decode cX4_easeBy 108 = .ok (.iconst 1, 1) := dk_4 (dk_at dksX4_easeBy_4 20 rfl rfl)
theorem dX4_easeBy_109 : decode cX4_easeBy 109 = .ok (.istore 7, 2) := dk_54 7 (dk_at dksX4_easeBy_4 21 rfl rfl)
theorem dX4_easeBy_111 : decode cX4_easeBy 111 = .ok (.iload 7, 2) := dk_21 7 (dk_at dksX4_easeBy_5 0 rfl rfl)
theorem dX4_easeBy_113 : decode cX4_easeBy 113 = .ok (.bipush 6, 2) := dk_16 6 (dk_at dksX4_easeBy_5 2 rfl rfl)
theorem dX4_easeBy_115 : decode cX4_easeBy 115 = .ok (.if_icmp .ge 46, 3) := dk_162 0 46 (dk_at dksX4_easeBy_5 4 rfl rfl)
theorem dX4_easeBy_118 : decode cX4_easeBy 118 = .ok (.iload_n 1, 1) := dk_27 (dk_at dksX4_easeBy_5 7 rfl rfl)
theorem dX4_easeBy_119 : decode cX4_easeBy 119 = .ok (.iload_n 2, 1) := dk_28 (dk_at dksX4_easeBy_5 8 rfl rfl)
theorem dX4_easeBy_120 : decode cX4_easeBy 120 = .ok (.if_icmp .ge 41, 3) := dk_162 0 41 (dk_at dksX4_easeBy_5 9 rfl rfl)
theorem dX4_easeBy_123 : decode cX4_easeBy 123 = .ok (.iload 6, 2) := dk_21 6 (dk_at dksX4_easeBy_5 12 rfl rfl)
theorem dX4_easeBy_125 : decode cX4_easeBy 125 = .ok (.aload_n 0, 1) := dk_42 (dk_at dksX4_easeBy_5 14 rfl rfl)
theorem dX4_easeBy_126 : decode cX4_easeBy 126 = .ok (.getfield 127, 3) := dk_180 0 127 (dk_at dksX4_easeBy_5 15 rfl rfl)
theorem dX4_easeBy_129 : decode cX4_easeBy 129 = .ok (.bipush 24, 2) := dk_16 24 (dk_at dksX4_easeBy_5 18 rfl rfl)
theorem dX4_easeBy_131 : decode cX4_easeBy 131 = .ok (.iload_n 1, 1) := dk_27 (dk_at dksX4_easeBy_5 20 rfl rfl)
theorem dX4_easeBy_132 : decode cX4_easeBy 132 = .ok (.imul, 1) := dk_104 (dk_at dksX4_easeBy_5 21 rfl rfl)
theorem dX4_easeBy_133 : decode cX4_easeBy 133 = .ok (.iload_n 2, 1) := dk_28 (dk_at dksX4_easeBy_5 22 rfl rfl)
theorem dX4_easeBy_134 : decode cX4_easeBy 134 = .ok (.iadd, 1) := dk_96 (dk_at dksX4_easeBy_5 23 rfl rfl)
theorem dX4_easeBy_135 : decode cX4_easeBy 135 = .ok (.iconst 1, 1) := dk_4 (dk_at dksX4_easeBy_6 0 rfl rfl)
theorem dX4_easeBy_136 : decode cX4_easeBy 136 = .ok (.isub, 1) := dk_100 (dk_at dksX4_easeBy_6 1 rfl rfl)
theorem dX4_easeBy_137 : decode cX4_easeBy 137 = .ok (.bipush 8, 2) := dk_16 8 (dk_at dksX4_easeBy_6 2 rfl rfl)
theorem dX4_easeBy_139 : decode cX4_easeBy 139 = .ok (.imul, 1) := dk_104 (dk_at dksX4_easeBy_6 4 rfl rfl)
theorem dX4_easeBy_140 : decode cX4_easeBy 140 = .ok (.iload 4, 2) := dk_21 4 (dk_at dksX4_easeBy_6 5 rfl rfl)
theorem dX4_easeBy_142 : decode cX4_easeBy 142 = .ok (.iadd, 1) := dk_96 (dk_at dksX4_easeBy_6 7 rfl rfl)
theorem dX4_easeBy_143 : decode cX4_easeBy 143 = .ok (.bipush 6, 2) := dk_16 6 (dk_at dksX4_easeBy_6 8 rfl rfl)
theorem dX4_easeBy_145 : decode cX4_easeBy 145 = .ok (.imul, 1) := dk_104 (dk_at dksX4_easeBy_6 10 rfl rfl)
theorem dX4_easeBy_146 : decode cX4_easeBy 146 = .ok (.iload 7, 2) := dk_21 7 (dk_at dksX4_easeBy_6 11 rfl rfl)
theorem dX4_easeBy_148 : decode cX4_easeBy 148 = .ok (.iadd, 1) := dk_96 (dk_at dksX4_easeBy_6 13 rfl rfl)
theorem dX4_easeBy_149 : decode cX4_easeBy 149 = .ok (.iaload, 1) := dk_46 (dk_at dksX4_easeBy_6 14 rfl rfl)
theorem dX4_easeBy_150 : decode cX4_easeBy 150 = .ok (.invokestatic 474, 3) := dk_184 1 218 (dk_at dksX4_easeBy_6 15 rfl rfl)
theorem dX4_easeBy_153 : decode cX4_easeBy 153 = .ok (.istore 6, 2) := dk_54 6 (dk_at dksX4_easeBy_6 18 rfl rfl)
theorem dX4_easeBy_155 : decode cX4_easeBy 155 = .ok (.iinc 7 1, 3) := dk_132 7 1 (dk_at dksX4_easeBy_6 20 rfl rfl)
theorem dX4_easeBy_158 : decode cX4_easeBy 158 = .ok (.goto (-47), 3) := dk_167 255 209 (dk_at dksX4_easeBy_7 0 rfl rfl)
theorem dX4_easeBy_161 : decode cX4_easeBy 161 = .ok (.iload 6, 2) := dk_21 6 (dk_at dksX4_easeBy_7 3 rfl rfl)
theorem dX4_easeBy_163 : decode cX4_easeBy 163 = .ok (.ireturn, 1) := dk_172 (dk_at dksX4_easeBy_7 5 rfl rfl)
theorem dX4_easeBy_164 : decode cX4_easeBy 164 = .ok (.iconst 1, 1) := dk_4 (dk_at dksX4_easeBy_7 6 rfl rfl)
theorem dX4_easeBy_165 : decode cX4_easeBy 165 = .ok (.istore 7, 2) := dk_54 7 (dk_at dksX4_easeBy_7 7 rfl rfl)
theorem dX4_easeBy_167 : decode cX4_easeBy 167 = .ok (.iload 7, 2) := dk_21 7 (dk_at dksX4_easeBy_7 9 rfl rfl)
theorem dX4_easeBy_169 : decode cX4_easeBy 169 = .ok (.iconst 4, 1) := dk_7 (dk_at dksX4_easeBy_7 11 rfl rfl)
theorem dX4_easeBy_170 : decode cX4_easeBy 170 = .ok (.if_icmp .ge 91, 3) := dk_162 0 91 (dk_at dksX4_easeBy_7 12 rfl rfl)
theorem dX4_easeBy_173 : decode cX4_easeBy 173 = .ok (.iload_n 1, 1) := dk_27 (dk_at dksX4_easeBy_7 15 rfl rfl)
theorem dX4_easeBy_174 : decode cX4_easeBy 174 = .ok (.istore 8, 2) := dk_54 8 (dk_at dksX4_easeBy_7 16 rfl rfl)
theorem dX4_easeBy_176 : decode cX4_easeBy 176 = .ok (.iload 8, 2) := dk_21 8 (dk_at dksX4_easeBy_7 18 rfl rfl)
theorem dX4_easeBy_178 : decode cX4_easeBy 178 = .ok (.iload_n 2, 1) := dk_28 (dk_at dksX4_easeBy_7 20 rfl rfl)
theorem dX4_easeBy_179 : decode cX4_easeBy 179 = .ok (.iconst 1, 1) := dk_4 (dk_at dksX4_easeBy_7 21 rfl rfl)
theorem dX4_easeBy_180 : decode cX4_easeBy 180 = .ok (.isub, 1) := dk_100 (dk_at dksX4_easeBy_7 22 rfl rfl)
theorem dX4_easeBy_181 : decode cX4_easeBy 181 = .ok (.if_icmp .ge 74, 3) := dk_162 0 74 (dk_at dksX4_easeBy_8 0 rfl rfl)
theorem dX4_easeBy_184 : decode cX4_easeBy 184 = .ok (.iload 6, 2) := dk_21 6 (dk_at dksX4_easeBy_8 3 rfl rfl)
theorem dX4_easeBy_186 : decode cX4_easeBy 186 = .ok (.aload_n 0, 1) := dk_42 (dk_at dksX4_easeBy_8 5 rfl rfl)
theorem dX4_easeBy_187 : decode cX4_easeBy 187 = .ok (.getfield 127, 3) := dk_180 0 127 (dk_at dksX4_easeBy_8 6 rfl rfl)
theorem dX4_easeBy_190 : decode cX4_easeBy 190 = .ok (.bipush 24, 2) := dk_16 24 (dk_at dksX4_easeBy_8 9 rfl rfl)
theorem dX4_easeBy_192 : decode cX4_easeBy 192 = .ok (.iload_n 1, 1) := dk_27 (dk_at dksX4_easeBy_8 11 rfl rfl)
theorem dX4_easeBy_193 : decode cX4_easeBy 193 = .ok (.imul, 1) := dk_104 (dk_at dksX4_easeBy_8 12 rfl rfl)
theorem dX4_easeBy_194 : decode cX4_easeBy 194 = .ok (.iload 8, 2) := dk_21 8 (dk_at dksX4_easeBy_8 13 rfl rfl)
theorem dX4_easeBy_196 : decode cX4_easeBy 196 = .ok (.iadd, 1) := dk_96 (dk_at dksX4_easeBy_8 15 rfl rfl)
theorem dX4_easeBy_197 : decode cX4_easeBy 197 = .ok (.bipush 8, 2) := dk_16 8 (dk_at dksX4_easeBy_8 16 rfl rfl)
theorem dX4_easeBy_199 : decode cX4_easeBy 199 = .ok (.imul, 1) := dk_104 (dk_at dksX4_easeBy_8 18 rfl rfl)
theorem dX4_easeBy_200 : decode cX4_easeBy 200 = .ok (.iload 4, 2) := dk_21 4 (dk_at dksX4_easeBy_8 19 rfl rfl)
theorem dX4_easeBy_202 : decode cX4_easeBy 202 = .ok (.iadd, 1) := dk_96 (dk_at dksX4_easeBy_8 21 rfl rfl)
theorem dX4_easeBy_203 : decode cX4_easeBy 203 = .ok (.bipush 6, 2) := dk_16 6 (dk_at dksX4_easeBy_8 22 rfl rfl)
theorem dX4_easeBy_205 : decode cX4_easeBy 205 = .ok (.imul, 1) := dk_104 (dk_at dksX4_easeBy_9 0 rfl rfl)
theorem dX4_easeBy_206 : decode cX4_easeBy 206 = .ok (.iload 7, 2) := dk_21 7 (dk_at dksX4_easeBy_9 1 rfl rfl)
theorem dX4_easeBy_208 : decode cX4_easeBy 208 = .ok (.iadd, 1) := dk_96 (dk_at dksX4_easeBy_9 3 rfl rfl)
theorem dX4_easeBy_209 : decode cX4_easeBy 209 = .ok (.iaload, 1) := dk_46 (dk_at dksX4_easeBy_9 4 rfl rfl)
theorem dX4_easeBy_210 : decode cX4_easeBy 210 = .ok (.iload 7, 2) := dk_21 7 (dk_at dksX4_easeBy_9 5 rfl rfl)
theorem dX4_easeBy_212 : decode cX4_easeBy 212 = .ok (.aload_n 0, 1) := dk_42 (dk_at dksX4_easeBy_9 7 rfl rfl)
theorem dX4_easeBy_213 : decode cX4_easeBy 213 = .ok (.getfield 127, 3) := dk_180 0 127 (dk_at dksX4_easeBy_9 8 rfl rfl)
theorem dX4_easeBy_216 : decode cX4_easeBy 216 = .ok (.bipush 24, 2) := dk_16 24 (dk_at dksX4_easeBy_9 11 rfl rfl)
theorem dX4_easeBy_218 : decode cX4_easeBy 218 = .ok (.iload 8, 2) := dk_21 8 (dk_at dksX4_easeBy_9 13 rfl rfl)
theorem dX4_easeBy_220 : decode cX4_easeBy 220 = .ok (.iconst 1, 1) := dk_4 (dk_at dksX4_easeBy_9 15 rfl rfl)
theorem dX4_easeBy_221 : decode cX4_easeBy 221 = .ok (.iadd, 1) := dk_96 (dk_at dksX4_easeBy_9 16 rfl rfl)
theorem dX4_easeBy_222 : decode cX4_easeBy 222 = .ok (.imul, 1) := dk_104 (dk_at dksX4_easeBy_9 17 rfl rfl)
theorem dX4_easeBy_223 : decode cX4_easeBy 223 = .ok (.iload_n 2, 1) := dk_28 (dk_at dksX4_easeBy_9 18 rfl rfl)
theorem dX4_easeBy_224 : decode cX4_easeBy 224 = .ok (.iadd, 1) := dk_96 (dk_at dksX4_easeBy_9 19 rfl rfl)
theorem dX4_easeBy_225 : decode cX4_easeBy 225 = .ok (.iconst 1, 1) := dk_4 (dk_at dksX4_easeBy_9 20 rfl rfl)
theorem dX4_easeBy_226 : decode cX4_easeBy 226 = .ok (.isub, 1) := dk_100 (dk_at dksX4_easeBy_9 21 rfl rfl)
theorem dX4_easeBy_227 : decode cX4_easeBy 227 = .ok (.bipush 8, 2) := dk_16 8 (dk_at dksX4_easeBy_9 22 rfl rfl)
theorem dX4_easeBy_229 : decode cX4_easeBy 229 = .ok (.imul, 1) := dk_104 (dk_at dksX4_easeBy_10 0 rfl rfl)
theorem dX4_easeBy_230 : decode cX4_easeBy 230 = .ok (.iload 5, 2) := dk_21 5 (dk_at dksX4_easeBy_10 1 rfl rfl)
theorem dX4_easeBy_232 : decode cX4_easeBy 232 = .ok (.iadd, 1) := dk_96 (dk_at dksX4_easeBy_10 3 rfl rfl)
theorem dX4_easeBy_233 : decode cX4_easeBy 233 = .ok (.bipush 6, 2) := dk_16 6 (dk_at dksX4_easeBy_10 4 rfl rfl)
theorem dX4_easeBy_235 : decode cX4_easeBy 235 = .ok (.imul, 1) := dk_104 (dk_at dksX4_easeBy_10 6 rfl rfl)
theorem dX4_easeBy_236 : decode cX4_easeBy 236 = .ok (.iload 7, 2) := dk_21 7 (dk_at dksX4_easeBy_10 7 rfl rfl)
theorem dX4_easeBy_238 : decode cX4_easeBy 238 = .ok (.iadd, 1) := dk_96 (dk_at dksX4_easeBy_10 9 rfl rfl)
theorem dX4_easeBy_239 : decode cX4_easeBy 239 = .ok (.iaload, 1) := dk_46 (dk_at dksX4_easeBy_10 10 rfl rfl)
theorem dX4_easeBy_240 : decode cX4_easeBy 240 = .ok (.iadd, 1) := dk_96 (dk_at dksX4_easeBy_10 11 rfl rfl)
theorem dX4_easeBy_241 : decode cX4_easeBy 241 = .ok (.invokestatic 477, 3) := dk_184 1 221 (dk_at dksX4_easeBy_10 12 rfl rfl)
theorem dX4_easeBy_244 : decode cX4_easeBy 244 = .ok (.invokestatic 474, 3) := dk_184 1 218 (dk_at dksX4_easeBy_10 15 rfl rfl)
theorem dX4_easeBy_247 : decode cX4_easeBy 247 = .ok (.istore 6, 2) := dk_54 6 (dk_at dksX4_easeBy_10 18 rfl rfl)
theorem dX4_easeBy_249 : decode cX4_easeBy 249 = .ok (.iinc 8 1, 3) := dk_132 8 1 (dk_at dksX4_easeBy_10 20 rfl rfl)
theorem dX4_easeBy_252 : decode cX4_easeBy 252 = .ok (.goto (-76), 3) := dk_167 255 180 (dk_at dksX4_easeBy_11 0 rfl rfl)
theorem dX4_easeBy_255 : decode cX4_easeBy 255 = .ok (.iinc 7 1, 3) := dk_132 7 1 (dk_at dksX4_easeBy_11 3 rfl rfl)
theorem dX4_easeBy_258 : decode cX4_easeBy 258 = .ok (.goto (-91), 3) := dk_167 255 165 (dk_at dksX4_easeBy_11 6 rfl rfl)
theorem dX4_easeBy_261 : decode cX4_easeBy 261 = .ok (.iload 6, 2) := dk_21 6 (dk_at dksX4_easeBy_11 9 rfl rfl)
theorem dX4_easeBy_263 : decode cX4_easeBy 263 = .ok (.ireturn, 1) := dk_172 (dk_at dksX4_easeBy_11 11 rfl rfl)
theorem dX4_easeBy_264 : decode cX4_easeBy 264 = .ok (.iload_n 1, 1) := dk_27 (dk_at dksX4_easeBy_11 12 rfl rfl)
theorem dX4_easeBy_265 : decode cX4_easeBy 265 = .ok (.istore 7, 2) := dk_54 7 (dk_at dksX4_easeBy_11 13 rfl rfl)
theorem dX4_easeBy_267 : decode cX4_easeBy 267 = .ok (.iload 7, 2) := dk_21 7 (dk_at dksX4_easeBy_11 15 rfl rfl)
theorem dX4_easeBy_269 : decode cX4_easeBy 269 = .ok (.iload_n 2, 1) := dk_28 (dk_at dksX4_easeBy_11 17 rfl rfl)
theorem dX4_easeBy_270 : decode cX4_easeBy 270 = .ok (.iconst 1, 1) := dk_4 (dk_at dksX4_easeBy_11 18 rfl rfl)
theorem dX4_easeBy_271 : decode cX4_easeBy 271 = .ok (.isub, 1) := dk_100 (dk_at dksX4_easeBy_11 19 rfl rfl)
theorem dX4_easeBy_272 : decode cX4_easeBy 272 = .ok (.if_icmp .ge 61, 3) := dk_162 0 61 (dk_at dksX4_easeBy_11 20 rfl rfl)
theorem dX4_easeBy_275 : decode cX4_easeBy 275 = .ok (.iload 6, 2) := dk_21 6 (dk_at dksX4_easeBy_12 0 rfl rfl)
theorem dX4_easeBy_277 : decode cX4_easeBy 277 = .ok (.aload_n 0, 1) := dk_42 (dk_at dksX4_easeBy_12 2 rfl rfl)
theorem dX4_easeBy_278 : decode cX4_easeBy 278 = .ok (.getfield 124, 3) := dk_180 0 124 (dk_at dksX4_easeBy_12 3 rfl rfl)
theorem dX4_easeBy_281 : decode cX4_easeBy 281 = .ok (.bipush 24, 2) := dk_16 24 (dk_at dksX4_easeBy_12 6 rfl rfl)
theorem dX4_easeBy_283 : decode cX4_easeBy 283 = .ok (.iload_n 1, 1) := dk_27 (dk_at dksX4_easeBy_12 8 rfl rfl)
theorem dX4_easeBy_284 : decode cX4_easeBy 284 = .ok (.imul, 1) := dk_104 (dk_at dksX4_easeBy_12 9 rfl rfl)
theorem dX4_easeBy_285 : decode cX4_easeBy 285 = .ok (.iload 7, 2) := dk_21 7 (dk_at dksX4_easeBy_12 10 rfl rfl)
theorem dX4_easeBy_287 : decode cX4_easeBy 287 = .ok (.iadd, 1) := dk_96 (dk_at dksX4_easeBy_12 12 rfl rfl)
theorem dX4_easeBy_288 : decode cX4_easeBy 288 = .ok (.bipush 8, 2) := dk_16 8 (dk_at dksX4_easeBy_12 13 rfl rfl)
theorem dX4_easeBy_290 : decode cX4_easeBy 290 = .ok (.imul, 1) := dk_104 (dk_at dksX4_easeBy_12 15 rfl rfl)
theorem dX4_easeBy_291 : decode cX4_easeBy 291 = .ok (.iload 4, 2) := dk_21 4 (dk_at dksX4_easeBy_12 16 rfl rfl)
theorem dX4_easeBy_293 : decode cX4_easeBy 293 = .ok (.iadd, 1) := dk_96 (dk_at dksX4_easeBy_12 18 rfl rfl)
theorem dX4_easeBy_294 : decode cX4_easeBy 294 = .ok (.iaload, 1) := dk_46 (dk_at dksX4_easeBy_12 19 rfl rfl)
theorem dX4_easeBy_295 : decode cX4_easeBy 295 = .ok (.iconst 1, 1) := dk_4 (dk_at dksX4_easeBy_12 20 rfl rfl)
theorem dX4_easeBy_296 : decode cX4_easeBy 296 = .ok (.aload_n 0, 1) := dk_42 (dk_at dksX4_easeBy_12 21 rfl rfl)
theorem dX4_easeBy_297 : decode cX4_easeBy 297 = .ok (.getfield 124, 3) := dk_180 0 124 (dk_at dksX4_easeBy_13 0 rfl rfl)
theorem dX4_easeBy_300 : decode cX4_easeBy 300 = .ok (.bipush 24, 2) := dk_16 24 (dk_at dksX4_easeBy_13 3 rfl rfl)
theorem dX4_easeBy_302 : decode cX4_easeBy 302 = .ok (.iload 7, 2) := dk_21 7 (dk_at dksX4_easeBy_13 5 rfl rfl)
theorem dX4_easeBy_304 : decode cX4_easeBy 304 = .ok (.iconst 1, 1) := dk_4 (dk_at dksX4_easeBy_13 7 rfl rfl)
theorem dX4_easeBy_305 : decode cX4_easeBy 305 = .ok (.iadd, 1) := dk_96 (dk_at dksX4_easeBy_13 8 rfl rfl)
theorem dX4_easeBy_306 : decode cX4_easeBy 306 = .ok (.imul, 1) := dk_104 (dk_at dksX4_easeBy_13 9 rfl rfl)
theorem dX4_easeBy_307 : decode cX4_easeBy 307 = .ok (.iload_n 2, 1) := dk_28 (dk_at dksX4_easeBy_13 10 rfl rfl)
theorem dX4_easeBy_308 : decode cX4_easeBy 308 = .ok (.iadd, 1) := dk_96 (dk_at dksX4_easeBy_13 11 rfl rfl)
theorem dX4_easeBy_309 : decode cX4_easeBy 309 = .ok (.iconst 1, 1) := dk_4 (dk_at dksX4_easeBy_13 12 rfl rfl)
theorem dX4_easeBy_310 : decode cX4_easeBy 310 = .ok (.isub, 1) := dk_100 (dk_at dksX4_easeBy_13 13 rfl rfl)
theorem dX4_easeBy_311 : decode cX4_easeBy 311 = .ok (.bipush 8, 2) := dk_16 8 (dk_at dksX4_easeBy_13 14 rfl rfl)
theorem dX4_easeBy_313 : decode cX4_easeBy 313 = .ok (.imul, 1) := dk_104 (dk_at dksX4_easeBy_13 16 rfl rfl)
theorem dX4_easeBy_314 : decode cX4_easeBy 314 = .ok (.iload 5, 2) := dk_21 5 (dk_at dksX4_easeBy_13 17 rfl rfl)
theorem dX4_easeBy_316 : decode cX4_easeBy 316 = .ok (.iadd, 1) := dk_96 (dk_at dksX4_easeBy_13 19 rfl rfl)
theorem dX4_easeBy_317 : decode cX4_easeBy 317 = .ok (.iaload, 1) := dk_46 (dk_at dksX4_easeBy_13 20 rfl rfl)
theorem dX4_easeBy_318 : decode cX4_easeBy 318 = .ok (.iadd, 1) := dk_96 (dk_at dksX4_easeBy_13 21 rfl rfl)
theorem dX4_easeBy_319 : decode cX4_easeBy 319 = .ok (.invokestatic 477, 3) := dk_184 1 221 (dk_at dksX4_easeBy_14 0 rfl rfl)
theorem dX4_easeBy_322 : decode cX4_easeBy 322 = .ok (.invokestatic 474, 3) := dk_184 1 218 (dk_at dksX4_easeBy_14 3 rfl rfl)
theorem dX4_easeBy_325 : decode cX4_easeBy 325 = .ok (.istore 6, 2) := dk_54 6 (dk_at dksX4_easeBy_14 6 rfl rfl)
theorem dX4_easeBy_327 : decode cX4_easeBy 327 = .ok (.iinc 7 1, 3) := dk_132 7 1 (dk_at dksX4_easeBy_14 8 rfl rfl)
theorem dX4_easeBy_330 : decode cX4_easeBy 330 = .ok (.goto (-63), 3) := dk_167 255 193 (dk_at dksX4_easeBy_14 11 rfl rfl)
theorem dX4_easeBy_333 : decode cX4_easeBy 333 = .ok (.iload 6, 2) := dk_21 6 (dk_at dksX4_easeBy_14 14 rfl rfl)
theorem dX4_easeBy_335 : decode cX4_easeBy 335 = .ok (.ireturn, 1) := dk_172 (dk_at dksX4_easeBy_14 16 rfl rfl)
abbrev cX4_lesser : ByteArray := prog_23_method_68_code
def yX4_lesser : MethodName := ⟨RX4, "lesser", "(II)I"⟩
def dkwX4_lesser_0 : List UInt8 := [26, 27, 162, 0, 7, 26, 167, 0, 4, 27, 172]
abbrev dktX4_lesser_0 : List UInt8 := dkwX4_lesser_0 ++ []
theorem dksX4_lesser_0 : cX4_lesser.data.toList.drop 0 = dktX4_lesser_0 := by decide +kernel
theorem dX4_lesser_0 : decode cX4_lesser 0 = .ok (.iload_n 0, 1) := dk_26 (dk_at dksX4_lesser_0 0 rfl rfl)
theorem dX4_lesser_1 : decode cX4_lesser 1 = .ok (.iload_n 1, 1) := dk_27 (dk_at dksX4_lesser_0 1 rfl rfl)
theorem dX4_lesser_2 : decode cX4_lesser 2 = .ok (.if_icmp .ge 7, 3) := dk_162 0 7 (dk_at dksX4_lesser_0 2 rfl rfl)
theorem dX4_lesser_5 : decode cX4_lesser 5 = .ok (.iload_n 0, 1) := dk_26 (dk_at dksX4_lesser_0 5 rfl rfl)
theorem dX4_lesser_6 : decode cX4_lesser 6 = .ok (.goto 4, 3) := dk_167 0 4 (dk_at dksX4_lesser_0 6 rfl rfl)
theorem dX4_lesser_9 : decode cX4_lesser 9 = .ok (.iload_n 1, 1) := dk_27 (dk_at dksX4_lesser_0 9 rfl rfl)
theorem dX4_lesser_10 : decode cX4_lesser 10 = .ok (.ireturn, 1) := dk_172 (dk_at dksX4_lesser_0 10 rfl rfl)
abbrev cX4_greater : ByteArray := prog_23_method_67_code
def yX4_greater : MethodName := ⟨RX4, "greater", "(II)I"⟩
def dkwX4_greater_0 : List UInt8 := [26, 27, 164, 0, 7, 26, 167, 0, 4, 27, 172]
abbrev dktX4_greater_0 : List UInt8 := dkwX4_greater_0 ++ []
theorem dksX4_greater_0 : cX4_greater.data.toList.drop 0 = dktX4_greater_0 := by decide +kernel
theorem dX4_greater_0 : decode cX4_greater 0 = .ok (.iload_n 0, 1) := dk_26 (dk_at dksX4_greater_0 0 rfl rfl)
theorem dX4_greater_1 : decode cX4_greater 1 = .ok (.iload_n 1, 1) := dk_27 (dk_at dksX4_greater_0 1 rfl rfl)
theorem dX4_greater_2 : decode cX4_greater 2 = .ok (.if_icmp .le 7, 3) := dk_164 0 7 (dk_at dksX4_greater_0 2 rfl rfl)
theorem dX4_greater_5 : decode cX4_greater 5 = .ok (.iload_n 0, 1) := dk_26 (dk_at dksX4_greater_0 5 rfl rfl)
theorem dX4_greater_6 : decode cX4_greater 6 = .ok (.goto 4, 3) := dk_167 0 4 (dk_at dksX4_greater_0 6 rfl rfl)
theorem dX4_greater_9 : decode cX4_greater 9 = .ok (.iload_n 1, 1) := dk_27 (dk_at dksX4_greater_0 9 rfl rfl)
theorem dX4_greater_10 : decode cX4_greater 10 = .ok (.ireturn, 1) := dk_172 (dk_at dksX4_greater_0 10 rfl rfl)
abbrev cX4_laysEases : ByteArray := prog_23_method_70_code
def yX4_laysEases : MethodName := ⟨RX4, "laysEases", "(II)V"⟩
def dkwX4_laysEases_6 : List UInt8 := [180, 0, 127, 21, 4, 21, 5, 96, 21, 6, 79, 132, 5, 1, 167, 255, 155, 132, 3, 1, 167, 255, 99, 177]
abbrev dktX4_laysEases_6 : List UInt8 := dkwX4_laysEases_6 ++ []
def dkwX4_laysEases_5 : List UInt8 := [16, 8, 104, 29, 96, 46, 96, 184, 1, 221, 184, 1, 218, 54, 6, 132, 7, 1, 167, 255, 188, 42]
abbrev dktX4_laysEases_5 : List UInt8 := dkwX4_laysEases_5 ++ dktX4_laysEases_6
def dkwX4_laysEases_4 : List UInt8 := [21, 5, 96, 4, 100, 46, 21, 5, 4, 100, 42, 180, 0, 124, 16, 24, 21, 7, 4, 96, 104, 28, 96]
abbrev dktX4_laysEases_4 : List UInt8 := dkwX4_laysEases_4 ++ dktX4_laysEases_5
def dkwX4_laysEases_3 : List UInt8 := [162, 0, 68, 21, 6, 42, 180, 0, 127, 16, 24, 27, 104, 21, 7, 96, 16, 8, 104, 29, 96, 16, 6, 104]
abbrev dktX4_laysEases_3 : List UInt8 := dkwX4_laysEases_3 ++ dktX4_laysEases_4
def dkwX4_laysEases_2 : List UInt8 := [79, 5, 54, 5, 21, 5, 16, 6, 162, 0, 100, 17, 39, 16, 54, 6, 27, 54, 7, 21, 7, 28]
abbrev dktX4_laysEases_2 : List UInt8 := dkwX4_laysEases_2 ++ dktX4_laysEases_3
def dkwX4_laysEases_1 : List UInt8 := [42, 180, 0, 127, 21, 4, 4, 96, 42, 180, 0, 124, 16, 24, 27, 104, 28, 96, 16, 8, 104, 29, 96, 46]
abbrev dktX4_laysEases_1 : List UInt8 := dkwX4_laysEases_1 ++ dktX4_laysEases_2
def dkwX4_laysEases_0 : List UInt8 := [3, 62, 29, 16, 8, 162, 0, 157, 16, 24, 27, 104, 28, 96, 16, 8, 104, 29, 96, 16, 6, 104, 54, 4]
abbrev dktX4_laysEases_0 : List UInt8 := dkwX4_laysEases_0 ++ dktX4_laysEases_1
theorem dksX4_laysEases_0 : cX4_laysEases.data.toList.drop 0 = dktX4_laysEases_0 := by decide +kernel
theorem dksX4_laysEases_1 : cX4_laysEases.data.toList.drop 24 = dktX4_laysEases_1 := dk_seg dksX4_laysEases_0 24 rfl rfl
theorem dksX4_laysEases_2 : cX4_laysEases.data.toList.drop 48 = dktX4_laysEases_2 := dk_seg dksX4_laysEases_1 24 rfl rfl
theorem dksX4_laysEases_3 : cX4_laysEases.data.toList.drop 70 = dktX4_laysEases_3 := dk_seg dksX4_laysEases_2 22 rfl rfl
theorem dksX4_laysEases_4 : cX4_laysEases.data.toList.drop 94 = dktX4_laysEases_4 := dk_seg dksX4_laysEases_3 24 rfl rfl
theorem dksX4_laysEases_5 : cX4_laysEases.data.toList.drop 117 = dktX4_laysEases_5 := dk_seg dksX4_laysEases_4 23 rfl rfl
theorem dksX4_laysEases_6 : cX4_laysEases.data.toList.drop 139 = dktX4_laysEases_6 := dk_seg dksX4_laysEases_5 22 rfl rfl
theorem dX4_laysEases_0 : decode cX4_laysEases 0 = .ok (.iconst 0, 1) := dk_3 (dk_at dksX4_laysEases_0 0 rfl rfl)
theorem dX4_laysEases_1 : decode cX4_laysEases 1 = .ok (.istore_n 3, 1) := dk_62 (dk_at dksX4_laysEases_0 1 rfl rfl)
theorem dX4_laysEases_2 : decode cX4_laysEases 2 = .ok (.iload_n 3, 1) := dk_29 (dk_at dksX4_laysEases_0 2 rfl rfl)
theorem dX4_laysEases_3 : decode cX4_laysEases 3 = .ok (.bipush 8, 2) := dk_16 8 (dk_at dksX4_laysEases_0 3 rfl rfl)
theorem dX4_laysEases_5 : decode cX4_laysEases 5 = .ok (.if_icmp .ge 157, 3) := dk_162 0 157 (dk_at dksX4_laysEases_0 5 rfl rfl)
theorem dX4_laysEases_8 : decode cX4_laysEases 8 = .ok (.bipush 24, 2) := dk_16 24 (dk_at dksX4_laysEases_0 8 rfl rfl)
theorem dX4_laysEases_10 : decode cX4_laysEases 10 = .ok (.iload_n 1, 1) := dk_27 (dk_at dksX4_laysEases_0 10 rfl rfl)
theorem dX4_laysEases_11 : decode cX4_laysEases 11 = .ok (.imul, 1) := dk_104 (dk_at dksX4_laysEases_0 11 rfl rfl)
theorem dX4_laysEases_12 : decode cX4_laysEases 12 = .ok (.iload_n 2, 1) := dk_28 (dk_at dksX4_laysEases_0 12 rfl rfl)
theorem dX4_laysEases_13 : decode cX4_laysEases 13 = .ok (.iadd, 1) := dk_96 (dk_at dksX4_laysEases_0 13 rfl rfl)
theorem dX4_laysEases_14 : decode cX4_laysEases 14 = .ok (.bipush 8, 2) := dk_16 8 (dk_at dksX4_laysEases_0 14 rfl rfl)
theorem dX4_laysEases_16 : decode cX4_laysEases 16 = .ok (.imul, 1) := dk_104 (dk_at dksX4_laysEases_0 16 rfl rfl)
theorem dX4_laysEases_17 : decode cX4_laysEases 17 = .ok (.iload_n 3, 1) := dk_29 (dk_at dksX4_laysEases_0 17 rfl rfl)
theorem dX4_laysEases_18 : decode cX4_laysEases 18 = .ok (.iadd, 1) := dk_96 (dk_at dksX4_laysEases_0 18 rfl rfl)
theorem dX4_laysEases_19 : decode cX4_laysEases 19 = .ok (.bipush 6, 2) := dk_16 6 (dk_at dksX4_laysEases_0 19 rfl rfl)
theorem dX4_laysEases_21 : decode cX4_laysEases 21 = .ok (.imul, 1) := dk_104 (dk_at dksX4_laysEases_0 21 rfl rfl)
theorem dX4_laysEases_22 : decode cX4_laysEases 22 = .ok (.istore 4, 2) := dk_54 4 (dk_at dksX4_laysEases_0 22 rfl rfl)
theorem dX4_laysEases_24 : decode cX4_laysEases 24 = .ok (.aload_n 0, 1) := dk_42 (dk_at dksX4_laysEases_1 0 rfl rfl)
theorem dX4_laysEases_25 : decode cX4_laysEases 25 = .ok (.getfield 127, 3) := dk_180 0 127 (dk_at dksX4_laysEases_1 1 rfl rfl)
theorem dX4_laysEases_28 : decode cX4_laysEases 28 = .ok (.iload 4, 2) := dk_21 4 (dk_at dksX4_laysEases_1 4 rfl rfl)
theorem dX4_laysEases_30 : decode cX4_laysEases 30 = .ok (.iconst 1, 1) := dk_4 (dk_at dksX4_laysEases_1 6 rfl rfl)
theorem dX4_laysEases_31 : decode cX4_laysEases 31 = .ok (.iadd, 1) := dk_96 (dk_at dksX4_laysEases_1 7 rfl rfl)
theorem dX4_laysEases_32 : decode cX4_laysEases 32 = .ok (.aload_n 0, 1) := dk_42 (dk_at dksX4_laysEases_1 8 rfl rfl)
theorem dX4_laysEases_33 : decode cX4_laysEases 33 = .ok (.getfield 124, 3) := dk_180 0 124 (dk_at dksX4_laysEases_1 9 rfl rfl)
theorem dX4_laysEases_36 : decode cX4_laysEases 36 = .ok (.bipush 24, 2) := dk_16 24 (dk_at dksX4_laysEases_1 12 rfl rfl)
theorem dX4_laysEases_38 : decode cX4_laysEases 38 = .ok (.iload_n 1, 1) := dk_27 (dk_at dksX4_laysEases_1 14 rfl rfl)
theorem dX4_laysEases_39 : decode cX4_laysEases 39 = .ok (.imul, 1) := dk_104 (dk_at dksX4_laysEases_1 15 rfl rfl)
theorem dX4_laysEases_40 : decode cX4_laysEases 40 = .ok (.iload_n 2, 1) := dk_28 (dk_at dksX4_laysEases_1 16 rfl rfl)
theorem dX4_laysEases_41 : decode cX4_laysEases 41 = .ok (.iadd, 1) := dk_96 (dk_at dksX4_laysEases_1 17 rfl rfl)
theorem dX4_laysEases_42 : decode cX4_laysEases 42 = .ok (.bipush 8, 2) := dk_16 8 (dk_at dksX4_laysEases_1 18 rfl rfl)
theorem dX4_laysEases_44 : decode cX4_laysEases 44 = .ok (.imul, 1) := dk_104 (dk_at dksX4_laysEases_1 20 rfl rfl)
theorem dX4_laysEases_45 : decode cX4_laysEases 45 = .ok (.iload_n 3, 1) := dk_29 (dk_at dksX4_laysEases_1 21 rfl rfl)
theorem dX4_laysEases_46 : decode cX4_laysEases 46 = .ok (.iadd, 1) := dk_96 (dk_at dksX4_laysEases_1 22 rfl rfl)
theorem dX4_laysEases_47 : decode cX4_laysEases 47 = .ok (.iaload, 1) := dk_46 (dk_at dksX4_laysEases_1 23 rfl rfl)
theorem dX4_laysEases_48 : decode cX4_laysEases 48 = .ok (.iastore, 1) := dk_79 (dk_at dksX4_laysEases_2 0 rfl rfl)
theorem dX4_laysEases_49 : decode cX4_laysEases 49 = .ok (.iconst 2, 1) := dk_5 (dk_at dksX4_laysEases_2 1 rfl rfl)
theorem dX4_laysEases_50 : decode cX4_laysEases 50 = .ok (.istore 5, 2) := dk_54 5 (dk_at dksX4_laysEases_2 2 rfl rfl)
theorem dX4_laysEases_52 : decode cX4_laysEases 52 = .ok (.iload 5, 2) := dk_21 5 (dk_at dksX4_laysEases_2 4 rfl rfl)
theorem dX4_laysEases_54 : decode cX4_laysEases 54 = .ok (.bipush 6, 2) := dk_16 6 (dk_at dksX4_laysEases_2 6 rfl rfl)
theorem dX4_laysEases_56 : decode cX4_laysEases 56 = .ok (.if_icmp .ge 100, 3) := dk_162 0 100 (dk_at dksX4_laysEases_2 8 rfl rfl)
theorem dX4_laysEases_59 : decode cX4_laysEases 59 = .ok (.sipush 10000, 3) := dk_17 39 16 (dk_at dksX4_laysEases_2 11 rfl rfl)
theorem dX4_laysEases_62 : decode cX4_laysEases 62 = .ok (.istore 6, 2) := dk_54 6 (dk_at dksX4_laysEases_2 14 rfl rfl)
theorem dX4_laysEases_64 : decode cX4_laysEases 64 = .ok (.iload_n 1, 1) := dk_27 (dk_at dksX4_laysEases_2 16 rfl rfl)
theorem dX4_laysEases_65 : decode cX4_laysEases 65 = .ok (.istore 7, 2) := dk_54 7 (dk_at dksX4_laysEases_2 17 rfl rfl)
theorem dX4_laysEases_67 : decode cX4_laysEases 67 = .ok (.iload 7, 2) := dk_21 7 (dk_at dksX4_laysEases_2 19 rfl rfl)
theorem dX4_laysEases_69 : decode cX4_laysEases 69 = .ok (.iload_n 2, 1) := dk_28 (dk_at dksX4_laysEases_2 21 rfl rfl)
theorem dX4_laysEases_70 : decode cX4_laysEases 70 = .ok (.if_icmp .ge 68, 3) := dk_162 0 68 (dk_at dksX4_laysEases_3 0 rfl rfl)
theorem dX4_laysEases_73 : decode cX4_laysEases 73 = .ok (.iload 6, 2) := dk_21 6 (dk_at dksX4_laysEases_3 3 rfl rfl)
theorem dX4_laysEases_75 : decode cX4_laysEases 75 = .ok (.aload_n 0, 1) := dk_42 (dk_at dksX4_laysEases_3 5 rfl rfl)
theorem dX4_laysEases_76 : decode cX4_laysEases 76 = .ok (.getfield 127, 3) := dk_180 0 127 (dk_at dksX4_laysEases_3 6 rfl rfl)
theorem dX4_laysEases_79 : decode cX4_laysEases 79 = .ok (.bipush 24, 2) := dk_16 24 (dk_at dksX4_laysEases_3 9 rfl rfl)
theorem dX4_laysEases_81 : decode cX4_laysEases 81 = .ok (.iload_n 1, 1) := dk_27 (dk_at dksX4_laysEases_3 11 rfl rfl)
theorem dX4_laysEases_82 : decode cX4_laysEases 82 = .ok (.imul, 1) := dk_104 (dk_at dksX4_laysEases_3 12 rfl rfl)
theorem dX4_laysEases_83 : decode cX4_laysEases 83 = .ok (.iload 7, 2) := dk_21 7 (dk_at dksX4_laysEases_3 13 rfl rfl)
theorem dX4_laysEases_85 : decode cX4_laysEases 85 = .ok (.iadd, 1) := dk_96 (dk_at dksX4_laysEases_3 15 rfl rfl)
theorem dX4_laysEases_86 : decode cX4_laysEases 86 = .ok (.bipush 8, 2) := dk_16 8 (dk_at dksX4_laysEases_3 16 rfl rfl)
theorem dX4_laysEases_88 : decode cX4_laysEases 88 = .ok (.imul, 1) := dk_104 (dk_at dksX4_laysEases_3 18 rfl rfl)
theorem dX4_laysEases_89 : decode cX4_laysEases 89 = .ok (.iload_n 3, 1) := dk_29 (dk_at dksX4_laysEases_3 19 rfl rfl)
theorem dX4_laysEases_90 : decode cX4_laysEases 90 = .ok (.iadd, 1) := dk_96 (dk_at dksX4_laysEases_3 20 rfl rfl)
theorem dX4_laysEases_91 : decode cX4_laysEases 91 = .ok (.bipush 6, 2) := dk_16 6 (dk_at dksX4_laysEases_3 21 rfl rfl)
theorem dX4_laysEases_93 : decode cX4_laysEases 93 = .ok (.imul, 1) := dk_104 (dk_at dksX4_laysEases_3 23 rfl rfl)
theorem dX4_laysEases_94 : decode cX4_laysEases 94 = .ok (.iload 5, 2) := dk_21 5 (dk_at dksX4_laysEases_4 0 rfl rfl)
theorem dX4_laysEases_96 : decode cX4_laysEases 96 = .ok (.iadd, 1) := dk_96 (dk_at dksX4_laysEases_4 2 rfl rfl)
theorem dX4_laysEases_97 : decode cX4_laysEases 97 = .ok (.iconst 1, 1) := dk_4 (dk_at dksX4_laysEases_4 3 rfl rfl)
theorem dX4_laysEases_98 : decode cX4_laysEases 98 = .ok (.isub, 1) := dk_100 (dk_at dksX4_laysEases_4 4 rfl rfl)
theorem dX4_laysEases_99 : decode cX4_laysEases 99 = .ok (.iaload, 1) := dk_46 (dk_at dksX4_laysEases_4 5 rfl rfl)
theorem dX4_laysEases_100 : decode cX4_laysEases 100 = .ok (.iload 5, 2) := dk_21 5 (dk_at dksX4_laysEases_4 6 rfl rfl)
theorem dX4_laysEases_102 : decode cX4_laysEases 102 = .ok (.iconst 1, 1) := dk_4 (dk_at dksX4_laysEases_4 8 rfl rfl)
theorem dX4_laysEases_103 : decode cX4_laysEases 103 = .ok (.isub, 1) := dk_100 (dk_at dksX4_laysEases_4 9 rfl rfl)
theorem dX4_laysEases_104 : decode cX4_laysEases 104 = .ok (.aload_n 0, 1) := dk_42 (dk_at dksX4_laysEases_4 10 rfl rfl)
theorem dX4_laysEases_105 : decode cX4_laysEases 105 = .ok (.getfield 124, 3) := dk_180 0 124 (dk_at dksX4_laysEases_4 11 rfl rfl)
theorem dX4_laysEases_108 : decode cX4_laysEases 108 = .ok (.bipush 24, 2) := dk_16 24 (dk_at dksX4_laysEases_4 14 rfl rfl)
theorem dX4_laysEases_110 : decode cX4_laysEases 110 = .ok (.iload 7, 2) := dk_21 7 (dk_at dksX4_laysEases_4 16 rfl rfl)
theorem dX4_laysEases_112 : decode cX4_laysEases 112 = .ok (.iconst 1, 1) := dk_4 (dk_at dksX4_laysEases_4 18 rfl rfl)
theorem dX4_laysEases_113 : decode cX4_laysEases 113 = .ok (.iadd, 1) := dk_96 (dk_at dksX4_laysEases_4 19 rfl rfl)
theorem dX4_laysEases_114 : decode cX4_laysEases 114 = .ok (.imul, 1) := dk_104 (dk_at dksX4_laysEases_4 20 rfl rfl)
theorem dX4_laysEases_115 : decode cX4_laysEases 115 = .ok (.iload_n 2, 1) := dk_28 (dk_at dksX4_laysEases_4 21 rfl rfl)
theorem dX4_laysEases_116 : decode cX4_laysEases 116 = .ok (.iadd, 1) := dk_96 (dk_at dksX4_laysEases_4 22 rfl rfl)
theorem dX4_laysEases_117 : decode cX4_laysEases 117 = .ok (.bipush 8, 2) := dk_16 8 (dk_at dksX4_laysEases_5 0 rfl rfl)
theorem dX4_laysEases_119 : decode cX4_laysEases 119 = .ok (.imul, 1) := dk_104 (dk_at dksX4_laysEases_5 2 rfl rfl)
theorem dX4_laysEases_120 : decode cX4_laysEases 120 = .ok (.iload_n 3, 1) := dk_29 (dk_at dksX4_laysEases_5 3 rfl rfl)
theorem dX4_laysEases_121 : decode cX4_laysEases 121 = .ok (.iadd, 1) := dk_96 (dk_at dksX4_laysEases_5 4 rfl rfl)
theorem dX4_laysEases_122 : decode cX4_laysEases 122 = .ok (.iaload, 1) := dk_46 (dk_at dksX4_laysEases_5 5 rfl rfl)
theorem dX4_laysEases_123 : decode cX4_laysEases 123 = .ok (.iadd, 1) := dk_96 (dk_at dksX4_laysEases_5 6 rfl rfl)
theorem dX4_laysEases_124 : decode cX4_laysEases 124 = .ok (.invokestatic 477, 3) := dk_184 1 221 (dk_at dksX4_laysEases_5 7 rfl rfl)
theorem dX4_laysEases_127 : decode cX4_laysEases 127 = .ok (.invokestatic 474, 3) := dk_184 1 218 (dk_at dksX4_laysEases_5 10 rfl rfl)
theorem dX4_laysEases_130 : decode cX4_laysEases 130 = .ok (.istore 6, 2) := dk_54 6 (dk_at dksX4_laysEases_5 13 rfl rfl)
theorem dX4_laysEases_132 : decode cX4_laysEases 132 = .ok (.iinc 7 1, 3) := dk_132 7 1 (dk_at dksX4_laysEases_5 15 rfl rfl)
theorem dX4_laysEases_135 : decode cX4_laysEases 135 = .ok (.goto (-68), 3) := dk_167 255 188 (dk_at dksX4_laysEases_5 18 rfl rfl)
theorem dX4_laysEases_138 : decode cX4_laysEases 138 = .ok (.aload_n 0, 1) := dk_42 (dk_at dksX4_laysEases_5 21 rfl rfl)
theorem dX4_laysEases_139 : decode cX4_laysEases 139 = .ok (.getfield 127, 3) := dk_180 0 127 (dk_at dksX4_laysEases_6 0 rfl rfl)
theorem dX4_laysEases_142 : decode cX4_laysEases 142 = .ok (.iload 4, 2) := dk_21 4 (dk_at dksX4_laysEases_6 3 rfl rfl)
theorem dX4_laysEases_144 : decode cX4_laysEases 144 = .ok (.iload 5, 2) := dk_21 5 (dk_at dksX4_laysEases_6 5 rfl rfl)
theorem dX4_laysEases_146 : decode cX4_laysEases 146 = .ok (.iadd, 1) := dk_96 (dk_at dksX4_laysEases_6 7 rfl rfl)
theorem dX4_laysEases_147 : decode cX4_laysEases 147 = .ok (.iload 6, 2) := dk_21 6 (dk_at dksX4_laysEases_6 8 rfl rfl)
theorem dX4_laysEases_149 : decode cX4_laysEases 149 = .ok (.iastore, 1) := dk_79 (dk_at dksX4_laysEases_6 10 rfl rfl)
theorem dX4_laysEases_150 : decode cX4_laysEases 150 = .ok (.iinc 5 1, 3) := dk_132 5 1 (dk_at dksX4_laysEases_6 11 rfl rfl)
theorem dX4_laysEases_153 : decode cX4_laysEases 153 = .ok (.goto (-101), 3) := dk_167 255 155 (dk_at dksX4_laysEases_6 14 rfl rfl)
theorem dX4_laysEases_156 : decode cX4_laysEases 156 = .ok (.iinc 3 1, 3) := dk_132 3 1 (dk_at dksX4_laysEases_6 17 rfl rfl)
theorem dX4_laysEases_159 : decode cX4_laysEases 159 = .ok (.goto (-157), 3) := dk_167 255 99 (dk_at dksX4_laysEases_6 20 rfl rfl)
theorem dX4_laysEases_162 : decode cX4_laysEases 162 = .ok (.return_, 1) := dk_177 (dk_at dksX4_laysEases_6 23 rfl rfl)
abbrev cX4_forgets : ByteArray := prog_23_method_73_code
def yX4_forgets : MethodName := ⟨RX4, "forgets", "()V"⟩
def dkwX4_forgets_0 : List UInt8 := [42, 3, 181, 1, 230, 42, 3, 181, 1, 233, 177]
abbrev dktX4_forgets_0 : List UInt8 := dkwX4_forgets_0 ++ []
theorem dksX4_forgets_0 : cX4_forgets.data.toList.drop 0 = dktX4_forgets_0 := by decide +kernel
theorem dX4_forgets_0 : decode cX4_forgets 0 = .ok (.aload_n 0, 1) := dk_42 (dk_at dksX4_forgets_0 0 rfl rfl)
theorem dX4_forgets_1 : decode cX4_forgets 1 = .ok (.iconst 0, 1) := dk_3 (dk_at dksX4_forgets_0 1 rfl rfl)
theorem dX4_forgets_2 : decode cX4_forgets 2 = .ok (.putfield 486, 3) := dk_181 1 230 (dk_at dksX4_forgets_0 2 rfl rfl)
theorem dX4_forgets_5 : decode cX4_forgets 5 = .ok (.aload_n 0, 1) := dk_42 (dk_at dksX4_forgets_0 5 rfl rfl)
theorem dX4_forgets_6 : decode cX4_forgets 6 = .ok (.iconst 0, 1) := dk_3 (dk_at dksX4_forgets_0 6 rfl rfl)
theorem dX4_forgets_7 : decode cX4_forgets 7 = .ok (.putfield 489, 3) := dk_181 1 233 (dk_at dksX4_forgets_0 7 rfl rfl)
theorem dX4_forgets_10 : decode cX4_forgets 10 = .ok (.return_, 1) := dk_177 (dk_at dksX4_forgets_0 10 rfl rfl)
abbrev cX4_means : ByteArray := prog_23_method_78_code
def yX4_means : MethodName := ⟨RX4, "means", "()I"⟩
def dkwX4_means_3 : List UInt8 := [46, 172]
abbrev dktX4_means_3 : List UInt8 := dkwX4_means_3 ++ []
def dkwX4_means_2 : List UInt8 := [180, 1, 254, 42, 180, 1, 236, 184, 1, 221, 181, 1, 254, 132, 1, 1, 167, 255, 206, 42, 180, 0, 151, 3]
abbrev dktX4_means_2 : List UInt8 := dkwX4_means_2 ++ dktX4_means_3
def dkwX4_means_1 : List UInt8 := [182, 2, 1, 42, 180, 0, 160, 27, 42, 180, 0, 154, 42, 180, 1, 236, 4, 100, 46, 79, 42, 42]
abbrev dktX4_means_1 : List UInt8 := dkwX4_means_1 ++ dktX4_means_2
def dkwX4_means_0 : List UInt8 := [42, 3, 181, 1, 236, 42, 3, 181, 1, 254, 3, 60, 27, 42, 180, 0, 7, 5, 46, 162, 0, 46, 42, 27]
abbrev dktX4_means_0 : List UInt8 := dkwX4_means_0 ++ dktX4_means_1
theorem dksX4_means_0 : cX4_means.data.toList.drop 0 = dktX4_means_0 := by decide +kernel
theorem dksX4_means_1 : cX4_means.data.toList.drop 24 = dktX4_means_1 := dk_seg dksX4_means_0 24 rfl rfl
theorem dksX4_means_2 : cX4_means.data.toList.drop 46 = dktX4_means_2 := dk_seg dksX4_means_1 22 rfl rfl
theorem dksX4_means_3 : cX4_means.data.toList.drop 70 = dktX4_means_3 := dk_seg dksX4_means_2 24 rfl rfl
theorem dX4_means_0 : decode cX4_means 0 = .ok (.aload_n 0, 1) := dk_42 (dk_at dksX4_means_0 0 rfl rfl)
theorem dX4_means_1 : decode cX4_means 1 = .ok (.iconst 0, 1) := dk_3 (dk_at dksX4_means_0 1 rfl rfl)
theorem dX4_means_2 : decode cX4_means 2 = .ok (.putfield 492, 3) := dk_181 1 236 (dk_at dksX4_means_0 2 rfl rfl)
theorem dX4_means_5 : decode cX4_means 5 = .ok (.aload_n 0, 1) := dk_42 (dk_at dksX4_means_0 5 rfl rfl)
theorem dX4_means_6 : decode cX4_means 6 = .ok (.iconst 0, 1) := dk_3 (dk_at dksX4_means_0 6 rfl rfl)
theorem dX4_means_7 : decode cX4_means 7 = .ok (.putfield 510, 3) := dk_181 1 254 (dk_at dksX4_means_0 7 rfl rfl)
theorem dX4_means_10 : decode cX4_means 10 = .ok (.iconst 0, 1) := dk_3 (dk_at dksX4_means_0 10 rfl rfl)
theorem dX4_means_11 : decode cX4_means 11 = .ok (.istore_n 1, 1) := dk_60 (dk_at dksX4_means_0 11 rfl rfl)
theorem dX4_means_12 : decode cX4_means 12 = .ok (.iload_n 1, 1) := dk_27 (dk_at dksX4_means_0 12 rfl rfl)
theorem dX4_means_13 : decode cX4_means 13 = .ok (.aload_n 0, 1) := dk_42 (dk_at dksX4_means_0 13 rfl rfl)
theorem dX4_means_14 : decode cX4_means 14 = .ok (.getfield 7, 3) := dk_180 0 7 (dk_at dksX4_means_0 14 rfl rfl)
theorem dX4_means_17 : decode cX4_means 17 = .ok (.iconst 2, 1) := dk_5 (dk_at dksX4_means_0 17 rfl rfl)
theorem dX4_means_18 : decode cX4_means 18 = .ok (.iaload, 1) := dk_46 (dk_at dksX4_means_0 18 rfl rfl)
theorem dX4_means_19 : decode cX4_means 19 = .ok (.if_icmp .ge 46, 3) := dk_162 0 46 (dk_at dksX4_means_0 19 rfl rfl)
theorem dX4_means_22 : decode cX4_means 22 = .ok (.aload_n 0, 1) := dk_42 (dk_at dksX4_means_0 22 rfl rfl)
theorem dX4_means_23 : decode cX4_means 23 = .ok (.iload_n 1, 1) := dk_27 (dk_at dksX4_means_0 23 rfl rfl)
theorem dX4_means_24 : decode cX4_means 24 = .ok (.invokevirtual 513, 3) := dk_182 2 1 (dk_at dksX4_means_1 0 rfl rfl)
theorem dX4_means_27 : decode cX4_means 27 = .ok (.aload_n 0, 1) := dk_42 (dk_at dksX4_means_1 3 rfl rfl)
theorem dX4_means_28 : decode cX4_means 28 = .ok (.getfield 160, 3) := dk_180 0 160 (dk_at dksX4_means_1 4 rfl rfl)
theorem dX4_means_31 : decode cX4_means 31 = .ok (.iload_n 1, 1) := dk_27 (dk_at dksX4_means_1 7 rfl rfl)
theorem dX4_means_32 : decode cX4_means 32 = .ok (.aload_n 0, 1) := dk_42 (dk_at dksX4_means_1 8 rfl rfl)
theorem dX4_means_33 : decode cX4_means 33 = .ok (.getfield 154, 3) := dk_180 0 154 (dk_at dksX4_means_1 9 rfl rfl)
theorem dX4_means_36 : decode cX4_means 36 = .ok (.aload_n 0, 1) := dk_42 (dk_at dksX4_means_1 12 rfl rfl)
theorem dX4_means_37 : decode cX4_means 37 = .ok (.getfield 492, 3) := dk_180 1 236 (dk_at dksX4_means_1 13 rfl rfl)
theorem dX4_means_40 : decode cX4_means 40 = .ok (.iconst 1, 1) := dk_4 (dk_at dksX4_means_1 16 rfl rfl)
theorem dX4_means_41 : decode cX4_means 41 = .ok (.isub, 1) := dk_100 (dk_at dksX4_means_1 17 rfl rfl)
theorem dX4_means_42 : decode cX4_means 42 = .ok (.iaload, 1) := dk_46 (dk_at dksX4_means_1 18 rfl rfl)
theorem dX4_means_43 : decode cX4_means 43 = .ok (.iastore, 1) := dk_79 (dk_at dksX4_means_1 19 rfl rfl)
theorem dX4_means_44 : decode cX4_means 44 = .ok (.aload_n 0, 1) := dk_42 (dk_at dksX4_means_1 20 rfl rfl)
theorem dX4_means_45 : decode cX4_means 45 = .ok (.aload_n 0, 1) := dk_42 (dk_at dksX4_means_1 21 rfl rfl)
theorem dX4_means_46 : decode cX4_means 46 = .ok (.getfield 510, 3) := dk_180 1 254 (dk_at dksX4_means_2 0 rfl rfl)
theorem dX4_means_49 : decode cX4_means 49 = .ok (.aload_n 0, 1) := dk_42 (dk_at dksX4_means_2 3 rfl rfl)
theorem dX4_means_50 : decode cX4_means 50 = .ok (.getfield 492, 3) := dk_180 1 236 (dk_at dksX4_means_2 4 rfl rfl)
theorem dX4_means_53 : decode cX4_means 53 = .ok (.invokestatic 477, 3) := dk_184 1 221 (dk_at dksX4_means_2 7 rfl rfl)
theorem dX4_means_56 : decode cX4_means 56 = .ok (.putfield 510, 3) := dk_181 1 254 (dk_at dksX4_means_2 10 rfl rfl)
theorem dX4_means_59 : decode cX4_means 59 = .ok (.iinc 1 1, 3) := dk_132 1 1 (dk_at dksX4_means_2 13 rfl rfl)
theorem dX4_means_62 : decode cX4_means 62 = .ok (.goto (-50), 3) := dk_167 255 206 (dk_at dksX4_means_2 16 rfl rfl)
theorem dX4_means_65 : decode cX4_means 65 = .ok (.aload_n 0, 1) := dk_42 (dk_at dksX4_means_2 19 rfl rfl)
theorem dX4_means_66 : decode cX4_means 66 = .ok (.getfield 151, 3) := dk_180 0 151 (dk_at dksX4_means_2 20 rfl rfl)
theorem dX4_means_69 : decode cX4_means 69 = .ok (.iconst 0, 1) := dk_3 (dk_at dksX4_means_2 23 rfl rfl)
theorem dX4_means_70 : decode cX4_means 70 = .ok (.iaload, 1) := dk_46 (dk_at dksX4_means_3 0 rfl rfl)
theorem dX4_means_71 : decode cX4_means 71 = .ok (.ireturn, 1) := dk_172 (dk_at dksX4_means_3 1 rfl rfl)
abbrev cX4_says : ByteArray := prog_23_method_77_code
def yX4_says : MethodName := ⟨RX4, "says", "(I)V"⟩
def dkwX4_says_4 : List UInt8 := [42, 180, 0, 157, 42, 180, 1, 236, 27, 79, 42, 89, 180, 1, 236, 4, 96, 181, 1, 236, 177]
abbrev dktX4_says_4 : List UInt8 := dkwX4_says_4 ++ []
def dkwX4_says_3 : List UInt8 := [28, 46, 79, 42, 180, 0, 151, 42, 180, 1, 236, 29, 79, 42, 180, 0, 154, 42, 180, 1, 236, 21, 4, 79]
abbrev dktX4_says_3 : List UInt8 := dkwX4_says_3 ++ dktX4_says_4
def dkwX4_says_2 : List UInt8 := [180, 0, 115, 27, 46, 184, 1, 205, 100, 181, 1, 236, 42, 180, 0, 148, 42, 180, 1, 236, 42, 180, 0, 48]
abbrev dktX4_says_2 : List UInt8 := dkwX4_says_2 ++ dktX4_says_3
def dkwX4_says_1 : List UInt8 := [28, 42, 180, 0, 115, 27, 46, 182, 1, 251, 54, 4, 42, 89, 180, 1, 236, 42, 180, 0, 39, 28, 46, 42]
abbrev dktX4_says_1 : List UInt8 := dkwX4_says_1 ++ dktX4_says_2
def dkwX4_says_0 : List UInt8 := [42, 42, 180, 0, 112, 27, 46, 182, 1, 156, 61, 42, 28, 42, 180, 0, 115, 27, 46, 182, 1, 248, 62, 42]
abbrev dktX4_says_0 : List UInt8 := dkwX4_says_0 ++ dktX4_says_1
theorem dksX4_says_0 : cX4_says.data.toList.drop 0 = dktX4_says_0 := by decide +kernel
theorem dksX4_says_1 : cX4_says.data.toList.drop 24 = dktX4_says_1 := dk_seg dksX4_says_0 24 rfl rfl
theorem dksX4_says_2 : cX4_says.data.toList.drop 48 = dktX4_says_2 := dk_seg dksX4_says_1 24 rfl rfl
theorem dksX4_says_3 : cX4_says.data.toList.drop 72 = dktX4_says_3 := dk_seg dksX4_says_2 24 rfl rfl
theorem dksX4_says_4 : cX4_says.data.toList.drop 96 = dktX4_says_4 := dk_seg dksX4_says_3 24 rfl rfl
theorem dX4_says_0 : decode cX4_says 0 = .ok (.aload_n 0, 1) := dk_42 (dk_at dksX4_says_0 0 rfl rfl)
theorem dX4_says_1 : decode cX4_says 1 = .ok (.aload_n 0, 1) := dk_42 (dk_at dksX4_says_0 1 rfl rfl)
theorem dX4_says_2 : decode cX4_says 2 = .ok (.getfield 112, 3) := dk_180 0 112 (dk_at dksX4_says_0 2 rfl rfl)
theorem dX4_says_5 : decode cX4_says 5 = .ok (.iload_n 1, 1) := dk_27 (dk_at dksX4_says_0 5 rfl rfl)
theorem dX4_says_6 : decode cX4_says 6 = .ok (.iaload, 1) := dk_46 (dk_at dksX4_says_0 6 rfl rfl)
theorem dX4_says_7 : decode cX4_says 7 = .ok (.invokevirtual 412, 3) := dk_182 1 156 (dk_at dksX4_says_0 7 rfl rfl)
theorem dX4_says_10 : decode cX4_says 10 = .ok (.istore_n 2, 1) := dk_61 (dk_at dksX4_says_0 10 rfl rfl)
theorem dX4_says_11 : decode cX4_says 11 = .ok (.aload_n 0, 1) := dk_42 (dk_at dksX4_says_0 11 rfl rfl)
theorem dX4_says_12 : decode cX4_says 12 = .ok (.iload_n 2, 1) := dk_28 (dk_at dksX4_says_0 12 rfl rfl)
theorem dX4_says_13 : decode cX4_says 13 = .ok (.aload_n 0, 1) := dk_42 (dk_at dksX4_says_0 13 rfl rfl)
theorem dX4_says_14 : decode cX4_says 14 = .ok (.getfield 115, 3) := dk_180 0 115 (dk_at dksX4_says_0 14 rfl rfl)
theorem dX4_says_17 : decode cX4_says 17 = .ok (.iload_n 1, 1) := dk_27 (dk_at dksX4_says_0 17 rfl rfl)
theorem dX4_says_18 : decode cX4_says 18 = .ok (.iaload, 1) := dk_46 (dk_at dksX4_says_0 18 rfl rfl)
theorem dX4_says_19 : decode cX4_says 19 = .ok (.invokevirtual 504, 3) := dk_182 1 248 (dk_at dksX4_says_0 19 rfl rfl)
theorem dX4_says_22 : decode cX4_says 22 = .ok (.istore_n 3, 1) := dk_62 (dk_at dksX4_says_0 22 rfl rfl)
theorem dX4_says_23 : decode cX4_says 23 = .ok (.aload_n 0, 1) := dk_42 (dk_at dksX4_says_0 23 rfl rfl)
theorem dX4_says_24 : decode cX4_says 24 = .ok (.iload_n 2, 1) := dk_28 (dk_at dksX4_says_1 0 rfl rfl)
theorem dX4_says_25 : decode cX4_says 25 = .ok (.aload_n 0, 1) := dk_42 (dk_at dksX4_says_1 1 rfl rfl)
theorem dX4_says_26 : decode cX4_says 26 = .ok (.getfield 115, 3) := dk_180 0 115 (dk_at dksX4_says_1 2 rfl rfl)
theorem dX4_says_29 : decode cX4_says 29 = .ok (.iload_n 1, 1) := dk_27 (dk_at dksX4_says_1 5 rfl rfl)
theorem dX4_says_30 : decode cX4_says 30 = .ok (.iaload, 1) := dk_46 (dk_at dksX4_says_1 6 rfl rfl)
theorem dX4_says_31 : decode cX4_says 31 = .ok (.invokevirtual 507, 3) := dk_182 1 251 (dk_at dksX4_says_1 7 rfl rfl)
theorem dX4_says_34 : decode cX4_says 34 = .ok (.istore 4, 2) := dk_54 4 (dk_at dksX4_says_1 10 rfl rfl)
theorem dX4_says_36 : decode cX4_says 36 = .ok (.aload_n 0, 1) := dk_42 (dk_at dksX4_says_1 12 rfl rfl)
theorem dX4_says_37 : decode cX4_says 37 = .ok (.dup, 1) := dk_89 (dk_at dksX4_says_1 13 rfl rfl)
theorem dX4_says_38 : decode cX4_says 38 = .ok (.getfield 492, 3) := dk_180 1 236 (dk_at dksX4_says_1 14 rfl rfl)
theorem dX4_says_41 : decode cX4_says 41 = .ok (.aload_n 0, 1) := dk_42 (dk_at dksX4_says_1 17 rfl rfl)
theorem dX4_says_42 : decode cX4_says 42 = .ok (.getfield 39, 3) := dk_180 0 39 (dk_at dksX4_says_1 18 rfl rfl)
theorem dX4_says_45 : decode cX4_says 45 = .ok (.iload_n 2, 1) := dk_28 (dk_at dksX4_says_1 21 rfl rfl)
theorem dX4_says_46 : decode cX4_says 46 = .ok (.iaload, 1) := dk_46 (dk_at dksX4_says_1 22 rfl rfl)
theorem dX4_says_47 : decode cX4_says 47 = .ok (.aload_n 0, 1) := dk_42 (dk_at dksX4_says_1 23 rfl rfl)
theorem dX4_says_48 : decode cX4_says 48 = .ok (.getfield 115, 3) := dk_180 0 115 (dk_at dksX4_says_2 0 rfl rfl)
theorem dX4_says_51 : decode cX4_says 51 = .ok (.iload_n 1, 1) := dk_27 (dk_at dksX4_says_2 3 rfl rfl)
theorem dX4_says_52 : decode cX4_says 52 = .ok (.iaload, 1) := dk_46 (dk_at dksX4_says_2 4 rfl rfl)
theorem dX4_says_53 : decode cX4_says 53 = .ok (.invokestatic 461, 3) := dk_184 1 205 (dk_at dksX4_says_2 5 rfl rfl)
theorem dX4_says_56 : decode cX4_says 56 = .ok (.isub, 1) := dk_100 (dk_at dksX4_says_2 8 rfl rfl)
theorem dX4_says_57 : decode cX4_says 57 = .ok (.putfield 492, 3) := dk_181 1 236 (dk_at dksX4_says_2 9 rfl rfl)
theorem dX4_says_60 : decode cX4_says 60 = .ok (.aload_n 0, 1) := dk_42 (dk_at dksX4_says_2 12 rfl rfl)
theorem dX4_says_61 : decode cX4_says 61 = .ok (.getfield 148, 3) := dk_180 0 148 (dk_at dksX4_says_2 13 rfl rfl)
theorem dX4_says_64 : decode cX4_says 64 = .ok (.aload_n 0, 1) := dk_42 (dk_at dksX4_says_2 16 rfl rfl)
theorem dX4_says_65 : decode cX4_says 65 = .ok (.getfield 492, 3) := dk_180 1 236 (dk_at dksX4_says_2 17 rfl rfl)
theorem dX4_says_68 : decode cX4_says 68 = .ok (.aload_n 0, 1) := dk_42 (dk_at dksX4_says_2 20 rfl rfl)
theorem dX4_says_69 : decode cX4_says 69 = .ok (.getfield 48, 3) := dk_180 0 48 (dk_at dksX4_says_2 21 rfl rfl)
theorem dX4_says_72 : decode cX4_says 72 = .ok (.iload_n 2, 1) := dk_28 (dk_at dksX4_says_3 0 rfl rfl)
theorem dX4_says_73 : decode cX4_says 73 = .ok (.iaload, 1) := dk_46 (dk_at dksX4_says_3 1 rfl rfl)
theorem dX4_says_74 : decode cX4_says 74 = .ok (.iastore, 1) := dk_79 (dk_at dksX4_says_3 2 rfl rfl)
theorem dX4_says_75 : decode cX4_says 75 = .ok (.aload_n 0, 1) := dk_42 (dk_at dksX4_says_3 3 rfl rfl)
theorem dX4_says_76 : decode cX4_says 76 = .ok (.getfield 151, 3) := dk_180 0 151 (dk_at dksX4_says_3 4 rfl rfl)
theorem dX4_says_79 : decode cX4_says 79 = .ok (.aload_n 0, 1) := dk_42 (dk_at dksX4_says_3 7 rfl rfl)
theorem dX4_says_80 : decode cX4_says 80 = .ok (.getfield 492, 3) := dk_180 1 236 (dk_at dksX4_says_3 8 rfl rfl)
theorem dX4_says_83 : decode cX4_says 83 = .ok (.iload_n 3, 1) := dk_29 (dk_at dksX4_says_3 11 rfl rfl)
theorem dX4_says_84 : decode cX4_says 84 = .ok (.iastore, 1) := dk_79 (dk_at dksX4_says_3 12 rfl rfl)
theorem dX4_says_85 : decode cX4_says 85 = .ok (.aload_n 0, 1) := dk_42 (dk_at dksX4_says_3 13 rfl rfl)
theorem dX4_says_86 : decode cX4_says 86 = .ok (.getfield 154, 3) := dk_180 0 154 (dk_at dksX4_says_3 14 rfl rfl)
theorem dX4_says_89 : decode cX4_says 89 = .ok (.aload_n 0, 1) := dk_42 (dk_at dksX4_says_3 17 rfl rfl)
theorem dX4_says_90 : decode cX4_says 90 = .ok (.getfield 492, 3) := dk_180 1 236 (dk_at dksX4_says_3 18 rfl rfl)
theorem dX4_says_93 : decode cX4_says 93 = .ok (.iload 4, 2) := dk_21 4 (dk_at dksX4_says_3 21 rfl rfl)
theorem dX4_says_95 : decode cX4_says 95 = .ok (.iastore, 1) := dk_79 (dk_at dksX4_says_3 23 rfl rfl)
theorem dX4_says_96 : decode cX4_says 96 = .ok (.aload_n 0, 1) := dk_42 (dk_at dksX4_says_4 0 rfl rfl)
theorem dX4_says_97 : decode cX4_says 97 = .ok (.getfield 157, 3) := dk_180 0 157 (dk_at dksX4_says_4 1 rfl rfl)
theorem dX4_says_100 : decode cX4_says 100 = .ok (.aload_n 0, 1) := dk_42 (dk_at dksX4_says_4 4 rfl rfl)
theorem dX4_says_101 : decode cX4_says 101 = .ok (.getfield 492, 3) := dk_180 1 236 (dk_at dksX4_says_4 5 rfl rfl)
theorem dX4_says_104 : decode cX4_says 104 = .ok (.iload_n 1, 1) := dk_27 (dk_at dksX4_says_4 8 rfl rfl)
theorem dX4_says_105 : decode cX4_says 105 = .ok (.iastore, 1) := dk_79 (dk_at dksX4_says_4 9 rfl rfl)
theorem dX4_says_106 : decode cX4_says 106 = .ok (.aload_n 0, 1) := dk_42 (dk_at dksX4_says_4 10 rfl rfl)
theorem dX4_says_107 : decode cX4_says 107 = .ok (.dup, 1) := dk_89 (dk_at dksX4_says_4 11 rfl rfl)
theorem dX4_says_108 : decode cX4_says 108 = .ok (.getfield 492, 3) := dk_180 1 236 (dk_at dksX4_says_4 12 rfl rfl)
theorem dX4_says_111 : decode cX4_says 111 = .ok (.iconst 1, 1) := dk_4 (dk_at dksX4_says_4 15 rfl rfl)
theorem dX4_says_112 : decode cX4_says 112 = .ok (.iadd, 1) := dk_96 (dk_at dksX4_says_4 16 rfl rfl)
theorem dX4_says_113 : decode cX4_says 113 = .ok (.putfield 492, 3) := dk_181 1 236 (dk_at dksX4_says_4 17 rfl rfl)
theorem dX4_says_116 : decode cX4_says 116 = .ok (.return_, 1) := dk_177 (dk_at dksX4_says_4 20 rfl rfl)
abbrev cX4_meansBy : ByteArray := prog_23_method_74_code
def yX4_meansBy : MethodName := ⟨RX4, "meansBy", "(II)I"⟩
def dkwX4_meansBy_14 : List UInt8 := [180, 0, 54, 27, 46, 29, 182, 1, 239, 172]
abbrev dktX4_meansBy_14 : List UInt8 := dkwX4_meansBy_14 ++ []
def dkwX4_meansBy_13 : List UInt8 := [42, 180, 0, 151, 42, 180, 1, 236, 4, 100, 21, 5, 100, 46, 79, 132, 5, 1, 167, 255, 203, 42, 6, 42]
abbrev dktX4_meansBy_13 : List UInt8 := dkwX4_meansBy_13 ++ dktX4_meansBy_14
def dkwX4_meansBy_12 : List UInt8 := [21, 5, 104, 42, 180, 0, 151, 21, 4, 21, 5, 96, 46, 79, 42, 180, 0, 145, 5, 21, 5, 104, 4, 96]
abbrev dktX4_meansBy_12 : List UInt8 := dkwX4_meansBy_12 ++ dktX4_meansBy_13
def dkwX4_meansBy_11 : List UInt8 := [180, 0, 54, 27, 46, 29, 182, 1, 239, 172, 3, 54, 5, 21, 5, 28, 162, 0, 53, 42, 180, 0, 145, 5]
abbrev dktX4_meansBy_11 : List UInt8 := dkwX4_meansBy_11 ++ dktX4_meansBy_12
def dkwX4_meansBy_10 : List UInt8 := [132, 6, 255, 167, 255, 218, 42, 180, 0, 145, 21, 6, 21, 7, 79, 132, 5, 1, 167, 255, 181, 42, 5, 42]
abbrev dktX4_meansBy_10 : List UInt8 := dkwX4_meansBy_10 ++ dktX4_meansBy_11
def dkwX4_meansBy_9 : List UInt8 := [100, 46, 21, 7, 164, 0, 25, 42, 180, 0, 145, 21, 6, 42, 180, 0, 145, 21, 6, 4, 100, 46, 79]
abbrev dktX4_meansBy_9 : List UInt8 := dkwX4_meansBy_9 ++ dktX4_meansBy_10
def dkwX4_meansBy_8 : List UInt8 := [42, 180, 0, 151, 21, 4, 21, 5, 96, 46, 54, 7, 21, 6, 158, 0, 39, 42, 180, 0, 145, 21, 6, 4]
abbrev dktX4_meansBy_8 : List UInt8 := dkwX4_meansBy_8 ++ dktX4_meansBy_9
def dkwX4_meansBy_7 : List UInt8 := [42, 180, 0, 54, 27, 46, 5, 182, 1, 239, 172, 3, 54, 5, 21, 5, 29, 162, 0, 75, 21, 5, 54, 6]
abbrev dktX4_meansBy_7 : List UInt8 := dkwX4_meansBy_7 ++ dktX4_meansBy_8
def dkwX4_meansBy_6 : List UInt8 := [180, 0, 151, 21, 4, 4, 96, 46, 79, 42, 180, 0, 145, 4, 42, 180, 0, 151, 21, 4, 46, 79, 42, 4]
abbrev dktX4_meansBy_6 : List UInt8 := dkwX4_meansBy_6 ++ dktX4_meansBy_7
def dkwX4_meansBy_5 : List UInt8 := [96, 46, 79, 42, 4, 42, 180, 0, 54, 27, 46, 5, 182, 1, 239, 172, 42, 180, 0, 145, 3, 42]
abbrev dktX4_meansBy_5 : List UInt8 := dkwX4_meansBy_5 ++ dktX4_meansBy_6
def dkwX4_meansBy_4 : List UInt8 := [180, 0, 145, 3, 42, 180, 0, 151, 21, 4, 46, 79, 42, 180, 0, 145, 4, 42, 180, 0, 151, 21, 4, 4]
abbrev dktX4_meansBy_4 : List UInt8 := dkwX4_meansBy_4 ++ dktX4_meansBy_5
def dkwX4_meansBy_3 : List UInt8 := [42, 3, 42, 180, 0, 54, 27, 46, 3, 182, 1, 239, 172, 42, 180, 0, 151, 21, 4, 46, 172, 42]
abbrev dktX4_meansBy_3 : List UInt8 := dkwX4_meansBy_3 ++ dktX4_meansBy_4
def dkwX4_meansBy_2 : List UInt8 := [170, 0, 0, 0, 0, 0, 236, 0, 0, 0, 0, 0, 0, 0, 5, 0, 0, 0, 39, 0, 0, 0, 60, 0, 0, 0, 101, 0, 0, 0, 142, 0, 0, 0, 236, 0, 0, 0, 52]
abbrev dktX4_meansBy_2 : List UInt8 := dkwX4_meansBy_2 ++ dktX4_meansBy_3
def dkwX4_meansBy_1 : List UInt8 := [46]
abbrev dktX4_meansBy_1 : List UInt8 := dkwX4_meansBy_1 ++ dktX4_meansBy_2
def dkwX4_meansBy_0 : List UInt8 := [42, 180, 0, 39, 27, 46, 28, 184, 1, 205, 62, 42, 180, 1, 236, 29, 100, 54, 4, 42, 180, 0, 39, 27]
abbrev dktX4_meansBy_0 : List UInt8 := dkwX4_meansBy_0 ++ dktX4_meansBy_1
theorem dksX4_meansBy_0 : cX4_meansBy.data.toList.drop 0 = dktX4_meansBy_0 := by decide +kernel
theorem dksX4_meansBy_1 : cX4_meansBy.data.toList.drop 24 = dktX4_meansBy_1 := dk_seg dksX4_meansBy_0 24 rfl rfl
theorem dksX4_meansBy_2 : cX4_meansBy.data.toList.drop 25 = dktX4_meansBy_2 := dk_seg dksX4_meansBy_1 1 rfl rfl
theorem dksX4_meansBy_3 : cX4_meansBy.data.toList.drop 64 = dktX4_meansBy_3 := dk_seg dksX4_meansBy_2 39 rfl rfl
theorem dksX4_meansBy_4 : cX4_meansBy.data.toList.drop 86 = dktX4_meansBy_4 := dk_seg dksX4_meansBy_3 22 rfl rfl
theorem dksX4_meansBy_5 : cX4_meansBy.data.toList.drop 110 = dktX4_meansBy_5 := dk_seg dksX4_meansBy_4 24 rfl rfl
theorem dksX4_meansBy_6 : cX4_meansBy.data.toList.drop 132 = dktX4_meansBy_6 := dk_seg dksX4_meansBy_5 22 rfl rfl
theorem dksX4_meansBy_7 : cX4_meansBy.data.toList.drop 156 = dktX4_meansBy_7 := dk_seg dksX4_meansBy_6 24 rfl rfl
theorem dksX4_meansBy_8 : cX4_meansBy.data.toList.drop 180 = dktX4_meansBy_8 := dk_seg dksX4_meansBy_7 24 rfl rfl
theorem dksX4_meansBy_9 : cX4_meansBy.data.toList.drop 204 = dktX4_meansBy_9 := dk_seg dksX4_meansBy_8 24 rfl rfl
theorem dksX4_meansBy_10 : cX4_meansBy.data.toList.drop 227 = dktX4_meansBy_10 := dk_seg dksX4_meansBy_9 23 rfl rfl
theorem dksX4_meansBy_11 : cX4_meansBy.data.toList.drop 251 = dktX4_meansBy_11 := dk_seg dksX4_meansBy_10 24 rfl rfl
theorem dksX4_meansBy_12 : cX4_meansBy.data.toList.drop 275 = dktX4_meansBy_12 := dk_seg dksX4_meansBy_11 24 rfl rfl
theorem dksX4_meansBy_13 : cX4_meansBy.data.toList.drop 299 = dktX4_meansBy_13 := dk_seg dksX4_meansBy_12 24 rfl rfl
theorem dksX4_meansBy_14 : cX4_meansBy.data.toList.drop 323 = dktX4_meansBy_14 := dk_seg dksX4_meansBy_13 24 rfl rfl
theorem dX4_meansBy_0 : decode cX4_meansBy 0 = .ok (.aload_n 0, 1) := dk_42 (dk_at dksX4_meansBy_0 0 rfl rfl)
theorem dX4_meansBy_1 : decode cX4_meansBy 1 = .ok (.getfield 39, 3) := dk_180 0 39 (dk_at dksX4_meansBy_0 1 rfl rfl)
theorem dX4_meansBy_4 : decode cX4_meansBy 4 = .ok (.iload_n 1, 1) := dk_27 (dk_at dksX4_meansBy_0 4 rfl rfl)
theorem dX4_meansBy_5 : decode cX4_meansBy 5 = .ok (.iaload, 1) := dk_46 (dk_at dksX4_meansBy_0 5 rfl rfl)
theorem dX4_meansBy_6 : decode cX4_meansBy 6 = .ok (.iload_n 2, 1) := dk_28 (dk_at dksX4_meansBy_0 6 rfl rfl)
theorem dX4_meansBy_7 : decode cX4_meansBy 7 = .ok (.invokestatic 461, 3) := dk_184 1 205 (dk_at dksX4_meansBy_0 7 rfl rfl)
theorem dX4_meansBy_10 : decode cX4_meansBy 10 = .ok (.istore_n 3, 1) := dk_62 (dk_at dksX4_meansBy_0 10 rfl rfl)
theorem dX4_meansBy_11 : decode cX4_meansBy 11 = .ok (.aload_n 0, 1) := dk_42 (dk_at dksX4_meansBy_0 11 rfl rfl)
theorem dX4_meansBy_12 : decode cX4_meansBy 12 = .ok (.getfield 492, 3) := dk_180 1 236 (dk_at dksX4_meansBy_0 12 rfl rfl)
theorem dX4_meansBy_15 : decode cX4_meansBy 15 = .ok (.iload_n 3, 1) := dk_29 (dk_at dksX4_meansBy_0 15 rfl rfl)
theorem dX4_meansBy_16 : decode cX4_meansBy 16 = .ok (.isub, 1) := dk_100 (dk_at dksX4_meansBy_0 16 rfl rfl)
theorem dX4_meansBy_17 : decode cX4_meansBy 17 = .ok (.istore 4, 2) := dk_54 4 (dk_at dksX4_meansBy_0 17 rfl rfl)
theorem dX4_meansBy_19 : decode cX4_meansBy 19 = .ok (.aload_n 0, 1) := dk_42 (dk_at dksX4_meansBy_0 19 rfl rfl)
theorem dX4_meansBy_20 : decode cX4_meansBy 20 = .ok (.getfield 39, 3) := dk_180 0 39 (dk_at dksX4_meansBy_0 20 rfl rfl)
theorem dX4_meansBy_23 : decode cX4_meansBy 23 = .ok (.iload_n 1, 1) := dk_27 (dk_at dksX4_meansBy_0 23 rfl rfl)
theorem dX4_meansBy_24 : decode cX4_meansBy 24 = .ok (.iaload, 1) := dk_46 (dk_at dksX4_meansBy_1 0 rfl rfl)
theorem dX4_meansBy_25 : decode cX4_meansBy 25 = .ok (.tableswitch 236 0 5 #[39, 60, 101, 142, 236, 52], 39) := by decide +kernel
theorem dX4_meansBy_64 : decode cX4_meansBy 64 = .ok (.aload_n 0, 1) := dk_42 (dk_at dksX4_meansBy_3 0 rfl rfl)
theorem dX4_meansBy_65 : decode cX4_meansBy 65 = .ok (.iconst 0, 1) := dk_3 (dk_at dksX4_meansBy_3 1 rfl rfl)
theorem dX4_meansBy_66 : decode cX4_meansBy 66 = .ok (.aload_n 0, 1) := dk_42 (dk_at dksX4_meansBy_3 2 rfl rfl)
theorem dX4_meansBy_67 : decode cX4_meansBy 67 = .ok (.getfield 54, 3) := dk_180 0 54 (dk_at dksX4_meansBy_3 3 rfl rfl)
theorem dX4_meansBy_70 : decode cX4_meansBy 70 = .ok (.iload_n 1, 1) := dk_27 (dk_at dksX4_meansBy_3 6 rfl rfl)
theorem dX4_meansBy_71 : decode cX4_meansBy 71 = .ok (.iaload, 1) := dk_46 (dk_at dksX4_meansBy_3 7 rfl rfl)
theorem dX4_meansBy_72 : decode cX4_meansBy 72 = .ok (.iconst 0, 1) := dk_3 (dk_at dksX4_meansBy_3 8 rfl rfl)
theorem dX4_meansBy_73 : decode cX4_meansBy 73 = .ok (.invokevirtual 495, 3) := dk_182 1 239 (dk_at dksX4_meansBy_3 9 rfl rfl)
theorem dX4_meansBy_76 : decode cX4_meansBy 76 = .ok (.ireturn, 1) := dk_172 (dk_at dksX4_meansBy_3 12 rfl rfl)
theorem dX4_meansBy_77 : decode cX4_meansBy 77 = .ok (.aload_n 0, 1) := dk_42 (dk_at dksX4_meansBy_3 13 rfl rfl)
theorem dX4_meansBy_78 : decode cX4_meansBy 78 = .ok (.getfield 151, 3) := dk_180 0 151 (dk_at dksX4_meansBy_3 14 rfl rfl)
theorem dX4_meansBy_81 : decode cX4_meansBy 81 = .ok (.iload 4, 2) := dk_21 4 (dk_at dksX4_meansBy_3 17 rfl rfl)
theorem dX4_meansBy_83 : decode cX4_meansBy 83 = .ok (.iaload, 1) := dk_46 (dk_at dksX4_meansBy_3 19 rfl rfl)
theorem dX4_meansBy_84 : decode cX4_meansBy 84 = .ok (.ireturn, 1) := dk_172 (dk_at dksX4_meansBy_3 20 rfl rfl)
theorem dX4_meansBy_85 : decode cX4_meansBy 85 = .ok (.aload_n 0, 1) := dk_42 (dk_at dksX4_meansBy_3 21 rfl rfl)
theorem dX4_meansBy_86 : decode cX4_meansBy 86 = .ok (.getfield 145, 3) := dk_180 0 145 (dk_at dksX4_meansBy_4 0 rfl rfl)
theorem dX4_meansBy_89 : decode cX4_meansBy 89 = .ok (.iconst 0, 1) := dk_3 (dk_at dksX4_meansBy_4 3 rfl rfl)
theorem dX4_meansBy_90 : decode cX4_meansBy 90 = .ok (.aload_n 0, 1) := dk_42 (dk_at dksX4_meansBy_4 4 rfl rfl)
theorem dX4_meansBy_91 : decode cX4_meansBy 91 = .ok (.getfield 151, 3) := dk_180 0 151 (dk_at dksX4_meansBy_4 5 rfl rfl)
theorem dX4_meansBy_94 : decode cX4_meansBy 94 = .ok (.iload 4, 2) := dk_21 4 (dk_at dksX4_meansBy_4 8 rfl rfl)
theorem dX4_meansBy_96 : decode cX4_meansBy 96 = .ok (.iaload, 1) := dk_46 (dk_at dksX4_meansBy_4 10 rfl rfl)
theorem dX4_meansBy_97 : decode cX4_meansBy 97 = .ok (.iastore, 1) := dk_79 (dk_at dksX4_meansBy_4 11 rfl rfl)
theorem dX4_meansBy_98 : decode cX4_meansBy 98 = .ok (.aload_n 0, 1) := dk_42 (dk_at dksX4_meansBy_4 12 rfl rfl)
theorem dX4_meansBy_99 : decode cX4_meansBy 99 = .ok (.getfield 145, 3) := dk_180 0 145 (dk_at dksX4_meansBy_4 13 rfl rfl)
theorem dX4_meansBy_102 : decode cX4_meansBy 102 = .ok (.iconst 1, 1) := dk_4 (dk_at dksX4_meansBy_4 16 rfl rfl)
theorem dX4_meansBy_103 : decode cX4_meansBy 103 = .ok (.aload_n 0, 1) := dk_42 (dk_at dksX4_meansBy_4 17 rfl rfl)
theorem dX4_meansBy_104 : decode cX4_meansBy 104 = .ok (.getfield 151, 3) := dk_180 0 151 (dk_at dksX4_meansBy_4 18 rfl rfl)
theorem dX4_meansBy_107 : decode cX4_meansBy 107 = .ok (.iload 4, 2) := dk_21 4 (dk_at dksX4_meansBy_4 21 rfl rfl)
theorem dX4_meansBy_109 : decode cX4_meansBy 109 = .ok (.iconst 1, 1) := dk_4 (dk_at dksX4_meansBy_4 23 rfl rfl)
theorem dX4_meansBy_110 : decode cX4_meansBy 110 = .ok (.iadd, 1) := dk_96 (dk_at dksX4_meansBy_5 0 rfl rfl)
theorem dX4_meansBy_111 : decode cX4_meansBy 111 = .ok (.iaload, 1) := dk_46 (dk_at dksX4_meansBy_5 1 rfl rfl)
theorem dX4_meansBy_112 : decode cX4_meansBy 112 = .ok (.iastore, 1) := dk_79 (dk_at dksX4_meansBy_5 2 rfl rfl)
theorem dX4_meansBy_113 : decode cX4_meansBy 113 = .ok (.aload_n 0, 1) := dk_42 (dk_at dksX4_meansBy_5 3 rfl rfl)
theorem dX4_meansBy_114 : decode cX4_meansBy 114 = .ok (.iconst 1, 1) := dk_4 (dk_at dksX4_meansBy_5 4 rfl rfl)
theorem dX4_meansBy_115 : decode cX4_meansBy 115 = .ok (.aload_n 0, 1) := dk_42 (dk_at dksX4_meansBy_5 5 rfl rfl)
theorem dX4_meansBy_116 : decode cX4_meansBy 116 = .ok (.getfield 54, 3) := dk_180 0 54 (dk_at dksX4_meansBy_5 6 rfl rfl)
theorem dX4_meansBy_119 : decode cX4_meansBy 119 = .ok (.iload_n 1, 1) := dk_27 (dk_at dksX4_meansBy_5 9 rfl rfl)
theorem dX4_meansBy_120 : decode cX4_meansBy 120 = .ok (.iaload, 1) := dk_46 (dk_at dksX4_meansBy_5 10 rfl rfl)
theorem dX4_meansBy_121 : decode cX4_meansBy 121 = .ok (.iconst 2, 1) := dk_5 (dk_at dksX4_meansBy_5 11 rfl rfl)
theorem dX4_meansBy_122 : decode cX4_meansBy 122 = .ok (.invokevirtual 495, 3) := dk_182 1 239 (dk_at dksX4_meansBy_5 12 rfl rfl)
theorem dX4_meansBy_125 : decode cX4_meansBy 125 = .ok (.ireturn, 1) := dk_172 (dk_at dksX4_meansBy_5 15 rfl rfl)
theorem dX4_meansBy_126 : decode cX4_meansBy 126 = .ok (.aload_n 0, 1) := dk_42 (dk_at dksX4_meansBy_5 16 rfl rfl)
theorem dX4_meansBy_127 : decode cX4_meansBy 127 = .ok (.getfield 145, 3) := dk_180 0 145 (dk_at dksX4_meansBy_5 17 rfl rfl)
theorem dX4_meansBy_130 : decode cX4_meansBy 130 = .ok (.iconst 0, 1) := dk_3 (dk_at dksX4_meansBy_5 20 rfl rfl)
theorem dX4_meansBy_131 : decode cX4_meansBy 131 = .ok (.aload_n 0, 1) := dk_42 (dk_at dksX4_meansBy_5 21 rfl rfl)
theorem dX4_meansBy_132 : decode cX4_meansBy 132 = .ok (.getfield 151, 3) := dk_180 0 151 (dk_at dksX4_meansBy_6 0 rfl rfl)
theorem dX4_meansBy_135 : decode cX4_meansBy 135 = .ok (.iload 4, 2) := dk_21 4 (dk_at dksX4_meansBy_6 3 rfl rfl)
theorem dX4_meansBy_137 : decode cX4_meansBy 137 = .ok (.iconst 1, 1) := dk_4 (dk_at dksX4_meansBy_6 5 rfl rfl)
theorem dX4_meansBy_138 : decode cX4_meansBy 138 = .ok (.iadd, 1) := dk_96 (dk_at dksX4_meansBy_6 6 rfl rfl)
theorem dX4_meansBy_139 : decode cX4_meansBy 139 = .ok (.iaload, 1) := dk_46 (dk_at dksX4_meansBy_6 7 rfl rfl)
theorem dX4_meansBy_140 : decode cX4_meansBy 140 = .ok (.iastore, 1) := dk_79 (dk_at dksX4_meansBy_6 8 rfl rfl)
theorem dX4_meansBy_141 : decode cX4_meansBy 141 = .ok (.aload_n 0, 1) := dk_42 (dk_at dksX4_meansBy_6 9 rfl rfl)
theorem dX4_meansBy_142 : decode cX4_meansBy 142 = .ok (.getfield 145, 3) := dk_180 0 145 (dk_at dksX4_meansBy_6 10 rfl rfl)
theorem dX4_meansBy_145 : decode cX4_meansBy 145 = .ok (.iconst 1, 1) := dk_4 (dk_at dksX4_meansBy_6 13 rfl rfl)
theorem dX4_meansBy_146 : decode cX4_meansBy 146 = .ok (.aload_n 0, 1) := dk_42 (dk_at dksX4_meansBy_6 14 rfl rfl)
theorem dX4_meansBy_147 : decode cX4_meansBy 147 = .ok (.getfield 151, 3) := dk_180 0 151 (dk_at dksX4_meansBy_6 15 rfl rfl)
theorem dX4_meansBy_150 : decode cX4_meansBy 150 = .ok (.iload 4, 2) := dk_21 4 (dk_at dksX4_meansBy_6 18 rfl rfl)
theorem dX4_meansBy_152 : decode cX4_meansBy 152 = .ok (.iaload, 1) := dk_46 (dk_at dksX4_meansBy_6 20 rfl rfl)
theorem dX4_meansBy_153 : decode cX4_meansBy 153 = .ok (.iastore, 1) := dk_79 (dk_at dksX4_meansBy_6 21 rfl rfl)
theorem dX4_meansBy_154 : decode cX4_meansBy 154 = .ok (.aload_n 0, 1) := dk_42 (dk_at dksX4_meansBy_6 22 rfl rfl)
theorem dX4_meansBy_155 : decode cX4_meansBy 155 = .ok (.iconst 1, 1) := dk_4 (dk_at dksX4_meansBy_6 23 rfl rfl)
theorem dX4_meansBy_156 : decode cX4_meansBy 156 = .ok (.aload_n 0, 1) := dk_42 (dk_at dksX4_meansBy_7 0 rfl rfl)
theorem dX4_meansBy_157 : decode cX4_meansBy 157 = .ok (.getfield 54, 3) := dk_180 0 54 (dk_at dksX4_meansBy_7 1 rfl rfl)
theorem dX4_meansBy_160 : decode cX4_meansBy 160 = .ok (.iload_n 1, 1) := dk_27 (dk_at dksX4_meansBy_7 4 rfl rfl)
theorem dX4_meansBy_161 : decode cX4_meansBy 161 = .ok (.iaload, 1) := dk_46 (dk_at dksX4_meansBy_7 5 rfl rfl)
theorem dX4_meansBy_162 : decode cX4_meansBy 162 = .ok (.iconst 2, 1) := dk_5 (dk_at dksX4_meansBy_7 6 rfl rfl)
theorem dX4_meansBy_163 : decode cX4_meansBy 163 = .ok (.invokevirtual 495, 3) := dk_182 1 239 (dk_at dksX4_meansBy_7 7 rfl rfl)
theorem dX4_meansBy_166 : decode cX4_meansBy 166 = .ok (.ireturn, 1) := dk_172 (dk_at dksX4_meansBy_7 10 rfl rfl)
theorem dX4_meansBy_167 : decode cX4_meansBy 167 = .ok (.iconst 0, 1) := dk_3 (dk_at dksX4_meansBy_7 11 rfl rfl)
theorem dX4_meansBy_168 : decode cX4_meansBy 168 = .ok (.istore 5, 2) := dk_54 5 (dk_at dksX4_meansBy_7 12 rfl rfl)
theorem dX4_meansBy_170 : decode cX4_meansBy 170 = .ok (.iload 5, 2) := dk_21 5 (dk_at dksX4_meansBy_7 14 rfl rfl)
theorem dX4_meansBy_172 : decode cX4_meansBy 172 = .ok (.iload_n 3, 1) := dk_29 (dk_at dksX4_meansBy_7 16 rfl rfl)
theorem dX4_meansBy_173 : decode cX4_meansBy 173 = .ok (.if_icmp .ge 75, 3) := dk_162 0 75 (dk_at dksX4_meansBy_7 17 rfl rfl)
theorem dX4_meansBy_176 : decode cX4_meansBy 176 = .ok (.iload 5, 2) := dk_21 5 (dk_at dksX4_meansBy_7 20 rfl rfl)
theorem dX4_meansBy_178 : decode cX4_meansBy 178 = .ok (.istore 6, 2) := dk_54 6 (dk_at dksX4_meansBy_7 22 rfl rfl)
theorem dX4_meansBy_180 : decode cX4_meansBy 180 = .ok (.aload_n 0, 1) := dk_42 (dk_at dksX4_meansBy_8 0 rfl rfl)
theorem dX4_meansBy_181 : decode cX4_meansBy 181 = .ok (.getfield 151, 3) := dk_180 0 151 (dk_at dksX4_meansBy_8 1 rfl rfl)
theorem dX4_meansBy_184 : decode cX4_meansBy 184 = .ok (.iload 4, 2) := dk_21 4 (dk_at dksX4_meansBy_8 4 rfl rfl)
theorem dX4_meansBy_186 : decode cX4_meansBy 186 = .ok (.iload 5, 2) := dk_21 5 (dk_at dksX4_meansBy_8 6 rfl rfl)
theorem dX4_meansBy_188 : decode cX4_meansBy 188 = .ok (.iadd, 1) := dk_96 (dk_at dksX4_meansBy_8 8 rfl rfl)
theorem dX4_meansBy_189 : decode cX4_meansBy 189 = .ok (.iaload, 1) := dk_46 (dk_at dksX4_meansBy_8 9 rfl rfl)
theorem dX4_meansBy_190 : decode cX4_meansBy 190 = .ok (.istore 7, 2) := dk_54 7 (dk_at dksX4_meansBy_8 10 rfl rfl)
theorem dX4_meansBy_192 : decode cX4_meansBy 192 = .ok (.iload 6, 2) := dk_21 6 (dk_at dksX4_meansBy_8 12 rfl rfl)
theorem dX4_meansBy_194 : decode cX4_meansBy 194 = .ok (.ifCond .le 39, 3) := dk_158 0 39 (dk_at dksX4_meansBy_8 14 rfl rfl)
theorem dX4_meansBy_197 : decode cX4_meansBy 197 = .ok (.aload_n 0, 1) := dk_42 (dk_at dksX4_meansBy_8 17 rfl rfl)
theorem dX4_meansBy_198 : decode cX4_meansBy 198 = .ok (.getfield 145, 3) := dk_180 0 145 (dk_at dksX4_meansBy_8 18 rfl rfl)
theorem dX4_meansBy_201 : decode cX4_meansBy 201 = .ok (.iload 6, 2) := dk_21 6 (dk_at dksX4_meansBy_8 21 rfl rfl)
theorem dX4_meansBy_203 : decode cX4_meansBy 203 = .ok (.iconst 1, 1) := dk_4 (dk_at dksX4_meansBy_8 23 rfl rfl)
theorem dX4_meansBy_204 : decode cX4_meansBy 204 = .ok (.isub, 1) := dk_100 (dk_at dksX4_meansBy_9 0 rfl rfl)
theorem dX4_meansBy_205 : decode cX4_meansBy 205 = .ok (.iaload, 1) := dk_46 (dk_at dksX4_meansBy_9 1 rfl rfl)
theorem dX4_meansBy_206 : decode cX4_meansBy 206 = .ok (.iload 7, 2) := dk_21 7 (dk_at dksX4_meansBy_9 2 rfl rfl)
theorem dX4_meansBy_208 : decode cX4_meansBy 208 = .ok (.if_icmp .le 25, 3) := dk_164 0 25 (dk_at dksX4_meansBy_9 4 rfl rfl)
theorem dX4_meansBy_211 : decode cX4_meansBy 211 = .ok (.aload_n 0, 1) := dk_42 (dk_at dksX4_meansBy_9 7 rfl rfl)
theorem dX4_meansBy_212 : decode cX4_meansBy 212 = .ok (.getfield 145, 3) := dk_180 0 145 (dk_at dksX4_meansBy_9 8 rfl rfl)
theorem dX4_meansBy_215 : decode cX4_meansBy 215 = .ok (.iload 6, 2) := dk_21 6 (dk_at dksX4_meansBy_9 11 rfl rfl)
theorem dX4_meansBy_217 : decode cX4_meansBy 217 = .ok (.aload_n 0, 1) := dk_42 (dk_at dksX4_meansBy_9 13 rfl rfl)
theorem dX4_meansBy_218 : decode cX4_meansBy 218 = .ok (.getfield 145, 3) := dk_180 0 145 (dk_at dksX4_meansBy_9 14 rfl rfl)
theorem dX4_meansBy_221 : decode cX4_meansBy 221 = .ok (.iload 6, 2) := dk_21 6 (dk_at dksX4_meansBy_9 17 rfl rfl)
theorem dX4_meansBy_223 : decode cX4_meansBy 223 = .ok (.iconst 1, 1) := dk_4 (dk_at dksX4_meansBy_9 19 rfl rfl)
theorem dX4_meansBy_224 : decode cX4_meansBy 224 = .ok (.isub, 1) := dk_100 (dk_at dksX4_meansBy_9 20 rfl rfl)
theorem dX4_meansBy_225 : decode cX4_meansBy 225 = .ok (.iaload, 1) := dk_46 (dk_at dksX4_meansBy_9 21 rfl rfl)
theorem dX4_meansBy_226 : decode cX4_meansBy 226 = .ok (.iastore, 1) := dk_79 (dk_at dksX4_meansBy_9 22 rfl rfl)
theorem dX4_meansBy_227 : decode cX4_meansBy 227 = .ok (.iinc 6 (-1), 3) := dk_132 6 255 (dk_at dksX4_meansBy_10 0 rfl rfl)
theorem dX4_meansBy_230 : decode cX4_meansBy 230 = .ok (.goto (-38), 3) := dk_167 255 218 (dk_at dksX4_meansBy_10 3 rfl rfl)
theorem dX4_meansBy_233 : decode cX4_meansBy 233 = .ok (.aload_n 0, 1) := dk_42 (dk_at dksX4_meansBy_10 6 rfl rfl)
theorem dX4_meansBy_234 : decode cX4_meansBy 234 = .ok (.getfield 145, 3) := dk_180 0 145 (dk_at dksX4_meansBy_10 7 rfl rfl)
theorem dX4_meansBy_237 : decode cX4_meansBy 237 = .ok (.iload 6, 2) := dk_21 6 (dk_at dksX4_meansBy_10 10 rfl rfl)
theorem dX4_meansBy_239 : decode cX4_meansBy 239 = .ok (.iload 7, 2) := dk_21 7 (dk_at dksX4_meansBy_10 12 rfl rfl)
theorem dX4_meansBy_241 : decode cX4_meansBy 241 = .ok (.iastore, 1) := dk_79 (dk_at dksX4_meansBy_10 14 rfl rfl)
theorem dX4_meansBy_242 : decode cX4_meansBy 242 = .ok (.iinc 5 1, 3) := dk_132 5 1 (dk_at dksX4_meansBy_10 15 rfl rfl)
theorem dX4_meansBy_245 : decode cX4_meansBy 245 = .ok (.goto (-75), 3) := dk_167 255 181 (dk_at dksX4_meansBy_10 18 rfl rfl)
theorem dX4_meansBy_248 : decode cX4_meansBy 248 = .ok (.aload_n 0, 1) := dk_42 (dk_at dksX4_meansBy_10 21 rfl rfl)
theorem dX4_meansBy_249 : decode cX4_meansBy 249 = .ok (.iconst 2, 1) := dk_5 (dk_at dksX4_meansBy_10 22 rfl rfl)
theorem dX4_meansBy_250 : decode cX4_meansBy 250 = .ok (.aload_n 0, 1) := dk_42 (dk_at dksX4_meansBy_10 23 rfl rfl)
theorem dX4_meansBy_251 : decode cX4_meansBy 251 = .ok (.getfield 54, 3) := dk_180 0 54 (dk_at dksX4_meansBy_11 0 rfl rfl)
theorem dX4_meansBy_254 : decode cX4_meansBy 254 = .ok (.iload_n 1, 1) := dk_27 (dk_at dksX4_meansBy_11 3 rfl rfl)
theorem dX4_meansBy_255 : decode cX4_meansBy 255 = .ok (.iaload, 1) := dk_46 (dk_at dksX4_meansBy_11 4 rfl rfl)
theorem dX4_meansBy_256 : decode cX4_meansBy 256 = .ok (.iload_n 3, 1) := dk_29 (dk_at dksX4_meansBy_11 5 rfl rfl)
theorem dX4_meansBy_257 : decode cX4_meansBy 257 = .ok (.invokevirtual 495, 3) := dk_182 1 239 (dk_at dksX4_meansBy_11 6 rfl rfl)
theorem dX4_meansBy_260 : decode cX4_meansBy 260 = .ok (.ireturn, 1) := dk_172 (dk_at dksX4_meansBy_11 9 rfl rfl)
theorem dX4_meansBy_261 : decode cX4_meansBy 261 = .ok (.iconst 0, 1) := dk_3 (dk_at dksX4_meansBy_11 10 rfl rfl)
theorem dX4_meansBy_262 : decode cX4_meansBy 262 = .ok (.istore 5, 2) := dk_54 5 (dk_at dksX4_meansBy_11 11 rfl rfl)
theorem dX4_meansBy_264 : decode cX4_meansBy 264 = .ok (.iload 5, 2) := dk_21 5 (dk_at dksX4_meansBy_11 13 rfl rfl)
theorem dX4_meansBy_266 : decode cX4_meansBy 266 = .ok (.iload_n 2, 1) := dk_28 (dk_at dksX4_meansBy_11 15 rfl rfl)
theorem dX4_meansBy_267 : decode cX4_meansBy 267 = .ok (.if_icmp .ge 53, 3) := dk_162 0 53 (dk_at dksX4_meansBy_11 16 rfl rfl)
theorem dX4_meansBy_270 : decode cX4_meansBy 270 = .ok (.aload_n 0, 1) := dk_42 (dk_at dksX4_meansBy_11 19 rfl rfl)
theorem dX4_meansBy_271 : decode cX4_meansBy 271 = .ok (.getfield 145, 3) := dk_180 0 145 (dk_at dksX4_meansBy_11 20 rfl rfl)
theorem dX4_meansBy_274 : decode cX4_meansBy 274 = .ok (.iconst 2, 1) := dk_5 (dk_at dksX4_meansBy_11 23 rfl rfl)
theorem dX4_meansBy_275 : decode cX4_meansBy 275 = .ok (.iload 5, 2) := dk_21 5 (dk_at dksX4_meansBy_12 0 rfl rfl)
theorem dX4_meansBy_277 : decode cX4_meansBy 277 = .ok (.imul, 1) := dk_104 (dk_at dksX4_meansBy_12 2 rfl rfl)
theorem dX4_meansBy_278 : decode cX4_meansBy 278 = .ok (.aload_n 0, 1) := dk_42 (dk_at dksX4_meansBy_12 3 rfl rfl)
theorem dX4_meansBy_279 : decode cX4_meansBy 279 = .ok (.getfield 151, 3) := dk_180 0 151 (dk_at dksX4_meansBy_12 4 rfl rfl)
theorem dX4_meansBy_282 : decode cX4_meansBy 282 = .ok (.iload 4, 2) := dk_21 4 (dk_at dksX4_meansBy_12 7 rfl rfl)
theorem dX4_meansBy_284 : decode cX4_meansBy 284 = .ok (.iload 5, 2) := dk_21 5 (dk_at dksX4_meansBy_12 9 rfl rfl)
theorem dX4_meansBy_286 : decode cX4_meansBy 286 = .ok (.iadd, 1) := dk_96 (dk_at dksX4_meansBy_12 11 rfl rfl)
theorem dX4_meansBy_287 : decode cX4_meansBy 287 = .ok (.iaload, 1) := dk_46 (dk_at dksX4_meansBy_12 12 rfl rfl)
theorem dX4_meansBy_288 : decode cX4_meansBy 288 = .ok (.iastore, 1) := dk_79 (dk_at dksX4_meansBy_12 13 rfl rfl)
theorem dX4_meansBy_289 : decode cX4_meansBy 289 = .ok (.aload_n 0, 1) := dk_42 (dk_at dksX4_meansBy_12 14 rfl rfl)
theorem dX4_meansBy_290 : decode cX4_meansBy 290 = .ok (.getfield 145, 3) := dk_180 0 145 (dk_at dksX4_meansBy_12 15 rfl rfl)
theorem dX4_meansBy_293 : decode cX4_meansBy 293 = .ok (.iconst 2, 1) := dk_5 (dk_at dksX4_meansBy_12 18 rfl rfl)
theorem dX4_meansBy_294 : decode cX4_meansBy 294 = .ok (.iload 5, 2) := dk_21 5 (dk_at dksX4_meansBy_12 19 rfl rfl)
theorem dX4_meansBy_296 : decode cX4_meansBy 296 = .ok (.imul, 1) := dk_104 (dk_at dksX4_meansBy_12 21 rfl rfl)
theorem dX4_meansBy_297 : decode cX4_meansBy 297 = .ok (.iconst 1, 1) := dk_4 (dk_at dksX4_meansBy_12 22 rfl rfl)
theorem dX4_meansBy_298 : decode cX4_meansBy 298 = .ok (.iadd, 1) := dk_96 (dk_at dksX4_meansBy_12 23 rfl rfl)
theorem dX4_meansBy_299 : decode cX4_meansBy 299 = .ok (.aload_n 0, 1) := dk_42 (dk_at dksX4_meansBy_13 0 rfl rfl)
theorem dX4_meansBy_300 : decode cX4_meansBy 300 = .ok (.getfield 151, 3) := dk_180 0 151 (dk_at dksX4_meansBy_13 1 rfl rfl)
theorem dX4_meansBy_303 : decode cX4_meansBy 303 = .ok (.aload_n 0, 1) := dk_42 (dk_at dksX4_meansBy_13 4 rfl rfl)
theorem dX4_meansBy_304 : decode cX4_meansBy 304 = .ok (.getfield 492, 3) := dk_180 1 236 (dk_at dksX4_meansBy_13 5 rfl rfl)
theorem dX4_meansBy_307 : decode cX4_meansBy 307 = .ok (.iconst 1, 1) := dk_4 (dk_at dksX4_meansBy_13 8 rfl rfl)
theorem dX4_meansBy_308 : decode cX4_meansBy 308 = .ok (.isub, 1) := dk_100 (dk_at dksX4_meansBy_13 9 rfl rfl)
theorem dX4_meansBy_309 : decode cX4_meansBy 309 = .ok (.iload 5, 2) := dk_21 5 (dk_at dksX4_meansBy_13 10 rfl rfl)
theorem dX4_meansBy_311 : decode cX4_meansBy 311 = .ok (.isub, 1) := dk_100 (dk_at dksX4_meansBy_13 12 rfl rfl)
theorem dX4_meansBy_312 : decode cX4_meansBy 312 = .ok (.iaload, 1) := dk_46 (dk_at dksX4_meansBy_13 13 rfl rfl)
theorem dX4_meansBy_313 : decode cX4_meansBy 313 = .ok (.iastore, 1) := dk_79 (dk_at dksX4_meansBy_13 14 rfl rfl)
theorem dX4_meansBy_314 : decode cX4_meansBy 314 = .ok (.iinc 5 1, 3) := dk_132 5 1 (dk_at dksX4_meansBy_13 15 rfl rfl)
theorem dX4_meansBy_317 : decode cX4_meansBy 317 = .ok (.goto (-53), 3) := dk_167 255 203 (dk_at dksX4_meansBy_13 18 rfl rfl)
theorem dX4_meansBy_320 : decode cX4_meansBy 320 = .ok (.aload_n 0, 1) := dk_42 (dk_at dksX4_meansBy_13 21 rfl rfl)
theorem dX4_meansBy_321 : decode cX4_meansBy 321 = .ok (.iconst 3, 1) := dk_6 (dk_at dksX4_meansBy_13 22 rfl rfl)
theorem dX4_meansBy_322 : decode cX4_meansBy 322 = .ok (.aload_n 0, 1) := dk_42 (dk_at dksX4_meansBy_13 23 rfl rfl)
theorem dX4_meansBy_323 : decode cX4_meansBy 323 = .ok (.getfield 54, 3) := dk_180 0 54 (dk_at dksX4_meansBy_14 0 rfl rfl)
theorem dX4_meansBy_326 : decode cX4_meansBy 326 = .ok (.iload_n 1, 1) := dk_27 (dk_at dksX4_meansBy_14 3 rfl rfl)
theorem dX4_meansBy_327 : decode cX4_meansBy 327 = .ok (.iaload, 1) := dk_46 (dk_at dksX4_meansBy_14 4 rfl rfl)
theorem dX4_meansBy_328 : decode cX4_meansBy 328 = .ok (.iload_n 3, 1) := dk_29 (dk_at dksX4_meansBy_14 5 rfl rfl)
theorem dX4_meansBy_329 : decode cX4_meansBy 329 = .ok (.invokevirtual 495, 3) := dk_182 1 239 (dk_at dksX4_meansBy_14 6 rfl rfl)
theorem dX4_meansBy_332 : decode cX4_meansBy 332 = .ok (.ireturn, 1) := dk_172 (dk_at dksX4_meansBy_14 9 rfl rfl)
abbrev cX4_meaning : ByteArray := prog_23_method_72_code
def yX4_meaning : MethodName := ⟨RX4, "meaning", "(III)I"⟩
def dkwX4_meaning_9 : List UInt8 := [181, 1, 230, 42, 180, 1, 230, 4, 100, 172]
abbrev dktX4_meaning_9 : List UInt8 := dkwX4_meaning_9 ++ []
def dkwX4_meaning_8 : List UInt8 := [42, 89, 180, 1, 233, 4, 96, 181, 1, 233, 132, 4, 1, 167, 255, 221, 42, 89, 180, 1, 230, 4, 96]
abbrev dktX4_meaning_8 : List UInt8 := dkwX4_meaning_8 ++ dktX4_meaning_9
def dkwX4_meaning_7 : List UInt8 := [54, 4, 21, 4, 29, 162, 0, 35, 42, 180, 0, 142, 42, 180, 1, 233, 42, 180, 0, 145, 21, 4, 46, 79]
abbrev dktX4_meaning_7 : List UInt8 := dkwX4_meaning_7 ++ dktX4_meaning_8
def dkwX4_meaning_6 : List UInt8 := [180, 0, 136, 42, 180, 1, 230, 42, 180, 1, 233, 79, 42, 180, 0, 139, 42, 180, 1, 230, 29, 79, 3]
abbrev dktX4_meaning_6 : List UInt8 := dkwX4_meaning_6 ++ dktX4_meaning_7
def dkwX4_meaning_5 : List UInt8 := [167, 255, 144, 42, 180, 0, 130, 42, 180, 1, 230, 27, 79, 42, 180, 0, 133, 42, 180, 1, 230, 28, 79, 42]
abbrev dktX4_meaning_5 : List UInt8 := dkwX4_meaning_5 ++ dktX4_meaning_6
def dkwX4_meaning_4 : List UInt8 := [167, 0, 4, 3, 54, 5, 132, 6, 1, 167, 255, 210, 21, 5, 153, 0, 6, 21, 4, 172, 132, 4, 1]
abbrev dktX4_meaning_4 : List UInt8 := dkwX4_meaning_4 ++ dktX4_meaning_5
def dkwX4_meaning_3 : List UInt8 := [42, 180, 0, 136, 21, 4, 46, 21, 6, 96, 46, 42, 180, 0, 145, 21, 6, 46, 160, 0, 7, 4]
abbrev dktX4_meaning_3 : List UInt8 := dkwX4_meaning_3 ++ dktX4_meaning_4
def dkwX4_meaning_2 : List UInt8 := [167, 0, 4, 3, 54, 5, 3, 54, 6, 21, 6, 29, 162, 0, 46, 21, 5, 153, 0, 41, 42, 180, 0, 142]
abbrev dktX4_meaning_2 : List UInt8 := dkwX4_meaning_2 ++ dktX4_meaning_3
def dkwX4_meaning_1 : List UInt8 := [180, 0, 133, 21, 4, 46, 28, 160, 0, 18, 42, 180, 0, 139, 21, 4, 46, 29, 160, 0, 7, 4]
abbrev dktX4_meaning_1 : List UInt8 := dkwX4_meaning_1 ++ dktX4_meaning_2
def dkwX4_meaning_0 : List UInt8 := [3, 54, 4, 21, 4, 42, 180, 1, 230, 162, 0, 109, 42, 180, 0, 130, 21, 4, 46, 27, 160, 0, 29, 42]
abbrev dktX4_meaning_0 : List UInt8 := dkwX4_meaning_0 ++ dktX4_meaning_1
theorem dksX4_meaning_0 : cX4_meaning.data.toList.drop 0 = dktX4_meaning_0 := by decide +kernel
theorem dksX4_meaning_1 : cX4_meaning.data.toList.drop 24 = dktX4_meaning_1 := dk_seg dksX4_meaning_0 24 rfl rfl
theorem dksX4_meaning_2 : cX4_meaning.data.toList.drop 46 = dktX4_meaning_2 := dk_seg dksX4_meaning_1 22 rfl rfl
theorem dksX4_meaning_3 : cX4_meaning.data.toList.drop 70 = dktX4_meaning_3 := dk_seg dksX4_meaning_2 24 rfl rfl
theorem dksX4_meaning_4 : cX4_meaning.data.toList.drop 92 = dktX4_meaning_4 := dk_seg dksX4_meaning_3 22 rfl rfl
theorem dksX4_meaning_5 : cX4_meaning.data.toList.drop 115 = dktX4_meaning_5 := dk_seg dksX4_meaning_4 23 rfl rfl
theorem dksX4_meaning_6 : cX4_meaning.data.toList.drop 139 = dktX4_meaning_6 := dk_seg dksX4_meaning_5 24 rfl rfl
theorem dksX4_meaning_7 : cX4_meaning.data.toList.drop 162 = dktX4_meaning_7 := dk_seg dksX4_meaning_6 23 rfl rfl
theorem dksX4_meaning_8 : cX4_meaning.data.toList.drop 186 = dktX4_meaning_8 := dk_seg dksX4_meaning_7 24 rfl rfl
theorem dksX4_meaning_9 : cX4_meaning.data.toList.drop 209 = dktX4_meaning_9 := dk_seg dksX4_meaning_8 23 rfl rfl
theorem dX4_meaning_0 : decode cX4_meaning 0 = .ok (.iconst 0, 1) := dk_3 (dk_at dksX4_meaning_0 0 rfl rfl)
theorem dX4_meaning_1 : decode cX4_meaning 1 = .ok (.istore 4, 2) := dk_54 4 (dk_at dksX4_meaning_0 1 rfl rfl)
theorem dX4_meaning_3 : decode cX4_meaning 3 = .ok (.iload 4, 2) := dk_21 4 (dk_at dksX4_meaning_0 3 rfl rfl)
theorem dX4_meaning_5 : decode cX4_meaning 5 = .ok (.aload_n 0, 1) := dk_42 (dk_at dksX4_meaning_0 5 rfl rfl)
theorem dX4_meaning_6 : decode cX4_meaning 6 = .ok (.getfield 486, 3) := dk_180 1 230 (dk_at dksX4_meaning_0 6 rfl rfl)
theorem dX4_meaning_9 : decode cX4_meaning 9 = .ok (.if_icmp .ge 109, 3) := dk_162 0 109 (dk_at dksX4_meaning_0 9 rfl rfl)
theorem dX4_meaning_12 : decode cX4_meaning 12 = .ok (.aload_n 0, 1) := dk_42 (dk_at dksX4_meaning_0 12 rfl rfl)
theorem dX4_meaning_13 : decode cX4_meaning 13 = .ok (.getfield 130, 3) := dk_180 0 130 (dk_at dksX4_meaning_0 13 rfl rfl)
theorem dX4_meaning_16 : decode cX4_meaning 16 = .ok (.iload 4, 2) := dk_21 4 (dk_at dksX4_meaning_0 16 rfl rfl)
theorem dX4_meaning_18 : decode cX4_meaning 18 = .ok (.iaload, 1) := dk_46 (dk_at dksX4_meaning_0 18 rfl rfl)
theorem dX4_meaning_19 : decode cX4_meaning 19 = .ok (.iload_n 1, 1) := dk_27 (dk_at dksX4_meaning_0 19 rfl rfl)
theorem dX4_meaning_20 : decode cX4_meaning 20 = .ok (.if_icmp .ne 29, 3) := dk_160 0 29 (dk_at dksX4_meaning_0 20 rfl rfl)
theorem dX4_meaning_23 : decode cX4_meaning 23 = .ok (.aload_n 0, 1) := dk_42 (dk_at dksX4_meaning_0 23 rfl rfl)
theorem dX4_meaning_24 : decode cX4_meaning 24 = .ok (.getfield 133, 3) := dk_180 0 133 (dk_at dksX4_meaning_1 0 rfl rfl)
theorem dX4_meaning_27 : decode cX4_meaning 27 = .ok (.iload 4, 2) := dk_21 4 (dk_at dksX4_meaning_1 3 rfl rfl)
theorem dX4_meaning_29 : decode cX4_meaning 29 = .ok (.iaload, 1) := dk_46 (dk_at dksX4_meaning_1 5 rfl rfl)
theorem dX4_meaning_30 : decode cX4_meaning 30 = .ok (.iload_n 2, 1) := dk_28 (dk_at dksX4_meaning_1 6 rfl rfl)
theorem dX4_meaning_31 : decode cX4_meaning 31 = .ok (.if_icmp .ne 18, 3) := dk_160 0 18 (dk_at dksX4_meaning_1 7 rfl rfl)
theorem dX4_meaning_34 : decode cX4_meaning 34 = .ok (.aload_n 0, 1) := dk_42 (dk_at dksX4_meaning_1 10 rfl rfl)
theorem dX4_meaning_35 : decode cX4_meaning 35 = .ok (.getfield 139, 3) := dk_180 0 139 (dk_at dksX4_meaning_1 11 rfl rfl)
theorem dX4_meaning_38 : decode cX4_meaning 38 = .ok (.iload 4, 2) := dk_21 4 (dk_at dksX4_meaning_1 14 rfl rfl)
theorem dX4_meaning_40 : decode cX4_meaning 40 = .ok (.iaload, 1) := dk_46 (dk_at dksX4_meaning_1 16 rfl rfl)
theorem dX4_meaning_41 : decode cX4_meaning 41 = .ok (.iload_n 3, 1) := dk_29 (dk_at dksX4_meaning_1 17 rfl rfl)
theorem dX4_meaning_42 : decode cX4_meaning 42 = .ok (.if_icmp .ne 7, 3) := dk_160 0 7 (dk_at dksX4_meaning_1 18 rfl rfl)
theorem dX4_meaning_45 : decode cX4_meaning 45 = .ok (.iconst 1, 1) := dk_4 (dk_at dksX4_meaning_1 21 rfl rfl)
theorem dX4_meaning_46 : decode cX4_meaning 46 = .ok (.goto 4, 3) := dk_167 0 4 (dk_at dksX4_meaning_2 0 rfl rfl)
theorem dX4_meaning_49 : decode cX4_meaning 49 = .ok (.iconst 0, 1) := dk_3 (dk_at dksX4_meaning_2 3 rfl rfl)
theorem dX4_meaning_50 : decode cX4_meaning 50 = .ok (.istore 5, 2) := dk_54 5 (dk_at dksX4_meaning_2 4 rfl rfl)
theorem dX4_meaning_52 : decode cX4_meaning 52 = .ok (.iconst 0, 1) := dk_3 (dk_at dksX4_meaning_2 6 rfl rfl)
theorem dX4_meaning_53 : decode cX4_meaning 53 = .ok (.istore 6, 2) := dk_54 6 (dk_at dksX4_meaning_2 7 rfl rfl)
theorem dX4_meaning_55 : decode cX4_meaning 55 = .ok (.iload 6, 2) := dk_21 6 (dk_at dksX4_meaning_2 9 rfl rfl)
theorem dX4_meaning_57 : decode cX4_meaning 57 = .ok (.iload_n 3, 1) := dk_29 (dk_at dksX4_meaning_2 11 rfl rfl)
theorem dX4_meaning_58 : decode cX4_meaning 58 = .ok (.if_icmp .ge 46, 3) := dk_162 0 46 (dk_at dksX4_meaning_2 12 rfl rfl)
theorem dX4_meaning_61 : decode cX4_meaning 61 = .ok (.iload 5, 2) := dk_21 5 (dk_at dksX4_meaning_2 15 rfl rfl)
theorem dX4_meaning_63 : decode cX4_meaning 63 = .ok (.ifCond .eq 41, 3) := dk_153 0 41 (dk_at dksX4_meaning_2 17 rfl rfl)
theorem dX4_meaning_66 : decode cX4_meaning 66 = .ok (.aload_n 0, 1) := dk_42 (dk_at dksX4_meaning_2 20 rfl rfl)
theorem dX4_meaning_67 : decode cX4_meaning 67 = .ok (.getfield 142, 3) := dk_180 0 142 (dk_at dksX4_meaning_2 21 rfl rfl)
theorem dX4_meaning_70 : decode cX4_meaning 70 = .ok (.aload_n 0, 1) := dk_42 (dk_at dksX4_meaning_3 0 rfl rfl)
theorem dX4_meaning_71 : decode cX4_meaning 71 = .ok (.getfield 136, 3) := dk_180 0 136 (dk_at dksX4_meaning_3 1 rfl rfl)
theorem dX4_meaning_74 : decode cX4_meaning 74 = .ok (.iload 4, 2) := dk_21 4 (dk_at dksX4_meaning_3 4 rfl rfl)
theorem dX4_meaning_76 : decode cX4_meaning 76 = .ok (.iaload, 1) := dk_46 (dk_at dksX4_meaning_3 6 rfl rfl)
theorem dX4_meaning_77 : decode cX4_meaning 77 = .ok (.iload 6, 2) := dk_21 6 (dk_at dksX4_meaning_3 7 rfl rfl)
theorem dX4_meaning_79 : decode cX4_meaning 79 = .ok (.iadd, 1) := dk_96 (dk_at dksX4_meaning_3 9 rfl rfl)
theorem dX4_meaning_80 : decode cX4_meaning 80 = .ok (.iaload, 1) := dk_46 (dk_at dksX4_meaning_3 10 rfl rfl)
theorem dX4_meaning_81 : decode cX4_meaning 81 = .ok (.aload_n 0, 1) := dk_42 (dk_at dksX4_meaning_3 11 rfl rfl)
theorem dX4_meaning_82 : decode cX4_meaning 82 = .ok (.getfield 145, 3) := dk_180 0 145 (dk_at dksX4_meaning_3 12 rfl rfl)
theorem dX4_meaning_85 : decode cX4_meaning 85 = .ok (.iload 6, 2) := dk_21 6 (dk_at dksX4_meaning_3 15 rfl rfl)
theorem dX4_meaning_87 : decode cX4_meaning 87 = .ok (.iaload, 1) := dk_46 (dk_at dksX4_meaning_3 17 rfl rfl)
theorem dX4_meaning_88 : decode cX4_meaning 88 = .ok (.if_icmp .ne 7, 3) := dk_160 0 7 (dk_at dksX4_meaning_3 18 rfl rfl)
theorem dX4_meaning_91 : decode cX4_meaning 91 = .ok (.iconst 1, 1) := dk_4 (dk_at dksX4_meaning_3 21 rfl rfl)
theorem dX4_meaning_92 : decode cX4_meaning 92 = .ok (.goto 4, 3) := dk_167 0 4 (dk_at dksX4_meaning_4 0 rfl rfl)
theorem dX4_meaning_95 : decode cX4_meaning 95 = .ok (.iconst 0, 1) := dk_3 (dk_at dksX4_meaning_4 3 rfl rfl)
theorem dX4_meaning_96 : decode cX4_meaning 96 = .ok (.istore 5, 2) := dk_54 5 (dk_at dksX4_meaning_4 4 rfl rfl)
theorem dX4_meaning_98 : decode cX4_meaning 98 = .ok (.iinc 6 1, 3) := dk_132 6 1 (dk_at dksX4_meaning_4 6 rfl rfl)
theorem dX4_meaning_101 : decode cX4_meaning 101 = .ok (.goto (-46), 3) := dk_167 255 210 (dk_at dksX4_meaning_4 9 rfl rfl)
theorem dX4_meaning_104 : decode cX4_meaning 104 = .ok (.iload 5, 2) := dk_21 5 (dk_at dksX4_meaning_4 12 rfl rfl)
theorem dX4_meaning_106 : decode cX4_meaning 106 = .ok (.ifCond .eq 6, 3) := dk_153 0 6 (dk_at dksX4_meaning_4 14 rfl rfl)
theorem dX4_meaning_109 : decode cX4_meaning 109 = .ok (.iload 4, 2) := dk_21 4 (dk_at dksX4_meaning_4 17 rfl rfl)
theorem dX4_meaning_111 : decode cX4_meaning 111 = .ok (.ireturn, 1) := dk_172 (dk_at dksX4_meaning_4 19 rfl rfl)
theorem dX4_meaning_112 : decode cX4_meaning 112 = .ok (.iinc 4 1, 3) := dk_132 4 1 (dk_at dksX4_meaning_4 20 rfl rfl)
theorem dX4_meaning_115 : decode cX4_meaning 115 = .ok (.goto (-112), 3) := dk_167 255 144 (dk_at dksX4_meaning_5 0 rfl rfl)
theorem dX4_meaning_118 : decode cX4_meaning 118 = .ok (.aload_n 0, 1) := dk_42 (dk_at dksX4_meaning_5 3 rfl rfl)
theorem dX4_meaning_119 : decode cX4_meaning 119 = .ok (.getfield 130, 3) := dk_180 0 130 (dk_at dksX4_meaning_5 4 rfl rfl)
theorem dX4_meaning_122 : decode cX4_meaning 122 = .ok (.aload_n 0, 1) := dk_42 (dk_at dksX4_meaning_5 7 rfl rfl)
theorem dX4_meaning_123 : decode cX4_meaning 123 = .ok (.getfield 486, 3) := dk_180 1 230 (dk_at dksX4_meaning_5 8 rfl rfl)
theorem dX4_meaning_126 : decode cX4_meaning 126 = .ok (.iload_n 1, 1) := dk_27 (dk_at dksX4_meaning_5 11 rfl rfl)
theorem dX4_meaning_127 : decode cX4_meaning 127 = .ok (.iastore, 1) := dk_79 (dk_at dksX4_meaning_5 12 rfl rfl)
theorem dX4_meaning_128 : decode cX4_meaning 128 = .ok (.aload_n 0, 1) := dk_42 (dk_at dksX4_meaning_5 13 rfl rfl)
theorem dX4_meaning_129 : decode cX4_meaning 129 = .ok (.getfield 133, 3) := dk_180 0 133 (dk_at dksX4_meaning_5 14 rfl rfl)
theorem dX4_meaning_132 : decode cX4_meaning 132 = .ok (.aload_n 0, 1) := dk_42 (dk_at dksX4_meaning_5 17 rfl rfl)
theorem dX4_meaning_133 : decode cX4_meaning 133 = .ok (.getfield 486, 3) := dk_180 1 230 (dk_at dksX4_meaning_5 18 rfl rfl)
theorem dX4_meaning_136 : decode cX4_meaning 136 = .ok (.iload_n 2, 1) := dk_28 (dk_at dksX4_meaning_5 21 rfl rfl)
theorem dX4_meaning_137 : decode cX4_meaning 137 = .ok (.iastore, 1) := dk_79 (dk_at dksX4_meaning_5 22 rfl rfl)
theorem dX4_meaning_138 : decode cX4_meaning 138 = .ok (.aload_n 0, 1) := dk_42 (dk_at dksX4_meaning_5 23 rfl rfl)
theorem dX4_meaning_139 : decode cX4_meaning 139 = .ok (.getfield 136, 3) := dk_180 0 136 (dk_at dksX4_meaning_6 0 rfl rfl)
theorem dX4_meaning_142 : decode cX4_meaning 142 = .ok (.aload_n 0, 1) := dk_42 (dk_at dksX4_meaning_6 3 rfl rfl)
theorem dX4_meaning_143 : decode cX4_meaning 143 = .ok (.getfield 486, 3) := dk_180 1 230 (dk_at dksX4_meaning_6 4 rfl rfl)
theorem dX4_meaning_146 : decode cX4_meaning 146 = .ok (.aload_n 0, 1) := dk_42 (dk_at dksX4_meaning_6 7 rfl rfl)
theorem dX4_meaning_147 : decode cX4_meaning 147 = .ok (.getfield 489, 3) := dk_180 1 233 (dk_at dksX4_meaning_6 8 rfl rfl)
theorem dX4_meaning_150 : decode cX4_meaning 150 = .ok (.iastore, 1) := dk_79 (dk_at dksX4_meaning_6 11 rfl rfl)
theorem dX4_meaning_151 : decode cX4_meaning 151 = .ok (.aload_n 0, 1) := dk_42 (dk_at dksX4_meaning_6 12 rfl rfl)
theorem dX4_meaning_152 : decode cX4_meaning 152 = .ok (.getfield 139, 3) := dk_180 0 139 (dk_at dksX4_meaning_6 13 rfl rfl)
theorem dX4_meaning_155 : decode cX4_meaning 155 = .ok (.aload_n 0, 1) := dk_42 (dk_at dksX4_meaning_6 16 rfl rfl)
theorem dX4_meaning_156 : decode cX4_meaning 156 = .ok (.getfield 486, 3) := dk_180 1 230 (dk_at dksX4_meaning_6 17 rfl rfl)
theorem dX4_meaning_159 : decode cX4_meaning 159 = .ok (.iload_n 3, 1) := dk_29 (dk_at dksX4_meaning_6 20 rfl rfl)
theorem dX4_meaning_160 : decode cX4_meaning 160 = .ok (.iastore, 1) := dk_79 (dk_at dksX4_meaning_6 21 rfl rfl)
theorem dX4_meaning_161 : decode cX4_meaning 161 = .ok (.iconst 0, 1) := dk_3 (dk_at dksX4_meaning_6 22 rfl rfl)
theorem dX4_meaning_162 : decode cX4_meaning 162 = .ok (.istore 4, 2) := dk_54 4 (dk_at dksX4_meaning_7 0 rfl rfl)
theorem dX4_meaning_164 : decode cX4_meaning 164 = .ok (.iload 4, 2) := dk_21 4 (dk_at dksX4_meaning_7 2 rfl rfl)
theorem dX4_meaning_166 : decode cX4_meaning 166 = .ok (.iload_n 3, 1) := dk_29 (dk_at dksX4_meaning_7 4 rfl rfl)
theorem dX4_meaning_167 : decode cX4_meaning 167 = .ok (.if_icmp .ge 35, 3) := dk_162 0 35 (dk_at dksX4_meaning_7 5 rfl rfl)
theorem dX4_meaning_170 : decode cX4_meaning 170 = .ok (.aload_n 0, 1) := dk_42 (dk_at dksX4_meaning_7 8 rfl rfl)
theorem dX4_meaning_171 : decode cX4_meaning 171 = .ok (.getfield 142, 3) := dk_180 0 142 (dk_at dksX4_meaning_7 9 rfl rfl)
theorem dX4_meaning_174 : decode cX4_meaning 174 = .ok (.aload_n 0, 1) := dk_42 (dk_at dksX4_meaning_7 12 rfl rfl)
theorem dX4_meaning_175 : decode cX4_meaning 175 = .ok (.getfield 489, 3) := dk_180 1 233 (dk_at dksX4_meaning_7 13 rfl rfl)
theorem dX4_meaning_178 : decode cX4_meaning 178 = .ok (.aload_n 0, 1) := dk_42 (dk_at dksX4_meaning_7 16 rfl rfl)
theorem dX4_meaning_179 : decode cX4_meaning 179 = .ok (.getfield 145, 3) := dk_180 0 145 (dk_at dksX4_meaning_7 17 rfl rfl)
theorem dX4_meaning_182 : decode cX4_meaning 182 = .ok (.iload 4, 2) := dk_21 4 (dk_at dksX4_meaning_7 20 rfl rfl)
theorem dX4_meaning_184 : decode cX4_meaning 184 = .ok (.iaload, 1) := dk_46 (dk_at dksX4_meaning_7 22 rfl rfl)
theorem dX4_meaning_185 : decode cX4_meaning 185 = .ok (.iastore, 1) := dk_79 (dk_at dksX4_meaning_7 23 rfl rfl)
theorem dX4_meaning_186 : decode cX4_meaning 186 = .ok (.aload_n 0, 1) := dk_42 (dk_at dksX4_meaning_8 0 rfl rfl)
theorem dX4_meaning_187 : decode cX4_meaning 187 = .ok (.dup, 1) := dk_89 (dk_at dksX4_meaning_8 1 rfl rfl)
theorem dX4_meaning_188 : decode cX4_meaning 188 = .ok (.getfield 489, 3) := dk_180 1 233 (dk_at dksX4_meaning_8 2 rfl rfl)
theorem dX4_meaning_191 : decode cX4_meaning 191 = .ok (.iconst 1, 1) := dk_4 (dk_at dksX4_meaning_8 5 rfl rfl)
theorem dX4_meaning_192 : decode cX4_meaning 192 = .ok (.iadd, 1) := dk_96 (dk_at dksX4_meaning_8 6 rfl rfl)
theorem dX4_meaning_193 : decode cX4_meaning 193 = .ok (.putfield 489, 3) := dk_181 1 233 (dk_at dksX4_meaning_8 7 rfl rfl)
theorem dX4_meaning_196 : decode cX4_meaning 196 = .ok (.iinc 4 1, 3) := dk_132 4 1 (dk_at dksX4_meaning_8 10 rfl rfl)
theorem dX4_meaning_199 : decode cX4_meaning 199 = .ok (.goto (-35), 3) := dk_167 255 221 (dk_at dksX4_meaning_8 13 rfl rfl)
theorem dX4_meaning_202 : decode cX4_meaning 202 = .ok (.aload_n 0, 1) := dk_42 (dk_at dksX4_meaning_8 16 rfl rfl)
theorem dX4_meaning_203 : decode cX4_meaning 203 = .ok (.dup, 1) := dk_89 (dk_at dksX4_meaning_8 17 rfl rfl)
theorem dX4_meaning_204 : decode cX4_meaning 204 = .ok (.getfield 486, 3) := dk_180 1 230 (dk_at dksX4_meaning_8 18 rfl rfl)
theorem dX4_meaning_207 : decode cX4_meaning 207 = .ok (.iconst 1, 1) := dk_4 (dk_at dksX4_meaning_8 21 rfl rfl)
theorem dX4_meaning_208 : decode cX4_meaning 208 = .ok (.iadd, 1) := dk_96 (dk_at dksX4_meaning_8 22 rfl rfl)
theorem dX4_meaning_209 : decode cX4_meaning 209 = .ok (.putfield 486, 3) := dk_181 1 230 (dk_at dksX4_meaning_9 0 rfl rfl)
theorem dX4_meaning_212 : decode cX4_meaning 212 = .ok (.aload_n 0, 1) := dk_42 (dk_at dksX4_meaning_9 3 rfl rfl)
theorem dX4_meaning_213 : decode cX4_meaning 213 = .ok (.getfield 486, 3) := dk_180 1 230 (dk_at dksX4_meaning_9 4 rfl rfl)
theorem dX4_meaning_216 : decode cX4_meaning 216 = .ok (.iconst 1, 1) := dk_4 (dk_at dksX4_meaning_9 7 rfl rfl)
theorem dX4_meaning_217 : decode cX4_meaning 217 = .ok (.isub, 1) := dk_100 (dk_at dksX4_meaning_9 8 rfl rfl)
theorem dX4_meaning_218 : decode cX4_meaning 218 = .ok (.ireturn, 1) := dk_172 (dk_at dksX4_meaning_9 9 rfl rfl)
abbrev cX4_weighs : ByteArray := prog_23_method_75_code
def yX4_weighs : MethodName := ⟨RX4, "weighs", "(II)I"⟩
def dkwX4_weighs_9 : List UInt8 := [20, 1, 246, 148, 158, 0, 9, 17, 39, 15, 167, 0, 6, 22, 6, 136, 172]
abbrev dktX4_weighs_9 : List UInt8 := dkwX4_weighs_9 ++ []
def dkwX4_weighs_8 : List UInt8 := [21, 8, 154, 0, 8, 21, 4, 167, 0, 32, 22, 6, 9, 148, 156, 0, 7, 3, 167, 0, 21, 22, 6]
abbrev dktX4_weighs_8 : List UInt8 := dkwX4_weighs_8 ++ dktX4_weighs_9
def dkwX4_weighs_7 : List UInt8 := [180, 0, 33, 42, 21, 9, 182, 1, 156, 46, 182, 1, 242, 55, 6, 4, 54, 8, 132, 9, 1, 167, 255, 209]
abbrev dktX4_weighs_7 : List UInt8 := dkwX4_weighs_7 ++ dktX4_weighs_8
def dkwX4_weighs_6 : List UInt8 := [42, 182, 1, 153, 162, 0, 44, 42, 180, 0, 30, 42, 21, 9, 182, 1, 156, 46, 4, 160, 0, 23, 42, 42]
abbrev dktX4_weighs_6 : List UInt8 := dkwX4_weighs_6 ++ dktX4_weighs_7
def dkwX4_weighs_5 : List UInt8 := [180, 0, 90, 6, 42, 180, 0, 48, 27, 46, 79, 21, 4, 133, 55, 6, 3, 54, 8, 3, 54, 9, 21, 9]
abbrev dktX4_weighs_5 : List UInt8 := dkwX4_weighs_5 ++ dktX4_weighs_6
def dkwX4_weighs_4 : List UInt8 := [180, 0, 90, 3, 21, 4, 79, 42, 180, 0, 90, 4, 21, 5, 79, 42, 180, 0, 90, 5, 29, 79, 42]
abbrev dktX4_weighs_4 : List UInt8 := dkwX4_weighs_4 ++ dktX4_weighs_5
def dkwX4_weighs_3 : List UInt8 := [54, 4, 21, 5, 42, 180, 0, 154, 21, 6, 46, 184, 1, 218, 54, 5, 132, 6, 1, 167, 255, 218, 42]
abbrev dktX4_weighs_3 : List UInt8 := dkwX4_weighs_3 ++ dktX4_weighs_4
def dkwX4_weighs_2 : List UInt8 := [29, 100, 54, 6, 21, 6, 42, 180, 1, 236, 162, 0, 35, 21, 4, 42, 180, 0, 154, 21, 6, 46, 96]
abbrev dktX4_weighs_2 : List UInt8 := dkwX4_weighs_2 ++ dktX4_weighs_3
def dkwX4_weighs_1 : List UInt8 := [184, 1, 205, 62, 3, 54, 4, 42, 180, 0, 154, 42, 180, 1, 236, 4, 100, 46, 54, 5, 42, 180, 1, 236]
abbrev dktX4_weighs_1 : List UInt8 := dkwX4_weighs_1 ++ dktX4_weighs_2
def dkwX4_weighs_0 : List UInt8 := [42, 180, 0, 39, 27, 46, 154, 0, 10, 42, 180, 0, 51, 27, 46, 172, 42, 180, 0, 39, 27, 46, 28]
abbrev dktX4_weighs_0 : List UInt8 := dkwX4_weighs_0 ++ dktX4_weighs_1
theorem dksX4_weighs_0 : cX4_weighs.data.toList.drop 0 = dktX4_weighs_0 := by decide +kernel
theorem dksX4_weighs_1 : cX4_weighs.data.toList.drop 23 = dktX4_weighs_1 := dk_seg dksX4_weighs_0 23 rfl rfl
theorem dksX4_weighs_2 : cX4_weighs.data.toList.drop 47 = dktX4_weighs_2 := dk_seg dksX4_weighs_1 24 rfl rfl
theorem dksX4_weighs_3 : cX4_weighs.data.toList.drop 70 = dktX4_weighs_3 := dk_seg dksX4_weighs_2 23 rfl rfl
theorem dksX4_weighs_4 : cX4_weighs.data.toList.drop 93 = dktX4_weighs_4 := dk_seg dksX4_weighs_3 23 rfl rfl
theorem dksX4_weighs_5 : cX4_weighs.data.toList.drop 116 = dktX4_weighs_5 := dk_seg dksX4_weighs_4 23 rfl rfl
theorem dksX4_weighs_6 : cX4_weighs.data.toList.drop 140 = dktX4_weighs_6 := dk_seg dksX4_weighs_5 24 rfl rfl
theorem dksX4_weighs_7 : cX4_weighs.data.toList.drop 164 = dktX4_weighs_7 := dk_seg dksX4_weighs_6 24 rfl rfl
theorem dksX4_weighs_8 : cX4_weighs.data.toList.drop 188 = dktX4_weighs_8 := dk_seg dksX4_weighs_7 24 rfl rfl
theorem dksX4_weighs_9 : cX4_weighs.data.toList.drop 211 = dktX4_weighs_9 := dk_seg dksX4_weighs_8 23 rfl rfl
theorem dX4_weighs_0 : decode cX4_weighs 0 = .ok (.aload_n 0, 1) := dk_42 (dk_at dksX4_weighs_0 0 rfl rfl)
theorem dX4_weighs_1 : decode cX4_weighs 1 = .ok (.getfield 39, 3) := dk_180 0 39 (dk_at dksX4_weighs_0 1 rfl rfl)
theorem dX4_weighs_4 : decode cX4_weighs 4 = .ok (.iload_n 1, 1) := dk_27 (dk_at dksX4_weighs_0 4 rfl rfl)
theorem dX4_weighs_5 : decode cX4_weighs 5 = .ok (.iaload, 1) := dk_46 (dk_at dksX4_weighs_0 5 rfl rfl)
theorem dX4_weighs_6 : decode cX4_weighs 6 = .ok (.ifCond .ne 10, 3) := dk_154 0 10 (dk_at dksX4_weighs_0 6 rfl rfl)
theorem dX4_weighs_9 : decode cX4_weighs 9 = .ok (.aload_n 0, 1) := dk_42 (dk_at dksX4_weighs_0 9 rfl rfl)
theorem dX4_weighs_10 : decode cX4_weighs 10 = .ok (.getfield 51, 3) := dk_180 0 51 (dk_at dksX4_weighs_0 10 rfl rfl)
theorem dX4_weighs_13 : decode cX4_weighs 13 = .ok (.iload_n 1, 1) := dk_27 (dk_at dksX4_weighs_0 13 rfl rfl)
theorem dX4_weighs_14 : decode cX4_weighs 14 = .ok (.iaload, 1) := dk_46 (dk_at dksX4_weighs_0 14 rfl rfl)
theorem dX4_weighs_15 : decode cX4_weighs 15 = .ok (.ireturn, 1) := dk_172 (dk_at dksX4_weighs_0 15 rfl rfl)
theorem dX4_weighs_16 : decode cX4_weighs 16 = .ok (.aload_n 0, 1) := dk_42 (dk_at dksX4_weighs_0 16 rfl rfl)
theorem dX4_weighs_17 : decode cX4_weighs 17 = .ok (.getfield 39, 3) := dk_180 0 39 (dk_at dksX4_weighs_0 17 rfl rfl)
theorem dX4_weighs_20 : decode cX4_weighs 20 = .ok (.iload_n 1, 1) := dk_27 (dk_at dksX4_weighs_0 20 rfl rfl)
theorem dX4_weighs_21 : decode cX4_weighs 21 = .ok (.iaload, 1) := dk_46 (dk_at dksX4_weighs_0 21 rfl rfl)
theorem dX4_weighs_22 : decode cX4_weighs 22 = .ok (.iload_n 2, 1) := dk_28 (dk_at dksX4_weighs_0 22 rfl rfl)
theorem dX4_weighs_23 : decode cX4_weighs 23 = .ok (.invokestatic 461, 3) := dk_184 1 205 (dk_at dksX4_weighs_1 0 rfl rfl)
theorem dX4_weighs_26 : decode cX4_weighs 26 = .ok (.istore_n 3, 1) := dk_62 (dk_at dksX4_weighs_1 3 rfl rfl)
theorem dX4_weighs_27 : decode cX4_weighs 27 = .ok (.iconst 0, 1) := dk_3 (dk_at dksX4_weighs_1 4 rfl rfl)
theorem dX4_weighs_28 : decode cX4_weighs 28 = .ok (.istore 4, 2) := dk_54 4 (dk_at dksX4_weighs_1 5 rfl rfl)
theorem dX4_weighs_30 : decode cX4_weighs 30 = .ok (.aload_n 0, 1) := dk_42 (dk_at dksX4_weighs_1 7 rfl rfl)
theorem dX4_weighs_31 : decode cX4_weighs 31 = .ok (.getfield 154, 3) := dk_180 0 154 (dk_at dksX4_weighs_1 8 rfl rfl)
theorem dX4_weighs_34 : decode cX4_weighs 34 = .ok (.aload_n 0, 1) := dk_42 (dk_at dksX4_weighs_1 11 rfl rfl)
theorem dX4_weighs_35 : decode cX4_weighs 35 = .ok (.getfield 492, 3) := dk_180 1 236 (dk_at dksX4_weighs_1 12 rfl rfl)
theorem dX4_weighs_38 : decode cX4_weighs 38 = .ok (.iconst 1, 1) := dk_4 (dk_at dksX4_weighs_1 15 rfl rfl)
theorem dX4_weighs_39 : decode cX4_weighs 39 = .ok (.isub, 1) := dk_100 (dk_at dksX4_weighs_1 16 rfl rfl)
theorem dX4_weighs_40 : decode cX4_weighs 40 = .ok (.iaload, 1) := dk_46 (dk_at dksX4_weighs_1 17 rfl rfl)
theorem dX4_weighs_41 : decode cX4_weighs 41 = .ok (.istore 5, 2) := dk_54 5 (dk_at dksX4_weighs_1 18 rfl rfl)
theorem dX4_weighs_43 : decode cX4_weighs 43 = .ok (.aload_n 0, 1) := dk_42 (dk_at dksX4_weighs_1 20 rfl rfl)
theorem dX4_weighs_44 : decode cX4_weighs 44 = .ok (.getfield 492, 3) := dk_180 1 236 (dk_at dksX4_weighs_1 21 rfl rfl)
theorem dX4_weighs_47 : decode cX4_weighs 47 = .ok (.iload_n 3, 1) := dk_29 (dk_at dksX4_weighs_2 0 rfl rfl)
theorem dX4_weighs_48 : decode cX4_weighs 48 = .ok (.isub, 1) := dk_100 (dk_at dksX4_weighs_2 1 rfl rfl)
theorem dX4_weighs_49 : decode cX4_weighs 49 = .ok (.istore 6, 2) := dk_54 6 (dk_at dksX4_weighs_2 2 rfl rfl)
theorem dX4_weighs_51 : decode cX4_weighs 51 = .ok (.iload 6, 2) := dk_21 6 (dk_at dksX4_weighs_2 4 rfl rfl)
theorem dX4_weighs_53 : decode cX4_weighs 53 = .ok (.aload_n 0, 1) := dk_42 (dk_at dksX4_weighs_2 6 rfl rfl)
theorem dX4_weighs_54 : decode cX4_weighs 54 = .ok (.getfield 492, 3) := dk_180 1 236 (dk_at dksX4_weighs_2 7 rfl rfl)
theorem dX4_weighs_57 : decode cX4_weighs 57 = .ok (.if_icmp .ge 35, 3) := dk_162 0 35 (dk_at dksX4_weighs_2 10 rfl rfl)
theorem dX4_weighs_60 : decode cX4_weighs 60 = .ok (.iload 4, 2) := dk_21 4 (dk_at dksX4_weighs_2 13 rfl rfl)
theorem dX4_weighs_62 : decode cX4_weighs 62 = .ok (.aload_n 0, 1) := dk_42 (dk_at dksX4_weighs_2 15 rfl rfl)
theorem dX4_weighs_63 : decode cX4_weighs 63 = .ok (.getfield 154, 3) := dk_180 0 154 (dk_at dksX4_weighs_2 16 rfl rfl)
theorem dX4_weighs_66 : decode cX4_weighs 66 = .ok (.iload 6, 2) := dk_21 6 (dk_at dksX4_weighs_2 19 rfl rfl)
theorem dX4_weighs_68 : decode cX4_weighs 68 = .ok (.iaload, 1) := dk_46 (dk_at dksX4_weighs_2 21 rfl rfl)
theorem dX4_weighs_69 : decode cX4_weighs 69 = .ok (.iadd, 1) := dk_96 (dk_at dksX4_weighs_2 22 rfl rfl)
theorem dX4_weighs_70 : decode cX4_weighs 70 = .ok (.istore 4, 2) := dk_54 4 (dk_at dksX4_weighs_3 0 rfl rfl)
theorem dX4_weighs_72 : decode cX4_weighs 72 = .ok (.iload 5, 2) := dk_21 5 (dk_at dksX4_weighs_3 2 rfl rfl)
theorem dX4_weighs_74 : decode cX4_weighs 74 = .ok (.aload_n 0, 1) := dk_42 (dk_at dksX4_weighs_3 4 rfl rfl)
theorem dX4_weighs_75 : decode cX4_weighs 75 = .ok (.getfield 154, 3) := dk_180 0 154 (dk_at dksX4_weighs_3 5 rfl rfl)
theorem dX4_weighs_78 : decode cX4_weighs 78 = .ok (.iload 6, 2) := dk_21 6 (dk_at dksX4_weighs_3 8 rfl rfl)
theorem dX4_weighs_80 : decode cX4_weighs 80 = .ok (.iaload, 1) := dk_46 (dk_at dksX4_weighs_3 10 rfl rfl)
theorem dX4_weighs_81 : decode cX4_weighs 81 = .ok (.invokestatic 474, 3) := dk_184 1 218 (dk_at dksX4_weighs_3 11 rfl rfl)
theorem dX4_weighs_84 : decode cX4_weighs 84 = .ok (.istore 5, 2) := dk_54 5 (dk_at dksX4_weighs_3 14 rfl rfl)
theorem dX4_weighs_86 : decode cX4_weighs 86 = .ok (.iinc 6 1, 3) := dk_132 6 1 (dk_at dksX4_weighs_3 16 rfl rfl)
theorem dX4_weighs_89 : decode cX4_weighs 89 = .ok (.goto (-38), 3) := dk_167 255 218 (dk_at dksX4_weighs_3 19 rfl rfl)
theorem dX4_weighs_92 : decode cX4_weighs 92 = .ok (.aload_n 0, 1) := dk_42 (dk_at dksX4_weighs_3 22 rfl rfl)
theorem dX4_weighs_93 : decode cX4_weighs 93 = .ok (.getfield 90, 3) := dk_180 0 90 (dk_at dksX4_weighs_4 0 rfl rfl)
theorem dX4_weighs_96 : decode cX4_weighs 96 = .ok (.iconst 0, 1) := dk_3 (dk_at dksX4_weighs_4 3 rfl rfl)
theorem dX4_weighs_97 : decode cX4_weighs 97 = .ok (.iload 4, 2) := dk_21 4 (dk_at dksX4_weighs_4 4 rfl rfl)
theorem dX4_weighs_99 : decode cX4_weighs 99 = .ok (.iastore, 1) := dk_79 (dk_at dksX4_weighs_4 6 rfl rfl)
theorem dX4_weighs_100 : decode cX4_weighs 100 = .ok (.aload_n 0, 1) := dk_42 (dk_at dksX4_weighs_4 7 rfl rfl)
theorem dX4_weighs_101 : decode cX4_weighs 101 = .ok (.getfield 90, 3) := dk_180 0 90 (dk_at dksX4_weighs_4 8 rfl rfl)
theorem dX4_weighs_104 : decode cX4_weighs 104 = .ok (.iconst 1, 1) := dk_4 (dk_at dksX4_weighs_4 11 rfl rfl)
theorem dX4_weighs_105 : decode cX4_weighs 105 = .ok (.iload 5, 2) := dk_21 5 (dk_at dksX4_weighs_4 12 rfl rfl)
theorem dX4_weighs_107 : decode cX4_weighs 107 = .ok (.iastore, 1) := dk_79 (dk_at dksX4_weighs_4 14 rfl rfl)
theorem dX4_weighs_108 : decode cX4_weighs 108 = .ok (.aload_n 0, 1) := dk_42 (dk_at dksX4_weighs_4 15 rfl rfl)
theorem dX4_weighs_109 : decode cX4_weighs 109 = .ok (.getfield 90, 3) := dk_180 0 90 (dk_at dksX4_weighs_4 16 rfl rfl)
theorem dX4_weighs_112 : decode cX4_weighs 112 = .ok (.iconst 2, 1) := dk_5 (dk_at dksX4_weighs_4 19 rfl rfl)
theorem dX4_weighs_113 : decode cX4_weighs 113 = .ok (.iload_n 3, 1) := dk_29 (dk_at dksX4_weighs_4 20 rfl rfl)
theorem dX4_weighs_114 : decode cX4_weighs 114 = .ok (.iastore, 1) := dk_79 (dk_at dksX4_weighs_4 21 rfl rfl)
theorem dX4_weighs_115 : decode cX4_weighs 115 = .ok (.aload_n 0, 1) := dk_42 (dk_at dksX4_weighs_4 22 rfl rfl)
theorem dX4_weighs_116 : decode cX4_weighs 116 = .ok (.getfield 90, 3) := dk_180 0 90 (dk_at dksX4_weighs_5 0 rfl rfl)
theorem dX4_weighs_119 : decode cX4_weighs 119 = .ok (.iconst 3, 1) := dk_6 (dk_at dksX4_weighs_5 3 rfl rfl)
theorem dX4_weighs_120 : decode cX4_weighs 120 = .ok (.aload_n 0, 1) := dk_42 (dk_at dksX4_weighs_5 4 rfl rfl)
theorem dX4_weighs_121 : decode cX4_weighs 121 = .ok (.getfield 48, 3) := dk_180 0 48 (dk_at dksX4_weighs_5 5 rfl rfl)
theorem dX4_weighs_124 : decode cX4_weighs 124 = .ok (.iload_n 1, 1) := dk_27 (dk_at dksX4_weighs_5 8 rfl rfl)
theorem dX4_weighs_125 : decode cX4_weighs 125 = .ok (.iaload, 1) := dk_46 (dk_at dksX4_weighs_5 9 rfl rfl)
theorem dX4_weighs_126 : decode cX4_weighs 126 = .ok (.iastore, 1) := dk_79 (dk_at dksX4_weighs_5 10 rfl rfl)
theorem dX4_weighs_127 : decode cX4_weighs 127 = .ok (.iload 4, 2) := dk_21 4 (dk_at dksX4_weighs_5 11 rfl rfl)
theorem dX4_weighs_129 : decode cX4_weighs 129 = .ok (.i2l, 1) := dk_133 (dk_at dksX4_weighs_5 13 rfl rfl)
theorem dX4_weighs_130 : decode cX4_weighs 130 = .ok (.lstore 6, 2) := dk_55 6 (dk_at dksX4_weighs_5 14 rfl rfl)
theorem dX4_weighs_132 : decode cX4_weighs 132 = .ok (.iconst 0, 1) := dk_3 (dk_at dksX4_weighs_5 16 rfl rfl)
theorem dX4_weighs_133 : decode cX4_weighs 133 = .ok (.istore 8, 2) := dk_54 8 (dk_at dksX4_weighs_5 17 rfl rfl)
theorem dX4_weighs_135 : decode cX4_weighs 135 = .ok (.iconst 0, 1) := dk_3 (dk_at dksX4_weighs_5 19 rfl rfl)
theorem dX4_weighs_136 : decode cX4_weighs 136 = .ok (.istore 9, 2) := dk_54 9 (dk_at dksX4_weighs_5 20 rfl rfl)
theorem dX4_weighs_138 : decode cX4_weighs 138 = .ok (.iload 9, 2) := dk_21 9 (dk_at dksX4_weighs_5 22 rfl rfl)
theorem dX4_weighs_140 : decode cX4_weighs 140 = .ok (.aload_n 0, 1) := dk_42 (dk_at dksX4_weighs_6 0 rfl rfl)
theorem dX4_weighs_141 : decode cX4_weighs 141 = .ok (.invokevirtual 409, 3) := dk_182 1 153 (dk_at dksX4_weighs_6 1 rfl rfl)
theorem dX4_weighs_144 : decode cX4_weighs 144 = .ok (.if_icmp .ge 44, 3) := dk_162 0 44 (dk_at dksX4_weighs_6 4 rfl rfl)
theorem dX4_weighs_147 : decode cX4_weighs 147 = .ok (.aload_n 0, 1) := dk_42 (dk_at dksX4_weighs_6 7 rfl rfl)
theorem dX4_weighs_148 : decode cX4_weighs 148 = .ok (.getfield 30, 3) := dk_180 0 30 (dk_at dksX4_weighs_6 8 rfl rfl)
theorem dX4_weighs_151 : decode cX4_weighs 151 = .ok (.aload_n 0, 1) := dk_42 (dk_at dksX4_weighs_6 11 rfl rfl)
theorem dX4_weighs_152 : decode cX4_weighs 152 = .ok (.iload 9, 2) := dk_21 9 (dk_at dksX4_weighs_6 12 rfl rfl)
theorem dX4_weighs_154 : decode cX4_weighs 154 = .ok (.invokevirtual 412, 3) := dk_182 1 156 (dk_at dksX4_weighs_6 14 rfl rfl)
theorem dX4_weighs_157 : decode cX4_weighs 157 = .ok (.iaload, 1) := dk_46 (dk_at dksX4_weighs_6 17 rfl rfl)
theorem dX4_weighs_158 : decode cX4_weighs 158 = .ok (.iconst 1, 1) := dk_4 (dk_at dksX4_weighs_6 18 rfl rfl)
theorem dX4_weighs_159 : decode cX4_weighs 159 = .ok (.if_icmp .ne 23, 3) := dk_160 0 23 (dk_at dksX4_weighs_6 19 rfl rfl)
theorem dX4_weighs_162 : decode cX4_weighs 162 = .ok (.aload_n 0, 1) := dk_42 (dk_at dksX4_weighs_6 22 rfl rfl)
theorem dX4_weighs_163 : decode cX4_weighs 163 = .ok (.aload_n 0, 1) := dk_42 (dk_at dksX4_weighs_6 23 rfl rfl)
theorem dX4_weighs_164 : decode cX4_weighs 164 = .ok (.getfield 33, 3) := dk_180 0 33 (dk_at dksX4_weighs_7 0 rfl rfl)
theorem dX4_weighs_167 : decode cX4_weighs 167 = .ok (.aload_n 0, 1) := dk_42 (dk_at dksX4_weighs_7 3 rfl rfl)
theorem dX4_weighs_168 : decode cX4_weighs 168 = .ok (.iload 9, 2) := dk_21 9 (dk_at dksX4_weighs_7 4 rfl rfl)
theorem dX4_weighs_170 : decode cX4_weighs 170 = .ok (.invokevirtual 412, 3) := dk_182 1 156 (dk_at dksX4_weighs_7 6 rfl rfl)
theorem dX4_weighs_173 : decode cX4_weighs 173 = .ok (.iaload, 1) := dk_46 (dk_at dksX4_weighs_7 9 rfl rfl)
theorem dX4_weighs_174 : decode cX4_weighs 174 = .ok (.invokevirtual 498, 3) := dk_182 1 242 (dk_at dksX4_weighs_7 10 rfl rfl)
theorem dX4_weighs_177 : decode cX4_weighs 177 = .ok (.lstore 6, 2) := dk_55 6 (dk_at dksX4_weighs_7 13 rfl rfl)
theorem dX4_weighs_179 : decode cX4_weighs 179 = .ok (.iconst 1, 1) := dk_4 (dk_at dksX4_weighs_7 15 rfl rfl)
theorem dX4_weighs_180 : decode cX4_weighs 180 = .ok (.istore 8, 2) := dk_54 8 (dk_at dksX4_weighs_7 16 rfl rfl)
theorem dX4_weighs_182 : decode cX4_weighs 182 = .ok (.iinc 9 1, 3) := dk_132 9 1 (dk_at dksX4_weighs_7 18 rfl rfl)
theorem dX4_weighs_185 : decode cX4_weighs 185 = .ok (.goto (-47), 3) := dk_167 255 209 (dk_at dksX4_weighs_7 21 rfl rfl)
theorem dX4_weighs_188 : decode cX4_weighs 188 = .ok (.iload 8, 2) := dk_21 8 (dk_at dksX4_weighs_8 0 rfl rfl)
theorem dX4_weighs_190 : decode cX4_weighs 190 = .ok (.ifCond .ne 8, 3) := dk_154 0 8 (dk_at dksX4_weighs_8 2 rfl rfl)
theorem dX4_weighs_193 : decode cX4_weighs 193 = .ok (.iload 4, 2) := dk_21 4 (dk_at dksX4_weighs_8 5 rfl rfl)
theorem dX4_weighs_195 : decode cX4_weighs 195 = .ok (.goto 32, 3) := dk_167 0 32 (dk_at dksX4_weighs_8 7 rfl rfl)
theorem dX4_weighs_198 : decode cX4_weighs 198 = .ok (.lload 6, 2) := dk_22 6 (dk_at dksX4_weighs_8 10 rfl rfl)
theorem dX4_weighs_200 : decode cX4_weighs 200 = .ok (.lconst 0, 1) := dk_9 (dk_at dksX4_weighs_8 12 rfl rfl)
theorem dX4_weighs_201 : decode cX4_weighs 201 = .ok (.lcmp, 1) := dk_148 (dk_at dksX4_weighs_8 13 rfl rfl)
theorem dX4_weighs_202 : decode cX4_weighs 202 = .ok (.ifCond .ge 7, 3) := dk_156 0 7 (dk_at dksX4_weighs_8 14 rfl rfl)
theorem dX4_weighs_205 : decode cX4_weighs 205 = .ok (.iconst 0, 1) := dk_3 (dk_at dksX4_weighs_8 17 rfl rfl)
theorem dX4_weighs_206 : decode cX4_weighs 206 = .ok (.goto 21, 3) := dk_167 0 21 (dk_at dksX4_weighs_8 18 rfl rfl)
theorem dX4_weighs_209 : decode cX4_weighs 209 = .ok (.lload 6, 2) := dk_22 6 (dk_at dksX4_weighs_8 21 rfl rfl)
theorem dX4_weighs_211 : decode cX4_weighs 211 = .ok (.ldc2_w 502, 3) := dk_20 1 246 (dk_at dksX4_weighs_9 0 rfl rfl)
theorem dX4_weighs_214 : decode cX4_weighs 214 = .ok (.lcmp, 1) := dk_148 (dk_at dksX4_weighs_9 3 rfl rfl)
theorem dX4_weighs_215 : decode cX4_weighs 215 = .ok (.ifCond .le 9, 3) := dk_158 0 9 (dk_at dksX4_weighs_9 4 rfl rfl)
theorem dX4_weighs_218 : decode cX4_weighs 218 = .ok (.sipush 9999, 3) := dk_17 39 15 (dk_at dksX4_weighs_9 7 rfl rfl)
theorem dX4_weighs_221 : decode cX4_weighs 221 = .ok (.goto 6, 3) := dk_167 0 6 (dk_at dksX4_weighs_9 10 rfl rfl)
theorem dX4_weighs_224 : decode cX4_weighs 224 = .ok (.lload 6, 2) := dk_22 6 (dk_at dksX4_weighs_9 13 rfl rfl)
theorem dX4_weighs_226 : decode cX4_weighs 226 = .ok (.l2i, 1) := dk_136 (dk_at dksX4_weighs_9 15 rfl rfl)
theorem dX4_weighs_227 : decode cX4_weighs 227 = .ok (.ireturn, 1) := dk_172 (dk_at dksX4_weighs_9 16 rfl rfl)
abbrev cX4_saysOf : ByteArray := prog_23_method_38_code
def yX4_saysOf : MethodName := ⟨RX4, "saysOf", "(I)J"⟩
def dkwX4_saysOf_7 : List UInt8 := [184, 1, 128, 80, 132, 3, 1, 167, 255, 88, 42, 180, 0, 93, 3, 47, 173]
abbrev dktX4_saysOf_7 : List UInt8 := dkwX4_saysOf_7 ++ []
def dkwX4_saysOf_6 : List UInt8 := [180, 0, 93, 28, 4, 100, 21, 4, 42, 180, 0, 93, 28, 4, 100, 47, 42, 180, 0, 93, 28, 47]
abbrev dktX4_saysOf_6 : List UInt8 := dkwX4_saysOf_6 ++ dktX4_saysOf_7
def dkwX4_saysOf_5 : List UInt8 := [180, 0, 93, 28, 4, 100, 10, 42, 180, 0, 93, 28, 4, 100, 47, 101, 80, 167, 0, 33, 132, 2, 255, 42]
abbrev dktX4_saysOf_5 : List UInt8 := dkwX4_saysOf_5 ++ dktX4_saysOf_6
def dkwX4_saysOf_4 : List UInt8 := [4, 100, 42, 180, 0, 93, 28, 4, 100, 47, 117, 80, 167, 0, 62, 21, 4, 17, 1, 149, 160, 0, 24, 42]
abbrev dktX4_saysOf_4 : List UInt8 := dkwX4_saysOf_4 ++ dktX4_saysOf_5
def dkwX4_saysOf_3 : List UInt8 := [29, 46, 46, 133, 80, 132, 2, 1, 167, 0, 90, 21, 4, 17, 1, 146, 160, 0, 23, 42, 180, 0, 93, 28]
abbrev dktX4_saysOf_3 : List UInt8 := dkwX4_saysOf_3 ++ dktX4_saysOf_4
def dkwX4_saysOf_2 : List UInt8 := [17, 1, 144, 160, 0, 13, 42, 180, 0, 60, 29, 46, 133, 167, 0, 15, 42, 180, 0, 90, 42, 180, 0, 60]
abbrev dktX4_saysOf_2 : List UInt8 := dkwX4_saysOf_2 ++ dktX4_saysOf_3
def dkwX4_saysOf_1 : List UInt8 := [21, 4, 17, 1, 144, 159, 0, 11, 21, 4, 17, 1, 145, 160, 0, 45, 42, 180, 0, 93, 28, 21, 4]
abbrev dktX4_saysOf_1 : List UInt8 := dkwX4_saysOf_1 ++ dktX4_saysOf_2
def dkwX4_saysOf_0 : List UInt8 := [3, 61, 27, 62, 42, 180, 0, 57, 29, 46, 17, 1, 152, 159, 0, 162, 42, 180, 0, 57, 29, 46, 54, 4]
abbrev dktX4_saysOf_0 : List UInt8 := dkwX4_saysOf_0 ++ dktX4_saysOf_1
theorem dksX4_saysOf_0 : cX4_saysOf.data.toList.drop 0 = dktX4_saysOf_0 := by decide +kernel
theorem dksX4_saysOf_1 : cX4_saysOf.data.toList.drop 24 = dktX4_saysOf_1 := dk_seg dksX4_saysOf_0 24 rfl rfl
theorem dksX4_saysOf_2 : cX4_saysOf.data.toList.drop 47 = dktX4_saysOf_2 := dk_seg dksX4_saysOf_1 23 rfl rfl
theorem dksX4_saysOf_3 : cX4_saysOf.data.toList.drop 71 = dktX4_saysOf_3 := dk_seg dksX4_saysOf_2 24 rfl rfl
theorem dksX4_saysOf_4 : cX4_saysOf.data.toList.drop 95 = dktX4_saysOf_4 := dk_seg dksX4_saysOf_3 24 rfl rfl
theorem dksX4_saysOf_5 : cX4_saysOf.data.toList.drop 119 = dktX4_saysOf_5 := dk_seg dksX4_saysOf_4 24 rfl rfl
theorem dksX4_saysOf_6 : cX4_saysOf.data.toList.drop 143 = dktX4_saysOf_6 := dk_seg dksX4_saysOf_5 24 rfl rfl
theorem dksX4_saysOf_7 : cX4_saysOf.data.toList.drop 165 = dktX4_saysOf_7 := dk_seg dksX4_saysOf_6 22 rfl rfl
theorem dX4_saysOf_0 : decode cX4_saysOf 0 = .ok (.iconst 0, 1) := dk_3 (dk_at dksX4_saysOf_0 0 rfl rfl)
theorem dX4_saysOf_1 : decode cX4_saysOf 1 = .ok (.istore_n 2, 1) := dk_61 (dk_at dksX4_saysOf_0 1 rfl rfl)
theorem dX4_saysOf_2 : decode cX4_saysOf 2 = .ok (.iload_n 1, 1) := dk_27 (dk_at dksX4_saysOf_0 2 rfl rfl)
theorem dX4_saysOf_3 : decode cX4_saysOf 3 = .ok (.istore_n 3, 1) := dk_62 (dk_at dksX4_saysOf_0 3 rfl rfl)
theorem dX4_saysOf_4 : decode cX4_saysOf 4 = .ok (.aload_n 0, 1) := dk_42 (dk_at dksX4_saysOf_0 4 rfl rfl)
theorem dX4_saysOf_5 : decode cX4_saysOf 5 = .ok (.getfield 57, 3) := dk_180 0 57 (dk_at dksX4_saysOf_0 5 rfl rfl)
theorem dX4_saysOf_8 : decode cX4_saysOf 8 = .ok (.iload_n 3, 1) := dk_29 (dk_at dksX4_saysOf_0 8 rfl rfl)
theorem dX4_saysOf_9 : decode cX4_saysOf 9 = .ok (.iaload, 1) := dk_46 (dk_at dksX4_saysOf_0 9 rfl rfl)
theorem dX4_saysOf_10 : decode cX4_saysOf 10 = .ok (.sipush 408, 3) := dk_17 1 152 (dk_at dksX4_saysOf_0 10 rfl rfl)
theorem dX4_saysOf_13 : decode cX4_saysOf 13 = .ok (.if_icmp .eq 162, 3) := dk_159 0 162 (dk_at dksX4_saysOf_0 13 rfl rfl)
theorem dX4_saysOf_16 : decode cX4_saysOf 16 = .ok (.aload_n 0, 1) := dk_42 (dk_at dksX4_saysOf_0 16 rfl rfl)
theorem dX4_saysOf_17 : decode cX4_saysOf 17 = .ok (.getfield 57, 3) := dk_180 0 57 (dk_at dksX4_saysOf_0 17 rfl rfl)
theorem dX4_saysOf_20 : decode cX4_saysOf 20 = .ok (.iload_n 3, 1) := dk_29 (dk_at dksX4_saysOf_0 20 rfl rfl)
theorem dX4_saysOf_21 : decode cX4_saysOf 21 = .ok (.iaload, 1) := dk_46 (dk_at dksX4_saysOf_0 21 rfl rfl)
theorem dX4_saysOf_22 : decode cX4_saysOf 22 = .ok (.istore 4, 2) := dk_54 4 (dk_at dksX4_saysOf_0 22 rfl rfl)
theorem dX4_saysOf_24 : decode cX4_saysOf 24 = .ok (.iload 4, 2) := dk_21 4 (dk_at dksX4_saysOf_1 0 rfl rfl)
theorem dX4_saysOf_26 : decode cX4_saysOf 26 = .ok (.sipush 400, 3) := dk_17 1 144 (dk_at dksX4_saysOf_1 2 rfl rfl)
theorem dX4_saysOf_29 : decode cX4_saysOf 29 = .ok (.if_icmp .eq 11, 3) := dk_159 0 11 (dk_at dksX4_saysOf_1 5 rfl rfl)
theorem dX4_saysOf_32 : decode cX4_saysOf 32 = .ok (.iload 4, 2) := dk_21 4 (dk_at dksX4_saysOf_1 8 rfl rfl)
theorem dX4_saysOf_34 : decode cX4_saysOf 34 = .ok (.sipush 401, 3) := dk_17 1 145 (dk_at dksX4_saysOf_1 10 rfl rfl)
theorem dX4_saysOf_37 : decode cX4_saysOf 37 = .ok (.if_icmp .ne 45, 3) := dk_160 0 45 (dk_at dksX4_saysOf_1 13 rfl rfl)
theorem dX4_saysOf_40 : decode cX4_saysOf 40 = .ok (.aload_n 0, 1) := dk_42 (dk_at dksX4_saysOf_1 16 rfl rfl)
theorem dX4_saysOf_41 : decode cX4_saysOf 41 = .ok (.getfield 93, 3) := dk_180 0 93 (dk_at dksX4_saysOf_1 17 rfl rfl)
theorem dX4_saysOf_44 : decode cX4_saysOf 44 = .ok (.iload_n 2, 1) := dk_28 (dk_at dksX4_saysOf_1 20 rfl rfl)
theorem dX4_saysOf_45 : decode cX4_saysOf 45 = .ok (.iload 4, 2) := dk_21 4 (dk_at dksX4_saysOf_1 21 rfl rfl)
theorem dX4_saysOf_47 : decode cX4_saysOf 47 = .ok (.sipush 400, 3) := dk_17 1 144 (dk_at dksX4_saysOf_2 0 rfl rfl)
theorem dX4_saysOf_50 : decode cX4_saysOf 50 = .ok (.if_icmp .ne 13, 3) := dk_160 0 13 (dk_at dksX4_saysOf_2 3 rfl rfl)
theorem dX4_saysOf_53 : decode cX4_saysOf 53 = .ok (.aload_n 0, 1) := dk_42 (dk_at dksX4_saysOf_2 6 rfl rfl)
theorem dX4_saysOf_54 : decode cX4_saysOf 54 = .ok (.getfield 60, 3) := dk_180 0 60 (dk_at dksX4_saysOf_2 7 rfl rfl)
theorem dX4_saysOf_57 : decode cX4_saysOf 57 = .ok (.iload_n 3, 1) := dk_29 (dk_at dksX4_saysOf_2 10 rfl rfl)
theorem dX4_saysOf_58 : decode cX4_saysOf 58 = .ok (.iaload, 1) := dk_46 (dk_at dksX4_saysOf_2 11 rfl rfl)
theorem dX4_saysOf_59 : decode cX4_saysOf 59 = .ok (.i2l, 1) := dk_133 (dk_at dksX4_saysOf_2 12 rfl rfl)
theorem dX4_saysOf_60 : decode cX4_saysOf 60 = .ok (.goto 15, 3) := dk_167 0 15 (dk_at dksX4_saysOf_2 13 rfl rfl)
theorem dX4_saysOf_63 : decode cX4_saysOf 63 = .ok (.aload_n 0, 1) := dk_42 (dk_at dksX4_saysOf_2 16 rfl rfl)
theorem dX4_saysOf_64 : decode cX4_saysOf 64 = .ok (.getfield 90, 3) := dk_180 0 90 (dk_at dksX4_saysOf_2 17 rfl rfl)
theorem dX4_saysOf_67 : decode cX4_saysOf 67 = .ok (.aload_n 0, 1) := dk_42 (dk_at dksX4_saysOf_2 20 rfl rfl)
theorem dX4_saysOf_68 : decode cX4_saysOf 68 = .ok (.getfield 60, 3) := dk_180 0 60 (dk_at dksX4_saysOf_2 21 rfl rfl)
theorem dX4_saysOf_71 : decode cX4_saysOf 71 = .ok (.iload_n 3, 1) := dk_29 (dk_at dksX4_saysOf_3 0 rfl rfl)
theorem dX4_saysOf_72 : decode cX4_saysOf 72 = .ok (.iaload, 1) := dk_46 (dk_at dksX4_saysOf_3 1 rfl rfl)
theorem dX4_saysOf_73 : decode cX4_saysOf 73 = .ok (.iaload, 1) := dk_46 (dk_at dksX4_saysOf_3 2 rfl rfl)
theorem dX4_saysOf_74 : decode cX4_saysOf 74 = .ok (.i2l, 1) := dk_133 (dk_at dksX4_saysOf_3 3 rfl rfl)
theorem dX4_saysOf_75 : decode cX4_saysOf 75 = .ok (.lastore, 1) := dk_80 (dk_at dksX4_saysOf_3 4 rfl rfl)
theorem dX4_saysOf_76 : decode cX4_saysOf 76 = .ok (.iinc 2 1, 3) := dk_132 2 1 (dk_at dksX4_saysOf_3 5 rfl rfl)
theorem dX4_saysOf_79 : decode cX4_saysOf 79 = .ok (.goto 90, 3) := dk_167 0 90 (dk_at dksX4_saysOf_3 8 rfl rfl)
theorem dX4_saysOf_82 : decode cX4_saysOf 82 = .ok (.iload 4, 2) := dk_21 4 (dk_at dksX4_saysOf_3 11 rfl rfl)
theorem dX4_saysOf_84 : decode cX4_saysOf 84 = .ok (.sipush 402, 3) := dk_17 1 146 (dk_at dksX4_saysOf_3 13 rfl rfl)
theorem dX4_saysOf_87 : decode cX4_saysOf 87 = .ok (.if_icmp .ne 23, 3) := dk_160 0 23 (dk_at dksX4_saysOf_3 16 rfl rfl)
theorem dX4_saysOf_90 : decode cX4_saysOf 90 = .ok (.aload_n 0, 1) := dk_42 (dk_at dksX4_saysOf_3 19 rfl rfl)
theorem dX4_saysOf_91 : decode cX4_saysOf 91 = .ok (.getfield 93, 3) := dk_180 0 93 (dk_at dksX4_saysOf_3 20 rfl rfl)
theorem dX4_saysOf_94 : decode cX4_saysOf 94 = .ok (.iload_n 2, 1) := dk_28 (dk_at dksX4_saysOf_3 23 rfl rfl)
theorem dX4_saysOf_95 : decode cX4_saysOf 95 = .ok (.iconst 1, 1) := dk_4 (dk_at dksX4_saysOf_4 0 rfl rfl)
theorem dX4_saysOf_96 : decode cX4_saysOf 96 = .ok (.isub, 1) := dk_100 (dk_at dksX4_saysOf_4 1 rfl rfl)
theorem dX4_saysOf_97 : decode cX4_saysOf 97 = .ok (.aload_n 0, 1) := dk_42 (dk_at dksX4_saysOf_4 2 rfl rfl)
theorem dX4_saysOf_98 : decode cX4_saysOf 98 = .ok (.getfield 93, 3) := dk_180 0 93 (dk_at dksX4_saysOf_4 3 rfl rfl)
theorem dX4_saysOf_101 : decode cX4_saysOf 101 = .ok (.iload_n 2, 1) := dk_28 (dk_at dksX4_saysOf_4 6 rfl rfl)
theorem dX4_saysOf_102 : decode cX4_saysOf 102 = .ok (.iconst 1, 1) := dk_4 (dk_at dksX4_saysOf_4 7 rfl rfl)
theorem dX4_saysOf_103 : decode cX4_saysOf 103 = .ok (.isub, 1) := dk_100 (dk_at dksX4_saysOf_4 8 rfl rfl)
theorem dX4_saysOf_104 : decode cX4_saysOf 104 = .ok (.laload, 1) := dk_47 (dk_at dksX4_saysOf_4 9 rfl rfl)
theorem dX4_saysOf_105 : decode cX4_saysOf 105 = .ok (.lneg, 1) := dk_117 (dk_at dksX4_saysOf_4 10 rfl rfl)
theorem dX4_saysOf_106 : decode cX4_saysOf 106 = .ok (.lastore, 1) := dk_80 (dk_at dksX4_saysOf_4 11 rfl rfl)
theorem dX4_saysOf_107 : decode cX4_saysOf 107 = .ok (.goto 62, 3) := dk_167 0 62 (dk_at dksX4_saysOf_4 12 rfl rfl)
theorem dX4_saysOf_110 : decode cX4_saysOf 110 = .ok (.iload 4, 2) := dk_21 4 (dk_at dksX4_saysOf_4 15 rfl rfl)
theorem dX4_saysOf_112 : decode cX4_saysOf 112 = .ok (.sipush 405, 3) := dk_17 1 149 (dk_at dksX4_saysOf_4 17 rfl rfl)
theorem dX4_saysOf_115 : decode cX4_saysOf 115 = .ok (.if_icmp .ne 24, 3) := dk_160 0 24 (dk_at dksX4_saysOf_4 20 rfl rfl)
theorem dX4_saysOf_118 : decode cX4_saysOf 118 = .ok (.aload_n 0, 1) := dk_42 (dk_at dksX4_saysOf_4 23 rfl rfl)
theorem dX4_saysOf_119 : decode cX4_saysOf 119 = .ok (.getfield 93, 3) := dk_180 0 93 (dk_at dksX4_saysOf_5 0 rfl rfl)
theorem dX4_saysOf_122 : decode cX4_saysOf 122 = .ok (.iload_n 2, 1) := dk_28 (dk_at dksX4_saysOf_5 3 rfl rfl)
theorem dX4_saysOf_123 : decode cX4_saysOf 123 = .ok (.iconst 1, 1) := dk_4 (dk_at dksX4_saysOf_5 4 rfl rfl)
theorem dX4_saysOf_124 : decode cX4_saysOf 124 = .ok (.isub, 1) := dk_100 (dk_at dksX4_saysOf_5 5 rfl rfl)
theorem dX4_saysOf_125 : decode cX4_saysOf 125 = .ok (.lconst 1, 1) := dk_10 (dk_at dksX4_saysOf_5 6 rfl rfl)
theorem dX4_saysOf_126 : decode cX4_saysOf 126 = .ok (.aload_n 0, 1) := dk_42 (dk_at dksX4_saysOf_5 7 rfl rfl)
theorem dX4_saysOf_127 : decode cX4_saysOf 127 = .ok (.getfield 93, 3) := dk_180 0 93 (dk_at dksX4_saysOf_5 8 rfl rfl)
theorem dX4_saysOf_130 : decode cX4_saysOf 130 = .ok (.iload_n 2, 1) := dk_28 (dk_at dksX4_saysOf_5 11 rfl rfl)
theorem dX4_saysOf_131 : decode cX4_saysOf 131 = .ok (.iconst 1, 1) := dk_4 (dk_at dksX4_saysOf_5 12 rfl rfl)
theorem dX4_saysOf_132 : decode cX4_saysOf 132 = .ok (.isub, 1) := dk_100 (dk_at dksX4_saysOf_5 13 rfl rfl)
theorem dX4_saysOf_133 : decode cX4_saysOf 133 = .ok (.laload, 1) := dk_47 (dk_at dksX4_saysOf_5 14 rfl rfl)
theorem dX4_saysOf_134 : decode cX4_saysOf 134 = .ok (.lsub, 1) := dk_101 (dk_at dksX4_saysOf_5 15 rfl rfl)
theorem dX4_saysOf_135 : decode cX4_saysOf 135 = .ok (.lastore, 1) := dk_80 (dk_at dksX4_saysOf_5 16 rfl rfl)
theorem dX4_saysOf_136 : decode cX4_saysOf 136 = .ok (.goto 33, 3) := dk_167 0 33 (dk_at dksX4_saysOf_5 17 rfl rfl)
theorem dX4_saysOf_139 : decode cX4_saysOf 139 = .ok (.iinc 2 (-1), 3) := dk_132 2 255 (dk_at dksX4_saysOf_5 20 rfl rfl)
theorem dX4_saysOf_142 : decode cX4_saysOf 142 = .ok (.aload_n 0, 1) := dk_42 (dk_at dksX4_saysOf_5 23 rfl rfl)
theorem dX4_saysOf_143 : decode cX4_saysOf 143 = .ok (.getfield 93, 3) := dk_180 0 93 (dk_at dksX4_saysOf_6 0 rfl rfl)
theorem dX4_saysOf_146 : decode cX4_saysOf 146 = .ok (.iload_n 2, 1) := dk_28 (dk_at dksX4_saysOf_6 3 rfl rfl)
theorem dX4_saysOf_147 : decode cX4_saysOf 147 = .ok (.iconst 1, 1) := dk_4 (dk_at dksX4_saysOf_6 4 rfl rfl)
theorem dX4_saysOf_148 : decode cX4_saysOf 148 = .ok (.isub, 1) := dk_100 (dk_at dksX4_saysOf_6 5 rfl rfl)
theorem dX4_saysOf_149 : decode cX4_saysOf 149 = .ok (.iload 4, 2) := dk_21 4 (dk_at dksX4_saysOf_6 6 rfl rfl)
theorem dX4_saysOf_151 : decode cX4_saysOf 151 = .ok (.aload_n 0, 1) := dk_42 (dk_at dksX4_saysOf_6 8 rfl rfl)
theorem dX4_saysOf_152 : decode cX4_saysOf 152 = .ok (.getfield 93, 3) := dk_180 0 93 (dk_at dksX4_saysOf_6 9 rfl rfl)
theorem dX4_saysOf_155 : decode cX4_saysOf 155 = .ok (.iload_n 2, 1) := dk_28 (dk_at dksX4_saysOf_6 12 rfl rfl)
theorem dX4_saysOf_156 : decode cX4_saysOf 156 = .ok (.iconst 1, 1) := dk_4 (dk_at dksX4_saysOf_6 13 rfl rfl)
theorem dX4_saysOf_157 : decode cX4_saysOf 157 = .ok (.isub, 1) := dk_100 (dk_at dksX4_saysOf_6 14 rfl rfl)
theorem dX4_saysOf_158 : decode cX4_saysOf 158 = .ok (.laload, 1) := dk_47 (dk_at dksX4_saysOf_6 15 rfl rfl)
theorem dX4_saysOf_159 : decode cX4_saysOf 159 = .ok (.aload_n 0, 1) := dk_42 (dk_at dksX4_saysOf_6 16 rfl rfl)
theorem dX4_saysOf_160 : decode cX4_saysOf 160 = .ok (.getfield 93, 3) := dk_180 0 93 (dk_at dksX4_saysOf_6 17 rfl rfl)
theorem dX4_saysOf_163 : decode cX4_saysOf 163 = .ok (.iload_n 2, 1) := dk_28 (dk_at dksX4_saysOf_6 20 rfl rfl)
theorem dX4_saysOf_164 : decode cX4_saysOf 164 = .ok (.laload, 1) := dk_47 (dk_at dksX4_saysOf_6 21 rfl rfl)
theorem dX4_saysOf_165 : decode cX4_saysOf 165 = .ok (.invokestatic 384, 3) := dk_184 1 128 (dk_at dksX4_saysOf_7 0 rfl rfl)
theorem dX4_saysOf_168 : decode cX4_saysOf 168 = .ok (.lastore, 1) := dk_80 (dk_at dksX4_saysOf_7 3 rfl rfl)
theorem dX4_saysOf_169 : decode cX4_saysOf 169 = .ok (.iinc 3 1, 3) := dk_132 3 1 (dk_at dksX4_saysOf_7 4 rfl rfl)
theorem dX4_saysOf_172 : decode cX4_saysOf 172 = .ok (.goto (-168), 3) := dk_167 255 88 (dk_at dksX4_saysOf_7 7 rfl rfl)
theorem dX4_saysOf_175 : decode cX4_saysOf 175 = .ok (.aload_n 0, 1) := dk_42 (dk_at dksX4_saysOf_7 10 rfl rfl)
theorem dX4_saysOf_176 : decode cX4_saysOf 176 = .ok (.getfield 93, 3) := dk_180 0 93 (dk_at dksX4_saysOf_7 11 rfl rfl)
theorem dX4_saysOf_179 : decode cX4_saysOf 179 = .ok (.iconst 0, 1) := dk_3 (dk_at dksX4_saysOf_7 14 rfl rfl)
theorem dX4_saysOf_180 : decode cX4_saysOf 180 = .ok (.laload, 1) := dk_47 (dk_at dksX4_saysOf_7 15 rfl rfl)
theorem dX4_saysOf_181 : decode cX4_saysOf 181 = .ok (.lreturn, 1) := dk_173 (dk_at dksX4_saysOf_7 16 rfl rfl)
abbrev cX4_worked : ByteArray := prog_23_method_37_code
def yX4_worked : MethodName := ⟨RX4, "worked", "(IJJ)J"⟩
def dkwX4_worked_7 : List UInt8 := [167, 0, 4, 9, 173]
abbrev dktX4_worked_7 : List UInt8 := dkwX4_worked_7 ++ []
def dkwX4_worked_6 : List UInt8 := [33, 148, 155, 0, 7, 10, 167, 0, 4, 9, 173, 31, 33, 105, 173, 31, 33, 97, 9, 148, 158, 0, 7, 10]
abbrev dktX4_worked_6 : List UInt8 := dkwX4_worked_6 ++ dktX4_worked_7
def dkwX4_worked_5 : List UInt8 := [33, 148, 153, 0, 7, 10, 167, 0, 4, 9, 173, 31, 33, 148, 157, 0, 7, 10, 167, 0, 4, 9, 173, 31]
abbrev dktX4_worked_5 : List UInt8 := dkwX4_worked_5 ++ dktX4_worked_6
def dkwX4_worked_4 : List UInt8 := [33, 148, 158, 0, 7, 10, 167, 0, 4, 9, 173, 31, 33, 148, 154, 0, 7, 10, 167, 0, 4, 9, 173, 31]
abbrev dktX4_worked_4 : List UInt8 := dkwX4_worked_4 ++ dktX4_worked_5
def dkwX4_worked_3 : List UInt8 := [154, 0, 7, 9, 167, 0, 6, 31, 33, 109, 173, 31, 33, 148, 156, 0, 7, 10, 167, 0, 4, 9, 173, 31]
abbrev dktX4_worked_3 : List UInt8 := dkwX4_worked_3 ++ dktX4_worked_4
def dkwX4_worked_2 : List UInt8 := [31, 33, 97, 184, 1, 124, 173, 31, 33, 101, 184, 1, 124, 173, 31, 33, 105, 184, 1, 124, 173, 33, 9, 148]
abbrev dktX4_worked_2 : List UInt8 := dkwX4_worked_2 ++ dktX4_worked_3
def dkwX4_worked_1 : List UInt8 := [171, 0, 0, 0, 0, 0, 210, 0, 0, 0, 11, 0, 0, 0, 35, 0, 0, 0, 170, 0, 0, 0, 42, 0, 0, 0, 113, 0, 0, 0, 43, 0, 0, 0, 99, 0, 0, 0, 45, 0, 0, 0, 106, 0, 0, 0, 47, 0, 0, 0, 120, 0, 0, 0, 60, 0, 0, 0, 134, 0, 0, 0, 61, 0, 0, 0, 158, 0, 0, 0, 62, 0, 0, 0, 146, 0, 0, 1, 44, 0, 0, 0, 182, 0, 0, 1, 45, 0, 0, 0, 194, 0, 0, 1, 150, 0, 0, 0, 206]
abbrev dktX4_worked_1 : List UInt8 := dkwX4_worked_1 ++ dktX4_worked_2
def dkwX4_worked_0 : List UInt8 := [26]
abbrev dktX4_worked_0 : List UInt8 := dkwX4_worked_0 ++ dktX4_worked_1
theorem dksX4_worked_0 : cX4_worked.data.toList.drop 0 = dktX4_worked_0 := by decide +kernel
theorem dksX4_worked_1 : cX4_worked.data.toList.drop 1 = dktX4_worked_1 := dk_seg dksX4_worked_0 1 rfl rfl
theorem dksX4_worked_2 : cX4_worked.data.toList.drop 100 = dktX4_worked_2 := dk_seg dksX4_worked_1 99 rfl rfl
theorem dksX4_worked_3 : cX4_worked.data.toList.drop 124 = dktX4_worked_3 := dk_seg dksX4_worked_2 24 rfl rfl
theorem dksX4_worked_4 : cX4_worked.data.toList.drop 148 = dktX4_worked_4 := dk_seg dksX4_worked_3 24 rfl rfl
theorem dksX4_worked_5 : cX4_worked.data.toList.drop 172 = dktX4_worked_5 := dk_seg dksX4_worked_4 24 rfl rfl
theorem dksX4_worked_6 : cX4_worked.data.toList.drop 196 = dktX4_worked_6 := dk_seg dksX4_worked_5 24 rfl rfl
theorem dksX4_worked_7 : cX4_worked.data.toList.drop 220 = dktX4_worked_7 := dk_seg dksX4_worked_6 24 rfl rfl
theorem dX4_worked_0 : decode cX4_worked 0 = .ok (.iload_n 0, 1) := dk_26 (dk_at dksX4_worked_0 0 rfl rfl)
theorem dX4_worked_1 : decode cX4_worked 1 = .ok (.lookupswitch 210 #[(35, 170), (42, 113), (43, 99), (45, 106), (47, 120), (60, 134), (61, 158), (62, 146), (300, 182), (301, 194), (406, 206)], 99) := by decide +kernel
theorem dX4_worked_100 : decode cX4_worked 100 = .ok (.lload_n 1, 1) := dk_31 (dk_at dksX4_worked_2 0 rfl rfl)
theorem dX4_worked_101 : decode cX4_worked 101 = .ok (.lload_n 3, 1) := dk_33 (dk_at dksX4_worked_2 1 rfl rfl)
theorem dX4_worked_102 : decode cX4_worked 102 = .ok (.ladd, 1) := dk_97 (dk_at dksX4_worked_2 2 rfl rfl)
theorem dX4_worked_103 : decode cX4_worked 103 = .ok (.invokestatic 380, 3) := dk_184 1 124 (dk_at dksX4_worked_2 3 rfl rfl)
theorem dX4_worked_106 : decode cX4_worked 106 = .ok (.lreturn, 1) := dk_173 (dk_at dksX4_worked_2 6 rfl rfl)
theorem dX4_worked_107 : decode cX4_worked 107 = .ok (.lload_n 1, 1) := dk_31 (dk_at dksX4_worked_2 7 rfl rfl)
theorem dX4_worked_108 : decode cX4_worked 108 = .ok (.lload_n 3, 1) := dk_33 (dk_at dksX4_worked_2 8 rfl rfl)
theorem dX4_worked_109 : decode cX4_worked 109 = .ok (.lsub, 1) := dk_101 (dk_at dksX4_worked_2 9 rfl rfl)
theorem dX4_worked_110 : decode cX4_worked 110 = .ok (.invokestatic 380, 3) := dk_184 1 124 (dk_at dksX4_worked_2 10 rfl rfl)
theorem dX4_worked_113 : decode cX4_worked 113 = .ok (.lreturn, 1) := dk_173 (dk_at dksX4_worked_2 13 rfl rfl)
theorem dX4_worked_114 : decode cX4_worked 114 = .ok (.lload_n 1, 1) := dk_31 (dk_at dksX4_worked_2 14 rfl rfl)
theorem dX4_worked_115 : decode cX4_worked 115 = .ok (.lload_n 3, 1) := dk_33 (dk_at dksX4_worked_2 15 rfl rfl)
theorem dX4_worked_116 : decode cX4_worked 116 = .ok (.lmul, 1) := dk_105 (dk_at dksX4_worked_2 16 rfl rfl)
theorem dX4_worked_117 : decode cX4_worked 117 = .ok (.invokestatic 380, 3) := dk_184 1 124 (dk_at dksX4_worked_2 17 rfl rfl)
theorem dX4_worked_120 : decode cX4_worked 120 = .ok (.lreturn, 1) := dk_173 (dk_at dksX4_worked_2 20 rfl rfl)
theorem dX4_worked_121 : decode cX4_worked 121 = .ok (.lload_n 3, 1) := dk_33 (dk_at dksX4_worked_2 21 rfl rfl)
theorem dX4_worked_122 : decode cX4_worked 122 = .ok (.lconst 0, 1) := dk_9 (dk_at dksX4_worked_2 22 rfl rfl)
theorem dX4_worked_123 : decode cX4_worked 123 = .ok (.lcmp, 1) := dk_148 (dk_at dksX4_worked_2 23 rfl rfl)
theorem dX4_worked_124 : decode cX4_worked 124 = .ok (.ifCond .ne 7, 3) := dk_154 0 7 (dk_at dksX4_worked_3 0 rfl rfl)
theorem dX4_worked_127 : decode cX4_worked 127 = .ok (.lconst 0, 1) := dk_9 (dk_at dksX4_worked_3 3 rfl rfl)
theorem dX4_worked_128 : decode cX4_worked 128 = .ok (.goto 6, 3) := dk_167 0 6 (dk_at dksX4_worked_3 4 rfl rfl)
theorem dX4_worked_131 : decode cX4_worked 131 = .ok (.lload_n 1, 1) := dk_31 (dk_at dksX4_worked_3 7 rfl rfl)
theorem dX4_worked_132 : decode cX4_worked 132 = .ok (.lload_n 3, 1) := dk_33 (dk_at dksX4_worked_3 8 rfl rfl)
theorem dX4_worked_133 : decode cX4_worked 133 = .ok (.ldiv, 1) := dk_109 (dk_at dksX4_worked_3 9 rfl rfl)
theorem dX4_worked_134 : decode cX4_worked 134 = .ok (.lreturn, 1) := dk_173 (dk_at dksX4_worked_3 10 rfl rfl)
theorem dX4_worked_135 : decode cX4_worked 135 = .ok (.lload_n 1, 1) := dk_31 (dk_at dksX4_worked_3 11 rfl rfl)
theorem dX4_worked_136 : decode cX4_worked 136 = .ok (.lload_n 3, 1) := dk_33 (dk_at dksX4_worked_3 12 rfl rfl)
theorem dX4_worked_137 : decode cX4_worked 137 = .ok (.lcmp, 1) := dk_148 (dk_at dksX4_worked_3 13 rfl rfl)
theorem dX4_worked_138 : decode cX4_worked 138 = .ok (.ifCond .ge 7, 3) := dk_156 0 7 (dk_at dksX4_worked_3 14 rfl rfl)
theorem dX4_worked_141 : decode cX4_worked 141 = .ok (.lconst 1, 1) := dk_10 (dk_at dksX4_worked_3 17 rfl rfl)
theorem dX4_worked_142 : decode cX4_worked 142 = .ok (.goto 4, 3) := dk_167 0 4 (dk_at dksX4_worked_3 18 rfl rfl)
theorem dX4_worked_145 : decode cX4_worked 145 = .ok (.lconst 0, 1) := dk_9 (dk_at dksX4_worked_3 21 rfl rfl)
theorem dX4_worked_146 : decode cX4_worked 146 = .ok (.lreturn, 1) := dk_173 (dk_at dksX4_worked_3 22 rfl rfl)
theorem dX4_worked_147 : decode cX4_worked 147 = .ok (.lload_n 1, 1) := dk_31 (dk_at dksX4_worked_3 23 rfl rfl)
theorem dX4_worked_148 : decode cX4_worked 148 = .ok (.lload_n 3, 1) := dk_33 (dk_at dksX4_worked_4 0 rfl rfl)
theorem dX4_worked_149 : decode cX4_worked 149 = .ok (.lcmp, 1) := dk_148 (dk_at dksX4_worked_4 1 rfl rfl)
theorem dX4_worked_150 : decode cX4_worked 150 = .ok (.ifCond .le 7, 3) := dk_158 0 7 (dk_at dksX4_worked_4 2 rfl rfl)
theorem dX4_worked_153 : decode cX4_worked 153 = .ok (.lconst 1, 1) := dk_10 (dk_at dksX4_worked_4 5 rfl rfl)
theorem dX4_worked_154 : decode cX4_worked 154 = .ok (.goto 4, 3) := dk_167 0 4 (dk_at dksX4_worked_4 6 rfl rfl)
theorem dX4_worked_157 : decode cX4_worked 157 = .ok (.lconst 0, 1) := dk_9 (dk_at dksX4_worked_4 9 rfl rfl)
theorem dX4_worked_158 : decode cX4_worked 158 = .ok (.lreturn, 1) := dk_173 (dk_at dksX4_worked_4 10 rfl rfl)
theorem dX4_worked_159 : decode cX4_worked 159 = .ok (.lload_n 1, 1) := dk_31 (dk_at dksX4_worked_4 11 rfl rfl)
theorem dX4_worked_160 : decode cX4_worked 160 = .ok (.lload_n 3, 1) := dk_33 (dk_at dksX4_worked_4 12 rfl rfl)
theorem dX4_worked_161 : decode cX4_worked 161 = .ok (.lcmp, 1) := dk_148 (dk_at dksX4_worked_4 13 rfl rfl)
theorem dX4_worked_162 : decode cX4_worked 162 = .ok (.ifCond .ne 7, 3) := dk_154 0 7 (dk_at dksX4_worked_4 14 rfl rfl)
theorem dX4_worked_165 : decode cX4_worked 165 = .ok (.lconst 1, 1) := dk_10 (dk_at dksX4_worked_4 17 rfl rfl)
theorem dX4_worked_166 : decode cX4_worked 166 = .ok (.goto 4, 3) := dk_167 0 4 (dk_at dksX4_worked_4 18 rfl rfl)
theorem dX4_worked_169 : decode cX4_worked 169 = .ok (.lconst 0, 1) := dk_9 (dk_at dksX4_worked_4 21 rfl rfl)
theorem dX4_worked_170 : decode cX4_worked 170 = .ok (.lreturn, 1) := dk_173 (dk_at dksX4_worked_4 22 rfl rfl)
theorem dX4_worked_171 : decode cX4_worked 171 = .ok (.lload_n 1, 1) := dk_31 (dk_at dksX4_worked_4 23 rfl rfl)
theorem dX4_worked_172 : decode cX4_worked 172 = .ok (.lload_n 3, 1) := dk_33 (dk_at dksX4_worked_5 0 rfl rfl)
theorem dX4_worked_173 : decode cX4_worked 173 = .ok (.lcmp, 1) := dk_148 (dk_at dksX4_worked_5 1 rfl rfl)
theorem dX4_worked_174 : decode cX4_worked 174 = .ok (.ifCond .eq 7, 3) := dk_153 0 7 (dk_at dksX4_worked_5 2 rfl rfl)
theorem dX4_worked_177 : decode cX4_worked 177 = .ok (.lconst 1, 1) := dk_10 (dk_at dksX4_worked_5 5 rfl rfl)
theorem dX4_worked_178 : decode cX4_worked 178 = .ok (.goto 4, 3) := dk_167 0 4 (dk_at dksX4_worked_5 6 rfl rfl)
theorem dX4_worked_181 : decode cX4_worked 181 = .ok (.lconst 0, 1) := dk_9 (dk_at dksX4_worked_5 9 rfl rfl)
theorem dX4_worked_182 : decode cX4_worked 182 = .ok (.lreturn, 1) := dk_173 (dk_at dksX4_worked_5 10 rfl rfl)
theorem dX4_worked_183 : decode cX4_worked 183 = .ok (.lload_n 1, 1) := dk_31 (dk_at dksX4_worked_5 11 rfl rfl)
theorem dX4_worked_184 : decode cX4_worked 184 = .ok (.lload_n 3, 1) := dk_33 (dk_at dksX4_worked_5 12 rfl rfl)
theorem dX4_worked_185 : decode cX4_worked 185 = .ok (.lcmp, 1) := dk_148 (dk_at dksX4_worked_5 13 rfl rfl)
theorem dX4_worked_186 : decode cX4_worked 186 = .ok (.ifCond .gt 7, 3) := dk_157 0 7 (dk_at dksX4_worked_5 14 rfl rfl)
theorem dX4_worked_189 : decode cX4_worked 189 = .ok (.lconst 1, 1) := dk_10 (dk_at dksX4_worked_5 17 rfl rfl)
theorem dX4_worked_190 : decode cX4_worked 190 = .ok (.goto 4, 3) := dk_167 0 4 (dk_at dksX4_worked_5 18 rfl rfl)
theorem dX4_worked_193 : decode cX4_worked 193 = .ok (.lconst 0, 1) := dk_9 (dk_at dksX4_worked_5 21 rfl rfl)
theorem dX4_worked_194 : decode cX4_worked 194 = .ok (.lreturn, 1) := dk_173 (dk_at dksX4_worked_5 22 rfl rfl)
theorem dX4_worked_195 : decode cX4_worked 195 = .ok (.lload_n 1, 1) := dk_31 (dk_at dksX4_worked_5 23 rfl rfl)
theorem dX4_worked_196 : decode cX4_worked 196 = .ok (.lload_n 3, 1) := dk_33 (dk_at dksX4_worked_6 0 rfl rfl)
theorem dX4_worked_197 : decode cX4_worked 197 = .ok (.lcmp, 1) := dk_148 (dk_at dksX4_worked_6 1 rfl rfl)
theorem dX4_worked_198 : decode cX4_worked 198 = .ok (.ifCond .lt 7, 3) := dk_155 0 7 (dk_at dksX4_worked_6 2 rfl rfl)
theorem dX4_worked_201 : decode cX4_worked 201 = .ok (.lconst 1, 1) := dk_10 (dk_at dksX4_worked_6 5 rfl rfl)
theorem dX4_worked_202 : decode cX4_worked 202 = .ok (.goto 4, 3) := dk_167 0 4 (dk_at dksX4_worked_6 6 rfl rfl)
theorem dX4_worked_205 : decode cX4_worked 205 = .ok (.lconst 0, 1) := dk_9 (dk_at dksX4_worked_6 9 rfl rfl)
theorem dX4_worked_206 : decode cX4_worked 206 = .ok (.lreturn, 1) := dk_173 (dk_at dksX4_worked_6 10 rfl rfl)
theorem dX4_worked_207 : decode cX4_worked 207 = .ok (.lload_n 1, 1) := dk_31 (dk_at dksX4_worked_6 11 rfl rfl)
theorem dX4_worked_208 : decode cX4_worked 208 = .ok (.lload_n 3, 1) := dk_33 (dk_at dksX4_worked_6 12 rfl rfl)
theorem dX4_worked_209 : decode cX4_worked 209 = .ok (.lmul, 1) := dk_105 (dk_at dksX4_worked_6 13 rfl rfl)
theorem dX4_worked_210 : decode cX4_worked 210 = .ok (.lreturn, 1) := dk_173 (dk_at dksX4_worked_6 14 rfl rfl)
theorem dX4_worked_211 : decode cX4_worked 211 = .ok (.lload_n 1, 1) := dk_31 (dk_at dksX4_worked_6 15 rfl rfl)
theorem dX4_worked_212 : decode cX4_worked 212 = .ok (.lload_n 3, 1) := dk_33 (dk_at dksX4_worked_6 16 rfl rfl)
theorem dX4_worked_213 : decode cX4_worked 213 = .ok (.ladd, 1) := dk_97 (dk_at dksX4_worked_6 17 rfl rfl)
theorem dX4_worked_214 : decode cX4_worked 214 = .ok (.lconst 0, 1) := dk_9 (dk_at dksX4_worked_6 18 rfl rfl)
theorem dX4_worked_215 : decode cX4_worked 215 = .ok (.lcmp, 1) := dk_148 (dk_at dksX4_worked_6 19 rfl rfl)
theorem dX4_worked_216 : decode cX4_worked 216 = .ok (.ifCond .le 7, 3) := dk_158 0 7 (dk_at dksX4_worked_6 20 rfl rfl)
theorem dX4_worked_219 : decode cX4_worked 219 = .ok (.lconst 1, 1) := dk_10 (dk_at dksX4_worked_6 23 rfl rfl)
theorem dX4_worked_220 : decode cX4_worked 220 = .ok (.goto 4, 3) := dk_167 0 4 (dk_at dksX4_worked_7 0 rfl rfl)
theorem dX4_worked_223 : decode cX4_worked 223 = .ok (.lconst 0, 1) := dk_9 (dk_at dksX4_worked_7 3 rfl rfl)
theorem dX4_worked_224 : decode cX4_worked 224 = .ok (.lreturn, 1) := dk_173 (dk_at dksX4_worked_7 4 rfl rfl)
abbrev cX4_bound : ByteArray := prog_23_method_36_code
def yX4_bound : MethodName := ⟨RX4, "bound", "(J)J"⟩
def dkwX4_bound_1 : List UInt8 := [20, 1, 122, 167, 0, 4, 30, 173]
abbrev dktX4_bound_1 : List UInt8 := dkwX4_bound_1 ++ []
def dkwX4_bound_0 : List UInt8 := [30, 20, 1, 120, 148, 158, 0, 9, 20, 1, 120, 167, 0, 18, 30, 20, 1, 122, 148, 156, 0, 9]
abbrev dktX4_bound_0 : List UInt8 := dkwX4_bound_0 ++ dktX4_bound_1
theorem dksX4_bound_0 : cX4_bound.data.toList.drop 0 = dktX4_bound_0 := by decide +kernel
theorem dksX4_bound_1 : cX4_bound.data.toList.drop 22 = dktX4_bound_1 := dk_seg dksX4_bound_0 22 rfl rfl
theorem dX4_bound_0 : decode cX4_bound 0 = .ok (.lload_n 0, 1) := dk_30 (dk_at dksX4_bound_0 0 rfl rfl)
theorem dX4_bound_1 : decode cX4_bound 1 = .ok (.ldc2_w 376, 3) := dk_20 1 120 (dk_at dksX4_bound_0 1 rfl rfl)
theorem dX4_bound_4 : decode cX4_bound 4 = .ok (.lcmp, 1) := dk_148 (dk_at dksX4_bound_0 4 rfl rfl)
theorem dX4_bound_5 : decode cX4_bound 5 = .ok (.ifCond .le 9, 3) := dk_158 0 9 (dk_at dksX4_bound_0 5 rfl rfl)
theorem dX4_bound_8 : decode cX4_bound 8 = .ok (.ldc2_w 376, 3) := dk_20 1 120 (dk_at dksX4_bound_0 8 rfl rfl)
theorem dX4_bound_11 : decode cX4_bound 11 = .ok (.goto 18, 3) := dk_167 0 18 (dk_at dksX4_bound_0 11 rfl rfl)
theorem dX4_bound_14 : decode cX4_bound 14 = .ok (.lload_n 0, 1) := dk_30 (dk_at dksX4_bound_0 14 rfl rfl)
theorem dX4_bound_15 : decode cX4_bound 15 = .ok (.ldc2_w 378, 3) := dk_20 1 122 (dk_at dksX4_bound_0 15 rfl rfl)
theorem dX4_bound_18 : decode cX4_bound 18 = .ok (.lcmp, 1) := dk_148 (dk_at dksX4_bound_0 18 rfl rfl)
theorem dX4_bound_19 : decode cX4_bound 19 = .ok (.ifCond .ge 9, 3) := dk_156 0 9 (dk_at dksX4_bound_0 19 rfl rfl)
theorem dX4_bound_22 : decode cX4_bound 22 = .ok (.ldc2_w 378, 3) := dk_20 1 122 (dk_at dksX4_bound_1 0 rfl rfl)
theorem dX4_bound_25 : decode cX4_bound 25 = .ok (.goto 4, 3) := dk_167 0 4 (dk_at dksX4_bound_1 3 rfl rfl)
theorem dX4_bound_28 : decode cX4_bound 28 = .ok (.lload_n 0, 1) := dk_30 (dk_at dksX4_bound_1 6 rfl rfl)
theorem dX4_bound_29 : decode cX4_bound 29 = .ok (.lreturn, 1) := dk_173 (dk_at dksX4_bound_1 7 rfl rfl)
abbrev cX4_weight : ByteArray := prog_23_method_80_code
def yX4_weight : MethodName := ⟨RX4, "weight", "(II)I"⟩
def dkwX4_weight_1 : List UInt8 := [2, 172, 42, 182, 2, 7, 42, 182, 2, 10, 62, 42, 180, 0, 160, 28, 46, 172]
abbrev dktX4_weight_1 : List UInt8 := dkwX4_weight_1 ++ []
def dkwX4_weight_0 : List UInt8 := [28, 3, 42, 180, 0, 7, 5, 46, 4, 100, 184, 0, 199, 153, 0, 11, 42, 27, 182, 1, 215, 154, 0, 5]
abbrev dktX4_weight_0 : List UInt8 := dkwX4_weight_0 ++ dktX4_weight_1
theorem dksX4_weight_0 : cX4_weight.data.toList.drop 0 = dktX4_weight_0 := by decide +kernel
theorem dksX4_weight_1 : cX4_weight.data.toList.drop 24 = dktX4_weight_1 := dk_seg dksX4_weight_0 24 rfl rfl
theorem dX4_weight_0 : decode cX4_weight 0 = .ok (.iload_n 2, 1) := dk_28 (dk_at dksX4_weight_0 0 rfl rfl)
theorem dX4_weight_1 : decode cX4_weight 1 = .ok (.iconst 0, 1) := dk_3 (dk_at dksX4_weight_0 1 rfl rfl)
theorem dX4_weight_2 : decode cX4_weight 2 = .ok (.aload_n 0, 1) := dk_42 (dk_at dksX4_weight_0 2 rfl rfl)
theorem dX4_weight_3 : decode cX4_weight 3 = .ok (.getfield 7, 3) := dk_180 0 7 (dk_at dksX4_weight_0 3 rfl rfl)
theorem dX4_weight_6 : decode cX4_weight 6 = .ok (.iconst 2, 1) := dk_5 (dk_at dksX4_weight_0 6 rfl rfl)
theorem dX4_weight_7 : decode cX4_weight 7 = .ok (.iaload, 1) := dk_46 (dk_at dksX4_weight_0 7 rfl rfl)
theorem dX4_weight_8 : decode cX4_weight 8 = .ok (.iconst 1, 1) := dk_4 (dk_at dksX4_weight_0 8 rfl rfl)
theorem dX4_weight_9 : decode cX4_weight 9 = .ok (.isub, 1) := dk_100 (dk_at dksX4_weight_0 9 rfl rfl)
theorem dX4_weight_10 : decode cX4_weight 10 = .ok (.invokestatic 199, 3) := dk_184 0 199 (dk_at dksX4_weight_0 10 rfl rfl)
theorem dX4_weight_13 : decode cX4_weight 13 = .ok (.ifCond .eq 11, 3) := dk_153 0 11 (dk_at dksX4_weight_0 13 rfl rfl)
theorem dX4_weight_16 : decode cX4_weight 16 = .ok (.aload_n 0, 1) := dk_42 (dk_at dksX4_weight_0 16 rfl rfl)
theorem dX4_weight_17 : decode cX4_weight 17 = .ok (.iload_n 1, 1) := dk_27 (dk_at dksX4_weight_0 17 rfl rfl)
theorem dX4_weight_18 : decode cX4_weight 18 = .ok (.invokevirtual 471, 3) := dk_182 1 215 (dk_at dksX4_weight_0 18 rfl rfl)
theorem dX4_weight_21 : decode cX4_weight 21 = .ok (.ifCond .ne 5, 3) := dk_154 0 5 (dk_at dksX4_weight_0 21 rfl rfl)
theorem dX4_weight_24 : decode cX4_weight 24 = .ok (.iconst (-1), 1) := dk_2 (dk_at dksX4_weight_1 0 rfl rfl)
theorem dX4_weight_25 : decode cX4_weight 25 = .ok (.ireturn, 1) := dk_172 (dk_at dksX4_weight_1 1 rfl rfl)
theorem dX4_weight_26 : decode cX4_weight 26 = .ok (.aload_n 0, 1) := dk_42 (dk_at dksX4_weight_1 2 rfl rfl)
theorem dX4_weight_27 : decode cX4_weight 27 = .ok (.invokevirtual 519, 3) := dk_182 2 7 (dk_at dksX4_weight_1 3 rfl rfl)
theorem dX4_weight_30 : decode cX4_weight 30 = .ok (.aload_n 0, 1) := dk_42 (dk_at dksX4_weight_1 6 rfl rfl)
theorem dX4_weight_31 : decode cX4_weight 31 = .ok (.invokevirtual 522, 3) := dk_182 2 10 (dk_at dksX4_weight_1 7 rfl rfl)
theorem dX4_weight_34 : decode cX4_weight 34 = .ok (.istore_n 3, 1) := dk_62 (dk_at dksX4_weight_1 10 rfl rfl)
theorem dX4_weight_35 : decode cX4_weight 35 = .ok (.aload_n 0, 1) := dk_42 (dk_at dksX4_weight_1 11 rfl rfl)
theorem dX4_weight_36 : decode cX4_weight 36 = .ok (.getfield 160, 3) := dk_180 0 160 (dk_at dksX4_weight_1 12 rfl rfl)
theorem dX4_weight_39 : decode cX4_weight 39 = .ok (.iload_n 2, 1) := dk_28 (dk_at dksX4_weight_1 15 rfl rfl)
theorem dX4_weight_40 : decode cX4_weight 40 = .ok (.iaload, 1) := dk_46 (dk_at dksX4_weight_1 16 rfl rfl)
theorem dX4_weight_41 : decode cX4_weight 41 = .ok (.ireturn, 1) := dk_172 (dk_at dksX4_weight_1 17 rfl rfl)
abbrev cX4_same : ByteArray := prog_23_method_81_code
def yX4_same : MethodName := ⟨RX4, "same", "(II)Z"⟩
def dkwX4_same_1 : List UInt8 := [153, 0, 15, 42, 182, 2, 10, 29, 160, 0, 7, 4, 167, 0, 4, 3, 172]
abbrev dktX4_same_1 : List UInt8 := dkwX4_same_1 ++ []
def dkwX4_same_0 : List UInt8 := [42, 27, 182, 1, 215, 154, 0, 5, 3, 172, 42, 182, 2, 7, 42, 182, 2, 10, 62, 42, 28, 182, 1, 199]
abbrev dktX4_same_0 : List UInt8 := dkwX4_same_0 ++ dktX4_same_1
theorem dksX4_same_0 : cX4_same.data.toList.drop 0 = dktX4_same_0 := by decide +kernel
theorem dksX4_same_1 : cX4_same.data.toList.drop 24 = dktX4_same_1 := dk_seg dksX4_same_0 24 rfl rfl
theorem dX4_same_0 : decode cX4_same 0 = .ok (.aload_n 0, 1) := dk_42 (dk_at dksX4_same_0 0 rfl rfl)
theorem dX4_same_1 : decode cX4_same 1 = .ok (.iload_n 1, 1) := dk_27 (dk_at dksX4_same_0 1 rfl rfl)
theorem dX4_same_2 : decode cX4_same 2 = .ok (.invokevirtual 471, 3) := dk_182 1 215 (dk_at dksX4_same_0 2 rfl rfl)
theorem dX4_same_5 : decode cX4_same 5 = .ok (.ifCond .ne 5, 3) := dk_154 0 5 (dk_at dksX4_same_0 5 rfl rfl)
theorem dX4_same_8 : decode cX4_same 8 = .ok (.iconst 0, 1) := dk_3 (dk_at dksX4_same_0 8 rfl rfl)
theorem dX4_same_9 : decode cX4_same 9 = .ok (.ireturn, 1) := dk_172 (dk_at dksX4_same_0 9 rfl rfl)
theorem dX4_same_10 : decode cX4_same 10 = .ok (.aload_n 0, 1) := dk_42 (dk_at dksX4_same_0 10 rfl rfl)
theorem dX4_same_11 : decode cX4_same 11 = .ok (.invokevirtual 519, 3) := dk_182 2 7 (dk_at dksX4_same_0 11 rfl rfl)
theorem dX4_same_14 : decode cX4_same 14 = .ok (.aload_n 0, 1) := dk_42 (dk_at dksX4_same_0 14 rfl rfl)
theorem dX4_same_15 : decode cX4_same 15 = .ok (.invokevirtual 522, 3) := dk_182 2 10 (dk_at dksX4_same_0 15 rfl rfl)
theorem dX4_same_18 : decode cX4_same 18 = .ok (.istore_n 3, 1) := dk_62 (dk_at dksX4_same_0 18 rfl rfl)
theorem dX4_same_19 : decode cX4_same 19 = .ok (.aload_n 0, 1) := dk_42 (dk_at dksX4_same_0 19 rfl rfl)
theorem dX4_same_20 : decode cX4_same 20 = .ok (.iload_n 2, 1) := dk_28 (dk_at dksX4_same_0 20 rfl rfl)
theorem dX4_same_21 : decode cX4_same 21 = .ok (.invokevirtual 455, 3) := dk_182 1 199 (dk_at dksX4_same_0 21 rfl rfl)
theorem dX4_same_24 : decode cX4_same 24 = .ok (.ifCond .eq 15, 3) := dk_153 0 15 (dk_at dksX4_same_1 0 rfl rfl)
theorem dX4_same_27 : decode cX4_same 27 = .ok (.aload_n 0, 1) := dk_42 (dk_at dksX4_same_1 3 rfl rfl)
theorem dX4_same_28 : decode cX4_same 28 = .ok (.invokevirtual 522, 3) := dk_182 2 10 (dk_at dksX4_same_1 4 rfl rfl)
theorem dX4_same_31 : decode cX4_same 31 = .ok (.iload_n 3, 1) := dk_29 (dk_at dksX4_same_1 7 rfl rfl)
theorem dX4_same_32 : decode cX4_same 32 = .ok (.if_icmp .ne 7, 3) := dk_160 0 7 (dk_at dksX4_same_1 8 rfl rfl)
theorem dX4_same_35 : decode cX4_same 35 = .ok (.iconst 1, 1) := dk_4 (dk_at dksX4_same_1 11 rfl rfl)
theorem dX4_same_36 : decode cX4_same 36 = .ok (.goto 4, 3) := dk_167 0 4 (dk_at dksX4_same_1 12 rfl rfl)
theorem dX4_same_39 : decode cX4_same 39 = .ok (.iconst 0, 1) := dk_3 (dk_at dksX4_same_1 15 rfl rfl)
theorem dX4_same_40 : decode cX4_same 40 = .ok (.ireturn, 1) := dk_172 (dk_at dksX4_same_1 16 rfl rfl)
abbrev cX4_kin : ByteArray := prog_23_method_82_code
def yX4_kin : MethodName := ⟨RX4, "kin", "(I)I"⟩
def dkwX4_kin_3 : List UInt8 := [160, 0, 7, 4, 167, 0, 4, 3, 96, 54, 4, 132, 5, 1, 167, 255, 216, 21, 4, 172]
abbrev dktX4_kin_3 : List UInt8 := dkwX4_kin_3 ++ []
def dkwX4_kin_2 : List UInt8 := [162, 0, 40, 42, 21, 5, 182, 1, 199, 54, 6, 21, 4, 21, 6, 153, 0, 15, 42, 182, 2, 10, 28]
abbrev dktX4_kin_2 : List UInt8 := dkwX4_kin_2 ++ dktX4_kin_3
def dkwX4_kin_1 : List UInt8 := [182, 2, 7, 42, 182, 2, 10, 61, 42, 182, 1, 188, 136, 62, 3, 54, 4, 3, 54, 5, 21, 5, 29]
abbrev dktX4_kin_1 : List UInt8 := dkwX4_kin_1 ++ dktX4_kin_2
def dkwX4_kin_0 : List UInt8 := [42, 27, 182, 1, 215, 153, 0, 14, 42, 182, 1, 188, 20, 2, 13, 148, 158, 0, 5, 2, 172, 42]
abbrev dktX4_kin_0 : List UInt8 := dkwX4_kin_0 ++ dktX4_kin_1
theorem dksX4_kin_0 : cX4_kin.data.toList.drop 0 = dktX4_kin_0 := by decide +kernel
theorem dksX4_kin_1 : cX4_kin.data.toList.drop 22 = dktX4_kin_1 := dk_seg dksX4_kin_0 22 rfl rfl
theorem dksX4_kin_2 : cX4_kin.data.toList.drop 45 = dktX4_kin_2 := dk_seg dksX4_kin_1 23 rfl rfl
theorem dksX4_kin_3 : cX4_kin.data.toList.drop 68 = dktX4_kin_3 := dk_seg dksX4_kin_2 23 rfl rfl
theorem dX4_kin_0 : decode cX4_kin 0 = .ok (.aload_n 0, 1) := dk_42 (dk_at dksX4_kin_0 0 rfl rfl)
theorem dX4_kin_1 : decode cX4_kin 1 = .ok (.iload_n 1, 1) := dk_27 (dk_at dksX4_kin_0 1 rfl rfl)
theorem dX4_kin_2 : decode cX4_kin 2 = .ok (.invokevirtual 471, 3) := dk_182 1 215 (dk_at dksX4_kin_0 2 rfl rfl)
theorem dX4_kin_5 : decode cX4_kin 5 = .ok (.ifCond .eq 14, 3) := dk_153 0 14 (dk_at dksX4_kin_0 5 rfl rfl)
theorem dX4_kin_8 : decode cX4_kin 8 = .ok (.aload_n 0, 1) := dk_42 (dk_at dksX4_kin_0 8 rfl rfl)
theorem dX4_kin_9 : decode cX4_kin 9 = .ok (.invokevirtual 444, 3) := dk_182 1 188 (dk_at dksX4_kin_0 9 rfl rfl)
theorem dX4_kin_12 : decode cX4_kin 12 = .ok (.ldc2_w 525, 3) := dk_20 2 13 (dk_at dksX4_kin_0 12 rfl rfl)
theorem dX4_kin_15 : decode cX4_kin 15 = .ok (.lcmp, 1) := dk_148 (dk_at dksX4_kin_0 15 rfl rfl)
theorem dX4_kin_16 : decode cX4_kin 16 = .ok (.ifCond .le 5, 3) := dk_158 0 5 (dk_at dksX4_kin_0 16 rfl rfl)
theorem dX4_kin_19 : decode cX4_kin 19 = .ok (.iconst (-1), 1) := dk_2 (dk_at dksX4_kin_0 19 rfl rfl)
theorem dX4_kin_20 : decode cX4_kin 20 = .ok (.ireturn, 1) := dk_172 (dk_at dksX4_kin_0 20 rfl rfl)
theorem dX4_kin_21 : decode cX4_kin 21 = .ok (.aload_n 0, 1) := dk_42 (dk_at dksX4_kin_0 21 rfl rfl)
theorem dX4_kin_22 : decode cX4_kin 22 = .ok (.invokevirtual 519, 3) := dk_182 2 7 (dk_at dksX4_kin_1 0 rfl rfl)
theorem dX4_kin_25 : decode cX4_kin 25 = .ok (.aload_n 0, 1) := dk_42 (dk_at dksX4_kin_1 3 rfl rfl)
theorem dX4_kin_26 : decode cX4_kin 26 = .ok (.invokevirtual 522, 3) := dk_182 2 10 (dk_at dksX4_kin_1 4 rfl rfl)
theorem dX4_kin_29 : decode cX4_kin 29 = .ok (.istore_n 2, 1) := dk_61 (dk_at dksX4_kin_1 7 rfl rfl)
theorem dX4_kin_30 : decode cX4_kin 30 = .ok (.aload_n 0, 1) := dk_42 (dk_at dksX4_kin_1 8 rfl rfl)
theorem dX4_kin_31 : decode cX4_kin 31 = .ok (.invokevirtual 444, 3) := dk_182 1 188 (dk_at dksX4_kin_1 9 rfl rfl)
theorem dX4_kin_34 : decode cX4_kin 34 = .ok (.l2i, 1) := dk_136 (dk_at dksX4_kin_1 12 rfl rfl)
theorem dX4_kin_35 : decode cX4_kin 35 = .ok (.istore_n 3, 1) := dk_62 (dk_at dksX4_kin_1 13 rfl rfl)
theorem dX4_kin_36 : decode cX4_kin 36 = .ok (.iconst 0, 1) := dk_3 (dk_at dksX4_kin_1 14 rfl rfl)
theorem dX4_kin_37 : decode cX4_kin 37 = .ok (.istore 4, 2) := dk_54 4 (dk_at dksX4_kin_1 15 rfl rfl)
theorem dX4_kin_39 : decode cX4_kin 39 = .ok (.iconst 0, 1) := dk_3 (dk_at dksX4_kin_1 17 rfl rfl)
theorem dX4_kin_40 : decode cX4_kin 40 = .ok (.istore 5, 2) := dk_54 5 (dk_at dksX4_kin_1 18 rfl rfl)
theorem dX4_kin_42 : decode cX4_kin 42 = .ok (.iload 5, 2) := dk_21 5 (dk_at dksX4_kin_1 20 rfl rfl)
theorem dX4_kin_44 : decode cX4_kin 44 = .ok (.iload_n 3, 1) := dk_29 (dk_at dksX4_kin_1 22 rfl rfl)
theorem dX4_kin_45 : decode cX4_kin 45 = .ok (.if_icmp .ge 40, 3) := dk_162 0 40 (dk_at dksX4_kin_2 0 rfl rfl)
theorem dX4_kin_48 : decode cX4_kin 48 = .ok (.aload_n 0, 1) := dk_42 (dk_at dksX4_kin_2 3 rfl rfl)
theorem dX4_kin_49 : decode cX4_kin 49 = .ok (.iload 5, 2) := dk_21 5 (dk_at dksX4_kin_2 4 rfl rfl)
theorem dX4_kin_51 : decode cX4_kin 51 = .ok (.invokevirtual 455, 3) := dk_182 1 199 (dk_at dksX4_kin_2 6 rfl rfl)
theorem dX4_kin_54 : decode cX4_kin 54 = .ok (.istore 6, 2) := dk_54 6 (dk_at dksX4_kin_2 9 rfl rfl)
theorem dX4_kin_56 : decode cX4_kin 56 = .ok (.iload 4, 2) := dk_21 4 (dk_at dksX4_kin_2 11 rfl rfl)
theorem dX4_kin_58 : decode cX4_kin 58 = .ok (.iload 6, 2) := dk_21 6 (dk_at dksX4_kin_2 13 rfl rfl)
theorem dX4_kin_60 : decode cX4_kin 60 = .ok (.ifCond .eq 15, 3) := dk_153 0 15 (dk_at dksX4_kin_2 15 rfl rfl)
theorem dX4_kin_63 : decode cX4_kin 63 = .ok (.aload_n 0, 1) := dk_42 (dk_at dksX4_kin_2 18 rfl rfl)
theorem dX4_kin_64 : decode cX4_kin 64 = .ok (.invokevirtual 522, 3) := dk_182 2 10 (dk_at dksX4_kin_2 19 rfl rfl)
theorem dX4_kin_67 : decode cX4_kin 67 = .ok (.iload_n 2, 1) := dk_28 (dk_at dksX4_kin_2 22 rfl rfl)
theorem dX4_kin_68 : decode cX4_kin 68 = .ok (.if_icmp .ne 7, 3) := dk_160 0 7 (dk_at dksX4_kin_3 0 rfl rfl)
theorem dX4_kin_71 : decode cX4_kin 71 = .ok (.iconst 1, 1) := dk_4 (dk_at dksX4_kin_3 3 rfl rfl)
theorem dX4_kin_72 : decode cX4_kin 72 = .ok (.goto 4, 3) := dk_167 0 4 (dk_at dksX4_kin_3 4 rfl rfl)
theorem dX4_kin_75 : decode cX4_kin 75 = .ok (.iconst 0, 1) := dk_3 (dk_at dksX4_kin_3 7 rfl rfl)
theorem dX4_kin_76 : decode cX4_kin 76 = .ok (.iadd, 1) := dk_96 (dk_at dksX4_kin_3 8 rfl rfl)
theorem dX4_kin_77 : decode cX4_kin 77 = .ok (.istore 4, 2) := dk_54 4 (dk_at dksX4_kin_3 9 rfl rfl)
theorem dX4_kin_79 : decode cX4_kin 79 = .ok (.iinc 5 1, 3) := dk_132 5 1 (dk_at dksX4_kin_3 11 rfl rfl)
theorem dX4_kin_82 : decode cX4_kin 82 = .ok (.goto (-40), 3) := dk_167 255 216 (dk_at dksX4_kin_3 14 rfl rfl)
theorem dX4_kin_85 : decode cX4_kin 85 = .ok (.iload 4, 2) := dk_21 4 (dk_at dksX4_kin_3 17 rfl rfl)
theorem dX4_kin_87 : decode cX4_kin 87 = .ok (.ireturn, 1) := dk_172 (dk_at dksX4_kin_3 19 rfl rfl)
abbrev cX4_meant : ByteArray := prog_23_method_83_code
def yX4_meant : MethodName := ⟨RX4, "meant", "()I"⟩
def dkwX4_meant_4 : List UInt8 := [4, 84, 132, 3, 1, 167, 255, 209, 28, 172]
abbrev dktX4_meant_4 : List UInt8 := dkwX4_meant_4 ++ []
def dkwX4_meant_3 : List UInt8 := [28, 42, 180, 0, 163, 21, 5, 51, 153, 0, 7, 3, 167, 0, 4, 4, 96, 61, 42, 180, 0, 163, 21, 5]
abbrev dktX4_meant_3 : List UInt8 := dkwX4_meant_3 ++ dktX4_meant_4
def dkwX4_meant_2 : List UInt8 := [136, 60, 3, 61, 3, 62, 29, 27, 162, 0, 48, 42, 29, 182, 1, 199, 54, 4, 42, 182, 2, 10, 54, 5]
abbrev dktX4_meant_2 : List UInt8 := dkwX4_meant_2 ++ dktX4_meant_3
def dkwX4_meant_1 : List UInt8 := [27, 17, 28, 132, 162, 0, 16, 42, 180, 0, 163, 27, 3, 84, 132, 1, 1, 167, 255, 239, 42, 182, 1, 188]
abbrev dktX4_meant_1 : List UInt8 := dkwX4_meant_1 ++ dktX4_meant_2
def dkwX4_meant_0 : List UInt8 := [42, 9, 182, 1, 184, 42, 182, 1, 188, 20, 2, 13, 148, 158, 0, 5, 2, 172, 42, 182, 2, 7, 3, 60]
abbrev dktX4_meant_0 : List UInt8 := dkwX4_meant_0 ++ dktX4_meant_1
theorem dksX4_meant_0 : cX4_meant.data.toList.drop 0 = dktX4_meant_0 := by decide +kernel
theorem dksX4_meant_1 : cX4_meant.data.toList.drop 24 = dktX4_meant_1 := dk_seg dksX4_meant_0 24 rfl rfl
theorem dksX4_meant_2 : cX4_meant.data.toList.drop 48 = dktX4_meant_2 := dk_seg dksX4_meant_1 24 rfl rfl
theorem dksX4_meant_3 : cX4_meant.data.toList.drop 72 = dktX4_meant_3 := dk_seg dksX4_meant_2 24 rfl rfl
theorem dksX4_meant_4 : cX4_meant.data.toList.drop 96 = dktX4_meant_4 := dk_seg dksX4_meant_3 24 rfl rfl
theorem dX4_meant_0 : decode cX4_meant 0 = .ok (.aload_n 0, 1) := dk_42 (dk_at dksX4_meant_0 0 rfl rfl)
theorem dX4_meant_1 : decode cX4_meant 1 = .ok (.lconst 0, 1) := dk_9 (dk_at dksX4_meant_0 1 rfl rfl)
theorem dX4_meant_2 : decode cX4_meant 2 = .ok (.invokevirtual 440, 3) := dk_182 1 184 (dk_at dksX4_meant_0 2 rfl rfl)
theorem dX4_meant_5 : decode cX4_meant 5 = .ok (.aload_n 0, 1) := dk_42 (dk_at dksX4_meant_0 5 rfl rfl)
theorem dX4_meant_6 : decode cX4_meant 6 = .ok (.invokevirtual 444, 3) := dk_182 1 188 (dk_at dksX4_meant_0 6 rfl rfl)
theorem dX4_meant_9 : decode cX4_meant 9 = .ok (.ldc2_w 525, 3) := dk_20 2 13 (dk_at dksX4_meant_0 9 rfl rfl)
theorem dX4_meant_12 : decode cX4_meant 12 = .ok (.lcmp, 1) := dk_148 (dk_at dksX4_meant_0 12 rfl rfl)
theorem dX4_meant_13 : decode cX4_meant 13 = .ok (.ifCond .le 5, 3) := dk_158 0 5 (dk_at dksX4_meant_0 13 rfl rfl)
theorem dX4_meant_16 : decode cX4_meant 16 = .ok (.iconst (-1), 1) := dk_2 (dk_at dksX4_meant_0 16 rfl rfl)
theorem dX4_meant_17 : decode cX4_meant 17 = .ok (.ireturn, 1) := dk_172 (dk_at dksX4_meant_0 17 rfl rfl)
theorem dX4_meant_18 : decode cX4_meant 18 = .ok (.aload_n 0, 1) := dk_42 (dk_at dksX4_meant_0 18 rfl rfl)
theorem dX4_meant_19 : decode cX4_meant 19 = .ok (.invokevirtual 519, 3) := dk_182 2 7 (dk_at dksX4_meant_0 19 rfl rfl)
theorem dX4_meant_22 : decode cX4_meant 22 = .ok (.iconst 0, 1) := dk_3 (dk_at dksX4_meant_0 22 rfl rfl)
theorem dX4_meant_23 : decode cX4_meant 23 = .ok (.istore_n 1, 1) := dk_60 (dk_at dksX4_meant_0 23 rfl rfl)
theorem dX4_meant_24 : decode cX4_meant 24 = .ok (.iload_n 1, 1) := dk_27 (dk_at dksX4_meant_1 0 rfl rfl)
theorem dX4_meant_25 : decode cX4_meant 25 = .ok (.sipush 7300, 3) := dk_17 28 132 (dk_at dksX4_meant_1 1 rfl rfl)
theorem dX4_meant_28 : decode cX4_meant 28 = .ok (.if_icmp .ge 16, 3) := dk_162 0 16 (dk_at dksX4_meant_1 4 rfl rfl)
theorem dX4_meant_31 : decode cX4_meant 31 = .ok (.aload_n 0, 1) := dk_42 (dk_at dksX4_meant_1 7 rfl rfl)
theorem dX4_meant_32 : decode cX4_meant 32 = .ok (.getfield 163, 3) := dk_180 0 163 (dk_at dksX4_meant_1 8 rfl rfl)
theorem dX4_meant_35 : decode cX4_meant 35 = .ok (.iload_n 1, 1) := dk_27 (dk_at dksX4_meant_1 11 rfl rfl)
theorem dX4_meant_36 : decode cX4_meant 36 = .ok (.iconst 0, 1) := dk_3 (dk_at dksX4_meant_1 12 rfl rfl)
theorem dX4_meant_37 : decode cX4_meant 37 = .ok (.bastore, 1) := dk_84 (dk_at dksX4_meant_1 13 rfl rfl)
theorem dX4_meant_38 : decode cX4_meant 38 = .ok (.iinc 1 1, 3) := dk_132 1 1 (dk_at dksX4_meant_1 14 rfl rfl)
theorem dX4_meant_41 : decode cX4_meant 41 = .ok (.goto (-17), 3) := dk_167 255 239 (dk_at dksX4_meant_1 17 rfl rfl)
theorem dX4_meant_44 : decode cX4_meant 44 = .ok (.aload_n 0, 1) := dk_42 (dk_at dksX4_meant_1 20 rfl rfl)
theorem dX4_meant_45 : decode cX4_meant 45 = .ok (.invokevirtual 444, 3) := dk_182 1 188 (dk_at dksX4_meant_1 21 rfl rfl)
theorem dX4_meant_48 : decode cX4_meant 48 = .ok (.l2i, 1) := dk_136 (dk_at dksX4_meant_2 0 rfl rfl)
theorem dX4_meant_49 : decode cX4_meant 49 = .ok (.istore_n 1, 1) := dk_60 (dk_at dksX4_meant_2 1 rfl rfl)
theorem dX4_meant_50 : decode cX4_meant 50 = .ok (.iconst 0, 1) := dk_3 (dk_at dksX4_meant_2 2 rfl rfl)
theorem dX4_meant_51 : decode cX4_meant 51 = .ok (.istore_n 2, 1) := dk_61 (dk_at dksX4_meant_2 3 rfl rfl)
theorem dX4_meant_52 : decode cX4_meant 52 = .ok (.iconst 0, 1) := dk_3 (dk_at dksX4_meant_2 4 rfl rfl)
theorem dX4_meant_53 : decode cX4_meant 53 = .ok (.istore_n 3, 1) := dk_62 (dk_at dksX4_meant_2 5 rfl rfl)
theorem dX4_meant_54 : decode cX4_meant 54 = .ok (.iload_n 3, 1) := dk_29 (dk_at dksX4_meant_2 6 rfl rfl)
theorem dX4_meant_55 : decode cX4_meant 55 = .ok (.iload_n 1, 1) := dk_27 (dk_at dksX4_meant_2 7 rfl rfl)
theorem dX4_meant_56 : decode cX4_meant 56 = .ok (.if_icmp .ge 48, 3) := dk_162 0 48 (dk_at dksX4_meant_2 8 rfl rfl)
theorem dX4_meant_59 : decode cX4_meant 59 = .ok (.aload_n 0, 1) := dk_42 (dk_at dksX4_meant_2 11 rfl rfl)
theorem dX4_meant_60 : decode cX4_meant 60 = .ok (.iload_n 3, 1) := dk_29 (dk_at dksX4_meant_2 12 rfl rfl)
theorem dX4_meant_61 : decode cX4_meant 61 = .ok (.invokevirtual 455, 3) := dk_182 1 199 (dk_at dksX4_meant_2 13 rfl rfl)
theorem dX4_meant_64 : decode cX4_meant 64 = .ok (.istore 4, 2) := dk_54 4 (dk_at dksX4_meant_2 16 rfl rfl)
theorem dX4_meant_66 : decode cX4_meant 66 = .ok (.aload_n 0, 1) := dk_42 (dk_at dksX4_meant_2 18 rfl rfl)
theorem dX4_meant_67 : decode cX4_meant 67 = .ok (.invokevirtual 522, 3) := dk_182 2 10 (dk_at dksX4_meant_2 19 rfl rfl)
theorem dX4_meant_70 : decode cX4_meant 70 = .ok (.istore 5, 2) := dk_54 5 (dk_at dksX4_meant_2 22 rfl rfl)
theorem dX4_meant_72 : decode cX4_meant 72 = .ok (.iload_n 2, 1) := dk_28 (dk_at dksX4_meant_3 0 rfl rfl)
theorem dX4_meant_73 : decode cX4_meant 73 = .ok (.aload_n 0, 1) := dk_42 (dk_at dksX4_meant_3 1 rfl rfl)
theorem dX4_meant_74 : decode cX4_meant 74 = .ok (.getfield 163, 3) := dk_180 0 163 (dk_at dksX4_meant_3 2 rfl rfl)
theorem dX4_meant_77 : decode cX4_meant 77 = .ok (.iload 5, 2) := dk_21 5 (dk_at dksX4_meant_3 5 rfl rfl)
theorem dX4_meant_79 : decode cX4_meant 79 = .ok (.baload, 1) := dk_51 (dk_at dksX4_meant_3 7 rfl rfl)
theorem dX4_meant_80 : decode cX4_meant 80 = .ok (.ifCond .eq 7, 3) := dk_153 0 7 (dk_at dksX4_meant_3 8 rfl rfl)
theorem dX4_meant_83 : decode cX4_meant 83 = .ok (.iconst 0, 1) := dk_3 (dk_at dksX4_meant_3 11 rfl rfl)
theorem dX4_meant_84 : decode cX4_meant 84 = .ok (.goto 4, 3) := dk_167 0 4 (dk_at dksX4_meant_3 12 rfl rfl)
theorem dX4_meant_87 : decode cX4_meant 87 = .ok (.iconst 1, 1) := dk_4 (dk_at dksX4_meant_3 15 rfl rfl)
theorem dX4_meant_88 : decode cX4_meant 88 = .ok (.iadd, 1) := dk_96 (dk_at dksX4_meant_3 16 rfl rfl)
theorem dX4_meant_89 : decode cX4_meant 89 = .ok (.istore_n 2, 1) := dk_61 (dk_at dksX4_meant_3 17 rfl rfl)
theorem dX4_meant_90 : decode cX4_meant 90 = .ok (.aload_n 0, 1) := dk_42 (dk_at dksX4_meant_3 18 rfl rfl)
theorem dX4_meant_91 : decode cX4_meant 91 = .ok (.getfield 163, 3) := dk_180 0 163 (dk_at dksX4_meant_3 19 rfl rfl)
theorem dX4_meant_94 : decode cX4_meant 94 = .ok (.iload 5, 2) := dk_21 5 (dk_at dksX4_meant_3 22 rfl rfl)
theorem dX4_meant_96 : decode cX4_meant 96 = .ok (.iconst 1, 1) := dk_4 (dk_at dksX4_meant_4 0 rfl rfl)
theorem dX4_meant_97 : decode cX4_meant 97 = .ok (.bastore, 1) := dk_84 (dk_at dksX4_meant_4 1 rfl rfl)
theorem dX4_meant_98 : decode cX4_meant 98 = .ok (.iinc 3 1, 3) := dk_132 3 1 (dk_at dksX4_meant_4 2 rfl rfl)
theorem dX4_meant_101 : decode cX4_meant 101 = .ok (.goto (-47), 3) := dk_167 255 209 (dk_at dksX4_meant_4 5 rfl rfl)
theorem dX4_meant_104 : decode cX4_meant 104 = .ok (.iload_n 2, 1) := dk_28 (dk_at dksX4_meant_4 8 rfl rfl)
theorem dX4_meant_105 : decode cX4_meant 105 = .ok (.ireturn, 1) := dk_172 (dk_at dksX4_meant_4 9 rfl rfl)
abbrev cX4_hear : ByteArray := prog_23_method_88_code
def yX4_hear : MethodName := ⟨RX4, "hear", "(IIII)I"⟩
def dkwX4_hear_5 : List UInt8 := [180, 1, 236, 172, 42, 180, 2, 25, 172]
abbrev dktX4_hear_5 : List UInt8 := dkwX4_hear_5 ++ []
def dkwX4_hear_4 : List UInt8 := [21, 5, 153, 0, 7, 4, 167, 0, 4, 3, 172, 42, 180, 2, 22, 172, 42, 180, 2, 19, 172, 42]
abbrev dktX4_hear_4 : List UInt8 := dkwX4_hear_4 ++ dktX4_hear_5
def dkwX4_hear_3 : List UInt8 := [170, 0, 0, 0, 0, 0, 57, 0, 0, 0, 0, 0, 0, 0, 3, 0, 0, 0, 31, 0, 0, 0, 42, 0, 0, 0, 47, 0, 0, 0, 52]
abbrev dktX4_hear_3 : List UInt8 := dkwX4_hear_3 ++ dktX4_hear_4
def dkwX4_hear_2 : List UInt8 := [182, 2, 10, 182, 2, 41, 54, 5, 21, 4]
abbrev dktX4_hear_2 : List UInt8 := dkwX4_hear_2 ++ dktX4_hear_3
def dkwX4_hear_1 : List UInt8 := [184, 0, 199, 153, 0, 11, 42, 27, 182, 1, 215, 154, 0, 5, 2, 172, 42, 182, 2, 7, 42, 28, 29, 42]
abbrev dktX4_hear_1 : List UInt8 := dkwX4_hear_1 ++ dktX4_hear_2
def dkwX4_hear_0 : List UInt8 := [28, 4, 16, 24, 184, 0, 199, 153, 0, 30, 29, 3, 6, 184, 0, 199, 153, 0, 21, 21, 4, 3, 7]
abbrev dktX4_hear_0 : List UInt8 := dkwX4_hear_0 ++ dktX4_hear_1
theorem dksX4_hear_0 : cX4_hear.data.toList.drop 0 = dktX4_hear_0 := by decide +kernel
theorem dksX4_hear_1 : cX4_hear.data.toList.drop 23 = dktX4_hear_1 := dk_seg dksX4_hear_0 23 rfl rfl
theorem dksX4_hear_2 : cX4_hear.data.toList.drop 47 = dktX4_hear_2 := dk_seg dksX4_hear_1 24 rfl rfl
theorem dksX4_hear_3 : cX4_hear.data.toList.drop 57 = dktX4_hear_3 := dk_seg dksX4_hear_2 10 rfl rfl
theorem dksX4_hear_4 : cX4_hear.data.toList.drop 88 = dktX4_hear_4 := dk_seg dksX4_hear_3 31 rfl rfl
theorem dksX4_hear_5 : cX4_hear.data.toList.drop 110 = dktX4_hear_5 := dk_seg dksX4_hear_4 22 rfl rfl
theorem dX4_hear_0 : decode cX4_hear 0 = .ok (.iload_n 2, 1) := dk_28 (dk_at dksX4_hear_0 0 rfl rfl)
theorem dX4_hear_1 : decode cX4_hear 1 = .ok (.iconst 1, 1) := dk_4 (dk_at dksX4_hear_0 1 rfl rfl)
theorem dX4_hear_2 : decode cX4_hear 2 = .ok (.bipush 24, 2) := dk_16 24 (dk_at dksX4_hear_0 2 rfl rfl)
theorem dX4_hear_4 : decode cX4_hear 4 = .ok (.invokestatic 199, 3) := dk_184 0 199 (dk_at dksX4_hear_0 4 rfl rfl)
theorem dX4_hear_7 : decode cX4_hear 7 = .ok (.ifCond .eq 30, 3) := dk_153 0 30 (dk_at dksX4_hear_0 7 rfl rfl)
theorem dX4_hear_10 : decode cX4_hear 10 = .ok (.iload_n 3, 1) := dk_29 (dk_at dksX4_hear_0 10 rfl rfl)
theorem dX4_hear_11 : decode cX4_hear 11 = .ok (.iconst 0, 1) := dk_3 (dk_at dksX4_hear_0 11 rfl rfl)
theorem dX4_hear_12 : decode cX4_hear 12 = .ok (.iconst 3, 1) := dk_6 (dk_at dksX4_hear_0 12 rfl rfl)
theorem dX4_hear_13 : decode cX4_hear 13 = .ok (.invokestatic 199, 3) := dk_184 0 199 (dk_at dksX4_hear_0 13 rfl rfl)
theorem dX4_hear_16 : decode cX4_hear 16 = .ok (.ifCond .eq 21, 3) := dk_153 0 21 (dk_at dksX4_hear_0 16 rfl rfl)
theorem dX4_hear_19 : decode cX4_hear 19 = .ok (.iload 4, 2) := dk_21 4 (dk_at dksX4_hear_0 19 rfl rfl)
theorem dX4_hear_21 : decode cX4_hear 21 = .ok (.iconst 0, 1) := dk_3 (dk_at dksX4_hear_0 21 rfl rfl)
theorem dX4_hear_22 : decode cX4_hear 22 = .ok (.iconst 4, 1) := dk_7 (dk_at dksX4_hear_0 22 rfl rfl)
theorem dX4_hear_23 : decode cX4_hear 23 = .ok (.invokestatic 199, 3) := dk_184 0 199 (dk_at dksX4_hear_1 0 rfl rfl)
theorem dX4_hear_26 : decode cX4_hear 26 = .ok (.ifCond .eq 11, 3) := dk_153 0 11 (dk_at dksX4_hear_1 3 rfl rfl)
theorem dX4_hear_29 : decode cX4_hear 29 = .ok (.aload_n 0, 1) := dk_42 (dk_at dksX4_hear_1 6 rfl rfl)
theorem dX4_hear_30 : decode cX4_hear 30 = .ok (.iload_n 1, 1) := dk_27 (dk_at dksX4_hear_1 7 rfl rfl)
theorem dX4_hear_31 : decode cX4_hear 31 = .ok (.invokevirtual 471, 3) := dk_182 1 215 (dk_at dksX4_hear_1 8 rfl rfl)
theorem dX4_hear_34 : decode cX4_hear 34 = .ok (.ifCond .ne 5, 3) := dk_154 0 5 (dk_at dksX4_hear_1 11 rfl rfl)
theorem dX4_hear_37 : decode cX4_hear 37 = .ok (.iconst (-1), 1) := dk_2 (dk_at dksX4_hear_1 14 rfl rfl)
theorem dX4_hear_38 : decode cX4_hear 38 = .ok (.ireturn, 1) := dk_172 (dk_at dksX4_hear_1 15 rfl rfl)
theorem dX4_hear_39 : decode cX4_hear 39 = .ok (.aload_n 0, 1) := dk_42 (dk_at dksX4_hear_1 16 rfl rfl)
theorem dX4_hear_40 : decode cX4_hear 40 = .ok (.invokevirtual 519, 3) := dk_182 2 7 (dk_at dksX4_hear_1 17 rfl rfl)
theorem dX4_hear_43 : decode cX4_hear 43 = .ok (.aload_n 0, 1) := dk_42 (dk_at dksX4_hear_1 20 rfl rfl)
theorem dX4_hear_44 : decode cX4_hear 44 = .ok (.iload_n 2, 1) := dk_28 (dk_at dksX4_hear_1 21 rfl rfl)
theorem dX4_hear_45 : decode cX4_hear 45 = .ok (.iload_n 3, 1) := dk_29 (dk_at dksX4_hear_1 22 rfl rfl)
theorem dX4_hear_46 : decode cX4_hear 46 = .ok (.aload_n 0, 1) := dk_42 (dk_at dksX4_hear_1 23 rfl rfl)
theorem dX4_hear_47 : decode cX4_hear 47 = .ok (.invokevirtual 522, 3) := dk_182 2 10 (dk_at dksX4_hear_2 0 rfl rfl)
theorem dX4_hear_50 : decode cX4_hear 50 = .ok (.invokevirtual 553, 3) := dk_182 2 41 (dk_at dksX4_hear_2 3 rfl rfl)
theorem dX4_hear_53 : decode cX4_hear 53 = .ok (.istore 5, 2) := dk_54 5 (dk_at dksX4_hear_2 6 rfl rfl)
theorem dX4_hear_55 : decode cX4_hear 55 = .ok (.iload 4, 2) := dk_21 4 (dk_at dksX4_hear_2 8 rfl rfl)
theorem dX4_hear_57 : decode cX4_hear 57 = .ok (.tableswitch 57 0 3 #[31, 42, 47, 52], 31) := by decide +kernel
theorem dX4_hear_88 : decode cX4_hear 88 = .ok (.iload 5, 2) := dk_21 5 (dk_at dksX4_hear_4 0 rfl rfl)
theorem dX4_hear_90 : decode cX4_hear 90 = .ok (.ifCond .eq 7, 3) := dk_153 0 7 (dk_at dksX4_hear_4 2 rfl rfl)
theorem dX4_hear_93 : decode cX4_hear 93 = .ok (.iconst 1, 1) := dk_4 (dk_at dksX4_hear_4 5 rfl rfl)
theorem dX4_hear_94 : decode cX4_hear 94 = .ok (.goto 4, 3) := dk_167 0 4 (dk_at dksX4_hear_4 6 rfl rfl)
theorem dX4_hear_97 : decode cX4_hear 97 = .ok (.iconst 0, 1) := dk_3 (dk_at dksX4_hear_4 9 rfl rfl)
theorem dX4_hear_98 : decode cX4_hear 98 = .ok (.ireturn, 1) := dk_172 (dk_at dksX4_hear_4 10 rfl rfl)
theorem dX4_hear_99 : decode cX4_hear 99 = .ok (.aload_n 0, 1) := dk_42 (dk_at dksX4_hear_4 11 rfl rfl)
theorem dX4_hear_100 : decode cX4_hear 100 = .ok (.getfield 534, 3) := dk_180 2 22 (dk_at dksX4_hear_4 12 rfl rfl)
theorem dX4_hear_103 : decode cX4_hear 103 = .ok (.ireturn, 1) := dk_172 (dk_at dksX4_hear_4 15 rfl rfl)
theorem dX4_hear_104 : decode cX4_hear 104 = .ok (.aload_n 0, 1) := dk_42 (dk_at dksX4_hear_4 16 rfl rfl)
theorem dX4_hear_105 : decode cX4_hear 105 = .ok (.getfield 531, 3) := dk_180 2 19 (dk_at dksX4_hear_4 17 rfl rfl)
theorem dX4_hear_108 : decode cX4_hear 108 = .ok (.ireturn, 1) := dk_172 (dk_at dksX4_hear_4 20 rfl rfl)
theorem dX4_hear_109 : decode cX4_hear 109 = .ok (.aload_n 0, 1) := dk_42 (dk_at dksX4_hear_4 21 rfl rfl)
theorem dX4_hear_110 : decode cX4_hear 110 = .ok (.getfield 492, 3) := dk_180 1 236 (dk_at dksX4_hear_5 0 rfl rfl)
theorem dX4_hear_113 : decode cX4_hear 113 = .ok (.ireturn, 1) := dk_172 (dk_at dksX4_hear_5 3 rfl rfl)
theorem dX4_hear_114 : decode cX4_hear 114 = .ok (.aload_n 0, 1) := dk_42 (dk_at dksX4_hear_5 4 rfl rfl)
theorem dX4_hear_115 : decode cX4_hear 115 = .ok (.getfield 537, 3) := dk_180 2 25 (dk_at dksX4_hear_5 5 rfl rfl)
theorem dX4_hear_118 : decode cX4_hear 118 = .ok (.ireturn, 1) := dk_172 (dk_at dksX4_hear_5 8 rfl rfl)
abbrev cX4_hears : ByteArray := prog_23_method_87_code
def yX4_hears : MethodName := ⟨RX4, "hears", "(III)Z"⟩
def dkwX4_hears_9 : List UInt8 := [160, 0, 7, 4, 167, 0, 4, 3, 172]
abbrev dktX4_hears_9 : List UInt8 := dkwX4_hears_9 ++ []
def dkwX4_hears_8 : List UInt8 := [42, 180, 1, 236, 4, 160, 0, 26, 42, 180, 0, 148, 3, 46, 154, 0, 17, 42, 180, 0, 151, 3, 46, 29]
abbrev dktX4_hears_8 : List UInt8 := dkwX4_hears_8 ++ dktX4_hears_9
def dkwX4_hears_7 : List UInt8 := [21, 4, 182, 2, 35, 182, 2, 38, 167, 255, 196, 132, 4, 1, 167, 255, 107, 42, 180, 2, 28, 154, 0, 34]
abbrev dktX4_hears_7 : List UInt8 := dkwX4_hears_7 ++ dktX4_hears_8
def dkwX4_hears_6 : List UInt8 := [42, 180, 2, 25, 181, 2, 25, 28, 6, 160, 0, 11, 42, 4, 181, 2, 28, 167, 255, 210, 42, 42, 28]
abbrev dktX4_hears_6 : List UInt8 := dkwX4_hears_6 ++ dktX4_hears_7
def dkwX4_hears_5 : List UInt8 := [164, 0, 58, 42, 180, 2, 28, 154, 0, 51, 42, 42, 180, 2, 25, 2, 160, 0, 8, 21, 4, 167, 0, 7]
abbrev dktX4_hears_5 : List UInt8 := dkwX4_hears_5 ++ dktX4_hears_6
def dkwX4_hears_4 : List UInt8 := [180, 2, 25, 2, 160, 0, 8, 21, 4, 167, 0, 7, 42, 180, 2, 25, 181, 2, 25, 42, 180, 1, 236, 27]
abbrev dktX4_hears_4 : List UInt8 := dkwX4_hears_4 ++ dktX4_hears_5
def dkwX4_hears_3 : List UInt8 := [153, 0, 12, 42, 21, 4, 182, 2, 1, 167, 0, 34, 42, 89, 180, 2, 22, 4, 96, 181, 2, 22, 42, 42]
abbrev dktX4_hears_3 : List UInt8 := dkwX4_hears_3 ++ dktX4_hears_4
def dkwX4_hears_2 : List UInt8 := [42, 42, 42, 180, 0, 112, 21, 4, 46, 182, 1, 156, 42, 180, 0, 115, 21, 4, 46, 182, 2, 32]
abbrev dktX4_hears_2 : List UInt8 := dkwX4_hears_2 ++ dktX4_hears_3
def dkwX4_hears_1 : List UInt8 := [181, 2, 28, 3, 54, 4, 21, 4, 42, 180, 0, 7, 5, 46, 162, 0, 144, 42, 180, 2, 28, 154, 0, 137]
abbrev dktX4_hears_1 : List UInt8 := dkwX4_hears_1 ++ dktX4_hears_2
def dkwX4_hears_0 : List UInt8 := [42, 3, 181, 1, 236, 42, 3, 181, 2, 22, 42, 3, 181, 2, 19, 42, 2, 181, 2, 25, 42, 3]
abbrev dktX4_hears_0 : List UInt8 := dkwX4_hears_0 ++ dktX4_hears_1
theorem dksX4_hears_0 : cX4_hears.data.toList.drop 0 = dktX4_hears_0 := by decide +kernel
theorem dksX4_hears_1 : cX4_hears.data.toList.drop 22 = dktX4_hears_1 := dk_seg dksX4_hears_0 22 rfl rfl
theorem dksX4_hears_2 : cX4_hears.data.toList.drop 46 = dktX4_hears_2 := dk_seg dksX4_hears_1 24 rfl rfl
theorem dksX4_hears_3 : cX4_hears.data.toList.drop 68 = dktX4_hears_3 := dk_seg dksX4_hears_2 22 rfl rfl
theorem dksX4_hears_4 : cX4_hears.data.toList.drop 92 = dktX4_hears_4 := dk_seg dksX4_hears_3 24 rfl rfl
theorem dksX4_hears_5 : cX4_hears.data.toList.drop 116 = dktX4_hears_5 := dk_seg dksX4_hears_4 24 rfl rfl
theorem dksX4_hears_6 : cX4_hears.data.toList.drop 140 = dktX4_hears_6 := dk_seg dksX4_hears_5 24 rfl rfl
theorem dksX4_hears_7 : cX4_hears.data.toList.drop 163 = dktX4_hears_7 := dk_seg dksX4_hears_6 23 rfl rfl
theorem dksX4_hears_8 : cX4_hears.data.toList.drop 187 = dktX4_hears_8 := dk_seg dksX4_hears_7 24 rfl rfl
theorem dksX4_hears_9 : cX4_hears.data.toList.drop 211 = dktX4_hears_9 := dk_seg dksX4_hears_8 24 rfl rfl
theorem dX4_hears_0 : decode cX4_hears 0 = .ok (.aload_n 0, 1) := dk_42 (dk_at dksX4_hears_0 0 rfl rfl)
theorem dX4_hears_1 : decode cX4_hears 1 = .ok (.iconst 0, 1) := dk_3 (dk_at dksX4_hears_0 1 rfl rfl)
theorem dX4_hears_2 : decode cX4_hears 2 = .ok (.putfield 492, 3) := dk_181 1 236 (dk_at dksX4_hears_0 2 rfl rfl)
theorem dX4_hears_5 : decode cX4_hears 5 = .ok (.aload_n 0, 1) := dk_42 (dk_at dksX4_hears_0 5 rfl rfl)
theorem dX4_hears_6 : decode cX4_hears 6 = .ok (.iconst 0, 1) := dk_3 (dk_at dksX4_hears_0 6 rfl rfl)
theorem dX4_hears_7 : decode cX4_hears 7 = .ok (.putfield 534, 3) := dk_181 2 22 (dk_at dksX4_hears_0 7 rfl rfl)
theorem dX4_hears_10 : decode cX4_hears 10 = .ok (.aload_n 0, 1) := dk_42 (dk_at dksX4_hears_0 10 rfl rfl)
theorem dX4_hears_11 : decode cX4_hears 11 = .ok (.iconst 0, 1) := dk_3 (dk_at dksX4_hears_0 11 rfl rfl)
theorem dX4_hears_12 : decode cX4_hears 12 = .ok (.putfield 531, 3) := dk_181 2 19 (dk_at dksX4_hears_0 12 rfl rfl)
theorem dX4_hears_15 : decode cX4_hears 15 = .ok (.aload_n 0, 1) := dk_42 (dk_at dksX4_hears_0 15 rfl rfl)
theorem dX4_hears_16 : decode cX4_hears 16 = .ok (.iconst (-1), 1) := dk_2 (dk_at dksX4_hears_0 16 rfl rfl)
theorem dX4_hears_17 : decode cX4_hears 17 = .ok (.putfield 537, 3) := dk_181 2 25 (dk_at dksX4_hears_0 17 rfl rfl)
theorem dX4_hears_20 : decode cX4_hears 20 = .ok (.aload_n 0, 1) := dk_42 (dk_at dksX4_hears_0 20 rfl rfl)
theorem dX4_hears_21 : decode cX4_hears 21 = .ok (.iconst 0, 1) := dk_3 (dk_at dksX4_hears_0 21 rfl rfl)
theorem dX4_hears_22 : decode cX4_hears 22 = .ok (.putfield 540, 3) := dk_181 2 28 (dk_at dksX4_hears_1 0 rfl rfl)
theorem dX4_hears_25 : decode cX4_hears 25 = .ok (.iconst 0, 1) := dk_3 (dk_at dksX4_hears_1 3 rfl rfl)
theorem dX4_hears_26 : decode cX4_hears 26 = .ok (.istore 4, 2) := dk_54 4 (dk_at dksX4_hears_1 4 rfl rfl)
theorem dX4_hears_28 : decode cX4_hears 28 = .ok (.iload 4, 2) := dk_21 4 (dk_at dksX4_hears_1 6 rfl rfl)
theorem dX4_hears_30 : decode cX4_hears 30 = .ok (.aload_n 0, 1) := dk_42 (dk_at dksX4_hears_1 8 rfl rfl)
theorem dX4_hears_31 : decode cX4_hears 31 = .ok (.getfield 7, 3) := dk_180 0 7 (dk_at dksX4_hears_1 9 rfl rfl)
theorem dX4_hears_34 : decode cX4_hears 34 = .ok (.iconst 2, 1) := dk_5 (dk_at dksX4_hears_1 12 rfl rfl)
theorem dX4_hears_35 : decode cX4_hears 35 = .ok (.iaload, 1) := dk_46 (dk_at dksX4_hears_1 13 rfl rfl)
theorem dX4_hears_36 : decode cX4_hears 36 = .ok (.if_icmp .ge 144, 3) := dk_162 0 144 (dk_at dksX4_hears_1 14 rfl rfl)
theorem dX4_hears_39 : decode cX4_hears 39 = .ok (.aload_n 0, 1) := dk_42 (dk_at dksX4_hears_1 17 rfl rfl)
theorem dX4_hears_40 : decode cX4_hears 40 = .ok (.getfield 540, 3) := dk_180 2 28 (dk_at dksX4_hears_1 18 rfl rfl)
theorem dX4_hears_43 : decode cX4_hears 43 = .ok (.ifCond .ne 137, 3) := dk_154 0 137 (dk_at dksX4_hears_1 21 rfl rfl)
theorem dX4_hears_46 : decode cX4_hears 46 = .ok (.aload_n 0, 1) := dk_42 (dk_at dksX4_hears_2 0 rfl rfl)
theorem dX4_hears_47 : decode cX4_hears 47 = .ok (.aload_n 0, 1) := dk_42 (dk_at dksX4_hears_2 1 rfl rfl)
theorem dX4_hears_48 : decode cX4_hears 48 = .ok (.aload_n 0, 1) := dk_42 (dk_at dksX4_hears_2 2 rfl rfl)
theorem dX4_hears_49 : decode cX4_hears 49 = .ok (.getfield 112, 3) := dk_180 0 112 (dk_at dksX4_hears_2 3 rfl rfl)
theorem dX4_hears_52 : decode cX4_hears 52 = .ok (.iload 4, 2) := dk_21 4 (dk_at dksX4_hears_2 6 rfl rfl)
theorem dX4_hears_54 : decode cX4_hears 54 = .ok (.iaload, 1) := dk_46 (dk_at dksX4_hears_2 8 rfl rfl)
theorem dX4_hears_55 : decode cX4_hears 55 = .ok (.invokevirtual 412, 3) := dk_182 1 156 (dk_at dksX4_hears_2 9 rfl rfl)
theorem dX4_hears_58 : decode cX4_hears 58 = .ok (.aload_n 0, 1) := dk_42 (dk_at dksX4_hears_2 12 rfl rfl)
theorem dX4_hears_59 : decode cX4_hears 59 = .ok (.getfield 115, 3) := dk_180 0 115 (dk_at dksX4_hears_2 13 rfl rfl)
theorem dX4_hears_62 : decode cX4_hears 62 = .ok (.iload 4, 2) := dk_21 4 (dk_at dksX4_hears_2 16 rfl rfl)
theorem dX4_hears_64 : decode cX4_hears 64 = .ok (.iaload, 1) := dk_46 (dk_at dksX4_hears_2 18 rfl rfl)
theorem dX4_hears_65 : decode cX4_hears 65 = .ok (.invokevirtual 544, 3) := dk_182 2 32 (dk_at dksX4_hears_2 19 rfl rfl)
theorem dX4_hears_68 : decode cX4_hears 68 = .ok (.ifCond .eq 12, 3) := dk_153 0 12 (dk_at dksX4_hears_3 0 rfl rfl)
theorem dX4_hears_71 : decode cX4_hears 71 = .ok (.aload_n 0, 1) := dk_42 (dk_at dksX4_hears_3 3 rfl rfl)
theorem dX4_hears_72 : decode cX4_hears 72 = .ok (.iload 4, 2) := dk_21 4 (dk_at dksX4_hears_3 4 rfl rfl)
theorem dX4_hears_74 : decode cX4_hears 74 = .ok (.invokevirtual 513, 3) := dk_182 2 1 (dk_at dksX4_hears_3 6 rfl rfl)
theorem dX4_hears_77 : decode cX4_hears 77 = .ok (.goto 34, 3) := dk_167 0 34 (dk_at dksX4_hears_3 9 rfl rfl)
theorem dX4_hears_80 : decode cX4_hears 80 = .ok (.aload_n 0, 1) := dk_42 (dk_at dksX4_hears_3 12 rfl rfl)
theorem dX4_hears_81 : decode cX4_hears 81 = .ok (.dup, 1) := dk_89 (dk_at dksX4_hears_3 13 rfl rfl)
theorem dX4_hears_82 : decode cX4_hears 82 = .ok (.getfield 534, 3) := dk_180 2 22 (dk_at dksX4_hears_3 14 rfl rfl)
theorem dX4_hears_85 : decode cX4_hears 85 = .ok (.iconst 1, 1) := dk_4 (dk_at dksX4_hears_3 17 rfl rfl)
theorem dX4_hears_86 : decode cX4_hears 86 = .ok (.iadd, 1) := dk_96 (dk_at dksX4_hears_3 18 rfl rfl)
theorem dX4_hears_87 : decode cX4_hears 87 = .ok (.putfield 534, 3) := dk_181 2 22 (dk_at dksX4_hears_3 19 rfl rfl)
theorem dX4_hears_90 : decode cX4_hears 90 = .ok (.aload_n 0, 1) := dk_42 (dk_at dksX4_hears_3 22 rfl rfl)
theorem dX4_hears_91 : decode cX4_hears 91 = .ok (.aload_n 0, 1) := dk_42 (dk_at dksX4_hears_3 23 rfl rfl)
theorem dX4_hears_92 : decode cX4_hears 92 = .ok (.getfield 537, 3) := dk_180 2 25 (dk_at dksX4_hears_4 0 rfl rfl)
theorem dX4_hears_95 : decode cX4_hears 95 = .ok (.iconst (-1), 1) := dk_2 (dk_at dksX4_hears_4 3 rfl rfl)
theorem dX4_hears_96 : decode cX4_hears 96 = .ok (.if_icmp .ne 8, 3) := dk_160 0 8 (dk_at dksX4_hears_4 4 rfl rfl)
theorem dX4_hears_99 : decode cX4_hears 99 = .ok (.iload 4, 2) := dk_21 4 (dk_at dksX4_hears_4 7 rfl rfl)
theorem dX4_hears_101 : decode cX4_hears 101 = .ok (.goto 7, 3) := dk_167 0 7 (dk_at dksX4_hears_4 9 rfl rfl)
theorem dX4_hears_104 : decode cX4_hears 104 = .ok (.aload_n 0, 1) := dk_42 (dk_at dksX4_hears_4 12 rfl rfl)
theorem dX4_hears_105 : decode cX4_hears 105 = .ok (.getfield 537, 3) := dk_180 2 25 (dk_at dksX4_hears_4 13 rfl rfl)
theorem dX4_hears_108 : decode cX4_hears 108 = .ok (.putfield 537, 3) := dk_181 2 25 (dk_at dksX4_hears_4 16 rfl rfl)
theorem dX4_hears_111 : decode cX4_hears 111 = .ok (.aload_n 0, 1) := dk_42 (dk_at dksX4_hears_4 19 rfl rfl)
theorem dX4_hears_112 : decode cX4_hears 112 = .ok (.getfield 492, 3) := dk_180 1 236 (dk_at dksX4_hears_4 20 rfl rfl)
theorem dX4_hears_115 : decode cX4_hears 115 = .ok (.iload_n 1, 1) := dk_27 (dk_at dksX4_hears_4 23 rfl rfl)
theorem dX4_hears_116 : decode cX4_hears 116 = .ok (.if_icmp .le 58, 3) := dk_164 0 58 (dk_at dksX4_hears_5 0 rfl rfl)
theorem dX4_hears_119 : decode cX4_hears 119 = .ok (.aload_n 0, 1) := dk_42 (dk_at dksX4_hears_5 3 rfl rfl)
theorem dX4_hears_120 : decode cX4_hears 120 = .ok (.getfield 540, 3) := dk_180 2 28 (dk_at dksX4_hears_5 4 rfl rfl)
theorem dX4_hears_123 : decode cX4_hears 123 = .ok (.ifCond .ne 51, 3) := dk_154 0 51 (dk_at dksX4_hears_5 7 rfl rfl)
theorem dX4_hears_126 : decode cX4_hears 126 = .ok (.aload_n 0, 1) := dk_42 (dk_at dksX4_hears_5 10 rfl rfl)
theorem dX4_hears_127 : decode cX4_hears 127 = .ok (.aload_n 0, 1) := dk_42 (dk_at dksX4_hears_5 11 rfl rfl)
theorem dX4_hears_128 : decode cX4_hears 128 = .ok (.getfield 537, 3) := dk_180 2 25 (dk_at dksX4_hears_5 12 rfl rfl)
theorem dX4_hears_131 : decode cX4_hears 131 = .ok (.iconst (-1), 1) := dk_2 (dk_at dksX4_hears_5 15 rfl rfl)
theorem dX4_hears_132 : decode cX4_hears 132 = .ok (.if_icmp .ne 8, 3) := dk_160 0 8 (dk_at dksX4_hears_5 16 rfl rfl)
theorem dX4_hears_135 : decode cX4_hears 135 = .ok (.iload 4, 2) := dk_21 4 (dk_at dksX4_hears_5 19 rfl rfl)
theorem dX4_hears_137 : decode cX4_hears 137 = .ok (.goto 7, 3) := dk_167 0 7 (dk_at dksX4_hears_5 21 rfl rfl)
theorem dX4_hears_140 : decode cX4_hears 140 = .ok (.aload_n 0, 1) := dk_42 (dk_at dksX4_hears_6 0 rfl rfl)
theorem dX4_hears_141 : decode cX4_hears 141 = .ok (.getfield 537, 3) := dk_180 2 25 (dk_at dksX4_hears_6 1 rfl rfl)
theorem dX4_hears_144 : decode cX4_hears 144 = .ok (.putfield 537, 3) := dk_181 2 25 (dk_at dksX4_hears_6 4 rfl rfl)
theorem dX4_hears_147 : decode cX4_hears 147 = .ok (.iload_n 2, 1) := dk_28 (dk_at dksX4_hears_6 7 rfl rfl)
theorem dX4_hears_148 : decode cX4_hears 148 = .ok (.iconst 3, 1) := dk_6 (dk_at dksX4_hears_6 8 rfl rfl)
theorem dX4_hears_149 : decode cX4_hears 149 = .ok (.if_icmp .ne 11, 3) := dk_160 0 11 (dk_at dksX4_hears_6 9 rfl rfl)
theorem dX4_hears_152 : decode cX4_hears 152 = .ok (.aload_n 0, 1) := dk_42 (dk_at dksX4_hears_6 12 rfl rfl)
theorem dX4_hears_153 : decode cX4_hears 153 = .ok (.iconst 1, 1) := dk_4 (dk_at dksX4_hears_6 13 rfl rfl)
theorem dX4_hears_154 : decode cX4_hears 154 = .ok (.putfield 540, 3) := dk_181 2 28 (dk_at dksX4_hears_6 14 rfl rfl)
theorem dX4_hears_157 : decode cX4_hears 157 = .ok (.goto (-46), 3) := dk_167 255 210 (dk_at dksX4_hears_6 17 rfl rfl)
theorem dX4_hears_160 : decode cX4_hears 160 = .ok (.aload_n 0, 1) := dk_42 (dk_at dksX4_hears_6 20 rfl rfl)
theorem dX4_hears_161 : decode cX4_hears 161 = .ok (.aload_n 0, 1) := dk_42 (dk_at dksX4_hears_6 21 rfl rfl)
theorem dX4_hears_162 : decode cX4_hears 162 = .ok (.iload_n 2, 1) := dk_28 (dk_at dksX4_hears_6 22 rfl rfl)
theorem dX4_hears_163 : decode cX4_hears 163 = .ok (.iload 4, 2) := dk_21 4 (dk_at dksX4_hears_7 0 rfl rfl)
theorem dX4_hears_165 : decode cX4_hears 165 = .ok (.invokevirtual 547, 3) := dk_182 2 35 (dk_at dksX4_hears_7 2 rfl rfl)
theorem dX4_hears_168 : decode cX4_hears 168 = .ok (.invokevirtual 550, 3) := dk_182 2 38 (dk_at dksX4_hears_7 5 rfl rfl)
theorem dX4_hears_171 : decode cX4_hears 171 = .ok (.goto (-60), 3) := dk_167 255 196 (dk_at dksX4_hears_7 8 rfl rfl)
theorem dX4_hears_174 : decode cX4_hears 174 = .ok (.iinc 4 1, 3) := dk_132 4 1 (dk_at dksX4_hears_7 11 rfl rfl)
theorem dX4_hears_177 : decode cX4_hears 177 = .ok (.goto (-149), 3) := dk_167 255 107 (dk_at dksX4_hears_7 14 rfl rfl)
theorem dX4_hears_180 : decode cX4_hears 180 = .ok (.aload_n 0, 1) := dk_42 (dk_at dksX4_hears_7 17 rfl rfl)
theorem dX4_hears_181 : decode cX4_hears 181 = .ok (.getfield 540, 3) := dk_180 2 28 (dk_at dksX4_hears_7 18 rfl rfl)
theorem dX4_hears_184 : decode cX4_hears 184 = .ok (.ifCond .ne 34, 3) := dk_154 0 34 (dk_at dksX4_hears_7 21 rfl rfl)
theorem dX4_hears_187 : decode cX4_hears 187 = .ok (.aload_n 0, 1) := dk_42 (dk_at dksX4_hears_8 0 rfl rfl)
theorem dX4_hears_188 : decode cX4_hears 188 = .ok (.getfield 492, 3) := dk_180 1 236 (dk_at dksX4_hears_8 1 rfl rfl)
theorem dX4_hears_191 : decode cX4_hears 191 = .ok (.iconst 1, 1) := dk_4 (dk_at dksX4_hears_8 4 rfl rfl)
theorem dX4_hears_192 : decode cX4_hears 192 = .ok (.if_icmp .ne 26, 3) := dk_160 0 26 (dk_at dksX4_hears_8 5 rfl rfl)
theorem dX4_hears_195 : decode cX4_hears 195 = .ok (.aload_n 0, 1) := dk_42 (dk_at dksX4_hears_8 8 rfl rfl)
theorem dX4_hears_196 : decode cX4_hears 196 = .ok (.getfield 148, 3) := dk_180 0 148 (dk_at dksX4_hears_8 9 rfl rfl)
theorem dX4_hears_199 : decode cX4_hears 199 = .ok (.iconst 0, 1) := dk_3 (dk_at dksX4_hears_8 12 rfl rfl)
theorem dX4_hears_200 : decode cX4_hears 200 = .ok (.iaload, 1) := dk_46 (dk_at dksX4_hears_8 13 rfl rfl)
theorem dX4_hears_201 : decode cX4_hears 201 = .ok (.ifCond .ne 17, 3) := dk_154 0 17 (dk_at dksX4_hears_8 14 rfl rfl)
theorem dX4_hears_204 : decode cX4_hears 204 = .ok (.aload_n 0, 1) := dk_42 (dk_at dksX4_hears_8 17 rfl rfl)
theorem dX4_hears_205 : decode cX4_hears 205 = .ok (.getfield 151, 3) := dk_180 0 151 (dk_at dksX4_hears_8 18 rfl rfl)
theorem dX4_hears_208 : decode cX4_hears 208 = .ok (.iconst 0, 1) := dk_3 (dk_at dksX4_hears_8 21 rfl rfl)
theorem dX4_hears_209 : decode cX4_hears 209 = .ok (.iaload, 1) := dk_46 (dk_at dksX4_hears_8 22 rfl rfl)
theorem dX4_hears_210 : decode cX4_hears 210 = .ok (.iload_n 3, 1) := dk_29 (dk_at dksX4_hears_8 23 rfl rfl)
theorem dX4_hears_211 : decode cX4_hears 211 = .ok (.if_icmp .ne 7, 3) := dk_160 0 7 (dk_at dksX4_hears_9 0 rfl rfl)
theorem dX4_hears_214 : decode cX4_hears 214 = .ok (.iconst 1, 1) := dk_4 (dk_at dksX4_hears_9 3 rfl rfl)
theorem dX4_hears_215 : decode cX4_hears 215 = .ok (.goto 4, 3) := dk_167 0 4 (dk_at dksX4_hears_9 4 rfl rfl)
theorem dX4_hears_218 : decode cX4_hears 218 = .ok (.iconst 0, 1) := dk_3 (dk_at dksX4_hears_9 7 rfl rfl)
theorem dX4_hears_219 : decode cX4_hears 219 = .ok (.ireturn, 1) := dk_172 (dk_at dksX4_hears_9 8 rfl rfl)
abbrev cX4_canTake : ByteArray := prog_23_method_76_code
def yX4_canTake : MethodName := ⟨RX4, "canTake", "(II)Z"⟩
def dkwX4_canTake_3 : List UInt8 := [132, 5, 1, 167, 255, 210, 21, 4, 172]
abbrev dktX4_canTake_3 : List UInt8 := dkwX4_canTake_3 ++ []
def dkwX4_canTake_2 : List UInt8 := [29, 100, 21, 5, 96, 46, 42, 27, 28, 21, 5, 182, 1, 208, 160, 0, 7, 4, 167, 0, 4, 3, 54, 4]
abbrev dktX4_canTake_2 : List UInt8 := dkwX4_canTake_2 ++ dktX4_canTake_3
def dkwX4_canTake_1 : List UInt8 := [54, 4, 3, 54, 5, 21, 5, 29, 162, 0, 46, 21, 4, 153, 0, 41, 42, 180, 0, 148, 42, 180, 1, 236]
abbrev dktX4_canTake_1 : List UInt8 := dkwX4_canTake_1 ++ dktX4_canTake_2
def dkwX4_canTake_0 : List UInt8 := [42, 180, 0, 39, 27, 46, 28, 184, 1, 205, 62, 42, 180, 1, 236, 29, 161, 0, 7, 4, 167, 0, 4, 3]
abbrev dktX4_canTake_0 : List UInt8 := dkwX4_canTake_0 ++ dktX4_canTake_1
theorem dksX4_canTake_0 : cX4_canTake.data.toList.drop 0 = dktX4_canTake_0 := by decide +kernel
theorem dksX4_canTake_1 : cX4_canTake.data.toList.drop 24 = dktX4_canTake_1 := dk_seg dksX4_canTake_0 24 rfl rfl
theorem dksX4_canTake_2 : cX4_canTake.data.toList.drop 48 = dktX4_canTake_2 := dk_seg dksX4_canTake_1 24 rfl rfl
theorem dksX4_canTake_3 : cX4_canTake.data.toList.drop 72 = dktX4_canTake_3 := dk_seg dksX4_canTake_2 24 rfl rfl
theorem dX4_canTake_0 : decode cX4_canTake 0 = .ok (.aload_n 0, 1) := dk_42 (dk_at dksX4_canTake_0 0 rfl rfl)
theorem dX4_canTake_1 : decode cX4_canTake 1 = .ok (.getfield 39, 3) := dk_180 0 39 (dk_at dksX4_canTake_0 1 rfl rfl)
theorem dX4_canTake_4 : decode cX4_canTake 4 = .ok (.iload_n 1, 1) := dk_27 (dk_at dksX4_canTake_0 4 rfl rfl)
theorem dX4_canTake_5 : decode cX4_canTake 5 = .ok (.iaload, 1) := dk_46 (dk_at dksX4_canTake_0 5 rfl rfl)
theorem dX4_canTake_6 : decode cX4_canTake 6 = .ok (.iload_n 2, 1) := dk_28 (dk_at dksX4_canTake_0 6 rfl rfl)
theorem dX4_canTake_7 : decode cX4_canTake 7 = .ok (.invokestatic 461, 3) := dk_184 1 205 (dk_at dksX4_canTake_0 7 rfl rfl)
theorem dX4_canTake_10 : decode cX4_canTake 10 = .ok (.istore_n 3, 1) := dk_62 (dk_at dksX4_canTake_0 10 rfl rfl)
theorem dX4_canTake_11 : decode cX4_canTake 11 = .ok (.aload_n 0, 1) := dk_42 (dk_at dksX4_canTake_0 11 rfl rfl)
theorem dX4_canTake_12 : decode cX4_canTake 12 = .ok (.getfield 492, 3) := dk_180 1 236 (dk_at dksX4_canTake_0 12 rfl rfl)
theorem dX4_canTake_15 : decode cX4_canTake 15 = .ok (.iload_n 3, 1) := dk_29 (dk_at dksX4_canTake_0 15 rfl rfl)
theorem dX4_canTake_16 : decode cX4_canTake 16 = .ok (.if_icmp .lt 7, 3) := dk_161 0 7 (dk_at dksX4_canTake_0 16 rfl rfl)
theorem dX4_canTake_19 : decode cX4_canTake 19 = .ok (.iconst 1, 1) := dk_4 (dk_at dksX4_canTake_0 19 rfl rfl)
theorem dX4_canTake_20 : decode cX4_canTake 20 = .ok (.goto 4, 3) := dk_167 0 4 (dk_at dksX4_canTake_0 20 rfl rfl)
theorem dX4_canTake_23 : decode cX4_canTake 23 = .ok (.iconst 0, 1) := dk_3 (dk_at dksX4_canTake_0 23 rfl rfl)
theorem dX4_canTake_24 : decode cX4_canTake 24 = .ok (.istore 4, 2) := dk_54 4 (dk_at dksX4_canTake_1 0 rfl rfl)
theorem dX4_canTake_26 : decode cX4_canTake 26 = .ok (.iconst 0, 1) := dk_3 (dk_at dksX4_canTake_1 2 rfl rfl)
theorem dX4_canTake_27 : decode cX4_canTake 27 = .ok (.istore 5, 2) := dk_54 5 (dk_at dksX4_canTake_1 3 rfl rfl)
theorem dX4_canTake_29 : decode cX4_canTake 29 = .ok (.iload 5, 2) := dk_21 5 (dk_at dksX4_canTake_1 5 rfl rfl)
theorem dX4_canTake_31 : decode cX4_canTake 31 = .ok (.iload_n 3, 1) := dk_29 (dk_at dksX4_canTake_1 7 rfl rfl)
theorem dX4_canTake_32 : decode cX4_canTake 32 = .ok (.if_icmp .ge 46, 3) := dk_162 0 46 (dk_at dksX4_canTake_1 8 rfl rfl)
theorem dX4_canTake_35 : decode cX4_canTake 35 = .ok (.iload 4, 2) := dk_21 4 (dk_at dksX4_canTake_1 11 rfl rfl)
theorem dX4_canTake_37 : decode cX4_canTake 37 = .ok (.ifCond .eq 41, 3) := dk_153 0 41 (dk_at dksX4_canTake_1 13 rfl rfl)
theorem dX4_canTake_40 : decode cX4_canTake 40 = .ok (.aload_n 0, 1) := dk_42 (dk_at dksX4_canTake_1 16 rfl rfl)
theorem dX4_canTake_41 : decode cX4_canTake 41 = .ok (.getfield 148, 3) := dk_180 0 148 (dk_at dksX4_canTake_1 17 rfl rfl)
theorem dX4_canTake_44 : decode cX4_canTake 44 = .ok (.aload_n 0, 1) := dk_42 (dk_at dksX4_canTake_1 20 rfl rfl)
theorem dX4_canTake_45 : decode cX4_canTake 45 = .ok (.getfield 492, 3) := dk_180 1 236 (dk_at dksX4_canTake_1 21 rfl rfl)
theorem dX4_canTake_48 : decode cX4_canTake 48 = .ok (.iload_n 3, 1) := dk_29 (dk_at dksX4_canTake_2 0 rfl rfl)
theorem dX4_canTake_49 : decode cX4_canTake 49 = .ok (.isub, 1) := dk_100 (dk_at dksX4_canTake_2 1 rfl rfl)
theorem dX4_canTake_50 : decode cX4_canTake 50 = .ok (.iload 5, 2) := dk_21 5 (dk_at dksX4_canTake_2 2 rfl rfl)
theorem dX4_canTake_52 : decode cX4_canTake 52 = .ok (.iadd, 1) := dk_96 (dk_at dksX4_canTake_2 4 rfl rfl)
theorem dX4_canTake_53 : decode cX4_canTake 53 = .ok (.iaload, 1) := dk_46 (dk_at dksX4_canTake_2 5 rfl rfl)
theorem dX4_canTake_54 : decode cX4_canTake 54 = .ok (.aload_n 0, 1) := dk_42 (dk_at dksX4_canTake_2 6 rfl rfl)
theorem dX4_canTake_55 : decode cX4_canTake 55 = .ok (.iload_n 1, 1) := dk_27 (dk_at dksX4_canTake_2 7 rfl rfl)
theorem dX4_canTake_56 : decode cX4_canTake 56 = .ok (.iload_n 2, 1) := dk_28 (dk_at dksX4_canTake_2 8 rfl rfl)
theorem dX4_canTake_57 : decode cX4_canTake 57 = .ok (.iload 5, 2) := dk_21 5 (dk_at dksX4_canTake_2 9 rfl rfl)
theorem dX4_canTake_59 : decode cX4_canTake 59 = .ok (.invokevirtual 464, 3) := dk_182 1 208 (dk_at dksX4_canTake_2 11 rfl rfl)
theorem dX4_canTake_62 : decode cX4_canTake 62 = .ok (.if_icmp .ne 7, 3) := dk_160 0 7 (dk_at dksX4_canTake_2 14 rfl rfl)
theorem dX4_canTake_65 : decode cX4_canTake 65 = .ok (.iconst 1, 1) := dk_4 (dk_at dksX4_canTake_2 17 rfl rfl)
theorem dX4_canTake_66 : decode cX4_canTake 66 = .ok (.goto 4, 3) := dk_167 0 4 (dk_at dksX4_canTake_2 18 rfl rfl)
theorem dX4_canTake_69 : decode cX4_canTake 69 = .ok (.iconst 0, 1) := dk_3 (dk_at dksX4_canTake_2 21 rfl rfl)
theorem dX4_canTake_70 : decode cX4_canTake 70 = .ok (.istore 4, 2) := dk_54 4 (dk_at dksX4_canTake_2 22 rfl rfl)
theorem dX4_canTake_72 : decode cX4_canTake 72 = .ok (.iinc 5 1, 3) := dk_132 5 1 (dk_at dksX4_canTake_3 0 rfl rfl)
theorem dX4_canTake_75 : decode cX4_canTake 75 = .ok (.goto (-46), 3) := dk_167 255 210 (dk_at dksX4_canTake_3 3 rfl rfl)
theorem dX4_canTake_78 : decode cX4_canTake 78 = .ok (.iload 4, 2) := dk_21 4 (dk_at dksX4_canTake_3 6 rfl rfl)
theorem dX4_canTake_80 : decode cX4_canTake 80 = .ok (.ireturn, 1) := dk_172 (dk_at dksX4_canTake_3 8 rfl rfl)
abbrev cX4_dropFor : ByteArray := prog_23_method_85_code
def yX4_dropFor : MethodName := ⟨RX4, "dropFor", "(II)I"⟩
def dkwX4_dropFor_3 : List UInt8 := [28, 182, 2, 15, 153, 0, 8, 21, 4, 167, 0, 4, 29, 62, 132, 4, 255, 167, 255, 231, 29, 172]
abbrev dktX4_dropFor_3 : List UInt8 := dkwX4_dropFor_3 ++ []
def dkwX4_dropFor_2 : List UInt8 := [167, 255, 221, 27, 5, 160, 0, 39, 42, 180, 1, 236, 4, 100, 54, 4, 21, 4, 155, 0, 26, 42, 21, 4]
abbrev dktX4_dropFor_2 : List UInt8 := dkwX4_dropFor_2 ++ dktX4_dropFor_3
def dkwX4_dropFor_1 : List UInt8 := [21, 4, 46, 42, 180, 0, 154, 29, 46, 162, 0, 8, 21, 4, 167, 0, 4, 29, 62, 132, 4, 1]
abbrev dktX4_dropFor_1 : List UInt8 := dkwX4_dropFor_1 ++ dktX4_dropFor_2
def dkwX4_dropFor_0 : List UInt8 := [3, 62, 27, 4, 160, 0, 44, 4, 54, 4, 21, 4, 42, 180, 1, 236, 162, 0, 32, 42, 180, 0, 154]
abbrev dktX4_dropFor_0 : List UInt8 := dkwX4_dropFor_0 ++ dktX4_dropFor_1
theorem dksX4_dropFor_0 : cX4_dropFor.data.toList.drop 0 = dktX4_dropFor_0 := by decide +kernel
theorem dksX4_dropFor_1 : cX4_dropFor.data.toList.drop 23 = dktX4_dropFor_1 := dk_seg dksX4_dropFor_0 23 rfl rfl
theorem dksX4_dropFor_2 : cX4_dropFor.data.toList.drop 45 = dktX4_dropFor_2 := dk_seg dksX4_dropFor_1 22 rfl rfl
theorem dksX4_dropFor_3 : cX4_dropFor.data.toList.drop 69 = dktX4_dropFor_3 := dk_seg dksX4_dropFor_2 24 rfl rfl
theorem dX4_dropFor_0 : decode cX4_dropFor 0 = .ok (.iconst 0, 1) := dk_3 (dk_at dksX4_dropFor_0 0 rfl rfl)
theorem dX4_dropFor_1 : decode cX4_dropFor 1 = .ok (.istore_n 3, 1) := dk_62 (dk_at dksX4_dropFor_0 1 rfl rfl)
theorem dX4_dropFor_2 : decode cX4_dropFor 2 = .ok (.iload_n 1, 1) := dk_27 (dk_at dksX4_dropFor_0 2 rfl rfl)
theorem dX4_dropFor_3 : decode cX4_dropFor 3 = .ok (.iconst 1, 1) := dk_4 (dk_at dksX4_dropFor_0 3 rfl rfl)
theorem dX4_dropFor_4 : decode cX4_dropFor 4 = .ok (.if_icmp .ne 44, 3) := dk_160 0 44 (dk_at dksX4_dropFor_0 4 rfl rfl)
theorem dX4_dropFor_7 : decode cX4_dropFor 7 = .ok (.iconst 1, 1) := dk_4 (dk_at dksX4_dropFor_0 7 rfl rfl)
theorem dX4_dropFor_8 : decode cX4_dropFor 8 = .ok (.istore 4, 2) := dk_54 4 (dk_at dksX4_dropFor_0 8 rfl rfl)
theorem dX4_dropFor_10 : decode cX4_dropFor 10 = .ok (.iload 4, 2) := dk_21 4 (dk_at dksX4_dropFor_0 10 rfl rfl)
theorem dX4_dropFor_12 : decode cX4_dropFor 12 = .ok (.aload_n 0, 1) := dk_42 (dk_at dksX4_dropFor_0 12 rfl rfl)
theorem dX4_dropFor_13 : decode cX4_dropFor 13 = .ok (.getfield 492, 3) := dk_180 1 236 (dk_at dksX4_dropFor_0 13 rfl rfl)
theorem dX4_dropFor_16 : decode cX4_dropFor 16 = .ok (.if_icmp .ge 32, 3) := dk_162 0 32 (dk_at dksX4_dropFor_0 16 rfl rfl)
theorem dX4_dropFor_19 : decode cX4_dropFor 19 = .ok (.aload_n 0, 1) := dk_42 (dk_at dksX4_dropFor_0 19 rfl rfl)
theorem dX4_dropFor_20 : decode cX4_dropFor 20 = .ok (.getfield 154, 3) := dk_180 0 154 (dk_at dksX4_dropFor_0 20 rfl rfl)
theorem dX4_dropFor_23 : decode cX4_dropFor 23 = .ok (.iload 4, 2) := dk_21 4 (dk_at dksX4_dropFor_1 0 rfl rfl)
theorem dX4_dropFor_25 : decode cX4_dropFor 25 = .ok (.iaload, 1) := dk_46 (dk_at dksX4_dropFor_1 2 rfl rfl)
theorem dX4_dropFor_26 : decode cX4_dropFor 26 = .ok (.aload_n 0, 1) := dk_42 (dk_at dksX4_dropFor_1 3 rfl rfl)
theorem dX4_dropFor_27 : decode cX4_dropFor 27 = .ok (.getfield 154, 3) := dk_180 0 154 (dk_at dksX4_dropFor_1 4 rfl rfl)
theorem dX4_dropFor_30 : decode cX4_dropFor 30 = .ok (.iload_n 3, 1) := dk_29 (dk_at dksX4_dropFor_1 7 rfl rfl)
theorem dX4_dropFor_31 : decode cX4_dropFor 31 = .ok (.iaload, 1) := dk_46 (dk_at dksX4_dropFor_1 8 rfl rfl)
theorem dX4_dropFor_32 : decode cX4_dropFor 32 = .ok (.if_icmp .ge 8, 3) := dk_162 0 8 (dk_at dksX4_dropFor_1 9 rfl rfl)
theorem dX4_dropFor_35 : decode cX4_dropFor 35 = .ok (.iload 4, 2) := dk_21 4 (dk_at dksX4_dropFor_1 12 rfl rfl)
theorem dX4_dropFor_37 : decode cX4_dropFor 37 = .ok (.goto 4, 3) := dk_167 0 4 (dk_at dksX4_dropFor_1 14 rfl rfl)
theorem dX4_dropFor_40 : decode cX4_dropFor 40 = .ok (.iload_n 3, 1) := dk_29 (dk_at dksX4_dropFor_1 17 rfl rfl)
theorem dX4_dropFor_41 : decode cX4_dropFor 41 = .ok (.istore_n 3, 1) := dk_62 (dk_at dksX4_dropFor_1 18 rfl rfl)
theorem dX4_dropFor_42 : decode cX4_dropFor 42 = .ok (.iinc 4 1, 3) := dk_132 4 1 (dk_at dksX4_dropFor_1 19 rfl rfl)
theorem dX4_dropFor_45 : decode cX4_dropFor 45 = .ok (.goto (-35), 3) := dk_167 255 221 (dk_at dksX4_dropFor_2 0 rfl rfl)
theorem dX4_dropFor_48 : decode cX4_dropFor 48 = .ok (.iload_n 1, 1) := dk_27 (dk_at dksX4_dropFor_2 3 rfl rfl)
theorem dX4_dropFor_49 : decode cX4_dropFor 49 = .ok (.iconst 2, 1) := dk_5 (dk_at dksX4_dropFor_2 4 rfl rfl)
theorem dX4_dropFor_50 : decode cX4_dropFor 50 = .ok (.if_icmp .ne 39, 3) := dk_160 0 39 (dk_at dksX4_dropFor_2 5 rfl rfl)
theorem dX4_dropFor_53 : decode cX4_dropFor 53 = .ok (.aload_n 0, 1) := dk_42 (dk_at dksX4_dropFor_2 8 rfl rfl)
theorem dX4_dropFor_54 : decode cX4_dropFor 54 = .ok (.getfield 492, 3) := dk_180 1 236 (dk_at dksX4_dropFor_2 9 rfl rfl)
theorem dX4_dropFor_57 : decode cX4_dropFor 57 = .ok (.iconst 1, 1) := dk_4 (dk_at dksX4_dropFor_2 12 rfl rfl)
theorem dX4_dropFor_58 : decode cX4_dropFor 58 = .ok (.isub, 1) := dk_100 (dk_at dksX4_dropFor_2 13 rfl rfl)
theorem dX4_dropFor_59 : decode cX4_dropFor 59 = .ok (.istore 4, 2) := dk_54 4 (dk_at dksX4_dropFor_2 14 rfl rfl)
theorem dX4_dropFor_61 : decode cX4_dropFor 61 = .ok (.iload 4, 2) := dk_21 4 (dk_at dksX4_dropFor_2 16 rfl rfl)
theorem dX4_dropFor_63 : decode cX4_dropFor 63 = .ok (.ifCond .lt 26, 3) := dk_155 0 26 (dk_at dksX4_dropFor_2 18 rfl rfl)
theorem dX4_dropFor_66 : decode cX4_dropFor 66 = .ok (.aload_n 0, 1) := dk_42 (dk_at dksX4_dropFor_2 21 rfl rfl)
theorem dX4_dropFor_67 : decode cX4_dropFor 67 = .ok (.iload 4, 2) := dk_21 4 (dk_at dksX4_dropFor_2 22 rfl rfl)
theorem dX4_dropFor_69 : decode cX4_dropFor 69 = .ok (.iload_n 2, 1) := dk_28 (dk_at dksX4_dropFor_3 0 rfl rfl)
theorem dX4_dropFor_70 : decode cX4_dropFor 70 = .ok (.invokevirtual 527, 3) := dk_182 2 15 (dk_at dksX4_dropFor_3 1 rfl rfl)
theorem dX4_dropFor_73 : decode cX4_dropFor 73 = .ok (.ifCond .eq 8, 3) := dk_153 0 8 (dk_at dksX4_dropFor_3 4 rfl rfl)
theorem dX4_dropFor_76 : decode cX4_dropFor 76 = .ok (.iload 4, 2) := dk_21 4 (dk_at dksX4_dropFor_3 7 rfl rfl)
theorem dX4_dropFor_78 : decode cX4_dropFor 78 = .ok (.goto 4, 3) := dk_167 0 4 (dk_at dksX4_dropFor_3 9 rfl rfl)
theorem dX4_dropFor_81 : decode cX4_dropFor 81 = .ok (.iload_n 3, 1) := dk_29 (dk_at dksX4_dropFor_3 12 rfl rfl)
theorem dX4_dropFor_82 : decode cX4_dropFor 82 = .ok (.istore_n 3, 1) := dk_62 (dk_at dksX4_dropFor_3 13 rfl rfl)
theorem dX4_dropFor_83 : decode cX4_dropFor 83 = .ok (.iinc 4 (-1), 3) := dk_132 4 255 (dk_at dksX4_dropFor_3 14 rfl rfl)
theorem dX4_dropFor_86 : decode cX4_dropFor 86 = .ok (.goto (-25), 3) := dk_167 255 231 (dk_at dksX4_dropFor_3 17 rfl rfl)
theorem dX4_dropFor_89 : decode cX4_dropFor 89 = .ok (.iload_n 3, 1) := dk_29 (dk_at dksX4_dropFor_3 20 rfl rfl)
theorem dX4_dropFor_90 : decode cX4_dropFor 90 = .ok (.ireturn, 1) := dk_172 (dk_at dksX4_dropFor_3 21 rfl rfl)
abbrev cX4_isDropped : ByteArray := prog_23_method_84_code
def yX4_isDropped : MethodName := ⟨RX4, "isDropped", "(II)Z"⟩
def dkwX4_isDropped_4 : List UInt8 := [148, 158, 0, 7, 4, 167, 0, 4, 3, 62, 132, 4, 1, 167, 255, 199, 29, 172]
abbrev dktX4_isDropped_4 : List UInt8 := dkwX4_isDropped_4 ++ []
def dkwX4_isDropped_3 : List UInt8 := [182, 1, 156, 46, 5, 160, 0, 27, 42, 42, 180, 0, 33, 42, 21, 4, 182, 1, 156, 46, 182, 1, 242, 9]
abbrev dktX4_isDropped_3 : List UInt8 := dkwX4_isDropped_3 ++ dktX4_isDropped_4
def dkwX4_isDropped_2 : List UInt8 := [3, 54, 4, 21, 4, 42, 182, 1, 153, 162, 0, 54, 29, 154, 0, 38, 42, 180, 0, 30, 42, 21, 4]
abbrev dktX4_isDropped_2 : List UInt8 := dkwX4_isDropped_2 ++ dktX4_isDropped_3
def dkwX4_isDropped_1 : List UInt8 := [42, 180, 0, 90, 8, 28, 42, 180, 0, 157, 27, 46, 100, 79, 42, 180, 0, 90, 16, 6, 27, 79, 3, 62]
abbrev dktX4_isDropped_1 : List UInt8 := dkwX4_isDropped_1 ++ dktX4_isDropped_2
def dkwX4_isDropped_0 : List UInt8 := [42, 180, 0, 90, 6, 42, 180, 0, 148, 27, 46, 79, 42, 180, 0, 90, 7, 42, 180, 0, 154, 27, 46, 79]
abbrev dktX4_isDropped_0 : List UInt8 := dkwX4_isDropped_0 ++ dktX4_isDropped_1
theorem dksX4_isDropped_0 : cX4_isDropped.data.toList.drop 0 = dktX4_isDropped_0 := by decide +kernel
theorem dksX4_isDropped_1 : cX4_isDropped.data.toList.drop 24 = dktX4_isDropped_1 := dk_seg dksX4_isDropped_0 24 rfl rfl
theorem dksX4_isDropped_2 : cX4_isDropped.data.toList.drop 48 = dktX4_isDropped_2 := dk_seg dksX4_isDropped_1 24 rfl rfl
theorem dksX4_isDropped_3 : cX4_isDropped.data.toList.drop 71 = dktX4_isDropped_3 := dk_seg dksX4_isDropped_2 23 rfl rfl
theorem dksX4_isDropped_4 : cX4_isDropped.data.toList.drop 95 = dktX4_isDropped_4 := dk_seg dksX4_isDropped_3 24 rfl rfl
theorem dX4_isDropped_0 : decode cX4_isDropped 0 = .ok (.aload_n 0, 1) := dk_42 (dk_at dksX4_isDropped_0 0 rfl rfl)
theorem dX4_isDropped_1 : decode cX4_isDropped 1 = .ok (.getfield 90, 3) := dk_180 0 90 (dk_at dksX4_isDropped_0 1 rfl rfl)
theorem dX4_isDropped_4 : decode cX4_isDropped 4 = .ok (.iconst 3, 1) := dk_6 (dk_at dksX4_isDropped_0 4 rfl rfl)
theorem dX4_isDropped_5 : decode cX4_isDropped 5 = .ok (.aload_n 0, 1) := dk_42 (dk_at dksX4_isDropped_0 5 rfl rfl)
theorem dX4_isDropped_6 : decode cX4_isDropped 6 = .ok (.getfield 148, 3) := dk_180 0 148 (dk_at dksX4_isDropped_0 6 rfl rfl)
theorem dX4_isDropped_9 : decode cX4_isDropped 9 = .ok (.iload_n 1, 1) := dk_27 (dk_at dksX4_isDropped_0 9 rfl rfl)
theorem dX4_isDropped_10 : decode cX4_isDropped 10 = .ok (.iaload, 1) := dk_46 (dk_at dksX4_isDropped_0 10 rfl rfl)
theorem dX4_isDropped_11 : decode cX4_isDropped 11 = .ok (.iastore, 1) := dk_79 (dk_at dksX4_isDropped_0 11 rfl rfl)
theorem dX4_isDropped_12 : decode cX4_isDropped 12 = .ok (.aload_n 0, 1) := dk_42 (dk_at dksX4_isDropped_0 12 rfl rfl)
theorem dX4_isDropped_13 : decode cX4_isDropped 13 = .ok (.getfield 90, 3) := dk_180 0 90 (dk_at dksX4_isDropped_0 13 rfl rfl)
theorem dX4_isDropped_16 : decode cX4_isDropped 16 = .ok (.iconst 4, 1) := dk_7 (dk_at dksX4_isDropped_0 16 rfl rfl)
theorem dX4_isDropped_17 : decode cX4_isDropped 17 = .ok (.aload_n 0, 1) := dk_42 (dk_at dksX4_isDropped_0 17 rfl rfl)
theorem dX4_isDropped_18 : decode cX4_isDropped 18 = .ok (.getfield 154, 3) := dk_180 0 154 (dk_at dksX4_isDropped_0 18 rfl rfl)
theorem dX4_isDropped_21 : decode cX4_isDropped 21 = .ok (.iload_n 1, 1) := dk_27 (dk_at dksX4_isDropped_0 21 rfl rfl)
theorem dX4_isDropped_22 : decode cX4_isDropped 22 = .ok (.iaload, 1) := dk_46 (dk_at dksX4_isDropped_0 22 rfl rfl)
theorem dX4_isDropped_23 : decode cX4_isDropped 23 = .ok (.iastore, 1) := dk_79 (dk_at dksX4_isDropped_0 23 rfl rfl)
theorem dX4_isDropped_24 : decode cX4_isDropped 24 = .ok (.aload_n 0, 1) := dk_42 (dk_at dksX4_isDropped_1 0 rfl rfl)
theorem dX4_isDropped_25 : decode cX4_isDropped 25 = .ok (.getfield 90, 3) := dk_180 0 90 (dk_at dksX4_isDropped_1 1 rfl rfl)
theorem dX4_isDropped_28 : decode cX4_isDropped 28 = .ok (.iconst 5, 1) := dk_8 (dk_at dksX4_isDropped_1 4 rfl rfl)
theorem dX4_isDropped_29 : decode cX4_isDropped 29 = .ok (.iload_n 2, 1) := dk_28 (dk_at dksX4_isDropped_1 5 rfl rfl)
theorem dX4_isDropped_30 : decode cX4_isDropped 30 = .ok (.aload_n 0, 1) := dk_42 (dk_at dksX4_isDropped_1 6 rfl rfl)
theorem dX4_isDropped_31 : decode cX4_isDropped 31 = .ok (.getfield 157, 3) := dk_180 0 157 (dk_at dksX4_isDropped_1 7 rfl rfl)
theorem dX4_isDropped_34 : decode cX4_isDropped 34 = .ok (.iload_n 1, 1) := dk_27 (dk_at dksX4_isDropped_1 10 rfl rfl)
theorem dX4_isDropped_35 : decode cX4_isDropped 35 = .ok (.iaload, 1) := dk_46 (dk_at dksX4_isDropped_1 11 rfl rfl)
theorem dX4_isDropped_36 : decode cX4_isDropped 36 = .ok (.isub, 1) := dk_100 (dk_at dksX4_isDropped_1 12 rfl rfl)
theorem dX4_isDropped_37 : decode cX4_isDropped 37 = .ok (.iastore, 1) := dk_79 (dk_at dksX4_isDropped_1 13 rfl rfl)
theorem dX4_isDropped_38 : decode cX4_isDropped 38 = .ok (.aload_n 0, 1) := dk_42 (dk_at dksX4_isDropped_1 14 rfl rfl)
theorem dX4_isDropped_39 : decode cX4_isDropped 39 = .ok (.getfield 90, 3) := dk_180 0 90 (dk_at dksX4_isDropped_1 15 rfl rfl)
theorem dX4_isDropped_42 : decode cX4_isDropped 42 = .ok (.bipush 6, 2) := dk_16 6 (dk_at dksX4_isDropped_1 18 rfl rfl)
theorem dX4_isDropped_44 : decode cX4_isDropped 44 = .ok (.iload_n 1, 1) := dk_27 (dk_at dksX4_isDropped_1 20 rfl rfl)
theorem dX4_isDropped_45 : decode cX4_isDropped 45 = .ok (.iastore, 1) := dk_79 (dk_at dksX4_isDropped_1 21 rfl rfl)
theorem dX4_isDropped_46 : decode cX4_isDropped 46 = .ok (.iconst 0, 1) := dk_3 (dk_at dksX4_isDropped_1 22 rfl rfl)
theorem dX4_isDropped_47 : decode cX4_isDropped 47 = .ok (.istore_n 3, 1) := dk_62 (dk_at dksX4_isDropped_1 23 rfl rfl)
theorem dX4_isDropped_48 : decode cX4_isDropped 48 = .ok (.iconst 0, 1) := dk_3 (dk_at dksX4_isDropped_2 0 rfl rfl)
theorem dX4_isDropped_49 : decode cX4_isDropped 49 = .ok (.istore 4, 2) := dk_54 4 (dk_at dksX4_isDropped_2 1 rfl rfl)
theorem dX4_isDropped_51 : decode cX4_isDropped 51 = .ok (.iload 4, 2) := dk_21 4 (dk_at dksX4_isDropped_2 3 rfl rfl)
theorem dX4_isDropped_53 : decode cX4_isDropped 53 = .ok (.aload_n 0, 1) := dk_42 (dk_at dksX4_isDropped_2 5 rfl rfl)
theorem dX4_isDropped_54 : decode cX4_isDropped 54 = .ok (.invokevirtual 409, 3) := dk_182 1 153 (dk_at dksX4_isDropped_2 6 rfl rfl)
theorem dX4_isDropped_57 : decode cX4_isDropped 57 = .ok (.if_icmp .ge 54, 3) := dk_162 0 54 (dk_at dksX4_isDropped_2 9 rfl rfl)
theorem dX4_isDropped_60 : decode cX4_isDropped 60 = .ok (.iload_n 3, 1) := dk_29 (dk_at dksX4_isDropped_2 12 rfl rfl)
theorem dX4_isDropped_61 : decode cX4_isDropped 61 = .ok (.ifCond .ne 38, 3) := dk_154 0 38 (dk_at dksX4_isDropped_2 13 rfl rfl)
theorem dX4_isDropped_64 : decode cX4_isDropped 64 = .ok (.aload_n 0, 1) := dk_42 (dk_at dksX4_isDropped_2 16 rfl rfl)
theorem dX4_isDropped_65 : decode cX4_isDropped 65 = .ok (.getfield 30, 3) := dk_180 0 30 (dk_at dksX4_isDropped_2 17 rfl rfl)
theorem dX4_isDropped_68 : decode cX4_isDropped 68 = .ok (.aload_n 0, 1) := dk_42 (dk_at dksX4_isDropped_2 20 rfl rfl)
theorem dX4_isDropped_69 : decode cX4_isDropped 69 = .ok (.iload 4, 2) := dk_21 4 (dk_at dksX4_isDropped_2 21 rfl rfl)
theorem dX4_isDropped_71 : decode cX4_isDropped 71 = .ok (.invokevirtual 412, 3) := dk_182 1 156 (dk_at dksX4_isDropped_3 0 rfl rfl)
theorem dX4_isDropped_74 : decode cX4_isDropped 74 = .ok (.iaload, 1) := dk_46 (dk_at dksX4_isDropped_3 3 rfl rfl)
theorem dX4_isDropped_75 : decode cX4_isDropped 75 = .ok (.iconst 2, 1) := dk_5 (dk_at dksX4_isDropped_3 4 rfl rfl)
theorem dX4_isDropped_76 : decode cX4_isDropped 76 = .ok (.if_icmp .ne 27, 3) := dk_160 0 27 (dk_at dksX4_isDropped_3 5 rfl rfl)
theorem dX4_isDropped_79 : decode cX4_isDropped 79 = .ok (.aload_n 0, 1) := dk_42 (dk_at dksX4_isDropped_3 8 rfl rfl)
theorem dX4_isDropped_80 : decode cX4_isDropped 80 = .ok (.aload_n 0, 1) := dk_42 (dk_at dksX4_isDropped_3 9 rfl rfl)
theorem dX4_isDropped_81 : decode cX4_isDropped 81 = .ok (.getfield 33, 3) := dk_180 0 33 (dk_at dksX4_isDropped_3 10 rfl rfl)
theorem dX4_isDropped_84 : decode cX4_isDropped 84 = .ok (.aload_n 0, 1) := dk_42 (dk_at dksX4_isDropped_3 13 rfl rfl)
theorem dX4_isDropped_85 : decode cX4_isDropped 85 = .ok (.iload 4, 2) := dk_21 4 (dk_at dksX4_isDropped_3 14 rfl rfl)
theorem dX4_isDropped_87 : decode cX4_isDropped 87 = .ok (.invokevirtual 412, 3) := dk_182 1 156 (dk_at dksX4_isDropped_3 16 rfl rfl)
theorem dX4_isDropped_90 : decode cX4_isDropped 90 = .ok (.iaload, 1) := dk_46 (dk_at dksX4_isDropped_3 19 rfl rfl)
theorem dX4_isDropped_91 : decode cX4_isDropped 91 = .ok (.invokevirtual 498, 3) := dk_182 1 242 (dk_at dksX4_isDropped_3 20 rfl rfl)
theorem dX4_isDropped_94 : decode cX4_isDropped 94 = .ok (.lconst 0, 1) := dk_9 (dk_at dksX4_isDropped_3 23 rfl rfl)
theorem dX4_isDropped_95 : decode cX4_isDropped 95 = .ok (.lcmp, 1) := dk_148 (dk_at dksX4_isDropped_4 0 rfl rfl)
theorem dX4_isDropped_96 : decode cX4_isDropped 96 = .ok (.ifCond .le 7, 3) := dk_158 0 7 (dk_at dksX4_isDropped_4 1 rfl rfl)
theorem dX4_isDropped_99 : decode cX4_isDropped 99 = .ok (.iconst 1, 1) := dk_4 (dk_at dksX4_isDropped_4 4 rfl rfl)
theorem dX4_isDropped_100 : decode cX4_isDropped 100 = .ok (.goto 4, 3) := dk_167 0 4 (dk_at dksX4_isDropped_4 5 rfl rfl)
theorem dX4_isDropped_103 : decode cX4_isDropped 103 = .ok (.iconst 0, 1) := dk_3 (dk_at dksX4_isDropped_4 8 rfl rfl)
theorem dX4_isDropped_104 : decode cX4_isDropped 104 = .ok (.istore_n 3, 1) := dk_62 (dk_at dksX4_isDropped_4 9 rfl rfl)
theorem dX4_isDropped_105 : decode cX4_isDropped 105 = .ok (.iinc 4 1, 3) := dk_132 4 1 (dk_at dksX4_isDropped_4 10 rfl rfl)
theorem dX4_isDropped_108 : decode cX4_isDropped 108 = .ok (.goto (-57), 3) := dk_167 255 199 (dk_at dksX4_isDropped_4 13 rfl rfl)
theorem dX4_isDropped_111 : decode cX4_isDropped 111 = .ok (.iload_n 3, 1) := dk_29 (dk_at dksX4_isDropped_4 16 rfl rfl)
theorem dX4_isDropped_112 : decode cX4_isDropped 112 = .ok (.ireturn, 1) := dk_172 (dk_at dksX4_isDropped_4 17 rfl rfl)
abbrev cX4_drops : ByteArray := prog_23_method_86_code
def yX4_drops : MethodName := ⟨RX4, "drops", "(I)V"⟩
def dkwX4_drops_3 : List UInt8 := [4, 96, 46, 79, 132, 2, 1, 167, 255, 189, 42, 89, 180, 2, 19, 4, 96, 181, 2, 19, 177]
abbrev dktX4_drops_3 : List UInt8 := dkwX4_drops_3 ++ []
def dkwX4_drops_2 : List UInt8 := [42, 180, 0, 154, 28, 42, 180, 0, 154, 28, 4, 96, 46, 79, 42, 180, 0, 157, 28, 42, 180, 0, 157, 28]
abbrev dktX4_drops_2 : List UInt8 := dkwX4_drops_2 ++ dktX4_drops_3
def dkwX4_drops_1 : List UInt8 := [28, 42, 180, 0, 148, 28, 4, 96, 46, 79, 42, 180, 0, 151, 28, 42, 180, 0, 151, 28, 4, 96, 46, 79]
abbrev dktX4_drops_1 : List UInt8 := dkwX4_drops_1 ++ dktX4_drops_2
def dkwX4_drops_0 : List UInt8 := [42, 89, 180, 1, 236, 4, 100, 181, 1, 236, 27, 61, 28, 42, 180, 1, 236, 162, 0, 65, 42, 180, 0, 148]
abbrev dktX4_drops_0 : List UInt8 := dkwX4_drops_0 ++ dktX4_drops_1
theorem dksX4_drops_0 : cX4_drops.data.toList.drop 0 = dktX4_drops_0 := by decide +kernel
theorem dksX4_drops_1 : cX4_drops.data.toList.drop 24 = dktX4_drops_1 := dk_seg dksX4_drops_0 24 rfl rfl
theorem dksX4_drops_2 : cX4_drops.data.toList.drop 48 = dktX4_drops_2 := dk_seg dksX4_drops_1 24 rfl rfl
theorem dksX4_drops_3 : cX4_drops.data.toList.drop 72 = dktX4_drops_3 := dk_seg dksX4_drops_2 24 rfl rfl
theorem dX4_drops_0 : decode cX4_drops 0 = .ok (.aload_n 0, 1) := dk_42 (dk_at dksX4_drops_0 0 rfl rfl)
theorem dX4_drops_1 : decode cX4_drops 1 = .ok (.dup, 1) := dk_89 (dk_at dksX4_drops_0 1 rfl rfl)
theorem dX4_drops_2 : decode cX4_drops 2 = .ok (.getfield 492, 3) := dk_180 1 236 (dk_at dksX4_drops_0 2 rfl rfl)
theorem dX4_drops_5 : decode cX4_drops 5 = .ok (.iconst 1, 1) := dk_4 (dk_at dksX4_drops_0 5 rfl rfl)
theorem dX4_drops_6 : decode cX4_drops 6 = .ok (.isub, 1) := dk_100 (dk_at dksX4_drops_0 6 rfl rfl)
theorem dX4_drops_7 : decode cX4_drops 7 = .ok (.putfield 492, 3) := dk_181 1 236 (dk_at dksX4_drops_0 7 rfl rfl)
theorem dX4_drops_10 : decode cX4_drops 10 = .ok (.iload_n 1, 1) := dk_27 (dk_at dksX4_drops_0 10 rfl rfl)
theorem dX4_drops_11 : decode cX4_drops 11 = .ok (.istore_n 2, 1) := dk_61 (dk_at dksX4_drops_0 11 rfl rfl)
theorem dX4_drops_12 : decode cX4_drops 12 = .ok (.iload_n 2, 1) := dk_28 (dk_at dksX4_drops_0 12 rfl rfl)
theorem dX4_drops_13 : decode cX4_drops 13 = .ok (.aload_n 0, 1) := dk_42 (dk_at dksX4_drops_0 13 rfl rfl)
theorem dX4_drops_14 : decode cX4_drops 14 = .ok (.getfield 492, 3) := dk_180 1 236 (dk_at dksX4_drops_0 14 rfl rfl)
theorem dX4_drops_17 : decode cX4_drops 17 = .ok (.if_icmp .ge 65, 3) := dk_162 0 65 (dk_at dksX4_drops_0 17 rfl rfl)
theorem dX4_drops_20 : decode cX4_drops 20 = .ok (.aload_n 0, 1) := dk_42 (dk_at dksX4_drops_0 20 rfl rfl)
theorem dX4_drops_21 : decode cX4_drops 21 = .ok (.getfield 148, 3) := dk_180 0 148 (dk_at dksX4_drops_0 21 rfl rfl)
theorem dX4_drops_24 : decode cX4_drops 24 = .ok (.iload_n 2, 1) := dk_28 (dk_at dksX4_drops_1 0 rfl rfl)
theorem dX4_drops_25 : decode cX4_drops 25 = .ok (.aload_n 0, 1) := dk_42 (dk_at dksX4_drops_1 1 rfl rfl)
theorem dX4_drops_26 : decode cX4_drops 26 = .ok (.getfield 148, 3) := dk_180 0 148 (dk_at dksX4_drops_1 2 rfl rfl)
theorem dX4_drops_29 : decode cX4_drops 29 = .ok (.iload_n 2, 1) := dk_28 (dk_at dksX4_drops_1 5 rfl rfl)
theorem dX4_drops_30 : decode cX4_drops 30 = .ok (.iconst 1, 1) := dk_4 (dk_at dksX4_drops_1 6 rfl rfl)
theorem dX4_drops_31 : decode cX4_drops 31 = .ok (.iadd, 1) := dk_96 (dk_at dksX4_drops_1 7 rfl rfl)
theorem dX4_drops_32 : decode cX4_drops 32 = .ok (.iaload, 1) := dk_46 (dk_at dksX4_drops_1 8 rfl rfl)
theorem dX4_drops_33 : decode cX4_drops 33 = .ok (.iastore, 1) := dk_79 (dk_at dksX4_drops_1 9 rfl rfl)
theorem dX4_drops_34 : decode cX4_drops 34 = .ok (.aload_n 0, 1) := dk_42 (dk_at dksX4_drops_1 10 rfl rfl)
theorem dX4_drops_35 : decode cX4_drops 35 = .ok (.getfield 151, 3) := dk_180 0 151 (dk_at dksX4_drops_1 11 rfl rfl)
theorem dX4_drops_38 : decode cX4_drops 38 = .ok (.iload_n 2, 1) := dk_28 (dk_at dksX4_drops_1 14 rfl rfl)
theorem dX4_drops_39 : decode cX4_drops 39 = .ok (.aload_n 0, 1) := dk_42 (dk_at dksX4_drops_1 15 rfl rfl)
theorem dX4_drops_40 : decode cX4_drops 40 = .ok (.getfield 151, 3) := dk_180 0 151 (dk_at dksX4_drops_1 16 rfl rfl)
theorem dX4_drops_43 : decode cX4_drops 43 = .ok (.iload_n 2, 1) := dk_28 (dk_at dksX4_drops_1 19 rfl rfl)
theorem dX4_drops_44 : decode cX4_drops 44 = .ok (.iconst 1, 1) := dk_4 (dk_at dksX4_drops_1 20 rfl rfl)
theorem dX4_drops_45 : decode cX4_drops 45 = .ok (.iadd, 1) := dk_96 (dk_at dksX4_drops_1 21 rfl rfl)
theorem dX4_drops_46 : decode cX4_drops 46 = .ok (.iaload, 1) := dk_46 (dk_at dksX4_drops_1 22 rfl rfl)
theorem dX4_drops_47 : decode cX4_drops 47 = .ok (.iastore, 1) := dk_79 (dk_at dksX4_drops_1 23 rfl rfl)
theorem dX4_drops_48 : decode cX4_drops 48 = .ok (.aload_n 0, 1) := dk_42 (dk_at dksX4_drops_2 0 rfl rfl)
theorem dX4_drops_49 : decode cX4_drops 49 = .ok (.getfield 154, 3) := dk_180 0 154 (dk_at dksX4_drops_2 1 rfl rfl)
theorem dX4_drops_52 : decode cX4_drops 52 = .ok (.iload_n 2, 1) := dk_28 (dk_at dksX4_drops_2 4 rfl rfl)
theorem dX4_drops_53 : decode cX4_drops 53 = .ok (.aload_n 0, 1) := dk_42 (dk_at dksX4_drops_2 5 rfl rfl)
theorem dX4_drops_54 : decode cX4_drops 54 = .ok (.getfield 154, 3) := dk_180 0 154 (dk_at dksX4_drops_2 6 rfl rfl)
theorem dX4_drops_57 : decode cX4_drops 57 = .ok (.iload_n 2, 1) := dk_28 (dk_at dksX4_drops_2 9 rfl rfl)
theorem dX4_drops_58 : decode cX4_drops 58 = .ok (.iconst 1, 1) := dk_4 (dk_at dksX4_drops_2 10 rfl rfl)
theorem dX4_drops_59 : decode cX4_drops 59 = .ok (.iadd, 1) := dk_96 (dk_at dksX4_drops_2 11 rfl rfl)
theorem dX4_drops_60 : decode cX4_drops 60 = .ok (.iaload, 1) := dk_46 (dk_at dksX4_drops_2 12 rfl rfl)
theorem dX4_drops_61 : decode cX4_drops 61 = .ok (.iastore, 1) := dk_79 (dk_at dksX4_drops_2 13 rfl rfl)
theorem dX4_drops_62 : decode cX4_drops 62 = .ok (.aload_n 0, 1) := dk_42 (dk_at dksX4_drops_2 14 rfl rfl)
theorem dX4_drops_63 : decode cX4_drops 63 = .ok (.getfield 157, 3) := dk_180 0 157 (dk_at dksX4_drops_2 15 rfl rfl)
theorem dX4_drops_66 : decode cX4_drops 66 = .ok (.iload_n 2, 1) := dk_28 (dk_at dksX4_drops_2 18 rfl rfl)
theorem dX4_drops_67 : decode cX4_drops 67 = .ok (.aload_n 0, 1) := dk_42 (dk_at dksX4_drops_2 19 rfl rfl)
theorem dX4_drops_68 : decode cX4_drops 68 = .ok (.getfield 157, 3) := dk_180 0 157 (dk_at dksX4_drops_2 20 rfl rfl)
theorem dX4_drops_71 : decode cX4_drops 71 = .ok (.iload_n 2, 1) := dk_28 (dk_at dksX4_drops_2 23 rfl rfl)
theorem dX4_drops_72 : decode cX4_drops 72 = .ok (.iconst 1, 1) := dk_4 (dk_at dksX4_drops_3 0 rfl rfl)
theorem dX4_drops_73 : decode cX4_drops 73 = .ok (.iadd, 1) := dk_96 (dk_at dksX4_drops_3 1 rfl rfl)
theorem dX4_drops_74 : decode cX4_drops 74 = .ok (.iaload, 1) := dk_46 (dk_at dksX4_drops_3 2 rfl rfl)
theorem dX4_drops_75 : decode cX4_drops 75 = .ok (.iastore, 1) := dk_79 (dk_at dksX4_drops_3 3 rfl rfl)
theorem dX4_drops_76 : decode cX4_drops 76 = .ok (.iinc 2 1, 3) := dk_132 2 1 (dk_at dksX4_drops_3 4 rfl rfl)
theorem dX4_drops_79 : decode cX4_drops 79 = .ok (.goto (-67), 3) := dk_167 255 189 (dk_at dksX4_drops_3 7 rfl rfl)
theorem dX4_drops_82 : decode cX4_drops 82 = .ok (.aload_n 0, 1) := dk_42 (dk_at dksX4_drops_3 10 rfl rfl)
theorem dX4_drops_83 : decode cX4_drops 83 = .ok (.dup, 1) := dk_89 (dk_at dksX4_drops_3 11 rfl rfl)
theorem dX4_drops_84 : decode cX4_drops 84 = .ok (.getfield 531, 3) := dk_180 2 19 (dk_at dksX4_drops_3 12 rfl rfl)
theorem dX4_drops_87 : decode cX4_drops 87 = .ok (.iconst 1, 1) := dk_4 (dk_at dksX4_drops_3 15 rfl rfl)
theorem dX4_drops_88 : decode cX4_drops 88 = .ok (.iadd, 1) := dk_96 (dk_at dksX4_drops_3 16 rfl rfl)
theorem dX4_drops_89 : decode cX4_drops 89 = .ok (.putfield 531, 3) := dk_181 2 19 (dk_at dksX4_drops_3 17 rfl rfl)
theorem dX4_drops_92 : decode cX4_drops 92 = .ok (.return_, 1) := dk_177 (dk_at dksX4_drops_3 20 rfl rfl)
abbrev cX4_enough : ByteArray := prog_23_method_89_code
def yX4_enough : MethodName := ⟨RX4, "enough", "(II)I"⟩
def dkwX4_enough_2 : List UInt8 := [153, 0, 6, 21, 4, 172, 132, 4, 1, 167, 255, 232, 2, 172]
abbrev dktX4_enough_2 : List UInt8 := dkwX4_enough_2 ++ []
def dkwX4_enough_1 : List UInt8 := [182, 2, 10, 62, 4, 54, 4, 21, 4, 16, 24, 163, 0, 23, 42, 21, 4, 28, 29, 182, 2, 41]
abbrev dktX4_enough_1 : List UInt8 := dkwX4_enough_1 ++ dktX4_enough_2
def dkwX4_enough_0 : List UInt8 := [28, 3, 6, 184, 0, 199, 153, 0, 11, 42, 27, 182, 1, 215, 154, 0, 5, 2, 172, 42, 182, 2, 7, 42]
abbrev dktX4_enough_0 : List UInt8 := dkwX4_enough_0 ++ dktX4_enough_1
theorem dksX4_enough_0 : cX4_enough.data.toList.drop 0 = dktX4_enough_0 := by decide +kernel
theorem dksX4_enough_1 : cX4_enough.data.toList.drop 24 = dktX4_enough_1 := dk_seg dksX4_enough_0 24 rfl rfl
theorem dksX4_enough_2 : cX4_enough.data.toList.drop 46 = dktX4_enough_2 := dk_seg dksX4_enough_1 22 rfl rfl
theorem dX4_enough_0 : decode cX4_enough 0 = .ok (.iload_n 2, 1) := dk_28 (dk_at dksX4_enough_0 0 rfl rfl)
theorem dX4_enough_1 : decode cX4_enough 1 = .ok (.iconst 0, 1) := dk_3 (dk_at dksX4_enough_0 1 rfl rfl)
theorem dX4_enough_2 : decode cX4_enough 2 = .ok (.iconst 3, 1) := dk_6 (dk_at dksX4_enough_0 2 rfl rfl)
theorem dX4_enough_3 : decode cX4_enough 3 = .ok (.invokestatic 199, 3) := dk_184 0 199 (dk_at dksX4_enough_0 3 rfl rfl)
theorem dX4_enough_6 : decode cX4_enough 6 = .ok (.ifCond .eq 11, 3) := dk_153 0 11 (dk_at dksX4_enough_0 6 rfl rfl)
theorem dX4_enough_9 : decode cX4_enough 9 = .ok (.aload_n 0, 1) := dk_42 (dk_at dksX4_enough_0 9 rfl rfl)
theorem dX4_enough_10 : decode cX4_enough 10 = .ok (.iload_n 1, 1) := dk_27 (dk_at dksX4_enough_0 10 rfl rfl)
theorem dX4_enough_11 : decode cX4_enough 11 = .ok (.invokevirtual 471, 3) := dk_182 1 215 (dk_at dksX4_enough_0 11 rfl rfl)
theorem dX4_enough_14 : decode cX4_enough 14 = .ok (.ifCond .ne 5, 3) := dk_154 0 5 (dk_at dksX4_enough_0 14 rfl rfl)
theorem dX4_enough_17 : decode cX4_enough 17 = .ok (.iconst (-1), 1) := dk_2 (dk_at dksX4_enough_0 17 rfl rfl)
theorem dX4_enough_18 : decode cX4_enough 18 = .ok (.ireturn, 1) := dk_172 (dk_at dksX4_enough_0 18 rfl rfl)
theorem dX4_enough_19 : decode cX4_enough 19 = .ok (.aload_n 0, 1) := dk_42 (dk_at dksX4_enough_0 19 rfl rfl)
theorem dX4_enough_20 : decode cX4_enough 20 = .ok (.invokevirtual 519, 3) := dk_182 2 7 (dk_at dksX4_enough_0 20 rfl rfl)
theorem dX4_enough_23 : decode cX4_enough 23 = .ok (.aload_n 0, 1) := dk_42 (dk_at dksX4_enough_0 23 rfl rfl)
theorem dX4_enough_24 : decode cX4_enough 24 = .ok (.invokevirtual 522, 3) := dk_182 2 10 (dk_at dksX4_enough_1 0 rfl rfl)
theorem dX4_enough_27 : decode cX4_enough 27 = .ok (.istore_n 3, 1) := dk_62 (dk_at dksX4_enough_1 3 rfl rfl)
theorem dX4_enough_28 : decode cX4_enough 28 = .ok (.iconst 1, 1) := dk_4 (dk_at dksX4_enough_1 4 rfl rfl)
theorem dX4_enough_29 : decode cX4_enough 29 = .ok (.istore 4, 2) := dk_54 4 (dk_at dksX4_enough_1 5 rfl rfl)
theorem dX4_enough_31 : decode cX4_enough 31 = .ok (.iload 4, 2) := dk_21 4 (dk_at dksX4_enough_1 7 rfl rfl)
theorem dX4_enough_33 : decode cX4_enough 33 = .ok (.bipush 24, 2) := dk_16 24 (dk_at dksX4_enough_1 9 rfl rfl)
theorem dX4_enough_35 : decode cX4_enough 35 = .ok (.if_icmp .gt 23, 3) := dk_163 0 23 (dk_at dksX4_enough_1 11 rfl rfl)
theorem dX4_enough_38 : decode cX4_enough 38 = .ok (.aload_n 0, 1) := dk_42 (dk_at dksX4_enough_1 14 rfl rfl)
theorem dX4_enough_39 : decode cX4_enough 39 = .ok (.iload 4, 2) := dk_21 4 (dk_at dksX4_enough_1 15 rfl rfl)
theorem dX4_enough_41 : decode cX4_enough 41 = .ok (.iload_n 2, 1) := dk_28 (dk_at dksX4_enough_1 17 rfl rfl)
theorem dX4_enough_42 : decode cX4_enough 42 = .ok (.iload_n 3, 1) := dk_29 (dk_at dksX4_enough_1 18 rfl rfl)
theorem dX4_enough_43 : decode cX4_enough 43 = .ok (.invokevirtual 553, 3) := dk_182 2 41 (dk_at dksX4_enough_1 19 rfl rfl)
theorem dX4_enough_46 : decode cX4_enough 46 = .ok (.ifCond .eq 6, 3) := dk_153 0 6 (dk_at dksX4_enough_2 0 rfl rfl)
theorem dX4_enough_49 : decode cX4_enough 49 = .ok (.iload 4, 2) := dk_21 4 (dk_at dksX4_enough_2 3 rfl rfl)
theorem dX4_enough_51 : decode cX4_enough 51 = .ok (.ireturn, 1) := dk_172 (dk_at dksX4_enough_2 5 rfl rfl)
theorem dX4_enough_52 : decode cX4_enough 52 = .ok (.iinc 4 1, 3) := dk_132 4 1 (dk_at dksX4_enough_2 6 rfl rfl)
theorem dX4_enough_55 : decode cX4_enough 55 = .ok (.goto (-24), 3) := dk_167 255 232 (dk_at dksX4_enough_2 9 rfl rfl)
theorem dX4_enough_58 : decode cX4_enough 58 = .ok (.iconst (-1), 1) := dk_2 (dk_at dksX4_enough_2 12 rfl rfl)
theorem dX4_enough_59 : decode cX4_enough 59 = .ok (.ireturn, 1) := dk_172 (dk_at dksX4_enough_2 13 rfl rfl)
abbrev cX4_wordy : ByteArray := prog_23_method_105_code
def yX4_wordy : MethodName := ⟨RX4, "wordy", "(II)I"⟩
def dkwX4_wordy_2 : List UInt8 := [167, 0, 5, 21, 4, 172]
abbrev dktX4_wordy_2 : List UInt8 := dkwX4_wordy_2 ++ []
def dkwX4_wordy_1 : List UInt8 := [17, 39, 16, 167, 0, 10, 42, 29, 3, 28, 182, 2, 51, 54, 4, 21, 4, 17, 39, 16, 161, 0, 7, 2]
abbrev dktX4_wordy_1 : List UInt8 := dkwX4_wordy_1 ++ dktX4_wordy_2
def dkwX4_wordy_0 : List UInt8 := [28, 4, 16, 24, 184, 0, 199, 154, 0, 5, 2, 172, 42, 27, 182, 2, 92, 62, 29, 2, 160, 0, 9]
abbrev dktX4_wordy_0 : List UInt8 := dkwX4_wordy_0 ++ dktX4_wordy_1
theorem dksX4_wordy_0 : cX4_wordy.data.toList.drop 0 = dktX4_wordy_0 := by decide +kernel
theorem dksX4_wordy_1 : cX4_wordy.data.toList.drop 23 = dktX4_wordy_1 := dk_seg dksX4_wordy_0 23 rfl rfl
theorem dksX4_wordy_2 : cX4_wordy.data.toList.drop 47 = dktX4_wordy_2 := dk_seg dksX4_wordy_1 24 rfl rfl
theorem dX4_wordy_0 : decode cX4_wordy 0 = .ok (.iload_n 2, 1) := dk_28 (dk_at dksX4_wordy_0 0 rfl rfl)
theorem dX4_wordy_1 : decode cX4_wordy 1 = .ok (.iconst 1, 1) := dk_4 (dk_at dksX4_wordy_0 1 rfl rfl)
theorem dX4_wordy_2 : decode cX4_wordy 2 = .ok (.bipush 24, 2) := dk_16 24 (dk_at dksX4_wordy_0 2 rfl rfl)
theorem dX4_wordy_4 : decode cX4_wordy 4 = .ok (.invokestatic 199, 3) := dk_184 0 199 (dk_at dksX4_wordy_0 4 rfl rfl)
theorem dX4_wordy_7 : decode cX4_wordy 7 = .ok (.ifCond .ne 5, 3) := dk_154 0 5 (dk_at dksX4_wordy_0 7 rfl rfl)
theorem dX4_wordy_10 : decode cX4_wordy 10 = .ok (.iconst (-1), 1) := dk_2 (dk_at dksX4_wordy_0 10 rfl rfl)
theorem dX4_wordy_11 : decode cX4_wordy 11 = .ok (.ireturn, 1) := dk_172 (dk_at dksX4_wordy_0 11 rfl rfl)
theorem dX4_wordy_12 : decode cX4_wordy 12 = .ok (.aload_n 0, 1) := dk_42 (dk_at dksX4_wordy_0 12 rfl rfl)
theorem dX4_wordy_13 : decode cX4_wordy 13 = .ok (.iload_n 1, 1) := dk_27 (dk_at dksX4_wordy_0 13 rfl rfl)
theorem dX4_wordy_14 : decode cX4_wordy 14 = .ok (.invokevirtual 604, 3) := dk_182 2 92 (dk_at dksX4_wordy_0 14 rfl rfl)
theorem dX4_wordy_17 : decode cX4_wordy 17 = .ok (.istore_n 3, 1) := dk_62 (dk_at dksX4_wordy_0 17 rfl rfl)
theorem dX4_wordy_18 : decode cX4_wordy 18 = .ok (.iload_n 3, 1) := dk_29 (dk_at dksX4_wordy_0 18 rfl rfl)
theorem dX4_wordy_19 : decode cX4_wordy 19 = .ok (.iconst (-1), 1) := dk_2 (dk_at dksX4_wordy_0 19 rfl rfl)
theorem dX4_wordy_20 : decode cX4_wordy 20 = .ok (.if_icmp .ne 9, 3) := dk_160 0 9 (dk_at dksX4_wordy_0 20 rfl rfl)
theorem dX4_wordy_23 : decode cX4_wordy 23 = .ok (.sipush 10000, 3) := dk_17 39 16 (dk_at dksX4_wordy_1 0 rfl rfl)
theorem dX4_wordy_26 : decode cX4_wordy 26 = .ok (.goto 10, 3) := dk_167 0 10 (dk_at dksX4_wordy_1 3 rfl rfl)
theorem dX4_wordy_29 : decode cX4_wordy 29 = .ok (.aload_n 0, 1) := dk_42 (dk_at dksX4_wordy_1 6 rfl rfl)
theorem dX4_wordy_30 : decode cX4_wordy 30 = .ok (.iload_n 3, 1) := dk_29 (dk_at dksX4_wordy_1 7 rfl rfl)
theorem dX4_wordy_31 : decode cX4_wordy 31 = .ok (.iconst 0, 1) := dk_3 (dk_at dksX4_wordy_1 8 rfl rfl)
theorem dX4_wordy_32 : decode cX4_wordy 32 = .ok (.iload_n 2, 1) := dk_28 (dk_at dksX4_wordy_1 9 rfl rfl)
theorem dX4_wordy_33 : decode cX4_wordy 33 = .ok (.invokevirtual 563, 3) := dk_182 2 51 (dk_at dksX4_wordy_1 10 rfl rfl)
theorem dX4_wordy_36 : decode cX4_wordy 36 = .ok (.istore 4, 2) := dk_54 4 (dk_at dksX4_wordy_1 13 rfl rfl)
theorem dX4_wordy_38 : decode cX4_wordy 38 = .ok (.iload 4, 2) := dk_21 4 (dk_at dksX4_wordy_1 15 rfl rfl)
theorem dX4_wordy_40 : decode cX4_wordy 40 = .ok (.sipush 10000, 3) := dk_17 39 16 (dk_at dksX4_wordy_1 17 rfl rfl)
theorem dX4_wordy_43 : decode cX4_wordy 43 = .ok (.if_icmp .lt 7, 3) := dk_161 0 7 (dk_at dksX4_wordy_1 20 rfl rfl)
theorem dX4_wordy_46 : decode cX4_wordy 46 = .ok (.iconst (-1), 1) := dk_2 (dk_at dksX4_wordy_1 23 rfl rfl)
theorem dX4_wordy_47 : decode cX4_wordy 47 = .ok (.goto 5, 3) := dk_167 0 5 (dk_at dksX4_wordy_2 0 rfl rfl)
theorem dX4_wordy_50 : decode cX4_wordy 50 = .ok (.iload 4, 2) := dk_21 4 (dk_at dksX4_wordy_2 3 rfl rfl)
theorem dX4_wordy_52 : decode cX4_wordy 52 = .ok (.ireturn, 1) := dk_172 (dk_at dksX4_wordy_2 5 rfl rfl)
abbrev cX4_laysCosts : ByteArray := prog_23_method_104_code
def yX4_laysCosts : MethodName := ⟨RX4, "laysCosts", "(I)I"⟩
def dkwX4_laysCosts_2 : List UInt8 := [132, 4, 1, 167, 255, 239, 132, 3, 1, 167, 255, 222, 28, 172]
abbrev dktX4_laysCosts_2 : List UInt8 := dkwX4_laysCosts_2 ++ []
def dkwX4_laysCosts_1 : List UInt8 := [180, 1, 230, 162, 0, 32, 4, 54, 4, 21, 4, 16, 24, 163, 0, 16, 42, 29, 21, 4, 182, 2, 89]
abbrev dktX4_laysCosts_1 : List UInt8 := dkwX4_laysCosts_1 ++ dktX4_laysCosts_2
def dkwX4_laysCosts_0 : List UInt8 := [42, 27, 182, 1, 215, 154, 0, 5, 2, 172, 42, 182, 2, 7, 42, 182, 2, 10, 61, 3, 62, 29, 42]
abbrev dktX4_laysCosts_0 : List UInt8 := dkwX4_laysCosts_0 ++ dktX4_laysCosts_1
theorem dksX4_laysCosts_0 : cX4_laysCosts.data.toList.drop 0 = dktX4_laysCosts_0 := by decide +kernel
theorem dksX4_laysCosts_1 : cX4_laysCosts.data.toList.drop 23 = dktX4_laysCosts_1 := dk_seg dksX4_laysCosts_0 23 rfl rfl
theorem dksX4_laysCosts_2 : cX4_laysCosts.data.toList.drop 46 = dktX4_laysCosts_2 := dk_seg dksX4_laysCosts_1 23 rfl rfl
theorem dX4_laysCosts_0 : decode cX4_laysCosts 0 = .ok (.aload_n 0, 1) := dk_42 (dk_at dksX4_laysCosts_0 0 rfl rfl)
theorem dX4_laysCosts_1 : decode cX4_laysCosts 1 = .ok (.iload_n 1, 1) := dk_27 (dk_at dksX4_laysCosts_0 1 rfl rfl)
theorem dX4_laysCosts_2 : decode cX4_laysCosts 2 = .ok (.invokevirtual 471, 3) := dk_182 1 215 (dk_at dksX4_laysCosts_0 2 rfl rfl)
theorem dX4_laysCosts_5 : decode cX4_laysCosts 5 = .ok (.ifCond .ne 5, 3) := dk_154 0 5 (dk_at dksX4_laysCosts_0 5 rfl rfl)
theorem dX4_laysCosts_8 : decode cX4_laysCosts 8 = .ok (.iconst (-1), 1) := dk_2 (dk_at dksX4_laysCosts_0 8 rfl rfl)
theorem dX4_laysCosts_9 : decode cX4_laysCosts 9 = .ok (.ireturn, 1) := dk_172 (dk_at dksX4_laysCosts_0 9 rfl rfl)
theorem dX4_laysCosts_10 : decode cX4_laysCosts 10 = .ok (.aload_n 0, 1) := dk_42 (dk_at dksX4_laysCosts_0 10 rfl rfl)
theorem dX4_laysCosts_11 : decode cX4_laysCosts 11 = .ok (.invokevirtual 519, 3) := dk_182 2 7 (dk_at dksX4_laysCosts_0 11 rfl rfl)
theorem dX4_laysCosts_14 : decode cX4_laysCosts 14 = .ok (.aload_n 0, 1) := dk_42 (dk_at dksX4_laysCosts_0 14 rfl rfl)
theorem dX4_laysCosts_15 : decode cX4_laysCosts 15 = .ok (.invokevirtual 522, 3) := dk_182 2 10 (dk_at dksX4_laysCosts_0 15 rfl rfl)
theorem dX4_laysCosts_18 : decode cX4_laysCosts 18 = .ok (.istore_n 2, 1) := dk_61 (dk_at dksX4_laysCosts_0 18 rfl rfl)
theorem dX4_laysCosts_19 : decode cX4_laysCosts 19 = .ok (.iconst 0, 1) := dk_3 (dk_at dksX4_laysCosts_0 19 rfl rfl)
theorem dX4_laysCosts_20 : decode cX4_laysCosts 20 = .ok (.istore_n 3, 1) := dk_62 (dk_at dksX4_laysCosts_0 20 rfl rfl)
theorem dX4_laysCosts_21 : decode cX4_laysCosts 21 = .ok (.iload_n 3, 1) := dk_29 (dk_at dksX4_laysCosts_0 21 rfl rfl)
theorem dX4_laysCosts_22 : decode cX4_laysCosts 22 = .ok (.aload_n 0, 1) := dk_42 (dk_at dksX4_laysCosts_0 22 rfl rfl)
theorem dX4_laysCosts_23 : decode cX4_laysCosts 23 = .ok (.getfield 486, 3) := dk_180 1 230 (dk_at dksX4_laysCosts_1 0 rfl rfl)
theorem dX4_laysCosts_26 : decode cX4_laysCosts 26 = .ok (.if_icmp .ge 32, 3) := dk_162 0 32 (dk_at dksX4_laysCosts_1 3 rfl rfl)
theorem dX4_laysCosts_29 : decode cX4_laysCosts 29 = .ok (.iconst 1, 1) := dk_4 (dk_at dksX4_laysCosts_1 6 rfl rfl)
theorem dX4_laysCosts_30 : decode cX4_laysCosts 30 = .ok (.istore 4, 2) := dk_54 4 (dk_at dksX4_laysCosts_1 7 rfl rfl)
theorem dX4_laysCosts_32 : decode cX4_laysCosts 32 = .ok (.iload 4, 2) := dk_21 4 (dk_at dksX4_laysCosts_1 9 rfl rfl)
theorem dX4_laysCosts_34 : decode cX4_laysCosts 34 = .ok (.bipush 24, 2) := dk_16 24 (dk_at dksX4_laysCosts_1 11 rfl rfl)
theorem dX4_laysCosts_36 : decode cX4_laysCosts 36 = .ok (.if_icmp .gt 16, 3) := dk_163 0 16 (dk_at dksX4_laysCosts_1 13 rfl rfl)
theorem dX4_laysCosts_39 : decode cX4_laysCosts 39 = .ok (.aload_n 0, 1) := dk_42 (dk_at dksX4_laysCosts_1 16 rfl rfl)
theorem dX4_laysCosts_40 : decode cX4_laysCosts 40 = .ok (.iload_n 3, 1) := dk_29 (dk_at dksX4_laysCosts_1 17 rfl rfl)
theorem dX4_laysCosts_41 : decode cX4_laysCosts 41 = .ok (.iload 4, 2) := dk_21 4 (dk_at dksX4_laysCosts_1 18 rfl rfl)
theorem dX4_laysCosts_43 : decode cX4_laysCosts 43 = .ok (.invokevirtual 601, 3) := dk_182 2 89 (dk_at dksX4_laysCosts_1 20 rfl rfl)
theorem dX4_laysCosts_46 : decode cX4_laysCosts 46 = .ok (.iinc 4 1, 3) := dk_132 4 1 (dk_at dksX4_laysCosts_2 0 rfl rfl)
theorem dX4_laysCosts_49 : decode cX4_laysCosts 49 = .ok (.goto (-17), 3) := dk_167 255 239 (dk_at dksX4_laysCosts_2 3 rfl rfl)
theorem dX4_laysCosts_52 : decode cX4_laysCosts 52 = .ok (.iinc 3 1, 3) := dk_132 3 1 (dk_at dksX4_laysCosts_2 6 rfl rfl)
theorem dX4_laysCosts_55 : decode cX4_laysCosts 55 = .ok (.goto (-34), 3) := dk_167 255 222 (dk_at dksX4_laysCosts_2 9 rfl rfl)
theorem dX4_laysCosts_58 : decode cX4_laysCosts 58 = .ok (.iload_n 2, 1) := dk_28 (dk_at dksX4_laysCosts_2 12 rfl rfl)
theorem dX4_laysCosts_59 : decode cX4_laysCosts 59 = .ok (.ireturn, 1) := dk_172 (dk_at dksX4_laysCosts_2 13 rfl rfl)
abbrev cX4_laysCost : ByteArray := prog_23_method_102_code
def yX4_laysCost : MethodName := ⟨RX4, "laysCost", "(II)V"⟩
def dkwX4_laysCost_9 : List UInt8 := [182, 2, 85, 132, 4, 1, 167, 255, 160, 132, 3, 1, 167, 255, 145, 177]
abbrev dktX4_laysCost_9 : List UInt8 := dkwX4_laysCost_9 ++ []
def dkwX4_laysCost_8 : List UInt8 := [28, 184, 2, 44, 21, 6, 16, 99, 164, 0, 9, 17, 39, 16, 167, 0, 5, 21, 6, 21, 4, 3]
abbrev dktX4_laysCost_8 : List UInt8 := dkwX4_laysCost_8 ++ dktX4_laysCost_9
def dkwX4_laysCost_7 : List UInt8 := [180, 0, 42, 21, 5, 46, 28, 184, 2, 44, 46, 4, 96, 54, 6, 42, 27, 42, 180, 0, 48, 21, 5, 46]
abbrev dktX4_laysCost_7 : List UInt8 := dkwX4_laysCost_7 ++ dktX4_laysCost_8
def dkwX4_laysCost_6 : List UInt8 := [21, 5, 46, 154, 0, 69, 42, 180, 0, 39, 21, 5, 46, 8, 160, 0, 58, 42, 180, 0, 167, 27, 42]
abbrev dktX4_laysCost_6 : List UInt8 := dkwX4_laysCost_6 ++ dktX4_laysCost_7
def dkwX4_laysCost_5 : List UInt8 := [3, 54, 4, 21, 4, 42, 182, 1, 153, 162, 0, 93, 42, 21, 4, 182, 1, 156, 54, 5, 42, 180, 0, 30]
abbrev dktX4_laysCost_5 : List UInt8 := dkwX4_laysCost_5 ++ dktX4_laysCost_6
def dkwX4_laysCost_4 : List UInt8 := [28, 182, 2, 64, 29, 21, 5, 182, 2, 85, 132, 3, 1, 167, 255, 179, 3, 62, 29, 16, 8, 162, 0, 111]
abbrev dktX4_laysCost_4 : List UInt8 := dkwX4_laysCost_4 ++ dktX4_laysCost_5
def dkwX4_laysCost_3 : List UInt8 := [182, 2, 82, 54, 5, 42, 27, 42, 180, 0, 48, 21, 4, 46, 28, 184, 2, 44, 42, 27, 21, 4, 21, 5]
abbrev dktX4_laysCost_3 : List UInt8 := dkwX4_laysCost_3 ++ dktX4_laysCost_4
def dkwX4_laysCost_2 : List UInt8 := [180, 0, 30, 21, 4, 46, 154, 0, 52, 42, 27, 21, 4, 182, 2, 79, 153, 0, 42, 42, 27, 21, 4, 28]
abbrev dktX4_laysCost_2 : List UInt8 := dkwX4_laysCost_2 ++ dktX4_laysCost_3
def dkwX4_laysCost_1 : List UInt8 := [132, 3, 1, 167, 255, 233, 3, 62, 29, 42, 182, 1, 153, 162, 0, 75, 42, 29, 182, 1, 156, 54, 4, 42]
abbrev dktX4_laysCost_1 : List UInt8 := dkwX4_laysCost_1 ++ dktX4_laysCost_2
def dkwX4_laysCost_0 : List UInt8 := [3, 62, 29, 16, 8, 162, 0, 23, 42, 180, 0, 167, 27, 29, 28, 184, 2, 44, 17, 39, 16, 79]
abbrev dktX4_laysCost_0 : List UInt8 := dkwX4_laysCost_0 ++ dktX4_laysCost_1
theorem dksX4_laysCost_0 : cX4_laysCost.data.toList.drop 0 = dktX4_laysCost_0 := by decide +kernel
theorem dksX4_laysCost_1 : cX4_laysCost.data.toList.drop 22 = dktX4_laysCost_1 := dk_seg dksX4_laysCost_0 22 rfl rfl
theorem dksX4_laysCost_2 : cX4_laysCost.data.toList.drop 46 = dktX4_laysCost_2 := dk_seg dksX4_laysCost_1 24 rfl rfl
theorem dksX4_laysCost_3 : cX4_laysCost.data.toList.drop 70 = dktX4_laysCost_3 := dk_seg dksX4_laysCost_2 24 rfl rfl
theorem dksX4_laysCost_4 : cX4_laysCost.data.toList.drop 94 = dktX4_laysCost_4 := dk_seg dksX4_laysCost_3 24 rfl rfl
theorem dksX4_laysCost_5 : cX4_laysCost.data.toList.drop 118 = dktX4_laysCost_5 := dk_seg dksX4_laysCost_4 24 rfl rfl
theorem dksX4_laysCost_6 : cX4_laysCost.data.toList.drop 142 = dktX4_laysCost_6 := dk_seg dksX4_laysCost_5 24 rfl rfl
theorem dksX4_laysCost_7 : cX4_laysCost.data.toList.drop 165 = dktX4_laysCost_7 := dk_seg dksX4_laysCost_6 23 rfl rfl
theorem dksX4_laysCost_8 : cX4_laysCost.data.toList.drop 189 = dktX4_laysCost_8 := dk_seg dksX4_laysCost_7 24 rfl rfl
theorem dksX4_laysCost_9 : cX4_laysCost.data.toList.drop 211 = dktX4_laysCost_9 := dk_seg dksX4_laysCost_8 22 rfl rfl
theorem dX4_laysCost_0 : decode cX4_laysCost 0 = .ok (.iconst 0, 1) := dk_3 (dk_at dksX4_laysCost_0 0 rfl rfl)
theorem dX4_laysCost_1 : decode cX4_laysCost 1 = .ok (.istore_n 3, 1) := dk_62 (dk_at dksX4_laysCost_0 1 rfl rfl)
theorem dX4_laysCost_2 : decode cX4_laysCost 2 = .ok (.iload_n 3, 1) := dk_29 (dk_at dksX4_laysCost_0 2 rfl rfl)
theorem dX4_laysCost_3 : decode cX4_laysCost 3 = .ok (.bipush 8, 2) := dk_16 8 (dk_at dksX4_laysCost_0 3 rfl rfl)
theorem dX4_laysCost_5 : decode cX4_laysCost 5 = .ok (.if_icmp .ge 23, 3) := dk_162 0 23 (dk_at dksX4_laysCost_0 5 rfl rfl)
theorem dX4_laysCost_8 : decode cX4_laysCost 8 = .ok (.aload_n 0, 1) := dk_42 (dk_at dksX4_laysCost_0 8 rfl rfl)
theorem dX4_laysCost_9 : decode cX4_laysCost 9 = .ok (.getfield 167, 3) := dk_180 0 167 (dk_at dksX4_laysCost_0 9 rfl rfl)
theorem dX4_laysCost_12 : decode cX4_laysCost 12 = .ok (.iload_n 1, 1) := dk_27 (dk_at dksX4_laysCost_0 12 rfl rfl)
theorem dX4_laysCost_13 : decode cX4_laysCost 13 = .ok (.iload_n 3, 1) := dk_29 (dk_at dksX4_laysCost_0 13 rfl rfl)
theorem dX4_laysCost_14 : decode cX4_laysCost 14 = .ok (.iload_n 2, 1) := dk_28 (dk_at dksX4_laysCost_0 14 rfl rfl)
theorem dX4_laysCost_15 : decode cX4_laysCost 15 = .ok (.invokestatic 556, 3) := dk_184 2 44 (dk_at dksX4_laysCost_0 15 rfl rfl)
theorem dX4_laysCost_18 : decode cX4_laysCost 18 = .ok (.sipush 10000, 3) := dk_17 39 16 (dk_at dksX4_laysCost_0 18 rfl rfl)
theorem dX4_laysCost_21 : decode cX4_laysCost 21 = .ok (.iastore, 1) := dk_79 (dk_at dksX4_laysCost_0 21 rfl rfl)
theorem dX4_laysCost_22 : decode cX4_laysCost 22 = .ok (.iinc 3 1, 3) := dk_132 3 1 (dk_at dksX4_laysCost_1 0 rfl rfl)
theorem dX4_laysCost_25 : decode cX4_laysCost 25 = .ok (.goto (-23), 3) := dk_167 255 233 (dk_at dksX4_laysCost_1 3 rfl rfl)
theorem dX4_laysCost_28 : decode cX4_laysCost 28 = .ok (.iconst 0, 1) := dk_3 (dk_at dksX4_laysCost_1 6 rfl rfl)
theorem dX4_laysCost_29 : decode cX4_laysCost 29 = .ok (.istore_n 3, 1) := dk_62 (dk_at dksX4_laysCost_1 7 rfl rfl)
theorem dX4_laysCost_30 : decode cX4_laysCost 30 = .ok (.iload_n 3, 1) := dk_29 (dk_at dksX4_laysCost_1 8 rfl rfl)
theorem dX4_laysCost_31 : decode cX4_laysCost 31 = .ok (.aload_n 0, 1) := dk_42 (dk_at dksX4_laysCost_1 9 rfl rfl)
theorem dX4_laysCost_32 : decode cX4_laysCost 32 = .ok (.invokevirtual 409, 3) := dk_182 1 153 (dk_at dksX4_laysCost_1 10 rfl rfl)
theorem dX4_laysCost_35 : decode cX4_laysCost 35 = .ok (.if_icmp .ge 75, 3) := dk_162 0 75 (dk_at dksX4_laysCost_1 13 rfl rfl)
theorem dX4_laysCost_38 : decode cX4_laysCost 38 = .ok (.aload_n 0, 1) := dk_42 (dk_at dksX4_laysCost_1 16 rfl rfl)
theorem dX4_laysCost_39 : decode cX4_laysCost 39 = .ok (.iload_n 3, 1) := dk_29 (dk_at dksX4_laysCost_1 17 rfl rfl)
theorem dX4_laysCost_40 : decode cX4_laysCost 40 = .ok (.invokevirtual 412, 3) := dk_182 1 156 (dk_at dksX4_laysCost_1 18 rfl rfl)
theorem dX4_laysCost_43 : decode cX4_laysCost 43 = .ok (.istore 4, 2) := dk_54 4 (dk_at dksX4_laysCost_1 21 rfl rfl)
theorem dX4_laysCost_45 : decode cX4_laysCost 45 = .ok (.aload_n 0, 1) := dk_42 (dk_at dksX4_laysCost_1 23 rfl rfl)
theorem dX4_laysCost_46 : decode cX4_laysCost 46 = .ok (.getfield 30, 3) := dk_180 0 30 (dk_at dksX4_laysCost_2 0 rfl rfl)
theorem dX4_laysCost_49 : decode cX4_laysCost 49 = .ok (.iload 4, 2) := dk_21 4 (dk_at dksX4_laysCost_2 3 rfl rfl)
theorem dX4_laysCost_51 : decode cX4_laysCost 51 = .ok (.iaload, 1) := dk_46 (dk_at dksX4_laysCost_2 5 rfl rfl)
theorem dX4_laysCost_52 : decode cX4_laysCost 52 = .ok (.ifCond .ne 52, 3) := dk_154 0 52 (dk_at dksX4_laysCost_2 6 rfl rfl)
theorem dX4_laysCost_55 : decode cX4_laysCost 55 = .ok (.aload_n 0, 1) := dk_42 (dk_at dksX4_laysCost_2 9 rfl rfl)
theorem dX4_laysCost_56 : decode cX4_laysCost 56 = .ok (.iload_n 1, 1) := dk_27 (dk_at dksX4_laysCost_2 10 rfl rfl)
theorem dX4_laysCost_57 : decode cX4_laysCost 57 = .ok (.iload 4, 2) := dk_21 4 (dk_at dksX4_laysCost_2 11 rfl rfl)
theorem dX4_laysCost_59 : decode cX4_laysCost 59 = .ok (.invokevirtual 591, 3) := dk_182 2 79 (dk_at dksX4_laysCost_2 13 rfl rfl)
theorem dX4_laysCost_62 : decode cX4_laysCost 62 = .ok (.ifCond .eq 42, 3) := dk_153 0 42 (dk_at dksX4_laysCost_2 16 rfl rfl)
theorem dX4_laysCost_65 : decode cX4_laysCost 65 = .ok (.aload_n 0, 1) := dk_42 (dk_at dksX4_laysCost_2 19 rfl rfl)
theorem dX4_laysCost_66 : decode cX4_laysCost 66 = .ok (.iload_n 1, 1) := dk_27 (dk_at dksX4_laysCost_2 20 rfl rfl)
theorem dX4_laysCost_67 : decode cX4_laysCost 67 = .ok (.iload 4, 2) := dk_21 4 (dk_at dksX4_laysCost_2 21 rfl rfl)
theorem dX4_laysCost_69 : decode cX4_laysCost 69 = .ok (.iload_n 2, 1) := dk_28 (dk_at dksX4_laysCost_2 23 rfl rfl)
theorem dX4_laysCost_70 : decode cX4_laysCost 70 = .ok (.invokevirtual 594, 3) := dk_182 2 82 (dk_at dksX4_laysCost_3 0 rfl rfl)
theorem dX4_laysCost_73 : decode cX4_laysCost 73 = .ok (.istore 5, 2) := dk_54 5 (dk_at dksX4_laysCost_3 3 rfl rfl)
theorem dX4_laysCost_75 : decode cX4_laysCost 75 = .ok (.aload_n 0, 1) := dk_42 (dk_at dksX4_laysCost_3 5 rfl rfl)
theorem dX4_laysCost_76 : decode cX4_laysCost 76 = .ok (.iload_n 1, 1) := dk_27 (dk_at dksX4_laysCost_3 6 rfl rfl)
theorem dX4_laysCost_77 : decode cX4_laysCost 77 = .ok (.aload_n 0, 1) := dk_42 (dk_at dksX4_laysCost_3 7 rfl rfl)
theorem dX4_laysCost_78 : decode cX4_laysCost 78 = .ok (.getfield 48, 3) := dk_180 0 48 (dk_at dksX4_laysCost_3 8 rfl rfl)
theorem dX4_laysCost_81 : decode cX4_laysCost 81 = .ok (.iload 4, 2) := dk_21 4 (dk_at dksX4_laysCost_3 11 rfl rfl)
theorem dX4_laysCost_83 : decode cX4_laysCost 83 = .ok (.iaload, 1) := dk_46 (dk_at dksX4_laysCost_3 13 rfl rfl)
theorem dX4_laysCost_84 : decode cX4_laysCost 84 = .ok (.iload_n 2, 1) := dk_28 (dk_at dksX4_laysCost_3 14 rfl rfl)
theorem dX4_laysCost_85 : decode cX4_laysCost 85 = .ok (.invokestatic 556, 3) := dk_184 2 44 (dk_at dksX4_laysCost_3 15 rfl rfl)
theorem dX4_laysCost_88 : decode cX4_laysCost 88 = .ok (.aload_n 0, 1) := dk_42 (dk_at dksX4_laysCost_3 18 rfl rfl)
theorem dX4_laysCost_89 : decode cX4_laysCost 89 = .ok (.iload_n 1, 1) := dk_27 (dk_at dksX4_laysCost_3 19 rfl rfl)
theorem dX4_laysCost_90 : decode cX4_laysCost 90 = .ok (.iload 4, 2) := dk_21 4 (dk_at dksX4_laysCost_3 20 rfl rfl)
theorem dX4_laysCost_92 : decode cX4_laysCost 92 = .ok (.iload 5, 2) := dk_21 5 (dk_at dksX4_laysCost_3 22 rfl rfl)
theorem dX4_laysCost_94 : decode cX4_laysCost 94 = .ok (.iload_n 2, 1) := dk_28 (dk_at dksX4_laysCost_4 0 rfl rfl)
theorem dX4_laysCost_95 : decode cX4_laysCost 95 = .ok (.invokevirtual 576, 3) := dk_182 2 64 (dk_at dksX4_laysCost_4 1 rfl rfl)
theorem dX4_laysCost_98 : decode cX4_laysCost 98 = .ok (.iload_n 3, 1) := dk_29 (dk_at dksX4_laysCost_4 4 rfl rfl)
theorem dX4_laysCost_99 : decode cX4_laysCost 99 = .ok (.iload 5, 2) := dk_21 5 (dk_at dksX4_laysCost_4 5 rfl rfl)
theorem dX4_laysCost_101 : decode cX4_laysCost 101 = .ok (.invokevirtual 597, 3) := dk_182 2 85 (dk_at dksX4_laysCost_4 7 rfl rfl)
theorem dX4_laysCost_104 : decode cX4_laysCost 104 = .ok (.iinc 3 1, 3) := dk_132 3 1 (dk_at dksX4_laysCost_4 10 rfl rfl)
theorem dX4_laysCost_107 : decode cX4_laysCost 107 = .ok (.goto (-77), 3) := dk_167 255 179 (dk_at dksX4_laysCost_4 13 rfl rfl)
theorem dX4_laysCost_110 : decode cX4_laysCost 110 = .ok (.iconst 0, 1) := dk_3 (dk_at dksX4_laysCost_4 16 rfl rfl)
theorem dX4_laysCost_111 : decode cX4_laysCost 111 = .ok (.istore_n 3, 1) := dk_62 (dk_at dksX4_laysCost_4 17 rfl rfl)
theorem dX4_laysCost_112 : decode cX4_laysCost 112 = .ok (.iload_n 3, 1) := dk_29 (dk_at dksX4_laysCost_4 18 rfl rfl)
theorem dX4_laysCost_113 : decode cX4_laysCost 113 = .ok (.bipush 8, 2) := dk_16 8 (dk_at dksX4_laysCost_4 19 rfl rfl)
theorem dX4_laysCost_115 : decode cX4_laysCost 115 = .ok (.if_icmp .ge 111, 3) := dk_162 0 111 (dk_at dksX4_laysCost_4 21 rfl rfl)
theorem dX4_laysCost_118 : decode cX4_laysCost 118 = .ok (.iconst 0, 1) := dk_3 (dk_at dksX4_laysCost_5 0 rfl rfl)
theorem dX4_laysCost_119 : decode cX4_laysCost 119 = .ok (.istore 4, 2) := dk_54 4 (dk_at dksX4_laysCost_5 1 rfl rfl)
theorem dX4_laysCost_121 : decode cX4_laysCost 121 = .ok (.iload 4, 2) := dk_21 4 (dk_at dksX4_laysCost_5 3 rfl rfl)
theorem dX4_laysCost_123 : decode cX4_laysCost 123 = .ok (.aload_n 0, 1) := dk_42 (dk_at dksX4_laysCost_5 5 rfl rfl)
theorem dX4_laysCost_124 : decode cX4_laysCost 124 = .ok (.invokevirtual 409, 3) := dk_182 1 153 (dk_at dksX4_laysCost_5 6 rfl rfl)
theorem dX4_laysCost_127 : decode cX4_laysCost 127 = .ok (.if_icmp .ge 93, 3) := dk_162 0 93 (dk_at dksX4_laysCost_5 9 rfl rfl)
theorem dX4_laysCost_130 : decode cX4_laysCost 130 = .ok (.aload_n 0, 1) := dk_42 (dk_at dksX4_laysCost_5 12 rfl rfl)
theorem dX4_laysCost_131 : decode cX4_laysCost 131 = .ok (.iload 4, 2) := dk_21 4 (dk_at dksX4_laysCost_5 13 rfl rfl)
theorem dX4_laysCost_133 : decode cX4_laysCost 133 = .ok (.invokevirtual 412, 3) := dk_182 1 156 (dk_at dksX4_laysCost_5 15 rfl rfl)
theorem dX4_laysCost_136 : decode cX4_laysCost 136 = .ok (.istore 5, 2) := dk_54 5 (dk_at dksX4_laysCost_5 18 rfl rfl)
theorem dX4_laysCost_138 : decode cX4_laysCost 138 = .ok (.aload_n 0, 1) := dk_42 (dk_at dksX4_laysCost_5 20 rfl rfl)
theorem dX4_laysCost_139 : decode cX4_laysCost 139 = .ok (.getfield 30, 3) := dk_180 0 30 (dk_at dksX4_laysCost_5 21 rfl rfl)
theorem dX4_laysCost_142 : decode cX4_laysCost 142 = .ok (.iload 5, 2) := dk_21 5 (dk_at dksX4_laysCost_6 0 rfl rfl)
theorem dX4_laysCost_144 : decode cX4_laysCost 144 = .ok (.iaload, 1) := dk_46 (dk_at dksX4_laysCost_6 2 rfl rfl)
theorem dX4_laysCost_145 : decode cX4_laysCost 145 = .ok (.ifCond .ne 69, 3) := dk_154 0 69 (dk_at dksX4_laysCost_6 3 rfl rfl)
theorem dX4_laysCost_148 : decode cX4_laysCost 148 = .ok (.aload_n 0, 1) := dk_42 (dk_at dksX4_laysCost_6 6 rfl rfl)
theorem dX4_laysCost_149 : decode cX4_laysCost 149 = .ok (.getfield 39, 3) := dk_180 0 39 (dk_at dksX4_laysCost_6 7 rfl rfl)
theorem dX4_laysCost_152 : decode cX4_laysCost 152 = .ok (.iload 5, 2) := dk_21 5 (dk_at dksX4_laysCost_6 10 rfl rfl)
theorem dX4_laysCost_154 : decode cX4_laysCost 154 = .ok (.iaload, 1) := dk_46 (dk_at dksX4_laysCost_6 12 rfl rfl)
theorem dX4_laysCost_155 : decode cX4_laysCost 155 = .ok (.iconst 5, 1) := dk_8 (dk_at dksX4_laysCost_6 13 rfl rfl)
theorem dX4_laysCost_156 : decode cX4_laysCost 156 = .ok (.if_icmp .ne 58, 3) := dk_160 0 58 (dk_at dksX4_laysCost_6 14 rfl rfl)
theorem dX4_laysCost_159 : decode cX4_laysCost 159 = .ok (.aload_n 0, 1) := dk_42 (dk_at dksX4_laysCost_6 17 rfl rfl)
theorem dX4_laysCost_160 : decode cX4_laysCost 160 = .ok (.getfield 167, 3) := dk_180 0 167 (dk_at dksX4_laysCost_6 18 rfl rfl)
theorem dX4_laysCost_163 : decode cX4_laysCost 163 = .ok (.iload_n 1, 1) := dk_27 (dk_at dksX4_laysCost_6 21 rfl rfl)
theorem dX4_laysCost_164 : decode cX4_laysCost 164 = .ok (.aload_n 0, 1) := dk_42 (dk_at dksX4_laysCost_6 22 rfl rfl)
theorem dX4_laysCost_165 : decode cX4_laysCost 165 = .ok (.getfield 42, 3) := dk_180 0 42 (dk_at dksX4_laysCost_7 0 rfl rfl)
theorem dX4_laysCost_168 : decode cX4_laysCost 168 = .ok (.iload 5, 2) := dk_21 5 (dk_at dksX4_laysCost_7 3 rfl rfl)
theorem dX4_laysCost_170 : decode cX4_laysCost 170 = .ok (.iaload, 1) := dk_46 (dk_at dksX4_laysCost_7 5 rfl rfl)
theorem dX4_laysCost_171 : decode cX4_laysCost 171 = .ok (.iload_n 2, 1) := dk_28 (dk_at dksX4_laysCost_7 6 rfl rfl)
theorem dX4_laysCost_172 : decode cX4_laysCost 172 = .ok (.invokestatic 556, 3) := dk_184 2 44 (dk_at dksX4_laysCost_7 7 rfl rfl)
theorem dX4_laysCost_175 : decode cX4_laysCost 175 = .ok (.iaload, 1) := dk_46 (dk_at dksX4_laysCost_7 10 rfl rfl)
theorem dX4_laysCost_176 : decode cX4_laysCost 176 = .ok (.iconst 1, 1) := dk_4 (dk_at dksX4_laysCost_7 11 rfl rfl)
theorem dX4_laysCost_177 : decode cX4_laysCost 177 = .ok (.iadd, 1) := dk_96 (dk_at dksX4_laysCost_7 12 rfl rfl)
theorem dX4_laysCost_178 : decode cX4_laysCost 178 = .ok (.istore 6, 2) := dk_54 6 (dk_at dksX4_laysCost_7 13 rfl rfl)
theorem dX4_laysCost_180 : decode cX4_laysCost 180 = .ok (.aload_n 0, 1) := dk_42 (dk_at dksX4_laysCost_7 15 rfl rfl)
theorem dX4_laysCost_181 : decode cX4_laysCost 181 = .ok (.iload_n 1, 1) := dk_27 (dk_at dksX4_laysCost_7 16 rfl rfl)
theorem dX4_laysCost_182 : decode cX4_laysCost 182 = .ok (.aload_n 0, 1) := dk_42 (dk_at dksX4_laysCost_7 17 rfl rfl)
theorem dX4_laysCost_183 : decode cX4_laysCost 183 = .ok (.getfield 48, 3) := dk_180 0 48 (dk_at dksX4_laysCost_7 18 rfl rfl)
theorem dX4_laysCost_186 : decode cX4_laysCost 186 = .ok (.iload 5, 2) := dk_21 5 (dk_at dksX4_laysCost_7 21 rfl rfl)
theorem dX4_laysCost_188 : decode cX4_laysCost 188 = .ok (.iaload, 1) := dk_46 (dk_at dksX4_laysCost_7 23 rfl rfl)
theorem dX4_laysCost_189 : decode cX4_laysCost 189 = .ok (.iload_n 2, 1) := dk_28 (dk_at dksX4_laysCost_8 0 rfl rfl)
theorem dX4_laysCost_190 : decode cX4_laysCost 190 = .ok (.invokestatic 556, 3) := dk_184 2 44 (dk_at dksX4_laysCost_8 1 rfl rfl)
theorem dX4_laysCost_193 : decode cX4_laysCost 193 = .ok (.iload 6, 2) := dk_21 6 (dk_at dksX4_laysCost_8 4 rfl rfl)
theorem dX4_laysCost_195 : decode cX4_laysCost 195 = .ok (.bipush 99, 2) := dk_16 99 (dk_at dksX4_laysCost_8 6 rfl rfl)
theorem dX4_laysCost_197 : decode cX4_laysCost 197 = .ok (.if_icmp .le 9, 3) := dk_164 0 9 (dk_at dksX4_laysCost_8 8 rfl rfl)
theorem dX4_laysCost_200 : decode cX4_laysCost 200 = .ok (.sipush 10000, 3) := dk_17 39 16 (dk_at dksX4_laysCost_8 11 rfl rfl)
theorem dX4_laysCost_203 : decode cX4_laysCost 203 = .ok (.goto 5, 3) := dk_167 0 5 (dk_at dksX4_laysCost_8 14 rfl rfl)
theorem dX4_laysCost_206 : decode cX4_laysCost 206 = .ok (.iload 6, 2) := dk_21 6 (dk_at dksX4_laysCost_8 17 rfl rfl)
theorem dX4_laysCost_208 : decode cX4_laysCost 208 = .ok (.iload 4, 2) := dk_21 4 (dk_at dksX4_laysCost_8 19 rfl rfl)
theorem dX4_laysCost_210 : decode cX4_laysCost 210 = .ok (.iconst 0, 1) := dk_3 (dk_at dksX4_laysCost_8 21 rfl rfl)
theorem dX4_laysCost_211 : decode cX4_laysCost 211 = .ok (.invokevirtual 597, 3) := dk_182 2 85 (dk_at dksX4_laysCost_9 0 rfl rfl)
theorem dX4_laysCost_214 : decode cX4_laysCost 214 = .ok (.iinc 4 1, 3) := dk_132 4 1 (dk_at dksX4_laysCost_9 3 rfl rfl)
theorem dX4_laysCost_217 : decode cX4_laysCost 217 = .ok (.goto (-96), 3) := dk_167 255 160 (dk_at dksX4_laysCost_9 6 rfl rfl)
theorem dX4_laysCost_220 : decode cX4_laysCost 220 = .ok (.iinc 3 1, 3) := dk_132 3 1 (dk_at dksX4_laysCost_9 9 rfl rfl)
theorem dX4_laysCost_223 : decode cX4_laysCost 223 = .ok (.goto (-111), 3) := dk_167 255 145 (dk_at dksX4_laysCost_9 12 rfl rfl)
theorem dX4_laysCost_226 : decode cX4_laysCost 226 = .ok (.return_, 1) := dk_177 (dk_at dksX4_laysCost_9 15 rfl rfl)
abbrev cX4_at26 : ByteArray := prog_23_method_90_code
def yX4_at26 : MethodName := ⟨RX4, "at26", "(III)I"⟩
def dkwX4_at26_0 : List UInt8 := [16, 8, 26, 104, 27, 96, 16, 26, 104, 28, 96, 172]
abbrev dktX4_at26_0 : List UInt8 := dkwX4_at26_0 ++ []
theorem dksX4_at26_0 : cX4_at26.data.toList.drop 0 = dktX4_at26_0 := by decide +kernel
theorem dX4_at26_0 : decode cX4_at26 0 = .ok (.bipush 8, 2) := dk_16 8 (dk_at dksX4_at26_0 0 rfl rfl)
theorem dX4_at26_2 : decode cX4_at26 2 = .ok (.iload_n 0, 1) := dk_26 (dk_at dksX4_at26_0 2 rfl rfl)
theorem dX4_at26_3 : decode cX4_at26 3 = .ok (.imul, 1) := dk_104 (dk_at dksX4_at26_0 3 rfl rfl)
theorem dX4_at26_4 : decode cX4_at26 4 = .ok (.iload_n 1, 1) := dk_27 (dk_at dksX4_at26_0 4 rfl rfl)
theorem dX4_at26_5 : decode cX4_at26 5 = .ok (.iadd, 1) := dk_96 (dk_at dksX4_at26_0 5 rfl rfl)
theorem dX4_at26_6 : decode cX4_at26 6 = .ok (.bipush 26, 2) := dk_16 26 (dk_at dksX4_at26_0 6 rfl rfl)
theorem dX4_at26_8 : decode cX4_at26 8 = .ok (.imul, 1) := dk_104 (dk_at dksX4_at26_0 8 rfl rfl)
theorem dX4_at26_9 : decode cX4_at26 9 = .ok (.iload_n 2, 1) := dk_28 (dk_at dksX4_at26_0 9 rfl rfl)
theorem dX4_at26_10 : decode cX4_at26 10 = .ok (.iadd, 1) := dk_96 (dk_at dksX4_at26_0 10 rfl rfl)
theorem dX4_at26_11 : decode cX4_at26 11 = .ok (.ireturn, 1) := dk_172 (dk_at dksX4_at26_0 11 rfl rfl)
abbrev cX4_fits : ByteArray := prog_23_method_93_code
def yX4_fits : MethodName := ⟨RX4, "fits", "(II)Z"⟩
def dkwX4_fits_3 : List UInt8 := [180, 0, 133, 27, 46, 160, 0, 7, 4, 167, 0, 4, 3, 172]
abbrev dktX4_fits_3 : List UInt8 := dkwX4_fits_3 ++ []
def dkwX4_fits_2 : List UInt8 := [167, 0, 4, 2, 54, 4, 21, 4, 42, 180, 0, 130, 27, 46, 160, 0, 22, 42, 180, 0, 54, 28, 46, 42]
abbrev dktX4_fits_2 : List UInt8 := dkwX4_fits_2 ++ dktX4_fits_3
def dkwX4_fits_1 : List UInt8 := [160, 0, 7, 4, 167, 0, 22, 29, 6, 160, 0, 7, 5, 167, 0, 13, 29, 7, 160, 0, 7, 6]
abbrev dktX4_fits_1 : List UInt8 := dkwX4_fits_1 ++ dktX4_fits_2
def dkwX4_fits_0 : List UInt8 := [42, 180, 0, 39, 28, 46, 62, 29, 154, 0, 7, 3, 167, 0, 36, 29, 4, 159, 0, 8, 29, 5]
abbrev dktX4_fits_0 : List UInt8 := dkwX4_fits_0 ++ dktX4_fits_1
theorem dksX4_fits_0 : cX4_fits.data.toList.drop 0 = dktX4_fits_0 := by decide +kernel
theorem dksX4_fits_1 : cX4_fits.data.toList.drop 22 = dktX4_fits_1 := dk_seg dksX4_fits_0 22 rfl rfl
theorem dksX4_fits_2 : cX4_fits.data.toList.drop 44 = dktX4_fits_2 := dk_seg dksX4_fits_1 22 rfl rfl
theorem dksX4_fits_3 : cX4_fits.data.toList.drop 68 = dktX4_fits_3 := dk_seg dksX4_fits_2 24 rfl rfl
theorem dX4_fits_0 : decode cX4_fits 0 = .ok (.aload_n 0, 1) := dk_42 (dk_at dksX4_fits_0 0 rfl rfl)
theorem dX4_fits_1 : decode cX4_fits 1 = .ok (.getfield 39, 3) := dk_180 0 39 (dk_at dksX4_fits_0 1 rfl rfl)
theorem dX4_fits_4 : decode cX4_fits 4 = .ok (.iload_n 2, 1) := dk_28 (dk_at dksX4_fits_0 4 rfl rfl)
theorem dX4_fits_5 : decode cX4_fits 5 = .ok (.iaload, 1) := dk_46 (dk_at dksX4_fits_0 5 rfl rfl)
theorem dX4_fits_6 : decode cX4_fits 6 = .ok (.istore_n 3, 1) := dk_62 (dk_at dksX4_fits_0 6 rfl rfl)
theorem dX4_fits_7 : decode cX4_fits 7 = .ok (.iload_n 3, 1) := dk_29 (dk_at dksX4_fits_0 7 rfl rfl)
theorem dX4_fits_8 : decode cX4_fits 8 = .ok (.ifCond .ne 7, 3) := dk_154 0 7 (dk_at dksX4_fits_0 8 rfl rfl)
theorem dX4_fits_11 : decode cX4_fits 11 = .ok (.iconst 0, 1) := dk_3 (dk_at dksX4_fits_0 11 rfl rfl)
theorem dX4_fits_12 : decode cX4_fits 12 = .ok (.goto 36, 3) := dk_167 0 36 (dk_at dksX4_fits_0 12 rfl rfl)
theorem dX4_fits_15 : decode cX4_fits 15 = .ok (.iload_n 3, 1) := dk_29 (dk_at dksX4_fits_0 15 rfl rfl)
theorem dX4_fits_16 : decode cX4_fits 16 = .ok (.iconst 1, 1) := dk_4 (dk_at dksX4_fits_0 16 rfl rfl)
theorem dX4_fits_17 : decode cX4_fits 17 = .ok (.if_icmp .eq 8, 3) := dk_159 0 8 (dk_at dksX4_fits_0 17 rfl rfl)
theorem dX4_fits_20 : decode cX4_fits 20 = .ok (.iload_n 3, 1) := dk_29 (dk_at dksX4_fits_0 20 rfl rfl)
theorem dX4_fits_21 : decode cX4_fits 21 = .ok (.iconst 2, 1) := dk_5 (dk_at dksX4_fits_0 21 rfl rfl)
theorem dX4_fits_22 : decode cX4_fits 22 = .ok (.if_icmp .ne 7, 3) := dk_160 0 7 (dk_at dksX4_fits_1 0 rfl rfl)
theorem dX4_fits_25 : decode cX4_fits 25 = .ok (.iconst 1, 1) := dk_4 (dk_at dksX4_fits_1 3 rfl rfl)
theorem dX4_fits_26 : decode cX4_fits 26 = .ok (.goto 22, 3) := dk_167 0 22 (dk_at dksX4_fits_1 4 rfl rfl)
theorem dX4_fits_29 : decode cX4_fits 29 = .ok (.iload_n 3, 1) := dk_29 (dk_at dksX4_fits_1 7 rfl rfl)
theorem dX4_fits_30 : decode cX4_fits 30 = .ok (.iconst 3, 1) := dk_6 (dk_at dksX4_fits_1 8 rfl rfl)
theorem dX4_fits_31 : decode cX4_fits 31 = .ok (.if_icmp .ne 7, 3) := dk_160 0 7 (dk_at dksX4_fits_1 9 rfl rfl)
theorem dX4_fits_34 : decode cX4_fits 34 = .ok (.iconst 2, 1) := dk_5 (dk_at dksX4_fits_1 12 rfl rfl)
theorem dX4_fits_35 : decode cX4_fits 35 = .ok (.goto 13, 3) := dk_167 0 13 (dk_at dksX4_fits_1 13 rfl rfl)
theorem dX4_fits_38 : decode cX4_fits 38 = .ok (.iload_n 3, 1) := dk_29 (dk_at dksX4_fits_1 16 rfl rfl)
theorem dX4_fits_39 : decode cX4_fits 39 = .ok (.iconst 4, 1) := dk_7 (dk_at dksX4_fits_1 17 rfl rfl)
theorem dX4_fits_40 : decode cX4_fits 40 = .ok (.if_icmp .ne 7, 3) := dk_160 0 7 (dk_at dksX4_fits_1 18 rfl rfl)
theorem dX4_fits_43 : decode cX4_fits 43 = .ok (.iconst 3, 1) := dk_6 (dk_at dksX4_fits_1 21 rfl rfl)
theorem dX4_fits_44 : decode cX4_fits 44 = .ok (.goto 4, 3) := dk_167 0 4 (dk_at dksX4_fits_2 0 rfl rfl)
theorem dX4_fits_47 : decode cX4_fits 47 = .ok (.iconst (-1), 1) := dk_2 (dk_at dksX4_fits_2 3 rfl rfl)
theorem dX4_fits_48 : decode cX4_fits 48 = .ok (.istore 4, 2) := dk_54 4 (dk_at dksX4_fits_2 4 rfl rfl)
theorem dX4_fits_50 : decode cX4_fits 50 = .ok (.iload 4, 2) := dk_21 4 (dk_at dksX4_fits_2 6 rfl rfl)
theorem dX4_fits_52 : decode cX4_fits 52 = .ok (.aload_n 0, 1) := dk_42 (dk_at dksX4_fits_2 8 rfl rfl)
theorem dX4_fits_53 : decode cX4_fits 53 = .ok (.getfield 130, 3) := dk_180 0 130 (dk_at dksX4_fits_2 9 rfl rfl)
theorem dX4_fits_56 : decode cX4_fits 56 = .ok (.iload_n 1, 1) := dk_27 (dk_at dksX4_fits_2 12 rfl rfl)
theorem dX4_fits_57 : decode cX4_fits 57 = .ok (.iaload, 1) := dk_46 (dk_at dksX4_fits_2 13 rfl rfl)
theorem dX4_fits_58 : decode cX4_fits 58 = .ok (.if_icmp .ne 22, 3) := dk_160 0 22 (dk_at dksX4_fits_2 14 rfl rfl)
theorem dX4_fits_61 : decode cX4_fits 61 = .ok (.aload_n 0, 1) := dk_42 (dk_at dksX4_fits_2 17 rfl rfl)
theorem dX4_fits_62 : decode cX4_fits 62 = .ok (.getfield 54, 3) := dk_180 0 54 (dk_at dksX4_fits_2 18 rfl rfl)
theorem dX4_fits_65 : decode cX4_fits 65 = .ok (.iload_n 2, 1) := dk_28 (dk_at dksX4_fits_2 21 rfl rfl)
theorem dX4_fits_66 : decode cX4_fits 66 = .ok (.iaload, 1) := dk_46 (dk_at dksX4_fits_2 22 rfl rfl)
theorem dX4_fits_67 : decode cX4_fits 67 = .ok (.aload_n 0, 1) := dk_42 (dk_at dksX4_fits_2 23 rfl rfl)
theorem dX4_fits_68 : decode cX4_fits 68 = .ok (.getfield 133, 3) := dk_180 0 133 (dk_at dksX4_fits_3 0 rfl rfl)
theorem dX4_fits_71 : decode cX4_fits 71 = .ok (.iload_n 1, 1) := dk_27 (dk_at dksX4_fits_3 3 rfl rfl)
theorem dX4_fits_72 : decode cX4_fits 72 = .ok (.iaload, 1) := dk_46 (dk_at dksX4_fits_3 4 rfl rfl)
theorem dX4_fits_73 : decode cX4_fits 73 = .ok (.if_icmp .ne 7, 3) := dk_160 0 7 (dk_at dksX4_fits_3 5 rfl rfl)
theorem dX4_fits_76 : decode cX4_fits 76 = .ok (.iconst 1, 1) := dk_4 (dk_at dksX4_fits_3 8 rfl rfl)
theorem dX4_fits_77 : decode cX4_fits 77 = .ok (.goto 4, 3) := dk_167 0 4 (dk_at dksX4_fits_3 9 rfl rfl)
theorem dX4_fits_80 : decode cX4_fits 80 = .ok (.iconst 0, 1) := dk_3 (dk_at dksX4_fits_3 12 rfl rfl)
theorem dX4_fits_81 : decode cX4_fits 81 = .ok (.ireturn, 1) := dk_172 (dk_at dksX4_fits_3 13 rfl rfl)
abbrev cX4_bestOrder : ByteArray := prog_23_method_100_code
def yX4_bestOrder : MethodName := ⟨RX4, "bestOrder", "(III)I"⟩
def dkwX4_bestOrder_7 : List UInt8 := [182, 2, 73, 42, 21, 8, 21, 4, 182, 2, 67, 54, 8, 167, 255, 138, 21, 5, 172]
abbrev dktX4_bestOrder_7 : List UInt8 := dkwX4_bestOrder_7 ++ []
def dkwX4_bestOrder_6 : List UInt8 := [28, 21, 8, 29, 182, 2, 57, 182, 2, 70, 42, 182, 2, 76, 153, 0, 11, 21, 8, 54, 5, 42]
abbrev dktX4_bestOrder_6 : List UInt8 := dkwX4_bestOrder_6 ++ dktX4_bestOrder_7
def dkwX4_bestOrder_5 : List UInt8 := [42, 3, 27, 28, 21, 5, 29, 182, 2, 57, 182, 2, 70, 42, 182, 2, 73, 4, 54, 7, 42, 42, 3, 27]
abbrev dktX4_bestOrder_5 : List UInt8 := dkwX4_bestOrder_5 ++ dktX4_bestOrder_6
def dkwX4_bestOrder_4 : List UInt8 := [167, 0, 73, 21, 9, 21, 6, 160, 0, 66, 21, 9, 17, 39, 16, 162, 0, 58, 21, 7, 154, 0, 24, 42]
abbrev dktX4_bestOrder_4 : List UInt8 := dkwX4_bestOrder_4 ++ dktX4_bestOrder_5
def dkwX4_bestOrder_3 : List UInt8 := [182, 2, 64, 54, 9, 21, 9, 21, 6, 162, 0, 17, 21, 9, 54, 6, 21, 8, 54, 5, 3, 54, 7]
abbrev dktX4_bestOrder_3 : List UInt8 := dkwX4_bestOrder_3 ++ dktX4_bestOrder_4
def dkwX4_bestOrder_2 : List UInt8 := [54, 7, 42, 21, 5, 21, 4, 182, 2, 67, 54, 8, 21, 8, 2, 159, 0, 118, 42, 27, 28, 21, 8, 29]
abbrev dktX4_bestOrder_2 : List UInt8 := dkwX4_bestOrder_2 ++ dktX4_bestOrder_3
def dkwX4_bestOrder_1 : List UInt8 := [160, 0, 9, 21, 4, 4, 160, 0, 6, 21, 5, 172, 42, 27, 28, 21, 5, 29, 182, 2, 64, 54, 6, 3]
abbrev dktX4_bestOrder_1 : List UInt8 := dkwX4_bestOrder_1 ++ dktX4_bestOrder_2
def dkwX4_bestOrder_0 : List UInt8 := [42, 180, 0, 139, 27, 46, 54, 4, 21, 4, 184, 2, 61, 54, 5, 42, 180, 0, 39, 28, 46, 6]
abbrev dktX4_bestOrder_0 : List UInt8 := dkwX4_bestOrder_0 ++ dktX4_bestOrder_1
theorem dksX4_bestOrder_0 : cX4_bestOrder.data.toList.drop 0 = dktX4_bestOrder_0 := by decide +kernel
theorem dksX4_bestOrder_1 : cX4_bestOrder.data.toList.drop 22 = dktX4_bestOrder_1 := dk_seg dksX4_bestOrder_0 22 rfl rfl
theorem dksX4_bestOrder_2 : cX4_bestOrder.data.toList.drop 46 = dktX4_bestOrder_2 := dk_seg dksX4_bestOrder_1 24 rfl rfl
theorem dksX4_bestOrder_3 : cX4_bestOrder.data.toList.drop 70 = dktX4_bestOrder_3 := dk_seg dksX4_bestOrder_2 24 rfl rfl
theorem dksX4_bestOrder_4 : cX4_bestOrder.data.toList.drop 93 = dktX4_bestOrder_4 := dk_seg dksX4_bestOrder_3 23 rfl rfl
theorem dksX4_bestOrder_5 : cX4_bestOrder.data.toList.drop 117 = dktX4_bestOrder_5 := dk_seg dksX4_bestOrder_4 24 rfl rfl
theorem dksX4_bestOrder_6 : cX4_bestOrder.data.toList.drop 141 = dktX4_bestOrder_6 := dk_seg dksX4_bestOrder_5 24 rfl rfl
theorem dksX4_bestOrder_7 : cX4_bestOrder.data.toList.drop 163 = dktX4_bestOrder_7 := dk_seg dksX4_bestOrder_6 22 rfl rfl
theorem dX4_bestOrder_0 : decode cX4_bestOrder 0 = .ok (.aload_n 0, 1) := dk_42 (dk_at dksX4_bestOrder_0 0 rfl rfl)
theorem dX4_bestOrder_1 : decode cX4_bestOrder 1 = .ok (.getfield 139, 3) := dk_180 0 139 (dk_at dksX4_bestOrder_0 1 rfl rfl)
theorem dX4_bestOrder_4 : decode cX4_bestOrder 4 = .ok (.iload_n 1, 1) := dk_27 (dk_at dksX4_bestOrder_0 4 rfl rfl)
theorem dX4_bestOrder_5 : decode cX4_bestOrder 5 = .ok (.iaload, 1) := dk_46 (dk_at dksX4_bestOrder_0 5 rfl rfl)
theorem dX4_bestOrder_6 : decode cX4_bestOrder 6 = .ok (.istore 4, 2) := dk_54 4 (dk_at dksX4_bestOrder_0 6 rfl rfl)
theorem dX4_bestOrder_8 : decode cX4_bestOrder 8 = .ok (.iload 4, 2) := dk_21 4 (dk_at dksX4_bestOrder_0 8 rfl rfl)
theorem dX4_bestOrder_10 : decode cX4_bestOrder 10 = .ok (.invokestatic 573, 3) := dk_184 2 61 (dk_at dksX4_bestOrder_0 10 rfl rfl)
theorem dX4_bestOrder_13 : decode cX4_bestOrder 13 = .ok (.istore 5, 2) := dk_54 5 (dk_at dksX4_bestOrder_0 13 rfl rfl)
theorem dX4_bestOrder_15 : decode cX4_bestOrder 15 = .ok (.aload_n 0, 1) := dk_42 (dk_at dksX4_bestOrder_0 15 rfl rfl)
theorem dX4_bestOrder_16 : decode cX4_bestOrder 16 = .ok (.getfield 39, 3) := dk_180 0 39 (dk_at dksX4_bestOrder_0 16 rfl rfl)
theorem dX4_bestOrder_19 : decode cX4_bestOrder 19 = .ok (.iload_n 2, 1) := dk_28 (dk_at dksX4_bestOrder_0 19 rfl rfl)
theorem dX4_bestOrder_20 : decode cX4_bestOrder 20 = .ok (.iaload, 1) := dk_46 (dk_at dksX4_bestOrder_0 20 rfl rfl)
theorem dX4_bestOrder_21 : decode cX4_bestOrder 21 = .ok (.iconst 3, 1) := dk_6 (dk_at dksX4_bestOrder_0 21 rfl rfl)
theorem dX4_bestOrder_22 : decode cX4_bestOrder 22 = .ok (.if_icmp .ne 9, 3) := dk_160 0 9 (dk_at dksX4_bestOrder_1 0 rfl rfl)
theorem dX4_bestOrder_25 : decode cX4_bestOrder 25 = .ok (.iload 4, 2) := dk_21 4 (dk_at dksX4_bestOrder_1 3 rfl rfl)
theorem dX4_bestOrder_27 : decode cX4_bestOrder 27 = .ok (.iconst 1, 1) := dk_4 (dk_at dksX4_bestOrder_1 5 rfl rfl)
theorem dX4_bestOrder_28 : decode cX4_bestOrder 28 = .ok (.if_icmp .ne 6, 3) := dk_160 0 6 (dk_at dksX4_bestOrder_1 6 rfl rfl)
theorem dX4_bestOrder_31 : decode cX4_bestOrder 31 = .ok (.iload 5, 2) := dk_21 5 (dk_at dksX4_bestOrder_1 9 rfl rfl)
theorem dX4_bestOrder_33 : decode cX4_bestOrder 33 = .ok (.ireturn, 1) := dk_172 (dk_at dksX4_bestOrder_1 11 rfl rfl)
theorem dX4_bestOrder_34 : decode cX4_bestOrder 34 = .ok (.aload_n 0, 1) := dk_42 (dk_at dksX4_bestOrder_1 12 rfl rfl)
theorem dX4_bestOrder_35 : decode cX4_bestOrder 35 = .ok (.iload_n 1, 1) := dk_27 (dk_at dksX4_bestOrder_1 13 rfl rfl)
theorem dX4_bestOrder_36 : decode cX4_bestOrder 36 = .ok (.iload_n 2, 1) := dk_28 (dk_at dksX4_bestOrder_1 14 rfl rfl)
theorem dX4_bestOrder_37 : decode cX4_bestOrder 37 = .ok (.iload 5, 2) := dk_21 5 (dk_at dksX4_bestOrder_1 15 rfl rfl)
theorem dX4_bestOrder_39 : decode cX4_bestOrder 39 = .ok (.iload_n 3, 1) := dk_29 (dk_at dksX4_bestOrder_1 17 rfl rfl)
theorem dX4_bestOrder_40 : decode cX4_bestOrder 40 = .ok (.invokevirtual 576, 3) := dk_182 2 64 (dk_at dksX4_bestOrder_1 18 rfl rfl)
theorem dX4_bestOrder_43 : decode cX4_bestOrder 43 = .ok (.istore 6, 2) := dk_54 6 (dk_at dksX4_bestOrder_1 21 rfl rfl)
theorem dX4_bestOrder_45 : decode cX4_bestOrder 45 = .ok (.iconst 0, 1) := dk_3 (dk_at dksX4_bestOrder_1 23 rfl rfl)
theorem dX4_bestOrder_46 : decode cX4_bestOrder 46 = .ok (.istore 7, 2) := dk_54 7 (dk_at dksX4_bestOrder_2 0 rfl rfl)
theorem dX4_bestOrder_48 : decode cX4_bestOrder 48 = .ok (.aload_n 0, 1) := dk_42 (dk_at dksX4_bestOrder_2 2 rfl rfl)
theorem dX4_bestOrder_49 : decode cX4_bestOrder 49 = .ok (.iload 5, 2) := dk_21 5 (dk_at dksX4_bestOrder_2 3 rfl rfl)
theorem dX4_bestOrder_51 : decode cX4_bestOrder 51 = .ok (.iload 4, 2) := dk_21 4 (dk_at dksX4_bestOrder_2 5 rfl rfl)
theorem dX4_bestOrder_53 : decode cX4_bestOrder 53 = .ok (.invokevirtual 579, 3) := dk_182 2 67 (dk_at dksX4_bestOrder_2 7 rfl rfl)
theorem dX4_bestOrder_56 : decode cX4_bestOrder 56 = .ok (.istore 8, 2) := dk_54 8 (dk_at dksX4_bestOrder_2 10 rfl rfl)
theorem dX4_bestOrder_58 : decode cX4_bestOrder 58 = .ok (.iload 8, 2) := dk_21 8 (dk_at dksX4_bestOrder_2 12 rfl rfl)
theorem dX4_bestOrder_60 : decode cX4_bestOrder 60 = .ok (.iconst (-1), 1) := dk_2 (dk_at dksX4_bestOrder_2 14 rfl rfl)
theorem dX4_bestOrder_61 : decode cX4_bestOrder 61 = .ok (.if_icmp .eq 118, 3) := dk_159 0 118 (dk_at dksX4_bestOrder_2 15 rfl rfl)
theorem dX4_bestOrder_64 : decode cX4_bestOrder 64 = .ok (.aload_n 0, 1) := dk_42 (dk_at dksX4_bestOrder_2 18 rfl rfl)
theorem dX4_bestOrder_65 : decode cX4_bestOrder 65 = .ok (.iload_n 1, 1) := dk_27 (dk_at dksX4_bestOrder_2 19 rfl rfl)
theorem dX4_bestOrder_66 : decode cX4_bestOrder 66 = .ok (.iload_n 2, 1) := dk_28 (dk_at dksX4_bestOrder_2 20 rfl rfl)
theorem dX4_bestOrder_67 : decode cX4_bestOrder 67 = .ok (.iload 8, 2) := dk_21 8 (dk_at dksX4_bestOrder_2 21 rfl rfl)
theorem dX4_bestOrder_69 : decode cX4_bestOrder 69 = .ok (.iload_n 3, 1) := dk_29 (dk_at dksX4_bestOrder_2 23 rfl rfl)
theorem dX4_bestOrder_70 : decode cX4_bestOrder 70 = .ok (.invokevirtual 576, 3) := dk_182 2 64 (dk_at dksX4_bestOrder_3 0 rfl rfl)
theorem dX4_bestOrder_73 : decode cX4_bestOrder 73 = .ok (.istore 9, 2) := dk_54 9 (dk_at dksX4_bestOrder_3 3 rfl rfl)
theorem dX4_bestOrder_75 : decode cX4_bestOrder 75 = .ok (.iload 9, 2) := dk_21 9 (dk_at dksX4_bestOrder_3 5 rfl rfl)
theorem dX4_bestOrder_77 : decode cX4_bestOrder 77 = .ok (.iload 6, 2) := dk_21 6 (dk_at dksX4_bestOrder_3 7 rfl rfl)
theorem dX4_bestOrder_79 : decode cX4_bestOrder 79 = .ok (.if_icmp .ge 17, 3) := dk_162 0 17 (dk_at dksX4_bestOrder_3 9 rfl rfl)
theorem dX4_bestOrder_82 : decode cX4_bestOrder 82 = .ok (.iload 9, 2) := dk_21 9 (dk_at dksX4_bestOrder_3 12 rfl rfl)
theorem dX4_bestOrder_84 : decode cX4_bestOrder 84 = .ok (.istore 6, 2) := dk_54 6 (dk_at dksX4_bestOrder_3 14 rfl rfl)
theorem dX4_bestOrder_86 : decode cX4_bestOrder 86 = .ok (.iload 8, 2) := dk_21 8 (dk_at dksX4_bestOrder_3 16 rfl rfl)
theorem dX4_bestOrder_88 : decode cX4_bestOrder 88 = .ok (.istore 5, 2) := dk_54 5 (dk_at dksX4_bestOrder_3 18 rfl rfl)
theorem dX4_bestOrder_90 : decode cX4_bestOrder 90 = .ok (.iconst 0, 1) := dk_3 (dk_at dksX4_bestOrder_3 20 rfl rfl)
theorem dX4_bestOrder_91 : decode cX4_bestOrder 91 = .ok (.istore 7, 2) := dk_54 7 (dk_at dksX4_bestOrder_3 21 rfl rfl)
theorem dX4_bestOrder_93 : decode cX4_bestOrder 93 = .ok (.goto 73, 3) := dk_167 0 73 (dk_at dksX4_bestOrder_4 0 rfl rfl)
theorem dX4_bestOrder_96 : decode cX4_bestOrder 96 = .ok (.iload 9, 2) := dk_21 9 (dk_at dksX4_bestOrder_4 3 rfl rfl)
theorem dX4_bestOrder_98 : decode cX4_bestOrder 98 = .ok (.iload 6, 2) := dk_21 6 (dk_at dksX4_bestOrder_4 5 rfl rfl)
theorem dX4_bestOrder_100 : decode cX4_bestOrder 100 = .ok (.if_icmp .ne 66, 3) := dk_160 0 66 (dk_at dksX4_bestOrder_4 7 rfl rfl)
theorem dX4_bestOrder_103 : decode cX4_bestOrder 103 = .ok (.iload 9, 2) := dk_21 9 (dk_at dksX4_bestOrder_4 10 rfl rfl)
theorem dX4_bestOrder_105 : decode cX4_bestOrder 105 = .ok (.sipush 10000, 3) := dk_17 39 16 (dk_at dksX4_bestOrder_4 12 rfl rfl)
theorem dX4_bestOrder_108 : decode cX4_bestOrder 108 = .ok (.if_icmp .ge 58, 3) := dk_162 0 58 (dk_at dksX4_bestOrder_4 15 rfl rfl)
theorem dX4_bestOrder_111 : decode cX4_bestOrder 111 = .ok (.iload 7, 2) := dk_21 7 (dk_at dksX4_bestOrder_4 18 rfl rfl)
theorem dX4_bestOrder_113 : decode cX4_bestOrder 113 = .ok (.ifCond .ne 24, 3) := dk_154 0 24 (dk_at dksX4_bestOrder_4 20 rfl rfl)
theorem dX4_bestOrder_116 : decode cX4_bestOrder 116 = .ok (.aload_n 0, 1) := dk_42 (dk_at dksX4_bestOrder_4 23 rfl rfl)
theorem dX4_bestOrder_117 : decode cX4_bestOrder 117 = .ok (.aload_n 0, 1) := dk_42 (dk_at dksX4_bestOrder_5 0 rfl rfl)
theorem dX4_bestOrder_118 : decode cX4_bestOrder 118 = .ok (.iconst 0, 1) := dk_3 (dk_at dksX4_bestOrder_5 1 rfl rfl)
theorem dX4_bestOrder_119 : decode cX4_bestOrder 119 = .ok (.iload_n 1, 1) := dk_27 (dk_at dksX4_bestOrder_5 2 rfl rfl)
theorem dX4_bestOrder_120 : decode cX4_bestOrder 120 = .ok (.iload_n 2, 1) := dk_28 (dk_at dksX4_bestOrder_5 3 rfl rfl)
theorem dX4_bestOrder_121 : decode cX4_bestOrder 121 = .ok (.iload 5, 2) := dk_21 5 (dk_at dksX4_bestOrder_5 4 rfl rfl)
theorem dX4_bestOrder_123 : decode cX4_bestOrder 123 = .ok (.iload_n 3, 1) := dk_29 (dk_at dksX4_bestOrder_5 6 rfl rfl)
theorem dX4_bestOrder_124 : decode cX4_bestOrder 124 = .ok (.invokevirtual 569, 3) := dk_182 2 57 (dk_at dksX4_bestOrder_5 7 rfl rfl)
theorem dX4_bestOrder_127 : decode cX4_bestOrder 127 = .ok (.invokevirtual 582, 3) := dk_182 2 70 (dk_at dksX4_bestOrder_5 10 rfl rfl)
theorem dX4_bestOrder_130 : decode cX4_bestOrder 130 = .ok (.aload_n 0, 1) := dk_42 (dk_at dksX4_bestOrder_5 13 rfl rfl)
theorem dX4_bestOrder_131 : decode cX4_bestOrder 131 = .ok (.invokevirtual 585, 3) := dk_182 2 73 (dk_at dksX4_bestOrder_5 14 rfl rfl)
theorem dX4_bestOrder_134 : decode cX4_bestOrder 134 = .ok (.iconst 1, 1) := dk_4 (dk_at dksX4_bestOrder_5 17 rfl rfl)
theorem dX4_bestOrder_135 : decode cX4_bestOrder 135 = .ok (.istore 7, 2) := dk_54 7 (dk_at dksX4_bestOrder_5 18 rfl rfl)
theorem dX4_bestOrder_137 : decode cX4_bestOrder 137 = .ok (.aload_n 0, 1) := dk_42 (dk_at dksX4_bestOrder_5 20 rfl rfl)
theorem dX4_bestOrder_138 : decode cX4_bestOrder 138 = .ok (.aload_n 0, 1) := dk_42 (dk_at dksX4_bestOrder_5 21 rfl rfl)
theorem dX4_bestOrder_139 : decode cX4_bestOrder 139 = .ok (.iconst 0, 1) := dk_3 (dk_at dksX4_bestOrder_5 22 rfl rfl)
theorem dX4_bestOrder_140 : decode cX4_bestOrder 140 = .ok (.iload_n 1, 1) := dk_27 (dk_at dksX4_bestOrder_5 23 rfl rfl)
theorem dX4_bestOrder_141 : decode cX4_bestOrder 141 = .ok (.iload_n 2, 1) := dk_28 (dk_at dksX4_bestOrder_6 0 rfl rfl)
theorem dX4_bestOrder_142 : decode cX4_bestOrder 142 = .ok (.iload 8, 2) := dk_21 8 (dk_at dksX4_bestOrder_6 1 rfl rfl)
theorem dX4_bestOrder_144 : decode cX4_bestOrder 144 = .ok (.iload_n 3, 1) := dk_29 (dk_at dksX4_bestOrder_6 3 rfl rfl)
theorem dX4_bestOrder_145 : decode cX4_bestOrder 145 = .ok (.invokevirtual 569, 3) := dk_182 2 57 (dk_at dksX4_bestOrder_6 4 rfl rfl)
theorem dX4_bestOrder_148 : decode cX4_bestOrder 148 = .ok (.invokevirtual 582, 3) := dk_182 2 70 (dk_at dksX4_bestOrder_6 7 rfl rfl)
theorem dX4_bestOrder_151 : decode cX4_bestOrder 151 = .ok (.aload_n 0, 1) := dk_42 (dk_at dksX4_bestOrder_6 10 rfl rfl)
theorem dX4_bestOrder_152 : decode cX4_bestOrder 152 = .ok (.invokevirtual 588, 3) := dk_182 2 76 (dk_at dksX4_bestOrder_6 11 rfl rfl)
theorem dX4_bestOrder_155 : decode cX4_bestOrder 155 = .ok (.ifCond .eq 11, 3) := dk_153 0 11 (dk_at dksX4_bestOrder_6 14 rfl rfl)
theorem dX4_bestOrder_158 : decode cX4_bestOrder 158 = .ok (.iload 8, 2) := dk_21 8 (dk_at dksX4_bestOrder_6 17 rfl rfl)
theorem dX4_bestOrder_160 : decode cX4_bestOrder 160 = .ok (.istore 5, 2) := dk_54 5 (dk_at dksX4_bestOrder_6 19 rfl rfl)
theorem dX4_bestOrder_162 : decode cX4_bestOrder 162 = .ok (.aload_n 0, 1) := dk_42 (dk_at dksX4_bestOrder_6 21 rfl rfl)
theorem dX4_bestOrder_163 : decode cX4_bestOrder 163 = .ok (.invokevirtual 585, 3) := dk_182 2 73 (dk_at dksX4_bestOrder_7 0 rfl rfl)
theorem dX4_bestOrder_166 : decode cX4_bestOrder 166 = .ok (.aload_n 0, 1) := dk_42 (dk_at dksX4_bestOrder_7 3 rfl rfl)
theorem dX4_bestOrder_167 : decode cX4_bestOrder 167 = .ok (.iload 8, 2) := dk_21 8 (dk_at dksX4_bestOrder_7 4 rfl rfl)
theorem dX4_bestOrder_169 : decode cX4_bestOrder 169 = .ok (.iload 4, 2) := dk_21 4 (dk_at dksX4_bestOrder_7 6 rfl rfl)
theorem dX4_bestOrder_171 : decode cX4_bestOrder 171 = .ok (.invokevirtual 579, 3) := dk_182 2 67 (dk_at dksX4_bestOrder_7 8 rfl rfl)
theorem dX4_bestOrder_174 : decode cX4_bestOrder 174 = .ok (.istore 8, 2) := dk_54 8 (dk_at dksX4_bestOrder_7 11 rfl rfl)
theorem dX4_bestOrder_176 : decode cX4_bestOrder 176 = .ok (.goto (-118), 3) := dk_167 255 138 (dk_at dksX4_bestOrder_7 13 rfl rfl)
theorem dX4_bestOrder_179 : decode cX4_bestOrder 179 = .ok (.iload 5, 2) := dk_21 5 (dk_at dksX4_bestOrder_7 16 rfl rfl)
theorem dX4_bestOrder_181 : decode cX4_bestOrder 181 = .ok (.ireturn, 1) := dk_172 (dk_at dksX4_bestOrder_7 18 rfl rfl)
abbrev cX4_firstOrder : ByteArray := prog_23_method_96_code
def yX4_firstOrder : MethodName := ⟨RX4, "firstOrder", "(I)I"⟩
def dkwX4_firstOrder_1 : List UInt8 := [172]
abbrev dktX4_firstOrder_1 : List UInt8 := dkwX4_firstOrder_1 ++ []
def dkwX4_firstOrder_0 : List UInt8 := [3, 60, 3, 61, 28, 26, 162, 0, 17, 27, 28, 6, 28, 104, 120, 128, 60, 132, 2, 1, 167, 255, 240, 27]
abbrev dktX4_firstOrder_0 : List UInt8 := dkwX4_firstOrder_0 ++ dktX4_firstOrder_1
theorem dksX4_firstOrder_0 : cX4_firstOrder.data.toList.drop 0 = dktX4_firstOrder_0 := by decide +kernel
theorem dksX4_firstOrder_1 : cX4_firstOrder.data.toList.drop 24 = dktX4_firstOrder_1 := dk_seg dksX4_firstOrder_0 24 rfl rfl
theorem dX4_firstOrder_0 : decode cX4_firstOrder 0 = .ok (.iconst 0, 1) := dk_3 (dk_at dksX4_firstOrder_0 0 rfl rfl)
theorem dX4_firstOrder_1 : decode cX4_firstOrder 1 = .ok (.istore_n 1, 1) := dk_60 (dk_at dksX4_firstOrder_0 1 rfl rfl)
theorem dX4_firstOrder_2 : decode cX4_firstOrder 2 = .ok (.iconst 0, 1) := dk_3 (dk_at dksX4_firstOrder_0 2 rfl rfl)
theorem dX4_firstOrder_3 : decode cX4_firstOrder 3 = .ok (.istore_n 2, 1) := dk_61 (dk_at dksX4_firstOrder_0 3 rfl rfl)
theorem dX4_firstOrder_4 : decode cX4_firstOrder 4 = .ok (.iload_n 2, 1) := dk_28 (dk_at dksX4_firstOrder_0 4 rfl rfl)
theorem dX4_firstOrder_5 : decode cX4_firstOrder 5 = .ok (.iload_n 0, 1) := dk_26 (dk_at dksX4_firstOrder_0 5 rfl rfl)
theorem dX4_firstOrder_6 : decode cX4_firstOrder 6 = .ok (.if_icmp .ge 17, 3) := dk_162 0 17 (dk_at dksX4_firstOrder_0 6 rfl rfl)
theorem dX4_firstOrder_9 : decode cX4_firstOrder 9 = .ok (.iload_n 1, 1) := dk_27 (dk_at dksX4_firstOrder_0 9 rfl rfl)
theorem dX4_firstOrder_10 : decode cX4_firstOrder 10 = .ok (.iload_n 2, 1) := dk_28 (dk_at dksX4_firstOrder_0 10 rfl rfl)
theorem dX4_firstOrder_11 : decode cX4_firstOrder 11 = .ok (.iconst 3, 1) := dk_6 (dk_at dksX4_firstOrder_0 11 rfl rfl)
theorem dX4_firstOrder_12 : decode cX4_firstOrder 12 = .ok (.iload_n 2, 1) := dk_28 (dk_at dksX4_firstOrder_0 12 rfl rfl)
theorem dX4_firstOrder_13 : decode cX4_firstOrder 13 = .ok (.imul, 1) := dk_104 (dk_at dksX4_firstOrder_0 13 rfl rfl)
theorem dX4_firstOrder_14 : decode cX4_firstOrder 14 = .ok (.ishl, 1) := dk_120 (dk_at dksX4_firstOrder_0 14 rfl rfl)
theorem dX4_firstOrder_15 : decode cX4_firstOrder 15 = .ok (.ior, 1) := dk_128 (dk_at dksX4_firstOrder_0 15 rfl rfl)
theorem dX4_firstOrder_16 : decode cX4_firstOrder 16 = .ok (.istore_n 1, 1) := dk_60 (dk_at dksX4_firstOrder_0 16 rfl rfl)
theorem dX4_firstOrder_17 : decode cX4_firstOrder 17 = .ok (.iinc 2 1, 3) := dk_132 2 1 (dk_at dksX4_firstOrder_0 17 rfl rfl)
theorem dX4_firstOrder_20 : decode cX4_firstOrder 20 = .ok (.goto (-16), 3) := dk_167 255 240 (dk_at dksX4_firstOrder_0 20 rfl rfl)
theorem dX4_firstOrder_23 : decode cX4_firstOrder 23 = .ok (.iload_n 1, 1) := dk_27 (dk_at dksX4_firstOrder_0 23 rfl rfl)
theorem dX4_firstOrder_24 : decode cX4_firstOrder 24 = .ok (.ireturn, 1) := dk_172 (dk_at dksX4_firstOrder_1 0 rfl rfl)
abbrev cX4_costBy : ByteArray := prog_23_method_94_code
def yX4_costBy : MethodName := ⟨RX4, "costBy", "(IIII)I"⟩
def dkwX4_costBy_3 : List UInt8 := [54, 6, 132, 8, 1, 167, 255, 214, 21, 6, 16, 99, 164, 0, 9, 17, 39, 16, 167, 0, 5, 21, 6, 172]
abbrev dktX4_costBy_3 : List UInt8 := dkwX4_costBy_3 ++ []
def dkwX4_costBy_2 : List UInt8 := [29, 21, 8, 182, 2, 47, 42, 28, 21, 7, 21, 8, 182, 1, 208, 21, 4, 21, 8, 100, 182, 2, 51, 96]
abbrev dktX4_costBy_2 : List UInt8 := dkwX4_costBy_2 ++ dktX4_costBy_3
def dkwX4_costBy_1 : List UInt8 := [108, 167, 0, 5, 21, 5, 54, 7, 3, 54, 8, 21, 8, 21, 5, 162, 0, 41, 21, 6, 42, 42, 27, 28]
abbrev dktX4_costBy_1 : List UInt8 := dkwX4_costBy_1 ++ dktX4_costBy_2
def dkwX4_costBy_0 : List UInt8 := [42, 180, 0, 139, 27, 46, 54, 5, 4, 54, 6, 42, 180, 0, 39, 28, 46, 7, 160, 0, 10, 21, 5, 5]
abbrev dktX4_costBy_0 : List UInt8 := dkwX4_costBy_0 ++ dktX4_costBy_1
theorem dksX4_costBy_0 : cX4_costBy.data.toList.drop 0 = dktX4_costBy_0 := by decide +kernel
theorem dksX4_costBy_1 : cX4_costBy.data.toList.drop 24 = dktX4_costBy_1 := dk_seg dksX4_costBy_0 24 rfl rfl
theorem dksX4_costBy_2 : cX4_costBy.data.toList.drop 48 = dktX4_costBy_2 := dk_seg dksX4_costBy_1 24 rfl rfl
theorem dksX4_costBy_3 : cX4_costBy.data.toList.drop 72 = dktX4_costBy_3 := dk_seg dksX4_costBy_2 24 rfl rfl
theorem dX4_costBy_0 : decode cX4_costBy 0 = .ok (.aload_n 0, 1) := dk_42 (dk_at dksX4_costBy_0 0 rfl rfl)
theorem dX4_costBy_1 : decode cX4_costBy 1 = .ok (.getfield 139, 3) := dk_180 0 139 (dk_at dksX4_costBy_0 1 rfl rfl)
theorem dX4_costBy_4 : decode cX4_costBy 4 = .ok (.iload_n 1, 1) := dk_27 (dk_at dksX4_costBy_0 4 rfl rfl)
theorem dX4_costBy_5 : decode cX4_costBy 5 = .ok (.iaload, 1) := dk_46 (dk_at dksX4_costBy_0 5 rfl rfl)
theorem dX4_costBy_6 : decode cX4_costBy 6 = .ok (.istore 5, 2) := dk_54 5 (dk_at dksX4_costBy_0 6 rfl rfl)
theorem dX4_costBy_8 : decode cX4_costBy 8 = .ok (.iconst 1, 1) := dk_4 (dk_at dksX4_costBy_0 8 rfl rfl)
theorem dX4_costBy_9 : decode cX4_costBy 9 = .ok (.istore 6, 2) := dk_54 6 (dk_at dksX4_costBy_0 9 rfl rfl)
theorem dX4_costBy_11 : decode cX4_costBy 11 = .ok (.aload_n 0, 1) := dk_42 (dk_at dksX4_costBy_0 11 rfl rfl)
theorem dX4_costBy_12 : decode cX4_costBy 12 = .ok (.getfield 39, 3) := dk_180 0 39 (dk_at dksX4_costBy_0 12 rfl rfl)
theorem dX4_costBy_15 : decode cX4_costBy 15 = .ok (.iload_n 2, 1) := dk_28 (dk_at dksX4_costBy_0 15 rfl rfl)
theorem dX4_costBy_16 : decode cX4_costBy 16 = .ok (.iaload, 1) := dk_46 (dk_at dksX4_costBy_0 16 rfl rfl)
theorem dX4_costBy_17 : decode cX4_costBy 17 = .ok (.iconst 4, 1) := dk_7 (dk_at dksX4_costBy_0 17 rfl rfl)
theorem dX4_costBy_18 : decode cX4_costBy 18 = .ok (.if_icmp .ne 10, 3) := dk_160 0 10 (dk_at dksX4_costBy_0 18 rfl rfl)
theorem dX4_costBy_21 : decode cX4_costBy 21 = .ok (.iload 5, 2) := dk_21 5 (dk_at dksX4_costBy_0 21 rfl rfl)
theorem dX4_costBy_23 : decode cX4_costBy 23 = .ok (.iconst 2, 1) := dk_5 (dk_at dksX4_costBy_0 23 rfl rfl)
theorem dX4_costBy_24 : decode cX4_costBy 24 = .ok (.idiv, 1) := dk_108 (dk_at dksX4_costBy_1 0 rfl rfl)
theorem dX4_costBy_25 : decode cX4_costBy 25 = .ok (.goto 5, 3) := dk_167 0 5 (dk_at dksX4_costBy_1 1 rfl rfl)
theorem dX4_costBy_28 : decode cX4_costBy 28 = .ok (.iload 5, 2) := dk_21 5 (dk_at dksX4_costBy_1 4 rfl rfl)
theorem dX4_costBy_30 : decode cX4_costBy 30 = .ok (.istore 7, 2) := dk_54 7 (dk_at dksX4_costBy_1 6 rfl rfl)
theorem dX4_costBy_32 : decode cX4_costBy 32 = .ok (.iconst 0, 1) := dk_3 (dk_at dksX4_costBy_1 8 rfl rfl)
theorem dX4_costBy_33 : decode cX4_costBy 33 = .ok (.istore 8, 2) := dk_54 8 (dk_at dksX4_costBy_1 9 rfl rfl)
theorem dX4_costBy_35 : decode cX4_costBy 35 = .ok (.iload 8, 2) := dk_21 8 (dk_at dksX4_costBy_1 11 rfl rfl)
theorem dX4_costBy_37 : decode cX4_costBy 37 = .ok (.iload 5, 2) := dk_21 5 (dk_at dksX4_costBy_1 13 rfl rfl)
theorem dX4_costBy_39 : decode cX4_costBy 39 = .ok (.if_icmp .ge 41, 3) := dk_162 0 41 (dk_at dksX4_costBy_1 15 rfl rfl)
theorem dX4_costBy_42 : decode cX4_costBy 42 = .ok (.iload 6, 2) := dk_21 6 (dk_at dksX4_costBy_1 18 rfl rfl)
theorem dX4_costBy_44 : decode cX4_costBy 44 = .ok (.aload_n 0, 1) := dk_42 (dk_at dksX4_costBy_1 20 rfl rfl)
theorem dX4_costBy_45 : decode cX4_costBy 45 = .ok (.aload_n 0, 1) := dk_42 (dk_at dksX4_costBy_1 21 rfl rfl)
theorem dX4_costBy_46 : decode cX4_costBy 46 = .ok (.iload_n 1, 1) := dk_27 (dk_at dksX4_costBy_1 22 rfl rfl)
theorem dX4_costBy_47 : decode cX4_costBy 47 = .ok (.iload_n 2, 1) := dk_28 (dk_at dksX4_costBy_1 23 rfl rfl)
theorem dX4_costBy_48 : decode cX4_costBy 48 = .ok (.iload_n 3, 1) := dk_29 (dk_at dksX4_costBy_2 0 rfl rfl)
theorem dX4_costBy_49 : decode cX4_costBy 49 = .ok (.iload 8, 2) := dk_21 8 (dk_at dksX4_costBy_2 1 rfl rfl)
theorem dX4_costBy_51 : decode cX4_costBy 51 = .ok (.invokevirtual 559, 3) := dk_182 2 47 (dk_at dksX4_costBy_2 3 rfl rfl)
theorem dX4_costBy_54 : decode cX4_costBy 54 = .ok (.aload_n 0, 1) := dk_42 (dk_at dksX4_costBy_2 6 rfl rfl)
theorem dX4_costBy_55 : decode cX4_costBy 55 = .ok (.iload_n 2, 1) := dk_28 (dk_at dksX4_costBy_2 7 rfl rfl)
theorem dX4_costBy_56 : decode cX4_costBy 56 = .ok (.iload 7, 2) := dk_21 7 (dk_at dksX4_costBy_2 8 rfl rfl)
theorem dX4_costBy_58 : decode cX4_costBy 58 = .ok (.iload 8, 2) := dk_21 8 (dk_at dksX4_costBy_2 10 rfl rfl)
theorem dX4_costBy_60 : decode cX4_costBy 60 = .ok (.invokevirtual 464, 3) := dk_182 1 208 (dk_at dksX4_costBy_2 12 rfl rfl)
theorem dX4_costBy_63 : decode cX4_costBy 63 = .ok (.iload 4, 2) := dk_21 4 (dk_at dksX4_costBy_2 15 rfl rfl)
theorem dX4_costBy_65 : decode cX4_costBy 65 = .ok (.iload 8, 2) := dk_21 8 (dk_at dksX4_costBy_2 17 rfl rfl)
theorem dX4_costBy_67 : decode cX4_costBy 67 = .ok (.isub, 1) := dk_100 (dk_at dksX4_costBy_2 19 rfl rfl)
theorem dX4_costBy_68 : decode cX4_costBy 68 = .ok (.invokevirtual 563, 3) := dk_182 2 51 (dk_at dksX4_costBy_2 20 rfl rfl)
theorem dX4_costBy_71 : decode cX4_costBy 71 = .ok (.iadd, 1) := dk_96 (dk_at dksX4_costBy_2 23 rfl rfl)
theorem dX4_costBy_72 : decode cX4_costBy 72 = .ok (.istore 6, 2) := dk_54 6 (dk_at dksX4_costBy_3 0 rfl rfl)
theorem dX4_costBy_74 : decode cX4_costBy 74 = .ok (.iinc 8 1, 3) := dk_132 8 1 (dk_at dksX4_costBy_3 2 rfl rfl)
theorem dX4_costBy_77 : decode cX4_costBy 77 = .ok (.goto (-42), 3) := dk_167 255 214 (dk_at dksX4_costBy_3 5 rfl rfl)
theorem dX4_costBy_80 : decode cX4_costBy 80 = .ok (.iload 6, 2) := dk_21 6 (dk_at dksX4_costBy_3 8 rfl rfl)
theorem dX4_costBy_82 : decode cX4_costBy 82 = .ok (.bipush 99, 2) := dk_16 99 (dk_at dksX4_costBy_3 10 rfl rfl)
theorem dX4_costBy_84 : decode cX4_costBy 84 = .ok (.if_icmp .le 9, 3) := dk_164 0 9 (dk_at dksX4_costBy_3 12 rfl rfl)
theorem dX4_costBy_87 : decode cX4_costBy 87 = .ok (.sipush 10000, 3) := dk_17 39 16 (dk_at dksX4_costBy_3 15 rfl rfl)
theorem dX4_costBy_90 : decode cX4_costBy 90 = .ok (.goto 5, 3) := dk_167 0 5 (dk_at dksX4_costBy_3 18 rfl rfl)
theorem dX4_costBy_93 : decode cX4_costBy 93 = .ok (.iload 6, 2) := dk_21 6 (dk_at dksX4_costBy_3 21 rfl rfl)
theorem dX4_costBy_95 : decode cX4_costBy 95 = .ok (.ireturn, 1) := dk_172 (dk_at dksX4_costBy_3 23 rfl rfl)
abbrev cX4_saidPart : ByteArray := prog_23_method_92_code
def yX4_saidPart : MethodName := ⟨RX4, "saidPart", "(IIII)I"⟩
def dkwX4_saidPart_5 : List UInt8 := [4, 96, 46, 172, 42, 180, 0, 142, 21, 5, 21, 4, 96, 46, 172]
abbrev dktX4_saidPart_5 : List UInt8 := dkwX4_saidPart_5 ++ []
def dkwX4_saidPart_4 : List UInt8 := [21, 4, 104, 96, 46, 167, 0, 22, 42, 180, 0, 142, 21, 5, 5, 21, 6, 4, 100, 21, 4, 100, 104, 96]
abbrev dktX4_saidPart_4 : List UInt8 := dkwX4_saidPart_4 ++ dktX4_saidPart_5
def dkwX4_saidPart_3 : List UInt8 := [122, 16, 7, 126, 96, 46, 172, 21, 4, 21, 6, 5, 108, 162, 0, 18, 42, 180, 0, 142, 21, 5, 5]
abbrev dktX4_saidPart_3 : List UInt8 := dkwX4_saidPart_3 ++ dktX4_saidPart_4
def dkwX4_saidPart_2 : List UInt8 := [42, 180, 0, 142, 21, 5, 4, 96, 21, 4, 100, 46, 172, 42, 180, 0, 142, 21, 5, 29, 6, 21, 4, 104]
abbrev dktX4_saidPart_2 : List UInt8 := dkwX4_saidPart_2 ++ dktX4_saidPart_3
def dkwX4_saidPart_1 : List UInt8 := [170, 0, 0, 0, 0, 101, 0, 0, 0, 2, 0, 0, 0, 4, 0, 0, 0, 26, 0, 0, 0, 39, 0, 0, 0, 57]
abbrev dktX4_saidPart_1 : List UInt8 := dkwX4_saidPart_1 ++ dktX4_saidPart_2
def dkwX4_saidPart_0 : List UInt8 := [42, 180, 0, 136, 27, 46, 54, 5, 42, 180, 0, 139, 27, 46, 54, 6, 42, 180, 0, 39, 28, 46]
abbrev dktX4_saidPart_0 : List UInt8 := dkwX4_saidPart_0 ++ dktX4_saidPart_1
theorem dksX4_saidPart_0 : cX4_saidPart.data.toList.drop 0 = dktX4_saidPart_0 := by decide +kernel
theorem dksX4_saidPart_1 : cX4_saidPart.data.toList.drop 22 = dktX4_saidPart_1 := dk_seg dksX4_saidPart_0 22 rfl rfl
theorem dksX4_saidPart_2 : cX4_saidPart.data.toList.drop 48 = dktX4_saidPart_2 := dk_seg dksX4_saidPart_1 26 rfl rfl
theorem dksX4_saidPart_3 : cX4_saidPart.data.toList.drop 72 = dktX4_saidPart_3 := dk_seg dksX4_saidPart_2 24 rfl rfl
theorem dksX4_saidPart_4 : cX4_saidPart.data.toList.drop 95 = dktX4_saidPart_4 := dk_seg dksX4_saidPart_3 23 rfl rfl
theorem dksX4_saidPart_5 : cX4_saidPart.data.toList.drop 119 = dktX4_saidPart_5 := dk_seg dksX4_saidPart_4 24 rfl rfl
theorem dX4_saidPart_0 : decode cX4_saidPart 0 = .ok (.aload_n 0, 1) := dk_42 (dk_at dksX4_saidPart_0 0 rfl rfl)
theorem dX4_saidPart_1 : decode cX4_saidPart 1 = .ok (.getfield 136, 3) := dk_180 0 136 (dk_at dksX4_saidPart_0 1 rfl rfl)
theorem dX4_saidPart_4 : decode cX4_saidPart 4 = .ok (.iload_n 1, 1) := dk_27 (dk_at dksX4_saidPart_0 4 rfl rfl)
theorem dX4_saidPart_5 : decode cX4_saidPart 5 = .ok (.iaload, 1) := dk_46 (dk_at dksX4_saidPart_0 5 rfl rfl)
theorem dX4_saidPart_6 : decode cX4_saidPart 6 = .ok (.istore 5, 2) := dk_54 5 (dk_at dksX4_saidPart_0 6 rfl rfl)
theorem dX4_saidPart_8 : decode cX4_saidPart 8 = .ok (.aload_n 0, 1) := dk_42 (dk_at dksX4_saidPart_0 8 rfl rfl)
theorem dX4_saidPart_9 : decode cX4_saidPart 9 = .ok (.getfield 139, 3) := dk_180 0 139 (dk_at dksX4_saidPart_0 9 rfl rfl)
theorem dX4_saidPart_12 : decode cX4_saidPart 12 = .ok (.iload_n 1, 1) := dk_27 (dk_at dksX4_saidPart_0 12 rfl rfl)
theorem dX4_saidPart_13 : decode cX4_saidPart 13 = .ok (.iaload, 1) := dk_46 (dk_at dksX4_saidPart_0 13 rfl rfl)
theorem dX4_saidPart_14 : decode cX4_saidPart 14 = .ok (.istore 6, 2) := dk_54 6 (dk_at dksX4_saidPart_0 14 rfl rfl)
theorem dX4_saidPart_16 : decode cX4_saidPart 16 = .ok (.aload_n 0, 1) := dk_42 (dk_at dksX4_saidPart_0 16 rfl rfl)
theorem dX4_saidPart_17 : decode cX4_saidPart 17 = .ok (.getfield 39, 3) := dk_180 0 39 (dk_at dksX4_saidPart_0 17 rfl rfl)
theorem dX4_saidPart_20 : decode cX4_saidPart 20 = .ok (.iload_n 2, 1) := dk_28 (dk_at dksX4_saidPart_0 20 rfl rfl)
theorem dX4_saidPart_21 : decode cX4_saidPart 21 = .ok (.iaload, 1) := dk_46 (dk_at dksX4_saidPart_0 21 rfl rfl)
theorem dX4_saidPart_22 : decode cX4_saidPart 22 = .ok (.tableswitch 101 2 4 #[26, 39, 57], 26) := by decide +kernel
theorem dX4_saidPart_48 : decode cX4_saidPart 48 = .ok (.aload_n 0, 1) := dk_42 (dk_at dksX4_saidPart_2 0 rfl rfl)
theorem dX4_saidPart_49 : decode cX4_saidPart 49 = .ok (.getfield 142, 3) := dk_180 0 142 (dk_at dksX4_saidPart_2 1 rfl rfl)
theorem dX4_saidPart_52 : decode cX4_saidPart 52 = .ok (.iload 5, 2) := dk_21 5 (dk_at dksX4_saidPart_2 4 rfl rfl)
theorem dX4_saidPart_54 : decode cX4_saidPart 54 = .ok (.iconst 1, 1) := dk_4 (dk_at dksX4_saidPart_2 6 rfl rfl)
theorem dX4_saidPart_55 : decode cX4_saidPart 55 = .ok (.iadd, 1) := dk_96 (dk_at dksX4_saidPart_2 7 rfl rfl)
theorem dX4_saidPart_56 : decode cX4_saidPart 56 = .ok (.iload 4, 2) := dk_21 4 (dk_at dksX4_saidPart_2 8 rfl rfl)
theorem dX4_saidPart_58 : decode cX4_saidPart 58 = .ok (.isub, 1) := dk_100 (dk_at dksX4_saidPart_2 10 rfl rfl)
theorem dX4_saidPart_59 : decode cX4_saidPart 59 = .ok (.iaload, 1) := dk_46 (dk_at dksX4_saidPart_2 11 rfl rfl)
theorem dX4_saidPart_60 : decode cX4_saidPart 60 = .ok (.ireturn, 1) := dk_172 (dk_at dksX4_saidPart_2 12 rfl rfl)
theorem dX4_saidPart_61 : decode cX4_saidPart 61 = .ok (.aload_n 0, 1) := dk_42 (dk_at dksX4_saidPart_2 13 rfl rfl)
theorem dX4_saidPart_62 : decode cX4_saidPart 62 = .ok (.getfield 142, 3) := dk_180 0 142 (dk_at dksX4_saidPart_2 14 rfl rfl)
theorem dX4_saidPart_65 : decode cX4_saidPart 65 = .ok (.iload 5, 2) := dk_21 5 (dk_at dksX4_saidPart_2 17 rfl rfl)
theorem dX4_saidPart_67 : decode cX4_saidPart 67 = .ok (.iload_n 3, 1) := dk_29 (dk_at dksX4_saidPart_2 19 rfl rfl)
theorem dX4_saidPart_68 : decode cX4_saidPart 68 = .ok (.iconst 3, 1) := dk_6 (dk_at dksX4_saidPart_2 20 rfl rfl)
theorem dX4_saidPart_69 : decode cX4_saidPart 69 = .ok (.iload 4, 2) := dk_21 4 (dk_at dksX4_saidPart_2 21 rfl rfl)
theorem dX4_saidPart_71 : decode cX4_saidPart 71 = .ok (.imul, 1) := dk_104 (dk_at dksX4_saidPart_2 23 rfl rfl)
theorem dX4_saidPart_72 : decode cX4_saidPart 72 = .ok (.ishr, 1) := dk_122 (dk_at dksX4_saidPart_3 0 rfl rfl)
theorem dX4_saidPart_73 : decode cX4_saidPart 73 = .ok (.bipush 7, 2) := dk_16 7 (dk_at dksX4_saidPart_3 1 rfl rfl)
theorem dX4_saidPart_75 : decode cX4_saidPart 75 = .ok (.iand, 1) := dk_126 (dk_at dksX4_saidPart_3 3 rfl rfl)
theorem dX4_saidPart_76 : decode cX4_saidPart 76 = .ok (.iadd, 1) := dk_96 (dk_at dksX4_saidPart_3 4 rfl rfl)
theorem dX4_saidPart_77 : decode cX4_saidPart 77 = .ok (.iaload, 1) := dk_46 (dk_at dksX4_saidPart_3 5 rfl rfl)
theorem dX4_saidPart_78 : decode cX4_saidPart 78 = .ok (.ireturn, 1) := dk_172 (dk_at dksX4_saidPart_3 6 rfl rfl)
theorem dX4_saidPart_79 : decode cX4_saidPart 79 = .ok (.iload 4, 2) := dk_21 4 (dk_at dksX4_saidPart_3 7 rfl rfl)
theorem dX4_saidPart_81 : decode cX4_saidPart 81 = .ok (.iload 6, 2) := dk_21 6 (dk_at dksX4_saidPart_3 9 rfl rfl)
theorem dX4_saidPart_83 : decode cX4_saidPart 83 = .ok (.iconst 2, 1) := dk_5 (dk_at dksX4_saidPart_3 11 rfl rfl)
theorem dX4_saidPart_84 : decode cX4_saidPart 84 = .ok (.idiv, 1) := dk_108 (dk_at dksX4_saidPart_3 12 rfl rfl)
theorem dX4_saidPart_85 : decode cX4_saidPart 85 = .ok (.if_icmp .ge 18, 3) := dk_162 0 18 (dk_at dksX4_saidPart_3 13 rfl rfl)
theorem dX4_saidPart_88 : decode cX4_saidPart 88 = .ok (.aload_n 0, 1) := dk_42 (dk_at dksX4_saidPart_3 16 rfl rfl)
theorem dX4_saidPart_89 : decode cX4_saidPart 89 = .ok (.getfield 142, 3) := dk_180 0 142 (dk_at dksX4_saidPart_3 17 rfl rfl)
theorem dX4_saidPart_92 : decode cX4_saidPart 92 = .ok (.iload 5, 2) := dk_21 5 (dk_at dksX4_saidPart_3 20 rfl rfl)
theorem dX4_saidPart_94 : decode cX4_saidPart 94 = .ok (.iconst 2, 1) := dk_5 (dk_at dksX4_saidPart_3 22 rfl rfl)
theorem dX4_saidPart_95 : decode cX4_saidPart 95 = .ok (.iload 4, 2) := dk_21 4 (dk_at dksX4_saidPart_4 0 rfl rfl)
theorem dX4_saidPart_97 : decode cX4_saidPart 97 = .ok (.imul, 1) := dk_104 (dk_at dksX4_saidPart_4 2 rfl rfl)
theorem dX4_saidPart_98 : decode cX4_saidPart 98 = .ok (.iadd, 1) := dk_96 (dk_at dksX4_saidPart_4 3 rfl rfl)
theorem dX4_saidPart_99 : decode cX4_saidPart 99 = .ok (.iaload, 1) := dk_46 (dk_at dksX4_saidPart_4 4 rfl rfl)
theorem dX4_saidPart_100 : decode cX4_saidPart 100 = .ok (.goto 22, 3) := dk_167 0 22 (dk_at dksX4_saidPart_4 5 rfl rfl)
theorem dX4_saidPart_103 : decode cX4_saidPart 103 = .ok (.aload_n 0, 1) := dk_42 (dk_at dksX4_saidPart_4 8 rfl rfl)
theorem dX4_saidPart_104 : decode cX4_saidPart 104 = .ok (.getfield 142, 3) := dk_180 0 142 (dk_at dksX4_saidPart_4 9 rfl rfl)
theorem dX4_saidPart_107 : decode cX4_saidPart 107 = .ok (.iload 5, 2) := dk_21 5 (dk_at dksX4_saidPart_4 12 rfl rfl)
theorem dX4_saidPart_109 : decode cX4_saidPart 109 = .ok (.iconst 2, 1) := dk_5 (dk_at dksX4_saidPart_4 14 rfl rfl)
theorem dX4_saidPart_110 : decode cX4_saidPart 110 = .ok (.iload 6, 2) := dk_21 6 (dk_at dksX4_saidPart_4 15 rfl rfl)
theorem dX4_saidPart_112 : decode cX4_saidPart 112 = .ok (.iconst 1, 1) := dk_4 (dk_at dksX4_saidPart_4 17 rfl rfl)
theorem dX4_saidPart_113 : decode cX4_saidPart 113 = .ok (.isub, 1) := dk_100 (dk_at dksX4_saidPart_4 18 rfl rfl)
theorem dX4_saidPart_114 : decode cX4_saidPart 114 = .ok (.iload 4, 2) := dk_21 4 (dk_at dksX4_saidPart_4 19 rfl rfl)
theorem dX4_saidPart_116 : decode cX4_saidPart 116 = .ok (.isub, 1) := dk_100 (dk_at dksX4_saidPart_4 21 rfl rfl)
theorem dX4_saidPart_117 : decode cX4_saidPart 117 = .ok (.imul, 1) := dk_104 (dk_at dksX4_saidPart_4 22 rfl rfl)
theorem dX4_saidPart_118 : decode cX4_saidPart 118 = .ok (.iadd, 1) := dk_96 (dk_at dksX4_saidPart_4 23 rfl rfl)
theorem dX4_saidPart_119 : decode cX4_saidPart 119 = .ok (.iconst 1, 1) := dk_4 (dk_at dksX4_saidPart_5 0 rfl rfl)
theorem dX4_saidPart_120 : decode cX4_saidPart 120 = .ok (.iadd, 1) := dk_96 (dk_at dksX4_saidPart_5 1 rfl rfl)
theorem dX4_saidPart_121 : decode cX4_saidPart 121 = .ok (.iaload, 1) := dk_46 (dk_at dksX4_saidPart_5 2 rfl rfl)
theorem dX4_saidPart_122 : decode cX4_saidPart 122 = .ok (.ireturn, 1) := dk_172 (dk_at dksX4_saidPart_5 3 rfl rfl)
theorem dX4_saidPart_123 : decode cX4_saidPart 123 = .ok (.aload_n 0, 1) := dk_42 (dk_at dksX4_saidPart_5 4 rfl rfl)
theorem dX4_saidPart_124 : decode cX4_saidPart 124 = .ok (.getfield 142, 3) := dk_180 0 142 (dk_at dksX4_saidPart_5 5 rfl rfl)
theorem dX4_saidPart_127 : decode cX4_saidPart 127 = .ok (.iload 5, 2) := dk_21 5 (dk_at dksX4_saidPart_5 8 rfl rfl)
theorem dX4_saidPart_129 : decode cX4_saidPart 129 = .ok (.iload 4, 2) := dk_21 4 (dk_at dksX4_saidPart_5 10 rfl rfl)
theorem dX4_saidPart_131 : decode cX4_saidPart 131 = .ok (.iadd, 1) := dk_96 (dk_at dksX4_saidPart_5 12 rfl rfl)
theorem dX4_saidPart_132 : decode cX4_saidPart 132 = .ok (.iaload, 1) := dk_46 (dk_at dksX4_saidPart_5 13 rfl rfl)
theorem dX4_saidPart_133 : decode cX4_saidPart 133 = .ok (.ireturn, 1) := dk_172 (dk_at dksX4_saidPart_5 14 rfl rfl)
abbrev cX4_costOf : ByteArray := prog_23_method_91_code
def yX4_costOf : MethodName := ⟨RX4, "costOf", "(III)I"⟩
def dkwX4_costOf_0 : List UInt8 := [29, 4, 162, 0, 9, 17, 39, 16, 167, 0, 14, 42, 180, 0, 167, 27, 28, 29, 184, 2, 44, 46, 172]
abbrev dktX4_costOf_0 : List UInt8 := dkwX4_costOf_0 ++ []
theorem dksX4_costOf_0 : cX4_costOf.data.toList.drop 0 = dktX4_costOf_0 := by decide +kernel
theorem dX4_costOf_0 : decode cX4_costOf 0 = .ok (.iload_n 3, 1) := dk_29 (dk_at dksX4_costOf_0 0 rfl rfl)
theorem dX4_costOf_1 : decode cX4_costOf 1 = .ok (.iconst 1, 1) := dk_4 (dk_at dksX4_costOf_0 1 rfl rfl)
theorem dX4_costOf_2 : decode cX4_costOf 2 = .ok (.if_icmp .ge 9, 3) := dk_162 0 9 (dk_at dksX4_costOf_0 2 rfl rfl)
theorem dX4_costOf_5 : decode cX4_costOf 5 = .ok (.sipush 10000, 3) := dk_17 39 16 (dk_at dksX4_costOf_0 5 rfl rfl)
theorem dX4_costOf_8 : decode cX4_costOf 8 = .ok (.goto 14, 3) := dk_167 0 14 (dk_at dksX4_costOf_0 8 rfl rfl)
theorem dX4_costOf_11 : decode cX4_costOf 11 = .ok (.aload_n 0, 1) := dk_42 (dk_at dksX4_costOf_0 11 rfl rfl)
theorem dX4_costOf_12 : decode cX4_costOf 12 = .ok (.getfield 167, 3) := dk_180 0 167 (dk_at dksX4_costOf_0 12 rfl rfl)
theorem dX4_costOf_15 : decode cX4_costOf 15 = .ok (.iload_n 1, 1) := dk_27 (dk_at dksX4_costOf_0 15 rfl rfl)
theorem dX4_costOf_16 : decode cX4_costOf 16 = .ok (.iload_n 2, 1) := dk_28 (dk_at dksX4_costOf_0 16 rfl rfl)
theorem dX4_costOf_17 : decode cX4_costOf 17 = .ok (.iload_n 3, 1) := dk_29 (dk_at dksX4_costOf_0 17 rfl rfl)
theorem dX4_costOf_18 : decode cX4_costOf 18 = .ok (.invokestatic 556, 3) := dk_184 2 44 (dk_at dksX4_costOf_0 18 rfl rfl)
theorem dX4_costOf_21 : decode cX4_costOf 21 = .ok (.iaload, 1) := dk_46 (dk_at dksX4_costOf_0 21 rfl rfl)
theorem dX4_costOf_22 : decode cX4_costOf 22 = .ok (.ireturn, 1) := dk_172 (dk_at dksX4_costOf_0 22 rfl rfl)
abbrev cX4_nextOrder : ByteArray := prog_23_method_95_code
def yX4_nextOrder : MethodName := ⟨RX4, "nextOrder", "(II)I"⟩
def dkwX4_nextOrder_9 : List UInt8 := [54, 6, 132, 7, 1, 167, 255, 230, 21, 6, 172]
abbrev dktX4_nextOrder_9 : List UInt8 := dkwX4_nextOrder_9 ++ []
def dkwX4_nextOrder_8 : List UInt8 := [3, 54, 7, 21, 7, 28, 162, 0, 26, 21, 6, 42, 180, 0, 176, 21, 7, 46, 6, 21, 7, 104, 120, 128]
abbrev dktX4_nextOrder_8 : List UInt8 := dkwX4_nextOrder_8 ++ dktX4_nextOrder_9
def dkwX4_nextOrder_7 : List UInt8 := [46, 79, 42, 180, 0, 176, 28, 21, 6, 29, 100, 100, 21, 5, 79, 132, 6, 1, 167, 255, 202, 3, 54, 6]
abbrev dktX4_nextOrder_7 : List UInt8 := dkwX4_nextOrder_7 ++ dktX4_nextOrder_8
def dkwX4_nextOrder_6 : List UInt8 := [180, 0, 176, 21, 6, 46, 54, 5, 42, 180, 0, 176, 21, 6, 42, 180, 0, 176, 28, 21, 6, 29, 100, 100]
abbrev dktX4_nextOrder_6 : List UInt8 := dkwX4_nextOrder_6 ++ dktX4_nextOrder_7
def dkwX4_nextOrder_5 : List UInt8 := [21, 4, 21, 5, 79, 29, 4, 96, 54, 6, 21, 6, 28, 21, 6, 29, 100, 100, 162, 0, 49, 42]
abbrev dktX4_nextOrder_5 : List UInt8 := dkwX4_nextOrder_5 ++ dktX4_nextOrder_6
def dkwX4_nextOrder_4 : List UInt8 := [180, 0, 176, 29, 46, 54, 5, 42, 180, 0, 176, 29, 42, 180, 0, 176, 21, 4, 46, 79, 42, 180, 0, 176]
abbrev dktX4_nextOrder_4 : List UInt8 := dkwX4_nextOrder_4 ++ dktX4_nextOrder_5
def dkwX4_nextOrder_3 : List UInt8 := [180, 0, 176, 21, 4, 46, 42, 180, 0, 176, 29, 46, 162, 0, 9, 132, 4, 255, 167, 255, 237, 42]
abbrev dktX4_nextOrder_3 : List UInt8 := dkwX4_nextOrder_3 ++ dktX4_nextOrder_4
def dkwX4_nextOrder_2 : List UInt8 := [46, 164, 0, 9, 132, 3, 255, 167, 255, 232, 29, 156, 0, 5, 2, 172, 28, 4, 100, 54, 4, 42]
abbrev dktX4_nextOrder_2 : List UInt8 := dkwX4_nextOrder_2 ++ dktX4_nextOrder_3
def dkwX4_nextOrder_1 : List UInt8 := [167, 255, 234, 28, 5, 100, 62, 29, 155, 0, 26, 42, 180, 0, 176, 29, 46, 42, 180, 0, 176, 29, 4, 96]
abbrev dktX4_nextOrder_1 : List UInt8 := dkwX4_nextOrder_1 ++ dktX4_nextOrder_2
def dkwX4_nextOrder_0 : List UInt8 := [3, 62, 29, 28, 162, 0, 23, 42, 180, 0, 176, 29, 27, 6, 29, 104, 122, 16, 7, 126, 79, 132, 3, 1]
abbrev dktX4_nextOrder_0 : List UInt8 := dkwX4_nextOrder_0 ++ dktX4_nextOrder_1
theorem dksX4_nextOrder_0 : cX4_nextOrder.data.toList.drop 0 = dktX4_nextOrder_0 := by decide +kernel
theorem dksX4_nextOrder_1 : cX4_nextOrder.data.toList.drop 24 = dktX4_nextOrder_1 := dk_seg dksX4_nextOrder_0 24 rfl rfl
theorem dksX4_nextOrder_2 : cX4_nextOrder.data.toList.drop 48 = dktX4_nextOrder_2 := dk_seg dksX4_nextOrder_1 24 rfl rfl
theorem dksX4_nextOrder_3 : cX4_nextOrder.data.toList.drop 70 = dktX4_nextOrder_3 := dk_seg dksX4_nextOrder_2 22 rfl rfl
theorem dksX4_nextOrder_4 : cX4_nextOrder.data.toList.drop 92 = dktX4_nextOrder_4 := dk_seg dksX4_nextOrder_3 22 rfl rfl
theorem dksX4_nextOrder_5 : cX4_nextOrder.data.toList.drop 116 = dktX4_nextOrder_5 := dk_seg dksX4_nextOrder_4 24 rfl rfl
theorem dksX4_nextOrder_6 : cX4_nextOrder.data.toList.drop 138 = dktX4_nextOrder_6 := dk_seg dksX4_nextOrder_5 22 rfl rfl
theorem dksX4_nextOrder_7 : cX4_nextOrder.data.toList.drop 162 = dktX4_nextOrder_7 := dk_seg dksX4_nextOrder_6 24 rfl rfl
theorem dksX4_nextOrder_8 : cX4_nextOrder.data.toList.drop 186 = dktX4_nextOrder_8 := dk_seg dksX4_nextOrder_7 24 rfl rfl
theorem dksX4_nextOrder_9 : cX4_nextOrder.data.toList.drop 210 = dktX4_nextOrder_9 := dk_seg dksX4_nextOrder_8 24 rfl rfl
theorem dX4_nextOrder_0 : decode cX4_nextOrder 0 = .ok (.iconst 0, 1) := dk_3 (dk_at dksX4_nextOrder_0 0 rfl rfl)
theorem dX4_nextOrder_1 : decode cX4_nextOrder 1 = .ok (.istore_n 3, 1) := dk_62 (dk_at dksX4_nextOrder_0 1 rfl rfl)
theorem dX4_nextOrder_2 : decode cX4_nextOrder 2 = .ok (.iload_n 3, 1) := dk_29 (dk_at dksX4_nextOrder_0 2 rfl rfl)
theorem dX4_nextOrder_3 : decode cX4_nextOrder 3 = .ok (.iload_n 2, 1) := dk_28 (dk_at dksX4_nextOrder_0 3 rfl rfl)
theorem dX4_nextOrder_4 : decode cX4_nextOrder 4 = .ok (.if_icmp .ge 23, 3) := dk_162 0 23 (dk_at dksX4_nextOrder_0 4 rfl rfl)
theorem dX4_nextOrder_7 : decode cX4_nextOrder 7 = .ok (.aload_n 0, 1) := dk_42 (dk_at dksX4_nextOrder_0 7 rfl rfl)
theorem dX4_nextOrder_8 : decode cX4_nextOrder 8 = .ok (.getfield 176, 3) := dk_180 0 176 (dk_at dksX4_nextOrder_0 8 rfl rfl)
theorem dX4_nextOrder_11 : decode cX4_nextOrder 11 = .ok (.iload_n 3, 1) := dk_29 (dk_at dksX4_nextOrder_0 11 rfl rfl)
theorem dX4_nextOrder_12 : decode cX4_nextOrder 12 = .ok (.iload_n 1, 1) := dk_27 (dk_at dksX4_nextOrder_0 12 rfl rfl)
theorem dX4_nextOrder_13 : decode cX4_nextOrder 13 = .ok (.iconst 3, 1) := dk_6 (dk_at dksX4_nextOrder_0 13 rfl rfl)
theorem dX4_nextOrder_14 : decode cX4_nextOrder 14 = .ok (.iload_n 3, 1) := dk_29 (dk_at dksX4_nextOrder_0 14 rfl rfl)
theorem dX4_nextOrder_15 : decode cX4_nextOrder 15 = .ok (.imul, 1) := dk_104 (dk_at dksX4_nextOrder_0 15 rfl rfl)
theorem dX4_nextOrder_16 : decode cX4_nextOrder 16 = .ok (.ishr, 1) := dk_122 (dk_at dksX4_nextOrder_0 16 rfl rfl)
theorem dX4_nextOrder_17 : decode cX4_nextOrder 17 = .ok (.bipush 7, 2) := dk_16 7 (dk_at dksX4_nextOrder_0 17 rfl rfl)
theorem dX4_nextOrder_19 : decode cX4_nextOrder 19 = .ok (.iand, 1) := dk_126 (dk_at dksX4_nextOrder_0 19 rfl rfl)
theorem dX4_nextOrder_20 : decode cX4_nextOrder 20 = .ok (.iastore, 1) := dk_79 (dk_at dksX4_nextOrder_0 20 rfl rfl)
theorem dX4_nextOrder_21 : decode cX4_nextOrder 21 = .ok (.iinc 3 1, 3) := dk_132 3 1 (dk_at dksX4_nextOrder_0 21 rfl rfl)
theorem dX4_nextOrder_24 : decode cX4_nextOrder 24 = .ok (.goto (-22), 3) := dk_167 255 234 (dk_at dksX4_nextOrder_1 0 rfl rfl)
theorem dX4_nextOrder_27 : decode cX4_nextOrder 27 = .ok (.iload_n 2, 1) := dk_28 (dk_at dksX4_nextOrder_1 3 rfl rfl)
theorem dX4_nextOrder_28 : decode cX4_nextOrder 28 = .ok (.iconst 2, 1) := dk_5 (dk_at dksX4_nextOrder_1 4 rfl rfl)
theorem dX4_nextOrder_29 : decode cX4_nextOrder 29 = .ok (.isub, 1) := dk_100 (dk_at dksX4_nextOrder_1 5 rfl rfl)
theorem dX4_nextOrder_30 : decode cX4_nextOrder 30 = .ok (.istore_n 3, 1) := dk_62 (dk_at dksX4_nextOrder_1 6 rfl rfl)
theorem dX4_nextOrder_31 : decode cX4_nextOrder 31 = .ok (.iload_n 3, 1) := dk_29 (dk_at dksX4_nextOrder_1 7 rfl rfl)
theorem dX4_nextOrder_32 : decode cX4_nextOrder 32 = .ok (.ifCond .lt 26, 3) := dk_155 0 26 (dk_at dksX4_nextOrder_1 8 rfl rfl)
theorem dX4_nextOrder_35 : decode cX4_nextOrder 35 = .ok (.aload_n 0, 1) := dk_42 (dk_at dksX4_nextOrder_1 11 rfl rfl)
theorem dX4_nextOrder_36 : decode cX4_nextOrder 36 = .ok (.getfield 176, 3) := dk_180 0 176 (dk_at dksX4_nextOrder_1 12 rfl rfl)
theorem dX4_nextOrder_39 : decode cX4_nextOrder 39 = .ok (.iload_n 3, 1) := dk_29 (dk_at dksX4_nextOrder_1 15 rfl rfl)
theorem dX4_nextOrder_40 : decode cX4_nextOrder 40 = .ok (.iaload, 1) := dk_46 (dk_at dksX4_nextOrder_1 16 rfl rfl)
theorem dX4_nextOrder_41 : decode cX4_nextOrder 41 = .ok (.aload_n 0, 1) := dk_42 (dk_at dksX4_nextOrder_1 17 rfl rfl)
theorem dX4_nextOrder_42 : decode cX4_nextOrder 42 = .ok (.getfield 176, 3) := dk_180 0 176 (dk_at dksX4_nextOrder_1 18 rfl rfl)
theorem dX4_nextOrder_45 : decode cX4_nextOrder 45 = .ok (.iload_n 3, 1) := dk_29 (dk_at dksX4_nextOrder_1 21 rfl rfl)
theorem dX4_nextOrder_46 : decode cX4_nextOrder 46 = .ok (.iconst 1, 1) := dk_4 (dk_at dksX4_nextOrder_1 22 rfl rfl)
theorem dX4_nextOrder_47 : decode cX4_nextOrder 47 = .ok (.iadd, 1) := dk_96 (dk_at dksX4_nextOrder_1 23 rfl rfl)
theorem dX4_nextOrder_48 : decode cX4_nextOrder 48 = .ok (.iaload, 1) := dk_46 (dk_at dksX4_nextOrder_2 0 rfl rfl)
theorem dX4_nextOrder_49 : decode cX4_nextOrder 49 = .ok (.if_icmp .le 9, 3) := dk_164 0 9 (dk_at dksX4_nextOrder_2 1 rfl rfl)
theorem dX4_nextOrder_52 : decode cX4_nextOrder 52 = .ok (.iinc 3 (-1), 3) := dk_132 3 255 (dk_at dksX4_nextOrder_2 4 rfl rfl)
theorem dX4_nextOrder_55 : decode cX4_nextOrder 55 = .ok (.goto (-24), 3) := dk_167 255 232 (dk_at dksX4_nextOrder_2 7 rfl rfl)
theorem dX4_nextOrder_58 : decode cX4_nextOrder 58 = .ok (.iload_n 3, 1) := dk_29 (dk_at dksX4_nextOrder_2 10 rfl rfl)
theorem dX4_nextOrder_59 : decode cX4_nextOrder 59 = .ok (.ifCond .ge 5, 3) := dk_156 0 5 (dk_at dksX4_nextOrder_2 11 rfl rfl)
theorem dX4_nextOrder_62 : decode cX4_nextOrder 62 = .ok (.iconst (-1), 1) := dk_2 (dk_at dksX4_nextOrder_2 14 rfl rfl)
theorem dX4_nextOrder_63 : decode cX4_nextOrder 63 = .ok (.ireturn, 1) := dk_172 (dk_at dksX4_nextOrder_2 15 rfl rfl)
theorem dX4_nextOrder_64 : decode cX4_nextOrder 64 = .ok (.iload_n 2, 1) := dk_28 (dk_at dksX4_nextOrder_2 16 rfl rfl)
theorem dX4_nextOrder_65 : decode cX4_nextOrder 65 = .ok (.iconst 1, 1) := dk_4 (dk_at dksX4_nextOrder_2 17 rfl rfl)
theorem dX4_nextOrder_66 : decode cX4_nextOrder 66 = .ok (.isub, 1) := dk_100 (dk_at dksX4_nextOrder_2 18 rfl rfl)
theorem dX4_nextOrder_67 : decode cX4_nextOrder 67 = .ok (.istore 4, 2) := dk_54 4 (dk_at dksX4_nextOrder_2 19 rfl rfl)
theorem dX4_nextOrder_69 : decode cX4_nextOrder 69 = .ok (.aload_n 0, 1) := dk_42 (dk_at dksX4_nextOrder_2 21 rfl rfl)
theorem dX4_nextOrder_70 : decode cX4_nextOrder 70 = .ok (.getfield 176, 3) := dk_180 0 176 (dk_at dksX4_nextOrder_3 0 rfl rfl)
theorem dX4_nextOrder_73 : decode cX4_nextOrder 73 = .ok (.iload 4, 2) := dk_21 4 (dk_at dksX4_nextOrder_3 3 rfl rfl)
theorem dX4_nextOrder_75 : decode cX4_nextOrder 75 = .ok (.iaload, 1) := dk_46 (dk_at dksX4_nextOrder_3 5 rfl rfl)
theorem dX4_nextOrder_76 : decode cX4_nextOrder 76 = .ok (.aload_n 0, 1) := dk_42 (dk_at dksX4_nextOrder_3 6 rfl rfl)
theorem dX4_nextOrder_77 : decode cX4_nextOrder 77 = .ok (.getfield 176, 3) := dk_180 0 176 (dk_at dksX4_nextOrder_3 7 rfl rfl)
theorem dX4_nextOrder_80 : decode cX4_nextOrder 80 = .ok (.iload_n 3, 1) := dk_29 (dk_at dksX4_nextOrder_3 10 rfl rfl)
theorem dX4_nextOrder_81 : decode cX4_nextOrder 81 = .ok (.iaload, 1) := dk_46 (dk_at dksX4_nextOrder_3 11 rfl rfl)
theorem dX4_nextOrder_82 : decode cX4_nextOrder 82 = .ok (.if_icmp .ge 9, 3) := dk_162 0 9 (dk_at dksX4_nextOrder_3 12 rfl rfl)
theorem dX4_nextOrder_85 : decode cX4_nextOrder 85 = .ok (.iinc 4 (-1), 3) := dk_132 4 255 (dk_at dksX4_nextOrder_3 15 rfl rfl)
theorem dX4_nextOrder_88 : decode cX4_nextOrder 88 = .ok (.goto (-19), 3) := dk_167 255 237 (dk_at dksX4_nextOrder_3 18 rfl rfl)
theorem dX4_nextOrder_91 : decode cX4_nextOrder 91 = .ok (.aload_n 0, 1) := dk_42 (dk_at dksX4_nextOrder_3 21 rfl rfl)
theorem dX4_nextOrder_92 : decode cX4_nextOrder 92 = .ok (.getfield 176, 3) := dk_180 0 176 (dk_at dksX4_nextOrder_4 0 rfl rfl)
theorem dX4_nextOrder_95 : decode cX4_nextOrder 95 = .ok (.iload_n 3, 1) := dk_29 (dk_at dksX4_nextOrder_4 3 rfl rfl)
theorem dX4_nextOrder_96 : decode cX4_nextOrder 96 = .ok (.iaload, 1) := dk_46 (dk_at dksX4_nextOrder_4 4 rfl rfl)
theorem dX4_nextOrder_97 : decode cX4_nextOrder 97 = .ok (.istore 5, 2) := dk_54 5 (dk_at dksX4_nextOrder_4 5 rfl rfl)
theorem dX4_nextOrder_99 : decode cX4_nextOrder 99 = .ok (.aload_n 0, 1) := dk_42 (dk_at dksX4_nextOrder_4 7 rfl rfl)
theorem dX4_nextOrder_100 : decode cX4_nextOrder 100 = .ok (.getfield 176, 3) := dk_180 0 176 (dk_at dksX4_nextOrder_4 8 rfl rfl)
theorem dX4_nextOrder_103 : decode cX4_nextOrder 103 = .ok (.iload_n 3, 1) := dk_29 (dk_at dksX4_nextOrder_4 11 rfl rfl)
theorem dX4_nextOrder_104 : decode cX4_nextOrder 104 = .ok (.aload_n 0, 1) := dk_42 (dk_at dksX4_nextOrder_4 12 rfl rfl)
theorem dX4_nextOrder_105 : decode cX4_nextOrder 105 = .ok (.getfield 176, 3) := dk_180 0 176 (dk_at dksX4_nextOrder_4 13 rfl rfl)
theorem dX4_nextOrder_108 : decode cX4_nextOrder 108 = .ok (.iload 4, 2) := dk_21 4 (dk_at dksX4_nextOrder_4 16 rfl rfl)
theorem dX4_nextOrder_110 : decode cX4_nextOrder 110 = .ok (.iaload, 1) := dk_46 (dk_at dksX4_nextOrder_4 18 rfl rfl)
theorem dX4_nextOrder_111 : decode cX4_nextOrder 111 = .ok (.iastore, 1) := dk_79 (dk_at dksX4_nextOrder_4 19 rfl rfl)
theorem dX4_nextOrder_112 : decode cX4_nextOrder 112 = .ok (.aload_n 0, 1) := dk_42 (dk_at dksX4_nextOrder_4 20 rfl rfl)
theorem dX4_nextOrder_113 : decode cX4_nextOrder 113 = .ok (.getfield 176, 3) := dk_180 0 176 (dk_at dksX4_nextOrder_4 21 rfl rfl)
theorem dX4_nextOrder_116 : decode cX4_nextOrder 116 = .ok (.iload 4, 2) := dk_21 4 (dk_at dksX4_nextOrder_5 0 rfl rfl)
theorem dX4_nextOrder_118 : decode cX4_nextOrder 118 = .ok (.iload 5, 2) := dk_21 5 (dk_at dksX4_nextOrder_5 2 rfl rfl)
theorem dX4_nextOrder_120 : decode cX4_nextOrder 120 = .ok (.iastore, 1) := dk_79 (dk_at dksX4_nextOrder_5 4 rfl rfl)
theorem dX4_nextOrder_121 : decode cX4_nextOrder 121 = .ok (.iload_n 3, 1) := dk_29 (dk_at dksX4_nextOrder_5 5 rfl rfl)
theorem dX4_nextOrder_122 : decode cX4_nextOrder 122 = .ok (.iconst 1, 1) := dk_4 (dk_at dksX4_nextOrder_5 6 rfl rfl)
theorem dX4_nextOrder_123 : decode cX4_nextOrder 123 = .ok (.iadd, 1) := dk_96 (dk_at dksX4_nextOrder_5 7 rfl rfl)
theorem dX4_nextOrder_124 : decode cX4_nextOrder 124 = .ok (.istore 6, 2) := dk_54 6 (dk_at dksX4_nextOrder_5 8 rfl rfl)
theorem dX4_nextOrder_126 : decode cX4_nextOrder 126 = .ok (.iload 6, 2) := dk_21 6 (dk_at dksX4_nextOrder_5 10 rfl rfl)
theorem dX4_nextOrder_128 : decode cX4_nextOrder 128 = .ok (.iload_n 2, 1) := dk_28 (dk_at dksX4_nextOrder_5 12 rfl rfl)
theorem dX4_nextOrder_129 : decode cX4_nextOrder 129 = .ok (.iload 6, 2) := dk_21 6 (dk_at dksX4_nextOrder_5 13 rfl rfl)
theorem dX4_nextOrder_131 : decode cX4_nextOrder 131 = .ok (.iload_n 3, 1) := dk_29 (dk_at dksX4_nextOrder_5 15 rfl rfl)
theorem dX4_nextOrder_132 : decode cX4_nextOrder 132 = .ok (.isub, 1) := dk_100 (dk_at dksX4_nextOrder_5 16 rfl rfl)
theorem dX4_nextOrder_133 : decode cX4_nextOrder 133 = .ok (.isub, 1) := dk_100 (dk_at dksX4_nextOrder_5 17 rfl rfl)
theorem dX4_nextOrder_134 : decode cX4_nextOrder 134 = .ok (.if_icmp .ge 49, 3) := dk_162 0 49 (dk_at dksX4_nextOrder_5 18 rfl rfl)
theorem dX4_nextOrder_137 : decode cX4_nextOrder 137 = .ok (.aload_n 0, 1) := dk_42 (dk_at dksX4_nextOrder_5 21 rfl rfl)
theorem dX4_nextOrder_138 : decode cX4_nextOrder 138 = .ok (.getfield 176, 3) := dk_180 0 176 (dk_at dksX4_nextOrder_6 0 rfl rfl)
theorem dX4_nextOrder_141 : decode cX4_nextOrder 141 = .ok (.iload 6, 2) := dk_21 6 (dk_at dksX4_nextOrder_6 3 rfl rfl)
theorem dX4_nextOrder_143 : decode cX4_nextOrder 143 = .ok (.iaload, 1) := dk_46 (dk_at dksX4_nextOrder_6 5 rfl rfl)
theorem dX4_nextOrder_144 : decode cX4_nextOrder 144 = .ok (.istore 5, 2) := dk_54 5 (dk_at dksX4_nextOrder_6 6 rfl rfl)
theorem dX4_nextOrder_146 : decode cX4_nextOrder 146 = .ok (.aload_n 0, 1) := dk_42 (dk_at dksX4_nextOrder_6 8 rfl rfl)
theorem dX4_nextOrder_147 : decode cX4_nextOrder 147 = .ok (.getfield 176, 3) := dk_180 0 176 (dk_at dksX4_nextOrder_6 9 rfl rfl)
theorem dX4_nextOrder_150 : decode cX4_nextOrder 150 = .ok (.iload 6, 2) := dk_21 6 (dk_at dksX4_nextOrder_6 12 rfl rfl)
theorem dX4_nextOrder_152 : decode cX4_nextOrder 152 = .ok (.aload_n 0, 1) := dk_42 (dk_at dksX4_nextOrder_6 14 rfl rfl)
theorem dX4_nextOrder_153 : decode cX4_nextOrder 153 = .ok (.getfield 176, 3) := dk_180 0 176 (dk_at dksX4_nextOrder_6 15 rfl rfl)
theorem dX4_nextOrder_156 : decode cX4_nextOrder 156 = .ok (.iload_n 2, 1) := dk_28 (dk_at dksX4_nextOrder_6 18 rfl rfl)
theorem dX4_nextOrder_157 : decode cX4_nextOrder 157 = .ok (.iload 6, 2) := dk_21 6 (dk_at dksX4_nextOrder_6 19 rfl rfl)
theorem dX4_nextOrder_159 : decode cX4_nextOrder 159 = .ok (.iload_n 3, 1) := dk_29 (dk_at dksX4_nextOrder_6 21 rfl rfl)
theorem dX4_nextOrder_160 : decode cX4_nextOrder 160 = .ok (.isub, 1) := dk_100 (dk_at dksX4_nextOrder_6 22 rfl rfl)
theorem dX4_nextOrder_161 : decode cX4_nextOrder 161 = .ok (.isub, 1) := dk_100 (dk_at dksX4_nextOrder_6 23 rfl rfl)
theorem dX4_nextOrder_162 : decode cX4_nextOrder 162 = .ok (.iaload, 1) := dk_46 (dk_at dksX4_nextOrder_7 0 rfl rfl)
theorem dX4_nextOrder_163 : decode cX4_nextOrder 163 = .ok (.iastore, 1) := dk_79 (dk_at dksX4_nextOrder_7 1 rfl rfl)
theorem dX4_nextOrder_164 : decode cX4_nextOrder 164 = .ok (.aload_n 0, 1) := dk_42 (dk_at dksX4_nextOrder_7 2 rfl rfl)
theorem dX4_nextOrder_165 : decode cX4_nextOrder 165 = .ok (.getfield 176, 3) := dk_180 0 176 (dk_at dksX4_nextOrder_7 3 rfl rfl)
theorem dX4_nextOrder_168 : decode cX4_nextOrder 168 = .ok (.iload_n 2, 1) := dk_28 (dk_at dksX4_nextOrder_7 6 rfl rfl)
theorem dX4_nextOrder_169 : decode cX4_nextOrder 169 = .ok (.iload 6, 2) := dk_21 6 (dk_at dksX4_nextOrder_7 7 rfl rfl)
theorem dX4_nextOrder_171 : decode cX4_nextOrder 171 = .ok (.iload_n 3, 1) := dk_29 (dk_at dksX4_nextOrder_7 9 rfl rfl)
theorem dX4_nextOrder_172 : decode cX4_nextOrder 172 = .ok (.isub, 1) := dk_100 (dk_at dksX4_nextOrder_7 10 rfl rfl)
theorem dX4_nextOrder_173 : decode cX4_nextOrder 173 = .ok (.isub, 1) := dk_100 (dk_at dksX4_nextOrder_7 11 rfl rfl)
theorem dX4_nextOrder_174 : decode cX4_nextOrder 174 = .ok (.iload 5, 2) := dk_21 5 (dk_at dksX4_nextOrder_7 12 rfl rfl)
theorem dX4_nextOrder_176 : decode cX4_nextOrder 176 = .ok (.iastore, 1) := dk_79 (dk_at dksX4_nextOrder_7 14 rfl rfl)
theorem dX4_nextOrder_177 : decode cX4_nextOrder 177 = .ok (.iinc 6 1, 3) := dk_132 6 1 (dk_at dksX4_nextOrder_7 15 rfl rfl)
theorem dX4_nextOrder_180 : decode cX4_nextOrder 180 = .ok (.goto (-54), 3) := dk_167 255 202 (dk_at dksX4_nextOrder_7 18 rfl rfl)
theorem dX4_nextOrder_183 : decode cX4_nextOrder 183 = .ok (.iconst 0, 1) := dk_3 (dk_at dksX4_nextOrder_7 21 rfl rfl)
theorem dX4_nextOrder_184 : decode cX4_nextOrder 184 = .ok (.istore 6, 2) := dk_54 6 (dk_at dksX4_nextOrder_7 22 rfl rfl)
theorem dX4_nextOrder_186 : decode cX4_nextOrder 186 = .ok (.iconst 0, 1) := dk_3 (dk_at dksX4_nextOrder_8 0 rfl rfl)
theorem dX4_nextOrder_187 : decode cX4_nextOrder 187 = .ok (.istore 7, 2) := dk_54 7 (dk_at dksX4_nextOrder_8 1 rfl rfl)
theorem dX4_nextOrder_189 : decode cX4_nextOrder 189 = .ok (.iload 7, 2) := dk_21 7 (dk_at dksX4_nextOrder_8 3 rfl rfl)
theorem dX4_nextOrder_191 : decode cX4_nextOrder 191 = .ok (.iload_n 2, 1) := dk_28 (dk_at dksX4_nextOrder_8 5 rfl rfl)
theorem dX4_nextOrder_192 : decode cX4_nextOrder 192 = .ok (.if_icmp .ge 26, 3) := dk_162 0 26 (dk_at dksX4_nextOrder_8 6 rfl rfl)
theorem dX4_nextOrder_195 : decode cX4_nextOrder 195 = .ok (.iload 6, 2) := dk_21 6 (dk_at dksX4_nextOrder_8 9 rfl rfl)
theorem dX4_nextOrder_197 : decode cX4_nextOrder 197 = .ok (.aload_n 0, 1) := dk_42 (dk_at dksX4_nextOrder_8 11 rfl rfl)
theorem dX4_nextOrder_198 : decode cX4_nextOrder 198 = .ok (.getfield 176, 3) := dk_180 0 176 (dk_at dksX4_nextOrder_8 12 rfl rfl)
theorem dX4_nextOrder_201 : decode cX4_nextOrder 201 = .ok (.iload 7, 2) := dk_21 7 (dk_at dksX4_nextOrder_8 15 rfl rfl)
theorem dX4_nextOrder_203 : decode cX4_nextOrder 203 = .ok (.iaload, 1) := dk_46 (dk_at dksX4_nextOrder_8 17 rfl rfl)
theorem dX4_nextOrder_204 : decode cX4_nextOrder 204 = .ok (.iconst 3, 1) := dk_6 (dk_at dksX4_nextOrder_8 18 rfl rfl)
theorem dX4_nextOrder_205 : decode cX4_nextOrder 205 = .ok (.iload 7, 2) := dk_21 7 (dk_at dksX4_nextOrder_8 19 rfl rfl)
theorem dX4_nextOrder_207 : decode cX4_nextOrder 207 = .ok (.imul, 1) := dk_104 (dk_at dksX4_nextOrder_8 21 rfl rfl)
theorem dX4_nextOrder_208 : decode cX4_nextOrder 208 = .ok (.ishl, 1) := dk_120 (dk_at dksX4_nextOrder_8 22 rfl rfl)
theorem dX4_nextOrder_209 : decode cX4_nextOrder 209 = .ok (.ior, 1) := dk_128 (dk_at dksX4_nextOrder_8 23 rfl rfl)
theorem dX4_nextOrder_210 : decode cX4_nextOrder 210 = .ok (.istore 6, 2) := dk_54 6 (dk_at dksX4_nextOrder_9 0 rfl rfl)
theorem dX4_nextOrder_212 : decode cX4_nextOrder 212 = .ok (.iinc 7 1, 3) := dk_132 7 1 (dk_at dksX4_nextOrder_9 2 rfl rfl)
theorem dX4_nextOrder_215 : decode cX4_nextOrder 215 = .ok (.goto (-26), 3) := dk_167 255 230 (dk_at dksX4_nextOrder_9 5 rfl rfl)
theorem dX4_nextOrder_218 : decode cX4_nextOrder 218 = .ok (.iload 6, 2) := dk_21 6 (dk_at dksX4_nextOrder_9 8 rfl rfl)
theorem dX4_nextOrder_220 : decode cX4_nextOrder 220 = .ok (.ireturn, 1) := dk_172 (dk_at dksX4_nextOrder_9 10 rfl rfl)
abbrev cX4_pushes : ByteArray := prog_23_method_97_code
def yX4_pushes : MethodName := ⟨RX4, "pushes", "(IIIII)I"⟩
def dkwX4_pushes_3 : List UInt8 := [100, 184, 2, 44, 79, 132, 8, 1, 167, 255, 210, 27, 21, 6, 96, 172]
abbrev dktX4_pushes_3 : List UInt8 := dkwX4_pushes_3 ++ []
def dkwX4_pushes_2 : List UInt8 := [96, 42, 28, 29, 21, 4, 21, 8, 182, 2, 47, 42, 29, 21, 7, 21, 8, 182, 1, 208, 21, 5, 21, 8]
abbrev dktX4_pushes_2 : List UInt8 := dkwX4_pushes_2 ++ dktX4_pushes_3
def dkwX4_pushes_1 : List UInt8 := [167, 0, 5, 21, 6, 54, 7, 3, 54, 8, 21, 8, 21, 6, 162, 0, 45, 42, 180, 0, 179, 27, 21, 8]
abbrev dktX4_pushes_1 : List UInt8 := dkwX4_pushes_1 ++ dktX4_pushes_2
def dkwX4_pushes_0 : List UInt8 := [42, 180, 0, 139, 28, 46, 54, 6, 42, 180, 0, 39, 29, 46, 7, 160, 0, 10, 21, 6, 5, 108]
abbrev dktX4_pushes_0 : List UInt8 := dkwX4_pushes_0 ++ dktX4_pushes_1
theorem dksX4_pushes_0 : cX4_pushes.data.toList.drop 0 = dktX4_pushes_0 := by decide +kernel
theorem dksX4_pushes_1 : cX4_pushes.data.toList.drop 22 = dktX4_pushes_1 := dk_seg dksX4_pushes_0 22 rfl rfl
theorem dksX4_pushes_2 : cX4_pushes.data.toList.drop 46 = dktX4_pushes_2 := dk_seg dksX4_pushes_1 24 rfl rfl
theorem dksX4_pushes_3 : cX4_pushes.data.toList.drop 70 = dktX4_pushes_3 := dk_seg dksX4_pushes_2 24 rfl rfl
theorem dX4_pushes_0 : decode cX4_pushes 0 = .ok (.aload_n 0, 1) := dk_42 (dk_at dksX4_pushes_0 0 rfl rfl)
theorem dX4_pushes_1 : decode cX4_pushes 1 = .ok (.getfield 139, 3) := dk_180 0 139 (dk_at dksX4_pushes_0 1 rfl rfl)
theorem dX4_pushes_4 : decode cX4_pushes 4 = .ok (.iload_n 2, 1) := dk_28 (dk_at dksX4_pushes_0 4 rfl rfl)
theorem dX4_pushes_5 : decode cX4_pushes 5 = .ok (.iaload, 1) := dk_46 (dk_at dksX4_pushes_0 5 rfl rfl)
theorem dX4_pushes_6 : decode cX4_pushes 6 = .ok (.istore 6, 2) := dk_54 6 (dk_at dksX4_pushes_0 6 rfl rfl)
theorem dX4_pushes_8 : decode cX4_pushes 8 = .ok (.aload_n 0, 1) := dk_42 (dk_at dksX4_pushes_0 8 rfl rfl)
theorem dX4_pushes_9 : decode cX4_pushes 9 = .ok (.getfield 39, 3) := dk_180 0 39 (dk_at dksX4_pushes_0 9 rfl rfl)
theorem dX4_pushes_12 : decode cX4_pushes 12 = .ok (.iload_n 3, 1) := dk_29 (dk_at dksX4_pushes_0 12 rfl rfl)
theorem dX4_pushes_13 : decode cX4_pushes 13 = .ok (.iaload, 1) := dk_46 (dk_at dksX4_pushes_0 13 rfl rfl)
theorem dX4_pushes_14 : decode cX4_pushes 14 = .ok (.iconst 4, 1) := dk_7 (dk_at dksX4_pushes_0 14 rfl rfl)
theorem dX4_pushes_15 : decode cX4_pushes 15 = .ok (.if_icmp .ne 10, 3) := dk_160 0 10 (dk_at dksX4_pushes_0 15 rfl rfl)
theorem dX4_pushes_18 : decode cX4_pushes 18 = .ok (.iload 6, 2) := dk_21 6 (dk_at dksX4_pushes_0 18 rfl rfl)
theorem dX4_pushes_20 : decode cX4_pushes 20 = .ok (.iconst 2, 1) := dk_5 (dk_at dksX4_pushes_0 20 rfl rfl)
theorem dX4_pushes_21 : decode cX4_pushes 21 = .ok (.idiv, 1) := dk_108 (dk_at dksX4_pushes_0 21 rfl rfl)
theorem dX4_pushes_22 : decode cX4_pushes 22 = .ok (.goto 5, 3) := dk_167 0 5 (dk_at dksX4_pushes_1 0 rfl rfl)
theorem dX4_pushes_25 : decode cX4_pushes 25 = .ok (.iload 6, 2) := dk_21 6 (dk_at dksX4_pushes_1 3 rfl rfl)
theorem dX4_pushes_27 : decode cX4_pushes 27 = .ok (.istore 7, 2) := dk_54 7 (dk_at dksX4_pushes_1 5 rfl rfl)
theorem dX4_pushes_29 : decode cX4_pushes 29 = .ok (.iconst 0, 1) := dk_3 (dk_at dksX4_pushes_1 7 rfl rfl)
theorem dX4_pushes_30 : decode cX4_pushes 30 = .ok (.istore 8, 2) := dk_54 8 (dk_at dksX4_pushes_1 8 rfl rfl)
theorem dX4_pushes_32 : decode cX4_pushes 32 = .ok (.iload 8, 2) := dk_21 8 (dk_at dksX4_pushes_1 10 rfl rfl)
theorem dX4_pushes_34 : decode cX4_pushes 34 = .ok (.iload 6, 2) := dk_21 6 (dk_at dksX4_pushes_1 12 rfl rfl)
theorem dX4_pushes_36 : decode cX4_pushes 36 = .ok (.if_icmp .ge 45, 3) := dk_162 0 45 (dk_at dksX4_pushes_1 14 rfl rfl)
theorem dX4_pushes_39 : decode cX4_pushes 39 = .ok (.aload_n 0, 1) := dk_42 (dk_at dksX4_pushes_1 17 rfl rfl)
theorem dX4_pushes_40 : decode cX4_pushes 40 = .ok (.getfield 179, 3) := dk_180 0 179 (dk_at dksX4_pushes_1 18 rfl rfl)
theorem dX4_pushes_43 : decode cX4_pushes 43 = .ok (.iload_n 1, 1) := dk_27 (dk_at dksX4_pushes_1 21 rfl rfl)
theorem dX4_pushes_44 : decode cX4_pushes 44 = .ok (.iload 8, 2) := dk_21 8 (dk_at dksX4_pushes_1 22 rfl rfl)
theorem dX4_pushes_46 : decode cX4_pushes 46 = .ok (.iadd, 1) := dk_96 (dk_at dksX4_pushes_2 0 rfl rfl)
theorem dX4_pushes_47 : decode cX4_pushes 47 = .ok (.aload_n 0, 1) := dk_42 (dk_at dksX4_pushes_2 1 rfl rfl)
theorem dX4_pushes_48 : decode cX4_pushes 48 = .ok (.iload_n 2, 1) := dk_28 (dk_at dksX4_pushes_2 2 rfl rfl)
theorem dX4_pushes_49 : decode cX4_pushes 49 = .ok (.iload_n 3, 1) := dk_29 (dk_at dksX4_pushes_2 3 rfl rfl)
theorem dX4_pushes_50 : decode cX4_pushes 50 = .ok (.iload 4, 2) := dk_21 4 (dk_at dksX4_pushes_2 4 rfl rfl)
theorem dX4_pushes_52 : decode cX4_pushes 52 = .ok (.iload 8, 2) := dk_21 8 (dk_at dksX4_pushes_2 6 rfl rfl)
theorem dX4_pushes_54 : decode cX4_pushes 54 = .ok (.invokevirtual 559, 3) := dk_182 2 47 (dk_at dksX4_pushes_2 8 rfl rfl)
theorem dX4_pushes_57 : decode cX4_pushes 57 = .ok (.aload_n 0, 1) := dk_42 (dk_at dksX4_pushes_2 11 rfl rfl)
theorem dX4_pushes_58 : decode cX4_pushes 58 = .ok (.iload_n 3, 1) := dk_29 (dk_at dksX4_pushes_2 12 rfl rfl)
theorem dX4_pushes_59 : decode cX4_pushes 59 = .ok (.iload 7, 2) := dk_21 7 (dk_at dksX4_pushes_2 13 rfl rfl)
theorem dX4_pushes_61 : decode cX4_pushes 61 = .ok (.iload 8, 2) := dk_21 8 (dk_at dksX4_pushes_2 15 rfl rfl)
theorem dX4_pushes_63 : decode cX4_pushes 63 = .ok (.invokevirtual 464, 3) := dk_182 1 208 (dk_at dksX4_pushes_2 17 rfl rfl)
theorem dX4_pushes_66 : decode cX4_pushes 66 = .ok (.iload 5, 2) := dk_21 5 (dk_at dksX4_pushes_2 20 rfl rfl)
theorem dX4_pushes_68 : decode cX4_pushes 68 = .ok (.iload 8, 2) := dk_21 8 (dk_at dksX4_pushes_2 22 rfl rfl)
theorem dX4_pushes_70 : decode cX4_pushes 70 = .ok (.isub, 1) := dk_100 (dk_at dksX4_pushes_3 0 rfl rfl)
theorem dX4_pushes_71 : decode cX4_pushes 71 = .ok (.invokestatic 556, 3) := dk_184 2 44 (dk_at dksX4_pushes_3 1 rfl rfl)
theorem dX4_pushes_74 : decode cX4_pushes 74 = .ok (.iastore, 1) := dk_79 (dk_at dksX4_pushes_3 4 rfl rfl)
theorem dX4_pushes_75 : decode cX4_pushes 75 = .ok (.iinc 8 1, 3) := dk_132 8 1 (dk_at dksX4_pushes_3 5 rfl rfl)
theorem dX4_pushes_78 : decode cX4_pushes 78 = .ok (.goto (-46), 3) := dk_167 255 210 (dk_at dksX4_pushes_3 8 rfl rfl)
theorem dX4_pushes_81 : decode cX4_pushes 81 = .ok (.iload_n 1, 1) := dk_27 (dk_at dksX4_pushes_3 11 rfl rfl)
theorem dX4_pushes_82 : decode cX4_pushes 82 = .ok (.iload 6, 2) := dk_21 6 (dk_at dksX4_pushes_3 12 rfl rfl)
theorem dX4_pushes_84 : decode cX4_pushes 84 = .ok (.iadd, 1) := dk_96 (dk_at dksX4_pushes_3 14 rfl rfl)
theorem dX4_pushes_85 : decode cX4_pushes 85 = .ok (.ireturn, 1) := dk_172 (dk_at dksX4_pushes_3 15 rfl rfl)
abbrev cX4_writes : ByteArray := prog_23_method_98_code
def yX4_writes : MethodName := ⟨RX4, "writes", "(I)V"⟩
def dkwX4_writes_5 : List UInt8 := [42, 180, 0, 173, 29, 46, 21, 5, 182, 2, 57, 61, 167, 255, 135, 177]
abbrev dktX4_writes_5 : List UInt8 := dkwX4_writes_5 ++ []
def dkwX4_writes_4 : List UInt8 := [180, 0, 42, 21, 6, 46, 21, 5, 184, 2, 44, 79, 132, 2, 1, 167, 0, 21, 42, 28, 21, 4, 21, 6]
abbrev dktX4_writes_4 : List UInt8 := dkwX4_writes_4 ++ dktX4_writes_5
def dkwX4_writes_3 : List UInt8 := [181, 2, 54, 42, 180, 0, 39, 21, 6, 46, 8, 160, 0, 29, 42, 180, 0, 179, 28, 21, 4, 42]
abbrev dktX4_writes_3 : List UInt8 := dkwX4_writes_3 ++ dktX4_writes_4
def dkwX4_writes_2 : List UInt8 := [42, 180, 0, 182, 42, 180, 2, 54, 42, 180, 0, 170, 29, 46, 79, 42, 89, 180, 2, 54, 4, 96]
abbrev dktX4_writes_2 : List UInt8 := dkwX4_writes_2 ++ dktX4_writes_3
def dkwX4_writes_1 : List UInt8 := [108, 16, 8, 108, 54, 4, 29, 16, 26, 112, 54, 5, 42, 42, 180, 0, 170, 29, 46, 182, 1, 156, 54, 6]
abbrev dktX4_writes_1 : List UInt8 := dkwX4_writes_1 ++ dktX4_writes_2
def dkwX4_writes_0 : List UInt8 := [27, 61, 42, 3, 181, 2, 54, 28, 158, 0, 123, 132, 2, 255, 42, 180, 0, 179, 28, 46, 62, 29, 16, 26]
abbrev dktX4_writes_0 : List UInt8 := dkwX4_writes_0 ++ dktX4_writes_1
theorem dksX4_writes_0 : cX4_writes.data.toList.drop 0 = dktX4_writes_0 := by decide +kernel
theorem dksX4_writes_1 : cX4_writes.data.toList.drop 24 = dktX4_writes_1 := dk_seg dksX4_writes_0 24 rfl rfl
theorem dksX4_writes_2 : cX4_writes.data.toList.drop 48 = dktX4_writes_2 := dk_seg dksX4_writes_1 24 rfl rfl
theorem dksX4_writes_3 : cX4_writes.data.toList.drop 70 = dktX4_writes_3 := dk_seg dksX4_writes_2 22 rfl rfl
theorem dksX4_writes_4 : cX4_writes.data.toList.drop 92 = dktX4_writes_4 := dk_seg dksX4_writes_3 22 rfl rfl
theorem dksX4_writes_5 : cX4_writes.data.toList.drop 116 = dktX4_writes_5 := dk_seg dksX4_writes_4 24 rfl rfl
theorem dX4_writes_0 : decode cX4_writes 0 = .ok (.iload_n 1, 1) := dk_27 (dk_at dksX4_writes_0 0 rfl rfl)
theorem dX4_writes_1 : decode cX4_writes 1 = .ok (.istore_n 2, 1) := dk_61 (dk_at dksX4_writes_0 1 rfl rfl)
theorem dX4_writes_2 : decode cX4_writes 2 = .ok (.aload_n 0, 1) := dk_42 (dk_at dksX4_writes_0 2 rfl rfl)
theorem dX4_writes_3 : decode cX4_writes 3 = .ok (.iconst 0, 1) := dk_3 (dk_at dksX4_writes_0 3 rfl rfl)
theorem dX4_writes_4 : decode cX4_writes 4 = .ok (.putfield 566, 3) := dk_181 2 54 (dk_at dksX4_writes_0 4 rfl rfl)
theorem dX4_writes_7 : decode cX4_writes 7 = .ok (.iload_n 2, 1) := dk_28 (dk_at dksX4_writes_0 7 rfl rfl)
theorem dX4_writes_8 : decode cX4_writes 8 = .ok (.ifCond .le 123, 3) := dk_158 0 123 (dk_at dksX4_writes_0 8 rfl rfl)
theorem dX4_writes_11 : decode cX4_writes 11 = .ok (.iinc 2 (-1), 3) := dk_132 2 255 (dk_at dksX4_writes_0 11 rfl rfl)
theorem dX4_writes_14 : decode cX4_writes 14 = .ok (.aload_n 0, 1) := dk_42 (dk_at dksX4_writes_0 14 rfl rfl)
theorem dX4_writes_15 : decode cX4_writes 15 = .ok (.getfield 179, 3) := dk_180 0 179 (dk_at dksX4_writes_0 15 rfl rfl)
theorem dX4_writes_18 : decode cX4_writes 18 = .ok (.iload_n 2, 1) := dk_28 (dk_at dksX4_writes_0 18 rfl rfl)
theorem dX4_writes_19 : decode cX4_writes 19 = .ok (.iaload, 1) := dk_46 (dk_at dksX4_writes_0 19 rfl rfl)
theorem dX4_writes_20 : decode cX4_writes 20 = .ok (.istore_n 3, 1) := dk_62 (dk_at dksX4_writes_0 20 rfl rfl)
theorem dX4_writes_21 : decode cX4_writes 21 = .ok (.iload_n 3, 1) := dk_29 (dk_at dksX4_writes_0 21 rfl rfl)
theorem dX4_writes_22 : decode cX4_writes 22 = .ok (.bipush 26, 2) := dk_16 26 (dk_at dksX4_writes_0 22 rfl rfl)
theorem dX4_writes_24 : decode cX4_writes 24 = .ok (.idiv, 1) := dk_108 (dk_at dksX4_writes_1 0 rfl rfl)
theorem dX4_writes_25 : decode cX4_writes 25 = .ok (.bipush 8, 2) := dk_16 8 (dk_at dksX4_writes_1 1 rfl rfl)
theorem dX4_writes_27 : decode cX4_writes 27 = .ok (.idiv, 1) := dk_108 (dk_at dksX4_writes_1 3 rfl rfl)
theorem dX4_writes_28 : decode cX4_writes 28 = .ok (.istore 4, 2) := dk_54 4 (dk_at dksX4_writes_1 4 rfl rfl)
theorem dX4_writes_30 : decode cX4_writes 30 = .ok (.iload_n 3, 1) := dk_29 (dk_at dksX4_writes_1 6 rfl rfl)
theorem dX4_writes_31 : decode cX4_writes 31 = .ok (.bipush 26, 2) := dk_16 26 (dk_at dksX4_writes_1 7 rfl rfl)
theorem dX4_writes_33 : decode cX4_writes 33 = .ok (.irem, 1) := dk_112 (dk_at dksX4_writes_1 9 rfl rfl)
theorem dX4_writes_34 : decode cX4_writes 34 = .ok (.istore 5, 2) := dk_54 5 (dk_at dksX4_writes_1 10 rfl rfl)
theorem dX4_writes_36 : decode cX4_writes 36 = .ok (.aload_n 0, 1) := dk_42 (dk_at dksX4_writes_1 12 rfl rfl)
theorem dX4_writes_37 : decode cX4_writes 37 = .ok (.aload_n 0, 1) := dk_42 (dk_at dksX4_writes_1 13 rfl rfl)
theorem dX4_writes_38 : decode cX4_writes 38 = .ok (.getfield 170, 3) := dk_180 0 170 (dk_at dksX4_writes_1 14 rfl rfl)
theorem dX4_writes_41 : decode cX4_writes 41 = .ok (.iload_n 3, 1) := dk_29 (dk_at dksX4_writes_1 17 rfl rfl)
theorem dX4_writes_42 : decode cX4_writes 42 = .ok (.iaload, 1) := dk_46 (dk_at dksX4_writes_1 18 rfl rfl)
theorem dX4_writes_43 : decode cX4_writes 43 = .ok (.invokevirtual 412, 3) := dk_182 1 156 (dk_at dksX4_writes_1 19 rfl rfl)
theorem dX4_writes_46 : decode cX4_writes 46 = .ok (.istore 6, 2) := dk_54 6 (dk_at dksX4_writes_1 22 rfl rfl)
theorem dX4_writes_48 : decode cX4_writes 48 = .ok (.aload_n 0, 1) := dk_42 (dk_at dksX4_writes_2 0 rfl rfl)
theorem dX4_writes_49 : decode cX4_writes 49 = .ok (.getfield 182, 3) := dk_180 0 182 (dk_at dksX4_writes_2 1 rfl rfl)
theorem dX4_writes_52 : decode cX4_writes 52 = .ok (.aload_n 0, 1) := dk_42 (dk_at dksX4_writes_2 4 rfl rfl)
theorem dX4_writes_53 : decode cX4_writes 53 = .ok (.getfield 566, 3) := dk_180 2 54 (dk_at dksX4_writes_2 5 rfl rfl)
theorem dX4_writes_56 : decode cX4_writes 56 = .ok (.aload_n 0, 1) := dk_42 (dk_at dksX4_writes_2 8 rfl rfl)
theorem dX4_writes_57 : decode cX4_writes 57 = .ok (.getfield 170, 3) := dk_180 0 170 (dk_at dksX4_writes_2 9 rfl rfl)
theorem dX4_writes_60 : decode cX4_writes 60 = .ok (.iload_n 3, 1) := dk_29 (dk_at dksX4_writes_2 12 rfl rfl)
theorem dX4_writes_61 : decode cX4_writes 61 = .ok (.iaload, 1) := dk_46 (dk_at dksX4_writes_2 13 rfl rfl)
theorem dX4_writes_62 : decode cX4_writes 62 = .ok (.iastore, 1) := dk_79 (dk_at dksX4_writes_2 14 rfl rfl)
theorem dX4_writes_63 : decode cX4_writes 63 = .ok (.aload_n 0, 1) := dk_42 (dk_at dksX4_writes_2 15 rfl rfl)
theorem dX4_writes_64 : decode cX4_writes 64 = .ok (.dup, 1) := dk_89 (dk_at dksX4_writes_2 16 rfl rfl)
theorem dX4_writes_65 : decode cX4_writes 65 = .ok (.getfield 566, 3) := dk_180 2 54 (dk_at dksX4_writes_2 17 rfl rfl)
theorem dX4_writes_68 : decode cX4_writes 68 = .ok (.iconst 1, 1) := dk_4 (dk_at dksX4_writes_2 20 rfl rfl)
theorem dX4_writes_69 : decode cX4_writes 69 = .ok (.iadd, 1) := dk_96 (dk_at dksX4_writes_2 21 rfl rfl)
theorem dX4_writes_70 : decode cX4_writes 70 = .ok (.putfield 566, 3) := dk_181 2 54 (dk_at dksX4_writes_3 0 rfl rfl)
theorem dX4_writes_73 : decode cX4_writes 73 = .ok (.aload_n 0, 1) := dk_42 (dk_at dksX4_writes_3 3 rfl rfl)
theorem dX4_writes_74 : decode cX4_writes 74 = .ok (.getfield 39, 3) := dk_180 0 39 (dk_at dksX4_writes_3 4 rfl rfl)
theorem dX4_writes_77 : decode cX4_writes 77 = .ok (.iload 6, 2) := dk_21 6 (dk_at dksX4_writes_3 7 rfl rfl)
theorem dX4_writes_79 : decode cX4_writes 79 = .ok (.iaload, 1) := dk_46 (dk_at dksX4_writes_3 9 rfl rfl)
theorem dX4_writes_80 : decode cX4_writes 80 = .ok (.iconst 5, 1) := dk_8 (dk_at dksX4_writes_3 10 rfl rfl)
theorem dX4_writes_81 : decode cX4_writes 81 = .ok (.if_icmp .ne 29, 3) := dk_160 0 29 (dk_at dksX4_writes_3 11 rfl rfl)
theorem dX4_writes_84 : decode cX4_writes 84 = .ok (.aload_n 0, 1) := dk_42 (dk_at dksX4_writes_3 14 rfl rfl)
theorem dX4_writes_85 : decode cX4_writes 85 = .ok (.getfield 179, 3) := dk_180 0 179 (dk_at dksX4_writes_3 15 rfl rfl)
theorem dX4_writes_88 : decode cX4_writes 88 = .ok (.iload_n 2, 1) := dk_28 (dk_at dksX4_writes_3 18 rfl rfl)
theorem dX4_writes_89 : decode cX4_writes 89 = .ok (.iload 4, 2) := dk_21 4 (dk_at dksX4_writes_3 19 rfl rfl)
theorem dX4_writes_91 : decode cX4_writes 91 = .ok (.aload_n 0, 1) := dk_42 (dk_at dksX4_writes_3 21 rfl rfl)
theorem dX4_writes_92 : decode cX4_writes 92 = .ok (.getfield 42, 3) := dk_180 0 42 (dk_at dksX4_writes_4 0 rfl rfl)
theorem dX4_writes_95 : decode cX4_writes 95 = .ok (.iload 6, 2) := dk_21 6 (dk_at dksX4_writes_4 3 rfl rfl)
theorem dX4_writes_97 : decode cX4_writes 97 = .ok (.iaload, 1) := dk_46 (dk_at dksX4_writes_4 5 rfl rfl)
theorem dX4_writes_98 : decode cX4_writes 98 = .ok (.iload 5, 2) := dk_21 5 (dk_at dksX4_writes_4 6 rfl rfl)
theorem dX4_writes_100 : decode cX4_writes 100 = .ok (.invokestatic 556, 3) := dk_184 2 44 (dk_at dksX4_writes_4 8 rfl rfl)
theorem dX4_writes_103 : decode cX4_writes 103 = .ok (.iastore, 1) := dk_79 (dk_at dksX4_writes_4 11 rfl rfl)
theorem dX4_writes_104 : decode cX4_writes 104 = .ok (.iinc 2 1, 3) := dk_132 2 1 (dk_at dksX4_writes_4 12 rfl rfl)
theorem dX4_writes_107 : decode cX4_writes 107 = .ok (.goto 21, 3) := dk_167 0 21 (dk_at dksX4_writes_4 15 rfl rfl)
theorem dX4_writes_110 : decode cX4_writes 110 = .ok (.aload_n 0, 1) := dk_42 (dk_at dksX4_writes_4 18 rfl rfl)
theorem dX4_writes_111 : decode cX4_writes 111 = .ok (.iload_n 2, 1) := dk_28 (dk_at dksX4_writes_4 19 rfl rfl)
theorem dX4_writes_112 : decode cX4_writes 112 = .ok (.iload 4, 2) := dk_21 4 (dk_at dksX4_writes_4 20 rfl rfl)
theorem dX4_writes_114 : decode cX4_writes 114 = .ok (.iload 6, 2) := dk_21 6 (dk_at dksX4_writes_4 22 rfl rfl)
theorem dX4_writes_116 : decode cX4_writes 116 = .ok (.aload_n 0, 1) := dk_42 (dk_at dksX4_writes_5 0 rfl rfl)
theorem dX4_writes_117 : decode cX4_writes 117 = .ok (.getfield 173, 3) := dk_180 0 173 (dk_at dksX4_writes_5 1 rfl rfl)
theorem dX4_writes_120 : decode cX4_writes 120 = .ok (.iload_n 3, 1) := dk_29 (dk_at dksX4_writes_5 4 rfl rfl)
theorem dX4_writes_121 : decode cX4_writes 121 = .ok (.iaload, 1) := dk_46 (dk_at dksX4_writes_5 5 rfl rfl)
theorem dX4_writes_122 : decode cX4_writes 122 = .ok (.iload 5, 2) := dk_21 5 (dk_at dksX4_writes_5 6 rfl rfl)
theorem dX4_writes_124 : decode cX4_writes 124 = .ok (.invokevirtual 569, 3) := dk_182 2 57 (dk_at dksX4_writes_5 8 rfl rfl)
theorem dX4_writes_127 : decode cX4_writes 127 = .ok (.istore_n 2, 1) := dk_61 (dk_at dksX4_writes_5 11 rfl rfl)
theorem dX4_writes_128 : decode cX4_writes 128 = .ok (.goto (-121), 3) := dk_167 255 135 (dk_at dksX4_writes_5 12 rfl rfl)
theorem dX4_writes_131 : decode cX4_writes 131 = .ok (.return_, 1) := dk_177 (dk_at dksX4_writes_5 15 rfl rfl)
abbrev cX4_copiesSaid : ByteArray := prog_23_method_101_code
def yX4_copiesSaid : MethodName := ⟨RX4, "copiesSaid", "()V"⟩
def dkwX4_copiesSaid_1 : List UInt8 := [132, 1, 1, 167, 255, 233, 177]
abbrev dktX4_copiesSaid_1 : List UInt8 := dkwX4_copiesSaid_1 ++ []
def dkwX4_copiesSaid_0 : List UInt8 := [3, 60, 27, 42, 180, 2, 54, 162, 0, 21, 42, 180, 0, 185, 27, 42, 180, 0, 182, 27, 46, 79]
abbrev dktX4_copiesSaid_0 : List UInt8 := dkwX4_copiesSaid_0 ++ dktX4_copiesSaid_1
theorem dksX4_copiesSaid_0 : cX4_copiesSaid.data.toList.drop 0 = dktX4_copiesSaid_0 := by decide +kernel
theorem dksX4_copiesSaid_1 : cX4_copiesSaid.data.toList.drop 22 = dktX4_copiesSaid_1 := dk_seg dksX4_copiesSaid_0 22 rfl rfl
theorem dX4_copiesSaid_0 : decode cX4_copiesSaid 0 = .ok (.iconst 0, 1) := dk_3 (dk_at dksX4_copiesSaid_0 0 rfl rfl)
theorem dX4_copiesSaid_1 : decode cX4_copiesSaid 1 = .ok (.istore_n 1, 1) := dk_60 (dk_at dksX4_copiesSaid_0 1 rfl rfl)
theorem dX4_copiesSaid_2 : decode cX4_copiesSaid 2 = .ok (.iload_n 1, 1) := dk_27 (dk_at dksX4_copiesSaid_0 2 rfl rfl)
theorem dX4_copiesSaid_3 : decode cX4_copiesSaid 3 = .ok (.aload_n 0, 1) := dk_42 (dk_at dksX4_copiesSaid_0 3 rfl rfl)
theorem dX4_copiesSaid_4 : decode cX4_copiesSaid 4 = .ok (.getfield 566, 3) := dk_180 2 54 (dk_at dksX4_copiesSaid_0 4 rfl rfl)
theorem dX4_copiesSaid_7 : decode cX4_copiesSaid 7 = .ok (.if_icmp .ge 21, 3) := dk_162 0 21 (dk_at dksX4_copiesSaid_0 7 rfl rfl)
theorem dX4_copiesSaid_10 : decode cX4_copiesSaid 10 = .ok (.aload_n 0, 1) := dk_42 (dk_at dksX4_copiesSaid_0 10 rfl rfl)
theorem dX4_copiesSaid_11 : decode cX4_copiesSaid 11 = .ok (.getfield 185, 3) := dk_180 0 185 (dk_at dksX4_copiesSaid_0 11 rfl rfl)
theorem dX4_copiesSaid_14 : decode cX4_copiesSaid 14 = .ok (.iload_n 1, 1) := dk_27 (dk_at dksX4_copiesSaid_0 14 rfl rfl)
theorem dX4_copiesSaid_15 : decode cX4_copiesSaid 15 = .ok (.aload_n 0, 1) := dk_42 (dk_at dksX4_copiesSaid_0 15 rfl rfl)
theorem dX4_copiesSaid_16 : decode cX4_copiesSaid 16 = .ok (.getfield 182, 3) := dk_180 0 182 (dk_at dksX4_copiesSaid_0 16 rfl rfl)
theorem dX4_copiesSaid_19 : decode cX4_copiesSaid 19 = .ok (.iload_n 1, 1) := dk_27 (dk_at dksX4_copiesSaid_0 19 rfl rfl)
theorem dX4_copiesSaid_20 : decode cX4_copiesSaid 20 = .ok (.iaload, 1) := dk_46 (dk_at dksX4_copiesSaid_0 20 rfl rfl)
theorem dX4_copiesSaid_21 : decode cX4_copiesSaid 21 = .ok (.iastore, 1) := dk_79 (dk_at dksX4_copiesSaid_0 21 rfl rfl)
theorem dX4_copiesSaid_22 : decode cX4_copiesSaid 22 = .ok (.iinc 1 1, 3) := dk_132 1 1 (dk_at dksX4_copiesSaid_1 0 rfl rfl)
theorem dX4_copiesSaid_25 : decode cX4_copiesSaid 25 = .ok (.goto (-23), 3) := dk_167 255 233 (dk_at dksX4_copiesSaid_1 3 rfl rfl)
theorem dX4_copiesSaid_28 : decode cX4_copiesSaid 28 = .ok (.return_, 1) := dk_177 (dk_at dksX4_copiesSaid_1 6 rfl rfl)
abbrev cX4_isAhead : ByteArray := prog_23_method_99_code
def yX4_isAhead : MethodName := ⟨RX4, "isAhead", "()Z"⟩
def dkwX4_isAhead_2 : List UInt8 := [180, 0, 185, 27, 46, 162, 0, 7, 4, 167, 0, 4, 3, 172]
abbrev dktX4_isAhead_2 : List UInt8 := dkwX4_isAhead_2 ++ []
def dkwX4_isAhead_1 : List UInt8 := [160, 0, 9, 132, 1, 1, 167, 255, 230, 27, 42, 180, 2, 54, 162, 0, 22, 42, 180, 0, 182, 27, 46, 42]
abbrev dktX4_isAhead_1 : List UInt8 := dkwX4_isAhead_1 ++ dktX4_isAhead_2
def dkwX4_isAhead_0 : List UInt8 := [3, 60, 27, 42, 180, 2, 54, 162, 0, 24, 42, 180, 0, 182, 27, 46, 42, 180, 0, 185, 27, 46]
abbrev dktX4_isAhead_0 : List UInt8 := dkwX4_isAhead_0 ++ dktX4_isAhead_1
theorem dksX4_isAhead_0 : cX4_isAhead.data.toList.drop 0 = dktX4_isAhead_0 := by decide +kernel
theorem dksX4_isAhead_1 : cX4_isAhead.data.toList.drop 22 = dktX4_isAhead_1 := dk_seg dksX4_isAhead_0 22 rfl rfl
theorem dksX4_isAhead_2 : cX4_isAhead.data.toList.drop 46 = dktX4_isAhead_2 := dk_seg dksX4_isAhead_1 24 rfl rfl
theorem dX4_isAhead_0 : decode cX4_isAhead 0 = .ok (.iconst 0, 1) := dk_3 (dk_at dksX4_isAhead_0 0 rfl rfl)
theorem dX4_isAhead_1 : decode cX4_isAhead 1 = .ok (.istore_n 1, 1) := dk_60 (dk_at dksX4_isAhead_0 1 rfl rfl)
theorem dX4_isAhead_2 : decode cX4_isAhead 2 = .ok (.iload_n 1, 1) := dk_27 (dk_at dksX4_isAhead_0 2 rfl rfl)
theorem dX4_isAhead_3 : decode cX4_isAhead 3 = .ok (.aload_n 0, 1) := dk_42 (dk_at dksX4_isAhead_0 3 rfl rfl)
theorem dX4_isAhead_4 : decode cX4_isAhead 4 = .ok (.getfield 566, 3) := dk_180 2 54 (dk_at dksX4_isAhead_0 4 rfl rfl)
theorem dX4_isAhead_7 : decode cX4_isAhead 7 = .ok (.if_icmp .ge 24, 3) := dk_162 0 24 (dk_at dksX4_isAhead_0 7 rfl rfl)
theorem dX4_isAhead_10 : decode cX4_isAhead 10 = .ok (.aload_n 0, 1) := dk_42 (dk_at dksX4_isAhead_0 10 rfl rfl)
theorem dX4_isAhead_11 : decode cX4_isAhead 11 = .ok (.getfield 182, 3) := dk_180 0 182 (dk_at dksX4_isAhead_0 11 rfl rfl)
theorem dX4_isAhead_14 : decode cX4_isAhead 14 = .ok (.iload_n 1, 1) := dk_27 (dk_at dksX4_isAhead_0 14 rfl rfl)
theorem dX4_isAhead_15 : decode cX4_isAhead 15 = .ok (.iaload, 1) := dk_46 (dk_at dksX4_isAhead_0 15 rfl rfl)
theorem dX4_isAhead_16 : decode cX4_isAhead 16 = .ok (.aload_n 0, 1) := dk_42 (dk_at dksX4_isAhead_0 16 rfl rfl)
theorem dX4_isAhead_17 : decode cX4_isAhead 17 = .ok (.getfield 185, 3) := dk_180 0 185 (dk_at dksX4_isAhead_0 17 rfl rfl)
theorem dX4_isAhead_20 : decode cX4_isAhead 20 = .ok (.iload_n 1, 1) := dk_27 (dk_at dksX4_isAhead_0 20 rfl rfl)
theorem dX4_isAhead_21 : decode cX4_isAhead 21 = .ok (.iaload, 1) := dk_46 (dk_at dksX4_isAhead_0 21 rfl rfl)
theorem dX4_isAhead_22 : decode cX4_isAhead 22 = .ok (.if_icmp .ne 9, 3) := dk_160 0 9 (dk_at dksX4_isAhead_1 0 rfl rfl)
theorem dX4_isAhead_25 : decode cX4_isAhead 25 = .ok (.iinc 1 1, 3) := dk_132 1 1 (dk_at dksX4_isAhead_1 3 rfl rfl)
theorem dX4_isAhead_28 : decode cX4_isAhead 28 = .ok (.goto (-26), 3) := dk_167 255 230 (dk_at dksX4_isAhead_1 6 rfl rfl)
theorem dX4_isAhead_31 : decode cX4_isAhead 31 = .ok (.iload_n 1, 1) := dk_27 (dk_at dksX4_isAhead_1 9 rfl rfl)
theorem dX4_isAhead_32 : decode cX4_isAhead 32 = .ok (.aload_n 0, 1) := dk_42 (dk_at dksX4_isAhead_1 10 rfl rfl)
theorem dX4_isAhead_33 : decode cX4_isAhead 33 = .ok (.getfield 566, 3) := dk_180 2 54 (dk_at dksX4_isAhead_1 11 rfl rfl)
theorem dX4_isAhead_36 : decode cX4_isAhead 36 = .ok (.if_icmp .ge 22, 3) := dk_162 0 22 (dk_at dksX4_isAhead_1 14 rfl rfl)
theorem dX4_isAhead_39 : decode cX4_isAhead 39 = .ok (.aload_n 0, 1) := dk_42 (dk_at dksX4_isAhead_1 17 rfl rfl)
theorem dX4_isAhead_40 : decode cX4_isAhead 40 = .ok (.getfield 182, 3) := dk_180 0 182 (dk_at dksX4_isAhead_1 18 rfl rfl)
theorem dX4_isAhead_43 : decode cX4_isAhead 43 = .ok (.iload_n 1, 1) := dk_27 (dk_at dksX4_isAhead_1 21 rfl rfl)
theorem dX4_isAhead_44 : decode cX4_isAhead 44 = .ok (.iaload, 1) := dk_46 (dk_at dksX4_isAhead_1 22 rfl rfl)
theorem dX4_isAhead_45 : decode cX4_isAhead 45 = .ok (.aload_n 0, 1) := dk_42 (dk_at dksX4_isAhead_1 23 rfl rfl)
theorem dX4_isAhead_46 : decode cX4_isAhead 46 = .ok (.getfield 185, 3) := dk_180 0 185 (dk_at dksX4_isAhead_2 0 rfl rfl)
theorem dX4_isAhead_49 : decode cX4_isAhead 49 = .ok (.iload_n 1, 1) := dk_27 (dk_at dksX4_isAhead_2 3 rfl rfl)
theorem dX4_isAhead_50 : decode cX4_isAhead 50 = .ok (.iaload, 1) := dk_46 (dk_at dksX4_isAhead_2 4 rfl rfl)
theorem dX4_isAhead_51 : decode cX4_isAhead 51 = .ok (.if_icmp .ge 7, 3) := dk_162 0 7 (dk_at dksX4_isAhead_2 5 rfl rfl)
theorem dX4_isAhead_54 : decode cX4_isAhead 54 = .ok (.iconst 1, 1) := dk_4 (dk_at dksX4_isAhead_2 8 rfl rfl)
theorem dX4_isAhead_55 : decode cX4_isAhead 55 = .ok (.goto 4, 3) := dk_167 0 4 (dk_at dksX4_isAhead_2 9 rfl rfl)
theorem dX4_isAhead_58 : decode cX4_isAhead 58 = .ok (.iconst 0, 1) := dk_3 (dk_at dksX4_isAhead_2 12 rfl rfl)
theorem dX4_isAhead_59 : decode cX4_isAhead 59 = .ok (.ireturn, 1) := dk_172 (dk_at dksX4_isAhead_2 13 rfl rfl)
abbrev cX4_takesCost : ByteArray := prog_23_method_103_code
def yX4_takesCost : MethodName := ⟨RX4, "takesCost", "(IIII)V"⟩
def dkwX4_takesCost_2 : List UInt8 := [27, 29, 79, 42, 180, 0, 173, 27, 21, 4, 79, 177]
abbrev dktX4_takesCost_2 : List UInt8 := dkwX4_takesCost_2 ++ []
def dkwX4_takesCost_1 : List UInt8 := [162, 0, 35, 29, 42, 180, 0, 170, 27, 46, 162, 0, 25, 42, 180, 0, 167, 27, 28, 79, 42, 180, 0, 170]
abbrev dktX4_takesCost_1 : List UInt8 := dkwX4_takesCost_1 ++ dktX4_takesCost_2
def dkwX4_takesCost_0 : List UInt8 := [28, 42, 180, 0, 167, 27, 46, 161, 0, 30, 28, 42, 180, 0, 167, 27, 46, 160, 0, 42, 28, 17, 39, 16]
abbrev dktX4_takesCost_0 : List UInt8 := dkwX4_takesCost_0 ++ dktX4_takesCost_1
theorem dksX4_takesCost_0 : cX4_takesCost.data.toList.drop 0 = dktX4_takesCost_0 := by decide +kernel
theorem dksX4_takesCost_1 : cX4_takesCost.data.toList.drop 24 = dktX4_takesCost_1 := dk_seg dksX4_takesCost_0 24 rfl rfl
theorem dksX4_takesCost_2 : cX4_takesCost.data.toList.drop 48 = dktX4_takesCost_2 := dk_seg dksX4_takesCost_1 24 rfl rfl
theorem dX4_takesCost_0 : decode cX4_takesCost 0 = .ok (.iload_n 2, 1) := dk_28 (dk_at dksX4_takesCost_0 0 rfl rfl)
theorem dX4_takesCost_1 : decode cX4_takesCost 1 = .ok (.aload_n 0, 1) := dk_42 (dk_at dksX4_takesCost_0 1 rfl rfl)
theorem dX4_takesCost_2 : decode cX4_takesCost 2 = .ok (.getfield 167, 3) := dk_180 0 167 (dk_at dksX4_takesCost_0 2 rfl rfl)
theorem dX4_takesCost_5 : decode cX4_takesCost 5 = .ok (.iload_n 1, 1) := dk_27 (dk_at dksX4_takesCost_0 5 rfl rfl)
theorem dX4_takesCost_6 : decode cX4_takesCost 6 = .ok (.iaload, 1) := dk_46 (dk_at dksX4_takesCost_0 6 rfl rfl)
theorem dX4_takesCost_7 : decode cX4_takesCost 7 = .ok (.if_icmp .lt 30, 3) := dk_161 0 30 (dk_at dksX4_takesCost_0 7 rfl rfl)
theorem dX4_takesCost_10 : decode cX4_takesCost 10 = .ok (.iload_n 2, 1) := dk_28 (dk_at dksX4_takesCost_0 10 rfl rfl)
theorem dX4_takesCost_11 : decode cX4_takesCost 11 = .ok (.aload_n 0, 1) := dk_42 (dk_at dksX4_takesCost_0 11 rfl rfl)
theorem dX4_takesCost_12 : decode cX4_takesCost 12 = .ok (.getfield 167, 3) := dk_180 0 167 (dk_at dksX4_takesCost_0 12 rfl rfl)
theorem dX4_takesCost_15 : decode cX4_takesCost 15 = .ok (.iload_n 1, 1) := dk_27 (dk_at dksX4_takesCost_0 15 rfl rfl)
theorem dX4_takesCost_16 : decode cX4_takesCost 16 = .ok (.iaload, 1) := dk_46 (dk_at dksX4_takesCost_0 16 rfl rfl)
theorem dX4_takesCost_17 : decode cX4_takesCost 17 = .ok (.if_icmp .ne 42, 3) := dk_160 0 42 (dk_at dksX4_takesCost_0 17 rfl rfl)
theorem dX4_takesCost_20 : decode cX4_takesCost 20 = .ok (.iload_n 2, 1) := dk_28 (dk_at dksX4_takesCost_0 20 rfl rfl)
theorem dX4_takesCost_21 : decode cX4_takesCost 21 = .ok (.sipush 10000, 3) := dk_17 39 16 (dk_at dksX4_takesCost_0 21 rfl rfl)
theorem dX4_takesCost_24 : decode cX4_takesCost 24 = .ok (.if_icmp .ge 35, 3) := dk_162 0 35 (dk_at dksX4_takesCost_1 0 rfl rfl)
theorem dX4_takesCost_27 : decode cX4_takesCost 27 = .ok (.iload_n 3, 1) := dk_29 (dk_at dksX4_takesCost_1 3 rfl rfl)
theorem dX4_takesCost_28 : decode cX4_takesCost 28 = .ok (.aload_n 0, 1) := dk_42 (dk_at dksX4_takesCost_1 4 rfl rfl)
theorem dX4_takesCost_29 : decode cX4_takesCost 29 = .ok (.getfield 170, 3) := dk_180 0 170 (dk_at dksX4_takesCost_1 5 rfl rfl)
theorem dX4_takesCost_32 : decode cX4_takesCost 32 = .ok (.iload_n 1, 1) := dk_27 (dk_at dksX4_takesCost_1 8 rfl rfl)
theorem dX4_takesCost_33 : decode cX4_takesCost 33 = .ok (.iaload, 1) := dk_46 (dk_at dksX4_takesCost_1 9 rfl rfl)
theorem dX4_takesCost_34 : decode cX4_takesCost 34 = .ok (.if_icmp .ge 25, 3) := dk_162 0 25 (dk_at dksX4_takesCost_1 10 rfl rfl)
theorem dX4_takesCost_37 : decode cX4_takesCost 37 = .ok (.aload_n 0, 1) := dk_42 (dk_at dksX4_takesCost_1 13 rfl rfl)
theorem dX4_takesCost_38 : decode cX4_takesCost 38 = .ok (.getfield 167, 3) := dk_180 0 167 (dk_at dksX4_takesCost_1 14 rfl rfl)
theorem dX4_takesCost_41 : decode cX4_takesCost 41 = .ok (.iload_n 1, 1) := dk_27 (dk_at dksX4_takesCost_1 17 rfl rfl)
theorem dX4_takesCost_42 : decode cX4_takesCost 42 = .ok (.iload_n 2, 1) := dk_28 (dk_at dksX4_takesCost_1 18 rfl rfl)
theorem dX4_takesCost_43 : decode cX4_takesCost 43 = .ok (.iastore, 1) := dk_79 (dk_at dksX4_takesCost_1 19 rfl rfl)
theorem dX4_takesCost_44 : decode cX4_takesCost 44 = .ok (.aload_n 0, 1) := dk_42 (dk_at dksX4_takesCost_1 20 rfl rfl)
theorem dX4_takesCost_45 : decode cX4_takesCost 45 = .ok (.getfield 170, 3) := dk_180 0 170 (dk_at dksX4_takesCost_1 21 rfl rfl)
theorem dX4_takesCost_48 : decode cX4_takesCost 48 = .ok (.iload_n 1, 1) := dk_27 (dk_at dksX4_takesCost_2 0 rfl rfl)
theorem dX4_takesCost_49 : decode cX4_takesCost 49 = .ok (.iload_n 3, 1) := dk_29 (dk_at dksX4_takesCost_2 1 rfl rfl)
theorem dX4_takesCost_50 : decode cX4_takesCost 50 = .ok (.iastore, 1) := dk_79 (dk_at dksX4_takesCost_2 2 rfl rfl)
theorem dX4_takesCost_51 : decode cX4_takesCost 51 = .ok (.aload_n 0, 1) := dk_42 (dk_at dksX4_takesCost_2 3 rfl rfl)
theorem dX4_takesCost_52 : decode cX4_takesCost 52 = .ok (.getfield 173, 3) := dk_180 0 173 (dk_at dksX4_takesCost_2 4 rfl rfl)
theorem dX4_takesCost_55 : decode cX4_takesCost 55 = .ok (.iload_n 1, 1) := dk_27 (dk_at dksX4_takesCost_2 7 rfl rfl)
theorem dX4_takesCost_56 : decode cX4_takesCost 56 = .ok (.iload 4, 2) := dk_21 4 (dk_at dksX4_takesCost_2 8 rfl rfl)
theorem dX4_takesCost_58 : decode cX4_takesCost 58 = .ok (.iastore, 1) := dk_79 (dk_at dksX4_takesCost_2 10 rfl rfl)
theorem dX4_takesCost_59 : decode cX4_takesCost 59 = .ok (.return_, 1) := dk_177 (dk_at dksX4_takesCost_2 11 rfl rfl)
abbrev cX4_saying : ByteArray := prog_23_method_106_code
def yX4_saying : MethodName := ⟨RX4, "saying", "(III)I"⟩
def dkwX4_saying_4 : List UInt8 := [29, 100, 46, 182, 1, 156, 46, 172]
abbrev dktX4_saying_4 : List UInt8 := dkwX4_saying_4 ++ []
def dkwX4_saying_3 : List UInt8 := [3, 28, 184, 2, 44, 79, 42, 4, 182, 2, 70, 42, 180, 0, 36, 42, 42, 180, 0, 182, 21, 5, 4, 100]
abbrev dktX4_saying_3 : List UInt8 := dkwX4_saying_3 ++ dktX4_saying_4
def dkwX4_saying_2 : List UInt8 := [162, 0, 15, 29, 3, 21, 5, 4, 100, 184, 0, 199, 154, 0, 5, 2, 172, 42, 180, 0, 179, 3, 21, 4]
abbrev dktX4_saying_2 : List UInt8 := dkwX4_saying_2 ++ dktX4_saying_3
def dkwX4_saying_1 : List UInt8 := [160, 0, 9, 17, 39, 16, 167, 0, 11, 42, 21, 4, 3, 28, 182, 2, 51, 54, 5, 21, 5, 17, 39, 16]
abbrev dktX4_saying_1 : List UInt8 := dkwX4_saying_1 ++ dktX4_saying_2
def dkwX4_saying_0 : List UInt8 := [28, 4, 16, 24, 184, 0, 199, 154, 0, 5, 2, 172, 42, 27, 182, 2, 92, 54, 4, 21, 4, 2]
abbrev dktX4_saying_0 : List UInt8 := dkwX4_saying_0 ++ dktX4_saying_1
theorem dksX4_saying_0 : cX4_saying.data.toList.drop 0 = dktX4_saying_0 := by decide +kernel
theorem dksX4_saying_1 : cX4_saying.data.toList.drop 22 = dktX4_saying_1 := dk_seg dksX4_saying_0 22 rfl rfl
theorem dksX4_saying_2 : cX4_saying.data.toList.drop 46 = dktX4_saying_2 := dk_seg dksX4_saying_1 24 rfl rfl
theorem dksX4_saying_3 : cX4_saying.data.toList.drop 70 = dktX4_saying_3 := dk_seg dksX4_saying_2 24 rfl rfl
theorem dksX4_saying_4 : cX4_saying.data.toList.drop 94 = dktX4_saying_4 := dk_seg dksX4_saying_3 24 rfl rfl
theorem dX4_saying_0 : decode cX4_saying 0 = .ok (.iload_n 2, 1) := dk_28 (dk_at dksX4_saying_0 0 rfl rfl)
theorem dX4_saying_1 : decode cX4_saying 1 = .ok (.iconst 1, 1) := dk_4 (dk_at dksX4_saying_0 1 rfl rfl)
theorem dX4_saying_2 : decode cX4_saying 2 = .ok (.bipush 24, 2) := dk_16 24 (dk_at dksX4_saying_0 2 rfl rfl)
theorem dX4_saying_4 : decode cX4_saying 4 = .ok (.invokestatic 199, 3) := dk_184 0 199 (dk_at dksX4_saying_0 4 rfl rfl)
theorem dX4_saying_7 : decode cX4_saying 7 = .ok (.ifCond .ne 5, 3) := dk_154 0 5 (dk_at dksX4_saying_0 7 rfl rfl)
theorem dX4_saying_10 : decode cX4_saying 10 = .ok (.iconst (-1), 1) := dk_2 (dk_at dksX4_saying_0 10 rfl rfl)
theorem dX4_saying_11 : decode cX4_saying 11 = .ok (.ireturn, 1) := dk_172 (dk_at dksX4_saying_0 11 rfl rfl)
theorem dX4_saying_12 : decode cX4_saying 12 = .ok (.aload_n 0, 1) := dk_42 (dk_at dksX4_saying_0 12 rfl rfl)
theorem dX4_saying_13 : decode cX4_saying 13 = .ok (.iload_n 1, 1) := dk_27 (dk_at dksX4_saying_0 13 rfl rfl)
theorem dX4_saying_14 : decode cX4_saying 14 = .ok (.invokevirtual 604, 3) := dk_182 2 92 (dk_at dksX4_saying_0 14 rfl rfl)
theorem dX4_saying_17 : decode cX4_saying 17 = .ok (.istore 4, 2) := dk_54 4 (dk_at dksX4_saying_0 17 rfl rfl)
theorem dX4_saying_19 : decode cX4_saying 19 = .ok (.iload 4, 2) := dk_21 4 (dk_at dksX4_saying_0 19 rfl rfl)
theorem dX4_saying_21 : decode cX4_saying 21 = .ok (.iconst (-1), 1) := dk_2 (dk_at dksX4_saying_0 21 rfl rfl)
theorem dX4_saying_22 : decode cX4_saying 22 = .ok (.if_icmp .ne 9, 3) := dk_160 0 9 (dk_at dksX4_saying_1 0 rfl rfl)
theorem dX4_saying_25 : decode cX4_saying 25 = .ok (.sipush 10000, 3) := dk_17 39 16 (dk_at dksX4_saying_1 3 rfl rfl)
theorem dX4_saying_28 : decode cX4_saying 28 = .ok (.goto 11, 3) := dk_167 0 11 (dk_at dksX4_saying_1 6 rfl rfl)
theorem dX4_saying_31 : decode cX4_saying 31 = .ok (.aload_n 0, 1) := dk_42 (dk_at dksX4_saying_1 9 rfl rfl)
theorem dX4_saying_32 : decode cX4_saying 32 = .ok (.iload 4, 2) := dk_21 4 (dk_at dksX4_saying_1 10 rfl rfl)
theorem dX4_saying_34 : decode cX4_saying 34 = .ok (.iconst 0, 1) := dk_3 (dk_at dksX4_saying_1 12 rfl rfl)
theorem dX4_saying_35 : decode cX4_saying 35 = .ok (.iload_n 2, 1) := dk_28 (dk_at dksX4_saying_1 13 rfl rfl)
theorem dX4_saying_36 : decode cX4_saying 36 = .ok (.invokevirtual 563, 3) := dk_182 2 51 (dk_at dksX4_saying_1 14 rfl rfl)
theorem dX4_saying_39 : decode cX4_saying 39 = .ok (.istore 5, 2) := dk_54 5 (dk_at dksX4_saying_1 17 rfl rfl)
theorem dX4_saying_41 : decode cX4_saying 41 = .ok (.iload 5, 2) := dk_21 5 (dk_at dksX4_saying_1 19 rfl rfl)
theorem dX4_saying_43 : decode cX4_saying 43 = .ok (.sipush 10000, 3) := dk_17 39 16 (dk_at dksX4_saying_1 21 rfl rfl)
theorem dX4_saying_46 : decode cX4_saying 46 = .ok (.if_icmp .ge 15, 3) := dk_162 0 15 (dk_at dksX4_saying_2 0 rfl rfl)
theorem dX4_saying_49 : decode cX4_saying 49 = .ok (.iload_n 3, 1) := dk_29 (dk_at dksX4_saying_2 3 rfl rfl)
theorem dX4_saying_50 : decode cX4_saying 50 = .ok (.iconst 0, 1) := dk_3 (dk_at dksX4_saying_2 4 rfl rfl)
theorem dX4_saying_51 : decode cX4_saying 51 = .ok (.iload 5, 2) := dk_21 5 (dk_at dksX4_saying_2 5 rfl rfl)
theorem dX4_saying_53 : decode cX4_saying 53 = .ok (.iconst 1, 1) := dk_4 (dk_at dksX4_saying_2 7 rfl rfl)
theorem dX4_saying_54 : decode cX4_saying 54 = .ok (.isub, 1) := dk_100 (dk_at dksX4_saying_2 8 rfl rfl)
theorem dX4_saying_55 : decode cX4_saying 55 = .ok (.invokestatic 199, 3) := dk_184 0 199 (dk_at dksX4_saying_2 9 rfl rfl)
theorem dX4_saying_58 : decode cX4_saying 58 = .ok (.ifCond .ne 5, 3) := dk_154 0 5 (dk_at dksX4_saying_2 12 rfl rfl)
theorem dX4_saying_61 : decode cX4_saying 61 = .ok (.iconst (-1), 1) := dk_2 (dk_at dksX4_saying_2 15 rfl rfl)
theorem dX4_saying_62 : decode cX4_saying 62 = .ok (.ireturn, 1) := dk_172 (dk_at dksX4_saying_2 16 rfl rfl)
theorem dX4_saying_63 : decode cX4_saying 63 = .ok (.aload_n 0, 1) := dk_42 (dk_at dksX4_saying_2 17 rfl rfl)
theorem dX4_saying_64 : decode cX4_saying 64 = .ok (.getfield 179, 3) := dk_180 0 179 (dk_at dksX4_saying_2 18 rfl rfl)
theorem dX4_saying_67 : decode cX4_saying 67 = .ok (.iconst 0, 1) := dk_3 (dk_at dksX4_saying_2 21 rfl rfl)
theorem dX4_saying_68 : decode cX4_saying 68 = .ok (.iload 4, 2) := dk_21 4 (dk_at dksX4_saying_2 22 rfl rfl)
theorem dX4_saying_70 : decode cX4_saying 70 = .ok (.iconst 0, 1) := dk_3 (dk_at dksX4_saying_3 0 rfl rfl)
theorem dX4_saying_71 : decode cX4_saying 71 = .ok (.iload_n 2, 1) := dk_28 (dk_at dksX4_saying_3 1 rfl rfl)
theorem dX4_saying_72 : decode cX4_saying 72 = .ok (.invokestatic 556, 3) := dk_184 2 44 (dk_at dksX4_saying_3 2 rfl rfl)
theorem dX4_saying_75 : decode cX4_saying 75 = .ok (.iastore, 1) := dk_79 (dk_at dksX4_saying_3 5 rfl rfl)
theorem dX4_saying_76 : decode cX4_saying 76 = .ok (.aload_n 0, 1) := dk_42 (dk_at dksX4_saying_3 6 rfl rfl)
theorem dX4_saying_77 : decode cX4_saying 77 = .ok (.iconst 1, 1) := dk_4 (dk_at dksX4_saying_3 7 rfl rfl)
theorem dX4_saying_78 : decode cX4_saying 78 = .ok (.invokevirtual 582, 3) := dk_182 2 70 (dk_at dksX4_saying_3 8 rfl rfl)
theorem dX4_saying_81 : decode cX4_saying 81 = .ok (.aload_n 0, 1) := dk_42 (dk_at dksX4_saying_3 11 rfl rfl)
theorem dX4_saying_82 : decode cX4_saying 82 = .ok (.getfield 36, 3) := dk_180 0 36 (dk_at dksX4_saying_3 12 rfl rfl)
theorem dX4_saying_85 : decode cX4_saying 85 = .ok (.aload_n 0, 1) := dk_42 (dk_at dksX4_saying_3 15 rfl rfl)
theorem dX4_saying_86 : decode cX4_saying 86 = .ok (.aload_n 0, 1) := dk_42 (dk_at dksX4_saying_3 16 rfl rfl)
theorem dX4_saying_87 : decode cX4_saying 87 = .ok (.getfield 182, 3) := dk_180 0 182 (dk_at dksX4_saying_3 17 rfl rfl)
theorem dX4_saying_90 : decode cX4_saying 90 = .ok (.iload 5, 2) := dk_21 5 (dk_at dksX4_saying_3 20 rfl rfl)
theorem dX4_saying_92 : decode cX4_saying 92 = .ok (.iconst 1, 1) := dk_4 (dk_at dksX4_saying_3 22 rfl rfl)
theorem dX4_saying_93 : decode cX4_saying 93 = .ok (.isub, 1) := dk_100 (dk_at dksX4_saying_3 23 rfl rfl)
theorem dX4_saying_94 : decode cX4_saying 94 = .ok (.iload_n 3, 1) := dk_29 (dk_at dksX4_saying_4 0 rfl rfl)
theorem dX4_saying_95 : decode cX4_saying 95 = .ok (.isub, 1) := dk_100 (dk_at dksX4_saying_4 1 rfl rfl)
theorem dX4_saying_96 : decode cX4_saying 96 = .ok (.iaload, 1) := dk_46 (dk_at dksX4_saying_4 2 rfl rfl)
theorem dX4_saying_97 : decode cX4_saying 97 = .ok (.invokevirtual 412, 3) := dk_182 1 156 (dk_at dksX4_saying_4 3 rfl rfl)
theorem dX4_saying_100 : decode cX4_saying 100 = .ok (.iaload, 1) := dk_46 (dk_at dksX4_saying_4 6 rfl rfl)
theorem dX4_saying_101 : decode cX4_saying 101 = .ok (.ireturn, 1) := dk_172 (dk_at dksX4_saying_4 7 rfl rfl)
abbrev cX4_light : ByteArray := prog_23_method_107_code
def yX4_light : MethodName := ⟨RX4, "light", "(I)I"⟩
def dkwX4_light_1 : List UInt8 := [29, 182, 2, 51, 17, 39, 16, 162, 0, 5, 29, 172, 132, 3, 1, 167, 255, 232, 2, 172]
abbrev dktX4_light_1 : List UInt8 := dkwX4_light_1 ++ []
def dkwX4_light_0 : List UInt8 := [42, 27, 182, 2, 92, 61, 28, 2, 160, 0, 5, 2, 172, 4, 62, 29, 16, 24, 163, 0, 24, 42, 28, 3]
abbrev dktX4_light_0 : List UInt8 := dkwX4_light_0 ++ dktX4_light_1
theorem dksX4_light_0 : cX4_light.data.toList.drop 0 = dktX4_light_0 := by decide +kernel
theorem dksX4_light_1 : cX4_light.data.toList.drop 24 = dktX4_light_1 := dk_seg dksX4_light_0 24 rfl rfl
theorem dX4_light_0 : decode cX4_light 0 = .ok (.aload_n 0, 1) := dk_42 (dk_at dksX4_light_0 0 rfl rfl)
theorem dX4_light_1 : decode cX4_light 1 = .ok (.iload_n 1, 1) := dk_27 (dk_at dksX4_light_0 1 rfl rfl)
theorem dX4_light_2 : decode cX4_light 2 = .ok (.invokevirtual 604, 3) := dk_182 2 92 (dk_at dksX4_light_0 2 rfl rfl)
theorem dX4_light_5 : decode cX4_light 5 = .ok (.istore_n 2, 1) := dk_61 (dk_at dksX4_light_0 5 rfl rfl)
theorem dX4_light_6 : decode cX4_light 6 = .ok (.iload_n 2, 1) := dk_28 (dk_at dksX4_light_0 6 rfl rfl)
theorem dX4_light_7 : decode cX4_light 7 = .ok (.iconst (-1), 1) := dk_2 (dk_at dksX4_light_0 7 rfl rfl)
theorem dX4_light_8 : decode cX4_light 8 = .ok (.if_icmp .ne 5, 3) := dk_160 0 5 (dk_at dksX4_light_0 8 rfl rfl)
theorem dX4_light_11 : decode cX4_light 11 = .ok (.iconst (-1), 1) := dk_2 (dk_at dksX4_light_0 11 rfl rfl)
theorem dX4_light_12 : decode cX4_light 12 = .ok (.ireturn, 1) := dk_172 (dk_at dksX4_light_0 12 rfl rfl)
theorem dX4_light_13 : decode cX4_light 13 = .ok (.iconst 1, 1) := dk_4 (dk_at dksX4_light_0 13 rfl rfl)
theorem dX4_light_14 : decode cX4_light 14 = .ok (.istore_n 3, 1) := dk_62 (dk_at dksX4_light_0 14 rfl rfl)
theorem dX4_light_15 : decode cX4_light 15 = .ok (.iload_n 3, 1) := dk_29 (dk_at dksX4_light_0 15 rfl rfl)
theorem dX4_light_16 : decode cX4_light 16 = .ok (.bipush 24, 2) := dk_16 24 (dk_at dksX4_light_0 16 rfl rfl)
theorem dX4_light_18 : decode cX4_light 18 = .ok (.if_icmp .gt 24, 3) := dk_163 0 24 (dk_at dksX4_light_0 18 rfl rfl)
theorem dX4_light_21 : decode cX4_light 21 = .ok (.aload_n 0, 1) := dk_42 (dk_at dksX4_light_0 21 rfl rfl)
theorem dX4_light_22 : decode cX4_light 22 = .ok (.iload_n 2, 1) := dk_28 (dk_at dksX4_light_0 22 rfl rfl)
theorem dX4_light_23 : decode cX4_light 23 = .ok (.iconst 0, 1) := dk_3 (dk_at dksX4_light_0 23 rfl rfl)
theorem dX4_light_24 : decode cX4_light 24 = .ok (.iload_n 3, 1) := dk_29 (dk_at dksX4_light_1 0 rfl rfl)
theorem dX4_light_25 : decode cX4_light 25 = .ok (.invokevirtual 563, 3) := dk_182 2 51 (dk_at dksX4_light_1 1 rfl rfl)
theorem dX4_light_28 : decode cX4_light 28 = .ok (.sipush 10000, 3) := dk_17 39 16 (dk_at dksX4_light_1 4 rfl rfl)
theorem dX4_light_31 : decode cX4_light 31 = .ok (.if_icmp .ge 5, 3) := dk_162 0 5 (dk_at dksX4_light_1 7 rfl rfl)
theorem dX4_light_34 : decode cX4_light 34 = .ok (.iload_n 3, 1) := dk_29 (dk_at dksX4_light_1 10 rfl rfl)
theorem dX4_light_35 : decode cX4_light 35 = .ok (.ireturn, 1) := dk_172 (dk_at dksX4_light_1 11 rfl rfl)
theorem dX4_light_36 : decode cX4_light 36 = .ok (.iinc 3 1, 3) := dk_132 3 1 (dk_at dksX4_light_1 12 rfl rfl)
theorem dX4_light_39 : decode cX4_light 39 = .ok (.goto (-24), 3) := dk_167 255 232 (dk_at dksX4_light_1 15 rfl rfl)
theorem dX4_light_42 : decode cX4_light 42 = .ok (.iconst (-1), 1) := dk_2 (dk_at dksX4_light_1 18 rfl rfl)
theorem dX4_light_43 : decode cX4_light 43 = .ok (.ireturn, 1) := dk_172 (dk_at dksX4_light_1 19 rfl rfl)
abbrev cX4_image : ByteArray := prog_23_method_108_code
def yX4_image : MethodName := ⟨RX4, "image", "()I"⟩
def dkwX4_image_0 : List UInt8 := [42, 4, 182, 0, 188, 42, 180, 0, 7, 5, 46, 172]
abbrev dktX4_image_0 : List UInt8 := dkwX4_image_0 ++ []
theorem dksX4_image_0 : cX4_image.data.toList.drop 0 = dktX4_image_0 := by decide +kernel
theorem dX4_image_0 : decode cX4_image 0 = .ok (.aload_n 0, 1) := dk_42 (dk_at dksX4_image_0 0 rfl rfl)
theorem dX4_image_1 : decode cX4_image 1 = .ok (.iconst 1, 1) := dk_4 (dk_at dksX4_image_0 1 rfl rfl)
theorem dX4_image_2 : decode cX4_image 2 = .ok (.invokevirtual 188, 3) := dk_182 0 188 (dk_at dksX4_image_0 2 rfl rfl)
theorem dX4_image_5 : decode cX4_image 5 = .ok (.aload_n 0, 1) := dk_42 (dk_at dksX4_image_0 5 rfl rfl)
theorem dX4_image_6 : decode cX4_image 6 = .ok (.getfield 7, 3) := dk_180 0 7 (dk_at dksX4_image_0 6 rfl rfl)
theorem dX4_image_9 : decode cX4_image 9 = .ok (.iconst 2, 1) := dk_5 (dk_at dksX4_image_0 9 rfl rfl)
theorem dX4_image_10 : decode cX4_image 10 = .ok (.iaload, 1) := dk_46 (dk_at dksX4_image_0 10 rfl rfl)
theorem dX4_image_11 : decode cX4_image 11 = .ok (.ireturn, 1) := dk_172 (dk_at dksX4_image_0 11 rfl rfl)
abbrev cX4_back : ByteArray := prog_23_method_109_code
def yX4_back : MethodName := ⟨RX4, "back", "()I"⟩
def dkwX4_back_0 : List UInt8 := [42, 3, 182, 0, 188, 42, 180, 0, 7, 5, 46, 172]
abbrev dktX4_back_0 : List UInt8 := dkwX4_back_0 ++ []
theorem dksX4_back_0 : cX4_back.data.toList.drop 0 = dktX4_back_0 := by decide +kernel
theorem dX4_back_0 : decode cX4_back 0 = .ok (.aload_n 0, 1) := dk_42 (dk_at dksX4_back_0 0 rfl rfl)
theorem dX4_back_1 : decode cX4_back 1 = .ok (.iconst 0, 1) := dk_3 (dk_at dksX4_back_0 1 rfl rfl)
theorem dX4_back_2 : decode cX4_back 2 = .ok (.invokevirtual 188, 3) := dk_182 0 188 (dk_at dksX4_back_0 2 rfl rfl)
theorem dX4_back_5 : decode cX4_back 5 = .ok (.aload_n 0, 1) := dk_42 (dk_at dksX4_back_0 5 rfl rfl)
theorem dX4_back_6 : decode cX4_back 6 = .ok (.getfield 7, 3) := dk_180 0 7 (dk_at dksX4_back_0 6 rfl rfl)
theorem dX4_back_9 : decode cX4_back 9 = .ok (.iconst 2, 1) := dk_5 (dk_at dksX4_back_0 9 rfl rfl)
theorem dX4_back_10 : decode cX4_back 10 = .ok (.iaload, 1) := dk_46 (dk_at dksX4_back_0 10 rfl rfl)
theorem dX4_back_11 : decode cX4_back 11 = .ok (.ireturn, 1) := dk_172 (dk_at dksX4_back_0 11 rfl rfl)
abbrev cX4_about : ByteArray := prog_23_method_110_code
def yX4_about : MethodName := ⟨RX4, "about", "(I)I"⟩
def dkwX4_about_4 : List UInt8 := [162, 0, 19, 42, 180, 0, 36, 42, 27, 16, 10, 100, 182, 1, 156, 46, 167, 0, 5, 16, 254, 172]
abbrev dktX4_about_4 : List UInt8 := dkwX4_about_4 ++ []
def dkwX4_about_3 : List UInt8 := [180, 0, 192, 172, 42, 182, 1, 153, 172, 27, 16, 10, 161, 0, 30, 27, 16, 10, 100, 42, 182, 1, 153]
abbrev dktX4_about_3 : List UInt8 := dkwX4_about_3 ++ dktX4_about_4
def dkwX4_about_2 : List UInt8 := [42, 180, 0, 7, 3, 46, 172, 42, 180, 0, 7, 4, 46, 172, 42, 180, 0, 7, 5, 46, 172, 42]
abbrev dktX4_about_2 : List UInt8 := dkwX4_about_2 ++ dktX4_about_3
def dkwX4_about_1 : List UInt8 := [170, 0, 0, 0, 0, 0, 66, 0, 0, 0, 0, 0, 0, 0, 4, 0, 0, 0, 35, 0, 0, 0, 42, 0, 0, 0, 49, 0, 0, 0, 56, 0, 0, 0, 61]
abbrev dktX4_about_1 : List UInt8 := dkwX4_about_1 ++ dktX4_about_2
def dkwX4_about_0 : List UInt8 := [27]
abbrev dktX4_about_0 : List UInt8 := dkwX4_about_0 ++ dktX4_about_1
theorem dksX4_about_0 : cX4_about.data.toList.drop 0 = dktX4_about_0 := by decide +kernel
theorem dksX4_about_1 : cX4_about.data.toList.drop 1 = dktX4_about_1 := dk_seg dksX4_about_0 1 rfl rfl
theorem dksX4_about_2 : cX4_about.data.toList.drop 36 = dktX4_about_2 := dk_seg dksX4_about_1 35 rfl rfl
theorem dksX4_about_3 : cX4_about.data.toList.drop 58 = dktX4_about_3 := dk_seg dksX4_about_2 22 rfl rfl
theorem dksX4_about_4 : cX4_about.data.toList.drop 81 = dktX4_about_4 := dk_seg dksX4_about_3 23 rfl rfl
theorem dX4_about_0 : decode cX4_about 0 = .ok (.iload_n 1, 1) := dk_27 (dk_at dksX4_about_0 0 rfl rfl)
theorem dX4_about_1 : decode cX4_about 1 = .ok (.tableswitch 66 0 4 #[35, 42, 49, 56, 61], 35) := by decide +kernel
theorem dX4_about_36 : decode cX4_about 36 = .ok (.aload_n 0, 1) := dk_42 (dk_at dksX4_about_2 0 rfl rfl)
theorem dX4_about_37 : decode cX4_about 37 = .ok (.getfield 7, 3) := dk_180 0 7 (dk_at dksX4_about_2 1 rfl rfl)
theorem dX4_about_40 : decode cX4_about 40 = .ok (.iconst 0, 1) := dk_3 (dk_at dksX4_about_2 4 rfl rfl)
theorem dX4_about_41 : decode cX4_about 41 = .ok (.iaload, 1) := dk_46 (dk_at dksX4_about_2 5 rfl rfl)
theorem dX4_about_42 : decode cX4_about 42 = .ok (.ireturn, 1) := dk_172 (dk_at dksX4_about_2 6 rfl rfl)
theorem dX4_about_43 : decode cX4_about 43 = .ok (.aload_n 0, 1) := dk_42 (dk_at dksX4_about_2 7 rfl rfl)
theorem dX4_about_44 : decode cX4_about 44 = .ok (.getfield 7, 3) := dk_180 0 7 (dk_at dksX4_about_2 8 rfl rfl)
theorem dX4_about_47 : decode cX4_about 47 = .ok (.iconst 1, 1) := dk_4 (dk_at dksX4_about_2 11 rfl rfl)
theorem dX4_about_48 : decode cX4_about 48 = .ok (.iaload, 1) := dk_46 (dk_at dksX4_about_2 12 rfl rfl)
theorem dX4_about_49 : decode cX4_about 49 = .ok (.ireturn, 1) := dk_172 (dk_at dksX4_about_2 13 rfl rfl)
theorem dX4_about_50 : decode cX4_about 50 = .ok (.aload_n 0, 1) := dk_42 (dk_at dksX4_about_2 14 rfl rfl)
theorem dX4_about_51 : decode cX4_about 51 = .ok (.getfield 7, 3) := dk_180 0 7 (dk_at dksX4_about_2 15 rfl rfl)
theorem dX4_about_54 : decode cX4_about 54 = .ok (.iconst 2, 1) := dk_5 (dk_at dksX4_about_2 18 rfl rfl)
theorem dX4_about_55 : decode cX4_about 55 = .ok (.iaload, 1) := dk_46 (dk_at dksX4_about_2 19 rfl rfl)
theorem dX4_about_56 : decode cX4_about 56 = .ok (.ireturn, 1) := dk_172 (dk_at dksX4_about_2 20 rfl rfl)
theorem dX4_about_57 : decode cX4_about 57 = .ok (.aload_n 0, 1) := dk_42 (dk_at dksX4_about_2 21 rfl rfl)
theorem dX4_about_58 : decode cX4_about 58 = .ok (.getfield 192, 3) := dk_180 0 192 (dk_at dksX4_about_3 0 rfl rfl)
theorem dX4_about_61 : decode cX4_about 61 = .ok (.ireturn, 1) := dk_172 (dk_at dksX4_about_3 3 rfl rfl)
theorem dX4_about_62 : decode cX4_about 62 = .ok (.aload_n 0, 1) := dk_42 (dk_at dksX4_about_3 4 rfl rfl)
theorem dX4_about_63 : decode cX4_about 63 = .ok (.invokevirtual 409, 3) := dk_182 1 153 (dk_at dksX4_about_3 5 rfl rfl)
theorem dX4_about_66 : decode cX4_about 66 = .ok (.ireturn, 1) := dk_172 (dk_at dksX4_about_3 8 rfl rfl)
theorem dX4_about_67 : decode cX4_about 67 = .ok (.iload_n 1, 1) := dk_27 (dk_at dksX4_about_3 9 rfl rfl)
theorem dX4_about_68 : decode cX4_about 68 = .ok (.bipush 10, 2) := dk_16 10 (dk_at dksX4_about_3 10 rfl rfl)
theorem dX4_about_70 : decode cX4_about 70 = .ok (.if_icmp .lt 30, 3) := dk_161 0 30 (dk_at dksX4_about_3 12 rfl rfl)
theorem dX4_about_73 : decode cX4_about 73 = .ok (.iload_n 1, 1) := dk_27 (dk_at dksX4_about_3 15 rfl rfl)
theorem dX4_about_74 : decode cX4_about 74 = .ok (.bipush 10, 2) := dk_16 10 (dk_at dksX4_about_3 16 rfl rfl)
theorem dX4_about_76 : decode cX4_about 76 = .ok (.isub, 1) := dk_100 (dk_at dksX4_about_3 18 rfl rfl)
theorem dX4_about_77 : decode cX4_about 77 = .ok (.aload_n 0, 1) := dk_42 (dk_at dksX4_about_3 19 rfl rfl)
theorem dX4_about_78 : decode cX4_about 78 = .ok (.invokevirtual 409, 3) := dk_182 1 153 (dk_at dksX4_about_3 20 rfl rfl)
theorem dX4_about_81 : decode cX4_about 81 = .ok (.if_icmp .ge 19, 3) := dk_162 0 19 (dk_at dksX4_about_4 0 rfl rfl)
theorem dX4_about_84 : decode cX4_about 84 = .ok (.aload_n 0, 1) := dk_42 (dk_at dksX4_about_4 3 rfl rfl)
theorem dX4_about_85 : decode cX4_about 85 = .ok (.getfield 36, 3) := dk_180 0 36 (dk_at dksX4_about_4 4 rfl rfl)
theorem dX4_about_88 : decode cX4_about 88 = .ok (.aload_n 0, 1) := dk_42 (dk_at dksX4_about_4 7 rfl rfl)
theorem dX4_about_89 : decode cX4_about 89 = .ok (.iload_n 1, 1) := dk_27 (dk_at dksX4_about_4 8 rfl rfl)
theorem dX4_about_90 : decode cX4_about 90 = .ok (.bipush 10, 2) := dk_16 10 (dk_at dksX4_about_4 9 rfl rfl)
theorem dX4_about_92 : decode cX4_about 92 = .ok (.isub, 1) := dk_100 (dk_at dksX4_about_4 11 rfl rfl)
theorem dX4_about_93 : decode cX4_about 93 = .ok (.invokevirtual 412, 3) := dk_182 1 156 (dk_at dksX4_about_4 12 rfl rfl)
theorem dX4_about_96 : decode cX4_about 96 = .ok (.iaload, 1) := dk_46 (dk_at dksX4_about_4 15 rfl rfl)
theorem dX4_about_97 : decode cX4_about 97 = .ok (.goto 5, 3) := dk_167 0 5 (dk_at dksX4_about_4 16 rfl rfl)
theorem dX4_about_100 : decode cX4_about 100 = .ok (.bipush (-2), 2) := dk_16 254 (dk_at dksX4_about_4 19 rfl rfl)
theorem dX4_about_102 : decode cX4_about 102 = .ok (.ireturn, 1) := dk_172 (dk_at dksX4_about_4 21 rfl rfl)
theorem q129 : (Jvm.Cond.initialized "HeldTongueModel") ∈ lw_all := lw_g (lw_at lw_m1 5 rfl) rfl
theorem q1235 : (Jvm.Cond.instantiable "HeldTongueModel" (83 : Nat)) ∈ lw_all := lw_g (lw_at lw_m5 151 rfl) rfl
theorem q1237 : (Jvm.Cond.instanceMethod ({ cls := "HeldTongueModel", name := "<init>", desc := "()V" } : Jvm.MethodName)) ∈ lw_all := lw_g (lw_at lw_m5 153 rfl) rfl
theorem q1238 : (Jvm.Cond.code ({ cls := "HeldTongueModel", name := "<init>", desc := "()V" } : Jvm.MethodName) prog_23_method_1_code (1 : Nat) (Option.none : Option Jvm.ClassFile.FieldType)) ∈ lw_all := lw_g (lw_at lw_m5 154 rfl) rfl
theorem q1239 : (Jvm.Cond.methodLink "HeldTongueModel" (1 : Nat) ({ cls := "java/lang/Object", name := "<init>", desc := "()V" } : Jvm.MethodName)) ∈ lw_all := lw_g (lw_at lw_m5 155 rfl) rfl
theorem q1240 : (Jvm.Cond.methodLink "HeldTongueModel" (188 : Nat) ({ cls := "HeldTongueModel", name := "copies", desc := "(Z)V" } : Jvm.MethodName)) ∈ lw_all := lw_g (lw_at lw_m5 156 rfl) rfl
theorem q1241 : (Jvm.Cond.privateMethod ({ cls := "HeldTongueModel", name := "copies", desc := "(Z)V" } : Jvm.MethodName)) ∈ lw_tbl := lw_at lw_m5 157 rfl
theorem q1242 : (Jvm.Cond.instanceMethod ({ cls := "HeldTongueModel", name := "copies", desc := "(Z)V" } : Jvm.MethodName)) ∈ lw_all := lw_g (lw_at lw_m5 158 rfl) rfl
theorem q1243 : (Jvm.Cond.code ({ cls := "HeldTongueModel", name := "copies", desc := "(Z)V" } : Jvm.MethodName) prog_23_method_3_code (3 : Nat) (Option.none : Option Jvm.ClassFile.FieldType)) ∈ lw_all := lw_g (lw_at lw_m5 159 rfl) rfl
theorem q1244 : (Jvm.Cond.fieldLink "HeldTongueModel" (7 : Nat) "HeldTongueModel" "a" "[I") ∈ lw_all := lw_g (lw_at lw_m5 160 rfl) rfl
theorem q1245 : (Jvm.Cond.fieldLink "HeldTongueModel" (13 : Nat) "HeldTongueModel" "image" "[I") ∈ lw_all := lw_g (lw_at lw_m5 161 rfl) rfl
theorem q1246 : (Jvm.Cond.fieldLink "HeldTongueModel" (16 : Nat) "HeldTongueModel" "tape" "[B") ∈ lw_all := lw_g (lw_at lw_m5 162 rfl) rfl
theorem q1247 : (Jvm.Cond.fieldLink "HeldTongueModel" (192 : Nat) "HeldTongueModel" "taped" "I") ∈ lw_all := lw_g (lw_at lw_m5 163 rfl) rfl
theorem q1248 : (Jvm.Cond.fieldLink "HeldTongueModel" (20 : Nat) "HeldTongueModel" "fault" "I") ∈ lw_all := lw_g (lw_at lw_m5 164 rfl) rfl
theorem q1249 : (Jvm.Cond.fieldLink "HeldTongueModel" (24 : Nat) "HeldTongueModel" "faultAt" "I") ∈ lw_all := lw_g (lw_at lw_m5 165 rfl) rfl
theorem q1250 : (Jvm.Cond.fieldLink "HeldTongueModel" (27 : Nat) "HeldTongueModel" "clauses" "[I") ∈ lw_all := lw_g (lw_at lw_m5 166 rfl) rfl
theorem q1251 : (Jvm.Cond.fieldLink "HeldTongueModel" (30 : Nat) "HeldTongueModel" "clauseWord" "[I") ∈ lw_all := lw_g (lw_at lw_m5 167 rfl) rfl
theorem q1252 : (Jvm.Cond.fieldLink "HeldTongueModel" (33 : Nat) "HeldTongueModel" "clauseAt" "[I") ∈ lw_all := lw_g (lw_at lw_m5 168 rfl) rfl
theorem q1253 : (Jvm.Cond.fieldLink "HeldTongueModel" (36 : Nat) "HeldTongueModel" "senseWord" "[I") ∈ lw_all := lw_g (lw_at lw_m5 169 rfl) rfl
theorem q1254 : (Jvm.Cond.fieldLink "HeldTongueModel" (39 : Nat) "HeldTongueModel" "senseSort" "[I") ∈ lw_all := lw_g (lw_at lw_m5 170 rfl) rfl
theorem q1255 : (Jvm.Cond.fieldLink "HeldTongueModel" (42 : Nat) "HeldTongueModel" "senseA" "[I") ∈ lw_all := lw_g (lw_at lw_m5 171 rfl) rfl
theorem q1256 : (Jvm.Cond.fieldLink "HeldTongueModel" (45 : Nat) "HeldTongueModel" "senseB" "[I") ∈ lw_all := lw_g (lw_at lw_m5 172 rfl) rfl
theorem q1257 : (Jvm.Cond.fieldLink "HeldTongueModel" (48 : Nat) "HeldTongueModel" "senseK" "[I") ∈ lw_all := lw_g (lw_at lw_m5 173 rfl) rfl
theorem q1258 : (Jvm.Cond.fieldLink "HeldTongueModel" (51 : Nat) "HeldTongueModel" "senseG" "[I") ∈ lw_all := lw_g (lw_at lw_m5 174 rfl) rfl
theorem q1259 : (Jvm.Cond.fieldLink "HeldTongueModel" (54 : Nat) "HeldTongueModel" "senseM" "[I") ∈ lw_all := lw_g (lw_at lw_m5 175 rfl) rfl
theorem q1260 : (Jvm.Cond.fieldLink "HeldTongueModel" (57 : Nat) "HeldTongueModel" "order" "[I") ∈ lw_all := lw_g (lw_at lw_m5 176 rfl) rfl
theorem q1261 : (Jvm.Cond.fieldLink "HeldTongueModel" (60 : Nat) "HeldTongueModel" "value" "[I") ∈ lw_all := lw_g (lw_at lw_m5 177 rfl) rfl
theorem q1262 : (Jvm.Cond.fieldLink "HeldTongueModel" (246 : Nat) "HeldTongueModel" "length" "I") ∈ lw_all := lw_g (lw_at lw_m5 178 rfl) rfl
theorem q1263 : (Jvm.Cond.fieldLink "HeldTongueModel" (243 : Nat) "HeldTongueModel" "at" "I") ∈ lw_all := lw_g (lw_at lw_m5 179 rfl) rfl
theorem q1264 : (Jvm.Cond.fieldLink "HeldTongueModel" (249 : Nat) "HeldTongueModel" "token" "I") ∈ lw_all := lw_g (lw_at lw_m5 180 rfl) rfl
theorem q1265 : (Jvm.Cond.fieldLink "HeldTongueModel" (252 : Nat) "HeldTongueModel" "sort" "I") ∈ lw_all := lw_g (lw_at lw_m5 181 rfl) rfl
theorem q1266 : (Jvm.Cond.fieldLink "HeldTongueModel" (265 : Nat) "HeldTongueModel" "told" "I") ∈ lw_all := lw_g (lw_at lw_m5 182 rfl) rfl
theorem q1267 : (Jvm.Cond.fieldLink "HeldTongueModel" (269 : Nat) "HeldTongueModel" "wrong" "I") ∈ lw_all := lw_g (lw_at lw_m5 183 rfl) rfl
theorem q1268 : (Jvm.Cond.fieldLink "HeldTongueModel" (272 : Nat) "HeldTongueModel" "wrongAt" "I") ∈ lw_all := lw_g (lw_at lw_m5 184 rfl) rfl
theorem q1269 : (Jvm.Cond.fieldLink "HeldTongueModel" (281 : Nat) "HeldTongueModel" "open" "I") ∈ lw_all := lw_g (lw_at lw_m5 185 rfl) rfl
theorem q1270 : (Jvm.Cond.fieldLink "HeldTongueModel" (278 : Nat) "HeldTongueModel" "frames" "I") ∈ lw_all := lw_g (lw_at lw_m5 186 rfl) rfl
theorem q1271 : (Jvm.Cond.fieldLink "HeldTongueModel" (63 : Nat) "HeldTongueModel" "frame" "[I") ∈ lw_all := lw_g (lw_at lw_m5 187 rfl) rfl
theorem q1272 : (Jvm.Cond.fieldLink "HeldTongueModel" (66 : Nat) "HeldTongueModel" "compare" "[I") ∈ lw_all := lw_g (lw_at lw_m5 188 rfl) rfl
theorem q1273 : (Jvm.Cond.fieldLink "HeldTongueModel" (293 : Nat) "HeldTongueModel" "waits" "I") ∈ lw_all := lw_g (lw_at lw_m5 189 rfl) rfl
theorem q1274 : (Jvm.Cond.fieldLink "HeldTongueModel" (69 : Nat) "HeldTongueModel" "wait" "[I") ∈ lw_all := lw_g (lw_at lw_m5 190 rfl) rfl
theorem q1275 : (Jvm.Cond.fieldLink "HeldTongueModel" (72 : Nat) "HeldTongueModel" "waitFrame" "[I") ∈ lw_all := lw_g (lw_at lw_m5 191 rfl) rfl
theorem q1276 : (Jvm.Cond.fieldLink "HeldTongueModel" (313 : Nat) "HeldTongueModel" "state" "I") ∈ lw_all := lw_g (lw_at lw_m5 192 rfl) rfl
theorem q1277 : (Jvm.Cond.fieldLink "HeldTongueModel" (341 : Nat) "HeldTongueModel" "newClauses" "I") ∈ lw_all := lw_g (lw_at lw_m5 193 rfl) rfl
theorem q1278 : (Jvm.Cond.fieldLink "HeldTongueModel" (319 : Nat) "HeldTongueModel" "newKind" "I") ∈ lw_all := lw_g (lw_at lw_m5 194 rfl) rfl
theorem q1279 : (Jvm.Cond.fieldLink "HeldTongueModel" (75 : Nat) "HeldTongueModel" "newWord" "[I") ∈ lw_all := lw_g (lw_at lw_m5 195 rfl) rfl
theorem q1280 : (Jvm.Cond.fieldLink "HeldTongueModel" (78 : Nat) "HeldTongueModel" "newAt" "[I") ∈ lw_all := lw_g (lw_at lw_m5 196 rfl) rfl
theorem q1281 : (Jvm.Cond.fieldLink "HeldTongueModel" (81 : Nat) "HeldTongueModel" "newSense" "[I") ∈ lw_all := lw_g (lw_at lw_m5 197 rfl) rfl
theorem q1282 : (Jvm.Cond.fieldLink "HeldTongueModel" (275 : Nat) "HeldTongueModel" "newOrders" "I") ∈ lw_all := lw_g (lw_at lw_m5 198 rfl) rfl
theorem q1283 : (Jvm.Cond.fieldLink "HeldTongueModel" (84 : Nat) "HeldTongueModel" "newOrder" "[I") ∈ lw_all := lw_g (lw_at lw_m5 199 rfl) rfl
theorem q1284 : (Jvm.Cond.fieldLink "HeldTongueModel" (87 : Nat) "HeldTongueModel" "newValue" "[I") ∈ lw_all := lw_g (lw_at lw_m5 200 rfl) rfl
theorem q1285 : (Jvm.Cond.fieldLink "HeldTongueModel" (90 : Nat) "HeldTongueModel" "name" "[I") ∈ lw_all := lw_g (lw_at lw_m5 201 rfl) rfl
theorem q1286 : (Jvm.Cond.fieldLink "HeldTongueModel" (93 : Nat) "HeldTongueModel" "pile" "[J") ∈ lw_all := lw_g (lw_at lw_m5 202 rfl) rfl
theorem q1287 : (Jvm.Cond.fieldLink "HeldTongueModel" (97 : Nat) "HeldTongueModel" "one" "[J") ∈ lw_all := lw_g (lw_at lw_m5 203 rfl) rfl
theorem q1288 : (Jvm.Cond.fieldLink "HeldTongueModel" (100 : Nat) "HeldTongueModel" "many" "[J") ∈ lw_all := lw_g (lw_at lw_m5 204 rfl) rfl
theorem q1289 : (Jvm.Cond.fieldLink "HeldTongueModel" (388 : Nat) "HeldTongueModel" "by" "J") ∈ lw_all := lw_g (lw_at lw_m5 205 rfl) rfl
theorem q1290 : (Jvm.Cond.fieldLink "HeldTongueModel" (103 : Nat) "HeldTongueModel" "prime" "[J") ∈ lw_all := lw_g (lw_at lw_m5 206 rfl) rfl
theorem q1291 : (Jvm.Cond.fieldLink "HeldTongueModel" (106 : Nat) "HeldTongueModel" "rest" "[J") ∈ lw_all := lw_g (lw_at lw_m5 207 rfl) rfl
theorem q1292 : (Jvm.Cond.fieldLink "HeldTongueModel" (109 : Nat) "HeldTongueModel" "digit" "[J") ∈ lw_all := lw_g (lw_at lw_m5 208 rfl) rfl
theorem q1293 : (Jvm.Cond.fieldLink "HeldTongueModel" (112 : Nat) "HeldTongueModel" "sense" "[I") ∈ lw_all := lw_g (lw_at lw_m5 209 rfl) rfl
theorem q1294 : (Jvm.Cond.fieldLink "HeldTongueModel" (115 : Nat) "HeldTongueModel" "m" "[I") ∈ lw_all := lw_g (lw_at lw_m5 210 rfl) rfl
theorem q1295 : (Jvm.Cond.fieldLink "HeldTongueModel" (118 : Nat) "HeldTongueModel" "need" "[I") ∈ lw_all := lw_g (lw_at lw_m5 211 rfl) rfl
theorem q1296 : (Jvm.Cond.fieldLink "HeldTongueModel" (121 : Nat) "HeldTongueModel" "made" "[J") ∈ lw_all := lw_g (lw_at lw_m5 212 rfl) rfl
theorem q1297 : (Jvm.Cond.fieldLink "HeldTongueModel" (124 : Nat) "HeldTongueModel" "ease" "[I") ∈ lw_all := lw_g (lw_at lw_m5 213 rfl) rfl
theorem q1298 : (Jvm.Cond.fieldLink "HeldTongueModel" (127 : Nat) "HeldTongueModel" "eases" "[I") ∈ lw_all := lw_g (lw_at lw_m5 214 rfl) rfl
theorem q1299 : (Jvm.Cond.fieldLink "HeldTongueModel" (486 : Nat) "HeldTongueModel" "meanings" "I") ∈ lw_all := lw_g (lw_at lw_m5 215 rfl) rfl
theorem q1300 : (Jvm.Cond.fieldLink "HeldTongueModel" (489 : Nat) "HeldTongueModel" "partsAll" "I") ∈ lw_all := lw_g (lw_at lw_m5 216 rfl) rfl
theorem q1301 : (Jvm.Cond.fieldLink "HeldTongueModel" (130 : Nat) "HeldTongueModel" "meaningSort" "[I") ∈ lw_all := lw_g (lw_at lw_m5 217 rfl) rfl
theorem q1302 : (Jvm.Cond.fieldLink "HeldTongueModel" (133 : Nat) "HeldTongueModel" "meaningMark" "[I") ∈ lw_all := lw_g (lw_at lw_m5 218 rfl) rfl
theorem q1303 : (Jvm.Cond.fieldLink "HeldTongueModel" (136 : Nat) "HeldTongueModel" "meaningAt" "[I") ∈ lw_all := lw_g (lw_at lw_m5 219 rfl) rfl
theorem q1304 : (Jvm.Cond.fieldLink "HeldTongueModel" (139 : Nat) "HeldTongueModel" "meaningMany" "[I") ∈ lw_all := lw_g (lw_at lw_m5 220 rfl) rfl
theorem q1305 : (Jvm.Cond.fieldLink "HeldTongueModel" (142 : Nat) "HeldTongueModel" "part" "[I") ∈ lw_all := lw_g (lw_at lw_m5 221 rfl) rfl
theorem q1306 : (Jvm.Cond.fieldLink "HeldTongueModel" (145 : Nat) "HeldTongueModel" "newPart" "[I") ∈ lw_all := lw_g (lw_at lw_m5 222 rfl) rfl
theorem q1307 : (Jvm.Cond.fieldLink "HeldTongueModel" (148 : Nat) "HeldTongueModel" "heldKind" "[I") ∈ lw_all := lw_g (lw_at lw_m5 223 rfl) rfl
theorem q1308 : (Jvm.Cond.fieldLink "HeldTongueModel" (151 : Nat) "HeldTongueModel" "heldMeaning" "[I") ∈ lw_all := lw_g (lw_at lw_m5 224 rfl) rfl
theorem q1309 : (Jvm.Cond.fieldLink "HeldTongueModel" (154 : Nat) "HeldTongueModel" "heldWeight" "[I") ∈ lw_all := lw_g (lw_at lw_m5 225 rfl) rfl
theorem q1310 : (Jvm.Cond.fieldLink "HeldTongueModel" (157 : Nat) "HeldTongueModel" "heldBy" "[I") ∈ lw_all := lw_g (lw_at lw_m5 226 rfl) rfl
theorem q1311 : (Jvm.Cond.fieldLink "HeldTongueModel" (492 : Nat) "HeldTongueModel" "held" "I") ∈ lw_all := lw_g (lw_at lw_m5 227 rfl) rfl
theorem q1312 : (Jvm.Cond.fieldLink "HeldTongueModel" (160 : Nat) "HeldTongueModel" "weightAt" "[I") ∈ lw_all := lw_g (lw_at lw_m5 228 rfl) rfl
theorem q1313 : (Jvm.Cond.fieldLink "HeldTongueModel" (510 : Nat) "HeldTongueModel" "mostHeld" "I") ∈ lw_all := lw_g (lw_at lw_m5 229 rfl) rfl
theorem q1314 : (Jvm.Cond.fieldLink "HeldTongueModel" (163 : Nat) "HeldTongueModel" "meant" "[Z") ∈ lw_all := lw_g (lw_at lw_m5 230 rfl) rfl
theorem q1315 : (Jvm.Cond.fieldLink "HeldTongueModel" (534 : Nat) "HeldTongueModel" "lost" "I") ∈ lw_all := lw_g (lw_at lw_m5 231 rfl) rfl
theorem q1316 : (Jvm.Cond.fieldLink "HeldTongueModel" (531 : Nat) "HeldTongueModel" "dropped" "I") ∈ lw_all := lw_g (lw_at lw_m5 232 rfl) rfl
theorem q1317 : (Jvm.Cond.fieldLink "HeldTongueModel" (537 : Nat) "HeldTongueModel" "first" "I") ∈ lw_all := lw_g (lw_at lw_m5 233 rfl) rfl
theorem q1318 : (Jvm.Cond.fieldLink "HeldTongueModel" (540 : Nat) "HeldTongueModel" "asked" "Z") ∈ lw_all := lw_g (lw_at lw_m5 234 rfl) rfl
theorem q1319 : (Jvm.Cond.fieldLink "HeldTongueModel" (167 : Nat) "HeldTongueModel" "cost" "[I") ∈ lw_all := lw_g (lw_at lw_m5 235 rfl) rfl
theorem q1320 : (Jvm.Cond.fieldLink "HeldTongueModel" (170 : Nat) "HeldTongueModel" "choice" "[I") ∈ lw_all := lw_g (lw_at lw_m5 236 rfl) rfl
theorem q1321 : (Jvm.Cond.fieldLink "HeldTongueModel" (173 : Nat) "HeldTongueModel" "turned" "[I") ∈ lw_all := lw_g (lw_at lw_m5 237 rfl) rfl
theorem q1322 : (Jvm.Cond.fieldLink "HeldTongueModel" (176 : Nat) "HeldTongueModel" "place" "[I") ∈ lw_all := lw_g (lw_at lw_m5 238 rfl) rfl
theorem q1323 : (Jvm.Cond.fieldLink "HeldTongueModel" (179 : Nat) "HeldTongueModel" "toSay" "[I") ∈ lw_all := lw_g (lw_at lw_m5 239 rfl) rfl
theorem q1324 : (Jvm.Cond.fieldLink "HeldTongueModel" (182 : Nat) "HeldTongueModel" "said" "[I") ∈ lw_all := lw_g (lw_at lw_m6 0 rfl) rfl
theorem q1325 : (Jvm.Cond.fieldLink "HeldTongueModel" (185 : Nat) "HeldTongueModel" "bestSaid" "[I") ∈ lw_all := lw_g (lw_at lw_m6 1 rfl) rfl
theorem q1326 : (Jvm.Cond.fieldLink "HeldTongueModel" (566 : Nat) "HeldTongueModel" "saidMany" "I") ∈ lw_all := lw_g (lw_at lw_m6 2 rfl) rfl
theorem q1327 : (Jvm.Cond.laysFinal "HeldTongueModel" "HeldTongueModel" "a" "[I") ∈ lw_all := lw_g (lw_at lw_m6 3 rfl) rfl
theorem q1328 : (Jvm.Cond.soleField "HeldTongueModel" "a") ∈ lw_all := lw_g (lw_at lw_m6 4 rfl) rfl
theorem q1329 : (Jvm.Cond.laysFinal "HeldTongueModel" "HeldTongueModel" "image" "[I") ∈ lw_all := lw_g (lw_at lw_m6 5 rfl) rfl
theorem q1330 : (Jvm.Cond.soleField "HeldTongueModel" "image") ∈ lw_all := lw_g (lw_at lw_m6 6 rfl) rfl
theorem q1331 : (Jvm.Cond.laysFinal "HeldTongueModel" "HeldTongueModel" "tape" "[B") ∈ lw_all := lw_g (lw_at lw_m6 7 rfl) rfl
theorem q1332 : (Jvm.Cond.soleField "HeldTongueModel" "tape") ∈ lw_all := lw_g (lw_at lw_m6 8 rfl) rfl
theorem q1333 : (Jvm.Cond.lays "HeldTongueModel" "HeldTongueModel" "taped" "I") ∈ lw_all := lw_g (lw_at lw_m6 9 rfl) rfl
theorem q1334 : (Jvm.Cond.soleField "HeldTongueModel" "taped") ∈ lw_all := lw_g (lw_at lw_m6 10 rfl) rfl
theorem q1335 : (Jvm.Cond.lays "HeldTongueModel" "HeldTongueModel" "fault" "I") ∈ lw_all := lw_g (lw_at lw_m6 11 rfl) rfl
theorem q1336 : (Jvm.Cond.soleField "HeldTongueModel" "fault") ∈ lw_all := lw_g (lw_at lw_m6 12 rfl) rfl
theorem q1337 : (Jvm.Cond.lays "HeldTongueModel" "HeldTongueModel" "faultAt" "I") ∈ lw_all := lw_g (lw_at lw_m6 13 rfl) rfl
theorem q1338 : (Jvm.Cond.soleField "HeldTongueModel" "faultAt") ∈ lw_all := lw_g (lw_at lw_m6 14 rfl) rfl
theorem q1339 : (Jvm.Cond.laysFinal "HeldTongueModel" "HeldTongueModel" "clauses" "[I") ∈ lw_all := lw_g (lw_at lw_m6 15 rfl) rfl
theorem q1340 : (Jvm.Cond.soleField "HeldTongueModel" "clauses") ∈ lw_all := lw_g (lw_at lw_m6 16 rfl) rfl
theorem q1341 : (Jvm.Cond.laysFinal "HeldTongueModel" "HeldTongueModel" "clauseWord" "[I") ∈ lw_all := lw_g (lw_at lw_m6 17 rfl) rfl
theorem q1342 : (Jvm.Cond.soleField "HeldTongueModel" "clauseWord") ∈ lw_all := lw_g (lw_at lw_m6 18 rfl) rfl
theorem q1343 : (Jvm.Cond.laysFinal "HeldTongueModel" "HeldTongueModel" "clauseAt" "[I") ∈ lw_all := lw_g (lw_at lw_m6 19 rfl) rfl
theorem q1344 : (Jvm.Cond.soleField "HeldTongueModel" "clauseAt") ∈ lw_all := lw_g (lw_at lw_m6 20 rfl) rfl
theorem q1345 : (Jvm.Cond.laysFinal "HeldTongueModel" "HeldTongueModel" "senseWord" "[I") ∈ lw_all := lw_g (lw_at lw_m6 21 rfl) rfl
theorem q1346 : (Jvm.Cond.soleField "HeldTongueModel" "senseWord") ∈ lw_all := lw_g (lw_at lw_m6 22 rfl) rfl
theorem q1347 : (Jvm.Cond.laysFinal "HeldTongueModel" "HeldTongueModel" "senseSort" "[I") ∈ lw_all := lw_g (lw_at lw_m6 23 rfl) rfl
theorem q1348 : (Jvm.Cond.soleField "HeldTongueModel" "senseSort") ∈ lw_all := lw_g (lw_at lw_m6 24 rfl) rfl
theorem q1349 : (Jvm.Cond.laysFinal "HeldTongueModel" "HeldTongueModel" "senseA" "[I") ∈ lw_all := lw_g (lw_at lw_m6 25 rfl) rfl
theorem q1350 : (Jvm.Cond.soleField "HeldTongueModel" "senseA") ∈ lw_all := lw_g (lw_at lw_m6 26 rfl) rfl
theorem q1351 : (Jvm.Cond.laysFinal "HeldTongueModel" "HeldTongueModel" "senseB" "[I") ∈ lw_all := lw_g (lw_at lw_m6 27 rfl) rfl
theorem q1352 : (Jvm.Cond.soleField "HeldTongueModel" "senseB") ∈ lw_all := lw_g (lw_at lw_m6 28 rfl) rfl
theorem q1353 : (Jvm.Cond.laysFinal "HeldTongueModel" "HeldTongueModel" "senseK" "[I") ∈ lw_all := lw_g (lw_at lw_m6 29 rfl) rfl
theorem q1354 : (Jvm.Cond.soleField "HeldTongueModel" "senseK") ∈ lw_all := lw_g (lw_at lw_m6 30 rfl) rfl
theorem q1355 : (Jvm.Cond.laysFinal "HeldTongueModel" "HeldTongueModel" "senseG" "[I") ∈ lw_all := lw_g (lw_at lw_m6 31 rfl) rfl
theorem q1356 : (Jvm.Cond.soleField "HeldTongueModel" "senseG") ∈ lw_all := lw_g (lw_at lw_m6 32 rfl) rfl
theorem q1357 : (Jvm.Cond.laysFinal "HeldTongueModel" "HeldTongueModel" "senseM" "[I") ∈ lw_all := lw_g (lw_at lw_m6 33 rfl) rfl
theorem q1358 : (Jvm.Cond.soleField "HeldTongueModel" "senseM") ∈ lw_all := lw_g (lw_at lw_m6 34 rfl) rfl
theorem q1359 : (Jvm.Cond.laysFinal "HeldTongueModel" "HeldTongueModel" "order" "[I") ∈ lw_all := lw_g (lw_at lw_m6 35 rfl) rfl
theorem q1360 : (Jvm.Cond.soleField "HeldTongueModel" "order") ∈ lw_all := lw_g (lw_at lw_m6 36 rfl) rfl
theorem q1361 : (Jvm.Cond.laysFinal "HeldTongueModel" "HeldTongueModel" "value" "[I") ∈ lw_all := lw_g (lw_at lw_m6 37 rfl) rfl
theorem q1362 : (Jvm.Cond.soleField "HeldTongueModel" "value") ∈ lw_all := lw_g (lw_at lw_m6 38 rfl) rfl
theorem q1363 : (Jvm.Cond.lays "HeldTongueModel" "HeldTongueModel" "length" "I") ∈ lw_all := lw_g (lw_at lw_m6 39 rfl) rfl
theorem q1364 : (Jvm.Cond.soleField "HeldTongueModel" "length") ∈ lw_all := lw_g (lw_at lw_m6 40 rfl) rfl
theorem q1365 : (Jvm.Cond.lays "HeldTongueModel" "HeldTongueModel" "at" "I") ∈ lw_all := lw_g (lw_at lw_m6 41 rfl) rfl
theorem q1366 : (Jvm.Cond.soleField "HeldTongueModel" "at") ∈ lw_all := lw_g (lw_at lw_m6 42 rfl) rfl
theorem q1367 : (Jvm.Cond.lays "HeldTongueModel" "HeldTongueModel" "token" "I") ∈ lw_all := lw_g (lw_at lw_m6 43 rfl) rfl
theorem q1368 : (Jvm.Cond.soleField "HeldTongueModel" "token") ∈ lw_all := lw_g (lw_at lw_m6 44 rfl) rfl
theorem q1369 : (Jvm.Cond.lays "HeldTongueModel" "HeldTongueModel" "sort" "I") ∈ lw_all := lw_g (lw_at lw_m6 45 rfl) rfl
theorem q1370 : (Jvm.Cond.soleField "HeldTongueModel" "sort") ∈ lw_all := lw_g (lw_at lw_m6 46 rfl) rfl
theorem q1371 : (Jvm.Cond.lays "HeldTongueModel" "HeldTongueModel" "told" "I") ∈ lw_all := lw_g (lw_at lw_m6 47 rfl) rfl
theorem q1372 : (Jvm.Cond.soleField "HeldTongueModel" "told") ∈ lw_all := lw_g (lw_at lw_m6 48 rfl) rfl
theorem q1373 : (Jvm.Cond.lays "HeldTongueModel" "HeldTongueModel" "wrong" "I") ∈ lw_all := lw_g (lw_at lw_m6 49 rfl) rfl
theorem q1374 : (Jvm.Cond.soleField "HeldTongueModel" "wrong") ∈ lw_all := lw_g (lw_at lw_m6 50 rfl) rfl
theorem q1375 : (Jvm.Cond.lays "HeldTongueModel" "HeldTongueModel" "wrongAt" "I") ∈ lw_all := lw_g (lw_at lw_m6 51 rfl) rfl
theorem q1376 : (Jvm.Cond.soleField "HeldTongueModel" "wrongAt") ∈ lw_all := lw_g (lw_at lw_m6 52 rfl) rfl
theorem q1377 : (Jvm.Cond.lays "HeldTongueModel" "HeldTongueModel" "open" "I") ∈ lw_all := lw_g (lw_at lw_m6 53 rfl) rfl
theorem q1378 : (Jvm.Cond.soleField "HeldTongueModel" "open") ∈ lw_all := lw_g (lw_at lw_m6 54 rfl) rfl
theorem q1379 : (Jvm.Cond.lays "HeldTongueModel" "HeldTongueModel" "frames" "I") ∈ lw_all := lw_g (lw_at lw_m6 55 rfl) rfl
theorem q1380 : (Jvm.Cond.soleField "HeldTongueModel" "frames") ∈ lw_all := lw_g (lw_at lw_m6 56 rfl) rfl
theorem q1381 : (Jvm.Cond.laysFinal "HeldTongueModel" "HeldTongueModel" "frame" "[I") ∈ lw_all := lw_g (lw_at lw_m6 57 rfl) rfl
theorem q1382 : (Jvm.Cond.soleField "HeldTongueModel" "frame") ∈ lw_all := lw_g (lw_at lw_m6 58 rfl) rfl
theorem q1383 : (Jvm.Cond.laysFinal "HeldTongueModel" "HeldTongueModel" "compare" "[I") ∈ lw_all := lw_g (lw_at lw_m6 59 rfl) rfl
theorem q1384 : (Jvm.Cond.soleField "HeldTongueModel" "compare") ∈ lw_all := lw_g (lw_at lw_m6 60 rfl) rfl
theorem q1385 : (Jvm.Cond.lays "HeldTongueModel" "HeldTongueModel" "waits" "I") ∈ lw_all := lw_g (lw_at lw_m6 61 rfl) rfl
theorem q1386 : (Jvm.Cond.soleField "HeldTongueModel" "waits") ∈ lw_all := lw_g (lw_at lw_m6 62 rfl) rfl
theorem q1387 : (Jvm.Cond.laysFinal "HeldTongueModel" "HeldTongueModel" "wait" "[I") ∈ lw_all := lw_g (lw_at lw_m6 63 rfl) rfl
theorem q1388 : (Jvm.Cond.soleField "HeldTongueModel" "wait") ∈ lw_all := lw_g (lw_at lw_m6 64 rfl) rfl
theorem q1389 : (Jvm.Cond.laysFinal "HeldTongueModel" "HeldTongueModel" "waitFrame" "[I") ∈ lw_all := lw_g (lw_at lw_m6 65 rfl) rfl
theorem q1390 : (Jvm.Cond.soleField "HeldTongueModel" "waitFrame") ∈ lw_all := lw_g (lw_at lw_m6 66 rfl) rfl
theorem q1391 : (Jvm.Cond.lays "HeldTongueModel" "HeldTongueModel" "state" "I") ∈ lw_all := lw_g (lw_at lw_m6 67 rfl) rfl
theorem q1392 : (Jvm.Cond.soleField "HeldTongueModel" "state") ∈ lw_all := lw_g (lw_at lw_m6 68 rfl) rfl
theorem q1393 : (Jvm.Cond.lays "HeldTongueModel" "HeldTongueModel" "newClauses" "I") ∈ lw_all := lw_g (lw_at lw_m6 69 rfl) rfl
theorem q1394 : (Jvm.Cond.soleField "HeldTongueModel" "newClauses") ∈ lw_all := lw_g (lw_at lw_m6 70 rfl) rfl
theorem q1395 : (Jvm.Cond.lays "HeldTongueModel" "HeldTongueModel" "newKind" "I") ∈ lw_all := lw_g (lw_at lw_m6 71 rfl) rfl
theorem q1396 : (Jvm.Cond.soleField "HeldTongueModel" "newKind") ∈ lw_all := lw_g (lw_at lw_m6 72 rfl) rfl
theorem q1397 : (Jvm.Cond.laysFinal "HeldTongueModel" "HeldTongueModel" "newWord" "[I") ∈ lw_all := lw_g (lw_at lw_m6 73 rfl) rfl
theorem q1398 : (Jvm.Cond.soleField "HeldTongueModel" "newWord") ∈ lw_all := lw_g (lw_at lw_m6 74 rfl) rfl
theorem q1399 : (Jvm.Cond.laysFinal "HeldTongueModel" "HeldTongueModel" "newAt" "[I") ∈ lw_all := lw_g (lw_at lw_m6 75 rfl) rfl
theorem q1400 : (Jvm.Cond.soleField "HeldTongueModel" "newAt") ∈ lw_all := lw_g (lw_at lw_m6 76 rfl) rfl
theorem q1401 : (Jvm.Cond.laysFinal "HeldTongueModel" "HeldTongueModel" "newSense" "[I") ∈ lw_all := lw_g (lw_at lw_m6 77 rfl) rfl
theorem q1402 : (Jvm.Cond.soleField "HeldTongueModel" "newSense") ∈ lw_all := lw_g (lw_at lw_m6 78 rfl) rfl
theorem q1403 : (Jvm.Cond.lays "HeldTongueModel" "HeldTongueModel" "newOrders" "I") ∈ lw_all := lw_g (lw_at lw_m6 79 rfl) rfl
theorem q1404 : (Jvm.Cond.soleField "HeldTongueModel" "newOrders") ∈ lw_all := lw_g (lw_at lw_m6 80 rfl) rfl
theorem q1405 : (Jvm.Cond.laysFinal "HeldTongueModel" "HeldTongueModel" "newOrder" "[I") ∈ lw_all := lw_g (lw_at lw_m6 81 rfl) rfl
theorem q1406 : (Jvm.Cond.soleField "HeldTongueModel" "newOrder") ∈ lw_all := lw_g (lw_at lw_m6 82 rfl) rfl
theorem q1407 : (Jvm.Cond.laysFinal "HeldTongueModel" "HeldTongueModel" "newValue" "[I") ∈ lw_all := lw_g (lw_at lw_m6 83 rfl) rfl
theorem q1408 : (Jvm.Cond.soleField "HeldTongueModel" "newValue") ∈ lw_all := lw_g (lw_at lw_m6 84 rfl) rfl
theorem q1409 : (Jvm.Cond.laysFinal "HeldTongueModel" "HeldTongueModel" "name" "[I") ∈ lw_all := lw_g (lw_at lw_m6 85 rfl) rfl
theorem q1410 : (Jvm.Cond.soleField "HeldTongueModel" "name") ∈ lw_all := lw_g (lw_at lw_m6 86 rfl) rfl
theorem q1411 : (Jvm.Cond.laysFinal "HeldTongueModel" "HeldTongueModel" "pile" "[J") ∈ lw_all := lw_g (lw_at lw_m6 87 rfl) rfl
theorem q1412 : (Jvm.Cond.soleField "HeldTongueModel" "pile") ∈ lw_all := lw_g (lw_at lw_m6 88 rfl) rfl
theorem q1413 : (Jvm.Cond.laysFinal "HeldTongueModel" "HeldTongueModel" "one" "[J") ∈ lw_all := lw_g (lw_at lw_m6 89 rfl) rfl
theorem q1414 : (Jvm.Cond.soleField "HeldTongueModel" "one") ∈ lw_all := lw_g (lw_at lw_m6 90 rfl) rfl
theorem q1415 : (Jvm.Cond.laysFinal "HeldTongueModel" "HeldTongueModel" "many" "[J") ∈ lw_all := lw_g (lw_at lw_m6 91 rfl) rfl
theorem q1416 : (Jvm.Cond.soleField "HeldTongueModel" "many") ∈ lw_all := lw_g (lw_at lw_m6 92 rfl) rfl
theorem q1417 : (Jvm.Cond.lays "HeldTongueModel" "HeldTongueModel" "by" "J") ∈ lw_all := lw_g (lw_at lw_m6 93 rfl) rfl
theorem q1418 : (Jvm.Cond.soleField "HeldTongueModel" "by") ∈ lw_all := lw_g (lw_at lw_m6 94 rfl) rfl
theorem q1419 : (Jvm.Cond.laysFinal "HeldTongueModel" "HeldTongueModel" "prime" "[J") ∈ lw_all := lw_g (lw_at lw_m6 95 rfl) rfl
theorem q1420 : (Jvm.Cond.soleField "HeldTongueModel" "prime") ∈ lw_all := lw_g (lw_at lw_m6 96 rfl) rfl
theorem q1421 : (Jvm.Cond.laysFinal "HeldTongueModel" "HeldTongueModel" "rest" "[J") ∈ lw_all := lw_g (lw_at lw_m6 97 rfl) rfl
theorem q1422 : (Jvm.Cond.soleField "HeldTongueModel" "rest") ∈ lw_all := lw_g (lw_at lw_m6 98 rfl) rfl
theorem q1423 : (Jvm.Cond.laysFinal "HeldTongueModel" "HeldTongueModel" "digit" "[J") ∈ lw_all := lw_g (lw_at lw_m6 99 rfl) rfl
theorem q1424 : (Jvm.Cond.soleField "HeldTongueModel" "digit") ∈ lw_all := lw_g (lw_at lw_m6 100 rfl) rfl
theorem q1425 : (Jvm.Cond.laysFinal "HeldTongueModel" "HeldTongueModel" "sense" "[I") ∈ lw_all := lw_g (lw_at lw_m6 101 rfl) rfl
theorem q1426 : (Jvm.Cond.soleField "HeldTongueModel" "sense") ∈ lw_all := lw_g (lw_at lw_m6 102 rfl) rfl
theorem q1427 : (Jvm.Cond.laysFinal "HeldTongueModel" "HeldTongueModel" "m" "[I") ∈ lw_all := lw_g (lw_at lw_m6 103 rfl) rfl
theorem q1428 : (Jvm.Cond.soleField "HeldTongueModel" "m") ∈ lw_all := lw_g (lw_at lw_m6 104 rfl) rfl
theorem q1429 : (Jvm.Cond.laysFinal "HeldTongueModel" "HeldTongueModel" "need" "[I") ∈ lw_all := lw_g (lw_at lw_m6 105 rfl) rfl
theorem q1430 : (Jvm.Cond.soleField "HeldTongueModel" "need") ∈ lw_all := lw_g (lw_at lw_m6 106 rfl) rfl
theorem q1431 : (Jvm.Cond.laysFinal "HeldTongueModel" "HeldTongueModel" "made" "[J") ∈ lw_all := lw_g (lw_at lw_m6 107 rfl) rfl
theorem q1432 : (Jvm.Cond.soleField "HeldTongueModel" "made") ∈ lw_all := lw_g (lw_at lw_m6 108 rfl) rfl
theorem q1433 : (Jvm.Cond.laysFinal "HeldTongueModel" "HeldTongueModel" "ease" "[I") ∈ lw_all := lw_g (lw_at lw_m6 109 rfl) rfl
theorem q1434 : (Jvm.Cond.soleField "HeldTongueModel" "ease") ∈ lw_all := lw_g (lw_at lw_m6 110 rfl) rfl
theorem q1435 : (Jvm.Cond.laysFinal "HeldTongueModel" "HeldTongueModel" "eases" "[I") ∈ lw_all := lw_g (lw_at lw_m6 111 rfl) rfl
theorem q1436 : (Jvm.Cond.soleField "HeldTongueModel" "eases") ∈ lw_all := lw_g (lw_at lw_m6 112 rfl) rfl
theorem q1437 : (Jvm.Cond.lays "HeldTongueModel" "HeldTongueModel" "meanings" "I") ∈ lw_all := lw_g (lw_at lw_m6 113 rfl) rfl
theorem q1438 : (Jvm.Cond.soleField "HeldTongueModel" "meanings") ∈ lw_all := lw_g (lw_at lw_m6 114 rfl) rfl
theorem q1439 : (Jvm.Cond.lays "HeldTongueModel" "HeldTongueModel" "partsAll" "I") ∈ lw_all := lw_g (lw_at lw_m6 115 rfl) rfl
theorem q1440 : (Jvm.Cond.soleField "HeldTongueModel" "partsAll") ∈ lw_all := lw_g (lw_at lw_m6 116 rfl) rfl
theorem q1441 : (Jvm.Cond.laysFinal "HeldTongueModel" "HeldTongueModel" "meaningSort" "[I") ∈ lw_all := lw_g (lw_at lw_m6 117 rfl) rfl
theorem q1442 : (Jvm.Cond.soleField "HeldTongueModel" "meaningSort") ∈ lw_all := lw_g (lw_at lw_m6 118 rfl) rfl
theorem q1443 : (Jvm.Cond.laysFinal "HeldTongueModel" "HeldTongueModel" "meaningMark" "[I") ∈ lw_all := lw_g (lw_at lw_m6 119 rfl) rfl
theorem q1444 : (Jvm.Cond.soleField "HeldTongueModel" "meaningMark") ∈ lw_all := lw_g (lw_at lw_m6 120 rfl) rfl
theorem q1445 : (Jvm.Cond.laysFinal "HeldTongueModel" "HeldTongueModel" "meaningAt" "[I") ∈ lw_all := lw_g (lw_at lw_m6 121 rfl) rfl
theorem q1446 : (Jvm.Cond.soleField "HeldTongueModel" "meaningAt") ∈ lw_all := lw_g (lw_at lw_m6 122 rfl) rfl
theorem q1447 : (Jvm.Cond.laysFinal "HeldTongueModel" "HeldTongueModel" "meaningMany" "[I") ∈ lw_all := lw_g (lw_at lw_m6 123 rfl) rfl
theorem q1448 : (Jvm.Cond.soleField "HeldTongueModel" "meaningMany") ∈ lw_all := lw_g (lw_at lw_m6 124 rfl) rfl
theorem q1449 : (Jvm.Cond.laysFinal "HeldTongueModel" "HeldTongueModel" "part" "[I") ∈ lw_all := lw_g (lw_at lw_m6 125 rfl) rfl
theorem q1450 : (Jvm.Cond.soleField "HeldTongueModel" "part") ∈ lw_all := lw_g (lw_at lw_m6 126 rfl) rfl
theorem q1451 : (Jvm.Cond.laysFinal "HeldTongueModel" "HeldTongueModel" "newPart" "[I") ∈ lw_all := lw_g (lw_at lw_m6 127 rfl) rfl
theorem q1452 : (Jvm.Cond.soleField "HeldTongueModel" "newPart") ∈ lw_all := lw_g (lw_at lw_m6 128 rfl) rfl
theorem q1453 : (Jvm.Cond.laysFinal "HeldTongueModel" "HeldTongueModel" "heldKind" "[I") ∈ lw_all := lw_g (lw_at lw_m6 129 rfl) rfl
theorem q1454 : (Jvm.Cond.soleField "HeldTongueModel" "heldKind") ∈ lw_all := lw_g (lw_at lw_m6 130 rfl) rfl
theorem q1455 : (Jvm.Cond.laysFinal "HeldTongueModel" "HeldTongueModel" "heldMeaning" "[I") ∈ lw_all := lw_g (lw_at lw_m6 131 rfl) rfl
theorem q1456 : (Jvm.Cond.soleField "HeldTongueModel" "heldMeaning") ∈ lw_all := lw_g (lw_at lw_m6 132 rfl) rfl
theorem q1457 : (Jvm.Cond.laysFinal "HeldTongueModel" "HeldTongueModel" "heldWeight" "[I") ∈ lw_all := lw_g (lw_at lw_m6 133 rfl) rfl
theorem q1458 : (Jvm.Cond.soleField "HeldTongueModel" "heldWeight") ∈ lw_all := lw_g (lw_at lw_m6 134 rfl) rfl
theorem q1459 : (Jvm.Cond.laysFinal "HeldTongueModel" "HeldTongueModel" "heldBy" "[I") ∈ lw_all := lw_g (lw_at lw_m6 135 rfl) rfl
theorem q1460 : (Jvm.Cond.soleField "HeldTongueModel" "heldBy") ∈ lw_all := lw_g (lw_at lw_m6 136 rfl) rfl
theorem q1461 : (Jvm.Cond.lays "HeldTongueModel" "HeldTongueModel" "held" "I") ∈ lw_all := lw_g (lw_at lw_m6 137 rfl) rfl
theorem q1462 : (Jvm.Cond.soleField "HeldTongueModel" "held") ∈ lw_all := lw_g (lw_at lw_m6 138 rfl) rfl
theorem q1463 : (Jvm.Cond.laysFinal "HeldTongueModel" "HeldTongueModel" "weightAt" "[I") ∈ lw_all := lw_g (lw_at lw_m6 139 rfl) rfl
theorem q1464 : (Jvm.Cond.soleField "HeldTongueModel" "weightAt") ∈ lw_all := lw_g (lw_at lw_m6 140 rfl) rfl
theorem q1465 : (Jvm.Cond.lays "HeldTongueModel" "HeldTongueModel" "mostHeld" "I") ∈ lw_all := lw_g (lw_at lw_m6 141 rfl) rfl
theorem q1466 : (Jvm.Cond.soleField "HeldTongueModel" "mostHeld") ∈ lw_all := lw_g (lw_at lw_m6 142 rfl) rfl
theorem q1467 : (Jvm.Cond.laysFinal "HeldTongueModel" "HeldTongueModel" "meant" "[Z") ∈ lw_all := lw_g (lw_at lw_m6 143 rfl) rfl
theorem q1468 : (Jvm.Cond.soleField "HeldTongueModel" "meant") ∈ lw_all := lw_g (lw_at lw_m6 144 rfl) rfl
theorem q1469 : (Jvm.Cond.lays "HeldTongueModel" "HeldTongueModel" "lost" "I") ∈ lw_all := lw_g (lw_at lw_m6 145 rfl) rfl
theorem q1470 : (Jvm.Cond.soleField "HeldTongueModel" "lost") ∈ lw_all := lw_g (lw_at lw_m6 146 rfl) rfl
theorem q1471 : (Jvm.Cond.lays "HeldTongueModel" "HeldTongueModel" "dropped" "I") ∈ lw_all := lw_g (lw_at lw_m6 147 rfl) rfl
theorem q1472 : (Jvm.Cond.soleField "HeldTongueModel" "dropped") ∈ lw_all := lw_g (lw_at lw_m6 148 rfl) rfl
theorem q1473 : (Jvm.Cond.lays "HeldTongueModel" "HeldTongueModel" "first" "I") ∈ lw_all := lw_g (lw_at lw_m6 149 rfl) rfl
theorem q1474 : (Jvm.Cond.soleField "HeldTongueModel" "first") ∈ lw_all := lw_g (lw_at lw_m6 150 rfl) rfl
theorem q1475 : (Jvm.Cond.lays "HeldTongueModel" "HeldTongueModel" "asked" "Z") ∈ lw_all := lw_g (lw_at lw_m6 151 rfl) rfl
theorem q1476 : (Jvm.Cond.soleField "HeldTongueModel" "asked") ∈ lw_all := lw_g (lw_at lw_m6 152 rfl) rfl
theorem q1477 : (Jvm.Cond.laysFinal "HeldTongueModel" "HeldTongueModel" "cost" "[I") ∈ lw_all := lw_g (lw_at lw_m6 153 rfl) rfl
theorem q1478 : (Jvm.Cond.soleField "HeldTongueModel" "cost") ∈ lw_all := lw_g (lw_at lw_m6 154 rfl) rfl
theorem q1479 : (Jvm.Cond.laysFinal "HeldTongueModel" "HeldTongueModel" "choice" "[I") ∈ lw_all := lw_g (lw_at lw_m6 155 rfl) rfl
theorem q1480 : (Jvm.Cond.soleField "HeldTongueModel" "choice") ∈ lw_all := lw_g (lw_at lw_m6 156 rfl) rfl
theorem q1481 : (Jvm.Cond.laysFinal "HeldTongueModel" "HeldTongueModel" "turned" "[I") ∈ lw_all := lw_g (lw_at lw_m6 157 rfl) rfl
theorem q1482 : (Jvm.Cond.soleField "HeldTongueModel" "turned") ∈ lw_all := lw_g (lw_at lw_m6 158 rfl) rfl
theorem q1483 : (Jvm.Cond.laysFinal "HeldTongueModel" "HeldTongueModel" "place" "[I") ∈ lw_all := lw_g (lw_at lw_m6 159 rfl) rfl
theorem q1484 : (Jvm.Cond.soleField "HeldTongueModel" "place") ∈ lw_all := lw_g (lw_at lw_m6 160 rfl) rfl
theorem q1485 : (Jvm.Cond.laysFinal "HeldTongueModel" "HeldTongueModel" "toSay" "[I") ∈ lw_all := lw_g (lw_at lw_m6 161 rfl) rfl
theorem q1486 : (Jvm.Cond.soleField "HeldTongueModel" "toSay") ∈ lw_all := lw_g (lw_at lw_m6 162 rfl) rfl
theorem q1487 : (Jvm.Cond.laysFinal "HeldTongueModel" "HeldTongueModel" "said" "[I") ∈ lw_all := lw_g (lw_at lw_m6 163 rfl) rfl
theorem q1488 : (Jvm.Cond.soleField "HeldTongueModel" "said") ∈ lw_all := lw_g (lw_at lw_m6 164 rfl) rfl
theorem q1489 : (Jvm.Cond.laysFinal "HeldTongueModel" "HeldTongueModel" "bestSaid" "[I") ∈ lw_all := lw_g (lw_at lw_m6 165 rfl) rfl
theorem q1490 : (Jvm.Cond.soleField "HeldTongueModel" "bestSaid") ∈ lw_all := lw_g (lw_at lw_m6 166 rfl) rfl
theorem q1491 : (Jvm.Cond.lays "HeldTongueModel" "HeldTongueModel" "saidMany" "I") ∈ lw_all := lw_g (lw_at lw_m6 167 rfl) rfl
theorem q1492 : (Jvm.Cond.soleField "HeldTongueModel" "saidMany") ∈ lw_all := lw_g (lw_at lw_m6 168 rfl) rfl
theorem q1493 : (Jvm.Cond.superclass "HeldTongueModel" "java/lang/Object") ∈ lw_all := lw_g (lw_at lw_m6 169 rfl) rfl
theorem q1495 : (Jvm.Cond.instanceMethod ({ cls := "HeldTongueModel", name := "feed", desc := "(IIIII)I" } : Jvm.MethodName)) ∈ lw_all := lw_g (lw_at lw_m6 171 rfl) rfl
theorem q1496 : (Jvm.Cond.selects "HeldTongueModel" ({ cls := "HeldTongueModel", name := "feed", desc := "(IIIII)I" } : Jvm.MethodName) ({ cls := "HeldTongueModel", name := "feed", desc := "(IIIII)I" } : Jvm.MethodName)) ∈ lw_all := lw_g (lw_at lw_m6 172 rfl) rfl
theorem q1497 : (Jvm.Cond.code ({ cls := "HeldTongueModel", name := "feed", desc := "(IIIII)I" } : Jvm.MethodName) prog_23_method_5_code (6 : Nat) (Option.some Jvm.ClassFile.FieldType.int)) ∈ lw_all := lw_g (lw_at lw_m6 173 rfl) rfl
theorem q1498 : (Jvm.Cond.methodLink "HeldTongueModel" (195 : Nat) ({ cls := "HeldTongueModel", name := "put", desc := "(I)V" } : Jvm.MethodName)) ∈ lw_all := lw_g (lw_at lw_m6 174 rfl) rfl
theorem q1499 : (Jvm.Cond.privateMethod ({ cls := "HeldTongueModel", name := "put", desc := "(I)V" } : Jvm.MethodName)) ∈ lw_tbl := lw_at lw_m6 175 rfl
theorem q1500 : (Jvm.Cond.instanceMethod ({ cls := "HeldTongueModel", name := "put", desc := "(I)V" } : Jvm.MethodName)) ∈ lw_all := lw_g (lw_at lw_m6 176 rfl) rfl
theorem q1501 : (Jvm.Cond.code ({ cls := "HeldTongueModel", name := "put", desc := "(I)V" } : Jvm.MethodName) prog_23_method_4_code (3 : Nat) (Option.none : Option Jvm.ClassFile.FieldType)) ∈ lw_all := lw_g (lw_at lw_m6 177 rfl) rfl
theorem q1503 : (Jvm.Cond.instanceMethod ({ cls := "HeldTongueModel", name := "end", desc := "(I)I" } : Jvm.MethodName)) ∈ lw_all := lw_g (lw_at lw_m6 179 rfl) rfl
theorem q1504 : (Jvm.Cond.selects "HeldTongueModel" ({ cls := "HeldTongueModel", name := "end", desc := "(I)I" } : Jvm.MethodName) ({ cls := "HeldTongueModel", name := "end", desc := "(I)I" } : Jvm.MethodName)) ∈ lw_all := lw_g (lw_at lw_m6 180 rfl) rfl
theorem q1505 : (Jvm.Cond.code ({ cls := "HeldTongueModel", name := "end", desc := "(I)I" } : Jvm.MethodName) prog_23_method_6_code (2 : Nat) (Option.some Jvm.ClassFile.FieldType.int)) ∈ lw_all := lw_g (lw_at lw_m6 181 rfl) rfl
theorem q1506 : (Jvm.Cond.methodLink "HeldTongueModel" (199 : Nat) ({ cls := "HeldTongueModel", name := "in", desc := "(III)Z" } : Jvm.MethodName)) ∈ lw_all := lw_g (lw_at lw_m6 182 rfl) rfl
theorem q1507 : (Jvm.Cond.static ({ cls := "HeldTongueModel", name := "in", desc := "(III)Z" } : Jvm.MethodName)) ∈ lw_all := lw_g (lw_at lw_m6 183 rfl) rfl
theorem q1508 : (Jvm.Cond.code ({ cls := "HeldTongueModel", name := "in", desc := "(III)Z" } : Jvm.MethodName) prog_23_method_2_code (3 : Nat) (Option.some Jvm.ClassFile.FieldType.boolean)) ∈ lw_all := lw_g (lw_at lw_m6 184 rfl) rfl
theorem q1510 : (Jvm.Cond.instanceMethod ({ cls := "HeldTongueModel", name := "text", desc := "()I" } : Jvm.MethodName)) ∈ lw_all := lw_g (lw_at lw_m6 186 rfl) rfl
theorem q1511 : (Jvm.Cond.selects "HeldTongueModel" ({ cls := "HeldTongueModel", name := "text", desc := "()I" } : Jvm.MethodName) ({ cls := "HeldTongueModel", name := "text", desc := "()I" } : Jvm.MethodName)) ∈ lw_all := lw_g (lw_at lw_m6 187 rfl) rfl
theorem q1512 : (Jvm.Cond.code ({ cls := "HeldTongueModel", name := "text", desc := "()I" } : Jvm.MethodName) prog_23_method_33_code (1 : Nat) (Option.some Jvm.ClassFile.FieldType.int)) ∈ lw_all := lw_g (lw_at lw_m6 188 rfl) rfl
theorem q1513 : (Jvm.Cond.methodLink "HeldTongueModel" (290 : Nat) ({ cls := "HeldTongueModel", name := "next", desc := "()V" } : Jvm.MethodName)) ∈ lw_all := lw_g (lw_at lw_m6 189 rfl) rfl
theorem q1514 : (Jvm.Cond.privateMethod ({ cls := "HeldTongueModel", name := "next", desc := "()V" } : Jvm.MethodName)) ∈ lw_tbl := lw_at lw_m6 190 rfl
theorem q1515 : (Jvm.Cond.instanceMethod ({ cls := "HeldTongueModel", name := "next", desc := "()V" } : Jvm.MethodName)) ∈ lw_all := lw_g (lw_at lw_m6 191 rfl) rfl
theorem q1516 : (Jvm.Cond.code ({ cls := "HeldTongueModel", name := "next", desc := "()V" } : Jvm.MethodName) prog_23_method_9_code (5 : Nat) (Option.none : Option Jvm.ClassFile.FieldType)) ∈ lw_all := lw_g (lw_at lw_m6 192 rfl) rfl
theorem q1517 : (Jvm.Cond.methodLink "HeldTongueModel" (255 : Nat) ({ cls := "HeldTongueModel", name := "isLetter", desc := "(I)Z" } : Jvm.MethodName)) ∈ lw_all := lw_g (lw_at lw_m6 193 rfl) rfl
theorem q1518 : (Jvm.Cond.static ({ cls := "HeldTongueModel", name := "isLetter", desc := "(I)Z" } : Jvm.MethodName)) ∈ lw_all := lw_g (lw_at lw_m6 194 rfl) rfl
theorem q1519 : (Jvm.Cond.code ({ cls := "HeldTongueModel", name := "isLetter", desc := "(I)Z" } : Jvm.MethodName) prog_23_method_7_code (1 : Nat) (Option.some Jvm.ClassFile.FieldType.boolean)) ∈ lw_all := lw_g (lw_at lw_m6 195 rfl) rfl
theorem q1520 : (Jvm.Cond.constantLong "HeldTongueModel" (259 : Nat) (64 : Int64)) ∈ lw_all := lw_g (lw_at lw_m6 196 rfl) rfl
theorem q1521 : (Jvm.Cond.methodLink "HeldTongueModel" (261 : Nat) ({ cls := "HeldTongueModel", name := "wordOf", desc := "(J)I" } : Jvm.MethodName)) ∈ lw_all := lw_g (lw_at lw_m6 197 rfl) rfl
theorem q1522 : (Jvm.Cond.static ({ cls := "HeldTongueModel", name := "wordOf", desc := "(J)I" } : Jvm.MethodName)) ∈ lw_all := lw_g (lw_at lw_m6 198 rfl) rfl
theorem q1523 : (Jvm.Cond.code ({ cls := "HeldTongueModel", name := "wordOf", desc := "(J)I" } : Jvm.MethodName) prog_23_method_8_code (2 : Nat) (Option.some Jvm.ClassFile.FieldType.int)) ∈ lw_all := lw_g (lw_at lw_m6 199 rfl) rfl
theorem q1524 : (Jvm.Cond.constantLong "HeldTongueModel" (203 : Nat) (14613668 : Int64)) ∈ lw_all := lw_g (lw_at lw_m6 200 rfl) rfl
theorem q1525 : (Jvm.Cond.constantLong "HeldTongueModel" (205 : Nat) (932616680 : Int64)) ∈ lw_all := lw_g (lw_at lw_m6 201 rfl) rfl
theorem q1526 : (Jvm.Cond.constantLong "HeldTongueModel" (207 : Nat) (9645040 : Int64)) ∈ lw_all := lw_g (lw_at lw_m6 202 rfl) rfl
theorem q1527 : (Jvm.Cond.constantLong "HeldTongueModel" (209 : Nat) (12196709 : Int64)) ∈ lw_all := lw_g (lw_at lw_m6 203 rfl) rfl
theorem q1528 : (Jvm.Cond.constantLong "HeldTongueModel" (211 : Nat) (11205230 : Int64)) ∈ lw_all := lw_g (lw_at lw_m6 204 rfl) rfl
theorem q1529 : (Jvm.Cond.constantLong "HeldTongueModel" (213 : Nat) (13851822 : Int64)) ∈ lw_all := lw_g (lw_at lw_m6 205 rfl) rfl
theorem q1530 : (Jvm.Cond.constantLong "HeldTongueModel" (215 : Nat) (42443377010 : Int64)) ∈ lw_all := lw_g (lw_at lw_m6 206 rfl) rfl
theorem q1531 : (Jvm.Cond.constantLong "HeldTongueModel" (217 : Nat) (600505587 : Int64)) ∈ lw_all := lw_g (lw_at lw_m6 207 rfl) rfl
theorem q1532 : (Jvm.Cond.constantLong "HeldTongueModel" (219 : Nat) (2163 : Int64)) ∈ lw_all := lw_g (lw_at lw_m6 208 rfl) rfl
theorem q1533 : (Jvm.Cond.constantLong "HeldTongueModel" (221 : Nat) (763804019 : Int64)) ∈ lw_all := lw_g (lw_at lw_m6 209 rfl) rfl
theorem q1534 : (Jvm.Cond.constantLong "HeldTongueModel" (223 : Nat) (3058 : Int64)) ∈ lw_all := lw_g (lw_at lw_m6 210 rfl) rfl
theorem q1535 : (Jvm.Cond.constantLong "HeldTongueModel" (225 : Nat) (138148 : Int64)) ∈ lw_all := lw_g (lw_at lw_m6 211 rfl) rfl
theorem q1536 : (Jvm.Cond.constantLong "HeldTongueModel" (227 : Nat) (191476 : Int64)) ∈ lw_all := lw_g (lw_at lw_m6 212 rfl) rfl
theorem q1537 : (Jvm.Cond.constantLong "HeldTongueModel" (229 : Nat) (212333 : Int64)) ∈ lw_all := lw_g (lw_at lw_m6 213 rfl) rfl
theorem q1538 : (Jvm.Cond.constantLong "HeldTongueModel" (231 : Nat) (748035316 : Int64)) ∈ lw_all := lw_g (lw_at lw_m6 214 rfl) rfl
theorem q1539 : (Jvm.Cond.constantLong "HeldTongueModel" (233 : Nat) (11934649 : Int64)) ∈ lw_all := lw_g (lw_at lw_m6 215 rfl) rfl
theorem q1540 : (Jvm.Cond.constantLong "HeldTongueModel" (235 : Nat) (11443108 : Int64)) ∈ lw_all := lw_g (lw_at lw_m6 216 rfl) rfl
theorem q1541 : (Jvm.Cond.constantLong "HeldTongueModel" (237 : Nat) (59687467572 : Int64)) ∈ lw_all := lw_g (lw_at lw_m6 217 rfl) rfl
theorem q1542 : (Jvm.Cond.constantLong "HeldTongueModel" (239 : Nat) (137701 : Int64)) ∈ lw_all := lw_g (lw_at lw_m6 218 rfl) rfl
theorem q1543 : (Jvm.Cond.constantLong "HeldTongueModel" (241 : Nat) (816978149 : Int64)) ∈ lw_all := lw_g (lw_at lw_m6 219 rfl) rfl
theorem q1544 : (Jvm.Cond.constant "HeldTongueModel" (268 : Nat) (99999 : Int32)) ∈ lw_all := lw_g (lw_at lw_m6 220 rfl) rfl
theorem q1545 : (Jvm.Cond.methodLink "HeldTongueModel" (358 : Nat) ({ cls := "HeldTongueModel", name := "asks", desc := "()V" } : Jvm.MethodName)) ∈ lw_all := lw_g (lw_at lw_m6 221 rfl) rfl
theorem q1546 : (Jvm.Cond.privateMethod ({ cls := "HeldTongueModel", name := "asks", desc := "()V" } : Jvm.MethodName)) ∈ lw_tbl := lw_at lw_m6 222 rfl
theorem q1547 : (Jvm.Cond.instanceMethod ({ cls := "HeldTongueModel", name := "asks", desc := "()V" } : Jvm.MethodName)) ∈ lw_all := lw_g (lw_at lw_m6 223 rfl) rfl
theorem q1548 : (Jvm.Cond.code ({ cls := "HeldTongueModel", name := "asks", desc := "()V" } : Jvm.MethodName) prog_23_method_20_code (2 : Nat) (Option.none : Option Jvm.ClassFile.FieldType)) ∈ lw_all := lw_g (lw_at lw_m6 224 rfl) rfl
theorem q1549 : (Jvm.Cond.methodLink "HeldTongueModel" (307 : Nat) ({ cls := "HeldTongueModel", name := "isWord", desc := "(I)Z" } : Jvm.MethodName)) ∈ lw_all := lw_g (lw_at lw_m6 225 rfl) rfl
theorem q1550 : (Jvm.Cond.privateMethod ({ cls := "HeldTongueModel", name := "isWord", desc := "(I)Z" } : Jvm.MethodName)) ∈ lw_tbl := lw_at lw_m6 226 rfl
theorem q1551 : (Jvm.Cond.instanceMethod ({ cls := "HeldTongueModel", name := "isWord", desc := "(I)Z" } : Jvm.MethodName)) ∈ lw_all := lw_g (lw_at lw_m6 227 rfl) rfl
theorem q1552 : (Jvm.Cond.code ({ cls := "HeldTongueModel", name := "isWord", desc := "(I)Z" } : Jvm.MethodName) prog_23_method_11_code (2 : Nat) (Option.some Jvm.ClassFile.FieldType.boolean)) ∈ lw_all := lw_g (lw_at lw_m6 228 rfl) rfl
theorem q1553 : (Jvm.Cond.methodLink "HeldTongueModel" (310 : Nat) ({ cls := "HeldTongueModel", name := "opensSign", desc := "(I)Z" } : Jvm.MethodName)) ∈ lw_all := lw_g (lw_at lw_m6 229 rfl) rfl
theorem q1554 : (Jvm.Cond.privateMethod ({ cls := "HeldTongueModel", name := "opensSign", desc := "(I)Z" } : Jvm.MethodName)) ∈ lw_tbl := lw_at lw_m6 230 rfl
theorem q1555 : (Jvm.Cond.instanceMethod ({ cls := "HeldTongueModel", name := "opensSign", desc := "(I)Z" } : Jvm.MethodName)) ∈ lw_all := lw_g (lw_at lw_m6 231 rfl) rfl
theorem q1556 : (Jvm.Cond.code ({ cls := "HeldTongueModel", name := "opensSign", desc := "(I)Z" } : Jvm.MethodName) prog_23_method_16_code (2 : Nat) (Option.some Jvm.ClassFile.FieldType.boolean)) ∈ lw_all := lw_g (lw_at lw_m6 232 rfl) rfl
theorem q1557 : (Jvm.Cond.methodLink "HeldTongueModel" (284 : Nat) ({ cls := "HeldTongueModel", name := "errs", desc := "(I)V" } : Jvm.MethodName)) ∈ lw_all := lw_g (lw_at lw_m6 233 rfl) rfl
theorem q1558 : (Jvm.Cond.privateMethod ({ cls := "HeldTongueModel", name := "errs", desc := "(I)V" } : Jvm.MethodName)) ∈ lw_tbl := lw_at lw_m6 234 rfl
theorem q1559 : (Jvm.Cond.instanceMethod ({ cls := "HeldTongueModel", name := "errs", desc := "(I)V" } : Jvm.MethodName)) ∈ lw_all := lw_g (lw_at lw_m6 235 rfl) rfl
theorem q1560 : (Jvm.Cond.code ({ cls := "HeldTongueModel", name := "errs", desc := "(I)V" } : Jvm.MethodName) prog_23_method_12_code (2 : Nat) (Option.none : Option Jvm.ClassFile.FieldType)) ∈ lw_all := lw_g (lw_at lw_m6 236 rfl) rfl
theorem q1561 : (Jvm.Cond.methodLink "HeldTongueModel" (287 : Nat) ({ cls := "HeldTongueModel", name := "opensFrame", desc := "(I)V" } : Jvm.MethodName)) ∈ lw_all := lw_g (lw_at lw_m6 237 rfl) rfl
theorem q1562 : (Jvm.Cond.privateMethod ({ cls := "HeldTongueModel", name := "opensFrame", desc := "(I)V" } : Jvm.MethodName)) ∈ lw_tbl := lw_at lw_m6 238 rfl
theorem q1563 : (Jvm.Cond.instanceMethod ({ cls := "HeldTongueModel", name := "opensFrame", desc := "(I)V" } : Jvm.MethodName)) ∈ lw_all := lw_g (lw_at lw_m6 239 rfl) rfl
theorem q1564 : (Jvm.Cond.code ({ cls := "HeldTongueModel", name := "opensFrame", desc := "(I)V" } : Jvm.MethodName) prog_23_method_14_code (2 : Nat) (Option.none : Option Jvm.ClassFile.FieldType)) ∈ lw_all := lw_g (lw_at lw_m7 0 rfl) rfl
theorem q1565 : (Jvm.Cond.methodLink "HeldTongueModel" (361 : Nat) ({ cls := "HeldTongueModel", name := "begins", desc := "()V" } : Jvm.MethodName)) ∈ lw_all := lw_g (lw_at lw_m7 1 rfl) rfl
theorem q1566 : (Jvm.Cond.privateMethod ({ cls := "HeldTongueModel", name := "begins", desc := "()V" } : Jvm.MethodName)) ∈ lw_tbl := lw_at lw_m7 2 rfl
theorem q1567 : (Jvm.Cond.instanceMethod ({ cls := "HeldTongueModel", name := "begins", desc := "()V" } : Jvm.MethodName)) ∈ lw_all := lw_g (lw_at lw_m7 3 rfl) rfl
theorem q1568 : (Jvm.Cond.code ({ cls := "HeldTongueModel", name := "begins", desc := "()V" } : Jvm.MethodName) prog_23_method_21_code (2 : Nat) (Option.none : Option Jvm.ClassFile.FieldType)) ∈ lw_all := lw_g (lw_at lw_m7 4 rfl) rfl
theorem q1569 : (Jvm.Cond.methodLink "HeldTongueModel" (300 : Nat) ({ cls := "HeldTongueModel", name := "emits", desc := "(II)V" } : Jvm.MethodName)) ∈ lw_all := lw_g (lw_at lw_m7 5 rfl) rfl
theorem q1570 : (Jvm.Cond.privateMethod ({ cls := "HeldTongueModel", name := "emits", desc := "(II)V" } : Jvm.MethodName)) ∈ lw_tbl := lw_at lw_m7 6 rfl
theorem q1571 : (Jvm.Cond.instanceMethod ({ cls := "HeldTongueModel", name := "emits", desc := "(II)V" } : Jvm.MethodName)) ∈ lw_all := lw_g (lw_at lw_m7 7 rfl) rfl
theorem q1572 : (Jvm.Cond.code ({ cls := "HeldTongueModel", name := "emits", desc := "(II)V" } : Jvm.MethodName) prog_23_method_13_code (3 : Nat) (Option.none : Option Jvm.ClassFile.FieldType)) ∈ lw_all := lw_g (lw_at lw_m7 8 rfl) rfl
theorem q1573 : (Jvm.Cond.methodLink "HeldTongueModel" (316 : Nat) ({ cls := "HeldTongueModel", name := "oneIsOver", desc := "()V" } : Jvm.MethodName)) ∈ lw_all := lw_g (lw_at lw_m7 9 rfl) rfl
theorem q1574 : (Jvm.Cond.privateMethod ({ cls := "HeldTongueModel", name := "oneIsOver", desc := "()V" } : Jvm.MethodName)) ∈ lw_tbl := lw_at lw_m7 10 rfl
theorem q1575 : (Jvm.Cond.instanceMethod ({ cls := "HeldTongueModel", name := "oneIsOver", desc := "()V" } : Jvm.MethodName)) ∈ lw_all := lw_g (lw_at lw_m7 11 rfl) rfl
theorem q1576 : (Jvm.Cond.code ({ cls := "HeldTongueModel", name := "oneIsOver", desc := "()V" } : Jvm.MethodName) prog_23_method_22_code (1 : Nat) (Option.none : Option Jvm.ClassFile.FieldType)) ∈ lw_all := lw_g (lw_at lw_m7 12 rfl) rfl
theorem q1577 : (Jvm.Cond.methodLink "HeldTongueModel" (325 : Nat) ({ cls := "HeldTongueModel", name := "top", desc := "()I" } : Jvm.MethodName)) ∈ lw_all := lw_g (lw_at lw_m7 13 rfl) rfl
theorem q1578 : (Jvm.Cond.privateMethod ({ cls := "HeldTongueModel", name := "top", desc := "()I" } : Jvm.MethodName)) ∈ lw_tbl := lw_at lw_m7 14 rfl
theorem q1579 : (Jvm.Cond.instanceMethod ({ cls := "HeldTongueModel", name := "top", desc := "()I" } : Jvm.MethodName)) ∈ lw_all := lw_g (lw_at lw_m7 15 rfl) rfl
theorem q1580 : (Jvm.Cond.code ({ cls := "HeldTongueModel", name := "top", desc := "()I" } : Jvm.MethodName) prog_23_method_15_code (1 : Nat) (Option.some Jvm.ClassFile.FieldType.int)) ∈ lw_all := lw_g (lw_at lw_m7 16 rfl) rfl
theorem q1581 : (Jvm.Cond.methodLink "HeldTongueModel" (322 : Nat) ({ cls := "HeldTongueModel", name := "isSign", desc := "(I)Z" } : Jvm.MethodName)) ∈ lw_all := lw_g (lw_at lw_m7 17 rfl) rfl
theorem q1582 : (Jvm.Cond.privateMethod ({ cls := "HeldTongueModel", name := "isSign", desc := "(I)Z" } : Jvm.MethodName)) ∈ lw_tbl := lw_at lw_m7 18 rfl
theorem q1583 : (Jvm.Cond.instanceMethod ({ cls := "HeldTongueModel", name := "isSign", desc := "(I)Z" } : Jvm.MethodName)) ∈ lw_all := lw_g (lw_at lw_m7 19 rfl) rfl
theorem q1584 : (Jvm.Cond.code ({ cls := "HeldTongueModel", name := "isSign", desc := "(I)Z" } : Jvm.MethodName) prog_23_method_10_code (2 : Nat) (Option.some Jvm.ClassFile.FieldType.boolean)) ∈ lw_all := lw_g (lw_at lw_m7 20 rfl) rfl
theorem q1585 : (Jvm.Cond.methodLink "HeldTongueModel" (364 : Nat) ({ cls := "HeldTongueModel", name := "goesOn", desc := "()V" } : Jvm.MethodName)) ∈ lw_all := lw_g (lw_at lw_m7 21 rfl) rfl
theorem q1586 : (Jvm.Cond.privateMethod ({ cls := "HeldTongueModel", name := "goesOn", desc := "()V" } : Jvm.MethodName)) ∈ lw_tbl := lw_at lw_m7 22 rfl
theorem q1587 : (Jvm.Cond.instanceMethod ({ cls := "HeldTongueModel", name := "goesOn", desc := "()V" } : Jvm.MethodName)) ∈ lw_all := lw_g (lw_at lw_m7 23 rfl) rfl
theorem q1588 : (Jvm.Cond.code ({ cls := "HeldTongueModel", name := "goesOn", desc := "()V" } : Jvm.MethodName) prog_23_method_25_code (3 : Nat) (Option.none : Option Jvm.ClassFile.FieldType)) ∈ lw_all := lw_g (lw_at lw_m7 24 rfl) rfl
theorem q1589 : (Jvm.Cond.methodLink "HeldTongueModel" (329 : Nat) ({ cls := "HeldTongueModel", name := "waitsFor", desc := "(I)V" } : Jvm.MethodName)) ∈ lw_all := lw_g (lw_at lw_m7 25 rfl) rfl
theorem q1590 : (Jvm.Cond.privateMethod ({ cls := "HeldTongueModel", name := "waitsFor", desc := "(I)V" } : Jvm.MethodName)) ∈ lw_tbl := lw_at lw_m7 26 rfl
theorem q1591 : (Jvm.Cond.instanceMethod ({ cls := "HeldTongueModel", name := "waitsFor", desc := "(I)V" } : Jvm.MethodName)) ∈ lw_all := lw_g (lw_at lw_m7 27 rfl) rfl
theorem q1592 : (Jvm.Cond.code ({ cls := "HeldTongueModel", name := "waitsFor", desc := "(I)V" } : Jvm.MethodName) prog_23_method_19_code (2 : Nat) (Option.none : Option Jvm.ClassFile.FieldType)) ∈ lw_all := lw_g (lw_at lw_m7 28 rfl) rfl
theorem q1593 : (Jvm.Cond.methodLink "HeldTongueModel" (296 : Nat) ({ cls := "HeldTongueModel", name := "rank", desc := "(I)I" } : Jvm.MethodName)) ∈ lw_all := lw_g (lw_at lw_m7 29 rfl) rfl
theorem q1594 : (Jvm.Cond.static ({ cls := "HeldTongueModel", name := "rank", desc := "(I)I" } : Jvm.MethodName)) ∈ lw_all := lw_g (lw_at lw_m7 30 rfl) rfl
theorem q1595 : (Jvm.Cond.code ({ cls := "HeldTongueModel", name := "rank", desc := "(I)I" } : Jvm.MethodName) prog_23_method_17_code (1 : Nat) (Option.some Jvm.ClassFile.FieldType.int)) ∈ lw_all := lw_g (lw_at lw_m7 31 rfl) rfl
theorem q1596 : (Jvm.Cond.methodLink "HeldTongueModel" (304 : Nat) ({ cls := "HeldTongueModel", name := "works", desc := "(I)V" } : Jvm.MethodName)) ∈ lw_all := lw_g (lw_at lw_m7 32 rfl) rfl
theorem q1597 : (Jvm.Cond.privateMethod ({ cls := "HeldTongueModel", name := "works", desc := "(I)V" } : Jvm.MethodName)) ∈ lw_tbl := lw_at lw_m7 33 rfl
theorem q1598 : (Jvm.Cond.instanceMethod ({ cls := "HeldTongueModel", name := "works", desc := "(I)V" } : Jvm.MethodName)) ∈ lw_all := lw_g (lw_at lw_m7 34 rfl) rfl
theorem q1599 : (Jvm.Cond.code ({ cls := "HeldTongueModel", name := "works", desc := "(I)V" } : Jvm.MethodName) prog_23_method_18_code (2 : Nat) (Option.none : Option Jvm.ClassFile.FieldType)) ∈ lw_all := lw_g (lw_at lw_m7 35 rfl) rfl
theorem q1600 : (Jvm.Cond.methodLink "HeldTongueModel" (332 : Nat) ({ cls := "HeldTongueModel", name := "isAsking", desc := "(I)Z" } : Jvm.MethodName)) ∈ lw_all := lw_g (lw_at lw_m7 36 rfl) rfl
theorem q1601 : (Jvm.Cond.static ({ cls := "HeldTongueModel", name := "isAsking", desc := "(I)Z" } : Jvm.MethodName)) ∈ lw_all := lw_g (lw_at lw_m7 37 rfl) rfl
theorem q1602 : (Jvm.Cond.code ({ cls := "HeldTongueModel", name := "isAsking", desc := "(I)Z" } : Jvm.MethodName) prog_23_method_24_code (1 : Nat) (Option.some Jvm.ClassFile.FieldType.boolean)) ∈ lw_all := lw_g (lw_at lw_m7 38 rfl) rfl
theorem q1603 : (Jvm.Cond.methodLink "HeldTongueModel" (335 : Nat) ({ cls := "HeldTongueModel", name := "askIsOver", desc := "()V" } : Jvm.MethodName)) ∈ lw_all := lw_g (lw_at lw_m7 39 rfl) rfl
theorem q1604 : (Jvm.Cond.privateMethod ({ cls := "HeldTongueModel", name := "askIsOver", desc := "()V" } : Jvm.MethodName)) ∈ lw_tbl := lw_at lw_m7 40 rfl
theorem q1605 : (Jvm.Cond.instanceMethod ({ cls := "HeldTongueModel", name := "askIsOver", desc := "()V" } : Jvm.MethodName)) ∈ lw_all := lw_g (lw_at lw_m7 41 rfl) rfl
theorem q1606 : (Jvm.Cond.code ({ cls := "HeldTongueModel", name := "askIsOver", desc := "()V" } : Jvm.MethodName) prog_23_method_23_code (1 : Nat) (Option.none : Option Jvm.ClassFile.FieldType)) ∈ lw_all := lw_g (lw_at lw_m7 42 rfl) rfl
theorem q1607 : (Jvm.Cond.methodLink "HeldTongueModel" (338 : Nat) ({ cls := "HeldTongueModel", name := "clauseIsOver", desc := "()V" } : Jvm.MethodName)) ∈ lw_all := lw_g (lw_at lw_m7 43 rfl) rfl
theorem q1608 : (Jvm.Cond.privateMethod ({ cls := "HeldTongueModel", name := "clauseIsOver", desc := "()V" } : Jvm.MethodName)) ∈ lw_tbl := lw_at lw_m7 44 rfl
theorem q1609 : (Jvm.Cond.instanceMethod ({ cls := "HeldTongueModel", name := "clauseIsOver", desc := "()V" } : Jvm.MethodName)) ∈ lw_all := lw_g (lw_at lw_m7 45 rfl) rfl
theorem q1610 : (Jvm.Cond.code ({ cls := "HeldTongueModel", name := "clauseIsOver", desc := "()V" } : Jvm.MethodName) prog_23_method_27_code (1 : Nat) (Option.none : Option Jvm.ClassFile.FieldType)) ∈ lw_all := lw_g (lw_at lw_m7 46 rfl) rfl
theorem q1611 : (Jvm.Cond.methodLink "HeldTongueModel" (367 : Nat) ({ cls := "HeldTongueModel", name := "asksOn", desc := "()V" } : Jvm.MethodName)) ∈ lw_all := lw_g (lw_at lw_m7 47 rfl) rfl
theorem q1612 : (Jvm.Cond.privateMethod ({ cls := "HeldTongueModel", name := "asksOn", desc := "()V" } : Jvm.MethodName)) ∈ lw_tbl := lw_at lw_m7 48 rfl
theorem q1613 : (Jvm.Cond.instanceMethod ({ cls := "HeldTongueModel", name := "asksOn", desc := "()V" } : Jvm.MethodName)) ∈ lw_all := lw_g (lw_at lw_m7 49 rfl) rfl
theorem q1614 : (Jvm.Cond.code ({ cls := "HeldTongueModel", name := "asksOn", desc := "()V" } : Jvm.MethodName) prog_23_method_26_code (1 : Nat) (Option.none : Option Jvm.ClassFile.FieldType)) ∈ lw_all := lw_g (lw_at lw_m7 50 rfl) rfl
theorem q1615 : (Jvm.Cond.methodLink "HeldTongueModel" (370 : Nat) ({ cls := "HeldTongueModel", name := "clause", desc := "()V" } : Jvm.MethodName)) ∈ lw_all := lw_g (lw_at lw_m7 51 rfl) rfl
theorem q1616 : (Jvm.Cond.privateMethod ({ cls := "HeldTongueModel", name := "clause", desc := "()V" } : Jvm.MethodName)) ∈ lw_tbl := lw_at lw_m7 52 rfl
theorem q1617 : (Jvm.Cond.instanceMethod ({ cls := "HeldTongueModel", name := "clause", desc := "()V" } : Jvm.MethodName)) ∈ lw_all := lw_g (lw_at lw_m7 53 rfl) rfl
theorem q1618 : (Jvm.Cond.code ({ cls := "HeldTongueModel", name := "clause", desc := "()V" } : Jvm.MethodName) prog_23_method_32_code (1 : Nat) (Option.none : Option Jvm.ClassFile.FieldType)) ∈ lw_all := lw_g (lw_at lw_m7 54 rfl) rfl
theorem q1619 : (Jvm.Cond.methodLink "HeldTongueModel" (351 : Nat) ({ cls := "HeldTongueModel", name := "wasWeighed", desc := "()Z" } : Jvm.MethodName)) ∈ lw_all := lw_g (lw_at lw_m7 55 rfl) rfl
theorem q1620 : (Jvm.Cond.privateMethod ({ cls := "HeldTongueModel", name := "wasWeighed", desc := "()Z" } : Jvm.MethodName)) ∈ lw_tbl := lw_at lw_m7 56 rfl
theorem q1621 : (Jvm.Cond.instanceMethod ({ cls := "HeldTongueModel", name := "wasWeighed", desc := "()Z" } : Jvm.MethodName)) ∈ lw_all := lw_g (lw_at lw_m7 57 rfl) rfl
theorem q1622 : (Jvm.Cond.code ({ cls := "HeldTongueModel", name := "wasWeighed", desc := "()Z" } : Jvm.MethodName) prog_23_method_31_code (3 : Nat) (Option.some Jvm.ClassFile.FieldType.boolean)) ∈ lw_all := lw_g (lw_at lw_m7 58 rfl) rfl
theorem q1623 : (Jvm.Cond.methodLink "HeldTongueModel" (355 : Nat) ({ cls := "HeldTongueModel", name := "readsSense", desc := "()V" } : Jvm.MethodName)) ∈ lw_all := lw_g (lw_at lw_m7 59 rfl) rfl
theorem q1624 : (Jvm.Cond.privateMethod ({ cls := "HeldTongueModel", name := "readsSense", desc := "()V" } : Jvm.MethodName)) ∈ lw_tbl := lw_at lw_m7 60 rfl
theorem q1625 : (Jvm.Cond.instanceMethod ({ cls := "HeldTongueModel", name := "readsSense", desc := "()V" } : Jvm.MethodName)) ∈ lw_all := lw_g (lw_at lw_m7 61 rfl) rfl
theorem q1626 : (Jvm.Cond.code ({ cls := "HeldTongueModel", name := "readsSense", desc := "()V" } : Jvm.MethodName) prog_23_method_30_code (3 : Nat) (Option.none : Option Jvm.ClassFile.FieldType)) ∈ lw_all := lw_g (lw_at lw_m7 62 rfl) rfl
theorem q1627 : (Jvm.Cond.methodLink "HeldTongueModel" (344 : Nat) ({ cls := "HeldTongueModel", name := "number", desc := "(II)I" } : Jvm.MethodName)) ∈ lw_all := lw_g (lw_at lw_m7 63 rfl) rfl
theorem q1628 : (Jvm.Cond.privateMethod ({ cls := "HeldTongueModel", name := "number", desc := "(II)I" } : Jvm.MethodName)) ∈ lw_tbl := lw_at lw_m7 64 rfl
theorem q1629 : (Jvm.Cond.instanceMethod ({ cls := "HeldTongueModel", name := "number", desc := "(II)I" } : Jvm.MethodName)) ∈ lw_all := lw_g (lw_at lw_m7 65 rfl) rfl
theorem q1630 : (Jvm.Cond.code ({ cls := "HeldTongueModel", name := "number", desc := "(II)I" } : Jvm.MethodName) prog_23_method_28_code (4 : Nat) (Option.some Jvm.ClassFile.FieldType.int)) ∈ lw_all := lw_g (lw_at lw_m7 66 rfl) rfl
theorem q1631 : (Jvm.Cond.methodLink "HeldTongueModel" (348 : Nat) ({ cls := "HeldTongueModel", name := "wants", desc := "(Z)V" } : Jvm.MethodName)) ∈ lw_all := lw_g (lw_at lw_m7 67 rfl) rfl
theorem q1632 : (Jvm.Cond.privateMethod ({ cls := "HeldTongueModel", name := "wants", desc := "(Z)V" } : Jvm.MethodName)) ∈ lw_tbl := lw_at lw_m7 68 rfl
theorem q1633 : (Jvm.Cond.instanceMethod ({ cls := "HeldTongueModel", name := "wants", desc := "(Z)V" } : Jvm.MethodName)) ∈ lw_all := lw_g (lw_at lw_m7 69 rfl) rfl
theorem q1634 : (Jvm.Cond.code ({ cls := "HeldTongueModel", name := "wants", desc := "(Z)V" } : Jvm.MethodName) prog_23_method_29_code (2 : Nat) (Option.none : Option Jvm.ClassFile.FieldType)) ∈ lw_all := lw_g (lw_at lw_m7 70 rfl) rfl
theorem q1635 : (Jvm.Cond.methodLink "HeldTongueModel" (373 : Nat) ({ cls := "HeldTongueModel", name := "keepsText", desc := "(I)V" } : Jvm.MethodName)) ∈ lw_all := lw_g (lw_at lw_m7 71 rfl) rfl
theorem q1636 : (Jvm.Cond.privateMethod ({ cls := "HeldTongueModel", name := "keepsText", desc := "(I)V" } : Jvm.MethodName)) ∈ lw_tbl := lw_at lw_m7 72 rfl
theorem q1637 : (Jvm.Cond.instanceMethod ({ cls := "HeldTongueModel", name := "keepsText", desc := "(I)V" } : Jvm.MethodName)) ∈ lw_all := lw_g (lw_at lw_m7 73 rfl) rfl
theorem q1638 : (Jvm.Cond.code ({ cls := "HeldTongueModel", name := "keepsText", desc := "(I)V" } : Jvm.MethodName) prog_23_method_34_code (5 : Nat) (Option.none : Option Jvm.ClassFile.FieldType)) ∈ lw_all := lw_g (lw_at lw_m7 74 rfl) rfl
theorem q1640 : (Jvm.Cond.instanceMethod ({ cls := "HeldTongueModel", name := "fault", desc := "(I)I" } : Jvm.MethodName)) ∈ lw_all := lw_g (lw_at lw_m7 76 rfl) rfl
theorem q1641 : (Jvm.Cond.selects "HeldTongueModel" ({ cls := "HeldTongueModel", name := "fault", desc := "(I)I" } : Jvm.MethodName) ({ cls := "HeldTongueModel", name := "fault", desc := "(I)I" } : Jvm.MethodName)) ∈ lw_all := lw_g (lw_at lw_m7 77 rfl) rfl
theorem q1642 : (Jvm.Cond.code ({ cls := "HeldTongueModel", name := "fault", desc := "(I)I" } : Jvm.MethodName) prog_23_method_35_code (2 : Nat) (Option.some Jvm.ClassFile.FieldType.int)) ∈ lw_all := lw_g (lw_at lw_m7 78 rfl) rfl
theorem q1644 : (Jvm.Cond.instanceMethod ({ cls := "HeldTongueModel", name := "by", desc := "(I)Z" } : Jvm.MethodName)) ∈ lw_all := lw_g (lw_at lw_m7 80 rfl) rfl
theorem q1645 : (Jvm.Cond.selects "HeldTongueModel" ({ cls := "HeldTongueModel", name := "by", desc := "(I)Z" } : Jvm.MethodName) ({ cls := "HeldTongueModel", name := "by", desc := "(I)Z" } : Jvm.MethodName)) ∈ lw_all := lw_g (lw_at lw_m7 81 rfl) rfl
theorem q1646 : (Jvm.Cond.code ({ cls := "HeldTongueModel", name := "by", desc := "(I)Z" } : Jvm.MethodName) prog_23_method_39_code (2 : Nat) (Option.some Jvm.ClassFile.FieldType.boolean)) ∈ lw_all := lw_g (lw_at lw_m7 82 rfl) rfl
theorem q1648 : (Jvm.Cond.instanceMethod ({ cls := "HeldTongueModel", name := "say", desc := "(I)I" } : Jvm.MethodName)) ∈ lw_all := lw_g (lw_at lw_m7 84 rfl) rfl
theorem q1649 : (Jvm.Cond.selects "HeldTongueModel" ({ cls := "HeldTongueModel", name := "say", desc := "(I)I" } : Jvm.MethodName) ({ cls := "HeldTongueModel", name := "say", desc := "(I)I" } : Jvm.MethodName)) ∈ lw_all := lw_g (lw_at lw_m7 85 rfl) rfl
theorem q1650 : (Jvm.Cond.code ({ cls := "HeldTongueModel", name := "say", desc := "(I)I" } : Jvm.MethodName) prog_23_method_42_code (2 : Nat) (Option.some Jvm.ClassFile.FieldType.int)) ∈ lw_all := lw_g (lw_at lw_m7 86 rfl) rfl
theorem q1652 : (Jvm.Cond.instanceMethod ({ cls := "HeldTongueModel", name := "unsay", desc := "(I)I" } : Jvm.MethodName)) ∈ lw_all := lw_g (lw_at lw_m7 88 rfl) rfl
theorem q1653 : (Jvm.Cond.selects "HeldTongueModel" ({ cls := "HeldTongueModel", name := "unsay", desc := "(I)I" } : Jvm.MethodName) ({ cls := "HeldTongueModel", name := "unsay", desc := "(I)I" } : Jvm.MethodName)) ∈ lw_all := lw_g (lw_at lw_m7 89 rfl) rfl
theorem q1654 : (Jvm.Cond.code ({ cls := "HeldTongueModel", name := "unsay", desc := "(I)I" } : Jvm.MethodName) prog_23_method_43_code (2 : Nat) (Option.some Jvm.ClassFile.FieldType.int)) ∈ lw_all := lw_g (lw_at lw_m7 90 rfl) rfl
theorem q1656 : (Jvm.Cond.instanceMethod ({ cls := "HeldTongueModel", name := "word", desc := "(I)I" } : Jvm.MethodName)) ∈ lw_all := lw_g (lw_at lw_m7 92 rfl) rfl
theorem q1657 : (Jvm.Cond.selects "HeldTongueModel" ({ cls := "HeldTongueModel", name := "word", desc := "(I)I" } : Jvm.MethodName) ({ cls := "HeldTongueModel", name := "word", desc := "(I)I" } : Jvm.MethodName)) ∈ lw_all := lw_g (lw_at lw_m7 93 rfl) rfl
theorem q1658 : (Jvm.Cond.code ({ cls := "HeldTongueModel", name := "word", desc := "(I)I" } : Jvm.MethodName) prog_23_method_44_code (2 : Nat) (Option.some Jvm.ClassFile.FieldType.int)) ∈ lw_all := lw_g (lw_at lw_m7 94 rfl) rfl
theorem q1660 : (Jvm.Cond.instanceMethod ({ cls := "HeldTongueModel", name := "count", desc := "(I)I" } : Jvm.MethodName)) ∈ lw_all := lw_g (lw_at lw_m7 96 rfl) rfl
theorem q1661 : (Jvm.Cond.selects "HeldTongueModel" ({ cls := "HeldTongueModel", name := "count", desc := "(I)I" } : Jvm.MethodName) ({ cls := "HeldTongueModel", name := "count", desc := "(I)I" } : Jvm.MethodName)) ∈ lw_all := lw_g (lw_at lw_m7 97 rfl) rfl
theorem q1662 : (Jvm.Cond.code ({ cls := "HeldTongueModel", name := "count", desc := "(I)I" } : Jvm.MethodName) prog_23_method_56_code (8 : Nat) (Option.some Jvm.ClassFile.FieldType.int)) ∈ lw_all := lw_g (lw_at lw_m7 98 rfl) rfl
theorem q1663 : (Jvm.Cond.methodLink "HeldTongueModel" (437 : Nat) ({ cls := "HeldTongueModel", name := "laysPrimes", desc := "()V" } : Jvm.MethodName)) ∈ lw_all := lw_g (lw_at lw_m7 99 rfl) rfl
theorem q1664 : (Jvm.Cond.privateMethod ({ cls := "HeldTongueModel", name := "laysPrimes", desc := "()V" } : Jvm.MethodName)) ∈ lw_tbl := lw_at lw_m7 100 rfl
theorem q1665 : (Jvm.Cond.instanceMethod ({ cls := "HeldTongueModel", name := "laysPrimes", desc := "()V" } : Jvm.MethodName)) ∈ lw_all := lw_g (lw_at lw_m7 101 rfl) rfl
theorem q1666 : (Jvm.Cond.code ({ cls := "HeldTongueModel", name := "laysPrimes", desc := "()V" } : Jvm.MethodName) prog_23_method_54_code (1 : Nat) (Option.none : Option Jvm.ClassFile.FieldType)) ∈ lw_all := lw_g (lw_at lw_m7 102 rfl) rfl
theorem q1667 : (Jvm.Cond.constantLong "HeldTongueModel" (423 : Nat) (2147483647 : Int64)) ∈ lw_all := lw_g (lw_at lw_m7 103 rfl) rfl
theorem q1668 : (Jvm.Cond.constantLong "HeldTongueModel" (425 : Nat) (2147483629 : Int64)) ∈ lw_all := lw_g (lw_at lw_m7 104 rfl) rfl
theorem q1669 : (Jvm.Cond.constantLong "HeldTongueModel" (427 : Nat) (2147483587 : Int64)) ∈ lw_all := lw_g (lw_at lw_m7 105 rfl) rfl
theorem q1670 : (Jvm.Cond.constantLong "HeldTongueModel" (429 : Nat) (2147483579 : Int64)) ∈ lw_all := lw_g (lw_at lw_m7 106 rfl) rfl
theorem q1671 : (Jvm.Cond.constantLong "HeldTongueModel" (431 : Nat) (2147483563 : Int64)) ∈ lw_all := lw_g (lw_at lw_m7 107 rfl) rfl
theorem q1672 : (Jvm.Cond.constantLong "HeldTongueModel" (433 : Nat) (2147483549 : Int64)) ∈ lw_all := lw_g (lw_at lw_m7 108 rfl) rfl
theorem q1673 : (Jvm.Cond.methodLink "HeldTongueModel" (440 : Nat) ({ cls := "HeldTongueModel", name := "laysSpans", desc := "(J)V" } : Jvm.MethodName)) ∈ lw_all := lw_g (lw_at lw_m7 109 rfl) rfl
theorem q1674 : (Jvm.Cond.privateMethod ({ cls := "HeldTongueModel", name := "laysSpans", desc := "(J)V" } : Jvm.MethodName)) ∈ lw_tbl := lw_at lw_m7 110 rfl
theorem q1675 : (Jvm.Cond.instanceMethod ({ cls := "HeldTongueModel", name := "laysSpans", desc := "(J)V" } : Jvm.MethodName)) ∈ lw_all := lw_g (lw_at lw_m7 111 rfl) rfl
theorem q1676 : (Jvm.Cond.code ({ cls := "HeldTongueModel", name := "laysSpans", desc := "(J)V" } : Jvm.MethodName) prog_23_method_51_code (10 : Nat) (Option.none : Option Jvm.ClassFile.FieldType)) ∈ lw_all := lw_g (lw_at lw_m7 112 rfl) rfl
theorem q1677 : (Jvm.Cond.methodLink "HeldTongueModel" (409 : Nat) ({ cls := "HeldTongueModel", name := "senses", desc := "()I" } : Jvm.MethodName)) ∈ lw_all := lw_g (lw_at lw_m7 113 rfl) rfl
theorem q1678 : (Jvm.Cond.privateMethod ({ cls := "HeldTongueModel", name := "senses", desc := "()I" } : Jvm.MethodName)) ∈ lw_tbl := lw_at lw_m7 114 rfl
theorem q1679 : (Jvm.Cond.instanceMethod ({ cls := "HeldTongueModel", name := "senses", desc := "()I" } : Jvm.MethodName)) ∈ lw_all := lw_g (lw_at lw_m7 115 rfl) rfl
theorem q1680 : (Jvm.Cond.code ({ cls := "HeldTongueModel", name := "senses", desc := "()I" } : Jvm.MethodName) prog_23_method_40_code (1 : Nat) (Option.some Jvm.ClassFile.FieldType.int)) ∈ lw_all := lw_g (lw_at lw_m7 116 rfl) rfl
theorem q1681 : (Jvm.Cond.methodLink "HeldTongueModel" (412 : Nat) ({ cls := "HeldTongueModel", name := "at24", desc := "(I)I" } : Jvm.MethodName)) ∈ lw_all := lw_g (lw_at lw_m7 117 rfl) rfl
theorem q1682 : (Jvm.Cond.privateMethod ({ cls := "HeldTongueModel", name := "at24", desc := "(I)I" } : Jvm.MethodName)) ∈ lw_tbl := lw_at lw_m7 118 rfl
theorem q1683 : (Jvm.Cond.instanceMethod ({ cls := "HeldTongueModel", name := "at24", desc := "(I)I" } : Jvm.MethodName)) ∈ lw_all := lw_g (lw_at lw_m7 119 rfl) rfl
theorem q1684 : (Jvm.Cond.code ({ cls := "HeldTongueModel", name := "at24", desc := "(I)I" } : Jvm.MethodName) prog_23_method_41_code (2 : Nat) (Option.some Jvm.ClassFile.FieldType.int)) ∈ lw_all := lw_g (lw_at lw_m7 120 rfl) rfl
theorem q1685 : (Jvm.Cond.methodLink "HeldTongueModel" (415 : Nat) ({ cls := "HeldTongueModel", name := "waysBy", desc := "(III)J" } : Jvm.MethodName)) ∈ lw_all := lw_g (lw_at lw_m7 121 rfl) rfl
theorem q1686 : (Jvm.Cond.privateMethod ({ cls := "HeldTongueModel", name := "waysBy", desc := "(III)J" } : Jvm.MethodName)) ∈ lw_tbl := lw_at lw_m7 122 rfl
theorem q1687 : (Jvm.Cond.instanceMethod ({ cls := "HeldTongueModel", name := "waysBy", desc := "(III)J" } : Jvm.MethodName)) ∈ lw_all := lw_g (lw_at lw_m7 123 rfl) rfl
theorem q1688 : (Jvm.Cond.code ({ cls := "HeldTongueModel", name := "waysBy", desc := "(III)J" } : Jvm.MethodName) prog_23_method_49_code (10 : Nat) (Option.some Jvm.ClassFile.FieldType.long)) ∈ lw_all := lw_g (lw_at lw_m7 124 rfl) rfl
theorem q1689 : (Jvm.Cond.methodLink "HeldTongueModel" (394 : Nat) ({ cls := "HeldTongueModel", name := "oneOf", desc := "(III)J" } : Jvm.MethodName)) ∈ lw_all := lw_g (lw_at lw_m7 125 rfl) rfl
theorem q1690 : (Jvm.Cond.privateMethod ({ cls := "HeldTongueModel", name := "oneOf", desc := "(III)J" } : Jvm.MethodName)) ∈ lw_tbl := lw_at lw_m7 126 rfl
theorem q1691 : (Jvm.Cond.instanceMethod ({ cls := "HeldTongueModel", name := "oneOf", desc := "(III)J" } : Jvm.MethodName)) ∈ lw_all := lw_g (lw_at lw_m7 127 rfl) rfl
theorem q1692 : (Jvm.Cond.code ({ cls := "HeldTongueModel", name := "oneOf", desc := "(III)J" } : Jvm.MethodName) prog_23_method_47_code (4 : Nat) (Option.some Jvm.ClassFile.FieldType.long)) ∈ lw_all := lw_g (lw_at lw_m7 128 rfl) rfl
theorem q1693 : (Jvm.Cond.methodLink "HeldTongueModel" (398 : Nat) ({ cls := "HeldTongueModel", name := "manyOf", desc := "(IIII)J" } : Jvm.MethodName)) ∈ lw_all := lw_g (lw_at lw_m7 129 rfl) rfl
theorem q1694 : (Jvm.Cond.privateMethod ({ cls := "HeldTongueModel", name := "manyOf", desc := "(IIII)J" } : Jvm.MethodName)) ∈ lw_tbl := lw_at lw_m7 130 rfl
theorem q1695 : (Jvm.Cond.instanceMethod ({ cls := "HeldTongueModel", name := "manyOf", desc := "(IIII)J" } : Jvm.MethodName)) ∈ lw_all := lw_g (lw_at lw_m7 131 rfl) rfl
theorem q1696 : (Jvm.Cond.code ({ cls := "HeldTongueModel", name := "manyOf", desc := "(IIII)J" } : Jvm.MethodName) prog_23_method_48_code (5 : Nat) (Option.some Jvm.ClassFile.FieldType.long)) ∈ lw_all := lw_g (lw_at lw_m7 132 rfl) rfl
theorem q1697 : (Jvm.Cond.methodLink "HeldTongueModel" (402 : Nat) ({ cls := "HeldTongueModel", name := "plus", desc := "(JJ)J" } : Jvm.MethodName)) ∈ lw_all := lw_g (lw_at lw_m7 133 rfl) rfl
theorem q1698 : (Jvm.Cond.privateMethod ({ cls := "HeldTongueModel", name := "plus", desc := "(JJ)J" } : Jvm.MethodName)) ∈ lw_tbl := lw_at lw_m7 134 rfl
theorem q1699 : (Jvm.Cond.instanceMethod ({ cls := "HeldTongueModel", name := "plus", desc := "(JJ)J" } : Jvm.MethodName)) ∈ lw_all := lw_g (lw_at lw_m7 135 rfl) rfl
theorem q1700 : (Jvm.Cond.code ({ cls := "HeldTongueModel", name := "plus", desc := "(JJ)J" } : Jvm.MethodName) prog_23_method_45_code (7 : Nat) (Option.some Jvm.ClassFile.FieldType.long)) ∈ lw_all := lw_g (lw_at lw_m7 136 rfl) rfl
theorem q1701 : (Jvm.Cond.constantLong "HeldTongueModel" (392 : Nat) (3000000000 : Int64)) ∈ lw_all := lw_g (lw_at lw_m7 137 rfl) rfl
theorem q1702 : (Jvm.Cond.methodLink "HeldTongueModel" (406 : Nat) ({ cls := "HeldTongueModel", name := "times", desc := "(JJ)J" } : Jvm.MethodName)) ∈ lw_all := lw_g (lw_at lw_m7 138 rfl) rfl
theorem q1703 : (Jvm.Cond.privateMethod ({ cls := "HeldTongueModel", name := "times", desc := "(JJ)J" } : Jvm.MethodName)) ∈ lw_tbl := lw_at lw_m7 139 rfl
theorem q1704 : (Jvm.Cond.instanceMethod ({ cls := "HeldTongueModel", name := "times", desc := "(JJ)J" } : Jvm.MethodName)) ∈ lw_all := lw_g (lw_at lw_m7 140 rfl) rfl
theorem q1705 : (Jvm.Cond.code ({ cls := "HeldTongueModel", name := "times", desc := "(JJ)J" } : Jvm.MethodName) prog_23_method_46_code (7 : Nat) (Option.some Jvm.ClassFile.FieldType.long)) ∈ lw_all := lw_g (lw_at lw_m7 141 rfl) rfl
theorem q1706 : (Jvm.Cond.methodLink "HeldTongueModel" (418 : Nat) ({ cls := "HeldTongueModel", name := "laysMany", desc := "(II)V" } : Jvm.MethodName)) ∈ lw_all := lw_g (lw_at lw_m7 142 rfl) rfl
theorem q1707 : (Jvm.Cond.privateMethod ({ cls := "HeldTongueModel", name := "laysMany", desc := "(II)V" } : Jvm.MethodName)) ∈ lw_tbl := lw_at lw_m7 143 rfl
theorem q1708 : (Jvm.Cond.instanceMethod ({ cls := "HeldTongueModel", name := "laysMany", desc := "(II)V" } : Jvm.MethodName)) ∈ lw_all := lw_g (lw_at lw_m7 144 rfl) rfl
theorem q1709 : (Jvm.Cond.code ({ cls := "HeldTongueModel", name := "laysMany", desc := "(II)V" } : Jvm.MethodName) prog_23_method_50_code (9 : Nat) (Option.none : Option Jvm.ClassFile.FieldType)) ∈ lw_all := lw_g (lw_at lw_m7 145 rfl) rfl
theorem q1710 : (Jvm.Cond.methodLink "HeldTongueModel" (444 : Nat) ({ cls := "HeldTongueModel", name := "readings", desc := "()J" } : Jvm.MethodName)) ∈ lw_all := lw_g (lw_at lw_m7 146 rfl) rfl
theorem q1711 : (Jvm.Cond.privateMethod ({ cls := "HeldTongueModel", name := "readings", desc := "()J" } : Jvm.MethodName)) ∈ lw_tbl := lw_at lw_m7 147 rfl
theorem q1712 : (Jvm.Cond.instanceMethod ({ cls := "HeldTongueModel", name := "readings", desc := "()J" } : Jvm.MethodName)) ∈ lw_all := lw_g (lw_at lw_m7 148 rfl) rfl
theorem q1713 : (Jvm.Cond.code ({ cls := "HeldTongueModel", name := "readings", desc := "()J" } : Jvm.MethodName) prog_23_method_52_code (1 : Nat) (Option.some Jvm.ClassFile.FieldType.long)) ∈ lw_all := lw_g (lw_at lw_m7 149 rfl) rfl
theorem q1714 : (Jvm.Cond.methodLink "HeldTongueModel" (448 : Nat) ({ cls := "HeldTongueModel", name := "inverse", desc := "(JJ)J" } : Jvm.MethodName)) ∈ lw_all := lw_g (lw_at lw_m7 150 rfl) rfl
theorem q1715 : (Jvm.Cond.static ({ cls := "HeldTongueModel", name := "inverse", desc := "(JJ)J" } : Jvm.MethodName)) ∈ lw_all := lw_g (lw_at lw_m7 151 rfl) rfl
theorem q1716 : (Jvm.Cond.code ({ cls := "HeldTongueModel", name := "inverse", desc := "(JJ)J" } : Jvm.MethodName) prog_23_method_53_code (10 : Nat) (Option.some Jvm.ClassFile.FieldType.long)) ∈ lw_all := lw_g (lw_at lw_m7 152 rfl) rfl
theorem q1717 : (Jvm.Cond.constantLong "HeldTongueModel" (421 : Nat) (2 : Int64)) ∈ lw_all := lw_g (lw_at lw_m7 153 rfl) rfl
theorem q1718 : (Jvm.Cond.methodLink "HeldTongueModel" (451 : Nat) ({ cls := "HeldTongueModel", name := "timesPlus", desc := "(JJ)V" } : Jvm.MethodName)) ∈ lw_all := lw_g (lw_at lw_m7 154 rfl) rfl
theorem q1719 : (Jvm.Cond.privateMethod ({ cls := "HeldTongueModel", name := "timesPlus", desc := "(JJ)V" } : Jvm.MethodName)) ∈ lw_tbl := lw_at lw_m7 155 rfl
theorem q1720 : (Jvm.Cond.instanceMethod ({ cls := "HeldTongueModel", name := "timesPlus", desc := "(JJ)V" } : Jvm.MethodName)) ∈ lw_all := lw_g (lw_at lw_m7 156 rfl) rfl
theorem q1721 : (Jvm.Cond.code ({ cls := "HeldTongueModel", name := "timesPlus", desc := "(JJ)V" } : Jvm.MethodName) prog_23_method_55_code (10 : Nat) (Option.none : Option Jvm.ClassFile.FieldType)) ∈ lw_all := lw_g (lw_at lw_m7 157 rfl) rfl
theorem q1722 : (Jvm.Cond.constantLong "HeldTongueModel" (435 : Nat) (1000000000 : Int64)) ∈ lw_all := lw_g (lw_at lw_m7 158 rfl) rfl
theorem q1724 : (Jvm.Cond.instanceMethod ({ cls := "HeldTongueModel", name := "sense", desc := "(II)I" } : Jvm.MethodName)) ∈ lw_all := lw_g (lw_at lw_m7 160 rfl) rfl
theorem q1725 : (Jvm.Cond.selects "HeldTongueModel" ({ cls := "HeldTongueModel", name := "sense", desc := "(II)I" } : Jvm.MethodName) ({ cls := "HeldTongueModel", name := "sense", desc := "(II)I" } : Jvm.MethodName)) ∈ lw_all := lw_g (lw_at lw_m7 161 rfl) rfl
theorem q1726 : (Jvm.Cond.code ({ cls := "HeldTongueModel", name := "sense", desc := "(II)I" } : Jvm.MethodName) prog_23_method_63_code (3 : Nat) (Option.some Jvm.ClassFile.FieldType.int)) ∈ lw_all := lw_g (lw_at lw_m7 162 rfl) rfl
theorem q1727 : (Jvm.Cond.methodLink "HeldTongueModel" (471 : Nat) ({ cls := "HeldTongueModel", name := "reads", desc := "(I)Z" } : Jvm.MethodName)) ∈ lw_all := lw_g (lw_at lw_m7 163 rfl) rfl
theorem q1728 : (Jvm.Cond.privateMethod ({ cls := "HeldTongueModel", name := "reads", desc := "(I)Z" } : Jvm.MethodName)) ∈ lw_tbl := lw_at lw_m7 164 rfl
theorem q1729 : (Jvm.Cond.instanceMethod ({ cls := "HeldTongueModel", name := "reads", desc := "(I)Z" } : Jvm.MethodName)) ∈ lw_all := lw_g (lw_at lw_m7 165 rfl) rfl
theorem q1730 : (Jvm.Cond.code ({ cls := "HeldTongueModel", name := "reads", desc := "(I)Z" } : Jvm.MethodName) prog_23_method_61_code (2 : Nat) (Option.some Jvm.ClassFile.FieldType.boolean)) ∈ lw_all := lw_g (lw_at lw_m7 166 rfl) rfl
theorem q1731 : (Jvm.Cond.methodLink "HeldTongueModel" (455 : Nat) ({ cls := "HeldTongueModel", name := "finds", desc := "(I)Z" } : Jvm.MethodName)) ∈ lw_all := lw_g (lw_at lw_m7 167 rfl) rfl
theorem q1732 : (Jvm.Cond.privateMethod ({ cls := "HeldTongueModel", name := "finds", desc := "(I)Z" } : Jvm.MethodName)) ∈ lw_tbl := lw_at lw_m7 168 rfl
theorem q1733 : (Jvm.Cond.instanceMethod ({ cls := "HeldTongueModel", name := "finds", desc := "(I)Z" } : Jvm.MethodName)) ∈ lw_all := lw_g (lw_at lw_m7 169 rfl) rfl
theorem q1734 : (Jvm.Cond.code ({ cls := "HeldTongueModel", name := "finds", desc := "(I)Z" } : Jvm.MethodName) prog_23_method_62_code (15 : Nat) (Option.some Jvm.ClassFile.FieldType.boolean)) ∈ lw_all := lw_g (lw_at lw_m7 170 rfl) rfl
theorem q1735 : (Jvm.Cond.methodLink "HeldTongueModel" (458 : Nat) ({ cls := "HeldTongueModel", name := "upTo", desc := "(I)I" } : Jvm.MethodName)) ∈ lw_all := lw_g (lw_at lw_m7 171 rfl) rfl
theorem q1736 : (Jvm.Cond.static ({ cls := "HeldTongueModel", name := "upTo", desc := "(I)I" } : Jvm.MethodName)) ∈ lw_all := lw_g (lw_at lw_m7 172 rfl) rfl
theorem q1737 : (Jvm.Cond.code ({ cls := "HeldTongueModel", name := "upTo", desc := "(I)I" } : Jvm.MethodName) prog_23_method_57_code (1 : Nat) (Option.some Jvm.ClassFile.FieldType.int)) ∈ lw_all := lw_g (lw_at lw_m7 173 rfl) rfl
theorem q1738 : (Jvm.Cond.methodLink "HeldTongueModel" (461 : Nat) ({ cls := "HeldTongueModel", name := "takes", desc := "(II)I" } : Jvm.MethodName)) ∈ lw_all := lw_g (lw_at lw_m7 174 rfl) rfl
theorem q1739 : (Jvm.Cond.static ({ cls := "HeldTongueModel", name := "takes", desc := "(II)I" } : Jvm.MethodName)) ∈ lw_all := lw_g (lw_at lw_m7 175 rfl) rfl
theorem q1740 : (Jvm.Cond.code ({ cls := "HeldTongueModel", name := "takes", desc := "(II)I" } : Jvm.MethodName) prog_23_method_58_code (2 : Nat) (Option.some Jvm.ClassFile.FieldType.int)) ∈ lw_all := lw_g (lw_at lw_m7 176 rfl) rfl
theorem q1741 : (Jvm.Cond.methodLink "HeldTongueModel" (464 : Nat) ({ cls := "HeldTongueModel", name := "takenKind", desc := "(III)I" } : Jvm.MethodName)) ∈ lw_all := lw_g (lw_at lw_m7 177 rfl) rfl
theorem q1742 : (Jvm.Cond.privateMethod ({ cls := "HeldTongueModel", name := "takenKind", desc := "(III)I" } : Jvm.MethodName)) ∈ lw_tbl := lw_at lw_m7 178 rfl
theorem q1743 : (Jvm.Cond.instanceMethod ({ cls := "HeldTongueModel", name := "takenKind", desc := "(III)I" } : Jvm.MethodName)) ∈ lw_all := lw_g (lw_at lw_m7 179 rfl) rfl
theorem q1744 : (Jvm.Cond.code ({ cls := "HeldTongueModel", name := "takenKind", desc := "(III)I" } : Jvm.MethodName) prog_23_method_59_code (6 : Nat) (Option.some Jvm.ClassFile.FieldType.int)) ∈ lw_all := lw_g (lw_at lw_m7 180 rfl) rfl
theorem q1745 : (Jvm.Cond.methodLink "HeldTongueModel" (468 : Nat) ({ cls := "HeldTongueModel", name := "laysMade", desc := "(I)V" } : Jvm.MethodName)) ∈ lw_all := lw_g (lw_at lw_m7 181 rfl) rfl
theorem q1746 : (Jvm.Cond.privateMethod ({ cls := "HeldTongueModel", name := "laysMade", desc := "(I)V" } : Jvm.MethodName)) ∈ lw_tbl := lw_at lw_m7 182 rfl
theorem q1747 : (Jvm.Cond.instanceMethod ({ cls := "HeldTongueModel", name := "laysMade", desc := "(I)V" } : Jvm.MethodName)) ∈ lw_all := lw_g (lw_at lw_m7 183 rfl) rfl
theorem q1748 : (Jvm.Cond.code ({ cls := "HeldTongueModel", name := "laysMade", desc := "(I)V" } : Jvm.MethodName) prog_23_method_60_code (6 : Nat) (Option.none : Option Jvm.ClassFile.FieldType)) ∈ lw_all := lw_g (lw_at lw_m7 184 rfl) rfl
theorem q1750 : (Jvm.Cond.instanceMethod ({ cls := "HeldTongueModel", name := "taken", desc := "(II)I" } : Jvm.MethodName)) ∈ lw_all := lw_g (lw_at lw_m7 186 rfl) rfl
theorem q1751 : (Jvm.Cond.selects "HeldTongueModel" ({ cls := "HeldTongueModel", name := "taken", desc := "(II)I" } : Jvm.MethodName) ({ cls := "HeldTongueModel", name := "taken", desc := "(II)I" } : Jvm.MethodName)) ∈ lw_all := lw_g (lw_at lw_m7 187 rfl) rfl
theorem q1752 : (Jvm.Cond.code ({ cls := "HeldTongueModel", name := "taken", desc := "(II)I" } : Jvm.MethodName) prog_23_method_64_code (3 : Nat) (Option.some Jvm.ClassFile.FieldType.int)) ∈ lw_all := lw_g (lw_at lw_m7 188 rfl) rfl
theorem q1754 : (Jvm.Cond.instanceMethod ({ cls := "HeldTongueModel", name := "span", desc := "(II)I" } : Jvm.MethodName)) ∈ lw_all := lw_g (lw_at lw_m7 190 rfl) rfl
theorem q1755 : (Jvm.Cond.selects "HeldTongueModel" ({ cls := "HeldTongueModel", name := "span", desc := "(II)I" } : Jvm.MethodName) ({ cls := "HeldTongueModel", name := "span", desc := "(II)I" } : Jvm.MethodName)) ∈ lw_all := lw_g (lw_at lw_m7 191 rfl) rfl
theorem q1756 : (Jvm.Cond.code ({ cls := "HeldTongueModel", name := "span", desc := "(II)I" } : Jvm.MethodName) prog_23_method_65_code (5 : Nat) (Option.some Jvm.ClassFile.FieldType.int)) ∈ lw_all := lw_g (lw_at lw_m7 192 rfl) rfl
theorem q1758 : (Jvm.Cond.instanceMethod ({ cls := "HeldTongueModel", name := "open", desc := "()I" } : Jvm.MethodName)) ∈ lw_all := lw_g (lw_at lw_m7 194 rfl) rfl
theorem q1759 : (Jvm.Cond.selects "HeldTongueModel" ({ cls := "HeldTongueModel", name := "open", desc := "()I" } : Jvm.MethodName) ({ cls := "HeldTongueModel", name := "open", desc := "()I" } : Jvm.MethodName)) ∈ lw_all := lw_g (lw_at lw_m7 195 rfl) rfl
theorem q1760 : (Jvm.Cond.code ({ cls := "HeldTongueModel", name := "open", desc := "()I" } : Jvm.MethodName) prog_23_method_66_code (4 : Nat) (Option.some Jvm.ClassFile.FieldType.int)) ∈ lw_all := lw_g (lw_at lw_m7 196 rfl) rfl
theorem q1762 : (Jvm.Cond.instanceMethod ({ cls := "HeldTongueModel", name := "most", desc := "(I)I" } : Jvm.MethodName)) ∈ lw_all := lw_g (lw_at lw_m7 198 rfl) rfl
theorem q1763 : (Jvm.Cond.selects "HeldTongueModel" ({ cls := "HeldTongueModel", name := "most", desc := "(I)I" } : Jvm.MethodName) ({ cls := "HeldTongueModel", name := "most", desc := "(I)I" } : Jvm.MethodName)) ∈ lw_all := lw_g (lw_at lw_m7 199 rfl) rfl
theorem q1764 : (Jvm.Cond.code ({ cls := "HeldTongueModel", name := "most", desc := "(I)I" } : Jvm.MethodName) prog_23_method_79_code (3 : Nat) (Option.some Jvm.ClassFile.FieldType.int)) ∈ lw_all := lw_g (lw_at lw_m7 200 rfl) rfl
theorem q1765 : (Jvm.Cond.methodLink "HeldTongueModel" (516 : Nat) ({ cls := "HeldTongueModel", name := "easeOfAll", desc := "()I" } : Jvm.MethodName)) ∈ lw_all := lw_g (lw_at lw_m7 201 rfl) rfl
theorem q1766 : (Jvm.Cond.privateMethod ({ cls := "HeldTongueModel", name := "easeOfAll", desc := "()I" } : Jvm.MethodName)) ∈ lw_tbl := lw_at lw_m7 202 rfl
theorem q1767 : (Jvm.Cond.instanceMethod ({ cls := "HeldTongueModel", name := "easeOfAll", desc := "()I" } : Jvm.MethodName)) ∈ lw_all := lw_g (lw_at lw_m7 203 rfl) rfl
theorem q1768 : (Jvm.Cond.code ({ cls := "HeldTongueModel", name := "easeOfAll", desc := "()I" } : Jvm.MethodName) prog_23_method_71_code (8 : Nat) (Option.some Jvm.ClassFile.FieldType.int)) ∈ lw_all := lw_g (lw_at lw_m7 204 rfl) rfl
theorem q1769 : (Jvm.Cond.methodLink "HeldTongueModel" (480 : Nat) ({ cls := "HeldTongueModel", name := "easeBy", desc := "(III)I" } : Jvm.MethodName)) ∈ lw_all := lw_g (lw_at lw_m7 205 rfl) rfl
theorem q1770 : (Jvm.Cond.privateMethod ({ cls := "HeldTongueModel", name := "easeBy", desc := "(III)I" } : Jvm.MethodName)) ∈ lw_tbl := lw_at lw_m7 206 rfl
theorem q1771 : (Jvm.Cond.instanceMethod ({ cls := "HeldTongueModel", name := "easeBy", desc := "(III)I" } : Jvm.MethodName)) ∈ lw_all := lw_g (lw_at lw_m7 207 rfl) rfl
theorem q1772 : (Jvm.Cond.code ({ cls := "HeldTongueModel", name := "easeBy", desc := "(III)I" } : Jvm.MethodName) prog_23_method_69_code (9 : Nat) (Option.some Jvm.ClassFile.FieldType.int)) ∈ lw_all := lw_g (lw_at lw_m7 208 rfl) rfl
theorem q1773 : (Jvm.Cond.methodLink "HeldTongueModel" (474 : Nat) ({ cls := "HeldTongueModel", name := "lesser", desc := "(II)I" } : Jvm.MethodName)) ∈ lw_all := lw_g (lw_at lw_m7 209 rfl) rfl
theorem q1774 : (Jvm.Cond.static ({ cls := "HeldTongueModel", name := "lesser", desc := "(II)I" } : Jvm.MethodName)) ∈ lw_all := lw_g (lw_at lw_m7 210 rfl) rfl
theorem q1775 : (Jvm.Cond.code ({ cls := "HeldTongueModel", name := "lesser", desc := "(II)I" } : Jvm.MethodName) prog_23_method_68_code (2 : Nat) (Option.some Jvm.ClassFile.FieldType.int)) ∈ lw_all := lw_g (lw_at lw_m7 211 rfl) rfl
theorem q1776 : (Jvm.Cond.methodLink "HeldTongueModel" (477 : Nat) ({ cls := "HeldTongueModel", name := "greater", desc := "(II)I" } : Jvm.MethodName)) ∈ lw_all := lw_g (lw_at lw_m7 212 rfl) rfl
theorem q1777 : (Jvm.Cond.static ({ cls := "HeldTongueModel", name := "greater", desc := "(II)I" } : Jvm.MethodName)) ∈ lw_all := lw_g (lw_at lw_m7 213 rfl) rfl
theorem q1778 : (Jvm.Cond.code ({ cls := "HeldTongueModel", name := "greater", desc := "(II)I" } : Jvm.MethodName) prog_23_method_67_code (2 : Nat) (Option.some Jvm.ClassFile.FieldType.int)) ∈ lw_all := lw_g (lw_at lw_m7 214 rfl) rfl
theorem q1779 : (Jvm.Cond.methodLink "HeldTongueModel" (483 : Nat) ({ cls := "HeldTongueModel", name := "laysEases", desc := "(II)V" } : Jvm.MethodName)) ∈ lw_all := lw_g (lw_at lw_m7 215 rfl) rfl
theorem q1780 : (Jvm.Cond.privateMethod ({ cls := "HeldTongueModel", name := "laysEases", desc := "(II)V" } : Jvm.MethodName)) ∈ lw_tbl := lw_at lw_m7 216 rfl
theorem q1781 : (Jvm.Cond.instanceMethod ({ cls := "HeldTongueModel", name := "laysEases", desc := "(II)V" } : Jvm.MethodName)) ∈ lw_all := lw_g (lw_at lw_m7 217 rfl) rfl
theorem q1782 : (Jvm.Cond.code ({ cls := "HeldTongueModel", name := "laysEases", desc := "(II)V" } : Jvm.MethodName) prog_23_method_70_code (8 : Nat) (Option.none : Option Jvm.ClassFile.FieldType)) ∈ lw_all := lw_g (lw_at lw_m7 218 rfl) rfl
theorem q1783 : (Jvm.Cond.methodLink "HeldTongueModel" (519 : Nat) ({ cls := "HeldTongueModel", name := "forgets", desc := "()V" } : Jvm.MethodName)) ∈ lw_all := lw_g (lw_at lw_m7 219 rfl) rfl
theorem q1784 : (Jvm.Cond.privateMethod ({ cls := "HeldTongueModel", name := "forgets", desc := "()V" } : Jvm.MethodName)) ∈ lw_tbl := lw_at lw_m7 220 rfl
theorem q1785 : (Jvm.Cond.instanceMethod ({ cls := "HeldTongueModel", name := "forgets", desc := "()V" } : Jvm.MethodName)) ∈ lw_all := lw_g (lw_at lw_m7 221 rfl) rfl
theorem q1786 : (Jvm.Cond.code ({ cls := "HeldTongueModel", name := "forgets", desc := "()V" } : Jvm.MethodName) prog_23_method_73_code (1 : Nat) (Option.none : Option Jvm.ClassFile.FieldType)) ∈ lw_all := lw_g (lw_at lw_m7 222 rfl) rfl
theorem q1787 : (Jvm.Cond.methodLink "HeldTongueModel" (522 : Nat) ({ cls := "HeldTongueModel", name := "means", desc := "()I" } : Jvm.MethodName)) ∈ lw_all := lw_g (lw_at lw_m7 223 rfl) rfl
theorem q1788 : (Jvm.Cond.privateMethod ({ cls := "HeldTongueModel", name := "means", desc := "()I" } : Jvm.MethodName)) ∈ lw_tbl := lw_at lw_m7 224 rfl
theorem q1789 : (Jvm.Cond.instanceMethod ({ cls := "HeldTongueModel", name := "means", desc := "()I" } : Jvm.MethodName)) ∈ lw_all := lw_g (lw_at lw_m7 225 rfl) rfl
theorem q1790 : (Jvm.Cond.code ({ cls := "HeldTongueModel", name := "means", desc := "()I" } : Jvm.MethodName) prog_23_method_78_code (2 : Nat) (Option.some Jvm.ClassFile.FieldType.int)) ∈ lw_all := lw_g (lw_at lw_m7 226 rfl) rfl
theorem q1791 : (Jvm.Cond.methodLink "HeldTongueModel" (513 : Nat) ({ cls := "HeldTongueModel", name := "says", desc := "(I)V" } : Jvm.MethodName)) ∈ lw_all := lw_g (lw_at lw_m7 227 rfl) rfl
theorem q1792 : (Jvm.Cond.privateMethod ({ cls := "HeldTongueModel", name := "says", desc := "(I)V" } : Jvm.MethodName)) ∈ lw_tbl := lw_at lw_m7 228 rfl
theorem q1793 : (Jvm.Cond.instanceMethod ({ cls := "HeldTongueModel", name := "says", desc := "(I)V" } : Jvm.MethodName)) ∈ lw_all := lw_g (lw_at lw_m7 229 rfl) rfl
theorem q1794 : (Jvm.Cond.code ({ cls := "HeldTongueModel", name := "says", desc := "(I)V" } : Jvm.MethodName) prog_23_method_77_code (5 : Nat) (Option.none : Option Jvm.ClassFile.FieldType)) ∈ lw_all := lw_g (lw_at lw_m7 230 rfl) rfl
theorem q1795 : (Jvm.Cond.methodLink "HeldTongueModel" (504 : Nat) ({ cls := "HeldTongueModel", name := "meansBy", desc := "(II)I" } : Jvm.MethodName)) ∈ lw_all := lw_g (lw_at lw_m7 231 rfl) rfl
theorem q1796 : (Jvm.Cond.privateMethod ({ cls := "HeldTongueModel", name := "meansBy", desc := "(II)I" } : Jvm.MethodName)) ∈ lw_tbl := lw_at lw_m7 232 rfl
theorem q1797 : (Jvm.Cond.instanceMethod ({ cls := "HeldTongueModel", name := "meansBy", desc := "(II)I" } : Jvm.MethodName)) ∈ lw_all := lw_g (lw_at lw_m7 233 rfl) rfl
theorem q1798 : (Jvm.Cond.code ({ cls := "HeldTongueModel", name := "meansBy", desc := "(II)I" } : Jvm.MethodName) prog_23_method_74_code (8 : Nat) (Option.some Jvm.ClassFile.FieldType.int)) ∈ lw_all := lw_g (lw_at lw_m7 234 rfl) rfl
theorem q1799 : (Jvm.Cond.methodLink "HeldTongueModel" (495 : Nat) ({ cls := "HeldTongueModel", name := "meaning", desc := "(III)I" } : Jvm.MethodName)) ∈ lw_all := lw_g (lw_at lw_m7 235 rfl) rfl
theorem q1800 : (Jvm.Cond.privateMethod ({ cls := "HeldTongueModel", name := "meaning", desc := "(III)I" } : Jvm.MethodName)) ∈ lw_tbl := lw_at lw_m7 236 rfl
theorem q1801 : (Jvm.Cond.instanceMethod ({ cls := "HeldTongueModel", name := "meaning", desc := "(III)I" } : Jvm.MethodName)) ∈ lw_all := lw_g (lw_at lw_m7 237 rfl) rfl
theorem q1802 : (Jvm.Cond.code ({ cls := "HeldTongueModel", name := "meaning", desc := "(III)I" } : Jvm.MethodName) prog_23_method_72_code (7 : Nat) (Option.some Jvm.ClassFile.FieldType.int)) ∈ lw_all := lw_g (lw_at lw_m7 238 rfl) rfl
theorem q1803 : (Jvm.Cond.methodLink "HeldTongueModel" (507 : Nat) ({ cls := "HeldTongueModel", name := "weighs", desc := "(II)I" } : Jvm.MethodName)) ∈ lw_all := lw_g (lw_at lw_m7 239 rfl) rfl
theorem q1804 : (Jvm.Cond.privateMethod ({ cls := "HeldTongueModel", name := "weighs", desc := "(II)I" } : Jvm.MethodName)) ∈ lw_tbl := lw_at lw_m8 0 rfl
theorem q1805 : (Jvm.Cond.instanceMethod ({ cls := "HeldTongueModel", name := "weighs", desc := "(II)I" } : Jvm.MethodName)) ∈ lw_all := lw_g (lw_at lw_m8 1 rfl) rfl
theorem q1806 : (Jvm.Cond.code ({ cls := "HeldTongueModel", name := "weighs", desc := "(II)I" } : Jvm.MethodName) prog_23_method_75_code (10 : Nat) (Option.some Jvm.ClassFile.FieldType.int)) ∈ lw_all := lw_g (lw_at lw_m8 2 rfl) rfl
theorem q1807 : (Jvm.Cond.methodLink "HeldTongueModel" (498 : Nat) ({ cls := "HeldTongueModel", name := "saysOf", desc := "(I)J" } : Jvm.MethodName)) ∈ lw_all := lw_g (lw_at lw_m8 3 rfl) rfl
theorem q1808 : (Jvm.Cond.privateMethod ({ cls := "HeldTongueModel", name := "saysOf", desc := "(I)J" } : Jvm.MethodName)) ∈ lw_tbl := lw_at lw_m8 4 rfl
theorem q1809 : (Jvm.Cond.instanceMethod ({ cls := "HeldTongueModel", name := "saysOf", desc := "(I)J" } : Jvm.MethodName)) ∈ lw_all := lw_g (lw_at lw_m8 5 rfl) rfl
theorem q1810 : (Jvm.Cond.code ({ cls := "HeldTongueModel", name := "saysOf", desc := "(I)J" } : Jvm.MethodName) prog_23_method_38_code (5 : Nat) (Option.some Jvm.ClassFile.FieldType.long)) ∈ lw_all := lw_g (lw_at lw_m8 6 rfl) rfl
theorem q1811 : (Jvm.Cond.methodLink "HeldTongueModel" (384 : Nat) ({ cls := "HeldTongueModel", name := "worked", desc := "(IJJ)J" } : Jvm.MethodName)) ∈ lw_all := lw_g (lw_at lw_m8 7 rfl) rfl
theorem q1812 : (Jvm.Cond.static ({ cls := "HeldTongueModel", name := "worked", desc := "(IJJ)J" } : Jvm.MethodName)) ∈ lw_all := lw_g (lw_at lw_m8 8 rfl) rfl
theorem q1813 : (Jvm.Cond.code ({ cls := "HeldTongueModel", name := "worked", desc := "(IJJ)J" } : Jvm.MethodName) prog_23_method_37_code (5 : Nat) (Option.some Jvm.ClassFile.FieldType.long)) ∈ lw_all := lw_g (lw_at lw_m8 9 rfl) rfl
theorem q1814 : (Jvm.Cond.methodLink "HeldTongueModel" (380 : Nat) ({ cls := "HeldTongueModel", name := "bound", desc := "(J)J" } : Jvm.MethodName)) ∈ lw_all := lw_g (lw_at lw_m8 10 rfl) rfl
theorem q1815 : (Jvm.Cond.static ({ cls := "HeldTongueModel", name := "bound", desc := "(J)J" } : Jvm.MethodName)) ∈ lw_all := lw_g (lw_at lw_m8 11 rfl) rfl
theorem q1816 : (Jvm.Cond.code ({ cls := "HeldTongueModel", name := "bound", desc := "(J)J" } : Jvm.MethodName) prog_23_method_36_code (2 : Nat) (Option.some Jvm.ClassFile.FieldType.long)) ∈ lw_all := lw_g (lw_at lw_m8 12 rfl) rfl
theorem q1817 : (Jvm.Cond.constantLong "HeldTongueModel" (376 : Nat) (1000000 : Int64)) ∈ lw_all := lw_g (lw_at lw_m8 13 rfl) rfl
theorem q1818 : (Jvm.Cond.constantLong "HeldTongueModel" (378 : Nat) (-1000000 : Int64)) ∈ lw_all := lw_g (lw_at lw_m8 14 rfl) rfl
theorem q1819 : (Jvm.Cond.constantLong "HeldTongueModel" (502 : Nat) (9999 : Int64)) ∈ lw_all := lw_g (lw_at lw_m8 15 rfl) rfl
theorem q1821 : (Jvm.Cond.instanceMethod ({ cls := "HeldTongueModel", name := "weight", desc := "(II)I" } : Jvm.MethodName)) ∈ lw_all := lw_g (lw_at lw_m8 17 rfl) rfl
theorem q1822 : (Jvm.Cond.selects "HeldTongueModel" ({ cls := "HeldTongueModel", name := "weight", desc := "(II)I" } : Jvm.MethodName) ({ cls := "HeldTongueModel", name := "weight", desc := "(II)I" } : Jvm.MethodName)) ∈ lw_all := lw_g (lw_at lw_m8 18 rfl) rfl
theorem q1823 : (Jvm.Cond.code ({ cls := "HeldTongueModel", name := "weight", desc := "(II)I" } : Jvm.MethodName) prog_23_method_80_code (4 : Nat) (Option.some Jvm.ClassFile.FieldType.int)) ∈ lw_all := lw_g (lw_at lw_m8 19 rfl) rfl
theorem q1825 : (Jvm.Cond.instanceMethod ({ cls := "HeldTongueModel", name := "same", desc := "(II)Z" } : Jvm.MethodName)) ∈ lw_all := lw_g (lw_at lw_m8 21 rfl) rfl
theorem q1826 : (Jvm.Cond.selects "HeldTongueModel" ({ cls := "HeldTongueModel", name := "same", desc := "(II)Z" } : Jvm.MethodName) ({ cls := "HeldTongueModel", name := "same", desc := "(II)Z" } : Jvm.MethodName)) ∈ lw_all := lw_g (lw_at lw_m8 22 rfl) rfl
theorem q1827 : (Jvm.Cond.code ({ cls := "HeldTongueModel", name := "same", desc := "(II)Z" } : Jvm.MethodName) prog_23_method_81_code (4 : Nat) (Option.some Jvm.ClassFile.FieldType.boolean)) ∈ lw_all := lw_g (lw_at lw_m8 23 rfl) rfl
theorem q1829 : (Jvm.Cond.instanceMethod ({ cls := "HeldTongueModel", name := "kin", desc := "(I)I" } : Jvm.MethodName)) ∈ lw_all := lw_g (lw_at lw_m8 25 rfl) rfl
theorem q1830 : (Jvm.Cond.selects "HeldTongueModel" ({ cls := "HeldTongueModel", name := "kin", desc := "(I)I" } : Jvm.MethodName) ({ cls := "HeldTongueModel", name := "kin", desc := "(I)I" } : Jvm.MethodName)) ∈ lw_all := lw_g (lw_at lw_m8 26 rfl) rfl
theorem q1831 : (Jvm.Cond.code ({ cls := "HeldTongueModel", name := "kin", desc := "(I)I" } : Jvm.MethodName) prog_23_method_82_code (7 : Nat) (Option.some Jvm.ClassFile.FieldType.int)) ∈ lw_all := lw_g (lw_at lw_m8 27 rfl) rfl
theorem q1832 : (Jvm.Cond.constantLong "HeldTongueModel" (525 : Nat) (300 : Int64)) ∈ lw_all := lw_g (lw_at lw_m8 28 rfl) rfl
theorem q1834 : (Jvm.Cond.instanceMethod ({ cls := "HeldTongueModel", name := "meant", desc := "()I" } : Jvm.MethodName)) ∈ lw_all := lw_g (lw_at lw_m8 30 rfl) rfl
theorem q1835 : (Jvm.Cond.selects "HeldTongueModel" ({ cls := "HeldTongueModel", name := "meant", desc := "()I" } : Jvm.MethodName) ({ cls := "HeldTongueModel", name := "meant", desc := "()I" } : Jvm.MethodName)) ∈ lw_all := lw_g (lw_at lw_m8 31 rfl) rfl
theorem q1836 : (Jvm.Cond.code ({ cls := "HeldTongueModel", name := "meant", desc := "()I" } : Jvm.MethodName) prog_23_method_83_code (6 : Nat) (Option.some Jvm.ClassFile.FieldType.int)) ∈ lw_all := lw_g (lw_at lw_m8 32 rfl) rfl
theorem q1838 : (Jvm.Cond.instanceMethod ({ cls := "HeldTongueModel", name := "hear", desc := "(IIII)I" } : Jvm.MethodName)) ∈ lw_all := lw_g (lw_at lw_m8 34 rfl) rfl
theorem q1839 : (Jvm.Cond.selects "HeldTongueModel" ({ cls := "HeldTongueModel", name := "hear", desc := "(IIII)I" } : Jvm.MethodName) ({ cls := "HeldTongueModel", name := "hear", desc := "(IIII)I" } : Jvm.MethodName)) ∈ lw_all := lw_g (lw_at lw_m8 35 rfl) rfl
theorem q1840 : (Jvm.Cond.code ({ cls := "HeldTongueModel", name := "hear", desc := "(IIII)I" } : Jvm.MethodName) prog_23_method_88_code (6 : Nat) (Option.some Jvm.ClassFile.FieldType.int)) ∈ lw_all := lw_g (lw_at lw_m8 36 rfl) rfl
theorem q1841 : (Jvm.Cond.methodLink "HeldTongueModel" (553 : Nat) ({ cls := "HeldTongueModel", name := "hears", desc := "(III)Z" } : Jvm.MethodName)) ∈ lw_all := lw_g (lw_at lw_m8 37 rfl) rfl
theorem q1842 : (Jvm.Cond.privateMethod ({ cls := "HeldTongueModel", name := "hears", desc := "(III)Z" } : Jvm.MethodName)) ∈ lw_tbl := lw_at lw_m8 38 rfl
theorem q1843 : (Jvm.Cond.instanceMethod ({ cls := "HeldTongueModel", name := "hears", desc := "(III)Z" } : Jvm.MethodName)) ∈ lw_all := lw_g (lw_at lw_m8 39 rfl) rfl
theorem q1844 : (Jvm.Cond.code ({ cls := "HeldTongueModel", name := "hears", desc := "(III)Z" } : Jvm.MethodName) prog_23_method_87_code (5 : Nat) (Option.some Jvm.ClassFile.FieldType.boolean)) ∈ lw_all := lw_g (lw_at lw_m8 40 rfl) rfl
theorem q1845 : (Jvm.Cond.methodLink "HeldTongueModel" (544 : Nat) ({ cls := "HeldTongueModel", name := "canTake", desc := "(II)Z" } : Jvm.MethodName)) ∈ lw_all := lw_g (lw_at lw_m8 41 rfl) rfl
theorem q1846 : (Jvm.Cond.privateMethod ({ cls := "HeldTongueModel", name := "canTake", desc := "(II)Z" } : Jvm.MethodName)) ∈ lw_tbl := lw_at lw_m8 42 rfl
theorem q1847 : (Jvm.Cond.instanceMethod ({ cls := "HeldTongueModel", name := "canTake", desc := "(II)Z" } : Jvm.MethodName)) ∈ lw_all := lw_g (lw_at lw_m8 43 rfl) rfl
theorem q1848 : (Jvm.Cond.code ({ cls := "HeldTongueModel", name := "canTake", desc := "(II)Z" } : Jvm.MethodName) prog_23_method_76_code (6 : Nat) (Option.some Jvm.ClassFile.FieldType.boolean)) ∈ lw_all := lw_g (lw_at lw_m8 44 rfl) rfl
theorem q1849 : (Jvm.Cond.methodLink "HeldTongueModel" (547 : Nat) ({ cls := "HeldTongueModel", name := "dropFor", desc := "(II)I" } : Jvm.MethodName)) ∈ lw_all := lw_g (lw_at lw_m8 45 rfl) rfl
theorem q1850 : (Jvm.Cond.privateMethod ({ cls := "HeldTongueModel", name := "dropFor", desc := "(II)I" } : Jvm.MethodName)) ∈ lw_tbl := lw_at lw_m8 46 rfl
theorem q1851 : (Jvm.Cond.instanceMethod ({ cls := "HeldTongueModel", name := "dropFor", desc := "(II)I" } : Jvm.MethodName)) ∈ lw_all := lw_g (lw_at lw_m8 47 rfl) rfl
theorem q1852 : (Jvm.Cond.code ({ cls := "HeldTongueModel", name := "dropFor", desc := "(II)I" } : Jvm.MethodName) prog_23_method_85_code (5 : Nat) (Option.some Jvm.ClassFile.FieldType.int)) ∈ lw_all := lw_g (lw_at lw_m8 48 rfl) rfl
theorem q1853 : (Jvm.Cond.methodLink "HeldTongueModel" (527 : Nat) ({ cls := "HeldTongueModel", name := "isDropped", desc := "(II)Z" } : Jvm.MethodName)) ∈ lw_all := lw_g (lw_at lw_m8 49 rfl) rfl
theorem q1854 : (Jvm.Cond.privateMethod ({ cls := "HeldTongueModel", name := "isDropped", desc := "(II)Z" } : Jvm.MethodName)) ∈ lw_tbl := lw_at lw_m8 50 rfl
theorem q1855 : (Jvm.Cond.instanceMethod ({ cls := "HeldTongueModel", name := "isDropped", desc := "(II)Z" } : Jvm.MethodName)) ∈ lw_all := lw_g (lw_at lw_m8 51 rfl) rfl
theorem q1856 : (Jvm.Cond.code ({ cls := "HeldTongueModel", name := "isDropped", desc := "(II)Z" } : Jvm.MethodName) prog_23_method_84_code (5 : Nat) (Option.some Jvm.ClassFile.FieldType.boolean)) ∈ lw_all := lw_g (lw_at lw_m8 52 rfl) rfl
theorem q1857 : (Jvm.Cond.methodLink "HeldTongueModel" (550 : Nat) ({ cls := "HeldTongueModel", name := "drops", desc := "(I)V" } : Jvm.MethodName)) ∈ lw_all := lw_g (lw_at lw_m8 53 rfl) rfl
theorem q1858 : (Jvm.Cond.privateMethod ({ cls := "HeldTongueModel", name := "drops", desc := "(I)V" } : Jvm.MethodName)) ∈ lw_tbl := lw_at lw_m8 54 rfl
theorem q1859 : (Jvm.Cond.instanceMethod ({ cls := "HeldTongueModel", name := "drops", desc := "(I)V" } : Jvm.MethodName)) ∈ lw_all := lw_g (lw_at lw_m8 55 rfl) rfl
theorem q1860 : (Jvm.Cond.code ({ cls := "HeldTongueModel", name := "drops", desc := "(I)V" } : Jvm.MethodName) prog_23_method_86_code (3 : Nat) (Option.none : Option Jvm.ClassFile.FieldType)) ∈ lw_all := lw_g (lw_at lw_m8 56 rfl) rfl
theorem q1862 : (Jvm.Cond.instanceMethod ({ cls := "HeldTongueModel", name := "enough", desc := "(II)I" } : Jvm.MethodName)) ∈ lw_all := lw_g (lw_at lw_m8 58 rfl) rfl
theorem q1863 : (Jvm.Cond.selects "HeldTongueModel" ({ cls := "HeldTongueModel", name := "enough", desc := "(II)I" } : Jvm.MethodName) ({ cls := "HeldTongueModel", name := "enough", desc := "(II)I" } : Jvm.MethodName)) ∈ lw_all := lw_g (lw_at lw_m8 59 rfl) rfl
theorem q1864 : (Jvm.Cond.code ({ cls := "HeldTongueModel", name := "enough", desc := "(II)I" } : Jvm.MethodName) prog_23_method_89_code (5 : Nat) (Option.some Jvm.ClassFile.FieldType.int)) ∈ lw_all := lw_g (lw_at lw_m8 60 rfl) rfl
theorem q1866 : (Jvm.Cond.instanceMethod ({ cls := "HeldTongueModel", name := "wordy", desc := "(II)I" } : Jvm.MethodName)) ∈ lw_all := lw_g (lw_at lw_m8 62 rfl) rfl
theorem q1867 : (Jvm.Cond.selects "HeldTongueModel" ({ cls := "HeldTongueModel", name := "wordy", desc := "(II)I" } : Jvm.MethodName) ({ cls := "HeldTongueModel", name := "wordy", desc := "(II)I" } : Jvm.MethodName)) ∈ lw_all := lw_g (lw_at lw_m8 63 rfl) rfl
theorem q1868 : (Jvm.Cond.code ({ cls := "HeldTongueModel", name := "wordy", desc := "(II)I" } : Jvm.MethodName) prog_23_method_105_code (5 : Nat) (Option.some Jvm.ClassFile.FieldType.int)) ∈ lw_all := lw_g (lw_at lw_m8 64 rfl) rfl
theorem q1869 : (Jvm.Cond.methodLink "HeldTongueModel" (604 : Nat) ({ cls := "HeldTongueModel", name := "laysCosts", desc := "(I)I" } : Jvm.MethodName)) ∈ lw_all := lw_g (lw_at lw_m8 65 rfl) rfl
theorem q1870 : (Jvm.Cond.privateMethod ({ cls := "HeldTongueModel", name := "laysCosts", desc := "(I)I" } : Jvm.MethodName)) ∈ lw_tbl := lw_at lw_m8 66 rfl
theorem q1871 : (Jvm.Cond.instanceMethod ({ cls := "HeldTongueModel", name := "laysCosts", desc := "(I)I" } : Jvm.MethodName)) ∈ lw_all := lw_g (lw_at lw_m8 67 rfl) rfl
theorem q1872 : (Jvm.Cond.code ({ cls := "HeldTongueModel", name := "laysCosts", desc := "(I)I" } : Jvm.MethodName) prog_23_method_104_code (5 : Nat) (Option.some Jvm.ClassFile.FieldType.int)) ∈ lw_all := lw_g (lw_at lw_m8 68 rfl) rfl
theorem q1873 : (Jvm.Cond.methodLink "HeldTongueModel" (601 : Nat) ({ cls := "HeldTongueModel", name := "laysCost", desc := "(II)V" } : Jvm.MethodName)) ∈ lw_all := lw_g (lw_at lw_m8 69 rfl) rfl
theorem q1874 : (Jvm.Cond.privateMethod ({ cls := "HeldTongueModel", name := "laysCost", desc := "(II)V" } : Jvm.MethodName)) ∈ lw_tbl := lw_at lw_m8 70 rfl
theorem q1875 : (Jvm.Cond.instanceMethod ({ cls := "HeldTongueModel", name := "laysCost", desc := "(II)V" } : Jvm.MethodName)) ∈ lw_all := lw_g (lw_at lw_m8 71 rfl) rfl
theorem q1876 : (Jvm.Cond.code ({ cls := "HeldTongueModel", name := "laysCost", desc := "(II)V" } : Jvm.MethodName) prog_23_method_102_code (7 : Nat) (Option.none : Option Jvm.ClassFile.FieldType)) ∈ lw_all := lw_g (lw_at lw_m8 72 rfl) rfl
theorem q1877 : (Jvm.Cond.methodLink "HeldTongueModel" (556 : Nat) ({ cls := "HeldTongueModel", name := "at26", desc := "(III)I" } : Jvm.MethodName)) ∈ lw_all := lw_g (lw_at lw_m8 73 rfl) rfl
theorem q1878 : (Jvm.Cond.static ({ cls := "HeldTongueModel", name := "at26", desc := "(III)I" } : Jvm.MethodName)) ∈ lw_all := lw_g (lw_at lw_m8 74 rfl) rfl
theorem q1879 : (Jvm.Cond.code ({ cls := "HeldTongueModel", name := "at26", desc := "(III)I" } : Jvm.MethodName) prog_23_method_90_code (3 : Nat) (Option.some Jvm.ClassFile.FieldType.int)) ∈ lw_all := lw_g (lw_at lw_m8 75 rfl) rfl
theorem q1880 : (Jvm.Cond.methodLink "HeldTongueModel" (591 : Nat) ({ cls := "HeldTongueModel", name := "fits", desc := "(II)Z" } : Jvm.MethodName)) ∈ lw_all := lw_g (lw_at lw_m8 76 rfl) rfl
theorem q1881 : (Jvm.Cond.privateMethod ({ cls := "HeldTongueModel", name := "fits", desc := "(II)Z" } : Jvm.MethodName)) ∈ lw_tbl := lw_at lw_m8 77 rfl
theorem q1882 : (Jvm.Cond.instanceMethod ({ cls := "HeldTongueModel", name := "fits", desc := "(II)Z" } : Jvm.MethodName)) ∈ lw_all := lw_g (lw_at lw_m8 78 rfl) rfl
theorem q1883 : (Jvm.Cond.code ({ cls := "HeldTongueModel", name := "fits", desc := "(II)Z" } : Jvm.MethodName) prog_23_method_93_code (5 : Nat) (Option.some Jvm.ClassFile.FieldType.boolean)) ∈ lw_all := lw_g (lw_at lw_m8 79 rfl) rfl
theorem q1884 : (Jvm.Cond.methodLink "HeldTongueModel" (594 : Nat) ({ cls := "HeldTongueModel", name := "bestOrder", desc := "(III)I" } : Jvm.MethodName)) ∈ lw_all := lw_g (lw_at lw_m8 80 rfl) rfl
theorem q1885 : (Jvm.Cond.privateMethod ({ cls := "HeldTongueModel", name := "bestOrder", desc := "(III)I" } : Jvm.MethodName)) ∈ lw_tbl := lw_at lw_m8 81 rfl
theorem q1886 : (Jvm.Cond.instanceMethod ({ cls := "HeldTongueModel", name := "bestOrder", desc := "(III)I" } : Jvm.MethodName)) ∈ lw_all := lw_g (lw_at lw_m8 82 rfl) rfl
theorem q1887 : (Jvm.Cond.code ({ cls := "HeldTongueModel", name := "bestOrder", desc := "(III)I" } : Jvm.MethodName) prog_23_method_100_code (10 : Nat) (Option.some Jvm.ClassFile.FieldType.int)) ∈ lw_all := lw_g (lw_at lw_m8 83 rfl) rfl
theorem q1888 : (Jvm.Cond.methodLink "HeldTongueModel" (573 : Nat) ({ cls := "HeldTongueModel", name := "firstOrder", desc := "(I)I" } : Jvm.MethodName)) ∈ lw_all := lw_g (lw_at lw_m8 84 rfl) rfl
theorem q1889 : (Jvm.Cond.static ({ cls := "HeldTongueModel", name := "firstOrder", desc := "(I)I" } : Jvm.MethodName)) ∈ lw_all := lw_g (lw_at lw_m8 85 rfl) rfl
theorem q1890 : (Jvm.Cond.code ({ cls := "HeldTongueModel", name := "firstOrder", desc := "(I)I" } : Jvm.MethodName) prog_23_method_96_code (3 : Nat) (Option.some Jvm.ClassFile.FieldType.int)) ∈ lw_all := lw_g (lw_at lw_m8 86 rfl) rfl
theorem q1891 : (Jvm.Cond.methodLink "HeldTongueModel" (576 : Nat) ({ cls := "HeldTongueModel", name := "costBy", desc := "(IIII)I" } : Jvm.MethodName)) ∈ lw_all := lw_g (lw_at lw_m8 87 rfl) rfl
theorem q1892 : (Jvm.Cond.privateMethod ({ cls := "HeldTongueModel", name := "costBy", desc := "(IIII)I" } : Jvm.MethodName)) ∈ lw_tbl := lw_at lw_m8 88 rfl
theorem q1893 : (Jvm.Cond.instanceMethod ({ cls := "HeldTongueModel", name := "costBy", desc := "(IIII)I" } : Jvm.MethodName)) ∈ lw_all := lw_g (lw_at lw_m8 89 rfl) rfl
theorem q1894 : (Jvm.Cond.code ({ cls := "HeldTongueModel", name := "costBy", desc := "(IIII)I" } : Jvm.MethodName) prog_23_method_94_code (9 : Nat) (Option.some Jvm.ClassFile.FieldType.int)) ∈ lw_all := lw_g (lw_at lw_m8 90 rfl) rfl
theorem q1895 : (Jvm.Cond.methodLink "HeldTongueModel" (559 : Nat) ({ cls := "HeldTongueModel", name := "saidPart", desc := "(IIII)I" } : Jvm.MethodName)) ∈ lw_all := lw_g (lw_at lw_m8 91 rfl) rfl
theorem q1896 : (Jvm.Cond.privateMethod ({ cls := "HeldTongueModel", name := "saidPart", desc := "(IIII)I" } : Jvm.MethodName)) ∈ lw_tbl := lw_at lw_m8 92 rfl
theorem q1897 : (Jvm.Cond.instanceMethod ({ cls := "HeldTongueModel", name := "saidPart", desc := "(IIII)I" } : Jvm.MethodName)) ∈ lw_all := lw_g (lw_at lw_m8 93 rfl) rfl
theorem q1898 : (Jvm.Cond.code ({ cls := "HeldTongueModel", name := "saidPart", desc := "(IIII)I" } : Jvm.MethodName) prog_23_method_92_code (7 : Nat) (Option.some Jvm.ClassFile.FieldType.int)) ∈ lw_all := lw_g (lw_at lw_m8 94 rfl) rfl
theorem q1899 : (Jvm.Cond.methodLink "HeldTongueModel" (563 : Nat) ({ cls := "HeldTongueModel", name := "costOf", desc := "(III)I" } : Jvm.MethodName)) ∈ lw_all := lw_g (lw_at lw_m8 95 rfl) rfl
theorem q1900 : (Jvm.Cond.privateMethod ({ cls := "HeldTongueModel", name := "costOf", desc := "(III)I" } : Jvm.MethodName)) ∈ lw_tbl := lw_at lw_m8 96 rfl
theorem q1901 : (Jvm.Cond.instanceMethod ({ cls := "HeldTongueModel", name := "costOf", desc := "(III)I" } : Jvm.MethodName)) ∈ lw_all := lw_g (lw_at lw_m8 97 rfl) rfl
theorem q1902 : (Jvm.Cond.code ({ cls := "HeldTongueModel", name := "costOf", desc := "(III)I" } : Jvm.MethodName) prog_23_method_91_code (4 : Nat) (Option.some Jvm.ClassFile.FieldType.int)) ∈ lw_all := lw_g (lw_at lw_m8 98 rfl) rfl
theorem q1903 : (Jvm.Cond.methodLink "HeldTongueModel" (579 : Nat) ({ cls := "HeldTongueModel", name := "nextOrder", desc := "(II)I" } : Jvm.MethodName)) ∈ lw_all := lw_g (lw_at lw_m8 99 rfl) rfl
theorem q1904 : (Jvm.Cond.privateMethod ({ cls := "HeldTongueModel", name := "nextOrder", desc := "(II)I" } : Jvm.MethodName)) ∈ lw_tbl := lw_at lw_m8 100 rfl
theorem q1905 : (Jvm.Cond.instanceMethod ({ cls := "HeldTongueModel", name := "nextOrder", desc := "(II)I" } : Jvm.MethodName)) ∈ lw_all := lw_g (lw_at lw_m8 101 rfl) rfl
theorem q1906 : (Jvm.Cond.code ({ cls := "HeldTongueModel", name := "nextOrder", desc := "(II)I" } : Jvm.MethodName) prog_23_method_95_code (8 : Nat) (Option.some Jvm.ClassFile.FieldType.int)) ∈ lw_all := lw_g (lw_at lw_m8 102 rfl) rfl
theorem q1907 : (Jvm.Cond.methodLink "HeldTongueModel" (569 : Nat) ({ cls := "HeldTongueModel", name := "pushes", desc := "(IIIII)I" } : Jvm.MethodName)) ∈ lw_all := lw_g (lw_at lw_m8 103 rfl) rfl
theorem q1908 : (Jvm.Cond.privateMethod ({ cls := "HeldTongueModel", name := "pushes", desc := "(IIIII)I" } : Jvm.MethodName)) ∈ lw_tbl := lw_at lw_m8 104 rfl
theorem q1909 : (Jvm.Cond.instanceMethod ({ cls := "HeldTongueModel", name := "pushes", desc := "(IIIII)I" } : Jvm.MethodName)) ∈ lw_all := lw_g (lw_at lw_m8 105 rfl) rfl
theorem q1910 : (Jvm.Cond.code ({ cls := "HeldTongueModel", name := "pushes", desc := "(IIIII)I" } : Jvm.MethodName) prog_23_method_97_code (9 : Nat) (Option.some Jvm.ClassFile.FieldType.int)) ∈ lw_all := lw_g (lw_at lw_m8 106 rfl) rfl
theorem q1911 : (Jvm.Cond.methodLink "HeldTongueModel" (582 : Nat) ({ cls := "HeldTongueModel", name := "writes", desc := "(I)V" } : Jvm.MethodName)) ∈ lw_all := lw_g (lw_at lw_m8 107 rfl) rfl
theorem q1912 : (Jvm.Cond.privateMethod ({ cls := "HeldTongueModel", name := "writes", desc := "(I)V" } : Jvm.MethodName)) ∈ lw_tbl := lw_at lw_m8 108 rfl
theorem q1913 : (Jvm.Cond.instanceMethod ({ cls := "HeldTongueModel", name := "writes", desc := "(I)V" } : Jvm.MethodName)) ∈ lw_all := lw_g (lw_at lw_m8 109 rfl) rfl
theorem q1914 : (Jvm.Cond.code ({ cls := "HeldTongueModel", name := "writes", desc := "(I)V" } : Jvm.MethodName) prog_23_method_98_code (7 : Nat) (Option.none : Option Jvm.ClassFile.FieldType)) ∈ lw_all := lw_g (lw_at lw_m8 110 rfl) rfl
theorem q1915 : (Jvm.Cond.methodLink "HeldTongueModel" (585 : Nat) ({ cls := "HeldTongueModel", name := "copiesSaid", desc := "()V" } : Jvm.MethodName)) ∈ lw_all := lw_g (lw_at lw_m8 111 rfl) rfl
theorem q1916 : (Jvm.Cond.privateMethod ({ cls := "HeldTongueModel", name := "copiesSaid", desc := "()V" } : Jvm.MethodName)) ∈ lw_tbl := lw_at lw_m8 112 rfl
theorem q1917 : (Jvm.Cond.instanceMethod ({ cls := "HeldTongueModel", name := "copiesSaid", desc := "()V" } : Jvm.MethodName)) ∈ lw_all := lw_g (lw_at lw_m8 113 rfl) rfl
theorem q1918 : (Jvm.Cond.code ({ cls := "HeldTongueModel", name := "copiesSaid", desc := "()V" } : Jvm.MethodName) prog_23_method_101_code (2 : Nat) (Option.none : Option Jvm.ClassFile.FieldType)) ∈ lw_all := lw_g (lw_at lw_m8 114 rfl) rfl
theorem q1919 : (Jvm.Cond.methodLink "HeldTongueModel" (588 : Nat) ({ cls := "HeldTongueModel", name := "isAhead", desc := "()Z" } : Jvm.MethodName)) ∈ lw_all := lw_g (lw_at lw_m8 115 rfl) rfl
theorem q1920 : (Jvm.Cond.privateMethod ({ cls := "HeldTongueModel", name := "isAhead", desc := "()Z" } : Jvm.MethodName)) ∈ lw_tbl := lw_at lw_m8 116 rfl
theorem q1921 : (Jvm.Cond.instanceMethod ({ cls := "HeldTongueModel", name := "isAhead", desc := "()Z" } : Jvm.MethodName)) ∈ lw_all := lw_g (lw_at lw_m8 117 rfl) rfl
theorem q1922 : (Jvm.Cond.code ({ cls := "HeldTongueModel", name := "isAhead", desc := "()Z" } : Jvm.MethodName) prog_23_method_99_code (2 : Nat) (Option.some Jvm.ClassFile.FieldType.boolean)) ∈ lw_all := lw_g (lw_at lw_m8 118 rfl) rfl
theorem q1923 : (Jvm.Cond.methodLink "HeldTongueModel" (597 : Nat) ({ cls := "HeldTongueModel", name := "takesCost", desc := "(IIII)V" } : Jvm.MethodName)) ∈ lw_all := lw_g (lw_at lw_m8 119 rfl) rfl
theorem q1924 : (Jvm.Cond.privateMethod ({ cls := "HeldTongueModel", name := "takesCost", desc := "(IIII)V" } : Jvm.MethodName)) ∈ lw_tbl := lw_at lw_m8 120 rfl
theorem q1925 : (Jvm.Cond.instanceMethod ({ cls := "HeldTongueModel", name := "takesCost", desc := "(IIII)V" } : Jvm.MethodName)) ∈ lw_all := lw_g (lw_at lw_m8 121 rfl) rfl
theorem q1926 : (Jvm.Cond.code ({ cls := "HeldTongueModel", name := "takesCost", desc := "(IIII)V" } : Jvm.MethodName) prog_23_method_103_code (5 : Nat) (Option.none : Option Jvm.ClassFile.FieldType)) ∈ lw_all := lw_g (lw_at lw_m8 122 rfl) rfl
theorem q1928 : (Jvm.Cond.instanceMethod ({ cls := "HeldTongueModel", name := "saying", desc := "(III)I" } : Jvm.MethodName)) ∈ lw_all := lw_g (lw_at lw_m8 124 rfl) rfl
theorem q1929 : (Jvm.Cond.selects "HeldTongueModel" ({ cls := "HeldTongueModel", name := "saying", desc := "(III)I" } : Jvm.MethodName) ({ cls := "HeldTongueModel", name := "saying", desc := "(III)I" } : Jvm.MethodName)) ∈ lw_all := lw_g (lw_at lw_m8 125 rfl) rfl
theorem q1930 : (Jvm.Cond.code ({ cls := "HeldTongueModel", name := "saying", desc := "(III)I" } : Jvm.MethodName) prog_23_method_106_code (6 : Nat) (Option.some Jvm.ClassFile.FieldType.int)) ∈ lw_all := lw_g (lw_at lw_m8 126 rfl) rfl
theorem q1932 : (Jvm.Cond.instanceMethod ({ cls := "HeldTongueModel", name := "light", desc := "(I)I" } : Jvm.MethodName)) ∈ lw_all := lw_g (lw_at lw_m8 128 rfl) rfl
theorem q1933 : (Jvm.Cond.selects "HeldTongueModel" ({ cls := "HeldTongueModel", name := "light", desc := "(I)I" } : Jvm.MethodName) ({ cls := "HeldTongueModel", name := "light", desc := "(I)I" } : Jvm.MethodName)) ∈ lw_all := lw_g (lw_at lw_m8 129 rfl) rfl
theorem q1934 : (Jvm.Cond.code ({ cls := "HeldTongueModel", name := "light", desc := "(I)I" } : Jvm.MethodName) prog_23_method_107_code (4 : Nat) (Option.some Jvm.ClassFile.FieldType.int)) ∈ lw_all := lw_g (lw_at lw_m8 130 rfl) rfl
theorem q1936 : (Jvm.Cond.instanceMethod ({ cls := "HeldTongueModel", name := "image", desc := "()I" } : Jvm.MethodName)) ∈ lw_all := lw_g (lw_at lw_m8 132 rfl) rfl
theorem q1937 : (Jvm.Cond.selects "HeldTongueModel" ({ cls := "HeldTongueModel", name := "image", desc := "()I" } : Jvm.MethodName) ({ cls := "HeldTongueModel", name := "image", desc := "()I" } : Jvm.MethodName)) ∈ lw_all := lw_g (lw_at lw_m8 133 rfl) rfl
theorem q1938 : (Jvm.Cond.code ({ cls := "HeldTongueModel", name := "image", desc := "()I" } : Jvm.MethodName) prog_23_method_108_code (1 : Nat) (Option.some Jvm.ClassFile.FieldType.int)) ∈ lw_all := lw_g (lw_at lw_m8 134 rfl) rfl
theorem q1940 : (Jvm.Cond.instanceMethod ({ cls := "HeldTongueModel", name := "back", desc := "()I" } : Jvm.MethodName)) ∈ lw_all := lw_g (lw_at lw_m8 136 rfl) rfl
theorem q1941 : (Jvm.Cond.selects "HeldTongueModel" ({ cls := "HeldTongueModel", name := "back", desc := "()I" } : Jvm.MethodName) ({ cls := "HeldTongueModel", name := "back", desc := "()I" } : Jvm.MethodName)) ∈ lw_all := lw_g (lw_at lw_m8 137 rfl) rfl
theorem q1942 : (Jvm.Cond.code ({ cls := "HeldTongueModel", name := "back", desc := "()I" } : Jvm.MethodName) prog_23_method_109_code (1 : Nat) (Option.some Jvm.ClassFile.FieldType.int)) ∈ lw_all := lw_g (lw_at lw_m8 138 rfl) rfl
theorem q1944 : (Jvm.Cond.instanceMethod ({ cls := "HeldTongueModel", name := "about", desc := "(I)I" } : Jvm.MethodName)) ∈ lw_all := lw_g (lw_at lw_m8 140 rfl) rfl
theorem q1945 : (Jvm.Cond.selects "HeldTongueModel" ({ cls := "HeldTongueModel", name := "about", desc := "(I)I" } : Jvm.MethodName) ({ cls := "HeldTongueModel", name := "about", desc := "(I)I" } : Jvm.MethodName)) ∈ lw_all := lw_g (lw_at lw_m8 141 rfl) rfl
theorem q1946 : (Jvm.Cond.code ({ cls := "HeldTongueModel", name := "about", desc := "(I)I" } : Jvm.MethodName) prog_23_method_110_code (2 : Nat) (Option.some Jvm.ClassFile.FieldType.int)) ∈ lw_all := lw_g (lw_at lw_m8 142 rfl) rfl
theorem in_X4 : ∀ w ∈ wsX40, w ∈ lw_all := lw_in wsX40 [1327, 1329, 1331, 1333, 1335, 1337, 1339, 1341, 1343, 1345, 1347, 1349, 1351, 1353, 1355, 1357, 1359, 1361, 1363, 1365, 1367, 1369, 1371, 1373, 1375, 1377, 1379, 1381, 1383, 1385, 1387, 1389, 1391, 1393, 1395, 1397, 1399, 1401, 1403, 1405, 1407, 1409, 1411, 1413, 1415, 1417, 1419, 1421, 1423, 1425, 1427, 1429, 1431, 1433, 1435, 1437, 1439, 1441, 1443, 1445, 1447, 1449, 1451, 1453, 1455, 1457, 1459, 1461, 1463, 1465, 1467, 1469, 1471, 1473, 1475, 1477, 1479, 1481, 1483, 1485, 1487, 1489, 1491] (by decide +kernel) (by decide +kernel)
