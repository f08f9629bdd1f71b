/-! HeldTongue$Lexicon -/
set_option maxRecDepth 100000
def RX1 : String := "HeldTongue$Lexicon"
def TX1 : u_T := fun k => match k with
  | 0 => ("HeldTongue$Lexicon", "senses", "[LHeldTongue$Sense;", false)
  | 1 => ("HeldTongue$Lexicon", "drops", "[LHeldTongue$Ask;", false)
  | 2 => ("HeldTongue$Lexicon", "weigh", "LHeldTongue$Sum;", false)
  | _ => ("HeldTongue$Lexicon", "clauses", "I", false)
def tyX1 : Nat → FieldType := fun k => match k with
  | 0 => .array (.object "HeldTongue$Sense")
  | 1 => .array (.object "HeldTongue$Ask")
  | 2 => .object "HeldTongue$Sum"
  | _ => .int
abbrev wsX10 : List Cond := u_ws RX1 TX1 4
theorem nmX1 : ∀ a, a < 4 → ∀ b, b < 4 → a ≠ b → (TX1 a).2.1 ≠ (TX1 b).2.1 := by decide +kernel
theorem tyX1_ok : ∀ k, k < 4 → parseFieldDescriptor (TX1 k).2.2.1 = some (tyX1 k) := by decide +kernel
abbrev cX1_init : ByteArray := prog_9_method_1_code
def yX1_init : MethodName := ⟨RX1, "<init>", "()V"⟩
def dkwX1_init_0 : List UInt8 := [42, 183, 0, 1, 42, 3, 189, 0, 7, 181, 0, 9, 42, 3, 189, 0, 15, 181, 0, 17, 177]
abbrev dktX1_init_0 : List UInt8 := dkwX1_init_0 ++ []
theorem dksX1_init_0 : cX1_init.data.toList.drop 0 = dktX1_init_0 := by decide +kernel
theorem dX1_init_0 : decode cX1_init 0 = .ok (.aload_n 0, 1) := dk_42 (dk_at dksX1_init_0 0 rfl rfl)
theorem dX1_init_1 : decode cX1_init 1 = .ok (.invokespecial 1, 3) := dk_183 0 1 (dk_at dksX1_init_0 1 rfl rfl)
theorem dX1_init_4 : decode cX1_init 4 = .ok (.aload_n 0, 1) := dk_42 (dk_at dksX1_init_0 4 rfl rfl)
theorem dX1_init_5 : decode cX1_init 5 = .ok (.iconst 0, 1) := dk_3 (dk_at dksX1_init_0 5 rfl rfl)
theorem dX1_init_6 : decode cX1_init 6 = .ok (.anewarray 7, 3) := dk_189 0 7 (dk_at dksX1_init_0 6 rfl rfl)
theorem dX1_init_9 : decode cX1_init 9 = .ok (.putfield 9, 3) := dk_181 0 9 (dk_at dksX1_init_0 9 rfl rfl)
theorem dX1_init_12 : decode cX1_init 12 = .ok (.aload_n 0, 1) := dk_42 (dk_at dksX1_init_0 12 rfl rfl)
theorem dX1_init_13 : decode cX1_init 13 = .ok (.iconst 0, 1) := dk_3 (dk_at dksX1_init_0 13 rfl rfl)
theorem dX1_init_14 : decode cX1_init 14 = .ok (.anewarray 15, 3) := dk_189 0 15 (dk_at dksX1_init_0 14 rfl rfl)
theorem dX1_init_17 : decode cX1_init 17 = .ok (.putfield 17, 3) := dk_181 0 17 (dk_at dksX1_init_0 17 rfl rfl)
theorem dX1_init_20 : decode cX1_init 20 = .ok (.return_, 1) := dk_177 (dk_at dksX1_init_0 20 rfl rfl)
abbrev cX1_add : ByteArray := prog_9_method_2_code
def yX1_add : MethodName := ⟨RX1, "add", "(LHeldTongue$Sense;)V"⟩
def dkwX1_add_1 : List UInt8 := [184, 0, 21, 44, 42, 180, 0, 9, 190, 43, 83, 42, 44, 181, 0, 9, 177]
abbrev dktX1_add_1 : List UInt8 := dkwX1_add_1 ++ []
def dkwX1_add_0 : List UInt8 := [42, 180, 0, 9, 190, 4, 96, 189, 0, 7, 77, 42, 180, 0, 9, 3, 44, 3, 42, 180, 0, 9, 190]
abbrev dktX1_add_0 : List UInt8 := dkwX1_add_0 ++ dktX1_add_1
theorem dksX1_add_0 : cX1_add.data.toList.drop 0 = dktX1_add_0 := by decide +kernel
theorem dksX1_add_1 : cX1_add.data.toList.drop 23 = dktX1_add_1 := dk_seg dksX1_add_0 23 rfl rfl
theorem dX1_add_0 : decode cX1_add 0 = .ok (.aload_n 0, 1) := dk_42 (dk_at dksX1_add_0 0 rfl rfl)
theorem dX1_add_1 : decode cX1_add 1 = .ok (.getfield 9, 3) := dk_180 0 9 (dk_at dksX1_add_0 1 rfl rfl)
theorem dX1_add_4 : decode cX1_add 4 = .ok (.arraylength, 1) := dk_190 (dk_at dksX1_add_0 4 rfl rfl)
theorem dX1_add_5 : decode cX1_add 5 = .ok (.iconst 1, 1) := dk_4 (dk_at dksX1_add_0 5 rfl rfl)
theorem dX1_add_6 : decode cX1_add 6 = .ok (.iadd, 1) := dk_96 (dk_at dksX1_add_0 6 rfl rfl)
theorem dX1_add_7 : decode cX1_add 7 = .ok (.anewarray 7, 3) := dk_189 0 7 (dk_at dksX1_add_0 7 rfl rfl)
theorem dX1_add_10 : decode cX1_add 10 = .ok (.astore_n 2, 1) := dk_77 (dk_at dksX1_add_0 10 rfl rfl)
theorem dX1_add_11 : decode cX1_add 11 = .ok (.aload_n 0, 1) := dk_42 (dk_at dksX1_add_0 11 rfl rfl)
theorem dX1_add_12 : decode cX1_add 12 = .ok (.getfield 9, 3) := dk_180 0 9 (dk_at dksX1_add_0 12 rfl rfl)
theorem dX1_add_15 : decode cX1_add 15 = .ok (.iconst 0, 1) := dk_3 (dk_at dksX1_add_0 15 rfl rfl)
theorem dX1_add_16 : decode cX1_add 16 = .ok (.aload_n 2, 1) := dk_44 (dk_at dksX1_add_0 16 rfl rfl)
theorem dX1_add_17 : decode cX1_add 17 = .ok (.iconst 0, 1) := dk_3 (dk_at dksX1_add_0 17 rfl rfl)
theorem dX1_add_18 : decode cX1_add 18 = .ok (.aload_n 0, 1) := dk_42 (dk_at dksX1_add_0 18 rfl rfl)
theorem dX1_add_19 : decode cX1_add 19 = .ok (.getfield 9, 3) := dk_180 0 9 (dk_at dksX1_add_0 19 rfl rfl)
theorem dX1_add_22 : decode cX1_add 22 = .ok (.arraylength, 1) := dk_190 (dk_at dksX1_add_0 22 rfl rfl)
theorem dX1_add_23 : decode cX1_add 23 = .ok (.invokestatic 21, 3) := dk_184 0 21 (dk_at dksX1_add_1 0 rfl rfl)
theorem dX1_add_26 : decode cX1_add 26 = .ok (.aload_n 2, 1) := dk_44 (dk_at dksX1_add_1 3 rfl rfl)
theorem dX1_add_27 : decode cX1_add 27 = .ok (.aload_n 0, 1) := dk_42 (dk_at dksX1_add_1 4 rfl rfl)
theorem dX1_add_28 : decode cX1_add 28 = .ok (.getfield 9, 3) := dk_180 0 9 (dk_at dksX1_add_1 5 rfl rfl)
theorem dX1_add_31 : decode cX1_add 31 = .ok (.arraylength, 1) := dk_190 (dk_at dksX1_add_1 8 rfl rfl)
theorem dX1_add_32 : decode cX1_add 32 = .ok (.aload_n 1, 1) := dk_43 (dk_at dksX1_add_1 9 rfl rfl)
theorem dX1_add_33 : decode cX1_add 33 = .ok (.aastore, 1) := dk_83 (dk_at dksX1_add_1 10 rfl rfl)
theorem dX1_add_34 : decode cX1_add 34 = .ok (.aload_n 0, 1) := dk_42 (dk_at dksX1_add_1 11 rfl rfl)
theorem dX1_add_35 : decode cX1_add 35 = .ok (.aload_n 2, 1) := dk_44 (dk_at dksX1_add_1 12 rfl rfl)
theorem dX1_add_36 : decode cX1_add 36 = .ok (.putfield 9, 3) := dk_181 0 9 (dk_at dksX1_add_1 13 rfl rfl)
theorem dX1_add_39 : decode cX1_add 39 = .ok (.return_, 1) := dk_177 (dk_at dksX1_add_1 16 rfl rfl)
abbrev cX1_drop : ByteArray := prog_9_method_3_code
def yX1_drop : MethodName := ⟨RX1, "drop", "(LHeldTongue$Ask;)V"⟩
def dkwX1_drop_1 : List UInt8 := [184, 0, 21, 44, 42, 180, 0, 17, 190, 43, 83, 42, 44, 181, 0, 17, 177]
abbrev dktX1_drop_1 : List UInt8 := dkwX1_drop_1 ++ []
def dkwX1_drop_0 : List UInt8 := [42, 180, 0, 17, 190, 4, 96, 189, 0, 15, 77, 42, 180, 0, 17, 3, 44, 3, 42, 180, 0, 17, 190]
abbrev dktX1_drop_0 : List UInt8 := dkwX1_drop_0 ++ dktX1_drop_1
theorem dksX1_drop_0 : cX1_drop.data.toList.drop 0 = dktX1_drop_0 := by decide +kernel
theorem dksX1_drop_1 : cX1_drop.data.toList.drop 23 = dktX1_drop_1 := dk_seg dksX1_drop_0 23 rfl rfl
theorem dX1_drop_0 : decode cX1_drop 0 = .ok (.aload_n 0, 1) := dk_42 (dk_at dksX1_drop_0 0 rfl rfl)
theorem dX1_drop_1 : decode cX1_drop 1 = .ok (.getfield 17, 3) := dk_180 0 17 (dk_at dksX1_drop_0 1 rfl rfl)
theorem dX1_drop_4 : decode cX1_drop 4 = .ok (.arraylength, 1) := dk_190 (dk_at dksX1_drop_0 4 rfl rfl)
theorem dX1_drop_5 : decode cX1_drop 5 = .ok (.iconst 1, 1) := dk_4 (dk_at dksX1_drop_0 5 rfl rfl)
theorem dX1_drop_6 : decode cX1_drop 6 = .ok (.iadd, 1) := dk_96 (dk_at dksX1_drop_0 6 rfl rfl)
theorem dX1_drop_7 : decode cX1_drop 7 = .ok (.anewarray 15, 3) := dk_189 0 15 (dk_at dksX1_drop_0 7 rfl rfl)
theorem dX1_drop_10 : decode cX1_drop 10 = .ok (.astore_n 2, 1) := dk_77 (dk_at dksX1_drop_0 10 rfl rfl)
theorem dX1_drop_11 : decode cX1_drop 11 = .ok (.aload_n 0, 1) := dk_42 (dk_at dksX1_drop_0 11 rfl rfl)
theorem dX1_drop_12 : decode cX1_drop 12 = .ok (.getfield 17, 3) := dk_180 0 17 (dk_at dksX1_drop_0 12 rfl rfl)
theorem dX1_drop_15 : decode cX1_drop 15 = .ok (.iconst 0, 1) := dk_3 (dk_at dksX1_drop_0 15 rfl rfl)
theorem dX1_drop_16 : decode cX1_drop 16 = .ok (.aload_n 2, 1) := dk_44 (dk_at dksX1_drop_0 16 rfl rfl)
theorem dX1_drop_17 : decode cX1_drop 17 = .ok (.iconst 0, 1) := dk_3 (dk_at dksX1_drop_0 17 rfl rfl)
theorem dX1_drop_18 : decode cX1_drop 18 = .ok (.aload_n 0, 1) := dk_42 (dk_at dksX1_drop_0 18 rfl rfl)
theorem dX1_drop_19 : decode cX1_drop 19 = .ok (.getfield 17, 3) := dk_180 0 17 (dk_at dksX1_drop_0 19 rfl rfl)
theorem dX1_drop_22 : decode cX1_drop 22 = .ok (.arraylength, 1) := dk_190 (dk_at dksX1_drop_0 22 rfl rfl)
theorem dX1_drop_23 : decode cX1_drop 23 = .ok (.invokestatic 21, 3) := dk_184 0 21 (dk_at dksX1_drop_1 0 rfl rfl)
theorem dX1_drop_26 : decode cX1_drop 26 = .ok (.aload_n 2, 1) := dk_44 (dk_at dksX1_drop_1 3 rfl rfl)
theorem dX1_drop_27 : decode cX1_drop 27 = .ok (.aload_n 0, 1) := dk_42 (dk_at dksX1_drop_1 4 rfl rfl)
theorem dX1_drop_28 : decode cX1_drop 28 = .ok (.getfield 17, 3) := dk_180 0 17 (dk_at dksX1_drop_1 5 rfl rfl)
theorem dX1_drop_31 : decode cX1_drop 31 = .ok (.arraylength, 1) := dk_190 (dk_at dksX1_drop_1 8 rfl rfl)
theorem dX1_drop_32 : decode cX1_drop 32 = .ok (.aload_n 1, 1) := dk_43 (dk_at dksX1_drop_1 9 rfl rfl)
theorem dX1_drop_33 : decode cX1_drop 33 = .ok (.aastore, 1) := dk_83 (dk_at dksX1_drop_1 10 rfl rfl)
theorem dX1_drop_34 : decode cX1_drop 34 = .ok (.aload_n 0, 1) := dk_42 (dk_at dksX1_drop_1 11 rfl rfl)
theorem dX1_drop_35 : decode cX1_drop 35 = .ok (.aload_n 2, 1) := dk_44 (dk_at dksX1_drop_1 12 rfl rfl)
theorem dX1_drop_36 : decode cX1_drop 36 = .ok (.putfield 17, 3) := dk_181 0 17 (dk_at dksX1_drop_1 13 rfl rfl)
theorem dX1_drop_39 : decode cX1_drop 39 = .ok (.return_, 1) := dk_177 (dk_at dksX1_drop_1 16 rfl rfl)
theorem q126 : (Jvm.Cond.initialized "HeldTongue$Lexicon") ∈ lw_all := lw_g (lw_at lw_m1 2 rfl) rfl
theorem q165 : (Jvm.Cond.instantiable "HeldTongue$Lexicon" (4 : Nat)) ∈ lw_all := lw_g (lw_at lw_m1 41 rfl) rfl
theorem q167 : (Jvm.Cond.instanceMethod ({ cls := "HeldTongue$Lexicon", name := "<init>", desc := "()V" } : Jvm.MethodName)) ∈ lw_all := lw_g (lw_at lw_m1 43 rfl) rfl
theorem q168 : (Jvm.Cond.code ({ cls := "HeldTongue$Lexicon", name := "<init>", desc := "()V" } : Jvm.MethodName) prog_9_method_1_code (1 : Nat) (Option.none : Option Jvm.ClassFile.FieldType)) ∈ lw_all := lw_g (lw_at lw_m1 44 rfl) rfl
theorem q169 : (Jvm.Cond.methodLink "HeldTongue$Lexicon" (1 : Nat) ({ cls := "java/lang/Object", name := "<init>", desc := "()V" } : Jvm.MethodName)) ∈ lw_all := lw_g (lw_at lw_m1 45 rfl) rfl
theorem q170 : (Jvm.Cond.classLink "HeldTongue$Lexicon" (7 : Nat) "HeldTongue$Sense") ∈ lw_all := lw_g (lw_at lw_m1 46 rfl) rfl
theorem q172 : (Jvm.Cond.classLink "HeldTongue$Lexicon" (15 : Nat) "HeldTongue$Ask") ∈ lw_all := lw_g (lw_at lw_m1 48 rfl) rfl
theorem q174 : (Jvm.Cond.fieldLink "HeldTongue$Lexicon" (9 : Nat) "HeldTongue$Lexicon" "senses" "[LHeldTongue$Sense;") ∈ lw_all := lw_g (lw_at lw_m1 50 rfl) rfl
theorem q176 : (Jvm.Cond.fieldLink "HeldTongue$Lexicon" (17 : Nat) "HeldTongue$Lexicon" "drops" "[LHeldTongue$Ask;") ∈ lw_all := lw_g (lw_at lw_m1 52 rfl) rfl
theorem q182 : (Jvm.Cond.lays "HeldTongue$Lexicon" "HeldTongue$Lexicon" "senses" "[LHeldTongue$Sense;") ∈ lw_all := lw_g (lw_at lw_m1 58 rfl) rfl
theorem q183 : (Jvm.Cond.soleField "HeldTongue$Lexicon" "senses") ∈ lw_all := lw_g (lw_at lw_m1 59 rfl) rfl
theorem q184 : (Jvm.Cond.lays "HeldTongue$Lexicon" "HeldTongue$Lexicon" "drops" "[LHeldTongue$Ask;") ∈ lw_all := lw_g (lw_at lw_m1 60 rfl) rfl
theorem q185 : (Jvm.Cond.soleField "HeldTongue$Lexicon" "drops") ∈ lw_all := lw_g (lw_at lw_m1 61 rfl) rfl
theorem q186 : (Jvm.Cond.lays "HeldTongue$Lexicon" "HeldTongue$Lexicon" "weigh" "LHeldTongue$Sum;") ∈ lw_all := lw_g (lw_at lw_m1 62 rfl) rfl
theorem q187 : (Jvm.Cond.soleField "HeldTongue$Lexicon" "weigh") ∈ lw_all := lw_g (lw_at lw_m1 63 rfl) rfl
theorem q188 : (Jvm.Cond.lays "HeldTongue$Lexicon" "HeldTongue$Lexicon" "clauses" "I") ∈ lw_all := lw_g (lw_at lw_m1 64 rfl) rfl
theorem q189 : (Jvm.Cond.soleField "HeldTongue$Lexicon" "clauses") ∈ lw_all := lw_g (lw_at lw_m1 65 rfl) rfl
theorem q190 : (Jvm.Cond.superclass "HeldTongue$Lexicon" "java/lang/Object") ∈ lw_all := lw_g (lw_at lw_m1 66 rfl) rfl
theorem q674 : (Jvm.Cond.instanceMethod ({ cls := "HeldTongue$Lexicon", name := "add", desc := "(LHeldTongue$Sense;)V" } : Jvm.MethodName)) ∈ lw_all := lw_g (lw_at lw_m3 70 rfl) rfl
theorem q675 : (Jvm.Cond.selects "HeldTongue$Lexicon" ({ cls := "HeldTongue$Lexicon", name := "add", desc := "(LHeldTongue$Sense;)V" } : Jvm.MethodName) ({ cls := "HeldTongue$Lexicon", name := "add", desc := "(LHeldTongue$Sense;)V" } : Jvm.MethodName)) ∈ lw_all := lw_g (lw_at lw_m3 71 rfl) rfl
theorem q676 : (Jvm.Cond.code ({ cls := "HeldTongue$Lexicon", name := "add", desc := "(LHeldTongue$Sense;)V" } : Jvm.MethodName) prog_9_method_2_code (3 : Nat) (Option.none : Option Jvm.ClassFile.FieldType)) ∈ lw_all := lw_g (lw_at lw_m3 72 rfl) rfl
theorem q677 : (Jvm.Cond.methodLink "HeldTongue$Lexicon" (21 : Nat) ({ cls := "java/lang/System", name := "arraycopy", desc := "(Ljava/lang/Object;ILjava/lang/Object;II)V" } : Jvm.MethodName)) ∈ lw_all := lw_g (lw_at lw_m3 73 rfl) rfl
theorem q801 : (Jvm.Cond.instanceMethod ({ cls := "HeldTongue$Lexicon", name := "drop", desc := "(LHeldTongue$Ask;)V" } : Jvm.MethodName)) ∈ lw_all := lw_g (lw_at lw_m3 197 rfl) rfl
theorem q802 : (Jvm.Cond.selects "HeldTongue$Lexicon" ({ cls := "HeldTongue$Lexicon", name := "drop", desc := "(LHeldTongue$Ask;)V" } : Jvm.MethodName) ({ cls := "HeldTongue$Lexicon", name := "drop", desc := "(LHeldTongue$Ask;)V" } : Jvm.MethodName)) ∈ lw_all := lw_g (lw_at lw_m3 198 rfl) rfl
theorem q803 : (Jvm.Cond.code ({ cls := "HeldTongue$Lexicon", name := "drop", desc := "(LHeldTongue$Ask;)V" } : Jvm.MethodName) prog_9_method_3_code (3 : Nat) (Option.none : Option Jvm.ClassFile.FieldType)) ∈ lw_all := lw_g (lw_at lw_m3 199 rfl) rfl
theorem in_X1 : ∀ w ∈ wsX10, w ∈ lw_all := lw_in wsX10 [182, 184, 186, 188] (by decide +kernel) (by decide +kernel)

/-! HeldTongue$View -/
set_option maxRecDepth 100000
def RX2 : String := "HeldTongue$View"
abbrev cX2_init : ByteArray := prog_19_method_1_code
def yX2_init : MethodName := ⟨RX2, "<init>", "()V"⟩
theorem dX2_init_0 : decode cX2_init 0 = .ok (.aload_n 0, 1) := by decide +kernel
theorem dX2_init_1 : decode cX2_init 1 = .ok (.invokespecial 1, 3) := by decide +kernel
theorem dX2_init_4 : decode cX2_init 4 = .ok (.return_, 1) := by decide +kernel
theorem q127 : (Jvm.Cond.initialized "HeldTongue$View") ∈ lw_all := lw_g (lw_at lw_m1 3 rfl) rfl
theorem q197 : (Jvm.Cond.instanceMethod ({ cls := "HeldTongue$View", name := "<init>", desc := "()V" } : Jvm.MethodName)) ∈ lw_all := lw_g (lw_at lw_m1 73 rfl) rfl
theorem q198 : (Jvm.Cond.code ({ cls := "HeldTongue$View", name := "<init>", desc := "()V" } : Jvm.MethodName) prog_19_method_1_code (1 : Nat) (Option.none : Option Jvm.ClassFile.FieldType)) ∈ lw_all := lw_g (lw_at lw_m1 74 rfl) rfl
theorem q199 : (Jvm.Cond.methodLink "HeldTongue$View" (1 : Nat) ({ cls := "java/lang/Object", name := "<init>", desc := "()V" } : Jvm.MethodName)) ∈ lw_all := lw_g (lw_at lw_m1 75 rfl) rfl
theorem q1030 : (Jvm.Cond.declares ({ cls := "HeldTongue$View", name := "word", desc := "(I)I" } : Jvm.MethodName)) ∈ lw_tbl := lw_at lw_m4 186 rfl
theorem q1031 : (Jvm.Cond.sameMethod "HeldTongue$View" "HeldTongue$View" "word" "(I)I") ∈ lw_all := lw_g (lw_at lw_m4 187 rfl) rfl

/-! HeldTongue$Moment -/
set_option maxRecDepth 100000
def RX3 : String := "HeldTongue$Moment"
def TX3 : u_T := fun k => match k with
  | _ => ("HeldTongue$Moment", "values", "[I", true)
def tyX3 : Nat → FieldType := fun k => match k with
  | _ => .array .int
abbrev wsX30 : List Cond := u_ws RX3 TX3 1
theorem nmX3 : ∀ a, a < 1 → ∀ b, b < 1 → a ≠ b → (TX3 a).2.1 ≠ (TX3 b).2.1 := by decide +kernel
theorem tyX3_ok : ∀ k, k < 1 → parseFieldDescriptor (TX3 k).2.2.1 = some (tyX3 k) := by decide +kernel
abbrev cX3_init : ByteArray := prog_11_method_1_code
def yX3_init : MethodName := ⟨RX3, "<init>", "()V"⟩
def dkwX3_init_0 : List UInt8 := [42, 183, 0, 1, 42, 16, 7, 188, 10, 181, 0, 7, 177]
abbrev dktX3_init_0 : List UInt8 := dkwX3_init_0 ++ []
theorem dksX3_init_0 : cX3_init.data.toList.drop 0 = dktX3_init_0 := by decide +kernel
theorem dX3_init_0 : decode cX3_init 0 = .ok (.aload_n 0, 1) := dk_42 (dk_at dksX3_init_0 0 rfl rfl)
theorem dX3_init_1 : decode cX3_init 1 = .ok (.invokespecial 1, 3) := dk_183 0 1 (dk_at dksX3_init_0 1 rfl rfl)
theorem dX3_init_4 : decode cX3_init 4 = .ok (.aload_n 0, 1) := dk_42 (dk_at dksX3_init_0 4 rfl rfl)
theorem dX3_init_5 : decode cX3_init 5 = .ok (.bipush 7, 2) := dk_16 7 (dk_at dksX3_init_0 5 rfl rfl)
theorem dX3_init_7 : decode cX3_init 7 = .ok (.newarray .int, 2) := dk_188_10 (dk_at dksX3_init_0 7 rfl rfl)
theorem dX3_init_9 : decode cX3_init 9 = .ok (.putfield 7, 3) := dk_181 0 7 (dk_at dksX3_init_0 9 rfl rfl)
theorem dX3_init_12 : decode cX3_init 12 = .ok (.return_, 1) := dk_177 (dk_at dksX3_init_0 12 rfl rfl)
abbrev cX3_word : ByteArray := prog_11_method_2_code
def yX3_word : MethodName := ⟨RX3, "word", "(I)I"⟩
def dkwX3_word_0 : List UInt8 := [42, 180, 0, 7, 27, 46, 172]
abbrev dktX3_word_0 : List UInt8 := dkwX3_word_0 ++ []
theorem dksX3_word_0 : cX3_word.data.toList.drop 0 = dktX3_word_0 := by decide +kernel
theorem dX3_word_0 : decode cX3_word 0 = .ok (.aload_n 0, 1) := dk_42 (dk_at dksX3_word_0 0 rfl rfl)
theorem dX3_word_1 : decode cX3_word 1 = .ok (.getfield 7, 3) := dk_180 0 7 (dk_at dksX3_word_0 1 rfl rfl)
theorem dX3_word_4 : decode cX3_word 4 = .ok (.iload_n 1, 1) := dk_27 (dk_at dksX3_word_0 4 rfl rfl)
theorem dX3_word_5 : decode cX3_word 5 = .ok (.iaload, 1) := dk_46 (dk_at dksX3_word_0 5 rfl rfl)
theorem dX3_word_6 : decode cX3_word 6 = .ok (.ireturn, 1) := dk_172 (dk_at dksX3_word_0 6 rfl rfl)
theorem q128 : (Jvm.Cond.initialized "HeldTongue$Moment") ∈ lw_all := lw_g (lw_at lw_m1 4 rfl) rfl
theorem q192 : (Jvm.Cond.instantiable "HeldTongue$Moment" (1 : Nat)) ∈ lw_all := lw_g (lw_at lw_m1 68 rfl) rfl
theorem q194 : (Jvm.Cond.instanceMethod ({ cls := "HeldTongue$Moment", name := "<init>", desc := "()V" } : Jvm.MethodName)) ∈ lw_all := lw_g (lw_at lw_m1 70 rfl) rfl
theorem q195 : (Jvm.Cond.code ({ cls := "HeldTongue$Moment", name := "<init>", desc := "()V" } : Jvm.MethodName) prog_11_method_1_code (1 : Nat) (Option.none : Option Jvm.ClassFile.FieldType)) ∈ lw_all := lw_g (lw_at lw_m1 71 rfl) rfl
theorem q196 : (Jvm.Cond.methodLinkNest "HeldTongue$Moment" (1 : Nat) ({ cls := "HeldTongue$View", name := "<init>", desc := "()V" } : Jvm.MethodName) "HeldTongue") ∈ lw_tbl := lw_at lw_m1 72 rfl
theorem q200 : (Jvm.Cond.fieldLink "HeldTongue$Moment" (7 : Nat) "HeldTongue$Moment" "values" "[I") ∈ lw_all := lw_g (lw_at lw_m1 76 rfl) rfl
theorem q202 : (Jvm.Cond.laysFinal "HeldTongue$Moment" "HeldTongue$Moment" "values" "[I") ∈ lw_all := lw_g (lw_at lw_m1 78 rfl) rfl
theorem q203 : (Jvm.Cond.soleField "HeldTongue$Moment" "values") ∈ lw_all := lw_g (lw_at lw_m1 79 rfl) rfl
theorem q204 : (Jvm.Cond.superclass "HeldTongue$Moment" "HeldTongue$View") ∈ lw_all := lw_g (lw_at lw_m1 80 rfl) rfl
theorem q1032 : (Jvm.Cond.selects "HeldTongue$Moment" ({ cls := "HeldTongue$View", name := "word", desc := "(I)I" } : Jvm.MethodName) ({ cls := "HeldTongue$Moment", name := "word", desc := "(I)I" } : Jvm.MethodName)) ∈ lw_all := lw_g (lw_at lw_m4 188 rfl) rfl
theorem q1033 : (Jvm.Cond.instanceMethod ({ cls := "HeldTongue$Moment", name := "word", desc := "(I)I" } : Jvm.MethodName)) ∈ lw_all := lw_g (lw_at lw_m4 189 rfl) rfl
theorem q1034 : (Jvm.Cond.code ({ cls := "HeldTongue$Moment", name := "word", desc := "(I)I" } : Jvm.MethodName) prog_11_method_2_code (2 : Nat) (Option.some Jvm.ClassFile.FieldType.int)) ∈ lw_all := lw_g (lw_at lw_m4 190 rfl) rfl
theorem in_X3 : ∀ w ∈ wsX30, w ∈ lw_all := lw_in wsX30 [202] (by decide +kernel) (by decide +kernel)

/-! HeldTongue$Reader -/
set_option maxRecDepth 100000
def RX5 : String := "HeldTongue$Reader"
def TX5 : u_T := fun k => match k with
  | 0 => ("HeldTongue$Reader", "text", "[B", true)
  | 1 => ("HeldTongue$Reader", "end", "I", true)
  | 2 => ("HeldTongue$Reader", "at", "I", false)
  | 3 => ("HeldTongue$Reader", "place", "I", false)
  | 4 => ("HeldTongue$Reader", "kind", "I", false)
  | 5 => ("HeldTongue$Reader", "value", "I", false)
  | 6 => ("HeldTongue$Reader", "named", "I", false)
  | 7 => ("HeldTongue$Reader", "open", "I", false)
  | 8 => ("HeldTongue$Reader", "clauses", "I", false)
  | _ => ("HeldTongue$Reader", "head", "I", false)
def tyX5 : Nat → FieldType := fun k => match k with
  | 0 => .array .byte
  | 1 => .int
  | 2 => .int
  | 3 => .int
  | 4 => .int
  | 5 => .int
  | 6 => .int
  | 7 => .int
  | 8 => .int
  | _ => .int
abbrev wsX50 : List Cond := u_ws RX5 TX5 10
theorem nmX5 : ∀ a, a < 10 → ∀ b, b < 10 → a ≠ b → (TX5 a).2.1 ≠ (TX5 b).2.1 := by decide +kernel
theorem tyX5_ok : ∀ k, k < 10 → parseFieldDescriptor (TX5 k).2.2.1 = some (tyX5 k) := by decide +kernel
abbrev cX5_init : ByteArray := prog_15_method_1_code
def yX5_init : MethodName := ⟨RX5, "<init>", "([BI)V"⟩
def dkwX5_init_0 : List UInt8 := [42, 183, 0, 3, 42, 43, 181, 0, 9, 42, 28, 181, 0, 15, 177]
abbrev dktX5_init_0 : List UInt8 := dkwX5_init_0 ++ []
theorem dksX5_init_0 : cX5_init.data.toList.drop 0 = dktX5_init_0 := by decide +kernel
theorem dX5_init_0 : decode cX5_init 0 = .ok (.aload_n 0, 1) := dk_42 (dk_at dksX5_init_0 0 rfl rfl)
theorem dX5_init_1 : decode cX5_init 1 = .ok (.invokespecial 3, 3) := dk_183 0 3 (dk_at dksX5_init_0 1 rfl rfl)
theorem dX5_init_4 : decode cX5_init 4 = .ok (.aload_n 0, 1) := dk_42 (dk_at dksX5_init_0 4 rfl rfl)
theorem dX5_init_5 : decode cX5_init 5 = .ok (.aload_n 1, 1) := dk_43 (dk_at dksX5_init_0 5 rfl rfl)
theorem dX5_init_6 : decode cX5_init 6 = .ok (.putfield 9, 3) := dk_181 0 9 (dk_at dksX5_init_0 6 rfl rfl)
theorem dX5_init_9 : decode cX5_init 9 = .ok (.aload_n 0, 1) := dk_42 (dk_at dksX5_init_0 9 rfl rfl)
theorem dX5_init_10 : decode cX5_init 10 = .ok (.iload_n 2, 1) := dk_28 (dk_at dksX5_init_0 10 rfl rfl)
theorem dX5_init_11 : decode cX5_init 11 = .ok (.putfield 15, 3) := dk_181 0 15 (dk_at dksX5_init_0 11 rfl rfl)
theorem dX5_init_14 : decode cX5_init 14 = .ok (.return_, 1) := dk_177 (dk_at dksX5_init_0 14 rfl rfl)
abbrev cX5_read : ByteArray := prog_15_method_15_code
def yX5_read : MethodName := ⟨RX5, "read", "()LHeldTongue$Lexicon;"⟩
def dkwX5_read_7 : List UInt8 := [182, 0, 98, 167, 255, 107, 43, 42, 180, 0, 107, 181, 0, 164, 43, 176]
abbrev dktX5_read_7 : List UInt8 := dkwX5_read_7 ++ []
def dkwX5_read_6 : List UInt8 := [43, 42, 182, 0, 152, 181, 0, 137, 167, 0, 11, 43, 42, 182, 0, 156, 182, 0, 160, 42, 16, 59]
abbrev dktX5_read_6 : List UInt8 := dkwX5_read_6 ++ dktX5_read_7
def dkwX5_read_5 : List UInt8 := [160, 0, 14, 43, 42, 182, 0, 144, 182, 0, 148, 167, 0, 32, 42, 180, 0, 141, 17, 1, 55, 160, 0, 14]
abbrev dktX5_read_5 : List UInt8 := dkwX5_read_5 ++ dktX5_read_6
def dkwX5_read_4 : List UInt8 := [181, 0, 107, 42, 42, 180, 0, 60, 181, 0, 141, 42, 182, 0, 92, 42, 180, 0, 141, 17, 1, 54]
abbrev dktX5_read_4 : List UInt8 := dkwX5_read_4 ++ dktX5_read_5
def dkwX5_read_3 : List UInt8 := [180, 0, 107, 16, 24, 160, 0, 10, 42, 16, 6, 182, 0, 88, 191, 42, 89, 180, 0, 107, 4, 96]
abbrev dktX5_read_3 : List UInt8 := dkwX5_read_3 ++ dktX5_read_4
def dkwX5_read_2 : List UInt8 := [180, 0, 60, 17, 1, 55, 160, 0, 16, 43, 180, 0, 137, 198, 0, 9, 42, 7, 182, 0, 88, 191, 42]
abbrev dktX5_read_2 : List UInt8 := dkwX5_read_2 ++ dktX5_read_3
def dkwX5_read_1 : List UInt8 := [180, 0, 60, 17, 1, 54, 17, 1, 56, 184, 0, 26, 154, 0, 9, 42, 4, 182, 0, 88, 191, 42]
abbrev dktX5_read_1 : List UInt8 := dkwX5_read_1 ++ dktX5_read_2
def dkwX5_read_0 : List UInt8 := [187, 0, 134, 89, 183, 0, 136, 76, 42, 182, 0, 92, 42, 180, 0, 60, 17, 1, 44, 159, 0, 145, 42]
abbrev dktX5_read_0 : List UInt8 := dkwX5_read_0 ++ dktX5_read_1
theorem dksX5_read_0 : cX5_read.data.toList.drop 0 = dktX5_read_0 := by decide +kernel
theorem dksX5_read_1 : cX5_read.data.toList.drop 23 = dktX5_read_1 := dk_seg dksX5_read_0 23 rfl rfl
theorem dksX5_read_2 : cX5_read.data.toList.drop 45 = dktX5_read_2 := dk_seg dksX5_read_1 22 rfl rfl
theorem dksX5_read_3 : cX5_read.data.toList.drop 68 = dktX5_read_3 := dk_seg dksX5_read_2 23 rfl rfl
theorem dksX5_read_4 : cX5_read.data.toList.drop 90 = dktX5_read_4 := dk_seg dksX5_read_3 22 rfl rfl
theorem dksX5_read_5 : cX5_read.data.toList.drop 112 = dktX5_read_5 := dk_seg dksX5_read_4 22 rfl rfl
theorem dksX5_read_6 : cX5_read.data.toList.drop 136 = dktX5_read_6 := dk_seg dksX5_read_5 24 rfl rfl
theorem dksX5_read_7 : cX5_read.data.toList.drop 158 = dktX5_read_7 := dk_seg dksX5_read_6 22 rfl rfl
theorem dX5_read_0 : decode cX5_read 0 = .ok (.new 134, 3) := dk_187 0 134 (dk_at dksX5_read_0 0 rfl rfl)
theorem dX5_read_3 : decode cX5_read 3 = .ok (.dup, 1) := dk_89 (dk_at dksX5_read_0 3 rfl rfl)
theorem dX5_read_4 : decode cX5_read 4 = .ok (.invokespecial 136, 3) := dk_183 0 136 (dk_at dksX5_read_0 4 rfl rfl)
theorem dX5_read_7 : decode cX5_read 7 = .ok (.astore_n 1, 1) := dk_76 (dk_at dksX5_read_0 7 rfl rfl)
theorem dX5_read_8 : decode cX5_read 8 = .ok (.aload_n 0, 1) := dk_42 (dk_at dksX5_read_0 8 rfl rfl)
theorem dX5_read_9 : decode cX5_read 9 = .ok (.invokevirtual 92, 3) := dk_182 0 92 (dk_at dksX5_read_0 9 rfl rfl)
theorem dX5_read_12 : decode cX5_read 12 = .ok (.aload_n 0, 1) := dk_42 (dk_at dksX5_read_0 12 rfl rfl)
theorem dX5_read_13 : decode cX5_read 13 = .ok (.getfield 60, 3) := dk_180 0 60 (dk_at dksX5_read_0 13 rfl rfl)
theorem dX5_read_16 : decode cX5_read 16 = .ok (.sipush 300, 3) := dk_17 1 44 (dk_at dksX5_read_0 16 rfl rfl)
theorem dX5_read_19 : decode cX5_read 19 = .ok (.if_icmp .eq 145, 3) := dk_159 0 145 (dk_at dksX5_read_0 19 rfl rfl)
theorem dX5_read_22 : decode cX5_read 22 = .ok (.aload_n 0, 1) := dk_42 (dk_at dksX5_read_0 22 rfl rfl)
theorem dX5_read_23 : decode cX5_read 23 = .ok (.getfield 60, 3) := dk_180 0 60 (dk_at dksX5_read_1 0 rfl rfl)
theorem dX5_read_26 : decode cX5_read 26 = .ok (.sipush 310, 3) := dk_17 1 54 (dk_at dksX5_read_1 3 rfl rfl)
theorem dX5_read_29 : decode cX5_read 29 = .ok (.sipush 312, 3) := dk_17 1 56 (dk_at dksX5_read_1 6 rfl rfl)
theorem dX5_read_32 : decode cX5_read 32 = .ok (.invokestatic 26, 3) := dk_184 0 26 (dk_at dksX5_read_1 9 rfl rfl)
theorem dX5_read_35 : decode cX5_read 35 = .ok (.ifCond .ne 9, 3) := dk_154 0 9 (dk_at dksX5_read_1 12 rfl rfl)
theorem dX5_read_38 : decode cX5_read 38 = .ok (.aload_n 0, 1) := dk_42 (dk_at dksX5_read_1 15 rfl rfl)
theorem dX5_read_39 : decode cX5_read 39 = .ok (.iconst 1, 1) := dk_4 (dk_at dksX5_read_1 16 rfl rfl)
theorem dX5_read_40 : decode cX5_read 40 = .ok (.invokevirtual 88, 3) := dk_182 0 88 (dk_at dksX5_read_1 17 rfl rfl)
theorem dX5_read_43 : decode cX5_read 43 = .ok (.athrow, 1) := dk_191 (dk_at dksX5_read_1 20 rfl rfl)
theorem dX5_read_44 : decode cX5_read 44 = .ok (.aload_n 0, 1) := dk_42 (dk_at dksX5_read_1 21 rfl rfl)
theorem dX5_read_45 : decode cX5_read 45 = .ok (.getfield 60, 3) := dk_180 0 60 (dk_at dksX5_read_2 0 rfl rfl)
theorem dX5_read_48 : decode cX5_read 48 = .ok (.sipush 311, 3) := dk_17 1 55 (dk_at dksX5_read_2 3 rfl rfl)
theorem dX5_read_51 : decode cX5_read 51 = .ok (.if_icmp .ne 16, 3) := dk_160 0 16 (dk_at dksX5_read_2 6 rfl rfl)
theorem dX5_read_54 : decode cX5_read 54 = .ok (.aload_n 1, 1) := dk_43 (dk_at dksX5_read_2 9 rfl rfl)
theorem dX5_read_55 : decode cX5_read 55 = .ok (.getfield 137, 3) := dk_180 0 137 (dk_at dksX5_read_2 10 rfl rfl)
theorem dX5_read_58 : decode cX5_read 58 = .ok (.ifnull 9, 3) := dk_198 0 9 (dk_at dksX5_read_2 13 rfl rfl)
theorem dX5_read_61 : decode cX5_read 61 = .ok (.aload_n 0, 1) := dk_42 (dk_at dksX5_read_2 16 rfl rfl)
theorem dX5_read_62 : decode cX5_read 62 = .ok (.iconst 4, 1) := dk_7 (dk_at dksX5_read_2 17 rfl rfl)
theorem dX5_read_63 : decode cX5_read 63 = .ok (.invokevirtual 88, 3) := dk_182 0 88 (dk_at dksX5_read_2 18 rfl rfl)
theorem dX5_read_66 : decode cX5_read 66 = .ok (.athrow, 1) := dk_191 (dk_at dksX5_read_2 21 rfl rfl)
theorem dX5_read_67 : decode cX5_read 67 = .ok (.aload_n 0, 1) := dk_42 (dk_at dksX5_read_2 22 rfl rfl)
theorem dX5_read_68 : decode cX5_read 68 = .ok (.getfield 107, 3) := dk_180 0 107 (dk_at dksX5_read_3 0 rfl rfl)
theorem dX5_read_71 : decode cX5_read 71 = .ok (.bipush 24, 2) := dk_16 24 (dk_at dksX5_read_3 3 rfl rfl)
theorem dX5_read_73 : decode cX5_read 73 = .ok (.if_icmp .ne 10, 3) := dk_160 0 10 (dk_at dksX5_read_3 5 rfl rfl)
theorem dX5_read_76 : decode cX5_read 76 = .ok (.aload_n 0, 1) := dk_42 (dk_at dksX5_read_3 8 rfl rfl)
theorem dX5_read_77 : decode cX5_read 77 = .ok (.bipush 6, 2) := dk_16 6 (dk_at dksX5_read_3 9 rfl rfl)
theorem dX5_read_79 : decode cX5_read 79 = .ok (.invokevirtual 88, 3) := dk_182 0 88 (dk_at dksX5_read_3 11 rfl rfl)
theorem dX5_read_82 : decode cX5_read 82 = .ok (.athrow, 1) := dk_191 (dk_at dksX5_read_3 14 rfl rfl)
theorem dX5_read_83 : decode cX5_read 83 = .ok (.aload_n 0, 1) := dk_42 (dk_at dksX5_read_3 15 rfl rfl)
theorem dX5_read_84 : decode cX5_read 84 = .ok (.dup, 1) := dk_89 (dk_at dksX5_read_3 16 rfl rfl)
theorem dX5_read_85 : decode cX5_read 85 = .ok (.getfield 107, 3) := dk_180 0 107 (dk_at dksX5_read_3 17 rfl rfl)
theorem dX5_read_88 : decode cX5_read 88 = .ok (.iconst 1, 1) := dk_4 (dk_at dksX5_read_3 20 rfl rfl)
theorem dX5_read_89 : decode cX5_read 89 = .ok (.iadd, 1) := dk_96 (dk_at dksX5_read_3 21 rfl rfl)
theorem dX5_read_90 : decode cX5_read 90 = .ok (.putfield 107, 3) := dk_181 0 107 (dk_at dksX5_read_4 0 rfl rfl)
theorem dX5_read_93 : decode cX5_read 93 = .ok (.aload_n 0, 1) := dk_42 (dk_at dksX5_read_4 3 rfl rfl)
theorem dX5_read_94 : decode cX5_read 94 = .ok (.aload_n 0, 1) := dk_42 (dk_at dksX5_read_4 4 rfl rfl)
theorem dX5_read_95 : decode cX5_read 95 = .ok (.getfield 60, 3) := dk_180 0 60 (dk_at dksX5_read_4 5 rfl rfl)
theorem dX5_read_98 : decode cX5_read 98 = .ok (.putfield 141, 3) := dk_181 0 141 (dk_at dksX5_read_4 8 rfl rfl)
theorem dX5_read_101 : decode cX5_read 101 = .ok (.aload_n 0, 1) := dk_42 (dk_at dksX5_read_4 11 rfl rfl)
theorem dX5_read_102 : decode cX5_read 102 = .ok (.invokevirtual 92, 3) := dk_182 0 92 (dk_at dksX5_read_4 12 rfl rfl)
theorem dX5_read_105 : decode cX5_read 105 = .ok (.aload_n 0, 1) := dk_42 (dk_at dksX5_read_4 15 rfl rfl)
theorem dX5_read_106 : decode cX5_read 106 = .ok (.getfield 141, 3) := dk_180 0 141 (dk_at dksX5_read_4 16 rfl rfl)
theorem dX5_read_109 : decode cX5_read 109 = .ok (.sipush 310, 3) := dk_17 1 54 (dk_at dksX5_read_4 19 rfl rfl)
theorem dX5_read_112 : decode cX5_read 112 = .ok (.if_icmp .ne 14, 3) := dk_160 0 14 (dk_at dksX5_read_5 0 rfl rfl)
theorem dX5_read_115 : decode cX5_read 115 = .ok (.aload_n 1, 1) := dk_43 (dk_at dksX5_read_5 3 rfl rfl)
theorem dX5_read_116 : decode cX5_read 116 = .ok (.aload_n 0, 1) := dk_42 (dk_at dksX5_read_5 4 rfl rfl)
theorem dX5_read_117 : decode cX5_read 117 = .ok (.invokevirtual 144, 3) := dk_182 0 144 (dk_at dksX5_read_5 5 rfl rfl)
theorem dX5_read_120 : decode cX5_read 120 = .ok (.invokevirtual 148, 3) := dk_182 0 148 (dk_at dksX5_read_5 8 rfl rfl)
theorem dX5_read_123 : decode cX5_read 123 = .ok (.goto 32, 3) := dk_167 0 32 (dk_at dksX5_read_5 11 rfl rfl)
theorem dX5_read_126 : decode cX5_read 126 = .ok (.aload_n 0, 1) := dk_42 (dk_at dksX5_read_5 14 rfl rfl)
theorem dX5_read_127 : decode cX5_read 127 = .ok (.getfield 141, 3) := dk_180 0 141 (dk_at dksX5_read_5 15 rfl rfl)
theorem dX5_read_130 : decode cX5_read 130 = .ok (.sipush 311, 3) := dk_17 1 55 (dk_at dksX5_read_5 18 rfl rfl)
theorem dX5_read_133 : decode cX5_read 133 = .ok (.if_icmp .ne 14, 3) := dk_160 0 14 (dk_at dksX5_read_5 21 rfl rfl)
theorem dX5_read_136 : decode cX5_read 136 = .ok (.aload_n 1, 1) := dk_43 (dk_at dksX5_read_6 0 rfl rfl)
theorem dX5_read_137 : decode cX5_read 137 = .ok (.aload_n 0, 1) := dk_42 (dk_at dksX5_read_6 1 rfl rfl)
theorem dX5_read_138 : decode cX5_read 138 = .ok (.invokevirtual 152, 3) := dk_182 0 152 (dk_at dksX5_read_6 2 rfl rfl)
theorem dX5_read_141 : decode cX5_read 141 = .ok (.putfield 137, 3) := dk_181 0 137 (dk_at dksX5_read_6 5 rfl rfl)
theorem dX5_read_144 : decode cX5_read 144 = .ok (.goto 11, 3) := dk_167 0 11 (dk_at dksX5_read_6 8 rfl rfl)
theorem dX5_read_147 : decode cX5_read 147 = .ok (.aload_n 1, 1) := dk_43 (dk_at dksX5_read_6 11 rfl rfl)
theorem dX5_read_148 : decode cX5_read 148 = .ok (.aload_n 0, 1) := dk_42 (dk_at dksX5_read_6 12 rfl rfl)
theorem dX5_read_149 : decode cX5_read 149 = .ok (.invokevirtual 156, 3) := dk_182 0 156 (dk_at dksX5_read_6 13 rfl rfl)
theorem dX5_read_152 : decode cX5_read 152 = .ok (.invokevirtual 160, 3) := dk_182 0 160 (dk_at dksX5_read_6 16 rfl rfl)
theorem dX5_read_155 : decode cX5_read 155 = .ok (.aload_n 0, 1) := dk_42 (dk_at dksX5_read_6 19 rfl rfl)
theorem dX5_read_156 : decode cX5_read 156 = .ok (.bipush 59, 2) := dk_16 59 (dk_at dksX5_read_6 20 rfl rfl)
theorem dX5_read_158 : decode cX5_read 158 = .ok (.invokevirtual 98, 3) := dk_182 0 98 (dk_at dksX5_read_7 0 rfl rfl)
theorem dX5_read_161 : decode cX5_read 161 = .ok (.goto (-149), 3) := dk_167 255 107 (dk_at dksX5_read_7 3 rfl rfl)
theorem dX5_read_164 : decode cX5_read 164 = .ok (.aload_n 1, 1) := dk_43 (dk_at dksX5_read_7 6 rfl rfl)
theorem dX5_read_165 : decode cX5_read 165 = .ok (.aload_n 0, 1) := dk_42 (dk_at dksX5_read_7 7 rfl rfl)
theorem dX5_read_166 : decode cX5_read 166 = .ok (.getfield 107, 3) := dk_180 0 107 (dk_at dksX5_read_7 8 rfl rfl)
theorem dX5_read_169 : decode cX5_read 169 = .ok (.putfield 164, 3) := dk_181 0 164 (dk_at dksX5_read_7 11 rfl rfl)
theorem dX5_read_172 : decode cX5_read 172 = .ok (.aload_n 1, 1) := dk_43 (dk_at dksX5_read_7 14 rfl rfl)
theorem dX5_read_173 : decode cX5_read 173 = .ok (.areturn, 1) := dk_176 (dk_at dksX5_read_7 15 rfl rfl)
abbrev cX5_next : ByteArray := prog_15_method_8_code
def yX5_next : MethodName := ⟨RX5, "next", "()V"⟩
def dkwX5_next_9 : List UInt8 := [17, 1, 49, 181, 0, 60, 177]
abbrev dktX5_next_9 : List UInt8 := dkwX5_next_9 ++ []
def dkwX5_next_8 : List UInt8 := [42, 89, 180, 0, 19, 4, 96, 181, 0, 19, 42, 27, 16, 60, 160, 0, 9, 17, 1, 48, 167, 0, 6]
abbrev dktX5_next_8 : List UInt8 := dkwX5_next_8 ++ dktX5_next_9
def dkwX5_next_7 : List UInt8 := [181, 0, 60, 27, 16, 60, 159, 0, 9, 27, 16, 62, 160, 0, 41, 42, 182, 0, 22, 16, 61, 160, 0, 32]
abbrev dktX5_next_7 : List UInt8 := dkwX5_next_7 ++ dktX5_next_8
def dkwX5_next_6 : List UInt8 := [89, 180, 0, 19, 4, 96, 181, 0, 19, 42, 27, 184, 0, 79, 153, 0, 7, 27, 167, 0, 6, 17, 1, 47]
abbrev dktX5_next_6 : List UInt8 := dkwX5_next_6 ++ dktX5_next_7
def dkwX5_next_5 : List UInt8 := [96, 16, 48, 100, 184, 0, 73, 181, 0, 69, 42, 89, 180, 0, 19, 4, 96, 181, 0, 19, 167, 255, 215, 42]
abbrev dktX5_next_5 : List UInt8 := dkwX5_next_5 ++ dktX5_next_6
def dkwX5_next_4 : List UInt8 := [181, 0, 69, 42, 182, 0, 66, 153, 0, 118, 42, 18, 72, 16, 10, 42, 180, 0, 69, 104, 42, 182, 0, 22]
abbrev dktX5_next_4 : List UInt8 := dkwX5_next_4 ++ dktX5_next_5
def dkwX5_next_3 : List UInt8 := [182, 0, 63, 167, 0, 144, 42, 182, 0, 66, 153, 0, 59, 42, 17, 1, 45, 181, 0, 60, 42, 3]
abbrev dktX5_next_3 : List UInt8 := dkwX5_next_3 ++ dktX5_next_4
def dkwX5_next_2 : List UInt8 := [60, 27, 156, 0, 13, 42, 17, 1, 44, 181, 0, 60, 167, 0, 158, 42, 182, 0, 42, 153, 0, 10, 42]
abbrev dktX5_next_2 : List UInt8 := dkwX5_next_2 ++ dktX5_next_3
def dkwX5_next_1 : List UInt8 := [96, 181, 0, 19, 167, 255, 228, 42, 42, 180, 0, 19, 181, 0, 35, 42, 2, 181, 0, 57, 42, 182, 0, 22]
abbrev dktX5_next_1 : List UInt8 := dkwX5_next_1 ++ dktX5_next_2
def dkwX5_next_0 : List UInt8 := [42, 182, 0, 22, 16, 32, 159, 0, 12, 42, 182, 0, 22, 16, 10, 160, 0, 16, 42, 89, 180, 0, 19, 4]
abbrev dktX5_next_0 : List UInt8 := dkwX5_next_0 ++ dktX5_next_1
theorem dksX5_next_0 : cX5_next.data.toList.drop 0 = dktX5_next_0 := by decide +kernel
theorem dksX5_next_1 : cX5_next.data.toList.drop 24 = dktX5_next_1 := dk_seg dksX5_next_0 24 rfl rfl
theorem dksX5_next_2 : cX5_next.data.toList.drop 48 = dktX5_next_2 := dk_seg dksX5_next_1 24 rfl rfl
theorem dksX5_next_3 : cX5_next.data.toList.drop 71 = dktX5_next_3 := dk_seg dksX5_next_2 23 rfl rfl
theorem dksX5_next_4 : cX5_next.data.toList.drop 93 = dktX5_next_4 := dk_seg dksX5_next_3 22 rfl rfl
theorem dksX5_next_5 : cX5_next.data.toList.drop 117 = dktX5_next_5 := dk_seg dksX5_next_4 24 rfl rfl
theorem dksX5_next_6 : cX5_next.data.toList.drop 141 = dktX5_next_6 := dk_seg dksX5_next_5 24 rfl rfl
theorem dksX5_next_7 : cX5_next.data.toList.drop 165 = dktX5_next_7 := dk_seg dksX5_next_6 24 rfl rfl
theorem dksX5_next_8 : cX5_next.data.toList.drop 189 = dktX5_next_8 := dk_seg dksX5_next_7 24 rfl rfl
theorem dksX5_next_9 : cX5_next.data.toList.drop 212 = dktX5_next_9 := dk_seg dksX5_next_8 23 rfl rfl
theorem dX5_next_0 : decode cX5_next 0 = .ok (.aload_n 0, 1) := dk_42 (dk_at dksX5_next_0 0 rfl rfl)
theorem dX5_next_1 : decode cX5_next 1 = .ok (.invokevirtual 22, 3) := dk_182 0 22 (dk_at dksX5_next_0 1 rfl rfl)
theorem dX5_next_4 : decode cX5_next 4 = .ok (.bipush 32, 2) := dk_16 32 (dk_at dksX5_next_0 4 rfl rfl)
theorem dX5_next_6 : decode cX5_next 6 = .ok (.if_icmp .eq 12, 3) := dk_159 0 12 (dk_at dksX5_next_0 6 rfl rfl)
theorem dX5_next_9 : decode cX5_next 9 = .ok (.aload_n 0, 1) := dk_42 (dk_at dksX5_next_0 9 rfl rfl)
theorem dX5_next_10 : decode cX5_next 10 = .ok (.invokevirtual 22, 3) := dk_182 0 22 (dk_at dksX5_next_0 10 rfl rfl)
theorem dX5_next_13 : decode cX5_next 13 = .ok (.bipush 10, 2) := dk_16 10 (dk_at dksX5_next_0 13 rfl rfl)
theorem dX5_next_15 : decode cX5_next 15 = .ok (.if_icmp .ne 16, 3) := dk_160 0 16 (dk_at dksX5_next_0 15 rfl rfl)
theorem dX5_next_18 : decode cX5_next 18 = .ok (.aload_n 0, 1) := dk_42 (dk_at dksX5_next_0 18 rfl rfl)
theorem dX5_next_19 : decode cX5_next 19 = .ok (.dup, 1) := dk_89 (dk_at dksX5_next_0 19 rfl rfl)
theorem dX5_next_20 : decode cX5_next 20 = .ok (.getfield 19, 3) := dk_180 0 19 (dk_at dksX5_next_0 20 rfl rfl)
theorem dX5_next_23 : decode cX5_next 23 = .ok (.iconst 1, 1) := dk_4 (dk_at dksX5_next_0 23 rfl rfl)
theorem dX5_next_24 : decode cX5_next 24 = .ok (.iadd, 1) := dk_96 (dk_at dksX5_next_1 0 rfl rfl)
theorem dX5_next_25 : decode cX5_next 25 = .ok (.putfield 19, 3) := dk_181 0 19 (dk_at dksX5_next_1 1 rfl rfl)
theorem dX5_next_28 : decode cX5_next 28 = .ok (.goto (-28), 3) := dk_167 255 228 (dk_at dksX5_next_1 4 rfl rfl)
theorem dX5_next_31 : decode cX5_next 31 = .ok (.aload_n 0, 1) := dk_42 (dk_at dksX5_next_1 7 rfl rfl)
theorem dX5_next_32 : decode cX5_next 32 = .ok (.aload_n 0, 1) := dk_42 (dk_at dksX5_next_1 8 rfl rfl)
theorem dX5_next_33 : decode cX5_next 33 = .ok (.getfield 19, 3) := dk_180 0 19 (dk_at dksX5_next_1 9 rfl rfl)
theorem dX5_next_36 : decode cX5_next 36 = .ok (.putfield 35, 3) := dk_181 0 35 (dk_at dksX5_next_1 12 rfl rfl)
theorem dX5_next_39 : decode cX5_next 39 = .ok (.aload_n 0, 1) := dk_42 (dk_at dksX5_next_1 15 rfl rfl)
theorem dX5_next_40 : decode cX5_next 40 = .ok (.iconst (-1), 1) := dk_2 (dk_at dksX5_next_1 16 rfl rfl)
theorem dX5_next_41 : decode cX5_next 41 = .ok (.putfield 57, 3) := dk_181 0 57 (dk_at dksX5_next_1 17 rfl rfl)
theorem dX5_next_44 : decode cX5_next 44 = .ok (.aload_n 0, 1) := dk_42 (dk_at dksX5_next_1 20 rfl rfl)
theorem dX5_next_45 : decode cX5_next 45 = .ok (.invokevirtual 22, 3) := dk_182 0 22 (dk_at dksX5_next_1 21 rfl rfl)
theorem dX5_next_48 : decode cX5_next 48 = .ok (.istore_n 1, 1) := dk_60 (dk_at dksX5_next_2 0 rfl rfl)
theorem dX5_next_49 : decode cX5_next 49 = .ok (.iload_n 1, 1) := dk_27 (dk_at dksX5_next_2 1 rfl rfl)
theorem dX5_next_50 : decode cX5_next 50 = .ok (.ifCond .ge 13, 3) := dk_156 0 13 (dk_at dksX5_next_2 2 rfl rfl)
theorem dX5_next_53 : decode cX5_next 53 = .ok (.aload_n 0, 1) := dk_42 (dk_at dksX5_next_2 5 rfl rfl)
theorem dX5_next_54 : decode cX5_next 54 = .ok (.sipush 300, 3) := dk_17 1 44 (dk_at dksX5_next_2 6 rfl rfl)
theorem dX5_next_57 : decode cX5_next 57 = .ok (.putfield 60, 3) := dk_181 0 60 (dk_at dksX5_next_2 9 rfl rfl)
theorem dX5_next_60 : decode cX5_next 60 = .ok (.goto 158, 3) := dk_167 0 158 (dk_at dksX5_next_2 12 rfl rfl)
theorem dX5_next_63 : decode cX5_next 63 = .ok (.aload_n 0, 1) := dk_42 (dk_at dksX5_next_2 15 rfl rfl)
theorem dX5_next_64 : decode cX5_next 64 = .ok (.invokevirtual 42, 3) := dk_182 0 42 (dk_at dksX5_next_2 16 rfl rfl)
theorem dX5_next_67 : decode cX5_next 67 = .ok (.ifCond .eq 10, 3) := dk_153 0 10 (dk_at dksX5_next_2 19 rfl rfl)
theorem dX5_next_70 : decode cX5_next 70 = .ok (.aload_n 0, 1) := dk_42 (dk_at dksX5_next_2 22 rfl rfl)
theorem dX5_next_71 : decode cX5_next 71 = .ok (.invokevirtual 63, 3) := dk_182 0 63 (dk_at dksX5_next_3 0 rfl rfl)
theorem dX5_next_74 : decode cX5_next 74 = .ok (.goto 144, 3) := dk_167 0 144 (dk_at dksX5_next_3 3 rfl rfl)
theorem dX5_next_77 : decode cX5_next 77 = .ok (.aload_n 0, 1) := dk_42 (dk_at dksX5_next_3 6 rfl rfl)
theorem dX5_next_78 : decode cX5_next 78 = .ok (.invokevirtual 66, 3) := dk_182 0 66 (dk_at dksX5_next_3 7 rfl rfl)
theorem dX5_next_81 : decode cX5_next 81 = .ok (.ifCond .eq 59, 3) := dk_153 0 59 (dk_at dksX5_next_3 10 rfl rfl)
theorem dX5_next_84 : decode cX5_next 84 = .ok (.aload_n 0, 1) := dk_42 (dk_at dksX5_next_3 13 rfl rfl)
theorem dX5_next_85 : decode cX5_next 85 = .ok (.sipush 301, 3) := dk_17 1 45 (dk_at dksX5_next_3 14 rfl rfl)
theorem dX5_next_88 : decode cX5_next 88 = .ok (.putfield 60, 3) := dk_181 0 60 (dk_at dksX5_next_3 17 rfl rfl)
theorem dX5_next_91 : decode cX5_next 91 = .ok (.aload_n 0, 1) := dk_42 (dk_at dksX5_next_3 20 rfl rfl)
theorem dX5_next_92 : decode cX5_next 92 = .ok (.iconst 0, 1) := dk_3 (dk_at dksX5_next_3 21 rfl rfl)
theorem dX5_next_93 : decode cX5_next 93 = .ok (.putfield 69, 3) := dk_181 0 69 (dk_at dksX5_next_4 0 rfl rfl)
theorem dX5_next_96 : decode cX5_next 96 = .ok (.aload_n 0, 1) := dk_42 (dk_at dksX5_next_4 3 rfl rfl)
theorem dX5_next_97 : decode cX5_next 97 = .ok (.invokevirtual 66, 3) := dk_182 0 66 (dk_at dksX5_next_4 4 rfl rfl)
theorem dX5_next_100 : decode cX5_next 100 = .ok (.ifCond .eq 118, 3) := dk_153 0 118 (dk_at dksX5_next_4 7 rfl rfl)
theorem dX5_next_103 : decode cX5_next 103 = .ok (.aload_n 0, 1) := dk_42 (dk_at dksX5_next_4 10 rfl rfl)
theorem dX5_next_104 : decode cX5_next 104 = .ok (.ldc 72, 2) := dk_18 72 (dk_at dksX5_next_4 11 rfl rfl)
theorem dX5_next_106 : decode cX5_next 106 = .ok (.bipush 10, 2) := dk_16 10 (dk_at dksX5_next_4 13 rfl rfl)
theorem dX5_next_108 : decode cX5_next 108 = .ok (.aload_n 0, 1) := dk_42 (dk_at dksX5_next_4 15 rfl rfl)
theorem dX5_next_109 : decode cX5_next 109 = .ok (.getfield 69, 3) := dk_180 0 69 (dk_at dksX5_next_4 16 rfl rfl)
theorem dX5_next_112 : decode cX5_next 112 = .ok (.imul, 1) := dk_104 (dk_at dksX5_next_4 19 rfl rfl)
theorem dX5_next_113 : decode cX5_next 113 = .ok (.aload_n 0, 1) := dk_42 (dk_at dksX5_next_4 20 rfl rfl)
theorem dX5_next_114 : decode cX5_next 114 = .ok (.invokevirtual 22, 3) := dk_182 0 22 (dk_at dksX5_next_4 21 rfl rfl)
theorem dX5_next_117 : decode cX5_next 117 = .ok (.iadd, 1) := dk_96 (dk_at dksX5_next_5 0 rfl rfl)
theorem dX5_next_118 : decode cX5_next 118 = .ok (.bipush 48, 2) := dk_16 48 (dk_at dksX5_next_5 1 rfl rfl)
theorem dX5_next_120 : decode cX5_next 120 = .ok (.isub, 1) := dk_100 (dk_at dksX5_next_5 3 rfl rfl)
theorem dX5_next_121 : decode cX5_next 121 = .ok (.invokestatic 73, 3) := dk_184 0 73 (dk_at dksX5_next_5 4 rfl rfl)
theorem dX5_next_124 : decode cX5_next 124 = .ok (.putfield 69, 3) := dk_181 0 69 (dk_at dksX5_next_5 7 rfl rfl)
theorem dX5_next_127 : decode cX5_next 127 = .ok (.aload_n 0, 1) := dk_42 (dk_at dksX5_next_5 10 rfl rfl)
theorem dX5_next_128 : decode cX5_next 128 = .ok (.dup, 1) := dk_89 (dk_at dksX5_next_5 11 rfl rfl)
theorem dX5_next_129 : decode cX5_next 129 = .ok (.getfield 19, 3) := dk_180 0 19 (dk_at dksX5_next_5 12 rfl rfl)
theorem dX5_next_132 : decode cX5_next 132 = .ok (.iconst 1, 1) := dk_4 (dk_at dksX5_next_5 15 rfl rfl)
theorem dX5_next_133 : decode cX5_next 133 = .ok (.iadd, 1) := dk_96 (dk_at dksX5_next_5 16 rfl rfl)
theorem dX5_next_134 : decode cX5_next 134 = .ok (.putfield 19, 3) := dk_181 0 19 (dk_at dksX5_next_5 17 rfl rfl)
theorem dX5_next_137 : decode cX5_next 137 = .ok (.goto (-41), 3) := dk_167 255 215 (dk_at dksX5_next_5 20 rfl rfl)
theorem dX5_next_140 : decode cX5_next 140 = .ok (.aload_n 0, 1) := dk_42 (dk_at dksX5_next_5 23 rfl rfl)
theorem dX5_next_141 : decode cX5_next 141 = .ok (.dup, 1) := dk_89 (dk_at dksX5_next_6 0 rfl rfl)
theorem dX5_next_142 : decode cX5_next 142 = .ok (.getfield 19, 3) := dk_180 0 19 (dk_at dksX5_next_6 1 rfl rfl)
theorem dX5_next_145 : decode cX5_next 145 = .ok (.iconst 1, 1) := dk_4 (dk_at dksX5_next_6 4 rfl rfl)
theorem dX5_next_146 : decode cX5_next 146 = .ok (.iadd, 1) := dk_96 (dk_at dksX5_next_6 5 rfl rfl)
theorem dX5_next_147 : decode cX5_next 147 = .ok (.putfield 19, 3) := dk_181 0 19 (dk_at dksX5_next_6 6 rfl rfl)
theorem dX5_next_150 : decode cX5_next 150 = .ok (.aload_n 0, 1) := dk_42 (dk_at dksX5_next_6 9 rfl rfl)
theorem dX5_next_151 : decode cX5_next 151 = .ok (.iload_n 1, 1) := dk_27 (dk_at dksX5_next_6 10 rfl rfl)
theorem dX5_next_152 : decode cX5_next 152 = .ok (.invokestatic 79, 3) := dk_184 0 79 (dk_at dksX5_next_6 11 rfl rfl)
theorem dX5_next_155 : decode cX5_next 155 = .ok (.ifCond .eq 7, 3) := dk_153 0 7 (dk_at dksX5_next_6 14 rfl rfl)
theorem dX5_next_158 : decode cX5_next 158 = .ok (.iload_n 1, 1) := dk_27 (dk_at dksX5_next_6 17 rfl rfl)
theorem dX5_next_159 : decode cX5_next 159 = .ok (.goto 6, 3) := dk_167 0 6 (dk_at dksX5_next_6 18 rfl rfl)
theorem dX5_next_162 : decode cX5_next 162 = .ok (.sipush 303, 3) := dk_17 1 47 (dk_at dksX5_next_6 21 rfl rfl)
theorem dX5_next_165 : decode cX5_next 165 = .ok (.putfield 60, 3) := dk_181 0 60 (dk_at dksX5_next_7 0 rfl rfl)
theorem dX5_next_168 : decode cX5_next 168 = .ok (.iload_n 1, 1) := dk_27 (dk_at dksX5_next_7 3 rfl rfl)
theorem dX5_next_169 : decode cX5_next 169 = .ok (.bipush 60, 2) := dk_16 60 (dk_at dksX5_next_7 4 rfl rfl)
theorem dX5_next_171 : decode cX5_next 171 = .ok (.if_icmp .eq 9, 3) := dk_159 0 9 (dk_at dksX5_next_7 6 rfl rfl)
theorem dX5_next_174 : decode cX5_next 174 = .ok (.iload_n 1, 1) := dk_27 (dk_at dksX5_next_7 9 rfl rfl)
theorem dX5_next_175 : decode cX5_next 175 = .ok (.bipush 62, 2) := dk_16 62 (dk_at dksX5_next_7 10 rfl rfl)
theorem dX5_next_177 : decode cX5_next 177 = .ok (.if_icmp .ne 41, 3) := dk_160 0 41 (dk_at dksX5_next_7 12 rfl rfl)
theorem dX5_next_180 : decode cX5_next 180 = .ok (.aload_n 0, 1) := dk_42 (dk_at dksX5_next_7 15 rfl rfl)
theorem dX5_next_181 : decode cX5_next 181 = .ok (.invokevirtual 22, 3) := dk_182 0 22 (dk_at dksX5_next_7 16 rfl rfl)
theorem dX5_next_184 : decode cX5_next 184 = .ok (.bipush 61, 2) := dk_16 61 (dk_at dksX5_next_7 19 rfl rfl)
theorem dX5_next_186 : decode cX5_next 186 = .ok (.if_icmp .ne 32, 3) := dk_160 0 32 (dk_at dksX5_next_7 21 rfl rfl)
theorem dX5_next_189 : decode cX5_next 189 = .ok (.aload_n 0, 1) := dk_42 (dk_at dksX5_next_8 0 rfl rfl)
theorem dX5_next_190 : decode cX5_next 190 = .ok (.dup, 1) := dk_89 (dk_at dksX5_next_8 1 rfl rfl)
theorem dX5_next_191 : decode cX5_next 191 = .ok (.getfield 19, 3) := dk_180 0 19 (dk_at dksX5_next_8 2 rfl rfl)
theorem dX5_next_194 : decode cX5_next 194 = .ok (.iconst 1, 1) := dk_4 (dk_at dksX5_next_8 5 rfl rfl)
theorem dX5_next_195 : decode cX5_next 195 = .ok (.iadd, 1) := dk_96 (dk_at dksX5_next_8 6 rfl rfl)
theorem dX5_next_196 : decode cX5_next 196 = .ok (.putfield 19, 3) := dk_181 0 19 (dk_at dksX5_next_8 7 rfl rfl)
theorem dX5_next_199 : decode cX5_next 199 = .ok (.aload_n 0, 1) := dk_42 (dk_at dksX5_next_8 10 rfl rfl)
theorem dX5_next_200 : decode cX5_next 200 = .ok (.iload_n 1, 1) := dk_27 (dk_at dksX5_next_8 11 rfl rfl)
theorem dX5_next_201 : decode cX5_next 201 = .ok (.bipush 60, 2) := dk_16 60 (dk_at dksX5_next_8 12 rfl rfl)
theorem dX5_next_203 : decode cX5_next 203 = .ok (.if_icmp .ne 9, 3) := dk_160 0 9 (dk_at dksX5_next_8 14 rfl rfl)
theorem dX5_next_206 : decode cX5_next 206 = .ok (.sipush 304, 3) := dk_17 1 48 (dk_at dksX5_next_8 17 rfl rfl)
theorem dX5_next_209 : decode cX5_next 209 = .ok (.goto 6, 3) := dk_167 0 6 (dk_at dksX5_next_8 20 rfl rfl)
theorem dX5_next_212 : decode cX5_next 212 = .ok (.sipush 305, 3) := dk_17 1 49 (dk_at dksX5_next_9 0 rfl rfl)
theorem dX5_next_215 : decode cX5_next 215 = .ok (.putfield 60, 3) := dk_181 0 60 (dk_at dksX5_next_9 3 rfl rfl)
theorem dX5_next_218 : decode cX5_next 218 = .ok (.return_, 1) := dk_177 (dk_at dksX5_next_9 6 rfl rfl)
abbrev cX5_see : ByteArray := prog_15_method_2_code
def yX5_see : MethodName := ⟨RX5, "see", "()I"⟩
def dkwX5_see_1 : List UInt8 := [167, 0, 4, 2, 172]
abbrev dktX5_see_1 : List UInt8 := dkwX5_see_1 ++ []
def dkwX5_see_0 : List UInt8 := [42, 180, 0, 19, 42, 180, 0, 15, 162, 0, 19, 42, 180, 0, 9, 42, 180, 0, 19, 51, 17, 0, 255, 126]
abbrev dktX5_see_0 : List UInt8 := dkwX5_see_0 ++ dktX5_see_1
theorem dksX5_see_0 : cX5_see.data.toList.drop 0 = dktX5_see_0 := by decide +kernel
theorem dksX5_see_1 : cX5_see.data.toList.drop 24 = dktX5_see_1 := dk_seg dksX5_see_0 24 rfl rfl
theorem dX5_see_0 : decode cX5_see 0 = .ok (.aload_n 0, 1) := dk_42 (dk_at dksX5_see_0 0 rfl rfl)
theorem dX5_see_1 : decode cX5_see 1 = .ok (.getfield 19, 3) := dk_180 0 19 (dk_at dksX5_see_0 1 rfl rfl)
theorem dX5_see_4 : decode cX5_see 4 = .ok (.aload_n 0, 1) := dk_42 (dk_at dksX5_see_0 4 rfl rfl)
theorem dX5_see_5 : decode cX5_see 5 = .ok (.getfield 15, 3) := dk_180 0 15 (dk_at dksX5_see_0 5 rfl rfl)
theorem dX5_see_8 : decode cX5_see 8 = .ok (.if_icmp .ge 19, 3) := dk_162 0 19 (dk_at dksX5_see_0 8 rfl rfl)
theorem dX5_see_11 : decode cX5_see 11 = .ok (.aload_n 0, 1) := dk_42 (dk_at dksX5_see_0 11 rfl rfl)
theorem dX5_see_12 : decode cX5_see 12 = .ok (.getfield 9, 3) := dk_180 0 9 (dk_at dksX5_see_0 12 rfl rfl)
theorem dX5_see_15 : decode cX5_see 15 = .ok (.aload_n 0, 1) := dk_42 (dk_at dksX5_see_0 15 rfl rfl)
theorem dX5_see_16 : decode cX5_see 16 = .ok (.getfield 19, 3) := dk_180 0 19 (dk_at dksX5_see_0 16 rfl rfl)
theorem dX5_see_19 : decode cX5_see 19 = .ok (.baload, 1) := dk_51 (dk_at dksX5_see_0 19 rfl rfl)
theorem dX5_see_20 : decode cX5_see 20 = .ok (.sipush 255, 3) := dk_17 0 255 (dk_at dksX5_see_0 20 rfl rfl)
theorem dX5_see_23 : decode cX5_see 23 = .ok (.iand, 1) := dk_126 (dk_at dksX5_see_0 23 rfl rfl)
theorem dX5_see_24 : decode cX5_see 24 = .ok (.goto 4, 3) := dk_167 0 4 (dk_at dksX5_see_1 0 rfl rfl)
theorem dX5_see_27 : decode cX5_see 27 = .ok (.iconst (-1), 1) := dk_2 (dk_at dksX5_see_1 3 rfl rfl)
theorem dX5_see_28 : decode cX5_see 28 = .ok (.ireturn, 1) := dk_172 (dk_at dksX5_see_1 4 rfl rfl)
abbrev cX5_isLetter : ByteArray := prog_15_method_3_code
def yX5_isLetter : MethodName := ⟨RX5, "isLetter", "()Z"⟩
def dkwX5_isLetter_1 : List UInt8 := [184, 0, 26, 153, 0, 7, 4, 167, 0, 4, 3, 172]
abbrev dktX5_isLetter_1 : List UInt8 := dkwX5_isLetter_1 ++ []
def dkwX5_isLetter_0 : List UInt8 := [42, 182, 0, 22, 16, 97, 16, 122, 184, 0, 26, 154, 0, 17, 42, 182, 0, 22, 16, 65, 16, 90]
abbrev dktX5_isLetter_0 : List UInt8 := dkwX5_isLetter_0 ++ dktX5_isLetter_1
theorem dksX5_isLetter_0 : cX5_isLetter.data.toList.drop 0 = dktX5_isLetter_0 := by decide +kernel
theorem dksX5_isLetter_1 : cX5_isLetter.data.toList.drop 22 = dktX5_isLetter_1 := dk_seg dksX5_isLetter_0 22 rfl rfl
theorem dX5_isLetter_0 : decode cX5_isLetter 0 = .ok (.aload_n 0, 1) := dk_42 (dk_at dksX5_isLetter_0 0 rfl rfl)
theorem dX5_isLetter_1 : decode cX5_isLetter 1 = .ok (.invokevirtual 22, 3) := dk_182 0 22 (dk_at dksX5_isLetter_0 1 rfl rfl)
theorem dX5_isLetter_4 : decode cX5_isLetter 4 = .ok (.bipush 97, 2) := dk_16 97 (dk_at dksX5_isLetter_0 4 rfl rfl)
theorem dX5_isLetter_6 : decode cX5_isLetter 6 = .ok (.bipush 122, 2) := dk_16 122 (dk_at dksX5_isLetter_0 6 rfl rfl)
theorem dX5_isLetter_8 : decode cX5_isLetter 8 = .ok (.invokestatic 26, 3) := dk_184 0 26 (dk_at dksX5_isLetter_0 8 rfl rfl)
theorem dX5_isLetter_11 : decode cX5_isLetter 11 = .ok (.ifCond .ne 17, 3) := dk_154 0 17 (dk_at dksX5_isLetter_0 11 rfl rfl)
theorem dX5_isLetter_14 : decode cX5_isLetter 14 = .ok (.aload_n 0, 1) := dk_42 (dk_at dksX5_isLetter_0 14 rfl rfl)
theorem dX5_isLetter_15 : decode cX5_isLetter 15 = .ok (.invokevirtual 22, 3) := dk_182 0 22 (dk_at dksX5_isLetter_0 15 rfl rfl)
theorem dX5_isLetter_18 : decode cX5_isLetter 18 = .ok (.bipush 65, 2) := dk_16 65 (dk_at dksX5_isLetter_0 18 rfl rfl)
theorem dX5_isLetter_20 : decode cX5_isLetter 20 = .ok (.bipush 90, 2) := dk_16 90 (dk_at dksX5_isLetter_0 20 rfl rfl)
theorem dX5_isLetter_22 : decode cX5_isLetter 22 = .ok (.invokestatic 26, 3) := dk_184 0 26 (dk_at dksX5_isLetter_1 0 rfl rfl)
theorem dX5_isLetter_25 : decode cX5_isLetter 25 = .ok (.ifCond .eq 7, 3) := dk_153 0 7 (dk_at dksX5_isLetter_1 3 rfl rfl)
theorem dX5_isLetter_28 : decode cX5_isLetter 28 = .ok (.iconst 1, 1) := dk_4 (dk_at dksX5_isLetter_1 6 rfl rfl)
theorem dX5_isLetter_29 : decode cX5_isLetter 29 = .ok (.goto 4, 3) := dk_167 0 4 (dk_at dksX5_isLetter_1 7 rfl rfl)
theorem dX5_isLetter_32 : decode cX5_isLetter 32 = .ok (.iconst 0, 1) := dk_3 (dk_at dksX5_isLetter_1 10 rfl rfl)
theorem dX5_isLetter_33 : decode cX5_isLetter 33 = .ok (.ireturn, 1) := dk_172 (dk_at dksX5_isLetter_1 11 rfl rfl)
abbrev cX5_word : ByteArray := prog_15_method_7_code
def yX5_word : MethodName := ⟨RX5, "word", "()V"⟩
def dkwX5_word_2 : List UInt8 := [96, 167, 0, 19, 42, 180, 0, 57, 155, 0, 9, 17, 1, 46, 167, 0, 6, 17, 1, 47, 181, 0, 60, 177]
abbrev dktX5_word_2 : List UInt8 := dkwX5_word_2 ++ []
def dkwX5_word_1 : List UInt8 := [182, 0, 50, 60, 42, 42, 178, 0, 54, 182, 0, 50, 181, 0, 57, 42, 27, 155, 0, 11, 17, 1, 54, 27]
abbrev dktX5_word_1 : List UInt8 := dkwX5_word_1 ++ dktX5_word_2
def dkwX5_word_0 : List UInt8 := [42, 182, 0, 42, 153, 0, 16, 42, 89, 180, 0, 19, 4, 96, 181, 0, 19, 167, 255, 239, 42, 178, 0, 46]
abbrev dktX5_word_0 : List UInt8 := dkwX5_word_0 ++ dktX5_word_1
theorem dksX5_word_0 : cX5_word.data.toList.drop 0 = dktX5_word_0 := by decide +kernel
theorem dksX5_word_1 : cX5_word.data.toList.drop 24 = dktX5_word_1 := dk_seg dksX5_word_0 24 rfl rfl
theorem dksX5_word_2 : cX5_word.data.toList.drop 48 = dktX5_word_2 := dk_seg dksX5_word_1 24 rfl rfl
theorem dX5_word_0 : decode cX5_word 0 = .ok (.aload_n 0, 1) := dk_42 (dk_at dksX5_word_0 0 rfl rfl)
theorem dX5_word_1 : decode cX5_word 1 = .ok (.invokevirtual 42, 3) := dk_182 0 42 (dk_at dksX5_word_0 1 rfl rfl)
theorem dX5_word_4 : decode cX5_word 4 = .ok (.ifCond .eq 16, 3) := dk_153 0 16 (dk_at dksX5_word_0 4 rfl rfl)
theorem dX5_word_7 : decode cX5_word 7 = .ok (.aload_n 0, 1) := dk_42 (dk_at dksX5_word_0 7 rfl rfl)
theorem dX5_word_8 : decode cX5_word 8 = .ok (.dup, 1) := dk_89 (dk_at dksX5_word_0 8 rfl rfl)
theorem dX5_word_9 : decode cX5_word 9 = .ok (.getfield 19, 3) := dk_180 0 19 (dk_at dksX5_word_0 9 rfl rfl)
theorem dX5_word_12 : decode cX5_word 12 = .ok (.iconst 1, 1) := dk_4 (dk_at dksX5_word_0 12 rfl rfl)
theorem dX5_word_13 : decode cX5_word 13 = .ok (.iadd, 1) := dk_96 (dk_at dksX5_word_0 13 rfl rfl)
theorem dX5_word_14 : decode cX5_word 14 = .ok (.putfield 19, 3) := dk_181 0 19 (dk_at dksX5_word_0 14 rfl rfl)
theorem dX5_word_17 : decode cX5_word 17 = .ok (.goto (-17), 3) := dk_167 255 239 (dk_at dksX5_word_0 17 rfl rfl)
theorem dX5_word_20 : decode cX5_word 20 = .ok (.aload_n 0, 1) := dk_42 (dk_at dksX5_word_0 20 rfl rfl)
theorem dX5_word_21 : decode cX5_word 21 = .ok (.getstatic 46, 3) := dk_178 0 46 (dk_at dksX5_word_0 21 rfl rfl)
theorem dX5_word_24 : decode cX5_word 24 = .ok (.invokevirtual 50, 3) := dk_182 0 50 (dk_at dksX5_word_1 0 rfl rfl)
theorem dX5_word_27 : decode cX5_word 27 = .ok (.istore_n 1, 1) := dk_60 (dk_at dksX5_word_1 3 rfl rfl)
theorem dX5_word_28 : decode cX5_word 28 = .ok (.aload_n 0, 1) := dk_42 (dk_at dksX5_word_1 4 rfl rfl)
theorem dX5_word_29 : decode cX5_word 29 = .ok (.aload_n 0, 1) := dk_42 (dk_at dksX5_word_1 5 rfl rfl)
theorem dX5_word_30 : decode cX5_word 30 = .ok (.getstatic 54, 3) := dk_178 0 54 (dk_at dksX5_word_1 6 rfl rfl)
theorem dX5_word_33 : decode cX5_word 33 = .ok (.invokevirtual 50, 3) := dk_182 0 50 (dk_at dksX5_word_1 9 rfl rfl)
theorem dX5_word_36 : decode cX5_word 36 = .ok (.putfield 57, 3) := dk_181 0 57 (dk_at dksX5_word_1 12 rfl rfl)
theorem dX5_word_39 : decode cX5_word 39 = .ok (.aload_n 0, 1) := dk_42 (dk_at dksX5_word_1 15 rfl rfl)
theorem dX5_word_40 : decode cX5_word 40 = .ok (.iload_n 1, 1) := dk_27 (dk_at dksX5_word_1 16 rfl rfl)
theorem dX5_word_41 : decode cX5_word 41 = .ok (.ifCond .lt 11, 3) := dk_155 0 11 (dk_at dksX5_word_1 17 rfl rfl)
theorem dX5_word_44 : decode cX5_word 44 = .ok (.sipush 310, 3) := dk_17 1 54 (dk_at dksX5_word_1 20 rfl rfl)
theorem dX5_word_47 : decode cX5_word 47 = .ok (.iload_n 1, 1) := dk_27 (dk_at dksX5_word_1 23 rfl rfl)
theorem dX5_word_48 : decode cX5_word 48 = .ok (.iadd, 1) := dk_96 (dk_at dksX5_word_2 0 rfl rfl)
theorem dX5_word_49 : decode cX5_word 49 = .ok (.goto 19, 3) := dk_167 0 19 (dk_at dksX5_word_2 1 rfl rfl)
theorem dX5_word_52 : decode cX5_word 52 = .ok (.aload_n 0, 1) := dk_42 (dk_at dksX5_word_2 4 rfl rfl)
theorem dX5_word_53 : decode cX5_word 53 = .ok (.getfield 57, 3) := dk_180 0 57 (dk_at dksX5_word_2 5 rfl rfl)
theorem dX5_word_56 : decode cX5_word 56 = .ok (.ifCond .lt 9, 3) := dk_155 0 9 (dk_at dksX5_word_2 8 rfl rfl)
theorem dX5_word_59 : decode cX5_word 59 = .ok (.sipush 302, 3) := dk_17 1 46 (dk_at dksX5_word_2 11 rfl rfl)
theorem dX5_word_62 : decode cX5_word 62 = .ok (.goto 6, 3) := dk_167 0 6 (dk_at dksX5_word_2 14 rfl rfl)
theorem dX5_word_65 : decode cX5_word 65 = .ok (.sipush 303, 3) := dk_17 1 47 (dk_at dksX5_word_2 17 rfl rfl)
theorem dX5_word_68 : decode cX5_word 68 = .ok (.putfield 60, 3) := dk_181 0 60 (dk_at dksX5_word_2 20 rfl rfl)
theorem dX5_word_71 : decode cX5_word 71 = .ok (.return_, 1) := dk_177 (dk_at dksX5_word_2 23 rfl rfl)
abbrev cX5_wordOf : ByteArray := prog_15_method_6_code
def yX5_wordOf : MethodName := ⟨RX5, "wordOf", "([Ljava/lang/String;)I"⟩
def dkwX5_wordOf_4 : List UInt8 := [167, 255, 164, 2, 172]
abbrev dktX5_wordOf_4 : List UInt8 := dkwX5_wordOf_4 ++ []
def dkwX5_wordOf_3 : List UInt8 := [160, 0, 7, 4, 167, 0, 4, 3, 62, 132, 4, 1, 167, 255, 209, 29, 153, 0, 5, 28, 172, 132, 2, 1]
abbrev dktX5_wordOf_3 : List UInt8 := dkwX5_wordOf_3 ++ dktX5_wordOf_4
def dkwX5_wordOf_2 : List UInt8 := [153, 0, 38, 42, 180, 0, 9, 42, 180, 0, 35, 21, 4, 96, 51, 43, 28, 50, 21, 4, 182, 0, 38]
abbrev dktX5_wordOf_2 : List UInt8 := dkwX5_wordOf_2 ++ dktX5_wordOf_3
def dkwX5_wordOf_1 : List UInt8 := [160, 0, 7, 4, 167, 0, 4, 3, 62, 3, 54, 4, 21, 4, 43, 28, 50, 182, 0, 30, 162, 0, 42, 29]
abbrev dktX5_wordOf_1 : List UInt8 := dkwX5_wordOf_1 ++ dktX5_wordOf_2
def dkwX5_wordOf_0 : List UInt8 := [3, 61, 28, 43, 190, 162, 0, 92, 43, 28, 50, 182, 0, 30, 42, 180, 0, 19, 42, 180, 0, 35, 100]
abbrev dktX5_wordOf_0 : List UInt8 := dkwX5_wordOf_0 ++ dktX5_wordOf_1
theorem dksX5_wordOf_0 : cX5_wordOf.data.toList.drop 0 = dktX5_wordOf_0 := by decide +kernel
theorem dksX5_wordOf_1 : cX5_wordOf.data.toList.drop 23 = dktX5_wordOf_1 := dk_seg dksX5_wordOf_0 23 rfl rfl
theorem dksX5_wordOf_2 : cX5_wordOf.data.toList.drop 47 = dktX5_wordOf_2 := dk_seg dksX5_wordOf_1 24 rfl rfl
theorem dksX5_wordOf_3 : cX5_wordOf.data.toList.drop 70 = dktX5_wordOf_3 := dk_seg dksX5_wordOf_2 23 rfl rfl
theorem dksX5_wordOf_4 : cX5_wordOf.data.toList.drop 94 = dktX5_wordOf_4 := dk_seg dksX5_wordOf_3 24 rfl rfl
theorem dX5_wordOf_0 : decode cX5_wordOf 0 = .ok (.iconst 0, 1) := dk_3 (dk_at dksX5_wordOf_0 0 rfl rfl)
theorem dX5_wordOf_1 : decode cX5_wordOf 1 = .ok (.istore_n 2, 1) := dk_61 (dk_at dksX5_wordOf_0 1 rfl rfl)
theorem dX5_wordOf_2 : decode cX5_wordOf 2 = .ok (.iload_n 2, 1) := dk_28 (dk_at dksX5_wordOf_0 2 rfl rfl)
theorem dX5_wordOf_3 : decode cX5_wordOf 3 = .ok (.aload_n 1, 1) := dk_43 (dk_at dksX5_wordOf_0 3 rfl rfl)
theorem dX5_wordOf_4 : decode cX5_wordOf 4 = .ok (.arraylength, 1) := dk_190 (dk_at dksX5_wordOf_0 4 rfl rfl)
theorem dX5_wordOf_5 : decode cX5_wordOf 5 = .ok (.if_icmp .ge 92, 3) := dk_162 0 92 (dk_at dksX5_wordOf_0 5 rfl rfl)
theorem dX5_wordOf_8 : decode cX5_wordOf 8 = .ok (.aload_n 1, 1) := dk_43 (dk_at dksX5_wordOf_0 8 rfl rfl)
theorem dX5_wordOf_9 : decode cX5_wordOf 9 = .ok (.iload_n 2, 1) := dk_28 (dk_at dksX5_wordOf_0 9 rfl rfl)
theorem dX5_wordOf_10 : decode cX5_wordOf 10 = .ok (.aaload, 1) := dk_50 (dk_at dksX5_wordOf_0 10 rfl rfl)
theorem dX5_wordOf_11 : decode cX5_wordOf 11 = .ok (.invokevirtual 30, 3) := dk_182 0 30 (dk_at dksX5_wordOf_0 11 rfl rfl)
theorem dX5_wordOf_14 : decode cX5_wordOf 14 = .ok (.aload_n 0, 1) := dk_42 (dk_at dksX5_wordOf_0 14 rfl rfl)
theorem dX5_wordOf_15 : decode cX5_wordOf 15 = .ok (.getfield 19, 3) := dk_180 0 19 (dk_at dksX5_wordOf_0 15 rfl rfl)
theorem dX5_wordOf_18 : decode cX5_wordOf 18 = .ok (.aload_n 0, 1) := dk_42 (dk_at dksX5_wordOf_0 18 rfl rfl)
theorem dX5_wordOf_19 : decode cX5_wordOf 19 = .ok (.getfield 35, 3) := dk_180 0 35 (dk_at dksX5_wordOf_0 19 rfl rfl)
theorem dX5_wordOf_22 : decode cX5_wordOf 22 = .ok (.isub, 1) := dk_100 (dk_at dksX5_wordOf_0 22 rfl rfl)
theorem dX5_wordOf_23 : decode cX5_wordOf 23 = .ok (.if_icmp .ne 7, 3) := dk_160 0 7 (dk_at dksX5_wordOf_1 0 rfl rfl)
theorem dX5_wordOf_26 : decode cX5_wordOf 26 = .ok (.iconst 1, 1) := dk_4 (dk_at dksX5_wordOf_1 3 rfl rfl)
theorem dX5_wordOf_27 : decode cX5_wordOf 27 = .ok (.goto 4, 3) := dk_167 0 4 (dk_at dksX5_wordOf_1 4 rfl rfl)
theorem dX5_wordOf_30 : decode cX5_wordOf 30 = .ok (.iconst 0, 1) := dk_3 (dk_at dksX5_wordOf_1 7 rfl rfl)
theorem dX5_wordOf_31 : decode cX5_wordOf 31 = .ok (.istore_n 3, 1) := dk_62 (dk_at dksX5_wordOf_1 8 rfl rfl)
theorem dX5_wordOf_32 : decode cX5_wordOf 32 = .ok (.iconst 0, 1) := dk_3 (dk_at dksX5_wordOf_1 9 rfl rfl)
theorem dX5_wordOf_33 : decode cX5_wordOf 33 = .ok (.istore 4, 2) := dk_54 4 (dk_at dksX5_wordOf_1 10 rfl rfl)
theorem dX5_wordOf_35 : decode cX5_wordOf 35 = .ok (.iload 4, 2) := dk_21 4 (dk_at dksX5_wordOf_1 12 rfl rfl)
theorem dX5_wordOf_37 : decode cX5_wordOf 37 = .ok (.aload_n 1, 1) := dk_43 (dk_at dksX5_wordOf_1 14 rfl rfl)
theorem dX5_wordOf_38 : decode cX5_wordOf 38 = .ok (.iload_n 2, 1) := dk_28 (dk_at dksX5_wordOf_1 15 rfl rfl)
theorem dX5_wordOf_39 : decode cX5_wordOf 39 = .ok (.aaload, 1) := dk_50 (dk_at dksX5_wordOf_1 16 rfl rfl)
theorem dX5_wordOf_40 : decode cX5_wordOf 40 = .ok (.invokevirtual 30, 3) := dk_182 0 30 (dk_at dksX5_wordOf_1 17 rfl rfl)
theorem dX5_wordOf_43 : decode cX5_wordOf 43 = .ok (.if_icmp .ge 42, 3) := dk_162 0 42 (dk_at dksX5_wordOf_1 20 rfl rfl)
theorem dX5_wordOf_46 : decode cX5_wordOf 46 = .ok (.iload_n 3, 1) := dk_29 (dk_at dksX5_wordOf_1 23 rfl rfl)
theorem dX5_wordOf_47 : decode cX5_wordOf 47 = .ok (.ifCond .eq 38, 3) := dk_153 0 38 (dk_at dksX5_wordOf_2 0 rfl rfl)
theorem dX5_wordOf_50 : decode cX5_wordOf 50 = .ok (.aload_n 0, 1) := dk_42 (dk_at dksX5_wordOf_2 3 rfl rfl)
theorem dX5_wordOf_51 : decode cX5_wordOf 51 = .ok (.getfield 9, 3) := dk_180 0 9 (dk_at dksX5_wordOf_2 4 rfl rfl)
theorem dX5_wordOf_54 : decode cX5_wordOf 54 = .ok (.aload_n 0, 1) := dk_42 (dk_at dksX5_wordOf_2 7 rfl rfl)
theorem dX5_wordOf_55 : decode cX5_wordOf 55 = .ok (.getfield 35, 3) := dk_180 0 35 (dk_at dksX5_wordOf_2 8 rfl rfl)
theorem dX5_wordOf_58 : decode cX5_wordOf 58 = .ok (.iload 4, 2) := dk_21 4 (dk_at dksX5_wordOf_2 11 rfl rfl)
theorem dX5_wordOf_60 : decode cX5_wordOf 60 = .ok (.iadd, 1) := dk_96 (dk_at dksX5_wordOf_2 13 rfl rfl)
theorem dX5_wordOf_61 : decode cX5_wordOf 61 = .ok (.baload, 1) := dk_51 (dk_at dksX5_wordOf_2 14 rfl rfl)
theorem dX5_wordOf_62 : decode cX5_wordOf 62 = .ok (.aload_n 1, 1) := dk_43 (dk_at dksX5_wordOf_2 15 rfl rfl)
theorem dX5_wordOf_63 : decode cX5_wordOf 63 = .ok (.iload_n 2, 1) := dk_28 (dk_at dksX5_wordOf_2 16 rfl rfl)
theorem dX5_wordOf_64 : decode cX5_wordOf 64 = .ok (.aaload, 1) := dk_50 (dk_at dksX5_wordOf_2 17 rfl rfl)
theorem dX5_wordOf_65 : decode cX5_wordOf 65 = .ok (.iload 4, 2) := dk_21 4 (dk_at dksX5_wordOf_2 18 rfl rfl)
theorem dX5_wordOf_67 : decode cX5_wordOf 67 = .ok (.invokevirtual 38, 3) := dk_182 0 38 (dk_at dksX5_wordOf_2 20 rfl rfl)
theorem dX5_wordOf_70 : decode cX5_wordOf 70 = .ok (.if_icmp .ne 7, 3) := dk_160 0 7 (dk_at dksX5_wordOf_3 0 rfl rfl)
theorem dX5_wordOf_73 : decode cX5_wordOf 73 = .ok (.iconst 1, 1) := dk_4 (dk_at dksX5_wordOf_3 3 rfl rfl)
theorem dX5_wordOf_74 : decode cX5_wordOf 74 = .ok (.goto 4, 3) := dk_167 0 4 (dk_at dksX5_wordOf_3 4 rfl rfl)
theorem dX5_wordOf_77 : decode cX5_wordOf 77 = .ok (.iconst 0, 1) := dk_3 (dk_at dksX5_wordOf_3 7 rfl rfl)
theorem dX5_wordOf_78 : decode cX5_wordOf 78 = .ok (.istore_n 3, 1) := dk_62 (dk_at dksX5_wordOf_3 8 rfl rfl)
theorem dX5_wordOf_79 : decode cX5_wordOf 79 = .ok (.iinc 4 1, 3) := dk_132 4 1 (dk_at dksX5_wordOf_3 9 rfl rfl)
theorem dX5_wordOf_82 : decode cX5_wordOf 82 = .ok (.goto (-47), 3) := dk_167 255 209 (dk_at dksX5_wordOf_3 12 rfl rfl)
theorem dX5_wordOf_85 : decode cX5_wordOf 85 = .ok (.iload_n 3, 1) := dk_29 (dk_at dksX5_wordOf_3 15 rfl rfl)
theorem dX5_wordOf_86 : decode cX5_wordOf 86 = .ok (.ifCond .eq 5, 3) := dk_153 0 5 (dk_at dksX5_wordOf_3 16 rfl rfl)
theorem dX5_wordOf_89 : decode cX5_wordOf 89 = .ok (.iload_n 2, 1) := dk_28 (dk_at dksX5_wordOf_3 19 rfl rfl)
theorem dX5_wordOf_90 : decode cX5_wordOf 90 = .ok (.ireturn, 1) := dk_172 (dk_at dksX5_wordOf_3 20 rfl rfl)
theorem dX5_wordOf_91 : decode cX5_wordOf 91 = .ok (.iinc 2 1, 3) := dk_132 2 1 (dk_at dksX5_wordOf_3 21 rfl rfl)
theorem dX5_wordOf_94 : decode cX5_wordOf 94 = .ok (.goto (-92), 3) := dk_167 255 164 (dk_at dksX5_wordOf_4 0 rfl rfl)
theorem dX5_wordOf_97 : decode cX5_wordOf 97 = .ok (.iconst (-1), 1) := dk_2 (dk_at dksX5_wordOf_4 3 rfl rfl)
theorem dX5_wordOf_98 : decode cX5_wordOf 98 = .ok (.ireturn, 1) := dk_172 (dk_at dksX5_wordOf_4 4 rfl rfl)
abbrev cX5_isDigit : ByteArray := prog_15_method_4_code
def yX5_isDigit : MethodName := ⟨RX5, "isDigit", "()Z"⟩
def dkwX5_isDigit_0 : List UInt8 := [42, 182, 0, 22, 16, 48, 16, 57, 184, 0, 26, 172]
abbrev dktX5_isDigit_0 : List UInt8 := dkwX5_isDigit_0 ++ []
theorem dksX5_isDigit_0 : cX5_isDigit.data.toList.drop 0 = dktX5_isDigit_0 := by decide +kernel
theorem dX5_isDigit_0 : decode cX5_isDigit 0 = .ok (.aload_n 0, 1) := dk_42 (dk_at dksX5_isDigit_0 0 rfl rfl)
theorem dX5_isDigit_1 : decode cX5_isDigit 1 = .ok (.invokevirtual 22, 3) := dk_182 0 22 (dk_at dksX5_isDigit_0 1 rfl rfl)
theorem dX5_isDigit_4 : decode cX5_isDigit 4 = .ok (.bipush 48, 2) := dk_16 48 (dk_at dksX5_isDigit_0 4 rfl rfl)
theorem dX5_isDigit_6 : decode cX5_isDigit 6 = .ok (.bipush 57, 2) := dk_16 57 (dk_at dksX5_isDigit_0 6 rfl rfl)
theorem dX5_isDigit_8 : decode cX5_isDigit 8 = .ok (.invokestatic 26, 3) := dk_184 0 26 (dk_at dksX5_isDigit_0 8 rfl rfl)
theorem dX5_isDigit_11 : decode cX5_isDigit 11 = .ok (.ireturn, 1) := dk_172 (dk_at dksX5_isDigit_0 11 rfl rfl)
abbrev cX5_isSign : ByteArray := prog_15_method_5_code
def yX5_isSign : MethodName := ⟨RX5, "isSign", "(I)Z"⟩
def dkwX5_isSign_2 : List UInt8 := [4, 172, 3, 172]
abbrev dktX5_isSign_2 : List UInt8 := dkwX5_isSign_2 ++ []
def dkwX5_isSign_1 : List UInt8 := [170, 0, 0, 0, 0, 0, 129, 0, 0, 0, 35, 0, 0, 0, 62, 0, 0, 0, 127, 0, 0, 0, 129, 0, 0, 0, 129, 0, 0, 0, 129, 0, 0, 0, 129, 0, 0, 0, 127, 0, 0, 0, 127, 0, 0, 0, 127, 0, 0, 0, 127, 0, 0, 0, 127, 0, 0, 0, 127, 0, 0, 0, 129, 0, 0, 0, 127, 0, 0, 0, 129, 0, 0, 0, 129, 0, 0, 0, 129, 0, 0, 0, 129, 0, 0, 0, 129, 0, 0, 0, 129, 0, 0, 0, 129, 0, 0, 0, 129, 0, 0, 0, 129, 0, 0, 0, 129, 0, 0, 0, 129, 0, 0, 0, 127, 0, 0, 0, 127, 0, 0, 0, 127, 0, 0, 0, 127]
abbrev dktX5_isSign_1 : List UInt8 := dkwX5_isSign_1 ++ dktX5_isSign_2
def dkwX5_isSign_0 : List UInt8 := [26]
abbrev dktX5_isSign_0 : List UInt8 := dkwX5_isSign_0 ++ dktX5_isSign_1
theorem dksX5_isSign_0 : cX5_isSign.data.toList.drop 0 = dktX5_isSign_0 := by decide +kernel
theorem dksX5_isSign_1 : cX5_isSign.data.toList.drop 1 = dktX5_isSign_1 := dk_seg dksX5_isSign_0 1 rfl rfl
theorem dksX5_isSign_2 : cX5_isSign.data.toList.drop 128 = dktX5_isSign_2 := dk_seg dksX5_isSign_1 127 rfl rfl
theorem dX5_isSign_0 : decode cX5_isSign 0 = .ok (.iload_n 0, 1) := dk_26 (dk_at dksX5_isSign_0 0 rfl rfl)
theorem dX5_isSign_1 : decode cX5_isSign 1 = .ok (.tableswitch 129 35 62 #[127, 129, 129, 129, 129, 127, 127, 127, 127, 127, 127, 129, 127, 129, 129, 129, 129, 129, 129, 129, 129, 129, 129, 129, 127, 127, 127, 127], 127) := by decide +kernel
theorem dX5_isSign_128 : decode cX5_isSign 128 = .ok (.iconst 1, 1) := dk_4 (dk_at dksX5_isSign_2 0 rfl rfl)
theorem dX5_isSign_129 : decode cX5_isSign 129 = .ok (.ireturn, 1) := dk_172 (dk_at dksX5_isSign_2 1 rfl rfl)
theorem dX5_isSign_130 : decode cX5_isSign 130 = .ok (.iconst 0, 1) := dk_3 (dk_at dksX5_isSign_2 2 rfl rfl)
theorem dX5_isSign_131 : decode cX5_isSign 131 = .ok (.ireturn, 1) := dk_172 (dk_at dksX5_isSign_2 3 rfl rfl)
abbrev cX5_wrong : ByteArray := prog_15_method_9_code
def yX5_wrong : MethodName := ⟨RX5, "wrong", "(I)LHeldTongue$Wrong;"⟩
def dkwX5_wrong_0 : List UInt8 := [187, 0, 83, 89, 27, 42, 180, 0, 35, 183, 0, 85, 176]
abbrev dktX5_wrong_0 : List UInt8 := dkwX5_wrong_0 ++ []
theorem dksX5_wrong_0 : cX5_wrong.data.toList.drop 0 = dktX5_wrong_0 := by decide +kernel
theorem dX5_wrong_0 : decode cX5_wrong 0 = .ok (.new 83, 3) := dk_187 0 83 (dk_at dksX5_wrong_0 0 rfl rfl)
theorem dX5_wrong_3 : decode cX5_wrong 3 = .ok (.dup, 1) := dk_89 (dk_at dksX5_wrong_0 3 rfl rfl)
theorem dX5_wrong_4 : decode cX5_wrong 4 = .ok (.iload_n 1, 1) := dk_27 (dk_at dksX5_wrong_0 4 rfl rfl)
theorem dX5_wrong_5 : decode cX5_wrong 5 = .ok (.aload_n 0, 1) := dk_42 (dk_at dksX5_wrong_0 5 rfl rfl)
theorem dX5_wrong_6 : decode cX5_wrong 6 = .ok (.getfield 35, 3) := dk_180 0 35 (dk_at dksX5_wrong_0 6 rfl rfl)
theorem dX5_wrong_9 : decode cX5_wrong 9 = .ok (.invokespecial 85, 3) := dk_183 0 85 (dk_at dksX5_wrong_0 9 rfl rfl)
theorem dX5_wrong_12 : decode cX5_wrong 12 = .ok (.areturn, 1) := dk_176 (dk_at dksX5_wrong_0 12 rfl rfl)
abbrev cX5_sense : ByteArray := prog_15_method_14_code
def yX5_sense : MethodName := ⟨RX5, "sense", "()LHeldTongue$Sense;"⟩
def dkwX5_sense_12 : List UInt8 := [180, 0, 107, 4, 100, 27, 21, 5, 29, 183, 0, 131, 176]
abbrev dktX5_sense_12 : List UInt8 := dkwX5_sense_12 ++ []
def dkwX5_sense_11 : List UInt8 := [42, 180, 0, 107, 4, 100, 27, 21, 5, 21, 6, 29, 21, 4, 183, 0, 126, 176, 187, 0, 129, 89, 42]
abbrev dktX5_sense_11 : List UInt8 := dkwX5_sense_11 ++ dktX5_sense_12
def dkwX5_sense_10 : List UInt8 := [187, 0, 121, 89, 42, 180, 0, 107, 4, 100, 27, 21, 5, 21, 6, 29, 183, 0, 123, 176, 187, 0, 124, 89]
abbrev dktX5_sense_10 : List UInt8 := dkwX5_sense_10 ++ dktX5_sense_11
def dkwX5_sense_9 : List UInt8 := [187, 0, 116, 89, 42, 180, 0, 107, 4, 100, 27, 21, 5, 21, 6, 29, 21, 4, 4, 183, 0, 118, 176]
abbrev dktX5_sense_9 : List UInt8 := dkwX5_sense_9 ++ dktX5_sense_10
def dkwX5_sense_8 : List UInt8 := [187, 0, 116, 89, 42, 180, 0, 107, 4, 100, 27, 21, 5, 21, 6, 29, 21, 4, 3, 183, 0, 118, 176]
abbrev dktX5_sense_8 : List UInt8 := dkwX5_sense_8 ++ dktX5_sense_9
def dkwX5_sense_7 : List UInt8 := [170, 0, 0, 0, 0, 0, 119, 0, 0, 1, 61, 0, 0, 1, 64, 0, 0, 0, 31, 0, 0, 0, 54, 0, 0, 0, 77, 0, 0, 0, 97]
abbrev dktX5_sense_7 : List UInt8 := dkwX5_sense_7 ++ dktX5_sense_8
def dkwX5_sense_6 : List UInt8 := [167, 0, 11, 42, 16, 44, 16, 99, 182, 0, 110, 54, 6, 28]
abbrev dktX5_sense_6 : List UInt8 := dkwX5_sense_6 ++ dktX5_sense_7
def dkwX5_sense_5 : List UInt8 := [182, 0, 110, 54, 4, 42, 17, 1, 66, 16, 7, 182, 0, 110, 54, 5, 28, 17, 1, 65, 160, 0, 7, 2]
abbrev dktX5_sense_5 : List UInt8 := dkwX5_sense_5 ++ dktX5_sense_6
def dkwX5_sense_4 : List UInt8 := [17, 1, 63, 159, 0, 10, 28, 17, 1, 65, 160, 0, 7, 29, 167, 0, 11, 42, 16, 44, 16, 7]
abbrev dktX5_sense_4 : List UInt8 := dkwX5_sense_4 ++ dktX5_sense_5
def dkwX5_sense_3 : List UInt8 := [89, 42, 180, 0, 107, 4, 100, 27, 29, 42, 16, 44, 16, 99, 182, 0, 110, 21, 4, 183, 0, 113, 176, 28]
abbrev dktX5_sense_3 : List UInt8 := dkwX5_sense_3 ++ dktX5_sense_4
def dkwX5_sense_2 : List UInt8 := [17, 1, 60, 160, 0, 44, 42, 16, 44, 182, 0, 98, 42, 4, 16, 9, 182, 0, 102, 54, 4, 187, 0, 105]
abbrev dktX5_sense_2 : List UInt8 := dkwX5_sense_2 ++ dktX5_sense_3
def dkwX5_sense_1 : List UInt8 := [154, 0, 9, 42, 4, 182, 0, 88, 191, 42, 182, 0, 92, 42, 3, 16, 7, 182, 0, 102, 62, 28]
abbrev dktX5_sense_1 : List UInt8 := dkwX5_sense_1 ++ dktX5_sense_2
def dkwX5_sense_0 : List UInt8 := [42, 3, 16, 19, 182, 0, 102, 60, 42, 180, 0, 60, 61, 28, 17, 1, 60, 17, 1, 65, 184, 0, 26]
abbrev dktX5_sense_0 : List UInt8 := dkwX5_sense_0 ++ dktX5_sense_1
theorem dksX5_sense_0 : cX5_sense.data.toList.drop 0 = dktX5_sense_0 := by decide +kernel
theorem dksX5_sense_1 : cX5_sense.data.toList.drop 23 = dktX5_sense_1 := dk_seg dksX5_sense_0 23 rfl rfl
theorem dksX5_sense_2 : cX5_sense.data.toList.drop 45 = dktX5_sense_2 := dk_seg dksX5_sense_1 22 rfl rfl
theorem dksX5_sense_3 : cX5_sense.data.toList.drop 69 = dktX5_sense_3 := dk_seg dksX5_sense_2 24 rfl rfl
theorem dksX5_sense_4 : cX5_sense.data.toList.drop 93 = dktX5_sense_4 := dk_seg dksX5_sense_3 24 rfl rfl
theorem dksX5_sense_5 : cX5_sense.data.toList.drop 115 = dktX5_sense_5 := dk_seg dksX5_sense_4 22 rfl rfl
theorem dksX5_sense_6 : cX5_sense.data.toList.drop 139 = dktX5_sense_6 := dk_seg dksX5_sense_5 24 rfl rfl
theorem dksX5_sense_7 : cX5_sense.data.toList.drop 153 = dktX5_sense_7 := dk_seg dksX5_sense_6 14 rfl rfl
theorem dksX5_sense_8 : cX5_sense.data.toList.drop 184 = dktX5_sense_8 := dk_seg dksX5_sense_7 31 rfl rfl
theorem dksX5_sense_9 : cX5_sense.data.toList.drop 207 = dktX5_sense_9 := dk_seg dksX5_sense_8 23 rfl rfl
theorem dksX5_sense_10 : cX5_sense.data.toList.drop 230 = dktX5_sense_10 := dk_seg dksX5_sense_9 23 rfl rfl
theorem dksX5_sense_11 : cX5_sense.data.toList.drop 254 = dktX5_sense_11 := dk_seg dksX5_sense_10 24 rfl rfl
theorem dksX5_sense_12 : cX5_sense.data.toList.drop 277 = dktX5_sense_12 := dk_seg dksX5_sense_11 23 rfl rfl
theorem dX5_sense_0 : decode cX5_sense 0 = .ok (.aload_n 0, 1) := dk_42 (dk_at dksX5_sense_0 0 rfl rfl)
theorem dX5_sense_1 : decode cX5_sense 1 = .ok (.iconst 0, 1) := dk_3 (dk_at dksX5_sense_0 1 rfl rfl)
theorem dX5_sense_2 : decode cX5_sense 2 = .ok (.bipush 19, 2) := dk_16 19 (dk_at dksX5_sense_0 2 rfl rfl)
theorem dX5_sense_4 : decode cX5_sense 4 = .ok (.invokevirtual 102, 3) := dk_182 0 102 (dk_at dksX5_sense_0 4 rfl rfl)
theorem dX5_sense_7 : decode cX5_sense 7 = .ok (.istore_n 1, 1) := dk_60 (dk_at dksX5_sense_0 7 rfl rfl)
theorem dX5_sense_8 : decode cX5_sense 8 = .ok (.aload_n 0, 1) := dk_42 (dk_at dksX5_sense_0 8 rfl rfl)
theorem dX5_sense_9 : decode cX5_sense 9 = .ok (.getfield 60, 3) := dk_180 0 60 (dk_at dksX5_sense_0 9 rfl rfl)
theorem dX5_sense_12 : decode cX5_sense 12 = .ok (.istore_n 2, 1) := dk_61 (dk_at dksX5_sense_0 12 rfl rfl)
theorem dX5_sense_13 : decode cX5_sense 13 = .ok (.iload_n 2, 1) := dk_28 (dk_at dksX5_sense_0 13 rfl rfl)
theorem dX5_sense_14 : decode cX5_sense 14 = .ok (.sipush 316, 3) := dk_17 1 60 (dk_at dksX5_sense_0 14 rfl rfl)
theorem dX5_sense_17 : decode cX5_sense 17 = .ok (.sipush 321, 3) := dk_17 1 65 (dk_at dksX5_sense_0 17 rfl rfl)
theorem dX5_sense_20 : decode cX5_sense 20 = .ok (.invokestatic 26, 3) := dk_184 0 26 (dk_at dksX5_sense_0 20 rfl rfl)
theorem dX5_sense_23 : decode cX5_sense 23 = .ok (.ifCond .ne 9, 3) := dk_154 0 9 (dk_at dksX5_sense_1 0 rfl rfl)
theorem dX5_sense_26 : decode cX5_sense 26 = .ok (.aload_n 0, 1) := dk_42 (dk_at dksX5_sense_1 3 rfl rfl)
theorem dX5_sense_27 : decode cX5_sense 27 = .ok (.iconst 1, 1) := dk_4 (dk_at dksX5_sense_1 4 rfl rfl)
theorem dX5_sense_28 : decode cX5_sense 28 = .ok (.invokevirtual 88, 3) := dk_182 0 88 (dk_at dksX5_sense_1 5 rfl rfl)
theorem dX5_sense_31 : decode cX5_sense 31 = .ok (.athrow, 1) := dk_191 (dk_at dksX5_sense_1 8 rfl rfl)
theorem dX5_sense_32 : decode cX5_sense 32 = .ok (.aload_n 0, 1) := dk_42 (dk_at dksX5_sense_1 9 rfl rfl)
theorem dX5_sense_33 : decode cX5_sense 33 = .ok (.invokevirtual 92, 3) := dk_182 0 92 (dk_at dksX5_sense_1 10 rfl rfl)
theorem dX5_sense_36 : decode cX5_sense 36 = .ok (.aload_n 0, 1) := dk_42 (dk_at dksX5_sense_1 13 rfl rfl)
theorem dX5_sense_37 : decode cX5_sense 37 = .ok (.iconst 0, 1) := dk_3 (dk_at dksX5_sense_1 14 rfl rfl)
theorem dX5_sense_38 : decode cX5_sense 38 = .ok (.bipush 7, 2) := dk_16 7 (dk_at dksX5_sense_1 15 rfl rfl)
theorem dX5_sense_40 : decode cX5_sense 40 = .ok (.invokevirtual 102, 3) := dk_182 0 102 (dk_at dksX5_sense_1 17 rfl rfl)
theorem dX5_sense_43 : decode cX5_sense 43 = .ok (.istore_n 3, 1) := dk_62 (dk_at dksX5_sense_1 20 rfl rfl)
theorem dX5_sense_44 : decode cX5_sense 44 = .ok (.iload_n 2, 1) := dk_28 (dk_at dksX5_sense_1 21 rfl rfl)
theorem dX5_sense_45 : decode cX5_sense 45 = .ok (.sipush 316, 3) := dk_17 1 60 (dk_at dksX5_sense_2 0 rfl rfl)
theorem dX5_sense_48 : decode cX5_sense 48 = .ok (.if_icmp .ne 44, 3) := dk_160 0 44 (dk_at dksX5_sense_2 3 rfl rfl)
theorem dX5_sense_51 : decode cX5_sense 51 = .ok (.aload_n 0, 1) := dk_42 (dk_at dksX5_sense_2 6 rfl rfl)
theorem dX5_sense_52 : decode cX5_sense 52 = .ok (.bipush 44, 2) := dk_16 44 (dk_at dksX5_sense_2 7 rfl rfl)
theorem dX5_sense_54 : decode cX5_sense 54 = .ok (.invokevirtual 98, 3) := dk_182 0 98 (dk_at dksX5_sense_2 9 rfl rfl)
theorem dX5_sense_57 : decode cX5_sense 57 = .ok (.aload_n 0, 1) := dk_42 (dk_at dksX5_sense_2 12 rfl rfl)
theorem dX5_sense_58 : decode cX5_sense 58 = .ok (.iconst 1, 1) := dk_4 (dk_at dksX5_sense_2 13 rfl rfl)
theorem dX5_sense_59 : decode cX5_sense 59 = .ok (.bipush 9, 2) := dk_16 9 (dk_at dksX5_sense_2 14 rfl rfl)
theorem dX5_sense_61 : decode cX5_sense 61 = .ok (.invokevirtual 102, 3) := dk_182 0 102 (dk_at dksX5_sense_2 16 rfl rfl)
theorem dX5_sense_64 : decode cX5_sense 64 = .ok (.istore 4, 2) := dk_54 4 (dk_at dksX5_sense_2 19 rfl rfl)
theorem dX5_sense_66 : decode cX5_sense 66 = .ok (.new 105, 3) := dk_187 0 105 (dk_at dksX5_sense_2 21 rfl rfl)
theorem dX5_sense_69 : decode cX5_sense 69 = .ok (.dup, 1) := dk_89 (dk_at dksX5_sense_3 0 rfl rfl)
theorem dX5_sense_70 : decode cX5_sense 70 = .ok (.aload_n 0, 1) := dk_42 (dk_at dksX5_sense_3 1 rfl rfl)
theorem dX5_sense_71 : decode cX5_sense 71 = .ok (.getfield 107, 3) := dk_180 0 107 (dk_at dksX5_sense_3 2 rfl rfl)
theorem dX5_sense_74 : decode cX5_sense 74 = .ok (.iconst 1, 1) := dk_4 (dk_at dksX5_sense_3 5 rfl rfl)
theorem dX5_sense_75 : decode cX5_sense 75 = .ok (.isub, 1) := dk_100 (dk_at dksX5_sense_3 6 rfl rfl)
theorem dX5_sense_76 : decode cX5_sense 76 = .ok (.iload_n 1, 1) := dk_27 (dk_at dksX5_sense_3 7 rfl rfl)
theorem dX5_sense_77 : decode cX5_sense 77 = .ok (.iload_n 3, 1) := dk_29 (dk_at dksX5_sense_3 8 rfl rfl)
theorem dX5_sense_78 : decode cX5_sense 78 = .ok (.aload_n 0, 1) := dk_42 (dk_at dksX5_sense_3 9 rfl rfl)
theorem dX5_sense_79 : decode cX5_sense 79 = .ok (.bipush 44, 2) := dk_16 44 (dk_at dksX5_sense_3 10 rfl rfl)
theorem dX5_sense_81 : decode cX5_sense 81 = .ok (.bipush 99, 2) := dk_16 99 (dk_at dksX5_sense_3 12 rfl rfl)
theorem dX5_sense_83 : decode cX5_sense 83 = .ok (.invokevirtual 110, 3) := dk_182 0 110 (dk_at dksX5_sense_3 14 rfl rfl)
theorem dX5_sense_86 : decode cX5_sense 86 = .ok (.iload 4, 2) := dk_21 4 (dk_at dksX5_sense_3 17 rfl rfl)
theorem dX5_sense_88 : decode cX5_sense 88 = .ok (.invokespecial 113, 3) := dk_183 0 113 (dk_at dksX5_sense_3 19 rfl rfl)
theorem dX5_sense_91 : decode cX5_sense 91 = .ok (.areturn, 1) := dk_176 (dk_at dksX5_sense_3 22 rfl rfl)
theorem dX5_sense_92 : decode cX5_sense 92 = .ok (.iload_n 2, 1) := dk_28 (dk_at dksX5_sense_3 23 rfl rfl)
theorem dX5_sense_93 : decode cX5_sense 93 = .ok (.sipush 319, 3) := dk_17 1 63 (dk_at dksX5_sense_4 0 rfl rfl)
theorem dX5_sense_96 : decode cX5_sense 96 = .ok (.if_icmp .eq 10, 3) := dk_159 0 10 (dk_at dksX5_sense_4 3 rfl rfl)
theorem dX5_sense_99 : decode cX5_sense 99 = .ok (.iload_n 2, 1) := dk_28 (dk_at dksX5_sense_4 6 rfl rfl)
theorem dX5_sense_100 : decode cX5_sense 100 = .ok (.sipush 321, 3) := dk_17 1 65 (dk_at dksX5_sense_4 7 rfl rfl)
theorem dX5_sense_103 : decode cX5_sense 103 = .ok (.if_icmp .ne 7, 3) := dk_160 0 7 (dk_at dksX5_sense_4 10 rfl rfl)
theorem dX5_sense_106 : decode cX5_sense 106 = .ok (.iload_n 3, 1) := dk_29 (dk_at dksX5_sense_4 13 rfl rfl)
theorem dX5_sense_107 : decode cX5_sense 107 = .ok (.goto 11, 3) := dk_167 0 11 (dk_at dksX5_sense_4 14 rfl rfl)
theorem dX5_sense_110 : decode cX5_sense 110 = .ok (.aload_n 0, 1) := dk_42 (dk_at dksX5_sense_4 17 rfl rfl)
theorem dX5_sense_111 : decode cX5_sense 111 = .ok (.bipush 44, 2) := dk_16 44 (dk_at dksX5_sense_4 18 rfl rfl)
theorem dX5_sense_113 : decode cX5_sense 113 = .ok (.bipush 7, 2) := dk_16 7 (dk_at dksX5_sense_4 20 rfl rfl)
theorem dX5_sense_115 : decode cX5_sense 115 = .ok (.invokevirtual 110, 3) := dk_182 0 110 (dk_at dksX5_sense_5 0 rfl rfl)
theorem dX5_sense_118 : decode cX5_sense 118 = .ok (.istore 4, 2) := dk_54 4 (dk_at dksX5_sense_5 3 rfl rfl)
theorem dX5_sense_120 : decode cX5_sense 120 = .ok (.aload_n 0, 1) := dk_42 (dk_at dksX5_sense_5 5 rfl rfl)
theorem dX5_sense_121 : decode cX5_sense 121 = .ok (.sipush 322, 3) := dk_17 1 66 (dk_at dksX5_sense_5 6 rfl rfl)
theorem dX5_sense_124 : decode cX5_sense 124 = .ok (.bipush 7, 2) := dk_16 7 (dk_at dksX5_sense_5 9 rfl rfl)
theorem dX5_sense_126 : decode cX5_sense 126 = .ok (.invokevirtual 110, 3) := dk_182 0 110 (dk_at dksX5_sense_5 11 rfl rfl)
theorem dX5_sense_129 : decode cX5_sense 129 = .ok (.istore 5, 2) := dk_54 5 (dk_at dksX5_sense_5 14 rfl rfl)
theorem dX5_sense_131 : decode cX5_sense 131 = .ok (.iload_n 2, 1) := dk_28 (dk_at dksX5_sense_5 16 rfl rfl)
theorem dX5_sense_132 : decode cX5_sense 132 = .ok (.sipush 321, 3) := dk_17 1 65 (dk_at dksX5_sense_5 17 rfl rfl)
theorem dX5_sense_135 : decode cX5_sense 135 = .ok (.if_icmp .ne 7, 3) := dk_160 0 7 (dk_at dksX5_sense_5 20 rfl rfl)
theorem dX5_sense_138 : decode cX5_sense 138 = .ok (.iconst (-1), 1) := dk_2 (dk_at dksX5_sense_5 23 rfl rfl)
theorem dX5_sense_139 : decode cX5_sense 139 = .ok (.goto 11, 3) := dk_167 0 11 (dk_at dksX5_sense_6 0 rfl rfl)
theorem dX5_sense_142 : decode cX5_sense 142 = .ok (.aload_n 0, 1) := dk_42 (dk_at dksX5_sense_6 3 rfl rfl)
theorem dX5_sense_143 : decode cX5_sense 143 = .ok (.bipush 44, 2) := dk_16 44 (dk_at dksX5_sense_6 4 rfl rfl)
theorem dX5_sense_145 : decode cX5_sense 145 = .ok (.bipush 99, 2) := dk_16 99 (dk_at dksX5_sense_6 6 rfl rfl)
theorem dX5_sense_147 : decode cX5_sense 147 = .ok (.invokevirtual 110, 3) := dk_182 0 110 (dk_at dksX5_sense_6 8 rfl rfl)
theorem dX5_sense_150 : decode cX5_sense 150 = .ok (.istore 6, 2) := dk_54 6 (dk_at dksX5_sense_6 11 rfl rfl)
theorem dX5_sense_152 : decode cX5_sense 152 = .ok (.iload_n 2, 1) := dk_28 (dk_at dksX5_sense_6 13 rfl rfl)
theorem dX5_sense_153 : decode cX5_sense 153 = .ok (.tableswitch 119 317 320 #[31, 54, 77, 97], 31) := by decide +kernel
theorem dX5_sense_184 : decode cX5_sense 184 = .ok (.new 116, 3) := dk_187 0 116 (dk_at dksX5_sense_8 0 rfl rfl)
theorem dX5_sense_187 : decode cX5_sense 187 = .ok (.dup, 1) := dk_89 (dk_at dksX5_sense_8 3 rfl rfl)
theorem dX5_sense_188 : decode cX5_sense 188 = .ok (.aload_n 0, 1) := dk_42 (dk_at dksX5_sense_8 4 rfl rfl)
theorem dX5_sense_189 : decode cX5_sense 189 = .ok (.getfield 107, 3) := dk_180 0 107 (dk_at dksX5_sense_8 5 rfl rfl)
theorem dX5_sense_192 : decode cX5_sense 192 = .ok (.iconst 1, 1) := dk_4 (dk_at dksX5_sense_8 8 rfl rfl)
theorem dX5_sense_193 : decode cX5_sense 193 = .ok (.isub, 1) := dk_100 (dk_at dksX5_sense_8 9 rfl rfl)
theorem dX5_sense_194 : decode cX5_sense 194 = .ok (.iload_n 1, 1) := dk_27 (dk_at dksX5_sense_8 10 rfl rfl)
theorem dX5_sense_195 : decode cX5_sense 195 = .ok (.iload 5, 2) := dk_21 5 (dk_at dksX5_sense_8 11 rfl rfl)
theorem dX5_sense_197 : decode cX5_sense 197 = .ok (.iload 6, 2) := dk_21 6 (dk_at dksX5_sense_8 13 rfl rfl)
theorem dX5_sense_199 : decode cX5_sense 199 = .ok (.iload_n 3, 1) := dk_29 (dk_at dksX5_sense_8 15 rfl rfl)
theorem dX5_sense_200 : decode cX5_sense 200 = .ok (.iload 4, 2) := dk_21 4 (dk_at dksX5_sense_8 16 rfl rfl)
theorem dX5_sense_202 : decode cX5_sense 202 = .ok (.iconst 0, 1) := dk_3 (dk_at dksX5_sense_8 18 rfl rfl)
theorem dX5_sense_203 : decode cX5_sense 203 = .ok (.invokespecial 118, 3) := dk_183 0 118 (dk_at dksX5_sense_8 19 rfl rfl)
theorem dX5_sense_206 : decode cX5_sense 206 = .ok (.areturn, 1) := dk_176 (dk_at dksX5_sense_8 22 rfl rfl)
theorem dX5_sense_207 : decode cX5_sense 207 = .ok (.new 116, 3) := dk_187 0 116 (dk_at dksX5_sense_9 0 rfl rfl)
theorem dX5_sense_210 : decode cX5_sense 210 = .ok (.dup, 1) := dk_89 (dk_at dksX5_sense_9 3 rfl rfl)
theorem dX5_sense_211 : decode cX5_sense 211 = .ok (.aload_n 0, 1) := dk_42 (dk_at dksX5_sense_9 4 rfl rfl)
theorem dX5_sense_212 : decode cX5_sense 212 = .ok (.getfield 107, 3) := dk_180 0 107 (dk_at dksX5_sense_9 5 rfl rfl)
theorem dX5_sense_215 : decode cX5_sense 215 = .ok (.iconst 1, 1) := dk_4 (dk_at dksX5_sense_9 8 rfl rfl)
theorem dX5_sense_216 : decode cX5_sense 216 = .ok (.isub, 1) := dk_100 (dk_at dksX5_sense_9 9 rfl rfl)
theorem dX5_sense_217 : decode cX5_sense 217 = .ok (.iload_n 1, 1) := dk_27 (dk_at dksX5_sense_9 10 rfl rfl)
theorem dX5_sense_218 : decode cX5_sense 218 = .ok (.iload 5, 2) := dk_21 5 (dk_at dksX5_sense_9 11 rfl rfl)
theorem dX5_sense_220 : decode cX5_sense 220 = .ok (.iload 6, 2) := dk_21 6 (dk_at dksX5_sense_9 13 rfl rfl)
theorem dX5_sense_222 : decode cX5_sense 222 = .ok (.iload_n 3, 1) := dk_29 (dk_at dksX5_sense_9 15 rfl rfl)
theorem dX5_sense_223 : decode cX5_sense 223 = .ok (.iload 4, 2) := dk_21 4 (dk_at dksX5_sense_9 16 rfl rfl)
theorem dX5_sense_225 : decode cX5_sense 225 = .ok (.iconst 1, 1) := dk_4 (dk_at dksX5_sense_9 18 rfl rfl)
theorem dX5_sense_226 : decode cX5_sense 226 = .ok (.invokespecial 118, 3) := dk_183 0 118 (dk_at dksX5_sense_9 19 rfl rfl)
theorem dX5_sense_229 : decode cX5_sense 229 = .ok (.areturn, 1) := dk_176 (dk_at dksX5_sense_9 22 rfl rfl)
theorem dX5_sense_230 : decode cX5_sense 230 = .ok (.new 121, 3) := dk_187 0 121 (dk_at dksX5_sense_10 0 rfl rfl)
theorem dX5_sense_233 : decode cX5_sense 233 = .ok (.dup, 1) := dk_89 (dk_at dksX5_sense_10 3 rfl rfl)
theorem dX5_sense_234 : decode cX5_sense 234 = .ok (.aload_n 0, 1) := dk_42 (dk_at dksX5_sense_10 4 rfl rfl)
theorem dX5_sense_235 : decode cX5_sense 235 = .ok (.getfield 107, 3) := dk_180 0 107 (dk_at dksX5_sense_10 5 rfl rfl)
theorem dX5_sense_238 : decode cX5_sense 238 = .ok (.iconst 1, 1) := dk_4 (dk_at dksX5_sense_10 8 rfl rfl)
theorem dX5_sense_239 : decode cX5_sense 239 = .ok (.isub, 1) := dk_100 (dk_at dksX5_sense_10 9 rfl rfl)
theorem dX5_sense_240 : decode cX5_sense 240 = .ok (.iload_n 1, 1) := dk_27 (dk_at dksX5_sense_10 10 rfl rfl)
theorem dX5_sense_241 : decode cX5_sense 241 = .ok (.iload 5, 2) := dk_21 5 (dk_at dksX5_sense_10 11 rfl rfl)
theorem dX5_sense_243 : decode cX5_sense 243 = .ok (.iload 6, 2) := dk_21 6 (dk_at dksX5_sense_10 13 rfl rfl)
theorem dX5_sense_245 : decode cX5_sense 245 = .ok (.iload_n 3, 1) := dk_29 (dk_at dksX5_sense_10 15 rfl rfl)
theorem dX5_sense_246 : decode cX5_sense 246 = .ok (.invokespecial 123, 3) := dk_183 0 123 (dk_at dksX5_sense_10 16 rfl rfl)
theorem dX5_sense_249 : decode cX5_sense 249 = .ok (.areturn, 1) := dk_176 (dk_at dksX5_sense_10 19 rfl rfl)
theorem dX5_sense_250 : decode cX5_sense 250 = .ok (.new 124, 3) := dk_187 0 124 (dk_at dksX5_sense_10 20 rfl rfl)
theorem dX5_sense_253 : decode cX5_sense 253 = .ok (.dup, 1) := dk_89 (dk_at dksX5_sense_10 23 rfl rfl)
theorem dX5_sense_254 : decode cX5_sense 254 = .ok (.aload_n 0, 1) := dk_42 (dk_at dksX5_sense_11 0 rfl rfl)
theorem dX5_sense_255 : decode cX5_sense 255 = .ok (.getfield 107, 3) := dk_180 0 107 (dk_at dksX5_sense_11 1 rfl rfl)
theorem dX5_sense_258 : decode cX5_sense 258 = .ok (.iconst 1, 1) := dk_4 (dk_at dksX5_sense_11 4 rfl rfl)
theorem dX5_sense_259 : decode cX5_sense 259 = .ok (.isub, 1) := dk_100 (dk_at dksX5_sense_11 5 rfl rfl)
theorem dX5_sense_260 : decode cX5_sense 260 = .ok (.iload_n 1, 1) := dk_27 (dk_at dksX5_sense_11 6 rfl rfl)
theorem dX5_sense_261 : decode cX5_sense 261 = .ok (.iload 5, 2) := dk_21 5 (dk_at dksX5_sense_11 7 rfl rfl)
theorem dX5_sense_263 : decode cX5_sense 263 = .ok (.iload 6, 2) := dk_21 6 (dk_at dksX5_sense_11 9 rfl rfl)
theorem dX5_sense_265 : decode cX5_sense 265 = .ok (.iload_n 3, 1) := dk_29 (dk_at dksX5_sense_11 11 rfl rfl)
theorem dX5_sense_266 : decode cX5_sense 266 = .ok (.iload 4, 2) := dk_21 4 (dk_at dksX5_sense_11 12 rfl rfl)
theorem dX5_sense_268 : decode cX5_sense 268 = .ok (.invokespecial 126, 3) := dk_183 0 126 (dk_at dksX5_sense_11 14 rfl rfl)
theorem dX5_sense_271 : decode cX5_sense 271 = .ok (.areturn, 1) := dk_176 (dk_at dksX5_sense_11 17 rfl rfl)
theorem dX5_sense_272 : decode cX5_sense 272 = .ok (.new 129, 3) := dk_187 0 129 (dk_at dksX5_sense_11 18 rfl rfl)
theorem dX5_sense_275 : decode cX5_sense 275 = .ok (.dup, 1) := dk_89 (dk_at dksX5_sense_11 21 rfl rfl)
theorem dX5_sense_276 : decode cX5_sense 276 = .ok (.aload_n 0, 1) := dk_42 (dk_at dksX5_sense_11 22 rfl rfl)
theorem dX5_sense_277 : decode cX5_sense 277 = .ok (.getfield 107, 3) := dk_180 0 107 (dk_at dksX5_sense_12 0 rfl rfl)
theorem dX5_sense_280 : decode cX5_sense 280 = .ok (.iconst 1, 1) := dk_4 (dk_at dksX5_sense_12 3 rfl rfl)
theorem dX5_sense_281 : decode cX5_sense 281 = .ok (.isub, 1) := dk_100 (dk_at dksX5_sense_12 4 rfl rfl)
theorem dX5_sense_282 : decode cX5_sense 282 = .ok (.iload_n 1, 1) := dk_27 (dk_at dksX5_sense_12 5 rfl rfl)
theorem dX5_sense_283 : decode cX5_sense 283 = .ok (.iload 5, 2) := dk_21 5 (dk_at dksX5_sense_12 6 rfl rfl)
theorem dX5_sense_285 : decode cX5_sense 285 = .ok (.iload_n 3, 1) := dk_29 (dk_at dksX5_sense_12 8 rfl rfl)
theorem dX5_sense_286 : decode cX5_sense 286 = .ok (.invokespecial 131, 3) := dk_183 0 131 (dk_at dksX5_sense_12 9 rfl rfl)
theorem dX5_sense_289 : decode cX5_sense 289 = .ok (.areturn, 1) := dk_176 (dk_at dksX5_sense_12 12 rfl rfl)
abbrev cX5_number : ByteArray := prog_15_method_12_code
def yX5_number : MethodName := ⟨RX5, "number", "(II)I"⟩
def dkwX5_number_1 : List UInt8 := [184, 0, 26, 154, 0, 9, 42, 5, 182, 0, 88, 191, 42, 180, 0, 69, 62, 42, 182, 0, 92, 29, 172]
abbrev dktX5_number_1 : List UInt8 := dkwX5_number_1 ++ []
def dkwX5_number_0 : List UInt8 := [42, 180, 0, 60, 17, 1, 45, 159, 0, 9, 42, 4, 182, 0, 88, 191, 42, 180, 0, 69, 27, 28]
abbrev dktX5_number_0 : List UInt8 := dkwX5_number_0 ++ dktX5_number_1
theorem dksX5_number_0 : cX5_number.data.toList.drop 0 = dktX5_number_0 := by decide +kernel
theorem dksX5_number_1 : cX5_number.data.toList.drop 22 = dktX5_number_1 := dk_seg dksX5_number_0 22 rfl rfl
theorem dX5_number_0 : decode cX5_number 0 = .ok (.aload_n 0, 1) := dk_42 (dk_at dksX5_number_0 0 rfl rfl)
theorem dX5_number_1 : decode cX5_number 1 = .ok (.getfield 60, 3) := dk_180 0 60 (dk_at dksX5_number_0 1 rfl rfl)
theorem dX5_number_4 : decode cX5_number 4 = .ok (.sipush 301, 3) := dk_17 1 45 (dk_at dksX5_number_0 4 rfl rfl)
theorem dX5_number_7 : decode cX5_number 7 = .ok (.if_icmp .eq 9, 3) := dk_159 0 9 (dk_at dksX5_number_0 7 rfl rfl)
theorem dX5_number_10 : decode cX5_number 10 = .ok (.aload_n 0, 1) := dk_42 (dk_at dksX5_number_0 10 rfl rfl)
theorem dX5_number_11 : decode cX5_number 11 = .ok (.iconst 1, 1) := dk_4 (dk_at dksX5_number_0 11 rfl rfl)
theorem dX5_number_12 : decode cX5_number 12 = .ok (.invokevirtual 88, 3) := dk_182 0 88 (dk_at dksX5_number_0 12 rfl rfl)
theorem dX5_number_15 : decode cX5_number 15 = .ok (.athrow, 1) := dk_191 (dk_at dksX5_number_0 15 rfl rfl)
theorem dX5_number_16 : decode cX5_number 16 = .ok (.aload_n 0, 1) := dk_42 (dk_at dksX5_number_0 16 rfl rfl)
theorem dX5_number_17 : decode cX5_number 17 = .ok (.getfield 69, 3) := dk_180 0 69 (dk_at dksX5_number_0 17 rfl rfl)
theorem dX5_number_20 : decode cX5_number 20 = .ok (.iload_n 1, 1) := dk_27 (dk_at dksX5_number_0 20 rfl rfl)
theorem dX5_number_21 : decode cX5_number 21 = .ok (.iload_n 2, 1) := dk_28 (dk_at dksX5_number_0 21 rfl rfl)
theorem dX5_number_22 : decode cX5_number 22 = .ok (.invokestatic 26, 3) := dk_184 0 26 (dk_at dksX5_number_1 0 rfl rfl)
theorem dX5_number_25 : decode cX5_number 25 = .ok (.ifCond .ne 9, 3) := dk_154 0 9 (dk_at dksX5_number_1 3 rfl rfl)
theorem dX5_number_28 : decode cX5_number 28 = .ok (.aload_n 0, 1) := dk_42 (dk_at dksX5_number_1 6 rfl rfl)
theorem dX5_number_29 : decode cX5_number 29 = .ok (.iconst 2, 1) := dk_5 (dk_at dksX5_number_1 7 rfl rfl)
theorem dX5_number_30 : decode cX5_number 30 = .ok (.invokevirtual 88, 3) := dk_182 0 88 (dk_at dksX5_number_1 8 rfl rfl)
theorem dX5_number_33 : decode cX5_number 33 = .ok (.athrow, 1) := dk_191 (dk_at dksX5_number_1 11 rfl rfl)
theorem dX5_number_34 : decode cX5_number 34 = .ok (.aload_n 0, 1) := dk_42 (dk_at dksX5_number_1 12 rfl rfl)
theorem dX5_number_35 : decode cX5_number 35 = .ok (.getfield 69, 3) := dk_180 0 69 (dk_at dksX5_number_1 13 rfl rfl)
theorem dX5_number_38 : decode cX5_number 38 = .ok (.istore_n 3, 1) := dk_62 (dk_at dksX5_number_1 16 rfl rfl)
theorem dX5_number_39 : decode cX5_number 39 = .ok (.aload_n 0, 1) := dk_42 (dk_at dksX5_number_1 17 rfl rfl)
theorem dX5_number_40 : decode cX5_number 40 = .ok (.invokevirtual 92, 3) := dk_182 0 92 (dk_at dksX5_number_1 18 rfl rfl)
theorem dX5_number_43 : decode cX5_number 43 = .ok (.iload_n 3, 1) := dk_29 (dk_at dksX5_number_1 21 rfl rfl)
theorem dX5_number_44 : decode cX5_number 44 = .ok (.ireturn, 1) := dk_172 (dk_at dksX5_number_1 22 rfl rfl)
abbrev cX5_need : ByteArray := prog_15_method_10_code
def yX5_need : MethodName := ⟨RX5, "need", "(I)V"⟩
def dkwX5_need_0 : List UInt8 := [42, 180, 0, 60, 27, 159, 0, 9, 42, 4, 182, 0, 88, 191, 42, 182, 0, 92, 177]
abbrev dktX5_need_0 : List UInt8 := dkwX5_need_0 ++ []
theorem dksX5_need_0 : cX5_need.data.toList.drop 0 = dktX5_need_0 := by decide +kernel
theorem dX5_need_0 : decode cX5_need 0 = .ok (.aload_n 0, 1) := dk_42 (dk_at dksX5_need_0 0 rfl rfl)
theorem dX5_need_1 : decode cX5_need 1 = .ok (.getfield 60, 3) := dk_180 0 60 (dk_at dksX5_need_0 1 rfl rfl)
theorem dX5_need_4 : decode cX5_need 4 = .ok (.iload_n 1, 1) := dk_27 (dk_at dksX5_need_0 4 rfl rfl)
theorem dX5_need_5 : decode cX5_need 5 = .ok (.if_icmp .eq 9, 3) := dk_159 0 9 (dk_at dksX5_need_0 5 rfl rfl)
theorem dX5_need_8 : decode cX5_need 8 = .ok (.aload_n 0, 1) := dk_42 (dk_at dksX5_need_0 8 rfl rfl)
theorem dX5_need_9 : decode cX5_need 9 = .ok (.iconst 1, 1) := dk_4 (dk_at dksX5_need_0 9 rfl rfl)
theorem dX5_need_10 : decode cX5_need 10 = .ok (.invokevirtual 88, 3) := dk_182 0 88 (dk_at dksX5_need_0 10 rfl rfl)
theorem dX5_need_13 : decode cX5_need 13 = .ok (.athrow, 1) := dk_191 (dk_at dksX5_need_0 13 rfl rfl)
theorem dX5_need_14 : decode cX5_need 14 = .ok (.aload_n 0, 1) := dk_42 (dk_at dksX5_need_0 14 rfl rfl)
theorem dX5_need_15 : decode cX5_need 15 = .ok (.invokevirtual 92, 3) := dk_182 0 92 (dk_at dksX5_need_0 15 rfl rfl)
theorem dX5_need_18 : decode cX5_need 18 = .ok (.return_, 1) := dk_177 (dk_at dksX5_need_0 18 rfl rfl)
abbrev cX5_after : ByteArray := prog_15_method_13_code
def yX5_after : MethodName := ⟨RX5, "after", "(II)I"⟩
def dkwX5_after_0 : List UInt8 := [42, 27, 182, 0, 98, 42, 3, 28, 182, 0, 102, 172]
abbrev dktX5_after_0 : List UInt8 := dkwX5_after_0 ++ []
theorem dksX5_after_0 : cX5_after.data.toList.drop 0 = dktX5_after_0 := by decide +kernel
theorem dX5_after_0 : decode cX5_after 0 = .ok (.aload_n 0, 1) := dk_42 (dk_at dksX5_after_0 0 rfl rfl)
theorem dX5_after_1 : decode cX5_after 1 = .ok (.iload_n 1, 1) := dk_27 (dk_at dksX5_after_0 1 rfl rfl)
theorem dX5_after_2 : decode cX5_after 2 = .ok (.invokevirtual 98, 3) := dk_182 0 98 (dk_at dksX5_after_0 2 rfl rfl)
theorem dX5_after_5 : decode cX5_after 5 = .ok (.aload_n 0, 1) := dk_42 (dk_at dksX5_after_0 5 rfl rfl)
theorem dX5_after_6 : decode cX5_after 6 = .ok (.iconst 0, 1) := dk_3 (dk_at dksX5_after_0 6 rfl rfl)
theorem dX5_after_7 : decode cX5_after 7 = .ok (.iload_n 2, 1) := dk_28 (dk_at dksX5_after_0 7 rfl rfl)
theorem dX5_after_8 : decode cX5_after 8 = .ok (.invokevirtual 102, 3) := dk_182 0 102 (dk_at dksX5_after_0 8 rfl rfl)
theorem dX5_after_11 : decode cX5_after 11 = .ok (.ireturn, 1) := dk_172 (dk_at dksX5_after_0 11 rfl rfl)
abbrev cX5_sum : ByteArray := prog_15_method_20_code
def yX5_sum : MethodName := ⟨RX5, "sum", "()LHeldTongue$Sum;"⟩
def dkwX5_sum_2 : List UInt8 := [167, 255, 215, 43, 176]
abbrev dktX5_sum_2 : List UInt8 := dkwX5_sum_2 ++ []
def dkwX5_sum_1 : List UInt8 := [180, 0, 60, 61, 42, 182, 0, 92, 187, 0, 194, 89, 28, 43, 42, 182, 0, 191, 183, 0, 196, 76]
abbrev dktX5_sum_1 : List UInt8 := dkwX5_sum_1 ++ dktX5_sum_2
def dkwX5_sum_0 : List UInt8 := [42, 182, 0, 191, 76, 42, 180, 0, 60, 16, 43, 159, 0, 12, 42, 180, 0, 60, 16, 45, 160, 0, 29, 42]
abbrev dktX5_sum_0 : List UInt8 := dkwX5_sum_0 ++ dktX5_sum_1
theorem dksX5_sum_0 : cX5_sum.data.toList.drop 0 = dktX5_sum_0 := by decide +kernel
theorem dksX5_sum_1 : cX5_sum.data.toList.drop 24 = dktX5_sum_1 := dk_seg dksX5_sum_0 24 rfl rfl
theorem dksX5_sum_2 : cX5_sum.data.toList.drop 46 = dktX5_sum_2 := dk_seg dksX5_sum_1 22 rfl rfl
theorem dX5_sum_0 : decode cX5_sum 0 = .ok (.aload_n 0, 1) := dk_42 (dk_at dksX5_sum_0 0 rfl rfl)
theorem dX5_sum_1 : decode cX5_sum 1 = .ok (.invokevirtual 191, 3) := dk_182 0 191 (dk_at dksX5_sum_0 1 rfl rfl)
theorem dX5_sum_4 : decode cX5_sum 4 = .ok (.astore_n 1, 1) := dk_76 (dk_at dksX5_sum_0 4 rfl rfl)
theorem dX5_sum_5 : decode cX5_sum 5 = .ok (.aload_n 0, 1) := dk_42 (dk_at dksX5_sum_0 5 rfl rfl)
theorem dX5_sum_6 : decode cX5_sum 6 = .ok (.getfield 60, 3) := dk_180 0 60 (dk_at dksX5_sum_0 6 rfl rfl)
theorem dX5_sum_9 : decode cX5_sum 9 = .ok (.bipush 43, 2) := dk_16 43 (dk_at dksX5_sum_0 9 rfl rfl)
theorem dX5_sum_11 : decode cX5_sum 11 = .ok (.if_icmp .eq 12, 3) := dk_159 0 12 (dk_at dksX5_sum_0 11 rfl rfl)
theorem dX5_sum_14 : decode cX5_sum 14 = .ok (.aload_n 0, 1) := dk_42 (dk_at dksX5_sum_0 14 rfl rfl)
theorem dX5_sum_15 : decode cX5_sum 15 = .ok (.getfield 60, 3) := dk_180 0 60 (dk_at dksX5_sum_0 15 rfl rfl)
theorem dX5_sum_18 : decode cX5_sum 18 = .ok (.bipush 45, 2) := dk_16 45 (dk_at dksX5_sum_0 18 rfl rfl)
theorem dX5_sum_20 : decode cX5_sum 20 = .ok (.if_icmp .ne 29, 3) := dk_160 0 29 (dk_at dksX5_sum_0 20 rfl rfl)
theorem dX5_sum_23 : decode cX5_sum 23 = .ok (.aload_n 0, 1) := dk_42 (dk_at dksX5_sum_0 23 rfl rfl)
theorem dX5_sum_24 : decode cX5_sum 24 = .ok (.getfield 60, 3) := dk_180 0 60 (dk_at dksX5_sum_1 0 rfl rfl)
theorem dX5_sum_27 : decode cX5_sum 27 = .ok (.istore_n 2, 1) := dk_61 (dk_at dksX5_sum_1 3 rfl rfl)
theorem dX5_sum_28 : decode cX5_sum 28 = .ok (.aload_n 0, 1) := dk_42 (dk_at dksX5_sum_1 4 rfl rfl)
theorem dX5_sum_29 : decode cX5_sum 29 = .ok (.invokevirtual 92, 3) := dk_182 0 92 (dk_at dksX5_sum_1 5 rfl rfl)
theorem dX5_sum_32 : decode cX5_sum 32 = .ok (.new 194, 3) := dk_187 0 194 (dk_at dksX5_sum_1 8 rfl rfl)
theorem dX5_sum_35 : decode cX5_sum 35 = .ok (.dup, 1) := dk_89 (dk_at dksX5_sum_1 11 rfl rfl)
theorem dX5_sum_36 : decode cX5_sum 36 = .ok (.iload_n 2, 1) := dk_28 (dk_at dksX5_sum_1 12 rfl rfl)
theorem dX5_sum_37 : decode cX5_sum 37 = .ok (.aload_n 1, 1) := dk_43 (dk_at dksX5_sum_1 13 rfl rfl)
theorem dX5_sum_38 : decode cX5_sum 38 = .ok (.aload_n 0, 1) := dk_42 (dk_at dksX5_sum_1 14 rfl rfl)
theorem dX5_sum_39 : decode cX5_sum 39 = .ok (.invokevirtual 191, 3) := dk_182 0 191 (dk_at dksX5_sum_1 15 rfl rfl)
theorem dX5_sum_42 : decode cX5_sum 42 = .ok (.invokespecial 196, 3) := dk_183 0 196 (dk_at dksX5_sum_1 18 rfl rfl)
theorem dX5_sum_45 : decode cX5_sum 45 = .ok (.astore_n 1, 1) := dk_76 (dk_at dksX5_sum_1 21 rfl rfl)
theorem dX5_sum_46 : decode cX5_sum 46 = .ok (.goto (-41), 3) := dk_167 255 215 (dk_at dksX5_sum_2 0 rfl rfl)
theorem dX5_sum_49 : decode cX5_sum 49 = .ok (.aload_n 1, 1) := dk_43 (dk_at dksX5_sum_2 3 rfl rfl)
theorem dX5_sum_50 : decode cX5_sum 50 = .ok (.areturn, 1) := dk_176 (dk_at dksX5_sum_2 4 rfl rfl)
abbrev cX5_product : ByteArray := prog_15_method_21_code
def yX5_product : MethodName := ⟨RX5, "product", "()LHeldTongue$Sum;"⟩
def dkwX5_product_2 : List UInt8 := [167, 255, 215, 43, 176]
abbrev dktX5_product_2 : List UInt8 := dkwX5_product_2 ++ []
def dkwX5_product_1 : List UInt8 := [180, 0, 60, 61, 42, 182, 0, 92, 187, 0, 194, 89, 28, 43, 42, 182, 0, 197, 183, 0, 196, 76]
abbrev dktX5_product_1 : List UInt8 := dkwX5_product_1 ++ dktX5_product_2
def dkwX5_product_0 : List UInt8 := [42, 182, 0, 197, 76, 42, 180, 0, 60, 16, 42, 159, 0, 12, 42, 180, 0, 60, 16, 47, 160, 0, 29, 42]
abbrev dktX5_product_0 : List UInt8 := dkwX5_product_0 ++ dktX5_product_1
theorem dksX5_product_0 : cX5_product.data.toList.drop 0 = dktX5_product_0 := by decide +kernel
theorem dksX5_product_1 : cX5_product.data.toList.drop 24 = dktX5_product_1 := dk_seg dksX5_product_0 24 rfl rfl
theorem dksX5_product_2 : cX5_product.data.toList.drop 46 = dktX5_product_2 := dk_seg dksX5_product_1 22 rfl rfl
theorem dX5_product_0 : decode cX5_product 0 = .ok (.aload_n 0, 1) := dk_42 (dk_at dksX5_product_0 0 rfl rfl)
theorem dX5_product_1 : decode cX5_product 1 = .ok (.invokevirtual 197, 3) := dk_182 0 197 (dk_at dksX5_product_0 1 rfl rfl)
theorem dX5_product_4 : decode cX5_product 4 = .ok (.astore_n 1, 1) := dk_76 (dk_at dksX5_product_0 4 rfl rfl)
theorem dX5_product_5 : decode cX5_product 5 = .ok (.aload_n 0, 1) := dk_42 (dk_at dksX5_product_0 5 rfl rfl)
theorem dX5_product_6 : decode cX5_product 6 = .ok (.getfield 60, 3) := dk_180 0 60 (dk_at dksX5_product_0 6 rfl rfl)
theorem dX5_product_9 : decode cX5_product 9 = .ok (.bipush 42, 2) := dk_16 42 (dk_at dksX5_product_0 9 rfl rfl)
theorem dX5_product_11 : decode cX5_product 11 = .ok (.if_icmp .eq 12, 3) := dk_159 0 12 (dk_at dksX5_product_0 11 rfl rfl)
theorem dX5_product_14 : decode cX5_product 14 = .ok (.aload_n 0, 1) := dk_42 (dk_at dksX5_product_0 14 rfl rfl)
theorem dX5_product_15 : decode cX5_product 15 = .ok (.getfield 60, 3) := dk_180 0 60 (dk_at dksX5_product_0 15 rfl rfl)
theorem dX5_product_18 : decode cX5_product 18 = .ok (.bipush 47, 2) := dk_16 47 (dk_at dksX5_product_0 18 rfl rfl)
theorem dX5_product_20 : decode cX5_product 20 = .ok (.if_icmp .ne 29, 3) := dk_160 0 29 (dk_at dksX5_product_0 20 rfl rfl)
theorem dX5_product_23 : decode cX5_product 23 = .ok (.aload_n 0, 1) := dk_42 (dk_at dksX5_product_0 23 rfl rfl)
theorem dX5_product_24 : decode cX5_product 24 = .ok (.getfield 60, 3) := dk_180 0 60 (dk_at dksX5_product_1 0 rfl rfl)
theorem dX5_product_27 : decode cX5_product 27 = .ok (.istore_n 2, 1) := dk_61 (dk_at dksX5_product_1 3 rfl rfl)
theorem dX5_product_28 : decode cX5_product 28 = .ok (.aload_n 0, 1) := dk_42 (dk_at dksX5_product_1 4 rfl rfl)
theorem dX5_product_29 : decode cX5_product 29 = .ok (.invokevirtual 92, 3) := dk_182 0 92 (dk_at dksX5_product_1 5 rfl rfl)
theorem dX5_product_32 : decode cX5_product 32 = .ok (.new 194, 3) := dk_187 0 194 (dk_at dksX5_product_1 8 rfl rfl)
theorem dX5_product_35 : decode cX5_product 35 = .ok (.dup, 1) := dk_89 (dk_at dksX5_product_1 11 rfl rfl)
theorem dX5_product_36 : decode cX5_product 36 = .ok (.iload_n 2, 1) := dk_28 (dk_at dksX5_product_1 12 rfl rfl)
theorem dX5_product_37 : decode cX5_product 37 = .ok (.aload_n 1, 1) := dk_43 (dk_at dksX5_product_1 13 rfl rfl)
theorem dX5_product_38 : decode cX5_product 38 = .ok (.aload_n 0, 1) := dk_42 (dk_at dksX5_product_1 14 rfl rfl)
theorem dX5_product_39 : decode cX5_product 39 = .ok (.invokevirtual 197, 3) := dk_182 0 197 (dk_at dksX5_product_1 15 rfl rfl)
theorem dX5_product_42 : decode cX5_product 42 = .ok (.invokespecial 196, 3) := dk_183 0 196 (dk_at dksX5_product_1 18 rfl rfl)
theorem dX5_product_45 : decode cX5_product 45 = .ok (.astore_n 1, 1) := dk_76 (dk_at dksX5_product_1 21 rfl rfl)
theorem dX5_product_46 : decode cX5_product 46 = .ok (.goto (-41), 3) := dk_167 255 215 (dk_at dksX5_product_2 0 rfl rfl)
theorem dX5_product_49 : decode cX5_product 49 = .ok (.aload_n 1, 1) := dk_43 (dk_at dksX5_product_2 3 rfl rfl)
theorem dX5_product_50 : decode cX5_product 50 = .ok (.areturn, 1) := dk_176 (dk_at dksX5_product_2 4 rfl rfl)
abbrev cX5_one : ByteArray := prog_15_method_22_code
def yX5_one : MethodName := ⟨RX5, "one", "()LHeldTongue$Sum;"⟩
def dkwX5_one_7 : List UInt8 := [42, 4, 182, 0, 88, 191]
abbrev dktX5_one_7 : List UInt8 := dkwX5_one_7 ++ []
def dkwX5_one_6 : List UInt8 := [187, 0, 207, 89, 42, 182, 0, 197, 183, 0, 209, 76, 42, 89, 180, 0, 95, 4, 100, 181, 0, 95, 43, 176]
abbrev dktX5_one_6 : List UInt8 := dkwX5_one_6 ++ dktX5_one_7
def dkwX5_one_5 : List UInt8 := [76, 42, 16, 41, 182, 0, 98, 42, 89, 180, 0, 95, 4, 100, 181, 0, 95, 43, 176, 42, 182, 0, 176]
abbrev dktX5_one_5 : List UInt8 := dkwX5_one_5 ++ dktX5_one_6
def dkwX5_one_4 : List UInt8 := [187, 0, 204, 89, 42, 3, 17, 39, 15, 182, 0, 102, 183, 0, 206, 176, 42, 182, 0, 176, 42, 182, 0, 152]
abbrev dktX5_one_4 : List UInt8 := dkwX5_one_4 ++ dktX5_one_5
def dkwX5_one_3 : List UInt8 := [171, 0, 0, 0, 0, 0, 0, 107, 0, 0, 0, 3, 0, 0, 0, 40, 0, 0, 0, 52, 0, 0, 0, 45, 0, 0, 0, 79, 0, 0, 1, 45, 0, 0, 0, 36]
abbrev dktX5_one_3 : List UInt8 := dkwX5_one_3 ++ dktX5_one_4
def dkwX5_one_2 : List UInt8 := [42, 180, 0, 57, 183, 0, 202, 76, 42, 182, 0, 92, 43, 176, 42, 180, 0, 60]
abbrev dktX5_one_2 : List UInt8 := dkwX5_one_2 ++ dktX5_one_3
def dkwX5_one_1 : List UInt8 := [164, 0, 20, 167, 0, 11, 42, 180, 0, 57, 6, 162, 0, 9, 42, 8, 182, 0, 88, 191, 187, 0, 200, 89]
abbrev dktX5_one_1 : List UInt8 := dkwX5_one_1 ++ dktX5_one_2
def dkwX5_one_0 : List UInt8 := [42, 180, 0, 57, 155, 0, 56, 42, 180, 0, 141, 17, 1, 55, 160, 0, 14, 42, 180, 0, 57, 6]
abbrev dktX5_one_0 : List UInt8 := dkwX5_one_0 ++ dktX5_one_1
theorem dksX5_one_0 : cX5_one.data.toList.drop 0 = dktX5_one_0 := by decide +kernel
theorem dksX5_one_1 : cX5_one.data.toList.drop 22 = dktX5_one_1 := dk_seg dksX5_one_0 22 rfl rfl
theorem dksX5_one_2 : cX5_one.data.toList.drop 46 = dktX5_one_2 := dk_seg dksX5_one_1 24 rfl rfl
theorem dksX5_one_3 : cX5_one.data.toList.drop 64 = dktX5_one_3 := dk_seg dksX5_one_2 18 rfl rfl
theorem dksX5_one_4 : cX5_one.data.toList.drop 100 = dktX5_one_4 := dk_seg dksX5_one_3 36 rfl rfl
theorem dksX5_one_5 : cX5_one.data.toList.drop 124 = dktX5_one_5 := dk_seg dksX5_one_4 24 rfl rfl
theorem dksX5_one_6 : cX5_one.data.toList.drop 147 = dktX5_one_6 := dk_seg dksX5_one_5 23 rfl rfl
theorem dksX5_one_7 : cX5_one.data.toList.drop 171 = dktX5_one_7 := dk_seg dksX5_one_6 24 rfl rfl
theorem dX5_one_0 : decode cX5_one 0 = .ok (.aload_n 0, 1) := dk_42 (dk_at dksX5_one_0 0 rfl rfl)
theorem dX5_one_1 : decode cX5_one 1 = .ok (.getfield 57, 3) := dk_180 0 57 (dk_at dksX5_one_0 1 rfl rfl)
theorem dX5_one_4 : decode cX5_one 4 = .ok (.ifCond .lt 56, 3) := dk_155 0 56 (dk_at dksX5_one_0 4 rfl rfl)
theorem dX5_one_7 : decode cX5_one 7 = .ok (.aload_n 0, 1) := dk_42 (dk_at dksX5_one_0 7 rfl rfl)
theorem dX5_one_8 : decode cX5_one 8 = .ok (.getfield 141, 3) := dk_180 0 141 (dk_at dksX5_one_0 8 rfl rfl)
theorem dX5_one_11 : decode cX5_one 11 = .ok (.sipush 311, 3) := dk_17 1 55 (dk_at dksX5_one_0 11 rfl rfl)
theorem dX5_one_14 : decode cX5_one 14 = .ok (.if_icmp .ne 14, 3) := dk_160 0 14 (dk_at dksX5_one_0 14 rfl rfl)
theorem dX5_one_17 : decode cX5_one 17 = .ok (.aload_n 0, 1) := dk_42 (dk_at dksX5_one_0 17 rfl rfl)
theorem dX5_one_18 : decode cX5_one 18 = .ok (.getfield 57, 3) := dk_180 0 57 (dk_at dksX5_one_0 18 rfl rfl)
theorem dX5_one_21 : decode cX5_one 21 = .ok (.iconst 3, 1) := dk_6 (dk_at dksX5_one_0 21 rfl rfl)
theorem dX5_one_22 : decode cX5_one 22 = .ok (.if_icmp .le 20, 3) := dk_164 0 20 (dk_at dksX5_one_1 0 rfl rfl)
theorem dX5_one_25 : decode cX5_one 25 = .ok (.goto 11, 3) := dk_167 0 11 (dk_at dksX5_one_1 3 rfl rfl)
theorem dX5_one_28 : decode cX5_one 28 = .ok (.aload_n 0, 1) := dk_42 (dk_at dksX5_one_1 6 rfl rfl)
theorem dX5_one_29 : decode cX5_one 29 = .ok (.getfield 57, 3) := dk_180 0 57 (dk_at dksX5_one_1 7 rfl rfl)
theorem dX5_one_32 : decode cX5_one 32 = .ok (.iconst 3, 1) := dk_6 (dk_at dksX5_one_1 10 rfl rfl)
theorem dX5_one_33 : decode cX5_one 33 = .ok (.if_icmp .ge 9, 3) := dk_162 0 9 (dk_at dksX5_one_1 11 rfl rfl)
theorem dX5_one_36 : decode cX5_one 36 = .ok (.aload_n 0, 1) := dk_42 (dk_at dksX5_one_1 14 rfl rfl)
theorem dX5_one_37 : decode cX5_one 37 = .ok (.iconst 5, 1) := dk_8 (dk_at dksX5_one_1 15 rfl rfl)
theorem dX5_one_38 : decode cX5_one 38 = .ok (.invokevirtual 88, 3) := dk_182 0 88 (dk_at dksX5_one_1 16 rfl rfl)
theorem dX5_one_41 : decode cX5_one 41 = .ok (.athrow, 1) := dk_191 (dk_at dksX5_one_1 19 rfl rfl)
theorem dX5_one_42 : decode cX5_one 42 = .ok (.new 200, 3) := dk_187 0 200 (dk_at dksX5_one_1 20 rfl rfl)
theorem dX5_one_45 : decode cX5_one 45 = .ok (.dup, 1) := dk_89 (dk_at dksX5_one_1 23 rfl rfl)
theorem dX5_one_46 : decode cX5_one 46 = .ok (.aload_n 0, 1) := dk_42 (dk_at dksX5_one_2 0 rfl rfl)
theorem dX5_one_47 : decode cX5_one 47 = .ok (.getfield 57, 3) := dk_180 0 57 (dk_at dksX5_one_2 1 rfl rfl)
theorem dX5_one_50 : decode cX5_one 50 = .ok (.invokespecial 202, 3) := dk_183 0 202 (dk_at dksX5_one_2 4 rfl rfl)
theorem dX5_one_53 : decode cX5_one 53 = .ok (.astore_n 1, 1) := dk_76 (dk_at dksX5_one_2 7 rfl rfl)
theorem dX5_one_54 : decode cX5_one 54 = .ok (.aload_n 0, 1) := dk_42 (dk_at dksX5_one_2 8 rfl rfl)
theorem dX5_one_55 : decode cX5_one 55 = .ok (.invokevirtual 92, 3) := dk_182 0 92 (dk_at dksX5_one_2 9 rfl rfl)
theorem dX5_one_58 : decode cX5_one 58 = .ok (.aload_n 1, 1) := dk_43 (dk_at dksX5_one_2 12 rfl rfl)
theorem dX5_one_59 : decode cX5_one 59 = .ok (.areturn, 1) := dk_176 (dk_at dksX5_one_2 13 rfl rfl)
theorem dX5_one_60 : decode cX5_one 60 = .ok (.aload_n 0, 1) := dk_42 (dk_at dksX5_one_2 14 rfl rfl)
theorem dX5_one_61 : decode cX5_one 61 = .ok (.getfield 60, 3) := dk_180 0 60 (dk_at dksX5_one_2 15 rfl rfl)
theorem dX5_one_64 : decode cX5_one 64 = .ok (.lookupswitch 107 #[(40, 52), (45, 79), (301, 36)], 36) := by decide +kernel
theorem dX5_one_100 : decode cX5_one 100 = .ok (.new 204, 3) := dk_187 0 204 (dk_at dksX5_one_4 0 rfl rfl)
theorem dX5_one_103 : decode cX5_one 103 = .ok (.dup, 1) := dk_89 (dk_at dksX5_one_4 3 rfl rfl)
theorem dX5_one_104 : decode cX5_one 104 = .ok (.aload_n 0, 1) := dk_42 (dk_at dksX5_one_4 4 rfl rfl)
theorem dX5_one_105 : decode cX5_one 105 = .ok (.iconst 0, 1) := dk_3 (dk_at dksX5_one_4 5 rfl rfl)
theorem dX5_one_106 : decode cX5_one 106 = .ok (.sipush 9999, 3) := dk_17 39 15 (dk_at dksX5_one_4 6 rfl rfl)
theorem dX5_one_109 : decode cX5_one 109 = .ok (.invokevirtual 102, 3) := dk_182 0 102 (dk_at dksX5_one_4 9 rfl rfl)
theorem dX5_one_112 : decode cX5_one 112 = .ok (.invokespecial 206, 3) := dk_183 0 206 (dk_at dksX5_one_4 12 rfl rfl)
theorem dX5_one_115 : decode cX5_one 115 = .ok (.areturn, 1) := dk_176 (dk_at dksX5_one_4 15 rfl rfl)
theorem dX5_one_116 : decode cX5_one 116 = .ok (.aload_n 0, 1) := dk_42 (dk_at dksX5_one_4 16 rfl rfl)
theorem dX5_one_117 : decode cX5_one 117 = .ok (.invokevirtual 176, 3) := dk_182 0 176 (dk_at dksX5_one_4 17 rfl rfl)
theorem dX5_one_120 : decode cX5_one 120 = .ok (.aload_n 0, 1) := dk_42 (dk_at dksX5_one_4 20 rfl rfl)
theorem dX5_one_121 : decode cX5_one 121 = .ok (.invokevirtual 152, 3) := dk_182 0 152 (dk_at dksX5_one_4 21 rfl rfl)
theorem dX5_one_124 : decode cX5_one 124 = .ok (.astore_n 1, 1) := dk_76 (dk_at dksX5_one_5 0 rfl rfl)
theorem dX5_one_125 : decode cX5_one 125 = .ok (.aload_n 0, 1) := dk_42 (dk_at dksX5_one_5 1 rfl rfl)
theorem dX5_one_126 : decode cX5_one 126 = .ok (.bipush 41, 2) := dk_16 41 (dk_at dksX5_one_5 2 rfl rfl)
theorem dX5_one_128 : decode cX5_one 128 = .ok (.invokevirtual 98, 3) := dk_182 0 98 (dk_at dksX5_one_5 4 rfl rfl)
theorem dX5_one_131 : decode cX5_one 131 = .ok (.aload_n 0, 1) := dk_42 (dk_at dksX5_one_5 7 rfl rfl)
theorem dX5_one_132 : decode cX5_one 132 = .ok (.dup, 1) := dk_89 (dk_at dksX5_one_5 8 rfl rfl)
theorem dX5_one_133 : decode cX5_one 133 = .ok (.getfield 95, 3) := dk_180 0 95 (dk_at dksX5_one_5 9 rfl rfl)
theorem dX5_one_136 : decode cX5_one 136 = .ok (.iconst 1, 1) := dk_4 (dk_at dksX5_one_5 12 rfl rfl)
theorem dX5_one_137 : decode cX5_one 137 = .ok (.isub, 1) := dk_100 (dk_at dksX5_one_5 13 rfl rfl)
theorem dX5_one_138 : decode cX5_one 138 = .ok (.putfield 95, 3) := dk_181 0 95 (dk_at dksX5_one_5 14 rfl rfl)
theorem dX5_one_141 : decode cX5_one 141 = .ok (.aload_n 1, 1) := dk_43 (dk_at dksX5_one_5 17 rfl rfl)
theorem dX5_one_142 : decode cX5_one 142 = .ok (.areturn, 1) := dk_176 (dk_at dksX5_one_5 18 rfl rfl)
theorem dX5_one_143 : decode cX5_one 143 = .ok (.aload_n 0, 1) := dk_42 (dk_at dksX5_one_5 19 rfl rfl)
theorem dX5_one_144 : decode cX5_one 144 = .ok (.invokevirtual 176, 3) := dk_182 0 176 (dk_at dksX5_one_5 20 rfl rfl)
theorem dX5_one_147 : decode cX5_one 147 = .ok (.new 207, 3) := dk_187 0 207 (dk_at dksX5_one_6 0 rfl rfl)
theorem dX5_one_150 : decode cX5_one 150 = .ok (.dup, 1) := dk_89 (dk_at dksX5_one_6 3 rfl rfl)
theorem dX5_one_151 : decode cX5_one 151 = .ok (.aload_n 0, 1) := dk_42 (dk_at dksX5_one_6 4 rfl rfl)
theorem dX5_one_152 : decode cX5_one 152 = .ok (.invokevirtual 197, 3) := dk_182 0 197 (dk_at dksX5_one_6 5 rfl rfl)
theorem dX5_one_155 : decode cX5_one 155 = .ok (.invokespecial 209, 3) := dk_183 0 209 (dk_at dksX5_one_6 8 rfl rfl)
theorem dX5_one_158 : decode cX5_one 158 = .ok (.astore_n 1, 1) := dk_76 (dk_at dksX5_one_6 11 rfl rfl)
theorem dX5_one_159 : decode cX5_one 159 = .ok (.aload_n 0, 1) := dk_42 (dk_at dksX5_one_6 12 rfl rfl)
theorem dX5_one_160 : decode cX5_one 160 = .ok (.dup, 1) := dk_89 (dk_at dksX5_one_6 13 rfl rfl)
theorem dX5_one_161 : decode cX5_one 161 = .ok (.getfield 95, 3) := dk_180 0 95 (dk_at dksX5_one_6 14 rfl rfl)
theorem dX5_one_164 : decode cX5_one 164 = .ok (.iconst 1, 1) := dk_4 (dk_at dksX5_one_6 17 rfl rfl)
theorem dX5_one_165 : decode cX5_one 165 = .ok (.isub, 1) := dk_100 (dk_at dksX5_one_6 18 rfl rfl)
theorem dX5_one_166 : decode cX5_one 166 = .ok (.putfield 95, 3) := dk_181 0 95 (dk_at dksX5_one_6 19 rfl rfl)
theorem dX5_one_169 : decode cX5_one 169 = .ok (.aload_n 1, 1) := dk_43 (dk_at dksX5_one_6 22 rfl rfl)
theorem dX5_one_170 : decode cX5_one 170 = .ok (.areturn, 1) := dk_176 (dk_at dksX5_one_6 23 rfl rfl)
theorem dX5_one_171 : decode cX5_one 171 = .ok (.aload_n 0, 1) := dk_42 (dk_at dksX5_one_7 0 rfl rfl)
theorem dX5_one_172 : decode cX5_one 172 = .ok (.iconst 1, 1) := dk_4 (dk_at dksX5_one_7 1 rfl rfl)
theorem dX5_one_173 : decode cX5_one 173 = .ok (.invokevirtual 88, 3) := dk_182 0 88 (dk_at dksX5_one_7 2 rfl rfl)
theorem dX5_one_176 : decode cX5_one 176 = .ok (.athrow, 1) := dk_191 (dk_at dksX5_one_7 5 rfl rfl)
abbrev cX5_opens : ByteArray := prog_15_method_11_code
def yX5_opens : MethodName := ⟨RX5, "opens", "()V"⟩
def dkwX5_opens_1 : List UInt8 := [181, 0, 95, 42, 182, 0, 92, 177]
abbrev dktX5_opens_1 : List UInt8 := dkwX5_opens_1 ++ []
def dkwX5_opens_0 : List UInt8 := [42, 180, 0, 95, 16, 8, 160, 0, 9, 42, 6, 182, 0, 88, 191, 42, 89, 180, 0, 95, 4, 96]
abbrev dktX5_opens_0 : List UInt8 := dkwX5_opens_0 ++ dktX5_opens_1
theorem dksX5_opens_0 : cX5_opens.data.toList.drop 0 = dktX5_opens_0 := by decide +kernel
theorem dksX5_opens_1 : cX5_opens.data.toList.drop 22 = dktX5_opens_1 := dk_seg dksX5_opens_0 22 rfl rfl
theorem dX5_opens_0 : decode cX5_opens 0 = .ok (.aload_n 0, 1) := dk_42 (dk_at dksX5_opens_0 0 rfl rfl)
theorem dX5_opens_1 : decode cX5_opens 1 = .ok (.getfield 95, 3) := dk_180 0 95 (dk_at dksX5_opens_0 1 rfl rfl)
theorem dX5_opens_4 : decode cX5_opens 4 = .ok (.bipush 8, 2) := dk_16 8 (dk_at dksX5_opens_0 4 rfl rfl)
theorem dX5_opens_6 : decode cX5_opens 6 = .ok (.if_icmp .ne 9, 3) := dk_160 0 9 (dk_at dksX5_opens_0 6 rfl rfl)
theorem dX5_opens_9 : decode cX5_opens 9 = .ok (.aload_n 0, 1) := dk_42 (dk_at dksX5_opens_0 9 rfl rfl)
theorem dX5_opens_10 : decode cX5_opens 10 = .ok (.iconst 3, 1) := dk_6 (dk_at dksX5_opens_0 10 rfl rfl)
theorem dX5_opens_11 : decode cX5_opens 11 = .ok (.invokevirtual 88, 3) := dk_182 0 88 (dk_at dksX5_opens_0 11 rfl rfl)
theorem dX5_opens_14 : decode cX5_opens 14 = .ok (.athrow, 1) := dk_191 (dk_at dksX5_opens_0 14 rfl rfl)
theorem dX5_opens_15 : decode cX5_opens 15 = .ok (.aload_n 0, 1) := dk_42 (dk_at dksX5_opens_0 15 rfl rfl)
theorem dX5_opens_16 : decode cX5_opens 16 = .ok (.dup, 1) := dk_89 (dk_at dksX5_opens_0 16 rfl rfl)
theorem dX5_opens_17 : decode cX5_opens 17 = .ok (.getfield 95, 3) := dk_180 0 95 (dk_at dksX5_opens_0 17 rfl rfl)
theorem dX5_opens_20 : decode cX5_opens 20 = .ok (.iconst 1, 1) := dk_4 (dk_at dksX5_opens_0 20 rfl rfl)
theorem dX5_opens_21 : decode cX5_opens 21 = .ok (.iadd, 1) := dk_96 (dk_at dksX5_opens_0 21 rfl rfl)
theorem dX5_opens_22 : decode cX5_opens 22 = .ok (.putfield 95, 3) := dk_181 0 95 (dk_at dksX5_opens_1 0 rfl rfl)
theorem dX5_opens_25 : decode cX5_opens 25 = .ok (.aload_n 0, 1) := dk_42 (dk_at dksX5_opens_1 3 rfl rfl)
theorem dX5_opens_26 : decode cX5_opens 26 = .ok (.invokevirtual 92, 3) := dk_182 0 92 (dk_at dksX5_opens_1 4 rfl rfl)
theorem dX5_opens_29 : decode cX5_opens 29 = .ok (.return_, 1) := dk_177 (dk_at dksX5_opens_1 7 rfl rfl)
abbrev cX5_either : ByteArray := prog_15_method_16_code
def yX5_either : MethodName := ⟨RX5, "either", "()LHeldTongue$Ask;"⟩
def dkwX5_either_1 : List UInt8 := [43, 42, 182, 0, 165, 183, 0, 170, 76, 167, 255, 228, 43, 176]
abbrev dktX5_either_1 : List UInt8 := dkwX5_either_1 ++ []
def dkwX5_either_0 : List UInt8 := [42, 182, 0, 165, 76, 42, 180, 0, 60, 17, 1, 57, 160, 0, 24, 42, 182, 0, 92, 187, 0, 168, 89, 4]
abbrev dktX5_either_0 : List UInt8 := dkwX5_either_0 ++ dktX5_either_1
theorem dksX5_either_0 : cX5_either.data.toList.drop 0 = dktX5_either_0 := by decide +kernel
theorem dksX5_either_1 : cX5_either.data.toList.drop 24 = dktX5_either_1 := dk_seg dksX5_either_0 24 rfl rfl
theorem dX5_either_0 : decode cX5_either 0 = .ok (.aload_n 0, 1) := dk_42 (dk_at dksX5_either_0 0 rfl rfl)
theorem dX5_either_1 : decode cX5_either 1 = .ok (.invokevirtual 165, 3) := dk_182 0 165 (dk_at dksX5_either_0 1 rfl rfl)
theorem dX5_either_4 : decode cX5_either 4 = .ok (.astore_n 1, 1) := dk_76 (dk_at dksX5_either_0 4 rfl rfl)
theorem dX5_either_5 : decode cX5_either 5 = .ok (.aload_n 0, 1) := dk_42 (dk_at dksX5_either_0 5 rfl rfl)
theorem dX5_either_6 : decode cX5_either 6 = .ok (.getfield 60, 3) := dk_180 0 60 (dk_at dksX5_either_0 6 rfl rfl)
theorem dX5_either_9 : decode cX5_either 9 = .ok (.sipush 313, 3) := dk_17 1 57 (dk_at dksX5_either_0 9 rfl rfl)
theorem dX5_either_12 : decode cX5_either 12 = .ok (.if_icmp .ne 24, 3) := dk_160 0 24 (dk_at dksX5_either_0 12 rfl rfl)
theorem dX5_either_15 : decode cX5_either 15 = .ok (.aload_n 0, 1) := dk_42 (dk_at dksX5_either_0 15 rfl rfl)
theorem dX5_either_16 : decode cX5_either 16 = .ok (.invokevirtual 92, 3) := dk_182 0 92 (dk_at dksX5_either_0 16 rfl rfl)
theorem dX5_either_19 : decode cX5_either 19 = .ok (.new 168, 3) := dk_187 0 168 (dk_at dksX5_either_0 19 rfl rfl)
theorem dX5_either_22 : decode cX5_either 22 = .ok (.dup, 1) := dk_89 (dk_at dksX5_either_0 22 rfl rfl)
theorem dX5_either_23 : decode cX5_either 23 = .ok (.iconst 1, 1) := dk_4 (dk_at dksX5_either_0 23 rfl rfl)
theorem dX5_either_24 : decode cX5_either 24 = .ok (.aload_n 1, 1) := dk_43 (dk_at dksX5_either_1 0 rfl rfl)
theorem dX5_either_25 : decode cX5_either 25 = .ok (.aload_n 0, 1) := dk_42 (dk_at dksX5_either_1 1 rfl rfl)
theorem dX5_either_26 : decode cX5_either 26 = .ok (.invokevirtual 165, 3) := dk_182 0 165 (dk_at dksX5_either_1 2 rfl rfl)
theorem dX5_either_29 : decode cX5_either 29 = .ok (.invokespecial 170, 3) := dk_183 0 170 (dk_at dksX5_either_1 5 rfl rfl)
theorem dX5_either_32 : decode cX5_either 32 = .ok (.astore_n 1, 1) := dk_76 (dk_at dksX5_either_1 8 rfl rfl)
theorem dX5_either_33 : decode cX5_either 33 = .ok (.goto (-28), 3) := dk_167 255 228 (dk_at dksX5_either_1 9 rfl rfl)
theorem dX5_either_36 : decode cX5_either 36 = .ok (.aload_n 1, 1) := dk_43 (dk_at dksX5_either_1 12 rfl rfl)
theorem dX5_either_37 : decode cX5_either 37 = .ok (.areturn, 1) := dk_176 (dk_at dksX5_either_1 13 rfl rfl)
abbrev cX5_both : ByteArray := prog_15_method_17_code
def yX5_both : MethodName := ⟨RX5, "both", "()LHeldTongue$Ask;"⟩
def dkwX5_both_1 : List UInt8 := [43, 42, 182, 0, 173, 183, 0, 170, 76, 167, 255, 228, 43, 176]
abbrev dktX5_both_1 : List UInt8 := dkwX5_both_1 ++ []
def dkwX5_both_0 : List UInt8 := [42, 182, 0, 173, 76, 42, 180, 0, 60, 17, 1, 58, 160, 0, 24, 42, 182, 0, 92, 187, 0, 168, 89, 3]
abbrev dktX5_both_0 : List UInt8 := dkwX5_both_0 ++ dktX5_both_1
theorem dksX5_both_0 : cX5_both.data.toList.drop 0 = dktX5_both_0 := by decide +kernel
theorem dksX5_both_1 : cX5_both.data.toList.drop 24 = dktX5_both_1 := dk_seg dksX5_both_0 24 rfl rfl
theorem dX5_both_0 : decode cX5_both 0 = .ok (.aload_n 0, 1) := dk_42 (dk_at dksX5_both_0 0 rfl rfl)
theorem dX5_both_1 : decode cX5_both 1 = .ok (.invokevirtual 173, 3) := dk_182 0 173 (dk_at dksX5_both_0 1 rfl rfl)
theorem dX5_both_4 : decode cX5_both 4 = .ok (.astore_n 1, 1) := dk_76 (dk_at dksX5_both_0 4 rfl rfl)
theorem dX5_both_5 : decode cX5_both 5 = .ok (.aload_n 0, 1) := dk_42 (dk_at dksX5_both_0 5 rfl rfl)
theorem dX5_both_6 : decode cX5_both 6 = .ok (.getfield 60, 3) := dk_180 0 60 (dk_at dksX5_both_0 6 rfl rfl)
theorem dX5_both_9 : decode cX5_both 9 = .ok (.sipush 314, 3) := dk_17 1 58 (dk_at dksX5_both_0 9 rfl rfl)
theorem dX5_both_12 : decode cX5_both 12 = .ok (.if_icmp .ne 24, 3) := dk_160 0 24 (dk_at dksX5_both_0 12 rfl rfl)
theorem dX5_both_15 : decode cX5_both 15 = .ok (.aload_n 0, 1) := dk_42 (dk_at dksX5_both_0 15 rfl rfl)
theorem dX5_both_16 : decode cX5_both 16 = .ok (.invokevirtual 92, 3) := dk_182 0 92 (dk_at dksX5_both_0 16 rfl rfl)
theorem dX5_both_19 : decode cX5_both 19 = .ok (.new 168, 3) := dk_187 0 168 (dk_at dksX5_both_0 19 rfl rfl)
theorem dX5_both_22 : decode cX5_both 22 = .ok (.dup, 1) := dk_89 (dk_at dksX5_both_0 22 rfl rfl)
theorem dX5_both_23 : decode cX5_both 23 = .ok (.iconst 0, 1) := dk_3 (dk_at dksX5_both_0 23 rfl rfl)
theorem dX5_both_24 : decode cX5_both 24 = .ok (.aload_n 1, 1) := dk_43 (dk_at dksX5_both_1 0 rfl rfl)
theorem dX5_both_25 : decode cX5_both 25 = .ok (.aload_n 0, 1) := dk_42 (dk_at dksX5_both_1 1 rfl rfl)
theorem dX5_both_26 : decode cX5_both 26 = .ok (.invokevirtual 173, 3) := dk_182 0 173 (dk_at dksX5_both_1 2 rfl rfl)
theorem dX5_both_29 : decode cX5_both 29 = .ok (.invokespecial 170, 3) := dk_183 0 170 (dk_at dksX5_both_1 5 rfl rfl)
theorem dX5_both_32 : decode cX5_both 32 = .ok (.astore_n 1, 1) := dk_76 (dk_at dksX5_both_1 8 rfl rfl)
theorem dX5_both_33 : decode cX5_both 33 = .ok (.goto (-28), 3) := dk_167 255 228 (dk_at dksX5_both_1 9 rfl rfl)
theorem dX5_both_36 : decode cX5_both 36 = .ok (.aload_n 1, 1) := dk_43 (dk_at dksX5_both_1 12 rfl rfl)
theorem dX5_both_37 : decode cX5_both 37 = .ok (.areturn, 1) := dk_176 (dk_at dksX5_both_1 13 rfl rfl)
abbrev cX5_ask : ByteArray := prog_15_method_19_code
def yX5_ask : MethodName := ⟨RX5, "ask", "()LHeldTongue$Ask;"⟩
def dkwX5_ask_3 : List UInt8 := [89, 28, 43, 42, 182, 0, 152, 183, 0, 188, 176]
abbrev dktX5_ask_3 : List UInt8 := dkwX5_ask_3 ++ []
def dkwX5_ask_2 : List UInt8 := [182, 0, 183, 154, 0, 9, 42, 4, 182, 0, 88, 191, 42, 180, 0, 60, 61, 42, 182, 0, 92, 187, 0, 186]
abbrev dktX5_ask_2 : List UInt8 := dkwX5_ask_2 ++ dktX5_ask_3
def dkwX5_ask_1 : List UInt8 := [183, 0, 181, 76, 42, 89, 180, 0, 95, 4, 100, 181, 0, 95, 43, 176, 42, 182, 0, 152, 76, 42]
abbrev dktX5_ask_1 : List UInt8 := dkwX5_ask_1 ++ dktX5_ask_2
def dkwX5_ask_0 : List UInt8 := [42, 180, 0, 60, 17, 1, 59, 160, 0, 31, 42, 182, 0, 176, 187, 0, 179, 89, 42, 182, 0, 173]
abbrev dktX5_ask_0 : List UInt8 := dkwX5_ask_0 ++ dktX5_ask_1
theorem dksX5_ask_0 : cX5_ask.data.toList.drop 0 = dktX5_ask_0 := by decide +kernel
theorem dksX5_ask_1 : cX5_ask.data.toList.drop 22 = dktX5_ask_1 := dk_seg dksX5_ask_0 22 rfl rfl
theorem dksX5_ask_2 : cX5_ask.data.toList.drop 44 = dktX5_ask_2 := dk_seg dksX5_ask_1 22 rfl rfl
theorem dksX5_ask_3 : cX5_ask.data.toList.drop 68 = dktX5_ask_3 := dk_seg dksX5_ask_2 24 rfl rfl
theorem dX5_ask_0 : decode cX5_ask 0 = .ok (.aload_n 0, 1) := dk_42 (dk_at dksX5_ask_0 0 rfl rfl)
theorem dX5_ask_1 : decode cX5_ask 1 = .ok (.getfield 60, 3) := dk_180 0 60 (dk_at dksX5_ask_0 1 rfl rfl)
theorem dX5_ask_4 : decode cX5_ask 4 = .ok (.sipush 315, 3) := dk_17 1 59 (dk_at dksX5_ask_0 4 rfl rfl)
theorem dX5_ask_7 : decode cX5_ask 7 = .ok (.if_icmp .ne 31, 3) := dk_160 0 31 (dk_at dksX5_ask_0 7 rfl rfl)
theorem dX5_ask_10 : decode cX5_ask 10 = .ok (.aload_n 0, 1) := dk_42 (dk_at dksX5_ask_0 10 rfl rfl)
theorem dX5_ask_11 : decode cX5_ask 11 = .ok (.invokevirtual 176, 3) := dk_182 0 176 (dk_at dksX5_ask_0 11 rfl rfl)
theorem dX5_ask_14 : decode cX5_ask 14 = .ok (.new 179, 3) := dk_187 0 179 (dk_at dksX5_ask_0 14 rfl rfl)
theorem dX5_ask_17 : decode cX5_ask 17 = .ok (.dup, 1) := dk_89 (dk_at dksX5_ask_0 17 rfl rfl)
theorem dX5_ask_18 : decode cX5_ask 18 = .ok (.aload_n 0, 1) := dk_42 (dk_at dksX5_ask_0 18 rfl rfl)
theorem dX5_ask_19 : decode cX5_ask 19 = .ok (.invokevirtual 173, 3) := dk_182 0 173 (dk_at dksX5_ask_0 19 rfl rfl)
theorem dX5_ask_22 : decode cX5_ask 22 = .ok (.invokespecial 181, 3) := dk_183 0 181 (dk_at dksX5_ask_1 0 rfl rfl)
theorem dX5_ask_25 : decode cX5_ask 25 = .ok (.astore_n 1, 1) := dk_76 (dk_at dksX5_ask_1 3 rfl rfl)
theorem dX5_ask_26 : decode cX5_ask 26 = .ok (.aload_n 0, 1) := dk_42 (dk_at dksX5_ask_1 4 rfl rfl)
theorem dX5_ask_27 : decode cX5_ask 27 = .ok (.dup, 1) := dk_89 (dk_at dksX5_ask_1 5 rfl rfl)
theorem dX5_ask_28 : decode cX5_ask 28 = .ok (.getfield 95, 3) := dk_180 0 95 (dk_at dksX5_ask_1 6 rfl rfl)
theorem dX5_ask_31 : decode cX5_ask 31 = .ok (.iconst 1, 1) := dk_4 (dk_at dksX5_ask_1 9 rfl rfl)
theorem dX5_ask_32 : decode cX5_ask 32 = .ok (.isub, 1) := dk_100 (dk_at dksX5_ask_1 10 rfl rfl)
theorem dX5_ask_33 : decode cX5_ask 33 = .ok (.putfield 95, 3) := dk_181 0 95 (dk_at dksX5_ask_1 11 rfl rfl)
theorem dX5_ask_36 : decode cX5_ask 36 = .ok (.aload_n 1, 1) := dk_43 (dk_at dksX5_ask_1 14 rfl rfl)
theorem dX5_ask_37 : decode cX5_ask 37 = .ok (.areturn, 1) := dk_176 (dk_at dksX5_ask_1 15 rfl rfl)
theorem dX5_ask_38 : decode cX5_ask 38 = .ok (.aload_n 0, 1) := dk_42 (dk_at dksX5_ask_1 16 rfl rfl)
theorem dX5_ask_39 : decode cX5_ask 39 = .ok (.invokevirtual 152, 3) := dk_182 0 152 (dk_at dksX5_ask_1 17 rfl rfl)
theorem dX5_ask_42 : decode cX5_ask 42 = .ok (.astore_n 1, 1) := dk_76 (dk_at dksX5_ask_1 20 rfl rfl)
theorem dX5_ask_43 : decode cX5_ask 43 = .ok (.aload_n 0, 1) := dk_42 (dk_at dksX5_ask_1 21 rfl rfl)
theorem dX5_ask_44 : decode cX5_ask 44 = .ok (.invokevirtual 183, 3) := dk_182 0 183 (dk_at dksX5_ask_2 0 rfl rfl)
theorem dX5_ask_47 : decode cX5_ask 47 = .ok (.ifCond .ne 9, 3) := dk_154 0 9 (dk_at dksX5_ask_2 3 rfl rfl)
theorem dX5_ask_50 : decode cX5_ask 50 = .ok (.aload_n 0, 1) := dk_42 (dk_at dksX5_ask_2 6 rfl rfl)
theorem dX5_ask_51 : decode cX5_ask 51 = .ok (.iconst 1, 1) := dk_4 (dk_at dksX5_ask_2 7 rfl rfl)
theorem dX5_ask_52 : decode cX5_ask 52 = .ok (.invokevirtual 88, 3) := dk_182 0 88 (dk_at dksX5_ask_2 8 rfl rfl)
theorem dX5_ask_55 : decode cX5_ask 55 = .ok (.athrow, 1) := dk_191 (dk_at dksX5_ask_2 11 rfl rfl)
theorem dX5_ask_56 : decode cX5_ask 56 = .ok (.aload_n 0, 1) := dk_42 (dk_at dksX5_ask_2 12 rfl rfl)
theorem dX5_ask_57 : decode cX5_ask 57 = .ok (.getfield 60, 3) := dk_180 0 60 (dk_at dksX5_ask_2 13 rfl rfl)
theorem dX5_ask_60 : decode cX5_ask 60 = .ok (.istore_n 2, 1) := dk_61 (dk_at dksX5_ask_2 16 rfl rfl)
theorem dX5_ask_61 : decode cX5_ask 61 = .ok (.aload_n 0, 1) := dk_42 (dk_at dksX5_ask_2 17 rfl rfl)
theorem dX5_ask_62 : decode cX5_ask 62 = .ok (.invokevirtual 92, 3) := dk_182 0 92 (dk_at dksX5_ask_2 18 rfl rfl)
theorem dX5_ask_65 : decode cX5_ask 65 = .ok (.new 186, 3) := dk_187 0 186 (dk_at dksX5_ask_2 21 rfl rfl)
theorem dX5_ask_68 : decode cX5_ask 68 = .ok (.dup, 1) := dk_89 (dk_at dksX5_ask_3 0 rfl rfl)
theorem dX5_ask_69 : decode cX5_ask 69 = .ok (.iload_n 2, 1) := dk_28 (dk_at dksX5_ask_3 1 rfl rfl)
theorem dX5_ask_70 : decode cX5_ask 70 = .ok (.aload_n 1, 1) := dk_43 (dk_at dksX5_ask_3 2 rfl rfl)
theorem dX5_ask_71 : decode cX5_ask 71 = .ok (.aload_n 0, 1) := dk_42 (dk_at dksX5_ask_3 3 rfl rfl)
theorem dX5_ask_72 : decode cX5_ask 72 = .ok (.invokevirtual 152, 3) := dk_182 0 152 (dk_at dksX5_ask_3 4 rfl rfl)
theorem dX5_ask_75 : decode cX5_ask 75 = .ok (.invokespecial 188, 3) := dk_183 0 188 (dk_at dksX5_ask_3 7 rfl rfl)
theorem dX5_ask_78 : decode cX5_ask 78 = .ok (.areturn, 1) := dk_176 (dk_at dksX5_ask_3 10 rfl rfl)
abbrev cX5_isCompare : ByteArray := prog_15_method_18_code
def yX5_isCompare : MethodName := ⟨RX5, "isCompare", "()Z"⟩
def dkwX5_isCompare_2 : List UInt8 := [180, 0, 60, 17, 1, 49, 160, 0, 7, 4, 167, 0, 4, 3, 172]
abbrev dktX5_isCompare_2 : List UInt8 := dkwX5_isCompare_2 ++ []
def dkwX5_isCompare_1 : List UInt8 := [159, 0, 32, 42, 180, 0, 60, 16, 35, 159, 0, 23, 42, 180, 0, 60, 17, 1, 48, 159, 0, 13, 42]
abbrev dktX5_isCompare_1 : List UInt8 := dkwX5_isCompare_1 ++ dktX5_isCompare_2
def dkwX5_isCompare_0 : List UInt8 := [42, 180, 0, 60, 16, 60, 159, 0, 50, 42, 180, 0, 60, 16, 62, 159, 0, 41, 42, 180, 0, 60, 16, 61]
abbrev dktX5_isCompare_0 : List UInt8 := dkwX5_isCompare_0 ++ dktX5_isCompare_1
theorem dksX5_isCompare_0 : cX5_isCompare.data.toList.drop 0 = dktX5_isCompare_0 := by decide +kernel
theorem dksX5_isCompare_1 : cX5_isCompare.data.toList.drop 24 = dktX5_isCompare_1 := dk_seg dksX5_isCompare_0 24 rfl rfl
theorem dksX5_isCompare_2 : cX5_isCompare.data.toList.drop 47 = dktX5_isCompare_2 := dk_seg dksX5_isCompare_1 23 rfl rfl
theorem dX5_isCompare_0 : decode cX5_isCompare 0 = .ok (.aload_n 0, 1) := dk_42 (dk_at dksX5_isCompare_0 0 rfl rfl)
theorem dX5_isCompare_1 : decode cX5_isCompare 1 = .ok (.getfield 60, 3) := dk_180 0 60 (dk_at dksX5_isCompare_0 1 rfl rfl)
theorem dX5_isCompare_4 : decode cX5_isCompare 4 = .ok (.bipush 60, 2) := dk_16 60 (dk_at dksX5_isCompare_0 4 rfl rfl)
theorem dX5_isCompare_6 : decode cX5_isCompare 6 = .ok (.if_icmp .eq 50, 3) := dk_159 0 50 (dk_at dksX5_isCompare_0 6 rfl rfl)
theorem dX5_isCompare_9 : decode cX5_isCompare 9 = .ok (.aload_n 0, 1) := dk_42 (dk_at dksX5_isCompare_0 9 rfl rfl)
theorem dX5_isCompare_10 : decode cX5_isCompare 10 = .ok (.getfield 60, 3) := dk_180 0 60 (dk_at dksX5_isCompare_0 10 rfl rfl)
theorem dX5_isCompare_13 : decode cX5_isCompare 13 = .ok (.bipush 62, 2) := dk_16 62 (dk_at dksX5_isCompare_0 13 rfl rfl)
theorem dX5_isCompare_15 : decode cX5_isCompare 15 = .ok (.if_icmp .eq 41, 3) := dk_159 0 41 (dk_at dksX5_isCompare_0 15 rfl rfl)
theorem dX5_isCompare_18 : decode cX5_isCompare 18 = .ok (.aload_n 0, 1) := dk_42 (dk_at dksX5_isCompare_0 18 rfl rfl)
theorem dX5_isCompare_19 : decode cX5_isCompare 19 = .ok (.getfield 60, 3) := dk_180 0 60 (dk_at dksX5_isCompare_0 19 rfl rfl)
theorem dX5_isCompare_22 : decode cX5_isCompare 22 = .ok (.bipush 61, 2) := dk_16 61 (dk_at dksX5_isCompare_0 22 rfl rfl)
theorem dX5_isCompare_24 : decode cX5_isCompare 24 = .ok (.if_icmp .eq 32, 3) := dk_159 0 32 (dk_at dksX5_isCompare_1 0 rfl rfl)
theorem dX5_isCompare_27 : decode cX5_isCompare 27 = .ok (.aload_n 0, 1) := dk_42 (dk_at dksX5_isCompare_1 3 rfl rfl)
theorem dX5_isCompare_28 : decode cX5_isCompare 28 = .ok (.getfield 60, 3) := dk_180 0 60 (dk_at dksX5_isCompare_1 4 rfl rfl)
theorem dX5_isCompare_31 : decode cX5_isCompare 31 = .ok (.bipush 35, 2) := dk_16 35 (dk_at dksX5_isCompare_1 7 rfl rfl)
theorem dX5_isCompare_33 : decode cX5_isCompare 33 = .ok (.if_icmp .eq 23, 3) := dk_159 0 23 (dk_at dksX5_isCompare_1 9 rfl rfl)
theorem dX5_isCompare_36 : decode cX5_isCompare 36 = .ok (.aload_n 0, 1) := dk_42 (dk_at dksX5_isCompare_1 12 rfl rfl)
theorem dX5_isCompare_37 : decode cX5_isCompare 37 = .ok (.getfield 60, 3) := dk_180 0 60 (dk_at dksX5_isCompare_1 13 rfl rfl)
theorem dX5_isCompare_40 : decode cX5_isCompare 40 = .ok (.sipush 304, 3) := dk_17 1 48 (dk_at dksX5_isCompare_1 16 rfl rfl)
theorem dX5_isCompare_43 : decode cX5_isCompare 43 = .ok (.if_icmp .eq 13, 3) := dk_159 0 13 (dk_at dksX5_isCompare_1 19 rfl rfl)
theorem dX5_isCompare_46 : decode cX5_isCompare 46 = .ok (.aload_n 0, 1) := dk_42 (dk_at dksX5_isCompare_1 22 rfl rfl)
theorem dX5_isCompare_47 : decode cX5_isCompare 47 = .ok (.getfield 60, 3) := dk_180 0 60 (dk_at dksX5_isCompare_2 0 rfl rfl)
theorem dX5_isCompare_50 : decode cX5_isCompare 50 = .ok (.sipush 305, 3) := dk_17 1 49 (dk_at dksX5_isCompare_2 3 rfl rfl)
theorem dX5_isCompare_53 : decode cX5_isCompare 53 = .ok (.if_icmp .ne 7, 3) := dk_160 0 7 (dk_at dksX5_isCompare_2 6 rfl rfl)
theorem dX5_isCompare_56 : decode cX5_isCompare 56 = .ok (.iconst 1, 1) := dk_4 (dk_at dksX5_isCompare_2 9 rfl rfl)
theorem dX5_isCompare_57 : decode cX5_isCompare 57 = .ok (.goto 4, 3) := dk_167 0 4 (dk_at dksX5_isCompare_2 10 rfl rfl)
theorem dX5_isCompare_60 : decode cX5_isCompare 60 = .ok (.iconst 0, 1) := dk_3 (dk_at dksX5_isCompare_2 13 rfl rfl)
theorem dX5_isCompare_61 : decode cX5_isCompare 61 = .ok (.ireturn, 1) := dk_172 (dk_at dksX5_isCompare_2 14 rfl rfl)
theorem q130 : (Jvm.Cond.initialized "HeldTongue$Reader") ∈ lw_all := lw_g (lw_at lw_m1 6 rfl) rfl
theorem q178 : (Jvm.Cond.fieldLinkNest "HeldTongue$Reader" (137 : Nat) "HeldTongue$Lexicon" "weigh" "LHeldTongue$Sum;" "HeldTongue") ∈ lw_tbl := lw_at lw_m1 54 rfl
theorem q180 : (Jvm.Cond.fieldLinkNest "HeldTongue$Reader" (164 : Nat) "HeldTongue$Lexicon" "clauses" "I" "HeldTongue") ∈ lw_tbl := lw_at lw_m1 56 rfl
theorem q360 : (Jvm.Cond.instantiable "HeldTongue$Reader" (10 : Nat)) ∈ lw_all := lw_g (lw_at lw_m1 236 rfl) rfl
theorem q362 : (Jvm.Cond.instanceMethod ({ cls := "HeldTongue$Reader", name := "<init>", desc := "([BI)V" } : Jvm.MethodName)) ∈ lw_all := lw_g (lw_at lw_m1 238 rfl) rfl
theorem q363 : (Jvm.Cond.code ({ cls := "HeldTongue$Reader", name := "<init>", desc := "([BI)V" } : Jvm.MethodName) prog_15_method_1_code (3 : Nat) (Option.none : Option Jvm.ClassFile.FieldType)) ∈ lw_all := lw_g (lw_at lw_m1 239 rfl) rfl
theorem q364 : (Jvm.Cond.methodLink "HeldTongue$Reader" (3 : Nat) ({ cls := "java/lang/Object", name := "<init>", desc := "()V" } : Jvm.MethodName)) ∈ lw_all := lw_g (lw_at lw_m2 0 rfl) rfl
theorem q365 : (Jvm.Cond.fieldLink "HeldTongue$Reader" (9 : Nat) "HeldTongue$Reader" "text" "[B") ∈ lw_all := lw_g (lw_at lw_m2 1 rfl) rfl
theorem q366 : (Jvm.Cond.fieldLink "HeldTongue$Reader" (15 : Nat) "HeldTongue$Reader" "end" "I") ∈ lw_all := lw_g (lw_at lw_m2 2 rfl) rfl
theorem q367 : (Jvm.Cond.fieldLink "HeldTongue$Reader" (19 : Nat) "HeldTongue$Reader" "at" "I") ∈ lw_all := lw_g (lw_at lw_m2 3 rfl) rfl
theorem q368 : (Jvm.Cond.fieldLink "HeldTongue$Reader" (35 : Nat) "HeldTongue$Reader" "place" "I") ∈ lw_all := lw_g (lw_at lw_m2 4 rfl) rfl
theorem q369 : (Jvm.Cond.fieldLink "HeldTongue$Reader" (60 : Nat) "HeldTongue$Reader" "kind" "I") ∈ lw_all := lw_g (lw_at lw_m2 5 rfl) rfl
theorem q370 : (Jvm.Cond.fieldLink "HeldTongue$Reader" (69 : Nat) "HeldTongue$Reader" "value" "I") ∈ lw_all := lw_g (lw_at lw_m2 6 rfl) rfl
theorem q371 : (Jvm.Cond.fieldLink "HeldTongue$Reader" (57 : Nat) "HeldTongue$Reader" "named" "I") ∈ lw_all := lw_g (lw_at lw_m2 7 rfl) rfl
theorem q372 : (Jvm.Cond.fieldLink "HeldTongue$Reader" (95 : Nat) "HeldTongue$Reader" "open" "I") ∈ lw_all := lw_g (lw_at lw_m2 8 rfl) rfl
theorem q373 : (Jvm.Cond.fieldLink "HeldTongue$Reader" (107 : Nat) "HeldTongue$Reader" "clauses" "I") ∈ lw_all := lw_g (lw_at lw_m2 9 rfl) rfl
theorem q374 : (Jvm.Cond.fieldLink "HeldTongue$Reader" (141 : Nat) "HeldTongue$Reader" "head" "I") ∈ lw_all := lw_g (lw_at lw_m2 10 rfl) rfl
theorem q375 : (Jvm.Cond.laysFinal "HeldTongue$Reader" "HeldTongue$Reader" "text" "[B") ∈ lw_all := lw_g (lw_at lw_m2 11 rfl) rfl
theorem q376 : (Jvm.Cond.soleField "HeldTongue$Reader" "text") ∈ lw_all := lw_g (lw_at lw_m2 12 rfl) rfl
theorem q377 : (Jvm.Cond.laysFinal "HeldTongue$Reader" "HeldTongue$Reader" "end" "I") ∈ lw_all := lw_g (lw_at lw_m2 13 rfl) rfl
theorem q378 : (Jvm.Cond.soleField "HeldTongue$Reader" "end") ∈ lw_all := lw_g (lw_at lw_m2 14 rfl) rfl
theorem q379 : (Jvm.Cond.lays "HeldTongue$Reader" "HeldTongue$Reader" "at" "I") ∈ lw_all := lw_g (lw_at lw_m2 15 rfl) rfl
theorem q380 : (Jvm.Cond.soleField "HeldTongue$Reader" "at") ∈ lw_all := lw_g (lw_at lw_m2 16 rfl) rfl
theorem q381 : (Jvm.Cond.lays "HeldTongue$Reader" "HeldTongue$Reader" "place" "I") ∈ lw_all := lw_g (lw_at lw_m2 17 rfl) rfl
theorem q382 : (Jvm.Cond.soleField "HeldTongue$Reader" "place") ∈ lw_all := lw_g (lw_at lw_m2 18 rfl) rfl
theorem q383 : (Jvm.Cond.lays "HeldTongue$Reader" "HeldTongue$Reader" "kind" "I") ∈ lw_all := lw_g (lw_at lw_m2 19 rfl) rfl
theorem q384 : (Jvm.Cond.soleField "HeldTongue$Reader" "kind") ∈ lw_all := lw_g (lw_at lw_m2 20 rfl) rfl
theorem q385 : (Jvm.Cond.lays "HeldTongue$Reader" "HeldTongue$Reader" "value" "I") ∈ lw_all := lw_g (lw_at lw_m2 21 rfl) rfl
theorem q386 : (Jvm.Cond.soleField "HeldTongue$Reader" "value") ∈ lw_all := lw_g (lw_at lw_m2 22 rfl) rfl
theorem q387 : (Jvm.Cond.lays "HeldTongue$Reader" "HeldTongue$Reader" "named" "I") ∈ lw_all := lw_g (lw_at lw_m2 23 rfl) rfl
theorem q388 : (Jvm.Cond.soleField "HeldTongue$Reader" "named") ∈ lw_all := lw_g (lw_at lw_m2 24 rfl) rfl
theorem q389 : (Jvm.Cond.lays "HeldTongue$Reader" "HeldTongue$Reader" "open" "I") ∈ lw_all := lw_g (lw_at lw_m2 25 rfl) rfl
theorem q390 : (Jvm.Cond.soleField "HeldTongue$Reader" "open") ∈ lw_all := lw_g (lw_at lw_m2 26 rfl) rfl
theorem q391 : (Jvm.Cond.lays "HeldTongue$Reader" "HeldTongue$Reader" "clauses" "I") ∈ lw_all := lw_g (lw_at lw_m2 27 rfl) rfl
theorem q392 : (Jvm.Cond.soleField "HeldTongue$Reader" "clauses") ∈ lw_all := lw_g (lw_at lw_m2 28 rfl) rfl
theorem q393 : (Jvm.Cond.lays "HeldTongue$Reader" "HeldTongue$Reader" "head" "I") ∈ lw_all := lw_g (lw_at lw_m2 29 rfl) rfl
theorem q394 : (Jvm.Cond.soleField "HeldTongue$Reader" "head") ∈ lw_all := lw_g (lw_at lw_m2 30 rfl) rfl
theorem q395 : (Jvm.Cond.superclass "HeldTongue$Reader" "java/lang/Object") ∈ lw_all := lw_g (lw_at lw_m2 31 rfl) rfl
theorem q397 : (Jvm.Cond.instanceMethod ({ cls := "HeldTongue$Reader", name := "read", desc := "()LHeldTongue$Lexicon;" } : Jvm.MethodName)) ∈ lw_all := lw_g (lw_at lw_m2 33 rfl) rfl
theorem q398 : (Jvm.Cond.selects "HeldTongue$Reader" ({ cls := "HeldTongue$Reader", name := "read", desc := "()LHeldTongue$Lexicon;" } : Jvm.MethodName) ({ cls := "HeldTongue$Reader", name := "read", desc := "()LHeldTongue$Lexicon;" } : Jvm.MethodName)) ∈ lw_all := lw_g (lw_at lw_m2 34 rfl) rfl
theorem q399 : (Jvm.Cond.code ({ cls := "HeldTongue$Reader", name := "read", desc := "()LHeldTongue$Lexicon;" } : Jvm.MethodName) prog_15_method_15_code (2 : Nat) (Option.some (Jvm.ClassFile.FieldType.object "HeldTongue$Lexicon"))) ∈ lw_all := lw_g (lw_at lw_m2 35 rfl) rfl
theorem q400 : (Jvm.Cond.classLink "HeldTongue$Reader" (134 : Nat) "HeldTongue$Lexicon") ∈ lw_all := lw_g (lw_at lw_m2 36 rfl) rfl
theorem q401 : (Jvm.Cond.methodLinkNest "HeldTongue$Reader" (136 : Nat) ({ cls := "HeldTongue$Lexicon", name := "<init>", desc := "()V" } : Jvm.MethodName) "HeldTongue") ∈ lw_tbl := lw_at lw_m2 37 rfl
theorem q402 : (Jvm.Cond.methodLink "HeldTongue$Reader" (92 : Nat) ({ cls := "HeldTongue$Reader", name := "next", desc := "()V" } : Jvm.MethodName)) ∈ lw_all := lw_g (lw_at lw_m2 38 rfl) rfl
theorem q403 : (Jvm.Cond.privateMethod ({ cls := "HeldTongue$Reader", name := "next", desc := "()V" } : Jvm.MethodName)) ∈ lw_tbl := lw_at lw_m2 39 rfl
theorem q404 : (Jvm.Cond.instanceMethod ({ cls := "HeldTongue$Reader", name := "next", desc := "()V" } : Jvm.MethodName)) ∈ lw_all := lw_g (lw_at lw_m2 40 rfl) rfl
theorem q405 : (Jvm.Cond.code ({ cls := "HeldTongue$Reader", name := "next", desc := "()V" } : Jvm.MethodName) prog_15_method_8_code (2 : Nat) (Option.none : Option Jvm.ClassFile.FieldType)) ∈ lw_all := lw_g (lw_at lw_m2 41 rfl) rfl
theorem q406 : (Jvm.Cond.methodLink "HeldTongue$Reader" (22 : Nat) ({ cls := "HeldTongue$Reader", name := "see", desc := "()I" } : Jvm.MethodName)) ∈ lw_all := lw_g (lw_at lw_m2 42 rfl) rfl
theorem q407 : (Jvm.Cond.privateMethod ({ cls := "HeldTongue$Reader", name := "see", desc := "()I" } : Jvm.MethodName)) ∈ lw_tbl := lw_at lw_m2 43 rfl
theorem q408 : (Jvm.Cond.instanceMethod ({ cls := "HeldTongue$Reader", name := "see", desc := "()I" } : Jvm.MethodName)) ∈ lw_all := lw_g (lw_at lw_m2 44 rfl) rfl
theorem q409 : (Jvm.Cond.code ({ cls := "HeldTongue$Reader", name := "see", desc := "()I" } : Jvm.MethodName) prog_15_method_2_code (1 : Nat) (Option.some Jvm.ClassFile.FieldType.int)) ∈ lw_all := lw_g (lw_at lw_m2 45 rfl) rfl
theorem q410 : (Jvm.Cond.methodLink "HeldTongue$Reader" (42 : Nat) ({ cls := "HeldTongue$Reader", name := "isLetter", desc := "()Z" } : Jvm.MethodName)) ∈ lw_all := lw_g (lw_at lw_m2 46 rfl) rfl
theorem q411 : (Jvm.Cond.privateMethod ({ cls := "HeldTongue$Reader", name := "isLetter", desc := "()Z" } : Jvm.MethodName)) ∈ lw_tbl := lw_at lw_m2 47 rfl
theorem q412 : (Jvm.Cond.instanceMethod ({ cls := "HeldTongue$Reader", name := "isLetter", desc := "()Z" } : Jvm.MethodName)) ∈ lw_all := lw_g (lw_at lw_m2 48 rfl) rfl
theorem q413 : (Jvm.Cond.code ({ cls := "HeldTongue$Reader", name := "isLetter", desc := "()Z" } : Jvm.MethodName) prog_15_method_3_code (1 : Nat) (Option.some Jvm.ClassFile.FieldType.boolean)) ∈ lw_all := lw_g (lw_at lw_m2 49 rfl) rfl
theorem q414 : (Jvm.Cond.methodLinkNest "HeldTongue$Reader" (26 : Nat) ({ cls := "HeldTongue", name := "in", desc := "(III)Z" } : Jvm.MethodName) "HeldTongue") ∈ lw_tbl := lw_at lw_m2 50 rfl
theorem q415 : (Jvm.Cond.methodLink "HeldTongue$Reader" (63 : Nat) ({ cls := "HeldTongue$Reader", name := "word", desc := "()V" } : Jvm.MethodName)) ∈ lw_all := lw_g (lw_at lw_m2 51 rfl) rfl
theorem q416 : (Jvm.Cond.privateMethod ({ cls := "HeldTongue$Reader", name := "word", desc := "()V" } : Jvm.MethodName)) ∈ lw_tbl := lw_at lw_m2 52 rfl
theorem q417 : (Jvm.Cond.instanceMethod ({ cls := "HeldTongue$Reader", name := "word", desc := "()V" } : Jvm.MethodName)) ∈ lw_all := lw_g (lw_at lw_m2 53 rfl) rfl
theorem q418 : (Jvm.Cond.code ({ cls := "HeldTongue$Reader", name := "word", desc := "()V" } : Jvm.MethodName) prog_15_method_7_code (2 : Nat) (Option.none : Option Jvm.ClassFile.FieldType)) ∈ lw_all := lw_g (lw_at lw_m2 54 rfl) rfl
theorem q419 : (Jvm.Cond.fieldLink "HeldTongue$Reader" (46 : Nat) "HeldTongue$Reader" "HEADS" "[Ljava/lang/String;") ∈ lw_all := lw_g (lw_at lw_m2 55 rfl) rfl
theorem q420 : (Jvm.Cond.laysStatic "HeldTongue$Reader" "HEADS" "[Ljava/lang/String;") ∈ lw_tbl := lw_at lw_m2 56 rfl
theorem q421 : (Jvm.Cond.methodLink "HeldTongue$Reader" (50 : Nat) ({ cls := "HeldTongue$Reader", name := "wordOf", desc := "([Ljava/lang/String;)I" } : Jvm.MethodName)) ∈ lw_all := lw_g (lw_at lw_m2 57 rfl) rfl
theorem q422 : (Jvm.Cond.privateMethod ({ cls := "HeldTongue$Reader", name := "wordOf", desc := "([Ljava/lang/String;)I" } : Jvm.MethodName)) ∈ lw_tbl := lw_at lw_m2 58 rfl
theorem q423 : (Jvm.Cond.instanceMethod ({ cls := "HeldTongue$Reader", name := "wordOf", desc := "([Ljava/lang/String;)I" } : Jvm.MethodName)) ∈ lw_all := lw_g (lw_at lw_m2 59 rfl) rfl
theorem q424 : (Jvm.Cond.code ({ cls := "HeldTongue$Reader", name := "wordOf", desc := "([Ljava/lang/String;)I" } : Jvm.MethodName) prog_15_method_6_code (5 : Nat) (Option.some Jvm.ClassFile.FieldType.int)) ∈ lw_all := lw_g (lw_at lw_m2 60 rfl) rfl
theorem q425 : (Jvm.Cond.methodLink "HeldTongue$Reader" (30 : Nat) ({ cls := "java/lang/String", name := "length", desc := "()I" } : Jvm.MethodName)) ∈ lw_all := lw_g (lw_at lw_m2 61 rfl) rfl
theorem q435 : (Jvm.Cond.methodLink "HeldTongue$Reader" (38 : Nat) ({ cls := "java/lang/String", name := "charAt", desc := "(I)C" } : Jvm.MethodName)) ∈ lw_all := lw_g (lw_at lw_m2 71 rfl) rfl
theorem q473 : (Jvm.Cond.fieldLink "HeldTongue$Reader" (54 : Nat) "HeldTongue$Reader" "CALLED" "[Ljava/lang/String;") ∈ lw_all := lw_g (lw_at lw_m2 109 rfl) rfl
theorem q474 : (Jvm.Cond.laysStatic "HeldTongue$Reader" "CALLED" "[Ljava/lang/String;") ∈ lw_tbl := lw_at lw_m2 110 rfl
theorem q475 : (Jvm.Cond.methodLink "HeldTongue$Reader" (66 : Nat) ({ cls := "HeldTongue$Reader", name := "isDigit", desc := "()Z" } : Jvm.MethodName)) ∈ lw_all := lw_g (lw_at lw_m2 111 rfl) rfl
theorem q476 : (Jvm.Cond.privateMethod ({ cls := "HeldTongue$Reader", name := "isDigit", desc := "()Z" } : Jvm.MethodName)) ∈ lw_tbl := lw_at lw_m2 112 rfl
theorem q477 : (Jvm.Cond.instanceMethod ({ cls := "HeldTongue$Reader", name := "isDigit", desc := "()Z" } : Jvm.MethodName)) ∈ lw_all := lw_g (lw_at lw_m2 113 rfl) rfl
theorem q478 : (Jvm.Cond.code ({ cls := "HeldTongue$Reader", name := "isDigit", desc := "()Z" } : Jvm.MethodName) prog_15_method_4_code (1 : Nat) (Option.some Jvm.ClassFile.FieldType.boolean)) ∈ lw_all := lw_g (lw_at lw_m2 114 rfl) rfl
theorem q479 : (Jvm.Cond.constant "HeldTongue$Reader" (72 : Nat) (100000 : Int32)) ∈ lw_all := lw_g (lw_at lw_m2 115 rfl) rfl
theorem q480 : (Jvm.Cond.methodLink "HeldTongue$Reader" (73 : Nat) ({ cls := "java/lang/Math", name := "min", desc := "(II)I" } : Jvm.MethodName)) ∈ lw_all := lw_g (lw_at lw_m2 116 rfl) rfl
theorem q483 : (Jvm.Cond.methodLink "HeldTongue$Reader" (79 : Nat) ({ cls := "HeldTongue$Reader", name := "isSign", desc := "(I)Z" } : Jvm.MethodName)) ∈ lw_all := lw_g (lw_at lw_m2 119 rfl) rfl
theorem q484 : (Jvm.Cond.static ({ cls := "HeldTongue$Reader", name := "isSign", desc := "(I)Z" } : Jvm.MethodName)) ∈ lw_all := lw_g (lw_at lw_m2 120 rfl) rfl
theorem q485 : (Jvm.Cond.code ({ cls := "HeldTongue$Reader", name := "isSign", desc := "(I)Z" } : Jvm.MethodName) prog_15_method_5_code (1 : Nat) (Option.some Jvm.ClassFile.FieldType.boolean)) ∈ lw_all := lw_g (lw_at lw_m2 121 rfl) rfl
theorem q486 : (Jvm.Cond.methodLink "HeldTongue$Reader" (88 : Nat) ({ cls := "HeldTongue$Reader", name := "wrong", desc := "(I)LHeldTongue$Wrong;" } : Jvm.MethodName)) ∈ lw_all := lw_g (lw_at lw_m2 122 rfl) rfl
theorem q487 : (Jvm.Cond.privateMethod ({ cls := "HeldTongue$Reader", name := "wrong", desc := "(I)LHeldTongue$Wrong;" } : Jvm.MethodName)) ∈ lw_tbl := lw_at lw_m2 123 rfl
theorem q488 : (Jvm.Cond.instanceMethod ({ cls := "HeldTongue$Reader", name := "wrong", desc := "(I)LHeldTongue$Wrong;" } : Jvm.MethodName)) ∈ lw_all := lw_g (lw_at lw_m2 124 rfl) rfl
theorem q489 : (Jvm.Cond.code ({ cls := "HeldTongue$Reader", name := "wrong", desc := "(I)LHeldTongue$Wrong;" } : Jvm.MethodName) prog_15_method_9_code (2 : Nat) (Option.some (Jvm.ClassFile.FieldType.object "HeldTongue$Wrong"))) ∈ lw_all := lw_g (lw_at lw_m2 125 rfl) rfl
theorem q490 : (Jvm.Cond.classLink "HeldTongue$Reader" (83 : Nat) "HeldTongue$Wrong") ∈ lw_all := lw_g (lw_at lw_m2 126 rfl) rfl
theorem q529 : (Jvm.Cond.methodLink "HeldTongue$Reader" (85 : Nat) ({ cls := "HeldTongue$Wrong", name := "<init>", desc := "(II)V" } : Jvm.MethodName)) ∈ lw_all := lw_g (lw_at lw_m2 165 rfl) rfl
theorem q562 : (Jvm.Cond.methodLink "HeldTongue$Reader" (144 : Nat) ({ cls := "HeldTongue$Reader", name := "sense", desc := "()LHeldTongue$Sense;" } : Jvm.MethodName)) ∈ lw_all := lw_g (lw_at lw_m2 198 rfl) rfl
theorem q563 : (Jvm.Cond.privateMethod ({ cls := "HeldTongue$Reader", name := "sense", desc := "()LHeldTongue$Sense;" } : Jvm.MethodName)) ∈ lw_tbl := lw_at lw_m2 199 rfl
theorem q564 : (Jvm.Cond.instanceMethod ({ cls := "HeldTongue$Reader", name := "sense", desc := "()LHeldTongue$Sense;" } : Jvm.MethodName)) ∈ lw_all := lw_g (lw_at lw_m2 200 rfl) rfl
theorem q565 : (Jvm.Cond.code ({ cls := "HeldTongue$Reader", name := "sense", desc := "()LHeldTongue$Sense;" } : Jvm.MethodName) prog_15_method_14_code (7 : Nat) (Option.some (Jvm.ClassFile.FieldType.object "HeldTongue$Sense"))) ∈ lw_all := lw_g (lw_at lw_m2 201 rfl) rfl
theorem q566 : (Jvm.Cond.methodLink "HeldTongue$Reader" (102 : Nat) ({ cls := "HeldTongue$Reader", name := "number", desc := "(II)I" } : Jvm.MethodName)) ∈ lw_all := lw_g (lw_at lw_m2 202 rfl) rfl
theorem q567 : (Jvm.Cond.privateMethod ({ cls := "HeldTongue$Reader", name := "number", desc := "(II)I" } : Jvm.MethodName)) ∈ lw_tbl := lw_at lw_m2 203 rfl
theorem q568 : (Jvm.Cond.instanceMethod ({ cls := "HeldTongue$Reader", name := "number", desc := "(II)I" } : Jvm.MethodName)) ∈ lw_all := lw_g (lw_at lw_m2 204 rfl) rfl
theorem q569 : (Jvm.Cond.code ({ cls := "HeldTongue$Reader", name := "number", desc := "(II)I" } : Jvm.MethodName) prog_15_method_12_code (4 : Nat) (Option.some Jvm.ClassFile.FieldType.int)) ∈ lw_all := lw_g (lw_at lw_m2 205 rfl) rfl
theorem q570 : (Jvm.Cond.methodLink "HeldTongue$Reader" (98 : Nat) ({ cls := "HeldTongue$Reader", name := "need", desc := "(I)V" } : Jvm.MethodName)) ∈ lw_all := lw_g (lw_at lw_m2 206 rfl) rfl
theorem q571 : (Jvm.Cond.privateMethod ({ cls := "HeldTongue$Reader", name := "need", desc := "(I)V" } : Jvm.MethodName)) ∈ lw_tbl := lw_at lw_m2 207 rfl
theorem q572 : (Jvm.Cond.instanceMethod ({ cls := "HeldTongue$Reader", name := "need", desc := "(I)V" } : Jvm.MethodName)) ∈ lw_all := lw_g (lw_at lw_m2 208 rfl) rfl
theorem q573 : (Jvm.Cond.code ({ cls := "HeldTongue$Reader", name := "need", desc := "(I)V" } : Jvm.MethodName) prog_15_method_10_code (2 : Nat) (Option.none : Option Jvm.ClassFile.FieldType)) ∈ lw_all := lw_g (lw_at lw_m2 209 rfl) rfl
theorem q574 : (Jvm.Cond.classLink "HeldTongue$Reader" (105 : Nat) "HeldTongue$Name") ∈ lw_all := lw_g (lw_at lw_m2 210 rfl) rfl
theorem q576 : (Jvm.Cond.methodLink "HeldTongue$Reader" (110 : Nat) ({ cls := "HeldTongue$Reader", name := "after", desc := "(II)I" } : Jvm.MethodName)) ∈ lw_all := lw_g (lw_at lw_m2 212 rfl) rfl
theorem q577 : (Jvm.Cond.privateMethod ({ cls := "HeldTongue$Reader", name := "after", desc := "(II)I" } : Jvm.MethodName)) ∈ lw_tbl := lw_at lw_m2 213 rfl
theorem q578 : (Jvm.Cond.instanceMethod ({ cls := "HeldTongue$Reader", name := "after", desc := "(II)I" } : Jvm.MethodName)) ∈ lw_all := lw_g (lw_at lw_m2 214 rfl) rfl
theorem q579 : (Jvm.Cond.code ({ cls := "HeldTongue$Reader", name := "after", desc := "(II)I" } : Jvm.MethodName) prog_15_method_13_code (3 : Nat) (Option.some Jvm.ClassFile.FieldType.int)) ∈ lw_all := lw_g (lw_at lw_m2 215 rfl) rfl
theorem q580 : (Jvm.Cond.methodLink "HeldTongue$Reader" (113 : Nat) ({ cls := "HeldTongue$Name", name := "<init>", desc := "(IIIII)V" } : Jvm.MethodName)) ∈ lw_all := lw_g (lw_at lw_m2 216 rfl) rfl
theorem q608 : (Jvm.Cond.classLink "HeldTongue$Reader" (116 : Nat) "HeldTongue$Pair") ∈ lw_all := lw_g (lw_at lw_m3 4 rfl) rfl
theorem q610 : (Jvm.Cond.methodLink "HeldTongue$Reader" (118 : Nat) ({ cls := "HeldTongue$Pair", name := "<init>", desc := "(IIIIIIZ)V" } : Jvm.MethodName)) ∈ lw_all := lw_g (lw_at lw_m3 6 rfl) rfl
theorem q628 : (Jvm.Cond.classLink "HeldTongue$Reader" (121 : Nat) "HeldTongue$Gather") ∈ lw_all := lw_g (lw_at lw_m3 24 rfl) rfl
theorem q630 : (Jvm.Cond.methodLink "HeldTongue$Reader" (123 : Nat) ({ cls := "HeldTongue$Gather", name := "<init>", desc := "(IIIII)V" } : Jvm.MethodName)) ∈ lw_all := lw_g (lw_at lw_m3 26 rfl) rfl
theorem q642 : (Jvm.Cond.classLink "HeldTongue$Reader" (124 : Nat) "HeldTongue$Cross") ∈ lw_all := lw_g (lw_at lw_m3 38 rfl) rfl
theorem q644 : (Jvm.Cond.methodLink "HeldTongue$Reader" (126 : Nat) ({ cls := "HeldTongue$Cross", name := "<init>", desc := "(IIIIII)V" } : Jvm.MethodName)) ∈ lw_all := lw_g (lw_at lw_m3 40 rfl) rfl
theorem q659 : (Jvm.Cond.classLink "HeldTongue$Reader" (129 : Nat) "HeldTongue$Change") ∈ lw_all := lw_g (lw_at lw_m3 55 rfl) rfl
theorem q661 : (Jvm.Cond.methodLink "HeldTongue$Reader" (131 : Nat) ({ cls := "HeldTongue$Change", name := "<init>", desc := "(IIII)V" } : Jvm.MethodName)) ∈ lw_all := lw_g (lw_at lw_m3 57 rfl) rfl
theorem q673 : (Jvm.Cond.methodLink "HeldTongue$Reader" (148 : Nat) ({ cls := "HeldTongue$Lexicon", name := "add", desc := "(LHeldTongue$Sense;)V" } : Jvm.MethodName)) ∈ lw_all := lw_g (lw_at lw_m3 69 rfl) rfl
theorem q680 : (Jvm.Cond.methodLink "HeldTongue$Reader" (152 : Nat) ({ cls := "HeldTongue$Reader", name := "sum", desc := "()LHeldTongue$Sum;" } : Jvm.MethodName)) ∈ lw_all := lw_g (lw_at lw_m3 76 rfl) rfl
theorem q681 : (Jvm.Cond.privateMethod ({ cls := "HeldTongue$Reader", name := "sum", desc := "()LHeldTongue$Sum;" } : Jvm.MethodName)) ∈ lw_tbl := lw_at lw_m3 77 rfl
theorem q682 : (Jvm.Cond.instanceMethod ({ cls := "HeldTongue$Reader", name := "sum", desc := "()LHeldTongue$Sum;" } : Jvm.MethodName)) ∈ lw_all := lw_g (lw_at lw_m3 78 rfl) rfl
theorem q683 : (Jvm.Cond.code ({ cls := "HeldTongue$Reader", name := "sum", desc := "()LHeldTongue$Sum;" } : Jvm.MethodName) prog_15_method_20_code (3 : Nat) (Option.some (Jvm.ClassFile.FieldType.object "HeldTongue$Sum"))) ∈ lw_all := lw_g (lw_at lw_m3 79 rfl) rfl
theorem q684 : (Jvm.Cond.methodLink "HeldTongue$Reader" (191 : Nat) ({ cls := "HeldTongue$Reader", name := "product", desc := "()LHeldTongue$Sum;" } : Jvm.MethodName)) ∈ lw_all := lw_g (lw_at lw_m3 80 rfl) rfl
theorem q685 : (Jvm.Cond.privateMethod ({ cls := "HeldTongue$Reader", name := "product", desc := "()LHeldTongue$Sum;" } : Jvm.MethodName)) ∈ lw_tbl := lw_at lw_m3 81 rfl
theorem q686 : (Jvm.Cond.instanceMethod ({ cls := "HeldTongue$Reader", name := "product", desc := "()LHeldTongue$Sum;" } : Jvm.MethodName)) ∈ lw_all := lw_g (lw_at lw_m3 82 rfl) rfl
theorem q687 : (Jvm.Cond.code ({ cls := "HeldTongue$Reader", name := "product", desc := "()LHeldTongue$Sum;" } : Jvm.MethodName) prog_15_method_21_code (3 : Nat) (Option.some (Jvm.ClassFile.FieldType.object "HeldTongue$Sum"))) ∈ lw_all := lw_g (lw_at lw_m3 83 rfl) rfl
theorem q688 : (Jvm.Cond.methodLink "HeldTongue$Reader" (197 : Nat) ({ cls := "HeldTongue$Reader", name := "one", desc := "()LHeldTongue$Sum;" } : Jvm.MethodName)) ∈ lw_all := lw_g (lw_at lw_m3 84 rfl) rfl
theorem q689 : (Jvm.Cond.privateMethod ({ cls := "HeldTongue$Reader", name := "one", desc := "()LHeldTongue$Sum;" } : Jvm.MethodName)) ∈ lw_tbl := lw_at lw_m3 85 rfl
theorem q690 : (Jvm.Cond.instanceMethod ({ cls := "HeldTongue$Reader", name := "one", desc := "()LHeldTongue$Sum;" } : Jvm.MethodName)) ∈ lw_all := lw_g (lw_at lw_m3 86 rfl) rfl
theorem q691 : (Jvm.Cond.code ({ cls := "HeldTongue$Reader", name := "one", desc := "()LHeldTongue$Sum;" } : Jvm.MethodName) prog_15_method_22_code (2 : Nat) (Option.some (Jvm.ClassFile.FieldType.object "HeldTongue$Sum"))) ∈ lw_all := lw_g (lw_at lw_m3 87 rfl) rfl
theorem q692 : (Jvm.Cond.classLink "HeldTongue$Reader" (200 : Nat) "HeldTongue$Word") ∈ lw_all := lw_g (lw_at lw_m3 88 rfl) rfl
theorem q694 : (Jvm.Cond.methodLink "HeldTongue$Reader" (202 : Nat) ({ cls := "HeldTongue$Word", name := "<init>", desc := "(I)V" } : Jvm.MethodName)) ∈ lw_all := lw_g (lw_at lw_m3 90 rfl) rfl
theorem q702 : (Jvm.Cond.classLink "HeldTongue$Reader" (204 : Nat) "HeldTongue$Constant") ∈ lw_all := lw_g (lw_at lw_m3 98 rfl) rfl
theorem q704 : (Jvm.Cond.methodLink "HeldTongue$Reader" (206 : Nat) ({ cls := "HeldTongue$Constant", name := "<init>", desc := "(I)V" } : Jvm.MethodName)) ∈ lw_all := lw_g (lw_at lw_m3 100 rfl) rfl
theorem q712 : (Jvm.Cond.methodLink "HeldTongue$Reader" (176 : Nat) ({ cls := "HeldTongue$Reader", name := "opens", desc := "()V" } : Jvm.MethodName)) ∈ lw_all := lw_g (lw_at lw_m3 108 rfl) rfl
theorem q713 : (Jvm.Cond.privateMethod ({ cls := "HeldTongue$Reader", name := "opens", desc := "()V" } : Jvm.MethodName)) ∈ lw_tbl := lw_at lw_m3 109 rfl
theorem q714 : (Jvm.Cond.instanceMethod ({ cls := "HeldTongue$Reader", name := "opens", desc := "()V" } : Jvm.MethodName)) ∈ lw_all := lw_g (lw_at lw_m3 110 rfl) rfl
theorem q715 : (Jvm.Cond.code ({ cls := "HeldTongue$Reader", name := "opens", desc := "()V" } : Jvm.MethodName) prog_15_method_11_code (1 : Nat) (Option.none : Option Jvm.ClassFile.FieldType)) ∈ lw_all := lw_g (lw_at lw_m3 111 rfl) rfl
theorem q716 : (Jvm.Cond.classLink "HeldTongue$Reader" (207 : Nat) "HeldTongue$Minus") ∈ lw_all := lw_g (lw_at lw_m3 112 rfl) rfl
theorem q718 : (Jvm.Cond.methodLink "HeldTongue$Reader" (209 : Nat) ({ cls := "HeldTongue$Minus", name := "<init>", desc := "(LHeldTongue$Sum;)V" } : Jvm.MethodName)) ∈ lw_all := lw_g (lw_at lw_m3 114 rfl) rfl
theorem q726 : (Jvm.Cond.classLink "HeldTongue$Reader" (194 : Nat) "HeldTongue$Two") ∈ lw_all := lw_g (lw_at lw_m3 122 rfl) rfl
theorem q728 : (Jvm.Cond.methodLink "HeldTongue$Reader" (196 : Nat) ({ cls := "HeldTongue$Two", name := "<init>", desc := "(ILHeldTongue$Sum;LHeldTongue$Sum;)V" } : Jvm.MethodName)) ∈ lw_all := lw_g (lw_at lw_m3 124 rfl) rfl
theorem q742 : (Jvm.Cond.methodLink "HeldTongue$Reader" (156 : Nat) ({ cls := "HeldTongue$Reader", name := "either", desc := "()LHeldTongue$Ask;" } : Jvm.MethodName)) ∈ lw_all := lw_g (lw_at lw_m3 138 rfl) rfl
theorem q743 : (Jvm.Cond.privateMethod ({ cls := "HeldTongue$Reader", name := "either", desc := "()LHeldTongue$Ask;" } : Jvm.MethodName)) ∈ lw_tbl := lw_at lw_m3 139 rfl
theorem q744 : (Jvm.Cond.instanceMethod ({ cls := "HeldTongue$Reader", name := "either", desc := "()LHeldTongue$Ask;" } : Jvm.MethodName)) ∈ lw_all := lw_g (lw_at lw_m3 140 rfl) rfl
theorem q745 : (Jvm.Cond.code ({ cls := "HeldTongue$Reader", name := "either", desc := "()LHeldTongue$Ask;" } : Jvm.MethodName) prog_15_method_16_code (2 : Nat) (Option.some (Jvm.ClassFile.FieldType.object "HeldTongue$Ask"))) ∈ lw_all := lw_g (lw_at lw_m3 141 rfl) rfl
theorem q746 : (Jvm.Cond.methodLink "HeldTongue$Reader" (165 : Nat) ({ cls := "HeldTongue$Reader", name := "both", desc := "()LHeldTongue$Ask;" } : Jvm.MethodName)) ∈ lw_all := lw_g (lw_at lw_m3 142 rfl) rfl
theorem q747 : (Jvm.Cond.privateMethod ({ cls := "HeldTongue$Reader", name := "both", desc := "()LHeldTongue$Ask;" } : Jvm.MethodName)) ∈ lw_tbl := lw_at lw_m3 143 rfl
theorem q748 : (Jvm.Cond.instanceMethod ({ cls := "HeldTongue$Reader", name := "both", desc := "()LHeldTongue$Ask;" } : Jvm.MethodName)) ∈ lw_all := lw_g (lw_at lw_m3 144 rfl) rfl
theorem q749 : (Jvm.Cond.code ({ cls := "HeldTongue$Reader", name := "both", desc := "()LHeldTongue$Ask;" } : Jvm.MethodName) prog_15_method_17_code (2 : Nat) (Option.some (Jvm.ClassFile.FieldType.object "HeldTongue$Ask"))) ∈ lw_all := lw_g (lw_at lw_m3 145 rfl) rfl
theorem q750 : (Jvm.Cond.methodLink "HeldTongue$Reader" (173 : Nat) ({ cls := "HeldTongue$Reader", name := "ask", desc := "()LHeldTongue$Ask;" } : Jvm.MethodName)) ∈ lw_all := lw_g (lw_at lw_m3 146 rfl) rfl
theorem q751 : (Jvm.Cond.privateMethod ({ cls := "HeldTongue$Reader", name := "ask", desc := "()LHeldTongue$Ask;" } : Jvm.MethodName)) ∈ lw_tbl := lw_at lw_m3 147 rfl
theorem q752 : (Jvm.Cond.instanceMethod ({ cls := "HeldTongue$Reader", name := "ask", desc := "()LHeldTongue$Ask;" } : Jvm.MethodName)) ∈ lw_all := lw_g (lw_at lw_m3 148 rfl) rfl
theorem q753 : (Jvm.Cond.code ({ cls := "HeldTongue$Reader", name := "ask", desc := "()LHeldTongue$Ask;" } : Jvm.MethodName) prog_15_method_19_code (3 : Nat) (Option.some (Jvm.ClassFile.FieldType.object "HeldTongue$Ask"))) ∈ lw_all := lw_g (lw_at lw_m3 149 rfl) rfl
theorem q754 : (Jvm.Cond.classLink "HeldTongue$Reader" (179 : Nat) "HeldTongue$Not") ∈ lw_all := lw_g (lw_at lw_m3 150 rfl) rfl
theorem q756 : (Jvm.Cond.methodLink "HeldTongue$Reader" (181 : Nat) ({ cls := "HeldTongue$Not", name := "<init>", desc := "(LHeldTongue$Ask;)V" } : Jvm.MethodName)) ∈ lw_all := lw_g (lw_at lw_m3 152 rfl) rfl
theorem q764 : (Jvm.Cond.methodLink "HeldTongue$Reader" (183 : Nat) ({ cls := "HeldTongue$Reader", name := "isCompare", desc := "()Z" } : Jvm.MethodName)) ∈ lw_all := lw_g (lw_at lw_m3 160 rfl) rfl
theorem q765 : (Jvm.Cond.privateMethod ({ cls := "HeldTongue$Reader", name := "isCompare", desc := "()Z" } : Jvm.MethodName)) ∈ lw_tbl := lw_at lw_m3 161 rfl
theorem q766 : (Jvm.Cond.instanceMethod ({ cls := "HeldTongue$Reader", name := "isCompare", desc := "()Z" } : Jvm.MethodName)) ∈ lw_all := lw_g (lw_at lw_m3 162 rfl) rfl
theorem q767 : (Jvm.Cond.code ({ cls := "HeldTongue$Reader", name := "isCompare", desc := "()Z" } : Jvm.MethodName) prog_15_method_18_code (1 : Nat) (Option.some Jvm.ClassFile.FieldType.boolean)) ∈ lw_all := lw_g (lw_at lw_m3 163 rfl) rfl
theorem q768 : (Jvm.Cond.classLink "HeldTongue$Reader" (186 : Nat) "HeldTongue$Compare") ∈ lw_all := lw_g (lw_at lw_m3 164 rfl) rfl
theorem q770 : (Jvm.Cond.methodLink "HeldTongue$Reader" (188 : Nat) ({ cls := "HeldTongue$Compare", name := "<init>", desc := "(ILHeldTongue$Sum;LHeldTongue$Sum;)V" } : Jvm.MethodName)) ∈ lw_all := lw_g (lw_at lw_m3 166 rfl) rfl
theorem q784 : (Jvm.Cond.classLink "HeldTongue$Reader" (168 : Nat) "HeldTongue$Both") ∈ lw_all := lw_g (lw_at lw_m3 180 rfl) rfl
theorem q786 : (Jvm.Cond.methodLink "HeldTongue$Reader" (170 : Nat) ({ cls := "HeldTongue$Both", name := "<init>", desc := "(ZLHeldTongue$Ask;LHeldTongue$Ask;)V" } : Jvm.MethodName)) ∈ lw_all := lw_g (lw_at lw_m3 182 rfl) rfl
theorem q800 : (Jvm.Cond.methodLink "HeldTongue$Reader" (160 : Nat) ({ cls := "HeldTongue$Lexicon", name := "drop", desc := "(LHeldTongue$Ask;)V" } : Jvm.MethodName)) ∈ lw_all := lw_g (lw_at lw_m3 196 rfl) rfl
theorem q1955 : (Jvm.Cond.stringRef "HeldTongue$Reader" (212 : Nat) "word") ∈ lw_tbl := lw_at lw_m8 151 rfl
theorem q1956 : (Jvm.Cond.stringRef "HeldTongue$Reader" (213 : Nat) "weigh") ∈ lw_tbl := lw_at lw_m8 152 rfl
theorem q1957 : (Jvm.Cond.stringRef "HeldTongue$Reader" (214 : Nat) "drop") ∈ lw_tbl := lw_at lw_m8 153 rfl
theorem q1958 : (Jvm.Cond.stringRef "HeldTongue$Reader" (215 : Nat) "or") ∈ lw_tbl := lw_at lw_m8 154 rfl
theorem q1959 : (Jvm.Cond.stringRef "HeldTongue$Reader" (217 : Nat) "and") ∈ lw_tbl := lw_at lw_m8 155 rfl
theorem q1960 : (Jvm.Cond.stringRef "HeldTongue$Reader" (219 : Nat) "not") ∈ lw_tbl := lw_at lw_m8 156 rfl
theorem q1961 : (Jvm.Cond.stringRef "HeldTongue$Reader" (221 : Nat) "name") ∈ lw_tbl := lw_at lw_m8 157 rfl
theorem q1962 : (Jvm.Cond.stringRef "HeldTongue$Reader" (223 : Nat) "join") ∈ lw_tbl := lw_at lw_m8 158 rfl
theorem q1963 : (Jvm.Cond.stringRef "HeldTongue$Reader" (225 : Nat) "turn") ∈ lw_tbl := lw_at lw_m8 159 rfl
theorem q1964 : (Jvm.Cond.stringRef "HeldTongue$Reader" (227 : Nat) "gather") ∈ lw_tbl := lw_at lw_m8 160 rfl
theorem q1965 : (Jvm.Cond.stringRef "HeldTongue$Reader" (229 : Nat) "cross") ∈ lw_tbl := lw_at lw_m8 161 rfl
theorem q1966 : (Jvm.Cond.stringRef "HeldTongue$Reader" (231 : Nat) "as") ∈ lw_tbl := lw_at lw_m8 162 rfl
theorem q1967 : (Jvm.Cond.stringRef "HeldTongue$Reader" (233 : Nat) "makes") ∈ lw_tbl := lw_at lw_m8 163 rfl
theorem q1969 : (Jvm.Cond.stringRef "HeldTongue$Reader" (235 : Nat) "sum") ∈ lw_tbl := lw_at lw_m8 165 rfl
theorem q1970 : (Jvm.Cond.stringRef "HeldTongue$Reader" (236 : Nat) "least") ∈ lw_tbl := lw_at lw_m8 166 rfl
theorem q1971 : (Jvm.Cond.stringRef "HeldTongue$Reader" (238 : Nat) "many") ∈ lw_tbl := lw_at lw_m8 167 rfl
theorem q1972 : (Jvm.Cond.stringRef "HeldTongue$Reader" (240 : Nat) "kind") ∈ lw_tbl := lw_at lw_m8 168 rfl
theorem q1973 : (Jvm.Cond.stringRef "HeldTongue$Reader" (241 : Nat) "weight") ∈ lw_tbl := lw_at lw_m8 169 rfl
theorem q1974 : (Jvm.Cond.stringRef "HeldTongue$Reader" (243 : Nat) "age") ∈ lw_tbl := lw_at lw_m8 170 rfl
theorem q1975 : (Jvm.Cond.stringRef "HeldTongue$Reader" (245 : Nat) "place") ∈ lw_tbl := lw_at lw_m8 171 rfl
theorem in_X5 : ∀ w ∈ wsX50, w ∈ lw_all := lw_in wsX50 [375, 377, 379, 381, 383, 385, 387, 389, 391, 393] (by decide +kernel) (by decide +kernel)

/-! HeldTongue$Wrong -/
set_option maxRecDepth 100000
def RX6 : String := "HeldTongue$Wrong"
def TX6 : u_T := fun k => match k with
  | 0 => ("java/lang/Throwable", "cause", "Ljava/lang/Throwable;", false)
  | 1 => ("java/lang/Throwable", "stackTrace", "[Ljava/lang/StackTraceElement;", false)
  | 2 => ("java/lang/Throwable", "suppressedExceptions", "Ljava/util/List;", false)
  | 3 => ("java/lang/Throwable", "detailMessage", "Ljava/lang/String;", false)
  | 4 => ("java/lang/Throwable", "backtrace", "Ljava/lang/Object;", false)
  | 5 => ("java/lang/Throwable", "depth", "I", false)
  | 6 => ("HeldTongue$Wrong", "code", "I", true)
  | _ => ("HeldTongue$Wrong", "place", "I", true)
def tyX6 : Nat → FieldType := fun k => match k with
  | 0 => .object "java/lang/Throwable"
  | 1 => .array (.object "java/lang/StackTraceElement")
  | 2 => .object "java/util/List"
  | 3 => .object "java/lang/String"
  | 4 => .object "java/lang/Object"
  | 5 => .int
  | 6 => .int
  | _ => .int
abbrev wsX60 : List Cond := u_ws RX6 TX6 8
theorem nmX6 : ∀ a, a < 8 → ∀ b, b < 8 → a ≠ b → (TX6 a).2.1 ≠ (TX6 b).2.1 := by decide +kernel
theorem tyX6_ok : ∀ k, k < 8 → parseFieldDescriptor (TX6 k).2.2.1 = some (tyX6 k) := by decide +kernel
abbrev cX6_init : ByteArray := prog_21_method_1_code
def yX6_init : MethodName := ⟨RX6, "<init>", "(II)V"⟩
def dkwX6_init_0 : List UInt8 := [42, 1, 1, 3, 3, 183, 0, 1, 42, 27, 181, 0, 7, 42, 28, 181, 0, 13, 177]
abbrev dktX6_init_0 : List UInt8 := dkwX6_init_0 ++ []
theorem dksX6_init_0 : cX6_init.data.toList.drop 0 = dktX6_init_0 := by decide +kernel
theorem dX6_init_0 : decode cX6_init 0 = .ok (.aload_n 0, 1) := dk_42 (dk_at dksX6_init_0 0 rfl rfl)
theorem dX6_init_1 : decode cX6_init 1 = .ok (.aconst_null, 1) := dk_1 (dk_at dksX6_init_0 1 rfl rfl)
theorem dX6_init_2 : decode cX6_init 2 = .ok (.aconst_null, 1) := dk_1 (dk_at dksX6_init_0 2 rfl rfl)
theorem dX6_init_3 : decode cX6_init 3 = .ok (.iconst 0, 1) := dk_3 (dk_at dksX6_init_0 3 rfl rfl)
theorem dX6_init_4 : decode cX6_init 4 = .ok (.iconst 0, 1) := dk_3 (dk_at dksX6_init_0 4 rfl rfl)
theorem dX6_init_5 : decode cX6_init 5 = .ok (.invokespecial 1, 3) := dk_183 0 1 (dk_at dksX6_init_0 5 rfl rfl)
theorem dX6_init_8 : decode cX6_init 8 = .ok (.aload_n 0, 1) := dk_42 (dk_at dksX6_init_0 8 rfl rfl)
theorem dX6_init_9 : decode cX6_init 9 = .ok (.iload_n 1, 1) := dk_27 (dk_at dksX6_init_0 9 rfl rfl)
theorem dX6_init_10 : decode cX6_init 10 = .ok (.putfield 7, 3) := dk_181 0 7 (dk_at dksX6_init_0 10 rfl rfl)
theorem dX6_init_13 : decode cX6_init 13 = .ok (.aload_n 0, 1) := dk_42 (dk_at dksX6_init_0 13 rfl rfl)
theorem dX6_init_14 : decode cX6_init 14 = .ok (.iload_n 2, 1) := dk_28 (dk_at dksX6_init_0 14 rfl rfl)
theorem dX6_init_15 : decode cX6_init 15 = .ok (.putfield 13, 3) := dk_181 0 13 (dk_at dksX6_init_0 15 rfl rfl)
theorem dX6_init_18 : decode cX6_init 18 = .ok (.return_, 1) := dk_177 (dk_at dksX6_init_0 18 rfl rfl)
theorem q139 : (Jvm.Cond.initialized "HeldTongue$Wrong") ∈ lw_all := lw_g (lw_at lw_m1 15 rfl) rfl
theorem q491 : (Jvm.Cond.instantiable "HeldTongue$Wrong" (8 : Nat)) ∈ lw_all := lw_g (lw_at lw_m2 127 rfl) rfl
theorem q492 : (Jvm.Cond.castable "HeldTongue$Wrong" "HeldTongue$Wrong") ∈ lw_tbl := lw_at lw_m2 128 rfl
theorem q499 : (Jvm.Cond.selects "HeldTongue$Wrong" ({ cls := "java/lang/Throwable", name := "fillInStackTrace", desc := "(I)Ljava/lang/Throwable;" } : Jvm.MethodName) ({ cls := "java/lang/Throwable", name := "fillInStackTrace", desc := "(I)Ljava/lang/Throwable;" } : Jvm.MethodName)) ∈ lw_all := lw_g (lw_at lw_m2 135 rfl) rfl
theorem q500 : (Jvm.Cond.selects "HeldTongue$Wrong" ({ cls := "java/lang/Throwable", name := "fillInStackTrace", desc := "()Ljava/lang/Throwable;" } : Jvm.MethodName) ({ cls := "java/lang/Throwable", name := "fillInStackTrace", desc := "()Ljava/lang/Throwable;" } : Jvm.MethodName)) ∈ lw_all := lw_g (lw_at lw_m2 136 rfl) rfl
theorem q501 : (Jvm.Cond.lays "HeldTongue$Wrong" "java/lang/Throwable" "cause" "Ljava/lang/Throwable;") ∈ lw_all := lw_g (lw_at lw_m2 137 rfl) rfl
theorem q503 : (Jvm.Cond.lays "HeldTongue$Wrong" "java/lang/Throwable" "stackTrace" "[Ljava/lang/StackTraceElement;") ∈ lw_all := lw_g (lw_at lw_m2 139 rfl) rfl
theorem q505 : (Jvm.Cond.lays "HeldTongue$Wrong" "java/lang/Throwable" "suppressedExceptions" "Ljava/util/List;") ∈ lw_all := lw_g (lw_at lw_m2 141 rfl) rfl
theorem q507 : (Jvm.Cond.lays "HeldTongue$Wrong" "java/lang/Throwable" "detailMessage" "Ljava/lang/String;") ∈ lw_all := lw_g (lw_at lw_m2 143 rfl) rfl
theorem q509 : (Jvm.Cond.lays "HeldTongue$Wrong" "java/lang/Throwable" "backtrace" "Ljava/lang/Object;") ∈ lw_all := lw_g (lw_at lw_m2 145 rfl) rfl
theorem q530 : (Jvm.Cond.instanceMethod ({ cls := "HeldTongue$Wrong", name := "<init>", desc := "(II)V" } : Jvm.MethodName)) ∈ lw_all := lw_g (lw_at lw_m2 166 rfl) rfl
theorem q531 : (Jvm.Cond.code ({ cls := "HeldTongue$Wrong", name := "<init>", desc := "(II)V" } : Jvm.MethodName) prog_21_method_1_code (3 : Nat) (Option.none : Option Jvm.ClassFile.FieldType)) ∈ lw_all := lw_g (lw_at lw_m2 167 rfl) rfl
theorem q532 : (Jvm.Cond.methodLink "HeldTongue$Wrong" (1 : Nat) ({ cls := "java/lang/RuntimeException", name := "<init>", desc := "(Ljava/lang/String;Ljava/lang/Throwable;ZZ)V" } : Jvm.MethodName)) ∈ lw_all := lw_g (lw_at lw_m2 168 rfl) rfl
theorem q541 : (Jvm.Cond.fieldLink "HeldTongue$Wrong" (7 : Nat) "HeldTongue$Wrong" "code" "I") ∈ lw_all := lw_g (lw_at lw_m2 177 rfl) rfl
theorem q543 : (Jvm.Cond.fieldLink "HeldTongue$Wrong" (13 : Nat) "HeldTongue$Wrong" "place" "I") ∈ lw_all := lw_g (lw_at lw_m2 179 rfl) rfl
theorem q550 : (Jvm.Cond.laysFinal "HeldTongue$Wrong" "HeldTongue$Wrong" "code" "I") ∈ lw_all := lw_g (lw_at lw_m2 186 rfl) rfl
theorem q551 : (Jvm.Cond.soleField "HeldTongue$Wrong" "code") ∈ lw_all := lw_g (lw_at lw_m2 187 rfl) rfl
theorem q552 : (Jvm.Cond.laysFinal "HeldTongue$Wrong" "HeldTongue$Wrong" "place" "I") ∈ lw_all := lw_g (lw_at lw_m2 188 rfl) rfl
theorem q553 : (Jvm.Cond.soleField "HeldTongue$Wrong" "place") ∈ lw_all := lw_g (lw_at lw_m2 189 rfl) rfl
theorem q558 : (Jvm.Cond.lays "HeldTongue$Wrong" "java/lang/Throwable" "depth" "I") ∈ lw_all := lw_g (lw_at lw_m2 194 rfl) rfl
theorem q561 : (Jvm.Cond.superclass "HeldTongue$Wrong" "java/lang/RuntimeException") ∈ lw_all := lw_g (lw_at lw_m2 197 rfl) rfl
theorem in_X6 : ∀ w ∈ wsX60, w ∈ lw_all := lw_in wsX60 [501, 503, 505, 507, 509, 558, 550, 552] (by decide +kernel) (by decide +kernel)

/-! HeldTongue$Sense -/
set_option maxRecDepth 100000
def RX7 : String := "HeldTongue$Sense"
abbrev cX7_init : ByteArray := prog_16_method_1_code
def yX7_init : MethodName := ⟨RX7, "<init>", "(IIII)V"⟩
def dkwX7_init_1 : List UInt8 := [181, 0, 19, 177]
abbrev dktX7_init_1 : List UInt8 := dkwX7_init_1 ++ []
def dkwX7_init_0 : List UInt8 := [42, 183, 0, 1, 42, 27, 181, 0, 7, 42, 28, 181, 0, 13, 42, 29, 181, 0, 16, 42, 21, 4]
abbrev dktX7_init_0 : List UInt8 := dkwX7_init_0 ++ dktX7_init_1
theorem dksX7_init_0 : cX7_init.data.toList.drop 0 = dktX7_init_0 := by decide +kernel
theorem dksX7_init_1 : cX7_init.data.toList.drop 22 = dktX7_init_1 := dk_seg dksX7_init_0 22 rfl rfl
theorem dX7_init_0 : decode cX7_init 0 = .ok (.aload_n 0, 1) := dk_42 (dk_at dksX7_init_0 0 rfl rfl)
theorem dX7_init_1 : decode cX7_init 1 = .ok (.invokespecial 1, 3) := dk_183 0 1 (dk_at dksX7_init_0 1 rfl rfl)
theorem dX7_init_4 : decode cX7_init 4 = .ok (.aload_n 0, 1) := dk_42 (dk_at dksX7_init_0 4 rfl rfl)
theorem dX7_init_5 : decode cX7_init 5 = .ok (.iload_n 1, 1) := dk_27 (dk_at dksX7_init_0 5 rfl rfl)
theorem dX7_init_6 : decode cX7_init 6 = .ok (.putfield 7, 3) := dk_181 0 7 (dk_at dksX7_init_0 6 rfl rfl)
theorem dX7_init_9 : decode cX7_init 9 = .ok (.aload_n 0, 1) := dk_42 (dk_at dksX7_init_0 9 rfl rfl)
theorem dX7_init_10 : decode cX7_init 10 = .ok (.iload_n 2, 1) := dk_28 (dk_at dksX7_init_0 10 rfl rfl)
theorem dX7_init_11 : decode cX7_init 11 = .ok (.putfield 13, 3) := dk_181 0 13 (dk_at dksX7_init_0 11 rfl rfl)
theorem dX7_init_14 : decode cX7_init 14 = .ok (.aload_n 0, 1) := dk_42 (dk_at dksX7_init_0 14 rfl rfl)
theorem dX7_init_15 : decode cX7_init 15 = .ok (.iload_n 3, 1) := dk_29 (dk_at dksX7_init_0 15 rfl rfl)
theorem dX7_init_16 : decode cX7_init 16 = .ok (.putfield 16, 3) := dk_181 0 16 (dk_at dksX7_init_0 16 rfl rfl)
theorem dX7_init_19 : decode cX7_init 19 = .ok (.aload_n 0, 1) := dk_42 (dk_at dksX7_init_0 19 rfl rfl)
theorem dX7_init_20 : decode cX7_init 20 = .ok (.iload 4, 2) := dk_21 4 (dk_at dksX7_init_0 20 rfl rfl)
theorem dX7_init_22 : decode cX7_init 22 = .ok (.putfield 19, 3) := dk_181 0 19 (dk_at dksX7_init_1 0 rfl rfl)
theorem dX7_init_25 : decode cX7_init 25 = .ok (.return_, 1) := dk_177 (dk_at dksX7_init_1 3 rfl rfl)
abbrev cX7_most : ByteArray := prog_16_method_2_code
def yX7_most : MethodName := ⟨RX7, "most", "()I"⟩
theorem dX7_most_0 : decode cX7_most 0 = .ok (.iconst 1, 1) := by decide +kernel
theorem dX7_most_1 : decode cX7_most 1 = .ok (.ireturn, 1) := by decide +kernel
abbrev cX7_part : ByteArray := prog_16_method_6_code
def yX7_part : MethodName := ⟨RX7, "part", "(II)I"⟩
theorem dX7_part_0 : decode cX7_part 0 = .ok (.iload_n 2, 1) := by decide +kernel
theorem dX7_part_1 : decode cX7_part 1 = .ok (.ireturn, 1) := by decide +kernel
theorem q140 : (Jvm.Cond.initialized "HeldTongue$Sense") ∈ lw_all := lw_g (lw_at lw_m1 16 rfl) rfl
theorem q584 : (Jvm.Cond.instanceMethod ({ cls := "HeldTongue$Sense", name := "<init>", desc := "(IIII)V" } : Jvm.MethodName)) ∈ lw_all := lw_g (lw_at lw_m2 220 rfl) rfl
theorem q585 : (Jvm.Cond.code ({ cls := "HeldTongue$Sense", name := "<init>", desc := "(IIII)V" } : Jvm.MethodName) prog_16_method_1_code (5 : Nat) (Option.none : Option Jvm.ClassFile.FieldType)) ∈ lw_all := lw_g (lw_at lw_m2 221 rfl) rfl
theorem q586 : (Jvm.Cond.methodLink "HeldTongue$Sense" (1 : Nat) ({ cls := "java/lang/Object", name := "<init>", desc := "()V" } : Jvm.MethodName)) ∈ lw_all := lw_g (lw_at lw_m2 222 rfl) rfl
theorem q589 : (Jvm.Cond.fieldLink "HeldTongue$Sense" (7 : Nat) "HeldTongue$Sense" "number" "I") ∈ lw_all := lw_g (lw_at lw_m2 225 rfl) rfl
theorem q591 : (Jvm.Cond.fieldLink "HeldTongue$Sense" (13 : Nat) "HeldTongue$Sense" "word" "I") ∈ lw_all := lw_g (lw_at lw_m2 227 rfl) rfl
theorem q593 : (Jvm.Cond.fieldLink "HeldTongue$Sense" (16 : Nat) "HeldTongue$Sense" "makes" "I") ∈ lw_all := lw_g (lw_at lw_m2 229 rfl) rfl
theorem q595 : (Jvm.Cond.fieldLink "HeldTongue$Sense" (19 : Nat) "HeldTongue$Sense" "mark" "I") ∈ lw_all := lw_g (lw_at lw_m2 231 rfl) rfl
theorem q600 : (Jvm.Cond.soleField "HeldTongue$Sense" "number") ∈ lw_all := lw_g (lw_at lw_m2 236 rfl) rfl
theorem q602 : (Jvm.Cond.soleField "HeldTongue$Sense" "word") ∈ lw_all := lw_g (lw_at lw_m2 238 rfl) rfl
theorem q604 : (Jvm.Cond.soleField "HeldTongue$Sense" "makes") ∈ lw_all := lw_g (lw_at lw_m3 0 rfl) rfl
theorem q606 : (Jvm.Cond.soleField "HeldTongue$Sense" "mark") ∈ lw_all := lw_g (lw_at lw_m3 2 rfl) rfl
theorem q837 : (Jvm.Cond.instanceMethod ({ cls := "HeldTongue$Sense", name := "most", desc := "()I" } : Jvm.MethodName)) ∈ lw_all := lw_g (lw_at lw_m3 233 rfl) rfl
theorem q838 : (Jvm.Cond.sameMethod "HeldTongue$Sense" "HeldTongue$Sense" "most" "()I") ∈ lw_all := lw_g (lw_at lw_m3 234 rfl) rfl
theorem q848 : (Jvm.Cond.code ({ cls := "HeldTongue$Sense", name := "most", desc := "()I" } : Jvm.MethodName) prog_16_method_2_code (1 : Nat) (Option.some Jvm.ClassFile.FieldType.int)) ∈ lw_all := lw_g (lw_at lw_m4 4 rfl) rfl
theorem q860 : (Jvm.Cond.declares ({ cls := "HeldTongue$Sense", name := "takes", desc := "(I)I" } : Jvm.MethodName)) ∈ lw_tbl := lw_at lw_m4 16 rfl
theorem q861 : (Jvm.Cond.sameMethod "HeldTongue$Sense" "HeldTongue$Sense" "takes" "(I)I") ∈ lw_all := lw_g (lw_at lw_m4 17 rfl) rfl
theorem q882 : (Jvm.Cond.declares ({ cls := "HeldTongue$Sense", name := "kind", desc := "(II)I" } : Jvm.MethodName)) ∈ lw_tbl := lw_at lw_m4 38 rfl
theorem q883 : (Jvm.Cond.sameMethod "HeldTongue$Sense" "HeldTongue$Sense" "kind" "(II)I") ∈ lw_all := lw_g (lw_at lw_m4 39 rfl) rfl
theorem q900 : (Jvm.Cond.declares ({ cls := "HeldTongue$Sense", name := "sort", desc := "()I" } : Jvm.MethodName)) ∈ lw_tbl := lw_at lw_m4 56 rfl
theorem q901 : (Jvm.Cond.sameMethod "HeldTongue$Sense" "HeldTongue$Sense" "sort" "()I") ∈ lw_all := lw_g (lw_at lw_m4 57 rfl) rfl
theorem q1050 : (Jvm.Cond.instanceMethod ({ cls := "HeldTongue$Sense", name := "part", desc := "(II)I" } : Jvm.MethodName)) ∈ lw_all := lw_g (lw_at lw_m4 206 rfl) rfl
theorem q1051 : (Jvm.Cond.sameMethod "HeldTongue$Sense" "HeldTongue$Sense" "part" "(II)I") ∈ lw_all := lw_g (lw_at lw_m4 207 rfl) rfl
theorem q1062 : (Jvm.Cond.code ({ cls := "HeldTongue$Sense", name := "part", desc := "(II)I" } : Jvm.MethodName) prog_16_method_6_code (3 : Nat) (Option.some Jvm.ClassFile.FieldType.int)) ∈ lw_all := lw_g (lw_at lw_m4 218 rfl) rfl

/-! HeldTongue$Name -/
set_option maxRecDepth 100000
def RX8 : String := "HeldTongue$Name"
def TX8 : u_T := fun k => match k with
  | 0 => ("HeldTongue$Sense", "number", "I", true)
  | 1 => ("HeldTongue$Sense", "word", "I", true)
  | 2 => ("HeldTongue$Sense", "makes", "I", true)
  | 3 => ("HeldTongue$Sense", "mark", "I", true)
  | _ => ("HeldTongue$Name", "weight", "I", true)
def tyX8 : Nat → FieldType := fun k => match k with
  | 0 => .int
  | 1 => .int
  | 2 => .int
  | 3 => .int
  | _ => .int
abbrev wsX80 : List Cond := u_ws RX8 TX8 5
theorem nmX8 : ∀ a, a < 5 → ∀ b, b < 5 → a ≠ b → (TX8 a).2.1 ≠ (TX8 b).2.1 := by decide +kernel
theorem tyX8_ok : ∀ k, k < 5 → parseFieldDescriptor (TX8 k).2.2.1 = some (tyX8 k) := by decide +kernel
abbrev cX8_init : ByteArray := prog_12_method_1_code
def yX8_init : MethodName := ⟨RX8, "<init>", "(IIIII)V"⟩
def dkwX8_init_0 : List UInt8 := [42, 27, 28, 29, 21, 4, 183, 0, 3, 42, 21, 5, 181, 0, 9, 177]
abbrev dktX8_init_0 : List UInt8 := dkwX8_init_0 ++ []
theorem dksX8_init_0 : cX8_init.data.toList.drop 0 = dktX8_init_0 := by decide +kernel
theorem dX8_init_0 : decode cX8_init 0 = .ok (.aload_n 0, 1) := dk_42 (dk_at dksX8_init_0 0 rfl rfl)
theorem dX8_init_1 : decode cX8_init 1 = .ok (.iload_n 1, 1) := dk_27 (dk_at dksX8_init_0 1 rfl rfl)
theorem dX8_init_2 : decode cX8_init 2 = .ok (.iload_n 2, 1) := dk_28 (dk_at dksX8_init_0 2 rfl rfl)
theorem dX8_init_3 : decode cX8_init 3 = .ok (.iload_n 3, 1) := dk_29 (dk_at dksX8_init_0 3 rfl rfl)
theorem dX8_init_4 : decode cX8_init 4 = .ok (.iload 4, 2) := dk_21 4 (dk_at dksX8_init_0 4 rfl rfl)
theorem dX8_init_6 : decode cX8_init 6 = .ok (.invokespecial 3, 3) := dk_183 0 3 (dk_at dksX8_init_0 6 rfl rfl)
theorem dX8_init_9 : decode cX8_init 9 = .ok (.aload_n 0, 1) := dk_42 (dk_at dksX8_init_0 9 rfl rfl)
theorem dX8_init_10 : decode cX8_init 10 = .ok (.iload 5, 2) := dk_21 5 (dk_at dksX8_init_0 10 rfl rfl)
theorem dX8_init_12 : decode cX8_init 12 = .ok (.putfield 9, 3) := dk_181 0 9 (dk_at dksX8_init_0 12 rfl rfl)
theorem dX8_init_15 : decode cX8_init 15 = .ok (.return_, 1) := dk_177 (dk_at dksX8_init_0 15 rfl rfl)
abbrev cX8_takes : ByteArray := prog_12_method_2_code
def yX8_takes : MethodName := ⟨RX8, "takes", "(I)I"⟩
theorem dX8_takes_0 : decode cX8_takes 0 = .ok (.iconst 0, 1) := by decide +kernel
theorem dX8_takes_1 : decode cX8_takes 1 = .ok (.ireturn, 1) := by decide +kernel
abbrev cX8_kind : ByteArray := prog_12_method_3_code
def yX8_kind : MethodName := ⟨RX8, "kind", "(II)I"⟩
theorem dX8_kind_0 : decode cX8_kind 0 = .ok (.iconst (-1), 1) := by decide +kernel
theorem dX8_kind_1 : decode cX8_kind 1 = .ok (.ireturn, 1) := by decide +kernel
abbrev cX8_sort : ByteArray := prog_12_method_4_code
def yX8_sort : MethodName := ⟨RX8, "sort", "()I"⟩
theorem dX8_sort_0 : decode cX8_sort 0 = .ok (.iconst 0, 1) := by decide +kernel
theorem dX8_sort_1 : decode cX8_sort 1 = .ok (.ireturn, 1) := by decide +kernel
theorem q141 : (Jvm.Cond.initialized "HeldTongue$Name") ∈ lw_all := lw_g (lw_at lw_m1 17 rfl) rfl
theorem q575 : (Jvm.Cond.instantiable "HeldTongue$Name" (5 : Nat)) ∈ lw_all := lw_g (lw_at lw_m2 211 rfl) rfl
theorem q581 : (Jvm.Cond.instanceMethod ({ cls := "HeldTongue$Name", name := "<init>", desc := "(IIIII)V" } : Jvm.MethodName)) ∈ lw_all := lw_g (lw_at lw_m2 217 rfl) rfl
theorem q582 : (Jvm.Cond.code ({ cls := "HeldTongue$Name", name := "<init>", desc := "(IIIII)V" } : Jvm.MethodName) prog_12_method_1_code (6 : Nat) (Option.none : Option Jvm.ClassFile.FieldType)) ∈ lw_all := lw_g (lw_at lw_m2 218 rfl) rfl
theorem q583 : (Jvm.Cond.methodLink "HeldTongue$Name" (3 : Nat) ({ cls := "HeldTongue$Sense", name := "<init>", desc := "(IIII)V" } : Jvm.MethodName)) ∈ lw_all := lw_g (lw_at lw_m2 219 rfl) rfl
theorem q587 : (Jvm.Cond.fieldLink "HeldTongue$Name" (9 : Nat) "HeldTongue$Name" "weight" "I") ∈ lw_all := lw_g (lw_at lw_m2 223 rfl) rfl
theorem q597 : (Jvm.Cond.laysFinal "HeldTongue$Name" "HeldTongue$Name" "weight" "I") ∈ lw_all := lw_g (lw_at lw_m2 233 rfl) rfl
theorem q598 : (Jvm.Cond.soleField "HeldTongue$Name" "weight") ∈ lw_all := lw_g (lw_at lw_m2 234 rfl) rfl
theorem q599 : (Jvm.Cond.laysFinal "HeldTongue$Name" "HeldTongue$Sense" "number" "I") ∈ lw_all := lw_g (lw_at lw_m2 235 rfl) rfl
theorem q601 : (Jvm.Cond.laysFinal "HeldTongue$Name" "HeldTongue$Sense" "word" "I") ∈ lw_all := lw_g (lw_at lw_m2 237 rfl) rfl
theorem q603 : (Jvm.Cond.laysFinal "HeldTongue$Name" "HeldTongue$Sense" "makes" "I") ∈ lw_all := lw_g (lw_at lw_m2 239 rfl) rfl
theorem q605 : (Jvm.Cond.laysFinal "HeldTongue$Name" "HeldTongue$Sense" "mark" "I") ∈ lw_all := lw_g (lw_at lw_m3 1 rfl) rfl
theorem q607 : (Jvm.Cond.superclass "HeldTongue$Name" "HeldTongue$Sense") ∈ lw_all := lw_g (lw_at lw_m3 3 rfl) rfl
theorem q846 : (Jvm.Cond.selects "HeldTongue$Name" ({ cls := "HeldTongue$Sense", name := "most", desc := "()I" } : Jvm.MethodName) ({ cls := "HeldTongue$Sense", name := "most", desc := "()I" } : Jvm.MethodName)) ∈ lw_all := lw_g (lw_at lw_m4 2 rfl) rfl
theorem q871 : (Jvm.Cond.selects "HeldTongue$Name" ({ cls := "HeldTongue$Sense", name := "takes", desc := "(I)I" } : Jvm.MethodName) ({ cls := "HeldTongue$Name", name := "takes", desc := "(I)I" } : Jvm.MethodName)) ∈ lw_all := lw_g (lw_at lw_m4 27 rfl) rfl
theorem q872 : (Jvm.Cond.instanceMethod ({ cls := "HeldTongue$Name", name := "takes", desc := "(I)I" } : Jvm.MethodName)) ∈ lw_all := lw_g (lw_at lw_m4 28 rfl) rfl
theorem q873 : (Jvm.Cond.code ({ cls := "HeldTongue$Name", name := "takes", desc := "(I)I" } : Jvm.MethodName) prog_12_method_2_code (2 : Nat) (Option.some Jvm.ClassFile.FieldType.int)) ∈ lw_all := lw_g (lw_at lw_m4 29 rfl) rfl
theorem q893 : (Jvm.Cond.selects "HeldTongue$Name" ({ cls := "HeldTongue$Sense", name := "kind", desc := "(II)I" } : Jvm.MethodName) ({ cls := "HeldTongue$Name", name := "kind", desc := "(II)I" } : Jvm.MethodName)) ∈ lw_all := lw_g (lw_at lw_m4 49 rfl) rfl
theorem q894 : (Jvm.Cond.instanceMethod ({ cls := "HeldTongue$Name", name := "kind", desc := "(II)I" } : Jvm.MethodName)) ∈ lw_all := lw_g (lw_at lw_m4 50 rfl) rfl
theorem q895 : (Jvm.Cond.code ({ cls := "HeldTongue$Name", name := "kind", desc := "(II)I" } : Jvm.MethodName) prog_12_method_3_code (3 : Nat) (Option.some Jvm.ClassFile.FieldType.int)) ∈ lw_all := lw_g (lw_at lw_m4 51 rfl) rfl
theorem q911 : (Jvm.Cond.selects "HeldTongue$Name" ({ cls := "HeldTongue$Sense", name := "sort", desc := "()I" } : Jvm.MethodName) ({ cls := "HeldTongue$Name", name := "sort", desc := "()I" } : Jvm.MethodName)) ∈ lw_all := lw_g (lw_at lw_m4 67 rfl) rfl
theorem q912 : (Jvm.Cond.instanceMethod ({ cls := "HeldTongue$Name", name := "sort", desc := "()I" } : Jvm.MethodName)) ∈ lw_all := lw_g (lw_at lw_m4 68 rfl) rfl
theorem q913 : (Jvm.Cond.code ({ cls := "HeldTongue$Name", name := "sort", desc := "()I" } : Jvm.MethodName) prog_12_method_4_code (1 : Nat) (Option.some Jvm.ClassFile.FieldType.int)) ∈ lw_all := lw_g (lw_at lw_m4 69 rfl) rfl
theorem q1057 : (Jvm.Cond.selects "HeldTongue$Name" ({ cls := "HeldTongue$Sense", name := "part", desc := "(II)I" } : Jvm.MethodName) ({ cls := "HeldTongue$Sense", name := "part", desc := "(II)I" } : Jvm.MethodName)) ∈ lw_all := lw_g (lw_at lw_m4 213 rfl) rfl
theorem q1948 : (Jvm.Cond.castable "HeldTongue$Name" "HeldTongue$Sense") ∈ lw_tbl := lw_at lw_m8 144 rfl
theorem in_X8 : ∀ w ∈ wsX80, w ∈ lw_all := lw_in wsX80 [599, 601, 603, 605, 597] (by decide +kernel) (by decide +kernel)

/-! HeldTongue$Pair -/
set_option maxRecDepth 100000
def RX9 : String := "HeldTongue$Pair"
def TX9 : u_T := fun k => match k with
  | 0 => ("HeldTongue$Sense", "number", "I", true)
  | 1 => ("HeldTongue$Sense", "word", "I", true)
  | 2 => ("HeldTongue$Sense", "makes", "I", true)
  | 3 => ("HeldTongue$Sense", "mark", "I", true)
  | 4 => ("HeldTongue$Pair", "a", "I", true)
  | 5 => ("HeldTongue$Pair", "b", "I", true)
  | _ => ("HeldTongue$Pair", "turned", "Z", true)
def tyX9 : Nat → FieldType := fun k => match k with
  | 0 => .int
  | 1 => .int
  | 2 => .int
  | 3 => .int
  | 4 => .int
  | 5 => .int
  | _ => .boolean
abbrev wsX90 : List Cond := u_ws RX9 TX9 7
theorem nmX9 : ∀ a, a < 7 → ∀ b, b < 7 → a ≠ b → (TX9 a).2.1 ≠ (TX9 b).2.1 := by decide +kernel
theorem tyX9_ok : ∀ k, k < 7 → parseFieldDescriptor (TX9 k).2.2.1 = some (tyX9 k) := by decide +kernel
abbrev cX9_init : ByteArray := prog_14_method_1_code
def yX9_init : MethodName := ⟨RX9, "<init>", "(IIIIIIZ)V"⟩
def dkwX9_init_1 : List UInt8 := [181, 0, 18, 177]
abbrev dktX9_init_1 : List UInt8 := dkwX9_init_1 ++ []
def dkwX9_init_0 : List UInt8 := [42, 27, 28, 29, 21, 4, 183, 0, 3, 42, 21, 5, 181, 0, 9, 42, 21, 6, 181, 0, 15, 42, 21, 7]
abbrev dktX9_init_0 : List UInt8 := dkwX9_init_0 ++ dktX9_init_1
theorem dksX9_init_0 : cX9_init.data.toList.drop 0 = dktX9_init_0 := by decide +kernel
theorem dksX9_init_1 : cX9_init.data.toList.drop 24 = dktX9_init_1 := dk_seg dksX9_init_0 24 rfl rfl
theorem dX9_init_0 : decode cX9_init 0 = .ok (.aload_n 0, 1) := dk_42 (dk_at dksX9_init_0 0 rfl rfl)
theorem dX9_init_1 : decode cX9_init 1 = .ok (.iload_n 1, 1) := dk_27 (dk_at dksX9_init_0 1 rfl rfl)
theorem dX9_init_2 : decode cX9_init 2 = .ok (.iload_n 2, 1) := dk_28 (dk_at dksX9_init_0 2 rfl rfl)
theorem dX9_init_3 : decode cX9_init 3 = .ok (.iload_n 3, 1) := dk_29 (dk_at dksX9_init_0 3 rfl rfl)
theorem dX9_init_4 : decode cX9_init 4 = .ok (.iload 4, 2) := dk_21 4 (dk_at dksX9_init_0 4 rfl rfl)
theorem dX9_init_6 : decode cX9_init 6 = .ok (.invokespecial 3, 3) := dk_183 0 3 (dk_at dksX9_init_0 6 rfl rfl)
theorem dX9_init_9 : decode cX9_init 9 = .ok (.aload_n 0, 1) := dk_42 (dk_at dksX9_init_0 9 rfl rfl)
theorem dX9_init_10 : decode cX9_init 10 = .ok (.iload 5, 2) := dk_21 5 (dk_at dksX9_init_0 10 rfl rfl)
theorem dX9_init_12 : decode cX9_init 12 = .ok (.putfield 9, 3) := dk_181 0 9 (dk_at dksX9_init_0 12 rfl rfl)
theorem dX9_init_15 : decode cX9_init 15 = .ok (.aload_n 0, 1) := dk_42 (dk_at dksX9_init_0 15 rfl rfl)
theorem dX9_init_16 : decode cX9_init 16 = .ok (.iload 6, 2) := dk_21 6 (dk_at dksX9_init_0 16 rfl rfl)
theorem dX9_init_18 : decode cX9_init 18 = .ok (.putfield 15, 3) := dk_181 0 15 (dk_at dksX9_init_0 18 rfl rfl)
theorem dX9_init_21 : decode cX9_init 21 = .ok (.aload_n 0, 1) := dk_42 (dk_at dksX9_init_0 21 rfl rfl)
theorem dX9_init_22 : decode cX9_init 22 = .ok (.iload 7, 2) := dk_21 7 (dk_at dksX9_init_0 22 rfl rfl)
theorem dX9_init_24 : decode cX9_init 24 = .ok (.putfield 18, 3) := dk_181 0 18 (dk_at dksX9_init_1 0 rfl rfl)
theorem dX9_init_27 : decode cX9_init 27 = .ok (.return_, 1) := dk_177 (dk_at dksX9_init_1 3 rfl rfl)
abbrev cX9_takes : ByteArray := prog_14_method_2_code
def yX9_takes : MethodName := ⟨RX9, "takes", "(I)I"⟩
theorem dX9_takes_0 : decode cX9_takes 0 = .ok (.iconst 2, 1) := by decide +kernel
theorem dX9_takes_1 : decode cX9_takes 1 = .ok (.ireturn, 1) := by decide +kernel
abbrev cX9_kind : ByteArray := prog_14_method_3_code
def yX9_kind : MethodName := ⟨RX9, "kind", "(II)I"⟩
def dkwX9_kind_0 : List UInt8 := [28, 154, 0, 10, 42, 180, 0, 9, 167, 0, 7, 42, 180, 0, 15, 172]
abbrev dktX9_kind_0 : List UInt8 := dkwX9_kind_0 ++ []
theorem dksX9_kind_0 : cX9_kind.data.toList.drop 0 = dktX9_kind_0 := by decide +kernel
theorem dX9_kind_0 : decode cX9_kind 0 = .ok (.iload_n 2, 1) := dk_28 (dk_at dksX9_kind_0 0 rfl rfl)
theorem dX9_kind_1 : decode cX9_kind 1 = .ok (.ifCond .ne 10, 3) := dk_154 0 10 (dk_at dksX9_kind_0 1 rfl rfl)
theorem dX9_kind_4 : decode cX9_kind 4 = .ok (.aload_n 0, 1) := dk_42 (dk_at dksX9_kind_0 4 rfl rfl)
theorem dX9_kind_5 : decode cX9_kind 5 = .ok (.getfield 9, 3) := dk_180 0 9 (dk_at dksX9_kind_0 5 rfl rfl)
theorem dX9_kind_8 : decode cX9_kind 8 = .ok (.goto 7, 3) := dk_167 0 7 (dk_at dksX9_kind_0 8 rfl rfl)
theorem dX9_kind_11 : decode cX9_kind 11 = .ok (.aload_n 0, 1) := dk_42 (dk_at dksX9_kind_0 11 rfl rfl)
theorem dX9_kind_12 : decode cX9_kind 12 = .ok (.getfield 15, 3) := dk_180 0 15 (dk_at dksX9_kind_0 12 rfl rfl)
theorem dX9_kind_15 : decode cX9_kind 15 = .ok (.ireturn, 1) := dk_172 (dk_at dksX9_kind_0 15 rfl rfl)
abbrev cX9_sort : ByteArray := prog_14_method_4_code
def yX9_sort : MethodName := ⟨RX9, "sort", "()I"⟩
theorem dX9_sort_0 : decode cX9_sort 0 = .ok (.iconst 1, 1) := by decide +kernel
theorem dX9_sort_1 : decode cX9_sort 1 = .ok (.ireturn, 1) := by decide +kernel
abbrev cX9_part : ByteArray := prog_14_method_5_code
def yX9_part : MethodName := ⟨RX9, "part", "(II)I"⟩
def dkwX9_part_0 : List UInt8 := [42, 180, 0, 18, 153, 0, 9, 4, 28, 100, 167, 0, 9, 42, 27, 28, 183, 0, 22, 172]
abbrev dktX9_part_0 : List UInt8 := dkwX9_part_0 ++ []
theorem dksX9_part_0 : cX9_part.data.toList.drop 0 = dktX9_part_0 := by decide +kernel
theorem dX9_part_0 : decode cX9_part 0 = .ok (.aload_n 0, 1) := dk_42 (dk_at dksX9_part_0 0 rfl rfl)
theorem dX9_part_1 : decode cX9_part 1 = .ok (.getfield 18, 3) := dk_180 0 18 (dk_at dksX9_part_0 1 rfl rfl)
theorem dX9_part_4 : decode cX9_part 4 = .ok (.ifCond .eq 9, 3) := dk_153 0 9 (dk_at dksX9_part_0 4 rfl rfl)
theorem dX9_part_7 : decode cX9_part 7 = .ok (.iconst 1, 1) := dk_4 (dk_at dksX9_part_0 7 rfl rfl)
theorem dX9_part_8 : decode cX9_part 8 = .ok (.iload_n 2, 1) := dk_28 (dk_at dksX9_part_0 8 rfl rfl)
theorem dX9_part_9 : decode cX9_part 9 = .ok (.isub, 1) := dk_100 (dk_at dksX9_part_0 9 rfl rfl)
theorem dX9_part_10 : decode cX9_part 10 = .ok (.goto 9, 3) := dk_167 0 9 (dk_at dksX9_part_0 10 rfl rfl)
theorem dX9_part_13 : decode cX9_part 13 = .ok (.aload_n 0, 1) := dk_42 (dk_at dksX9_part_0 13 rfl rfl)
theorem dX9_part_14 : decode cX9_part 14 = .ok (.iload_n 1, 1) := dk_27 (dk_at dksX9_part_0 14 rfl rfl)
theorem dX9_part_15 : decode cX9_part 15 = .ok (.iload_n 2, 1) := dk_28 (dk_at dksX9_part_0 15 rfl rfl)
theorem dX9_part_16 : decode cX9_part 16 = .ok (.invokespecial 22, 3) := dk_183 0 22 (dk_at dksX9_part_0 16 rfl rfl)
theorem dX9_part_19 : decode cX9_part 19 = .ok (.ireturn, 1) := dk_172 (dk_at dksX9_part_0 19 rfl rfl)
theorem q142 : (Jvm.Cond.initialized "HeldTongue$Pair") ∈ lw_all := lw_g (lw_at lw_m1 18 rfl) rfl
theorem q609 : (Jvm.Cond.instantiable "HeldTongue$Pair" (7 : Nat)) ∈ lw_all := lw_g (lw_at lw_m3 5 rfl) rfl
theorem q611 : (Jvm.Cond.instanceMethod ({ cls := "HeldTongue$Pair", name := "<init>", desc := "(IIIIIIZ)V" } : Jvm.MethodName)) ∈ lw_all := lw_g (lw_at lw_m3 7 rfl) rfl
theorem q612 : (Jvm.Cond.code ({ cls := "HeldTongue$Pair", name := "<init>", desc := "(IIIIIIZ)V" } : Jvm.MethodName) prog_14_method_1_code (8 : Nat) (Option.none : Option Jvm.ClassFile.FieldType)) ∈ lw_all := lw_g (lw_at lw_m3 8 rfl) rfl
theorem q613 : (Jvm.Cond.methodLink "HeldTongue$Pair" (3 : Nat) ({ cls := "HeldTongue$Sense", name := "<init>", desc := "(IIII)V" } : Jvm.MethodName)) ∈ lw_all := lw_g (lw_at lw_m3 9 rfl) rfl
theorem q614 : (Jvm.Cond.fieldLink "HeldTongue$Pair" (9 : Nat) "HeldTongue$Pair" "a" "I") ∈ lw_all := lw_g (lw_at lw_m3 10 rfl) rfl
theorem q615 : (Jvm.Cond.fieldLink "HeldTongue$Pair" (15 : Nat) "HeldTongue$Pair" "b" "I") ∈ lw_all := lw_g (lw_at lw_m3 11 rfl) rfl
theorem q616 : (Jvm.Cond.fieldLink "HeldTongue$Pair" (18 : Nat) "HeldTongue$Pair" "turned" "Z") ∈ lw_all := lw_g (lw_at lw_m3 12 rfl) rfl
theorem q617 : (Jvm.Cond.laysFinal "HeldTongue$Pair" "HeldTongue$Pair" "a" "I") ∈ lw_all := lw_g (lw_at lw_m3 13 rfl) rfl
theorem q618 : (Jvm.Cond.soleField "HeldTongue$Pair" "a") ∈ lw_all := lw_g (lw_at lw_m3 14 rfl) rfl
theorem q619 : (Jvm.Cond.laysFinal "HeldTongue$Pair" "HeldTongue$Pair" "b" "I") ∈ lw_all := lw_g (lw_at lw_m3 15 rfl) rfl
theorem q620 : (Jvm.Cond.soleField "HeldTongue$Pair" "b") ∈ lw_all := lw_g (lw_at lw_m3 16 rfl) rfl
theorem q621 : (Jvm.Cond.laysFinal "HeldTongue$Pair" "HeldTongue$Pair" "turned" "Z") ∈ lw_all := lw_g (lw_at lw_m3 17 rfl) rfl
theorem q622 : (Jvm.Cond.soleField "HeldTongue$Pair" "turned") ∈ lw_all := lw_g (lw_at lw_m3 18 rfl) rfl
theorem q623 : (Jvm.Cond.laysFinal "HeldTongue$Pair" "HeldTongue$Sense" "number" "I") ∈ lw_all := lw_g (lw_at lw_m3 19 rfl) rfl
theorem q624 : (Jvm.Cond.laysFinal "HeldTongue$Pair" "HeldTongue$Sense" "word" "I") ∈ lw_all := lw_g (lw_at lw_m3 20 rfl) rfl
theorem q625 : (Jvm.Cond.laysFinal "HeldTongue$Pair" "HeldTongue$Sense" "makes" "I") ∈ lw_all := lw_g (lw_at lw_m3 21 rfl) rfl
theorem q626 : (Jvm.Cond.laysFinal "HeldTongue$Pair" "HeldTongue$Sense" "mark" "I") ∈ lw_all := lw_g (lw_at lw_m3 22 rfl) rfl
theorem q627 : (Jvm.Cond.superclass "HeldTongue$Pair" "HeldTongue$Sense") ∈ lw_all := lw_g (lw_at lw_m3 23 rfl) rfl
theorem q847 : (Jvm.Cond.selects "HeldTongue$Pair" ({ cls := "HeldTongue$Sense", name := "most", desc := "()I" } : Jvm.MethodName) ({ cls := "HeldTongue$Sense", name := "most", desc := "()I" } : Jvm.MethodName)) ∈ lw_all := lw_g (lw_at lw_m4 3 rfl) rfl
theorem q874 : (Jvm.Cond.selects "HeldTongue$Pair" ({ cls := "HeldTongue$Sense", name := "takes", desc := "(I)I" } : Jvm.MethodName) ({ cls := "HeldTongue$Pair", name := "takes", desc := "(I)I" } : Jvm.MethodName)) ∈ lw_all := lw_g (lw_at lw_m4 30 rfl) rfl
theorem q875 : (Jvm.Cond.instanceMethod ({ cls := "HeldTongue$Pair", name := "takes", desc := "(I)I" } : Jvm.MethodName)) ∈ lw_all := lw_g (lw_at lw_m4 31 rfl) rfl
theorem q876 : (Jvm.Cond.code ({ cls := "HeldTongue$Pair", name := "takes", desc := "(I)I" } : Jvm.MethodName) prog_14_method_2_code (2 : Nat) (Option.some Jvm.ClassFile.FieldType.int)) ∈ lw_all := lw_g (lw_at lw_m4 32 rfl) rfl
theorem q896 : (Jvm.Cond.selects "HeldTongue$Pair" ({ cls := "HeldTongue$Sense", name := "kind", desc := "(II)I" } : Jvm.MethodName) ({ cls := "HeldTongue$Pair", name := "kind", desc := "(II)I" } : Jvm.MethodName)) ∈ lw_all := lw_g (lw_at lw_m4 52 rfl) rfl
theorem q897 : (Jvm.Cond.instanceMethod ({ cls := "HeldTongue$Pair", name := "kind", desc := "(II)I" } : Jvm.MethodName)) ∈ lw_all := lw_g (lw_at lw_m4 53 rfl) rfl
theorem q898 : (Jvm.Cond.code ({ cls := "HeldTongue$Pair", name := "kind", desc := "(II)I" } : Jvm.MethodName) prog_14_method_3_code (3 : Nat) (Option.some Jvm.ClassFile.FieldType.int)) ∈ lw_all := lw_g (lw_at lw_m4 54 rfl) rfl
theorem q914 : (Jvm.Cond.selects "HeldTongue$Pair" ({ cls := "HeldTongue$Sense", name := "sort", desc := "()I" } : Jvm.MethodName) ({ cls := "HeldTongue$Pair", name := "sort", desc := "()I" } : Jvm.MethodName)) ∈ lw_all := lw_g (lw_at lw_m4 70 rfl) rfl
theorem q915 : (Jvm.Cond.instanceMethod ({ cls := "HeldTongue$Pair", name := "sort", desc := "()I" } : Jvm.MethodName)) ∈ lw_all := lw_g (lw_at lw_m4 71 rfl) rfl
theorem q916 : (Jvm.Cond.code ({ cls := "HeldTongue$Pair", name := "sort", desc := "()I" } : Jvm.MethodName) prog_14_method_4_code (1 : Nat) (Option.some Jvm.ClassFile.FieldType.int)) ∈ lw_all := lw_g (lw_at lw_m4 72 rfl) rfl
theorem q1058 : (Jvm.Cond.selects "HeldTongue$Pair" ({ cls := "HeldTongue$Sense", name := "part", desc := "(II)I" } : Jvm.MethodName) ({ cls := "HeldTongue$Pair", name := "part", desc := "(II)I" } : Jvm.MethodName)) ∈ lw_all := lw_g (lw_at lw_m4 214 rfl) rfl
theorem q1059 : (Jvm.Cond.instanceMethod ({ cls := "HeldTongue$Pair", name := "part", desc := "(II)I" } : Jvm.MethodName)) ∈ lw_all := lw_g (lw_at lw_m4 215 rfl) rfl
theorem q1060 : (Jvm.Cond.code ({ cls := "HeldTongue$Pair", name := "part", desc := "(II)I" } : Jvm.MethodName) prog_14_method_5_code (3 : Nat) (Option.some Jvm.ClassFile.FieldType.int)) ∈ lw_all := lw_g (lw_at lw_m4 216 rfl) rfl
theorem q1061 : (Jvm.Cond.methodLink "HeldTongue$Pair" (22 : Nat) ({ cls := "HeldTongue$Sense", name := "part", desc := "(II)I" } : Jvm.MethodName)) ∈ lw_all := lw_g (lw_at lw_m4 217 rfl) rfl
theorem q1949 : (Jvm.Cond.castable "HeldTongue$Pair" "HeldTongue$Sense") ∈ lw_tbl := lw_at lw_m8 145 rfl
theorem in_X9 : ∀ w ∈ wsX90, w ∈ lw_all := lw_in wsX90 [623, 624, 625, 626, 617, 619, 621] (by decide +kernel) (by decide +kernel)

/-! HeldTongue$Gather -/
set_option maxRecDepth 100000
def RX10 : String := "HeldTongue$Gather"
def TX10 : u_T := fun k => match k with
  | 0 => ("HeldTongue$Sense", "number", "I", true)
  | 1 => ("HeldTongue$Sense", "word", "I", true)
  | 2 => ("HeldTongue$Sense", "makes", "I", true)
  | 3 => ("HeldTongue$Sense", "mark", "I", true)
  | _ => ("HeldTongue$Gather", "a", "I", true)
def tyX10 : Nat → FieldType := fun k => match k with
  | 0 => .int
  | 1 => .int
  | 2 => .int
  | 3 => .int
  | _ => .int
abbrev wsX100 : List Cond := u_ws RX10 TX10 5
theorem nmX10 : ∀ a, a < 5 → ∀ b, b < 5 → a ≠ b → (TX10 a).2.1 ≠ (TX10 b).2.1 := by decide +kernel
theorem tyX10_ok : ∀ k, k < 5 → parseFieldDescriptor (TX10 k).2.2.1 = some (tyX10 k) := by decide +kernel
abbrev cX10_init : ByteArray := prog_8_method_1_code
def yX10_init : MethodName := ⟨RX10, "<init>", "(IIIII)V"⟩
def dkwX10_init_0 : List UInt8 := [42, 27, 28, 29, 21, 4, 183, 0, 3, 42, 21, 5, 181, 0, 9, 177]
abbrev dktX10_init_0 : List UInt8 := dkwX10_init_0 ++ []
theorem dksX10_init_0 : cX10_init.data.toList.drop 0 = dktX10_init_0 := by decide +kernel
theorem dX10_init_0 : decode cX10_init 0 = .ok (.aload_n 0, 1) := dk_42 (dk_at dksX10_init_0 0 rfl rfl)
theorem dX10_init_1 : decode cX10_init 1 = .ok (.iload_n 1, 1) := dk_27 (dk_at dksX10_init_0 1 rfl rfl)
theorem dX10_init_2 : decode cX10_init 2 = .ok (.iload_n 2, 1) := dk_28 (dk_at dksX10_init_0 2 rfl rfl)
theorem dX10_init_3 : decode cX10_init 3 = .ok (.iload_n 3, 1) := dk_29 (dk_at dksX10_init_0 3 rfl rfl)
theorem dX10_init_4 : decode cX10_init 4 = .ok (.iload 4, 2) := dk_21 4 (dk_at dksX10_init_0 4 rfl rfl)
theorem dX10_init_6 : decode cX10_init 6 = .ok (.invokespecial 3, 3) := dk_183 0 3 (dk_at dksX10_init_0 6 rfl rfl)
theorem dX10_init_9 : decode cX10_init 9 = .ok (.aload_n 0, 1) := dk_42 (dk_at dksX10_init_0 9 rfl rfl)
theorem dX10_init_10 : decode cX10_init 10 = .ok (.iload 5, 2) := dk_21 5 (dk_at dksX10_init_0 10 rfl rfl)
theorem dX10_init_12 : decode cX10_init 12 = .ok (.putfield 9, 3) := dk_181 0 9 (dk_at dksX10_init_0 12 rfl rfl)
theorem dX10_init_15 : decode cX10_init 15 = .ok (.return_, 1) := dk_177 (dk_at dksX10_init_0 15 rfl rfl)
abbrev cX10_most : ByteArray := prog_8_method_2_code
def yX10_most : MethodName := ⟨RX10, "most", "()I"⟩
theorem dX10_most_0 : decode cX10_most 0 = .ok (.iconst 5, 1) := by decide +kernel
theorem dX10_most_1 : decode cX10_most 1 = .ok (.ireturn, 1) := by decide +kernel
abbrev cX10_takes : ByteArray := prog_8_method_3_code
def yX10_takes : MethodName := ⟨RX10, "takes", "(I)I"⟩
theorem dX10_takes_0 : decode cX10_takes 0 = .ok (.iload_n 1, 1) := by decide +kernel
theorem dX10_takes_1 : decode cX10_takes 1 = .ok (.ireturn, 1) := by decide +kernel
abbrev cX10_kind : ByteArray := prog_8_method_4_code
def yX10_kind : MethodName := ⟨RX10, "kind", "(II)I"⟩
theorem dX10_kind_0 : decode cX10_kind 0 = .ok (.aload_n 0, 1) := by decide +kernel
theorem dX10_kind_1 : decode cX10_kind 1 = .ok (.getfield 9, 3) := by decide +kernel
theorem dX10_kind_4 : decode cX10_kind 4 = .ok (.ireturn, 1) := by decide +kernel
abbrev cX10_sort : ByteArray := prog_8_method_5_code
def yX10_sort : MethodName := ⟨RX10, "sort", "()I"⟩
theorem dX10_sort_0 : decode cX10_sort 0 = .ok (.iconst 2, 1) := by decide +kernel
theorem dX10_sort_1 : decode cX10_sort 1 = .ok (.ireturn, 1) := by decide +kernel
theorem q143 : (Jvm.Cond.initialized "HeldTongue$Gather") ∈ lw_all := lw_g (lw_at lw_m1 19 rfl) rfl
theorem q629 : (Jvm.Cond.instantiable "HeldTongue$Gather" (5 : Nat)) ∈ lw_all := lw_g (lw_at lw_m3 25 rfl) rfl
theorem q631 : (Jvm.Cond.instanceMethod ({ cls := "HeldTongue$Gather", name := "<init>", desc := "(IIIII)V" } : Jvm.MethodName)) ∈ lw_all := lw_g (lw_at lw_m3 27 rfl) rfl
theorem q632 : (Jvm.Cond.code ({ cls := "HeldTongue$Gather", name := "<init>", desc := "(IIIII)V" } : Jvm.MethodName) prog_8_method_1_code (6 : Nat) (Option.none : Option Jvm.ClassFile.FieldType)) ∈ lw_all := lw_g (lw_at lw_m3 28 rfl) rfl
theorem q633 : (Jvm.Cond.methodLink "HeldTongue$Gather" (3 : Nat) ({ cls := "HeldTongue$Sense", name := "<init>", desc := "(IIII)V" } : Jvm.MethodName)) ∈ lw_all := lw_g (lw_at lw_m3 29 rfl) rfl
theorem q634 : (Jvm.Cond.fieldLink "HeldTongue$Gather" (9 : Nat) "HeldTongue$Gather" "a" "I") ∈ lw_all := lw_g (lw_at lw_m3 30 rfl) rfl
theorem q635 : (Jvm.Cond.laysFinal "HeldTongue$Gather" "HeldTongue$Gather" "a" "I") ∈ lw_all := lw_g (lw_at lw_m3 31 rfl) rfl
theorem q636 : (Jvm.Cond.soleField "HeldTongue$Gather" "a") ∈ lw_all := lw_g (lw_at lw_m3 32 rfl) rfl
theorem q637 : (Jvm.Cond.laysFinal "HeldTongue$Gather" "HeldTongue$Sense" "number" "I") ∈ lw_all := lw_g (lw_at lw_m3 33 rfl) rfl
theorem q638 : (Jvm.Cond.laysFinal "HeldTongue$Gather" "HeldTongue$Sense" "word" "I") ∈ lw_all := lw_g (lw_at lw_m3 34 rfl) rfl
theorem q639 : (Jvm.Cond.laysFinal "HeldTongue$Gather" "HeldTongue$Sense" "makes" "I") ∈ lw_all := lw_g (lw_at lw_m3 35 rfl) rfl
theorem q640 : (Jvm.Cond.laysFinal "HeldTongue$Gather" "HeldTongue$Sense" "mark" "I") ∈ lw_all := lw_g (lw_at lw_m3 36 rfl) rfl
theorem q641 : (Jvm.Cond.superclass "HeldTongue$Gather" "HeldTongue$Sense") ∈ lw_all := lw_g (lw_at lw_m3 37 rfl) rfl
theorem q843 : (Jvm.Cond.selects "HeldTongue$Gather" ({ cls := "HeldTongue$Sense", name := "most", desc := "()I" } : Jvm.MethodName) ({ cls := "HeldTongue$Gather", name := "most", desc := "()I" } : Jvm.MethodName)) ∈ lw_all := lw_g (lw_at lw_m3 239 rfl) rfl
theorem q844 : (Jvm.Cond.instanceMethod ({ cls := "HeldTongue$Gather", name := "most", desc := "()I" } : Jvm.MethodName)) ∈ lw_all := lw_g (lw_at lw_m4 0 rfl) rfl
theorem q845 : (Jvm.Cond.code ({ cls := "HeldTongue$Gather", name := "most", desc := "()I" } : Jvm.MethodName) prog_8_method_2_code (1 : Nat) (Option.some Jvm.ClassFile.FieldType.int)) ∈ lw_all := lw_g (lw_at lw_m4 1 rfl) rfl
theorem q868 : (Jvm.Cond.selects "HeldTongue$Gather" ({ cls := "HeldTongue$Sense", name := "takes", desc := "(I)I" } : Jvm.MethodName) ({ cls := "HeldTongue$Gather", name := "takes", desc := "(I)I" } : Jvm.MethodName)) ∈ lw_all := lw_g (lw_at lw_m4 24 rfl) rfl
theorem q869 : (Jvm.Cond.instanceMethod ({ cls := "HeldTongue$Gather", name := "takes", desc := "(I)I" } : Jvm.MethodName)) ∈ lw_all := lw_g (lw_at lw_m4 25 rfl) rfl
theorem q870 : (Jvm.Cond.code ({ cls := "HeldTongue$Gather", name := "takes", desc := "(I)I" } : Jvm.MethodName) prog_8_method_3_code (2 : Nat) (Option.some Jvm.ClassFile.FieldType.int)) ∈ lw_all := lw_g (lw_at lw_m4 26 rfl) rfl
theorem q890 : (Jvm.Cond.selects "HeldTongue$Gather" ({ cls := "HeldTongue$Sense", name := "kind", desc := "(II)I" } : Jvm.MethodName) ({ cls := "HeldTongue$Gather", name := "kind", desc := "(II)I" } : Jvm.MethodName)) ∈ lw_all := lw_g (lw_at lw_m4 46 rfl) rfl
theorem q891 : (Jvm.Cond.instanceMethod ({ cls := "HeldTongue$Gather", name := "kind", desc := "(II)I" } : Jvm.MethodName)) ∈ lw_all := lw_g (lw_at lw_m4 47 rfl) rfl
theorem q892 : (Jvm.Cond.code ({ cls := "HeldTongue$Gather", name := "kind", desc := "(II)I" } : Jvm.MethodName) prog_8_method_4_code (3 : Nat) (Option.some Jvm.ClassFile.FieldType.int)) ∈ lw_all := lw_g (lw_at lw_m4 48 rfl) rfl
theorem q908 : (Jvm.Cond.selects "HeldTongue$Gather" ({ cls := "HeldTongue$Sense", name := "sort", desc := "()I" } : Jvm.MethodName) ({ cls := "HeldTongue$Gather", name := "sort", desc := "()I" } : Jvm.MethodName)) ∈ lw_all := lw_g (lw_at lw_m4 64 rfl) rfl
theorem q909 : (Jvm.Cond.instanceMethod ({ cls := "HeldTongue$Gather", name := "sort", desc := "()I" } : Jvm.MethodName)) ∈ lw_all := lw_g (lw_at lw_m4 65 rfl) rfl
theorem q910 : (Jvm.Cond.code ({ cls := "HeldTongue$Gather", name := "sort", desc := "()I" } : Jvm.MethodName) prog_8_method_5_code (1 : Nat) (Option.some Jvm.ClassFile.FieldType.int)) ∈ lw_all := lw_g (lw_at lw_m4 66 rfl) rfl
theorem q1056 : (Jvm.Cond.selects "HeldTongue$Gather" ({ cls := "HeldTongue$Sense", name := "part", desc := "(II)I" } : Jvm.MethodName) ({ cls := "HeldTongue$Sense", name := "part", desc := "(II)I" } : Jvm.MethodName)) ∈ lw_all := lw_g (lw_at lw_m4 212 rfl) rfl
theorem q1950 : (Jvm.Cond.castable "HeldTongue$Gather" "HeldTongue$Sense") ∈ lw_tbl := lw_at lw_m8 146 rfl
theorem in_X10 : ∀ w ∈ wsX100, w ∈ lw_all := lw_in wsX100 [637, 638, 639, 640, 635] (by decide +kernel) (by decide +kernel)

/-! HeldTongue$Cross -/
set_option maxRecDepth 100000
def RX11 : String := "HeldTongue$Cross"
def TX11 : u_T := fun k => match k with
  | 0 => ("HeldTongue$Sense", "number", "I", true)
  | 1 => ("HeldTongue$Sense", "word", "I", true)
  | 2 => ("HeldTongue$Sense", "makes", "I", true)
  | 3 => ("HeldTongue$Sense", "mark", "I", true)
  | 4 => ("HeldTongue$Cross", "a", "I", true)
  | _ => ("HeldTongue$Cross", "b", "I", true)
def tyX11 : Nat → FieldType := fun k => match k with
  | 0 => .int
  | 1 => .int
  | 2 => .int
  | 3 => .int
  | 4 => .int
  | _ => .int
abbrev wsX110 : List Cond := u_ws RX11 TX11 6
theorem nmX11 : ∀ a, a < 6 → ∀ b, b < 6 → a ≠ b → (TX11 a).2.1 ≠ (TX11 b).2.1 := by decide +kernel
theorem tyX11_ok : ∀ k, k < 6 → parseFieldDescriptor (TX11 k).2.2.1 = some (tyX11 k) := by decide +kernel
abbrev cX11_init : ByteArray := prog_7_method_1_code
def yX11_init : MethodName := ⟨RX11, "<init>", "(IIIIII)V"⟩
def dkwX11_init_0 : List UInt8 := [42, 27, 28, 29, 21, 4, 183, 0, 3, 42, 21, 5, 181, 0, 9, 42, 21, 6, 181, 0, 15, 177]
abbrev dktX11_init_0 : List UInt8 := dkwX11_init_0 ++ []
theorem dksX11_init_0 : cX11_init.data.toList.drop 0 = dktX11_init_0 := by decide +kernel
theorem dX11_init_0 : decode cX11_init 0 = .ok (.aload_n 0, 1) := dk_42 (dk_at dksX11_init_0 0 rfl rfl)
theorem dX11_init_1 : decode cX11_init 1 = .ok (.iload_n 1, 1) := dk_27 (dk_at dksX11_init_0 1 rfl rfl)
theorem dX11_init_2 : decode cX11_init 2 = .ok (.iload_n 2, 1) := dk_28 (dk_at dksX11_init_0 2 rfl rfl)
theorem dX11_init_3 : decode cX11_init 3 = .ok (.iload_n 3, 1) := dk_29 (dk_at dksX11_init_0 3 rfl rfl)
theorem dX11_init_4 : decode cX11_init 4 = .ok (.iload 4, 2) := dk_21 4 (dk_at dksX11_init_0 4 rfl rfl)
theorem dX11_init_6 : decode cX11_init 6 = .ok (.invokespecial 3, 3) := dk_183 0 3 (dk_at dksX11_init_0 6 rfl rfl)
theorem dX11_init_9 : decode cX11_init 9 = .ok (.aload_n 0, 1) := dk_42 (dk_at dksX11_init_0 9 rfl rfl)
theorem dX11_init_10 : decode cX11_init 10 = .ok (.iload 5, 2) := dk_21 5 (dk_at dksX11_init_0 10 rfl rfl)
theorem dX11_init_12 : decode cX11_init 12 = .ok (.putfield 9, 3) := dk_181 0 9 (dk_at dksX11_init_0 12 rfl rfl)
theorem dX11_init_15 : decode cX11_init 15 = .ok (.aload_n 0, 1) := dk_42 (dk_at dksX11_init_0 15 rfl rfl)
theorem dX11_init_16 : decode cX11_init 16 = .ok (.iload 6, 2) := dk_21 6 (dk_at dksX11_init_0 16 rfl rfl)
theorem dX11_init_18 : decode cX11_init 18 = .ok (.putfield 15, 3) := dk_181 0 15 (dk_at dksX11_init_0 18 rfl rfl)
theorem dX11_init_21 : decode cX11_init 21 = .ok (.return_, 1) := dk_177 (dk_at dksX11_init_0 21 rfl rfl)
abbrev cX11_most : ByteArray := prog_7_method_2_code
def yX11_most : MethodName := ⟨RX11, "most", "()I"⟩
theorem dX11_most_0 : decode cX11_most 0 = .ok (.iconst 3, 1) := by decide +kernel
theorem dX11_most_1 : decode cX11_most 1 = .ok (.ireturn, 1) := by decide +kernel
abbrev cX11_takes : ByteArray := prog_7_method_3_code
def yX11_takes : MethodName := ⟨RX11, "takes", "(I)I"⟩
def dkwX11_takes_0 : List UInt8 := [5, 27, 104, 172]
abbrev dktX11_takes_0 : List UInt8 := dkwX11_takes_0 ++ []
theorem dksX11_takes_0 : cX11_takes.data.toList.drop 0 = dktX11_takes_0 := by decide +kernel
theorem dX11_takes_0 : decode cX11_takes 0 = .ok (.iconst 2, 1) := dk_5 (dk_at dksX11_takes_0 0 rfl rfl)
theorem dX11_takes_1 : decode cX11_takes 1 = .ok (.iload_n 1, 1) := dk_27 (dk_at dksX11_takes_0 1 rfl rfl)
theorem dX11_takes_2 : decode cX11_takes 2 = .ok (.imul, 1) := dk_104 (dk_at dksX11_takes_0 2 rfl rfl)
theorem dX11_takes_3 : decode cX11_takes 3 = .ok (.ireturn, 1) := dk_172 (dk_at dksX11_takes_0 3 rfl rfl)
abbrev cX11_kind : ByteArray := prog_7_method_4_code
def yX11_kind : MethodName := ⟨RX11, "kind", "(II)I"⟩
def dkwX11_kind_0 : List UInt8 := [28, 27, 162, 0, 10, 42, 180, 0, 9, 167, 0, 7, 42, 180, 0, 15, 172]
abbrev dktX11_kind_0 : List UInt8 := dkwX11_kind_0 ++ []
theorem dksX11_kind_0 : cX11_kind.data.toList.drop 0 = dktX11_kind_0 := by decide +kernel
theorem dX11_kind_0 : decode cX11_kind 0 = .ok (.iload_n 2, 1) := dk_28 (dk_at dksX11_kind_0 0 rfl rfl)
theorem dX11_kind_1 : decode cX11_kind 1 = .ok (.iload_n 1, 1) := dk_27 (dk_at dksX11_kind_0 1 rfl rfl)
theorem dX11_kind_2 : decode cX11_kind 2 = .ok (.if_icmp .ge 10, 3) := dk_162 0 10 (dk_at dksX11_kind_0 2 rfl rfl)
theorem dX11_kind_5 : decode cX11_kind 5 = .ok (.aload_n 0, 1) := dk_42 (dk_at dksX11_kind_0 5 rfl rfl)
theorem dX11_kind_6 : decode cX11_kind 6 = .ok (.getfield 9, 3) := dk_180 0 9 (dk_at dksX11_kind_0 6 rfl rfl)
theorem dX11_kind_9 : decode cX11_kind 9 = .ok (.goto 7, 3) := dk_167 0 7 (dk_at dksX11_kind_0 9 rfl rfl)
theorem dX11_kind_12 : decode cX11_kind 12 = .ok (.aload_n 0, 1) := dk_42 (dk_at dksX11_kind_0 12 rfl rfl)
theorem dX11_kind_13 : decode cX11_kind 13 = .ok (.getfield 15, 3) := dk_180 0 15 (dk_at dksX11_kind_0 13 rfl rfl)
theorem dX11_kind_16 : decode cX11_kind 16 = .ok (.ireturn, 1) := dk_172 (dk_at dksX11_kind_0 16 rfl rfl)
abbrev cX11_sort : ByteArray := prog_7_method_5_code
def yX11_sort : MethodName := ⟨RX11, "sort", "()I"⟩
theorem dX11_sort_0 : decode cX11_sort 0 = .ok (.iconst 3, 1) := by decide +kernel
theorem dX11_sort_1 : decode cX11_sort 1 = .ok (.ireturn, 1) := by decide +kernel
abbrev cX11_part : ByteArray := prog_7_method_6_code
def yX11_part : MethodName := ⟨RX11, "part", "(II)I"⟩
def dkwX11_part_0 : List UInt8 := [28, 5, 112, 154, 0, 9, 28, 5, 108, 167, 0, 12, 5, 27, 104, 4, 100, 28, 5, 108, 100, 172]
abbrev dktX11_part_0 : List UInt8 := dkwX11_part_0 ++ []
theorem dksX11_part_0 : cX11_part.data.toList.drop 0 = dktX11_part_0 := by decide +kernel
theorem dX11_part_0 : decode cX11_part 0 = .ok (.iload_n 2, 1) := dk_28 (dk_at dksX11_part_0 0 rfl rfl)
theorem dX11_part_1 : decode cX11_part 1 = .ok (.iconst 2, 1) := dk_5 (dk_at dksX11_part_0 1 rfl rfl)
theorem dX11_part_2 : decode cX11_part 2 = .ok (.irem, 1) := dk_112 (dk_at dksX11_part_0 2 rfl rfl)
theorem dX11_part_3 : decode cX11_part 3 = .ok (.ifCond .ne 9, 3) := dk_154 0 9 (dk_at dksX11_part_0 3 rfl rfl)
theorem dX11_part_6 : decode cX11_part 6 = .ok (.iload_n 2, 1) := dk_28 (dk_at dksX11_part_0 6 rfl rfl)
theorem dX11_part_7 : decode cX11_part 7 = .ok (.iconst 2, 1) := dk_5 (dk_at dksX11_part_0 7 rfl rfl)
theorem dX11_part_8 : decode cX11_part 8 = .ok (.idiv, 1) := dk_108 (dk_at dksX11_part_0 8 rfl rfl)
theorem dX11_part_9 : decode cX11_part 9 = .ok (.goto 12, 3) := dk_167 0 12 (dk_at dksX11_part_0 9 rfl rfl)
theorem dX11_part_12 : decode cX11_part 12 = .ok (.iconst 2, 1) := dk_5 (dk_at dksX11_part_0 12 rfl rfl)
theorem dX11_part_13 : decode cX11_part 13 = .ok (.iload_n 1, 1) := dk_27 (dk_at dksX11_part_0 13 rfl rfl)
theorem dX11_part_14 : decode cX11_part 14 = .ok (.imul, 1) := dk_104 (dk_at dksX11_part_0 14 rfl rfl)
theorem dX11_part_15 : decode cX11_part 15 = .ok (.iconst 1, 1) := dk_4 (dk_at dksX11_part_0 15 rfl rfl)
theorem dX11_part_16 : decode cX11_part 16 = .ok (.isub, 1) := dk_100 (dk_at dksX11_part_0 16 rfl rfl)
theorem dX11_part_17 : decode cX11_part 17 = .ok (.iload_n 2, 1) := dk_28 (dk_at dksX11_part_0 17 rfl rfl)
theorem dX11_part_18 : decode cX11_part 18 = .ok (.iconst 2, 1) := dk_5 (dk_at dksX11_part_0 18 rfl rfl)
theorem dX11_part_19 : decode cX11_part 19 = .ok (.idiv, 1) := dk_108 (dk_at dksX11_part_0 19 rfl rfl)
theorem dX11_part_20 : decode cX11_part 20 = .ok (.isub, 1) := dk_100 (dk_at dksX11_part_0 20 rfl rfl)
theorem dX11_part_21 : decode cX11_part 21 = .ok (.ireturn, 1) := dk_172 (dk_at dksX11_part_0 21 rfl rfl)
theorem q144 : (Jvm.Cond.initialized "HeldTongue$Cross") ∈ lw_all := lw_g (lw_at lw_m1 20 rfl) rfl
theorem q643 : (Jvm.Cond.instantiable "HeldTongue$Cross" (6 : Nat)) ∈ lw_all := lw_g (lw_at lw_m3 39 rfl) rfl
theorem q645 : (Jvm.Cond.instanceMethod ({ cls := "HeldTongue$Cross", name := "<init>", desc := "(IIIIII)V" } : Jvm.MethodName)) ∈ lw_all := lw_g (lw_at lw_m3 41 rfl) rfl
theorem q646 : (Jvm.Cond.code ({ cls := "HeldTongue$Cross", name := "<init>", desc := "(IIIIII)V" } : Jvm.MethodName) prog_7_method_1_code (7 : Nat) (Option.none : Option Jvm.ClassFile.FieldType)) ∈ lw_all := lw_g (lw_at lw_m3 42 rfl) rfl
theorem q647 : (Jvm.Cond.methodLink "HeldTongue$Cross" (3 : Nat) ({ cls := "HeldTongue$Sense", name := "<init>", desc := "(IIII)V" } : Jvm.MethodName)) ∈ lw_all := lw_g (lw_at lw_m3 43 rfl) rfl
theorem q648 : (Jvm.Cond.fieldLink "HeldTongue$Cross" (9 : Nat) "HeldTongue$Cross" "a" "I") ∈ lw_all := lw_g (lw_at lw_m3 44 rfl) rfl
theorem q649 : (Jvm.Cond.fieldLink "HeldTongue$Cross" (15 : Nat) "HeldTongue$Cross" "b" "I") ∈ lw_all := lw_g (lw_at lw_m3 45 rfl) rfl
theorem q650 : (Jvm.Cond.laysFinal "HeldTongue$Cross" "HeldTongue$Cross" "a" "I") ∈ lw_all := lw_g (lw_at lw_m3 46 rfl) rfl
theorem q651 : (Jvm.Cond.soleField "HeldTongue$Cross" "a") ∈ lw_all := lw_g (lw_at lw_m3 47 rfl) rfl
theorem q652 : (Jvm.Cond.laysFinal "HeldTongue$Cross" "HeldTongue$Cross" "b" "I") ∈ lw_all := lw_g (lw_at lw_m3 48 rfl) rfl
theorem q653 : (Jvm.Cond.soleField "HeldTongue$Cross" "b") ∈ lw_all := lw_g (lw_at lw_m3 49 rfl) rfl
theorem q654 : (Jvm.Cond.laysFinal "HeldTongue$Cross" "HeldTongue$Sense" "number" "I") ∈ lw_all := lw_g (lw_at lw_m3 50 rfl) rfl
theorem q655 : (Jvm.Cond.laysFinal "HeldTongue$Cross" "HeldTongue$Sense" "word" "I") ∈ lw_all := lw_g (lw_at lw_m3 51 rfl) rfl
theorem q656 : (Jvm.Cond.laysFinal "HeldTongue$Cross" "HeldTongue$Sense" "makes" "I") ∈ lw_all := lw_g (lw_at lw_m3 52 rfl) rfl
theorem q657 : (Jvm.Cond.laysFinal "HeldTongue$Cross" "HeldTongue$Sense" "mark" "I") ∈ lw_all := lw_g (lw_at lw_m3 53 rfl) rfl
theorem q658 : (Jvm.Cond.superclass "HeldTongue$Cross" "HeldTongue$Sense") ∈ lw_all := lw_g (lw_at lw_m3 54 rfl) rfl
theorem q840 : (Jvm.Cond.selects "HeldTongue$Cross" ({ cls := "HeldTongue$Sense", name := "most", desc := "()I" } : Jvm.MethodName) ({ cls := "HeldTongue$Cross", name := "most", desc := "()I" } : Jvm.MethodName)) ∈ lw_all := lw_g (lw_at lw_m3 236 rfl) rfl
theorem q841 : (Jvm.Cond.instanceMethod ({ cls := "HeldTongue$Cross", name := "most", desc := "()I" } : Jvm.MethodName)) ∈ lw_all := lw_g (lw_at lw_m3 237 rfl) rfl
theorem q842 : (Jvm.Cond.code ({ cls := "HeldTongue$Cross", name := "most", desc := "()I" } : Jvm.MethodName) prog_7_method_2_code (1 : Nat) (Option.some Jvm.ClassFile.FieldType.int)) ∈ lw_all := lw_g (lw_at lw_m3 238 rfl) rfl
theorem q865 : (Jvm.Cond.selects "HeldTongue$Cross" ({ cls := "HeldTongue$Sense", name := "takes", desc := "(I)I" } : Jvm.MethodName) ({ cls := "HeldTongue$Cross", name := "takes", desc := "(I)I" } : Jvm.MethodName)) ∈ lw_all := lw_g (lw_at lw_m4 21 rfl) rfl
theorem q866 : (Jvm.Cond.instanceMethod ({ cls := "HeldTongue$Cross", name := "takes", desc := "(I)I" } : Jvm.MethodName)) ∈ lw_all := lw_g (lw_at lw_m4 22 rfl) rfl
theorem q867 : (Jvm.Cond.code ({ cls := "HeldTongue$Cross", name := "takes", desc := "(I)I" } : Jvm.MethodName) prog_7_method_3_code (2 : Nat) (Option.some Jvm.ClassFile.FieldType.int)) ∈ lw_all := lw_g (lw_at lw_m4 23 rfl) rfl
theorem q887 : (Jvm.Cond.selects "HeldTongue$Cross" ({ cls := "HeldTongue$Sense", name := "kind", desc := "(II)I" } : Jvm.MethodName) ({ cls := "HeldTongue$Cross", name := "kind", desc := "(II)I" } : Jvm.MethodName)) ∈ lw_all := lw_g (lw_at lw_m4 43 rfl) rfl
theorem q888 : (Jvm.Cond.instanceMethod ({ cls := "HeldTongue$Cross", name := "kind", desc := "(II)I" } : Jvm.MethodName)) ∈ lw_all := lw_g (lw_at lw_m4 44 rfl) rfl
theorem q889 : (Jvm.Cond.code ({ cls := "HeldTongue$Cross", name := "kind", desc := "(II)I" } : Jvm.MethodName) prog_7_method_4_code (3 : Nat) (Option.some Jvm.ClassFile.FieldType.int)) ∈ lw_all := lw_g (lw_at lw_m4 45 rfl) rfl
theorem q905 : (Jvm.Cond.selects "HeldTongue$Cross" ({ cls := "HeldTongue$Sense", name := "sort", desc := "()I" } : Jvm.MethodName) ({ cls := "HeldTongue$Cross", name := "sort", desc := "()I" } : Jvm.MethodName)) ∈ lw_all := lw_g (lw_at lw_m4 61 rfl) rfl
theorem q906 : (Jvm.Cond.instanceMethod ({ cls := "HeldTongue$Cross", name := "sort", desc := "()I" } : Jvm.MethodName)) ∈ lw_all := lw_g (lw_at lw_m4 62 rfl) rfl
theorem q907 : (Jvm.Cond.code ({ cls := "HeldTongue$Cross", name := "sort", desc := "()I" } : Jvm.MethodName) prog_7_method_5_code (1 : Nat) (Option.some Jvm.ClassFile.FieldType.int)) ∈ lw_all := lw_g (lw_at lw_m4 63 rfl) rfl
theorem q1053 : (Jvm.Cond.selects "HeldTongue$Cross" ({ cls := "HeldTongue$Sense", name := "part", desc := "(II)I" } : Jvm.MethodName) ({ cls := "HeldTongue$Cross", name := "part", desc := "(II)I" } : Jvm.MethodName)) ∈ lw_all := lw_g (lw_at lw_m4 209 rfl) rfl
theorem q1054 : (Jvm.Cond.instanceMethod ({ cls := "HeldTongue$Cross", name := "part", desc := "(II)I" } : Jvm.MethodName)) ∈ lw_all := lw_g (lw_at lw_m4 210 rfl) rfl
theorem q1055 : (Jvm.Cond.code ({ cls := "HeldTongue$Cross", name := "part", desc := "(II)I" } : Jvm.MethodName) prog_7_method_6_code (3 : Nat) (Option.some Jvm.ClassFile.FieldType.int)) ∈ lw_all := lw_g (lw_at lw_m4 211 rfl) rfl
theorem q1951 : (Jvm.Cond.castable "HeldTongue$Cross" "HeldTongue$Sense") ∈ lw_tbl := lw_at lw_m8 147 rfl
theorem in_X11 : ∀ w ∈ wsX110, w ∈ lw_all := lw_in wsX110 [654, 655, 656, 657, 650, 652] (by decide +kernel) (by decide +kernel)

/-! HeldTongue$Change -/
set_option maxRecDepth 100000
def RX12 : String := "HeldTongue$Change"
def TX12 : u_T := fun k => match k with
  | 0 => ("HeldTongue$Sense", "number", "I", true)
  | 1 => ("HeldTongue$Sense", "word", "I", true)
  | 2 => ("HeldTongue$Sense", "makes", "I", true)
  | 3 => ("HeldTongue$Sense", "mark", "I", true)
  | _ => ("HeldTongue$Change", "a", "I", true)
def tyX12 : Nat → FieldType := fun k => match k with
  | 0 => .int
  | 1 => .int
  | 2 => .int
  | 3 => .int
  | _ => .int
abbrev wsX120 : List Cond := u_ws RX12 TX12 5
theorem nmX12 : ∀ a, a < 5 → ∀ b, b < 5 → a ≠ b → (TX12 a).2.1 ≠ (TX12 b).2.1 := by decide +kernel
theorem tyX12_ok : ∀ k, k < 5 → parseFieldDescriptor (TX12 k).2.2.1 = some (tyX12 k) := by decide +kernel
abbrev cX12_init : ByteArray := prog_4_method_1_code
def yX12_init : MethodName := ⟨RX12, "<init>", "(IIII)V"⟩
def dkwX12_init_0 : List UInt8 := [42, 27, 28, 29, 2, 183, 0, 3, 42, 21, 4, 181, 0, 9, 177]
abbrev dktX12_init_0 : List UInt8 := dkwX12_init_0 ++ []
theorem dksX12_init_0 : cX12_init.data.toList.drop 0 = dktX12_init_0 := by decide +kernel
theorem dX12_init_0 : decode cX12_init 0 = .ok (.aload_n 0, 1) := dk_42 (dk_at dksX12_init_0 0 rfl rfl)
theorem dX12_init_1 : decode cX12_init 1 = .ok (.iload_n 1, 1) := dk_27 (dk_at dksX12_init_0 1 rfl rfl)
theorem dX12_init_2 : decode cX12_init 2 = .ok (.iload_n 2, 1) := dk_28 (dk_at dksX12_init_0 2 rfl rfl)
theorem dX12_init_3 : decode cX12_init 3 = .ok (.iload_n 3, 1) := dk_29 (dk_at dksX12_init_0 3 rfl rfl)
theorem dX12_init_4 : decode cX12_init 4 = .ok (.iconst (-1), 1) := dk_2 (dk_at dksX12_init_0 4 rfl rfl)
theorem dX12_init_5 : decode cX12_init 5 = .ok (.invokespecial 3, 3) := dk_183 0 3 (dk_at dksX12_init_0 5 rfl rfl)
theorem dX12_init_8 : decode cX12_init 8 = .ok (.aload_n 0, 1) := dk_42 (dk_at dksX12_init_0 8 rfl rfl)
theorem dX12_init_9 : decode cX12_init 9 = .ok (.iload 4, 2) := dk_21 4 (dk_at dksX12_init_0 9 rfl rfl)
theorem dX12_init_11 : decode cX12_init 11 = .ok (.putfield 9, 3) := dk_181 0 9 (dk_at dksX12_init_0 11 rfl rfl)
theorem dX12_init_14 : decode cX12_init 14 = .ok (.return_, 1) := dk_177 (dk_at dksX12_init_0 14 rfl rfl)
abbrev cX12_takes : ByteArray := prog_4_method_2_code
def yX12_takes : MethodName := ⟨RX12, "takes", "(I)I"⟩
theorem dX12_takes_0 : decode cX12_takes 0 = .ok (.iconst 1, 1) := by decide +kernel
theorem dX12_takes_1 : decode cX12_takes 1 = .ok (.ireturn, 1) := by decide +kernel
abbrev cX12_kind : ByteArray := prog_4_method_3_code
def yX12_kind : MethodName := ⟨RX12, "kind", "(II)I"⟩
theorem dX12_kind_0 : decode cX12_kind 0 = .ok (.aload_n 0, 1) := by decide +kernel
theorem dX12_kind_1 : decode cX12_kind 1 = .ok (.getfield 9, 3) := by decide +kernel
theorem dX12_kind_4 : decode cX12_kind 4 = .ok (.ireturn, 1) := by decide +kernel
abbrev cX12_sort : ByteArray := prog_4_method_4_code
def yX12_sort : MethodName := ⟨RX12, "sort", "()I"⟩
theorem dX12_sort_0 : decode cX12_sort 0 = .ok (.iconst (-1), 1) := by decide +kernel
theorem dX12_sort_1 : decode cX12_sort 1 = .ok (.ireturn, 1) := by decide +kernel
theorem q145 : (Jvm.Cond.initialized "HeldTongue$Change") ∈ lw_all := lw_g (lw_at lw_m1 21 rfl) rfl
theorem q660 : (Jvm.Cond.instantiable "HeldTongue$Change" (5 : Nat)) ∈ lw_all := lw_g (lw_at lw_m3 56 rfl) rfl
theorem q662 : (Jvm.Cond.instanceMethod ({ cls := "HeldTongue$Change", name := "<init>", desc := "(IIII)V" } : Jvm.MethodName)) ∈ lw_all := lw_g (lw_at lw_m3 58 rfl) rfl
theorem q663 : (Jvm.Cond.code ({ cls := "HeldTongue$Change", name := "<init>", desc := "(IIII)V" } : Jvm.MethodName) prog_4_method_1_code (5 : Nat) (Option.none : Option Jvm.ClassFile.FieldType)) ∈ lw_all := lw_g (lw_at lw_m3 59 rfl) rfl
theorem q664 : (Jvm.Cond.methodLink "HeldTongue$Change" (3 : Nat) ({ cls := "HeldTongue$Sense", name := "<init>", desc := "(IIII)V" } : Jvm.MethodName)) ∈ lw_all := lw_g (lw_at lw_m3 60 rfl) rfl
theorem q665 : (Jvm.Cond.fieldLink "HeldTongue$Change" (9 : Nat) "HeldTongue$Change" "a" "I") ∈ lw_all := lw_g (lw_at lw_m3 61 rfl) rfl
theorem q666 : (Jvm.Cond.laysFinal "HeldTongue$Change" "HeldTongue$Change" "a" "I") ∈ lw_all := lw_g (lw_at lw_m3 62 rfl) rfl
theorem q667 : (Jvm.Cond.soleField "HeldTongue$Change" "a") ∈ lw_all := lw_g (lw_at lw_m3 63 rfl) rfl
theorem q668 : (Jvm.Cond.laysFinal "HeldTongue$Change" "HeldTongue$Sense" "number" "I") ∈ lw_all := lw_g (lw_at lw_m3 64 rfl) rfl
theorem q669 : (Jvm.Cond.laysFinal "HeldTongue$Change" "HeldTongue$Sense" "word" "I") ∈ lw_all := lw_g (lw_at lw_m3 65 rfl) rfl
theorem q670 : (Jvm.Cond.laysFinal "HeldTongue$Change" "HeldTongue$Sense" "makes" "I") ∈ lw_all := lw_g (lw_at lw_m3 66 rfl) rfl
theorem q671 : (Jvm.Cond.laysFinal "HeldTongue$Change" "HeldTongue$Sense" "mark" "I") ∈ lw_all := lw_g (lw_at lw_m3 67 rfl) rfl
theorem q672 : (Jvm.Cond.superclass "HeldTongue$Change" "HeldTongue$Sense") ∈ lw_all := lw_g (lw_at lw_m3 68 rfl) rfl
theorem q839 : (Jvm.Cond.selects "HeldTongue$Change" ({ cls := "HeldTongue$Sense", name := "most", desc := "()I" } : Jvm.MethodName) ({ cls := "HeldTongue$Sense", name := "most", desc := "()I" } : Jvm.MethodName)) ∈ lw_all := lw_g (lw_at lw_m3 235 rfl) rfl
theorem q862 : (Jvm.Cond.selects "HeldTongue$Change" ({ cls := "HeldTongue$Sense", name := "takes", desc := "(I)I" } : Jvm.MethodName) ({ cls := "HeldTongue$Change", name := "takes", desc := "(I)I" } : Jvm.MethodName)) ∈ lw_all := lw_g (lw_at lw_m4 18 rfl) rfl
theorem q863 : (Jvm.Cond.instanceMethod ({ cls := "HeldTongue$Change", name := "takes", desc := "(I)I" } : Jvm.MethodName)) ∈ lw_all := lw_g (lw_at lw_m4 19 rfl) rfl
theorem q864 : (Jvm.Cond.code ({ cls := "HeldTongue$Change", name := "takes", desc := "(I)I" } : Jvm.MethodName) prog_4_method_2_code (2 : Nat) (Option.some Jvm.ClassFile.FieldType.int)) ∈ lw_all := lw_g (lw_at lw_m4 20 rfl) rfl
theorem q884 : (Jvm.Cond.selects "HeldTongue$Change" ({ cls := "HeldTongue$Sense", name := "kind", desc := "(II)I" } : Jvm.MethodName) ({ cls := "HeldTongue$Change", name := "kind", desc := "(II)I" } : Jvm.MethodName)) ∈ lw_all := lw_g (lw_at lw_m4 40 rfl) rfl
theorem q885 : (Jvm.Cond.instanceMethod ({ cls := "HeldTongue$Change", name := "kind", desc := "(II)I" } : Jvm.MethodName)) ∈ lw_all := lw_g (lw_at lw_m4 41 rfl) rfl
theorem q886 : (Jvm.Cond.code ({ cls := "HeldTongue$Change", name := "kind", desc := "(II)I" } : Jvm.MethodName) prog_4_method_3_code (3 : Nat) (Option.some Jvm.ClassFile.FieldType.int)) ∈ lw_all := lw_g (lw_at lw_m4 42 rfl) rfl
theorem q902 : (Jvm.Cond.selects "HeldTongue$Change" ({ cls := "HeldTongue$Sense", name := "sort", desc := "()I" } : Jvm.MethodName) ({ cls := "HeldTongue$Change", name := "sort", desc := "()I" } : Jvm.MethodName)) ∈ lw_all := lw_g (lw_at lw_m4 58 rfl) rfl
theorem q903 : (Jvm.Cond.instanceMethod ({ cls := "HeldTongue$Change", name := "sort", desc := "()I" } : Jvm.MethodName)) ∈ lw_all := lw_g (lw_at lw_m4 59 rfl) rfl
theorem q904 : (Jvm.Cond.code ({ cls := "HeldTongue$Change", name := "sort", desc := "()I" } : Jvm.MethodName) prog_4_method_4_code (1 : Nat) (Option.some Jvm.ClassFile.FieldType.int)) ∈ lw_all := lw_g (lw_at lw_m4 60 rfl) rfl
theorem q1052 : (Jvm.Cond.selects "HeldTongue$Change" ({ cls := "HeldTongue$Sense", name := "part", desc := "(II)I" } : Jvm.MethodName) ({ cls := "HeldTongue$Sense", name := "part", desc := "(II)I" } : Jvm.MethodName)) ∈ lw_all := lw_g (lw_at lw_m4 208 rfl) rfl
theorem q1952 : (Jvm.Cond.castable "HeldTongue$Change" "HeldTongue$Sense") ∈ lw_tbl := lw_at lw_m8 148 rfl
theorem in_X12 : ∀ w ∈ wsX120, w ∈ lw_all := lw_in wsX120 [668, 669, 670, 671, 666] (by decide +kernel) (by decide +kernel)

/-! HeldTongue$Word -/
set_option maxRecDepth 100000
def RX13 : String := "HeldTongue$Word"
def TX13 : u_T := fun k => match k with
  | _ => ("HeldTongue$Word", "word", "I", true)
def tyX13 : Nat → FieldType := fun k => match k with
  | _ => .int
abbrev wsX130 : List Cond := u_ws RX13 TX13 1
theorem nmX13 : ∀ a, a < 1 → ∀ b, b < 1 → a ≠ b → (TX13 a).2.1 ≠ (TX13 b).2.1 := by decide +kernel
theorem tyX13_ok : ∀ k, k < 1 → parseFieldDescriptor (TX13 k).2.2.1 = some (tyX13 k) := by decide +kernel
abbrev cX13_init : ByteArray := prog_20_method_1_code
def yX13_init : MethodName := ⟨RX13, "<init>", "(I)V"⟩
def dkwX13_init_0 : List UInt8 := [42, 183, 0, 1, 42, 27, 181, 0, 7, 177]
abbrev dktX13_init_0 : List UInt8 := dkwX13_init_0 ++ []
theorem dksX13_init_0 : cX13_init.data.toList.drop 0 = dktX13_init_0 := by decide +kernel
theorem dX13_init_0 : decode cX13_init 0 = .ok (.aload_n 0, 1) := dk_42 (dk_at dksX13_init_0 0 rfl rfl)
theorem dX13_init_1 : decode cX13_init 1 = .ok (.invokespecial 1, 3) := dk_183 0 1 (dk_at dksX13_init_0 1 rfl rfl)
theorem dX13_init_4 : decode cX13_init 4 = .ok (.aload_n 0, 1) := dk_42 (dk_at dksX13_init_0 4 rfl rfl)
theorem dX13_init_5 : decode cX13_init 5 = .ok (.iload_n 1, 1) := dk_27 (dk_at dksX13_init_0 5 rfl rfl)
theorem dX13_init_6 : decode cX13_init 6 = .ok (.putfield 7, 3) := dk_181 0 7 (dk_at dksX13_init_0 6 rfl rfl)
theorem dX13_init_9 : decode cX13_init 9 = .ok (.return_, 1) := dk_177 (dk_at dksX13_init_0 9 rfl rfl)
abbrev cX13_of : ByteArray := prog_20_method_2_code
def yX13_of : MethodName := ⟨RX13, "of", "(LHeldTongue$View;)J"⟩
def dkwX13_of_0 : List UInt8 := [43, 42, 180, 0, 7, 182, 0, 13, 133, 173]
abbrev dktX13_of_0 : List UInt8 := dkwX13_of_0 ++ []
theorem dksX13_of_0 : cX13_of.data.toList.drop 0 = dktX13_of_0 := by decide +kernel
theorem dX13_of_0 : decode cX13_of 0 = .ok (.aload_n 1, 1) := dk_43 (dk_at dksX13_of_0 0 rfl rfl)
theorem dX13_of_1 : decode cX13_of 1 = .ok (.aload_n 0, 1) := dk_42 (dk_at dksX13_of_0 1 rfl rfl)
theorem dX13_of_2 : decode cX13_of 2 = .ok (.getfield 7, 3) := dk_180 0 7 (dk_at dksX13_of_0 2 rfl rfl)
theorem dX13_of_5 : decode cX13_of 5 = .ok (.invokevirtual 13, 3) := dk_182 0 13 (dk_at dksX13_of_0 5 rfl rfl)
theorem dX13_of_8 : decode cX13_of 8 = .ok (.i2l, 1) := dk_133 (dk_at dksX13_of_0 8 rfl rfl)
theorem dX13_of_9 : decode cX13_of 9 = .ok (.lreturn, 1) := dk_173 (dk_at dksX13_of_0 9 rfl rfl)
theorem q147 : (Jvm.Cond.initialized "HeldTongue$Word") ∈ lw_all := lw_g (lw_at lw_m1 23 rfl) rfl
theorem q693 : (Jvm.Cond.instantiable "HeldTongue$Word" (1 : Nat)) ∈ lw_all := lw_g (lw_at lw_m3 89 rfl) rfl
theorem q695 : (Jvm.Cond.instanceMethod ({ cls := "HeldTongue$Word", name := "<init>", desc := "(I)V" } : Jvm.MethodName)) ∈ lw_all := lw_g (lw_at lw_m3 91 rfl) rfl
theorem q696 : (Jvm.Cond.code ({ cls := "HeldTongue$Word", name := "<init>", desc := "(I)V" } : Jvm.MethodName) prog_20_method_1_code (2 : Nat) (Option.none : Option Jvm.ClassFile.FieldType)) ∈ lw_all := lw_g (lw_at lw_m3 92 rfl) rfl
theorem q697 : (Jvm.Cond.methodLink "HeldTongue$Word" (1 : Nat) ({ cls := "java/lang/Object", name := "<init>", desc := "()V" } : Jvm.MethodName)) ∈ lw_all := lw_g (lw_at lw_m3 93 rfl) rfl
theorem q698 : (Jvm.Cond.fieldLink "HeldTongue$Word" (7 : Nat) "HeldTongue$Word" "word" "I") ∈ lw_all := lw_g (lw_at lw_m3 94 rfl) rfl
theorem q699 : (Jvm.Cond.laysFinal "HeldTongue$Word" "HeldTongue$Word" "word" "I") ∈ lw_all := lw_g (lw_at lw_m3 95 rfl) rfl
theorem q700 : (Jvm.Cond.soleField "HeldTongue$Word" "word") ∈ lw_all := lw_g (lw_at lw_m3 96 rfl) rfl
theorem q701 : (Jvm.Cond.superclass "HeldTongue$Word" "java/lang/Object") ∈ lw_all := lw_g (lw_at lw_m3 97 rfl) rfl
theorem q1023 : (Jvm.Cond.castable "HeldTongue$Word" "HeldTongue$Sum") ∈ lw_tbl := lw_at lw_m4 179 rfl
theorem q1024 : (Jvm.Cond.selects "HeldTongue$Word" ({ cls := "HeldTongue$Sum", name := "of", desc := "(LHeldTongue$View;)J" } : Jvm.MethodName) ({ cls := "HeldTongue$Word", name := "of", desc := "(LHeldTongue$View;)J" } : Jvm.MethodName)) ∈ lw_all := lw_g (lw_at lw_m4 180 rfl) rfl
theorem q1025 : (Jvm.Cond.unhidden "HeldTongue$Word" "of" "(LHeldTongue$View;)J") ∈ lw_tbl := lw_at lw_m4 181 rfl
theorem q1026 : (Jvm.Cond.instanceMethod ({ cls := "HeldTongue$Word", name := "of", desc := "(LHeldTongue$View;)J" } : Jvm.MethodName)) ∈ lw_all := lw_g (lw_at lw_m4 182 rfl) rfl
theorem q1027 : (Jvm.Cond.publicMethod ({ cls := "HeldTongue$Word", name := "of", desc := "(LHeldTongue$View;)J" } : Jvm.MethodName)) ∈ lw_tbl := lw_at lw_m4 183 rfl
theorem q1028 : (Jvm.Cond.code ({ cls := "HeldTongue$Word", name := "of", desc := "(LHeldTongue$View;)J" } : Jvm.MethodName) prog_20_method_2_code (2 : Nat) (Option.some Jvm.ClassFile.FieldType.long)) ∈ lw_all := lw_g (lw_at lw_m4 184 rfl) rfl
theorem q1029 : (Jvm.Cond.methodLink "HeldTongue$Word" (13 : Nat) ({ cls := "HeldTongue$View", name := "word", desc := "(I)I" } : Jvm.MethodName)) ∈ lw_all := lw_g (lw_at lw_m4 185 rfl) rfl
theorem in_X13 : ∀ w ∈ wsX130, w ∈ lw_all := lw_in wsX130 [699] (by decide +kernel) (by decide +kernel)

/-! HeldTongue$Constant -/
set_option maxRecDepth 100000
def RX14 : String := "HeldTongue$Constant"
def TX14 : u_T := fun k => match k with
  | _ => ("HeldTongue$Constant", "v", "I", true)
def tyX14 : Nat → FieldType := fun k => match k with
  | _ => .int
abbrev wsX140 : List Cond := u_ws RX14 TX14 1
theorem nmX14 : ∀ a, a < 1 → ∀ b, b < 1 → a ≠ b → (TX14 a).2.1 ≠ (TX14 b).2.1 := by decide +kernel
theorem tyX14_ok : ∀ k, k < 1 → parseFieldDescriptor (TX14 k).2.2.1 = some (tyX14 k) := by decide +kernel
abbrev cX14_init : ByteArray := prog_6_method_1_code
def yX14_init : MethodName := ⟨RX14, "<init>", "(I)V"⟩
def dkwX14_init_0 : List UInt8 := [42, 183, 0, 1, 42, 27, 181, 0, 7, 177]
abbrev dktX14_init_0 : List UInt8 := dkwX14_init_0 ++ []
theorem dksX14_init_0 : cX14_init.data.toList.drop 0 = dktX14_init_0 := by decide +kernel
theorem dX14_init_0 : decode cX14_init 0 = .ok (.aload_n 0, 1) := dk_42 (dk_at dksX14_init_0 0 rfl rfl)
theorem dX14_init_1 : decode cX14_init 1 = .ok (.invokespecial 1, 3) := dk_183 0 1 (dk_at dksX14_init_0 1 rfl rfl)
theorem dX14_init_4 : decode cX14_init 4 = .ok (.aload_n 0, 1) := dk_42 (dk_at dksX14_init_0 4 rfl rfl)
theorem dX14_init_5 : decode cX14_init 5 = .ok (.iload_n 1, 1) := dk_27 (dk_at dksX14_init_0 5 rfl rfl)
theorem dX14_init_6 : decode cX14_init 6 = .ok (.putfield 7, 3) := dk_181 0 7 (dk_at dksX14_init_0 6 rfl rfl)
theorem dX14_init_9 : decode cX14_init 9 = .ok (.return_, 1) := dk_177 (dk_at dksX14_init_0 9 rfl rfl)
abbrev cX14_of : ByteArray := prog_6_method_2_code
def yX14_of : MethodName := ⟨RX14, "of", "(LHeldTongue$View;)J"⟩
def dkwX14_of_0 : List UInt8 := [42, 180, 0, 7, 133, 173]
abbrev dktX14_of_0 : List UInt8 := dkwX14_of_0 ++ []
theorem dksX14_of_0 : cX14_of.data.toList.drop 0 = dktX14_of_0 := by decide +kernel
theorem dX14_of_0 : decode cX14_of 0 = .ok (.aload_n 0, 1) := dk_42 (dk_at dksX14_of_0 0 rfl rfl)
theorem dX14_of_1 : decode cX14_of 1 = .ok (.getfield 7, 3) := dk_180 0 7 (dk_at dksX14_of_0 1 rfl rfl)
theorem dX14_of_4 : decode cX14_of 4 = .ok (.i2l, 1) := dk_133 (dk_at dksX14_of_0 4 rfl rfl)
theorem dX14_of_5 : decode cX14_of 5 = .ok (.lreturn, 1) := dk_173 (dk_at dksX14_of_0 5 rfl rfl)
theorem q148 : (Jvm.Cond.initialized "HeldTongue$Constant") ∈ lw_all := lw_g (lw_at lw_m1 24 rfl) rfl
theorem q703 : (Jvm.Cond.instantiable "HeldTongue$Constant" (1 : Nat)) ∈ lw_all := lw_g (lw_at lw_m3 99 rfl) rfl
theorem q705 : (Jvm.Cond.instanceMethod ({ cls := "HeldTongue$Constant", name := "<init>", desc := "(I)V" } : Jvm.MethodName)) ∈ lw_all := lw_g (lw_at lw_m3 101 rfl) rfl
theorem q706 : (Jvm.Cond.code ({ cls := "HeldTongue$Constant", name := "<init>", desc := "(I)V" } : Jvm.MethodName) prog_6_method_1_code (2 : Nat) (Option.none : Option Jvm.ClassFile.FieldType)) ∈ lw_all := lw_g (lw_at lw_m3 102 rfl) rfl
theorem q707 : (Jvm.Cond.methodLink "HeldTongue$Constant" (1 : Nat) ({ cls := "java/lang/Object", name := "<init>", desc := "()V" } : Jvm.MethodName)) ∈ lw_all := lw_g (lw_at lw_m3 103 rfl) rfl
theorem q708 : (Jvm.Cond.fieldLink "HeldTongue$Constant" (7 : Nat) "HeldTongue$Constant" "v" "I") ∈ lw_all := lw_g (lw_at lw_m3 104 rfl) rfl
theorem q709 : (Jvm.Cond.laysFinal "HeldTongue$Constant" "HeldTongue$Constant" "v" "I") ∈ lw_all := lw_g (lw_at lw_m3 105 rfl) rfl
theorem q710 : (Jvm.Cond.soleField "HeldTongue$Constant" "v") ∈ lw_all := lw_g (lw_at lw_m3 106 rfl) rfl
theorem q711 : (Jvm.Cond.superclass "HeldTongue$Constant" "java/lang/Object") ∈ lw_all := lw_g (lw_at lw_m3 107 rfl) rfl
theorem q1001 : (Jvm.Cond.castable "HeldTongue$Constant" "HeldTongue$Sum") ∈ lw_tbl := lw_at lw_m4 157 rfl
theorem q1002 : (Jvm.Cond.selects "HeldTongue$Constant" ({ cls := "HeldTongue$Sum", name := "of", desc := "(LHeldTongue$View;)J" } : Jvm.MethodName) ({ cls := "HeldTongue$Constant", name := "of", desc := "(LHeldTongue$View;)J" } : Jvm.MethodName)) ∈ lw_all := lw_g (lw_at lw_m4 158 rfl) rfl
theorem q1003 : (Jvm.Cond.unhidden "HeldTongue$Constant" "of" "(LHeldTongue$View;)J") ∈ lw_tbl := lw_at lw_m4 159 rfl
theorem q1004 : (Jvm.Cond.instanceMethod ({ cls := "HeldTongue$Constant", name := "of", desc := "(LHeldTongue$View;)J" } : Jvm.MethodName)) ∈ lw_all := lw_g (lw_at lw_m4 160 rfl) rfl
theorem q1005 : (Jvm.Cond.publicMethod ({ cls := "HeldTongue$Constant", name := "of", desc := "(LHeldTongue$View;)J" } : Jvm.MethodName)) ∈ lw_tbl := lw_at lw_m4 161 rfl
theorem q1006 : (Jvm.Cond.code ({ cls := "HeldTongue$Constant", name := "of", desc := "(LHeldTongue$View;)J" } : Jvm.MethodName) prog_6_method_2_code (2 : Nat) (Option.some Jvm.ClassFile.FieldType.long)) ∈ lw_all := lw_g (lw_at lw_m4 162 rfl) rfl
theorem in_X14 : ∀ w ∈ wsX140, w ∈ lw_all := lw_in wsX140 [709] (by decide +kernel) (by decide +kernel)

/-! HeldTongue$Minus -/
set_option maxRecDepth 100000
def RX15 : String := "HeldTongue$Minus"
def TX15 : u_T := fun k => match k with
  | _ => ("HeldTongue$Minus", "a", "LHeldTongue$Sum;", true)
def tyX15 : Nat → FieldType := fun k => match k with
  | _ => .object "HeldTongue$Sum"
abbrev wsX150 : List Cond := u_ws RX15 TX15 1
theorem nmX15 : ∀ a, a < 1 → ∀ b, b < 1 → a ≠ b → (TX15 a).2.1 ≠ (TX15 b).2.1 := by decide +kernel
theorem tyX15_ok : ∀ k, k < 1 → parseFieldDescriptor (TX15 k).2.2.1 = some (tyX15 k) := by decide +kernel
abbrev cX15_init : ByteArray := prog_10_method_1_code
def yX15_init : MethodName := ⟨RX15, "<init>", "(LHeldTongue$Sum;)V"⟩
def dkwX15_init_0 : List UInt8 := [42, 183, 0, 1, 42, 43, 181, 0, 7, 177]
abbrev dktX15_init_0 : List UInt8 := dkwX15_init_0 ++ []
theorem dksX15_init_0 : cX15_init.data.toList.drop 0 = dktX15_init_0 := by decide +kernel
theorem dX15_init_0 : decode cX15_init 0 = .ok (.aload_n 0, 1) := dk_42 (dk_at dksX15_init_0 0 rfl rfl)
theorem dX15_init_1 : decode cX15_init 1 = .ok (.invokespecial 1, 3) := dk_183 0 1 (dk_at dksX15_init_0 1 rfl rfl)
theorem dX15_init_4 : decode cX15_init 4 = .ok (.aload_n 0, 1) := dk_42 (dk_at dksX15_init_0 4 rfl rfl)
theorem dX15_init_5 : decode cX15_init 5 = .ok (.aload_n 1, 1) := dk_43 (dk_at dksX15_init_0 5 rfl rfl)
theorem dX15_init_6 : decode cX15_init 6 = .ok (.putfield 7, 3) := dk_181 0 7 (dk_at dksX15_init_0 6 rfl rfl)
theorem dX15_init_9 : decode cX15_init 9 = .ok (.return_, 1) := dk_177 (dk_at dksX15_init_0 9 rfl rfl)
abbrev cX15_of : ByteArray := prog_10_method_2_code
def yX15_of : MethodName := ⟨RX15, "of", "(LHeldTongue$View;)J"⟩
def dkwX15_of_0 : List UInt8 := [42, 180, 0, 7, 43, 185, 0, 13, 2, 0, 117, 173]
abbrev dktX15_of_0 : List UInt8 := dkwX15_of_0 ++ []
theorem dksX15_of_0 : cX15_of.data.toList.drop 0 = dktX15_of_0 := by decide +kernel
theorem dX15_of_0 : decode cX15_of 0 = .ok (.aload_n 0, 1) := dk_42 (dk_at dksX15_of_0 0 rfl rfl)
theorem dX15_of_1 : decode cX15_of 1 = .ok (.getfield 7, 3) := dk_180 0 7 (dk_at dksX15_of_0 1 rfl rfl)
theorem dX15_of_4 : decode cX15_of 4 = .ok (.aload_n 1, 1) := dk_43 (dk_at dksX15_of_0 4 rfl rfl)
theorem dX15_of_5 : decode cX15_of 5 = .ok (.invokeinterface 13 2, 5) := by decide +kernel
theorem dX15_of_10 : decode cX15_of 10 = .ok (.lneg, 1) := dk_117 (dk_at dksX15_of_0 10 rfl rfl)
theorem dX15_of_11 : decode cX15_of 11 = .ok (.lreturn, 1) := dk_173 (dk_at dksX15_of_0 11 rfl rfl)
theorem q149 : (Jvm.Cond.initialized "HeldTongue$Minus") ∈ lw_all := lw_g (lw_at lw_m1 25 rfl) rfl
theorem q717 : (Jvm.Cond.instantiable "HeldTongue$Minus" (1 : Nat)) ∈ lw_all := lw_g (lw_at lw_m3 113 rfl) rfl
theorem q719 : (Jvm.Cond.instanceMethod ({ cls := "HeldTongue$Minus", name := "<init>", desc := "(LHeldTongue$Sum;)V" } : Jvm.MethodName)) ∈ lw_all := lw_g (lw_at lw_m3 115 rfl) rfl
theorem q720 : (Jvm.Cond.code ({ cls := "HeldTongue$Minus", name := "<init>", desc := "(LHeldTongue$Sum;)V" } : Jvm.MethodName) prog_10_method_1_code (2 : Nat) (Option.none : Option Jvm.ClassFile.FieldType)) ∈ lw_all := lw_g (lw_at lw_m3 116 rfl) rfl
theorem q721 : (Jvm.Cond.methodLink "HeldTongue$Minus" (1 : Nat) ({ cls := "java/lang/Object", name := "<init>", desc := "()V" } : Jvm.MethodName)) ∈ lw_all := lw_g (lw_at lw_m3 117 rfl) rfl
theorem q722 : (Jvm.Cond.fieldLink "HeldTongue$Minus" (7 : Nat) "HeldTongue$Minus" "a" "LHeldTongue$Sum;") ∈ lw_all := lw_g (lw_at lw_m3 118 rfl) rfl
theorem q723 : (Jvm.Cond.laysFinal "HeldTongue$Minus" "HeldTongue$Minus" "a" "LHeldTongue$Sum;") ∈ lw_all := lw_g (lw_at lw_m3 119 rfl) rfl
theorem q724 : (Jvm.Cond.soleField "HeldTongue$Minus" "a") ∈ lw_all := lw_g (lw_at lw_m3 120 rfl) rfl
theorem q725 : (Jvm.Cond.superclass "HeldTongue$Minus" "java/lang/Object") ∈ lw_all := lw_g (lw_at lw_m3 121 rfl) rfl
theorem q1007 : (Jvm.Cond.castable "HeldTongue$Minus" "HeldTongue$Sum") ∈ lw_tbl := lw_at lw_m4 163 rfl
theorem q1008 : (Jvm.Cond.selects "HeldTongue$Minus" ({ cls := "HeldTongue$Sum", name := "of", desc := "(LHeldTongue$View;)J" } : Jvm.MethodName) ({ cls := "HeldTongue$Minus", name := "of", desc := "(LHeldTongue$View;)J" } : Jvm.MethodName)) ∈ lw_all := lw_g (lw_at lw_m4 164 rfl) rfl
theorem q1009 : (Jvm.Cond.unhidden "HeldTongue$Minus" "of" "(LHeldTongue$View;)J") ∈ lw_tbl := lw_at lw_m4 165 rfl
theorem q1010 : (Jvm.Cond.instanceMethod ({ cls := "HeldTongue$Minus", name := "of", desc := "(LHeldTongue$View;)J" } : Jvm.MethodName)) ∈ lw_all := lw_g (lw_at lw_m4 166 rfl) rfl
theorem q1011 : (Jvm.Cond.publicMethod ({ cls := "HeldTongue$Minus", name := "of", desc := "(LHeldTongue$View;)J" } : Jvm.MethodName)) ∈ lw_tbl := lw_at lw_m4 167 rfl
theorem q1012 : (Jvm.Cond.code ({ cls := "HeldTongue$Minus", name := "of", desc := "(LHeldTongue$View;)J" } : Jvm.MethodName) prog_10_method_2_code (2 : Nat) (Option.some Jvm.ClassFile.FieldType.long)) ∈ lw_all := lw_g (lw_at lw_m4 168 rfl) rfl
theorem q1013 : (Jvm.Cond.interfaceEntry "HeldTongue$Minus" (13 : Nat)) ∈ lw_tbl := lw_at lw_m4 169 rfl
theorem q1014 : (Jvm.Cond.methodLink "HeldTongue$Minus" (13 : Nat) ({ cls := "HeldTongue$Sum", name := "of", desc := "(LHeldTongue$View;)J" } : Jvm.MethodName)) ∈ lw_all := lw_g (lw_at lw_m4 170 rfl) rfl
theorem in_X15 : ∀ w ∈ wsX150, w ∈ lw_all := lw_in wsX150 [723] (by decide +kernel) (by decide +kernel)

/-! HeldTongue$Two -/
set_option maxRecDepth 100000
def RX16 : String := "HeldTongue$Two"
def TX16 : u_T := fun k => match k with
  | 0 => ("HeldTongue$Two", "act", "I", true)
  | 1 => ("HeldTongue$Two", "a", "LHeldTongue$Sum;", true)
  | _ => ("HeldTongue$Two", "b", "LHeldTongue$Sum;", true)
def tyX16 : Nat → FieldType := fun k => match k with
  | 0 => .int
  | 1 => .object "HeldTongue$Sum"
  | _ => .object "HeldTongue$Sum"
abbrev wsX160 : List Cond := u_ws RX16 TX16 3
theorem nmX16 : ∀ a, a < 3 → ∀ b, b < 3 → a ≠ b → (TX16 a).2.1 ≠ (TX16 b).2.1 := by decide +kernel
theorem tyX16_ok : ∀ k, k < 3 → parseFieldDescriptor (TX16 k).2.2.1 = some (tyX16 k) := by decide +kernel
abbrev cX16_init : ByteArray := prog_18_method_1_code
def yX16_init : MethodName := ⟨RX16, "<init>", "(ILHeldTongue$Sum;LHeldTongue$Sum;)V"⟩
def dkwX16_init_0 : List UInt8 := [42, 183, 0, 1, 42, 27, 181, 0, 7, 42, 44, 181, 0, 13, 42, 45, 181, 0, 17, 177]
abbrev dktX16_init_0 : List UInt8 := dkwX16_init_0 ++ []
theorem dksX16_init_0 : cX16_init.data.toList.drop 0 = dktX16_init_0 := by decide +kernel
theorem dX16_init_0 : decode cX16_init 0 = .ok (.aload_n 0, 1) := dk_42 (dk_at dksX16_init_0 0 rfl rfl)
theorem dX16_init_1 : decode cX16_init 1 = .ok (.invokespecial 1, 3) := dk_183 0 1 (dk_at dksX16_init_0 1 rfl rfl)
theorem dX16_init_4 : decode cX16_init 4 = .ok (.aload_n 0, 1) := dk_42 (dk_at dksX16_init_0 4 rfl rfl)
theorem dX16_init_5 : decode cX16_init 5 = .ok (.iload_n 1, 1) := dk_27 (dk_at dksX16_init_0 5 rfl rfl)
theorem dX16_init_6 : decode cX16_init 6 = .ok (.putfield 7, 3) := dk_181 0 7 (dk_at dksX16_init_0 6 rfl rfl)
theorem dX16_init_9 : decode cX16_init 9 = .ok (.aload_n 0, 1) := dk_42 (dk_at dksX16_init_0 9 rfl rfl)
theorem dX16_init_10 : decode cX16_init 10 = .ok (.aload_n 2, 1) := dk_44 (dk_at dksX16_init_0 10 rfl rfl)
theorem dX16_init_11 : decode cX16_init 11 = .ok (.putfield 13, 3) := dk_181 0 13 (dk_at dksX16_init_0 11 rfl rfl)
theorem dX16_init_14 : decode cX16_init 14 = .ok (.aload_n 0, 1) := dk_42 (dk_at dksX16_init_0 14 rfl rfl)
theorem dX16_init_15 : decode cX16_init 15 = .ok (.aload_n 3, 1) := dk_45 (dk_at dksX16_init_0 15 rfl rfl)
theorem dX16_init_16 : decode cX16_init 16 = .ok (.putfield 17, 3) := dk_181 0 17 (dk_at dksX16_init_0 16 rfl rfl)
theorem dX16_init_19 : decode cX16_init 19 = .ok (.return_, 1) := dk_177 (dk_at dksX16_init_0 19 rfl rfl)
abbrev cX16_of : ByteArray := prog_18_method_2_code
def yX16_of : MethodName := ⟨RX16, "of", "(LHeldTongue$View;)J"⟩
def dkwX16_of_4 : List UInt8 := [182, 0, 26, 173, 22, 4, 9, 148, 154, 0, 7, 9, 167, 0, 7, 32, 22, 4, 109, 173]
abbrev dktX16_of_4 : List UInt8 := dkwX16_of_4 ++ []
def dkwX16_of_3 : List UInt8 := [42, 32, 22, 4, 97, 182, 0, 26, 173, 42, 32, 22, 4, 101, 182, 0, 26, 173, 42, 32, 22, 4, 105]
abbrev dktX16_of_3 : List UInt8 := dkwX16_of_3 ++ dktX16_of_4
def dkwX16_of_2 : List UInt8 := [170, 0, 0, 0, 56, 0, 0, 0, 42, 0, 0, 0, 45, 0, 0, 0, 47, 0, 0, 0, 29, 0, 0, 0, 56, 0, 0, 0, 38]
abbrev dktX16_of_2 : List UInt8 := dkwX16_of_2 ++ dktX16_of_3
def dkwX16_of_1 : List UInt8 := [180, 0, 7]
abbrev dktX16_of_1 : List UInt8 := dkwX16_of_1 ++ dktX16_of_2
def dkwX16_of_0 : List UInt8 := [42, 180, 0, 13, 43, 185, 0, 20, 2, 0, 65, 42, 180, 0, 17, 43, 185, 0, 20, 2, 0, 55, 4, 42]
abbrev dktX16_of_0 : List UInt8 := dkwX16_of_0 ++ dktX16_of_1
theorem dksX16_of_0 : cX16_of.data.toList.drop 0 = dktX16_of_0 := by decide +kernel
theorem dksX16_of_1 : cX16_of.data.toList.drop 24 = dktX16_of_1 := dk_seg dksX16_of_0 24 rfl rfl
theorem dksX16_of_2 : cX16_of.data.toList.drop 27 = dktX16_of_2 := dk_seg dksX16_of_1 3 rfl rfl
theorem dksX16_of_3 : cX16_of.data.toList.drop 56 = dktX16_of_3 := dk_seg dksX16_of_2 29 rfl rfl
theorem dksX16_of_4 : cX16_of.data.toList.drop 79 = dktX16_of_4 := dk_seg dksX16_of_3 23 rfl rfl
theorem dX16_of_0 : decode cX16_of 0 = .ok (.aload_n 0, 1) := dk_42 (dk_at dksX16_of_0 0 rfl rfl)
theorem dX16_of_1 : decode cX16_of 1 = .ok (.getfield 13, 3) := dk_180 0 13 (dk_at dksX16_of_0 1 rfl rfl)
theorem dX16_of_4 : decode cX16_of 4 = .ok (.aload_n 1, 1) := dk_43 (dk_at dksX16_of_0 4 rfl rfl)
theorem dX16_of_5 : decode cX16_of 5 = .ok (.invokeinterface 20 2, 5) := by decide +kernel
theorem dX16_of_10 : decode cX16_of 10 = .ok (.lstore_n 2, 1) := dk_65 (dk_at dksX16_of_0 10 rfl rfl)
theorem dX16_of_11 : decode cX16_of 11 = .ok (.aload_n 0, 1) := dk_42 (dk_at dksX16_of_0 11 rfl rfl)
theorem dX16_of_12 : decode cX16_of 12 = .ok (.getfield 17, 3) := dk_180 0 17 (dk_at dksX16_of_0 12 rfl rfl)
theorem dX16_of_15 : decode cX16_of 15 = .ok (.aload_n 1, 1) := dk_43 (dk_at dksX16_of_0 15 rfl rfl)
theorem dX16_of_16 : decode cX16_of 16 = .ok (.invokeinterface 20 2, 5) := by decide +kernel
theorem dX16_of_21 : decode cX16_of 21 = .ok (.lstore 4, 2) := dk_55 4 (dk_at dksX16_of_0 21 rfl rfl)
theorem dX16_of_23 : decode cX16_of 23 = .ok (.aload_n 0, 1) := dk_42 (dk_at dksX16_of_0 23 rfl rfl)
theorem dX16_of_24 : decode cX16_of 24 = .ok (.getfield 7, 3) := dk_180 0 7 (dk_at dksX16_of_1 0 rfl rfl)
theorem dX16_of_27 : decode cX16_of 27 = .ok (.tableswitch 56 42 45 #[47, 29, 56, 38], 29) := by decide +kernel
theorem dX16_of_56 : decode cX16_of 56 = .ok (.aload_n 0, 1) := dk_42 (dk_at dksX16_of_3 0 rfl rfl)
theorem dX16_of_57 : decode cX16_of 57 = .ok (.lload_n 2, 1) := dk_32 (dk_at dksX16_of_3 1 rfl rfl)
theorem dX16_of_58 : decode cX16_of 58 = .ok (.lload 4, 2) := dk_22 4 (dk_at dksX16_of_3 2 rfl rfl)
theorem dX16_of_60 : decode cX16_of 60 = .ok (.ladd, 1) := dk_97 (dk_at dksX16_of_3 4 rfl rfl)
theorem dX16_of_61 : decode cX16_of 61 = .ok (.invokevirtual 26, 3) := dk_182 0 26 (dk_at dksX16_of_3 5 rfl rfl)
theorem dX16_of_64 : decode cX16_of 64 = .ok (.lreturn, 1) := dk_173 (dk_at dksX16_of_3 8 rfl rfl)
theorem dX16_of_65 : decode cX16_of 65 = .ok (.aload_n 0, 1) := dk_42 (dk_at dksX16_of_3 9 rfl rfl)
theorem dX16_of_66 : decode cX16_of 66 = .ok (.lload_n 2, 1) := dk_32 (dk_at dksX16_of_3 10 rfl rfl)
theorem dX16_of_67 : decode cX16_of 67 = .ok (.lload 4, 2) := dk_22 4 (dk_at dksX16_of_3 11 rfl rfl)
theorem dX16_of_69 : decode cX16_of 69 = .ok (.lsub, 1) := dk_101 (dk_at dksX16_of_3 13 rfl rfl)
theorem dX16_of_70 : decode cX16_of 70 = .ok (.invokevirtual 26, 3) := dk_182 0 26 (dk_at dksX16_of_3 14 rfl rfl)
theorem dX16_of_73 : decode cX16_of 73 = .ok (.lreturn, 1) := dk_173 (dk_at dksX16_of_3 17 rfl rfl)
theorem dX16_of_74 : decode cX16_of 74 = .ok (.aload_n 0, 1) := dk_42 (dk_at dksX16_of_3 18 rfl rfl)
theorem dX16_of_75 : decode cX16_of 75 = .ok (.lload_n 2, 1) := dk_32 (dk_at dksX16_of_3 19 rfl rfl)
theorem dX16_of_76 : decode cX16_of 76 = .ok (.lload 4, 2) := dk_22 4 (dk_at dksX16_of_3 20 rfl rfl)
theorem dX16_of_78 : decode cX16_of 78 = .ok (.lmul, 1) := dk_105 (dk_at dksX16_of_3 22 rfl rfl)
theorem dX16_of_79 : decode cX16_of 79 = .ok (.invokevirtual 26, 3) := dk_182 0 26 (dk_at dksX16_of_4 0 rfl rfl)
theorem dX16_of_82 : decode cX16_of 82 = .ok (.lreturn, 1) := dk_173 (dk_at dksX16_of_4 3 rfl rfl)
theorem dX16_of_83 : decode cX16_of 83 = .ok (.lload 4, 2) := dk_22 4 (dk_at dksX16_of_4 4 rfl rfl)
theorem dX16_of_85 : decode cX16_of 85 = .ok (.lconst 0, 1) := dk_9 (dk_at dksX16_of_4 6 rfl rfl)
theorem dX16_of_86 : decode cX16_of 86 = .ok (.lcmp, 1) := dk_148 (dk_at dksX16_of_4 7 rfl rfl)
theorem dX16_of_87 : decode cX16_of 87 = .ok (.ifCond .ne 7, 3) := dk_154 0 7 (dk_at dksX16_of_4 8 rfl rfl)
theorem dX16_of_90 : decode cX16_of 90 = .ok (.lconst 0, 1) := dk_9 (dk_at dksX16_of_4 11 rfl rfl)
theorem dX16_of_91 : decode cX16_of 91 = .ok (.goto 7, 3) := dk_167 0 7 (dk_at dksX16_of_4 12 rfl rfl)
theorem dX16_of_94 : decode cX16_of 94 = .ok (.lload_n 2, 1) := dk_32 (dk_at dksX16_of_4 15 rfl rfl)
theorem dX16_of_95 : decode cX16_of 95 = .ok (.lload 4, 2) := dk_22 4 (dk_at dksX16_of_4 16 rfl rfl)
theorem dX16_of_97 : decode cX16_of 97 = .ok (.ldiv, 1) := dk_109 (dk_at dksX16_of_4 18 rfl rfl)
theorem dX16_of_98 : decode cX16_of 98 = .ok (.lreturn, 1) := dk_173 (dk_at dksX16_of_4 19 rfl rfl)
theorem q150 : (Jvm.Cond.initialized "HeldTongue$Two") ∈ lw_all := lw_g (lw_at lw_m1 26 rfl) rfl
theorem q727 : (Jvm.Cond.instantiable "HeldTongue$Two" (3 : Nat)) ∈ lw_all := lw_g (lw_at lw_m3 123 rfl) rfl
theorem q729 : (Jvm.Cond.instanceMethod ({ cls := "HeldTongue$Two", name := "<init>", desc := "(ILHeldTongue$Sum;LHeldTongue$Sum;)V" } : Jvm.MethodName)) ∈ lw_all := lw_g (lw_at lw_m3 125 rfl) rfl
theorem q730 : (Jvm.Cond.code ({ cls := "HeldTongue$Two", name := "<init>", desc := "(ILHeldTongue$Sum;LHeldTongue$Sum;)V" } : Jvm.MethodName) prog_18_method_1_code (4 : Nat) (Option.none : Option Jvm.ClassFile.FieldType)) ∈ lw_all := lw_g (lw_at lw_m3 126 rfl) rfl
theorem q731 : (Jvm.Cond.methodLink "HeldTongue$Two" (1 : Nat) ({ cls := "java/lang/Object", name := "<init>", desc := "()V" } : Jvm.MethodName)) ∈ lw_all := lw_g (lw_at lw_m3 127 rfl) rfl
theorem q732 : (Jvm.Cond.fieldLink "HeldTongue$Two" (7 : Nat) "HeldTongue$Two" "act" "I") ∈ lw_all := lw_g (lw_at lw_m3 128 rfl) rfl
theorem q733 : (Jvm.Cond.fieldLink "HeldTongue$Two" (13 : Nat) "HeldTongue$Two" "a" "LHeldTongue$Sum;") ∈ lw_all := lw_g (lw_at lw_m3 129 rfl) rfl
theorem q734 : (Jvm.Cond.fieldLink "HeldTongue$Two" (17 : Nat) "HeldTongue$Two" "b" "LHeldTongue$Sum;") ∈ lw_all := lw_g (lw_at lw_m3 130 rfl) rfl
theorem q735 : (Jvm.Cond.laysFinal "HeldTongue$Two" "HeldTongue$Two" "act" "I") ∈ lw_all := lw_g (lw_at lw_m3 131 rfl) rfl
theorem q736 : (Jvm.Cond.soleField "HeldTongue$Two" "act") ∈ lw_all := lw_g (lw_at lw_m3 132 rfl) rfl
theorem q737 : (Jvm.Cond.laysFinal "HeldTongue$Two" "HeldTongue$Two" "a" "LHeldTongue$Sum;") ∈ lw_all := lw_g (lw_at lw_m3 133 rfl) rfl
theorem q738 : (Jvm.Cond.soleField "HeldTongue$Two" "a") ∈ lw_all := lw_g (lw_at lw_m3 134 rfl) rfl
theorem q739 : (Jvm.Cond.laysFinal "HeldTongue$Two" "HeldTongue$Two" "b" "LHeldTongue$Sum;") ∈ lw_all := lw_g (lw_at lw_m3 135 rfl) rfl
theorem q740 : (Jvm.Cond.soleField "HeldTongue$Two" "b") ∈ lw_all := lw_g (lw_at lw_m3 136 rfl) rfl
theorem q741 : (Jvm.Cond.superclass "HeldTongue$Two" "java/lang/Object") ∈ lw_all := lw_g (lw_at lw_m3 137 rfl) rfl
theorem q1015 : (Jvm.Cond.castable "HeldTongue$Two" "HeldTongue$Sum") ∈ lw_tbl := lw_at lw_m4 171 rfl
theorem q1016 : (Jvm.Cond.selects "HeldTongue$Two" ({ cls := "HeldTongue$Sum", name := "of", desc := "(LHeldTongue$View;)J" } : Jvm.MethodName) ({ cls := "HeldTongue$Two", name := "of", desc := "(LHeldTongue$View;)J" } : Jvm.MethodName)) ∈ lw_all := lw_g (lw_at lw_m4 172 rfl) rfl
theorem q1017 : (Jvm.Cond.unhidden "HeldTongue$Two" "of" "(LHeldTongue$View;)J") ∈ lw_tbl := lw_at lw_m4 173 rfl
theorem q1018 : (Jvm.Cond.instanceMethod ({ cls := "HeldTongue$Two", name := "of", desc := "(LHeldTongue$View;)J" } : Jvm.MethodName)) ∈ lw_all := lw_g (lw_at lw_m4 174 rfl) rfl
theorem q1019 : (Jvm.Cond.publicMethod ({ cls := "HeldTongue$Two", name := "of", desc := "(LHeldTongue$View;)J" } : Jvm.MethodName)) ∈ lw_tbl := lw_at lw_m4 175 rfl
theorem q1020 : (Jvm.Cond.code ({ cls := "HeldTongue$Two", name := "of", desc := "(LHeldTongue$View;)J" } : Jvm.MethodName) prog_18_method_2_code (6 : Nat) (Option.some Jvm.ClassFile.FieldType.long)) ∈ lw_all := lw_g (lw_at lw_m4 176 rfl) rfl
theorem q1021 : (Jvm.Cond.interfaceEntry "HeldTongue$Two" (20 : Nat)) ∈ lw_tbl := lw_at lw_m4 177 rfl
theorem q1022 : (Jvm.Cond.methodLink "HeldTongue$Two" (20 : Nat) ({ cls := "HeldTongue$Sum", name := "of", desc := "(LHeldTongue$View;)J" } : Jvm.MethodName)) ∈ lw_all := lw_g (lw_at lw_m4 178 rfl) rfl
theorem q1036 : (Jvm.Cond.unhidden "HeldTongue$Two" "bound" "(J)J") ∈ lw_tbl := lw_at lw_m4 192 rfl
theorem in_X16 : ∀ w ∈ wsX160, w ∈ lw_all := lw_in wsX160 [735, 737, 739] (by decide +kernel) (by decide +kernel)

/-! HeldTongue$Not -/
set_option maxRecDepth 100000
def RX17 : String := "HeldTongue$Not"
def TX17 : u_T := fun k => match k with
  | _ => ("HeldTongue$Not", "a", "LHeldTongue$Ask;", true)
def tyX17 : Nat → FieldType := fun k => match k with
  | _ => .object "HeldTongue$Ask"
abbrev wsX170 : List Cond := u_ws RX17 TX17 1
theorem nmX17 : ∀ a, a < 1 → ∀ b, b < 1 → a ≠ b → (TX17 a).2.1 ≠ (TX17 b).2.1 := by decide +kernel
theorem tyX17_ok : ∀ k, k < 1 → parseFieldDescriptor (TX17 k).2.2.1 = some (tyX17 k) := by decide +kernel
abbrev cX17_init : ByteArray := prog_13_method_1_code
def yX17_init : MethodName := ⟨RX17, "<init>", "(LHeldTongue$Ask;)V"⟩
def dkwX17_init_0 : List UInt8 := [42, 183, 0, 1, 42, 43, 181, 0, 7, 177]
abbrev dktX17_init_0 : List UInt8 := dkwX17_init_0 ++ []
theorem dksX17_init_0 : cX17_init.data.toList.drop 0 = dktX17_init_0 := by decide +kernel
theorem dX17_init_0 : decode cX17_init 0 = .ok (.aload_n 0, 1) := dk_42 (dk_at dksX17_init_0 0 rfl rfl)
theorem dX17_init_1 : decode cX17_init 1 = .ok (.invokespecial 1, 3) := dk_183 0 1 (dk_at dksX17_init_0 1 rfl rfl)
theorem dX17_init_4 : decode cX17_init 4 = .ok (.aload_n 0, 1) := dk_42 (dk_at dksX17_init_0 4 rfl rfl)
theorem dX17_init_5 : decode cX17_init 5 = .ok (.aload_n 1, 1) := dk_43 (dk_at dksX17_init_0 5 rfl rfl)
theorem dX17_init_6 : decode cX17_init 6 = .ok (.putfield 7, 3) := dk_181 0 7 (dk_at dksX17_init_0 6 rfl rfl)
theorem dX17_init_9 : decode cX17_init 9 = .ok (.return_, 1) := dk_177 (dk_at dksX17_init_0 9 rfl rfl)
abbrev cX17_is : ByteArray := prog_13_method_2_code
def yX17_is : MethodName := ⟨RX17, "is", "(LHeldTongue$View;)Z"⟩
def dkwX17_is_0 : List UInt8 := [42, 180, 0, 7, 43, 185, 0, 13, 2, 0, 154, 0, 7, 4, 167, 0, 4, 3, 172]
abbrev dktX17_is_0 : List UInt8 := dkwX17_is_0 ++ []
theorem dksX17_is_0 : cX17_is.data.toList.drop 0 = dktX17_is_0 := by decide +kernel
theorem dX17_is_0 : decode cX17_is 0 = .ok (.aload_n 0, 1) := dk_42 (dk_at dksX17_is_0 0 rfl rfl)
theorem dX17_is_1 : decode cX17_is 1 = .ok (.getfield 7, 3) := dk_180 0 7 (dk_at dksX17_is_0 1 rfl rfl)
theorem dX17_is_4 : decode cX17_is 4 = .ok (.aload_n 1, 1) := dk_43 (dk_at dksX17_is_0 4 rfl rfl)
theorem dX17_is_5 : decode cX17_is 5 = .ok (.invokeinterface 13 2, 5) := by decide +kernel
theorem dX17_is_10 : decode cX17_is 10 = .ok (.ifCond .ne 7, 3) := dk_154 0 7 (dk_at dksX17_is_0 10 rfl rfl)
theorem dX17_is_13 : decode cX17_is 13 = .ok (.iconst 1, 1) := dk_4 (dk_at dksX17_is_0 13 rfl rfl)
theorem dX17_is_14 : decode cX17_is 14 = .ok (.goto 4, 3) := dk_167 0 4 (dk_at dksX17_is_0 14 rfl rfl)
theorem dX17_is_17 : decode cX17_is 17 = .ok (.iconst 0, 1) := dk_3 (dk_at dksX17_is_0 17 rfl rfl)
theorem dX17_is_18 : decode cX17_is 18 = .ok (.ireturn, 1) := dk_172 (dk_at dksX17_is_0 18 rfl rfl)
theorem q151 : (Jvm.Cond.initialized "HeldTongue$Not") ∈ lw_all := lw_g (lw_at lw_m1 27 rfl) rfl
theorem q755 : (Jvm.Cond.instantiable "HeldTongue$Not" (1 : Nat)) ∈ lw_all := lw_g (lw_at lw_m3 151 rfl) rfl
theorem q757 : (Jvm.Cond.instanceMethod ({ cls := "HeldTongue$Not", name := "<init>", desc := "(LHeldTongue$Ask;)V" } : Jvm.MethodName)) ∈ lw_all := lw_g (lw_at lw_m3 153 rfl) rfl
theorem q758 : (Jvm.Cond.code ({ cls := "HeldTongue$Not", name := "<init>", desc := "(LHeldTongue$Ask;)V" } : Jvm.MethodName) prog_13_method_1_code (2 : Nat) (Option.none : Option Jvm.ClassFile.FieldType)) ∈ lw_all := lw_g (lw_at lw_m3 154 rfl) rfl
theorem q759 : (Jvm.Cond.methodLink "HeldTongue$Not" (1 : Nat) ({ cls := "java/lang/Object", name := "<init>", desc := "()V" } : Jvm.MethodName)) ∈ lw_all := lw_g (lw_at lw_m3 155 rfl) rfl
theorem q760 : (Jvm.Cond.fieldLink "HeldTongue$Not" (7 : Nat) "HeldTongue$Not" "a" "LHeldTongue$Ask;") ∈ lw_all := lw_g (lw_at lw_m3 156 rfl) rfl
theorem q761 : (Jvm.Cond.laysFinal "HeldTongue$Not" "HeldTongue$Not" "a" "LHeldTongue$Ask;") ∈ lw_all := lw_g (lw_at lw_m3 157 rfl) rfl
theorem q762 : (Jvm.Cond.soleField "HeldTongue$Not" "a") ∈ lw_all := lw_g (lw_at lw_m3 158 rfl) rfl
theorem q763 : (Jvm.Cond.superclass "HeldTongue$Not" "java/lang/Object") ∈ lw_all := lw_g (lw_at lw_m3 159 rfl) rfl
theorem q1133 : (Jvm.Cond.castable "HeldTongue$Not" "HeldTongue$Ask") ∈ lw_tbl := lw_at lw_m5 49 rfl
theorem q1134 : (Jvm.Cond.selects "HeldTongue$Not" ({ cls := "HeldTongue$Ask", name := "is", desc := "(LHeldTongue$View;)Z" } : Jvm.MethodName) ({ cls := "HeldTongue$Not", name := "is", desc := "(LHeldTongue$View;)Z" } : Jvm.MethodName)) ∈ lw_all := lw_g (lw_at lw_m5 50 rfl) rfl
theorem q1135 : (Jvm.Cond.unhidden "HeldTongue$Not" "is" "(LHeldTongue$View;)Z") ∈ lw_tbl := lw_at lw_m5 51 rfl
theorem q1136 : (Jvm.Cond.instanceMethod ({ cls := "HeldTongue$Not", name := "is", desc := "(LHeldTongue$View;)Z" } : Jvm.MethodName)) ∈ lw_all := lw_g (lw_at lw_m5 52 rfl) rfl
theorem q1137 : (Jvm.Cond.publicMethod ({ cls := "HeldTongue$Not", name := "is", desc := "(LHeldTongue$View;)Z" } : Jvm.MethodName)) ∈ lw_tbl := lw_at lw_m5 53 rfl
theorem q1138 : (Jvm.Cond.code ({ cls := "HeldTongue$Not", name := "is", desc := "(LHeldTongue$View;)Z" } : Jvm.MethodName) prog_13_method_2_code (2 : Nat) (Option.some Jvm.ClassFile.FieldType.boolean)) ∈ lw_all := lw_g (lw_at lw_m5 54 rfl) rfl
theorem q1139 : (Jvm.Cond.interfaceEntry "HeldTongue$Not" (13 : Nat)) ∈ lw_tbl := lw_at lw_m5 55 rfl
theorem q1140 : (Jvm.Cond.methodLink "HeldTongue$Not" (13 : Nat) ({ cls := "HeldTongue$Ask", name := "is", desc := "(LHeldTongue$View;)Z" } : Jvm.MethodName)) ∈ lw_all := lw_g (lw_at lw_m5 56 rfl) rfl
theorem in_X17 : ∀ w ∈ wsX170, w ∈ lw_all := lw_in wsX170 [761] (by decide +kernel) (by decide +kernel)

/-! HeldTongue$Compare -/
set_option maxRecDepth 100000
def RX18 : String := "HeldTongue$Compare"
def TX18 : u_T := fun k => match k with
  | 0 => ("HeldTongue$Compare", "how", "I", true)
  | 1 => ("HeldTongue$Compare", "a", "LHeldTongue$Sum;", true)
  | _ => ("HeldTongue$Compare", "b", "LHeldTongue$Sum;", true)
def tyX18 : Nat → FieldType := fun k => match k with
  | 0 => .int
  | 1 => .object "HeldTongue$Sum"
  | _ => .object "HeldTongue$Sum"
abbrev wsX180 : List Cond := u_ws RX18 TX18 3
theorem nmX18 : ∀ a, a < 3 → ∀ b, b < 3 → a ≠ b → (TX18 a).2.1 ≠ (TX18 b).2.1 := by decide +kernel
theorem tyX18_ok : ∀ k, k < 3 → parseFieldDescriptor (TX18 k).2.2.1 = some (tyX18 k) := by decide +kernel
abbrev cX18_init : ByteArray := prog_5_method_1_code
def yX18_init : MethodName := ⟨RX18, "<init>", "(ILHeldTongue$Sum;LHeldTongue$Sum;)V"⟩
def dkwX18_init_0 : List UInt8 := [42, 183, 0, 1, 42, 27, 181, 0, 7, 42, 44, 181, 0, 13, 42, 45, 181, 0, 17, 177]
abbrev dktX18_init_0 : List UInt8 := dkwX18_init_0 ++ []
theorem dksX18_init_0 : cX18_init.data.toList.drop 0 = dktX18_init_0 := by decide +kernel
theorem dX18_init_0 : decode cX18_init 0 = .ok (.aload_n 0, 1) := dk_42 (dk_at dksX18_init_0 0 rfl rfl)
theorem dX18_init_1 : decode cX18_init 1 = .ok (.invokespecial 1, 3) := dk_183 0 1 (dk_at dksX18_init_0 1 rfl rfl)
theorem dX18_init_4 : decode cX18_init 4 = .ok (.aload_n 0, 1) := dk_42 (dk_at dksX18_init_0 4 rfl rfl)
theorem dX18_init_5 : decode cX18_init 5 = .ok (.iload_n 1, 1) := dk_27 (dk_at dksX18_init_0 5 rfl rfl)
theorem dX18_init_6 : decode cX18_init 6 = .ok (.putfield 7, 3) := dk_181 0 7 (dk_at dksX18_init_0 6 rfl rfl)
theorem dX18_init_9 : decode cX18_init 9 = .ok (.aload_n 0, 1) := dk_42 (dk_at dksX18_init_0 9 rfl rfl)
theorem dX18_init_10 : decode cX18_init 10 = .ok (.aload_n 2, 1) := dk_44 (dk_at dksX18_init_0 10 rfl rfl)
theorem dX18_init_11 : decode cX18_init 11 = .ok (.putfield 13, 3) := dk_181 0 13 (dk_at dksX18_init_0 11 rfl rfl)
theorem dX18_init_14 : decode cX18_init 14 = .ok (.aload_n 0, 1) := dk_42 (dk_at dksX18_init_0 14 rfl rfl)
theorem dX18_init_15 : decode cX18_init 15 = .ok (.aload_n 3, 1) := dk_45 (dk_at dksX18_init_0 15 rfl rfl)
theorem dX18_init_16 : decode cX18_init 16 = .ok (.putfield 17, 3) := dk_181 0 17 (dk_at dksX18_init_0 16 rfl rfl)
theorem dX18_init_19 : decode cX18_init 19 = .ok (.return_, 1) := dk_177 (dk_at dksX18_init_0 19 rfl rfl)
abbrev cX18_is : ByteArray := prog_5_method_2_code
def yX18_is : MethodName := ⟨RX18, "is", "(LHeldTongue$View;)Z"⟩
def dkwX18_is_6 : List UInt8 := [153, 0, 7, 4, 167, 0, 4, 3, 172]
abbrev dktX18_is_6 : List UInt8 := dkwX18_is_6 ++ []
def dkwX18_is_5 : List UInt8 := [167, 0, 4, 3, 172, 32, 22, 4, 148, 154, 0, 7, 4, 167, 0, 4, 3, 172, 32, 22, 4, 148]
abbrev dktX18_is_5 : List UInt8 := dkwX18_is_5 ++ dktX18_is_6
def dkwX18_is_4 : List UInt8 := [3, 172, 32, 22, 4, 148, 158, 0, 7, 4, 167, 0, 4, 3, 172, 32, 22, 4, 148, 155, 0, 7, 4]
abbrev dktX18_is_4 : List UInt8 := dkwX18_is_4 ++ dktX18_is_5
def dkwX18_is_3 : List UInt8 := [32, 22, 4, 148, 156, 0, 7, 4, 167, 0, 4, 3, 172, 32, 22, 4, 148, 157, 0, 7, 4, 167, 0, 4]
abbrev dktX18_is_3 : List UInt8 := dkwX18_is_3 ++ dktX18_is_4
def dkwX18_is_2 : List UInt8 := [171, 0, 0, 0, 114, 0, 0, 0, 5, 0, 0, 0, 60, 0, 0, 0, 49, 0, 0, 0, 61, 0, 0, 0, 101, 0, 0, 0, 62, 0, 0, 0, 75, 0, 0, 1, 48, 0, 0, 0, 62, 0, 0, 1, 49, 0, 0, 0, 88]
abbrev dktX18_is_2 : List UInt8 := dkwX18_is_2 ++ dktX18_is_3
def dkwX18_is_1 : List UInt8 := [180, 0, 7]
abbrev dktX18_is_1 : List UInt8 := dkwX18_is_1 ++ dktX18_is_2
def dkwX18_is_0 : List UInt8 := [42, 180, 0, 13, 43, 185, 0, 20, 2, 0, 65, 42, 180, 0, 17, 43, 185, 0, 20, 2, 0, 55, 4, 42]
abbrev dktX18_is_0 : List UInt8 := dkwX18_is_0 ++ dktX18_is_1
theorem dksX18_is_0 : cX18_is.data.toList.drop 0 = dktX18_is_0 := by decide +kernel
theorem dksX18_is_1 : cX18_is.data.toList.drop 24 = dktX18_is_1 := dk_seg dksX18_is_0 24 rfl rfl
theorem dksX18_is_2 : cX18_is.data.toList.drop 27 = dktX18_is_2 := dk_seg dksX18_is_1 3 rfl rfl
theorem dksX18_is_3 : cX18_is.data.toList.drop 76 = dktX18_is_3 := dk_seg dksX18_is_2 49 rfl rfl
theorem dksX18_is_4 : cX18_is.data.toList.drop 100 = dktX18_is_4 := dk_seg dksX18_is_3 24 rfl rfl
theorem dksX18_is_5 : cX18_is.data.toList.drop 123 = dktX18_is_5 := dk_seg dksX18_is_4 23 rfl rfl
theorem dksX18_is_6 : cX18_is.data.toList.drop 145 = dktX18_is_6 := dk_seg dksX18_is_5 22 rfl rfl
theorem dX18_is_0 : decode cX18_is 0 = .ok (.aload_n 0, 1) := dk_42 (dk_at dksX18_is_0 0 rfl rfl)
theorem dX18_is_1 : decode cX18_is 1 = .ok (.getfield 13, 3) := dk_180 0 13 (dk_at dksX18_is_0 1 rfl rfl)
theorem dX18_is_4 : decode cX18_is 4 = .ok (.aload_n 1, 1) := dk_43 (dk_at dksX18_is_0 4 rfl rfl)
theorem dX18_is_5 : decode cX18_is 5 = .ok (.invokeinterface 20 2, 5) := by decide +kernel
theorem dX18_is_10 : decode cX18_is 10 = .ok (.lstore_n 2, 1) := dk_65 (dk_at dksX18_is_0 10 rfl rfl)
theorem dX18_is_11 : decode cX18_is 11 = .ok (.aload_n 0, 1) := dk_42 (dk_at dksX18_is_0 11 rfl rfl)
theorem dX18_is_12 : decode cX18_is 12 = .ok (.getfield 17, 3) := dk_180 0 17 (dk_at dksX18_is_0 12 rfl rfl)
theorem dX18_is_15 : decode cX18_is 15 = .ok (.aload_n 1, 1) := dk_43 (dk_at dksX18_is_0 15 rfl rfl)
theorem dX18_is_16 : decode cX18_is 16 = .ok (.invokeinterface 20 2, 5) := by decide +kernel
theorem dX18_is_21 : decode cX18_is 21 = .ok (.lstore 4, 2) := dk_55 4 (dk_at dksX18_is_0 21 rfl rfl)
theorem dX18_is_23 : decode cX18_is 23 = .ok (.aload_n 0, 1) := dk_42 (dk_at dksX18_is_0 23 rfl rfl)
theorem dX18_is_24 : decode cX18_is 24 = .ok (.getfield 7, 3) := dk_180 0 7 (dk_at dksX18_is_1 0 rfl rfl)
theorem dX18_is_27 : decode cX18_is 27 = .ok (.lookupswitch 114 #[(60, 49), (61, 101), (62, 75), (304, 62), (305, 88)], 49) := by decide +kernel
theorem dX18_is_76 : decode cX18_is 76 = .ok (.lload_n 2, 1) := dk_32 (dk_at dksX18_is_3 0 rfl rfl)
theorem dX18_is_77 : decode cX18_is 77 = .ok (.lload 4, 2) := dk_22 4 (dk_at dksX18_is_3 1 rfl rfl)
theorem dX18_is_79 : decode cX18_is 79 = .ok (.lcmp, 1) := dk_148 (dk_at dksX18_is_3 3 rfl rfl)
theorem dX18_is_80 : decode cX18_is 80 = .ok (.ifCond .ge 7, 3) := dk_156 0 7 (dk_at dksX18_is_3 4 rfl rfl)
theorem dX18_is_83 : decode cX18_is 83 = .ok (.iconst 1, 1) := dk_4 (dk_at dksX18_is_3 7 rfl rfl)
theorem dX18_is_84 : decode cX18_is 84 = .ok (.goto 4, 3) := dk_167 0 4 (dk_at dksX18_is_3 8 rfl rfl)
theorem dX18_is_87 : decode cX18_is 87 = .ok (.iconst 0, 1) := dk_3 (dk_at dksX18_is_3 11 rfl rfl)
theorem dX18_is_88 : decode cX18_is 88 = .ok (.ireturn, 1) := dk_172 (dk_at dksX18_is_3 12 rfl rfl)
theorem dX18_is_89 : decode cX18_is 89 = .ok (.lload_n 2, 1) := dk_32 (dk_at dksX18_is_3 13 rfl rfl)
theorem dX18_is_90 : decode cX18_is 90 = .ok (.lload 4, 2) := dk_22 4 (dk_at dksX18_is_3 14 rfl rfl)
theorem dX18_is_92 : decode cX18_is 92 = .ok (.lcmp, 1) := dk_148 (dk_at dksX18_is_3 16 rfl rfl)
theorem dX18_is_93 : decode cX18_is 93 = .ok (.ifCond .gt 7, 3) := dk_157 0 7 (dk_at dksX18_is_3 17 rfl rfl)
theorem dX18_is_96 : decode cX18_is 96 = .ok (.iconst 1, 1) := dk_4 (dk_at dksX18_is_3 20 rfl rfl)
theorem dX18_is_97 : decode cX18_is 97 = .ok (.goto 4, 3) := dk_167 0 4 (dk_at dksX18_is_3 21 rfl rfl)
theorem dX18_is_100 : decode cX18_is 100 = .ok (.iconst 0, 1) := dk_3 (dk_at dksX18_is_4 0 rfl rfl)
theorem dX18_is_101 : decode cX18_is 101 = .ok (.ireturn, 1) := dk_172 (dk_at dksX18_is_4 1 rfl rfl)
theorem dX18_is_102 : decode cX18_is 102 = .ok (.lload_n 2, 1) := dk_32 (dk_at dksX18_is_4 2 rfl rfl)
theorem dX18_is_103 : decode cX18_is 103 = .ok (.lload 4, 2) := dk_22 4 (dk_at dksX18_is_4 3 rfl rfl)
theorem dX18_is_105 : decode cX18_is 105 = .ok (.lcmp, 1) := dk_148 (dk_at dksX18_is_4 5 rfl rfl)
theorem dX18_is_106 : decode cX18_is 106 = .ok (.ifCond .le 7, 3) := dk_158 0 7 (dk_at dksX18_is_4 6 rfl rfl)
theorem dX18_is_109 : decode cX18_is 109 = .ok (.iconst 1, 1) := dk_4 (dk_at dksX18_is_4 9 rfl rfl)
theorem dX18_is_110 : decode cX18_is 110 = .ok (.goto 4, 3) := dk_167 0 4 (dk_at dksX18_is_4 10 rfl rfl)
theorem dX18_is_113 : decode cX18_is 113 = .ok (.iconst 0, 1) := dk_3 (dk_at dksX18_is_4 13 rfl rfl)
theorem dX18_is_114 : decode cX18_is 114 = .ok (.ireturn, 1) := dk_172 (dk_at dksX18_is_4 14 rfl rfl)
theorem dX18_is_115 : decode cX18_is 115 = .ok (.lload_n 2, 1) := dk_32 (dk_at dksX18_is_4 15 rfl rfl)
theorem dX18_is_116 : decode cX18_is 116 = .ok (.lload 4, 2) := dk_22 4 (dk_at dksX18_is_4 16 rfl rfl)
theorem dX18_is_118 : decode cX18_is 118 = .ok (.lcmp, 1) := dk_148 (dk_at dksX18_is_4 18 rfl rfl)
theorem dX18_is_119 : decode cX18_is 119 = .ok (.ifCond .lt 7, 3) := dk_155 0 7 (dk_at dksX18_is_4 19 rfl rfl)
theorem dX18_is_122 : decode cX18_is 122 = .ok (.iconst 1, 1) := dk_4 (dk_at dksX18_is_4 22 rfl rfl)
theorem dX18_is_123 : decode cX18_is 123 = .ok (.goto 4, 3) := dk_167 0 4 (dk_at dksX18_is_5 0 rfl rfl)
theorem dX18_is_126 : decode cX18_is 126 = .ok (.iconst 0, 1) := dk_3 (dk_at dksX18_is_5 3 rfl rfl)
theorem dX18_is_127 : decode cX18_is 127 = .ok (.ireturn, 1) := dk_172 (dk_at dksX18_is_5 4 rfl rfl)
theorem dX18_is_128 : decode cX18_is 128 = .ok (.lload_n 2, 1) := dk_32 (dk_at dksX18_is_5 5 rfl rfl)
theorem dX18_is_129 : decode cX18_is 129 = .ok (.lload 4, 2) := dk_22 4 (dk_at dksX18_is_5 6 rfl rfl)
theorem dX18_is_131 : decode cX18_is 131 = .ok (.lcmp, 1) := dk_148 (dk_at dksX18_is_5 8 rfl rfl)
theorem dX18_is_132 : decode cX18_is 132 = .ok (.ifCond .ne 7, 3) := dk_154 0 7 (dk_at dksX18_is_5 9 rfl rfl)
theorem dX18_is_135 : decode cX18_is 135 = .ok (.iconst 1, 1) := dk_4 (dk_at dksX18_is_5 12 rfl rfl)
theorem dX18_is_136 : decode cX18_is 136 = .ok (.goto 4, 3) := dk_167 0 4 (dk_at dksX18_is_5 13 rfl rfl)
theorem dX18_is_139 : decode cX18_is 139 = .ok (.iconst 0, 1) := dk_3 (dk_at dksX18_is_5 16 rfl rfl)
theorem dX18_is_140 : decode cX18_is 140 = .ok (.ireturn, 1) := dk_172 (dk_at dksX18_is_5 17 rfl rfl)
theorem dX18_is_141 : decode cX18_is 141 = .ok (.lload_n 2, 1) := dk_32 (dk_at dksX18_is_5 18 rfl rfl)
theorem dX18_is_142 : decode cX18_is 142 = .ok (.lload 4, 2) := dk_22 4 (dk_at dksX18_is_5 19 rfl rfl)
theorem dX18_is_144 : decode cX18_is 144 = .ok (.lcmp, 1) := dk_148 (dk_at dksX18_is_5 21 rfl rfl)
theorem dX18_is_145 : decode cX18_is 145 = .ok (.ifCond .eq 7, 3) := dk_153 0 7 (dk_at dksX18_is_6 0 rfl rfl)
theorem dX18_is_148 : decode cX18_is 148 = .ok (.iconst 1, 1) := dk_4 (dk_at dksX18_is_6 3 rfl rfl)
theorem dX18_is_149 : decode cX18_is 149 = .ok (.goto 4, 3) := dk_167 0 4 (dk_at dksX18_is_6 4 rfl rfl)
theorem dX18_is_152 : decode cX18_is 152 = .ok (.iconst 0, 1) := dk_3 (dk_at dksX18_is_6 7 rfl rfl)
theorem dX18_is_153 : decode cX18_is 153 = .ok (.ireturn, 1) := dk_172 (dk_at dksX18_is_6 8 rfl rfl)
theorem q152 : (Jvm.Cond.initialized "HeldTongue$Compare") ∈ lw_all := lw_g (lw_at lw_m1 28 rfl) rfl
theorem q769 : (Jvm.Cond.instantiable "HeldTongue$Compare" (3 : Nat)) ∈ lw_all := lw_g (lw_at lw_m3 165 rfl) rfl
theorem q771 : (Jvm.Cond.instanceMethod ({ cls := "HeldTongue$Compare", name := "<init>", desc := "(ILHeldTongue$Sum;LHeldTongue$Sum;)V" } : Jvm.MethodName)) ∈ lw_all := lw_g (lw_at lw_m3 167 rfl) rfl
theorem q772 : (Jvm.Cond.code ({ cls := "HeldTongue$Compare", name := "<init>", desc := "(ILHeldTongue$Sum;LHeldTongue$Sum;)V" } : Jvm.MethodName) prog_5_method_1_code (4 : Nat) (Option.none : Option Jvm.ClassFile.FieldType)) ∈ lw_all := lw_g (lw_at lw_m3 168 rfl) rfl
theorem q773 : (Jvm.Cond.methodLink "HeldTongue$Compare" (1 : Nat) ({ cls := "java/lang/Object", name := "<init>", desc := "()V" } : Jvm.MethodName)) ∈ lw_all := lw_g (lw_at lw_m3 169 rfl) rfl
theorem q774 : (Jvm.Cond.fieldLink "HeldTongue$Compare" (7 : Nat) "HeldTongue$Compare" "how" "I") ∈ lw_all := lw_g (lw_at lw_m3 170 rfl) rfl
theorem q775 : (Jvm.Cond.fieldLink "HeldTongue$Compare" (13 : Nat) "HeldTongue$Compare" "a" "LHeldTongue$Sum;") ∈ lw_all := lw_g (lw_at lw_m3 171 rfl) rfl
theorem q776 : (Jvm.Cond.fieldLink "HeldTongue$Compare" (17 : Nat) "HeldTongue$Compare" "b" "LHeldTongue$Sum;") ∈ lw_all := lw_g (lw_at lw_m3 172 rfl) rfl
theorem q777 : (Jvm.Cond.laysFinal "HeldTongue$Compare" "HeldTongue$Compare" "how" "I") ∈ lw_all := lw_g (lw_at lw_m3 173 rfl) rfl
theorem q778 : (Jvm.Cond.soleField "HeldTongue$Compare" "how") ∈ lw_all := lw_g (lw_at lw_m3 174 rfl) rfl
theorem q779 : (Jvm.Cond.laysFinal "HeldTongue$Compare" "HeldTongue$Compare" "a" "LHeldTongue$Sum;") ∈ lw_all := lw_g (lw_at lw_m3 175 rfl) rfl
theorem q780 : (Jvm.Cond.soleField "HeldTongue$Compare" "a") ∈ lw_all := lw_g (lw_at lw_m3 176 rfl) rfl
theorem q781 : (Jvm.Cond.laysFinal "HeldTongue$Compare" "HeldTongue$Compare" "b" "LHeldTongue$Sum;") ∈ lw_all := lw_g (lw_at lw_m3 177 rfl) rfl
theorem q782 : (Jvm.Cond.soleField "HeldTongue$Compare" "b") ∈ lw_all := lw_g (lw_at lw_m3 178 rfl) rfl
theorem q783 : (Jvm.Cond.superclass "HeldTongue$Compare" "java/lang/Object") ∈ lw_all := lw_g (lw_at lw_m3 179 rfl) rfl
theorem q1125 : (Jvm.Cond.castable "HeldTongue$Compare" "HeldTongue$Ask") ∈ lw_tbl := lw_at lw_m5 41 rfl
theorem q1126 : (Jvm.Cond.selects "HeldTongue$Compare" ({ cls := "HeldTongue$Ask", name := "is", desc := "(LHeldTongue$View;)Z" } : Jvm.MethodName) ({ cls := "HeldTongue$Compare", name := "is", desc := "(LHeldTongue$View;)Z" } : Jvm.MethodName)) ∈ lw_all := lw_g (lw_at lw_m5 42 rfl) rfl
theorem q1127 : (Jvm.Cond.unhidden "HeldTongue$Compare" "is" "(LHeldTongue$View;)Z") ∈ lw_tbl := lw_at lw_m5 43 rfl
theorem q1128 : (Jvm.Cond.instanceMethod ({ cls := "HeldTongue$Compare", name := "is", desc := "(LHeldTongue$View;)Z" } : Jvm.MethodName)) ∈ lw_all := lw_g (lw_at lw_m5 44 rfl) rfl
theorem q1129 : (Jvm.Cond.publicMethod ({ cls := "HeldTongue$Compare", name := "is", desc := "(LHeldTongue$View;)Z" } : Jvm.MethodName)) ∈ lw_tbl := lw_at lw_m5 45 rfl
theorem q1130 : (Jvm.Cond.code ({ cls := "HeldTongue$Compare", name := "is", desc := "(LHeldTongue$View;)Z" } : Jvm.MethodName) prog_5_method_2_code (6 : Nat) (Option.some Jvm.ClassFile.FieldType.boolean)) ∈ lw_all := lw_g (lw_at lw_m5 46 rfl) rfl
theorem q1131 : (Jvm.Cond.interfaceEntry "HeldTongue$Compare" (20 : Nat)) ∈ lw_tbl := lw_at lw_m5 47 rfl
theorem q1132 : (Jvm.Cond.methodLink "HeldTongue$Compare" (20 : Nat) ({ cls := "HeldTongue$Sum", name := "of", desc := "(LHeldTongue$View;)J" } : Jvm.MethodName)) ∈ lw_all := lw_g (lw_at lw_m5 48 rfl) rfl
theorem in_X18 : ∀ w ∈ wsX180, w ∈ lw_all := lw_in wsX180 [777, 779, 781] (by decide +kernel) (by decide +kernel)

/-! HeldTongue$Both -/
set_option maxRecDepth 100000
def RX19 : String := "HeldTongue$Both"
def TX19 : u_T := fun k => match k with
  | 0 => ("HeldTongue$Both", "or", "Z", true)
  | 1 => ("HeldTongue$Both", "a", "LHeldTongue$Ask;", true)
  | _ => ("HeldTongue$Both", "b", "LHeldTongue$Ask;", true)
def tyX19 : Nat → FieldType := fun k => match k with
  | 0 => .boolean
  | 1 => .object "HeldTongue$Ask"
  | _ => .object "HeldTongue$Ask"
abbrev wsX190 : List Cond := u_ws RX19 TX19 3
theorem nmX19 : ∀ a, a < 3 → ∀ b, b < 3 → a ≠ b → (TX19 a).2.1 ≠ (TX19 b).2.1 := by decide +kernel
theorem tyX19_ok : ∀ k, k < 3 → parseFieldDescriptor (TX19 k).2.2.1 = some (tyX19 k) := by decide +kernel
abbrev cX19_init : ByteArray := prog_3_method_1_code
def yX19_init : MethodName := ⟨RX19, "<init>", "(ZLHeldTongue$Ask;LHeldTongue$Ask;)V"⟩
def dkwX19_init_0 : List UInt8 := [42, 183, 0, 1, 42, 27, 181, 0, 7, 42, 44, 181, 0, 13, 42, 45, 181, 0, 17, 177]
abbrev dktX19_init_0 : List UInt8 := dkwX19_init_0 ++ []
theorem dksX19_init_0 : cX19_init.data.toList.drop 0 = dktX19_init_0 := by decide +kernel
theorem dX19_init_0 : decode cX19_init 0 = .ok (.aload_n 0, 1) := dk_42 (dk_at dksX19_init_0 0 rfl rfl)
theorem dX19_init_1 : decode cX19_init 1 = .ok (.invokespecial 1, 3) := dk_183 0 1 (dk_at dksX19_init_0 1 rfl rfl)
theorem dX19_init_4 : decode cX19_init 4 = .ok (.aload_n 0, 1) := dk_42 (dk_at dksX19_init_0 4 rfl rfl)
theorem dX19_init_5 : decode cX19_init 5 = .ok (.iload_n 1, 1) := dk_27 (dk_at dksX19_init_0 5 rfl rfl)
theorem dX19_init_6 : decode cX19_init 6 = .ok (.putfield 7, 3) := dk_181 0 7 (dk_at dksX19_init_0 6 rfl rfl)
theorem dX19_init_9 : decode cX19_init 9 = .ok (.aload_n 0, 1) := dk_42 (dk_at dksX19_init_0 9 rfl rfl)
theorem dX19_init_10 : decode cX19_init 10 = .ok (.aload_n 2, 1) := dk_44 (dk_at dksX19_init_0 10 rfl rfl)
theorem dX19_init_11 : decode cX19_init 11 = .ok (.putfield 13, 3) := dk_181 0 13 (dk_at dksX19_init_0 11 rfl rfl)
theorem dX19_init_14 : decode cX19_init 14 = .ok (.aload_n 0, 1) := dk_42 (dk_at dksX19_init_0 14 rfl rfl)
theorem dX19_init_15 : decode cX19_init 15 = .ok (.aload_n 3, 1) := dk_45 (dk_at dksX19_init_0 15 rfl rfl)
theorem dX19_init_16 : decode cX19_init 16 = .ok (.putfield 17, 3) := dk_181 0 17 (dk_at dksX19_init_0 16 rfl rfl)
theorem dX19_init_19 : decode cX19_init 19 = .ok (.return_, 1) := dk_177 (dk_at dksX19_init_0 19 rfl rfl)
abbrev cX19_is : ByteArray := prog_3_method_2_code
def yX19_is : MethodName := ⟨RX19, "is", "(LHeldTongue$View;)Z"⟩
def dkwX19_is_2 : List UInt8 := [153, 0, 11, 29, 153, 0, 7, 4, 167, 0, 4, 3, 172]
abbrev dktX19_is_2 : List UInt8 := dkwX19_is_2 ++ []
def dkwX19_is_1 : List UInt8 := [180, 0, 7, 153, 0, 19, 28, 154, 0, 7, 29, 153, 0, 7, 4, 167, 0, 20, 3, 167, 0, 16, 28]
abbrev dktX19_is_1 : List UInt8 := dkwX19_is_1 ++ dktX19_is_2
def dkwX19_is_0 : List UInt8 := [42, 180, 0, 13, 43, 185, 0, 20, 2, 0, 61, 42, 180, 0, 17, 43, 185, 0, 20, 2, 0, 62, 42]
abbrev dktX19_is_0 : List UInt8 := dkwX19_is_0 ++ dktX19_is_1
theorem dksX19_is_0 : cX19_is.data.toList.drop 0 = dktX19_is_0 := by decide +kernel
theorem dksX19_is_1 : cX19_is.data.toList.drop 23 = dktX19_is_1 := dk_seg dksX19_is_0 23 rfl rfl
theorem dksX19_is_2 : cX19_is.data.toList.drop 46 = dktX19_is_2 := dk_seg dksX19_is_1 23 rfl rfl
theorem dX19_is_0 : decode cX19_is 0 = .ok (.aload_n 0, 1) := dk_42 (dk_at dksX19_is_0 0 rfl rfl)
theorem dX19_is_1 : decode cX19_is 1 = .ok (.getfield 13, 3) := dk_180 0 13 (dk_at dksX19_is_0 1 rfl rfl)
theorem dX19_is_4 : decode cX19_is 4 = .ok (.aload_n 1, 1) := dk_43 (dk_at dksX19_is_0 4 rfl rfl)
theorem dX19_is_5 : decode cX19_is 5 = .ok (.invokeinterface 20 2, 5) := by decide +kernel
theorem dX19_is_10 : decode cX19_is 10 = .ok (.istore_n 2, 1) := dk_61 (dk_at dksX19_is_0 10 rfl rfl)
theorem dX19_is_11 : decode cX19_is 11 = .ok (.aload_n 0, 1) := dk_42 (dk_at dksX19_is_0 11 rfl rfl)
theorem dX19_is_12 : decode cX19_is 12 = .ok (.getfield 17, 3) := dk_180 0 17 (dk_at dksX19_is_0 12 rfl rfl)
theorem dX19_is_15 : decode cX19_is 15 = .ok (.aload_n 1, 1) := dk_43 (dk_at dksX19_is_0 15 rfl rfl)
theorem dX19_is_16 : decode cX19_is 16 = .ok (.invokeinterface 20 2, 5) := by decide +kernel
theorem dX19_is_21 : decode cX19_is 21 = .ok (.istore_n 3, 1) := dk_62 (dk_at dksX19_is_0 21 rfl rfl)
theorem dX19_is_22 : decode cX19_is 22 = .ok (.aload_n 0, 1) := dk_42 (dk_at dksX19_is_0 22 rfl rfl)
theorem dX19_is_23 : decode cX19_is 23 = .ok (.getfield 7, 3) := dk_180 0 7 (dk_at dksX19_is_1 0 rfl rfl)
theorem dX19_is_26 : decode cX19_is 26 = .ok (.ifCond .eq 19, 3) := dk_153 0 19 (dk_at dksX19_is_1 3 rfl rfl)
theorem dX19_is_29 : decode cX19_is 29 = .ok (.iload_n 2, 1) := dk_28 (dk_at dksX19_is_1 6 rfl rfl)
theorem dX19_is_30 : decode cX19_is 30 = .ok (.ifCond .ne 7, 3) := dk_154 0 7 (dk_at dksX19_is_1 7 rfl rfl)
theorem dX19_is_33 : decode cX19_is 33 = .ok (.iload_n 3, 1) := dk_29 (dk_at dksX19_is_1 10 rfl rfl)
theorem dX19_is_34 : decode cX19_is 34 = .ok (.ifCond .eq 7, 3) := dk_153 0 7 (dk_at dksX19_is_1 11 rfl rfl)
theorem dX19_is_37 : decode cX19_is 37 = .ok (.iconst 1, 1) := dk_4 (dk_at dksX19_is_1 14 rfl rfl)
theorem dX19_is_38 : decode cX19_is 38 = .ok (.goto 20, 3) := dk_167 0 20 (dk_at dksX19_is_1 15 rfl rfl)
theorem dX19_is_41 : decode cX19_is 41 = .ok (.iconst 0, 1) := dk_3 (dk_at dksX19_is_1 18 rfl rfl)
theorem dX19_is_42 : decode cX19_is 42 = .ok (.goto 16, 3) := dk_167 0 16 (dk_at dksX19_is_1 19 rfl rfl)
theorem dX19_is_45 : decode cX19_is 45 = .ok (.iload_n 2, 1) := dk_28 (dk_at dksX19_is_1 22 rfl rfl)
theorem dX19_is_46 : decode cX19_is 46 = .ok (.ifCond .eq 11, 3) := dk_153 0 11 (dk_at dksX19_is_2 0 rfl rfl)
theorem dX19_is_49 : decode cX19_is 49 = .ok (.iload_n 3, 1) := dk_29 (dk_at dksX19_is_2 3 rfl rfl)
theorem dX19_is_50 : decode cX19_is 50 = .ok (.ifCond .eq 7, 3) := dk_153 0 7 (dk_at dksX19_is_2 4 rfl rfl)
theorem dX19_is_53 : decode cX19_is 53 = .ok (.iconst 1, 1) := dk_4 (dk_at dksX19_is_2 7 rfl rfl)
theorem dX19_is_54 : decode cX19_is 54 = .ok (.goto 4, 3) := dk_167 0 4 (dk_at dksX19_is_2 8 rfl rfl)
theorem dX19_is_57 : decode cX19_is 57 = .ok (.iconst 0, 1) := dk_3 (dk_at dksX19_is_2 11 rfl rfl)
theorem dX19_is_58 : decode cX19_is 58 = .ok (.ireturn, 1) := dk_172 (dk_at dksX19_is_2 12 rfl rfl)
theorem q153 : (Jvm.Cond.initialized "HeldTongue$Both") ∈ lw_all := lw_g (lw_at lw_m1 29 rfl) rfl
theorem q785 : (Jvm.Cond.instantiable "HeldTongue$Both" (3 : Nat)) ∈ lw_all := lw_g (lw_at lw_m3 181 rfl) rfl
theorem q787 : (Jvm.Cond.instanceMethod ({ cls := "HeldTongue$Both", name := "<init>", desc := "(ZLHeldTongue$Ask;LHeldTongue$Ask;)V" } : Jvm.MethodName)) ∈ lw_all := lw_g (lw_at lw_m3 183 rfl) rfl
theorem q788 : (Jvm.Cond.code ({ cls := "HeldTongue$Both", name := "<init>", desc := "(ZLHeldTongue$Ask;LHeldTongue$Ask;)V" } : Jvm.MethodName) prog_3_method_1_code (4 : Nat) (Option.none : Option Jvm.ClassFile.FieldType)) ∈ lw_all := lw_g (lw_at lw_m3 184 rfl) rfl
theorem q789 : (Jvm.Cond.methodLink "HeldTongue$Both" (1 : Nat) ({ cls := "java/lang/Object", name := "<init>", desc := "()V" } : Jvm.MethodName)) ∈ lw_all := lw_g (lw_at lw_m3 185 rfl) rfl
theorem q790 : (Jvm.Cond.fieldLink "HeldTongue$Both" (7 : Nat) "HeldTongue$Both" "or" "Z") ∈ lw_all := lw_g (lw_at lw_m3 186 rfl) rfl
theorem q791 : (Jvm.Cond.fieldLink "HeldTongue$Both" (13 : Nat) "HeldTongue$Both" "a" "LHeldTongue$Ask;") ∈ lw_all := lw_g (lw_at lw_m3 187 rfl) rfl
theorem q792 : (Jvm.Cond.fieldLink "HeldTongue$Both" (17 : Nat) "HeldTongue$Both" "b" "LHeldTongue$Ask;") ∈ lw_all := lw_g (lw_at lw_m3 188 rfl) rfl
theorem q793 : (Jvm.Cond.laysFinal "HeldTongue$Both" "HeldTongue$Both" "or" "Z") ∈ lw_all := lw_g (lw_at lw_m3 189 rfl) rfl
theorem q794 : (Jvm.Cond.soleField "HeldTongue$Both" "or") ∈ lw_all := lw_g (lw_at lw_m3 190 rfl) rfl
theorem q795 : (Jvm.Cond.laysFinal "HeldTongue$Both" "HeldTongue$Both" "a" "LHeldTongue$Ask;") ∈ lw_all := lw_g (lw_at lw_m3 191 rfl) rfl
theorem q796 : (Jvm.Cond.soleField "HeldTongue$Both" "a") ∈ lw_all := lw_g (lw_at lw_m3 192 rfl) rfl
theorem q797 : (Jvm.Cond.laysFinal "HeldTongue$Both" "HeldTongue$Both" "b" "LHeldTongue$Ask;") ∈ lw_all := lw_g (lw_at lw_m3 193 rfl) rfl
theorem q798 : (Jvm.Cond.soleField "HeldTongue$Both" "b") ∈ lw_all := lw_g (lw_at lw_m3 194 rfl) rfl
theorem q799 : (Jvm.Cond.superclass "HeldTongue$Both" "java/lang/Object") ∈ lw_all := lw_g (lw_at lw_m3 195 rfl) rfl
theorem q1117 : (Jvm.Cond.castable "HeldTongue$Both" "HeldTongue$Ask") ∈ lw_tbl := lw_at lw_m5 33 rfl
theorem q1118 : (Jvm.Cond.selects "HeldTongue$Both" ({ cls := "HeldTongue$Ask", name := "is", desc := "(LHeldTongue$View;)Z" } : Jvm.MethodName) ({ cls := "HeldTongue$Both", name := "is", desc := "(LHeldTongue$View;)Z" } : Jvm.MethodName)) ∈ lw_all := lw_g (lw_at lw_m5 34 rfl) rfl
theorem q1119 : (Jvm.Cond.unhidden "HeldTongue$Both" "is" "(LHeldTongue$View;)Z") ∈ lw_tbl := lw_at lw_m5 35 rfl
theorem q1120 : (Jvm.Cond.instanceMethod ({ cls := "HeldTongue$Both", name := "is", desc := "(LHeldTongue$View;)Z" } : Jvm.MethodName)) ∈ lw_all := lw_g (lw_at lw_m5 36 rfl) rfl
theorem q1121 : (Jvm.Cond.publicMethod ({ cls := "HeldTongue$Both", name := "is", desc := "(LHeldTongue$View;)Z" } : Jvm.MethodName)) ∈ lw_tbl := lw_at lw_m5 37 rfl
theorem q1122 : (Jvm.Cond.code ({ cls := "HeldTongue$Both", name := "is", desc := "(LHeldTongue$View;)Z" } : Jvm.MethodName) prog_3_method_2_code (4 : Nat) (Option.some Jvm.ClassFile.FieldType.boolean)) ∈ lw_all := lw_g (lw_at lw_m5 38 rfl) rfl
theorem q1123 : (Jvm.Cond.interfaceEntry "HeldTongue$Both" (20 : Nat)) ∈ lw_tbl := lw_at lw_m5 39 rfl
theorem q1124 : (Jvm.Cond.methodLink "HeldTongue$Both" (20 : Nat) ({ cls := "HeldTongue$Ask", name := "is", desc := "(LHeldTongue$View;)Z" } : Jvm.MethodName)) ∈ lw_all := lw_g (lw_at lw_m5 40 rfl) rfl
theorem in_X19 : ∀ w ∈ wsX190, w ∈ lw_all := lw_in wsX190 [793, 795, 797] (by decide +kernel) (by decide +kernel)

/-! HeldTongue$Sum -/
set_option maxRecDepth 100000
def RX20 : String := "HeldTongue$Sum"
abbrev cX20_bound : ByteArray := prog_17_method_2_code
def yX20_bound : MethodName := ⟨RX20, "bound", "(J)J"⟩
def dkwX20_bound_1 : List UInt8 := [20, 0, 5, 167, 0, 4, 31, 173]
abbrev dktX20_bound_1 : List UInt8 := dkwX20_bound_1 ++ []
def dkwX20_bound_0 : List UInt8 := [31, 20, 0, 3, 148, 158, 0, 9, 20, 0, 3, 167, 0, 18, 31, 20, 0, 5, 148, 156, 0, 9]
abbrev dktX20_bound_0 : List UInt8 := dkwX20_bound_0 ++ dktX20_bound_1
theorem dksX20_bound_0 : cX20_bound.data.toList.drop 0 = dktX20_bound_0 := by decide +kernel
theorem dksX20_bound_1 : cX20_bound.data.toList.drop 22 = dktX20_bound_1 := dk_seg dksX20_bound_0 22 rfl rfl
theorem dX20_bound_0 : decode cX20_bound 0 = .ok (.lload_n 1, 1) := dk_31 (dk_at dksX20_bound_0 0 rfl rfl)
theorem dX20_bound_1 : decode cX20_bound 1 = .ok (.ldc2_w 3, 3) := dk_20 0 3 (dk_at dksX20_bound_0 1 rfl rfl)
theorem dX20_bound_4 : decode cX20_bound 4 = .ok (.lcmp, 1) := dk_148 (dk_at dksX20_bound_0 4 rfl rfl)
theorem dX20_bound_5 : decode cX20_bound 5 = .ok (.ifCond .le 9, 3) := dk_158 0 9 (dk_at dksX20_bound_0 5 rfl rfl)
theorem dX20_bound_8 : decode cX20_bound 8 = .ok (.ldc2_w 3, 3) := dk_20 0 3 (dk_at dksX20_bound_0 8 rfl rfl)
theorem dX20_bound_11 : decode cX20_bound 11 = .ok (.goto 18, 3) := dk_167 0 18 (dk_at dksX20_bound_0 11 rfl rfl)
theorem dX20_bound_14 : decode cX20_bound 14 = .ok (.lload_n 1, 1) := dk_31 (dk_at dksX20_bound_0 14 rfl rfl)
theorem dX20_bound_15 : decode cX20_bound 15 = .ok (.ldc2_w 5, 3) := dk_20 0 5 (dk_at dksX20_bound_0 15 rfl rfl)
theorem dX20_bound_18 : decode cX20_bound 18 = .ok (.lcmp, 1) := dk_148 (dk_at dksX20_bound_0 18 rfl rfl)
theorem dX20_bound_19 : decode cX20_bound 19 = .ok (.ifCond .ge 9, 3) := dk_156 0 9 (dk_at dksX20_bound_0 19 rfl rfl)
theorem dX20_bound_22 : decode cX20_bound 22 = .ok (.ldc2_w 5, 3) := dk_20 0 5 (dk_at dksX20_bound_1 0 rfl rfl)
theorem dX20_bound_25 : decode cX20_bound 25 = .ok (.goto 4, 3) := dk_167 0 4 (dk_at dksX20_bound_1 3 rfl rfl)
theorem dX20_bound_28 : decode cX20_bound 28 = .ok (.lload_n 1, 1) := dk_31 (dk_at dksX20_bound_1 6 rfl rfl)
theorem dX20_bound_29 : decode cX20_bound 29 = .ok (.lreturn, 1) := dk_173 (dk_at dksX20_bound_1 7 rfl rfl)
theorem q999 : (Jvm.Cond.interfaceMethod "HeldTongue$Sum" "HeldTongue$Sum" "of" "(LHeldTongue$View;)J") ∈ lw_tbl := lw_at lw_m4 155 rfl
theorem q1000 : (Jvm.Cond.declares ({ cls := "HeldTongue$Sum", name := "of", desc := "(LHeldTongue$View;)J" } : Jvm.MethodName)) ∈ lw_tbl := lw_at lw_m4 156 rfl
theorem q1035 : (Jvm.Cond.declares ({ cls := "HeldTongue$Sum", name := "bound", desc := "(J)J" } : Jvm.MethodName)) ∈ lw_tbl := lw_at lw_m4 191 rfl
theorem q1037 : (Jvm.Cond.instanceMethod ({ cls := "HeldTongue$Sum", name := "bound", desc := "(J)J" } : Jvm.MethodName)) ∈ lw_all := lw_g (lw_at lw_m4 193 rfl) rfl
theorem q1038 : (Jvm.Cond.publicMethod ({ cls := "HeldTongue$Sum", name := "bound", desc := "(J)J" } : Jvm.MethodName)) ∈ lw_tbl := lw_at lw_m4 194 rfl
theorem q1039 : (Jvm.Cond.code ({ cls := "HeldTongue$Sum", name := "bound", desc := "(J)J" } : Jvm.MethodName) prog_17_method_2_code (3 : Nat) (Option.some Jvm.ClassFile.FieldType.long)) ∈ lw_all := lw_g (lw_at lw_m4 195 rfl) rfl
theorem q1040 : (Jvm.Cond.constantLong "HeldTongue$Sum" (3 : Nat) (1000000 : Int64)) ∈ lw_all := lw_g (lw_at lw_m4 196 rfl) rfl
theorem q1041 : (Jvm.Cond.constantLong "HeldTongue$Sum" (5 : Nat) (-1000000 : Int64)) ∈ lw_all := lw_g (lw_at lw_m4 197 rfl) rfl

/-! java/lang/String -/
set_option maxRecDepth 100000
def RJ0 : String := "java/lang/String"
abbrev cJ0_length : ByteArray := prog_28_method_54_code
def yJ0_length : MethodName := ⟨RJ0, "length", "()I"⟩
def dkwJ0_length_0 : List UInt8 := [42, 180, 0, 9, 190, 42, 182, 1, 79, 122, 172]
abbrev dktJ0_length_0 : List UInt8 := dkwJ0_length_0 ++ []
theorem dksJ0_length_0 : cJ0_length.data.toList.drop 0 = dktJ0_length_0 := by decide +kernel
theorem dJ0_length_0 : decode cJ0_length 0 = .ok (.aload_n 0, 1) := dk_42 (dk_at dksJ0_length_0 0 rfl rfl)
theorem dJ0_length_1 : decode cJ0_length 1 = .ok (.getfield 9, 3) := dk_180 0 9 (dk_at dksJ0_length_0 1 rfl rfl)
theorem dJ0_length_4 : decode cJ0_length 4 = .ok (.arraylength, 1) := dk_190 (dk_at dksJ0_length_0 4 rfl rfl)
theorem dJ0_length_5 : decode cJ0_length 5 = .ok (.aload_n 0, 1) := dk_42 (dk_at dksJ0_length_0 5 rfl rfl)
theorem dJ0_length_6 : decode cJ0_length 6 = .ok (.invokevirtual 335, 3) := dk_182 1 79 (dk_at dksJ0_length_0 6 rfl rfl)
theorem dJ0_length_9 : decode cJ0_length 9 = .ok (.ishr, 1) := dk_122 (dk_at dksJ0_length_0 9 rfl rfl)
theorem dJ0_length_10 : decode cJ0_length 10 = .ok (.ireturn, 1) := dk_172 (dk_at dksJ0_length_0 10 rfl rfl)
abbrev cJ0_coder : ByteArray := prog_28_method_152_code
def yJ0_coder : MethodName := ⟨RJ0, "coder", "()B"⟩
def dkwJ0_coder_0 : List UInt8 := [178, 0, 38, 153, 0, 10, 42, 180, 0, 15, 167, 0, 4, 4, 172]
abbrev dktJ0_coder_0 : List UInt8 := dkwJ0_coder_0 ++ []
theorem dksJ0_coder_0 : cJ0_coder.data.toList.drop 0 = dktJ0_coder_0 := by decide +kernel
theorem dJ0_coder_0 : decode cJ0_coder 0 = .ok (.getstatic 38, 3) := dk_178 0 38 (dk_at dksJ0_coder_0 0 rfl rfl)
theorem dJ0_coder_3 : decode cJ0_coder 3 = .ok (.ifCond .eq 10, 3) := dk_153 0 10 (dk_at dksJ0_coder_0 3 rfl rfl)
theorem dJ0_coder_6 : decode cJ0_coder 6 = .ok (.aload_n 0, 1) := dk_42 (dk_at dksJ0_coder_0 6 rfl rfl)
theorem dJ0_coder_7 : decode cJ0_coder 7 = .ok (.getfield 15, 3) := dk_180 0 15 (dk_at dksJ0_coder_0 7 rfl rfl)
theorem dJ0_coder_10 : decode cJ0_coder 10 = .ok (.goto 4, 3) := dk_167 0 4 (dk_at dksJ0_coder_0 10 rfl rfl)
theorem dJ0_coder_13 : decode cJ0_coder 13 = .ok (.iconst 1, 1) := dk_4 (dk_at dksJ0_coder_0 13 rfl rfl)
theorem dJ0_coder_14 : decode cJ0_coder 14 = .ok (.ireturn, 1) := dk_172 (dk_at dksJ0_coder_0 14 rfl rfl)
abbrev cJ0_charAt : ByteArray := prog_28_method_56_code
def yJ0_charAt : MethodName := ⟨RJ0, "charAt", "(I)C"⟩
def dkwJ0_charAt_1 : List UInt8 := [172]
abbrev dktJ0_charAt_1 : List UInt8 := dkwJ0_charAt_1 ++ []
def dkwJ0_charAt_0 : List UInt8 := [42, 182, 1, 236, 153, 0, 12, 42, 180, 0, 9, 27, 184, 1, 239, 172, 42, 180, 0, 9, 27, 184, 1, 242]
abbrev dktJ0_charAt_0 : List UInt8 := dkwJ0_charAt_0 ++ dktJ0_charAt_1
theorem dksJ0_charAt_0 : cJ0_charAt.data.toList.drop 0 = dktJ0_charAt_0 := by decide +kernel
theorem dksJ0_charAt_1 : cJ0_charAt.data.toList.drop 24 = dktJ0_charAt_1 := dk_seg dksJ0_charAt_0 24 rfl rfl
theorem dJ0_charAt_0 : decode cJ0_charAt 0 = .ok (.aload_n 0, 1) := dk_42 (dk_at dksJ0_charAt_0 0 rfl rfl)
theorem dJ0_charAt_1 : decode cJ0_charAt 1 = .ok (.invokevirtual 492, 3) := dk_182 1 236 (dk_at dksJ0_charAt_0 1 rfl rfl)
theorem dJ0_charAt_4 : decode cJ0_charAt 4 = .ok (.ifCond .eq 12, 3) := dk_153 0 12 (dk_at dksJ0_charAt_0 4 rfl rfl)
theorem dJ0_charAt_7 : decode cJ0_charAt 7 = .ok (.aload_n 0, 1) := dk_42 (dk_at dksJ0_charAt_0 7 rfl rfl)
theorem dJ0_charAt_8 : decode cJ0_charAt 8 = .ok (.getfield 9, 3) := dk_180 0 9 (dk_at dksJ0_charAt_0 8 rfl rfl)
theorem dJ0_charAt_11 : decode cJ0_charAt 11 = .ok (.iload_n 1, 1) := dk_27 (dk_at dksJ0_charAt_0 11 rfl rfl)
theorem dJ0_charAt_12 : decode cJ0_charAt 12 = .ok (.invokestatic 495, 3) := dk_184 1 239 (dk_at dksJ0_charAt_0 12 rfl rfl)
theorem dJ0_charAt_15 : decode cJ0_charAt 15 = .ok (.ireturn, 1) := dk_172 (dk_at dksJ0_charAt_0 15 rfl rfl)
theorem dJ0_charAt_16 : decode cJ0_charAt 16 = .ok (.aload_n 0, 1) := dk_42 (dk_at dksJ0_charAt_0 16 rfl rfl)
theorem dJ0_charAt_17 : decode cJ0_charAt 17 = .ok (.getfield 9, 3) := dk_180 0 9 (dk_at dksJ0_charAt_0 17 rfl rfl)
theorem dJ0_charAt_20 : decode cJ0_charAt 20 = .ok (.iload_n 1, 1) := dk_27 (dk_at dksJ0_charAt_0 20 rfl rfl)
theorem dJ0_charAt_21 : decode cJ0_charAt 21 = .ok (.invokestatic 498, 3) := dk_184 1 242 (dk_at dksJ0_charAt_0 21 rfl rfl)
theorem dJ0_charAt_24 : decode cJ0_charAt 24 = .ok (.ireturn, 1) := dk_172 (dk_at dksJ0_charAt_1 0 rfl rfl)
abbrev cJ0_isLatin1 : ByteArray := prog_28_method_154_code
def yJ0_isLatin1 : MethodName := ⟨RJ0, "isLatin1", "()Z"⟩
def dkwJ0_isLatin1_0 : List UInt8 := [178, 0, 38, 153, 0, 14, 42, 180, 0, 15, 154, 0, 7, 4, 167, 0, 4, 3, 172]
abbrev dktJ0_isLatin1_0 : List UInt8 := dkwJ0_isLatin1_0 ++ []
theorem dksJ0_isLatin1_0 : cJ0_isLatin1.data.toList.drop 0 = dktJ0_isLatin1_0 := by decide +kernel
theorem dJ0_isLatin1_0 : decode cJ0_isLatin1 0 = .ok (.getstatic 38, 3) := dk_178 0 38 (dk_at dksJ0_isLatin1_0 0 rfl rfl)
theorem dJ0_isLatin1_3 : decode cJ0_isLatin1 3 = .ok (.ifCond .eq 14, 3) := dk_153 0 14 (dk_at dksJ0_isLatin1_0 3 rfl rfl)
theorem dJ0_isLatin1_6 : decode cJ0_isLatin1 6 = .ok (.aload_n 0, 1) := dk_42 (dk_at dksJ0_isLatin1_0 6 rfl rfl)
theorem dJ0_isLatin1_7 : decode cJ0_isLatin1 7 = .ok (.getfield 15, 3) := dk_180 0 15 (dk_at dksJ0_isLatin1_0 7 rfl rfl)
theorem dJ0_isLatin1_10 : decode cJ0_isLatin1 10 = .ok (.ifCond .ne 7, 3) := dk_154 0 7 (dk_at dksJ0_isLatin1_0 10 rfl rfl)
theorem dJ0_isLatin1_13 : decode cJ0_isLatin1 13 = .ok (.iconst 1, 1) := dk_4 (dk_at dksJ0_isLatin1_0 13 rfl rfl)
theorem dJ0_isLatin1_14 : decode cJ0_isLatin1 14 = .ok (.goto 4, 3) := dk_167 0 4 (dk_at dksJ0_isLatin1_0 14 rfl rfl)
theorem dJ0_isLatin1_17 : decode cJ0_isLatin1 17 = .ok (.iconst 0, 1) := dk_3 (dk_at dksJ0_isLatin1_0 17 rfl rfl)
theorem dJ0_isLatin1_18 : decode cJ0_isLatin1 18 = .ok (.ireturn, 1) := dk_172 (dk_at dksJ0_isLatin1_0 18 rfl rfl)
abbrev cJ0_checkIndex : ByteArray := prog_28_method_155_code
def yJ0_checkIndex : MethodName := ⟨RJ0, "checkIndex", "(II)V"⟩
def dkwJ0_checkIndex_0 : List UInt8 := [26, 27, 178, 4, 29, 184, 4, 35, 87, 177]
abbrev dktJ0_checkIndex_0 : List UInt8 := dkwJ0_checkIndex_0 ++ []
theorem dksJ0_checkIndex_0 : cJ0_checkIndex.data.toList.drop 0 = dktJ0_checkIndex_0 := by decide +kernel
theorem dJ0_checkIndex_0 : decode cJ0_checkIndex 0 = .ok (.iload_n 0, 1) := dk_26 (dk_at dksJ0_checkIndex_0 0 rfl rfl)
theorem dJ0_checkIndex_1 : decode cJ0_checkIndex 1 = .ok (.iload_n 1, 1) := dk_27 (dk_at dksJ0_checkIndex_0 1 rfl rfl)
theorem dJ0_checkIndex_2 : decode cJ0_checkIndex 2 = .ok (.getstatic 1053, 3) := dk_178 4 29 (dk_at dksJ0_checkIndex_0 2 rfl rfl)
theorem dJ0_checkIndex_5 : decode cJ0_checkIndex 5 = .ok (.invokestatic 1059, 3) := dk_184 4 35 (dk_at dksJ0_checkIndex_0 5 rfl rfl)
theorem dJ0_checkIndex_8 : decode cJ0_checkIndex 8 = .ok (.pop, 1) := dk_87 (dk_at dksJ0_checkIndex_0 8 rfl rfl)
theorem dJ0_checkIndex_9 : decode cJ0_checkIndex 9 = .ok (.return_, 1) := dk_177 (dk_at dksJ0_checkIndex_0 9 rfl rfl)
theorem q131 : (Jvm.Cond.initialized "java/lang/String") ∈ lw_all := lw_g (lw_at lw_m1 7 rfl) rfl
theorem q426 : (Jvm.Cond.instanceMethod ({ cls := "java/lang/String", name := "length", desc := "()I" } : Jvm.MethodName)) ∈ lw_all := lw_g (lw_at lw_m2 62 rfl) rfl
theorem q427 : (Jvm.Cond.selects "java/lang/String" ({ cls := "java/lang/String", name := "length", desc := "()I" } : Jvm.MethodName) ({ cls := "java/lang/String", name := "length", desc := "()I" } : Jvm.MethodName)) ∈ lw_all := lw_g (lw_at lw_m2 63 rfl) rfl
theorem q428 : (Jvm.Cond.code ({ cls := "java/lang/String", name := "length", desc := "()I" } : Jvm.MethodName) prog_28_method_54_code (1 : Nat) (Option.some Jvm.ClassFile.FieldType.int)) ∈ lw_all := lw_g (lw_at lw_m2 64 rfl) rfl
theorem q429 : (Jvm.Cond.methodLink "java/lang/String" (335 : Nat) ({ cls := "java/lang/String", name := "coder", desc := "()B" } : Jvm.MethodName)) ∈ lw_all := lw_g (lw_at lw_m2 65 rfl) rfl
theorem q430 : (Jvm.Cond.instanceMethod ({ cls := "java/lang/String", name := "coder", desc := "()B" } : Jvm.MethodName)) ∈ lw_all := lw_g (lw_at lw_m2 66 rfl) rfl
theorem q431 : (Jvm.Cond.selects "java/lang/String" ({ cls := "java/lang/String", name := "coder", desc := "()B" } : Jvm.MethodName) ({ cls := "java/lang/String", name := "coder", desc := "()B" } : Jvm.MethodName)) ∈ lw_all := lw_g (lw_at lw_m2 67 rfl) rfl
theorem q432 : (Jvm.Cond.code ({ cls := "java/lang/String", name := "coder", desc := "()B" } : Jvm.MethodName) prog_28_method_152_code (1 : Nat) (Option.some Jvm.ClassFile.FieldType.byte)) ∈ lw_all := lw_g (lw_at lw_m2 68 rfl) rfl
theorem q433 : (Jvm.Cond.fieldLink "java/lang/String" (38 : Nat) "java/lang/String" "COMPACT_STRINGS" "Z") ∈ lw_all := lw_g (lw_at lw_m2 69 rfl) rfl
theorem q434 : (Jvm.Cond.laysStatic "java/lang/String" "COMPACT_STRINGS" "Z") ∈ lw_tbl := lw_at lw_m2 70 rfl
theorem q436 : (Jvm.Cond.instanceMethod ({ cls := "java/lang/String", name := "charAt", desc := "(I)C" } : Jvm.MethodName)) ∈ lw_all := lw_g (lw_at lw_m2 72 rfl) rfl
theorem q437 : (Jvm.Cond.selects "java/lang/String" ({ cls := "java/lang/String", name := "charAt", desc := "(I)C" } : Jvm.MethodName) ({ cls := "java/lang/String", name := "charAt", desc := "(I)C" } : Jvm.MethodName)) ∈ lw_all := lw_g (lw_at lw_m2 73 rfl) rfl
theorem q438 : (Jvm.Cond.code ({ cls := "java/lang/String", name := "charAt", desc := "(I)C" } : Jvm.MethodName) prog_28_method_56_code (2 : Nat) (Option.some Jvm.ClassFile.FieldType.char)) ∈ lw_all := lw_g (lw_at lw_m2 74 rfl) rfl
theorem q439 : (Jvm.Cond.methodLink "java/lang/String" (492 : Nat) ({ cls := "java/lang/String", name := "isLatin1", desc := "()Z" } : Jvm.MethodName)) ∈ lw_all := lw_g (lw_at lw_m2 75 rfl) rfl
theorem q440 : (Jvm.Cond.instanceMethod ({ cls := "java/lang/String", name := "isLatin1", desc := "()Z" } : Jvm.MethodName)) ∈ lw_all := lw_g (lw_at lw_m2 76 rfl) rfl
theorem q441 : (Jvm.Cond.selects "java/lang/String" ({ cls := "java/lang/String", name := "isLatin1", desc := "()Z" } : Jvm.MethodName) ({ cls := "java/lang/String", name := "isLatin1", desc := "()Z" } : Jvm.MethodName)) ∈ lw_all := lw_g (lw_at lw_m2 77 rfl) rfl
theorem q442 : (Jvm.Cond.code ({ cls := "java/lang/String", name := "isLatin1", desc := "()Z" } : Jvm.MethodName) prog_28_method_154_code (1 : Nat) (Option.some Jvm.ClassFile.FieldType.boolean)) ∈ lw_all := lw_g (lw_at lw_m2 78 rfl) rfl
theorem q443 : (Jvm.Cond.methodLink "java/lang/String" (495 : Nat) ({ cls := "java/lang/StringLatin1", name := "charAt", desc := "([BI)C" } : Jvm.MethodName)) ∈ lw_all := lw_g (lw_at lw_m2 79 rfl) rfl
theorem q447 : (Jvm.Cond.static ({ cls := "java/lang/String", name := "checkIndex", desc := "(II)V" } : Jvm.MethodName)) ∈ lw_all := lw_g (lw_at lw_m2 83 rfl) rfl
theorem q448 : (Jvm.Cond.code ({ cls := "java/lang/String", name := "checkIndex", desc := "(II)V" } : Jvm.MethodName) prog_28_method_155_code (2 : Nat) (Option.none : Option Jvm.ClassFile.FieldType)) ∈ lw_all := lw_g (lw_at lw_m2 84 rfl) rfl
theorem q449 : (Jvm.Cond.fieldLink "java/lang/String" (1053 : Nat) "jdk/internal/util/Preconditions" "SIOOBE_FORMATTER" "Ljava/util/function/BiFunction;") ∈ lw_all := lw_g (lw_at lw_m2 85 rfl) rfl
theorem q451 : (Jvm.Cond.methodLink "java/lang/String" (1059 : Nat) ({ cls := "jdk/internal/util/Preconditions", name := "checkIndex", desc := "(IILjava/util/function/BiFunction;)I" } : Jvm.MethodName)) ∈ lw_all := lw_g (lw_at lw_m2 87 rfl) rfl
theorem q454 : (Jvm.Cond.methodLink "java/lang/String" (498 : Nat) ({ cls := "java/lang/StringUTF16", name := "charAt", desc := "([BI)C" } : Jvm.MethodName)) ∈ lw_all := lw_g (lw_at lw_m2 90 rfl) rfl
theorem q1953 : (Jvm.Cond.fieldLink "java/lang/String" (9 : Nat) "java/lang/String" "value" "[B") ∈ lw_all := lw_g (lw_at lw_m8 149 rfl) rfl
theorem q1954 : (Jvm.Cond.fieldLink "java/lang/String" (15 : Nat) "java/lang/String" "coder" "B") ∈ lw_all := lw_g (lw_at lw_m8 150 rfl) rfl

/-! java/lang/StringLatin1 -/
set_option maxRecDepth 100000
def RJ1 : String := "java/lang/StringLatin1"
abbrev cJ1_charAt : ByteArray := prog_29_method_2_code
def yJ1_charAt : MethodName := ⟨RJ1, "charAt", "([BI)C"⟩
def dkwJ1_charAt_0 : List UInt8 := [27, 42, 190, 184, 0, 9, 42, 27, 51, 17, 0, 255, 126, 146, 172]
abbrev dktJ1_charAt_0 : List UInt8 := dkwJ1_charAt_0 ++ []
theorem dksJ1_charAt_0 : cJ1_charAt.data.toList.drop 0 = dktJ1_charAt_0 := by decide +kernel
theorem dJ1_charAt_0 : decode cJ1_charAt 0 = .ok (.iload_n 1, 1) := dk_27 (dk_at dksJ1_charAt_0 0 rfl rfl)
theorem dJ1_charAt_1 : decode cJ1_charAt 1 = .ok (.aload_n 0, 1) := dk_42 (dk_at dksJ1_charAt_0 1 rfl rfl)
theorem dJ1_charAt_2 : decode cJ1_charAt 2 = .ok (.arraylength, 1) := dk_190 (dk_at dksJ1_charAt_0 2 rfl rfl)
theorem dJ1_charAt_3 : decode cJ1_charAt 3 = .ok (.invokestatic 9, 3) := dk_184 0 9 (dk_at dksJ1_charAt_0 3 rfl rfl)
theorem dJ1_charAt_6 : decode cJ1_charAt 6 = .ok (.aload_n 0, 1) := dk_42 (dk_at dksJ1_charAt_0 6 rfl rfl)
theorem dJ1_charAt_7 : decode cJ1_charAt 7 = .ok (.iload_n 1, 1) := dk_27 (dk_at dksJ1_charAt_0 7 rfl rfl)
theorem dJ1_charAt_8 : decode cJ1_charAt 8 = .ok (.baload, 1) := dk_51 (dk_at dksJ1_charAt_0 8 rfl rfl)
theorem dJ1_charAt_9 : decode cJ1_charAt 9 = .ok (.sipush 255, 3) := dk_17 0 255 (dk_at dksJ1_charAt_0 9 rfl rfl)
theorem dJ1_charAt_12 : decode cJ1_charAt 12 = .ok (.iand, 1) := dk_126 (dk_at dksJ1_charAt_0 12 rfl rfl)
theorem dJ1_charAt_13 : decode cJ1_charAt 13 = .ok (.i2c, 1) := dk_146 (dk_at dksJ1_charAt_0 13 rfl rfl)
theorem dJ1_charAt_14 : decode cJ1_charAt 14 = .ok (.ireturn, 1) := dk_172 (dk_at dksJ1_charAt_0 14 rfl rfl)
theorem q132 : (Jvm.Cond.initialized "java/lang/StringLatin1") ∈ lw_all := lw_g (lw_at lw_m1 8 rfl) rfl
theorem q444 : (Jvm.Cond.static ({ cls := "java/lang/StringLatin1", name := "charAt", desc := "([BI)C" } : Jvm.MethodName)) ∈ lw_all := lw_g (lw_at lw_m2 80 rfl) rfl
theorem q445 : (Jvm.Cond.code ({ cls := "java/lang/StringLatin1", name := "charAt", desc := "([BI)C" } : Jvm.MethodName) prog_29_method_2_code (2 : Nat) (Option.some Jvm.ClassFile.FieldType.char)) ∈ lw_all := lw_g (lw_at lw_m2 81 rfl) rfl
theorem q446 : (Jvm.Cond.methodLink "java/lang/StringLatin1" (9 : Nat) ({ cls := "java/lang/String", name := "checkIndex", desc := "(II)V" } : Jvm.MethodName)) ∈ lw_all := lw_g (lw_at lw_m2 82 rfl) rfl

/-! jdk/internal/util/Preconditions -/
set_option maxRecDepth 100000
def RJ2 : String := "jdk/internal/util/Preconditions"
abbrev cJ2_checkIndex : ByteArray := prog_33_method_11_code
def yJ2_checkIndex : MethodName := ⟨RJ2, "checkIndex", "(IILjava/util/function/BiFunction;)I"⟩
def dkwJ2_checkIndex_0 : List UInt8 := [26, 155, 0, 8, 26, 27, 161, 0, 10, 44, 26, 27, 184, 0, 95, 191, 26, 172]
abbrev dktJ2_checkIndex_0 : List UInt8 := dkwJ2_checkIndex_0 ++ []
theorem dksJ2_checkIndex_0 : cJ2_checkIndex.data.toList.drop 0 = dktJ2_checkIndex_0 := by decide +kernel
theorem dJ2_checkIndex_0 : decode cJ2_checkIndex 0 = .ok (.iload_n 0, 1) := dk_26 (dk_at dksJ2_checkIndex_0 0 rfl rfl)
theorem dJ2_checkIndex_1 : decode cJ2_checkIndex 1 = .ok (.ifCond .lt 8, 3) := dk_155 0 8 (dk_at dksJ2_checkIndex_0 1 rfl rfl)
theorem dJ2_checkIndex_4 : decode cJ2_checkIndex 4 = .ok (.iload_n 0, 1) := dk_26 (dk_at dksJ2_checkIndex_0 4 rfl rfl)
theorem dJ2_checkIndex_5 : decode cJ2_checkIndex 5 = .ok (.iload_n 1, 1) := dk_27 (dk_at dksJ2_checkIndex_0 5 rfl rfl)
theorem dJ2_checkIndex_6 : decode cJ2_checkIndex 6 = .ok (.if_icmp .lt 10, 3) := dk_161 0 10 (dk_at dksJ2_checkIndex_0 6 rfl rfl)
theorem dJ2_checkIndex_9 : decode cJ2_checkIndex 9 = .ok (.aload_n 2, 1) := dk_44 (dk_at dksJ2_checkIndex_0 9 rfl rfl)
theorem dJ2_checkIndex_10 : decode cJ2_checkIndex 10 = .ok (.iload_n 0, 1) := dk_26 (dk_at dksJ2_checkIndex_0 10 rfl rfl)
theorem dJ2_checkIndex_11 : decode cJ2_checkIndex 11 = .ok (.iload_n 1, 1) := dk_27 (dk_at dksJ2_checkIndex_0 11 rfl rfl)
theorem dJ2_checkIndex_12 : decode cJ2_checkIndex 12 = .ok (.invokestatic 95, 3) := dk_184 0 95 (dk_at dksJ2_checkIndex_0 12 rfl rfl)
theorem dJ2_checkIndex_15 : decode cJ2_checkIndex 15 = .ok (.athrow, 1) := dk_191 (dk_at dksJ2_checkIndex_0 15 rfl rfl)
theorem dJ2_checkIndex_16 : decode cJ2_checkIndex 16 = .ok (.iload_n 0, 1) := dk_26 (dk_at dksJ2_checkIndex_0 16 rfl rfl)
theorem dJ2_checkIndex_17 : decode cJ2_checkIndex 17 = .ok (.ireturn, 1) := dk_172 (dk_at dksJ2_checkIndex_0 17 rfl rfl)
theorem q133 : (Jvm.Cond.initialized "jdk/internal/util/Preconditions") ∈ lw_all := lw_g (lw_at lw_m1 9 rfl) rfl
theorem q450 : (Jvm.Cond.laysStatic "jdk/internal/util/Preconditions" "SIOOBE_FORMATTER" "Ljava/util/function/BiFunction;") ∈ lw_tbl := lw_at lw_m2 86 rfl
theorem q452 : (Jvm.Cond.static ({ cls := "jdk/internal/util/Preconditions", name := "checkIndex", desc := "(IILjava/util/function/BiFunction;)I" } : Jvm.MethodName)) ∈ lw_all := lw_g (lw_at lw_m2 88 rfl) rfl
theorem q453 : (Jvm.Cond.code ({ cls := "jdk/internal/util/Preconditions", name := "checkIndex", desc := "(IILjava/util/function/BiFunction;)I" } : Jvm.MethodName) prog_33_method_11_code (3 : Nat) (Option.some Jvm.ClassFile.FieldType.int)) ∈ lw_all := lw_g (lw_at lw_m2 89 rfl) rfl

/-! java/lang/StringUTF16 -/
set_option maxRecDepth 100000
def RJ3 : String := "java/lang/StringUTF16"
abbrev cJ3_charAt : ByteArray := prog_30_method_83_code
def yJ3_charAt : MethodName := ⟨RJ3, "charAt", "([BI)C"⟩
def dkwJ3_charAt_0 : List UInt8 := [27, 42, 184, 0, 67, 42, 27, 184, 0, 71, 172]
abbrev dktJ3_charAt_0 : List UInt8 := dkwJ3_charAt_0 ++ []
theorem dksJ3_charAt_0 : cJ3_charAt.data.toList.drop 0 = dktJ3_charAt_0 := by decide +kernel
theorem dJ3_charAt_0 : decode cJ3_charAt 0 = .ok (.iload_n 1, 1) := dk_27 (dk_at dksJ3_charAt_0 0 rfl rfl)
theorem dJ3_charAt_1 : decode cJ3_charAt 1 = .ok (.aload_n 0, 1) := dk_42 (dk_at dksJ3_charAt_0 1 rfl rfl)
theorem dJ3_charAt_2 : decode cJ3_charAt 2 = .ok (.invokestatic 67, 3) := dk_184 0 67 (dk_at dksJ3_charAt_0 2 rfl rfl)
theorem dJ3_charAt_5 : decode cJ3_charAt 5 = .ok (.aload_n 0, 1) := dk_42 (dk_at dksJ3_charAt_0 5 rfl rfl)
theorem dJ3_charAt_6 : decode cJ3_charAt 6 = .ok (.iload_n 1, 1) := dk_27 (dk_at dksJ3_charAt_0 6 rfl rfl)
theorem dJ3_charAt_7 : decode cJ3_charAt 7 = .ok (.invokestatic 71, 3) := dk_184 0 71 (dk_at dksJ3_charAt_0 7 rfl rfl)
theorem dJ3_charAt_10 : decode cJ3_charAt 10 = .ok (.ireturn, 1) := dk_172 (dk_at dksJ3_charAt_0 10 rfl rfl)
abbrev cJ3_checkIndex : ByteArray := prog_30_method_91_code
def yJ3_checkIndex : MethodName := ⟨RJ3, "checkIndex", "(I[B)V"⟩
def dkwJ3_checkIndex_0 : List UInt8 := [26, 43, 184, 0, 48, 184, 1, 158, 177]
abbrev dktJ3_checkIndex_0 : List UInt8 := dkwJ3_checkIndex_0 ++ []
theorem dksJ3_checkIndex_0 : cJ3_checkIndex.data.toList.drop 0 = dktJ3_checkIndex_0 := by decide +kernel
theorem dJ3_checkIndex_0 : decode cJ3_checkIndex 0 = .ok (.iload_n 0, 1) := dk_26 (dk_at dksJ3_checkIndex_0 0 rfl rfl)
theorem dJ3_checkIndex_1 : decode cJ3_checkIndex 1 = .ok (.aload_n 1, 1) := dk_43 (dk_at dksJ3_checkIndex_0 1 rfl rfl)
theorem dJ3_checkIndex_2 : decode cJ3_checkIndex 2 = .ok (.invokestatic 48, 3) := dk_184 0 48 (dk_at dksJ3_checkIndex_0 2 rfl rfl)
theorem dJ3_checkIndex_5 : decode cJ3_checkIndex 5 = .ok (.invokestatic 414, 3) := dk_184 1 158 (dk_at dksJ3_checkIndex_0 5 rfl rfl)
theorem dJ3_checkIndex_8 : decode cJ3_checkIndex 8 = .ok (.return_, 1) := dk_177 (dk_at dksJ3_checkIndex_0 8 rfl rfl)
abbrev cJ3_length : ByteArray := prog_30_method_6_code
def yJ3_length : MethodName := ⟨RJ3, "length", "([B)I"⟩
def dkwJ3_length_0 : List UInt8 := [42, 190, 4, 122, 172]
abbrev dktJ3_length_0 : List UInt8 := dkwJ3_length_0 ++ []
theorem dksJ3_length_0 : cJ3_length.data.toList.drop 0 = dktJ3_length_0 := by decide +kernel
theorem dJ3_length_0 : decode cJ3_length 0 = .ok (.aload_n 0, 1) := dk_42 (dk_at dksJ3_length_0 0 rfl rfl)
theorem dJ3_length_1 : decode cJ3_length 1 = .ok (.arraylength, 1) := dk_190 (dk_at dksJ3_length_0 1 rfl rfl)
theorem dJ3_length_2 : decode cJ3_length 2 = .ok (.iconst 1, 1) := dk_4 (dk_at dksJ3_length_0 2 rfl rfl)
theorem dJ3_length_3 : decode cJ3_length 3 = .ok (.ishr, 1) := dk_122 (dk_at dksJ3_length_0 3 rfl rfl)
theorem dJ3_length_4 : decode cJ3_length 4 = .ok (.ireturn, 1) := dk_172 (dk_at dksJ3_length_0 4 rfl rfl)
abbrev cJ3_getChar : ByteArray := prog_30_method_5_code
def yJ3_getChar : MethodName := ⟨RJ3, "getChar", "([BI)C"⟩
def dkwJ3_getChar_2 : List UInt8 := [51, 17, 0, 255, 126, 178, 0, 63, 120, 128, 146, 172]
abbrev dktJ3_getChar_2 : List UInt8 := dkwJ3_getChar_2 ++ []
def dkwJ3_getChar_1 : List UInt8 := [183, 0, 56, 191, 27, 4, 120, 60, 42, 27, 132, 1, 1, 51, 17, 0, 255, 126, 178, 0, 59, 120, 42, 27]
abbrev dktJ3_getChar_1 : List UInt8 := dkwJ3_getChar_1 ++ dktJ3_getChar_2
def dkwJ3_getChar_0 : List UInt8 := [178, 0, 44, 154, 0, 25, 27, 155, 0, 11, 27, 42, 184, 0, 48, 161, 0, 13, 187, 0, 52, 89, 18, 54]
abbrev dktJ3_getChar_0 : List UInt8 := dkwJ3_getChar_0 ++ dktJ3_getChar_1
theorem dksJ3_getChar_0 : cJ3_getChar.data.toList.drop 0 = dktJ3_getChar_0 := by decide +kernel
theorem dksJ3_getChar_1 : cJ3_getChar.data.toList.drop 24 = dktJ3_getChar_1 := dk_seg dksJ3_getChar_0 24 rfl rfl
theorem dksJ3_getChar_2 : cJ3_getChar.data.toList.drop 48 = dktJ3_getChar_2 := dk_seg dksJ3_getChar_1 24 rfl rfl
theorem dJ3_getChar_0 : decode cJ3_getChar 0 = .ok (.getstatic 44, 3) := dk_178 0 44 (dk_at dksJ3_getChar_0 0 rfl rfl)
theorem dJ3_getChar_3 : decode cJ3_getChar 3 = .ok (.ifCond .ne 25, 3) := dk_154 0 25 (dk_at dksJ3_getChar_0 3 rfl rfl)
theorem dJ3_getChar_6 : decode cJ3_getChar 6 = .ok (.iload_n 1, 1) := dk_27 (dk_at dksJ3_getChar_0 6 rfl rfl)
theorem dJ3_getChar_7 : decode cJ3_getChar 7 = .ok (.ifCond .lt 11, 3) := dk_155 0 11 (dk_at dksJ3_getChar_0 7 rfl rfl)
theorem dJ3_getChar_10 : decode cJ3_getChar 10 = .ok (.iload_n 1, 1) := dk_27 (dk_at dksJ3_getChar_0 10 rfl rfl)
theorem dJ3_getChar_11 : decode cJ3_getChar 11 = .ok (.aload_n 0, 1) := dk_42 (dk_at dksJ3_getChar_0 11 rfl rfl)
theorem dJ3_getChar_12 : decode cJ3_getChar 12 = .ok (.invokestatic 48, 3) := dk_184 0 48 (dk_at dksJ3_getChar_0 12 rfl rfl)
theorem dJ3_getChar_15 : decode cJ3_getChar 15 = .ok (.if_icmp .lt 13, 3) := dk_161 0 13 (dk_at dksJ3_getChar_0 15 rfl rfl)
theorem dJ3_getChar_18 : decode cJ3_getChar 18 = .ok (.new 52, 3) := dk_187 0 52 (dk_at dksJ3_getChar_0 18 rfl rfl)
theorem dJ3_getChar_21 : decode cJ3_getChar 21 = .ok (.dup, 1) := dk_89 (dk_at dksJ3_getChar_0 21 rfl rfl)
theorem dJ3_getChar_22 : decode cJ3_getChar 22 = .ok (.ldc 54, 2) := dk_18 54 (dk_at dksJ3_getChar_0 22 rfl rfl)
theorem dJ3_getChar_24 : decode cJ3_getChar 24 = .ok (.invokespecial 56, 3) := dk_183 0 56 (dk_at dksJ3_getChar_1 0 rfl rfl)
theorem dJ3_getChar_27 : decode cJ3_getChar 27 = .ok (.athrow, 1) := dk_191 (dk_at dksJ3_getChar_1 3 rfl rfl)
theorem dJ3_getChar_28 : decode cJ3_getChar 28 = .ok (.iload_n 1, 1) := dk_27 (dk_at dksJ3_getChar_1 4 rfl rfl)
theorem dJ3_getChar_29 : decode cJ3_getChar 29 = .ok (.iconst 1, 1) := dk_4 (dk_at dksJ3_getChar_1 5 rfl rfl)
theorem dJ3_getChar_30 : decode cJ3_getChar 30 = .ok (.ishl, 1) := dk_120 (dk_at dksJ3_getChar_1 6 rfl rfl)
theorem dJ3_getChar_31 : decode cJ3_getChar 31 = .ok (.istore_n 1, 1) := dk_60 (dk_at dksJ3_getChar_1 7 rfl rfl)
theorem dJ3_getChar_32 : decode cJ3_getChar 32 = .ok (.aload_n 0, 1) := dk_42 (dk_at dksJ3_getChar_1 8 rfl rfl)
theorem dJ3_getChar_33 : decode cJ3_getChar 33 = .ok (.iload_n 1, 1) := dk_27 (dk_at dksJ3_getChar_1 9 rfl rfl)
theorem dJ3_getChar_34 : decode cJ3_getChar 34 = .ok (.iinc 1 1, 3) := dk_132 1 1 (dk_at dksJ3_getChar_1 10 rfl rfl)
theorem dJ3_getChar_37 : decode cJ3_getChar 37 = .ok (.baload, 1) := dk_51 (dk_at dksJ3_getChar_1 13 rfl rfl)
theorem dJ3_getChar_38 : decode cJ3_getChar 38 = .ok (.sipush 255, 3) := dk_17 0 255 (dk_at dksJ3_getChar_1 14 rfl rfl)
theorem dJ3_getChar_41 : decode cJ3_getChar 41 = .ok (.iand, 1) := dk_126 (dk_at dksJ3_getChar_1 17 rfl rfl)
theorem dJ3_getChar_42 : decode cJ3_getChar 42 = .ok (.getstatic 59, 3) := dk_178 0 59 (dk_at dksJ3_getChar_1 18 rfl rfl)
theorem dJ3_getChar_45 : decode cJ3_getChar 45 = .ok (.ishl, 1) := dk_120 (dk_at dksJ3_getChar_1 21 rfl rfl)
theorem dJ3_getChar_46 : decode cJ3_getChar 46 = .ok (.aload_n 0, 1) := dk_42 (dk_at dksJ3_getChar_1 22 rfl rfl)
theorem dJ3_getChar_47 : decode cJ3_getChar 47 = .ok (.iload_n 1, 1) := dk_27 (dk_at dksJ3_getChar_1 23 rfl rfl)
theorem dJ3_getChar_48 : decode cJ3_getChar 48 = .ok (.baload, 1) := dk_51 (dk_at dksJ3_getChar_2 0 rfl rfl)
theorem dJ3_getChar_49 : decode cJ3_getChar 49 = .ok (.sipush 255, 3) := dk_17 0 255 (dk_at dksJ3_getChar_2 1 rfl rfl)
theorem dJ3_getChar_52 : decode cJ3_getChar 52 = .ok (.iand, 1) := dk_126 (dk_at dksJ3_getChar_2 4 rfl rfl)
theorem dJ3_getChar_53 : decode cJ3_getChar 53 = .ok (.getstatic 63, 3) := dk_178 0 63 (dk_at dksJ3_getChar_2 5 rfl rfl)
theorem dJ3_getChar_56 : decode cJ3_getChar 56 = .ok (.ishl, 1) := dk_120 (dk_at dksJ3_getChar_2 8 rfl rfl)
theorem dJ3_getChar_57 : decode cJ3_getChar 57 = .ok (.ior, 1) := dk_128 (dk_at dksJ3_getChar_2 9 rfl rfl)
theorem dJ3_getChar_58 : decode cJ3_getChar 58 = .ok (.i2c, 1) := dk_146 (dk_at dksJ3_getChar_2 10 rfl rfl)
theorem dJ3_getChar_59 : decode cJ3_getChar 59 = .ok (.ireturn, 1) := dk_172 (dk_at dksJ3_getChar_2 11 rfl rfl)
theorem q134 : (Jvm.Cond.initialized "java/lang/StringUTF16") ∈ lw_all := lw_g (lw_at lw_m1 10 rfl) rfl
theorem q455 : (Jvm.Cond.static ({ cls := "java/lang/StringUTF16", name := "charAt", desc := "([BI)C" } : Jvm.MethodName)) ∈ lw_all := lw_g (lw_at lw_m2 91 rfl) rfl
theorem q456 : (Jvm.Cond.code ({ cls := "java/lang/StringUTF16", name := "charAt", desc := "([BI)C" } : Jvm.MethodName) prog_30_method_83_code (2 : Nat) (Option.some Jvm.ClassFile.FieldType.char)) ∈ lw_all := lw_g (lw_at lw_m2 92 rfl) rfl
theorem q457 : (Jvm.Cond.methodLink "java/lang/StringUTF16" (67 : Nat) ({ cls := "java/lang/StringUTF16", name := "checkIndex", desc := "(I[B)V" } : Jvm.MethodName)) ∈ lw_all := lw_g (lw_at lw_m2 93 rfl) rfl
theorem q458 : (Jvm.Cond.static ({ cls := "java/lang/StringUTF16", name := "checkIndex", desc := "(I[B)V" } : Jvm.MethodName)) ∈ lw_all := lw_g (lw_at lw_m2 94 rfl) rfl
theorem q459 : (Jvm.Cond.code ({ cls := "java/lang/StringUTF16", name := "checkIndex", desc := "(I[B)V" } : Jvm.MethodName) prog_30_method_91_code (2 : Nat) (Option.none : Option Jvm.ClassFile.FieldType)) ∈ lw_all := lw_g (lw_at lw_m2 95 rfl) rfl
theorem q460 : (Jvm.Cond.methodLink "java/lang/StringUTF16" (48 : Nat) ({ cls := "java/lang/StringUTF16", name := "length", desc := "([B)I" } : Jvm.MethodName)) ∈ lw_all := lw_g (lw_at lw_m2 96 rfl) rfl
theorem q461 : (Jvm.Cond.static ({ cls := "java/lang/StringUTF16", name := "length", desc := "([B)I" } : Jvm.MethodName)) ∈ lw_all := lw_g (lw_at lw_m2 97 rfl) rfl
theorem q462 : (Jvm.Cond.code ({ cls := "java/lang/StringUTF16", name := "length", desc := "([B)I" } : Jvm.MethodName) prog_30_method_6_code (1 : Nat) (Option.some Jvm.ClassFile.FieldType.int)) ∈ lw_all := lw_g (lw_at lw_m2 98 rfl) rfl
theorem q463 : (Jvm.Cond.methodLink "java/lang/StringUTF16" (414 : Nat) ({ cls := "java/lang/String", name := "checkIndex", desc := "(II)V" } : Jvm.MethodName)) ∈ lw_all := lw_g (lw_at lw_m2 99 rfl) rfl
theorem q464 : (Jvm.Cond.methodLink "java/lang/StringUTF16" (71 : Nat) ({ cls := "java/lang/StringUTF16", name := "getChar", desc := "([BI)C" } : Jvm.MethodName)) ∈ lw_all := lw_g (lw_at lw_m2 100 rfl) rfl
theorem q465 : (Jvm.Cond.static ({ cls := "java/lang/StringUTF16", name := "getChar", desc := "([BI)C" } : Jvm.MethodName)) ∈ lw_all := lw_g (lw_at lw_m2 101 rfl) rfl
theorem q466 : (Jvm.Cond.code ({ cls := "java/lang/StringUTF16", name := "getChar", desc := "([BI)C" } : Jvm.MethodName) prog_30_method_5_code (2 : Nat) (Option.some Jvm.ClassFile.FieldType.char)) ∈ lw_all := lw_g (lw_at lw_m2 102 rfl) rfl
theorem q467 : (Jvm.Cond.fieldLink "java/lang/StringUTF16" (44 : Nat) "java/lang/StringUTF16" "$assertionsDisabled" "Z") ∈ lw_all := lw_g (lw_at lw_m2 103 rfl) rfl
theorem q468 : (Jvm.Cond.laysStatic "java/lang/StringUTF16" "$assertionsDisabled" "Z") ∈ lw_tbl := lw_at lw_m2 104 rfl
theorem q469 : (Jvm.Cond.fieldLink "java/lang/StringUTF16" (59 : Nat) "java/lang/StringUTF16" "HI_BYTE_SHIFT" "I") ∈ lw_all := lw_g (lw_at lw_m2 105 rfl) rfl
theorem q470 : (Jvm.Cond.laysStatic "java/lang/StringUTF16" "HI_BYTE_SHIFT" "I") ∈ lw_tbl := lw_at lw_m2 106 rfl
theorem q471 : (Jvm.Cond.fieldLink "java/lang/StringUTF16" (63 : Nat) "java/lang/StringUTF16" "LO_BYTE_SHIFT" "I") ∈ lw_all := lw_g (lw_at lw_m2 107 rfl) rfl
theorem q472 : (Jvm.Cond.laysStatic "java/lang/StringUTF16" "LO_BYTE_SHIFT" "I") ∈ lw_tbl := lw_at lw_m2 108 rfl

/-! java/lang/Math -/
set_option maxRecDepth 100000
def RJ4 : String := "java/lang/Math"
abbrev cJ4_min : ByteArray := prog_26_method_69_code
def yJ4_min : MethodName := ⟨RJ4, "min", "(II)I"⟩
def dkwJ4_min_0 : List UInt8 := [26, 27, 163, 0, 7, 26, 167, 0, 4, 27, 172]
abbrev dktJ4_min_0 : List UInt8 := dkwJ4_min_0 ++ []
theorem dksJ4_min_0 : cJ4_min.data.toList.drop 0 = dktJ4_min_0 := by decide +kernel
theorem dJ4_min_0 : decode cJ4_min 0 = .ok (.iload_n 0, 1) := dk_26 (dk_at dksJ4_min_0 0 rfl rfl)
theorem dJ4_min_1 : decode cJ4_min 1 = .ok (.iload_n 1, 1) := dk_27 (dk_at dksJ4_min_0 1 rfl rfl)
theorem dJ4_min_2 : decode cJ4_min 2 = .ok (.if_icmp .gt 7, 3) := dk_163 0 7 (dk_at dksJ4_min_0 2 rfl rfl)
theorem dJ4_min_5 : decode cJ4_min 5 = .ok (.iload_n 0, 1) := dk_26 (dk_at dksJ4_min_0 5 rfl rfl)
theorem dJ4_min_6 : decode cJ4_min 6 = .ok (.goto 4, 3) := dk_167 0 4 (dk_at dksJ4_min_0 6 rfl rfl)
theorem dJ4_min_9 : decode cJ4_min 9 = .ok (.iload_n 1, 1) := dk_27 (dk_at dksJ4_min_0 9 rfl rfl)
theorem dJ4_min_10 : decode cJ4_min 10 = .ok (.ireturn, 1) := dk_172 (dk_at dksJ4_min_0 10 rfl rfl)
abbrev cJ4_min_2 : ByteArray := prog_26_method_70_code
def yJ4_min_2 : MethodName := ⟨RJ4, "min", "(JJ)J"⟩
def dkwJ4_min_2_0 : List UInt8 := [30, 32, 148, 157, 0, 7, 30, 167, 0, 4, 32, 173]
abbrev dktJ4_min_2_0 : List UInt8 := dkwJ4_min_2_0 ++ []
theorem dksJ4_min_2_0 : cJ4_min_2.data.toList.drop 0 = dktJ4_min_2_0 := by decide +kernel
theorem dJ4_min_2_0 : decode cJ4_min_2 0 = .ok (.lload_n 0, 1) := dk_30 (dk_at dksJ4_min_2_0 0 rfl rfl)
theorem dJ4_min_2_1 : decode cJ4_min_2 1 = .ok (.lload_n 2, 1) := dk_32 (dk_at dksJ4_min_2_0 1 rfl rfl)
theorem dJ4_min_2_2 : decode cJ4_min_2 2 = .ok (.lcmp, 1) := dk_148 (dk_at dksJ4_min_2_0 2 rfl rfl)
theorem dJ4_min_2_3 : decode cJ4_min_2 3 = .ok (.ifCond .gt 7, 3) := dk_157 0 7 (dk_at dksJ4_min_2_0 3 rfl rfl)
theorem dJ4_min_2_6 : decode cJ4_min_2 6 = .ok (.lload_n 0, 1) := dk_30 (dk_at dksJ4_min_2_0 6 rfl rfl)
theorem dJ4_min_2_7 : decode cJ4_min_2 7 = .ok (.goto 4, 3) := dk_167 0 4 (dk_at dksJ4_min_2_0 7 rfl rfl)
theorem dJ4_min_2_10 : decode cJ4_min_2 10 = .ok (.lload_n 2, 1) := dk_32 (dk_at dksJ4_min_2_0 10 rfl rfl)
theorem dJ4_min_2_11 : decode cJ4_min_2 11 = .ok (.lreturn, 1) := dk_173 (dk_at dksJ4_min_2_0 11 rfl rfl)
abbrev cJ4_max : ByteArray := prog_26_method_65_code
def yJ4_max : MethodName := ⟨RJ4, "max", "(II)I"⟩
def dkwJ4_max_0 : List UInt8 := [26, 27, 161, 0, 7, 26, 167, 0, 4, 27, 172]
abbrev dktJ4_max_0 : List UInt8 := dkwJ4_max_0 ++ []
theorem dksJ4_max_0 : cJ4_max.data.toList.drop 0 = dktJ4_max_0 := by decide +kernel
theorem dJ4_max_0 : decode cJ4_max 0 = .ok (.iload_n 0, 1) := dk_26 (dk_at dksJ4_max_0 0 rfl rfl)
theorem dJ4_max_1 : decode cJ4_max 1 = .ok (.iload_n 1, 1) := dk_27 (dk_at dksJ4_max_0 1 rfl rfl)
theorem dJ4_max_2 : decode cJ4_max 2 = .ok (.if_icmp .lt 7, 3) := dk_161 0 7 (dk_at dksJ4_max_0 2 rfl rfl)
theorem dJ4_max_5 : decode cJ4_max 5 = .ok (.iload_n 0, 1) := dk_26 (dk_at dksJ4_max_0 5 rfl rfl)
theorem dJ4_max_6 : decode cJ4_max 6 = .ok (.goto 4, 3) := dk_167 0 4 (dk_at dksJ4_max_0 6 rfl rfl)
theorem dJ4_max_9 : decode cJ4_max 9 = .ok (.iload_n 1, 1) := dk_27 (dk_at dksJ4_max_0 9 rfl rfl)
theorem dJ4_max_10 : decode cJ4_max 10 = .ok (.ireturn, 1) := dk_172 (dk_at dksJ4_max_0 10 rfl rfl)
abbrev cJ4_max_2 : ByteArray := prog_26_method_66_code
def yJ4_max_2 : MethodName := ⟨RJ4, "max", "(JJ)J"⟩
def dkwJ4_max_2_0 : List UInt8 := [30, 32, 148, 155, 0, 7, 30, 167, 0, 4, 32, 173]
abbrev dktJ4_max_2_0 : List UInt8 := dkwJ4_max_2_0 ++ []
theorem dksJ4_max_2_0 : cJ4_max_2.data.toList.drop 0 = dktJ4_max_2_0 := by decide +kernel
theorem dJ4_max_2_0 : decode cJ4_max_2 0 = .ok (.lload_n 0, 1) := dk_30 (dk_at dksJ4_max_2_0 0 rfl rfl)
theorem dJ4_max_2_1 : decode cJ4_max_2 1 = .ok (.lload_n 2, 1) := dk_32 (dk_at dksJ4_max_2_0 1 rfl rfl)
theorem dJ4_max_2_2 : decode cJ4_max_2 2 = .ok (.lcmp, 1) := dk_148 (dk_at dksJ4_max_2_0 2 rfl rfl)
theorem dJ4_max_2_3 : decode cJ4_max_2 3 = .ok (.ifCond .lt 7, 3) := dk_155 0 7 (dk_at dksJ4_max_2_0 3 rfl rfl)
theorem dJ4_max_2_6 : decode cJ4_max_2 6 = .ok (.lload_n 0, 1) := dk_30 (dk_at dksJ4_max_2_0 6 rfl rfl)
theorem dJ4_max_2_7 : decode cJ4_max_2 7 = .ok (.goto 4, 3) := dk_167 0 4 (dk_at dksJ4_max_2_0 7 rfl rfl)
theorem dJ4_max_2_10 : decode cJ4_max_2 10 = .ok (.lload_n 2, 1) := dk_32 (dk_at dksJ4_max_2_0 10 rfl rfl)
theorem dJ4_max_2_11 : decode cJ4_max_2 11 = .ok (.lreturn, 1) := dk_173 (dk_at dksJ4_max_2_0 11 rfl rfl)
theorem q135 : (Jvm.Cond.initialized "java/lang/Math") ∈ lw_all := lw_g (lw_at lw_m1 11 rfl) rfl
theorem q481 : (Jvm.Cond.static ({ cls := "java/lang/Math", name := "min", desc := "(II)I" } : Jvm.MethodName)) ∈ lw_all := lw_g (lw_at lw_m2 117 rfl) rfl
theorem q482 : (Jvm.Cond.code ({ cls := "java/lang/Math", name := "min", desc := "(II)I" } : Jvm.MethodName) prog_26_method_69_code (2 : Nat) (Option.some Jvm.ClassFile.FieldType.int)) ∈ lw_all := lw_g (lw_at lw_m2 118 rfl) rfl
theorem q930 : (Jvm.Cond.static ({ cls := "java/lang/Math", name := "min", desc := "(JJ)J" } : Jvm.MethodName)) ∈ lw_all := lw_g (lw_at lw_m4 86 rfl) rfl
theorem q931 : (Jvm.Cond.code ({ cls := "java/lang/Math", name := "min", desc := "(JJ)J" } : Jvm.MethodName) prog_26_method_70_code (4 : Nat) (Option.some Jvm.ClassFile.FieldType.long)) ∈ lw_all := lw_g (lw_at lw_m4 87 rfl) rfl
theorem q976 : (Jvm.Cond.static ({ cls := "java/lang/Math", name := "max", desc := "(II)I" } : Jvm.MethodName)) ∈ lw_all := lw_g (lw_at lw_m4 132 rfl) rfl
theorem q977 : (Jvm.Cond.code ({ cls := "java/lang/Math", name := "max", desc := "(II)I" } : Jvm.MethodName) prog_26_method_65_code (2 : Nat) (Option.some Jvm.ClassFile.FieldType.int)) ∈ lw_all := lw_g (lw_at lw_m4 133 rfl) rfl
theorem q1043 : (Jvm.Cond.static ({ cls := "java/lang/Math", name := "max", desc := "(JJ)J" } : Jvm.MethodName)) ∈ lw_all := lw_g (lw_at lw_m4 199 rfl) rfl
theorem q1044 : (Jvm.Cond.code ({ cls := "java/lang/Math", name := "max", desc := "(JJ)J" } : Jvm.MethodName) prog_26_method_66_code (4 : Nat) (Option.some Jvm.ClassFile.FieldType.long)) ∈ lw_all := lw_g (lw_at lw_m4 200 rfl) rfl

/-! java/lang/Throwable -/
set_option maxRecDepth 100000
def RJ5 : String := "java/lang/Throwable"
def TJ5 : u_T := fun k => match k with
  | 0 => ("java/lang/Throwable", "cause", "Ljava/lang/Throwable;", false)
  | 1 => ("java/lang/Throwable", "stackTrace", "[Ljava/lang/StackTraceElement;", false)
  | 2 => ("java/lang/Throwable", "suppressedExceptions", "Ljava/util/List;", false)
  | 3 => ("java/lang/Throwable", "detailMessage", "Ljava/lang/String;", false)
  | _ => ("java/lang/Throwable", "backtrace", "Ljava/lang/Object;", false)
def tyJ5 : Nat → FieldType := fun k => match k with
  | 0 => .object "java/lang/Throwable"
  | 1 => .array (.object "java/lang/StackTraceElement")
  | 2 => .object "java/util/List"
  | 3 => .object "java/lang/String"
  | _ => .object "java/lang/Object"
abbrev wsJ50 : List Cond := u_ws RJ5 TJ5 5
theorem nmJ5 : ∀ a, a < 5 → ∀ b, b < 5 → a ≠ b → (TJ5 a).2.1 ≠ (TJ5 b).2.1 := by decide +kernel
theorem tyJ5_ok : ∀ k, k < 5 → parseFieldDescriptor (TJ5 k).2.2.1 = some (tyJ5 k) := by decide +kernel
abbrev cJ5_init : ByteArray := prog_32_method_1_code
def yJ5_init : MethodName := ⟨RJ5, "<init>", "()V"⟩
def dkwJ5_init_1 : List UInt8 := [182, 0, 27, 87, 177]
abbrev dktJ5_init_1 : List UInt8 := dkwJ5_init_1 ++ []
def dkwJ5_init_0 : List UInt8 := [42, 183, 0, 1, 42, 42, 181, 0, 7, 42, 178, 0, 13, 181, 0, 17, 42, 178, 0, 20, 181, 0, 24, 42]
abbrev dktJ5_init_0 : List UInt8 := dkwJ5_init_0 ++ dktJ5_init_1
theorem dksJ5_init_0 : cJ5_init.data.toList.drop 0 = dktJ5_init_0 := by decide +kernel
theorem dksJ5_init_1 : cJ5_init.data.toList.drop 24 = dktJ5_init_1 := dk_seg dksJ5_init_0 24 rfl rfl
theorem dJ5_init_0 : decode cJ5_init 0 = .ok (.aload_n 0, 1) := dk_42 (dk_at dksJ5_init_0 0 rfl rfl)
theorem dJ5_init_1 : decode cJ5_init 1 = .ok (.invokespecial 1, 3) := dk_183 0 1 (dk_at dksJ5_init_0 1 rfl rfl)
theorem dJ5_init_4 : decode cJ5_init 4 = .ok (.aload_n 0, 1) := dk_42 (dk_at dksJ5_init_0 4 rfl rfl)
theorem dJ5_init_5 : decode cJ5_init 5 = .ok (.aload_n 0, 1) := dk_42 (dk_at dksJ5_init_0 5 rfl rfl)
theorem dJ5_init_6 : decode cJ5_init 6 = .ok (.putfield 7, 3) := dk_181 0 7 (dk_at dksJ5_init_0 6 rfl rfl)
theorem dJ5_init_9 : decode cJ5_init 9 = .ok (.aload_n 0, 1) := dk_42 (dk_at dksJ5_init_0 9 rfl rfl)
theorem dJ5_init_10 : decode cJ5_init 10 = .ok (.getstatic 13, 3) := dk_178 0 13 (dk_at dksJ5_init_0 10 rfl rfl)
theorem dJ5_init_13 : decode cJ5_init 13 = .ok (.putfield 17, 3) := dk_181 0 17 (dk_at dksJ5_init_0 13 rfl rfl)
theorem dJ5_init_16 : decode cJ5_init 16 = .ok (.aload_n 0, 1) := dk_42 (dk_at dksJ5_init_0 16 rfl rfl)
theorem dJ5_init_17 : decode cJ5_init 17 = .ok (.getstatic 20, 3) := dk_178 0 20 (dk_at dksJ5_init_0 17 rfl rfl)
theorem dJ5_init_20 : decode cJ5_init 20 = .ok (.putfield 24, 3) := dk_181 0 24 (dk_at dksJ5_init_0 20 rfl rfl)
theorem dJ5_init_23 : decode cJ5_init 23 = .ok (.aload_n 0, 1) := dk_42 (dk_at dksJ5_init_0 23 rfl rfl)
theorem dJ5_init_24 : decode cJ5_init 24 = .ok (.invokevirtual 27, 3) := dk_182 0 27 (dk_at dksJ5_init_1 0 rfl rfl)
theorem dJ5_init_27 : decode cJ5_init 27 = .ok (.pop, 1) := dk_87 (dk_at dksJ5_init_1 3 rfl rfl)
theorem dJ5_init_28 : decode cJ5_init 28 = .ok (.return_, 1) := dk_177 (dk_at dksJ5_init_1 4 rfl rfl)
abbrev cJ5_init_2 : ByteArray := prog_32_method_5_code
def yJ5_init_2 : MethodName := ⟨RJ5, "<init>", "(Ljava/lang/String;Ljava/lang/Throwable;ZZ)V"⟩
def dkwJ5_init_2_2 : List UInt8 := [44, 181, 0, 7, 29, 154, 0, 8, 42, 1, 181, 0, 24, 177]
abbrev dktJ5_init_2_2 : List UInt8 := dkwJ5_init_2_2 ++ []
def dkwJ5_init_2_1 : List UInt8 := [21, 4, 153, 0, 11, 42, 182, 0, 27, 87, 167, 0, 8, 42, 1, 181, 0, 17, 42, 43, 181, 0, 31, 42]
abbrev dktJ5_init_2_1 : List UInt8 := dkwJ5_init_2_1 ++ dktJ5_init_2_2
def dkwJ5_init_2_0 : List UInt8 := [42, 183, 0, 1, 42, 42, 181, 0, 7, 42, 178, 0, 13, 181, 0, 17, 42, 178, 0, 20, 181, 0, 24]
abbrev dktJ5_init_2_0 : List UInt8 := dkwJ5_init_2_0 ++ dktJ5_init_2_1
theorem dksJ5_init_2_0 : cJ5_init_2.data.toList.drop 0 = dktJ5_init_2_0 := by decide +kernel
theorem dksJ5_init_2_1 : cJ5_init_2.data.toList.drop 23 = dktJ5_init_2_1 := dk_seg dksJ5_init_2_0 23 rfl rfl
theorem dksJ5_init_2_2 : cJ5_init_2.data.toList.drop 47 = dktJ5_init_2_2 := dk_seg dksJ5_init_2_1 24 rfl rfl
theorem dJ5_init_2_0 : decode cJ5_init_2 0 = .ok (.aload_n 0, 1) := dk_42 (dk_at dksJ5_init_2_0 0 rfl rfl)
theorem dJ5_init_2_1 : decode cJ5_init_2 1 = .ok (.invokespecial 1, 3) := dk_183 0 1 (dk_at dksJ5_init_2_0 1 rfl rfl)
theorem dJ5_init_2_4 : decode cJ5_init_2 4 = .ok (.aload_n 0, 1) := dk_42 (dk_at dksJ5_init_2_0 4 rfl rfl)
theorem dJ5_init_2_5 : decode cJ5_init_2 5 = .ok (.aload_n 0, 1) := dk_42 (dk_at dksJ5_init_2_0 5 rfl rfl)
theorem dJ5_init_2_6 : decode cJ5_init_2 6 = .ok (.putfield 7, 3) := dk_181 0 7 (dk_at dksJ5_init_2_0 6 rfl rfl)
theorem dJ5_init_2_9 : decode cJ5_init_2 9 = .ok (.aload_n 0, 1) := dk_42 (dk_at dksJ5_init_2_0 9 rfl rfl)
theorem dJ5_init_2_10 : decode cJ5_init_2 10 = .ok (.getstatic 13, 3) := dk_178 0 13 (dk_at dksJ5_init_2_0 10 rfl rfl)
theorem dJ5_init_2_13 : decode cJ5_init_2 13 = .ok (.putfield 17, 3) := dk_181 0 17 (dk_at dksJ5_init_2_0 13 rfl rfl)
theorem dJ5_init_2_16 : decode cJ5_init_2 16 = .ok (.aload_n 0, 1) := dk_42 (dk_at dksJ5_init_2_0 16 rfl rfl)
theorem dJ5_init_2_17 : decode cJ5_init_2 17 = .ok (.getstatic 20, 3) := dk_178 0 20 (dk_at dksJ5_init_2_0 17 rfl rfl)
theorem dJ5_init_2_20 : decode cJ5_init_2 20 = .ok (.putfield 24, 3) := dk_181 0 24 (dk_at dksJ5_init_2_0 20 rfl rfl)
theorem dJ5_init_2_23 : decode cJ5_init_2 23 = .ok (.iload 4, 2) := dk_21 4 (dk_at dksJ5_init_2_1 0 rfl rfl)
theorem dJ5_init_2_25 : decode cJ5_init_2 25 = .ok (.ifCond .eq 11, 3) := dk_153 0 11 (dk_at dksJ5_init_2_1 2 rfl rfl)
theorem dJ5_init_2_28 : decode cJ5_init_2 28 = .ok (.aload_n 0, 1) := dk_42 (dk_at dksJ5_init_2_1 5 rfl rfl)
theorem dJ5_init_2_29 : decode cJ5_init_2 29 = .ok (.invokevirtual 27, 3) := dk_182 0 27 (dk_at dksJ5_init_2_1 6 rfl rfl)
theorem dJ5_init_2_32 : decode cJ5_init_2 32 = .ok (.pop, 1) := dk_87 (dk_at dksJ5_init_2_1 9 rfl rfl)
theorem dJ5_init_2_33 : decode cJ5_init_2 33 = .ok (.goto 8, 3) := dk_167 0 8 (dk_at dksJ5_init_2_1 10 rfl rfl)
theorem dJ5_init_2_36 : decode cJ5_init_2 36 = .ok (.aload_n 0, 1) := dk_42 (dk_at dksJ5_init_2_1 13 rfl rfl)
theorem dJ5_init_2_37 : decode cJ5_init_2 37 = .ok (.aconst_null, 1) := dk_1 (dk_at dksJ5_init_2_1 14 rfl rfl)
theorem dJ5_init_2_38 : decode cJ5_init_2 38 = .ok (.putfield 17, 3) := dk_181 0 17 (dk_at dksJ5_init_2_1 15 rfl rfl)
theorem dJ5_init_2_41 : decode cJ5_init_2 41 = .ok (.aload_n 0, 1) := dk_42 (dk_at dksJ5_init_2_1 18 rfl rfl)
theorem dJ5_init_2_42 : decode cJ5_init_2 42 = .ok (.aload_n 1, 1) := dk_43 (dk_at dksJ5_init_2_1 19 rfl rfl)
theorem dJ5_init_2_43 : decode cJ5_init_2 43 = .ok (.putfield 31, 3) := dk_181 0 31 (dk_at dksJ5_init_2_1 20 rfl rfl)
theorem dJ5_init_2_46 : decode cJ5_init_2 46 = .ok (.aload_n 0, 1) := dk_42 (dk_at dksJ5_init_2_1 23 rfl rfl)
theorem dJ5_init_2_47 : decode cJ5_init_2 47 = .ok (.aload_n 2, 1) := dk_44 (dk_at dksJ5_init_2_2 0 rfl rfl)
theorem dJ5_init_2_48 : decode cJ5_init_2 48 = .ok (.putfield 7, 3) := dk_181 0 7 (dk_at dksJ5_init_2_2 1 rfl rfl)
theorem dJ5_init_2_51 : decode cJ5_init_2 51 = .ok (.iload_n 3, 1) := dk_29 (dk_at dksJ5_init_2_2 4 rfl rfl)
theorem dJ5_init_2_52 : decode cJ5_init_2 52 = .ok (.ifCond .ne 8, 3) := dk_154 0 8 (dk_at dksJ5_init_2_2 5 rfl rfl)
theorem dJ5_init_2_55 : decode cJ5_init_2 55 = .ok (.aload_n 0, 1) := dk_42 (dk_at dksJ5_init_2_2 8 rfl rfl)
theorem dJ5_init_2_56 : decode cJ5_init_2 56 = .ok (.aconst_null, 1) := dk_1 (dk_at dksJ5_init_2_2 9 rfl rfl)
theorem dJ5_init_2_57 : decode cJ5_init_2 57 = .ok (.putfield 24, 3) := dk_181 0 24 (dk_at dksJ5_init_2_2 10 rfl rfl)
theorem dJ5_init_2_60 : decode cJ5_init_2 60 = .ok (.return_, 1) := dk_177 (dk_at dksJ5_init_2_2 13 rfl rfl)
theorem q136 : (Jvm.Cond.initialized "java/lang/Throwable") ∈ lw_all := lw_g (lw_at lw_m1 12 rfl) rfl
theorem q497 : (Jvm.Cond.declares ({ cls := "java/lang/Throwable", name := "<init>", desc := "()V" } : Jvm.MethodName)) ∈ lw_tbl := lw_at lw_m2 133 rfl
theorem q498 : (Jvm.Cond.declares ({ cls := "java/lang/Throwable", name := "<init>", desc := "(Ljava/lang/String;)V" } : Jvm.MethodName)) ∈ lw_tbl := lw_at lw_m2 134 rfl
theorem q502 : (Jvm.Cond.lays "java/lang/Throwable" "java/lang/Throwable" "cause" "Ljava/lang/Throwable;") ∈ lw_all := lw_g (lw_at lw_m2 138 rfl) rfl
theorem q504 : (Jvm.Cond.lays "java/lang/Throwable" "java/lang/Throwable" "stackTrace" "[Ljava/lang/StackTraceElement;") ∈ lw_all := lw_g (lw_at lw_m2 140 rfl) rfl
theorem q506 : (Jvm.Cond.lays "java/lang/Throwable" "java/lang/Throwable" "suppressedExceptions" "Ljava/util/List;") ∈ lw_all := lw_g (lw_at lw_m2 142 rfl) rfl
theorem q508 : (Jvm.Cond.lays "java/lang/Throwable" "java/lang/Throwable" "detailMessage" "Ljava/lang/String;") ∈ lw_all := lw_g (lw_at lw_m2 144 rfl) rfl
theorem q510 : (Jvm.Cond.lays "java/lang/Throwable" "java/lang/Throwable" "backtrace" "Ljava/lang/Object;") ∈ lw_all := lw_g (lw_at lw_m2 146 rfl) rfl
theorem q511 : (Jvm.Cond.fieldLink "java/lang/Throwable" (198 : Nat) "java/lang/Throwable" "backtrace" "Ljava/lang/Object;") ∈ lw_all := lw_g (lw_at lw_m2 147 rfl) rfl
theorem q512 : (Jvm.Cond.superclass "java/lang/Throwable" "java/lang/Object") ∈ lw_all := lw_g (lw_at lw_m2 148 rfl) rfl
theorem q513 : (Jvm.Cond.instanceMethod ({ cls := "java/lang/Throwable", name := "<init>", desc := "()V" } : Jvm.MethodName)) ∈ lw_all := lw_g (lw_at lw_m2 149 rfl) rfl
theorem q514 : (Jvm.Cond.code ({ cls := "java/lang/Throwable", name := "<init>", desc := "()V" } : Jvm.MethodName) prog_32_method_1_code (1 : Nat) (Option.none : Option Jvm.ClassFile.FieldType)) ∈ lw_all := lw_g (lw_at lw_m2 150 rfl) rfl
theorem q515 : (Jvm.Cond.methodLink "java/lang/Throwable" (1 : Nat) ({ cls := "java/lang/Object", name := "<init>", desc := "()V" } : Jvm.MethodName)) ∈ lw_all := lw_g (lw_at lw_m2 151 rfl) rfl
theorem q516 : (Jvm.Cond.fieldLink "java/lang/Throwable" (13 : Nat) "java/lang/Throwable" "UNASSIGNED_STACK" "[Ljava/lang/StackTraceElement;") ∈ lw_all := lw_g (lw_at lw_m2 152 rfl) rfl
theorem q517 : (Jvm.Cond.laysStatic "java/lang/Throwable" "UNASSIGNED_STACK" "[Ljava/lang/StackTraceElement;") ∈ lw_tbl := lw_at lw_m2 153 rfl
theorem q518 : (Jvm.Cond.fieldLink "java/lang/Throwable" (20 : Nat) "java/lang/Throwable" "SUPPRESSED_SENTINEL" "Ljava/util/List;") ∈ lw_all := lw_g (lw_at lw_m2 154 rfl) rfl
theorem q519 : (Jvm.Cond.laysStatic "java/lang/Throwable" "SUPPRESSED_SENTINEL" "Ljava/util/List;") ∈ lw_tbl := lw_at lw_m2 155 rfl
theorem q520 : (Jvm.Cond.methodLink "java/lang/Throwable" (27 : Nat) ({ cls := "java/lang/Throwable", name := "fillInStackTrace", desc := "()Ljava/lang/Throwable;" } : Jvm.MethodName)) ∈ lw_all := lw_g (lw_at lw_m2 156 rfl) rfl
theorem q521 : (Jvm.Cond.instanceMethod ({ cls := "java/lang/Throwable", name := "fillInStackTrace", desc := "()Ljava/lang/Throwable;" } : Jvm.MethodName)) ∈ lw_all := lw_g (lw_at lw_m2 157 rfl) rfl
theorem q522 : (Jvm.Cond.sameMethod "java/lang/Throwable" "java/lang/Throwable" "fillInStackTrace" "()Ljava/lang/Throwable;") ∈ lw_all := lw_g (lw_at lw_m2 158 rfl) rfl
theorem q523 : (Jvm.Cond.codeSync ({ cls := "java/lang/Throwable", name := "fillInStackTrace", desc := "()Ljava/lang/Throwable;" } : Jvm.MethodName) prog_32_method_18_code (1 : Nat) (Option.some (Jvm.ClassFile.FieldType.object "java/lang/Throwable"))) ∈ lw_all := lw_g (lw_at lw_m2 159 rfl) rfl
theorem q524 : (Jvm.Cond.methodLink "java/lang/Throwable" (202 : Nat) ({ cls := "java/lang/Throwable", name := "fillInStackTrace", desc := "(I)Ljava/lang/Throwable;" } : Jvm.MethodName)) ∈ lw_all := lw_g (lw_at lw_m2 160 rfl) rfl
theorem q525 : (Jvm.Cond.privateMethod ({ cls := "java/lang/Throwable", name := "fillInStackTrace", desc := "(I)Ljava/lang/Throwable;" } : Jvm.MethodName)) ∈ lw_tbl := lw_at lw_m2 161 rfl
theorem q526 : (Jvm.Cond.instanceMethod ({ cls := "java/lang/Throwable", name := "fillInStackTrace", desc := "(I)Ljava/lang/Throwable;" } : Jvm.MethodName)) ∈ lw_all := lw_g (lw_at lw_m2 162 rfl) rfl
theorem q527 : (Jvm.Cond.instantiable "java/lang/Throwable" (6 : Nat)) ∈ lw_all := lw_g (lw_at lw_m2 163 rfl) rfl
theorem q528 : (Jvm.Cond.native ({ cls := "java/lang/Throwable", name := "fillInStackTrace", desc := "(I)Ljava/lang/Throwable;" } : Jvm.MethodName)) ∈ lw_all := lw_g (lw_at lw_m2 164 rfl) rfl
theorem q539 : (Jvm.Cond.instanceMethod ({ cls := "java/lang/Throwable", name := "<init>", desc := "(Ljava/lang/String;Ljava/lang/Throwable;ZZ)V" } : Jvm.MethodName)) ∈ lw_all := lw_g (lw_at lw_m2 175 rfl) rfl
theorem q540 : (Jvm.Cond.code ({ cls := "java/lang/Throwable", name := "<init>", desc := "(Ljava/lang/String;Ljava/lang/Throwable;ZZ)V" } : Jvm.MethodName) prog_32_method_5_code (5 : Nat) (Option.none : Option Jvm.ClassFile.FieldType)) ∈ lw_all := lw_g (lw_at lw_m2 176 rfl) rfl
theorem q545 : (Jvm.Cond.fieldLink "java/lang/Throwable" (198 : Nat) "java/lang/Throwable" "backtrace" "Ljava/lang/Object;") ∈ lw_all := lw_g (lw_at lw_m2 181 rfl) rfl
theorem q546 : (Jvm.Cond.fieldLink "java/lang/Throwable" (31 : Nat) "java/lang/Throwable" "detailMessage" "Ljava/lang/String;") ∈ lw_all := lw_g (lw_at lw_m2 182 rfl) rfl
theorem q547 : (Jvm.Cond.fieldLink "java/lang/Throwable" (7 : Nat) "java/lang/Throwable" "cause" "Ljava/lang/Throwable;") ∈ lw_all := lw_g (lw_at lw_m2 183 rfl) rfl
theorem q548 : (Jvm.Cond.fieldLink "java/lang/Throwable" (17 : Nat) "java/lang/Throwable" "stackTrace" "[Ljava/lang/StackTraceElement;") ∈ lw_all := lw_g (lw_at lw_m2 184 rfl) rfl
theorem q549 : (Jvm.Cond.fieldLink "java/lang/Throwable" (24 : Nat) "java/lang/Throwable" "suppressedExceptions" "Ljava/util/List;") ∈ lw_all := lw_g (lw_at lw_m2 185 rfl) rfl
theorem q554 : (Jvm.Cond.soleField "java/lang/Throwable" "backtrace") ∈ lw_all := lw_g (lw_at lw_m2 190 rfl) rfl
theorem q555 : (Jvm.Cond.soleField "java/lang/Throwable" "detailMessage") ∈ lw_all := lw_g (lw_at lw_m2 191 rfl) rfl
theorem q556 : (Jvm.Cond.soleField "java/lang/Throwable" "cause") ∈ lw_all := lw_g (lw_at lw_m2 192 rfl) rfl
theorem q557 : (Jvm.Cond.soleField "java/lang/Throwable" "stackTrace") ∈ lw_all := lw_g (lw_at lw_m2 193 rfl) rfl
theorem q559 : (Jvm.Cond.soleField "java/lang/Throwable" "depth") ∈ lw_all := lw_g (lw_at lw_m2 195 rfl) rfl
theorem q560 : (Jvm.Cond.soleField "java/lang/Throwable" "suppressedExceptions") ∈ lw_all := lw_g (lw_at lw_m2 196 rfl) rfl
theorem q1947 : (Jvm.Cond.sameMethod "java/lang/Throwable" "java/lang/Throwable" "fillInStackTrace" "(I)Ljava/lang/Throwable;") ∈ lw_all := lw_g (lw_at lw_m8 143 rfl) rfl
theorem in_J5 : ∀ w ∈ wsJ50, w ∈ lw_all := lw_in wsJ50 [502, 504, 506, 508, 510] (by decide +kernel) (by decide +kernel)

/-! java/lang/Exception -/
set_option maxRecDepth 100000
def RJ6 : String := "java/lang/Exception"
abbrev cJ6_init : ByteArray := prog_24_method_5_code
def yJ6_init : MethodName := ⟨RJ6, "<init>", "(Ljava/lang/String;Ljava/lang/Throwable;ZZ)V"⟩
def dkwJ6_init_0 : List UInt8 := [42, 43, 44, 29, 21, 4, 183, 0, 16, 177]
abbrev dktJ6_init_0 : List UInt8 := dkwJ6_init_0 ++ []
theorem dksJ6_init_0 : cJ6_init.data.toList.drop 0 = dktJ6_init_0 := by decide +kernel
theorem dJ6_init_0 : decode cJ6_init 0 = .ok (.aload_n 0, 1) := dk_42 (dk_at dksJ6_init_0 0 rfl rfl)
theorem dJ6_init_1 : decode cJ6_init 1 = .ok (.aload_n 1, 1) := dk_43 (dk_at dksJ6_init_0 1 rfl rfl)
theorem dJ6_init_2 : decode cJ6_init 2 = .ok (.aload_n 2, 1) := dk_44 (dk_at dksJ6_init_0 2 rfl rfl)
theorem dJ6_init_3 : decode cJ6_init 3 = .ok (.iload_n 3, 1) := dk_29 (dk_at dksJ6_init_0 3 rfl rfl)
theorem dJ6_init_4 : decode cJ6_init 4 = .ok (.iload 4, 2) := dk_21 4 (dk_at dksJ6_init_0 4 rfl rfl)
theorem dJ6_init_6 : decode cJ6_init 6 = .ok (.invokespecial 16, 3) := dk_183 0 16 (dk_at dksJ6_init_0 6 rfl rfl)
theorem dJ6_init_9 : decode cJ6_init 9 = .ok (.return_, 1) := dk_177 (dk_at dksJ6_init_0 9 rfl rfl)
theorem q137 : (Jvm.Cond.initialized "java/lang/Exception") ∈ lw_all := lw_g (lw_at lw_m1 13 rfl) rfl
theorem q495 : (Jvm.Cond.declares ({ cls := "java/lang/Exception", name := "<init>", desc := "()V" } : Jvm.MethodName)) ∈ lw_tbl := lw_at lw_m2 131 rfl
theorem q496 : (Jvm.Cond.declares ({ cls := "java/lang/Exception", name := "<init>", desc := "(Ljava/lang/String;)V" } : Jvm.MethodName)) ∈ lw_tbl := lw_at lw_m2 132 rfl
theorem q536 : (Jvm.Cond.instanceMethod ({ cls := "java/lang/Exception", name := "<init>", desc := "(Ljava/lang/String;Ljava/lang/Throwable;ZZ)V" } : Jvm.MethodName)) ∈ lw_all := lw_g (lw_at lw_m2 172 rfl) rfl
theorem q537 : (Jvm.Cond.code ({ cls := "java/lang/Exception", name := "<init>", desc := "(Ljava/lang/String;Ljava/lang/Throwable;ZZ)V" } : Jvm.MethodName) prog_24_method_5_code (5 : Nat) (Option.none : Option Jvm.ClassFile.FieldType)) ∈ lw_all := lw_g (lw_at lw_m2 173 rfl) rfl
theorem q538 : (Jvm.Cond.methodLink "java/lang/Exception" (16 : Nat) ({ cls := "java/lang/Throwable", name := "<init>", desc := "(Ljava/lang/String;Ljava/lang/Throwable;ZZ)V" } : Jvm.MethodName)) ∈ lw_all := lw_g (lw_at lw_m2 174 rfl) rfl

/-! java/lang/RuntimeException -/
set_option maxRecDepth 100000
def RJ7 : String := "java/lang/RuntimeException"
abbrev cJ7_init : ByteArray := prog_27_method_5_code
def yJ7_init : MethodName := ⟨RJ7, "<init>", "(Ljava/lang/String;Ljava/lang/Throwable;ZZ)V"⟩
def dkwJ7_init_0 : List UInt8 := [42, 43, 44, 29, 21, 4, 183, 0, 16, 177]
abbrev dktJ7_init_0 : List UInt8 := dkwJ7_init_0 ++ []
theorem dksJ7_init_0 : cJ7_init.data.toList.drop 0 = dktJ7_init_0 := by decide +kernel
theorem dJ7_init_0 : decode cJ7_init 0 = .ok (.aload_n 0, 1) := dk_42 (dk_at dksJ7_init_0 0 rfl rfl)
theorem dJ7_init_1 : decode cJ7_init 1 = .ok (.aload_n 1, 1) := dk_43 (dk_at dksJ7_init_0 1 rfl rfl)
theorem dJ7_init_2 : decode cJ7_init 2 = .ok (.aload_n 2, 1) := dk_44 (dk_at dksJ7_init_0 2 rfl rfl)
theorem dJ7_init_3 : decode cJ7_init 3 = .ok (.iload_n 3, 1) := dk_29 (dk_at dksJ7_init_0 3 rfl rfl)
theorem dJ7_init_4 : decode cJ7_init 4 = .ok (.iload 4, 2) := dk_21 4 (dk_at dksJ7_init_0 4 rfl rfl)
theorem dJ7_init_6 : decode cJ7_init 6 = .ok (.invokespecial 16, 3) := dk_183 0 16 (dk_at dksJ7_init_0 6 rfl rfl)
theorem dJ7_init_9 : decode cJ7_init 9 = .ok (.return_, 1) := dk_177 (dk_at dksJ7_init_0 9 rfl rfl)
theorem q138 : (Jvm.Cond.initialized "java/lang/RuntimeException") ∈ lw_all := lw_g (lw_at lw_m1 14 rfl) rfl
theorem q493 : (Jvm.Cond.declares ({ cls := "java/lang/RuntimeException", name := "<init>", desc := "()V" } : Jvm.MethodName)) ∈ lw_tbl := lw_at lw_m2 129 rfl
theorem q494 : (Jvm.Cond.declares ({ cls := "java/lang/RuntimeException", name := "<init>", desc := "(Ljava/lang/String;)V" } : Jvm.MethodName)) ∈ lw_tbl := lw_at lw_m2 130 rfl
theorem q533 : (Jvm.Cond.instanceMethod ({ cls := "java/lang/RuntimeException", name := "<init>", desc := "(Ljava/lang/String;Ljava/lang/Throwable;ZZ)V" } : Jvm.MethodName)) ∈ lw_all := lw_g (lw_at lw_m2 169 rfl) rfl
theorem q534 : (Jvm.Cond.code ({ cls := "java/lang/RuntimeException", name := "<init>", desc := "(Ljava/lang/String;Ljava/lang/Throwable;ZZ)V" } : Jvm.MethodName) prog_27_method_5_code (5 : Nat) (Option.none : Option Jvm.ClassFile.FieldType)) ∈ lw_all := lw_g (lw_at lw_m2 170 rfl) rfl
theorem q535 : (Jvm.Cond.methodLink "java/lang/RuntimeException" (16 : Nat) ({ cls := "java/lang/Exception", name := "<init>", desc := "(Ljava/lang/String;Ljava/lang/Throwable;ZZ)V" } : Jvm.MethodName)) ∈ lw_all := lw_g (lw_at lw_m2 171 rfl) rfl

/-! java/lang/Integer -/
set_option maxRecDepth 100000
def RJ8 : String := "java/lang/Integer"
abbrev cJ8_bitCount : ByteArray := prog_25_method_49_code
def yJ8_bitCount : MethodName := ⟨RJ8, "bitCount", "(I)I"⟩
def dkwJ8_bitCount_2 : List UInt8 := [26, 16, 63, 126, 172]
abbrev dktJ8_bitCount_2 : List UInt8 := dkwJ8_bitCount_2 ++ []
def dkwJ8_bitCount_1 : List UInt8 := [26, 26, 7, 124, 96, 19, 1, 11, 126, 59, 26, 26, 16, 8, 124, 96, 59, 26, 26, 16, 16, 124, 96, 59]
abbrev dktJ8_bitCount_1 : List UInt8 := dkwJ8_bitCount_1 ++ dktJ8_bitCount_2
def dkwJ8_bitCount_0 : List UInt8 := [26, 26, 4, 124, 19, 1, 9, 126, 100, 59, 26, 19, 1, 10, 126, 26, 5, 124, 19, 1, 10, 126, 96, 59]
abbrev dktJ8_bitCount_0 : List UInt8 := dkwJ8_bitCount_0 ++ dktJ8_bitCount_1
theorem dksJ8_bitCount_0 : cJ8_bitCount.data.toList.drop 0 = dktJ8_bitCount_0 := by decide +kernel
theorem dksJ8_bitCount_1 : cJ8_bitCount.data.toList.drop 24 = dktJ8_bitCount_1 := dk_seg dksJ8_bitCount_0 24 rfl rfl
theorem dksJ8_bitCount_2 : cJ8_bitCount.data.toList.drop 48 = dktJ8_bitCount_2 := dk_seg dksJ8_bitCount_1 24 rfl rfl
theorem dJ8_bitCount_0 : decode cJ8_bitCount 0 = .ok (.iload_n 0, 1) := dk_26 (dk_at dksJ8_bitCount_0 0 rfl rfl)
theorem dJ8_bitCount_1 : decode cJ8_bitCount 1 = .ok (.iload_n 0, 1) := dk_26 (dk_at dksJ8_bitCount_0 1 rfl rfl)
theorem dJ8_bitCount_2 : decode cJ8_bitCount 2 = .ok (.iconst 1, 1) := dk_4 (dk_at dksJ8_bitCount_0 2 rfl rfl)
theorem dJ8_bitCount_3 : decode cJ8_bitCount 3 = .ok (.iushr, 1) := dk_124 (dk_at dksJ8_bitCount_0 3 rfl rfl)
theorem dJ8_bitCount_4 : decode cJ8_bitCount 4 = .ok (.ldc_w 265, 3) := dk_19 1 9 (dk_at dksJ8_bitCount_0 4 rfl rfl)
theorem dJ8_bitCount_7 : decode cJ8_bitCount 7 = .ok (.iand, 1) := dk_126 (dk_at dksJ8_bitCount_0 7 rfl rfl)
theorem dJ8_bitCount_8 : decode cJ8_bitCount 8 = .ok (.isub, 1) := dk_100 (dk_at dksJ8_bitCount_0 8 rfl rfl)
theorem dJ8_bitCount_9 : decode cJ8_bitCount 9 = .ok (.istore_n 0, 1) := dk_59 (dk_at dksJ8_bitCount_0 9 rfl rfl)
theorem dJ8_bitCount_10 : decode cJ8_bitCount 10 = .ok (.iload_n 0, 1) := dk_26 (dk_at dksJ8_bitCount_0 10 rfl rfl)
theorem dJ8_bitCount_11 : decode cJ8_bitCount 11 = .ok (.ldc_w 266, 3) := dk_19 1 10 (dk_at dksJ8_bitCount_0 11 rfl rfl)
theorem dJ8_bitCount_14 : decode cJ8_bitCount 14 = .ok (.iand, 1) := dk_126 (dk_at dksJ8_bitCount_0 14 rfl rfl)
theorem dJ8_bitCount_15 : decode cJ8_bitCount 15 = .ok (.iload_n 0, 1) := dk_26 (dk_at dksJ8_bitCount_0 15 rfl rfl)
theorem dJ8_bitCount_16 : decode cJ8_bitCount 16 = .ok (.iconst 2, 1) := dk_5 (dk_at dksJ8_bitCount_0 16 rfl rfl)
theorem dJ8_bitCount_17 : decode cJ8_bitCount 17 = .ok (.iushr, 1) := dk_124 (dk_at dksJ8_bitCount_0 17 rfl rfl)
theorem dJ8_bitCount_18 : decode cJ8_bitCount 18 = .ok (.ldc_w 266, 3) := dk_19 1 10 (dk_at dksJ8_bitCount_0 18 rfl rfl)
theorem dJ8_bitCount_21 : decode cJ8_bitCount 21 = .ok (.iand, 1) := dk_126 (dk_at dksJ8_bitCount_0 21 rfl rfl)
theorem dJ8_bitCount_22 : decode cJ8_bitCount 22 = .ok (.iadd, 1) := dk_96 (dk_at dksJ8_bitCount_0 22 rfl rfl)
theorem dJ8_bitCount_23 : decode cJ8_bitCount 23 = .ok (.istore_n 0, 1) := dk_59 (dk_at dksJ8_bitCount_0 23 rfl rfl)
theorem dJ8_bitCount_24 : decode cJ8_bitCount 24 = .ok (.iload_n 0, 1) := dk_26 (dk_at dksJ8_bitCount_1 0 rfl rfl)
theorem dJ8_bitCount_25 : decode cJ8_bitCount 25 = .ok (.iload_n 0, 1) := dk_26 (dk_at dksJ8_bitCount_1 1 rfl rfl)
theorem dJ8_bitCount_26 : decode cJ8_bitCount 26 = .ok (.iconst 4, 1) := dk_7 (dk_at dksJ8_bitCount_1 2 rfl rfl)
theorem dJ8_bitCount_27 : decode cJ8_bitCount 27 = .ok (.iushr, 1) := dk_124 (dk_at dksJ8_bitCount_1 3 rfl rfl)
theorem dJ8_bitCount_28 : decode cJ8_bitCount 28 = .ok (.iadd, 1) := dk_96 (dk_at dksJ8_bitCount_1 4 rfl rfl)
theorem dJ8_bitCount_29 : decode cJ8_bitCount 29 = .ok (.ldc_w 267, 3) := dk_19 1 11 (dk_at dksJ8_bitCount_1 5 rfl rfl)
theorem dJ8_bitCount_32 : decode cJ8_bitCount 32 = .ok (.iand, 1) := dk_126 (dk_at dksJ8_bitCount_1 8 rfl rfl)
theorem dJ8_bitCount_33 : decode cJ8_bitCount 33 = .ok (.istore_n 0, 1) := dk_59 (dk_at dksJ8_bitCount_1 9 rfl rfl)
theorem dJ8_bitCount_34 : decode cJ8_bitCount 34 = .ok (.iload_n 0, 1) := dk_26 (dk_at dksJ8_bitCount_1 10 rfl rfl)
theorem dJ8_bitCount_35 : decode cJ8_bitCount 35 = .ok (.iload_n 0, 1) := dk_26 (dk_at dksJ8_bitCount_1 11 rfl rfl)
theorem dJ8_bitCount_36 : decode cJ8_bitCount 36 = .ok (.bipush 8, 2) := dk_16 8 (dk_at dksJ8_bitCount_1 12 rfl rfl)
theorem dJ8_bitCount_38 : decode cJ8_bitCount 38 = .ok (.iushr, 1) := dk_124 (dk_at dksJ8_bitCount_1 14 rfl rfl)
theorem dJ8_bitCount_39 : decode cJ8_bitCount 39 = .ok (.iadd, 1) := dk_96 (dk_at dksJ8_bitCount_1 15 rfl rfl)
theorem dJ8_bitCount_40 : decode cJ8_bitCount 40 = .ok (.istore_n 0, 1) := dk_59 (dk_at dksJ8_bitCount_1 16 rfl rfl)
theorem dJ8_bitCount_41 : decode cJ8_bitCount 41 = .ok (.iload_n 0, 1) := dk_26 (dk_at dksJ8_bitCount_1 17 rfl rfl)
theorem dJ8_bitCount_42 : decode cJ8_bitCount 42 = .ok (.iload_n 0, 1) := dk_26 (dk_at dksJ8_bitCount_1 18 rfl rfl)
theorem dJ8_bitCount_43 : decode cJ8_bitCount 43 = .ok (.bipush 16, 2) := dk_16 16 (dk_at dksJ8_bitCount_1 19 rfl rfl)
theorem dJ8_bitCount_45 : decode cJ8_bitCount 45 = .ok (.iushr, 1) := dk_124 (dk_at dksJ8_bitCount_1 21 rfl rfl)
theorem dJ8_bitCount_46 : decode cJ8_bitCount 46 = .ok (.iadd, 1) := dk_96 (dk_at dksJ8_bitCount_1 22 rfl rfl)
theorem dJ8_bitCount_47 : decode cJ8_bitCount 47 = .ok (.istore_n 0, 1) := dk_59 (dk_at dksJ8_bitCount_1 23 rfl rfl)
theorem dJ8_bitCount_48 : decode cJ8_bitCount 48 = .ok (.iload_n 0, 1) := dk_26 (dk_at dksJ8_bitCount_2 0 rfl rfl)
theorem dJ8_bitCount_49 : decode cJ8_bitCount 49 = .ok (.bipush 63, 2) := dk_16 63 (dk_at dksJ8_bitCount_2 1 rfl rfl)
theorem dJ8_bitCount_51 : decode cJ8_bitCount 51 = .ok (.iand, 1) := dk_126 (dk_at dksJ8_bitCount_2 3 rfl rfl)
theorem dJ8_bitCount_52 : decode cJ8_bitCount 52 = .ok (.ireturn, 1) := dk_172 (dk_at dksJ8_bitCount_2 4 rfl rfl)
theorem q154 : (Jvm.Cond.initialized "java/lang/Integer") ∈ lw_all := lw_g (lw_at lw_m1 30 rfl) rfl
theorem q1177 : (Jvm.Cond.static ({ cls := "java/lang/Integer", name := "bitCount", desc := "(I)I" } : Jvm.MethodName)) ∈ lw_all := lw_g (lw_at lw_m5 93 rfl) rfl
theorem q1178 : (Jvm.Cond.code ({ cls := "java/lang/Integer", name := "bitCount", desc := "(I)I" } : Jvm.MethodName) prog_25_method_49_code (1 : Nat) (Option.some Jvm.ClassFile.FieldType.int)) ∈ lw_all := lw_g (lw_at lw_m5 94 rfl) rfl
theorem q1179 : (Jvm.Cond.constant "java/lang/Integer" (265 : Nat) (1431655765 : Int32)) ∈ lw_all := lw_g (lw_at lw_m5 95 rfl) rfl
theorem q1180 : (Jvm.Cond.constant "java/lang/Integer" (266 : Nat) (858993459 : Int32)) ∈ lw_all := lw_g (lw_at lw_m5 96 rfl) rfl
theorem q1181 : (Jvm.Cond.constant "java/lang/Integer" (267 : Nat) (252645135 : Int32)) ∈ lw_all := lw_g (lw_at lw_m5 97 rfl) rfl

/-! java/lang/Object -/
set_option maxRecDepth 100000
def RJ9 : String := "java/lang/Object"
abbrev cJ9_init : ByteArray := object_method_1_code
def yJ9_init : MethodName := ⟨RJ9, "<init>", "()V"⟩
theorem dJ9_init_0 : decode cJ9_init 0 = .ok (.return_, 1) := by decide +kernel
theorem q161 : (Jvm.Cond.instanceMethod ({ cls := "java/lang/Object", name := "<init>", desc := "()V" } : Jvm.MethodName)) ∈ lw_all := lw_g (lw_at lw_m1 37 rfl) rfl
theorem q162 : (Jvm.Cond.code ({ cls := "java/lang/Object", name := "<init>", desc := "()V" } : Jvm.MethodName) object_method_1_code (1 : Nat) (Option.none : Option Jvm.ClassFile.FieldType)) ∈ lw_all := lw_g (lw_at lw_m1 38 rfl) rfl

/-! the law's own entry -/
set_option maxRecDepth 100000
abbrev cL_law : ByteArray := code
def dkwL_law_33 : List UInt8 := [167, 252, 179, 4, 172]
abbrev dktL_law_33 : List UInt8 := dkwL_law_33 ++ []
def dkwL_law_32 : List UInt8 := [29, 4, 96, 46, 182, 0, 121, 44, 42, 29, 4, 96, 46, 182, 0, 124, 159, 0, 5, 3, 172, 132, 3, 6]
abbrev dktL_law_32 : List UInt8 := dkwL_law_32 ++ dktL_law_33
def dkwL_law_31 : List UInt8 := [44, 182, 0, 116, 159, 0, 41, 3, 172, 43, 182, 0, 117, 44, 182, 0, 120, 159, 0, 28, 3, 172, 43, 42]
abbrev dktL_law_31 : List UInt8 := dkwL_law_31 ++ dktL_law_32
def dkwL_law_30 : List UInt8 := [4, 96, 46, 182, 0, 109, 44, 42, 29, 4, 96, 46, 182, 0, 112, 159, 0, 54, 3, 172, 43, 182, 0, 113]
abbrev dktL_law_30 : List UInt8 := dkwL_law_30 ++ dktL_law_31
def dkwL_law_29 : List UInt8 := [4, 96, 46, 42, 29, 5, 96, 46, 42, 29, 6, 96, 46, 182, 0, 108, 159, 0, 77, 3, 172, 43, 42, 29]
abbrev dktL_law_29 : List UInt8 := dkwL_law_29 ++ dktL_law_30
def dkwL_law_28 : List UInt8 := [3, 172, 43, 42, 29, 4, 96, 46, 42, 29, 5, 96, 46, 42, 29, 6, 96, 46, 182, 0, 104, 44, 42, 29]
abbrev dktL_law_28 : List UInt8 := dkwL_law_28 ++ dktL_law_29
def dkwL_law_27 : List UInt8 := [29, 5, 96, 46, 182, 0, 100, 44, 42, 29, 4, 96, 46, 42, 29, 5, 96, 46, 182, 0, 103, 159, 0, 120]
abbrev dktL_law_27 : List UInt8 := dkwL_law_27 ++ dktL_law_28
def dkwL_law_26 : List UInt8 := [29, 4, 96, 46, 42, 29, 5, 96, 46, 182, 0, 99, 159, 0, 153, 3, 172, 43, 42, 29, 4, 96, 46, 42]
abbrev dktL_law_26 : List UInt8 := dkwL_law_26 ++ dktL_law_27
def dkwL_law_25 : List UInt8 := [182, 0, 95, 159, 0, 186, 3, 172, 43, 42, 29, 4, 96, 46, 42, 29, 5, 96, 46, 182, 0, 96, 44, 42]
abbrev dktL_law_25 : List UInt8 := dkwL_law_25 ++ dktL_law_26
def dkwL_law_24 : List UInt8 := [182, 0, 91, 44, 42, 29, 4, 96, 46, 42, 29, 5, 96, 46, 42, 29, 6, 96, 46, 42, 29, 7, 96, 46]
abbrev dktL_law_24 : List UInt8 := dkwL_law_24 ++ dktL_law_25
def dkwL_law_23 : List UInt8 := [3, 172, 43, 42, 29, 4, 96, 46, 42, 29, 5, 96, 46, 42, 29, 6, 96, 46, 42, 29, 7, 96, 46]
abbrev dktL_law_23 : List UInt8 := dkwL_law_23 ++ dktL_law_24
def dkwL_law_22 : List UInt8 := [42, 29, 4, 96, 46, 182, 0, 86, 159, 0, 252, 3, 172, 43, 182, 0, 87, 44, 182, 0, 90, 159, 0, 239]
abbrev dktL_law_22 : List UInt8 := dkwL_law_22 ++ dktL_law_23
def dkwL_law_21 : List UInt8 := [46, 42, 29, 5, 96, 46, 182, 0, 82, 159, 1, 19, 3, 172, 43, 42, 29, 4, 96, 46, 182, 0, 83, 44]
abbrev dktL_law_21 : List UInt8 := dkwL_law_21 ++ dktL_law_22
def dkwL_law_20 : List UInt8 := [159, 1, 52, 3, 172, 43, 42, 29, 4, 96, 46, 42, 29, 5, 96, 46, 182, 0, 78, 44, 42, 29, 4, 96]
abbrev dktL_law_20 : List UInt8 := dkwL_law_20 ++ dktL_law_21
def dkwL_law_19 : List UInt8 := [96, 46, 42, 29, 5, 96, 46, 182, 0, 74, 44, 42, 29, 4, 96, 46, 42, 29, 5, 96, 46, 182, 0, 77]
abbrev dktL_law_19 : List UInt8 := dkwL_law_19 ++ dktL_law_20
def dkwL_law_18 : List UInt8 := [4, 96, 46, 182, 0, 70, 44, 42, 29, 4, 96, 46, 182, 0, 73, 159, 1, 85, 3, 172, 43, 42, 29, 4]
abbrev dktL_law_18 : List UInt8 := dkwL_law_18 ++ dktL_law_19
def dkwL_law_17 : List UInt8 := [182, 0, 65, 159, 1, 121, 3, 172, 43, 182, 0, 66, 44, 182, 0, 69, 159, 1, 108, 3, 172, 43, 42, 29]
abbrev dktL_law_17 : List UInt8 := dkwL_law_17 ++ dktL_law_18
def dkwL_law_16 : List UInt8 := [42, 29, 4, 96, 46, 42, 29, 5, 96, 46, 182, 0, 62, 44, 42, 29, 4, 96, 46, 42, 29, 5, 96, 46]
abbrev dktL_law_16 : List UInt8 := dkwL_law_16 ++ dktL_law_17
def dkwL_law_15 : List UInt8 := [46, 182, 0, 58, 44, 42, 29, 4, 96, 46, 42, 29, 5, 96, 46, 182, 0, 61, 159, 1, 154, 3, 172, 43]
abbrev dktL_law_15 : List UInt8 := dkwL_law_15 ++ dktL_law_16
def dkwL_law_14 : List UInt8 := [46, 42, 29, 5, 96, 46, 182, 0, 57, 159, 1, 187, 3, 172, 43, 42, 29, 4, 96, 46, 42, 29, 5, 96]
abbrev dktL_law_14 : List UInt8 := dkwL_law_14 ++ dktL_law_15
def dkwL_law_13 : List UInt8 := [159, 1, 220, 3, 172, 43, 42, 29, 4, 96, 46, 42, 29, 5, 96, 46, 182, 0, 53, 44, 42, 29, 4, 96]
abbrev dktL_law_13 : List UInt8 := dkwL_law_13 ++ dktL_law_14
def dkwL_law_12 : List UInt8 := [159, 1, 243, 3, 172, 43, 42, 29, 4, 96, 46, 182, 0, 49, 44, 42, 29, 4, 96, 46, 182, 0, 52]
abbrev dktL_law_12 : List UInt8 := dkwL_law_12 ++ dktL_law_13
def dkwL_law_11 : List UInt8 := [159, 2, 10, 3, 172, 43, 42, 29, 4, 96, 46, 182, 0, 45, 44, 42, 29, 4, 96, 46, 182, 0, 48]
abbrev dktL_law_11 : List UInt8 := dkwL_law_11 ++ dktL_law_12
def dkwL_law_10 : List UInt8 := [159, 2, 33, 3, 172, 43, 42, 29, 4, 96, 46, 182, 0, 41, 44, 42, 29, 4, 96, 46, 182, 0, 44]
abbrev dktL_law_10 : List UInt8 := dkwL_law_10 ++ dktL_law_11
def dkwL_law_9 : List UInt8 := [159, 2, 56, 3, 172, 43, 42, 29, 4, 96, 46, 182, 0, 37, 44, 42, 29, 4, 96, 46, 182, 0, 40]
abbrev dktL_law_9 : List UInt8 := dkwL_law_9 ++ dktL_law_10
def dkwL_law_8 : List UInt8 := [159, 2, 79, 3, 172, 43, 42, 29, 4, 96, 46, 182, 0, 32, 44, 42, 29, 4, 96, 46, 182, 0, 36]
abbrev dktL_law_8 : List UInt8 := dkwL_law_8 ++ dktL_law_9
def dkwL_law_7 : List UInt8 := [159, 2, 102, 3, 172, 43, 42, 29, 4, 96, 46, 182, 0, 28, 44, 42, 29, 4, 96, 46, 182, 0, 31]
abbrev dktL_law_7 : List UInt8 := dkwL_law_7 ++ dktL_law_8
def dkwL_law_6 : List UInt8 := [44, 42, 29, 4, 96, 46, 182, 0, 22, 159, 2, 115, 3, 172, 43, 182, 0, 23, 44, 182, 0, 27]
abbrev dktL_law_6 : List UInt8 := dkwL_law_6 ++ dktL_law_7
def dkwL_law_5 : List UInt8 := [96, 46, 42, 29, 8, 96, 46, 182, 0, 17, 159, 2, 138, 3, 172, 43, 42, 29, 4, 96, 46, 182, 0, 18]
abbrev dktL_law_5 : List UInt8 := dkwL_law_5 ++ dktL_law_6
def dkwL_law_4 : List UInt8 := [96, 46, 182, 0, 13, 44, 42, 29, 4, 96, 46, 42, 29, 5, 96, 46, 42, 29, 6, 96, 46, 42, 29, 7]
abbrev dktL_law_4 : List UInt8 := dkwL_law_4 ++ dktL_law_5
def dkwL_law_3 : List UInt8 := [43, 42, 29, 4, 96, 46, 42, 29, 5, 96, 46, 42, 29, 6, 96, 46, 42, 29, 7, 96, 46, 42, 29, 8]
abbrev dktL_law_3 : List UInt8 := dkwL_law_3 ++ dktL_law_4
def dkwL_law_2 : List UInt8 := [170, 0, 0, 0, 0, 3, 59, 0, 0, 0, 0, 0, 0, 0, 25, 0, 0, 0, 119, 0, 0, 0, 182, 0, 0, 0, 205, 0, 0, 0, 218, 0, 0, 0, 241, 0, 0, 1, 8, 0, 0, 1, 31, 0, 0, 1, 54, 0, 0, 1, 77, 0, 0, 1, 100, 0, 0, 1, 133, 0, 0, 1, 166, 0, 0, 1, 199, 0, 0, 1, 212, 0, 0, 1, 235, 0, 0, 2, 12, 0, 0, 2, 45, 0, 0, 2, 68, 0, 0, 2, 81, 0, 0, 2, 134, 0, 0, 2, 167, 0, 0, 2, 200, 0, 0, 2, 243, 0, 0, 3, 10, 0, 0, 3, 23, 0, 0, 3, 36]
abbrev dktL_law_2 : List UInt8 := dkwL_law_2 ++ dktL_law_3
def dkwL_law_1 : List UInt8 := [163, 3, 74, 42, 29, 46, 16, 31, 126]
abbrev dktL_law_1 : List UInt8 := dkwL_law_1 ++ dktL_law_2
def dkwL_law_0 : List UInt8 := [187, 0, 7, 89, 183, 0, 9, 76, 187, 0, 10, 89, 183, 0, 12, 77, 3, 62, 29, 42, 190, 16, 6, 100]
abbrev dktL_law_0 : List UInt8 := dkwL_law_0 ++ dktL_law_1
theorem dksL_law_0 : cL_law.data.toList.drop 0 = dktL_law_0 := by decide +kernel
theorem dksL_law_1 : cL_law.data.toList.drop 24 = dktL_law_1 := dk_seg dksL_law_0 24 rfl rfl
theorem dksL_law_2 : cL_law.data.toList.drop 33 = dktL_law_2 := dk_seg dksL_law_1 9 rfl rfl
theorem dksL_law_3 : cL_law.data.toList.drop 152 = dktL_law_3 := dk_seg dksL_law_2 119 rfl rfl
theorem dksL_law_4 : cL_law.data.toList.drop 176 = dktL_law_4 := dk_seg dksL_law_3 24 rfl rfl
theorem dksL_law_5 : cL_law.data.toList.drop 200 = dktL_law_5 := dk_seg dksL_law_4 24 rfl rfl
theorem dksL_law_6 : cL_law.data.toList.drop 224 = dktL_law_6 := dk_seg dksL_law_5 24 rfl rfl
theorem dksL_law_7 : cL_law.data.toList.drop 246 = dktL_law_7 := dk_seg dksL_law_6 22 rfl rfl
theorem dksL_law_8 : cL_law.data.toList.drop 269 = dktL_law_8 := dk_seg dksL_law_7 23 rfl rfl
theorem dksL_law_9 : cL_law.data.toList.drop 292 = dktL_law_9 := dk_seg dksL_law_8 23 rfl rfl
theorem dksL_law_10 : cL_law.data.toList.drop 315 = dktL_law_10 := dk_seg dksL_law_9 23 rfl rfl
theorem dksL_law_11 : cL_law.data.toList.drop 338 = dktL_law_11 := dk_seg dksL_law_10 23 rfl rfl
theorem dksL_law_12 : cL_law.data.toList.drop 361 = dktL_law_12 := dk_seg dksL_law_11 23 rfl rfl
theorem dksL_law_13 : cL_law.data.toList.drop 384 = dktL_law_13 := dk_seg dksL_law_12 23 rfl rfl
theorem dksL_law_14 : cL_law.data.toList.drop 408 = dktL_law_14 := dk_seg dksL_law_13 24 rfl rfl
theorem dksL_law_15 : cL_law.data.toList.drop 432 = dktL_law_15 := dk_seg dksL_law_14 24 rfl rfl
theorem dksL_law_16 : cL_law.data.toList.drop 456 = dktL_law_16 := dk_seg dksL_law_15 24 rfl rfl
theorem dksL_law_17 : cL_law.data.toList.drop 480 = dktL_law_17 := dk_seg dksL_law_16 24 rfl rfl
theorem dksL_law_18 : cL_law.data.toList.drop 504 = dktL_law_18 := dk_seg dksL_law_17 24 rfl rfl
theorem dksL_law_19 : cL_law.data.toList.drop 528 = dktL_law_19 := dk_seg dksL_law_18 24 rfl rfl
theorem dksL_law_20 : cL_law.data.toList.drop 552 = dktL_law_20 := dk_seg dksL_law_19 24 rfl rfl
theorem dksL_law_21 : cL_law.data.toList.drop 576 = dktL_law_21 := dk_seg dksL_law_20 24 rfl rfl
theorem dksL_law_22 : cL_law.data.toList.drop 600 = dktL_law_22 := dk_seg dksL_law_21 24 rfl rfl
theorem dksL_law_23 : cL_law.data.toList.drop 624 = dktL_law_23 := dk_seg dksL_law_22 24 rfl rfl
theorem dksL_law_24 : cL_law.data.toList.drop 647 = dktL_law_24 := dk_seg dksL_law_23 23 rfl rfl
theorem dksL_law_25 : cL_law.data.toList.drop 671 = dktL_law_25 := dk_seg dksL_law_24 24 rfl rfl
theorem dksL_law_26 : cL_law.data.toList.drop 695 = dktL_law_26 := dk_seg dksL_law_25 24 rfl rfl
theorem dksL_law_27 : cL_law.data.toList.drop 719 = dktL_law_27 := dk_seg dksL_law_26 24 rfl rfl
theorem dksL_law_28 : cL_law.data.toList.drop 743 = dktL_law_28 := dk_seg dksL_law_27 24 rfl rfl
theorem dksL_law_29 : cL_law.data.toList.drop 767 = dktL_law_29 := dk_seg dksL_law_28 24 rfl rfl
theorem dksL_law_30 : cL_law.data.toList.drop 791 = dktL_law_30 := dk_seg dksL_law_29 24 rfl rfl
theorem dksL_law_31 : cL_law.data.toList.drop 815 = dktL_law_31 := dk_seg dksL_law_30 24 rfl rfl
theorem dksL_law_32 : cL_law.data.toList.drop 839 = dktL_law_32 := dk_seg dksL_law_31 24 rfl rfl
theorem dksL_law_33 : cL_law.data.toList.drop 863 = dktL_law_33 := dk_seg dksL_law_32 24 rfl rfl
theorem dL_law_0 : decode cL_law 0 = .ok (.new 7, 3) := dk_187 0 7 (dk_at dksL_law_0 0 rfl rfl)
theorem dL_law_3 : decode cL_law 3 = .ok (.dup, 1) := dk_89 (dk_at dksL_law_0 3 rfl rfl)
theorem dL_law_4 : decode cL_law 4 = .ok (.invokespecial 9, 3) := dk_183 0 9 (dk_at dksL_law_0 4 rfl rfl)
theorem dL_law_7 : decode cL_law 7 = .ok (.astore_n 1, 1) := dk_76 (dk_at dksL_law_0 7 rfl rfl)
theorem dL_law_8 : decode cL_law 8 = .ok (.new 10, 3) := dk_187 0 10 (dk_at dksL_law_0 8 rfl rfl)
theorem dL_law_11 : decode cL_law 11 = .ok (.dup, 1) := dk_89 (dk_at dksL_law_0 11 rfl rfl)
theorem dL_law_12 : decode cL_law 12 = .ok (.invokespecial 12, 3) := dk_183 0 12 (dk_at dksL_law_0 12 rfl rfl)
theorem dL_law_15 : decode cL_law 15 = .ok (.astore_n 2, 1) := dk_77 (dk_at dksL_law_0 15 rfl rfl)
theorem dL_law_16 : decode cL_law 16 = .ok (.iconst 0, 1) := dk_3 (dk_at dksL_law_0 16 rfl rfl)
theorem dL_law_17 : decode cL_law 17 = .ok (.istore_n 3, 1) := dk_62 (dk_at dksL_law_0 17 rfl rfl)
theorem dL_law_18 : decode cL_law 18 = .ok (.iload_n 3, 1) := dk_29 (dk_at dksL_law_0 18 rfl rfl)
theorem dL_law_19 : decode cL_law 19 = .ok (.aload_n 0, 1) := dk_42 (dk_at dksL_law_0 19 rfl rfl)
theorem dL_law_20 : decode cL_law 20 = .ok (.arraylength, 1) := dk_190 (dk_at dksL_law_0 20 rfl rfl)
theorem dL_law_21 : decode cL_law 21 = .ok (.bipush 6, 2) := dk_16 6 (dk_at dksL_law_0 21 rfl rfl)
theorem dL_law_23 : decode cL_law 23 = .ok (.isub, 1) := dk_100 (dk_at dksL_law_0 23 rfl rfl)
theorem dL_law_24 : decode cL_law 24 = .ok (.if_icmp .gt 842, 3) := dk_163 3 74 (dk_at dksL_law_1 0 rfl rfl)
theorem dL_law_27 : decode cL_law 27 = .ok (.aload_n 0, 1) := dk_42 (dk_at dksL_law_1 3 rfl rfl)
theorem dL_law_28 : decode cL_law 28 = .ok (.iload_n 3, 1) := dk_29 (dk_at dksL_law_1 4 rfl rfl)
theorem dL_law_29 : decode cL_law 29 = .ok (.iaload, 1) := dk_46 (dk_at dksL_law_1 5 rfl rfl)
theorem dL_law_30 : decode cL_law 30 = .ok (.bipush 31, 2) := dk_16 31 (dk_at dksL_law_1 6 rfl rfl)
theorem dL_law_32 : decode cL_law 32 = .ok (.iand, 1) := dk_126 (dk_at dksL_law_1 8 rfl rfl)
theorem dL_law_33 : decode cL_law 33 = .ok (.tableswitch 827 0 25 #[119, 182, 205, 218, 241, 264, 287, 310, 333, 356, 389, 422, 455, 468, 491, 524, 557, 580, 593, 646, 679, 712, 755, 778, 791, 804], 119) := by decide +kernel
theorem dL_law_152 : decode cL_law 152 = .ok (.aload_n 1, 1) := dk_43 (dk_at dksL_law_3 0 rfl rfl)
theorem dL_law_153 : decode cL_law 153 = .ok (.aload_n 0, 1) := dk_42 (dk_at dksL_law_3 1 rfl rfl)
theorem dL_law_154 : decode cL_law 154 = .ok (.iload_n 3, 1) := dk_29 (dk_at dksL_law_3 2 rfl rfl)
theorem dL_law_155 : decode cL_law 155 = .ok (.iconst 1, 1) := dk_4 (dk_at dksL_law_3 3 rfl rfl)
theorem dL_law_156 : decode cL_law 156 = .ok (.iadd, 1) := dk_96 (dk_at dksL_law_3 4 rfl rfl)
theorem dL_law_157 : decode cL_law 157 = .ok (.iaload, 1) := dk_46 (dk_at dksL_law_3 5 rfl rfl)
theorem dL_law_158 : decode cL_law 158 = .ok (.aload_n 0, 1) := dk_42 (dk_at dksL_law_3 6 rfl rfl)
theorem dL_law_159 : decode cL_law 159 = .ok (.iload_n 3, 1) := dk_29 (dk_at dksL_law_3 7 rfl rfl)
theorem dL_law_160 : decode cL_law 160 = .ok (.iconst 2, 1) := dk_5 (dk_at dksL_law_3 8 rfl rfl)
theorem dL_law_161 : decode cL_law 161 = .ok (.iadd, 1) := dk_96 (dk_at dksL_law_3 9 rfl rfl)
theorem dL_law_162 : decode cL_law 162 = .ok (.iaload, 1) := dk_46 (dk_at dksL_law_3 10 rfl rfl)
theorem dL_law_163 : decode cL_law 163 = .ok (.aload_n 0, 1) := dk_42 (dk_at dksL_law_3 11 rfl rfl)
theorem dL_law_164 : decode cL_law 164 = .ok (.iload_n 3, 1) := dk_29 (dk_at dksL_law_3 12 rfl rfl)
theorem dL_law_165 : decode cL_law 165 = .ok (.iconst 3, 1) := dk_6 (dk_at dksL_law_3 13 rfl rfl)
theorem dL_law_166 : decode cL_law 166 = .ok (.iadd, 1) := dk_96 (dk_at dksL_law_3 14 rfl rfl)
theorem dL_law_167 : decode cL_law 167 = .ok (.iaload, 1) := dk_46 (dk_at dksL_law_3 15 rfl rfl)
theorem dL_law_168 : decode cL_law 168 = .ok (.aload_n 0, 1) := dk_42 (dk_at dksL_law_3 16 rfl rfl)
theorem dL_law_169 : decode cL_law 169 = .ok (.iload_n 3, 1) := dk_29 (dk_at dksL_law_3 17 rfl rfl)
theorem dL_law_170 : decode cL_law 170 = .ok (.iconst 4, 1) := dk_7 (dk_at dksL_law_3 18 rfl rfl)
theorem dL_law_171 : decode cL_law 171 = .ok (.iadd, 1) := dk_96 (dk_at dksL_law_3 19 rfl rfl)
theorem dL_law_172 : decode cL_law 172 = .ok (.iaload, 1) := dk_46 (dk_at dksL_law_3 20 rfl rfl)
theorem dL_law_173 : decode cL_law 173 = .ok (.aload_n 0, 1) := dk_42 (dk_at dksL_law_3 21 rfl rfl)
theorem dL_law_174 : decode cL_law 174 = .ok (.iload_n 3, 1) := dk_29 (dk_at dksL_law_3 22 rfl rfl)
theorem dL_law_175 : decode cL_law 175 = .ok (.iconst 5, 1) := dk_8 (dk_at dksL_law_3 23 rfl rfl)
theorem dL_law_176 : decode cL_law 176 = .ok (.iadd, 1) := dk_96 (dk_at dksL_law_4 0 rfl rfl)
theorem dL_law_177 : decode cL_law 177 = .ok (.iaload, 1) := dk_46 (dk_at dksL_law_4 1 rfl rfl)
theorem dL_law_178 : decode cL_law 178 = .ok (.invokevirtual 13, 3) := dk_182 0 13 (dk_at dksL_law_4 2 rfl rfl)
theorem dL_law_181 : decode cL_law 181 = .ok (.aload_n 2, 1) := dk_44 (dk_at dksL_law_4 5 rfl rfl)
theorem dL_law_182 : decode cL_law 182 = .ok (.aload_n 0, 1) := dk_42 (dk_at dksL_law_4 6 rfl rfl)
theorem dL_law_183 : decode cL_law 183 = .ok (.iload_n 3, 1) := dk_29 (dk_at dksL_law_4 7 rfl rfl)
theorem dL_law_184 : decode cL_law 184 = .ok (.iconst 1, 1) := dk_4 (dk_at dksL_law_4 8 rfl rfl)
theorem dL_law_185 : decode cL_law 185 = .ok (.iadd, 1) := dk_96 (dk_at dksL_law_4 9 rfl rfl)
theorem dL_law_186 : decode cL_law 186 = .ok (.iaload, 1) := dk_46 (dk_at dksL_law_4 10 rfl rfl)
theorem dL_law_187 : decode cL_law 187 = .ok (.aload_n 0, 1) := dk_42 (dk_at dksL_law_4 11 rfl rfl)
theorem dL_law_188 : decode cL_law 188 = .ok (.iload_n 3, 1) := dk_29 (dk_at dksL_law_4 12 rfl rfl)
theorem dL_law_189 : decode cL_law 189 = .ok (.iconst 2, 1) := dk_5 (dk_at dksL_law_4 13 rfl rfl)
theorem dL_law_190 : decode cL_law 190 = .ok (.iadd, 1) := dk_96 (dk_at dksL_law_4 14 rfl rfl)
theorem dL_law_191 : decode cL_law 191 = .ok (.iaload, 1) := dk_46 (dk_at dksL_law_4 15 rfl rfl)
theorem dL_law_192 : decode cL_law 192 = .ok (.aload_n 0, 1) := dk_42 (dk_at dksL_law_4 16 rfl rfl)
theorem dL_law_193 : decode cL_law 193 = .ok (.iload_n 3, 1) := dk_29 (dk_at dksL_law_4 17 rfl rfl)
theorem dL_law_194 : decode cL_law 194 = .ok (.iconst 3, 1) := dk_6 (dk_at dksL_law_4 18 rfl rfl)
theorem dL_law_195 : decode cL_law 195 = .ok (.iadd, 1) := dk_96 (dk_at dksL_law_4 19 rfl rfl)
theorem dL_law_196 : decode cL_law 196 = .ok (.iaload, 1) := dk_46 (dk_at dksL_law_4 20 rfl rfl)
theorem dL_law_197 : decode cL_law 197 = .ok (.aload_n 0, 1) := dk_42 (dk_at dksL_law_4 21 rfl rfl)
theorem dL_law_198 : decode cL_law 198 = .ok (.iload_n 3, 1) := dk_29 (dk_at dksL_law_4 22 rfl rfl)
theorem dL_law_199 : decode cL_law 199 = .ok (.iconst 4, 1) := dk_7 (dk_at dksL_law_4 23 rfl rfl)
theorem dL_law_200 : decode cL_law 200 = .ok (.iadd, 1) := dk_96 (dk_at dksL_law_5 0 rfl rfl)
theorem dL_law_201 : decode cL_law 201 = .ok (.iaload, 1) := dk_46 (dk_at dksL_law_5 1 rfl rfl)
theorem dL_law_202 : decode cL_law 202 = .ok (.aload_n 0, 1) := dk_42 (dk_at dksL_law_5 2 rfl rfl)
theorem dL_law_203 : decode cL_law 203 = .ok (.iload_n 3, 1) := dk_29 (dk_at dksL_law_5 3 rfl rfl)
theorem dL_law_204 : decode cL_law 204 = .ok (.iconst 5, 1) := dk_8 (dk_at dksL_law_5 4 rfl rfl)
theorem dL_law_205 : decode cL_law 205 = .ok (.iadd, 1) := dk_96 (dk_at dksL_law_5 5 rfl rfl)
theorem dL_law_206 : decode cL_law 206 = .ok (.iaload, 1) := dk_46 (dk_at dksL_law_5 6 rfl rfl)
theorem dL_law_207 : decode cL_law 207 = .ok (.invokevirtual 17, 3) := dk_182 0 17 (dk_at dksL_law_5 7 rfl rfl)
theorem dL_law_210 : decode cL_law 210 = .ok (.if_icmp .eq 650, 3) := dk_159 2 138 (dk_at dksL_law_5 10 rfl rfl)
theorem dL_law_213 : decode cL_law 213 = .ok (.iconst 0, 1) := dk_3 (dk_at dksL_law_5 13 rfl rfl)
theorem dL_law_214 : decode cL_law 214 = .ok (.ireturn, 1) := dk_172 (dk_at dksL_law_5 14 rfl rfl)
theorem dL_law_215 : decode cL_law 215 = .ok (.aload_n 1, 1) := dk_43 (dk_at dksL_law_5 15 rfl rfl)
theorem dL_law_216 : decode cL_law 216 = .ok (.aload_n 0, 1) := dk_42 (dk_at dksL_law_5 16 rfl rfl)
theorem dL_law_217 : decode cL_law 217 = .ok (.iload_n 3, 1) := dk_29 (dk_at dksL_law_5 17 rfl rfl)
theorem dL_law_218 : decode cL_law 218 = .ok (.iconst 1, 1) := dk_4 (dk_at dksL_law_5 18 rfl rfl)
theorem dL_law_219 : decode cL_law 219 = .ok (.iadd, 1) := dk_96 (dk_at dksL_law_5 19 rfl rfl)
theorem dL_law_220 : decode cL_law 220 = .ok (.iaload, 1) := dk_46 (dk_at dksL_law_5 20 rfl rfl)
theorem dL_law_221 : decode cL_law 221 = .ok (.invokevirtual 18, 3) := dk_182 0 18 (dk_at dksL_law_5 21 rfl rfl)
theorem dL_law_224 : decode cL_law 224 = .ok (.aload_n 2, 1) := dk_44 (dk_at dksL_law_6 0 rfl rfl)
theorem dL_law_225 : decode cL_law 225 = .ok (.aload_n 0, 1) := dk_42 (dk_at dksL_law_6 1 rfl rfl)
theorem dL_law_226 : decode cL_law 226 = .ok (.iload_n 3, 1) := dk_29 (dk_at dksL_law_6 2 rfl rfl)
theorem dL_law_227 : decode cL_law 227 = .ok (.iconst 1, 1) := dk_4 (dk_at dksL_law_6 3 rfl rfl)
theorem dL_law_228 : decode cL_law 228 = .ok (.iadd, 1) := dk_96 (dk_at dksL_law_6 4 rfl rfl)
theorem dL_law_229 : decode cL_law 229 = .ok (.iaload, 1) := dk_46 (dk_at dksL_law_6 5 rfl rfl)
theorem dL_law_230 : decode cL_law 230 = .ok (.invokevirtual 22, 3) := dk_182 0 22 (dk_at dksL_law_6 6 rfl rfl)
theorem dL_law_233 : decode cL_law 233 = .ok (.if_icmp .eq 627, 3) := dk_159 2 115 (dk_at dksL_law_6 9 rfl rfl)
theorem dL_law_236 : decode cL_law 236 = .ok (.iconst 0, 1) := dk_3 (dk_at dksL_law_6 12 rfl rfl)
theorem dL_law_237 : decode cL_law 237 = .ok (.ireturn, 1) := dk_172 (dk_at dksL_law_6 13 rfl rfl)
theorem dL_law_238 : decode cL_law 238 = .ok (.aload_n 1, 1) := dk_43 (dk_at dksL_law_6 14 rfl rfl)
theorem dL_law_239 : decode cL_law 239 = .ok (.invokevirtual 23, 3) := dk_182 0 23 (dk_at dksL_law_6 15 rfl rfl)
theorem dL_law_242 : decode cL_law 242 = .ok (.aload_n 2, 1) := dk_44 (dk_at dksL_law_6 18 rfl rfl)
theorem dL_law_243 : decode cL_law 243 = .ok (.invokevirtual 27, 3) := dk_182 0 27 (dk_at dksL_law_6 19 rfl rfl)
theorem dL_law_246 : decode cL_law 246 = .ok (.if_icmp .eq 614, 3) := dk_159 2 102 (dk_at dksL_law_7 0 rfl rfl)
theorem dL_law_249 : decode cL_law 249 = .ok (.iconst 0, 1) := dk_3 (dk_at dksL_law_7 3 rfl rfl)
theorem dL_law_250 : decode cL_law 250 = .ok (.ireturn, 1) := dk_172 (dk_at dksL_law_7 4 rfl rfl)
theorem dL_law_251 : decode cL_law 251 = .ok (.aload_n 1, 1) := dk_43 (dk_at dksL_law_7 5 rfl rfl)
theorem dL_law_252 : decode cL_law 252 = .ok (.aload_n 0, 1) := dk_42 (dk_at dksL_law_7 6 rfl rfl)
theorem dL_law_253 : decode cL_law 253 = .ok (.iload_n 3, 1) := dk_29 (dk_at dksL_law_7 7 rfl rfl)
theorem dL_law_254 : decode cL_law 254 = .ok (.iconst 1, 1) := dk_4 (dk_at dksL_law_7 8 rfl rfl)
theorem dL_law_255 : decode cL_law 255 = .ok (.iadd, 1) := dk_96 (dk_at dksL_law_7 9 rfl rfl)
theorem dL_law_256 : decode cL_law 256 = .ok (.iaload, 1) := dk_46 (dk_at dksL_law_7 10 rfl rfl)
theorem dL_law_257 : decode cL_law 257 = .ok (.invokevirtual 28, 3) := dk_182 0 28 (dk_at dksL_law_7 11 rfl rfl)
theorem dL_law_260 : decode cL_law 260 = .ok (.aload_n 2, 1) := dk_44 (dk_at dksL_law_7 14 rfl rfl)
theorem dL_law_261 : decode cL_law 261 = .ok (.aload_n 0, 1) := dk_42 (dk_at dksL_law_7 15 rfl rfl)
theorem dL_law_262 : decode cL_law 262 = .ok (.iload_n 3, 1) := dk_29 (dk_at dksL_law_7 16 rfl rfl)
theorem dL_law_263 : decode cL_law 263 = .ok (.iconst 1, 1) := dk_4 (dk_at dksL_law_7 17 rfl rfl)
theorem dL_law_264 : decode cL_law 264 = .ok (.iadd, 1) := dk_96 (dk_at dksL_law_7 18 rfl rfl)
theorem dL_law_265 : decode cL_law 265 = .ok (.iaload, 1) := dk_46 (dk_at dksL_law_7 19 rfl rfl)
theorem dL_law_266 : decode cL_law 266 = .ok (.invokevirtual 31, 3) := dk_182 0 31 (dk_at dksL_law_7 20 rfl rfl)
theorem dL_law_269 : decode cL_law 269 = .ok (.if_icmp .eq 591, 3) := dk_159 2 79 (dk_at dksL_law_8 0 rfl rfl)
theorem dL_law_272 : decode cL_law 272 = .ok (.iconst 0, 1) := dk_3 (dk_at dksL_law_8 3 rfl rfl)
theorem dL_law_273 : decode cL_law 273 = .ok (.ireturn, 1) := dk_172 (dk_at dksL_law_8 4 rfl rfl)
theorem dL_law_274 : decode cL_law 274 = .ok (.aload_n 1, 1) := dk_43 (dk_at dksL_law_8 5 rfl rfl)
theorem dL_law_275 : decode cL_law 275 = .ok (.aload_n 0, 1) := dk_42 (dk_at dksL_law_8 6 rfl rfl)
theorem dL_law_276 : decode cL_law 276 = .ok (.iload_n 3, 1) := dk_29 (dk_at dksL_law_8 7 rfl rfl)
theorem dL_law_277 : decode cL_law 277 = .ok (.iconst 1, 1) := dk_4 (dk_at dksL_law_8 8 rfl rfl)
theorem dL_law_278 : decode cL_law 278 = .ok (.iadd, 1) := dk_96 (dk_at dksL_law_8 9 rfl rfl)
theorem dL_law_279 : decode cL_law 279 = .ok (.iaload, 1) := dk_46 (dk_at dksL_law_8 10 rfl rfl)
theorem dL_law_280 : decode cL_law 280 = .ok (.invokevirtual 32, 3) := dk_182 0 32 (dk_at dksL_law_8 11 rfl rfl)
theorem dL_law_283 : decode cL_law 283 = .ok (.aload_n 2, 1) := dk_44 (dk_at dksL_law_8 14 rfl rfl)
theorem dL_law_284 : decode cL_law 284 = .ok (.aload_n 0, 1) := dk_42 (dk_at dksL_law_8 15 rfl rfl)
theorem dL_law_285 : decode cL_law 285 = .ok (.iload_n 3, 1) := dk_29 (dk_at dksL_law_8 16 rfl rfl)
theorem dL_law_286 : decode cL_law 286 = .ok (.iconst 1, 1) := dk_4 (dk_at dksL_law_8 17 rfl rfl)
theorem dL_law_287 : decode cL_law 287 = .ok (.iadd, 1) := dk_96 (dk_at dksL_law_8 18 rfl rfl)
theorem dL_law_288 : decode cL_law 288 = .ok (.iaload, 1) := dk_46 (dk_at dksL_law_8 19 rfl rfl)
theorem dL_law_289 : decode cL_law 289 = .ok (.invokevirtual 36, 3) := dk_182 0 36 (dk_at dksL_law_8 20 rfl rfl)
theorem dL_law_292 : decode cL_law 292 = .ok (.if_icmp .eq 568, 3) := dk_159 2 56 (dk_at dksL_law_9 0 rfl rfl)
theorem dL_law_295 : decode cL_law 295 = .ok (.iconst 0, 1) := dk_3 (dk_at dksL_law_9 3 rfl rfl)
theorem dL_law_296 : decode cL_law 296 = .ok (.ireturn, 1) := dk_172 (dk_at dksL_law_9 4 rfl rfl)
theorem dL_law_297 : decode cL_law 297 = .ok (.aload_n 1, 1) := dk_43 (dk_at dksL_law_9 5 rfl rfl)
theorem dL_law_298 : decode cL_law 298 = .ok (.aload_n 0, 1) := dk_42 (dk_at dksL_law_9 6 rfl rfl)
theorem dL_law_299 : decode cL_law 299 = .ok (.iload_n 3, 1) := dk_29 (dk_at dksL_law_9 7 rfl rfl)
theorem dL_law_300 : decode cL_law 300 = .ok (.iconst 1, 1) := dk_4 (dk_at dksL_law_9 8 rfl rfl)
theorem dL_law_301 : decode cL_law 301 = .ok (.iadd, 1) := dk_96 (dk_at dksL_law_9 9 rfl rfl)
theorem dL_law_302 : decode cL_law 302 = .ok (.iaload, 1) := dk_46 (dk_at dksL_law_9 10 rfl rfl)
theorem dL_law_303 : decode cL_law 303 = .ok (.invokevirtual 37, 3) := dk_182 0 37 (dk_at dksL_law_9 11 rfl rfl)
theorem dL_law_306 : decode cL_law 306 = .ok (.aload_n 2, 1) := dk_44 (dk_at dksL_law_9 14 rfl rfl)
theorem dL_law_307 : decode cL_law 307 = .ok (.aload_n 0, 1) := dk_42 (dk_at dksL_law_9 15 rfl rfl)
theorem dL_law_308 : decode cL_law 308 = .ok (.iload_n 3, 1) := dk_29 (dk_at dksL_law_9 16 rfl rfl)
theorem dL_law_309 : decode cL_law 309 = .ok (.iconst 1, 1) := dk_4 (dk_at dksL_law_9 17 rfl rfl)
theorem dL_law_310 : decode cL_law 310 = .ok (.iadd, 1) := dk_96 (dk_at dksL_law_9 18 rfl rfl)
theorem dL_law_311 : decode cL_law 311 = .ok (.iaload, 1) := dk_46 (dk_at dksL_law_9 19 rfl rfl)
theorem dL_law_312 : decode cL_law 312 = .ok (.invokevirtual 40, 3) := dk_182 0 40 (dk_at dksL_law_9 20 rfl rfl)
theorem dL_law_315 : decode cL_law 315 = .ok (.if_icmp .eq 545, 3) := dk_159 2 33 (dk_at dksL_law_10 0 rfl rfl)
theorem dL_law_318 : decode cL_law 318 = .ok (.iconst 0, 1) := dk_3 (dk_at dksL_law_10 3 rfl rfl)
theorem dL_law_319 : decode cL_law 319 = .ok (.ireturn, 1) := dk_172 (dk_at dksL_law_10 4 rfl rfl)
theorem dL_law_320 : decode cL_law 320 = .ok (.aload_n 1, 1) := dk_43 (dk_at dksL_law_10 5 rfl rfl)
theorem dL_law_321 : decode cL_law 321 = .ok (.aload_n 0, 1) := dk_42 (dk_at dksL_law_10 6 rfl rfl)
theorem dL_law_322 : decode cL_law 322 = .ok (.iload_n 3, 1) := dk_29 (dk_at dksL_law_10 7 rfl rfl)
theorem dL_law_323 : decode cL_law 323 = .ok (.iconst 1, 1) := dk_4 (dk_at dksL_law_10 8 rfl rfl)
theorem dL_law_324 : decode cL_law 324 = .ok (.iadd, 1) := dk_96 (dk_at dksL_law_10 9 rfl rfl)
theorem dL_law_325 : decode cL_law 325 = .ok (.iaload, 1) := dk_46 (dk_at dksL_law_10 10 rfl rfl)
theorem dL_law_326 : decode cL_law 326 = .ok (.invokevirtual 41, 3) := dk_182 0 41 (dk_at dksL_law_10 11 rfl rfl)
theorem dL_law_329 : decode cL_law 329 = .ok (.aload_n 2, 1) := dk_44 (dk_at dksL_law_10 14 rfl rfl)
theorem dL_law_330 : decode cL_law 330 = .ok (.aload_n 0, 1) := dk_42 (dk_at dksL_law_10 15 rfl rfl)
theorem dL_law_331 : decode cL_law 331 = .ok (.iload_n 3, 1) := dk_29 (dk_at dksL_law_10 16 rfl rfl)
theorem dL_law_332 : decode cL_law 332 = .ok (.iconst 1, 1) := dk_4 (dk_at dksL_law_10 17 rfl rfl)
theorem dL_law_333 : decode cL_law 333 = .ok (.iadd, 1) := dk_96 (dk_at dksL_law_10 18 rfl rfl)
theorem dL_law_334 : decode cL_law 334 = .ok (.iaload, 1) := dk_46 (dk_at dksL_law_10 19 rfl rfl)
theorem dL_law_335 : decode cL_law 335 = .ok (.invokevirtual 44, 3) := dk_182 0 44 (dk_at dksL_law_10 20 rfl rfl)
theorem dL_law_338 : decode cL_law 338 = .ok (.if_icmp .eq 522, 3) := dk_159 2 10 (dk_at dksL_law_11 0 rfl rfl)
theorem dL_law_341 : decode cL_law 341 = .ok (.iconst 0, 1) := dk_3 (dk_at dksL_law_11 3 rfl rfl)
theorem dL_law_342 : decode cL_law 342 = .ok (.ireturn, 1) := dk_172 (dk_at dksL_law_11 4 rfl rfl)
theorem dL_law_343 : decode cL_law 343 = .ok (.aload_n 1, 1) := dk_43 (dk_at dksL_law_11 5 rfl rfl)
theorem dL_law_344 : decode cL_law 344 = .ok (.aload_n 0, 1) := dk_42 (dk_at dksL_law_11 6 rfl rfl)
theorem dL_law_345 : decode cL_law 345 = .ok (.iload_n 3, 1) := dk_29 (dk_at dksL_law_11 7 rfl rfl)
theorem dL_law_346 : decode cL_law 346 = .ok (.iconst 1, 1) := dk_4 (dk_at dksL_law_11 8 rfl rfl)
theorem dL_law_347 : decode cL_law 347 = .ok (.iadd, 1) := dk_96 (dk_at dksL_law_11 9 rfl rfl)
theorem dL_law_348 : decode cL_law 348 = .ok (.iaload, 1) := dk_46 (dk_at dksL_law_11 10 rfl rfl)
theorem dL_law_349 : decode cL_law 349 = .ok (.invokevirtual 45, 3) := dk_182 0 45 (dk_at dksL_law_11 11 rfl rfl)
theorem dL_law_352 : decode cL_law 352 = .ok (.aload_n 2, 1) := dk_44 (dk_at dksL_law_11 14 rfl rfl)
theorem dL_law_353 : decode cL_law 353 = .ok (.aload_n 0, 1) := dk_42 (dk_at dksL_law_11 15 rfl rfl)
theorem dL_law_354 : decode cL_law 354 = .ok (.iload_n 3, 1) := dk_29 (dk_at dksL_law_11 16 rfl rfl)
theorem dL_law_355 : decode cL_law 355 = .ok (.iconst 1, 1) := dk_4 (dk_at dksL_law_11 17 rfl rfl)
theorem dL_law_356 : decode cL_law 356 = .ok (.iadd, 1) := dk_96 (dk_at dksL_law_11 18 rfl rfl)
theorem dL_law_357 : decode cL_law 357 = .ok (.iaload, 1) := dk_46 (dk_at dksL_law_11 19 rfl rfl)
theorem dL_law_358 : decode cL_law 358 = .ok (.invokevirtual 48, 3) := dk_182 0 48 (dk_at dksL_law_11 20 rfl rfl)
theorem dL_law_361 : decode cL_law 361 = .ok (.if_icmp .eq 499, 3) := dk_159 1 243 (dk_at dksL_law_12 0 rfl rfl)
theorem dL_law_364 : decode cL_law 364 = .ok (.iconst 0, 1) := dk_3 (dk_at dksL_law_12 3 rfl rfl)
theorem dL_law_365 : decode cL_law 365 = .ok (.ireturn, 1) := dk_172 (dk_at dksL_law_12 4 rfl rfl)
theorem dL_law_366 : decode cL_law 366 = .ok (.aload_n 1, 1) := dk_43 (dk_at dksL_law_12 5 rfl rfl)
theorem dL_law_367 : decode cL_law 367 = .ok (.aload_n 0, 1) := dk_42 (dk_at dksL_law_12 6 rfl rfl)
theorem dL_law_368 : decode cL_law 368 = .ok (.iload_n 3, 1) := dk_29 (dk_at dksL_law_12 7 rfl rfl)
theorem dL_law_369 : decode cL_law 369 = .ok (.iconst 1, 1) := dk_4 (dk_at dksL_law_12 8 rfl rfl)
theorem dL_law_370 : decode cL_law 370 = .ok (.iadd, 1) := dk_96 (dk_at dksL_law_12 9 rfl rfl)
theorem dL_law_371 : decode cL_law 371 = .ok (.iaload, 1) := dk_46 (dk_at dksL_law_12 10 rfl rfl)
theorem dL_law_372 : decode cL_law 372 = .ok (.invokevirtual 49, 3) := dk_182 0 49 (dk_at dksL_law_12 11 rfl rfl)
theorem dL_law_375 : decode cL_law 375 = .ok (.aload_n 2, 1) := dk_44 (dk_at dksL_law_12 14 rfl rfl)
theorem dL_law_376 : decode cL_law 376 = .ok (.aload_n 0, 1) := dk_42 (dk_at dksL_law_12 15 rfl rfl)
theorem dL_law_377 : decode cL_law 377 = .ok (.iload_n 3, 1) := dk_29 (dk_at dksL_law_12 16 rfl rfl)
theorem dL_law_378 : decode cL_law 378 = .ok (.iconst 1, 1) := dk_4 (dk_at dksL_law_12 17 rfl rfl)
theorem dL_law_379 : decode cL_law 379 = .ok (.iadd, 1) := dk_96 (dk_at dksL_law_12 18 rfl rfl)
theorem dL_law_380 : decode cL_law 380 = .ok (.iaload, 1) := dk_46 (dk_at dksL_law_12 19 rfl rfl)
theorem dL_law_381 : decode cL_law 381 = .ok (.invokevirtual 52, 3) := dk_182 0 52 (dk_at dksL_law_12 20 rfl rfl)
theorem dL_law_384 : decode cL_law 384 = .ok (.if_icmp .eq 476, 3) := dk_159 1 220 (dk_at dksL_law_13 0 rfl rfl)
theorem dL_law_387 : decode cL_law 387 = .ok (.iconst 0, 1) := dk_3 (dk_at dksL_law_13 3 rfl rfl)
theorem dL_law_388 : decode cL_law 388 = .ok (.ireturn, 1) := dk_172 (dk_at dksL_law_13 4 rfl rfl)
theorem dL_law_389 : decode cL_law 389 = .ok (.aload_n 1, 1) := dk_43 (dk_at dksL_law_13 5 rfl rfl)
theorem dL_law_390 : decode cL_law 390 = .ok (.aload_n 0, 1) := dk_42 (dk_at dksL_law_13 6 rfl rfl)
theorem dL_law_391 : decode cL_law 391 = .ok (.iload_n 3, 1) := dk_29 (dk_at dksL_law_13 7 rfl rfl)
theorem dL_law_392 : decode cL_law 392 = .ok (.iconst 1, 1) := dk_4 (dk_at dksL_law_13 8 rfl rfl)
theorem dL_law_393 : decode cL_law 393 = .ok (.iadd, 1) := dk_96 (dk_at dksL_law_13 9 rfl rfl)
theorem dL_law_394 : decode cL_law 394 = .ok (.iaload, 1) := dk_46 (dk_at dksL_law_13 10 rfl rfl)
theorem dL_law_395 : decode cL_law 395 = .ok (.aload_n 0, 1) := dk_42 (dk_at dksL_law_13 11 rfl rfl)
theorem dL_law_396 : decode cL_law 396 = .ok (.iload_n 3, 1) := dk_29 (dk_at dksL_law_13 12 rfl rfl)
theorem dL_law_397 : decode cL_law 397 = .ok (.iconst 2, 1) := dk_5 (dk_at dksL_law_13 13 rfl rfl)
theorem dL_law_398 : decode cL_law 398 = .ok (.iadd, 1) := dk_96 (dk_at dksL_law_13 14 rfl rfl)
theorem dL_law_399 : decode cL_law 399 = .ok (.iaload, 1) := dk_46 (dk_at dksL_law_13 15 rfl rfl)
theorem dL_law_400 : decode cL_law 400 = .ok (.invokevirtual 53, 3) := dk_182 0 53 (dk_at dksL_law_13 16 rfl rfl)
theorem dL_law_403 : decode cL_law 403 = .ok (.aload_n 2, 1) := dk_44 (dk_at dksL_law_13 19 rfl rfl)
theorem dL_law_404 : decode cL_law 404 = .ok (.aload_n 0, 1) := dk_42 (dk_at dksL_law_13 20 rfl rfl)
theorem dL_law_405 : decode cL_law 405 = .ok (.iload_n 3, 1) := dk_29 (dk_at dksL_law_13 21 rfl rfl)
theorem dL_law_406 : decode cL_law 406 = .ok (.iconst 1, 1) := dk_4 (dk_at dksL_law_13 22 rfl rfl)
theorem dL_law_407 : decode cL_law 407 = .ok (.iadd, 1) := dk_96 (dk_at dksL_law_13 23 rfl rfl)
theorem dL_law_408 : decode cL_law 408 = .ok (.iaload, 1) := dk_46 (dk_at dksL_law_14 0 rfl rfl)
theorem dL_law_409 : decode cL_law 409 = .ok (.aload_n 0, 1) := dk_42 (dk_at dksL_law_14 1 rfl rfl)
theorem dL_law_410 : decode cL_law 410 = .ok (.iload_n 3, 1) := dk_29 (dk_at dksL_law_14 2 rfl rfl)
theorem dL_law_411 : decode cL_law 411 = .ok (.iconst 2, 1) := dk_5 (dk_at dksL_law_14 3 rfl rfl)
theorem dL_law_412 : decode cL_law 412 = .ok (.iadd, 1) := dk_96 (dk_at dksL_law_14 4 rfl rfl)
theorem dL_law_413 : decode cL_law 413 = .ok (.iaload, 1) := dk_46 (dk_at dksL_law_14 5 rfl rfl)
theorem dL_law_414 : decode cL_law 414 = .ok (.invokevirtual 57, 3) := dk_182 0 57 (dk_at dksL_law_14 6 rfl rfl)
theorem dL_law_417 : decode cL_law 417 = .ok (.if_icmp .eq 443, 3) := dk_159 1 187 (dk_at dksL_law_14 9 rfl rfl)
theorem dL_law_420 : decode cL_law 420 = .ok (.iconst 0, 1) := dk_3 (dk_at dksL_law_14 12 rfl rfl)
theorem dL_law_421 : decode cL_law 421 = .ok (.ireturn, 1) := dk_172 (dk_at dksL_law_14 13 rfl rfl)
theorem dL_law_422 : decode cL_law 422 = .ok (.aload_n 1, 1) := dk_43 (dk_at dksL_law_14 14 rfl rfl)
theorem dL_law_423 : decode cL_law 423 = .ok (.aload_n 0, 1) := dk_42 (dk_at dksL_law_14 15 rfl rfl)
theorem dL_law_424 : decode cL_law 424 = .ok (.iload_n 3, 1) := dk_29 (dk_at dksL_law_14 16 rfl rfl)
theorem dL_law_425 : decode cL_law 425 = .ok (.iconst 1, 1) := dk_4 (dk_at dksL_law_14 17 rfl rfl)
theorem dL_law_426 : decode cL_law 426 = .ok (.iadd, 1) := dk_96 (dk_at dksL_law_14 18 rfl rfl)
theorem dL_law_427 : decode cL_law 427 = .ok (.iaload, 1) := dk_46 (dk_at dksL_law_14 19 rfl rfl)
theorem dL_law_428 : decode cL_law 428 = .ok (.aload_n 0, 1) := dk_42 (dk_at dksL_law_14 20 rfl rfl)
theorem dL_law_429 : decode cL_law 429 = .ok (.iload_n 3, 1) := dk_29 (dk_at dksL_law_14 21 rfl rfl)
theorem dL_law_430 : decode cL_law 430 = .ok (.iconst 2, 1) := dk_5 (dk_at dksL_law_14 22 rfl rfl)
theorem dL_law_431 : decode cL_law 431 = .ok (.iadd, 1) := dk_96 (dk_at dksL_law_14 23 rfl rfl)
theorem dL_law_432 : decode cL_law 432 = .ok (.iaload, 1) := dk_46 (dk_at dksL_law_15 0 rfl rfl)
theorem dL_law_433 : decode cL_law 433 = .ok (.invokevirtual 58, 3) := dk_182 0 58 (dk_at dksL_law_15 1 rfl rfl)
theorem dL_law_436 : decode cL_law 436 = .ok (.aload_n 2, 1) := dk_44 (dk_at dksL_law_15 4 rfl rfl)
theorem dL_law_437 : decode cL_law 437 = .ok (.aload_n 0, 1) := dk_42 (dk_at dksL_law_15 5 rfl rfl)
theorem dL_law_438 : decode cL_law 438 = .ok (.iload_n 3, 1) := dk_29 (dk_at dksL_law_15 6 rfl rfl)
theorem dL_law_439 : decode cL_law 439 = .ok (.iconst 1, 1) := dk_4 (dk_at dksL_law_15 7 rfl rfl)
theorem dL_law_440 : decode cL_law 440 = .ok (.iadd, 1) := dk_96 (dk_at dksL_law_15 8 rfl rfl)
theorem dL_law_441 : decode cL_law 441 = .ok (.iaload, 1) := dk_46 (dk_at dksL_law_15 9 rfl rfl)
theorem dL_law_442 : decode cL_law 442 = .ok (.aload_n 0, 1) := dk_42 (dk_at dksL_law_15 10 rfl rfl)
theorem dL_law_443 : decode cL_law 443 = .ok (.iload_n 3, 1) := dk_29 (dk_at dksL_law_15 11 rfl rfl)
theorem dL_law_444 : decode cL_law 444 = .ok (.iconst 2, 1) := dk_5 (dk_at dksL_law_15 12 rfl rfl)
theorem dL_law_445 : decode cL_law 445 = .ok (.iadd, 1) := dk_96 (dk_at dksL_law_15 13 rfl rfl)
theorem dL_law_446 : decode cL_law 446 = .ok (.iaload, 1) := dk_46 (dk_at dksL_law_15 14 rfl rfl)
theorem dL_law_447 : decode cL_law 447 = .ok (.invokevirtual 61, 3) := dk_182 0 61 (dk_at dksL_law_15 15 rfl rfl)
theorem dL_law_450 : decode cL_law 450 = .ok (.if_icmp .eq 410, 3) := dk_159 1 154 (dk_at dksL_law_15 18 rfl rfl)
theorem dL_law_453 : decode cL_law 453 = .ok (.iconst 0, 1) := dk_3 (dk_at dksL_law_15 21 rfl rfl)
theorem dL_law_454 : decode cL_law 454 = .ok (.ireturn, 1) := dk_172 (dk_at dksL_law_15 22 rfl rfl)
theorem dL_law_455 : decode cL_law 455 = .ok (.aload_n 1, 1) := dk_43 (dk_at dksL_law_15 23 rfl rfl)
theorem dL_law_456 : decode cL_law 456 = .ok (.aload_n 0, 1) := dk_42 (dk_at dksL_law_16 0 rfl rfl)
theorem dL_law_457 : decode cL_law 457 = .ok (.iload_n 3, 1) := dk_29 (dk_at dksL_law_16 1 rfl rfl)
theorem dL_law_458 : decode cL_law 458 = .ok (.iconst 1, 1) := dk_4 (dk_at dksL_law_16 2 rfl rfl)
theorem dL_law_459 : decode cL_law 459 = .ok (.iadd, 1) := dk_96 (dk_at dksL_law_16 3 rfl rfl)
theorem dL_law_460 : decode cL_law 460 = .ok (.iaload, 1) := dk_46 (dk_at dksL_law_16 4 rfl rfl)
theorem dL_law_461 : decode cL_law 461 = .ok (.aload_n 0, 1) := dk_42 (dk_at dksL_law_16 5 rfl rfl)
theorem dL_law_462 : decode cL_law 462 = .ok (.iload_n 3, 1) := dk_29 (dk_at dksL_law_16 6 rfl rfl)
theorem dL_law_463 : decode cL_law 463 = .ok (.iconst 2, 1) := dk_5 (dk_at dksL_law_16 7 rfl rfl)
theorem dL_law_464 : decode cL_law 464 = .ok (.iadd, 1) := dk_96 (dk_at dksL_law_16 8 rfl rfl)
theorem dL_law_465 : decode cL_law 465 = .ok (.iaload, 1) := dk_46 (dk_at dksL_law_16 9 rfl rfl)
theorem dL_law_466 : decode cL_law 466 = .ok (.invokevirtual 62, 3) := dk_182 0 62 (dk_at dksL_law_16 10 rfl rfl)
theorem dL_law_469 : decode cL_law 469 = .ok (.aload_n 2, 1) := dk_44 (dk_at dksL_law_16 13 rfl rfl)
theorem dL_law_470 : decode cL_law 470 = .ok (.aload_n 0, 1) := dk_42 (dk_at dksL_law_16 14 rfl rfl)
theorem dL_law_471 : decode cL_law 471 = .ok (.iload_n 3, 1) := dk_29 (dk_at dksL_law_16 15 rfl rfl)
theorem dL_law_472 : decode cL_law 472 = .ok (.iconst 1, 1) := dk_4 (dk_at dksL_law_16 16 rfl rfl)
theorem dL_law_473 : decode cL_law 473 = .ok (.iadd, 1) := dk_96 (dk_at dksL_law_16 17 rfl rfl)
theorem dL_law_474 : decode cL_law 474 = .ok (.iaload, 1) := dk_46 (dk_at dksL_law_16 18 rfl rfl)
theorem dL_law_475 : decode cL_law 475 = .ok (.aload_n 0, 1) := dk_42 (dk_at dksL_law_16 19 rfl rfl)
theorem dL_law_476 : decode cL_law 476 = .ok (.iload_n 3, 1) := dk_29 (dk_at dksL_law_16 20 rfl rfl)
theorem dL_law_477 : decode cL_law 477 = .ok (.iconst 2, 1) := dk_5 (dk_at dksL_law_16 21 rfl rfl)
theorem dL_law_478 : decode cL_law 478 = .ok (.iadd, 1) := dk_96 (dk_at dksL_law_16 22 rfl rfl)
theorem dL_law_479 : decode cL_law 479 = .ok (.iaload, 1) := dk_46 (dk_at dksL_law_16 23 rfl rfl)
theorem dL_law_480 : decode cL_law 480 = .ok (.invokevirtual 65, 3) := dk_182 0 65 (dk_at dksL_law_17 0 rfl rfl)
theorem dL_law_483 : decode cL_law 483 = .ok (.if_icmp .eq 377, 3) := dk_159 1 121 (dk_at dksL_law_17 3 rfl rfl)
theorem dL_law_486 : decode cL_law 486 = .ok (.iconst 0, 1) := dk_3 (dk_at dksL_law_17 6 rfl rfl)
theorem dL_law_487 : decode cL_law 487 = .ok (.ireturn, 1) := dk_172 (dk_at dksL_law_17 7 rfl rfl)
theorem dL_law_488 : decode cL_law 488 = .ok (.aload_n 1, 1) := dk_43 (dk_at dksL_law_17 8 rfl rfl)
theorem dL_law_489 : decode cL_law 489 = .ok (.invokevirtual 66, 3) := dk_182 0 66 (dk_at dksL_law_17 9 rfl rfl)
theorem dL_law_492 : decode cL_law 492 = .ok (.aload_n 2, 1) := dk_44 (dk_at dksL_law_17 12 rfl rfl)
theorem dL_law_493 : decode cL_law 493 = .ok (.invokevirtual 69, 3) := dk_182 0 69 (dk_at dksL_law_17 13 rfl rfl)
theorem dL_law_496 : decode cL_law 496 = .ok (.if_icmp .eq 364, 3) := dk_159 1 108 (dk_at dksL_law_17 16 rfl rfl)
theorem dL_law_499 : decode cL_law 499 = .ok (.iconst 0, 1) := dk_3 (dk_at dksL_law_17 19 rfl rfl)
theorem dL_law_500 : decode cL_law 500 = .ok (.ireturn, 1) := dk_172 (dk_at dksL_law_17 20 rfl rfl)
theorem dL_law_501 : decode cL_law 501 = .ok (.aload_n 1, 1) := dk_43 (dk_at dksL_law_17 21 rfl rfl)
theorem dL_law_502 : decode cL_law 502 = .ok (.aload_n 0, 1) := dk_42 (dk_at dksL_law_17 22 rfl rfl)
theorem dL_law_503 : decode cL_law 503 = .ok (.iload_n 3, 1) := dk_29 (dk_at dksL_law_17 23 rfl rfl)
theorem dL_law_504 : decode cL_law 504 = .ok (.iconst 1, 1) := dk_4 (dk_at dksL_law_18 0 rfl rfl)
theorem dL_law_505 : decode cL_law 505 = .ok (.iadd, 1) := dk_96 (dk_at dksL_law_18 1 rfl rfl)
theorem dL_law_506 : decode cL_law 506 = .ok (.iaload, 1) := dk_46 (dk_at dksL_law_18 2 rfl rfl)
theorem dL_law_507 : decode cL_law 507 = .ok (.invokevirtual 70, 3) := dk_182 0 70 (dk_at dksL_law_18 3 rfl rfl)
theorem dL_law_510 : decode cL_law 510 = .ok (.aload_n 2, 1) := dk_44 (dk_at dksL_law_18 6 rfl rfl)
theorem dL_law_511 : decode cL_law 511 = .ok (.aload_n 0, 1) := dk_42 (dk_at dksL_law_18 7 rfl rfl)
theorem dL_law_512 : decode cL_law 512 = .ok (.iload_n 3, 1) := dk_29 (dk_at dksL_law_18 8 rfl rfl)
theorem dL_law_513 : decode cL_law 513 = .ok (.iconst 1, 1) := dk_4 (dk_at dksL_law_18 9 rfl rfl)
theorem dL_law_514 : decode cL_law 514 = .ok (.iadd, 1) := dk_96 (dk_at dksL_law_18 10 rfl rfl)
theorem dL_law_515 : decode cL_law 515 = .ok (.iaload, 1) := dk_46 (dk_at dksL_law_18 11 rfl rfl)
theorem dL_law_516 : decode cL_law 516 = .ok (.invokevirtual 73, 3) := dk_182 0 73 (dk_at dksL_law_18 12 rfl rfl)
theorem dL_law_519 : decode cL_law 519 = .ok (.if_icmp .eq 341, 3) := dk_159 1 85 (dk_at dksL_law_18 15 rfl rfl)
theorem dL_law_522 : decode cL_law 522 = .ok (.iconst 0, 1) := dk_3 (dk_at dksL_law_18 18 rfl rfl)
theorem dL_law_523 : decode cL_law 523 = .ok (.ireturn, 1) := dk_172 (dk_at dksL_law_18 19 rfl rfl)
theorem dL_law_524 : decode cL_law 524 = .ok (.aload_n 1, 1) := dk_43 (dk_at dksL_law_18 20 rfl rfl)
theorem dL_law_525 : decode cL_law 525 = .ok (.aload_n 0, 1) := dk_42 (dk_at dksL_law_18 21 rfl rfl)
theorem dL_law_526 : decode cL_law 526 = .ok (.iload_n 3, 1) := dk_29 (dk_at dksL_law_18 22 rfl rfl)
theorem dL_law_527 : decode cL_law 527 = .ok (.iconst 1, 1) := dk_4 (dk_at dksL_law_18 23 rfl rfl)
theorem dL_law_528 : decode cL_law 528 = .ok (.iadd, 1) := dk_96 (dk_at dksL_law_19 0 rfl rfl)
theorem dL_law_529 : decode cL_law 529 = .ok (.iaload, 1) := dk_46 (dk_at dksL_law_19 1 rfl rfl)
theorem dL_law_530 : decode cL_law 530 = .ok (.aload_n 0, 1) := dk_42 (dk_at dksL_law_19 2 rfl rfl)
theorem dL_law_531 : decode cL_law 531 = .ok (.iload_n 3, 1) := dk_29 (dk_at dksL_law_19 3 rfl rfl)
theorem dL_law_532 : decode cL_law 532 = .ok (.iconst 2, 1) := dk_5 (dk_at dksL_law_19 4 rfl rfl)
theorem dL_law_533 : decode cL_law 533 = .ok (.iadd, 1) := dk_96 (dk_at dksL_law_19 5 rfl rfl)
theorem dL_law_534 : decode cL_law 534 = .ok (.iaload, 1) := dk_46 (dk_at dksL_law_19 6 rfl rfl)
theorem dL_law_535 : decode cL_law 535 = .ok (.invokevirtual 74, 3) := dk_182 0 74 (dk_at dksL_law_19 7 rfl rfl)
theorem dL_law_538 : decode cL_law 538 = .ok (.aload_n 2, 1) := dk_44 (dk_at dksL_law_19 10 rfl rfl)
theorem dL_law_539 : decode cL_law 539 = .ok (.aload_n 0, 1) := dk_42 (dk_at dksL_law_19 11 rfl rfl)
theorem dL_law_540 : decode cL_law 540 = .ok (.iload_n 3, 1) := dk_29 (dk_at dksL_law_19 12 rfl rfl)
theorem dL_law_541 : decode cL_law 541 = .ok (.iconst 1, 1) := dk_4 (dk_at dksL_law_19 13 rfl rfl)
theorem dL_law_542 : decode cL_law 542 = .ok (.iadd, 1) := dk_96 (dk_at dksL_law_19 14 rfl rfl)
theorem dL_law_543 : decode cL_law 543 = .ok (.iaload, 1) := dk_46 (dk_at dksL_law_19 15 rfl rfl)
theorem dL_law_544 : decode cL_law 544 = .ok (.aload_n 0, 1) := dk_42 (dk_at dksL_law_19 16 rfl rfl)
theorem dL_law_545 : decode cL_law 545 = .ok (.iload_n 3, 1) := dk_29 (dk_at dksL_law_19 17 rfl rfl)
theorem dL_law_546 : decode cL_law 546 = .ok (.iconst 2, 1) := dk_5 (dk_at dksL_law_19 18 rfl rfl)
theorem dL_law_547 : decode cL_law 547 = .ok (.iadd, 1) := dk_96 (dk_at dksL_law_19 19 rfl rfl)
theorem dL_law_548 : decode cL_law 548 = .ok (.iaload, 1) := dk_46 (dk_at dksL_law_19 20 rfl rfl)
theorem dL_law_549 : decode cL_law 549 = .ok (.invokevirtual 77, 3) := dk_182 0 77 (dk_at dksL_law_19 21 rfl rfl)
theorem dL_law_552 : decode cL_law 552 = .ok (.if_icmp .eq 308, 3) := dk_159 1 52 (dk_at dksL_law_20 0 rfl rfl)
theorem dL_law_555 : decode cL_law 555 = .ok (.iconst 0, 1) := dk_3 (dk_at dksL_law_20 3 rfl rfl)
theorem dL_law_556 : decode cL_law 556 = .ok (.ireturn, 1) := dk_172 (dk_at dksL_law_20 4 rfl rfl)
theorem dL_law_557 : decode cL_law 557 = .ok (.aload_n 1, 1) := dk_43 (dk_at dksL_law_20 5 rfl rfl)
theorem dL_law_558 : decode cL_law 558 = .ok (.aload_n 0, 1) := dk_42 (dk_at dksL_law_20 6 rfl rfl)
theorem dL_law_559 : decode cL_law 559 = .ok (.iload_n 3, 1) := dk_29 (dk_at dksL_law_20 7 rfl rfl)
theorem dL_law_560 : decode cL_law 560 = .ok (.iconst 1, 1) := dk_4 (dk_at dksL_law_20 8 rfl rfl)
theorem dL_law_561 : decode cL_law 561 = .ok (.iadd, 1) := dk_96 (dk_at dksL_law_20 9 rfl rfl)
theorem dL_law_562 : decode cL_law 562 = .ok (.iaload, 1) := dk_46 (dk_at dksL_law_20 10 rfl rfl)
theorem dL_law_563 : decode cL_law 563 = .ok (.aload_n 0, 1) := dk_42 (dk_at dksL_law_20 11 rfl rfl)
theorem dL_law_564 : decode cL_law 564 = .ok (.iload_n 3, 1) := dk_29 (dk_at dksL_law_20 12 rfl rfl)
theorem dL_law_565 : decode cL_law 565 = .ok (.iconst 2, 1) := dk_5 (dk_at dksL_law_20 13 rfl rfl)
theorem dL_law_566 : decode cL_law 566 = .ok (.iadd, 1) := dk_96 (dk_at dksL_law_20 14 rfl rfl)
theorem dL_law_567 : decode cL_law 567 = .ok (.iaload, 1) := dk_46 (dk_at dksL_law_20 15 rfl rfl)
theorem dL_law_568 : decode cL_law 568 = .ok (.invokevirtual 78, 3) := dk_182 0 78 (dk_at dksL_law_20 16 rfl rfl)
theorem dL_law_571 : decode cL_law 571 = .ok (.aload_n 2, 1) := dk_44 (dk_at dksL_law_20 19 rfl rfl)
theorem dL_law_572 : decode cL_law 572 = .ok (.aload_n 0, 1) := dk_42 (dk_at dksL_law_20 20 rfl rfl)
theorem dL_law_573 : decode cL_law 573 = .ok (.iload_n 3, 1) := dk_29 (dk_at dksL_law_20 21 rfl rfl)
theorem dL_law_574 : decode cL_law 574 = .ok (.iconst 1, 1) := dk_4 (dk_at dksL_law_20 22 rfl rfl)
theorem dL_law_575 : decode cL_law 575 = .ok (.iadd, 1) := dk_96 (dk_at dksL_law_20 23 rfl rfl)
theorem dL_law_576 : decode cL_law 576 = .ok (.iaload, 1) := dk_46 (dk_at dksL_law_21 0 rfl rfl)
theorem dL_law_577 : decode cL_law 577 = .ok (.aload_n 0, 1) := dk_42 (dk_at dksL_law_21 1 rfl rfl)
theorem dL_law_578 : decode cL_law 578 = .ok (.iload_n 3, 1) := dk_29 (dk_at dksL_law_21 2 rfl rfl)
theorem dL_law_579 : decode cL_law 579 = .ok (.iconst 2, 1) := dk_5 (dk_at dksL_law_21 3 rfl rfl)
theorem dL_law_580 : decode cL_law 580 = .ok (.iadd, 1) := dk_96 (dk_at dksL_law_21 4 rfl rfl)
theorem dL_law_581 : decode cL_law 581 = .ok (.iaload, 1) := dk_46 (dk_at dksL_law_21 5 rfl rfl)
theorem dL_law_582 : decode cL_law 582 = .ok (.invokevirtual 82, 3) := dk_182 0 82 (dk_at dksL_law_21 6 rfl rfl)
theorem dL_law_585 : decode cL_law 585 = .ok (.if_icmp .eq 275, 3) := dk_159 1 19 (dk_at dksL_law_21 9 rfl rfl)
theorem dL_law_588 : decode cL_law 588 = .ok (.iconst 0, 1) := dk_3 (dk_at dksL_law_21 12 rfl rfl)
theorem dL_law_589 : decode cL_law 589 = .ok (.ireturn, 1) := dk_172 (dk_at dksL_law_21 13 rfl rfl)
theorem dL_law_590 : decode cL_law 590 = .ok (.aload_n 1, 1) := dk_43 (dk_at dksL_law_21 14 rfl rfl)
theorem dL_law_591 : decode cL_law 591 = .ok (.aload_n 0, 1) := dk_42 (dk_at dksL_law_21 15 rfl rfl)
theorem dL_law_592 : decode cL_law 592 = .ok (.iload_n 3, 1) := dk_29 (dk_at dksL_law_21 16 rfl rfl)
theorem dL_law_593 : decode cL_law 593 = .ok (.iconst 1, 1) := dk_4 (dk_at dksL_law_21 17 rfl rfl)
theorem dL_law_594 : decode cL_law 594 = .ok (.iadd, 1) := dk_96 (dk_at dksL_law_21 18 rfl rfl)
theorem dL_law_595 : decode cL_law 595 = .ok (.iaload, 1) := dk_46 (dk_at dksL_law_21 19 rfl rfl)
theorem dL_law_596 : decode cL_law 596 = .ok (.invokevirtual 83, 3) := dk_182 0 83 (dk_at dksL_law_21 20 rfl rfl)
theorem dL_law_599 : decode cL_law 599 = .ok (.aload_n 2, 1) := dk_44 (dk_at dksL_law_21 23 rfl rfl)
theorem dL_law_600 : decode cL_law 600 = .ok (.aload_n 0, 1) := dk_42 (dk_at dksL_law_22 0 rfl rfl)
theorem dL_law_601 : decode cL_law 601 = .ok (.iload_n 3, 1) := dk_29 (dk_at dksL_law_22 1 rfl rfl)
theorem dL_law_602 : decode cL_law 602 = .ok (.iconst 1, 1) := dk_4 (dk_at dksL_law_22 2 rfl rfl)
theorem dL_law_603 : decode cL_law 603 = .ok (.iadd, 1) := dk_96 (dk_at dksL_law_22 3 rfl rfl)
theorem dL_law_604 : decode cL_law 604 = .ok (.iaload, 1) := dk_46 (dk_at dksL_law_22 4 rfl rfl)
theorem dL_law_605 : decode cL_law 605 = .ok (.invokevirtual 86, 3) := dk_182 0 86 (dk_at dksL_law_22 5 rfl rfl)
theorem dL_law_608 : decode cL_law 608 = .ok (.if_icmp .eq 252, 3) := dk_159 0 252 (dk_at dksL_law_22 8 rfl rfl)
theorem dL_law_611 : decode cL_law 611 = .ok (.iconst 0, 1) := dk_3 (dk_at dksL_law_22 11 rfl rfl)
theorem dL_law_612 : decode cL_law 612 = .ok (.ireturn, 1) := dk_172 (dk_at dksL_law_22 12 rfl rfl)
theorem dL_law_613 : decode cL_law 613 = .ok (.aload_n 1, 1) := dk_43 (dk_at dksL_law_22 13 rfl rfl)
theorem dL_law_614 : decode cL_law 614 = .ok (.invokevirtual 87, 3) := dk_182 0 87 (dk_at dksL_law_22 14 rfl rfl)
theorem dL_law_617 : decode cL_law 617 = .ok (.aload_n 2, 1) := dk_44 (dk_at dksL_law_22 17 rfl rfl)
theorem dL_law_618 : decode cL_law 618 = .ok (.invokevirtual 90, 3) := dk_182 0 90 (dk_at dksL_law_22 18 rfl rfl)
theorem dL_law_621 : decode cL_law 621 = .ok (.if_icmp .eq 239, 3) := dk_159 0 239 (dk_at dksL_law_22 21 rfl rfl)
theorem dL_law_624 : decode cL_law 624 = .ok (.iconst 0, 1) := dk_3 (dk_at dksL_law_23 0 rfl rfl)
theorem dL_law_625 : decode cL_law 625 = .ok (.ireturn, 1) := dk_172 (dk_at dksL_law_23 1 rfl rfl)
theorem dL_law_626 : decode cL_law 626 = .ok (.aload_n 1, 1) := dk_43 (dk_at dksL_law_23 2 rfl rfl)
theorem dL_law_627 : decode cL_law 627 = .ok (.aload_n 0, 1) := dk_42 (dk_at dksL_law_23 3 rfl rfl)
theorem dL_law_628 : decode cL_law 628 = .ok (.iload_n 3, 1) := dk_29 (dk_at dksL_law_23 4 rfl rfl)
theorem dL_law_629 : decode cL_law 629 = .ok (.iconst 1, 1) := dk_4 (dk_at dksL_law_23 5 rfl rfl)
theorem dL_law_630 : decode cL_law 630 = .ok (.iadd, 1) := dk_96 (dk_at dksL_law_23 6 rfl rfl)
theorem dL_law_631 : decode cL_law 631 = .ok (.iaload, 1) := dk_46 (dk_at dksL_law_23 7 rfl rfl)
theorem dL_law_632 : decode cL_law 632 = .ok (.aload_n 0, 1) := dk_42 (dk_at dksL_law_23 8 rfl rfl)
theorem dL_law_633 : decode cL_law 633 = .ok (.iload_n 3, 1) := dk_29 (dk_at dksL_law_23 9 rfl rfl)
theorem dL_law_634 : decode cL_law 634 = .ok (.iconst 2, 1) := dk_5 (dk_at dksL_law_23 10 rfl rfl)
theorem dL_law_635 : decode cL_law 635 = .ok (.iadd, 1) := dk_96 (dk_at dksL_law_23 11 rfl rfl)
theorem dL_law_636 : decode cL_law 636 = .ok (.iaload, 1) := dk_46 (dk_at dksL_law_23 12 rfl rfl)
theorem dL_law_637 : decode cL_law 637 = .ok (.aload_n 0, 1) := dk_42 (dk_at dksL_law_23 13 rfl rfl)
theorem dL_law_638 : decode cL_law 638 = .ok (.iload_n 3, 1) := dk_29 (dk_at dksL_law_23 14 rfl rfl)
theorem dL_law_639 : decode cL_law 639 = .ok (.iconst 3, 1) := dk_6 (dk_at dksL_law_23 15 rfl rfl)
theorem dL_law_640 : decode cL_law 640 = .ok (.iadd, 1) := dk_96 (dk_at dksL_law_23 16 rfl rfl)
theorem dL_law_641 : decode cL_law 641 = .ok (.iaload, 1) := dk_46 (dk_at dksL_law_23 17 rfl rfl)
theorem dL_law_642 : decode cL_law 642 = .ok (.aload_n 0, 1) := dk_42 (dk_at dksL_law_23 18 rfl rfl)
theorem dL_law_643 : decode cL_law 643 = .ok (.iload_n 3, 1) := dk_29 (dk_at dksL_law_23 19 rfl rfl)
theorem dL_law_644 : decode cL_law 644 = .ok (.iconst 4, 1) := dk_7 (dk_at dksL_law_23 20 rfl rfl)
theorem dL_law_645 : decode cL_law 645 = .ok (.iadd, 1) := dk_96 (dk_at dksL_law_23 21 rfl rfl)
theorem dL_law_646 : decode cL_law 646 = .ok (.iaload, 1) := dk_46 (dk_at dksL_law_23 22 rfl rfl)
theorem dL_law_647 : decode cL_law 647 = .ok (.invokevirtual 91, 3) := dk_182 0 91 (dk_at dksL_law_24 0 rfl rfl)
theorem dL_law_650 : decode cL_law 650 = .ok (.aload_n 2, 1) := dk_44 (dk_at dksL_law_24 3 rfl rfl)
theorem dL_law_651 : decode cL_law 651 = .ok (.aload_n 0, 1) := dk_42 (dk_at dksL_law_24 4 rfl rfl)
theorem dL_law_652 : decode cL_law 652 = .ok (.iload_n 3, 1) := dk_29 (dk_at dksL_law_24 5 rfl rfl)
theorem dL_law_653 : decode cL_law 653 = .ok (.iconst 1, 1) := dk_4 (dk_at dksL_law_24 6 rfl rfl)
theorem dL_law_654 : decode cL_law 654 = .ok (.iadd, 1) := dk_96 (dk_at dksL_law_24 7 rfl rfl)
theorem dL_law_655 : decode cL_law 655 = .ok (.iaload, 1) := dk_46 (dk_at dksL_law_24 8 rfl rfl)
theorem dL_law_656 : decode cL_law 656 = .ok (.aload_n 0, 1) := dk_42 (dk_at dksL_law_24 9 rfl rfl)
theorem dL_law_657 : decode cL_law 657 = .ok (.iload_n 3, 1) := dk_29 (dk_at dksL_law_24 10 rfl rfl)
theorem dL_law_658 : decode cL_law 658 = .ok (.iconst 2, 1) := dk_5 (dk_at dksL_law_24 11 rfl rfl)
theorem dL_law_659 : decode cL_law 659 = .ok (.iadd, 1) := dk_96 (dk_at dksL_law_24 12 rfl rfl)
theorem dL_law_660 : decode cL_law 660 = .ok (.iaload, 1) := dk_46 (dk_at dksL_law_24 13 rfl rfl)
theorem dL_law_661 : decode cL_law 661 = .ok (.aload_n 0, 1) := dk_42 (dk_at dksL_law_24 14 rfl rfl)
theorem dL_law_662 : decode cL_law 662 = .ok (.iload_n 3, 1) := dk_29 (dk_at dksL_law_24 15 rfl rfl)
theorem dL_law_663 : decode cL_law 663 = .ok (.iconst 3, 1) := dk_6 (dk_at dksL_law_24 16 rfl rfl)
theorem dL_law_664 : decode cL_law 664 = .ok (.iadd, 1) := dk_96 (dk_at dksL_law_24 17 rfl rfl)
theorem dL_law_665 : decode cL_law 665 = .ok (.iaload, 1) := dk_46 (dk_at dksL_law_24 18 rfl rfl)
theorem dL_law_666 : decode cL_law 666 = .ok (.aload_n 0, 1) := dk_42 (dk_at dksL_law_24 19 rfl rfl)
theorem dL_law_667 : decode cL_law 667 = .ok (.iload_n 3, 1) := dk_29 (dk_at dksL_law_24 20 rfl rfl)
theorem dL_law_668 : decode cL_law 668 = .ok (.iconst 4, 1) := dk_7 (dk_at dksL_law_24 21 rfl rfl)
theorem dL_law_669 : decode cL_law 669 = .ok (.iadd, 1) := dk_96 (dk_at dksL_law_24 22 rfl rfl)
theorem dL_law_670 : decode cL_law 670 = .ok (.iaload, 1) := dk_46 (dk_at dksL_law_24 23 rfl rfl)
theorem dL_law_671 : decode cL_law 671 = .ok (.invokevirtual 95, 3) := dk_182 0 95 (dk_at dksL_law_25 0 rfl rfl)
theorem dL_law_674 : decode cL_law 674 = .ok (.if_icmp .eq 186, 3) := dk_159 0 186 (dk_at dksL_law_25 3 rfl rfl)
theorem dL_law_677 : decode cL_law 677 = .ok (.iconst 0, 1) := dk_3 (dk_at dksL_law_25 6 rfl rfl)
theorem dL_law_678 : decode cL_law 678 = .ok (.ireturn, 1) := dk_172 (dk_at dksL_law_25 7 rfl rfl)
theorem dL_law_679 : decode cL_law 679 = .ok (.aload_n 1, 1) := dk_43 (dk_at dksL_law_25 8 rfl rfl)
theorem dL_law_680 : decode cL_law 680 = .ok (.aload_n 0, 1) := dk_42 (dk_at dksL_law_25 9 rfl rfl)
theorem dL_law_681 : decode cL_law 681 = .ok (.iload_n 3, 1) := dk_29 (dk_at dksL_law_25 10 rfl rfl)
theorem dL_law_682 : decode cL_law 682 = .ok (.iconst 1, 1) := dk_4 (dk_at dksL_law_25 11 rfl rfl)
theorem dL_law_683 : decode cL_law 683 = .ok (.iadd, 1) := dk_96 (dk_at dksL_law_25 12 rfl rfl)
theorem dL_law_684 : decode cL_law 684 = .ok (.iaload, 1) := dk_46 (dk_at dksL_law_25 13 rfl rfl)
theorem dL_law_685 : decode cL_law 685 = .ok (.aload_n 0, 1) := dk_42 (dk_at dksL_law_25 14 rfl rfl)
theorem dL_law_686 : decode cL_law 686 = .ok (.iload_n 3, 1) := dk_29 (dk_at dksL_law_25 15 rfl rfl)
theorem dL_law_687 : decode cL_law 687 = .ok (.iconst 2, 1) := dk_5 (dk_at dksL_law_25 16 rfl rfl)
theorem dL_law_688 : decode cL_law 688 = .ok (.iadd, 1) := dk_96 (dk_at dksL_law_25 17 rfl rfl)
theorem dL_law_689 : decode cL_law 689 = .ok (.iaload, 1) := dk_46 (dk_at dksL_law_25 18 rfl rfl)
theorem dL_law_690 : decode cL_law 690 = .ok (.invokevirtual 96, 3) := dk_182 0 96 (dk_at dksL_law_25 19 rfl rfl)
theorem dL_law_693 : decode cL_law 693 = .ok (.aload_n 2, 1) := dk_44 (dk_at dksL_law_25 22 rfl rfl)
theorem dL_law_694 : decode cL_law 694 = .ok (.aload_n 0, 1) := dk_42 (dk_at dksL_law_25 23 rfl rfl)
theorem dL_law_695 : decode cL_law 695 = .ok (.iload_n 3, 1) := dk_29 (dk_at dksL_law_26 0 rfl rfl)
theorem dL_law_696 : decode cL_law 696 = .ok (.iconst 1, 1) := dk_4 (dk_at dksL_law_26 1 rfl rfl)
theorem dL_law_697 : decode cL_law 697 = .ok (.iadd, 1) := dk_96 (dk_at dksL_law_26 2 rfl rfl)
theorem dL_law_698 : decode cL_law 698 = .ok (.iaload, 1) := dk_46 (dk_at dksL_law_26 3 rfl rfl)
theorem dL_law_699 : decode cL_law 699 = .ok (.aload_n 0, 1) := dk_42 (dk_at dksL_law_26 4 rfl rfl)
theorem dL_law_700 : decode cL_law 700 = .ok (.iload_n 3, 1) := dk_29 (dk_at dksL_law_26 5 rfl rfl)
theorem dL_law_701 : decode cL_law 701 = .ok (.iconst 2, 1) := dk_5 (dk_at dksL_law_26 6 rfl rfl)
theorem dL_law_702 : decode cL_law 702 = .ok (.iadd, 1) := dk_96 (dk_at dksL_law_26 7 rfl rfl)
theorem dL_law_703 : decode cL_law 703 = .ok (.iaload, 1) := dk_46 (dk_at dksL_law_26 8 rfl rfl)
theorem dL_law_704 : decode cL_law 704 = .ok (.invokevirtual 99, 3) := dk_182 0 99 (dk_at dksL_law_26 9 rfl rfl)
theorem dL_law_707 : decode cL_law 707 = .ok (.if_icmp .eq 153, 3) := dk_159 0 153 (dk_at dksL_law_26 12 rfl rfl)
theorem dL_law_710 : decode cL_law 710 = .ok (.iconst 0, 1) := dk_3 (dk_at dksL_law_26 15 rfl rfl)
theorem dL_law_711 : decode cL_law 711 = .ok (.ireturn, 1) := dk_172 (dk_at dksL_law_26 16 rfl rfl)
theorem dL_law_712 : decode cL_law 712 = .ok (.aload_n 1, 1) := dk_43 (dk_at dksL_law_26 17 rfl rfl)
theorem dL_law_713 : decode cL_law 713 = .ok (.aload_n 0, 1) := dk_42 (dk_at dksL_law_26 18 rfl rfl)
theorem dL_law_714 : decode cL_law 714 = .ok (.iload_n 3, 1) := dk_29 (dk_at dksL_law_26 19 rfl rfl)
theorem dL_law_715 : decode cL_law 715 = .ok (.iconst 1, 1) := dk_4 (dk_at dksL_law_26 20 rfl rfl)
theorem dL_law_716 : decode cL_law 716 = .ok (.iadd, 1) := dk_96 (dk_at dksL_law_26 21 rfl rfl)
theorem dL_law_717 : decode cL_law 717 = .ok (.iaload, 1) := dk_46 (dk_at dksL_law_26 22 rfl rfl)
theorem dL_law_718 : decode cL_law 718 = .ok (.aload_n 0, 1) := dk_42 (dk_at dksL_law_26 23 rfl rfl)
theorem dL_law_719 : decode cL_law 719 = .ok (.iload_n 3, 1) := dk_29 (dk_at dksL_law_27 0 rfl rfl)
theorem dL_law_720 : decode cL_law 720 = .ok (.iconst 2, 1) := dk_5 (dk_at dksL_law_27 1 rfl rfl)
theorem dL_law_721 : decode cL_law 721 = .ok (.iadd, 1) := dk_96 (dk_at dksL_law_27 2 rfl rfl)
theorem dL_law_722 : decode cL_law 722 = .ok (.iaload, 1) := dk_46 (dk_at dksL_law_27 3 rfl rfl)
theorem dL_law_723 : decode cL_law 723 = .ok (.invokevirtual 100, 3) := dk_182 0 100 (dk_at dksL_law_27 4 rfl rfl)
theorem dL_law_726 : decode cL_law 726 = .ok (.aload_n 2, 1) := dk_44 (dk_at dksL_law_27 7 rfl rfl)
theorem dL_law_727 : decode cL_law 727 = .ok (.aload_n 0, 1) := dk_42 (dk_at dksL_law_27 8 rfl rfl)
theorem dL_law_728 : decode cL_law 728 = .ok (.iload_n 3, 1) := dk_29 (dk_at dksL_law_27 9 rfl rfl)
theorem dL_law_729 : decode cL_law 729 = .ok (.iconst 1, 1) := dk_4 (dk_at dksL_law_27 10 rfl rfl)
theorem dL_law_730 : decode cL_law 730 = .ok (.iadd, 1) := dk_96 (dk_at dksL_law_27 11 rfl rfl)
theorem dL_law_731 : decode cL_law 731 = .ok (.iaload, 1) := dk_46 (dk_at dksL_law_27 12 rfl rfl)
theorem dL_law_732 : decode cL_law 732 = .ok (.aload_n 0, 1) := dk_42 (dk_at dksL_law_27 13 rfl rfl)
theorem dL_law_733 : decode cL_law 733 = .ok (.iload_n 3, 1) := dk_29 (dk_at dksL_law_27 14 rfl rfl)
theorem dL_law_734 : decode cL_law 734 = .ok (.iconst 2, 1) := dk_5 (dk_at dksL_law_27 15 rfl rfl)
theorem dL_law_735 : decode cL_law 735 = .ok (.iadd, 1) := dk_96 (dk_at dksL_law_27 16 rfl rfl)
theorem dL_law_736 : decode cL_law 736 = .ok (.iaload, 1) := dk_46 (dk_at dksL_law_27 17 rfl rfl)
theorem dL_law_737 : decode cL_law 737 = .ok (.invokevirtual 103, 3) := dk_182 0 103 (dk_at dksL_law_27 18 rfl rfl)
theorem dL_law_740 : decode cL_law 740 = .ok (.if_icmp .eq 120, 3) := dk_159 0 120 (dk_at dksL_law_27 21 rfl rfl)
theorem dL_law_743 : decode cL_law 743 = .ok (.iconst 0, 1) := dk_3 (dk_at dksL_law_28 0 rfl rfl)
theorem dL_law_744 : decode cL_law 744 = .ok (.ireturn, 1) := dk_172 (dk_at dksL_law_28 1 rfl rfl)
theorem dL_law_745 : decode cL_law 745 = .ok (.aload_n 1, 1) := dk_43 (dk_at dksL_law_28 2 rfl rfl)
theorem dL_law_746 : decode cL_law 746 = .ok (.aload_n 0, 1) := dk_42 (dk_at dksL_law_28 3 rfl rfl)
theorem dL_law_747 : decode cL_law 747 = .ok (.iload_n 3, 1) := dk_29 (dk_at dksL_law_28 4 rfl rfl)
theorem dL_law_748 : decode cL_law 748 = .ok (.iconst 1, 1) := dk_4 (dk_at dksL_law_28 5 rfl rfl)
theorem dL_law_749 : decode cL_law 749 = .ok (.iadd, 1) := dk_96 (dk_at dksL_law_28 6 rfl rfl)
theorem dL_law_750 : decode cL_law 750 = .ok (.iaload, 1) := dk_46 (dk_at dksL_law_28 7 rfl rfl)
theorem dL_law_751 : decode cL_law 751 = .ok (.aload_n 0, 1) := dk_42 (dk_at dksL_law_28 8 rfl rfl)
theorem dL_law_752 : decode cL_law 752 = .ok (.iload_n 3, 1) := dk_29 (dk_at dksL_law_28 9 rfl rfl)
theorem dL_law_753 : decode cL_law 753 = .ok (.iconst 2, 1) := dk_5 (dk_at dksL_law_28 10 rfl rfl)
theorem dL_law_754 : decode cL_law 754 = .ok (.iadd, 1) := dk_96 (dk_at dksL_law_28 11 rfl rfl)
theorem dL_law_755 : decode cL_law 755 = .ok (.iaload, 1) := dk_46 (dk_at dksL_law_28 12 rfl rfl)
theorem dL_law_756 : decode cL_law 756 = .ok (.aload_n 0, 1) := dk_42 (dk_at dksL_law_28 13 rfl rfl)
theorem dL_law_757 : decode cL_law 757 = .ok (.iload_n 3, 1) := dk_29 (dk_at dksL_law_28 14 rfl rfl)
theorem dL_law_758 : decode cL_law 758 = .ok (.iconst 3, 1) := dk_6 (dk_at dksL_law_28 15 rfl rfl)
theorem dL_law_759 : decode cL_law 759 = .ok (.iadd, 1) := dk_96 (dk_at dksL_law_28 16 rfl rfl)
theorem dL_law_760 : decode cL_law 760 = .ok (.iaload, 1) := dk_46 (dk_at dksL_law_28 17 rfl rfl)
theorem dL_law_761 : decode cL_law 761 = .ok (.invokevirtual 104, 3) := dk_182 0 104 (dk_at dksL_law_28 18 rfl rfl)
theorem dL_law_764 : decode cL_law 764 = .ok (.aload_n 2, 1) := dk_44 (dk_at dksL_law_28 21 rfl rfl)
theorem dL_law_765 : decode cL_law 765 = .ok (.aload_n 0, 1) := dk_42 (dk_at dksL_law_28 22 rfl rfl)
theorem dL_law_766 : decode cL_law 766 = .ok (.iload_n 3, 1) := dk_29 (dk_at dksL_law_28 23 rfl rfl)
theorem dL_law_767 : decode cL_law 767 = .ok (.iconst 1, 1) := dk_4 (dk_at dksL_law_29 0 rfl rfl)
theorem dL_law_768 : decode cL_law 768 = .ok (.iadd, 1) := dk_96 (dk_at dksL_law_29 1 rfl rfl)
theorem dL_law_769 : decode cL_law 769 = .ok (.iaload, 1) := dk_46 (dk_at dksL_law_29 2 rfl rfl)
theorem dL_law_770 : decode cL_law 770 = .ok (.aload_n 0, 1) := dk_42 (dk_at dksL_law_29 3 rfl rfl)
theorem dL_law_771 : decode cL_law 771 = .ok (.iload_n 3, 1) := dk_29 (dk_at dksL_law_29 4 rfl rfl)
theorem dL_law_772 : decode cL_law 772 = .ok (.iconst 2, 1) := dk_5 (dk_at dksL_law_29 5 rfl rfl)
theorem dL_law_773 : decode cL_law 773 = .ok (.iadd, 1) := dk_96 (dk_at dksL_law_29 6 rfl rfl)
theorem dL_law_774 : decode cL_law 774 = .ok (.iaload, 1) := dk_46 (dk_at dksL_law_29 7 rfl rfl)
theorem dL_law_775 : decode cL_law 775 = .ok (.aload_n 0, 1) := dk_42 (dk_at dksL_law_29 8 rfl rfl)
theorem dL_law_776 : decode cL_law 776 = .ok (.iload_n 3, 1) := dk_29 (dk_at dksL_law_29 9 rfl rfl)
theorem dL_law_777 : decode cL_law 777 = .ok (.iconst 3, 1) := dk_6 (dk_at dksL_law_29 10 rfl rfl)
theorem dL_law_778 : decode cL_law 778 = .ok (.iadd, 1) := dk_96 (dk_at dksL_law_29 11 rfl rfl)
theorem dL_law_779 : decode cL_law 779 = .ok (.iaload, 1) := dk_46 (dk_at dksL_law_29 12 rfl rfl)
theorem dL_law_780 : decode cL_law 780 = .ok (.invokevirtual 108, 3) := dk_182 0 108 (dk_at dksL_law_29 13 rfl rfl)
theorem dL_law_783 : decode cL_law 783 = .ok (.if_icmp .eq 77, 3) := dk_159 0 77 (dk_at dksL_law_29 16 rfl rfl)
theorem dL_law_786 : decode cL_law 786 = .ok (.iconst 0, 1) := dk_3 (dk_at dksL_law_29 19 rfl rfl)
theorem dL_law_787 : decode cL_law 787 = .ok (.ireturn, 1) := dk_172 (dk_at dksL_law_29 20 rfl rfl)
theorem dL_law_788 : decode cL_law 788 = .ok (.aload_n 1, 1) := dk_43 (dk_at dksL_law_29 21 rfl rfl)
theorem dL_law_789 : decode cL_law 789 = .ok (.aload_n 0, 1) := dk_42 (dk_at dksL_law_29 22 rfl rfl)
theorem dL_law_790 : decode cL_law 790 = .ok (.iload_n 3, 1) := dk_29 (dk_at dksL_law_29 23 rfl rfl)
theorem dL_law_791 : decode cL_law 791 = .ok (.iconst 1, 1) := dk_4 (dk_at dksL_law_30 0 rfl rfl)
theorem dL_law_792 : decode cL_law 792 = .ok (.iadd, 1) := dk_96 (dk_at dksL_law_30 1 rfl rfl)
theorem dL_law_793 : decode cL_law 793 = .ok (.iaload, 1) := dk_46 (dk_at dksL_law_30 2 rfl rfl)
theorem dL_law_794 : decode cL_law 794 = .ok (.invokevirtual 109, 3) := dk_182 0 109 (dk_at dksL_law_30 3 rfl rfl)
theorem dL_law_797 : decode cL_law 797 = .ok (.aload_n 2, 1) := dk_44 (dk_at dksL_law_30 6 rfl rfl)
theorem dL_law_798 : decode cL_law 798 = .ok (.aload_n 0, 1) := dk_42 (dk_at dksL_law_30 7 rfl rfl)
theorem dL_law_799 : decode cL_law 799 = .ok (.iload_n 3, 1) := dk_29 (dk_at dksL_law_30 8 rfl rfl)
theorem dL_law_800 : decode cL_law 800 = .ok (.iconst 1, 1) := dk_4 (dk_at dksL_law_30 9 rfl rfl)
theorem dL_law_801 : decode cL_law 801 = .ok (.iadd, 1) := dk_96 (dk_at dksL_law_30 10 rfl rfl)
theorem dL_law_802 : decode cL_law 802 = .ok (.iaload, 1) := dk_46 (dk_at dksL_law_30 11 rfl rfl)
theorem dL_law_803 : decode cL_law 803 = .ok (.invokevirtual 112, 3) := dk_182 0 112 (dk_at dksL_law_30 12 rfl rfl)
theorem dL_law_806 : decode cL_law 806 = .ok (.if_icmp .eq 54, 3) := dk_159 0 54 (dk_at dksL_law_30 15 rfl rfl)
theorem dL_law_809 : decode cL_law 809 = .ok (.iconst 0, 1) := dk_3 (dk_at dksL_law_30 18 rfl rfl)
theorem dL_law_810 : decode cL_law 810 = .ok (.ireturn, 1) := dk_172 (dk_at dksL_law_30 19 rfl rfl)
theorem dL_law_811 : decode cL_law 811 = .ok (.aload_n 1, 1) := dk_43 (dk_at dksL_law_30 20 rfl rfl)
theorem dL_law_812 : decode cL_law 812 = .ok (.invokevirtual 113, 3) := dk_182 0 113 (dk_at dksL_law_30 21 rfl rfl)
theorem dL_law_815 : decode cL_law 815 = .ok (.aload_n 2, 1) := dk_44 (dk_at dksL_law_31 0 rfl rfl)
theorem dL_law_816 : decode cL_law 816 = .ok (.invokevirtual 116, 3) := dk_182 0 116 (dk_at dksL_law_31 1 rfl rfl)
theorem dL_law_819 : decode cL_law 819 = .ok (.if_icmp .eq 41, 3) := dk_159 0 41 (dk_at dksL_law_31 4 rfl rfl)
theorem dL_law_822 : decode cL_law 822 = .ok (.iconst 0, 1) := dk_3 (dk_at dksL_law_31 7 rfl rfl)
theorem dL_law_823 : decode cL_law 823 = .ok (.ireturn, 1) := dk_172 (dk_at dksL_law_31 8 rfl rfl)
theorem dL_law_824 : decode cL_law 824 = .ok (.aload_n 1, 1) := dk_43 (dk_at dksL_law_31 9 rfl rfl)
theorem dL_law_825 : decode cL_law 825 = .ok (.invokevirtual 117, 3) := dk_182 0 117 (dk_at dksL_law_31 10 rfl rfl)
theorem dL_law_828 : decode cL_law 828 = .ok (.aload_n 2, 1) := dk_44 (dk_at dksL_law_31 13 rfl rfl)
theorem dL_law_829 : decode cL_law 829 = .ok (.invokevirtual 120, 3) := dk_182 0 120 (dk_at dksL_law_31 14 rfl rfl)
theorem dL_law_832 : decode cL_law 832 = .ok (.if_icmp .eq 28, 3) := dk_159 0 28 (dk_at dksL_law_31 17 rfl rfl)
theorem dL_law_835 : decode cL_law 835 = .ok (.iconst 0, 1) := dk_3 (dk_at dksL_law_31 20 rfl rfl)
theorem dL_law_836 : decode cL_law 836 = .ok (.ireturn, 1) := dk_172 (dk_at dksL_law_31 21 rfl rfl)
theorem dL_law_837 : decode cL_law 837 = .ok (.aload_n 1, 1) := dk_43 (dk_at dksL_law_31 22 rfl rfl)
theorem dL_law_838 : decode cL_law 838 = .ok (.aload_n 0, 1) := dk_42 (dk_at dksL_law_31 23 rfl rfl)
theorem dL_law_839 : decode cL_law 839 = .ok (.iload_n 3, 1) := dk_29 (dk_at dksL_law_32 0 rfl rfl)
theorem dL_law_840 : decode cL_law 840 = .ok (.iconst 1, 1) := dk_4 (dk_at dksL_law_32 1 rfl rfl)
theorem dL_law_841 : decode cL_law 841 = .ok (.iadd, 1) := dk_96 (dk_at dksL_law_32 2 rfl rfl)
theorem dL_law_842 : decode cL_law 842 = .ok (.iaload, 1) := dk_46 (dk_at dksL_law_32 3 rfl rfl)
theorem dL_law_843 : decode cL_law 843 = .ok (.invokevirtual 121, 3) := dk_182 0 121 (dk_at dksL_law_32 4 rfl rfl)
theorem dL_law_846 : decode cL_law 846 = .ok (.aload_n 2, 1) := dk_44 (dk_at dksL_law_32 7 rfl rfl)
theorem dL_law_847 : decode cL_law 847 = .ok (.aload_n 0, 1) := dk_42 (dk_at dksL_law_32 8 rfl rfl)
theorem dL_law_848 : decode cL_law 848 = .ok (.iload_n 3, 1) := dk_29 (dk_at dksL_law_32 9 rfl rfl)
theorem dL_law_849 : decode cL_law 849 = .ok (.iconst 1, 1) := dk_4 (dk_at dksL_law_32 10 rfl rfl)
theorem dL_law_850 : decode cL_law 850 = .ok (.iadd, 1) := dk_96 (dk_at dksL_law_32 11 rfl rfl)
theorem dL_law_851 : decode cL_law 851 = .ok (.iaload, 1) := dk_46 (dk_at dksL_law_32 12 rfl rfl)
theorem dL_law_852 : decode cL_law 852 = .ok (.invokevirtual 124, 3) := dk_182 0 124 (dk_at dksL_law_32 13 rfl rfl)
theorem dL_law_855 : decode cL_law 855 = .ok (.if_icmp .eq 5, 3) := dk_159 0 5 (dk_at dksL_law_32 16 rfl rfl)
theorem dL_law_858 : decode cL_law 858 = .ok (.iconst 0, 1) := dk_3 (dk_at dksL_law_32 19 rfl rfl)
theorem dL_law_859 : decode cL_law 859 = .ok (.ireturn, 1) := dk_172 (dk_at dksL_law_32 20 rfl rfl)
theorem dL_law_860 : decode cL_law 860 = .ok (.iinc 3 6, 3) := dk_132 3 6 (dk_at dksL_law_32 21 rfl rfl)
theorem dL_law_863 : decode cL_law 863 = .ok (.goto (-845), 3) := dk_167 252 179 (dk_at dksL_law_33 0 rfl rfl)
theorem dL_law_866 : decode cL_law 866 = .ok (.iconst 1, 1) := dk_4 (dk_at dksL_law_33 3 rfl rfl)
theorem dL_law_867 : decode cL_law 867 = .ok (.ireturn, 1) := dk_172 (dk_at dksL_law_33 4 rfl rfl)

theorem q124 : (Jvm.Cond.initialized "HeldTongueLaw") ∈ lw_all := lw_g (lw_at lw_m1 0 rfl) rfl
set_option maxRecDepth 100000
theorem q155 : (Jvm.Cond.classLink "HeldTongueLaw" (7 : Nat) "HeldTongue") ∈ lw_all := lw_g (lw_at lw_m1 31 rfl) rfl
theorem q157 : (Jvm.Cond.methodLink "HeldTongueLaw" (9 : Nat) ({ cls := "HeldTongue", name := "<init>", desc := "()V" } : Jvm.MethodName)) ∈ lw_all := lw_g (lw_at lw_m1 33 rfl) rfl
theorem q339 : (Jvm.Cond.methodLink "HeldTongueLaw" (13 : Nat) ({ cls := "HeldTongue", name := "feed", desc := "(IIIII)I" } : Jvm.MethodName)) ∈ lw_all := lw_g (lw_at lw_m1 215 rfl) rfl
theorem q347 : (Jvm.Cond.methodLink "HeldTongueLaw" (18 : Nat) ({ cls := "HeldTongue", name := "end", desc := "(I)I" } : Jvm.MethodName)) ∈ lw_all := lw_g (lw_at lw_m1 223 rfl) rfl
theorem q354 : (Jvm.Cond.methodLink "HeldTongueLaw" (23 : Nat) ({ cls := "HeldTongue", name := "text", desc := "()I" } : Jvm.MethodName)) ∈ lw_all := lw_g (lw_at lw_m1 230 rfl) rfl
theorem q804 : (Jvm.Cond.methodLink "HeldTongueLaw" (28 : Nat) ({ cls := "HeldTongue", name := "fault", desc := "(I)I" } : Jvm.MethodName)) ∈ lw_all := lw_g (lw_at lw_m3 200 rfl) rfl
theorem q808 : (Jvm.Cond.methodLink "HeldTongueLaw" (32 : Nat) ({ cls := "HeldTongue", name := "by", desc := "(I)Z" } : Jvm.MethodName)) ∈ lw_all := lw_g (lw_at lw_m3 204 rfl) rfl
theorem q812 : (Jvm.Cond.methodLink "HeldTongueLaw" (37 : Nat) ({ cls := "HeldTongue", name := "say", desc := "(I)I" } : Jvm.MethodName)) ∈ lw_all := lw_g (lw_at lw_m3 208 rfl) rfl
theorem q816 : (Jvm.Cond.methodLink "HeldTongueLaw" (41 : Nat) ({ cls := "HeldTongue", name := "unsay", desc := "(I)I" } : Jvm.MethodName)) ∈ lw_all := lw_g (lw_at lw_m3 212 rfl) rfl
theorem q820 : (Jvm.Cond.methodLink "HeldTongueLaw" (45 : Nat) ({ cls := "HeldTongue", name := "word", desc := "(I)I" } : Jvm.MethodName)) ∈ lw_all := lw_g (lw_at lw_m3 216 rfl) rfl
theorem q824 : (Jvm.Cond.methodLink "HeldTongueLaw" (49 : Nat) ({ cls := "HeldTongue", name := "count", desc := "(I)I" } : Jvm.MethodName)) ∈ lw_all := lw_g (lw_at lw_m3 220 rfl) rfl
theorem q920 : (Jvm.Cond.methodLink "HeldTongueLaw" (62 : Nat) ({ cls := "HeldTongue", name := "span", desc := "(II)I" } : Jvm.MethodName)) ∈ lw_all := lw_g (lw_at lw_m4 76 rfl) rfl
theorem q932 : (Jvm.Cond.methodLink "HeldTongueLaw" (53 : Nat) ({ cls := "HeldTongue", name := "sense", desc := "(II)I" } : Jvm.MethodName)) ∈ lw_all := lw_g (lw_at lw_m4 88 rfl) rfl
theorem q955 : (Jvm.Cond.methodLink "HeldTongueLaw" (58 : Nat) ({ cls := "HeldTongue", name := "taken", desc := "(II)I" } : Jvm.MethodName)) ∈ lw_all := lw_g (lw_at lw_m4 111 rfl) rfl
theorem q959 : (Jvm.Cond.methodLink "HeldTongueLaw" (66 : Nat) ({ cls := "HeldTongue", name := "open", desc := "()I" } : Jvm.MethodName)) ∈ lw_all := lw_g (lw_at lw_m4 115 rfl) rfl
theorem q963 : (Jvm.Cond.methodLink "HeldTongueLaw" (70 : Nat) ({ cls := "HeldTongue", name := "most", desc := "(I)I" } : Jvm.MethodName)) ∈ lw_all := lw_g (lw_at lw_m4 119 rfl) rfl
theorem q983 : (Jvm.Cond.methodLink "HeldTongueLaw" (74 : Nat) ({ cls := "HeldTongue", name := "weight", desc := "(II)I" } : Jvm.MethodName)) ∈ lw_all := lw_g (lw_at lw_m4 139 rfl) rfl
theorem q1071 : (Jvm.Cond.methodLink "HeldTongueLaw" (78 : Nat) ({ cls := "HeldTongue", name := "same", desc := "(II)Z" } : Jvm.MethodName)) ∈ lw_all := lw_g (lw_at lw_m4 227 rfl) rfl
theorem q1083 : (Jvm.Cond.methodLink "HeldTongueLaw" (83 : Nat) ({ cls := "HeldTongue", name := "kin", desc := "(I)I" } : Jvm.MethodName)) ∈ lw_all := lw_g (lw_at lw_m4 239 rfl) rfl
theorem q1088 : (Jvm.Cond.methodLink "HeldTongueLaw" (87 : Nat) ({ cls := "HeldTongue", name := "meant", desc := "()I" } : Jvm.MethodName)) ∈ lw_all := lw_g (lw_at lw_m5 4 rfl) rfl
theorem q1093 : (Jvm.Cond.methodLink "HeldTongueLaw" (91 : Nat) ({ cls := "HeldTongue", name := "hear", desc := "(IIII)I" } : Jvm.MethodName)) ∈ lw_all := lw_g (lw_at lw_m5 9 rfl) rfl
theorem q1145 : (Jvm.Cond.methodLink "HeldTongueLaw" (96 : Nat) ({ cls := "HeldTongue", name := "enough", desc := "(II)I" } : Jvm.MethodName)) ∈ lw_all := lw_g (lw_at lw_m5 61 rfl) rfl
theorem q1149 : (Jvm.Cond.methodLink "HeldTongueLaw" (100 : Nat) ({ cls := "HeldTongue", name := "wordy", desc := "(II)I" } : Jvm.MethodName)) ∈ lw_all := lw_g (lw_at lw_m5 65 rfl) rfl
theorem q1186 : (Jvm.Cond.methodLink "HeldTongueLaw" (109 : Nat) ({ cls := "HeldTongue", name := "light", desc := "(I)I" } : Jvm.MethodName)) ∈ lw_all := lw_g (lw_at lw_m5 102 rfl) rfl
theorem q1190 : (Jvm.Cond.methodLink "HeldTongueLaw" (104 : Nat) ({ cls := "HeldTongue", name := "saying", desc := "(III)I" } : Jvm.MethodName)) ∈ lw_all := lw_g (lw_at lw_m5 106 rfl) rfl
theorem q1222 : (Jvm.Cond.methodLink "HeldTongueLaw" (113 : Nat) ({ cls := "HeldTongue", name := "image", desc := "()I" } : Jvm.MethodName)) ∈ lw_all := lw_g (lw_at lw_m5 138 rfl) rfl
theorem q1226 : (Jvm.Cond.methodLink "HeldTongueLaw" (117 : Nat) ({ cls := "HeldTongue", name := "back", desc := "()I" } : Jvm.MethodName)) ∈ lw_all := lw_g (lw_at lw_m5 142 rfl) rfl
theorem q1230 : (Jvm.Cond.methodLink "HeldTongueLaw" (121 : Nat) ({ cls := "HeldTongue", name := "about", desc := "(I)I" } : Jvm.MethodName)) ∈ lw_all := lw_g (lw_at lw_m5 146 rfl) rfl
theorem q1234 : (Jvm.Cond.classLink "HeldTongueLaw" (10 : Nat) "HeldTongueModel") ∈ lw_all := lw_g (lw_at lw_m5 150 rfl) rfl
theorem q1236 : (Jvm.Cond.methodLink "HeldTongueLaw" (12 : Nat) ({ cls := "HeldTongueModel", name := "<init>", desc := "()V" } : Jvm.MethodName)) ∈ lw_all := lw_g (lw_at lw_m5 152 rfl) rfl
theorem q1494 : (Jvm.Cond.methodLink "HeldTongueLaw" (17 : Nat) ({ cls := "HeldTongueModel", name := "feed", desc := "(IIIII)I" } : Jvm.MethodName)) ∈ lw_all := lw_g (lw_at lw_m6 170 rfl) rfl
theorem q1502 : (Jvm.Cond.methodLink "HeldTongueLaw" (22 : Nat) ({ cls := "HeldTongueModel", name := "end", desc := "(I)I" } : Jvm.MethodName)) ∈ lw_all := lw_g (lw_at lw_m6 178 rfl) rfl
theorem q1509 : (Jvm.Cond.methodLink "HeldTongueLaw" (27 : Nat) ({ cls := "HeldTongueModel", name := "text", desc := "()I" } : Jvm.MethodName)) ∈ lw_all := lw_g (lw_at lw_m6 185 rfl) rfl
theorem q1639 : (Jvm.Cond.methodLink "HeldTongueLaw" (31 : Nat) ({ cls := "HeldTongueModel", name := "fault", desc := "(I)I" } : Jvm.MethodName)) ∈ lw_all := lw_g (lw_at lw_m7 75 rfl) rfl
theorem q1643 : (Jvm.Cond.methodLink "HeldTongueLaw" (36 : Nat) ({ cls := "HeldTongueModel", name := "by", desc := "(I)Z" } : Jvm.MethodName)) ∈ lw_all := lw_g (lw_at lw_m7 79 rfl) rfl
theorem q1647 : (Jvm.Cond.methodLink "HeldTongueLaw" (40 : Nat) ({ cls := "HeldTongueModel", name := "say", desc := "(I)I" } : Jvm.MethodName)) ∈ lw_all := lw_g (lw_at lw_m7 83 rfl) rfl
theorem q1651 : (Jvm.Cond.methodLink "HeldTongueLaw" (44 : Nat) ({ cls := "HeldTongueModel", name := "unsay", desc := "(I)I" } : Jvm.MethodName)) ∈ lw_all := lw_g (lw_at lw_m7 87 rfl) rfl
theorem q1655 : (Jvm.Cond.methodLink "HeldTongueLaw" (48 : Nat) ({ cls := "HeldTongueModel", name := "word", desc := "(I)I" } : Jvm.MethodName)) ∈ lw_all := lw_g (lw_at lw_m7 91 rfl) rfl
theorem q1659 : (Jvm.Cond.methodLink "HeldTongueLaw" (52 : Nat) ({ cls := "HeldTongueModel", name := "count", desc := "(I)I" } : Jvm.MethodName)) ∈ lw_all := lw_g (lw_at lw_m7 95 rfl) rfl
theorem q1723 : (Jvm.Cond.methodLink "HeldTongueLaw" (57 : Nat) ({ cls := "HeldTongueModel", name := "sense", desc := "(II)I" } : Jvm.MethodName)) ∈ lw_all := lw_g (lw_at lw_m7 159 rfl) rfl
theorem q1749 : (Jvm.Cond.methodLink "HeldTongueLaw" (61 : Nat) ({ cls := "HeldTongueModel", name := "taken", desc := "(II)I" } : Jvm.MethodName)) ∈ lw_all := lw_g (lw_at lw_m7 185 rfl) rfl
theorem q1753 : (Jvm.Cond.methodLink "HeldTongueLaw" (65 : Nat) ({ cls := "HeldTongueModel", name := "span", desc := "(II)I" } : Jvm.MethodName)) ∈ lw_all := lw_g (lw_at lw_m7 189 rfl) rfl
theorem q1757 : (Jvm.Cond.methodLink "HeldTongueLaw" (69 : Nat) ({ cls := "HeldTongueModel", name := "open", desc := "()I" } : Jvm.MethodName)) ∈ lw_all := lw_g (lw_at lw_m7 193 rfl) rfl
theorem q1761 : (Jvm.Cond.methodLink "HeldTongueLaw" (73 : Nat) ({ cls := "HeldTongueModel", name := "most", desc := "(I)I" } : Jvm.MethodName)) ∈ lw_all := lw_g (lw_at lw_m7 197 rfl) rfl
theorem q1820 : (Jvm.Cond.methodLink "HeldTongueLaw" (77 : Nat) ({ cls := "HeldTongueModel", name := "weight", desc := "(II)I" } : Jvm.MethodName)) ∈ lw_all := lw_g (lw_at lw_m8 16 rfl) rfl
theorem q1824 : (Jvm.Cond.methodLink "HeldTongueLaw" (82 : Nat) ({ cls := "HeldTongueModel", name := "same", desc := "(II)Z" } : Jvm.MethodName)) ∈ lw_all := lw_g (lw_at lw_m8 20 rfl) rfl
theorem q1828 : (Jvm.Cond.methodLink "HeldTongueLaw" (86 : Nat) ({ cls := "HeldTongueModel", name := "kin", desc := "(I)I" } : Jvm.MethodName)) ∈ lw_all := lw_g (lw_at lw_m8 24 rfl) rfl
theorem q1833 : (Jvm.Cond.methodLink "HeldTongueLaw" (90 : Nat) ({ cls := "HeldTongueModel", name := "meant", desc := "()I" } : Jvm.MethodName)) ∈ lw_all := lw_g (lw_at lw_m8 29 rfl) rfl
theorem q1837 : (Jvm.Cond.methodLink "HeldTongueLaw" (95 : Nat) ({ cls := "HeldTongueModel", name := "hear", desc := "(IIII)I" } : Jvm.MethodName)) ∈ lw_all := lw_g (lw_at lw_m8 33 rfl) rfl
theorem q1861 : (Jvm.Cond.methodLink "HeldTongueLaw" (99 : Nat) ({ cls := "HeldTongueModel", name := "enough", desc := "(II)I" } : Jvm.MethodName)) ∈ lw_all := lw_g (lw_at lw_m8 57 rfl) rfl
theorem q1865 : (Jvm.Cond.methodLink "HeldTongueLaw" (103 : Nat) ({ cls := "HeldTongueModel", name := "wordy", desc := "(II)I" } : Jvm.MethodName)) ∈ lw_all := lw_g (lw_at lw_m8 61 rfl) rfl
theorem q1927 : (Jvm.Cond.methodLink "HeldTongueLaw" (108 : Nat) ({ cls := "HeldTongueModel", name := "saying", desc := "(III)I" } : Jvm.MethodName)) ∈ lw_all := lw_g (lw_at lw_m8 123 rfl) rfl
theorem q1931 : (Jvm.Cond.methodLink "HeldTongueLaw" (112 : Nat) ({ cls := "HeldTongueModel", name := "light", desc := "(I)I" } : Jvm.MethodName)) ∈ lw_all := lw_g (lw_at lw_m8 127 rfl) rfl
theorem q1935 : (Jvm.Cond.methodLink "HeldTongueLaw" (116 : Nat) ({ cls := "HeldTongueModel", name := "image", desc := "()I" } : Jvm.MethodName)) ∈ lw_all := lw_g (lw_at lw_m8 131 rfl) rfl
theorem q1939 : (Jvm.Cond.methodLink "HeldTongueLaw" (120 : Nat) ({ cls := "HeldTongueModel", name := "back", desc := "()I" } : Jvm.MethodName)) ∈ lw_all := lw_g (lw_at lw_m8 135 rfl) rfl
theorem q1943 : (Jvm.Cond.methodLink "HeldTongueLaw" (124 : Nat) ({ cls := "HeldTongueModel", name := "about", desc := "(I)I" } : Jvm.MethodName)) ∈ lw_all := lw_g (lw_at lw_m8 139 rfl) rfl

theorem q1115 : (Jvm.Cond.interfaceMethod "HeldTongue$Ask" "HeldTongue$Ask" "is" "(LHeldTongue$View;)Z") ∈ lw_tbl := lw_at lw_m5 31 rfl
set_option maxRecDepth 100000
theorem q1116 : (Jvm.Cond.declares ({ cls := "HeldTongue$Ask", name := "is", desc := "(LHeldTongue$View;)Z" } : Jvm.MethodName)) ∈ lw_tbl := lw_at lw_m5 32 rfl

theorem q146 : (Jvm.Cond.initialized "java/lang/System") ∈ lw_all := lw_g (lw_at lw_m1 22 rfl) rfl
set_option maxRecDepth 100000
theorem q678 : (Jvm.Cond.static ({ cls := "java/lang/System", name := "arraycopy", desc := "(Ljava/lang/Object;ILjava/lang/Object;II)V" } : Jvm.MethodName)) ∈ lw_all := lw_g (lw_at lw_m3 74 rfl) rfl
theorem q679 : (Jvm.Cond.native ({ cls := "java/lang/System", name := "arraycopy", desc := "(Ljava/lang/Object;ILjava/lang/Object;II)V" } : Jvm.MethodName)) ∈ lw_all := lw_g (lw_at lw_m3 75 rfl) rfl

theorem q164 : (Jvm.Cond.arrayOver (Jvm.ClassFile.FieldType.object "HeldTongue$Lexicon")) ∈ lw_tbl := lw_at lw_m1 40 rfl
set_option maxRecDepth 100000
theorem q171 : (Jvm.Cond.arrayOver (Jvm.ClassFile.FieldType.object "HeldTongue$Sense")) ∈ lw_tbl := lw_at lw_m1 47 rfl
theorem q173 : (Jvm.Cond.arrayOver (Jvm.ClassFile.FieldType.object "HeldTongue$Ask")) ∈ lw_tbl := lw_at lw_m1 49 rfl
theorem q205 : (Jvm.Cond.arrayClass Jvm.ClassFile.FieldType.int) ∈ lw_all := lw_g (lw_at lw_m1 81 rfl) rfl
theorem q208 : (Jvm.Cond.arrayOver (Jvm.ClassFile.FieldType.array Jvm.ClassFile.FieldType.long)) ∈ lw_tbl := lw_at lw_m1 84 rfl
theorem q211 : (Jvm.Cond.arrayOver (Jvm.ClassFile.FieldType.array Jvm.ClassFile.FieldType.int)) ∈ lw_tbl := lw_at lw_m1 87 rfl
theorem q337 : (Jvm.Cond.arrayClass Jvm.ClassFile.FieldType.byte) ∈ lw_all := lw_g (lw_at lw_m1 213 rfl) rfl
theorem q338 : (Jvm.Cond.arrayClass Jvm.ClassFile.FieldType.long) ∈ lw_all := lw_g (lw_at lw_m1 214 rfl) rfl
theorem q1092 : (Jvm.Cond.arrayClass Jvm.ClassFile.FieldType.boolean) ∈ lw_all := lw_g (lw_at lw_m5 8 rfl) rfl
theorem q1968 : (Jvm.Cond.arrayOver (Jvm.ClassFile.FieldType.object "java/lang/String")) ∈ lw_tbl := lw_at lw_m8 164 rfl

