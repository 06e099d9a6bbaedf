/-! AskingCourt$Case -/
set_option maxRecDepth 100000
def RX5 : String := "AskingCourt$Case"
def TX5 : u_T := fun k => match k with
  | 0 => ("AskingCourt$Case", "facts", "I", false)
  | 1 => ("AskingCourt$Case", "values", "I", false)
  | 2 => ("AskingCourt$Case", "questions", "I", false)
  | 3 => ("AskingCourt$Case", "many", "I", false)
  | 4 => ("AskingCourt$Case", "worlds", "I", false)
  | 5 => ("AskingCourt$Case", "factNames", "[J", true)
  | 6 => ("AskingCourt$Case", "valueNames", "[J", true)
  | 7 => ("AskingCourt$Case", "questionNames", "[J", true)
  | 8 => ("AskingCourt$Case", "witnessNames", "[J", true)
  | 9 => ("AskingCourt$Case", "factFirst", "[I", true)
  | 10 => ("AskingCourt$Case", "factSize", "[I", true)
  | 11 => ("AskingCourt$Case", "valueFact", "[I", true)
  | 12 => ("AskingCourt$Case", "weights", "[I", true)
  | 13 => ("AskingCourt$Case", "fees", "[I", true)
  | 14 => ("AskingCourt$Case", "possible", "LAskingCourt$Worlds;", true)
  | 15 => ("AskingCourt$Case", "meant", "[LAskingCourt$Worlds;", true)
  | 16 => ("AskingCourt$Case", "witness", "[LAskingCourt$Witness;", true)
  | _ => ("AskingCourt$Case", "answers", "[B", true)
def tyX5 : Nat → FieldType := fun k => match k with
  | 0 => .int
  | 1 => .int
  | 2 => .int
  | 3 => .int
  | 4 => .int
  | 5 => .array .long
  | 6 => .array .long
  | 7 => .array .long
  | 8 => .array .long
  | 9 => .array .int
  | 10 => .array .int
  | 11 => .array .int
  | 12 => .array .int
  | 13 => .array .int
  | 14 => .object "AskingCourt$Worlds"
  | 15 => .array (.object "AskingCourt$Worlds")
  | 16 => .array (.object "AskingCourt$Witness")
  | _ => .array .byte
abbrev wsX50 : List Cond := u_ws RX5 TX5 18
set_option maxRecDepth 100000 in
theorem nmX5 : ∀ a, a < 18 → ∀ b, b < 18 → a ≠ b → (TX5 a).2.1 ≠ (TX5 b).2.1 := by decide +kernel
set_option maxRecDepth 100000 in
theorem tyX5_ok : ∀ k, k < 18 → parseFieldDescriptor (TX5 k).2.2.1 = some (tyX5 k) := by decide +kernel
abbrev cX5_init : ByteArray := prog_5_method_1_code
def yX5_init : MethodName := ⟨RX5, "<init>", "()V"⟩
def dkwX5_init_5 : List UInt8 := [182, 0, 66, 177]
abbrev dktX5_init_5 : List UInt8 := dkwX5_init_5 ++ []
def dkwX5_init_4 : List UInt8 := [181, 0, 51, 42, 7, 189, 0, 55, 181, 0, 57, 42, 18, 61, 188, 8, 181, 0, 62, 42, 180, 0, 47, 3]
abbrev dktX5_init_4 : List UInt8 := dkwX5_init_4 ++ dktX5_init_5
def dkwX5_init_3 : List UInt8 := [188, 10, 181, 0, 41, 42, 187, 0, 44, 89, 183, 0, 46, 181, 0, 47, 42, 16, 12, 189, 0, 44]
abbrev dktX5_init_3 : List UInt8 := dkwX5_init_3 ++ dktX5_init_4
def dkwX5_init_2 : List UInt8 := [188, 10, 181, 0, 32, 42, 16, 24, 188, 10, 181, 0, 35, 42, 16, 24, 188, 10, 181, 0, 38, 42, 16, 12]
abbrev dktX5_init_2 : List UInt8 := dkwX5_init_2 ++ dktX5_init_3
def dkwX5_init_1 : List UInt8 := [42, 16, 12, 188, 11, 181, 0, 22, 42, 7, 188, 11, 181, 0, 25, 42, 7, 188, 10, 181, 0, 28, 42, 7]
abbrev dktX5_init_1 : List UInt8 := dkwX5_init_1 ++ dktX5_init_2
def dkwX5_init_0 : List UInt8 := [42, 183, 0, 3, 42, 4, 181, 0, 9, 42, 7, 188, 11, 181, 0, 15, 42, 16, 24, 188, 11, 181, 0, 19]
abbrev dktX5_init_0 : List UInt8 := dkwX5_init_0 ++ dktX5_init_1
theorem dksX5_init_0 : cX5_init.data.toList.drop 0 = dktX5_init_0 := by decide +kernel
theorem dksX5_init_1 : cX5_init.data.toList.drop 24 = dktX5_init_1 := dk_seg dksX5_init_0 24 rfl rfl
theorem dksX5_init_2 : cX5_init.data.toList.drop 48 = dktX5_init_2 := dk_seg dksX5_init_1 24 rfl rfl
theorem dksX5_init_3 : cX5_init.data.toList.drop 72 = dktX5_init_3 := dk_seg dksX5_init_2 24 rfl rfl
theorem dksX5_init_4 : cX5_init.data.toList.drop 94 = dktX5_init_4 := dk_seg dksX5_init_3 22 rfl rfl
theorem dksX5_init_5 : cX5_init.data.toList.drop 118 = dktX5_init_5 := dk_seg dksX5_init_4 24 rfl rfl
theorem dX5_init_0 : decode cX5_init 0 = .ok (.aload_n 0, 1) := dk_42 (dk_at dksX5_init_0 0 rfl rfl)
theorem dX5_init_1 : decode cX5_init 1 = .ok (.invokespecial 3, 3) := dk_183 0 3 (dk_at dksX5_init_0 1 rfl rfl)
theorem dX5_init_4 : decode cX5_init 4 = .ok (.aload_n 0, 1) := dk_42 (dk_at dksX5_init_0 4 rfl rfl)
theorem dX5_init_5 : decode cX5_init 5 = .ok (.iconst 1, 1) := dk_4 (dk_at dksX5_init_0 5 rfl rfl)
theorem dX5_init_6 : decode cX5_init 6 = .ok (.putfield 9, 3) := dk_181 0 9 (dk_at dksX5_init_0 6 rfl rfl)
theorem dX5_init_9 : decode cX5_init 9 = .ok (.aload_n 0, 1) := dk_42 (dk_at dksX5_init_0 9 rfl rfl)
theorem dX5_init_10 : decode cX5_init 10 = .ok (.iconst 4, 1) := dk_7 (dk_at dksX5_init_0 10 rfl rfl)
theorem dX5_init_11 : decode cX5_init 11 = .ok (.newarray .long, 2) := dk_188_11 (dk_at dksX5_init_0 11 rfl rfl)
theorem dX5_init_13 : decode cX5_init 13 = .ok (.putfield 15, 3) := dk_181 0 15 (dk_at dksX5_init_0 13 rfl rfl)
theorem dX5_init_16 : decode cX5_init 16 = .ok (.aload_n 0, 1) := dk_42 (dk_at dksX5_init_0 16 rfl rfl)
theorem dX5_init_17 : decode cX5_init 17 = .ok (.bipush 24, 2) := dk_16 24 (dk_at dksX5_init_0 17 rfl rfl)
theorem dX5_init_19 : decode cX5_init 19 = .ok (.newarray .long, 2) := dk_188_11 (dk_at dksX5_init_0 19 rfl rfl)
theorem dX5_init_21 : decode cX5_init 21 = .ok (.putfield 19, 3) := dk_181 0 19 (dk_at dksX5_init_0 21 rfl rfl)
theorem dX5_init_24 : decode cX5_init 24 = .ok (.aload_n 0, 1) := dk_42 (dk_at dksX5_init_1 0 rfl rfl)
theorem dX5_init_25 : decode cX5_init 25 = .ok (.bipush 12, 2) := dk_16 12 (dk_at dksX5_init_1 1 rfl rfl)
theorem dX5_init_27 : decode cX5_init 27 = .ok (.newarray .long, 2) := dk_188_11 (dk_at dksX5_init_1 3 rfl rfl)
theorem dX5_init_29 : decode cX5_init 29 = .ok (.putfield 22, 3) := dk_181 0 22 (dk_at dksX5_init_1 5 rfl rfl)
theorem dX5_init_32 : decode cX5_init 32 = .ok (.aload_n 0, 1) := dk_42 (dk_at dksX5_init_1 8 rfl rfl)
theorem dX5_init_33 : decode cX5_init 33 = .ok (.iconst 4, 1) := dk_7 (dk_at dksX5_init_1 9 rfl rfl)
theorem dX5_init_34 : decode cX5_init 34 = .ok (.newarray .long, 2) := dk_188_11 (dk_at dksX5_init_1 10 rfl rfl)
theorem dX5_init_36 : decode cX5_init 36 = .ok (.putfield 25, 3) := dk_181 0 25 (dk_at dksX5_init_1 12 rfl rfl)
theorem dX5_init_39 : decode cX5_init 39 = .ok (.aload_n 0, 1) := dk_42 (dk_at dksX5_init_1 15 rfl rfl)
theorem dX5_init_40 : decode cX5_init 40 = .ok (.iconst 4, 1) := dk_7 (dk_at dksX5_init_1 16 rfl rfl)
theorem dX5_init_41 : decode cX5_init 41 = .ok (.newarray .int, 2) := dk_188_10 (dk_at dksX5_init_1 17 rfl rfl)
theorem dX5_init_43 : decode cX5_init 43 = .ok (.putfield 28, 3) := dk_181 0 28 (dk_at dksX5_init_1 19 rfl rfl)
theorem dX5_init_46 : decode cX5_init 46 = .ok (.aload_n 0, 1) := dk_42 (dk_at dksX5_init_1 22 rfl rfl)
theorem dX5_init_47 : decode cX5_init 47 = .ok (.iconst 4, 1) := dk_7 (dk_at dksX5_init_1 23 rfl rfl)
theorem dX5_init_48 : decode cX5_init 48 = .ok (.newarray .int, 2) := dk_188_10 (dk_at dksX5_init_2 0 rfl rfl)
theorem dX5_init_50 : decode cX5_init 50 = .ok (.putfield 32, 3) := dk_181 0 32 (dk_at dksX5_init_2 2 rfl rfl)
theorem dX5_init_53 : decode cX5_init 53 = .ok (.aload_n 0, 1) := dk_42 (dk_at dksX5_init_2 5 rfl rfl)
theorem dX5_init_54 : decode cX5_init 54 = .ok (.bipush 24, 2) := dk_16 24 (dk_at dksX5_init_2 6 rfl rfl)
theorem dX5_init_56 : decode cX5_init 56 = .ok (.newarray .int, 2) := dk_188_10 (dk_at dksX5_init_2 8 rfl rfl)
theorem dX5_init_58 : decode cX5_init 58 = .ok (.putfield 35, 3) := dk_181 0 35 (dk_at dksX5_init_2 10 rfl rfl)
theorem dX5_init_61 : decode cX5_init 61 = .ok (.aload_n 0, 1) := dk_42 (dk_at dksX5_init_2 13 rfl rfl)
theorem dX5_init_62 : decode cX5_init 62 = .ok (.bipush 24, 2) := dk_16 24 (dk_at dksX5_init_2 14 rfl rfl)
theorem dX5_init_64 : decode cX5_init 64 = .ok (.newarray .int, 2) := dk_188_10 (dk_at dksX5_init_2 16 rfl rfl)
theorem dX5_init_66 : decode cX5_init 66 = .ok (.putfield 38, 3) := dk_181 0 38 (dk_at dksX5_init_2 18 rfl rfl)
theorem dX5_init_69 : decode cX5_init 69 = .ok (.aload_n 0, 1) := dk_42 (dk_at dksX5_init_2 21 rfl rfl)
theorem dX5_init_70 : decode cX5_init 70 = .ok (.bipush 12, 2) := dk_16 12 (dk_at dksX5_init_2 22 rfl rfl)
theorem dX5_init_72 : decode cX5_init 72 = .ok (.newarray .int, 2) := dk_188_10 (dk_at dksX5_init_3 0 rfl rfl)
theorem dX5_init_74 : decode cX5_init 74 = .ok (.putfield 41, 3) := dk_181 0 41 (dk_at dksX5_init_3 2 rfl rfl)
theorem dX5_init_77 : decode cX5_init 77 = .ok (.aload_n 0, 1) := dk_42 (dk_at dksX5_init_3 5 rfl rfl)
theorem dX5_init_78 : decode cX5_init 78 = .ok (.new 44, 3) := dk_187 0 44 (dk_at dksX5_init_3 6 rfl rfl)
theorem dX5_init_81 : decode cX5_init 81 = .ok (.dup, 1) := dk_89 (dk_at dksX5_init_3 9 rfl rfl)
theorem dX5_init_82 : decode cX5_init 82 = .ok (.invokespecial 46, 3) := dk_183 0 46 (dk_at dksX5_init_3 10 rfl rfl)
theorem dX5_init_85 : decode cX5_init 85 = .ok (.putfield 47, 3) := dk_181 0 47 (dk_at dksX5_init_3 13 rfl rfl)
theorem dX5_init_88 : decode cX5_init 88 = .ok (.aload_n 0, 1) := dk_42 (dk_at dksX5_init_3 16 rfl rfl)
theorem dX5_init_89 : decode cX5_init 89 = .ok (.bipush 12, 2) := dk_16 12 (dk_at dksX5_init_3 17 rfl rfl)
theorem dX5_init_91 : decode cX5_init 91 = .ok (.anewarray 44, 3) := dk_189 0 44 (dk_at dksX5_init_3 19 rfl rfl)
theorem dX5_init_94 : decode cX5_init 94 = .ok (.putfield 51, 3) := dk_181 0 51 (dk_at dksX5_init_4 0 rfl rfl)
theorem dX5_init_97 : decode cX5_init 97 = .ok (.aload_n 0, 1) := dk_42 (dk_at dksX5_init_4 3 rfl rfl)
theorem dX5_init_98 : decode cX5_init 98 = .ok (.iconst 4, 1) := dk_7 (dk_at dksX5_init_4 4 rfl rfl)
theorem dX5_init_99 : decode cX5_init 99 = .ok (.anewarray 55, 3) := dk_189 0 55 (dk_at dksX5_init_4 5 rfl rfl)
theorem dX5_init_102 : decode cX5_init 102 = .ok (.putfield 57, 3) := dk_181 0 57 (dk_at dksX5_init_4 8 rfl rfl)
theorem dX5_init_105 : decode cX5_init 105 = .ok (.aload_n 0, 1) := dk_42 (dk_at dksX5_init_4 11 rfl rfl)
theorem dX5_init_106 : decode cX5_init 106 = .ok (.ldc 61, 2) := dk_18 61 (dk_at dksX5_init_4 12 rfl rfl)
theorem dX5_init_108 : decode cX5_init 108 = .ok (.newarray .byte, 2) := dk_188_8 (dk_at dksX5_init_4 14 rfl rfl)
theorem dX5_init_110 : decode cX5_init 110 = .ok (.putfield 62, 3) := dk_181 0 62 (dk_at dksX5_init_4 16 rfl rfl)
theorem dX5_init_113 : decode cX5_init 113 = .ok (.aload_n 0, 1) := dk_42 (dk_at dksX5_init_4 19 rfl rfl)
theorem dX5_init_114 : decode cX5_init 114 = .ok (.getfield 47, 3) := dk_180 0 47 (dk_at dksX5_init_4 20 rfl rfl)
theorem dX5_init_117 : decode cX5_init 117 = .ok (.iconst 0, 1) := dk_3 (dk_at dksX5_init_4 23 rfl rfl)
theorem dX5_init_118 : decode cX5_init 118 = .ok (.invokevirtual 66, 3) := dk_182 0 66 (dk_at dksX5_init_5 0 rfl rfl)
theorem dX5_init_121 : decode cX5_init 121 = .ok (.return_, 1) := dk_177 (dk_at dksX5_init_5 3 rfl rfl)
abbrev cX5_isTaken : ByteArray := prog_5_method_7_code
def yX5_isTaken : MethodName := ⟨RX5, "isTaken", "(J)Z"⟩
def dkwX5_isTaken_1 : List UInt8 := [42, 31, 182, 0, 96, 155, 0, 7, 4, 167, 0, 4, 3, 172]
abbrev dktX5_isTaken_1 : List UInt8 := dkwX5_isTaken_1 ++ []
def dkwX5_isTaken_0 : List UInt8 := [42, 31, 182, 0, 86, 156, 0, 27, 42, 31, 182, 0, 90, 156, 0, 19, 42, 31, 182, 0, 93, 156, 0, 11]
abbrev dktX5_isTaken_0 : List UInt8 := dkwX5_isTaken_0 ++ dktX5_isTaken_1
theorem dksX5_isTaken_0 : cX5_isTaken.data.toList.drop 0 = dktX5_isTaken_0 := by decide +kernel
theorem dksX5_isTaken_1 : cX5_isTaken.data.toList.drop 24 = dktX5_isTaken_1 := dk_seg dksX5_isTaken_0 24 rfl rfl
theorem dX5_isTaken_0 : decode cX5_isTaken 0 = .ok (.aload_n 0, 1) := dk_42 (dk_at dksX5_isTaken_0 0 rfl rfl)
theorem dX5_isTaken_1 : decode cX5_isTaken 1 = .ok (.lload_n 1, 1) := dk_31 (dk_at dksX5_isTaken_0 1 rfl rfl)
theorem dX5_isTaken_2 : decode cX5_isTaken 2 = .ok (.invokevirtual 86, 3) := dk_182 0 86 (dk_at dksX5_isTaken_0 2 rfl rfl)
theorem dX5_isTaken_5 : decode cX5_isTaken 5 = .ok (.ifCond .ge 27, 3) := dk_156 0 27 (dk_at dksX5_isTaken_0 5 rfl rfl)
theorem dX5_isTaken_8 : decode cX5_isTaken 8 = .ok (.aload_n 0, 1) := dk_42 (dk_at dksX5_isTaken_0 8 rfl rfl)
theorem dX5_isTaken_9 : decode cX5_isTaken 9 = .ok (.lload_n 1, 1) := dk_31 (dk_at dksX5_isTaken_0 9 rfl rfl)
theorem dX5_isTaken_10 : decode cX5_isTaken 10 = .ok (.invokevirtual 90, 3) := dk_182 0 90 (dk_at dksX5_isTaken_0 10 rfl rfl)
theorem dX5_isTaken_13 : decode cX5_isTaken 13 = .ok (.ifCond .ge 19, 3) := dk_156 0 19 (dk_at dksX5_isTaken_0 13 rfl rfl)
theorem dX5_isTaken_16 : decode cX5_isTaken 16 = .ok (.aload_n 0, 1) := dk_42 (dk_at dksX5_isTaken_0 16 rfl rfl)
theorem dX5_isTaken_17 : decode cX5_isTaken 17 = .ok (.lload_n 1, 1) := dk_31 (dk_at dksX5_isTaken_0 17 rfl rfl)
theorem dX5_isTaken_18 : decode cX5_isTaken 18 = .ok (.invokevirtual 93, 3) := dk_182 0 93 (dk_at dksX5_isTaken_0 18 rfl rfl)
theorem dX5_isTaken_21 : decode cX5_isTaken 21 = .ok (.ifCond .ge 11, 3) := dk_156 0 11 (dk_at dksX5_isTaken_0 21 rfl rfl)
theorem dX5_isTaken_24 : decode cX5_isTaken 24 = .ok (.aload_n 0, 1) := dk_42 (dk_at dksX5_isTaken_1 0 rfl rfl)
theorem dX5_isTaken_25 : decode cX5_isTaken 25 = .ok (.lload_n 1, 1) := dk_31 (dk_at dksX5_isTaken_1 1 rfl rfl)
theorem dX5_isTaken_26 : decode cX5_isTaken 26 = .ok (.invokevirtual 96, 3) := dk_182 0 96 (dk_at dksX5_isTaken_1 2 rfl rfl)
theorem dX5_isTaken_29 : decode cX5_isTaken 29 = .ok (.ifCond .lt 7, 3) := dk_155 0 7 (dk_at dksX5_isTaken_1 5 rfl rfl)
theorem dX5_isTaken_32 : decode cX5_isTaken 32 = .ok (.iconst 1, 1) := dk_4 (dk_at dksX5_isTaken_1 8 rfl rfl)
theorem dX5_isTaken_33 : decode cX5_isTaken 33 = .ok (.goto 4, 3) := dk_167 0 4 (dk_at dksX5_isTaken_1 9 rfl rfl)
theorem dX5_isTaken_36 : decode cX5_isTaken 36 = .ok (.iconst 0, 1) := dk_3 (dk_at dksX5_isTaken_1 12 rfl rfl)
theorem dX5_isTaken_37 : decode cX5_isTaken 37 = .ok (.ireturn, 1) := dk_172 (dk_at dksX5_isTaken_1 13 rfl rfl)
abbrev cX5_factNamed : ByteArray := prog_5_method_3_code
def yX5_factNamed : MethodName := ⟨RX5, "factNamed", "(J)I"⟩
def dkwX5_factNamed_0 : List UInt8 := [42, 180, 0, 15, 42, 180, 0, 70, 31, 184, 0, 73, 172]
abbrev dktX5_factNamed_0 : List UInt8 := dkwX5_factNamed_0 ++ []
theorem dksX5_factNamed_0 : cX5_factNamed.data.toList.drop 0 = dktX5_factNamed_0 := by decide +kernel
theorem dX5_factNamed_0 : decode cX5_factNamed 0 = .ok (.aload_n 0, 1) := dk_42 (dk_at dksX5_factNamed_0 0 rfl rfl)
theorem dX5_factNamed_1 : decode cX5_factNamed 1 = .ok (.getfield 15, 3) := dk_180 0 15 (dk_at dksX5_factNamed_0 1 rfl rfl)
theorem dX5_factNamed_4 : decode cX5_factNamed 4 = .ok (.aload_n 0, 1) := dk_42 (dk_at dksX5_factNamed_0 4 rfl rfl)
theorem dX5_factNamed_5 : decode cX5_factNamed 5 = .ok (.getfield 70, 3) := dk_180 0 70 (dk_at dksX5_factNamed_0 5 rfl rfl)
theorem dX5_factNamed_8 : decode cX5_factNamed 8 = .ok (.lload_n 1, 1) := dk_31 (dk_at dksX5_factNamed_0 8 rfl rfl)
theorem dX5_factNamed_9 : decode cX5_factNamed 9 = .ok (.invokestatic 73, 3) := dk_184 0 73 (dk_at dksX5_factNamed_0 9 rfl rfl)
theorem dX5_factNamed_12 : decode cX5_factNamed 12 = .ok (.ireturn, 1) := dk_172 (dk_at dksX5_factNamed_0 12 rfl rfl)
abbrev cX5_named : ByteArray := prog_5_method_2_code
def yX5_named : MethodName := ⟨RX5, "named", "([JIJ)I"⟩
def dkwX5_named_1 : List UInt8 := [167, 255, 235, 2, 172]
abbrev dktX5_named_1 : List UInt8 := dkwX5_named_1 ++ []
def dkwX5_named_0 : List UInt8 := [3, 54, 4, 21, 4, 27, 162, 0, 21, 42, 21, 4, 47, 32, 148, 154, 0, 6, 21, 4, 172, 132, 4, 1]
abbrev dktX5_named_0 : List UInt8 := dkwX5_named_0 ++ dktX5_named_1
theorem dksX5_named_0 : cX5_named.data.toList.drop 0 = dktX5_named_0 := by decide +kernel
theorem dksX5_named_1 : cX5_named.data.toList.drop 24 = dktX5_named_1 := dk_seg dksX5_named_0 24 rfl rfl
theorem dX5_named_0 : decode cX5_named 0 = .ok (.iconst 0, 1) := dk_3 (dk_at dksX5_named_0 0 rfl rfl)
theorem dX5_named_1 : decode cX5_named 1 = .ok (.istore 4, 2) := dk_54 4 (dk_at dksX5_named_0 1 rfl rfl)
theorem dX5_named_3 : decode cX5_named 3 = .ok (.iload 4, 2) := dk_21 4 (dk_at dksX5_named_0 3 rfl rfl)
theorem dX5_named_5 : decode cX5_named 5 = .ok (.iload_n 1, 1) := dk_27 (dk_at dksX5_named_0 5 rfl rfl)
theorem dX5_named_6 : decode cX5_named 6 = .ok (.if_icmp .ge 21, 3) := dk_162 0 21 (dk_at dksX5_named_0 6 rfl rfl)
theorem dX5_named_9 : decode cX5_named 9 = .ok (.aload_n 0, 1) := dk_42 (dk_at dksX5_named_0 9 rfl rfl)
theorem dX5_named_10 : decode cX5_named 10 = .ok (.iload 4, 2) := dk_21 4 (dk_at dksX5_named_0 10 rfl rfl)
theorem dX5_named_12 : decode cX5_named 12 = .ok (.laload, 1) := dk_47 (dk_at dksX5_named_0 12 rfl rfl)
theorem dX5_named_13 : decode cX5_named 13 = .ok (.lload_n 2, 1) := dk_32 (dk_at dksX5_named_0 13 rfl rfl)
theorem dX5_named_14 : decode cX5_named 14 = .ok (.lcmp, 1) := dk_148 (dk_at dksX5_named_0 14 rfl rfl)
theorem dX5_named_15 : decode cX5_named 15 = .ok (.ifCond .ne 6, 3) := dk_154 0 6 (dk_at dksX5_named_0 15 rfl rfl)
theorem dX5_named_18 : decode cX5_named 18 = .ok (.iload 4, 2) := dk_21 4 (dk_at dksX5_named_0 18 rfl rfl)
theorem dX5_named_20 : decode cX5_named 20 = .ok (.ireturn, 1) := dk_172 (dk_at dksX5_named_0 20 rfl rfl)
theorem dX5_named_21 : decode cX5_named 21 = .ok (.iinc 4 1, 3) := dk_132 4 1 (dk_at dksX5_named_0 21 rfl rfl)
theorem dX5_named_24 : decode cX5_named 24 = .ok (.goto (-21), 3) := dk_167 255 235 (dk_at dksX5_named_1 0 rfl rfl)
theorem dX5_named_27 : decode cX5_named 27 = .ok (.iconst (-1), 1) := dk_2 (dk_at dksX5_named_1 3 rfl rfl)
theorem dX5_named_28 : decode cX5_named 28 = .ok (.ireturn, 1) := dk_172 (dk_at dksX5_named_1 4 rfl rfl)
abbrev cX5_valueNamed : ByteArray := prog_5_method_4_code
def yX5_valueNamed : MethodName := ⟨RX5, "valueNamed", "(J)I"⟩
def dkwX5_valueNamed_0 : List UInt8 := [42, 180, 0, 19, 42, 180, 0, 77, 31, 184, 0, 73, 172]
abbrev dktX5_valueNamed_0 : List UInt8 := dkwX5_valueNamed_0 ++ []
theorem dksX5_valueNamed_0 : cX5_valueNamed.data.toList.drop 0 = dktX5_valueNamed_0 := by decide +kernel
theorem dX5_valueNamed_0 : decode cX5_valueNamed 0 = .ok (.aload_n 0, 1) := dk_42 (dk_at dksX5_valueNamed_0 0 rfl rfl)
theorem dX5_valueNamed_1 : decode cX5_valueNamed 1 = .ok (.getfield 19, 3) := dk_180 0 19 (dk_at dksX5_valueNamed_0 1 rfl rfl)
theorem dX5_valueNamed_4 : decode cX5_valueNamed 4 = .ok (.aload_n 0, 1) := dk_42 (dk_at dksX5_valueNamed_0 4 rfl rfl)
theorem dX5_valueNamed_5 : decode cX5_valueNamed 5 = .ok (.getfield 77, 3) := dk_180 0 77 (dk_at dksX5_valueNamed_0 5 rfl rfl)
theorem dX5_valueNamed_8 : decode cX5_valueNamed 8 = .ok (.lload_n 1, 1) := dk_31 (dk_at dksX5_valueNamed_0 8 rfl rfl)
theorem dX5_valueNamed_9 : decode cX5_valueNamed 9 = .ok (.invokestatic 73, 3) := dk_184 0 73 (dk_at dksX5_valueNamed_0 9 rfl rfl)
theorem dX5_valueNamed_12 : decode cX5_valueNamed 12 = .ok (.ireturn, 1) := dk_172 (dk_at dksX5_valueNamed_0 12 rfl rfl)
abbrev cX5_questionNamed : ByteArray := prog_5_method_5_code
def yX5_questionNamed : MethodName := ⟨RX5, "questionNamed", "(J)I"⟩
def dkwX5_questionNamed_0 : List UInt8 := [42, 180, 0, 22, 42, 180, 0, 80, 31, 184, 0, 73, 172]
abbrev dktX5_questionNamed_0 : List UInt8 := dkwX5_questionNamed_0 ++ []
theorem dksX5_questionNamed_0 : cX5_questionNamed.data.toList.drop 0 = dktX5_questionNamed_0 := by decide +kernel
theorem dX5_questionNamed_0 : decode cX5_questionNamed 0 = .ok (.aload_n 0, 1) := dk_42 (dk_at dksX5_questionNamed_0 0 rfl rfl)
theorem dX5_questionNamed_1 : decode cX5_questionNamed 1 = .ok (.getfield 22, 3) := dk_180 0 22 (dk_at dksX5_questionNamed_0 1 rfl rfl)
theorem dX5_questionNamed_4 : decode cX5_questionNamed 4 = .ok (.aload_n 0, 1) := dk_42 (dk_at dksX5_questionNamed_0 4 rfl rfl)
theorem dX5_questionNamed_5 : decode cX5_questionNamed 5 = .ok (.getfield 80, 3) := dk_180 0 80 (dk_at dksX5_questionNamed_0 5 rfl rfl)
theorem dX5_questionNamed_8 : decode cX5_questionNamed 8 = .ok (.lload_n 1, 1) := dk_31 (dk_at dksX5_questionNamed_0 8 rfl rfl)
theorem dX5_questionNamed_9 : decode cX5_questionNamed 9 = .ok (.invokestatic 73, 3) := dk_184 0 73 (dk_at dksX5_questionNamed_0 9 rfl rfl)
theorem dX5_questionNamed_12 : decode cX5_questionNamed 12 = .ok (.ireturn, 1) := dk_172 (dk_at dksX5_questionNamed_0 12 rfl rfl)
abbrev cX5_witnessNamed : ByteArray := prog_5_method_6_code
def yX5_witnessNamed : MethodName := ⟨RX5, "witnessNamed", "(J)I"⟩
def dkwX5_witnessNamed_0 : List UInt8 := [42, 180, 0, 25, 42, 180, 0, 83, 31, 184, 0, 73, 172]
abbrev dktX5_witnessNamed_0 : List UInt8 := dkwX5_witnessNamed_0 ++ []
theorem dksX5_witnessNamed_0 : cX5_witnessNamed.data.toList.drop 0 = dktX5_witnessNamed_0 := by decide +kernel
theorem dX5_witnessNamed_0 : decode cX5_witnessNamed 0 = .ok (.aload_n 0, 1) := dk_42 (dk_at dksX5_witnessNamed_0 0 rfl rfl)
theorem dX5_witnessNamed_1 : decode cX5_witnessNamed 1 = .ok (.getfield 25, 3) := dk_180 0 25 (dk_at dksX5_witnessNamed_0 1 rfl rfl)
theorem dX5_witnessNamed_4 : decode cX5_witnessNamed 4 = .ok (.aload_n 0, 1) := dk_42 (dk_at dksX5_witnessNamed_0 4 rfl rfl)
theorem dX5_witnessNamed_5 : decode cX5_witnessNamed 5 = .ok (.getfield 83, 3) := dk_180 0 83 (dk_at dksX5_witnessNamed_0 5 rfl rfl)
theorem dX5_witnessNamed_8 : decode cX5_witnessNamed 8 = .ok (.lload_n 1, 1) := dk_31 (dk_at dksX5_witnessNamed_0 8 rfl rfl)
theorem dX5_witnessNamed_9 : decode cX5_witnessNamed 9 = .ok (.invokestatic 73, 3) := dk_184 0 73 (dk_at dksX5_witnessNamed_0 9 rfl rfl)
theorem dX5_witnessNamed_12 : decode cX5_witnessNamed 12 = .ok (.ireturn, 1) := dk_172 (dk_at dksX5_witnessNamed_0 12 rfl rfl)
abbrev cX5_grow : ByteArray := prog_5_method_10_code
def yX5_grow : MethodName := ⟨RX5, "grow", "()V"⟩
def dkwX5_grow_2 : List UInt8 := [180, 0, 9, 162, 0, 17, 42, 180, 0, 47, 27, 182, 0, 66, 132, 1, 1, 167, 255, 237, 177]
abbrev dktX5_grow_2 : List UInt8 := dkwX5_grow_2 ++ []
def dkwX5_grow_1 : List UInt8 := [27, 46, 104, 181, 0, 9, 132, 1, 1, 167, 255, 230, 42, 180, 0, 47, 182, 0, 103, 3, 60, 27, 42]
abbrev dktX5_grow_1 : List UInt8 := dkwX5_grow_1 ++ dktX5_grow_2
def dkwX5_grow_0 : List UInt8 := [42, 4, 181, 0, 9, 3, 60, 27, 42, 180, 0, 70, 162, 0, 24, 42, 89, 180, 0, 9, 42, 180, 0, 32]
abbrev dktX5_grow_0 : List UInt8 := dkwX5_grow_0 ++ dktX5_grow_1
theorem dksX5_grow_0 : cX5_grow.data.toList.drop 0 = dktX5_grow_0 := by decide +kernel
theorem dksX5_grow_1 : cX5_grow.data.toList.drop 24 = dktX5_grow_1 := dk_seg dksX5_grow_0 24 rfl rfl
theorem dksX5_grow_2 : cX5_grow.data.toList.drop 47 = dktX5_grow_2 := dk_seg dksX5_grow_1 23 rfl rfl
theorem dX5_grow_0 : decode cX5_grow 0 = .ok (.aload_n 0, 1) := dk_42 (dk_at dksX5_grow_0 0 rfl rfl)
theorem dX5_grow_1 : decode cX5_grow 1 = .ok (.iconst 1, 1) := dk_4 (dk_at dksX5_grow_0 1 rfl rfl)
theorem dX5_grow_2 : decode cX5_grow 2 = .ok (.putfield 9, 3) := dk_181 0 9 (dk_at dksX5_grow_0 2 rfl rfl)
theorem dX5_grow_5 : decode cX5_grow 5 = .ok (.iconst 0, 1) := dk_3 (dk_at dksX5_grow_0 5 rfl rfl)
theorem dX5_grow_6 : decode cX5_grow 6 = .ok (.istore_n 1, 1) := dk_60 (dk_at dksX5_grow_0 6 rfl rfl)
theorem dX5_grow_7 : decode cX5_grow 7 = .ok (.iload_n 1, 1) := dk_27 (dk_at dksX5_grow_0 7 rfl rfl)
theorem dX5_grow_8 : decode cX5_grow 8 = .ok (.aload_n 0, 1) := dk_42 (dk_at dksX5_grow_0 8 rfl rfl)
theorem dX5_grow_9 : decode cX5_grow 9 = .ok (.getfield 70, 3) := dk_180 0 70 (dk_at dksX5_grow_0 9 rfl rfl)
theorem dX5_grow_12 : decode cX5_grow 12 = .ok (.if_icmp .ge 24, 3) := dk_162 0 24 (dk_at dksX5_grow_0 12 rfl rfl)
theorem dX5_grow_15 : decode cX5_grow 15 = .ok (.aload_n 0, 1) := dk_42 (dk_at dksX5_grow_0 15 rfl rfl)
theorem dX5_grow_16 : decode cX5_grow 16 = .ok (.dup, 1) := dk_89 (dk_at dksX5_grow_0 16 rfl rfl)
theorem dX5_grow_17 : decode cX5_grow 17 = .ok (.getfield 9, 3) := dk_180 0 9 (dk_at dksX5_grow_0 17 rfl rfl)
theorem dX5_grow_20 : decode cX5_grow 20 = .ok (.aload_n 0, 1) := dk_42 (dk_at dksX5_grow_0 20 rfl rfl)
theorem dX5_grow_21 : decode cX5_grow 21 = .ok (.getfield 32, 3) := dk_180 0 32 (dk_at dksX5_grow_0 21 rfl rfl)
theorem dX5_grow_24 : decode cX5_grow 24 = .ok (.iload_n 1, 1) := dk_27 (dk_at dksX5_grow_1 0 rfl rfl)
theorem dX5_grow_25 : decode cX5_grow 25 = .ok (.iaload, 1) := dk_46 (dk_at dksX5_grow_1 1 rfl rfl)
theorem dX5_grow_26 : decode cX5_grow 26 = .ok (.imul, 1) := dk_104 (dk_at dksX5_grow_1 2 rfl rfl)
theorem dX5_grow_27 : decode cX5_grow 27 = .ok (.putfield 9, 3) := dk_181 0 9 (dk_at dksX5_grow_1 3 rfl rfl)
theorem dX5_grow_30 : decode cX5_grow 30 = .ok (.iinc 1 1, 3) := dk_132 1 1 (dk_at dksX5_grow_1 6 rfl rfl)
theorem dX5_grow_33 : decode cX5_grow 33 = .ok (.goto (-26), 3) := dk_167 255 230 (dk_at dksX5_grow_1 9 rfl rfl)
theorem dX5_grow_36 : decode cX5_grow 36 = .ok (.aload_n 0, 1) := dk_42 (dk_at dksX5_grow_1 12 rfl rfl)
theorem dX5_grow_37 : decode cX5_grow 37 = .ok (.getfield 47, 3) := dk_180 0 47 (dk_at dksX5_grow_1 13 rfl rfl)
theorem dX5_grow_40 : decode cX5_grow 40 = .ok (.invokevirtual 103, 3) := dk_182 0 103 (dk_at dksX5_grow_1 16 rfl rfl)
theorem dX5_grow_43 : decode cX5_grow 43 = .ok (.iconst 0, 1) := dk_3 (dk_at dksX5_grow_1 19 rfl rfl)
theorem dX5_grow_44 : decode cX5_grow 44 = .ok (.istore_n 1, 1) := dk_60 (dk_at dksX5_grow_1 20 rfl rfl)
theorem dX5_grow_45 : decode cX5_grow 45 = .ok (.iload_n 1, 1) := dk_27 (dk_at dksX5_grow_1 21 rfl rfl)
theorem dX5_grow_46 : decode cX5_grow 46 = .ok (.aload_n 0, 1) := dk_42 (dk_at dksX5_grow_1 22 rfl rfl)
theorem dX5_grow_47 : decode cX5_grow 47 = .ok (.getfield 9, 3) := dk_180 0 9 (dk_at dksX5_grow_2 0 rfl rfl)
theorem dX5_grow_50 : decode cX5_grow 50 = .ok (.if_icmp .ge 17, 3) := dk_162 0 17 (dk_at dksX5_grow_2 3 rfl rfl)
theorem dX5_grow_53 : decode cX5_grow 53 = .ok (.aload_n 0, 1) := dk_42 (dk_at dksX5_grow_2 6 rfl rfl)
theorem dX5_grow_54 : decode cX5_grow 54 = .ok (.getfield 47, 3) := dk_180 0 47 (dk_at dksX5_grow_2 7 rfl rfl)
theorem dX5_grow_57 : decode cX5_grow 57 = .ok (.iload_n 1, 1) := dk_27 (dk_at dksX5_grow_2 10 rfl rfl)
theorem dX5_grow_58 : decode cX5_grow 58 = .ok (.invokevirtual 66, 3) := dk_182 0 66 (dk_at dksX5_grow_2 11 rfl rfl)
theorem dX5_grow_61 : decode cX5_grow 61 = .ok (.iinc 1 1, 3) := dk_132 1 1 (dk_at dksX5_grow_2 14 rfl rfl)
theorem dX5_grow_64 : decode cX5_grow 64 = .ok (.goto (-19), 3) := dk_167 255 237 (dk_at dksX5_grow_2 17 rfl rfl)
theorem dX5_grow_67 : decode cX5_grow 67 = .ok (.return_, 1) := dk_177 (dk_at dksX5_grow_2 20 rfl rfl)
abbrev cX5_hasValue : ByteArray := prog_5_method_9_code
def yX5_hasValue : MethodName := ⟨RX5, "hasValue", "(II)Z"⟩
def dkwX5_hasValue_0 : List UInt8 := [42, 27, 42, 180, 0, 35, 28, 46, 182, 0, 99, 28, 160, 0, 7, 4, 167, 0, 4, 3, 172]
abbrev dktX5_hasValue_0 : List UInt8 := dkwX5_hasValue_0 ++ []
theorem dksX5_hasValue_0 : cX5_hasValue.data.toList.drop 0 = dktX5_hasValue_0 := by decide +kernel
theorem dX5_hasValue_0 : decode cX5_hasValue 0 = .ok (.aload_n 0, 1) := dk_42 (dk_at dksX5_hasValue_0 0 rfl rfl)
theorem dX5_hasValue_1 : decode cX5_hasValue 1 = .ok (.iload_n 1, 1) := dk_27 (dk_at dksX5_hasValue_0 1 rfl rfl)
theorem dX5_hasValue_2 : decode cX5_hasValue 2 = .ok (.aload_n 0, 1) := dk_42 (dk_at dksX5_hasValue_0 2 rfl rfl)
theorem dX5_hasValue_3 : decode cX5_hasValue 3 = .ok (.getfield 35, 3) := dk_180 0 35 (dk_at dksX5_hasValue_0 3 rfl rfl)
theorem dX5_hasValue_6 : decode cX5_hasValue 6 = .ok (.iload_n 2, 1) := dk_28 (dk_at dksX5_hasValue_0 6 rfl rfl)
theorem dX5_hasValue_7 : decode cX5_hasValue 7 = .ok (.iaload, 1) := dk_46 (dk_at dksX5_hasValue_0 7 rfl rfl)
theorem dX5_hasValue_8 : decode cX5_hasValue 8 = .ok (.invokevirtual 99, 3) := dk_182 0 99 (dk_at dksX5_hasValue_0 8 rfl rfl)
theorem dX5_hasValue_11 : decode cX5_hasValue 11 = .ok (.iload_n 2, 1) := dk_28 (dk_at dksX5_hasValue_0 11 rfl rfl)
theorem dX5_hasValue_12 : decode cX5_hasValue 12 = .ok (.if_icmp .ne 7, 3) := dk_160 0 7 (dk_at dksX5_hasValue_0 12 rfl rfl)
theorem dX5_hasValue_15 : decode cX5_hasValue 15 = .ok (.iconst 1, 1) := dk_4 (dk_at dksX5_hasValue_0 15 rfl rfl)
theorem dX5_hasValue_16 : decode cX5_hasValue 16 = .ok (.goto 4, 3) := dk_167 0 4 (dk_at dksX5_hasValue_0 16 rfl rfl)
theorem dX5_hasValue_19 : decode cX5_hasValue 19 = .ok (.iconst 0, 1) := dk_3 (dk_at dksX5_hasValue_0 19 rfl rfl)
theorem dX5_hasValue_20 : decode cX5_hasValue 20 = .ok (.ireturn, 1) := dk_172 (dk_at dksX5_hasValue_0 20 rfl rfl)
abbrev cX5_valueIn : ByteArray := prog_5_method_8_code
def yX5_valueIn : MethodName := ⟨RX5, "valueIn", "(II)I"⟩
def dkwX5_valueIn_2 : List UInt8 := [96, 172]
abbrev dktX5_valueIn_2 : List UInt8 := dkwX5_valueIn_2 ++ []
def dkwX5_valueIn_1 : List UInt8 := [104, 62, 132, 4, 1, 167, 255, 234, 42, 180, 0, 28, 28, 46, 27, 29, 108, 42, 180, 0, 32, 28, 46, 112]
abbrev dktX5_valueIn_1 : List UInt8 := dkwX5_valueIn_1 ++ dktX5_valueIn_2
def dkwX5_valueIn_0 : List UInt8 := [4, 62, 28, 4, 96, 54, 4, 21, 4, 42, 180, 0, 70, 162, 0, 19, 29, 42, 180, 0, 32, 21, 4, 46]
abbrev dktX5_valueIn_0 : List UInt8 := dkwX5_valueIn_0 ++ dktX5_valueIn_1
theorem dksX5_valueIn_0 : cX5_valueIn.data.toList.drop 0 = dktX5_valueIn_0 := by decide +kernel
theorem dksX5_valueIn_1 : cX5_valueIn.data.toList.drop 24 = dktX5_valueIn_1 := dk_seg dksX5_valueIn_0 24 rfl rfl
theorem dksX5_valueIn_2 : cX5_valueIn.data.toList.drop 48 = dktX5_valueIn_2 := dk_seg dksX5_valueIn_1 24 rfl rfl
theorem dX5_valueIn_0 : decode cX5_valueIn 0 = .ok (.iconst 1, 1) := dk_4 (dk_at dksX5_valueIn_0 0 rfl rfl)
theorem dX5_valueIn_1 : decode cX5_valueIn 1 = .ok (.istore_n 3, 1) := dk_62 (dk_at dksX5_valueIn_0 1 rfl rfl)
theorem dX5_valueIn_2 : decode cX5_valueIn 2 = .ok (.iload_n 2, 1) := dk_28 (dk_at dksX5_valueIn_0 2 rfl rfl)
theorem dX5_valueIn_3 : decode cX5_valueIn 3 = .ok (.iconst 1, 1) := dk_4 (dk_at dksX5_valueIn_0 3 rfl rfl)
theorem dX5_valueIn_4 : decode cX5_valueIn 4 = .ok (.iadd, 1) := dk_96 (dk_at dksX5_valueIn_0 4 rfl rfl)
theorem dX5_valueIn_5 : decode cX5_valueIn 5 = .ok (.istore 4, 2) := dk_54 4 (dk_at dksX5_valueIn_0 5 rfl rfl)
theorem dX5_valueIn_7 : decode cX5_valueIn 7 = .ok (.iload 4, 2) := dk_21 4 (dk_at dksX5_valueIn_0 7 rfl rfl)
theorem dX5_valueIn_9 : decode cX5_valueIn 9 = .ok (.aload_n 0, 1) := dk_42 (dk_at dksX5_valueIn_0 9 rfl rfl)
theorem dX5_valueIn_10 : decode cX5_valueIn 10 = .ok (.getfield 70, 3) := dk_180 0 70 (dk_at dksX5_valueIn_0 10 rfl rfl)
theorem dX5_valueIn_13 : decode cX5_valueIn 13 = .ok (.if_icmp .ge 19, 3) := dk_162 0 19 (dk_at dksX5_valueIn_0 13 rfl rfl)
theorem dX5_valueIn_16 : decode cX5_valueIn 16 = .ok (.iload_n 3, 1) := dk_29 (dk_at dksX5_valueIn_0 16 rfl rfl)
theorem dX5_valueIn_17 : decode cX5_valueIn 17 = .ok (.aload_n 0, 1) := dk_42 (dk_at dksX5_valueIn_0 17 rfl rfl)
theorem dX5_valueIn_18 : decode cX5_valueIn 18 = .ok (.getfield 32, 3) := dk_180 0 32 (dk_at dksX5_valueIn_0 18 rfl rfl)
theorem dX5_valueIn_21 : decode cX5_valueIn 21 = .ok (.iload 4, 2) := dk_21 4 (dk_at dksX5_valueIn_0 21 rfl rfl)
theorem dX5_valueIn_23 : decode cX5_valueIn 23 = .ok (.iaload, 1) := dk_46 (dk_at dksX5_valueIn_0 23 rfl rfl)
theorem dX5_valueIn_24 : decode cX5_valueIn 24 = .ok (.imul, 1) := dk_104 (dk_at dksX5_valueIn_1 0 rfl rfl)
theorem dX5_valueIn_25 : decode cX5_valueIn 25 = .ok (.istore_n 3, 1) := dk_62 (dk_at dksX5_valueIn_1 1 rfl rfl)
theorem dX5_valueIn_26 : decode cX5_valueIn 26 = .ok (.iinc 4 1, 3) := dk_132 4 1 (dk_at dksX5_valueIn_1 2 rfl rfl)
theorem dX5_valueIn_29 : decode cX5_valueIn 29 = .ok (.goto (-22), 3) := dk_167 255 234 (dk_at dksX5_valueIn_1 5 rfl rfl)
theorem dX5_valueIn_32 : decode cX5_valueIn 32 = .ok (.aload_n 0, 1) := dk_42 (dk_at dksX5_valueIn_1 8 rfl rfl)
theorem dX5_valueIn_33 : decode cX5_valueIn 33 = .ok (.getfield 28, 3) := dk_180 0 28 (dk_at dksX5_valueIn_1 9 rfl rfl)
theorem dX5_valueIn_36 : decode cX5_valueIn 36 = .ok (.iload_n 2, 1) := dk_28 (dk_at dksX5_valueIn_1 12 rfl rfl)
theorem dX5_valueIn_37 : decode cX5_valueIn 37 = .ok (.iaload, 1) := dk_46 (dk_at dksX5_valueIn_1 13 rfl rfl)
theorem dX5_valueIn_38 : decode cX5_valueIn 38 = .ok (.iload_n 1, 1) := dk_27 (dk_at dksX5_valueIn_1 14 rfl rfl)
theorem dX5_valueIn_39 : decode cX5_valueIn 39 = .ok (.iload_n 3, 1) := dk_29 (dk_at dksX5_valueIn_1 15 rfl rfl)
theorem dX5_valueIn_40 : decode cX5_valueIn 40 = .ok (.idiv, 1) := dk_108 (dk_at dksX5_valueIn_1 16 rfl rfl)
theorem dX5_valueIn_41 : decode cX5_valueIn 41 = .ok (.aload_n 0, 1) := dk_42 (dk_at dksX5_valueIn_1 17 rfl rfl)
theorem dX5_valueIn_42 : decode cX5_valueIn 42 = .ok (.getfield 32, 3) := dk_180 0 32 (dk_at dksX5_valueIn_1 18 rfl rfl)
theorem dX5_valueIn_45 : decode cX5_valueIn 45 = .ok (.iload_n 2, 1) := dk_28 (dk_at dksX5_valueIn_1 21 rfl rfl)
theorem dX5_valueIn_46 : decode cX5_valueIn 46 = .ok (.iaload, 1) := dk_46 (dk_at dksX5_valueIn_1 22 rfl rfl)
theorem dX5_valueIn_47 : decode cX5_valueIn 47 = .ok (.irem, 1) := dk_112 (dk_at dksX5_valueIn_1 23 rfl rfl)
theorem dX5_valueIn_48 : decode cX5_valueIn 48 = .ok (.iadd, 1) := dk_96 (dk_at dksX5_valueIn_2 0 rfl rfl)
theorem dX5_valueIn_49 : decode cX5_valueIn 49 = .ok (.ireturn, 1) := dk_172 (dk_at dksX5_valueIn_2 1 rfl rfl)
abbrev cX5_tell : ByteArray := prog_5_method_14_code
def yX5_tell : MethodName := ⟨RX5, "tell", "()V"⟩
def dkwX5_tell_9 : List UInt8 := [167, 255, 72, 132, 3, 1, 167, 255, 55, 177]
abbrev dktX5_tell_9 : List UInt8 := dkwX5_tell_9 ++ []
def dkwX5_tell_8 : List UInt8 := [42, 29, 6, 21, 5, 21, 4, 5, 21, 5, 104, 182, 0, 124, 132, 5, 1, 167, 255, 113, 132, 4, 1]
abbrev dktX5_tell_8 : List UInt8 := dkwX5_tell_8 ++ dktX5_tell_9
def dkwX5_tell_7 : List UInt8 := [21, 6, 167, 0, 7, 21, 6, 4, 130, 182, 0, 124, 42, 29, 5, 21, 5, 21, 4, 21, 7, 182, 0, 124]
abbrev dktX5_tell_7 : List UInt8 := dkwX5_tell_7 ++ dktX5_tell_8
def dkwX5_tell_6 : List UInt8 := [4, 21, 5, 21, 4, 21, 8, 153, 0, 8, 21, 7, 167, 0, 21, 21, 6, 5, 21, 5, 104, 160, 0, 8]
abbrev dktX5_tell_6 : List UInt8 := dkwX5_tell_6 ++ dktX5_tell_7
def dkwX5_tell_5 : List UInt8 := [42, 29, 3, 21, 5, 21, 4, 21, 8, 153, 0, 8, 21, 7, 167, 0, 5, 21, 6, 182, 0, 124, 42, 29]
abbrev dktX5_tell_5 : List UInt8 := dkwX5_tell_5 ++ dktX5_tell_6
def dkwX5_tell_4 : List UInt8 := [180, 0, 57, 29, 50, 180, 0, 121, 21, 5, 122, 4, 126, 4, 160, 0, 7, 4, 167, 0, 4, 3, 54, 8]
abbrev dktX5_tell_4 : List UInt8 := dkwX5_tell_4 ++ dktX5_tell_5
def dkwX5_tell_3 : List UInt8 := [162, 0, 140, 42, 43, 21, 5, 44, 182, 0, 114, 54, 6, 42, 43, 21, 5, 44, 182, 0, 118, 54, 7, 42]
abbrev dktX5_tell_3 : List UInt8 := dkwX5_tell_3 ++ dktX5_tell_4
def dkwX5_tell_2 : List UInt8 := [154, 0, 6, 167, 0, 160, 42, 29, 21, 4, 43, 182, 0, 110, 3, 54, 5, 21, 5, 42, 180, 0, 80]
abbrev dktX5_tell_2 : List UInt8 := dkwX5_tell_2 ++ dktX5_tell_3
def dkwX5_tell_1 : List UInt8 := [162, 0, 199, 3, 54, 4, 21, 4, 42, 180, 0, 9, 162, 0, 181, 42, 180, 0, 47, 21, 4, 182, 0, 106]
abbrev dktX5_tell_1 : List UInt8 := dkwX5_tell_1 ++ dktX5_tell_2
def dkwX5_tell_0 : List UInt8 := [187, 0, 44, 89, 183, 0, 46, 76, 187, 0, 44, 89, 183, 0, 46, 77, 3, 62, 29, 42, 180, 0, 83]
abbrev dktX5_tell_0 : List UInt8 := dkwX5_tell_0 ++ dktX5_tell_1
theorem dksX5_tell_0 : cX5_tell.data.toList.drop 0 = dktX5_tell_0 := by decide +kernel
theorem dksX5_tell_1 : cX5_tell.data.toList.drop 23 = dktX5_tell_1 := dk_seg dksX5_tell_0 23 rfl rfl
theorem dksX5_tell_2 : cX5_tell.data.toList.drop 47 = dktX5_tell_2 := dk_seg dksX5_tell_1 24 rfl rfl
theorem dksX5_tell_3 : cX5_tell.data.toList.drop 70 = dktX5_tell_3 := dk_seg dksX5_tell_2 23 rfl rfl
theorem dksX5_tell_4 : cX5_tell.data.toList.drop 94 = dktX5_tell_4 := dk_seg dksX5_tell_3 24 rfl rfl
theorem dksX5_tell_5 : cX5_tell.data.toList.drop 118 = dktX5_tell_5 := dk_seg dksX5_tell_4 24 rfl rfl
theorem dksX5_tell_6 : cX5_tell.data.toList.drop 142 = dktX5_tell_6 := dk_seg dksX5_tell_5 24 rfl rfl
theorem dksX5_tell_7 : cX5_tell.data.toList.drop 166 = dktX5_tell_7 := dk_seg dksX5_tell_6 24 rfl rfl
theorem dksX5_tell_8 : cX5_tell.data.toList.drop 190 = dktX5_tell_8 := dk_seg dksX5_tell_7 24 rfl rfl
theorem dksX5_tell_9 : cX5_tell.data.toList.drop 213 = dktX5_tell_9 := dk_seg dksX5_tell_8 23 rfl rfl
theorem dX5_tell_0 : decode cX5_tell 0 = .ok (.new 44, 3) := dk_187 0 44 (dk_at dksX5_tell_0 0 rfl rfl)
theorem dX5_tell_3 : decode cX5_tell 3 = .ok (.dup, 1) := dk_89 (dk_at dksX5_tell_0 3 rfl rfl)
theorem dX5_tell_4 : decode cX5_tell 4 = .ok (.invokespecial 46, 3) := dk_183 0 46 (dk_at dksX5_tell_0 4 rfl rfl)
theorem dX5_tell_7 : decode cX5_tell 7 = .ok (.astore_n 1, 1) := dk_76 (dk_at dksX5_tell_0 7 rfl rfl)
theorem dX5_tell_8 : decode cX5_tell 8 = .ok (.new 44, 3) := dk_187 0 44 (dk_at dksX5_tell_0 8 rfl rfl)
theorem dX5_tell_11 : decode cX5_tell 11 = .ok (.dup, 1) := dk_89 (dk_at dksX5_tell_0 11 rfl rfl)
theorem dX5_tell_12 : decode cX5_tell 12 = .ok (.invokespecial 46, 3) := dk_183 0 46 (dk_at dksX5_tell_0 12 rfl rfl)
theorem dX5_tell_15 : decode cX5_tell 15 = .ok (.astore_n 2, 1) := dk_77 (dk_at dksX5_tell_0 15 rfl rfl)
theorem dX5_tell_16 : decode cX5_tell 16 = .ok (.iconst 0, 1) := dk_3 (dk_at dksX5_tell_0 16 rfl rfl)
theorem dX5_tell_17 : decode cX5_tell 17 = .ok (.istore_n 3, 1) := dk_62 (dk_at dksX5_tell_0 17 rfl rfl)
theorem dX5_tell_18 : decode cX5_tell 18 = .ok (.iload_n 3, 1) := dk_29 (dk_at dksX5_tell_0 18 rfl rfl)
theorem dX5_tell_19 : decode cX5_tell 19 = .ok (.aload_n 0, 1) := dk_42 (dk_at dksX5_tell_0 19 rfl rfl)
theorem dX5_tell_20 : decode cX5_tell 20 = .ok (.getfield 83, 3) := dk_180 0 83 (dk_at dksX5_tell_0 20 rfl rfl)
theorem dX5_tell_23 : decode cX5_tell 23 = .ok (.if_icmp .ge 199, 3) := dk_162 0 199 (dk_at dksX5_tell_1 0 rfl rfl)
theorem dX5_tell_26 : decode cX5_tell 26 = .ok (.iconst 0, 1) := dk_3 (dk_at dksX5_tell_1 3 rfl rfl)
theorem dX5_tell_27 : decode cX5_tell 27 = .ok (.istore 4, 2) := dk_54 4 (dk_at dksX5_tell_1 4 rfl rfl)
theorem dX5_tell_29 : decode cX5_tell 29 = .ok (.iload 4, 2) := dk_21 4 (dk_at dksX5_tell_1 6 rfl rfl)
theorem dX5_tell_31 : decode cX5_tell 31 = .ok (.aload_n 0, 1) := dk_42 (dk_at dksX5_tell_1 8 rfl rfl)
theorem dX5_tell_32 : decode cX5_tell 32 = .ok (.getfield 9, 3) := dk_180 0 9 (dk_at dksX5_tell_1 9 rfl rfl)
theorem dX5_tell_35 : decode cX5_tell 35 = .ok (.if_icmp .ge 181, 3) := dk_162 0 181 (dk_at dksX5_tell_1 12 rfl rfl)
theorem dX5_tell_38 : decode cX5_tell 38 = .ok (.aload_n 0, 1) := dk_42 (dk_at dksX5_tell_1 15 rfl rfl)
theorem dX5_tell_39 : decode cX5_tell 39 = .ok (.getfield 47, 3) := dk_180 0 47 (dk_at dksX5_tell_1 16 rfl rfl)
theorem dX5_tell_42 : decode cX5_tell 42 = .ok (.iload 4, 2) := dk_21 4 (dk_at dksX5_tell_1 19 rfl rfl)
theorem dX5_tell_44 : decode cX5_tell 44 = .ok (.invokevirtual 106, 3) := dk_182 0 106 (dk_at dksX5_tell_1 21 rfl rfl)
theorem dX5_tell_47 : decode cX5_tell 47 = .ok (.ifCond .ne 6, 3) := dk_154 0 6 (dk_at dksX5_tell_2 0 rfl rfl)
theorem dX5_tell_50 : decode cX5_tell 50 = .ok (.goto 160, 3) := dk_167 0 160 (dk_at dksX5_tell_2 3 rfl rfl)
theorem dX5_tell_53 : decode cX5_tell 53 = .ok (.aload_n 0, 1) := dk_42 (dk_at dksX5_tell_2 6 rfl rfl)
theorem dX5_tell_54 : decode cX5_tell 54 = .ok (.iload_n 3, 1) := dk_29 (dk_at dksX5_tell_2 7 rfl rfl)
theorem dX5_tell_55 : decode cX5_tell 55 = .ok (.iload 4, 2) := dk_21 4 (dk_at dksX5_tell_2 8 rfl rfl)
theorem dX5_tell_57 : decode cX5_tell 57 = .ok (.aload_n 1, 1) := dk_43 (dk_at dksX5_tell_2 10 rfl rfl)
theorem dX5_tell_58 : decode cX5_tell 58 = .ok (.invokevirtual 110, 3) := dk_182 0 110 (dk_at dksX5_tell_2 11 rfl rfl)
theorem dX5_tell_61 : decode cX5_tell 61 = .ok (.iconst 0, 1) := dk_3 (dk_at dksX5_tell_2 14 rfl rfl)
theorem dX5_tell_62 : decode cX5_tell 62 = .ok (.istore 5, 2) := dk_54 5 (dk_at dksX5_tell_2 15 rfl rfl)
theorem dX5_tell_64 : decode cX5_tell 64 = .ok (.iload 5, 2) := dk_21 5 (dk_at dksX5_tell_2 17 rfl rfl)
theorem dX5_tell_66 : decode cX5_tell 66 = .ok (.aload_n 0, 1) := dk_42 (dk_at dksX5_tell_2 19 rfl rfl)
theorem dX5_tell_67 : decode cX5_tell 67 = .ok (.getfield 80, 3) := dk_180 0 80 (dk_at dksX5_tell_2 20 rfl rfl)
theorem dX5_tell_70 : decode cX5_tell 70 = .ok (.if_icmp .ge 140, 3) := dk_162 0 140 (dk_at dksX5_tell_3 0 rfl rfl)
theorem dX5_tell_73 : decode cX5_tell 73 = .ok (.aload_n 0, 1) := dk_42 (dk_at dksX5_tell_3 3 rfl rfl)
theorem dX5_tell_74 : decode cX5_tell 74 = .ok (.aload_n 1, 1) := dk_43 (dk_at dksX5_tell_3 4 rfl rfl)
theorem dX5_tell_75 : decode cX5_tell 75 = .ok (.iload 5, 2) := dk_21 5 (dk_at dksX5_tell_3 5 rfl rfl)
theorem dX5_tell_77 : decode cX5_tell 77 = .ok (.aload_n 2, 1) := dk_44 (dk_at dksX5_tell_3 7 rfl rfl)
theorem dX5_tell_78 : decode cX5_tell 78 = .ok (.invokevirtual 114, 3) := dk_182 0 114 (dk_at dksX5_tell_3 8 rfl rfl)
theorem dX5_tell_81 : decode cX5_tell 81 = .ok (.istore 6, 2) := dk_54 6 (dk_at dksX5_tell_3 11 rfl rfl)
theorem dX5_tell_83 : decode cX5_tell 83 = .ok (.aload_n 0, 1) := dk_42 (dk_at dksX5_tell_3 13 rfl rfl)
theorem dX5_tell_84 : decode cX5_tell 84 = .ok (.aload_n 1, 1) := dk_43 (dk_at dksX5_tell_3 14 rfl rfl)
theorem dX5_tell_85 : decode cX5_tell 85 = .ok (.iload 5, 2) := dk_21 5 (dk_at dksX5_tell_3 15 rfl rfl)
theorem dX5_tell_87 : decode cX5_tell 87 = .ok (.aload_n 2, 1) := dk_44 (dk_at dksX5_tell_3 17 rfl rfl)
theorem dX5_tell_88 : decode cX5_tell 88 = .ok (.invokevirtual 118, 3) := dk_182 0 118 (dk_at dksX5_tell_3 18 rfl rfl)
theorem dX5_tell_91 : decode cX5_tell 91 = .ok (.istore 7, 2) := dk_54 7 (dk_at dksX5_tell_3 21 rfl rfl)
theorem dX5_tell_93 : decode cX5_tell 93 = .ok (.aload_n 0, 1) := dk_42 (dk_at dksX5_tell_3 23 rfl rfl)
theorem dX5_tell_94 : decode cX5_tell 94 = .ok (.getfield 57, 3) := dk_180 0 57 (dk_at dksX5_tell_4 0 rfl rfl)
theorem dX5_tell_97 : decode cX5_tell 97 = .ok (.iload_n 3, 1) := dk_29 (dk_at dksX5_tell_4 3 rfl rfl)
theorem dX5_tell_98 : decode cX5_tell 98 = .ok (.aaload, 1) := dk_50 (dk_at dksX5_tell_4 4 rfl rfl)
theorem dX5_tell_99 : decode cX5_tell 99 = .ok (.getfield 121, 3) := dk_180 0 121 (dk_at dksX5_tell_4 5 rfl rfl)
theorem dX5_tell_102 : decode cX5_tell 102 = .ok (.iload 5, 2) := dk_21 5 (dk_at dksX5_tell_4 8 rfl rfl)
theorem dX5_tell_104 : decode cX5_tell 104 = .ok (.ishr, 1) := dk_122 (dk_at dksX5_tell_4 10 rfl rfl)
theorem dX5_tell_105 : decode cX5_tell 105 = .ok (.iconst 1, 1) := dk_4 (dk_at dksX5_tell_4 11 rfl rfl)
theorem dX5_tell_106 : decode cX5_tell 106 = .ok (.iand, 1) := dk_126 (dk_at dksX5_tell_4 12 rfl rfl)
theorem dX5_tell_107 : decode cX5_tell 107 = .ok (.iconst 1, 1) := dk_4 (dk_at dksX5_tell_4 13 rfl rfl)
theorem dX5_tell_108 : decode cX5_tell 108 = .ok (.if_icmp .ne 7, 3) := dk_160 0 7 (dk_at dksX5_tell_4 14 rfl rfl)
theorem dX5_tell_111 : decode cX5_tell 111 = .ok (.iconst 1, 1) := dk_4 (dk_at dksX5_tell_4 17 rfl rfl)
theorem dX5_tell_112 : decode cX5_tell 112 = .ok (.goto 4, 3) := dk_167 0 4 (dk_at dksX5_tell_4 18 rfl rfl)
theorem dX5_tell_115 : decode cX5_tell 115 = .ok (.iconst 0, 1) := dk_3 (dk_at dksX5_tell_4 21 rfl rfl)
theorem dX5_tell_116 : decode cX5_tell 116 = .ok (.istore 8, 2) := dk_54 8 (dk_at dksX5_tell_4 22 rfl rfl)
theorem dX5_tell_118 : decode cX5_tell 118 = .ok (.aload_n 0, 1) := dk_42 (dk_at dksX5_tell_5 0 rfl rfl)
theorem dX5_tell_119 : decode cX5_tell 119 = .ok (.iload_n 3, 1) := dk_29 (dk_at dksX5_tell_5 1 rfl rfl)
theorem dX5_tell_120 : decode cX5_tell 120 = .ok (.iconst 0, 1) := dk_3 (dk_at dksX5_tell_5 2 rfl rfl)
theorem dX5_tell_121 : decode cX5_tell 121 = .ok (.iload 5, 2) := dk_21 5 (dk_at dksX5_tell_5 3 rfl rfl)
theorem dX5_tell_123 : decode cX5_tell 123 = .ok (.iload 4, 2) := dk_21 4 (dk_at dksX5_tell_5 5 rfl rfl)
theorem dX5_tell_125 : decode cX5_tell 125 = .ok (.iload 8, 2) := dk_21 8 (dk_at dksX5_tell_5 7 rfl rfl)
theorem dX5_tell_127 : decode cX5_tell 127 = .ok (.ifCond .eq 8, 3) := dk_153 0 8 (dk_at dksX5_tell_5 9 rfl rfl)
theorem dX5_tell_130 : decode cX5_tell 130 = .ok (.iload 7, 2) := dk_21 7 (dk_at dksX5_tell_5 12 rfl rfl)
theorem dX5_tell_132 : decode cX5_tell 132 = .ok (.goto 5, 3) := dk_167 0 5 (dk_at dksX5_tell_5 14 rfl rfl)
theorem dX5_tell_135 : decode cX5_tell 135 = .ok (.iload 6, 2) := dk_21 6 (dk_at dksX5_tell_5 17 rfl rfl)
theorem dX5_tell_137 : decode cX5_tell 137 = .ok (.invokevirtual 124, 3) := dk_182 0 124 (dk_at dksX5_tell_5 19 rfl rfl)
theorem dX5_tell_140 : decode cX5_tell 140 = .ok (.aload_n 0, 1) := dk_42 (dk_at dksX5_tell_5 22 rfl rfl)
theorem dX5_tell_141 : decode cX5_tell 141 = .ok (.iload_n 3, 1) := dk_29 (dk_at dksX5_tell_5 23 rfl rfl)
theorem dX5_tell_142 : decode cX5_tell 142 = .ok (.iconst 1, 1) := dk_4 (dk_at dksX5_tell_6 0 rfl rfl)
theorem dX5_tell_143 : decode cX5_tell 143 = .ok (.iload 5, 2) := dk_21 5 (dk_at dksX5_tell_6 1 rfl rfl)
theorem dX5_tell_145 : decode cX5_tell 145 = .ok (.iload 4, 2) := dk_21 4 (dk_at dksX5_tell_6 3 rfl rfl)
theorem dX5_tell_147 : decode cX5_tell 147 = .ok (.iload 8, 2) := dk_21 8 (dk_at dksX5_tell_6 5 rfl rfl)
theorem dX5_tell_149 : decode cX5_tell 149 = .ok (.ifCond .eq 8, 3) := dk_153 0 8 (dk_at dksX5_tell_6 7 rfl rfl)
theorem dX5_tell_152 : decode cX5_tell 152 = .ok (.iload 7, 2) := dk_21 7 (dk_at dksX5_tell_6 10 rfl rfl)
theorem dX5_tell_154 : decode cX5_tell 154 = .ok (.goto 21, 3) := dk_167 0 21 (dk_at dksX5_tell_6 12 rfl rfl)
theorem dX5_tell_157 : decode cX5_tell 157 = .ok (.iload 6, 2) := dk_21 6 (dk_at dksX5_tell_6 15 rfl rfl)
theorem dX5_tell_159 : decode cX5_tell 159 = .ok (.iconst 2, 1) := dk_5 (dk_at dksX5_tell_6 17 rfl rfl)
theorem dX5_tell_160 : decode cX5_tell 160 = .ok (.iload 5, 2) := dk_21 5 (dk_at dksX5_tell_6 18 rfl rfl)
theorem dX5_tell_162 : decode cX5_tell 162 = .ok (.imul, 1) := dk_104 (dk_at dksX5_tell_6 20 rfl rfl)
theorem dX5_tell_163 : decode cX5_tell 163 = .ok (.if_icmp .ne 8, 3) := dk_160 0 8 (dk_at dksX5_tell_6 21 rfl rfl)
theorem dX5_tell_166 : decode cX5_tell 166 = .ok (.iload 6, 2) := dk_21 6 (dk_at dksX5_tell_7 0 rfl rfl)
theorem dX5_tell_168 : decode cX5_tell 168 = .ok (.goto 7, 3) := dk_167 0 7 (dk_at dksX5_tell_7 2 rfl rfl)
theorem dX5_tell_171 : decode cX5_tell 171 = .ok (.iload 6, 2) := dk_21 6 (dk_at dksX5_tell_7 5 rfl rfl)
theorem dX5_tell_173 : decode cX5_tell 173 = .ok (.iconst 1, 1) := dk_4 (dk_at dksX5_tell_7 7 rfl rfl)
theorem dX5_tell_174 : decode cX5_tell 174 = .ok (.ixor, 1) := dk_130 (dk_at dksX5_tell_7 8 rfl rfl)
theorem dX5_tell_175 : decode cX5_tell 175 = .ok (.invokevirtual 124, 3) := dk_182 0 124 (dk_at dksX5_tell_7 9 rfl rfl)
theorem dX5_tell_178 : decode cX5_tell 178 = .ok (.aload_n 0, 1) := dk_42 (dk_at dksX5_tell_7 12 rfl rfl)
theorem dX5_tell_179 : decode cX5_tell 179 = .ok (.iload_n 3, 1) := dk_29 (dk_at dksX5_tell_7 13 rfl rfl)
theorem dX5_tell_180 : decode cX5_tell 180 = .ok (.iconst 2, 1) := dk_5 (dk_at dksX5_tell_7 14 rfl rfl)
theorem dX5_tell_181 : decode cX5_tell 181 = .ok (.iload 5, 2) := dk_21 5 (dk_at dksX5_tell_7 15 rfl rfl)
theorem dX5_tell_183 : decode cX5_tell 183 = .ok (.iload 4, 2) := dk_21 4 (dk_at dksX5_tell_7 17 rfl rfl)
theorem dX5_tell_185 : decode cX5_tell 185 = .ok (.iload 7, 2) := dk_21 7 (dk_at dksX5_tell_7 19 rfl rfl)
theorem dX5_tell_187 : decode cX5_tell 187 = .ok (.invokevirtual 124, 3) := dk_182 0 124 (dk_at dksX5_tell_7 21 rfl rfl)
theorem dX5_tell_190 : decode cX5_tell 190 = .ok (.aload_n 0, 1) := dk_42 (dk_at dksX5_tell_8 0 rfl rfl)
theorem dX5_tell_191 : decode cX5_tell 191 = .ok (.iload_n 3, 1) := dk_29 (dk_at dksX5_tell_8 1 rfl rfl)
theorem dX5_tell_192 : decode cX5_tell 192 = .ok (.iconst 3, 1) := dk_6 (dk_at dksX5_tell_8 2 rfl rfl)
theorem dX5_tell_193 : decode cX5_tell 193 = .ok (.iload 5, 2) := dk_21 5 (dk_at dksX5_tell_8 3 rfl rfl)
theorem dX5_tell_195 : decode cX5_tell 195 = .ok (.iload 4, 2) := dk_21 4 (dk_at dksX5_tell_8 5 rfl rfl)
theorem dX5_tell_197 : decode cX5_tell 197 = .ok (.iconst 2, 1) := dk_5 (dk_at dksX5_tell_8 7 rfl rfl)
theorem dX5_tell_198 : decode cX5_tell 198 = .ok (.iload 5, 2) := dk_21 5 (dk_at dksX5_tell_8 8 rfl rfl)
theorem dX5_tell_200 : decode cX5_tell 200 = .ok (.imul, 1) := dk_104 (dk_at dksX5_tell_8 10 rfl rfl)
theorem dX5_tell_201 : decode cX5_tell 201 = .ok (.invokevirtual 124, 3) := dk_182 0 124 (dk_at dksX5_tell_8 11 rfl rfl)
theorem dX5_tell_204 : decode cX5_tell 204 = .ok (.iinc 5 1, 3) := dk_132 5 1 (dk_at dksX5_tell_8 14 rfl rfl)
theorem dX5_tell_207 : decode cX5_tell 207 = .ok (.goto (-143), 3) := dk_167 255 113 (dk_at dksX5_tell_8 17 rfl rfl)
theorem dX5_tell_210 : decode cX5_tell 210 = .ok (.iinc 4 1, 3) := dk_132 4 1 (dk_at dksX5_tell_8 20 rfl rfl)
theorem dX5_tell_213 : decode cX5_tell 213 = .ok (.goto (-184), 3) := dk_167 255 72 (dk_at dksX5_tell_9 0 rfl rfl)
theorem dX5_tell_216 : decode cX5_tell 216 = .ok (.iinc 3 1, 3) := dk_132 3 1 (dk_at dksX5_tell_9 3 rfl rfl)
theorem dX5_tell_219 : decode cX5_tell 219 = .ok (.goto (-201), 3) := dk_167 255 55 (dk_at dksX5_tell_9 6 rfl rfl)
theorem dX5_tell_222 : decode cX5_tell 222 = .ok (.return_, 1) := dk_177 (dk_at dksX5_tell_9 9 rfl rfl)
abbrev cX5_know : ByteArray := prog_5_method_16_code
def yX5_know : MethodName := ⟨RX5, "know", "(IILAskingCourt$Worlds;)V"⟩
def dkwX5_know_4 : List UInt8 := [21, 5, 153, 0, 9, 45, 21, 4, 182, 0, 66, 132, 4, 1, 167, 255, 157, 177]
abbrev dktX5_know_4 : List UInt8 := dkwX5_know_4 ++ []
def dkwX5_know_3 : List UInt8 := [42, 28, 21, 6, 182, 0, 99, 160, 0, 7, 4, 167, 0, 4, 3, 54, 5, 132, 6, 1, 167, 255, 197]
abbrev dktX5_know_3 : List UInt8 := dkwX5_know_3 ++ dktX5_know_4
def dkwX5_know_2 : List UInt8 := [180, 0, 57, 27, 50, 180, 0, 128, 21, 6, 122, 4, 126, 153, 0, 21, 42, 21, 4, 21, 6, 182, 0, 99]
abbrev dktX5_know_2 : List UInt8 := dkwX5_know_2 ++ dktX5_know_3
def dkwX5_know_1 : List UInt8 := [182, 0, 106, 54, 5, 3, 54, 6, 21, 6, 42, 180, 0, 70, 162, 0, 56, 21, 5, 153, 0, 42, 42]
abbrev dktX5_know_1 : List UInt8 := dkwX5_know_1 ++ dktX5_know_2
def dkwX5_know_0 : List UInt8 := [45, 182, 0, 103, 3, 54, 4, 21, 4, 42, 180, 0, 9, 162, 0, 96, 42, 180, 0, 47, 21, 4]
abbrev dktX5_know_0 : List UInt8 := dkwX5_know_0 ++ dktX5_know_1
theorem dksX5_know_0 : cX5_know.data.toList.drop 0 = dktX5_know_0 := by decide +kernel
theorem dksX5_know_1 : cX5_know.data.toList.drop 22 = dktX5_know_1 := dk_seg dksX5_know_0 22 rfl rfl
theorem dksX5_know_2 : cX5_know.data.toList.drop 45 = dktX5_know_2 := dk_seg dksX5_know_1 23 rfl rfl
theorem dksX5_know_3 : cX5_know.data.toList.drop 69 = dktX5_know_3 := dk_seg dksX5_know_2 24 rfl rfl
theorem dksX5_know_4 : cX5_know.data.toList.drop 92 = dktX5_know_4 := dk_seg dksX5_know_3 23 rfl rfl
theorem dX5_know_0 : decode cX5_know 0 = .ok (.aload_n 3, 1) := dk_45 (dk_at dksX5_know_0 0 rfl rfl)
theorem dX5_know_1 : decode cX5_know 1 = .ok (.invokevirtual 103, 3) := dk_182 0 103 (dk_at dksX5_know_0 1 rfl rfl)
theorem dX5_know_4 : decode cX5_know 4 = .ok (.iconst 0, 1) := dk_3 (dk_at dksX5_know_0 4 rfl rfl)
theorem dX5_know_5 : decode cX5_know 5 = .ok (.istore 4, 2) := dk_54 4 (dk_at dksX5_know_0 5 rfl rfl)
theorem dX5_know_7 : decode cX5_know 7 = .ok (.iload 4, 2) := dk_21 4 (dk_at dksX5_know_0 7 rfl rfl)
theorem dX5_know_9 : decode cX5_know 9 = .ok (.aload_n 0, 1) := dk_42 (dk_at dksX5_know_0 9 rfl rfl)
theorem dX5_know_10 : decode cX5_know 10 = .ok (.getfield 9, 3) := dk_180 0 9 (dk_at dksX5_know_0 10 rfl rfl)
theorem dX5_know_13 : decode cX5_know 13 = .ok (.if_icmp .ge 96, 3) := dk_162 0 96 (dk_at dksX5_know_0 13 rfl rfl)
theorem dX5_know_16 : decode cX5_know 16 = .ok (.aload_n 0, 1) := dk_42 (dk_at dksX5_know_0 16 rfl rfl)
theorem dX5_know_17 : decode cX5_know 17 = .ok (.getfield 47, 3) := dk_180 0 47 (dk_at dksX5_know_0 17 rfl rfl)
theorem dX5_know_20 : decode cX5_know 20 = .ok (.iload 4, 2) := dk_21 4 (dk_at dksX5_know_0 20 rfl rfl)
theorem dX5_know_22 : decode cX5_know 22 = .ok (.invokevirtual 106, 3) := dk_182 0 106 (dk_at dksX5_know_1 0 rfl rfl)
theorem dX5_know_25 : decode cX5_know 25 = .ok (.istore 5, 2) := dk_54 5 (dk_at dksX5_know_1 3 rfl rfl)
theorem dX5_know_27 : decode cX5_know 27 = .ok (.iconst 0, 1) := dk_3 (dk_at dksX5_know_1 5 rfl rfl)
theorem dX5_know_28 : decode cX5_know 28 = .ok (.istore 6, 2) := dk_54 6 (dk_at dksX5_know_1 6 rfl rfl)
theorem dX5_know_30 : decode cX5_know 30 = .ok (.iload 6, 2) := dk_21 6 (dk_at dksX5_know_1 8 rfl rfl)
theorem dX5_know_32 : decode cX5_know 32 = .ok (.aload_n 0, 1) := dk_42 (dk_at dksX5_know_1 10 rfl rfl)
theorem dX5_know_33 : decode cX5_know 33 = .ok (.getfield 70, 3) := dk_180 0 70 (dk_at dksX5_know_1 11 rfl rfl)
theorem dX5_know_36 : decode cX5_know 36 = .ok (.if_icmp .ge 56, 3) := dk_162 0 56 (dk_at dksX5_know_1 14 rfl rfl)
theorem dX5_know_39 : decode cX5_know 39 = .ok (.iload 5, 2) := dk_21 5 (dk_at dksX5_know_1 17 rfl rfl)
theorem dX5_know_41 : decode cX5_know 41 = .ok (.ifCond .eq 42, 3) := dk_153 0 42 (dk_at dksX5_know_1 19 rfl rfl)
theorem dX5_know_44 : decode cX5_know 44 = .ok (.aload_n 0, 1) := dk_42 (dk_at dksX5_know_1 22 rfl rfl)
theorem dX5_know_45 : decode cX5_know 45 = .ok (.getfield 57, 3) := dk_180 0 57 (dk_at dksX5_know_2 0 rfl rfl)
theorem dX5_know_48 : decode cX5_know 48 = .ok (.iload_n 1, 1) := dk_27 (dk_at dksX5_know_2 3 rfl rfl)
theorem dX5_know_49 : decode cX5_know 49 = .ok (.aaload, 1) := dk_50 (dk_at dksX5_know_2 4 rfl rfl)
theorem dX5_know_50 : decode cX5_know 50 = .ok (.getfield 128, 3) := dk_180 0 128 (dk_at dksX5_know_2 5 rfl rfl)
theorem dX5_know_53 : decode cX5_know 53 = .ok (.iload 6, 2) := dk_21 6 (dk_at dksX5_know_2 8 rfl rfl)
theorem dX5_know_55 : decode cX5_know 55 = .ok (.ishr, 1) := dk_122 (dk_at dksX5_know_2 10 rfl rfl)
theorem dX5_know_56 : decode cX5_know 56 = .ok (.iconst 1, 1) := dk_4 (dk_at dksX5_know_2 11 rfl rfl)
theorem dX5_know_57 : decode cX5_know 57 = .ok (.iand, 1) := dk_126 (dk_at dksX5_know_2 12 rfl rfl)
theorem dX5_know_58 : decode cX5_know 58 = .ok (.ifCond .eq 21, 3) := dk_153 0 21 (dk_at dksX5_know_2 13 rfl rfl)
theorem dX5_know_61 : decode cX5_know 61 = .ok (.aload_n 0, 1) := dk_42 (dk_at dksX5_know_2 16 rfl rfl)
theorem dX5_know_62 : decode cX5_know 62 = .ok (.iload 4, 2) := dk_21 4 (dk_at dksX5_know_2 17 rfl rfl)
theorem dX5_know_64 : decode cX5_know 64 = .ok (.iload 6, 2) := dk_21 6 (dk_at dksX5_know_2 19 rfl rfl)
theorem dX5_know_66 : decode cX5_know 66 = .ok (.invokevirtual 99, 3) := dk_182 0 99 (dk_at dksX5_know_2 21 rfl rfl)
theorem dX5_know_69 : decode cX5_know 69 = .ok (.aload_n 0, 1) := dk_42 (dk_at dksX5_know_3 0 rfl rfl)
theorem dX5_know_70 : decode cX5_know 70 = .ok (.iload_n 2, 1) := dk_28 (dk_at dksX5_know_3 1 rfl rfl)
theorem dX5_know_71 : decode cX5_know 71 = .ok (.iload 6, 2) := dk_21 6 (dk_at dksX5_know_3 2 rfl rfl)
theorem dX5_know_73 : decode cX5_know 73 = .ok (.invokevirtual 99, 3) := dk_182 0 99 (dk_at dksX5_know_3 4 rfl rfl)
theorem dX5_know_76 : decode cX5_know 76 = .ok (.if_icmp .ne 7, 3) := dk_160 0 7 (dk_at dksX5_know_3 7 rfl rfl)
theorem dX5_know_79 : decode cX5_know 79 = .ok (.iconst 1, 1) := dk_4 (dk_at dksX5_know_3 10 rfl rfl)
theorem dX5_know_80 : decode cX5_know 80 = .ok (.goto 4, 3) := dk_167 0 4 (dk_at dksX5_know_3 11 rfl rfl)
theorem dX5_know_83 : decode cX5_know 83 = .ok (.iconst 0, 1) := dk_3 (dk_at dksX5_know_3 14 rfl rfl)
theorem dX5_know_84 : decode cX5_know 84 = .ok (.istore 5, 2) := dk_54 5 (dk_at dksX5_know_3 15 rfl rfl)
theorem dX5_know_86 : decode cX5_know 86 = .ok (.iinc 6 1, 3) := dk_132 6 1 (dk_at dksX5_know_3 17 rfl rfl)
theorem dX5_know_89 : decode cX5_know 89 = .ok (.goto (-59), 3) := dk_167 255 197 (dk_at dksX5_know_3 20 rfl rfl)
theorem dX5_know_92 : decode cX5_know 92 = .ok (.iload 5, 2) := dk_21 5 (dk_at dksX5_know_4 0 rfl rfl)
theorem dX5_know_94 : decode cX5_know 94 = .ok (.ifCond .eq 9, 3) := dk_153 0 9 (dk_at dksX5_know_4 2 rfl rfl)
theorem dX5_know_97 : decode cX5_know 97 = .ok (.aload_n 3, 1) := dk_45 (dk_at dksX5_know_4 5 rfl rfl)
theorem dX5_know_98 : decode cX5_know 98 = .ok (.iload 4, 2) := dk_21 4 (dk_at dksX5_know_4 6 rfl rfl)
theorem dX5_know_100 : decode cX5_know 100 = .ok (.invokevirtual 66, 3) := dk_182 0 66 (dk_at dksX5_know_4 8 rfl rfl)
theorem dX5_know_103 : decode cX5_know 103 = .ok (.iinc 4 1, 3) := dk_132 4 1 (dk_at dksX5_know_4 11 rfl rfl)
theorem dX5_know_106 : decode cX5_know 106 = .ok (.goto (-99), 3) := dk_167 255 157 (dk_at dksX5_know_4 14 rfl rfl)
theorem dX5_know_109 : decode cX5_know 109 = .ok (.return_, 1) := dk_177 (dk_at dksX5_know_4 17 rfl rfl)
abbrev cX5_honest : ByteArray := prog_5_method_18_code
def yX5_honest : MethodName := ⟨RX5, "honest", "(LAskingCourt$Worlds;ILAskingCourt$Worlds;)I"⟩
def dkwX5_honest_5 : List UInt8 := [104, 172]
abbrev dktX5_honest_5 : List UInt8 := dkwX5_honest_5 ++ []
def dkwX5_honest_4 : List UInt8 := [45, 42, 180, 0, 51, 28, 50, 182, 0, 143, 154, 0, 6, 21, 5, 172, 132, 5, 1, 167, 255, 179, 5, 28]
abbrev dktX5_honest_4 : List UInt8 := dkwX5_honest_4 ++ dktX5_honest_5
def dkwX5_honest_3 : List UInt8 := [153, 0, 40, 21, 4, 153, 0, 19, 45, 42, 180, 0, 51, 28, 50, 182, 0, 139, 153, 0, 22, 167, 0, 16]
abbrev dktX5_honest_3 : List UInt8 := dkwX5_honest_3 ++ dktX5_honest_4
def dkwX5_honest_2 : List UInt8 := [21, 5, 5, 28, 104, 160, 0, 6, 167, 0, 55, 42, 21, 5, 45, 182, 0, 146, 43, 45, 182, 0, 139]
abbrev dktX5_honest_2 : List UInt8 := dkwX5_honest_2 ++ dktX5_honest_3
def dkwX5_honest_1 : List UInt8 := [182, 0, 143, 153, 0, 7, 5, 28, 104, 172, 3, 54, 5, 21, 5, 5, 42, 180, 0, 80, 104, 162, 0, 72]
abbrev dktX5_honest_1 : List UInt8 := dkwX5_honest_1 ++ dktX5_honest_2
def dkwX5_honest_0 : List UInt8 := [43, 42, 180, 0, 51, 28, 50, 182, 0, 139, 54, 4, 21, 4, 154, 0, 20, 43, 42, 180, 0, 51, 28, 50]
abbrev dktX5_honest_0 : List UInt8 := dkwX5_honest_0 ++ dktX5_honest_1
theorem dksX5_honest_0 : cX5_honest.data.toList.drop 0 = dktX5_honest_0 := by decide +kernel
theorem dksX5_honest_1 : cX5_honest.data.toList.drop 24 = dktX5_honest_1 := dk_seg dksX5_honest_0 24 rfl rfl
theorem dksX5_honest_2 : cX5_honest.data.toList.drop 48 = dktX5_honest_2 := dk_seg dksX5_honest_1 24 rfl rfl
theorem dksX5_honest_3 : cX5_honest.data.toList.drop 71 = dktX5_honest_3 := dk_seg dksX5_honest_2 23 rfl rfl
theorem dksX5_honest_4 : cX5_honest.data.toList.drop 95 = dktX5_honest_4 := dk_seg dksX5_honest_3 24 rfl rfl
theorem dksX5_honest_5 : cX5_honest.data.toList.drop 119 = dktX5_honest_5 := dk_seg dksX5_honest_4 24 rfl rfl
theorem dX5_honest_0 : decode cX5_honest 0 = .ok (.aload_n 1, 1) := dk_43 (dk_at dksX5_honest_0 0 rfl rfl)
theorem dX5_honest_1 : decode cX5_honest 1 = .ok (.aload_n 0, 1) := dk_42 (dk_at dksX5_honest_0 1 rfl rfl)
theorem dX5_honest_2 : decode cX5_honest 2 = .ok (.getfield 51, 3) := dk_180 0 51 (dk_at dksX5_honest_0 2 rfl rfl)
theorem dX5_honest_5 : decode cX5_honest 5 = .ok (.iload_n 2, 1) := dk_28 (dk_at dksX5_honest_0 5 rfl rfl)
theorem dX5_honest_6 : decode cX5_honest 6 = .ok (.aaload, 1) := dk_50 (dk_at dksX5_honest_0 6 rfl rfl)
theorem dX5_honest_7 : decode cX5_honest 7 = .ok (.invokevirtual 139, 3) := dk_182 0 139 (dk_at dksX5_honest_0 7 rfl rfl)
theorem dX5_honest_10 : decode cX5_honest 10 = .ok (.istore 4, 2) := dk_54 4 (dk_at dksX5_honest_0 10 rfl rfl)
theorem dX5_honest_12 : decode cX5_honest 12 = .ok (.iload 4, 2) := dk_21 4 (dk_at dksX5_honest_0 12 rfl rfl)
theorem dX5_honest_14 : decode cX5_honest 14 = .ok (.ifCond .ne 20, 3) := dk_154 0 20 (dk_at dksX5_honest_0 14 rfl rfl)
theorem dX5_honest_17 : decode cX5_honest 17 = .ok (.aload_n 1, 1) := dk_43 (dk_at dksX5_honest_0 17 rfl rfl)
theorem dX5_honest_18 : decode cX5_honest 18 = .ok (.aload_n 0, 1) := dk_42 (dk_at dksX5_honest_0 18 rfl rfl)
theorem dX5_honest_19 : decode cX5_honest 19 = .ok (.getfield 51, 3) := dk_180 0 51 (dk_at dksX5_honest_0 19 rfl rfl)
theorem dX5_honest_22 : decode cX5_honest 22 = .ok (.iload_n 2, 1) := dk_28 (dk_at dksX5_honest_0 22 rfl rfl)
theorem dX5_honest_23 : decode cX5_honest 23 = .ok (.aaload, 1) := dk_50 (dk_at dksX5_honest_0 23 rfl rfl)
theorem dX5_honest_24 : decode cX5_honest 24 = .ok (.invokevirtual 143, 3) := dk_182 0 143 (dk_at dksX5_honest_1 0 rfl rfl)
theorem dX5_honest_27 : decode cX5_honest 27 = .ok (.ifCond .eq 7, 3) := dk_153 0 7 (dk_at dksX5_honest_1 3 rfl rfl)
theorem dX5_honest_30 : decode cX5_honest 30 = .ok (.iconst 2, 1) := dk_5 (dk_at dksX5_honest_1 6 rfl rfl)
theorem dX5_honest_31 : decode cX5_honest 31 = .ok (.iload_n 2, 1) := dk_28 (dk_at dksX5_honest_1 7 rfl rfl)
theorem dX5_honest_32 : decode cX5_honest 32 = .ok (.imul, 1) := dk_104 (dk_at dksX5_honest_1 8 rfl rfl)
theorem dX5_honest_33 : decode cX5_honest 33 = .ok (.ireturn, 1) := dk_172 (dk_at dksX5_honest_1 9 rfl rfl)
theorem dX5_honest_34 : decode cX5_honest 34 = .ok (.iconst 0, 1) := dk_3 (dk_at dksX5_honest_1 10 rfl rfl)
theorem dX5_honest_35 : decode cX5_honest 35 = .ok (.istore 5, 2) := dk_54 5 (dk_at dksX5_honest_1 11 rfl rfl)
theorem dX5_honest_37 : decode cX5_honest 37 = .ok (.iload 5, 2) := dk_21 5 (dk_at dksX5_honest_1 13 rfl rfl)
theorem dX5_honest_39 : decode cX5_honest 39 = .ok (.iconst 2, 1) := dk_5 (dk_at dksX5_honest_1 15 rfl rfl)
theorem dX5_honest_40 : decode cX5_honest 40 = .ok (.aload_n 0, 1) := dk_42 (dk_at dksX5_honest_1 16 rfl rfl)
theorem dX5_honest_41 : decode cX5_honest 41 = .ok (.getfield 80, 3) := dk_180 0 80 (dk_at dksX5_honest_1 17 rfl rfl)
theorem dX5_honest_44 : decode cX5_honest 44 = .ok (.imul, 1) := dk_104 (dk_at dksX5_honest_1 20 rfl rfl)
theorem dX5_honest_45 : decode cX5_honest 45 = .ok (.if_icmp .ge 72, 3) := dk_162 0 72 (dk_at dksX5_honest_1 21 rfl rfl)
theorem dX5_honest_48 : decode cX5_honest 48 = .ok (.iload 5, 2) := dk_21 5 (dk_at dksX5_honest_2 0 rfl rfl)
theorem dX5_honest_50 : decode cX5_honest 50 = .ok (.iconst 2, 1) := dk_5 (dk_at dksX5_honest_2 2 rfl rfl)
theorem dX5_honest_51 : decode cX5_honest 51 = .ok (.iload_n 2, 1) := dk_28 (dk_at dksX5_honest_2 3 rfl rfl)
theorem dX5_honest_52 : decode cX5_honest 52 = .ok (.imul, 1) := dk_104 (dk_at dksX5_honest_2 4 rfl rfl)
theorem dX5_honest_53 : decode cX5_honest 53 = .ok (.if_icmp .ne 6, 3) := dk_160 0 6 (dk_at dksX5_honest_2 5 rfl rfl)
theorem dX5_honest_56 : decode cX5_honest 56 = .ok (.goto 55, 3) := dk_167 0 55 (dk_at dksX5_honest_2 8 rfl rfl)
theorem dX5_honest_59 : decode cX5_honest 59 = .ok (.aload_n 0, 1) := dk_42 (dk_at dksX5_honest_2 11 rfl rfl)
theorem dX5_honest_60 : decode cX5_honest 60 = .ok (.iload 5, 2) := dk_21 5 (dk_at dksX5_honest_2 12 rfl rfl)
theorem dX5_honest_62 : decode cX5_honest 62 = .ok (.aload_n 3, 1) := dk_45 (dk_at dksX5_honest_2 14 rfl rfl)
theorem dX5_honest_63 : decode cX5_honest 63 = .ok (.invokevirtual 146, 3) := dk_182 0 146 (dk_at dksX5_honest_2 15 rfl rfl)
theorem dX5_honest_66 : decode cX5_honest 66 = .ok (.aload_n 1, 1) := dk_43 (dk_at dksX5_honest_2 18 rfl rfl)
theorem dX5_honest_67 : decode cX5_honest 67 = .ok (.aload_n 3, 1) := dk_45 (dk_at dksX5_honest_2 19 rfl rfl)
theorem dX5_honest_68 : decode cX5_honest 68 = .ok (.invokevirtual 139, 3) := dk_182 0 139 (dk_at dksX5_honest_2 20 rfl rfl)
theorem dX5_honest_71 : decode cX5_honest 71 = .ok (.ifCond .eq 40, 3) := dk_153 0 40 (dk_at dksX5_honest_3 0 rfl rfl)
theorem dX5_honest_74 : decode cX5_honest 74 = .ok (.iload 4, 2) := dk_21 4 (dk_at dksX5_honest_3 3 rfl rfl)
theorem dX5_honest_76 : decode cX5_honest 76 = .ok (.ifCond .eq 19, 3) := dk_153 0 19 (dk_at dksX5_honest_3 5 rfl rfl)
theorem dX5_honest_79 : decode cX5_honest 79 = .ok (.aload_n 3, 1) := dk_45 (dk_at dksX5_honest_3 8 rfl rfl)
theorem dX5_honest_80 : decode cX5_honest 80 = .ok (.aload_n 0, 1) := dk_42 (dk_at dksX5_honest_3 9 rfl rfl)
theorem dX5_honest_81 : decode cX5_honest 81 = .ok (.getfield 51, 3) := dk_180 0 51 (dk_at dksX5_honest_3 10 rfl rfl)
theorem dX5_honest_84 : decode cX5_honest 84 = .ok (.iload_n 2, 1) := dk_28 (dk_at dksX5_honest_3 13 rfl rfl)
theorem dX5_honest_85 : decode cX5_honest 85 = .ok (.aaload, 1) := dk_50 (dk_at dksX5_honest_3 14 rfl rfl)
theorem dX5_honest_86 : decode cX5_honest 86 = .ok (.invokevirtual 139, 3) := dk_182 0 139 (dk_at dksX5_honest_3 15 rfl rfl)
theorem dX5_honest_89 : decode cX5_honest 89 = .ok (.ifCond .eq 22, 3) := dk_153 0 22 (dk_at dksX5_honest_3 18 rfl rfl)
theorem dX5_honest_92 : decode cX5_honest 92 = .ok (.goto 16, 3) := dk_167 0 16 (dk_at dksX5_honest_3 21 rfl rfl)
theorem dX5_honest_95 : decode cX5_honest 95 = .ok (.aload_n 3, 1) := dk_45 (dk_at dksX5_honest_4 0 rfl rfl)
theorem dX5_honest_96 : decode cX5_honest 96 = .ok (.aload_n 0, 1) := dk_42 (dk_at dksX5_honest_4 1 rfl rfl)
theorem dX5_honest_97 : decode cX5_honest 97 = .ok (.getfield 51, 3) := dk_180 0 51 (dk_at dksX5_honest_4 2 rfl rfl)
theorem dX5_honest_100 : decode cX5_honest 100 = .ok (.iload_n 2, 1) := dk_28 (dk_at dksX5_honest_4 5 rfl rfl)
theorem dX5_honest_101 : decode cX5_honest 101 = .ok (.aaload, 1) := dk_50 (dk_at dksX5_honest_4 6 rfl rfl)
theorem dX5_honest_102 : decode cX5_honest 102 = .ok (.invokevirtual 143, 3) := dk_182 0 143 (dk_at dksX5_honest_4 7 rfl rfl)
theorem dX5_honest_105 : decode cX5_honest 105 = .ok (.ifCond .ne 6, 3) := dk_154 0 6 (dk_at dksX5_honest_4 10 rfl rfl)
theorem dX5_honest_108 : decode cX5_honest 108 = .ok (.iload 5, 2) := dk_21 5 (dk_at dksX5_honest_4 13 rfl rfl)
theorem dX5_honest_110 : decode cX5_honest 110 = .ok (.ireturn, 1) := dk_172 (dk_at dksX5_honest_4 15 rfl rfl)
theorem dX5_honest_111 : decode cX5_honest 111 = .ok (.iinc 5 1, 3) := dk_132 5 1 (dk_at dksX5_honest_4 16 rfl rfl)
theorem dX5_honest_114 : decode cX5_honest 114 = .ok (.goto (-77), 3) := dk_167 255 179 (dk_at dksX5_honest_4 19 rfl rfl)
theorem dX5_honest_117 : decode cX5_honest 117 = .ok (.iconst 2, 1) := dk_5 (dk_at dksX5_honest_4 22 rfl rfl)
theorem dX5_honest_118 : decode cX5_honest 118 = .ok (.iload_n 2, 1) := dk_28 (dk_at dksX5_honest_4 23 rfl rfl)
theorem dX5_honest_119 : decode cX5_honest 119 = .ok (.imul, 1) := dk_104 (dk_at dksX5_honest_5 0 rfl rfl)
theorem dX5_honest_120 : decode cX5_honest 120 = .ok (.ireturn, 1) := dk_172 (dk_at dksX5_honest_5 1 rfl rfl)
abbrev cX5_mean : ByteArray := prog_5_method_17_code
def yX5_mean : MethodName := ⟨RX5, "mean", "(ILAskingCourt$Worlds;)V"⟩
def dkwX5_mean_1 : List UInt8 := [180, 0, 47, 182, 0, 131, 87, 44, 42, 180, 0, 51, 27, 5, 108, 50, 182, 0, 135, 177]
abbrev dktX5_mean_1 : List UInt8 := dkwX5_mean_1 ++ []
def dkwX5_mean_0 : List UInt8 := [27, 5, 112, 154, 0, 19, 44, 42, 180, 0, 51, 27, 5, 108, 50, 182, 0, 131, 87, 167, 0, 24, 44, 42]
abbrev dktX5_mean_0 : List UInt8 := dkwX5_mean_0 ++ dktX5_mean_1
theorem dksX5_mean_0 : cX5_mean.data.toList.drop 0 = dktX5_mean_0 := by decide +kernel
theorem dksX5_mean_1 : cX5_mean.data.toList.drop 24 = dktX5_mean_1 := dk_seg dksX5_mean_0 24 rfl rfl
theorem dX5_mean_0 : decode cX5_mean 0 = .ok (.iload_n 1, 1) := dk_27 (dk_at dksX5_mean_0 0 rfl rfl)
theorem dX5_mean_1 : decode cX5_mean 1 = .ok (.iconst 2, 1) := dk_5 (dk_at dksX5_mean_0 1 rfl rfl)
theorem dX5_mean_2 : decode cX5_mean 2 = .ok (.irem, 1) := dk_112 (dk_at dksX5_mean_0 2 rfl rfl)
theorem dX5_mean_3 : decode cX5_mean 3 = .ok (.ifCond .ne 19, 3) := dk_154 0 19 (dk_at dksX5_mean_0 3 rfl rfl)
theorem dX5_mean_6 : decode cX5_mean 6 = .ok (.aload_n 2, 1) := dk_44 (dk_at dksX5_mean_0 6 rfl rfl)
theorem dX5_mean_7 : decode cX5_mean 7 = .ok (.aload_n 0, 1) := dk_42 (dk_at dksX5_mean_0 7 rfl rfl)
theorem dX5_mean_8 : decode cX5_mean 8 = .ok (.getfield 51, 3) := dk_180 0 51 (dk_at dksX5_mean_0 8 rfl rfl)
theorem dX5_mean_11 : decode cX5_mean 11 = .ok (.iload_n 1, 1) := dk_27 (dk_at dksX5_mean_0 11 rfl rfl)
theorem dX5_mean_12 : decode cX5_mean 12 = .ok (.iconst 2, 1) := dk_5 (dk_at dksX5_mean_0 12 rfl rfl)
theorem dX5_mean_13 : decode cX5_mean 13 = .ok (.idiv, 1) := dk_108 (dk_at dksX5_mean_0 13 rfl rfl)
theorem dX5_mean_14 : decode cX5_mean 14 = .ok (.aaload, 1) := dk_50 (dk_at dksX5_mean_0 14 rfl rfl)
theorem dX5_mean_15 : decode cX5_mean 15 = .ok (.invokevirtual 131, 3) := dk_182 0 131 (dk_at dksX5_mean_0 15 rfl rfl)
theorem dX5_mean_18 : decode cX5_mean 18 = .ok (.pop, 1) := dk_87 (dk_at dksX5_mean_0 18 rfl rfl)
theorem dX5_mean_19 : decode cX5_mean 19 = .ok (.goto 24, 3) := dk_167 0 24 (dk_at dksX5_mean_0 19 rfl rfl)
theorem dX5_mean_22 : decode cX5_mean 22 = .ok (.aload_n 2, 1) := dk_44 (dk_at dksX5_mean_0 22 rfl rfl)
theorem dX5_mean_23 : decode cX5_mean 23 = .ok (.aload_n 0, 1) := dk_42 (dk_at dksX5_mean_0 23 rfl rfl)
theorem dX5_mean_24 : decode cX5_mean 24 = .ok (.getfield 47, 3) := dk_180 0 47 (dk_at dksX5_mean_1 0 rfl rfl)
theorem dX5_mean_27 : decode cX5_mean 27 = .ok (.invokevirtual 131, 3) := dk_182 0 131 (dk_at dksX5_mean_1 3 rfl rfl)
theorem dX5_mean_30 : decode cX5_mean 30 = .ok (.pop, 1) := dk_87 (dk_at dksX5_mean_1 6 rfl rfl)
theorem dX5_mean_31 : decode cX5_mean 31 = .ok (.aload_n 2, 1) := dk_44 (dk_at dksX5_mean_1 7 rfl rfl)
theorem dX5_mean_32 : decode cX5_mean 32 = .ok (.aload_n 0, 1) := dk_42 (dk_at dksX5_mean_1 8 rfl rfl)
theorem dX5_mean_33 : decode cX5_mean 33 = .ok (.getfield 51, 3) := dk_180 0 51 (dk_at dksX5_mean_1 9 rfl rfl)
theorem dX5_mean_36 : decode cX5_mean 36 = .ok (.iload_n 1, 1) := dk_27 (dk_at dksX5_mean_1 12 rfl rfl)
theorem dX5_mean_37 : decode cX5_mean 37 = .ok (.iconst 2, 1) := dk_5 (dk_at dksX5_mean_1 13 rfl rfl)
theorem dX5_mean_38 : decode cX5_mean 38 = .ok (.idiv, 1) := dk_108 (dk_at dksX5_mean_1 14 rfl rfl)
theorem dX5_mean_39 : decode cX5_mean 39 = .ok (.aaload, 1) := dk_50 (dk_at dksX5_mean_1 15 rfl rfl)
theorem dX5_mean_40 : decode cX5_mean 40 = .ok (.invokevirtual 135, 3) := dk_182 0 135 (dk_at dksX5_mean_1 16 rfl rfl)
theorem dX5_mean_43 : decode cX5_mean 43 = .ok (.return_, 1) := dk_177 (dk_at dksX5_mean_1 19 rfl rfl)
abbrev cX5_other : ByteArray := prog_5_method_19_code
def yX5_other : MethodName := ⟨RX5, "other", "(LAskingCourt$Worlds;ILAskingCourt$Worlds;)I"⟩
def dkwX5_other_3 : List UInt8 := [28, 50, 182, 0, 139, 154, 0, 6, 21, 4, 172, 132, 4, 1, 167, 255, 176, 5, 28, 104, 172]
abbrev dktX5_other_3 : List UInt8 := dkwX5_other_3 ++ []
def dkwX5_other_2 : List UInt8 := [182, 0, 139, 154, 0, 32, 45, 42, 180, 0, 51, 28, 50, 182, 0, 143, 153, 0, 19, 45, 42, 180, 0, 51]
abbrev dktX5_other_2 : List UInt8 := dkwX5_other_2 ++ dktX5_other_3
def dkwX5_other_1 : List UInt8 := [167, 0, 58, 42, 21, 4, 45, 182, 0, 146, 43, 45, 182, 0, 139, 153, 0, 43, 42, 180, 0, 47, 45]
abbrev dktX5_other_1 : List UInt8 := dkwX5_other_1 ++ dktX5_other_2
def dkwX5_other_0 : List UInt8 := [3, 54, 4, 21, 4, 5, 42, 180, 0, 80, 104, 162, 0, 75, 21, 4, 5, 108, 28, 160, 0, 6]
abbrev dktX5_other_0 : List UInt8 := dkwX5_other_0 ++ dktX5_other_1
theorem dksX5_other_0 : cX5_other.data.toList.drop 0 = dktX5_other_0 := by decide +kernel
theorem dksX5_other_1 : cX5_other.data.toList.drop 22 = dktX5_other_1 := dk_seg dksX5_other_0 22 rfl rfl
theorem dksX5_other_2 : cX5_other.data.toList.drop 45 = dktX5_other_2 := dk_seg dksX5_other_1 23 rfl rfl
theorem dksX5_other_3 : cX5_other.data.toList.drop 69 = dktX5_other_3 := dk_seg dksX5_other_2 24 rfl rfl
theorem dX5_other_0 : decode cX5_other 0 = .ok (.iconst 0, 1) := dk_3 (dk_at dksX5_other_0 0 rfl rfl)
theorem dX5_other_1 : decode cX5_other 1 = .ok (.istore 4, 2) := dk_54 4 (dk_at dksX5_other_0 1 rfl rfl)
theorem dX5_other_3 : decode cX5_other 3 = .ok (.iload 4, 2) := dk_21 4 (dk_at dksX5_other_0 3 rfl rfl)
theorem dX5_other_5 : decode cX5_other 5 = .ok (.iconst 2, 1) := dk_5 (dk_at dksX5_other_0 5 rfl rfl)
theorem dX5_other_6 : decode cX5_other 6 = .ok (.aload_n 0, 1) := dk_42 (dk_at dksX5_other_0 6 rfl rfl)
theorem dX5_other_7 : decode cX5_other 7 = .ok (.getfield 80, 3) := dk_180 0 80 (dk_at dksX5_other_0 7 rfl rfl)
theorem dX5_other_10 : decode cX5_other 10 = .ok (.imul, 1) := dk_104 (dk_at dksX5_other_0 10 rfl rfl)
theorem dX5_other_11 : decode cX5_other 11 = .ok (.if_icmp .ge 75, 3) := dk_162 0 75 (dk_at dksX5_other_0 11 rfl rfl)
theorem dX5_other_14 : decode cX5_other 14 = .ok (.iload 4, 2) := dk_21 4 (dk_at dksX5_other_0 14 rfl rfl)
theorem dX5_other_16 : decode cX5_other 16 = .ok (.iconst 2, 1) := dk_5 (dk_at dksX5_other_0 16 rfl rfl)
theorem dX5_other_17 : decode cX5_other 17 = .ok (.idiv, 1) := dk_108 (dk_at dksX5_other_0 17 rfl rfl)
theorem dX5_other_18 : decode cX5_other 18 = .ok (.iload_n 2, 1) := dk_28 (dk_at dksX5_other_0 18 rfl rfl)
theorem dX5_other_19 : decode cX5_other 19 = .ok (.if_icmp .ne 6, 3) := dk_160 0 6 (dk_at dksX5_other_0 19 rfl rfl)
theorem dX5_other_22 : decode cX5_other 22 = .ok (.goto 58, 3) := dk_167 0 58 (dk_at dksX5_other_1 0 rfl rfl)
theorem dX5_other_25 : decode cX5_other 25 = .ok (.aload_n 0, 1) := dk_42 (dk_at dksX5_other_1 3 rfl rfl)
theorem dX5_other_26 : decode cX5_other 26 = .ok (.iload 4, 2) := dk_21 4 (dk_at dksX5_other_1 4 rfl rfl)
theorem dX5_other_28 : decode cX5_other 28 = .ok (.aload_n 3, 1) := dk_45 (dk_at dksX5_other_1 6 rfl rfl)
theorem dX5_other_29 : decode cX5_other 29 = .ok (.invokevirtual 146, 3) := dk_182 0 146 (dk_at dksX5_other_1 7 rfl rfl)
theorem dX5_other_32 : decode cX5_other 32 = .ok (.aload_n 1, 1) := dk_43 (dk_at dksX5_other_1 10 rfl rfl)
theorem dX5_other_33 : decode cX5_other 33 = .ok (.aload_n 3, 1) := dk_45 (dk_at dksX5_other_1 11 rfl rfl)
theorem dX5_other_34 : decode cX5_other 34 = .ok (.invokevirtual 139, 3) := dk_182 0 139 (dk_at dksX5_other_1 12 rfl rfl)
theorem dX5_other_37 : decode cX5_other 37 = .ok (.ifCond .eq 43, 3) := dk_153 0 43 (dk_at dksX5_other_1 15 rfl rfl)
theorem dX5_other_40 : decode cX5_other 40 = .ok (.aload_n 0, 1) := dk_42 (dk_at dksX5_other_1 18 rfl rfl)
theorem dX5_other_41 : decode cX5_other 41 = .ok (.getfield 47, 3) := dk_180 0 47 (dk_at dksX5_other_1 19 rfl rfl)
theorem dX5_other_44 : decode cX5_other 44 = .ok (.aload_n 3, 1) := dk_45 (dk_at dksX5_other_1 22 rfl rfl)
theorem dX5_other_45 : decode cX5_other 45 = .ok (.invokevirtual 139, 3) := dk_182 0 139 (dk_at dksX5_other_2 0 rfl rfl)
theorem dX5_other_48 : decode cX5_other 48 = .ok (.ifCond .ne 32, 3) := dk_154 0 32 (dk_at dksX5_other_2 3 rfl rfl)
theorem dX5_other_51 : decode cX5_other 51 = .ok (.aload_n 3, 1) := dk_45 (dk_at dksX5_other_2 6 rfl rfl)
theorem dX5_other_52 : decode cX5_other 52 = .ok (.aload_n 0, 1) := dk_42 (dk_at dksX5_other_2 7 rfl rfl)
theorem dX5_other_53 : decode cX5_other 53 = .ok (.getfield 51, 3) := dk_180 0 51 (dk_at dksX5_other_2 8 rfl rfl)
theorem dX5_other_56 : decode cX5_other 56 = .ok (.iload_n 2, 1) := dk_28 (dk_at dksX5_other_2 11 rfl rfl)
theorem dX5_other_57 : decode cX5_other 57 = .ok (.aaload, 1) := dk_50 (dk_at dksX5_other_2 12 rfl rfl)
theorem dX5_other_58 : decode cX5_other 58 = .ok (.invokevirtual 143, 3) := dk_182 0 143 (dk_at dksX5_other_2 13 rfl rfl)
theorem dX5_other_61 : decode cX5_other 61 = .ok (.ifCond .eq 19, 3) := dk_153 0 19 (dk_at dksX5_other_2 16 rfl rfl)
theorem dX5_other_64 : decode cX5_other 64 = .ok (.aload_n 3, 1) := dk_45 (dk_at dksX5_other_2 19 rfl rfl)
theorem dX5_other_65 : decode cX5_other 65 = .ok (.aload_n 0, 1) := dk_42 (dk_at dksX5_other_2 20 rfl rfl)
theorem dX5_other_66 : decode cX5_other 66 = .ok (.getfield 51, 3) := dk_180 0 51 (dk_at dksX5_other_2 21 rfl rfl)
theorem dX5_other_69 : decode cX5_other 69 = .ok (.iload_n 2, 1) := dk_28 (dk_at dksX5_other_3 0 rfl rfl)
theorem dX5_other_70 : decode cX5_other 70 = .ok (.aaload, 1) := dk_50 (dk_at dksX5_other_3 1 rfl rfl)
theorem dX5_other_71 : decode cX5_other 71 = .ok (.invokevirtual 139, 3) := dk_182 0 139 (dk_at dksX5_other_3 2 rfl rfl)
theorem dX5_other_74 : decode cX5_other 74 = .ok (.ifCond .ne 6, 3) := dk_154 0 6 (dk_at dksX5_other_3 5 rfl rfl)
theorem dX5_other_77 : decode cX5_other 77 = .ok (.iload 4, 2) := dk_21 4 (dk_at dksX5_other_3 8 rfl rfl)
theorem dX5_other_79 : decode cX5_other 79 = .ok (.ireturn, 1) := dk_172 (dk_at dksX5_other_3 10 rfl rfl)
theorem dX5_other_80 : decode cX5_other 80 = .ok (.iinc 4 1, 3) := dk_132 4 1 (dk_at dksX5_other_3 11 rfl rfl)
theorem dX5_other_83 : decode cX5_other 83 = .ok (.goto (-80), 3) := dk_167 255 176 (dk_at dksX5_other_3 14 rfl rfl)
theorem dX5_other_86 : decode cX5_other 86 = .ok (.iconst 2, 1) := dk_5 (dk_at dksX5_other_3 17 rfl rfl)
theorem dX5_other_87 : decode cX5_other 87 = .ok (.iload_n 2, 1) := dk_28 (dk_at dksX5_other_3 18 rfl rfl)
theorem dX5_other_88 : decode cX5_other 88 = .ok (.imul, 1) := dk_104 (dk_at dksX5_other_3 19 rfl rfl)
theorem dX5_other_89 : decode cX5_other 89 = .ok (.ireturn, 1) := dk_172 (dk_at dksX5_other_3 20 rfl rfl)
abbrev cX5_put : ByteArray := prog_5_method_15_code
def yX5_put : MethodName := ⟨RX5, "put", "(IIIII)V"⟩
def dkwX5_put_1 : List UInt8 := [84, 177]
abbrev dktX5_put_1 : List UInt8 := dkwX5_put_1 ++ []
def dkwX5_put_0 : List UInt8 := [42, 180, 0, 62, 27, 7, 104, 28, 96, 16, 12, 104, 29, 96, 17, 1, 0, 104, 21, 4, 96, 21, 5, 145]
abbrev dktX5_put_0 : List UInt8 := dkwX5_put_0 ++ dktX5_put_1
theorem dksX5_put_0 : cX5_put.data.toList.drop 0 = dktX5_put_0 := by decide +kernel
theorem dksX5_put_1 : cX5_put.data.toList.drop 24 = dktX5_put_1 := dk_seg dksX5_put_0 24 rfl rfl
theorem dX5_put_0 : decode cX5_put 0 = .ok (.aload_n 0, 1) := dk_42 (dk_at dksX5_put_0 0 rfl rfl)
theorem dX5_put_1 : decode cX5_put 1 = .ok (.getfield 62, 3) := dk_180 0 62 (dk_at dksX5_put_0 1 rfl rfl)
theorem dX5_put_4 : decode cX5_put 4 = .ok (.iload_n 1, 1) := dk_27 (dk_at dksX5_put_0 4 rfl rfl)
theorem dX5_put_5 : decode cX5_put 5 = .ok (.iconst 4, 1) := dk_7 (dk_at dksX5_put_0 5 rfl rfl)
theorem dX5_put_6 : decode cX5_put 6 = .ok (.imul, 1) := dk_104 (dk_at dksX5_put_0 6 rfl rfl)
theorem dX5_put_7 : decode cX5_put 7 = .ok (.iload_n 2, 1) := dk_28 (dk_at dksX5_put_0 7 rfl rfl)
theorem dX5_put_8 : decode cX5_put 8 = .ok (.iadd, 1) := dk_96 (dk_at dksX5_put_0 8 rfl rfl)
theorem dX5_put_9 : decode cX5_put 9 = .ok (.bipush 12, 2) := dk_16 12 (dk_at dksX5_put_0 9 rfl rfl)
theorem dX5_put_11 : decode cX5_put 11 = .ok (.imul, 1) := dk_104 (dk_at dksX5_put_0 11 rfl rfl)
theorem dX5_put_12 : decode cX5_put 12 = .ok (.iload_n 3, 1) := dk_29 (dk_at dksX5_put_0 12 rfl rfl)
theorem dX5_put_13 : decode cX5_put 13 = .ok (.iadd, 1) := dk_96 (dk_at dksX5_put_0 13 rfl rfl)
theorem dX5_put_14 : decode cX5_put 14 = .ok (.sipush 256, 3) := dk_17 1 0 (dk_at dksX5_put_0 14 rfl rfl)
theorem dX5_put_17 : decode cX5_put 17 = .ok (.imul, 1) := dk_104 (dk_at dksX5_put_0 17 rfl rfl)
theorem dX5_put_18 : decode cX5_put 18 = .ok (.iload 4, 2) := dk_21 4 (dk_at dksX5_put_0 18 rfl rfl)
theorem dX5_put_20 : decode cX5_put 20 = .ok (.iadd, 1) := dk_96 (dk_at dksX5_put_0 20 rfl rfl)
theorem dX5_put_21 : decode cX5_put 21 = .ok (.iload 5, 2) := dk_21 5 (dk_at dksX5_put_0 21 rfl rfl)
theorem dX5_put_23 : decode cX5_put 23 = .ok (.i2b, 1) := dk_145 (dk_at dksX5_put_0 23 rfl rfl)
theorem dX5_put_24 : decode cX5_put 24 = .ok (.bastore, 1) := dk_84 (dk_at dksX5_put_1 0 rfl rfl)
theorem dX5_put_25 : decode cX5_put 25 = .ok (.return_, 1) := dk_177 (dk_at dksX5_put_1 1 rfl rfl)
abbrev cX5_possibleMany : ByteArray := prog_5_method_11_code
def yX5_possibleMany : MethodName := ⟨RX5, "possibleMany", "()I"⟩
def dkwX5_possibleMany_1 : List UInt8 := [4, 167, 0, 4, 3, 96, 60, 132, 2, 1, 167, 255, 226, 27, 172]
abbrev dktX5_possibleMany_1 : List UInt8 := dkwX5_possibleMany_1 ++ []
def dkwX5_possibleMany_0 : List UInt8 := [3, 60, 3, 61, 28, 42, 180, 0, 9, 162, 0, 28, 27, 42, 180, 0, 47, 28, 182, 0, 106, 153, 0, 7]
abbrev dktX5_possibleMany_0 : List UInt8 := dkwX5_possibleMany_0 ++ dktX5_possibleMany_1
theorem dksX5_possibleMany_0 : cX5_possibleMany.data.toList.drop 0 = dktX5_possibleMany_0 := by decide +kernel
theorem dksX5_possibleMany_1 : cX5_possibleMany.data.toList.drop 24 = dktX5_possibleMany_1 := dk_seg dksX5_possibleMany_0 24 rfl rfl
theorem dX5_possibleMany_0 : decode cX5_possibleMany 0 = .ok (.iconst 0, 1) := dk_3 (dk_at dksX5_possibleMany_0 0 rfl rfl)
theorem dX5_possibleMany_1 : decode cX5_possibleMany 1 = .ok (.istore_n 1, 1) := dk_60 (dk_at dksX5_possibleMany_0 1 rfl rfl)
theorem dX5_possibleMany_2 : decode cX5_possibleMany 2 = .ok (.iconst 0, 1) := dk_3 (dk_at dksX5_possibleMany_0 2 rfl rfl)
theorem dX5_possibleMany_3 : decode cX5_possibleMany 3 = .ok (.istore_n 2, 1) := dk_61 (dk_at dksX5_possibleMany_0 3 rfl rfl)
theorem dX5_possibleMany_4 : decode cX5_possibleMany 4 = .ok (.iload_n 2, 1) := dk_28 (dk_at dksX5_possibleMany_0 4 rfl rfl)
theorem dX5_possibleMany_5 : decode cX5_possibleMany 5 = .ok (.aload_n 0, 1) := dk_42 (dk_at dksX5_possibleMany_0 5 rfl rfl)
theorem dX5_possibleMany_6 : decode cX5_possibleMany 6 = .ok (.getfield 9, 3) := dk_180 0 9 (dk_at dksX5_possibleMany_0 6 rfl rfl)
theorem dX5_possibleMany_9 : decode cX5_possibleMany 9 = .ok (.if_icmp .ge 28, 3) := dk_162 0 28 (dk_at dksX5_possibleMany_0 9 rfl rfl)
theorem dX5_possibleMany_12 : decode cX5_possibleMany 12 = .ok (.iload_n 1, 1) := dk_27 (dk_at dksX5_possibleMany_0 12 rfl rfl)
theorem dX5_possibleMany_13 : decode cX5_possibleMany 13 = .ok (.aload_n 0, 1) := dk_42 (dk_at dksX5_possibleMany_0 13 rfl rfl)
theorem dX5_possibleMany_14 : decode cX5_possibleMany 14 = .ok (.getfield 47, 3) := dk_180 0 47 (dk_at dksX5_possibleMany_0 14 rfl rfl)
theorem dX5_possibleMany_17 : decode cX5_possibleMany 17 = .ok (.iload_n 2, 1) := dk_28 (dk_at dksX5_possibleMany_0 17 rfl rfl)
theorem dX5_possibleMany_18 : decode cX5_possibleMany 18 = .ok (.invokevirtual 106, 3) := dk_182 0 106 (dk_at dksX5_possibleMany_0 18 rfl rfl)
theorem dX5_possibleMany_21 : decode cX5_possibleMany 21 = .ok (.ifCond .eq 7, 3) := dk_153 0 7 (dk_at dksX5_possibleMany_0 21 rfl rfl)
theorem dX5_possibleMany_24 : decode cX5_possibleMany 24 = .ok (.iconst 1, 1) := dk_4 (dk_at dksX5_possibleMany_1 0 rfl rfl)
theorem dX5_possibleMany_25 : decode cX5_possibleMany 25 = .ok (.goto 4, 3) := dk_167 0 4 (dk_at dksX5_possibleMany_1 1 rfl rfl)
theorem dX5_possibleMany_28 : decode cX5_possibleMany 28 = .ok (.iconst 0, 1) := dk_3 (dk_at dksX5_possibleMany_1 4 rfl rfl)
theorem dX5_possibleMany_29 : decode cX5_possibleMany 29 = .ok (.iadd, 1) := dk_96 (dk_at dksX5_possibleMany_1 5 rfl rfl)
theorem dX5_possibleMany_30 : decode cX5_possibleMany 30 = .ok (.istore_n 1, 1) := dk_60 (dk_at dksX5_possibleMany_1 6 rfl rfl)
theorem dX5_possibleMany_31 : decode cX5_possibleMany 31 = .ok (.iinc 2 1, 3) := dk_132 2 1 (dk_at dksX5_possibleMany_1 7 rfl rfl)
theorem dX5_possibleMany_34 : decode cX5_possibleMany 34 = .ok (.goto (-30), 3) := dk_167 255 226 (dk_at dksX5_possibleMany_1 10 rfl rfl)
theorem dX5_possibleMany_37 : decode cX5_possibleMany 37 = .ok (.iload_n 1, 1) := dk_27 (dk_at dksX5_possibleMany_1 13 rfl rfl)
theorem dX5_possibleMany_38 : decode cX5_possibleMany 38 = .ok (.ireturn, 1) := dk_172 (dk_at dksX5_possibleMany_1 14 rfl rfl)
abbrev cX5_answer : ByteArray := prog_5_method_13_code
def yX5_answer : MethodName := ⟨RX5, "answer", "(IIII)I"⟩
def dkwX5_answer_0 : List UInt8 := [42, 180, 0, 62, 27, 7, 104, 28, 96, 16, 12, 104, 29, 96, 17, 1, 0, 104, 21, 4, 96, 51, 172]
abbrev dktX5_answer_0 : List UInt8 := dkwX5_answer_0 ++ []
theorem dksX5_answer_0 : cX5_answer.data.toList.drop 0 = dktX5_answer_0 := by decide +kernel
theorem dX5_answer_0 : decode cX5_answer 0 = .ok (.aload_n 0, 1) := dk_42 (dk_at dksX5_answer_0 0 rfl rfl)
theorem dX5_answer_1 : decode cX5_answer 1 = .ok (.getfield 62, 3) := dk_180 0 62 (dk_at dksX5_answer_0 1 rfl rfl)
theorem dX5_answer_4 : decode cX5_answer 4 = .ok (.iload_n 1, 1) := dk_27 (dk_at dksX5_answer_0 4 rfl rfl)
theorem dX5_answer_5 : decode cX5_answer 5 = .ok (.iconst 4, 1) := dk_7 (dk_at dksX5_answer_0 5 rfl rfl)
theorem dX5_answer_6 : decode cX5_answer 6 = .ok (.imul, 1) := dk_104 (dk_at dksX5_answer_0 6 rfl rfl)
theorem dX5_answer_7 : decode cX5_answer 7 = .ok (.iload_n 2, 1) := dk_28 (dk_at dksX5_answer_0 7 rfl rfl)
theorem dX5_answer_8 : decode cX5_answer 8 = .ok (.iadd, 1) := dk_96 (dk_at dksX5_answer_0 8 rfl rfl)
theorem dX5_answer_9 : decode cX5_answer 9 = .ok (.bipush 12, 2) := dk_16 12 (dk_at dksX5_answer_0 9 rfl rfl)
theorem dX5_answer_11 : decode cX5_answer 11 = .ok (.imul, 1) := dk_104 (dk_at dksX5_answer_0 11 rfl rfl)
theorem dX5_answer_12 : decode cX5_answer 12 = .ok (.iload_n 3, 1) := dk_29 (dk_at dksX5_answer_0 12 rfl rfl)
theorem dX5_answer_13 : decode cX5_answer 13 = .ok (.iadd, 1) := dk_96 (dk_at dksX5_answer_0 13 rfl rfl)
theorem dX5_answer_14 : decode cX5_answer 14 = .ok (.sipush 256, 3) := dk_17 1 0 (dk_at dksX5_answer_0 14 rfl rfl)
theorem dX5_answer_17 : decode cX5_answer 17 = .ok (.imul, 1) := dk_104 (dk_at dksX5_answer_0 17 rfl rfl)
theorem dX5_answer_18 : decode cX5_answer 18 = .ok (.iload 4, 2) := dk_21 4 (dk_at dksX5_answer_0 18 rfl rfl)
theorem dX5_answer_20 : decode cX5_answer 20 = .ok (.iadd, 1) := dk_96 (dk_at dksX5_answer_0 20 rfl rfl)
theorem dX5_answer_21 : decode cX5_answer 21 = .ok (.baload, 1) := dk_51 (dk_at dksX5_answer_0 21 rfl rfl)
theorem dX5_answer_22 : decode cX5_answer 22 = .ok (.ireturn, 1) := dk_172 (dk_at dksX5_answer_0 22 rfl rfl)
abbrev cX5_weight : ByteArray := prog_5_method_12_code
def yX5_weight : MethodName := ⟨RX5, "weight", "(I)J"⟩
def dkwX5_weight_1 : List UInt8 := [182, 0, 99, 46, 133, 105, 65, 132, 4, 1, 167, 255, 228, 32, 173]
abbrev dktX5_weight_1 : List UInt8 := dkwX5_weight_1 ++ []
def dkwX5_weight_0 : List UInt8 := [10, 65, 3, 54, 4, 21, 4, 42, 180, 0, 70, 162, 0, 25, 32, 42, 180, 0, 38, 42, 27, 21, 4]
abbrev dktX5_weight_0 : List UInt8 := dkwX5_weight_0 ++ dktX5_weight_1
theorem dksX5_weight_0 : cX5_weight.data.toList.drop 0 = dktX5_weight_0 := by decide +kernel
theorem dksX5_weight_1 : cX5_weight.data.toList.drop 23 = dktX5_weight_1 := dk_seg dksX5_weight_0 23 rfl rfl
theorem dX5_weight_0 : decode cX5_weight 0 = .ok (.lconst 1, 1) := dk_10 (dk_at dksX5_weight_0 0 rfl rfl)
theorem dX5_weight_1 : decode cX5_weight 1 = .ok (.lstore_n 2, 1) := dk_65 (dk_at dksX5_weight_0 1 rfl rfl)
theorem dX5_weight_2 : decode cX5_weight 2 = .ok (.iconst 0, 1) := dk_3 (dk_at dksX5_weight_0 2 rfl rfl)
theorem dX5_weight_3 : decode cX5_weight 3 = .ok (.istore 4, 2) := dk_54 4 (dk_at dksX5_weight_0 3 rfl rfl)
theorem dX5_weight_5 : decode cX5_weight 5 = .ok (.iload 4, 2) := dk_21 4 (dk_at dksX5_weight_0 5 rfl rfl)
theorem dX5_weight_7 : decode cX5_weight 7 = .ok (.aload_n 0, 1) := dk_42 (dk_at dksX5_weight_0 7 rfl rfl)
theorem dX5_weight_8 : decode cX5_weight 8 = .ok (.getfield 70, 3) := dk_180 0 70 (dk_at dksX5_weight_0 8 rfl rfl)
theorem dX5_weight_11 : decode cX5_weight 11 = .ok (.if_icmp .ge 25, 3) := dk_162 0 25 (dk_at dksX5_weight_0 11 rfl rfl)
theorem dX5_weight_14 : decode cX5_weight 14 = .ok (.lload_n 2, 1) := dk_32 (dk_at dksX5_weight_0 14 rfl rfl)
theorem dX5_weight_15 : decode cX5_weight 15 = .ok (.aload_n 0, 1) := dk_42 (dk_at dksX5_weight_0 15 rfl rfl)
theorem dX5_weight_16 : decode cX5_weight 16 = .ok (.getfield 38, 3) := dk_180 0 38 (dk_at dksX5_weight_0 16 rfl rfl)
theorem dX5_weight_19 : decode cX5_weight 19 = .ok (.aload_n 0, 1) := dk_42 (dk_at dksX5_weight_0 19 rfl rfl)
theorem dX5_weight_20 : decode cX5_weight 20 = .ok (.iload_n 1, 1) := dk_27 (dk_at dksX5_weight_0 20 rfl rfl)
theorem dX5_weight_21 : decode cX5_weight 21 = .ok (.iload 4, 2) := dk_21 4 (dk_at dksX5_weight_0 21 rfl rfl)
theorem dX5_weight_23 : decode cX5_weight 23 = .ok (.invokevirtual 99, 3) := dk_182 0 99 (dk_at dksX5_weight_1 0 rfl rfl)
theorem dX5_weight_26 : decode cX5_weight 26 = .ok (.iaload, 1) := dk_46 (dk_at dksX5_weight_1 3 rfl rfl)
theorem dX5_weight_27 : decode cX5_weight 27 = .ok (.i2l, 1) := dk_133 (dk_at dksX5_weight_1 4 rfl rfl)
theorem dX5_weight_28 : decode cX5_weight 28 = .ok (.lmul, 1) := dk_105 (dk_at dksX5_weight_1 5 rfl rfl)
theorem dX5_weight_29 : decode cX5_weight 29 = .ok (.lstore_n 2, 1) := dk_65 (dk_at dksX5_weight_1 6 rfl rfl)
theorem dX5_weight_30 : decode cX5_weight 30 = .ok (.iinc 4 1, 3) := dk_132 4 1 (dk_at dksX5_weight_1 7 rfl rfl)
theorem dX5_weight_33 : decode cX5_weight 33 = .ok (.goto (-28), 3) := dk_167 255 228 (dk_at dksX5_weight_1 10 rfl rfl)
theorem dX5_weight_36 : decode cX5_weight 36 = .ok (.lload_n 2, 1) := dk_32 (dk_at dksX5_weight_1 13 rfl rfl)
theorem dX5_weight_37 : decode cX5_weight 37 = .ok (.lreturn, 1) := dk_173 (dk_at dksX5_weight_1 14 rfl rfl)
theorem q171 : (Jvm.Cond.initialized "AskingCourt$Case") ∈ lw_all := lw_g (lw_at lw_m1 8 rfl) rfl
theorem q312 : (Jvm.Cond.instantiable "AskingCourt$Case" (18 : Nat)) ∈ lw_all := lw_g (lw_at lw_m1 149 rfl) rfl
theorem q314 : (Jvm.Cond.instanceMethod ({ cls := "AskingCourt$Case", name := "<init>", desc := "()V" } : Jvm.MethodName)) ∈ lw_all := lw_g (lw_at lw_m1 151 rfl) rfl
theorem q315 : (Jvm.Cond.code ({ cls := "AskingCourt$Case", name := "<init>", desc := "()V" } : Jvm.MethodName) prog_5_method_1_code (1 : Nat) (Option.none : Option Jvm.ClassFile.FieldType)) ∈ lw_all := lw_g (lw_at lw_m1 152 rfl) rfl
theorem q316 : (Jvm.Cond.methodLink "AskingCourt$Case" (3 : Nat) ({ cls := "java/lang/Object", name := "<init>", desc := "()V" } : Jvm.MethodName)) ∈ lw_all := lw_g (lw_at lw_m1 153 rfl) rfl
theorem q317 : (Jvm.Cond.classLink "AskingCourt$Case" (44 : Nat) "AskingCourt$Worlds") ∈ lw_all := lw_g (lw_at lw_m1 154 rfl) rfl
theorem q319 : (Jvm.Cond.methodLinkNest "AskingCourt$Case" (46 : Nat) ({ cls := "AskingCourt$Worlds", name := "<init>", desc := "()V" } : Jvm.MethodName) "AskingCourt") ∈ lw_tbl := lw_at lw_m1 156 rfl
theorem q339 : (Jvm.Cond.classLink "AskingCourt$Case" (55 : Nat) "AskingCourt$Witness") ∈ lw_all := lw_g (lw_at lw_m1 176 rfl) rfl
theorem q341 : (Jvm.Cond.constant "AskingCourt$Case" (61 : Nat) (49152 : Int32)) ∈ lw_all := lw_g (lw_at lw_m1 178 rfl) rfl
theorem q342 : (Jvm.Cond.methodLink "AskingCourt$Case" (66 : Nat) ({ cls := "AskingCourt$Worlds", name := "add", desc := "(I)V" } : Jvm.MethodName)) ∈ lw_all := lw_g (lw_at lw_m1 179 rfl) rfl
theorem q346 : (Jvm.Cond.fieldLink "AskingCourt$Case" (70 : Nat) "AskingCourt$Case" "facts" "I") ∈ lw_all := lw_g (lw_at lw_m1 183 rfl) rfl
theorem q349 : (Jvm.Cond.fieldLink "AskingCourt$Case" (77 : Nat) "AskingCourt$Case" "values" "I") ∈ lw_all := lw_g (lw_at lw_m1 186 rfl) rfl
theorem q352 : (Jvm.Cond.fieldLink "AskingCourt$Case" (80 : Nat) "AskingCourt$Case" "questions" "I") ∈ lw_all := lw_g (lw_at lw_m1 189 rfl) rfl
theorem q355 : (Jvm.Cond.fieldLink "AskingCourt$Case" (83 : Nat) "AskingCourt$Case" "many" "I") ∈ lw_all := lw_g (lw_at lw_m1 192 rfl) rfl
theorem q359 : (Jvm.Cond.fieldLink "AskingCourt$Case" (9 : Nat) "AskingCourt$Case" "worlds" "I") ∈ lw_all := lw_g (lw_at lw_m1 196 rfl) rfl
theorem q363 : (Jvm.Cond.fieldLink "AskingCourt$Case" (15 : Nat) "AskingCourt$Case" "factNames" "[J") ∈ lw_all := lw_g (lw_at lw_m1 200 rfl) rfl
theorem q365 : (Jvm.Cond.fieldLink "AskingCourt$Case" (19 : Nat) "AskingCourt$Case" "valueNames" "[J") ∈ lw_all := lw_g (lw_at lw_m1 202 rfl) rfl
theorem q367 : (Jvm.Cond.fieldLink "AskingCourt$Case" (22 : Nat) "AskingCourt$Case" "questionNames" "[J") ∈ lw_all := lw_g (lw_at lw_m1 204 rfl) rfl
theorem q369 : (Jvm.Cond.fieldLink "AskingCourt$Case" (25 : Nat) "AskingCourt$Case" "witnessNames" "[J") ∈ lw_all := lw_g (lw_at lw_m1 206 rfl) rfl
theorem q371 : (Jvm.Cond.fieldLink "AskingCourt$Case" (28 : Nat) "AskingCourt$Case" "factFirst" "[I") ∈ lw_all := lw_g (lw_at lw_m1 208 rfl) rfl
theorem q373 : (Jvm.Cond.fieldLink "AskingCourt$Case" (32 : Nat) "AskingCourt$Case" "factSize" "[I") ∈ lw_all := lw_g (lw_at lw_m1 210 rfl) rfl
theorem q375 : (Jvm.Cond.fieldLink "AskingCourt$Case" (35 : Nat) "AskingCourt$Case" "valueFact" "[I") ∈ lw_all := lw_g (lw_at lw_m1 212 rfl) rfl
theorem q378 : (Jvm.Cond.fieldLink "AskingCourt$Case" (38 : Nat) "AskingCourt$Case" "weights" "[I") ∈ lw_all := lw_g (lw_at lw_m1 215 rfl) rfl
theorem q381 : (Jvm.Cond.fieldLink "AskingCourt$Case" (41 : Nat) "AskingCourt$Case" "fees" "[I") ∈ lw_all := lw_g (lw_at lw_m1 218 rfl) rfl
theorem q385 : (Jvm.Cond.fieldLink "AskingCourt$Case" (47 : Nat) "AskingCourt$Case" "possible" "LAskingCourt$Worlds;") ∈ lw_all := lw_g (lw_at lw_m1 222 rfl) rfl
theorem q389 : (Jvm.Cond.fieldLink "AskingCourt$Case" (51 : Nat) "AskingCourt$Case" "meant" "[LAskingCourt$Worlds;") ∈ lw_all := lw_g (lw_at lw_m1 226 rfl) rfl
theorem q394 : (Jvm.Cond.fieldLink "AskingCourt$Case" (57 : Nat) "AskingCourt$Case" "witness" "[LAskingCourt$Witness;") ∈ lw_all := lw_g (lw_at lw_m1 231 rfl) rfl
theorem q398 : (Jvm.Cond.fieldLink "AskingCourt$Case" (62 : Nat) "AskingCourt$Case" "answers" "[B") ∈ lw_all := lw_g (lw_at lw_m1 235 rfl) rfl
theorem q399 : (Jvm.Cond.lays "AskingCourt$Case" "AskingCourt$Case" "facts" "I") ∈ lw_all := lw_g (lw_at lw_m1 236 rfl) rfl
theorem q400 : (Jvm.Cond.soleField "AskingCourt$Case" "facts") ∈ lw_all := lw_g (lw_at lw_m1 237 rfl) rfl
theorem q401 : (Jvm.Cond.lays "AskingCourt$Case" "AskingCourt$Case" "values" "I") ∈ lw_all := lw_g (lw_at lw_m1 238 rfl) rfl
theorem q402 : (Jvm.Cond.soleField "AskingCourt$Case" "values") ∈ lw_all := lw_g (lw_at lw_m1 239 rfl) rfl
theorem q403 : (Jvm.Cond.lays "AskingCourt$Case" "AskingCourt$Case" "questions" "I") ∈ lw_all := lw_g (lw_at lw_m2 0 rfl) rfl
theorem q404 : (Jvm.Cond.soleField "AskingCourt$Case" "questions") ∈ lw_all := lw_g (lw_at lw_m2 1 rfl) rfl
theorem q405 : (Jvm.Cond.lays "AskingCourt$Case" "AskingCourt$Case" "many" "I") ∈ lw_all := lw_g (lw_at lw_m2 2 rfl) rfl
theorem q406 : (Jvm.Cond.soleField "AskingCourt$Case" "many") ∈ lw_all := lw_g (lw_at lw_m2 3 rfl) rfl
theorem q407 : (Jvm.Cond.lays "AskingCourt$Case" "AskingCourt$Case" "worlds" "I") ∈ lw_all := lw_g (lw_at lw_m2 4 rfl) rfl
theorem q408 : (Jvm.Cond.soleField "AskingCourt$Case" "worlds") ∈ lw_all := lw_g (lw_at lw_m2 5 rfl) rfl
theorem q409 : (Jvm.Cond.laysFinal "AskingCourt$Case" "AskingCourt$Case" "factNames" "[J") ∈ lw_all := lw_g (lw_at lw_m2 6 rfl) rfl
theorem q410 : (Jvm.Cond.soleField "AskingCourt$Case" "factNames") ∈ lw_all := lw_g (lw_at lw_m2 7 rfl) rfl
theorem q411 : (Jvm.Cond.laysFinal "AskingCourt$Case" "AskingCourt$Case" "valueNames" "[J") ∈ lw_all := lw_g (lw_at lw_m2 8 rfl) rfl
theorem q412 : (Jvm.Cond.soleField "AskingCourt$Case" "valueNames") ∈ lw_all := lw_g (lw_at lw_m2 9 rfl) rfl
theorem q413 : (Jvm.Cond.laysFinal "AskingCourt$Case" "AskingCourt$Case" "questionNames" "[J") ∈ lw_all := lw_g (lw_at lw_m2 10 rfl) rfl
theorem q414 : (Jvm.Cond.soleField "AskingCourt$Case" "questionNames") ∈ lw_all := lw_g (lw_at lw_m2 11 rfl) rfl
theorem q415 : (Jvm.Cond.laysFinal "AskingCourt$Case" "AskingCourt$Case" "witnessNames" "[J") ∈ lw_all := lw_g (lw_at lw_m2 12 rfl) rfl
theorem q416 : (Jvm.Cond.soleField "AskingCourt$Case" "witnessNames") ∈ lw_all := lw_g (lw_at lw_m2 13 rfl) rfl
theorem q417 : (Jvm.Cond.laysFinal "AskingCourt$Case" "AskingCourt$Case" "factFirst" "[I") ∈ lw_all := lw_g (lw_at lw_m2 14 rfl) rfl
theorem q418 : (Jvm.Cond.soleField "AskingCourt$Case" "factFirst") ∈ lw_all := lw_g (lw_at lw_m2 15 rfl) rfl
theorem q419 : (Jvm.Cond.laysFinal "AskingCourt$Case" "AskingCourt$Case" "factSize" "[I") ∈ lw_all := lw_g (lw_at lw_m2 16 rfl) rfl
theorem q420 : (Jvm.Cond.soleField "AskingCourt$Case" "factSize") ∈ lw_all := lw_g (lw_at lw_m2 17 rfl) rfl
theorem q421 : (Jvm.Cond.laysFinal "AskingCourt$Case" "AskingCourt$Case" "valueFact" "[I") ∈ lw_all := lw_g (lw_at lw_m2 18 rfl) rfl
theorem q422 : (Jvm.Cond.soleField "AskingCourt$Case" "valueFact") ∈ lw_all := lw_g (lw_at lw_m2 19 rfl) rfl
theorem q423 : (Jvm.Cond.laysFinal "AskingCourt$Case" "AskingCourt$Case" "weights" "[I") ∈ lw_all := lw_g (lw_at lw_m2 20 rfl) rfl
theorem q424 : (Jvm.Cond.soleField "AskingCourt$Case" "weights") ∈ lw_all := lw_g (lw_at lw_m2 21 rfl) rfl
theorem q425 : (Jvm.Cond.laysFinal "AskingCourt$Case" "AskingCourt$Case" "fees" "[I") ∈ lw_all := lw_g (lw_at lw_m2 22 rfl) rfl
theorem q426 : (Jvm.Cond.soleField "AskingCourt$Case" "fees") ∈ lw_all := lw_g (lw_at lw_m2 23 rfl) rfl
theorem q427 : (Jvm.Cond.laysFinal "AskingCourt$Case" "AskingCourt$Case" "possible" "LAskingCourt$Worlds;") ∈ lw_all := lw_g (lw_at lw_m2 24 rfl) rfl
theorem q428 : (Jvm.Cond.soleField "AskingCourt$Case" "possible") ∈ lw_all := lw_g (lw_at lw_m2 25 rfl) rfl
theorem q429 : (Jvm.Cond.laysFinal "AskingCourt$Case" "AskingCourt$Case" "meant" "[LAskingCourt$Worlds;") ∈ lw_all := lw_g (lw_at lw_m2 26 rfl) rfl
theorem q430 : (Jvm.Cond.soleField "AskingCourt$Case" "meant") ∈ lw_all := lw_g (lw_at lw_m2 27 rfl) rfl
theorem q431 : (Jvm.Cond.laysFinal "AskingCourt$Case" "AskingCourt$Case" "witness" "[LAskingCourt$Witness;") ∈ lw_all := lw_g (lw_at lw_m2 28 rfl) rfl
theorem q432 : (Jvm.Cond.soleField "AskingCourt$Case" "witness") ∈ lw_all := lw_g (lw_at lw_m2 29 rfl) rfl
theorem q433 : (Jvm.Cond.laysFinal "AskingCourt$Case" "AskingCourt$Case" "answers" "[B") ∈ lw_all := lw_g (lw_at lw_m2 30 rfl) rfl
theorem q434 : (Jvm.Cond.soleField "AskingCourt$Case" "answers") ∈ lw_all := lw_g (lw_at lw_m2 31 rfl) rfl
theorem q435 : (Jvm.Cond.superclass "AskingCourt$Case" "java/lang/Object") ∈ lw_all := lw_g (lw_at lw_m2 32 rfl) rfl
theorem q886 : (Jvm.Cond.instanceMethod ({ cls := "AskingCourt$Case", name := "isTaken", desc := "(J)Z" } : Jvm.MethodName)) ∈ lw_all := lw_g (lw_at lw_m4 3 rfl) rfl
theorem q887 : (Jvm.Cond.selects "AskingCourt$Case" ({ cls := "AskingCourt$Case", name := "isTaken", desc := "(J)Z" } : Jvm.MethodName) ({ cls := "AskingCourt$Case", name := "isTaken", desc := "(J)Z" } : Jvm.MethodName)) ∈ lw_all := lw_g (lw_at lw_m4 4 rfl) rfl
theorem q888 : (Jvm.Cond.code ({ cls := "AskingCourt$Case", name := "isTaken", desc := "(J)Z" } : Jvm.MethodName) prog_5_method_7_code (3 : Nat) (Option.some Jvm.ClassFile.FieldType.boolean)) ∈ lw_all := lw_g (lw_at lw_m4 5 rfl) rfl
theorem q889 : (Jvm.Cond.methodLink "AskingCourt$Case" (86 : Nat) ({ cls := "AskingCourt$Case", name := "factNamed", desc := "(J)I" } : Jvm.MethodName)) ∈ lw_all := lw_g (lw_at lw_m4 6 rfl) rfl
theorem q890 : (Jvm.Cond.instanceMethod ({ cls := "AskingCourt$Case", name := "factNamed", desc := "(J)I" } : Jvm.MethodName)) ∈ lw_all := lw_g (lw_at lw_m4 7 rfl) rfl
theorem q891 : (Jvm.Cond.selects "AskingCourt$Case" ({ cls := "AskingCourt$Case", name := "factNamed", desc := "(J)I" } : Jvm.MethodName) ({ cls := "AskingCourt$Case", name := "factNamed", desc := "(J)I" } : Jvm.MethodName)) ∈ lw_all := lw_g (lw_at lw_m4 8 rfl) rfl
theorem q892 : (Jvm.Cond.code ({ cls := "AskingCourt$Case", name := "factNamed", desc := "(J)I" } : Jvm.MethodName) prog_5_method_3_code (3 : Nat) (Option.some Jvm.ClassFile.FieldType.int)) ∈ lw_all := lw_g (lw_at lw_m4 9 rfl) rfl
theorem q893 : (Jvm.Cond.methodLink "AskingCourt$Case" (73 : Nat) ({ cls := "AskingCourt$Case", name := "named", desc := "([JIJ)I" } : Jvm.MethodName)) ∈ lw_all := lw_g (lw_at lw_m4 10 rfl) rfl
theorem q894 : (Jvm.Cond.static ({ cls := "AskingCourt$Case", name := "named", desc := "([JIJ)I" } : Jvm.MethodName)) ∈ lw_all := lw_g (lw_at lw_m4 11 rfl) rfl
theorem q895 : (Jvm.Cond.code ({ cls := "AskingCourt$Case", name := "named", desc := "([JIJ)I" } : Jvm.MethodName) prog_5_method_2_code (5 : Nat) (Option.some Jvm.ClassFile.FieldType.int)) ∈ lw_all := lw_g (lw_at lw_m4 12 rfl) rfl
theorem q896 : (Jvm.Cond.methodLink "AskingCourt$Case" (90 : Nat) ({ cls := "AskingCourt$Case", name := "valueNamed", desc := "(J)I" } : Jvm.MethodName)) ∈ lw_all := lw_g (lw_at lw_m4 13 rfl) rfl
theorem q897 : (Jvm.Cond.instanceMethod ({ cls := "AskingCourt$Case", name := "valueNamed", desc := "(J)I" } : Jvm.MethodName)) ∈ lw_all := lw_g (lw_at lw_m4 14 rfl) rfl
theorem q898 : (Jvm.Cond.selects "AskingCourt$Case" ({ cls := "AskingCourt$Case", name := "valueNamed", desc := "(J)I" } : Jvm.MethodName) ({ cls := "AskingCourt$Case", name := "valueNamed", desc := "(J)I" } : Jvm.MethodName)) ∈ lw_all := lw_g (lw_at lw_m4 15 rfl) rfl
theorem q899 : (Jvm.Cond.code ({ cls := "AskingCourt$Case", name := "valueNamed", desc := "(J)I" } : Jvm.MethodName) prog_5_method_4_code (3 : Nat) (Option.some Jvm.ClassFile.FieldType.int)) ∈ lw_all := lw_g (lw_at lw_m4 16 rfl) rfl
theorem q900 : (Jvm.Cond.methodLink "AskingCourt$Case" (93 : Nat) ({ cls := "AskingCourt$Case", name := "questionNamed", desc := "(J)I" } : Jvm.MethodName)) ∈ lw_all := lw_g (lw_at lw_m4 17 rfl) rfl
theorem q901 : (Jvm.Cond.instanceMethod ({ cls := "AskingCourt$Case", name := "questionNamed", desc := "(J)I" } : Jvm.MethodName)) ∈ lw_all := lw_g (lw_at lw_m4 18 rfl) rfl
theorem q902 : (Jvm.Cond.selects "AskingCourt$Case" ({ cls := "AskingCourt$Case", name := "questionNamed", desc := "(J)I" } : Jvm.MethodName) ({ cls := "AskingCourt$Case", name := "questionNamed", desc := "(J)I" } : Jvm.MethodName)) ∈ lw_all := lw_g (lw_at lw_m4 19 rfl) rfl
theorem q903 : (Jvm.Cond.code ({ cls := "AskingCourt$Case", name := "questionNamed", desc := "(J)I" } : Jvm.MethodName) prog_5_method_5_code (3 : Nat) (Option.some Jvm.ClassFile.FieldType.int)) ∈ lw_all := lw_g (lw_at lw_m4 20 rfl) rfl
theorem q904 : (Jvm.Cond.methodLink "AskingCourt$Case" (96 : Nat) ({ cls := "AskingCourt$Case", name := "witnessNamed", desc := "(J)I" } : Jvm.MethodName)) ∈ lw_all := lw_g (lw_at lw_m4 21 rfl) rfl
theorem q905 : (Jvm.Cond.instanceMethod ({ cls := "AskingCourt$Case", name := "witnessNamed", desc := "(J)I" } : Jvm.MethodName)) ∈ lw_all := lw_g (lw_at lw_m4 22 rfl) rfl
theorem q906 : (Jvm.Cond.selects "AskingCourt$Case" ({ cls := "AskingCourt$Case", name := "witnessNamed", desc := "(J)I" } : Jvm.MethodName) ({ cls := "AskingCourt$Case", name := "witnessNamed", desc := "(J)I" } : Jvm.MethodName)) ∈ lw_all := lw_g (lw_at lw_m4 23 rfl) rfl
theorem q907 : (Jvm.Cond.code ({ cls := "AskingCourt$Case", name := "witnessNamed", desc := "(J)I" } : Jvm.MethodName) prog_5_method_6_code (3 : Nat) (Option.some Jvm.ClassFile.FieldType.int)) ∈ lw_all := lw_g (lw_at lw_m4 24 rfl) rfl
theorem q931 : (Jvm.Cond.instanceMethod ({ cls := "AskingCourt$Case", name := "grow", desc := "()V" } : Jvm.MethodName)) ∈ lw_all := lw_g (lw_at lw_m4 48 rfl) rfl
theorem q932 : (Jvm.Cond.selects "AskingCourt$Case" ({ cls := "AskingCourt$Case", name := "grow", desc := "()V" } : Jvm.MethodName) ({ cls := "AskingCourt$Case", name := "grow", desc := "()V" } : Jvm.MethodName)) ∈ lw_all := lw_g (lw_at lw_m4 49 rfl) rfl
theorem q933 : (Jvm.Cond.code ({ cls := "AskingCourt$Case", name := "grow", desc := "()V" } : Jvm.MethodName) prog_5_method_10_code (2 : Nat) (Option.none : Option Jvm.ClassFile.FieldType)) ∈ lw_all := lw_g (lw_at lw_m4 50 rfl) rfl
theorem q934 : (Jvm.Cond.methodLink "AskingCourt$Case" (103 : Nat) ({ cls := "AskingCourt$Worlds", name := "clear", desc := "()V" } : Jvm.MethodName)) ∈ lw_all := lw_g (lw_at lw_m4 51 rfl) rfl
theorem q966 : (Jvm.Cond.instanceMethod ({ cls := "AskingCourt$Case", name := "hasValue", desc := "(II)Z" } : Jvm.MethodName)) ∈ lw_all := lw_g (lw_at lw_m4 83 rfl) rfl
theorem q967 : (Jvm.Cond.selects "AskingCourt$Case" ({ cls := "AskingCourt$Case", name := "hasValue", desc := "(II)Z" } : Jvm.MethodName) ({ cls := "AskingCourt$Case", name := "hasValue", desc := "(II)Z" } : Jvm.MethodName)) ∈ lw_all := lw_g (lw_at lw_m4 84 rfl) rfl
theorem q968 : (Jvm.Cond.code ({ cls := "AskingCourt$Case", name := "hasValue", desc := "(II)Z" } : Jvm.MethodName) prog_5_method_9_code (3 : Nat) (Option.some Jvm.ClassFile.FieldType.boolean)) ∈ lw_all := lw_g (lw_at lw_m4 85 rfl) rfl
theorem q969 : (Jvm.Cond.methodLink "AskingCourt$Case" (99 : Nat) ({ cls := "AskingCourt$Case", name := "valueIn", desc := "(II)I" } : Jvm.MethodName)) ∈ lw_all := lw_g (lw_at lw_m4 86 rfl) rfl
theorem q970 : (Jvm.Cond.instanceMethod ({ cls := "AskingCourt$Case", name := "valueIn", desc := "(II)I" } : Jvm.MethodName)) ∈ lw_all := lw_g (lw_at lw_m4 87 rfl) rfl
theorem q971 : (Jvm.Cond.selects "AskingCourt$Case" ({ cls := "AskingCourt$Case", name := "valueIn", desc := "(II)I" } : Jvm.MethodName) ({ cls := "AskingCourt$Case", name := "valueIn", desc := "(II)I" } : Jvm.MethodName)) ∈ lw_all := lw_g (lw_at lw_m4 88 rfl) rfl
theorem q972 : (Jvm.Cond.code ({ cls := "AskingCourt$Case", name := "valueIn", desc := "(II)I" } : Jvm.MethodName) prog_5_method_8_code (5 : Nat) (Option.some Jvm.ClassFile.FieldType.int)) ∈ lw_all := lw_g (lw_at lw_m4 89 rfl) rfl
theorem q1011 : (Jvm.Cond.fieldLinkNest "AskingCourt$Case" (128 : Nat) "AskingCourt$Witness" "knows" "I" "AskingCourt") ∈ lw_tbl := lw_at lw_m4 128 rfl
theorem q1014 : (Jvm.Cond.fieldLinkNest "AskingCourt$Case" (121 : Nat) "AskingCourt$Witness" "hides" "I" "AskingCourt") ∈ lw_tbl := lw_at lw_m4 131 rfl
theorem q1039 : (Jvm.Cond.instanceMethod ({ cls := "AskingCourt$Case", name := "tell", desc := "()V" } : Jvm.MethodName)) ∈ lw_all := lw_g (lw_at lw_m4 156 rfl) rfl
theorem q1040 : (Jvm.Cond.selects "AskingCourt$Case" ({ cls := "AskingCourt$Case", name := "tell", desc := "()V" } : Jvm.MethodName) ({ cls := "AskingCourt$Case", name := "tell", desc := "()V" } : Jvm.MethodName)) ∈ lw_all := lw_g (lw_at lw_m4 157 rfl) rfl
theorem q1041 : (Jvm.Cond.code ({ cls := "AskingCourt$Case", name := "tell", desc := "()V" } : Jvm.MethodName) prog_5_method_14_code (9 : Nat) (Option.none : Option Jvm.ClassFile.FieldType)) ∈ lw_all := lw_g (lw_at lw_m4 158 rfl) rfl
theorem q1042 : (Jvm.Cond.methodLink "AskingCourt$Case" (106 : Nat) ({ cls := "AskingCourt$Worlds", name := "has", desc := "(I)Z" } : Jvm.MethodName)) ∈ lw_all := lw_g (lw_at lw_m4 159 rfl) rfl
theorem q1043 : (Jvm.Cond.methodLink "AskingCourt$Case" (110 : Nat) ({ cls := "AskingCourt$Case", name := "know", desc := "(IILAskingCourt$Worlds;)V" } : Jvm.MethodName)) ∈ lw_all := lw_g (lw_at lw_m4 160 rfl) rfl
theorem q1044 : (Jvm.Cond.privateMethod ({ cls := "AskingCourt$Case", name := "know", desc := "(IILAskingCourt$Worlds;)V" } : Jvm.MethodName)) ∈ lw_tbl := lw_at lw_m4 161 rfl
theorem q1045 : (Jvm.Cond.instanceMethod ({ cls := "AskingCourt$Case", name := "know", desc := "(IILAskingCourt$Worlds;)V" } : Jvm.MethodName)) ∈ lw_all := lw_g (lw_at lw_m4 162 rfl) rfl
theorem q1046 : (Jvm.Cond.code ({ cls := "AskingCourt$Case", name := "know", desc := "(IILAskingCourt$Worlds;)V" } : Jvm.MethodName) prog_5_method_16_code (7 : Nat) (Option.none : Option Jvm.ClassFile.FieldType)) ∈ lw_all := lw_g (lw_at lw_m4 163 rfl) rfl
theorem q1047 : (Jvm.Cond.methodLink "AskingCourt$Case" (114 : Nat) ({ cls := "AskingCourt$Case", name := "honest", desc := "(LAskingCourt$Worlds;ILAskingCourt$Worlds;)I" } : Jvm.MethodName)) ∈ lw_all := lw_g (lw_at lw_m4 164 rfl) rfl
theorem q1048 : (Jvm.Cond.privateMethod ({ cls := "AskingCourt$Case", name := "honest", desc := "(LAskingCourt$Worlds;ILAskingCourt$Worlds;)I" } : Jvm.MethodName)) ∈ lw_tbl := lw_at lw_m4 165 rfl
theorem q1049 : (Jvm.Cond.instanceMethod ({ cls := "AskingCourt$Case", name := "honest", desc := "(LAskingCourt$Worlds;ILAskingCourt$Worlds;)I" } : Jvm.MethodName)) ∈ lw_all := lw_g (lw_at lw_m4 166 rfl) rfl
theorem q1050 : (Jvm.Cond.code ({ cls := "AskingCourt$Case", name := "honest", desc := "(LAskingCourt$Worlds;ILAskingCourt$Worlds;)I" } : Jvm.MethodName) prog_5_method_18_code (6 : Nat) (Option.some Jvm.ClassFile.FieldType.int)) ∈ lw_all := lw_g (lw_at lw_m4 167 rfl) rfl
theorem q1051 : (Jvm.Cond.methodLink "AskingCourt$Case" (139 : Nat) ({ cls := "AskingCourt$Worlds", name := "isWithin", desc := "(LAskingCourt$Worlds;)Z" } : Jvm.MethodName)) ∈ lw_all := lw_g (lw_at lw_m4 168 rfl) rfl
theorem q1055 : (Jvm.Cond.methodLink "AskingCourt$Case" (143 : Nat) ({ cls := "AskingCourt$Worlds", name := "meets", desc := "(LAskingCourt$Worlds;)Z" } : Jvm.MethodName)) ∈ lw_all := lw_g (lw_at lw_m4 172 rfl) rfl
theorem q1059 : (Jvm.Cond.methodLink "AskingCourt$Case" (146 : Nat) ({ cls := "AskingCourt$Case", name := "mean", desc := "(ILAskingCourt$Worlds;)V" } : Jvm.MethodName)) ∈ lw_all := lw_g (lw_at lw_m4 176 rfl) rfl
theorem q1060 : (Jvm.Cond.privateMethod ({ cls := "AskingCourt$Case", name := "mean", desc := "(ILAskingCourt$Worlds;)V" } : Jvm.MethodName)) ∈ lw_tbl := lw_at lw_m4 177 rfl
theorem q1061 : (Jvm.Cond.instanceMethod ({ cls := "AskingCourt$Case", name := "mean", desc := "(ILAskingCourt$Worlds;)V" } : Jvm.MethodName)) ∈ lw_all := lw_g (lw_at lw_m4 178 rfl) rfl
theorem q1062 : (Jvm.Cond.code ({ cls := "AskingCourt$Case", name := "mean", desc := "(ILAskingCourt$Worlds;)V" } : Jvm.MethodName) prog_5_method_17_code (3 : Nat) (Option.none : Option Jvm.ClassFile.FieldType)) ∈ lw_all := lw_g (lw_at lw_m4 179 rfl) rfl
theorem q1063 : (Jvm.Cond.methodLink "AskingCourt$Case" (131 : Nat) ({ cls := "AskingCourt$Worlds", name := "be", desc := "(LAskingCourt$Worlds;)LAskingCourt$Worlds;" } : Jvm.MethodName)) ∈ lw_all := lw_g (lw_at lw_m4 180 rfl) rfl
theorem q1064 : (Jvm.Cond.methodLink "AskingCourt$Case" (135 : Nat) ({ cls := "AskingCourt$Worlds", name := "drop", desc := "(LAskingCourt$Worlds;)V" } : Jvm.MethodName)) ∈ lw_all := lw_g (lw_at lw_m4 181 rfl) rfl
theorem q1065 : (Jvm.Cond.methodLink "AskingCourt$Case" (118 : Nat) ({ cls := "AskingCourt$Case", name := "other", desc := "(LAskingCourt$Worlds;ILAskingCourt$Worlds;)I" } : Jvm.MethodName)) ∈ lw_all := lw_g (lw_at lw_m4 182 rfl) rfl
theorem q1066 : (Jvm.Cond.privateMethod ({ cls := "AskingCourt$Case", name := "other", desc := "(LAskingCourt$Worlds;ILAskingCourt$Worlds;)I" } : Jvm.MethodName)) ∈ lw_tbl := lw_at lw_m4 183 rfl
theorem q1067 : (Jvm.Cond.instanceMethod ({ cls := "AskingCourt$Case", name := "other", desc := "(LAskingCourt$Worlds;ILAskingCourt$Worlds;)I" } : Jvm.MethodName)) ∈ lw_all := lw_g (lw_at lw_m4 184 rfl) rfl
theorem q1068 : (Jvm.Cond.code ({ cls := "AskingCourt$Case", name := "other", desc := "(LAskingCourt$Worlds;ILAskingCourt$Worlds;)I" } : Jvm.MethodName) prog_5_method_19_code (5 : Nat) (Option.some Jvm.ClassFile.FieldType.int)) ∈ lw_all := lw_g (lw_at lw_m4 185 rfl) rfl
theorem q1069 : (Jvm.Cond.methodLink "AskingCourt$Case" (124 : Nat) ({ cls := "AskingCourt$Case", name := "put", desc := "(IIIII)V" } : Jvm.MethodName)) ∈ lw_all := lw_g (lw_at lw_m4 186 rfl) rfl
theorem q1070 : (Jvm.Cond.privateMethod ({ cls := "AskingCourt$Case", name := "put", desc := "(IIIII)V" } : Jvm.MethodName)) ∈ lw_tbl := lw_at lw_m4 187 rfl
theorem q1071 : (Jvm.Cond.instanceMethod ({ cls := "AskingCourt$Case", name := "put", desc := "(IIIII)V" } : Jvm.MethodName)) ∈ lw_all := lw_g (lw_at lw_m4 188 rfl) rfl
theorem q1072 : (Jvm.Cond.code ({ cls := "AskingCourt$Case", name := "put", desc := "(IIIII)V" } : Jvm.MethodName) prog_5_method_15_code (6 : Nat) (Option.none : Option Jvm.ClassFile.FieldType)) ∈ lw_all := lw_g (lw_at lw_m4 189 rfl) rfl
theorem q1078 : (Jvm.Cond.instanceMethod ({ cls := "AskingCourt$Case", name := "possibleMany", desc := "()I" } : Jvm.MethodName)) ∈ lw_all := lw_g (lw_at lw_m4 195 rfl) rfl
theorem q1079 : (Jvm.Cond.selects "AskingCourt$Case" ({ cls := "AskingCourt$Case", name := "possibleMany", desc := "()I" } : Jvm.MethodName) ({ cls := "AskingCourt$Case", name := "possibleMany", desc := "()I" } : Jvm.MethodName)) ∈ lw_all := lw_g (lw_at lw_m4 196 rfl) rfl
theorem q1080 : (Jvm.Cond.code ({ cls := "AskingCourt$Case", name := "possibleMany", desc := "()I" } : Jvm.MethodName) prog_5_method_11_code (3 : Nat) (Option.some Jvm.ClassFile.FieldType.int)) ∈ lw_all := lw_g (lw_at lw_m4 197 rfl) rfl
theorem q1259 : (Jvm.Cond.instanceMethod ({ cls := "AskingCourt$Case", name := "answer", desc := "(IIII)I" } : Jvm.MethodName)) ∈ lw_all := lw_g (lw_at lw_m5 136 rfl) rfl
theorem q1260 : (Jvm.Cond.selects "AskingCourt$Case" ({ cls := "AskingCourt$Case", name := "answer", desc := "(IIII)I" } : Jvm.MethodName) ({ cls := "AskingCourt$Case", name := "answer", desc := "(IIII)I" } : Jvm.MethodName)) ∈ lw_all := lw_g (lw_at lw_m5 137 rfl) rfl
theorem q1261 : (Jvm.Cond.code ({ cls := "AskingCourt$Case", name := "answer", desc := "(IIII)I" } : Jvm.MethodName) prog_5_method_13_code (5 : Nat) (Option.some Jvm.ClassFile.FieldType.int)) ∈ lw_all := lw_g (lw_at lw_m5 138 rfl) rfl
theorem q1348 : (Jvm.Cond.instanceMethod ({ cls := "AskingCourt$Case", name := "weight", desc := "(I)J" } : Jvm.MethodName)) ∈ lw_all := lw_g (lw_at lw_m5 225 rfl) rfl
theorem q1349 : (Jvm.Cond.selects "AskingCourt$Case" ({ cls := "AskingCourt$Case", name := "weight", desc := "(I)J" } : Jvm.MethodName) ({ cls := "AskingCourt$Case", name := "weight", desc := "(I)J" } : Jvm.MethodName)) ∈ lw_all := lw_g (lw_at lw_m5 226 rfl) rfl
theorem q1350 : (Jvm.Cond.code ({ cls := "AskingCourt$Case", name := "weight", desc := "(I)J" } : Jvm.MethodName) prog_5_method_12_code (5 : Nat) (Option.some Jvm.ClassFile.FieldType.long)) ∈ lw_all := lw_g (lw_at lw_m5 227 rfl) rfl
theorem in_X5 : ∀ w ∈ wsX50, w ∈ lw_all := lw_in wsX50 [399, 401, 403, 405, 407, 409, 411, 413, 415, 417, 419, 421, 423, 425, 427, 429, 431, 433] (by decide +kernel) (by decide +kernel)
/-! AskingCourt$Record -/
set_option maxRecDepth 100000
def RX7 : String := "AskingCourt$Record"
def TX7 : u_T := fun k => match k with
  | 0 => ("AskingCourt$Record", "who", "[I", true)
  | 1 => ("AskingCourt$Record", "what", "[I", true)
  | 2 => ("AskingCourt$Record", "answer", "[I", true)
  | 3 => ("AskingCourt$Record", "days", "[I", true)
  | 4 => ("AskingCourt$Record", "many", "I", false)
  | _ => ("AskingCourt$Record", "day", "I", false)
def tyX7 : Nat → FieldType := fun k => match k with
  | 0 => .array .int
  | 1 => .array .int
  | 2 => .array .int
  | 3 => .array .int
  | 4 => .int
  | _ => .int
abbrev wsX70 : List Cond := u_ws RX7 TX7 6
theorem nmX7 : ∀ a, a < 6 → ∀ b, b < 6 → a ≠ b → (TX7 a).2.1 ≠ (TX7 b).2.1 := by decide +kernel
theorem tyX7_ok : ∀ k, k < 6 → parseFieldDescriptor (TX7 k).2.2.1 = some (tyX7 k) := by decide +kernel
abbrev cX7_init : ByteArray := prog_9_method_1_code
def yX7_init : MethodName := ⟨RX7, "<init>", "()V"⟩
def dkwX7_init_1 : List UInt8 := [188, 10, 181, 0, 18, 42, 16, 12, 188, 10, 181, 0, 21, 177]
abbrev dktX7_init_1 : List UInt8 := dkwX7_init_1 ++ []
def dkwX7_init_0 : List UInt8 := [42, 183, 0, 3, 42, 16, 12, 188, 10, 181, 0, 9, 42, 16, 12, 188, 10, 181, 0, 15, 42, 16, 12]
abbrev dktX7_init_0 : List UInt8 := dkwX7_init_0 ++ dktX7_init_1
theorem dksX7_init_0 : cX7_init.data.toList.drop 0 = dktX7_init_0 := by decide +kernel
theorem dksX7_init_1 : cX7_init.data.toList.drop 23 = dktX7_init_1 := dk_seg dksX7_init_0 23 rfl rfl
theorem dX7_init_0 : decode cX7_init 0 = .ok (.aload_n 0, 1) := dk_42 (dk_at dksX7_init_0 0 rfl rfl)
theorem dX7_init_1 : decode cX7_init 1 = .ok (.invokespecial 3, 3) := dk_183 0 3 (dk_at dksX7_init_0 1 rfl rfl)
theorem dX7_init_4 : decode cX7_init 4 = .ok (.aload_n 0, 1) := dk_42 (dk_at dksX7_init_0 4 rfl rfl)
theorem dX7_init_5 : decode cX7_init 5 = .ok (.bipush 12, 2) := dk_16 12 (dk_at dksX7_init_0 5 rfl rfl)
theorem dX7_init_7 : decode cX7_init 7 = .ok (.newarray .int, 2) := dk_188_10 (dk_at dksX7_init_0 7 rfl rfl)
theorem dX7_init_9 : decode cX7_init 9 = .ok (.putfield 9, 3) := dk_181 0 9 (dk_at dksX7_init_0 9 rfl rfl)
theorem dX7_init_12 : decode cX7_init 12 = .ok (.aload_n 0, 1) := dk_42 (dk_at dksX7_init_0 12 rfl rfl)
theorem dX7_init_13 : decode cX7_init 13 = .ok (.bipush 12, 2) := dk_16 12 (dk_at dksX7_init_0 13 rfl rfl)
theorem dX7_init_15 : decode cX7_init 15 = .ok (.newarray .int, 2) := dk_188_10 (dk_at dksX7_init_0 15 rfl rfl)
theorem dX7_init_17 : decode cX7_init 17 = .ok (.putfield 15, 3) := dk_181 0 15 (dk_at dksX7_init_0 17 rfl rfl)
theorem dX7_init_20 : decode cX7_init 20 = .ok (.aload_n 0, 1) := dk_42 (dk_at dksX7_init_0 20 rfl rfl)
theorem dX7_init_21 : decode cX7_init 21 = .ok (.bipush 12, 2) := dk_16 12 (dk_at dksX7_init_0 21 rfl rfl)
theorem dX7_init_23 : decode cX7_init 23 = .ok (.newarray .int, 2) := dk_188_10 (dk_at dksX7_init_1 0 rfl rfl)
theorem dX7_init_25 : decode cX7_init 25 = .ok (.putfield 18, 3) := dk_181 0 18 (dk_at dksX7_init_1 2 rfl rfl)
theorem dX7_init_28 : decode cX7_init 28 = .ok (.aload_n 0, 1) := dk_42 (dk_at dksX7_init_1 5 rfl rfl)
theorem dX7_init_29 : decode cX7_init 29 = .ok (.bipush 12, 2) := dk_16 12 (dk_at dksX7_init_1 6 rfl rfl)
theorem dX7_init_31 : decode cX7_init 31 = .ok (.newarray .int, 2) := dk_188_10 (dk_at dksX7_init_1 8 rfl rfl)
theorem dX7_init_33 : decode cX7_init 33 = .ok (.putfield 21, 3) := dk_181 0 21 (dk_at dksX7_init_1 10 rfl rfl)
theorem dX7_init_36 : decode cX7_init 36 = .ok (.return_, 1) := dk_177 (dk_at dksX7_init_1 13 rfl rfl)
abbrev cX7_clear : ByteArray := prog_9_method_2_code
def yX7_clear : MethodName := ⟨RX7, "clear", "()V"⟩
def dkwX7_clear_0 : List UInt8 := [42, 3, 181, 0, 24, 42, 3, 181, 0, 28, 177]
abbrev dktX7_clear_0 : List UInt8 := dkwX7_clear_0 ++ []
theorem dksX7_clear_0 : cX7_clear.data.toList.drop 0 = dktX7_clear_0 := by decide +kernel
theorem dX7_clear_0 : decode cX7_clear 0 = .ok (.aload_n 0, 1) := dk_42 (dk_at dksX7_clear_0 0 rfl rfl)
theorem dX7_clear_1 : decode cX7_clear 1 = .ok (.iconst 0, 1) := dk_3 (dk_at dksX7_clear_0 1 rfl rfl)
theorem dX7_clear_2 : decode cX7_clear 2 = .ok (.putfield 24, 3) := dk_181 0 24 (dk_at dksX7_clear_0 2 rfl rfl)
theorem dX7_clear_5 : decode cX7_clear 5 = .ok (.aload_n 0, 1) := dk_42 (dk_at dksX7_clear_0 5 rfl rfl)
theorem dX7_clear_6 : decode cX7_clear 6 = .ok (.iconst 0, 1) := dk_3 (dk_at dksX7_clear_0 6 rfl rfl)
theorem dX7_clear_7 : decode cX7_clear 7 = .ok (.putfield 28, 3) := dk_181 0 28 (dk_at dksX7_clear_0 7 rfl rfl)
theorem dX7_clear_10 : decode cX7_clear 10 = .ok (.return_, 1) := dk_177 (dk_at dksX7_clear_0 10 rfl rfl)
abbrev cX7_putToday : ByteArray := prog_9_method_5_code
def yX7_putToday : MethodName := ⟨RX7, "putToday", "()I"⟩
def dkwX7_putToday_1 : List UInt8 := [160, 0, 7, 4, 167, 0, 4, 3, 96, 60, 132, 2, 1, 167, 255, 224, 27, 172]
abbrev dktX7_putToday_1 : List UInt8 := dkwX7_putToday_1 ++ []
def dkwX7_putToday_0 : List UInt8 := [3, 60, 3, 61, 28, 42, 180, 0, 24, 162, 0, 30, 27, 42, 180, 0, 21, 28, 46, 42, 180, 0, 28]
abbrev dktX7_putToday_0 : List UInt8 := dkwX7_putToday_0 ++ dktX7_putToday_1
theorem dksX7_putToday_0 : cX7_putToday.data.toList.drop 0 = dktX7_putToday_0 := by decide +kernel
theorem dksX7_putToday_1 : cX7_putToday.data.toList.drop 23 = dktX7_putToday_1 := dk_seg dksX7_putToday_0 23 rfl rfl
theorem dX7_putToday_0 : decode cX7_putToday 0 = .ok (.iconst 0, 1) := dk_3 (dk_at dksX7_putToday_0 0 rfl rfl)
theorem dX7_putToday_1 : decode cX7_putToday 1 = .ok (.istore_n 1, 1) := dk_60 (dk_at dksX7_putToday_0 1 rfl rfl)
theorem dX7_putToday_2 : decode cX7_putToday 2 = .ok (.iconst 0, 1) := dk_3 (dk_at dksX7_putToday_0 2 rfl rfl)
theorem dX7_putToday_3 : decode cX7_putToday 3 = .ok (.istore_n 2, 1) := dk_61 (dk_at dksX7_putToday_0 3 rfl rfl)
theorem dX7_putToday_4 : decode cX7_putToday 4 = .ok (.iload_n 2, 1) := dk_28 (dk_at dksX7_putToday_0 4 rfl rfl)
theorem dX7_putToday_5 : decode cX7_putToday 5 = .ok (.aload_n 0, 1) := dk_42 (dk_at dksX7_putToday_0 5 rfl rfl)
theorem dX7_putToday_6 : decode cX7_putToday 6 = .ok (.getfield 24, 3) := dk_180 0 24 (dk_at dksX7_putToday_0 6 rfl rfl)
theorem dX7_putToday_9 : decode cX7_putToday 9 = .ok (.if_icmp .ge 30, 3) := dk_162 0 30 (dk_at dksX7_putToday_0 9 rfl rfl)
theorem dX7_putToday_12 : decode cX7_putToday 12 = .ok (.iload_n 1, 1) := dk_27 (dk_at dksX7_putToday_0 12 rfl rfl)
theorem dX7_putToday_13 : decode cX7_putToday 13 = .ok (.aload_n 0, 1) := dk_42 (dk_at dksX7_putToday_0 13 rfl rfl)
theorem dX7_putToday_14 : decode cX7_putToday 14 = .ok (.getfield 21, 3) := dk_180 0 21 (dk_at dksX7_putToday_0 14 rfl rfl)
theorem dX7_putToday_17 : decode cX7_putToday 17 = .ok (.iload_n 2, 1) := dk_28 (dk_at dksX7_putToday_0 17 rfl rfl)
theorem dX7_putToday_18 : decode cX7_putToday 18 = .ok (.iaload, 1) := dk_46 (dk_at dksX7_putToday_0 18 rfl rfl)
theorem dX7_putToday_19 : decode cX7_putToday 19 = .ok (.aload_n 0, 1) := dk_42 (dk_at dksX7_putToday_0 19 rfl rfl)
theorem dX7_putToday_20 : decode cX7_putToday 20 = .ok (.getfield 28, 3) := dk_180 0 28 (dk_at dksX7_putToday_0 20 rfl rfl)
theorem dX7_putToday_23 : decode cX7_putToday 23 = .ok (.if_icmp .ne 7, 3) := dk_160 0 7 (dk_at dksX7_putToday_1 0 rfl rfl)
theorem dX7_putToday_26 : decode cX7_putToday 26 = .ok (.iconst 1, 1) := dk_4 (dk_at dksX7_putToday_1 3 rfl rfl)
theorem dX7_putToday_27 : decode cX7_putToday 27 = .ok (.goto 4, 3) := dk_167 0 4 (dk_at dksX7_putToday_1 4 rfl rfl)
theorem dX7_putToday_30 : decode cX7_putToday 30 = .ok (.iconst 0, 1) := dk_3 (dk_at dksX7_putToday_1 7 rfl rfl)
theorem dX7_putToday_31 : decode cX7_putToday 31 = .ok (.iadd, 1) := dk_96 (dk_at dksX7_putToday_1 8 rfl rfl)
theorem dX7_putToday_32 : decode cX7_putToday 32 = .ok (.istore_n 1, 1) := dk_60 (dk_at dksX7_putToday_1 9 rfl rfl)
theorem dX7_putToday_33 : decode cX7_putToday 33 = .ok (.iinc 2 1, 3) := dk_132 2 1 (dk_at dksX7_putToday_1 10 rfl rfl)
theorem dX7_putToday_36 : decode cX7_putToday 36 = .ok (.goto (-32), 3) := dk_167 255 224 (dk_at dksX7_putToday_1 13 rfl rfl)
theorem dX7_putToday_39 : decode cX7_putToday 39 = .ok (.iload_n 1, 1) := dk_27 (dk_at dksX7_putToday_1 16 rfl rfl)
theorem dX7_putToday_40 : decode cX7_putToday 40 = .ok (.ireturn, 1) := dk_172 (dk_at dksX7_putToday_1 17 rfl rfl)
abbrev cX7_wasPut : ByteArray := prog_9_method_4_code
def yX7_wasPut : MethodName := ⟨RX7, "wasPut", "(I)Z"⟩
def dkwX7_wasPut_1 : List UInt8 := [132, 2, 1, 167, 255, 233, 3, 172]
abbrev dktX7_wasPut_1 : List UInt8 := dkwX7_wasPut_1 ++ []
def dkwX7_wasPut_0 : List UInt8 := [3, 61, 28, 42, 180, 0, 24, 162, 0, 21, 42, 180, 0, 15, 28, 46, 27, 160, 0, 5, 4, 172]
abbrev dktX7_wasPut_0 : List UInt8 := dkwX7_wasPut_0 ++ dktX7_wasPut_1
theorem dksX7_wasPut_0 : cX7_wasPut.data.toList.drop 0 = dktX7_wasPut_0 := by decide +kernel
theorem dksX7_wasPut_1 : cX7_wasPut.data.toList.drop 22 = dktX7_wasPut_1 := dk_seg dksX7_wasPut_0 22 rfl rfl
theorem dX7_wasPut_0 : decode cX7_wasPut 0 = .ok (.iconst 0, 1) := dk_3 (dk_at dksX7_wasPut_0 0 rfl rfl)
theorem dX7_wasPut_1 : decode cX7_wasPut 1 = .ok (.istore_n 2, 1) := dk_61 (dk_at dksX7_wasPut_0 1 rfl rfl)
theorem dX7_wasPut_2 : decode cX7_wasPut 2 = .ok (.iload_n 2, 1) := dk_28 (dk_at dksX7_wasPut_0 2 rfl rfl)
theorem dX7_wasPut_3 : decode cX7_wasPut 3 = .ok (.aload_n 0, 1) := dk_42 (dk_at dksX7_wasPut_0 3 rfl rfl)
theorem dX7_wasPut_4 : decode cX7_wasPut 4 = .ok (.getfield 24, 3) := dk_180 0 24 (dk_at dksX7_wasPut_0 4 rfl rfl)
theorem dX7_wasPut_7 : decode cX7_wasPut 7 = .ok (.if_icmp .ge 21, 3) := dk_162 0 21 (dk_at dksX7_wasPut_0 7 rfl rfl)
theorem dX7_wasPut_10 : decode cX7_wasPut 10 = .ok (.aload_n 0, 1) := dk_42 (dk_at dksX7_wasPut_0 10 rfl rfl)
theorem dX7_wasPut_11 : decode cX7_wasPut 11 = .ok (.getfield 15, 3) := dk_180 0 15 (dk_at dksX7_wasPut_0 11 rfl rfl)
theorem dX7_wasPut_14 : decode cX7_wasPut 14 = .ok (.iload_n 2, 1) := dk_28 (dk_at dksX7_wasPut_0 14 rfl rfl)
theorem dX7_wasPut_15 : decode cX7_wasPut 15 = .ok (.iaload, 1) := dk_46 (dk_at dksX7_wasPut_0 15 rfl rfl)
theorem dX7_wasPut_16 : decode cX7_wasPut 16 = .ok (.iload_n 1, 1) := dk_27 (dk_at dksX7_wasPut_0 16 rfl rfl)
theorem dX7_wasPut_17 : decode cX7_wasPut 17 = .ok (.if_icmp .ne 5, 3) := dk_160 0 5 (dk_at dksX7_wasPut_0 17 rfl rfl)
theorem dX7_wasPut_20 : decode cX7_wasPut 20 = .ok (.iconst 1, 1) := dk_4 (dk_at dksX7_wasPut_0 20 rfl rfl)
theorem dX7_wasPut_21 : decode cX7_wasPut 21 = .ok (.ireturn, 1) := dk_172 (dk_at dksX7_wasPut_0 21 rfl rfl)
theorem dX7_wasPut_22 : decode cX7_wasPut 22 = .ok (.iinc 2 1, 3) := dk_132 2 1 (dk_at dksX7_wasPut_1 0 rfl rfl)
theorem dX7_wasPut_25 : decode cX7_wasPut 25 = .ok (.goto (-23), 3) := dk_167 255 233 (dk_at dksX7_wasPut_1 3 rfl rfl)
theorem dX7_wasPut_28 : decode cX7_wasPut 28 = .ok (.iconst 0, 1) := dk_3 (dk_at dksX7_wasPut_1 6 rfl rfl)
theorem dX7_wasPut_29 : decode cX7_wasPut 29 = .ok (.ireturn, 1) := dk_172 (dk_at dksX7_wasPut_1 7 rfl rfl)
abbrev cX7_hear : ByteArray := prog_9_method_6_code
def yX7_hear : MethodName := ⟨RX7, "hear", "(III)V"⟩
def dkwX7_hear_2 : List UInt8 := [4, 96, 181, 0, 24, 177]
abbrev dktX7_hear_2 : List UInt8 := dkwX7_hear_2 ++ []
def dkwX7_hear_1 : List UInt8 := [42, 180, 0, 24, 29, 79, 42, 180, 0, 21, 42, 180, 0, 24, 42, 180, 0, 28, 79, 42, 89, 180, 0, 24]
abbrev dktX7_hear_1 : List UInt8 := dkwX7_hear_1 ++ dktX7_hear_2
def dkwX7_hear_0 : List UInt8 := [42, 180, 0, 9, 42, 180, 0, 24, 27, 79, 42, 180, 0, 15, 42, 180, 0, 24, 28, 79, 42, 180, 0, 18]
abbrev dktX7_hear_0 : List UInt8 := dkwX7_hear_0 ++ dktX7_hear_1
theorem dksX7_hear_0 : cX7_hear.data.toList.drop 0 = dktX7_hear_0 := by decide +kernel
theorem dksX7_hear_1 : cX7_hear.data.toList.drop 24 = dktX7_hear_1 := dk_seg dksX7_hear_0 24 rfl rfl
theorem dksX7_hear_2 : cX7_hear.data.toList.drop 48 = dktX7_hear_2 := dk_seg dksX7_hear_1 24 rfl rfl
theorem dX7_hear_0 : decode cX7_hear 0 = .ok (.aload_n 0, 1) := dk_42 (dk_at dksX7_hear_0 0 rfl rfl)
theorem dX7_hear_1 : decode cX7_hear 1 = .ok (.getfield 9, 3) := dk_180 0 9 (dk_at dksX7_hear_0 1 rfl rfl)
theorem dX7_hear_4 : decode cX7_hear 4 = .ok (.aload_n 0, 1) := dk_42 (dk_at dksX7_hear_0 4 rfl rfl)
theorem dX7_hear_5 : decode cX7_hear 5 = .ok (.getfield 24, 3) := dk_180 0 24 (dk_at dksX7_hear_0 5 rfl rfl)
theorem dX7_hear_8 : decode cX7_hear 8 = .ok (.iload_n 1, 1) := dk_27 (dk_at dksX7_hear_0 8 rfl rfl)
theorem dX7_hear_9 : decode cX7_hear 9 = .ok (.iastore, 1) := dk_79 (dk_at dksX7_hear_0 9 rfl rfl)
theorem dX7_hear_10 : decode cX7_hear 10 = .ok (.aload_n 0, 1) := dk_42 (dk_at dksX7_hear_0 10 rfl rfl)
theorem dX7_hear_11 : decode cX7_hear 11 = .ok (.getfield 15, 3) := dk_180 0 15 (dk_at dksX7_hear_0 11 rfl rfl)
theorem dX7_hear_14 : decode cX7_hear 14 = .ok (.aload_n 0, 1) := dk_42 (dk_at dksX7_hear_0 14 rfl rfl)
theorem dX7_hear_15 : decode cX7_hear 15 = .ok (.getfield 24, 3) := dk_180 0 24 (dk_at dksX7_hear_0 15 rfl rfl)
theorem dX7_hear_18 : decode cX7_hear 18 = .ok (.iload_n 2, 1) := dk_28 (dk_at dksX7_hear_0 18 rfl rfl)
theorem dX7_hear_19 : decode cX7_hear 19 = .ok (.iastore, 1) := dk_79 (dk_at dksX7_hear_0 19 rfl rfl)
theorem dX7_hear_20 : decode cX7_hear 20 = .ok (.aload_n 0, 1) := dk_42 (dk_at dksX7_hear_0 20 rfl rfl)
theorem dX7_hear_21 : decode cX7_hear 21 = .ok (.getfield 18, 3) := dk_180 0 18 (dk_at dksX7_hear_0 21 rfl rfl)
theorem dX7_hear_24 : decode cX7_hear 24 = .ok (.aload_n 0, 1) := dk_42 (dk_at dksX7_hear_1 0 rfl rfl)
theorem dX7_hear_25 : decode cX7_hear 25 = .ok (.getfield 24, 3) := dk_180 0 24 (dk_at dksX7_hear_1 1 rfl rfl)
theorem dX7_hear_28 : decode cX7_hear 28 = .ok (.iload_n 3, 1) := dk_29 (dk_at dksX7_hear_1 4 rfl rfl)
theorem dX7_hear_29 : decode cX7_hear 29 = .ok (.iastore, 1) := dk_79 (dk_at dksX7_hear_1 5 rfl rfl)
theorem dX7_hear_30 : decode cX7_hear 30 = .ok (.aload_n 0, 1) := dk_42 (dk_at dksX7_hear_1 6 rfl rfl)
theorem dX7_hear_31 : decode cX7_hear 31 = .ok (.getfield 21, 3) := dk_180 0 21 (dk_at dksX7_hear_1 7 rfl rfl)
theorem dX7_hear_34 : decode cX7_hear 34 = .ok (.aload_n 0, 1) := dk_42 (dk_at dksX7_hear_1 10 rfl rfl)
theorem dX7_hear_35 : decode cX7_hear 35 = .ok (.getfield 24, 3) := dk_180 0 24 (dk_at dksX7_hear_1 11 rfl rfl)
theorem dX7_hear_38 : decode cX7_hear 38 = .ok (.aload_n 0, 1) := dk_42 (dk_at dksX7_hear_1 14 rfl rfl)
theorem dX7_hear_39 : decode cX7_hear 39 = .ok (.getfield 28, 3) := dk_180 0 28 (dk_at dksX7_hear_1 15 rfl rfl)
theorem dX7_hear_42 : decode cX7_hear 42 = .ok (.iastore, 1) := dk_79 (dk_at dksX7_hear_1 18 rfl rfl)
theorem dX7_hear_43 : decode cX7_hear 43 = .ok (.aload_n 0, 1) := dk_42 (dk_at dksX7_hear_1 19 rfl rfl)
theorem dX7_hear_44 : decode cX7_hear 44 = .ok (.dup, 1) := dk_89 (dk_at dksX7_hear_1 20 rfl rfl)
theorem dX7_hear_45 : decode cX7_hear 45 = .ok (.getfield 24, 3) := dk_180 0 24 (dk_at dksX7_hear_1 21 rfl rfl)
theorem dX7_hear_48 : decode cX7_hear 48 = .ok (.iconst 1, 1) := dk_4 (dk_at dksX7_hear_2 0 rfl rfl)
theorem dX7_hear_49 : decode cX7_hear 49 = .ok (.iadd, 1) := dk_96 (dk_at dksX7_hear_2 1 rfl rfl)
theorem dX7_hear_50 : decode cX7_hear 50 = .ok (.putfield 24, 3) := dk_181 0 24 (dk_at dksX7_hear_2 2 rfl rfl)
theorem dX7_hear_53 : decode cX7_hear 53 = .ok (.return_, 1) := dk_177 (dk_at dksX7_hear_2 5 rfl rfl)
abbrev cX7_all : ByteArray := prog_9_method_8_code
def yX7_all : MethodName := ⟨RX7, "all", "()I"⟩
def dkwX7_all_0 : List UInt8 := [4, 42, 180, 0, 24, 120, 4, 100, 172]
abbrev dktX7_all_0 : List UInt8 := dkwX7_all_0 ++ []
theorem dksX7_all_0 : cX7_all.data.toList.drop 0 = dktX7_all_0 := by decide +kernel
theorem dX7_all_0 : decode cX7_all 0 = .ok (.iconst 1, 1) := dk_4 (dk_at dksX7_all_0 0 rfl rfl)
theorem dX7_all_1 : decode cX7_all 1 = .ok (.aload_n 0, 1) := dk_42 (dk_at dksX7_all_0 1 rfl rfl)
theorem dX7_all_2 : decode cX7_all 2 = .ok (.getfield 24, 3) := dk_180 0 24 (dk_at dksX7_all_0 2 rfl rfl)
theorem dX7_all_5 : decode cX7_all 5 = .ok (.ishl, 1) := dk_120 (dk_at dksX7_all_0 5 rfl rfl)
theorem dX7_all_6 : decode cX7_all 6 = .ok (.iconst 1, 1) := dk_4 (dk_at dksX7_all_0 6 rfl rfl)
theorem dX7_all_7 : decode cX7_all 7 = .ok (.isub, 1) := dk_100 (dk_at dksX7_all_0 7 rfl rfl)
theorem dX7_all_8 : decode cX7_all 8 = .ok (.ireturn, 1) := dk_172 (dk_at dksX7_all_0 8 rfl rfl)
abbrev cX7_left : ByteArray := prog_9_method_10_code
def yX7_left : MethodName := ⟨RX7, "left", "(LAskingCourt$Case;I)I"⟩
def dkwX7_left_1 : List UInt8 := [153, 0, 7, 4, 167, 0, 4, 3, 96, 62, 132, 4, 1, 167, 255, 225, 29, 172]
abbrev dktX7_left_1 : List UInt8 := dkwX7_left_1 ++ []
def dkwX7_left_0 : List UInt8 := [3, 62, 3, 54, 4, 21, 4, 43, 180, 0, 67, 162, 0, 28, 29, 42, 43, 21, 4, 28, 182, 0, 70]
abbrev dktX7_left_0 : List UInt8 := dkwX7_left_0 ++ dktX7_left_1
theorem dksX7_left_0 : cX7_left.data.toList.drop 0 = dktX7_left_0 := by decide +kernel
theorem dksX7_left_1 : cX7_left.data.toList.drop 23 = dktX7_left_1 := dk_seg dksX7_left_0 23 rfl rfl
theorem dX7_left_0 : decode cX7_left 0 = .ok (.iconst 0, 1) := dk_3 (dk_at dksX7_left_0 0 rfl rfl)
theorem dX7_left_1 : decode cX7_left 1 = .ok (.istore_n 3, 1) := dk_62 (dk_at dksX7_left_0 1 rfl rfl)
theorem dX7_left_2 : decode cX7_left 2 = .ok (.iconst 0, 1) := dk_3 (dk_at dksX7_left_0 2 rfl rfl)
theorem dX7_left_3 : decode cX7_left 3 = .ok (.istore 4, 2) := dk_54 4 (dk_at dksX7_left_0 3 rfl rfl)
theorem dX7_left_5 : decode cX7_left 5 = .ok (.iload 4, 2) := dk_21 4 (dk_at dksX7_left_0 5 rfl rfl)
theorem dX7_left_7 : decode cX7_left 7 = .ok (.aload_n 1, 1) := dk_43 (dk_at dksX7_left_0 7 rfl rfl)
theorem dX7_left_8 : decode cX7_left 8 = .ok (.getfield 67, 3) := dk_180 0 67 (dk_at dksX7_left_0 8 rfl rfl)
theorem dX7_left_11 : decode cX7_left 11 = .ok (.if_icmp .ge 28, 3) := dk_162 0 28 (dk_at dksX7_left_0 11 rfl rfl)
theorem dX7_left_14 : decode cX7_left 14 = .ok (.iload_n 3, 1) := dk_29 (dk_at dksX7_left_0 14 rfl rfl)
theorem dX7_left_15 : decode cX7_left 15 = .ok (.aload_n 0, 1) := dk_42 (dk_at dksX7_left_0 15 rfl rfl)
theorem dX7_left_16 : decode cX7_left 16 = .ok (.aload_n 1, 1) := dk_43 (dk_at dksX7_left_0 16 rfl rfl)
theorem dX7_left_17 : decode cX7_left 17 = .ok (.iload 4, 2) := dk_21 4 (dk_at dksX7_left_0 17 rfl rfl)
theorem dX7_left_19 : decode cX7_left 19 = .ok (.iload_n 2, 1) := dk_28 (dk_at dksX7_left_0 19 rfl rfl)
theorem dX7_left_20 : decode cX7_left 20 = .ok (.invokevirtual 70, 3) := dk_182 0 70 (dk_at dksX7_left_0 20 rfl rfl)
theorem dX7_left_23 : decode cX7_left 23 = .ok (.ifCond .eq 7, 3) := dk_153 0 7 (dk_at dksX7_left_1 0 rfl rfl)
theorem dX7_left_26 : decode cX7_left 26 = .ok (.iconst 1, 1) := dk_4 (dk_at dksX7_left_1 3 rfl rfl)
theorem dX7_left_27 : decode cX7_left 27 = .ok (.goto 4, 3) := dk_167 0 4 (dk_at dksX7_left_1 4 rfl rfl)
theorem dX7_left_30 : decode cX7_left 30 = .ok (.iconst 0, 1) := dk_3 (dk_at dksX7_left_1 7 rfl rfl)
theorem dX7_left_31 : decode cX7_left 31 = .ok (.iadd, 1) := dk_96 (dk_at dksX7_left_1 8 rfl rfl)
theorem dX7_left_32 : decode cX7_left 32 = .ok (.istore_n 3, 1) := dk_62 (dk_at dksX7_left_1 9 rfl rfl)
theorem dX7_left_33 : decode cX7_left 33 = .ok (.iinc 4 1, 3) := dk_132 4 1 (dk_at dksX7_left_1 10 rfl rfl)
theorem dX7_left_36 : decode cX7_left 36 = .ok (.goto (-31), 3) := dk_167 255 225 (dk_at dksX7_left_1 13 rfl rfl)
theorem dX7_left_39 : decode cX7_left 39 = .ok (.iload_n 3, 1) := dk_29 (dk_at dksX7_left_1 16 rfl rfl)
theorem dX7_left_40 : decode cX7_left 40 = .ok (.ireturn, 1) := dk_172 (dk_at dksX7_left_1 17 rfl rfl)
abbrev cX7_isLeft : ByteArray := prog_9_method_9_code
def yX7_isLeft : MethodName := ⟨RX7, "isLeft", "(LAskingCourt$Case;II)Z"⟩
def dkwX7_isLeft_2 : List UInt8 := [154, 0, 5, 3, 172, 132, 4, 1, 167, 255, 219, 4, 172]
abbrev dktX7_isLeft_2 : List UInt8 := dkwX7_isLeft_2 ++ []
def dkwX7_isLeft_1 : List UInt8 := [162, 0, 34, 42, 43, 21, 4, 28, 29, 182, 0, 53, 43, 180, 0, 57, 21, 4, 50, 182, 0, 61, 126]
abbrev dktX7_isLeft_1 : List UInt8 := dkwX7_isLeft_1 ++ dktX7_isLeft_2
def dkwX7_isLeft_0 : List UInt8 := [43, 180, 0, 42, 28, 182, 0, 46, 154, 0, 5, 3, 172, 3, 54, 4, 21, 4, 43, 180, 0, 52]
abbrev dktX7_isLeft_0 : List UInt8 := dkwX7_isLeft_0 ++ dktX7_isLeft_1
theorem dksX7_isLeft_0 : cX7_isLeft.data.toList.drop 0 = dktX7_isLeft_0 := by decide +kernel
theorem dksX7_isLeft_1 : cX7_isLeft.data.toList.drop 22 = dktX7_isLeft_1 := dk_seg dksX7_isLeft_0 22 rfl rfl
theorem dksX7_isLeft_2 : cX7_isLeft.data.toList.drop 45 = dktX7_isLeft_2 := dk_seg dksX7_isLeft_1 23 rfl rfl
theorem dX7_isLeft_0 : decode cX7_isLeft 0 = .ok (.aload_n 1, 1) := dk_43 (dk_at dksX7_isLeft_0 0 rfl rfl)
theorem dX7_isLeft_1 : decode cX7_isLeft 1 = .ok (.getfield 42, 3) := dk_180 0 42 (dk_at dksX7_isLeft_0 1 rfl rfl)
theorem dX7_isLeft_4 : decode cX7_isLeft 4 = .ok (.iload_n 2, 1) := dk_28 (dk_at dksX7_isLeft_0 4 rfl rfl)
theorem dX7_isLeft_5 : decode cX7_isLeft 5 = .ok (.invokevirtual 46, 3) := dk_182 0 46 (dk_at dksX7_isLeft_0 5 rfl rfl)
theorem dX7_isLeft_8 : decode cX7_isLeft 8 = .ok (.ifCond .ne 5, 3) := dk_154 0 5 (dk_at dksX7_isLeft_0 8 rfl rfl)
theorem dX7_isLeft_11 : decode cX7_isLeft 11 = .ok (.iconst 0, 1) := dk_3 (dk_at dksX7_isLeft_0 11 rfl rfl)
theorem dX7_isLeft_12 : decode cX7_isLeft 12 = .ok (.ireturn, 1) := dk_172 (dk_at dksX7_isLeft_0 12 rfl rfl)
theorem dX7_isLeft_13 : decode cX7_isLeft 13 = .ok (.iconst 0, 1) := dk_3 (dk_at dksX7_isLeft_0 13 rfl rfl)
theorem dX7_isLeft_14 : decode cX7_isLeft 14 = .ok (.istore 4, 2) := dk_54 4 (dk_at dksX7_isLeft_0 14 rfl rfl)
theorem dX7_isLeft_16 : decode cX7_isLeft 16 = .ok (.iload 4, 2) := dk_21 4 (dk_at dksX7_isLeft_0 16 rfl rfl)
theorem dX7_isLeft_18 : decode cX7_isLeft 18 = .ok (.aload_n 1, 1) := dk_43 (dk_at dksX7_isLeft_0 18 rfl rfl)
theorem dX7_isLeft_19 : decode cX7_isLeft 19 = .ok (.getfield 52, 3) := dk_180 0 52 (dk_at dksX7_isLeft_0 19 rfl rfl)
theorem dX7_isLeft_22 : decode cX7_isLeft 22 = .ok (.if_icmp .ge 34, 3) := dk_162 0 34 (dk_at dksX7_isLeft_1 0 rfl rfl)
theorem dX7_isLeft_25 : decode cX7_isLeft 25 = .ok (.aload_n 0, 1) := dk_42 (dk_at dksX7_isLeft_1 3 rfl rfl)
theorem dX7_isLeft_26 : decode cX7_isLeft 26 = .ok (.aload_n 1, 1) := dk_43 (dk_at dksX7_isLeft_1 4 rfl rfl)
theorem dX7_isLeft_27 : decode cX7_isLeft 27 = .ok (.iload 4, 2) := dk_21 4 (dk_at dksX7_isLeft_1 5 rfl rfl)
theorem dX7_isLeft_29 : decode cX7_isLeft 29 = .ok (.iload_n 2, 1) := dk_28 (dk_at dksX7_isLeft_1 7 rfl rfl)
theorem dX7_isLeft_30 : decode cX7_isLeft 30 = .ok (.iload_n 3, 1) := dk_29 (dk_at dksX7_isLeft_1 8 rfl rfl)
theorem dX7_isLeft_31 : decode cX7_isLeft 31 = .ok (.invokevirtual 53, 3) := dk_182 0 53 (dk_at dksX7_isLeft_1 9 rfl rfl)
theorem dX7_isLeft_34 : decode cX7_isLeft 34 = .ok (.aload_n 1, 1) := dk_43 (dk_at dksX7_isLeft_1 12 rfl rfl)
theorem dX7_isLeft_35 : decode cX7_isLeft 35 = .ok (.getfield 57, 3) := dk_180 0 57 (dk_at dksX7_isLeft_1 13 rfl rfl)
theorem dX7_isLeft_38 : decode cX7_isLeft 38 = .ok (.iload 4, 2) := dk_21 4 (dk_at dksX7_isLeft_1 16 rfl rfl)
theorem dX7_isLeft_40 : decode cX7_isLeft 40 = .ok (.aaload, 1) := dk_50 (dk_at dksX7_isLeft_1 18 rfl rfl)
theorem dX7_isLeft_41 : decode cX7_isLeft 41 = .ok (.invokevirtual 61, 3) := dk_182 0 61 (dk_at dksX7_isLeft_1 19 rfl rfl)
theorem dX7_isLeft_44 : decode cX7_isLeft 44 = .ok (.iand, 1) := dk_126 (dk_at dksX7_isLeft_1 22 rfl rfl)
theorem dX7_isLeft_45 : decode cX7_isLeft 45 = .ok (.ifCond .ne 5, 3) := dk_154 0 5 (dk_at dksX7_isLeft_2 0 rfl rfl)
theorem dX7_isLeft_48 : decode cX7_isLeft 48 = .ok (.iconst 0, 1) := dk_3 (dk_at dksX7_isLeft_2 3 rfl rfl)
theorem dX7_isLeft_49 : decode cX7_isLeft 49 = .ok (.ireturn, 1) := dk_172 (dk_at dksX7_isLeft_2 4 rfl rfl)
theorem dX7_isLeft_50 : decode cX7_isLeft 50 = .ok (.iinc 4 1, 3) := dk_132 4 1 (dk_at dksX7_isLeft_2 5 rfl rfl)
theorem dX7_isLeft_53 : decode cX7_isLeft 53 = .ok (.goto (-37), 3) := dk_167 255 219 (dk_at dksX7_isLeft_2 8 rfl rfl)
theorem dX7_isLeft_56 : decode cX7_isLeft 56 = .ok (.iconst 1, 1) := dk_4 (dk_at dksX7_isLeft_2 11 rfl rfl)
theorem dX7_isLeft_57 : decode cX7_isLeft 57 = .ok (.ireturn, 1) := dk_172 (dk_at dksX7_isLeft_2 12 rfl rfl)
abbrev cX7_fits : ByteArray := prog_9_method_7_code
def yX7_fits : MethodName := ⟨RX7, "fits", "(LAskingCourt$Case;III)I"⟩
def dkwX7_fits_4 : List UInt8 := [167, 255, 169, 21, 5, 172]
abbrev dktX7_fits_4 : List UInt8 := dkwX7_fits_4 ++ []
def dkwX7_fits_3 : List UInt8 := [46, 159, 0, 14, 21, 5, 4, 21, 7, 120, 2, 130, 126, 54, 5, 132, 7, 1, 167, 255, 211, 132, 6, 1]
abbrev dktX7_fits_3 : List UInt8 := dkwX7_fits_3 ++ dktX7_fits_4
def dkwX7_fits_2 : List UInt8 := [162, 0, 45, 43, 28, 21, 7, 42, 180, 0, 15, 21, 6, 46, 29, 182, 0, 37, 42, 180, 0, 18, 21, 6]
abbrev dktX7_fits_2 : List UInt8 := dkwX7_fits_2 ++ dktX7_fits_3
def dkwX7_fits_1 : List UInt8 := [153, 0, 68, 42, 180, 0, 9, 21, 6, 46, 28, 159, 0, 6, 167, 0, 54, 3, 54, 7, 21, 7, 7]
abbrev dktX7_fits_1 : List UInt8 := dkwX7_fits_1 ++ dktX7_fits_2
def dkwX7_fits_0 : List UInt8 := [16, 15, 54, 5, 3, 54, 6, 21, 6, 42, 180, 0, 24, 162, 0, 84, 21, 4, 21, 6, 122, 4, 126]
abbrev dktX7_fits_0 : List UInt8 := dkwX7_fits_0 ++ dktX7_fits_1
theorem dksX7_fits_0 : cX7_fits.data.toList.drop 0 = dktX7_fits_0 := by decide +kernel
theorem dksX7_fits_1 : cX7_fits.data.toList.drop 23 = dktX7_fits_1 := dk_seg dksX7_fits_0 23 rfl rfl
theorem dksX7_fits_2 : cX7_fits.data.toList.drop 46 = dktX7_fits_2 := dk_seg dksX7_fits_1 23 rfl rfl
theorem dksX7_fits_3 : cX7_fits.data.toList.drop 70 = dktX7_fits_3 := dk_seg dksX7_fits_2 24 rfl rfl
theorem dksX7_fits_4 : cX7_fits.data.toList.drop 94 = dktX7_fits_4 := dk_seg dksX7_fits_3 24 rfl rfl
theorem dX7_fits_0 : decode cX7_fits 0 = .ok (.bipush 15, 2) := dk_16 15 (dk_at dksX7_fits_0 0 rfl rfl)
theorem dX7_fits_2 : decode cX7_fits 2 = .ok (.istore 5, 2) := dk_54 5 (dk_at dksX7_fits_0 2 rfl rfl)
theorem dX7_fits_4 : decode cX7_fits 4 = .ok (.iconst 0, 1) := dk_3 (dk_at dksX7_fits_0 4 rfl rfl)
theorem dX7_fits_5 : decode cX7_fits 5 = .ok (.istore 6, 2) := dk_54 6 (dk_at dksX7_fits_0 5 rfl rfl)
theorem dX7_fits_7 : decode cX7_fits 7 = .ok (.iload 6, 2) := dk_21 6 (dk_at dksX7_fits_0 7 rfl rfl)
theorem dX7_fits_9 : decode cX7_fits 9 = .ok (.aload_n 0, 1) := dk_42 (dk_at dksX7_fits_0 9 rfl rfl)
theorem dX7_fits_10 : decode cX7_fits 10 = .ok (.getfield 24, 3) := dk_180 0 24 (dk_at dksX7_fits_0 10 rfl rfl)
theorem dX7_fits_13 : decode cX7_fits 13 = .ok (.if_icmp .ge 84, 3) := dk_162 0 84 (dk_at dksX7_fits_0 13 rfl rfl)
theorem dX7_fits_16 : decode cX7_fits 16 = .ok (.iload 4, 2) := dk_21 4 (dk_at dksX7_fits_0 16 rfl rfl)
theorem dX7_fits_18 : decode cX7_fits 18 = .ok (.iload 6, 2) := dk_21 6 (dk_at dksX7_fits_0 18 rfl rfl)
theorem dX7_fits_20 : decode cX7_fits 20 = .ok (.ishr, 1) := dk_122 (dk_at dksX7_fits_0 20 rfl rfl)
theorem dX7_fits_21 : decode cX7_fits 21 = .ok (.iconst 1, 1) := dk_4 (dk_at dksX7_fits_0 21 rfl rfl)
theorem dX7_fits_22 : decode cX7_fits 22 = .ok (.iand, 1) := dk_126 (dk_at dksX7_fits_0 22 rfl rfl)
theorem dX7_fits_23 : decode cX7_fits 23 = .ok (.ifCond .eq 68, 3) := dk_153 0 68 (dk_at dksX7_fits_1 0 rfl rfl)
theorem dX7_fits_26 : decode cX7_fits 26 = .ok (.aload_n 0, 1) := dk_42 (dk_at dksX7_fits_1 3 rfl rfl)
theorem dX7_fits_27 : decode cX7_fits 27 = .ok (.getfield 9, 3) := dk_180 0 9 (dk_at dksX7_fits_1 4 rfl rfl)
theorem dX7_fits_30 : decode cX7_fits 30 = .ok (.iload 6, 2) := dk_21 6 (dk_at dksX7_fits_1 7 rfl rfl)
theorem dX7_fits_32 : decode cX7_fits 32 = .ok (.iaload, 1) := dk_46 (dk_at dksX7_fits_1 9 rfl rfl)
theorem dX7_fits_33 : decode cX7_fits 33 = .ok (.iload_n 2, 1) := dk_28 (dk_at dksX7_fits_1 10 rfl rfl)
theorem dX7_fits_34 : decode cX7_fits 34 = .ok (.if_icmp .eq 6, 3) := dk_159 0 6 (dk_at dksX7_fits_1 11 rfl rfl)
theorem dX7_fits_37 : decode cX7_fits 37 = .ok (.goto 54, 3) := dk_167 0 54 (dk_at dksX7_fits_1 14 rfl rfl)
theorem dX7_fits_40 : decode cX7_fits 40 = .ok (.iconst 0, 1) := dk_3 (dk_at dksX7_fits_1 17 rfl rfl)
theorem dX7_fits_41 : decode cX7_fits 41 = .ok (.istore 7, 2) := dk_54 7 (dk_at dksX7_fits_1 18 rfl rfl)
theorem dX7_fits_43 : decode cX7_fits 43 = .ok (.iload 7, 2) := dk_21 7 (dk_at dksX7_fits_1 20 rfl rfl)
theorem dX7_fits_45 : decode cX7_fits 45 = .ok (.iconst 4, 1) := dk_7 (dk_at dksX7_fits_1 22 rfl rfl)
theorem dX7_fits_46 : decode cX7_fits 46 = .ok (.if_icmp .ge 45, 3) := dk_162 0 45 (dk_at dksX7_fits_2 0 rfl rfl)
theorem dX7_fits_49 : decode cX7_fits 49 = .ok (.aload_n 1, 1) := dk_43 (dk_at dksX7_fits_2 3 rfl rfl)
theorem dX7_fits_50 : decode cX7_fits 50 = .ok (.iload_n 2, 1) := dk_28 (dk_at dksX7_fits_2 4 rfl rfl)
theorem dX7_fits_51 : decode cX7_fits 51 = .ok (.iload 7, 2) := dk_21 7 (dk_at dksX7_fits_2 5 rfl rfl)
theorem dX7_fits_53 : decode cX7_fits 53 = .ok (.aload_n 0, 1) := dk_42 (dk_at dksX7_fits_2 7 rfl rfl)
theorem dX7_fits_54 : decode cX7_fits 54 = .ok (.getfield 15, 3) := dk_180 0 15 (dk_at dksX7_fits_2 8 rfl rfl)
theorem dX7_fits_57 : decode cX7_fits 57 = .ok (.iload 6, 2) := dk_21 6 (dk_at dksX7_fits_2 11 rfl rfl)
theorem dX7_fits_59 : decode cX7_fits 59 = .ok (.iaload, 1) := dk_46 (dk_at dksX7_fits_2 13 rfl rfl)
theorem dX7_fits_60 : decode cX7_fits 60 = .ok (.iload_n 3, 1) := dk_29 (dk_at dksX7_fits_2 14 rfl rfl)
theorem dX7_fits_61 : decode cX7_fits 61 = .ok (.invokevirtual 37, 3) := dk_182 0 37 (dk_at dksX7_fits_2 15 rfl rfl)
theorem dX7_fits_64 : decode cX7_fits 64 = .ok (.aload_n 0, 1) := dk_42 (dk_at dksX7_fits_2 18 rfl rfl)
theorem dX7_fits_65 : decode cX7_fits 65 = .ok (.getfield 18, 3) := dk_180 0 18 (dk_at dksX7_fits_2 19 rfl rfl)
theorem dX7_fits_68 : decode cX7_fits 68 = .ok (.iload 6, 2) := dk_21 6 (dk_at dksX7_fits_2 22 rfl rfl)
theorem dX7_fits_70 : decode cX7_fits 70 = .ok (.iaload, 1) := dk_46 (dk_at dksX7_fits_3 0 rfl rfl)
theorem dX7_fits_71 : decode cX7_fits 71 = .ok (.if_icmp .eq 14, 3) := dk_159 0 14 (dk_at dksX7_fits_3 1 rfl rfl)
theorem dX7_fits_74 : decode cX7_fits 74 = .ok (.iload 5, 2) := dk_21 5 (dk_at dksX7_fits_3 4 rfl rfl)
theorem dX7_fits_76 : decode cX7_fits 76 = .ok (.iconst 1, 1) := dk_4 (dk_at dksX7_fits_3 6 rfl rfl)
theorem dX7_fits_77 : decode cX7_fits 77 = .ok (.iload 7, 2) := dk_21 7 (dk_at dksX7_fits_3 7 rfl rfl)
theorem dX7_fits_79 : decode cX7_fits 79 = .ok (.ishl, 1) := dk_120 (dk_at dksX7_fits_3 9 rfl rfl)
theorem dX7_fits_80 : decode cX7_fits 80 = .ok (.iconst (-1), 1) := dk_2 (dk_at dksX7_fits_3 10 rfl rfl)
theorem dX7_fits_81 : decode cX7_fits 81 = .ok (.ixor, 1) := dk_130 (dk_at dksX7_fits_3 11 rfl rfl)
theorem dX7_fits_82 : decode cX7_fits 82 = .ok (.iand, 1) := dk_126 (dk_at dksX7_fits_3 12 rfl rfl)
theorem dX7_fits_83 : decode cX7_fits 83 = .ok (.istore 5, 2) := dk_54 5 (dk_at dksX7_fits_3 13 rfl rfl)
theorem dX7_fits_85 : decode cX7_fits 85 = .ok (.iinc 7 1, 3) := dk_132 7 1 (dk_at dksX7_fits_3 15 rfl rfl)
theorem dX7_fits_88 : decode cX7_fits 88 = .ok (.goto (-45), 3) := dk_167 255 211 (dk_at dksX7_fits_3 18 rfl rfl)
theorem dX7_fits_91 : decode cX7_fits 91 = .ok (.iinc 6 1, 3) := dk_132 6 1 (dk_at dksX7_fits_3 21 rfl rfl)
theorem dX7_fits_94 : decode cX7_fits 94 = .ok (.goto (-87), 3) := dk_167 255 169 (dk_at dksX7_fits_4 0 rfl rfl)
theorem dX7_fits_97 : decode cX7_fits 97 = .ok (.iload 5, 2) := dk_21 5 (dk_at dksX7_fits_4 3 rfl rfl)
theorem dX7_fits_99 : decode cX7_fits 99 = .ok (.ireturn, 1) := dk_172 (dk_at dksX7_fits_4 5 rfl rfl)
abbrev cX7_sure : ByteArray := prog_9_method_11_code
def yX7_sure : MethodName := ⟨RX7, "sure", "(LAskingCourt$Case;II)I"⟩
def dkwX7_sure_3 : List UInt8 := [167, 255, 195, 21, 4, 153, 0, 7, 4, 167, 0, 13, 21, 5, 153, 0, 7, 3, 167, 0, 4, 2, 172]
abbrev dktX7_sure_3 : List UInt8 := dkwX7_sure_3 ++ []
def dkwX7_sure_2 : List UInt8 := [54, 4, 167, 0, 6, 4, 54, 5, 21, 4, 153, 0, 10, 21, 5, 153, 0, 5, 2, 172, 132, 6, 1]
abbrev dktX7_sure_2 : List UInt8 := dkwX7_sure_2 ++ dktX7_sure_3
def dkwX7_sure_1 : List UInt8 := [182, 0, 70, 154, 0, 6, 167, 0, 38, 43, 180, 0, 74, 28, 50, 21, 6, 182, 0, 46, 153, 0, 9, 4]
abbrev dktX7_sure_1 : List UInt8 := dkwX7_sure_1 ++ dktX7_sure_2
def dkwX7_sure_0 : List UInt8 := [3, 54, 4, 3, 54, 5, 3, 54, 6, 21, 6, 43, 180, 0, 67, 162, 0, 58, 42, 43, 21, 6, 29]
abbrev dktX7_sure_0 : List UInt8 := dkwX7_sure_0 ++ dktX7_sure_1
theorem dksX7_sure_0 : cX7_sure.data.toList.drop 0 = dktX7_sure_0 := by decide +kernel
theorem dksX7_sure_1 : cX7_sure.data.toList.drop 23 = dktX7_sure_1 := dk_seg dksX7_sure_0 23 rfl rfl
theorem dksX7_sure_2 : cX7_sure.data.toList.drop 47 = dktX7_sure_2 := dk_seg dksX7_sure_1 24 rfl rfl
theorem dksX7_sure_3 : cX7_sure.data.toList.drop 70 = dktX7_sure_3 := dk_seg dksX7_sure_2 23 rfl rfl
theorem dX7_sure_0 : decode cX7_sure 0 = .ok (.iconst 0, 1) := dk_3 (dk_at dksX7_sure_0 0 rfl rfl)
theorem dX7_sure_1 : decode cX7_sure 1 = .ok (.istore 4, 2) := dk_54 4 (dk_at dksX7_sure_0 1 rfl rfl)
theorem dX7_sure_3 : decode cX7_sure 3 = .ok (.iconst 0, 1) := dk_3 (dk_at dksX7_sure_0 3 rfl rfl)
theorem dX7_sure_4 : decode cX7_sure 4 = .ok (.istore 5, 2) := dk_54 5 (dk_at dksX7_sure_0 4 rfl rfl)
theorem dX7_sure_6 : decode cX7_sure 6 = .ok (.iconst 0, 1) := dk_3 (dk_at dksX7_sure_0 6 rfl rfl)
theorem dX7_sure_7 : decode cX7_sure 7 = .ok (.istore 6, 2) := dk_54 6 (dk_at dksX7_sure_0 7 rfl rfl)
theorem dX7_sure_9 : decode cX7_sure 9 = .ok (.iload 6, 2) := dk_21 6 (dk_at dksX7_sure_0 9 rfl rfl)
theorem dX7_sure_11 : decode cX7_sure 11 = .ok (.aload_n 1, 1) := dk_43 (dk_at dksX7_sure_0 11 rfl rfl)
theorem dX7_sure_12 : decode cX7_sure 12 = .ok (.getfield 67, 3) := dk_180 0 67 (dk_at dksX7_sure_0 12 rfl rfl)
theorem dX7_sure_15 : decode cX7_sure 15 = .ok (.if_icmp .ge 58, 3) := dk_162 0 58 (dk_at dksX7_sure_0 15 rfl rfl)
theorem dX7_sure_18 : decode cX7_sure 18 = .ok (.aload_n 0, 1) := dk_42 (dk_at dksX7_sure_0 18 rfl rfl)
theorem dX7_sure_19 : decode cX7_sure 19 = .ok (.aload_n 1, 1) := dk_43 (dk_at dksX7_sure_0 19 rfl rfl)
theorem dX7_sure_20 : decode cX7_sure 20 = .ok (.iload 6, 2) := dk_21 6 (dk_at dksX7_sure_0 20 rfl rfl)
theorem dX7_sure_22 : decode cX7_sure 22 = .ok (.iload_n 3, 1) := dk_29 (dk_at dksX7_sure_0 22 rfl rfl)
theorem dX7_sure_23 : decode cX7_sure 23 = .ok (.invokevirtual 70, 3) := dk_182 0 70 (dk_at dksX7_sure_1 0 rfl rfl)
theorem dX7_sure_26 : decode cX7_sure 26 = .ok (.ifCond .ne 6, 3) := dk_154 0 6 (dk_at dksX7_sure_1 3 rfl rfl)
theorem dX7_sure_29 : decode cX7_sure 29 = .ok (.goto 38, 3) := dk_167 0 38 (dk_at dksX7_sure_1 6 rfl rfl)
theorem dX7_sure_32 : decode cX7_sure 32 = .ok (.aload_n 1, 1) := dk_43 (dk_at dksX7_sure_1 9 rfl rfl)
theorem dX7_sure_33 : decode cX7_sure 33 = .ok (.getfield 74, 3) := dk_180 0 74 (dk_at dksX7_sure_1 10 rfl rfl)
theorem dX7_sure_36 : decode cX7_sure 36 = .ok (.iload_n 2, 1) := dk_28 (dk_at dksX7_sure_1 13 rfl rfl)
theorem dX7_sure_37 : decode cX7_sure 37 = .ok (.aaload, 1) := dk_50 (dk_at dksX7_sure_1 14 rfl rfl)
theorem dX7_sure_38 : decode cX7_sure 38 = .ok (.iload 6, 2) := dk_21 6 (dk_at dksX7_sure_1 15 rfl rfl)
theorem dX7_sure_40 : decode cX7_sure 40 = .ok (.invokevirtual 46, 3) := dk_182 0 46 (dk_at dksX7_sure_1 17 rfl rfl)
theorem dX7_sure_43 : decode cX7_sure 43 = .ok (.ifCond .eq 9, 3) := dk_153 0 9 (dk_at dksX7_sure_1 20 rfl rfl)
theorem dX7_sure_46 : decode cX7_sure 46 = .ok (.iconst 1, 1) := dk_4 (dk_at dksX7_sure_1 23 rfl rfl)
theorem dX7_sure_47 : decode cX7_sure 47 = .ok (.istore 4, 2) := dk_54 4 (dk_at dksX7_sure_2 0 rfl rfl)
theorem dX7_sure_49 : decode cX7_sure 49 = .ok (.goto 6, 3) := dk_167 0 6 (dk_at dksX7_sure_2 2 rfl rfl)
theorem dX7_sure_52 : decode cX7_sure 52 = .ok (.iconst 1, 1) := dk_4 (dk_at dksX7_sure_2 5 rfl rfl)
theorem dX7_sure_53 : decode cX7_sure 53 = .ok (.istore 5, 2) := dk_54 5 (dk_at dksX7_sure_2 6 rfl rfl)
theorem dX7_sure_55 : decode cX7_sure 55 = .ok (.iload 4, 2) := dk_21 4 (dk_at dksX7_sure_2 8 rfl rfl)
theorem dX7_sure_57 : decode cX7_sure 57 = .ok (.ifCond .eq 10, 3) := dk_153 0 10 (dk_at dksX7_sure_2 10 rfl rfl)
theorem dX7_sure_60 : decode cX7_sure 60 = .ok (.iload 5, 2) := dk_21 5 (dk_at dksX7_sure_2 13 rfl rfl)
theorem dX7_sure_62 : decode cX7_sure 62 = .ok (.ifCond .eq 5, 3) := dk_153 0 5 (dk_at dksX7_sure_2 15 rfl rfl)
theorem dX7_sure_65 : decode cX7_sure 65 = .ok (.iconst (-1), 1) := dk_2 (dk_at dksX7_sure_2 18 rfl rfl)
theorem dX7_sure_66 : decode cX7_sure 66 = .ok (.ireturn, 1) := dk_172 (dk_at dksX7_sure_2 19 rfl rfl)
theorem dX7_sure_67 : decode cX7_sure 67 = .ok (.iinc 6 1, 3) := dk_132 6 1 (dk_at dksX7_sure_2 20 rfl rfl)
theorem dX7_sure_70 : decode cX7_sure 70 = .ok (.goto (-61), 3) := dk_167 255 195 (dk_at dksX7_sure_3 0 rfl rfl)
theorem dX7_sure_73 : decode cX7_sure 73 = .ok (.iload 4, 2) := dk_21 4 (dk_at dksX7_sure_3 3 rfl rfl)
theorem dX7_sure_75 : decode cX7_sure 75 = .ok (.ifCond .eq 7, 3) := dk_153 0 7 (dk_at dksX7_sure_3 5 rfl rfl)
theorem dX7_sure_78 : decode cX7_sure 78 = .ok (.iconst 1, 1) := dk_4 (dk_at dksX7_sure_3 8 rfl rfl)
theorem dX7_sure_79 : decode cX7_sure 79 = .ok (.goto 13, 3) := dk_167 0 13 (dk_at dksX7_sure_3 9 rfl rfl)
theorem dX7_sure_82 : decode cX7_sure 82 = .ok (.iload 5, 2) := dk_21 5 (dk_at dksX7_sure_3 12 rfl rfl)
theorem dX7_sure_84 : decode cX7_sure 84 = .ok (.ifCond .eq 7, 3) := dk_153 0 7 (dk_at dksX7_sure_3 14 rfl rfl)
theorem dX7_sure_87 : decode cX7_sure 87 = .ok (.iconst 0, 1) := dk_3 (dk_at dksX7_sure_3 17 rfl rfl)
theorem dX7_sure_88 : decode cX7_sure 88 = .ok (.goto 4, 3) := dk_167 0 4 (dk_at dksX7_sure_3 18 rfl rfl)
theorem dX7_sure_91 : decode cX7_sure 91 = .ok (.iconst (-1), 1) := dk_2 (dk_at dksX7_sure_3 21 rfl rfl)
theorem dX7_sure_92 : decode cX7_sure 92 = .ok (.ireturn, 1) := dk_172 (dk_at dksX7_sure_3 22 rfl rfl)
abbrev cX7_weight : ByteArray := prog_9_method_13_code
def yX7_weight : MethodName := ⟨RX7, "weight", "(LAskingCourt$Case;III)J"⟩
def dkwX7_weight_2 : List UInt8 := [132, 7, 1, 167, 255, 217, 22, 5, 173]
abbrev dktX7_weight_2 : List UInt8 := dkwX7_weight_2 ++ []
def dkwX7_weight_1 : List UInt8 := [21, 7, 28, 21, 7, 29, 160, 0, 8, 21, 4, 167, 0, 5, 16, 15, 182, 0, 88, 133, 105, 55, 5]
abbrev dktX7_weight_1 : List UInt8 := dkwX7_weight_1 ++ dktX7_weight_2
def dkwX7_weight_0 : List UInt8 := [43, 28, 182, 0, 84, 55, 5, 3, 54, 7, 21, 7, 43, 180, 0, 52, 162, 0, 36, 22, 5, 42, 43]
abbrev dktX7_weight_0 : List UInt8 := dkwX7_weight_0 ++ dktX7_weight_1
theorem dksX7_weight_0 : cX7_weight.data.toList.drop 0 = dktX7_weight_0 := by decide +kernel
theorem dksX7_weight_1 : cX7_weight.data.toList.drop 23 = dktX7_weight_1 := dk_seg dksX7_weight_0 23 rfl rfl
theorem dksX7_weight_2 : cX7_weight.data.toList.drop 46 = dktX7_weight_2 := dk_seg dksX7_weight_1 23 rfl rfl
theorem dX7_weight_0 : decode cX7_weight 0 = .ok (.aload_n 1, 1) := dk_43 (dk_at dksX7_weight_0 0 rfl rfl)
theorem dX7_weight_1 : decode cX7_weight 1 = .ok (.iload_n 2, 1) := dk_28 (dk_at dksX7_weight_0 1 rfl rfl)
theorem dX7_weight_2 : decode cX7_weight 2 = .ok (.invokevirtual 84, 3) := dk_182 0 84 (dk_at dksX7_weight_0 2 rfl rfl)
theorem dX7_weight_5 : decode cX7_weight 5 = .ok (.lstore 5, 2) := dk_55 5 (dk_at dksX7_weight_0 5 rfl rfl)
theorem dX7_weight_7 : decode cX7_weight 7 = .ok (.iconst 0, 1) := dk_3 (dk_at dksX7_weight_0 7 rfl rfl)
theorem dX7_weight_8 : decode cX7_weight 8 = .ok (.istore 7, 2) := dk_54 7 (dk_at dksX7_weight_0 8 rfl rfl)
theorem dX7_weight_10 : decode cX7_weight 10 = .ok (.iload 7, 2) := dk_21 7 (dk_at dksX7_weight_0 10 rfl rfl)
theorem dX7_weight_12 : decode cX7_weight 12 = .ok (.aload_n 1, 1) := dk_43 (dk_at dksX7_weight_0 12 rfl rfl)
theorem dX7_weight_13 : decode cX7_weight 13 = .ok (.getfield 52, 3) := dk_180 0 52 (dk_at dksX7_weight_0 13 rfl rfl)
theorem dX7_weight_16 : decode cX7_weight 16 = .ok (.if_icmp .ge 36, 3) := dk_162 0 36 (dk_at dksX7_weight_0 16 rfl rfl)
theorem dX7_weight_19 : decode cX7_weight 19 = .ok (.lload 5, 2) := dk_22 5 (dk_at dksX7_weight_0 19 rfl rfl)
theorem dX7_weight_21 : decode cX7_weight 21 = .ok (.aload_n 0, 1) := dk_42 (dk_at dksX7_weight_0 21 rfl rfl)
theorem dX7_weight_22 : decode cX7_weight 22 = .ok (.aload_n 1, 1) := dk_43 (dk_at dksX7_weight_0 22 rfl rfl)
theorem dX7_weight_23 : decode cX7_weight 23 = .ok (.iload 7, 2) := dk_21 7 (dk_at dksX7_weight_1 0 rfl rfl)
theorem dX7_weight_25 : decode cX7_weight 25 = .ok (.iload_n 2, 1) := dk_28 (dk_at dksX7_weight_1 2 rfl rfl)
theorem dX7_weight_26 : decode cX7_weight 26 = .ok (.iload 7, 2) := dk_21 7 (dk_at dksX7_weight_1 3 rfl rfl)
theorem dX7_weight_28 : decode cX7_weight 28 = .ok (.iload_n 3, 1) := dk_29 (dk_at dksX7_weight_1 5 rfl rfl)
theorem dX7_weight_29 : decode cX7_weight 29 = .ok (.if_icmp .ne 8, 3) := dk_160 0 8 (dk_at dksX7_weight_1 6 rfl rfl)
theorem dX7_weight_32 : decode cX7_weight 32 = .ok (.iload 4, 2) := dk_21 4 (dk_at dksX7_weight_1 9 rfl rfl)
theorem dX7_weight_34 : decode cX7_weight 34 = .ok (.goto 5, 3) := dk_167 0 5 (dk_at dksX7_weight_1 11 rfl rfl)
theorem dX7_weight_37 : decode cX7_weight 37 = .ok (.bipush 15, 2) := dk_16 15 (dk_at dksX7_weight_1 14 rfl rfl)
theorem dX7_weight_39 : decode cX7_weight 39 = .ok (.invokevirtual 88, 3) := dk_182 0 88 (dk_at dksX7_weight_1 16 rfl rfl)
theorem dX7_weight_42 : decode cX7_weight 42 = .ok (.i2l, 1) := dk_133 (dk_at dksX7_weight_1 19 rfl rfl)
theorem dX7_weight_43 : decode cX7_weight 43 = .ok (.lmul, 1) := dk_105 (dk_at dksX7_weight_1 20 rfl rfl)
theorem dX7_weight_44 : decode cX7_weight 44 = .ok (.lstore 5, 2) := dk_55 5 (dk_at dksX7_weight_1 21 rfl rfl)
theorem dX7_weight_46 : decode cX7_weight 46 = .ok (.iinc 7 1, 3) := dk_132 7 1 (dk_at dksX7_weight_2 0 rfl rfl)
theorem dX7_weight_49 : decode cX7_weight 49 = .ok (.goto (-39), 3) := dk_167 255 217 (dk_at dksX7_weight_2 3 rfl rfl)
theorem dX7_weight_52 : decode cX7_weight 52 = .ok (.lload 5, 2) := dk_22 5 (dk_at dksX7_weight_2 6 rfl rfl)
theorem dX7_weight_54 : decode cX7_weight 54 = .ok (.lreturn, 1) := dk_173 (dk_at dksX7_weight_2 8 rfl rfl)
abbrev cX7_trusted : ByteArray := prog_9_method_12_code
def yX7_trusted : MethodName := ⟨RX7, "trusted", "(LAskingCourt$Case;III)I"⟩
def dkwX7_trusted_2 : List UInt8 := [180, 0, 81, 21, 7, 46, 167, 0, 4, 3, 96, 54, 6, 132, 7, 1, 167, 255, 215, 21, 6, 172]
abbrev dktX7_trusted_2 : List UInt8 := dkwX7_trusted_2 ++ []
def dkwX7_trusted_1 : List UInt8 := [7, 162, 0, 41, 21, 6, 21, 5, 21, 7, 122, 4, 126, 4, 160, 0, 18, 43, 180, 0, 57, 28, 50]
abbrev dktX7_trusted_1 : List UInt8 := dkwX7_trusted_1 ++ dktX7_trusted_2
def dkwX7_trusted_0 : List UInt8 := [42, 43, 28, 29, 42, 182, 0, 78, 182, 0, 53, 21, 4, 126, 54, 5, 3, 54, 6, 3, 54, 7, 21, 7]
abbrev dktX7_trusted_0 : List UInt8 := dkwX7_trusted_0 ++ dktX7_trusted_1
theorem dksX7_trusted_0 : cX7_trusted.data.toList.drop 0 = dktX7_trusted_0 := by decide +kernel
theorem dksX7_trusted_1 : cX7_trusted.data.toList.drop 24 = dktX7_trusted_1 := dk_seg dksX7_trusted_0 24 rfl rfl
theorem dksX7_trusted_2 : cX7_trusted.data.toList.drop 47 = dktX7_trusted_2 := dk_seg dksX7_trusted_1 23 rfl rfl
theorem dX7_trusted_0 : decode cX7_trusted 0 = .ok (.aload_n 0, 1) := dk_42 (dk_at dksX7_trusted_0 0 rfl rfl)
theorem dX7_trusted_1 : decode cX7_trusted 1 = .ok (.aload_n 1, 1) := dk_43 (dk_at dksX7_trusted_0 1 rfl rfl)
theorem dX7_trusted_2 : decode cX7_trusted 2 = .ok (.iload_n 2, 1) := dk_28 (dk_at dksX7_trusted_0 2 rfl rfl)
theorem dX7_trusted_3 : decode cX7_trusted 3 = .ok (.iload_n 3, 1) := dk_29 (dk_at dksX7_trusted_0 3 rfl rfl)
theorem dX7_trusted_4 : decode cX7_trusted 4 = .ok (.aload_n 0, 1) := dk_42 (dk_at dksX7_trusted_0 4 rfl rfl)
theorem dX7_trusted_5 : decode cX7_trusted 5 = .ok (.invokevirtual 78, 3) := dk_182 0 78 (dk_at dksX7_trusted_0 5 rfl rfl)
theorem dX7_trusted_8 : decode cX7_trusted 8 = .ok (.invokevirtual 53, 3) := dk_182 0 53 (dk_at dksX7_trusted_0 8 rfl rfl)
theorem dX7_trusted_11 : decode cX7_trusted 11 = .ok (.iload 4, 2) := dk_21 4 (dk_at dksX7_trusted_0 11 rfl rfl)
theorem dX7_trusted_13 : decode cX7_trusted 13 = .ok (.iand, 1) := dk_126 (dk_at dksX7_trusted_0 13 rfl rfl)
theorem dX7_trusted_14 : decode cX7_trusted 14 = .ok (.istore 5, 2) := dk_54 5 (dk_at dksX7_trusted_0 14 rfl rfl)
theorem dX7_trusted_16 : decode cX7_trusted 16 = .ok (.iconst 0, 1) := dk_3 (dk_at dksX7_trusted_0 16 rfl rfl)
theorem dX7_trusted_17 : decode cX7_trusted 17 = .ok (.istore 6, 2) := dk_54 6 (dk_at dksX7_trusted_0 17 rfl rfl)
theorem dX7_trusted_19 : decode cX7_trusted 19 = .ok (.iconst 0, 1) := dk_3 (dk_at dksX7_trusted_0 19 rfl rfl)
theorem dX7_trusted_20 : decode cX7_trusted 20 = .ok (.istore 7, 2) := dk_54 7 (dk_at dksX7_trusted_0 20 rfl rfl)
theorem dX7_trusted_22 : decode cX7_trusted 22 = .ok (.iload 7, 2) := dk_21 7 (dk_at dksX7_trusted_0 22 rfl rfl)
theorem dX7_trusted_24 : decode cX7_trusted 24 = .ok (.iconst 4, 1) := dk_7 (dk_at dksX7_trusted_1 0 rfl rfl)
theorem dX7_trusted_25 : decode cX7_trusted 25 = .ok (.if_icmp .ge 41, 3) := dk_162 0 41 (dk_at dksX7_trusted_1 1 rfl rfl)
theorem dX7_trusted_28 : decode cX7_trusted 28 = .ok (.iload 6, 2) := dk_21 6 (dk_at dksX7_trusted_1 4 rfl rfl)
theorem dX7_trusted_30 : decode cX7_trusted 30 = .ok (.iload 5, 2) := dk_21 5 (dk_at dksX7_trusted_1 6 rfl rfl)
theorem dX7_trusted_32 : decode cX7_trusted 32 = .ok (.iload 7, 2) := dk_21 7 (dk_at dksX7_trusted_1 8 rfl rfl)
theorem dX7_trusted_34 : decode cX7_trusted 34 = .ok (.ishr, 1) := dk_122 (dk_at dksX7_trusted_1 10 rfl rfl)
theorem dX7_trusted_35 : decode cX7_trusted 35 = .ok (.iconst 1, 1) := dk_4 (dk_at dksX7_trusted_1 11 rfl rfl)
theorem dX7_trusted_36 : decode cX7_trusted 36 = .ok (.iand, 1) := dk_126 (dk_at dksX7_trusted_1 12 rfl rfl)
theorem dX7_trusted_37 : decode cX7_trusted 37 = .ok (.iconst 1, 1) := dk_4 (dk_at dksX7_trusted_1 13 rfl rfl)
theorem dX7_trusted_38 : decode cX7_trusted 38 = .ok (.if_icmp .ne 18, 3) := dk_160 0 18 (dk_at dksX7_trusted_1 14 rfl rfl)
theorem dX7_trusted_41 : decode cX7_trusted 41 = .ok (.aload_n 1, 1) := dk_43 (dk_at dksX7_trusted_1 17 rfl rfl)
theorem dX7_trusted_42 : decode cX7_trusted 42 = .ok (.getfield 57, 3) := dk_180 0 57 (dk_at dksX7_trusted_1 18 rfl rfl)
theorem dX7_trusted_45 : decode cX7_trusted 45 = .ok (.iload_n 2, 1) := dk_28 (dk_at dksX7_trusted_1 21 rfl rfl)
theorem dX7_trusted_46 : decode cX7_trusted 46 = .ok (.aaload, 1) := dk_50 (dk_at dksX7_trusted_1 22 rfl rfl)
theorem dX7_trusted_47 : decode cX7_trusted 47 = .ok (.getfield 81, 3) := dk_180 0 81 (dk_at dksX7_trusted_2 0 rfl rfl)
theorem dX7_trusted_50 : decode cX7_trusted 50 = .ok (.iload 7, 2) := dk_21 7 (dk_at dksX7_trusted_2 3 rfl rfl)
theorem dX7_trusted_52 : decode cX7_trusted 52 = .ok (.iaload, 1) := dk_46 (dk_at dksX7_trusted_2 5 rfl rfl)
theorem dX7_trusted_53 : decode cX7_trusted 53 = .ok (.goto 4, 3) := dk_167 0 4 (dk_at dksX7_trusted_2 6 rfl rfl)
theorem dX7_trusted_56 : decode cX7_trusted 56 = .ok (.iconst 0, 1) := dk_3 (dk_at dksX7_trusted_2 9 rfl rfl)
theorem dX7_trusted_57 : decode cX7_trusted 57 = .ok (.iadd, 1) := dk_96 (dk_at dksX7_trusted_2 10 rfl rfl)
theorem dX7_trusted_58 : decode cX7_trusted 58 = .ok (.istore 6, 2) := dk_54 6 (dk_at dksX7_trusted_2 11 rfl rfl)
theorem dX7_trusted_60 : decode cX7_trusted 60 = .ok (.iinc 7 1, 3) := dk_132 7 1 (dk_at dksX7_trusted_2 13 rfl rfl)
theorem dX7_trusted_63 : decode cX7_trusted 63 = .ok (.goto (-41), 3) := dk_167 255 215 (dk_at dksX7_trusted_2 16 rfl rfl)
theorem dX7_trusted_66 : decode cX7_trusted 66 = .ok (.iload 6, 2) := dk_21 6 (dk_at dksX7_trusted_2 19 rfl rfl)
theorem dX7_trusted_68 : decode cX7_trusted 68 = .ok (.ireturn, 1) := dk_172 (dk_at dksX7_trusted_2 21 rfl rfl)
abbrev cX7_fees : ByteArray := prog_9_method_14_code
def yX7_fees : MethodName := ⟨RX7, "fees", "(LAskingCourt$Case;)I"⟩
def dkwX7_fees_2 : List UInt8 := [96, 96, 61, 132, 3, 1, 167, 255, 206, 28, 172]
abbrev dktX7_fees_2 : List UInt8 := dkwX7_fees_2 ++ []
def dkwX7_fees_1 : List UInt8 := [43, 180, 0, 91, 42, 180, 0, 18, 29, 46, 5, 108, 46, 4, 42, 180, 0, 18, 29, 46, 5, 112, 96, 104]
abbrev dktX7_fees_1 : List UInt8 := dkwX7_fees_1 ++ dktX7_fees_2
def dkwX7_fees_0 : List UInt8 := [3, 61, 3, 62, 29, 42, 180, 0, 24, 162, 0, 48, 28, 43, 180, 0, 91, 42, 180, 0, 15, 29, 46, 46]
abbrev dktX7_fees_0 : List UInt8 := dkwX7_fees_0 ++ dktX7_fees_1
theorem dksX7_fees_0 : cX7_fees.data.toList.drop 0 = dktX7_fees_0 := by decide +kernel
theorem dksX7_fees_1 : cX7_fees.data.toList.drop 24 = dktX7_fees_1 := dk_seg dksX7_fees_0 24 rfl rfl
theorem dksX7_fees_2 : cX7_fees.data.toList.drop 48 = dktX7_fees_2 := dk_seg dksX7_fees_1 24 rfl rfl
theorem dX7_fees_0 : decode cX7_fees 0 = .ok (.iconst 0, 1) := dk_3 (dk_at dksX7_fees_0 0 rfl rfl)
theorem dX7_fees_1 : decode cX7_fees 1 = .ok (.istore_n 2, 1) := dk_61 (dk_at dksX7_fees_0 1 rfl rfl)
theorem dX7_fees_2 : decode cX7_fees 2 = .ok (.iconst 0, 1) := dk_3 (dk_at dksX7_fees_0 2 rfl rfl)
theorem dX7_fees_3 : decode cX7_fees 3 = .ok (.istore_n 3, 1) := dk_62 (dk_at dksX7_fees_0 3 rfl rfl)
theorem dX7_fees_4 : decode cX7_fees 4 = .ok (.iload_n 3, 1) := dk_29 (dk_at dksX7_fees_0 4 rfl rfl)
theorem dX7_fees_5 : decode cX7_fees 5 = .ok (.aload_n 0, 1) := dk_42 (dk_at dksX7_fees_0 5 rfl rfl)
theorem dX7_fees_6 : decode cX7_fees 6 = .ok (.getfield 24, 3) := dk_180 0 24 (dk_at dksX7_fees_0 6 rfl rfl)
theorem dX7_fees_9 : decode cX7_fees 9 = .ok (.if_icmp .ge 48, 3) := dk_162 0 48 (dk_at dksX7_fees_0 9 rfl rfl)
theorem dX7_fees_12 : decode cX7_fees 12 = .ok (.iload_n 2, 1) := dk_28 (dk_at dksX7_fees_0 12 rfl rfl)
theorem dX7_fees_13 : decode cX7_fees 13 = .ok (.aload_n 1, 1) := dk_43 (dk_at dksX7_fees_0 13 rfl rfl)
theorem dX7_fees_14 : decode cX7_fees 14 = .ok (.getfield 91, 3) := dk_180 0 91 (dk_at dksX7_fees_0 14 rfl rfl)
theorem dX7_fees_17 : decode cX7_fees 17 = .ok (.aload_n 0, 1) := dk_42 (dk_at dksX7_fees_0 17 rfl rfl)
theorem dX7_fees_18 : decode cX7_fees 18 = .ok (.getfield 15, 3) := dk_180 0 15 (dk_at dksX7_fees_0 18 rfl rfl)
theorem dX7_fees_21 : decode cX7_fees 21 = .ok (.iload_n 3, 1) := dk_29 (dk_at dksX7_fees_0 21 rfl rfl)
theorem dX7_fees_22 : decode cX7_fees 22 = .ok (.iaload, 1) := dk_46 (dk_at dksX7_fees_0 22 rfl rfl)
theorem dX7_fees_23 : decode cX7_fees 23 = .ok (.iaload, 1) := dk_46 (dk_at dksX7_fees_0 23 rfl rfl)
theorem dX7_fees_24 : decode cX7_fees 24 = .ok (.aload_n 1, 1) := dk_43 (dk_at dksX7_fees_1 0 rfl rfl)
theorem dX7_fees_25 : decode cX7_fees 25 = .ok (.getfield 91, 3) := dk_180 0 91 (dk_at dksX7_fees_1 1 rfl rfl)
theorem dX7_fees_28 : decode cX7_fees 28 = .ok (.aload_n 0, 1) := dk_42 (dk_at dksX7_fees_1 4 rfl rfl)
theorem dX7_fees_29 : decode cX7_fees 29 = .ok (.getfield 18, 3) := dk_180 0 18 (dk_at dksX7_fees_1 5 rfl rfl)
theorem dX7_fees_32 : decode cX7_fees 32 = .ok (.iload_n 3, 1) := dk_29 (dk_at dksX7_fees_1 8 rfl rfl)
theorem dX7_fees_33 : decode cX7_fees 33 = .ok (.iaload, 1) := dk_46 (dk_at dksX7_fees_1 9 rfl rfl)
theorem dX7_fees_34 : decode cX7_fees 34 = .ok (.iconst 2, 1) := dk_5 (dk_at dksX7_fees_1 10 rfl rfl)
theorem dX7_fees_35 : decode cX7_fees 35 = .ok (.idiv, 1) := dk_108 (dk_at dksX7_fees_1 11 rfl rfl)
theorem dX7_fees_36 : decode cX7_fees 36 = .ok (.iaload, 1) := dk_46 (dk_at dksX7_fees_1 12 rfl rfl)
theorem dX7_fees_37 : decode cX7_fees 37 = .ok (.iconst 1, 1) := dk_4 (dk_at dksX7_fees_1 13 rfl rfl)
theorem dX7_fees_38 : decode cX7_fees 38 = .ok (.aload_n 0, 1) := dk_42 (dk_at dksX7_fees_1 14 rfl rfl)
theorem dX7_fees_39 : decode cX7_fees 39 = .ok (.getfield 18, 3) := dk_180 0 18 (dk_at dksX7_fees_1 15 rfl rfl)
theorem dX7_fees_42 : decode cX7_fees 42 = .ok (.iload_n 3, 1) := dk_29 (dk_at dksX7_fees_1 18 rfl rfl)
theorem dX7_fees_43 : decode cX7_fees 43 = .ok (.iaload, 1) := dk_46 (dk_at dksX7_fees_1 19 rfl rfl)
theorem dX7_fees_44 : decode cX7_fees 44 = .ok (.iconst 2, 1) := dk_5 (dk_at dksX7_fees_1 20 rfl rfl)
theorem dX7_fees_45 : decode cX7_fees 45 = .ok (.irem, 1) := dk_112 (dk_at dksX7_fees_1 21 rfl rfl)
theorem dX7_fees_46 : decode cX7_fees 46 = .ok (.iadd, 1) := dk_96 (dk_at dksX7_fees_1 22 rfl rfl)
theorem dX7_fees_47 : decode cX7_fees 47 = .ok (.imul, 1) := dk_104 (dk_at dksX7_fees_1 23 rfl rfl)
theorem dX7_fees_48 : decode cX7_fees 48 = .ok (.iadd, 1) := dk_96 (dk_at dksX7_fees_2 0 rfl rfl)
theorem dX7_fees_49 : decode cX7_fees 49 = .ok (.iadd, 1) := dk_96 (dk_at dksX7_fees_2 1 rfl rfl)
theorem dX7_fees_50 : decode cX7_fees 50 = .ok (.istore_n 2, 1) := dk_61 (dk_at dksX7_fees_2 2 rfl rfl)
theorem dX7_fees_51 : decode cX7_fees 51 = .ok (.iinc 3 1, 3) := dk_132 3 1 (dk_at dksX7_fees_2 3 rfl rfl)
theorem dX7_fees_54 : decode cX7_fees 54 = .ok (.goto (-50), 3) := dk_167 255 206 (dk_at dksX7_fees_2 6 rfl rfl)
theorem dX7_fees_57 : decode cX7_fees 57 = .ok (.iload_n 2, 1) := dk_28 (dk_at dksX7_fees_2 9 rfl rfl)
theorem dX7_fees_58 : decode cX7_fees 58 = .ok (.ireturn, 1) := dk_172 (dk_at dksX7_fees_2 10 rfl rfl)
abbrev cX7_be : ByteArray := prog_9_method_3_code
def yX7_be : MethodName := ⟨RX7, "be", "(LAskingCourt$Record;)V"⟩
def dkwX7_be_3 : List UInt8 := [180, 0, 28, 181, 0, 28, 177]
abbrev dktX7_be_3 : List UInt8 := dkwX7_be_3 ++ []
def dkwX7_be_2 : List UInt8 := [180, 0, 21, 3, 42, 180, 0, 21, 3, 16, 12, 184, 0, 31, 42, 43, 180, 0, 24, 181, 0, 24, 42, 43]
abbrev dktX7_be_2 : List UInt8 := dkwX7_be_2 ++ dktX7_be_3
def dkwX7_be_1 : List UInt8 := [3, 16, 12, 184, 0, 31, 43, 180, 0, 18, 3, 42, 180, 0, 18, 3, 16, 12, 184, 0, 31, 43]
abbrev dktX7_be_1 : List UInt8 := dkwX7_be_1 ++ dktX7_be_2
def dkwX7_be_0 : List UInt8 := [43, 180, 0, 9, 3, 42, 180, 0, 9, 3, 16, 12, 184, 0, 31, 43, 180, 0, 15, 3, 42, 180, 0, 15]
abbrev dktX7_be_0 : List UInt8 := dkwX7_be_0 ++ dktX7_be_1
theorem dksX7_be_0 : cX7_be.data.toList.drop 0 = dktX7_be_0 := by decide +kernel
theorem dksX7_be_1 : cX7_be.data.toList.drop 24 = dktX7_be_1 := dk_seg dksX7_be_0 24 rfl rfl
theorem dksX7_be_2 : cX7_be.data.toList.drop 46 = dktX7_be_2 := dk_seg dksX7_be_1 22 rfl rfl
theorem dksX7_be_3 : cX7_be.data.toList.drop 70 = dktX7_be_3 := dk_seg dksX7_be_2 24 rfl rfl
theorem dX7_be_0 : decode cX7_be 0 = .ok (.aload_n 1, 1) := dk_43 (dk_at dksX7_be_0 0 rfl rfl)
theorem dX7_be_1 : decode cX7_be 1 = .ok (.getfield 9, 3) := dk_180 0 9 (dk_at dksX7_be_0 1 rfl rfl)
theorem dX7_be_4 : decode cX7_be 4 = .ok (.iconst 0, 1) := dk_3 (dk_at dksX7_be_0 4 rfl rfl)
theorem dX7_be_5 : decode cX7_be 5 = .ok (.aload_n 0, 1) := dk_42 (dk_at dksX7_be_0 5 rfl rfl)
theorem dX7_be_6 : decode cX7_be 6 = .ok (.getfield 9, 3) := dk_180 0 9 (dk_at dksX7_be_0 6 rfl rfl)
theorem dX7_be_9 : decode cX7_be 9 = .ok (.iconst 0, 1) := dk_3 (dk_at dksX7_be_0 9 rfl rfl)
theorem dX7_be_10 : decode cX7_be 10 = .ok (.bipush 12, 2) := dk_16 12 (dk_at dksX7_be_0 10 rfl rfl)
theorem dX7_be_12 : decode cX7_be 12 = .ok (.invokestatic 31, 3) := dk_184 0 31 (dk_at dksX7_be_0 12 rfl rfl)
theorem dX7_be_15 : decode cX7_be 15 = .ok (.aload_n 1, 1) := dk_43 (dk_at dksX7_be_0 15 rfl rfl)
theorem dX7_be_16 : decode cX7_be 16 = .ok (.getfield 15, 3) := dk_180 0 15 (dk_at dksX7_be_0 16 rfl rfl)
theorem dX7_be_19 : decode cX7_be 19 = .ok (.iconst 0, 1) := dk_3 (dk_at dksX7_be_0 19 rfl rfl)
theorem dX7_be_20 : decode cX7_be 20 = .ok (.aload_n 0, 1) := dk_42 (dk_at dksX7_be_0 20 rfl rfl)
theorem dX7_be_21 : decode cX7_be 21 = .ok (.getfield 15, 3) := dk_180 0 15 (dk_at dksX7_be_0 21 rfl rfl)
theorem dX7_be_24 : decode cX7_be 24 = .ok (.iconst 0, 1) := dk_3 (dk_at dksX7_be_1 0 rfl rfl)
theorem dX7_be_25 : decode cX7_be 25 = .ok (.bipush 12, 2) := dk_16 12 (dk_at dksX7_be_1 1 rfl rfl)
theorem dX7_be_27 : decode cX7_be 27 = .ok (.invokestatic 31, 3) := dk_184 0 31 (dk_at dksX7_be_1 3 rfl rfl)
theorem dX7_be_30 : decode cX7_be 30 = .ok (.aload_n 1, 1) := dk_43 (dk_at dksX7_be_1 6 rfl rfl)
theorem dX7_be_31 : decode cX7_be 31 = .ok (.getfield 18, 3) := dk_180 0 18 (dk_at dksX7_be_1 7 rfl rfl)
theorem dX7_be_34 : decode cX7_be 34 = .ok (.iconst 0, 1) := dk_3 (dk_at dksX7_be_1 10 rfl rfl)
theorem dX7_be_35 : decode cX7_be 35 = .ok (.aload_n 0, 1) := dk_42 (dk_at dksX7_be_1 11 rfl rfl)
theorem dX7_be_36 : decode cX7_be 36 = .ok (.getfield 18, 3) := dk_180 0 18 (dk_at dksX7_be_1 12 rfl rfl)
theorem dX7_be_39 : decode cX7_be 39 = .ok (.iconst 0, 1) := dk_3 (dk_at dksX7_be_1 15 rfl rfl)
theorem dX7_be_40 : decode cX7_be 40 = .ok (.bipush 12, 2) := dk_16 12 (dk_at dksX7_be_1 16 rfl rfl)
theorem dX7_be_42 : decode cX7_be 42 = .ok (.invokestatic 31, 3) := dk_184 0 31 (dk_at dksX7_be_1 18 rfl rfl)
theorem dX7_be_45 : decode cX7_be 45 = .ok (.aload_n 1, 1) := dk_43 (dk_at dksX7_be_1 21 rfl rfl)
theorem dX7_be_46 : decode cX7_be 46 = .ok (.getfield 21, 3) := dk_180 0 21 (dk_at dksX7_be_2 0 rfl rfl)
theorem dX7_be_49 : decode cX7_be 49 = .ok (.iconst 0, 1) := dk_3 (dk_at dksX7_be_2 3 rfl rfl)
theorem dX7_be_50 : decode cX7_be 50 = .ok (.aload_n 0, 1) := dk_42 (dk_at dksX7_be_2 4 rfl rfl)
theorem dX7_be_51 : decode cX7_be 51 = .ok (.getfield 21, 3) := dk_180 0 21 (dk_at dksX7_be_2 5 rfl rfl)
theorem dX7_be_54 : decode cX7_be 54 = .ok (.iconst 0, 1) := dk_3 (dk_at dksX7_be_2 8 rfl rfl)
theorem dX7_be_55 : decode cX7_be 55 = .ok (.bipush 12, 2) := dk_16 12 (dk_at dksX7_be_2 9 rfl rfl)
theorem dX7_be_57 : decode cX7_be 57 = .ok (.invokestatic 31, 3) := dk_184 0 31 (dk_at dksX7_be_2 11 rfl rfl)
theorem dX7_be_60 : decode cX7_be 60 = .ok (.aload_n 0, 1) := dk_42 (dk_at dksX7_be_2 14 rfl rfl)
theorem dX7_be_61 : decode cX7_be 61 = .ok (.aload_n 1, 1) := dk_43 (dk_at dksX7_be_2 15 rfl rfl)
theorem dX7_be_62 : decode cX7_be 62 = .ok (.getfield 24, 3) := dk_180 0 24 (dk_at dksX7_be_2 16 rfl rfl)
theorem dX7_be_65 : decode cX7_be 65 = .ok (.putfield 24, 3) := dk_181 0 24 (dk_at dksX7_be_2 19 rfl rfl)
theorem dX7_be_68 : decode cX7_be 68 = .ok (.aload_n 0, 1) := dk_42 (dk_at dksX7_be_2 22 rfl rfl)
theorem dX7_be_69 : decode cX7_be 69 = .ok (.aload_n 1, 1) := dk_43 (dk_at dksX7_be_2 23 rfl rfl)
theorem dX7_be_70 : decode cX7_be 70 = .ok (.getfield 28, 3) := dk_180 0 28 (dk_at dksX7_be_3 0 rfl rfl)
theorem dX7_be_73 : decode cX7_be 73 = .ok (.putfield 28, 3) := dk_181 0 28 (dk_at dksX7_be_3 3 rfl rfl)
theorem dX7_be_76 : decode cX7_be 76 = .ok (.return_, 1) := dk_177 (dk_at dksX7_be_3 6 rfl rfl)
theorem q173 : (Jvm.Cond.initialized "AskingCourt$Record") ∈ lw_all := lw_g (lw_at lw_m1 10 rfl) rfl
theorem q356 : (Jvm.Cond.fieldLinkNest "AskingCourt$Record" (52 : Nat) "AskingCourt$Case" "many" "I" "AskingCourt") ∈ lw_tbl := lw_at lw_m1 193 rfl
theorem q360 : (Jvm.Cond.fieldLinkNest "AskingCourt$Record" (67 : Nat) "AskingCourt$Case" "worlds" "I" "AskingCourt") ∈ lw_tbl := lw_at lw_m1 197 rfl
theorem q382 : (Jvm.Cond.fieldLinkNest "AskingCourt$Record" (91 : Nat) "AskingCourt$Case" "fees" "[I" "AskingCourt") ∈ lw_tbl := lw_at lw_m1 219 rfl
theorem q386 : (Jvm.Cond.fieldLinkNest "AskingCourt$Record" (42 : Nat) "AskingCourt$Case" "possible" "LAskingCourt$Worlds;" "AskingCourt") ∈ lw_tbl := lw_at lw_m1 223 rfl
theorem q391 : (Jvm.Cond.fieldLinkNest "AskingCourt$Record" (74 : Nat) "AskingCourt$Case" "meant" "[LAskingCourt$Worlds;" "AskingCourt") ∈ lw_tbl := lw_at lw_m1 228 rfl
theorem q395 : (Jvm.Cond.fieldLinkNest "AskingCourt$Record" (57 : Nat) "AskingCourt$Case" "witness" "[LAskingCourt$Witness;" "AskingCourt") ∈ lw_tbl := lw_at lw_m1 232 rfl
theorem q437 : (Jvm.Cond.instantiable "AskingCourt$Record" (6 : Nat)) ∈ lw_all := lw_g (lw_at lw_m2 34 rfl) rfl
theorem q439 : (Jvm.Cond.instanceMethod ({ cls := "AskingCourt$Record", name := "<init>", desc := "()V" } : Jvm.MethodName)) ∈ lw_all := lw_g (lw_at lw_m2 36 rfl) rfl
theorem q440 : (Jvm.Cond.code ({ cls := "AskingCourt$Record", name := "<init>", desc := "()V" } : Jvm.MethodName) prog_9_method_1_code (1 : Nat) (Option.none : Option Jvm.ClassFile.FieldType)) ∈ lw_all := lw_g (lw_at lw_m2 37 rfl) rfl
theorem q441 : (Jvm.Cond.methodLink "AskingCourt$Record" (3 : Nat) ({ cls := "java/lang/Object", name := "<init>", desc := "()V" } : Jvm.MethodName)) ∈ lw_all := lw_g (lw_at lw_m2 38 rfl) rfl
theorem q442 : (Jvm.Cond.fieldLink "AskingCourt$Record" (9 : Nat) "AskingCourt$Record" "who" "[I") ∈ lw_all := lw_g (lw_at lw_m2 39 rfl) rfl
theorem q444 : (Jvm.Cond.fieldLink "AskingCourt$Record" (15 : Nat) "AskingCourt$Record" "what" "[I") ∈ lw_all := lw_g (lw_at lw_m2 41 rfl) rfl
theorem q446 : (Jvm.Cond.fieldLink "AskingCourt$Record" (18 : Nat) "AskingCourt$Record" "answer" "[I") ∈ lw_all := lw_g (lw_at lw_m2 43 rfl) rfl
theorem q448 : (Jvm.Cond.fieldLink "AskingCourt$Record" (21 : Nat) "AskingCourt$Record" "days" "[I") ∈ lw_all := lw_g (lw_at lw_m2 45 rfl) rfl
theorem q450 : (Jvm.Cond.fieldLink "AskingCourt$Record" (24 : Nat) "AskingCourt$Record" "many" "I") ∈ lw_all := lw_g (lw_at lw_m2 47 rfl) rfl
theorem q452 : (Jvm.Cond.fieldLink "AskingCourt$Record" (28 : Nat) "AskingCourt$Record" "day" "I") ∈ lw_all := lw_g (lw_at lw_m2 49 rfl) rfl
theorem q455 : (Jvm.Cond.laysFinal "AskingCourt$Record" "AskingCourt$Record" "who" "[I") ∈ lw_all := lw_g (lw_at lw_m2 52 rfl) rfl
theorem q456 : (Jvm.Cond.soleField "AskingCourt$Record" "who") ∈ lw_all := lw_g (lw_at lw_m2 53 rfl) rfl
theorem q457 : (Jvm.Cond.laysFinal "AskingCourt$Record" "AskingCourt$Record" "what" "[I") ∈ lw_all := lw_g (lw_at lw_m2 54 rfl) rfl
theorem q458 : (Jvm.Cond.soleField "AskingCourt$Record" "what") ∈ lw_all := lw_g (lw_at lw_m2 55 rfl) rfl
theorem q459 : (Jvm.Cond.laysFinal "AskingCourt$Record" "AskingCourt$Record" "answer" "[I") ∈ lw_all := lw_g (lw_at lw_m2 56 rfl) rfl
theorem q460 : (Jvm.Cond.soleField "AskingCourt$Record" "answer") ∈ lw_all := lw_g (lw_at lw_m2 57 rfl) rfl
theorem q461 : (Jvm.Cond.laysFinal "AskingCourt$Record" "AskingCourt$Record" "days" "[I") ∈ lw_all := lw_g (lw_at lw_m2 58 rfl) rfl
theorem q462 : (Jvm.Cond.soleField "AskingCourt$Record" "days") ∈ lw_all := lw_g (lw_at lw_m2 59 rfl) rfl
theorem q463 : (Jvm.Cond.lays "AskingCourt$Record" "AskingCourt$Record" "many" "I") ∈ lw_all := lw_g (lw_at lw_m2 60 rfl) rfl
theorem q464 : (Jvm.Cond.soleField "AskingCourt$Record" "many") ∈ lw_all := lw_g (lw_at lw_m2 61 rfl) rfl
theorem q465 : (Jvm.Cond.lays "AskingCourt$Record" "AskingCourt$Record" "day" "I") ∈ lw_all := lw_g (lw_at lw_m2 62 rfl) rfl
theorem q466 : (Jvm.Cond.soleField "AskingCourt$Record" "day") ∈ lw_all := lw_g (lw_at lw_m2 63 rfl) rfl
theorem q467 : (Jvm.Cond.superclass "AskingCourt$Record" "java/lang/Object") ∈ lw_all := lw_g (lw_at lw_m2 64 rfl) rfl
theorem q1018 : (Jvm.Cond.fieldLinkNest "AskingCourt$Record" (81 : Nat) "AskingCourt$Witness" "may" "[I" "AskingCourt") ∈ lw_tbl := lw_at lw_m4 135 rfl
theorem q1074 : (Jvm.Cond.instanceMethod ({ cls := "AskingCourt$Record", name := "clear", desc := "()V" } : Jvm.MethodName)) ∈ lw_all := lw_g (lw_at lw_m4 191 rfl) rfl
theorem q1075 : (Jvm.Cond.selects "AskingCourt$Record" ({ cls := "AskingCourt$Record", name := "clear", desc := "()V" } : Jvm.MethodName) ({ cls := "AskingCourt$Record", name := "clear", desc := "()V" } : Jvm.MethodName)) ∈ lw_all := lw_g (lw_at lw_m4 192 rfl) rfl
theorem q1076 : (Jvm.Cond.code ({ cls := "AskingCourt$Record", name := "clear", desc := "()V" } : Jvm.MethodName) prog_9_method_2_code (1 : Nat) (Option.none : Option Jvm.ClassFile.FieldType)) ∈ lw_all := lw_g (lw_at lw_m4 193 rfl) rfl
theorem q1208 : (Jvm.Cond.instanceMethod ({ cls := "AskingCourt$Record", name := "putToday", desc := "()I" } : Jvm.MethodName)) ∈ lw_all := lw_g (lw_at lw_m5 85 rfl) rfl
theorem q1209 : (Jvm.Cond.selects "AskingCourt$Record" ({ cls := "AskingCourt$Record", name := "putToday", desc := "()I" } : Jvm.MethodName) ({ cls := "AskingCourt$Record", name := "putToday", desc := "()I" } : Jvm.MethodName)) ∈ lw_all := lw_g (lw_at lw_m5 86 rfl) rfl
theorem q1210 : (Jvm.Cond.code ({ cls := "AskingCourt$Record", name := "putToday", desc := "()I" } : Jvm.MethodName) prog_9_method_5_code (3 : Nat) (Option.some Jvm.ClassFile.FieldType.int)) ∈ lw_all := lw_g (lw_at lw_m5 87 rfl) rfl
theorem q1267 : (Jvm.Cond.instanceMethod ({ cls := "AskingCourt$Record", name := "wasPut", desc := "(I)Z" } : Jvm.MethodName)) ∈ lw_all := lw_g (lw_at lw_m5 144 rfl) rfl
theorem q1268 : (Jvm.Cond.selects "AskingCourt$Record" ({ cls := "AskingCourt$Record", name := "wasPut", desc := "(I)Z" } : Jvm.MethodName) ({ cls := "AskingCourt$Record", name := "wasPut", desc := "(I)Z" } : Jvm.MethodName)) ∈ lw_all := lw_g (lw_at lw_m5 145 rfl) rfl
theorem q1269 : (Jvm.Cond.code ({ cls := "AskingCourt$Record", name := "wasPut", desc := "(I)Z" } : Jvm.MethodName) prog_9_method_4_code (3 : Nat) (Option.some Jvm.ClassFile.FieldType.boolean)) ∈ lw_all := lw_g (lw_at lw_m5 146 rfl) rfl
theorem q1271 : (Jvm.Cond.instanceMethod ({ cls := "AskingCourt$Record", name := "hear", desc := "(III)V" } : Jvm.MethodName)) ∈ lw_all := lw_g (lw_at lw_m5 148 rfl) rfl
theorem q1272 : (Jvm.Cond.selects "AskingCourt$Record" ({ cls := "AskingCourt$Record", name := "hear", desc := "(III)V" } : Jvm.MethodName) ({ cls := "AskingCourt$Record", name := "hear", desc := "(III)V" } : Jvm.MethodName)) ∈ lw_all := lw_g (lw_at lw_m5 149 rfl) rfl
theorem q1273 : (Jvm.Cond.code ({ cls := "AskingCourt$Record", name := "hear", desc := "(III)V" } : Jvm.MethodName) prog_9_method_6_code (4 : Nat) (Option.none : Option Jvm.ClassFile.FieldType)) ∈ lw_all := lw_g (lw_at lw_m5 150 rfl) rfl
theorem q1291 : (Jvm.Cond.instanceMethod ({ cls := "AskingCourt$Record", name := "all", desc := "()I" } : Jvm.MethodName)) ∈ lw_all := lw_g (lw_at lw_m5 168 rfl) rfl
theorem q1292 : (Jvm.Cond.selects "AskingCourt$Record" ({ cls := "AskingCourt$Record", name := "all", desc := "()I" } : Jvm.MethodName) ({ cls := "AskingCourt$Record", name := "all", desc := "()I" } : Jvm.MethodName)) ∈ lw_all := lw_g (lw_at lw_m5 169 rfl) rfl
theorem q1293 : (Jvm.Cond.code ({ cls := "AskingCourt$Record", name := "all", desc := "()I" } : Jvm.MethodName) prog_9_method_8_code (1 : Nat) (Option.some Jvm.ClassFile.FieldType.int)) ∈ lw_all := lw_g (lw_at lw_m5 170 rfl) rfl
theorem q1299 : (Jvm.Cond.instanceMethod ({ cls := "AskingCourt$Record", name := "left", desc := "(LAskingCourt$Case;I)I" } : Jvm.MethodName)) ∈ lw_all := lw_g (lw_at lw_m5 176 rfl) rfl
theorem q1300 : (Jvm.Cond.selects "AskingCourt$Record" ({ cls := "AskingCourt$Record", name := "left", desc := "(LAskingCourt$Case;I)I" } : Jvm.MethodName) ({ cls := "AskingCourt$Record", name := "left", desc := "(LAskingCourt$Case;I)I" } : Jvm.MethodName)) ∈ lw_all := lw_g (lw_at lw_m5 177 rfl) rfl
theorem q1301 : (Jvm.Cond.code ({ cls := "AskingCourt$Record", name := "left", desc := "(LAskingCourt$Case;I)I" } : Jvm.MethodName) prog_9_method_10_code (5 : Nat) (Option.some Jvm.ClassFile.FieldType.int)) ∈ lw_all := lw_g (lw_at lw_m5 178 rfl) rfl
theorem q1302 : (Jvm.Cond.methodLink "AskingCourt$Record" (70 : Nat) ({ cls := "AskingCourt$Record", name := "isLeft", desc := "(LAskingCourt$Case;II)Z" } : Jvm.MethodName)) ∈ lw_all := lw_g (lw_at lw_m5 179 rfl) rfl
theorem q1303 : (Jvm.Cond.instanceMethod ({ cls := "AskingCourt$Record", name := "isLeft", desc := "(LAskingCourt$Case;II)Z" } : Jvm.MethodName)) ∈ lw_all := lw_g (lw_at lw_m5 180 rfl) rfl
theorem q1304 : (Jvm.Cond.selects "AskingCourt$Record" ({ cls := "AskingCourt$Record", name := "isLeft", desc := "(LAskingCourt$Case;II)Z" } : Jvm.MethodName) ({ cls := "AskingCourt$Record", name := "isLeft", desc := "(LAskingCourt$Case;II)Z" } : Jvm.MethodName)) ∈ lw_all := lw_g (lw_at lw_m5 181 rfl) rfl
theorem q1305 : (Jvm.Cond.code ({ cls := "AskingCourt$Record", name := "isLeft", desc := "(LAskingCourt$Case;II)Z" } : Jvm.MethodName) prog_9_method_9_code (5 : Nat) (Option.some Jvm.ClassFile.FieldType.boolean)) ∈ lw_all := lw_g (lw_at lw_m5 182 rfl) rfl
theorem q1306 : (Jvm.Cond.methodLink "AskingCourt$Record" (46 : Nat) ({ cls := "AskingCourt$Worlds", name := "has", desc := "(I)Z" } : Jvm.MethodName)) ∈ lw_all := lw_g (lw_at lw_m5 183 rfl) rfl
theorem q1307 : (Jvm.Cond.methodLink "AskingCourt$Record" (53 : Nat) ({ cls := "AskingCourt$Record", name := "fits", desc := "(LAskingCourt$Case;III)I" } : Jvm.MethodName)) ∈ lw_all := lw_g (lw_at lw_m5 184 rfl) rfl
theorem q1308 : (Jvm.Cond.instanceMethod ({ cls := "AskingCourt$Record", name := "fits", desc := "(LAskingCourt$Case;III)I" } : Jvm.MethodName)) ∈ lw_all := lw_g (lw_at lw_m5 185 rfl) rfl
theorem q1309 : (Jvm.Cond.selects "AskingCourt$Record" ({ cls := "AskingCourt$Record", name := "fits", desc := "(LAskingCourt$Case;III)I" } : Jvm.MethodName) ({ cls := "AskingCourt$Record", name := "fits", desc := "(LAskingCourt$Case;III)I" } : Jvm.MethodName)) ∈ lw_all := lw_g (lw_at lw_m5 186 rfl) rfl
theorem q1310 : (Jvm.Cond.code ({ cls := "AskingCourt$Record", name := "fits", desc := "(LAskingCourt$Case;III)I" } : Jvm.MethodName) prog_9_method_7_code (8 : Nat) (Option.some Jvm.ClassFile.FieldType.int)) ∈ lw_all := lw_g (lw_at lw_m5 187 rfl) rfl
theorem q1311 : (Jvm.Cond.methodLink "AskingCourt$Record" (37 : Nat) ({ cls := "AskingCourt$Case", name := "answer", desc := "(IIII)I" } : Jvm.MethodName)) ∈ lw_all := lw_g (lw_at lw_m5 188 rfl) rfl
theorem q1312 : (Jvm.Cond.methodLink "AskingCourt$Record" (61 : Nat) ({ cls := "AskingCourt$Witness", name := "mayBe", desc := "()I" } : Jvm.MethodName)) ∈ lw_all := lw_g (lw_at lw_m5 189 rfl) rfl
theorem q1332 : (Jvm.Cond.instanceMethod ({ cls := "AskingCourt$Record", name := "sure", desc := "(LAskingCourt$Case;II)I" } : Jvm.MethodName)) ∈ lw_all := lw_g (lw_at lw_m5 209 rfl) rfl
theorem q1333 : (Jvm.Cond.selects "AskingCourt$Record" ({ cls := "AskingCourt$Record", name := "sure", desc := "(LAskingCourt$Case;II)I" } : Jvm.MethodName) ({ cls := "AskingCourt$Record", name := "sure", desc := "(LAskingCourt$Case;II)I" } : Jvm.MethodName)) ∈ lw_all := lw_g (lw_at lw_m5 210 rfl) rfl
theorem q1334 : (Jvm.Cond.code ({ cls := "AskingCourt$Record", name := "sure", desc := "(LAskingCourt$Case;II)I" } : Jvm.MethodName) prog_9_method_11_code (7 : Nat) (Option.some Jvm.ClassFile.FieldType.int)) ∈ lw_all := lw_g (lw_at lw_m5 211 rfl) rfl
theorem q1344 : (Jvm.Cond.instanceMethod ({ cls := "AskingCourt$Record", name := "weight", desc := "(LAskingCourt$Case;III)J" } : Jvm.MethodName)) ∈ lw_all := lw_g (lw_at lw_m5 221 rfl) rfl
theorem q1345 : (Jvm.Cond.selects "AskingCourt$Record" ({ cls := "AskingCourt$Record", name := "weight", desc := "(LAskingCourt$Case;III)J" } : Jvm.MethodName) ({ cls := "AskingCourt$Record", name := "weight", desc := "(LAskingCourt$Case;III)J" } : Jvm.MethodName)) ∈ lw_all := lw_g (lw_at lw_m5 222 rfl) rfl
theorem q1346 : (Jvm.Cond.code ({ cls := "AskingCourt$Record", name := "weight", desc := "(LAskingCourt$Case;III)J" } : Jvm.MethodName) prog_9_method_13_code (8 : Nat) (Option.some Jvm.ClassFile.FieldType.long)) ∈ lw_all := lw_g (lw_at lw_m5 223 rfl) rfl
theorem q1347 : (Jvm.Cond.methodLink "AskingCourt$Record" (84 : Nat) ({ cls := "AskingCourt$Case", name := "weight", desc := "(I)J" } : Jvm.MethodName)) ∈ lw_all := lw_g (lw_at lw_m5 224 rfl) rfl
theorem q1351 : (Jvm.Cond.methodLink "AskingCourt$Record" (88 : Nat) ({ cls := "AskingCourt$Record", name := "trusted", desc := "(LAskingCourt$Case;III)I" } : Jvm.MethodName)) ∈ lw_all := lw_g (lw_at lw_m5 228 rfl) rfl
theorem q1352 : (Jvm.Cond.privateMethod ({ cls := "AskingCourt$Record", name := "trusted", desc := "(LAskingCourt$Case;III)I" } : Jvm.MethodName)) ∈ lw_tbl := lw_at lw_m5 229 rfl
theorem q1353 : (Jvm.Cond.instanceMethod ({ cls := "AskingCourt$Record", name := "trusted", desc := "(LAskingCourt$Case;III)I" } : Jvm.MethodName)) ∈ lw_all := lw_g (lw_at lw_m5 230 rfl) rfl
theorem q1354 : (Jvm.Cond.code ({ cls := "AskingCourt$Record", name := "trusted", desc := "(LAskingCourt$Case;III)I" } : Jvm.MethodName) prog_9_method_12_code (8 : Nat) (Option.some Jvm.ClassFile.FieldType.int)) ∈ lw_all := lw_g (lw_at lw_m5 231 rfl) rfl
theorem q1355 : (Jvm.Cond.methodLink "AskingCourt$Record" (78 : Nat) ({ cls := "AskingCourt$Record", name := "all", desc := "()I" } : Jvm.MethodName)) ∈ lw_all := lw_g (lw_at lw_m5 232 rfl) rfl
theorem q1398 : (Jvm.Cond.instanceMethod ({ cls := "AskingCourt$Record", name := "fees", desc := "(LAskingCourt$Case;)I" } : Jvm.MethodName)) ∈ lw_all := lw_g (lw_at lw_m6 35 rfl) rfl
theorem q1399 : (Jvm.Cond.selects "AskingCourt$Record" ({ cls := "AskingCourt$Record", name := "fees", desc := "(LAskingCourt$Case;)I" } : Jvm.MethodName) ({ cls := "AskingCourt$Record", name := "fees", desc := "(LAskingCourt$Case;)I" } : Jvm.MethodName)) ∈ lw_all := lw_g (lw_at lw_m6 36 rfl) rfl
theorem q1400 : (Jvm.Cond.code ({ cls := "AskingCourt$Record", name := "fees", desc := "(LAskingCourt$Case;)I" } : Jvm.MethodName) prog_9_method_14_code (4 : Nat) (Option.some Jvm.ClassFile.FieldType.int)) ∈ lw_all := lw_g (lw_at lw_m6 37 rfl) rfl
theorem q1579 : (Jvm.Cond.instanceMethod ({ cls := "AskingCourt$Record", name := "be", desc := "(LAskingCourt$Record;)V" } : Jvm.MethodName)) ∈ lw_all := lw_g (lw_at lw_m6 216 rfl) rfl
theorem q1580 : (Jvm.Cond.selects "AskingCourt$Record" ({ cls := "AskingCourt$Record", name := "be", desc := "(LAskingCourt$Record;)V" } : Jvm.MethodName) ({ cls := "AskingCourt$Record", name := "be", desc := "(LAskingCourt$Record;)V" } : Jvm.MethodName)) ∈ lw_all := lw_g (lw_at lw_m6 217 rfl) rfl
theorem q1581 : (Jvm.Cond.code ({ cls := "AskingCourt$Record", name := "be", desc := "(LAskingCourt$Record;)V" } : Jvm.MethodName) prog_9_method_3_code (2 : Nat) (Option.none : Option Jvm.ClassFile.FieldType)) ∈ lw_all := lw_g (lw_at lw_m6 218 rfl) rfl
theorem q1582 : (Jvm.Cond.methodLink "AskingCourt$Record" (31 : Nat) ({ cls := "java/lang/System", name := "arraycopy", desc := "(Ljava/lang/Object;ILjava/lang/Object;II)V" } : Jvm.MethodName)) ∈ lw_all := lw_g (lw_at lw_m6 219 rfl) rfl
theorem in_X7 : ∀ w ∈ wsX70, w ∈ lw_all := lw_in wsX70 [455, 457, 459, 461, 463, 465] (by decide +kernel) (by decide +kernel)
/-! AskingCourt$Reader -/
set_option maxRecDepth 100000
def RX10 : String := "AskingCourt$Reader"
def TX10 : u_T := fun k => match k with
  | 0 => ("AskingCourt$Reader", "size", "I", true)
  | 1 => ("AskingCourt$Reader", "at", "I", false)
  | 2 => ("AskingCourt$Reader", "behind", "I", false)
  | 3 => ("AskingCourt$Reader", "sort", "I", false)
  | 4 => ("AskingCourt$Reader", "number", "I", false)
  | 5 => ("AskingCourt$Reader", "steps", "I", false)
  | _ => ("AskingCourt$Reader", "this$0", "LAskingCourt;", true)
def tyX10 : Nat → FieldType := fun k => match k with
  | 0 => .int
  | 1 => .int
  | 2 => .int
  | 3 => .int
  | 4 => .int
  | 5 => .int
  | _ => .object "AskingCourt"
abbrev wsX100 : List Cond := u_ws RX10 TX10 7
theorem nmX10 : ∀ a, a < 7 → ∀ b, b < 7 → a ≠ b → (TX10 a).2.1 ≠ (TX10 b).2.1 := by decide +kernel
theorem tyX10_ok : ∀ k, k < 7 → parseFieldDescriptor (TX10 k).2.2.1 = some (tyX10 k) := by decide +kernel
abbrev cX10_init : ByteArray := prog_8_method_1_code
def yX10_init : MethodName := ⟨RX10, "<init>", "(LAskingCourt;I)V"⟩
def dkwX10_init_0 : List UInt8 := [42, 43, 181, 0, 3, 42, 183, 0, 9, 42, 28, 181, 0, 15, 42, 182, 0, 19, 177]
abbrev dktX10_init_0 : List UInt8 := dkwX10_init_0 ++ []
theorem dksX10_init_0 : cX10_init.data.toList.drop 0 = dktX10_init_0 := by decide +kernel
theorem dX10_init_0 : decode cX10_init 0 = .ok (.aload_n 0, 1) := dk_42 (dk_at dksX10_init_0 0 rfl rfl)
theorem dX10_init_1 : decode cX10_init 1 = .ok (.aload_n 1, 1) := dk_43 (dk_at dksX10_init_0 1 rfl rfl)
theorem dX10_init_2 : decode cX10_init 2 = .ok (.putfield 3, 3) := dk_181 0 3 (dk_at dksX10_init_0 2 rfl rfl)
theorem dX10_init_5 : decode cX10_init 5 = .ok (.aload_n 0, 1) := dk_42 (dk_at dksX10_init_0 5 rfl rfl)
theorem dX10_init_6 : decode cX10_init 6 = .ok (.invokespecial 9, 3) := dk_183 0 9 (dk_at dksX10_init_0 6 rfl rfl)
theorem dX10_init_9 : decode cX10_init 9 = .ok (.aload_n 0, 1) := dk_42 (dk_at dksX10_init_0 9 rfl rfl)
theorem dX10_init_10 : decode cX10_init 10 = .ok (.iload_n 2, 1) := dk_28 (dk_at dksX10_init_0 10 rfl rfl)
theorem dX10_init_11 : decode cX10_init 11 = .ok (.putfield 15, 3) := dk_181 0 15 (dk_at dksX10_init_0 11 rfl rfl)
theorem dX10_init_14 : decode cX10_init 14 = .ok (.aload_n 0, 1) := dk_42 (dk_at dksX10_init_0 14 rfl rfl)
theorem dX10_init_15 : decode cX10_init 15 = .ok (.invokevirtual 19, 3) := dk_182 0 19 (dk_at dksX10_init_0 15 rfl rfl)
theorem dX10_init_18 : decode cX10_init 18 = .ok (.return_, 1) := dk_177 (dk_at dksX10_init_0 18 rfl rfl)
abbrev cX10_next : ByteArray := prog_8_method_4_code
def yX10_next : MethodName := ⟨RX10, "next", "()V"⟩
def dkwX10_next_13 : List UInt8 := [7, 181, 0, 32, 177]
abbrev dktX10_next_13 : List UInt8 := dkwX10_next_13 ++ []
def dkwX10_next_12 : List UInt8 := [159, 0, 20, 42, 180, 0, 3, 180, 0, 22, 42, 180, 0, 29, 51, 16, 41, 160, 0, 7, 6, 167, 0, 4]
abbrev dktX10_next_12 : List UInt8 := dkwX10_next_12 ++ dktX10_next_13
def dkwX10_next_11 : List UInt8 := [180, 0, 29, 51, 16, 59, 159, 0, 37, 42, 180, 0, 3, 180, 0, 22, 42, 180, 0, 29, 51, 16, 40]
abbrev dktX10_next_11 : List UInt8 := dkwX10_next_11 ++ dktX10_next_12
def dkwX10_next_10 : List UInt8 := [167, 0, 73, 42, 42, 180, 0, 29, 4, 96, 181, 0, 26, 42, 42, 180, 0, 3, 180, 0, 22, 42]
abbrev dktX10_next_10 : List UInt8 := dkwX10_next_10 ++ dktX10_next_11
def dkwX10_next_9 : List UInt8 := [42, 42, 180, 0, 26, 42, 180, 0, 29, 100, 7, 164, 0, 7, 7, 167, 0, 4, 5, 181, 0, 32]
abbrev dktX10_next_9 : List UInt8 := dkwX10_next_9 ++ dktX10_next_10
def dkwX10_next_8 : List UInt8 := [180, 0, 26, 51, 96, 16, 48, 100, 181, 0, 42, 42, 89, 180, 0, 26, 4, 96, 181, 0, 26, 167, 255, 195]
abbrev dktX10_next_8 : List UInt8 := dkwX10_next_8 ++ dktX10_next_9
def dkwX10_next_7 : List UInt8 := [180, 0, 29, 100, 7, 162, 0, 30, 42, 16, 10, 42, 180, 0, 42, 104, 42, 180, 0, 3, 180, 0, 22, 42]
abbrev dktX10_next_7 : List UInt8 := dkwX10_next_7 ++ dktX10_next_8
def dkwX10_next_6 : List UInt8 := [153, 0, 97, 42, 3, 181, 0, 42, 42, 42, 180, 0, 26, 182, 0, 39, 153, 0, 56, 42, 180, 0, 26, 42]
abbrev dktX10_next_6 : List UInt8 := dkwX10_next_6 ++ dktX10_next_7
def dkwX10_next_5 : List UInt8 := [153, 0, 191, 42, 89, 180, 0, 26, 4, 96, 181, 0, 26, 167, 255, 235, 42, 42, 180, 0, 29, 182, 0, 39]
abbrev dktX10_next_5 : List UInt8 := dkwX10_next_5 ++ dktX10_next_6
def dkwX10_next_4 : List UInt8 := [180, 0, 29, 182, 0, 35, 153, 0, 32, 42, 4, 181, 0, 32, 42, 42, 180, 0, 26, 182, 0, 35]
abbrev dktX10_next_4 : List UInt8 := dkwX10_next_4 ++ dktX10_next_5
def dkwX10_next_3 : List UInt8 := [181, 0, 26, 42, 3, 181, 0, 32, 42, 180, 0, 29, 42, 180, 0, 15, 161, 0, 4, 177, 42, 42]
abbrev dktX10_next_3 : List UInt8 := dkwX10_next_3 ++ dktX10_next_4
def dkwX10_next_2 : List UInt8 := [51, 16, 32, 160, 0, 16, 42, 89, 180, 0, 29, 4, 96, 181, 0, 29, 167, 255, 201, 42, 42, 180, 0, 29]
abbrev dktX10_next_2 : List UInt8 := dkwX10_next_2 ++ dktX10_next_3
def dkwX10_next_1 : List UInt8 := [180, 0, 22, 42, 180, 0, 29, 51, 16, 10, 159, 0, 20, 42, 180, 0, 3, 180, 0, 22, 42, 180, 0, 29]
abbrev dktX10_next_1 : List UInt8 := dkwX10_next_1 ++ dktX10_next_2
def dkwX10_next_0 : List UInt8 := [42, 42, 180, 0, 26, 181, 0, 29, 42, 180, 0, 29, 42, 180, 0, 15, 162, 0, 50, 42, 180, 0, 3]
abbrev dktX10_next_0 : List UInt8 := dkwX10_next_0 ++ dktX10_next_1
theorem dksX10_next_0 : cX10_next.data.toList.drop 0 = dktX10_next_0 := by decide +kernel
theorem dksX10_next_1 : cX10_next.data.toList.drop 23 = dktX10_next_1 := dk_seg dksX10_next_0 23 rfl rfl
theorem dksX10_next_2 : cX10_next.data.toList.drop 47 = dktX10_next_2 := dk_seg dksX10_next_1 24 rfl rfl
theorem dksX10_next_3 : cX10_next.data.toList.drop 71 = dktX10_next_3 := dk_seg dksX10_next_2 24 rfl rfl
theorem dksX10_next_4 : cX10_next.data.toList.drop 93 = dktX10_next_4 := dk_seg dksX10_next_3 22 rfl rfl
theorem dksX10_next_5 : cX10_next.data.toList.drop 115 = dktX10_next_5 := dk_seg dksX10_next_4 22 rfl rfl
theorem dksX10_next_6 : cX10_next.data.toList.drop 139 = dktX10_next_6 := dk_seg dksX10_next_5 24 rfl rfl
theorem dksX10_next_7 : cX10_next.data.toList.drop 163 = dktX10_next_7 := dk_seg dksX10_next_6 24 rfl rfl
theorem dksX10_next_8 : cX10_next.data.toList.drop 187 = dktX10_next_8 := dk_seg dksX10_next_7 24 rfl rfl
theorem dksX10_next_9 : cX10_next.data.toList.drop 211 = dktX10_next_9 := dk_seg dksX10_next_8 24 rfl rfl
theorem dksX10_next_10 : cX10_next.data.toList.drop 233 = dktX10_next_10 := dk_seg dksX10_next_9 22 rfl rfl
theorem dksX10_next_11 : cX10_next.data.toList.drop 255 = dktX10_next_11 := dk_seg dksX10_next_10 22 rfl rfl
theorem dksX10_next_12 : cX10_next.data.toList.drop 278 = dktX10_next_12 := dk_seg dksX10_next_11 23 rfl rfl
theorem dksX10_next_13 : cX10_next.data.toList.drop 302 = dktX10_next_13 := dk_seg dksX10_next_12 24 rfl rfl
theorem dX10_next_0 : decode cX10_next 0 = .ok (.aload_n 0, 1) := dk_42 (dk_at dksX10_next_0 0 rfl rfl)
theorem dX10_next_1 : decode cX10_next 1 = .ok (.aload_n 0, 1) := dk_42 (dk_at dksX10_next_0 1 rfl rfl)
theorem dX10_next_2 : decode cX10_next 2 = .ok (.getfield 26, 3) := dk_180 0 26 (dk_at dksX10_next_0 2 rfl rfl)
theorem dX10_next_5 : decode cX10_next 5 = .ok (.putfield 29, 3) := dk_181 0 29 (dk_at dksX10_next_0 5 rfl rfl)
theorem dX10_next_8 : decode cX10_next 8 = .ok (.aload_n 0, 1) := dk_42 (dk_at dksX10_next_0 8 rfl rfl)
theorem dX10_next_9 : decode cX10_next 9 = .ok (.getfield 29, 3) := dk_180 0 29 (dk_at dksX10_next_0 9 rfl rfl)
theorem dX10_next_12 : decode cX10_next 12 = .ok (.aload_n 0, 1) := dk_42 (dk_at dksX10_next_0 12 rfl rfl)
theorem dX10_next_13 : decode cX10_next 13 = .ok (.getfield 15, 3) := dk_180 0 15 (dk_at dksX10_next_0 13 rfl rfl)
theorem dX10_next_16 : decode cX10_next 16 = .ok (.if_icmp .ge 50, 3) := dk_162 0 50 (dk_at dksX10_next_0 16 rfl rfl)
theorem dX10_next_19 : decode cX10_next 19 = .ok (.aload_n 0, 1) := dk_42 (dk_at dksX10_next_0 19 rfl rfl)
theorem dX10_next_20 : decode cX10_next 20 = .ok (.getfield 3, 3) := dk_180 0 3 (dk_at dksX10_next_0 20 rfl rfl)
theorem dX10_next_23 : decode cX10_next 23 = .ok (.getfield 22, 3) := dk_180 0 22 (dk_at dksX10_next_1 0 rfl rfl)
theorem dX10_next_26 : decode cX10_next 26 = .ok (.aload_n 0, 1) := dk_42 (dk_at dksX10_next_1 3 rfl rfl)
theorem dX10_next_27 : decode cX10_next 27 = .ok (.getfield 29, 3) := dk_180 0 29 (dk_at dksX10_next_1 4 rfl rfl)
theorem dX10_next_30 : decode cX10_next 30 = .ok (.baload, 1) := dk_51 (dk_at dksX10_next_1 7 rfl rfl)
theorem dX10_next_31 : decode cX10_next 31 = .ok (.bipush 10, 2) := dk_16 10 (dk_at dksX10_next_1 8 rfl rfl)
theorem dX10_next_33 : decode cX10_next 33 = .ok (.if_icmp .eq 20, 3) := dk_159 0 20 (dk_at dksX10_next_1 10 rfl rfl)
theorem dX10_next_36 : decode cX10_next 36 = .ok (.aload_n 0, 1) := dk_42 (dk_at dksX10_next_1 13 rfl rfl)
theorem dX10_next_37 : decode cX10_next 37 = .ok (.getfield 3, 3) := dk_180 0 3 (dk_at dksX10_next_1 14 rfl rfl)
theorem dX10_next_40 : decode cX10_next 40 = .ok (.getfield 22, 3) := dk_180 0 22 (dk_at dksX10_next_1 17 rfl rfl)
theorem dX10_next_43 : decode cX10_next 43 = .ok (.aload_n 0, 1) := dk_42 (dk_at dksX10_next_1 20 rfl rfl)
theorem dX10_next_44 : decode cX10_next 44 = .ok (.getfield 29, 3) := dk_180 0 29 (dk_at dksX10_next_1 21 rfl rfl)
theorem dX10_next_47 : decode cX10_next 47 = .ok (.baload, 1) := dk_51 (dk_at dksX10_next_2 0 rfl rfl)
theorem dX10_next_48 : decode cX10_next 48 = .ok (.bipush 32, 2) := dk_16 32 (dk_at dksX10_next_2 1 rfl rfl)
theorem dX10_next_50 : decode cX10_next 50 = .ok (.if_icmp .ne 16, 3) := dk_160 0 16 (dk_at dksX10_next_2 3 rfl rfl)
theorem dX10_next_53 : decode cX10_next 53 = .ok (.aload_n 0, 1) := dk_42 (dk_at dksX10_next_2 6 rfl rfl)
theorem dX10_next_54 : decode cX10_next 54 = .ok (.dup, 1) := dk_89 (dk_at dksX10_next_2 7 rfl rfl)
theorem dX10_next_55 : decode cX10_next 55 = .ok (.getfield 29, 3) := dk_180 0 29 (dk_at dksX10_next_2 8 rfl rfl)
theorem dX10_next_58 : decode cX10_next 58 = .ok (.iconst 1, 1) := dk_4 (dk_at dksX10_next_2 11 rfl rfl)
theorem dX10_next_59 : decode cX10_next 59 = .ok (.iadd, 1) := dk_96 (dk_at dksX10_next_2 12 rfl rfl)
theorem dX10_next_60 : decode cX10_next 60 = .ok (.putfield 29, 3) := dk_181 0 29 (dk_at dksX10_next_2 13 rfl rfl)
theorem dX10_next_63 : decode cX10_next 63 = .ok (.goto (-55), 3) := dk_167 255 201 (dk_at dksX10_next_2 16 rfl rfl)
theorem dX10_next_66 : decode cX10_next 66 = .ok (.aload_n 0, 1) := dk_42 (dk_at dksX10_next_2 19 rfl rfl)
theorem dX10_next_67 : decode cX10_next 67 = .ok (.aload_n 0, 1) := dk_42 (dk_at dksX10_next_2 20 rfl rfl)
theorem dX10_next_68 : decode cX10_next 68 = .ok (.getfield 29, 3) := dk_180 0 29 (dk_at dksX10_next_2 21 rfl rfl)
theorem dX10_next_71 : decode cX10_next 71 = .ok (.putfield 26, 3) := dk_181 0 26 (dk_at dksX10_next_3 0 rfl rfl)
theorem dX10_next_74 : decode cX10_next 74 = .ok (.aload_n 0, 1) := dk_42 (dk_at dksX10_next_3 3 rfl rfl)
theorem dX10_next_75 : decode cX10_next 75 = .ok (.iconst 0, 1) := dk_3 (dk_at dksX10_next_3 4 rfl rfl)
theorem dX10_next_76 : decode cX10_next 76 = .ok (.putfield 32, 3) := dk_181 0 32 (dk_at dksX10_next_3 5 rfl rfl)
theorem dX10_next_79 : decode cX10_next 79 = .ok (.aload_n 0, 1) := dk_42 (dk_at dksX10_next_3 8 rfl rfl)
theorem dX10_next_80 : decode cX10_next 80 = .ok (.getfield 29, 3) := dk_180 0 29 (dk_at dksX10_next_3 9 rfl rfl)
theorem dX10_next_83 : decode cX10_next 83 = .ok (.aload_n 0, 1) := dk_42 (dk_at dksX10_next_3 12 rfl rfl)
theorem dX10_next_84 : decode cX10_next 84 = .ok (.getfield 15, 3) := dk_180 0 15 (dk_at dksX10_next_3 13 rfl rfl)
theorem dX10_next_87 : decode cX10_next 87 = .ok (.if_icmp .lt 4, 3) := dk_161 0 4 (dk_at dksX10_next_3 16 rfl rfl)
theorem dX10_next_90 : decode cX10_next 90 = .ok (.return_, 1) := dk_177 (dk_at dksX10_next_3 19 rfl rfl)
theorem dX10_next_91 : decode cX10_next 91 = .ok (.aload_n 0, 1) := dk_42 (dk_at dksX10_next_3 20 rfl rfl)
theorem dX10_next_92 : decode cX10_next 92 = .ok (.aload_n 0, 1) := dk_42 (dk_at dksX10_next_3 21 rfl rfl)
theorem dX10_next_93 : decode cX10_next 93 = .ok (.getfield 29, 3) := dk_180 0 29 (dk_at dksX10_next_4 0 rfl rfl)
theorem dX10_next_96 : decode cX10_next 96 = .ok (.invokevirtual 35, 3) := dk_182 0 35 (dk_at dksX10_next_4 3 rfl rfl)
theorem dX10_next_99 : decode cX10_next 99 = .ok (.ifCond .eq 32, 3) := dk_153 0 32 (dk_at dksX10_next_4 6 rfl rfl)
theorem dX10_next_102 : decode cX10_next 102 = .ok (.aload_n 0, 1) := dk_42 (dk_at dksX10_next_4 9 rfl rfl)
theorem dX10_next_103 : decode cX10_next 103 = .ok (.iconst 1, 1) := dk_4 (dk_at dksX10_next_4 10 rfl rfl)
theorem dX10_next_104 : decode cX10_next 104 = .ok (.putfield 32, 3) := dk_181 0 32 (dk_at dksX10_next_4 11 rfl rfl)
theorem dX10_next_107 : decode cX10_next 107 = .ok (.aload_n 0, 1) := dk_42 (dk_at dksX10_next_4 14 rfl rfl)
theorem dX10_next_108 : decode cX10_next 108 = .ok (.aload_n 0, 1) := dk_42 (dk_at dksX10_next_4 15 rfl rfl)
theorem dX10_next_109 : decode cX10_next 109 = .ok (.getfield 26, 3) := dk_180 0 26 (dk_at dksX10_next_4 16 rfl rfl)
theorem dX10_next_112 : decode cX10_next 112 = .ok (.invokevirtual 35, 3) := dk_182 0 35 (dk_at dksX10_next_4 19 rfl rfl)
theorem dX10_next_115 : decode cX10_next 115 = .ok (.ifCond .eq 191, 3) := dk_153 0 191 (dk_at dksX10_next_5 0 rfl rfl)
theorem dX10_next_118 : decode cX10_next 118 = .ok (.aload_n 0, 1) := dk_42 (dk_at dksX10_next_5 3 rfl rfl)
theorem dX10_next_119 : decode cX10_next 119 = .ok (.dup, 1) := dk_89 (dk_at dksX10_next_5 4 rfl rfl)
theorem dX10_next_120 : decode cX10_next 120 = .ok (.getfield 26, 3) := dk_180 0 26 (dk_at dksX10_next_5 5 rfl rfl)
theorem dX10_next_123 : decode cX10_next 123 = .ok (.iconst 1, 1) := dk_4 (dk_at dksX10_next_5 8 rfl rfl)
theorem dX10_next_124 : decode cX10_next 124 = .ok (.iadd, 1) := dk_96 (dk_at dksX10_next_5 9 rfl rfl)
theorem dX10_next_125 : decode cX10_next 125 = .ok (.putfield 26, 3) := dk_181 0 26 (dk_at dksX10_next_5 10 rfl rfl)
theorem dX10_next_128 : decode cX10_next 128 = .ok (.goto (-21), 3) := dk_167 255 235 (dk_at dksX10_next_5 13 rfl rfl)
theorem dX10_next_131 : decode cX10_next 131 = .ok (.aload_n 0, 1) := dk_42 (dk_at dksX10_next_5 16 rfl rfl)
theorem dX10_next_132 : decode cX10_next 132 = .ok (.aload_n 0, 1) := dk_42 (dk_at dksX10_next_5 17 rfl rfl)
theorem dX10_next_133 : decode cX10_next 133 = .ok (.getfield 29, 3) := dk_180 0 29 (dk_at dksX10_next_5 18 rfl rfl)
theorem dX10_next_136 : decode cX10_next 136 = .ok (.invokevirtual 39, 3) := dk_182 0 39 (dk_at dksX10_next_5 21 rfl rfl)
theorem dX10_next_139 : decode cX10_next 139 = .ok (.ifCond .eq 97, 3) := dk_153 0 97 (dk_at dksX10_next_6 0 rfl rfl)
theorem dX10_next_142 : decode cX10_next 142 = .ok (.aload_n 0, 1) := dk_42 (dk_at dksX10_next_6 3 rfl rfl)
theorem dX10_next_143 : decode cX10_next 143 = .ok (.iconst 0, 1) := dk_3 (dk_at dksX10_next_6 4 rfl rfl)
theorem dX10_next_144 : decode cX10_next 144 = .ok (.putfield 42, 3) := dk_181 0 42 (dk_at dksX10_next_6 5 rfl rfl)
theorem dX10_next_147 : decode cX10_next 147 = .ok (.aload_n 0, 1) := dk_42 (dk_at dksX10_next_6 8 rfl rfl)
theorem dX10_next_148 : decode cX10_next 148 = .ok (.aload_n 0, 1) := dk_42 (dk_at dksX10_next_6 9 rfl rfl)
theorem dX10_next_149 : decode cX10_next 149 = .ok (.getfield 26, 3) := dk_180 0 26 (dk_at dksX10_next_6 10 rfl rfl)
theorem dX10_next_152 : decode cX10_next 152 = .ok (.invokevirtual 39, 3) := dk_182 0 39 (dk_at dksX10_next_6 13 rfl rfl)
theorem dX10_next_155 : decode cX10_next 155 = .ok (.ifCond .eq 56, 3) := dk_153 0 56 (dk_at dksX10_next_6 16 rfl rfl)
theorem dX10_next_158 : decode cX10_next 158 = .ok (.aload_n 0, 1) := dk_42 (dk_at dksX10_next_6 19 rfl rfl)
theorem dX10_next_159 : decode cX10_next 159 = .ok (.getfield 26, 3) := dk_180 0 26 (dk_at dksX10_next_6 20 rfl rfl)
theorem dX10_next_162 : decode cX10_next 162 = .ok (.aload_n 0, 1) := dk_42 (dk_at dksX10_next_6 23 rfl rfl)
theorem dX10_next_163 : decode cX10_next 163 = .ok (.getfield 29, 3) := dk_180 0 29 (dk_at dksX10_next_7 0 rfl rfl)
theorem dX10_next_166 : decode cX10_next 166 = .ok (.isub, 1) := dk_100 (dk_at dksX10_next_7 3 rfl rfl)
theorem dX10_next_167 : decode cX10_next 167 = .ok (.iconst 4, 1) := dk_7 (dk_at dksX10_next_7 4 rfl rfl)
theorem dX10_next_168 : decode cX10_next 168 = .ok (.if_icmp .ge 30, 3) := dk_162 0 30 (dk_at dksX10_next_7 5 rfl rfl)
theorem dX10_next_171 : decode cX10_next 171 = .ok (.aload_n 0, 1) := dk_42 (dk_at dksX10_next_7 8 rfl rfl)
theorem dX10_next_172 : decode cX10_next 172 = .ok (.bipush 10, 2) := dk_16 10 (dk_at dksX10_next_7 9 rfl rfl)
theorem dX10_next_174 : decode cX10_next 174 = .ok (.aload_n 0, 1) := dk_42 (dk_at dksX10_next_7 11 rfl rfl)
theorem dX10_next_175 : decode cX10_next 175 = .ok (.getfield 42, 3) := dk_180 0 42 (dk_at dksX10_next_7 12 rfl rfl)
theorem dX10_next_178 : decode cX10_next 178 = .ok (.imul, 1) := dk_104 (dk_at dksX10_next_7 15 rfl rfl)
theorem dX10_next_179 : decode cX10_next 179 = .ok (.aload_n 0, 1) := dk_42 (dk_at dksX10_next_7 16 rfl rfl)
theorem dX10_next_180 : decode cX10_next 180 = .ok (.getfield 3, 3) := dk_180 0 3 (dk_at dksX10_next_7 17 rfl rfl)
theorem dX10_next_183 : decode cX10_next 183 = .ok (.getfield 22, 3) := dk_180 0 22 (dk_at dksX10_next_7 20 rfl rfl)
theorem dX10_next_186 : decode cX10_next 186 = .ok (.aload_n 0, 1) := dk_42 (dk_at dksX10_next_7 23 rfl rfl)
theorem dX10_next_187 : decode cX10_next 187 = .ok (.getfield 26, 3) := dk_180 0 26 (dk_at dksX10_next_8 0 rfl rfl)
theorem dX10_next_190 : decode cX10_next 190 = .ok (.baload, 1) := dk_51 (dk_at dksX10_next_8 3 rfl rfl)
theorem dX10_next_191 : decode cX10_next 191 = .ok (.iadd, 1) := dk_96 (dk_at dksX10_next_8 4 rfl rfl)
theorem dX10_next_192 : decode cX10_next 192 = .ok (.bipush 48, 2) := dk_16 48 (dk_at dksX10_next_8 5 rfl rfl)
theorem dX10_next_194 : decode cX10_next 194 = .ok (.isub, 1) := dk_100 (dk_at dksX10_next_8 7 rfl rfl)
theorem dX10_next_195 : decode cX10_next 195 = .ok (.putfield 42, 3) := dk_181 0 42 (dk_at dksX10_next_8 8 rfl rfl)
theorem dX10_next_198 : decode cX10_next 198 = .ok (.aload_n 0, 1) := dk_42 (dk_at dksX10_next_8 11 rfl rfl)
theorem dX10_next_199 : decode cX10_next 199 = .ok (.dup, 1) := dk_89 (dk_at dksX10_next_8 12 rfl rfl)
theorem dX10_next_200 : decode cX10_next 200 = .ok (.getfield 26, 3) := dk_180 0 26 (dk_at dksX10_next_8 13 rfl rfl)
theorem dX10_next_203 : decode cX10_next 203 = .ok (.iconst 1, 1) := dk_4 (dk_at dksX10_next_8 16 rfl rfl)
theorem dX10_next_204 : decode cX10_next 204 = .ok (.iadd, 1) := dk_96 (dk_at dksX10_next_8 17 rfl rfl)
theorem dX10_next_205 : decode cX10_next 205 = .ok (.putfield 26, 3) := dk_181 0 26 (dk_at dksX10_next_8 18 rfl rfl)
theorem dX10_next_208 : decode cX10_next 208 = .ok (.goto (-61), 3) := dk_167 255 195 (dk_at dksX10_next_8 21 rfl rfl)
theorem dX10_next_211 : decode cX10_next 211 = .ok (.aload_n 0, 1) := dk_42 (dk_at dksX10_next_9 0 rfl rfl)
theorem dX10_next_212 : decode cX10_next 212 = .ok (.aload_n 0, 1) := dk_42 (dk_at dksX10_next_9 1 rfl rfl)
theorem dX10_next_213 : decode cX10_next 213 = .ok (.getfield 26, 3) := dk_180 0 26 (dk_at dksX10_next_9 2 rfl rfl)
theorem dX10_next_216 : decode cX10_next 216 = .ok (.aload_n 0, 1) := dk_42 (dk_at dksX10_next_9 5 rfl rfl)
theorem dX10_next_217 : decode cX10_next 217 = .ok (.getfield 29, 3) := dk_180 0 29 (dk_at dksX10_next_9 6 rfl rfl)
theorem dX10_next_220 : decode cX10_next 220 = .ok (.isub, 1) := dk_100 (dk_at dksX10_next_9 9 rfl rfl)
theorem dX10_next_221 : decode cX10_next 221 = .ok (.iconst 4, 1) := dk_7 (dk_at dksX10_next_9 10 rfl rfl)
theorem dX10_next_222 : decode cX10_next 222 = .ok (.if_icmp .le 7, 3) := dk_164 0 7 (dk_at dksX10_next_9 11 rfl rfl)
theorem dX10_next_225 : decode cX10_next 225 = .ok (.iconst 4, 1) := dk_7 (dk_at dksX10_next_9 14 rfl rfl)
theorem dX10_next_226 : decode cX10_next 226 = .ok (.goto 4, 3) := dk_167 0 4 (dk_at dksX10_next_9 15 rfl rfl)
theorem dX10_next_229 : decode cX10_next 229 = .ok (.iconst 2, 1) := dk_5 (dk_at dksX10_next_9 18 rfl rfl)
theorem dX10_next_230 : decode cX10_next 230 = .ok (.putfield 32, 3) := dk_181 0 32 (dk_at dksX10_next_9 19 rfl rfl)
theorem dX10_next_233 : decode cX10_next 233 = .ok (.goto 73, 3) := dk_167 0 73 (dk_at dksX10_next_10 0 rfl rfl)
theorem dX10_next_236 : decode cX10_next 236 = .ok (.aload_n 0, 1) := dk_42 (dk_at dksX10_next_10 3 rfl rfl)
theorem dX10_next_237 : decode cX10_next 237 = .ok (.aload_n 0, 1) := dk_42 (dk_at dksX10_next_10 4 rfl rfl)
theorem dX10_next_238 : decode cX10_next 238 = .ok (.getfield 29, 3) := dk_180 0 29 (dk_at dksX10_next_10 5 rfl rfl)
theorem dX10_next_241 : decode cX10_next 241 = .ok (.iconst 1, 1) := dk_4 (dk_at dksX10_next_10 8 rfl rfl)
theorem dX10_next_242 : decode cX10_next 242 = .ok (.iadd, 1) := dk_96 (dk_at dksX10_next_10 9 rfl rfl)
theorem dX10_next_243 : decode cX10_next 243 = .ok (.putfield 26, 3) := dk_181 0 26 (dk_at dksX10_next_10 10 rfl rfl)
theorem dX10_next_246 : decode cX10_next 246 = .ok (.aload_n 0, 1) := dk_42 (dk_at dksX10_next_10 13 rfl rfl)
theorem dX10_next_247 : decode cX10_next 247 = .ok (.aload_n 0, 1) := dk_42 (dk_at dksX10_next_10 14 rfl rfl)
theorem dX10_next_248 : decode cX10_next 248 = .ok (.getfield 3, 3) := dk_180 0 3 (dk_at dksX10_next_10 15 rfl rfl)
theorem dX10_next_251 : decode cX10_next 251 = .ok (.getfield 22, 3) := dk_180 0 22 (dk_at dksX10_next_10 18 rfl rfl)
theorem dX10_next_254 : decode cX10_next 254 = .ok (.aload_n 0, 1) := dk_42 (dk_at dksX10_next_10 21 rfl rfl)
theorem dX10_next_255 : decode cX10_next 255 = .ok (.getfield 29, 3) := dk_180 0 29 (dk_at dksX10_next_11 0 rfl rfl)
theorem dX10_next_258 : decode cX10_next 258 = .ok (.baload, 1) := dk_51 (dk_at dksX10_next_11 3 rfl rfl)
theorem dX10_next_259 : decode cX10_next 259 = .ok (.bipush 59, 2) := dk_16 59 (dk_at dksX10_next_11 4 rfl rfl)
theorem dX10_next_261 : decode cX10_next 261 = .ok (.if_icmp .eq 37, 3) := dk_159 0 37 (dk_at dksX10_next_11 6 rfl rfl)
theorem dX10_next_264 : decode cX10_next 264 = .ok (.aload_n 0, 1) := dk_42 (dk_at dksX10_next_11 9 rfl rfl)
theorem dX10_next_265 : decode cX10_next 265 = .ok (.getfield 3, 3) := dk_180 0 3 (dk_at dksX10_next_11 10 rfl rfl)
theorem dX10_next_268 : decode cX10_next 268 = .ok (.getfield 22, 3) := dk_180 0 22 (dk_at dksX10_next_11 13 rfl rfl)
theorem dX10_next_271 : decode cX10_next 271 = .ok (.aload_n 0, 1) := dk_42 (dk_at dksX10_next_11 16 rfl rfl)
theorem dX10_next_272 : decode cX10_next 272 = .ok (.getfield 29, 3) := dk_180 0 29 (dk_at dksX10_next_11 17 rfl rfl)
theorem dX10_next_275 : decode cX10_next 275 = .ok (.baload, 1) := dk_51 (dk_at dksX10_next_11 20 rfl rfl)
theorem dX10_next_276 : decode cX10_next 276 = .ok (.bipush 40, 2) := dk_16 40 (dk_at dksX10_next_11 21 rfl rfl)
theorem dX10_next_278 : decode cX10_next 278 = .ok (.if_icmp .eq 20, 3) := dk_159 0 20 (dk_at dksX10_next_12 0 rfl rfl)
theorem dX10_next_281 : decode cX10_next 281 = .ok (.aload_n 0, 1) := dk_42 (dk_at dksX10_next_12 3 rfl rfl)
theorem dX10_next_282 : decode cX10_next 282 = .ok (.getfield 3, 3) := dk_180 0 3 (dk_at dksX10_next_12 4 rfl rfl)
theorem dX10_next_285 : decode cX10_next 285 = .ok (.getfield 22, 3) := dk_180 0 22 (dk_at dksX10_next_12 7 rfl rfl)
theorem dX10_next_288 : decode cX10_next 288 = .ok (.aload_n 0, 1) := dk_42 (dk_at dksX10_next_12 10 rfl rfl)
theorem dX10_next_289 : decode cX10_next 289 = .ok (.getfield 29, 3) := dk_180 0 29 (dk_at dksX10_next_12 11 rfl rfl)
theorem dX10_next_292 : decode cX10_next 292 = .ok (.baload, 1) := dk_51 (dk_at dksX10_next_12 14 rfl rfl)
theorem dX10_next_293 : decode cX10_next 293 = .ok (.bipush 41, 2) := dk_16 41 (dk_at dksX10_next_12 15 rfl rfl)
theorem dX10_next_295 : decode cX10_next 295 = .ok (.if_icmp .ne 7, 3) := dk_160 0 7 (dk_at dksX10_next_12 17 rfl rfl)
theorem dX10_next_298 : decode cX10_next 298 = .ok (.iconst 3, 1) := dk_6 (dk_at dksX10_next_12 20 rfl rfl)
theorem dX10_next_299 : decode cX10_next 299 = .ok (.goto 4, 3) := dk_167 0 4 (dk_at dksX10_next_12 21 rfl rfl)
theorem dX10_next_302 : decode cX10_next 302 = .ok (.iconst 4, 1) := dk_7 (dk_at dksX10_next_13 0 rfl rfl)
theorem dX10_next_303 : decode cX10_next 303 = .ok (.putfield 32, 3) := dk_181 0 32 (dk_at dksX10_next_13 1 rfl rfl)
theorem dX10_next_306 : decode cX10_next 306 = .ok (.return_, 1) := dk_177 (dk_at dksX10_next_13 4 rfl rfl)
abbrev cX10_isLetter : ByteArray := prog_8_method_2_code
def yX10_isLetter : MethodName := ⟨RX10, "isLetter", "(I)Z"⟩
def dkwX10_isLetter_1 : List UInt8 := [180, 0, 3, 180, 0, 22, 27, 51, 16, 122, 163, 0, 7, 4, 167, 0, 4, 3, 172]
abbrev dktX10_isLetter_1 : List UInt8 := dkwX10_isLetter_1 ++ []
def dkwX10_isLetter_0 : List UInt8 := [27, 42, 180, 0, 15, 162, 0, 35, 42, 180, 0, 3, 180, 0, 22, 27, 51, 16, 97, 161, 0, 21, 42]
abbrev dktX10_isLetter_0 : List UInt8 := dkwX10_isLetter_0 ++ dktX10_isLetter_1
theorem dksX10_isLetter_0 : cX10_isLetter.data.toList.drop 0 = dktX10_isLetter_0 := by decide +kernel
theorem dksX10_isLetter_1 : cX10_isLetter.data.toList.drop 23 = dktX10_isLetter_1 := dk_seg dksX10_isLetter_0 23 rfl rfl
theorem dX10_isLetter_0 : decode cX10_isLetter 0 = .ok (.iload_n 1, 1) := dk_27 (dk_at dksX10_isLetter_0 0 rfl rfl)
theorem dX10_isLetter_1 : decode cX10_isLetter 1 = .ok (.aload_n 0, 1) := dk_42 (dk_at dksX10_isLetter_0 1 rfl rfl)
theorem dX10_isLetter_2 : decode cX10_isLetter 2 = .ok (.getfield 15, 3) := dk_180 0 15 (dk_at dksX10_isLetter_0 2 rfl rfl)
theorem dX10_isLetter_5 : decode cX10_isLetter 5 = .ok (.if_icmp .ge 35, 3) := dk_162 0 35 (dk_at dksX10_isLetter_0 5 rfl rfl)
theorem dX10_isLetter_8 : decode cX10_isLetter 8 = .ok (.aload_n 0, 1) := dk_42 (dk_at dksX10_isLetter_0 8 rfl rfl)
theorem dX10_isLetter_9 : decode cX10_isLetter 9 = .ok (.getfield 3, 3) := dk_180 0 3 (dk_at dksX10_isLetter_0 9 rfl rfl)
theorem dX10_isLetter_12 : decode cX10_isLetter 12 = .ok (.getfield 22, 3) := dk_180 0 22 (dk_at dksX10_isLetter_0 12 rfl rfl)
theorem dX10_isLetter_15 : decode cX10_isLetter 15 = .ok (.iload_n 1, 1) := dk_27 (dk_at dksX10_isLetter_0 15 rfl rfl)
theorem dX10_isLetter_16 : decode cX10_isLetter 16 = .ok (.baload, 1) := dk_51 (dk_at dksX10_isLetter_0 16 rfl rfl)
theorem dX10_isLetter_17 : decode cX10_isLetter 17 = .ok (.bipush 97, 2) := dk_16 97 (dk_at dksX10_isLetter_0 17 rfl rfl)
theorem dX10_isLetter_19 : decode cX10_isLetter 19 = .ok (.if_icmp .lt 21, 3) := dk_161 0 21 (dk_at dksX10_isLetter_0 19 rfl rfl)
theorem dX10_isLetter_22 : decode cX10_isLetter 22 = .ok (.aload_n 0, 1) := dk_42 (dk_at dksX10_isLetter_0 22 rfl rfl)
theorem dX10_isLetter_23 : decode cX10_isLetter 23 = .ok (.getfield 3, 3) := dk_180 0 3 (dk_at dksX10_isLetter_1 0 rfl rfl)
theorem dX10_isLetter_26 : decode cX10_isLetter 26 = .ok (.getfield 22, 3) := dk_180 0 22 (dk_at dksX10_isLetter_1 3 rfl rfl)
theorem dX10_isLetter_29 : decode cX10_isLetter 29 = .ok (.iload_n 1, 1) := dk_27 (dk_at dksX10_isLetter_1 6 rfl rfl)
theorem dX10_isLetter_30 : decode cX10_isLetter 30 = .ok (.baload, 1) := dk_51 (dk_at dksX10_isLetter_1 7 rfl rfl)
theorem dX10_isLetter_31 : decode cX10_isLetter 31 = .ok (.bipush 122, 2) := dk_16 122 (dk_at dksX10_isLetter_1 8 rfl rfl)
theorem dX10_isLetter_33 : decode cX10_isLetter 33 = .ok (.if_icmp .gt 7, 3) := dk_163 0 7 (dk_at dksX10_isLetter_1 10 rfl rfl)
theorem dX10_isLetter_36 : decode cX10_isLetter 36 = .ok (.iconst 1, 1) := dk_4 (dk_at dksX10_isLetter_1 13 rfl rfl)
theorem dX10_isLetter_37 : decode cX10_isLetter 37 = .ok (.goto 4, 3) := dk_167 0 4 (dk_at dksX10_isLetter_1 14 rfl rfl)
theorem dX10_isLetter_40 : decode cX10_isLetter 40 = .ok (.iconst 0, 1) := dk_3 (dk_at dksX10_isLetter_1 17 rfl rfl)
theorem dX10_isLetter_41 : decode cX10_isLetter 41 = .ok (.ireturn, 1) := dk_172 (dk_at dksX10_isLetter_1 18 rfl rfl)
abbrev cX10_isDigit : ByteArray := prog_8_method_3_code
def yX10_isDigit : MethodName := ⟨RX10, "isDigit", "(I)Z"⟩
def dkwX10_isDigit_1 : List UInt8 := [180, 0, 3, 180, 0, 22, 27, 51, 16, 57, 163, 0, 7, 4, 167, 0, 4, 3, 172]
abbrev dktX10_isDigit_1 : List UInt8 := dkwX10_isDigit_1 ++ []
def dkwX10_isDigit_0 : List UInt8 := [27, 42, 180, 0, 15, 162, 0, 35, 42, 180, 0, 3, 180, 0, 22, 27, 51, 16, 48, 161, 0, 21, 42]
abbrev dktX10_isDigit_0 : List UInt8 := dkwX10_isDigit_0 ++ dktX10_isDigit_1
theorem dksX10_isDigit_0 : cX10_isDigit.data.toList.drop 0 = dktX10_isDigit_0 := by decide +kernel
theorem dksX10_isDigit_1 : cX10_isDigit.data.toList.drop 23 = dktX10_isDigit_1 := dk_seg dksX10_isDigit_0 23 rfl rfl
theorem dX10_isDigit_0 : decode cX10_isDigit 0 = .ok (.iload_n 1, 1) := dk_27 (dk_at dksX10_isDigit_0 0 rfl rfl)
theorem dX10_isDigit_1 : decode cX10_isDigit 1 = .ok (.aload_n 0, 1) := dk_42 (dk_at dksX10_isDigit_0 1 rfl rfl)
theorem dX10_isDigit_2 : decode cX10_isDigit 2 = .ok (.getfield 15, 3) := dk_180 0 15 (dk_at dksX10_isDigit_0 2 rfl rfl)
theorem dX10_isDigit_5 : decode cX10_isDigit 5 = .ok (.if_icmp .ge 35, 3) := dk_162 0 35 (dk_at dksX10_isDigit_0 5 rfl rfl)
theorem dX10_isDigit_8 : decode cX10_isDigit 8 = .ok (.aload_n 0, 1) := dk_42 (dk_at dksX10_isDigit_0 8 rfl rfl)
theorem dX10_isDigit_9 : decode cX10_isDigit 9 = .ok (.getfield 3, 3) := dk_180 0 3 (dk_at dksX10_isDigit_0 9 rfl rfl)
theorem dX10_isDigit_12 : decode cX10_isDigit 12 = .ok (.getfield 22, 3) := dk_180 0 22 (dk_at dksX10_isDigit_0 12 rfl rfl)
theorem dX10_isDigit_15 : decode cX10_isDigit 15 = .ok (.iload_n 1, 1) := dk_27 (dk_at dksX10_isDigit_0 15 rfl rfl)
theorem dX10_isDigit_16 : decode cX10_isDigit 16 = .ok (.baload, 1) := dk_51 (dk_at dksX10_isDigit_0 16 rfl rfl)
theorem dX10_isDigit_17 : decode cX10_isDigit 17 = .ok (.bipush 48, 2) := dk_16 48 (dk_at dksX10_isDigit_0 17 rfl rfl)
theorem dX10_isDigit_19 : decode cX10_isDigit 19 = .ok (.if_icmp .lt 21, 3) := dk_161 0 21 (dk_at dksX10_isDigit_0 19 rfl rfl)
theorem dX10_isDigit_22 : decode cX10_isDigit 22 = .ok (.aload_n 0, 1) := dk_42 (dk_at dksX10_isDigit_0 22 rfl rfl)
theorem dX10_isDigit_23 : decode cX10_isDigit 23 = .ok (.getfield 3, 3) := dk_180 0 3 (dk_at dksX10_isDigit_1 0 rfl rfl)
theorem dX10_isDigit_26 : decode cX10_isDigit 26 = .ok (.getfield 22, 3) := dk_180 0 22 (dk_at dksX10_isDigit_1 3 rfl rfl)
theorem dX10_isDigit_29 : decode cX10_isDigit 29 = .ok (.iload_n 1, 1) := dk_27 (dk_at dksX10_isDigit_1 6 rfl rfl)
theorem dX10_isDigit_30 : decode cX10_isDigit 30 = .ok (.baload, 1) := dk_51 (dk_at dksX10_isDigit_1 7 rfl rfl)
theorem dX10_isDigit_31 : decode cX10_isDigit 31 = .ok (.bipush 57, 2) := dk_16 57 (dk_at dksX10_isDigit_1 8 rfl rfl)
theorem dX10_isDigit_33 : decode cX10_isDigit 33 = .ok (.if_icmp .gt 7, 3) := dk_163 0 7 (dk_at dksX10_isDigit_1 10 rfl rfl)
theorem dX10_isDigit_36 : decode cX10_isDigit 36 = .ok (.iconst 1, 1) := dk_4 (dk_at dksX10_isDigit_1 13 rfl rfl)
theorem dX10_isDigit_37 : decode cX10_isDigit 37 = .ok (.goto 4, 3) := dk_167 0 4 (dk_at dksX10_isDigit_1 14 rfl rfl)
theorem dX10_isDigit_40 : decode cX10_isDigit 40 = .ok (.iconst 0, 1) := dk_3 (dk_at dksX10_isDigit_1 17 rfl rfl)
theorem dX10_isDigit_41 : decode cX10_isDigit 41 = .ok (.ireturn, 1) := dk_172 (dk_at dksX10_isDigit_1 18 rfl rfl)
abbrev cX10_court : ByteArray := prog_8_method_17_code
def yX10_court : MethodName := ⟨RX10, "court", "(LAskingCourt$Case;)V"⟩
def dkwX10_court_4 : List UInt8 := [177]
abbrev dktX10_court_4 : List UInt8 := dkwX10_court_4 ++ []
def dkwX10_court_3 : List UInt8 := [182, 0, 160, 167, 0, 8, 42, 182, 0, 68, 191, 42, 16, 59, 182, 0, 162, 167, 255, 170, 43, 182, 0, 166]
abbrev dktX10_court_3 : List UInt8 := dkwX10_court_3 ++ dktX10_court_4
def dkwX10_court_2 : List UInt8 := [153, 0, 11, 42, 43, 182, 0, 158, 167, 0, 25, 42, 18, 96, 182, 0, 72, 153, 0, 11, 42, 43]
abbrev dktX10_court_2 : List UInt8 := dkwX10_court_2 ++ dktX10_court_3
def dkwX10_court_1 : List UInt8 := [42, 18, 88, 182, 0, 72, 153, 0, 11, 42, 43, 182, 0, 156, 167, 0, 42, 42, 18, 90, 182, 0, 72]
abbrev dktX10_court_1 : List UInt8 := dkwX10_court_1 ++ dktX10_court_2
def dkwX10_court_0 : List UInt8 := [42, 180, 0, 32, 153, 0, 85, 42, 18, 84, 182, 0, 72, 153, 0, 11, 42, 43, 182, 0, 153, 167, 0, 59]
abbrev dktX10_court_0 : List UInt8 := dkwX10_court_0 ++ dktX10_court_1
theorem dksX10_court_0 : cX10_court.data.toList.drop 0 = dktX10_court_0 := by decide +kernel
theorem dksX10_court_1 : cX10_court.data.toList.drop 24 = dktX10_court_1 := dk_seg dksX10_court_0 24 rfl rfl
theorem dksX10_court_2 : cX10_court.data.toList.drop 47 = dktX10_court_2 := dk_seg dksX10_court_1 23 rfl rfl
theorem dksX10_court_3 : cX10_court.data.toList.drop 69 = dktX10_court_3 := dk_seg dksX10_court_2 22 rfl rfl
theorem dksX10_court_4 : cX10_court.data.toList.drop 93 = dktX10_court_4 := dk_seg dksX10_court_3 24 rfl rfl
theorem dX10_court_0 : decode cX10_court 0 = .ok (.aload_n 0, 1) := dk_42 (dk_at dksX10_court_0 0 rfl rfl)
theorem dX10_court_1 : decode cX10_court 1 = .ok (.getfield 32, 3) := dk_180 0 32 (dk_at dksX10_court_0 1 rfl rfl)
theorem dX10_court_4 : decode cX10_court 4 = .ok (.ifCond .eq 85, 3) := dk_153 0 85 (dk_at dksX10_court_0 4 rfl rfl)
theorem dX10_court_7 : decode cX10_court 7 = .ok (.aload_n 0, 1) := dk_42 (dk_at dksX10_court_0 7 rfl rfl)
theorem dX10_court_8 : decode cX10_court 8 = .ok (.ldc 84, 2) := dk_18 84 (dk_at dksX10_court_0 8 rfl rfl)
theorem dX10_court_10 : decode cX10_court 10 = .ok (.invokevirtual 72, 3) := dk_182 0 72 (dk_at dksX10_court_0 10 rfl rfl)
theorem dX10_court_13 : decode cX10_court 13 = .ok (.ifCond .eq 11, 3) := dk_153 0 11 (dk_at dksX10_court_0 13 rfl rfl)
theorem dX10_court_16 : decode cX10_court 16 = .ok (.aload_n 0, 1) := dk_42 (dk_at dksX10_court_0 16 rfl rfl)
theorem dX10_court_17 : decode cX10_court 17 = .ok (.aload_n 1, 1) := dk_43 (dk_at dksX10_court_0 17 rfl rfl)
theorem dX10_court_18 : decode cX10_court 18 = .ok (.invokevirtual 153, 3) := dk_182 0 153 (dk_at dksX10_court_0 18 rfl rfl)
theorem dX10_court_21 : decode cX10_court 21 = .ok (.goto 59, 3) := dk_167 0 59 (dk_at dksX10_court_0 21 rfl rfl)
theorem dX10_court_24 : decode cX10_court 24 = .ok (.aload_n 0, 1) := dk_42 (dk_at dksX10_court_1 0 rfl rfl)
theorem dX10_court_25 : decode cX10_court 25 = .ok (.ldc 88, 2) := dk_18 88 (dk_at dksX10_court_1 1 rfl rfl)
theorem dX10_court_27 : decode cX10_court 27 = .ok (.invokevirtual 72, 3) := dk_182 0 72 (dk_at dksX10_court_1 3 rfl rfl)
theorem dX10_court_30 : decode cX10_court 30 = .ok (.ifCond .eq 11, 3) := dk_153 0 11 (dk_at dksX10_court_1 6 rfl rfl)
theorem dX10_court_33 : decode cX10_court 33 = .ok (.aload_n 0, 1) := dk_42 (dk_at dksX10_court_1 9 rfl rfl)
theorem dX10_court_34 : decode cX10_court 34 = .ok (.aload_n 1, 1) := dk_43 (dk_at dksX10_court_1 10 rfl rfl)
theorem dX10_court_35 : decode cX10_court 35 = .ok (.invokevirtual 156, 3) := dk_182 0 156 (dk_at dksX10_court_1 11 rfl rfl)
theorem dX10_court_38 : decode cX10_court 38 = .ok (.goto 42, 3) := dk_167 0 42 (dk_at dksX10_court_1 14 rfl rfl)
theorem dX10_court_41 : decode cX10_court 41 = .ok (.aload_n 0, 1) := dk_42 (dk_at dksX10_court_1 17 rfl rfl)
theorem dX10_court_42 : decode cX10_court 42 = .ok (.ldc 90, 2) := dk_18 90 (dk_at dksX10_court_1 18 rfl rfl)
theorem dX10_court_44 : decode cX10_court 44 = .ok (.invokevirtual 72, 3) := dk_182 0 72 (dk_at dksX10_court_1 20 rfl rfl)
theorem dX10_court_47 : decode cX10_court 47 = .ok (.ifCond .eq 11, 3) := dk_153 0 11 (dk_at dksX10_court_2 0 rfl rfl)
theorem dX10_court_50 : decode cX10_court 50 = .ok (.aload_n 0, 1) := dk_42 (dk_at dksX10_court_2 3 rfl rfl)
theorem dX10_court_51 : decode cX10_court 51 = .ok (.aload_n 1, 1) := dk_43 (dk_at dksX10_court_2 4 rfl rfl)
theorem dX10_court_52 : decode cX10_court 52 = .ok (.invokevirtual 158, 3) := dk_182 0 158 (dk_at dksX10_court_2 5 rfl rfl)
theorem dX10_court_55 : decode cX10_court 55 = .ok (.goto 25, 3) := dk_167 0 25 (dk_at dksX10_court_2 8 rfl rfl)
theorem dX10_court_58 : decode cX10_court 58 = .ok (.aload_n 0, 1) := dk_42 (dk_at dksX10_court_2 11 rfl rfl)
theorem dX10_court_59 : decode cX10_court 59 = .ok (.ldc 96, 2) := dk_18 96 (dk_at dksX10_court_2 12 rfl rfl)
theorem dX10_court_61 : decode cX10_court 61 = .ok (.invokevirtual 72, 3) := dk_182 0 72 (dk_at dksX10_court_2 14 rfl rfl)
theorem dX10_court_64 : decode cX10_court 64 = .ok (.ifCond .eq 11, 3) := dk_153 0 11 (dk_at dksX10_court_2 17 rfl rfl)
theorem dX10_court_67 : decode cX10_court 67 = .ok (.aload_n 0, 1) := dk_42 (dk_at dksX10_court_2 20 rfl rfl)
theorem dX10_court_68 : decode cX10_court 68 = .ok (.aload_n 1, 1) := dk_43 (dk_at dksX10_court_2 21 rfl rfl)
theorem dX10_court_69 : decode cX10_court 69 = .ok (.invokevirtual 160, 3) := dk_182 0 160 (dk_at dksX10_court_3 0 rfl rfl)
theorem dX10_court_72 : decode cX10_court 72 = .ok (.goto 8, 3) := dk_167 0 8 (dk_at dksX10_court_3 3 rfl rfl)
theorem dX10_court_75 : decode cX10_court 75 = .ok (.aload_n 0, 1) := dk_42 (dk_at dksX10_court_3 6 rfl rfl)
theorem dX10_court_76 : decode cX10_court 76 = .ok (.invokevirtual 68, 3) := dk_182 0 68 (dk_at dksX10_court_3 7 rfl rfl)
theorem dX10_court_79 : decode cX10_court 79 = .ok (.athrow, 1) := dk_191 (dk_at dksX10_court_3 10 rfl rfl)
theorem dX10_court_80 : decode cX10_court 80 = .ok (.aload_n 0, 1) := dk_42 (dk_at dksX10_court_3 11 rfl rfl)
theorem dX10_court_81 : decode cX10_court 81 = .ok (.bipush 59, 2) := dk_16 59 (dk_at dksX10_court_3 12 rfl rfl)
theorem dX10_court_83 : decode cX10_court 83 = .ok (.invokevirtual 162, 3) := dk_182 0 162 (dk_at dksX10_court_3 14 rfl rfl)
theorem dX10_court_86 : decode cX10_court 86 = .ok (.goto (-86), 3) := dk_167 255 170 (dk_at dksX10_court_3 17 rfl rfl)
theorem dX10_court_89 : decode cX10_court 89 = .ok (.aload_n 1, 1) := dk_43 (dk_at dksX10_court_3 20 rfl rfl)
theorem dX10_court_90 : decode cX10_court 90 = .ok (.invokevirtual 166, 3) := dk_182 0 166 (dk_at dksX10_court_3 21 rfl rfl)
theorem dX10_court_93 : decode cX10_court 93 = .ok (.return_, 1) := dk_177 (dk_at dksX10_court_4 0 rfl rfl)
abbrev cX10_isWord : ByteArray := prog_8_method_5_code
def yX10_isWord : MethodName := ⟨RX10, "isWord", "(Ljava/lang/String;)Z"⟩
def dkwX10_isWord_2 : List UInt8 := [96, 51, 43, 28, 182, 0, 51, 159, 0, 5, 3, 172, 132, 2, 1, 167, 255, 221, 4, 172]
abbrev dktX10_isWord_2 : List UInt8 := dkwX10_isWord_2 ++ []
def dkwX10_isWord_1 : List UInt8 := [3, 172, 3, 61, 28, 43, 182, 0, 45, 162, 0, 33, 42, 180, 0, 3, 180, 0, 22, 42, 180, 0, 29, 28]
abbrev dktX10_isWord_1 : List UInt8 := dkwX10_isWord_1 ++ dktX10_isWord_2
def dkwX10_isWord_0 : List UInt8 := [42, 180, 0, 32, 4, 160, 0, 19, 42, 180, 0, 26, 42, 180, 0, 29, 100, 43, 182, 0, 45, 159, 0, 5]
abbrev dktX10_isWord_0 : List UInt8 := dkwX10_isWord_0 ++ dktX10_isWord_1
theorem dksX10_isWord_0 : cX10_isWord.data.toList.drop 0 = dktX10_isWord_0 := by decide +kernel
theorem dksX10_isWord_1 : cX10_isWord.data.toList.drop 24 = dktX10_isWord_1 := dk_seg dksX10_isWord_0 24 rfl rfl
theorem dksX10_isWord_2 : cX10_isWord.data.toList.drop 48 = dktX10_isWord_2 := dk_seg dksX10_isWord_1 24 rfl rfl
theorem dX10_isWord_0 : decode cX10_isWord 0 = .ok (.aload_n 0, 1) := dk_42 (dk_at dksX10_isWord_0 0 rfl rfl)
theorem dX10_isWord_1 : decode cX10_isWord 1 = .ok (.getfield 32, 3) := dk_180 0 32 (dk_at dksX10_isWord_0 1 rfl rfl)
theorem dX10_isWord_4 : decode cX10_isWord 4 = .ok (.iconst 1, 1) := dk_4 (dk_at dksX10_isWord_0 4 rfl rfl)
theorem dX10_isWord_5 : decode cX10_isWord 5 = .ok (.if_icmp .ne 19, 3) := dk_160 0 19 (dk_at dksX10_isWord_0 5 rfl rfl)
theorem dX10_isWord_8 : decode cX10_isWord 8 = .ok (.aload_n 0, 1) := dk_42 (dk_at dksX10_isWord_0 8 rfl rfl)
theorem dX10_isWord_9 : decode cX10_isWord 9 = .ok (.getfield 26, 3) := dk_180 0 26 (dk_at dksX10_isWord_0 9 rfl rfl)
theorem dX10_isWord_12 : decode cX10_isWord 12 = .ok (.aload_n 0, 1) := dk_42 (dk_at dksX10_isWord_0 12 rfl rfl)
theorem dX10_isWord_13 : decode cX10_isWord 13 = .ok (.getfield 29, 3) := dk_180 0 29 (dk_at dksX10_isWord_0 13 rfl rfl)
theorem dX10_isWord_16 : decode cX10_isWord 16 = .ok (.isub, 1) := dk_100 (dk_at dksX10_isWord_0 16 rfl rfl)
theorem dX10_isWord_17 : decode cX10_isWord 17 = .ok (.aload_n 1, 1) := dk_43 (dk_at dksX10_isWord_0 17 rfl rfl)
theorem dX10_isWord_18 : decode cX10_isWord 18 = .ok (.invokevirtual 45, 3) := dk_182 0 45 (dk_at dksX10_isWord_0 18 rfl rfl)
theorem dX10_isWord_21 : decode cX10_isWord 21 = .ok (.if_icmp .eq 5, 3) := dk_159 0 5 (dk_at dksX10_isWord_0 21 rfl rfl)
theorem dX10_isWord_24 : decode cX10_isWord 24 = .ok (.iconst 0, 1) := dk_3 (dk_at dksX10_isWord_1 0 rfl rfl)
theorem dX10_isWord_25 : decode cX10_isWord 25 = .ok (.ireturn, 1) := dk_172 (dk_at dksX10_isWord_1 1 rfl rfl)
theorem dX10_isWord_26 : decode cX10_isWord 26 = .ok (.iconst 0, 1) := dk_3 (dk_at dksX10_isWord_1 2 rfl rfl)
theorem dX10_isWord_27 : decode cX10_isWord 27 = .ok (.istore_n 2, 1) := dk_61 (dk_at dksX10_isWord_1 3 rfl rfl)
theorem dX10_isWord_28 : decode cX10_isWord 28 = .ok (.iload_n 2, 1) := dk_28 (dk_at dksX10_isWord_1 4 rfl rfl)
theorem dX10_isWord_29 : decode cX10_isWord 29 = .ok (.aload_n 1, 1) := dk_43 (dk_at dksX10_isWord_1 5 rfl rfl)
theorem dX10_isWord_30 : decode cX10_isWord 30 = .ok (.invokevirtual 45, 3) := dk_182 0 45 (dk_at dksX10_isWord_1 6 rfl rfl)
theorem dX10_isWord_33 : decode cX10_isWord 33 = .ok (.if_icmp .ge 33, 3) := dk_162 0 33 (dk_at dksX10_isWord_1 9 rfl rfl)
theorem dX10_isWord_36 : decode cX10_isWord 36 = .ok (.aload_n 0, 1) := dk_42 (dk_at dksX10_isWord_1 12 rfl rfl)
theorem dX10_isWord_37 : decode cX10_isWord 37 = .ok (.getfield 3, 3) := dk_180 0 3 (dk_at dksX10_isWord_1 13 rfl rfl)
theorem dX10_isWord_40 : decode cX10_isWord 40 = .ok (.getfield 22, 3) := dk_180 0 22 (dk_at dksX10_isWord_1 16 rfl rfl)
theorem dX10_isWord_43 : decode cX10_isWord 43 = .ok (.aload_n 0, 1) := dk_42 (dk_at dksX10_isWord_1 19 rfl rfl)
theorem dX10_isWord_44 : decode cX10_isWord 44 = .ok (.getfield 29, 3) := dk_180 0 29 (dk_at dksX10_isWord_1 20 rfl rfl)
theorem dX10_isWord_47 : decode cX10_isWord 47 = .ok (.iload_n 2, 1) := dk_28 (dk_at dksX10_isWord_1 23 rfl rfl)
theorem dX10_isWord_48 : decode cX10_isWord 48 = .ok (.iadd, 1) := dk_96 (dk_at dksX10_isWord_2 0 rfl rfl)
theorem dX10_isWord_49 : decode cX10_isWord 49 = .ok (.baload, 1) := dk_51 (dk_at dksX10_isWord_2 1 rfl rfl)
theorem dX10_isWord_50 : decode cX10_isWord 50 = .ok (.aload_n 1, 1) := dk_43 (dk_at dksX10_isWord_2 2 rfl rfl)
theorem dX10_isWord_51 : decode cX10_isWord 51 = .ok (.iload_n 2, 1) := dk_28 (dk_at dksX10_isWord_2 3 rfl rfl)
theorem dX10_isWord_52 : decode cX10_isWord 52 = .ok (.invokevirtual 51, 3) := dk_182 0 51 (dk_at dksX10_isWord_2 4 rfl rfl)
theorem dX10_isWord_55 : decode cX10_isWord 55 = .ok (.if_icmp .eq 5, 3) := dk_159 0 5 (dk_at dksX10_isWord_2 7 rfl rfl)
theorem dX10_isWord_58 : decode cX10_isWord 58 = .ok (.iconst 0, 1) := dk_3 (dk_at dksX10_isWord_2 10 rfl rfl)
theorem dX10_isWord_59 : decode cX10_isWord 59 = .ok (.ireturn, 1) := dk_172 (dk_at dksX10_isWord_2 11 rfl rfl)
theorem dX10_isWord_60 : decode cX10_isWord 60 = .ok (.iinc 2 1, 3) := dk_132 2 1 (dk_at dksX10_isWord_2 12 rfl rfl)
theorem dX10_isWord_63 : decode cX10_isWord 63 = .ok (.goto (-35), 3) := dk_167 255 221 (dk_at dksX10_isWord_2 15 rfl rfl)
theorem dX10_isWord_66 : decode cX10_isWord 66 = .ok (.iconst 1, 1) := dk_4 (dk_at dksX10_isWord_2 18 rfl rfl)
theorem dX10_isWord_67 : decode cX10_isWord 67 = .ok (.ireturn, 1) := dk_172 (dk_at dksX10_isWord_2 19 rfl rfl)
abbrev cX10_fact : ByteArray := prog_8_method_18_code
def yX10_fact : MethodName := ⟨RX10, "fact", "(LAskingCourt$Case;)V"⟩
def dkwX10_fact_12 : List UInt8 := [182, 0, 64, 153, 0, 8, 42, 43, 182, 0, 212, 177]
abbrev dktX10_fact_12 : List UInt8 := dkwX10_fact_12 ++ []
def dkwX10_fact_11 : List UInt8 := [164, 0, 20, 42, 180, 0, 3, 180, 0, 55, 16, 8, 42, 180, 0, 29, 182, 0, 59, 191, 42, 16, 59]
abbrev dktX10_fact_11 : List UInt8 := dkwX10_fact_11 ++ dktX10_fact_12
def dkwX10_fact_10 : List UInt8 := [21, 4, 46, 4, 159, 0, 21, 43, 180, 0, 209, 43, 180, 0, 194, 21, 4, 46, 104, 17, 1, 0]
abbrev dktX10_fact_10 : List UInt8 := dkwX10_fact_10 ++ dktX10_fact_11
def dkwX10_fact_9 : List UInt8 := [96, 79, 42, 180, 0, 32, 4, 159, 255, 140, 42, 16, 59, 182, 0, 64, 153, 0, 49, 43, 180, 0, 194]
abbrev dktX10_fact_9 : List UInt8 := dkwX10_fact_9 ++ dktX10_fact_10
def dkwX10_fact_8 : List UInt8 := [167, 0, 4, 4, 79, 43, 89, 180, 0, 191, 4, 96, 181, 0, 191, 43, 180, 0, 194, 21, 4, 92, 46, 4]
abbrev dktX10_fact_8 : List UInt8 := dkwX10_fact_8 ++ dktX10_fact_9
def dkwX10_fact_7 : List UInt8 := [79, 43, 180, 0, 203, 43, 180, 0, 191, 42, 180, 0, 32, 5, 160, 0, 13, 42, 4, 16, 9, 182, 0, 206]
abbrev dktX10_fact_7 : List UInt8 := dkwX10_fact_7 ++ dktX10_fact_8
def dkwX10_fact_6 : List UInt8 := [182, 0, 19, 43, 180, 0, 197, 43, 180, 0, 191, 22, 5, 80, 43, 180, 0, 200, 43, 180, 0, 191, 21, 4]
abbrev dktX10_fact_6 : List UInt8 := dkwX10_fact_6 ++ dktX10_fact_7
def dkwX10_fact_5 : List UInt8 := [16, 6, 160, 0, 20, 42, 180, 0, 3, 180, 0, 55, 16, 6, 42, 180, 0, 29, 182, 0, 59, 191, 42]
abbrev dktX10_fact_5 : List UInt8 := dkwX10_fact_5 ++ dktX10_fact_6
def dkwX10_fact_4 : List UInt8 := [43, 89, 180, 0, 169, 4, 96, 181, 0, 169, 42, 43, 182, 0, 175, 55, 5, 43, 180, 0, 194, 21, 4, 46]
abbrev dktX10_fact_4 : List UInt8 := dkwX10_fact_4 ++ dktX10_fact_5
def dkwX10_fact_3 : List UInt8 := [180, 0, 169, 54, 4, 43, 180, 0, 183, 21, 4, 32, 80, 43, 180, 0, 187, 21, 4, 43, 180, 0, 191, 79]
abbrev dktX10_fact_3 : List UInt8 := dkwX10_fact_3 ++ dktX10_fact_4
def dkwX10_fact_2 : List UInt8 := [191, 42, 182, 0, 19, 42, 43, 182, 0, 175, 65, 42, 182, 0, 19, 42, 18, 86, 182, 0, 179, 43]
abbrev dktX10_fact_2 : List UInt8 := dkwX10_fact_2 ++ dktX10_fact_3
def dkwX10_fact_1 : List UInt8 := [191, 43, 180, 0, 172, 158, 0, 20, 42, 180, 0, 3, 180, 0, 55, 16, 7, 42, 180, 0, 29, 182, 0, 59]
abbrev dktX10_fact_1 : List UInt8 := dkwX10_fact_1 ++ dktX10_fact_2
def dkwX10_fact_0 : List UInt8 := [43, 180, 0, 169, 7, 160, 0, 20, 42, 180, 0, 3, 180, 0, 55, 16, 6, 42, 180, 0, 29, 182, 0, 59]
abbrev dktX10_fact_0 : List UInt8 := dkwX10_fact_0 ++ dktX10_fact_1
theorem dksX10_fact_0 : cX10_fact.data.toList.drop 0 = dktX10_fact_0 := by decide +kernel
theorem dksX10_fact_1 : cX10_fact.data.toList.drop 24 = dktX10_fact_1 := dk_seg dksX10_fact_0 24 rfl rfl
theorem dksX10_fact_2 : cX10_fact.data.toList.drop 48 = dktX10_fact_2 := dk_seg dksX10_fact_1 24 rfl rfl
theorem dksX10_fact_3 : cX10_fact.data.toList.drop 70 = dktX10_fact_3 := dk_seg dksX10_fact_2 22 rfl rfl
theorem dksX10_fact_4 : cX10_fact.data.toList.drop 94 = dktX10_fact_4 := dk_seg dksX10_fact_3 24 rfl rfl
theorem dksX10_fact_5 : cX10_fact.data.toList.drop 118 = dktX10_fact_5 := dk_seg dksX10_fact_4 24 rfl rfl
theorem dksX10_fact_6 : cX10_fact.data.toList.drop 141 = dktX10_fact_6 := dk_seg dksX10_fact_5 23 rfl rfl
theorem dksX10_fact_7 : cX10_fact.data.toList.drop 165 = dktX10_fact_7 := dk_seg dksX10_fact_6 24 rfl rfl
theorem dksX10_fact_8 : cX10_fact.data.toList.drop 189 = dktX10_fact_8 := dk_seg dksX10_fact_7 24 rfl rfl
theorem dksX10_fact_9 : cX10_fact.data.toList.drop 213 = dktX10_fact_9 := dk_seg dksX10_fact_8 24 rfl rfl
theorem dksX10_fact_10 : cX10_fact.data.toList.drop 236 = dktX10_fact_10 := dk_seg dksX10_fact_9 23 rfl rfl
theorem dksX10_fact_11 : cX10_fact.data.toList.drop 258 = dktX10_fact_11 := dk_seg dksX10_fact_10 22 rfl rfl
theorem dksX10_fact_12 : cX10_fact.data.toList.drop 281 = dktX10_fact_12 := dk_seg dksX10_fact_11 23 rfl rfl
theorem dX10_fact_0 : decode cX10_fact 0 = .ok (.aload_n 1, 1) := dk_43 (dk_at dksX10_fact_0 0 rfl rfl)
theorem dX10_fact_1 : decode cX10_fact 1 = .ok (.getfield 169, 3) := dk_180 0 169 (dk_at dksX10_fact_0 1 rfl rfl)
theorem dX10_fact_4 : decode cX10_fact 4 = .ok (.iconst 4, 1) := dk_7 (dk_at dksX10_fact_0 4 rfl rfl)
theorem dX10_fact_5 : decode cX10_fact 5 = .ok (.if_icmp .ne 20, 3) := dk_160 0 20 (dk_at dksX10_fact_0 5 rfl rfl)
theorem dX10_fact_8 : decode cX10_fact 8 = .ok (.aload_n 0, 1) := dk_42 (dk_at dksX10_fact_0 8 rfl rfl)
theorem dX10_fact_9 : decode cX10_fact 9 = .ok (.getfield 3, 3) := dk_180 0 3 (dk_at dksX10_fact_0 9 rfl rfl)
theorem dX10_fact_12 : decode cX10_fact 12 = .ok (.getfield 55, 3) := dk_180 0 55 (dk_at dksX10_fact_0 12 rfl rfl)
theorem dX10_fact_15 : decode cX10_fact 15 = .ok (.bipush 6, 2) := dk_16 6 (dk_at dksX10_fact_0 15 rfl rfl)
theorem dX10_fact_17 : decode cX10_fact 17 = .ok (.aload_n 0, 1) := dk_42 (dk_at dksX10_fact_0 17 rfl rfl)
theorem dX10_fact_18 : decode cX10_fact 18 = .ok (.getfield 29, 3) := dk_180 0 29 (dk_at dksX10_fact_0 18 rfl rfl)
theorem dX10_fact_21 : decode cX10_fact 21 = .ok (.invokevirtual 59, 3) := dk_182 0 59 (dk_at dksX10_fact_0 21 rfl rfl)
theorem dX10_fact_24 : decode cX10_fact 24 = .ok (.athrow, 1) := dk_191 (dk_at dksX10_fact_1 0 rfl rfl)
theorem dX10_fact_25 : decode cX10_fact 25 = .ok (.aload_n 1, 1) := dk_43 (dk_at dksX10_fact_1 1 rfl rfl)
theorem dX10_fact_26 : decode cX10_fact 26 = .ok (.getfield 172, 3) := dk_180 0 172 (dk_at dksX10_fact_1 2 rfl rfl)
theorem dX10_fact_29 : decode cX10_fact 29 = .ok (.ifCond .le 20, 3) := dk_158 0 20 (dk_at dksX10_fact_1 5 rfl rfl)
theorem dX10_fact_32 : decode cX10_fact 32 = .ok (.aload_n 0, 1) := dk_42 (dk_at dksX10_fact_1 8 rfl rfl)
theorem dX10_fact_33 : decode cX10_fact 33 = .ok (.getfield 3, 3) := dk_180 0 3 (dk_at dksX10_fact_1 9 rfl rfl)
theorem dX10_fact_36 : decode cX10_fact 36 = .ok (.getfield 55, 3) := dk_180 0 55 (dk_at dksX10_fact_1 12 rfl rfl)
theorem dX10_fact_39 : decode cX10_fact 39 = .ok (.bipush 7, 2) := dk_16 7 (dk_at dksX10_fact_1 15 rfl rfl)
theorem dX10_fact_41 : decode cX10_fact 41 = .ok (.aload_n 0, 1) := dk_42 (dk_at dksX10_fact_1 17 rfl rfl)
theorem dX10_fact_42 : decode cX10_fact 42 = .ok (.getfield 29, 3) := dk_180 0 29 (dk_at dksX10_fact_1 18 rfl rfl)
theorem dX10_fact_45 : decode cX10_fact 45 = .ok (.invokevirtual 59, 3) := dk_182 0 59 (dk_at dksX10_fact_1 21 rfl rfl)
theorem dX10_fact_48 : decode cX10_fact 48 = .ok (.athrow, 1) := dk_191 (dk_at dksX10_fact_2 0 rfl rfl)
theorem dX10_fact_49 : decode cX10_fact 49 = .ok (.aload_n 0, 1) := dk_42 (dk_at dksX10_fact_2 1 rfl rfl)
theorem dX10_fact_50 : decode cX10_fact 50 = .ok (.invokevirtual 19, 3) := dk_182 0 19 (dk_at dksX10_fact_2 2 rfl rfl)
theorem dX10_fact_53 : decode cX10_fact 53 = .ok (.aload_n 0, 1) := dk_42 (dk_at dksX10_fact_2 5 rfl rfl)
theorem dX10_fact_54 : decode cX10_fact 54 = .ok (.aload_n 1, 1) := dk_43 (dk_at dksX10_fact_2 6 rfl rfl)
theorem dX10_fact_55 : decode cX10_fact 55 = .ok (.invokevirtual 175, 3) := dk_182 0 175 (dk_at dksX10_fact_2 7 rfl rfl)
theorem dX10_fact_58 : decode cX10_fact 58 = .ok (.lstore_n 2, 1) := dk_65 (dk_at dksX10_fact_2 10 rfl rfl)
theorem dX10_fact_59 : decode cX10_fact 59 = .ok (.aload_n 0, 1) := dk_42 (dk_at dksX10_fact_2 11 rfl rfl)
theorem dX10_fact_60 : decode cX10_fact 60 = .ok (.invokevirtual 19, 3) := dk_182 0 19 (dk_at dksX10_fact_2 12 rfl rfl)
theorem dX10_fact_63 : decode cX10_fact 63 = .ok (.aload_n 0, 1) := dk_42 (dk_at dksX10_fact_2 15 rfl rfl)
theorem dX10_fact_64 : decode cX10_fact 64 = .ok (.ldc 86, 2) := dk_18 86 (dk_at dksX10_fact_2 16 rfl rfl)
theorem dX10_fact_66 : decode cX10_fact 66 = .ok (.invokevirtual 179, 3) := dk_182 0 179 (dk_at dksX10_fact_2 18 rfl rfl)
theorem dX10_fact_69 : decode cX10_fact 69 = .ok (.aload_n 1, 1) := dk_43 (dk_at dksX10_fact_2 21 rfl rfl)
theorem dX10_fact_70 : decode cX10_fact 70 = .ok (.getfield 169, 3) := dk_180 0 169 (dk_at dksX10_fact_3 0 rfl rfl)
theorem dX10_fact_73 : decode cX10_fact 73 = .ok (.istore 4, 2) := dk_54 4 (dk_at dksX10_fact_3 3 rfl rfl)
theorem dX10_fact_75 : decode cX10_fact 75 = .ok (.aload_n 1, 1) := dk_43 (dk_at dksX10_fact_3 5 rfl rfl)
theorem dX10_fact_76 : decode cX10_fact 76 = .ok (.getfield 183, 3) := dk_180 0 183 (dk_at dksX10_fact_3 6 rfl rfl)
theorem dX10_fact_79 : decode cX10_fact 79 = .ok (.iload 4, 2) := dk_21 4 (dk_at dksX10_fact_3 9 rfl rfl)
theorem dX10_fact_81 : decode cX10_fact 81 = .ok (.lload_n 2, 1) := dk_32 (dk_at dksX10_fact_3 11 rfl rfl)
theorem dX10_fact_82 : decode cX10_fact 82 = .ok (.lastore, 1) := dk_80 (dk_at dksX10_fact_3 12 rfl rfl)
theorem dX10_fact_83 : decode cX10_fact 83 = .ok (.aload_n 1, 1) := dk_43 (dk_at dksX10_fact_3 13 rfl rfl)
theorem dX10_fact_84 : decode cX10_fact 84 = .ok (.getfield 187, 3) := dk_180 0 187 (dk_at dksX10_fact_3 14 rfl rfl)
theorem dX10_fact_87 : decode cX10_fact 87 = .ok (.iload 4, 2) := dk_21 4 (dk_at dksX10_fact_3 17 rfl rfl)
theorem dX10_fact_89 : decode cX10_fact 89 = .ok (.aload_n 1, 1) := dk_43 (dk_at dksX10_fact_3 19 rfl rfl)
theorem dX10_fact_90 : decode cX10_fact 90 = .ok (.getfield 191, 3) := dk_180 0 191 (dk_at dksX10_fact_3 20 rfl rfl)
theorem dX10_fact_93 : decode cX10_fact 93 = .ok (.iastore, 1) := dk_79 (dk_at dksX10_fact_3 23 rfl rfl)
theorem dX10_fact_94 : decode cX10_fact 94 = .ok (.aload_n 1, 1) := dk_43 (dk_at dksX10_fact_4 0 rfl rfl)
theorem dX10_fact_95 : decode cX10_fact 95 = .ok (.dup, 1) := dk_89 (dk_at dksX10_fact_4 1 rfl rfl)
theorem dX10_fact_96 : decode cX10_fact 96 = .ok (.getfield 169, 3) := dk_180 0 169 (dk_at dksX10_fact_4 2 rfl rfl)
theorem dX10_fact_99 : decode cX10_fact 99 = .ok (.iconst 1, 1) := dk_4 (dk_at dksX10_fact_4 5 rfl rfl)
theorem dX10_fact_100 : decode cX10_fact 100 = .ok (.iadd, 1) := dk_96 (dk_at dksX10_fact_4 6 rfl rfl)
theorem dX10_fact_101 : decode cX10_fact 101 = .ok (.putfield 169, 3) := dk_181 0 169 (dk_at dksX10_fact_4 7 rfl rfl)
theorem dX10_fact_104 : decode cX10_fact 104 = .ok (.aload_n 0, 1) := dk_42 (dk_at dksX10_fact_4 10 rfl rfl)
theorem dX10_fact_105 : decode cX10_fact 105 = .ok (.aload_n 1, 1) := dk_43 (dk_at dksX10_fact_4 11 rfl rfl)
theorem dX10_fact_106 : decode cX10_fact 106 = .ok (.invokevirtual 175, 3) := dk_182 0 175 (dk_at dksX10_fact_4 12 rfl rfl)
theorem dX10_fact_109 : decode cX10_fact 109 = .ok (.lstore 5, 2) := dk_55 5 (dk_at dksX10_fact_4 15 rfl rfl)
theorem dX10_fact_111 : decode cX10_fact 111 = .ok (.aload_n 1, 1) := dk_43 (dk_at dksX10_fact_4 17 rfl rfl)
theorem dX10_fact_112 : decode cX10_fact 112 = .ok (.getfield 194, 3) := dk_180 0 194 (dk_at dksX10_fact_4 18 rfl rfl)
theorem dX10_fact_115 : decode cX10_fact 115 = .ok (.iload 4, 2) := dk_21 4 (dk_at dksX10_fact_4 21 rfl rfl)
theorem dX10_fact_117 : decode cX10_fact 117 = .ok (.iaload, 1) := dk_46 (dk_at dksX10_fact_4 23 rfl rfl)
theorem dX10_fact_118 : decode cX10_fact 118 = .ok (.bipush 6, 2) := dk_16 6 (dk_at dksX10_fact_5 0 rfl rfl)
theorem dX10_fact_120 : decode cX10_fact 120 = .ok (.if_icmp .ne 20, 3) := dk_160 0 20 (dk_at dksX10_fact_5 2 rfl rfl)
theorem dX10_fact_123 : decode cX10_fact 123 = .ok (.aload_n 0, 1) := dk_42 (dk_at dksX10_fact_5 5 rfl rfl)
theorem dX10_fact_124 : decode cX10_fact 124 = .ok (.getfield 3, 3) := dk_180 0 3 (dk_at dksX10_fact_5 6 rfl rfl)
theorem dX10_fact_127 : decode cX10_fact 127 = .ok (.getfield 55, 3) := dk_180 0 55 (dk_at dksX10_fact_5 9 rfl rfl)
theorem dX10_fact_130 : decode cX10_fact 130 = .ok (.bipush 6, 2) := dk_16 6 (dk_at dksX10_fact_5 12 rfl rfl)
theorem dX10_fact_132 : decode cX10_fact 132 = .ok (.aload_n 0, 1) := dk_42 (dk_at dksX10_fact_5 14 rfl rfl)
theorem dX10_fact_133 : decode cX10_fact 133 = .ok (.getfield 29, 3) := dk_180 0 29 (dk_at dksX10_fact_5 15 rfl rfl)
theorem dX10_fact_136 : decode cX10_fact 136 = .ok (.invokevirtual 59, 3) := dk_182 0 59 (dk_at dksX10_fact_5 18 rfl rfl)
theorem dX10_fact_139 : decode cX10_fact 139 = .ok (.athrow, 1) := dk_191 (dk_at dksX10_fact_5 21 rfl rfl)
theorem dX10_fact_140 : decode cX10_fact 140 = .ok (.aload_n 0, 1) := dk_42 (dk_at dksX10_fact_5 22 rfl rfl)
theorem dX10_fact_141 : decode cX10_fact 141 = .ok (.invokevirtual 19, 3) := dk_182 0 19 (dk_at dksX10_fact_6 0 rfl rfl)
theorem dX10_fact_144 : decode cX10_fact 144 = .ok (.aload_n 1, 1) := dk_43 (dk_at dksX10_fact_6 3 rfl rfl)
theorem dX10_fact_145 : decode cX10_fact 145 = .ok (.getfield 197, 3) := dk_180 0 197 (dk_at dksX10_fact_6 4 rfl rfl)
theorem dX10_fact_148 : decode cX10_fact 148 = .ok (.aload_n 1, 1) := dk_43 (dk_at dksX10_fact_6 7 rfl rfl)
theorem dX10_fact_149 : decode cX10_fact 149 = .ok (.getfield 191, 3) := dk_180 0 191 (dk_at dksX10_fact_6 8 rfl rfl)
theorem dX10_fact_152 : decode cX10_fact 152 = .ok (.lload 5, 2) := dk_22 5 (dk_at dksX10_fact_6 11 rfl rfl)
theorem dX10_fact_154 : decode cX10_fact 154 = .ok (.lastore, 1) := dk_80 (dk_at dksX10_fact_6 13 rfl rfl)
theorem dX10_fact_155 : decode cX10_fact 155 = .ok (.aload_n 1, 1) := dk_43 (dk_at dksX10_fact_6 14 rfl rfl)
theorem dX10_fact_156 : decode cX10_fact 156 = .ok (.getfield 200, 3) := dk_180 0 200 (dk_at dksX10_fact_6 15 rfl rfl)
theorem dX10_fact_159 : decode cX10_fact 159 = .ok (.aload_n 1, 1) := dk_43 (dk_at dksX10_fact_6 18 rfl rfl)
theorem dX10_fact_160 : decode cX10_fact 160 = .ok (.getfield 191, 3) := dk_180 0 191 (dk_at dksX10_fact_6 19 rfl rfl)
theorem dX10_fact_163 : decode cX10_fact 163 = .ok (.iload 4, 2) := dk_21 4 (dk_at dksX10_fact_6 22 rfl rfl)
theorem dX10_fact_165 : decode cX10_fact 165 = .ok (.iastore, 1) := dk_79 (dk_at dksX10_fact_7 0 rfl rfl)
theorem dX10_fact_166 : decode cX10_fact 166 = .ok (.aload_n 1, 1) := dk_43 (dk_at dksX10_fact_7 1 rfl rfl)
theorem dX10_fact_167 : decode cX10_fact 167 = .ok (.getfield 203, 3) := dk_180 0 203 (dk_at dksX10_fact_7 2 rfl rfl)
theorem dX10_fact_170 : decode cX10_fact 170 = .ok (.aload_n 1, 1) := dk_43 (dk_at dksX10_fact_7 5 rfl rfl)
theorem dX10_fact_171 : decode cX10_fact 171 = .ok (.getfield 191, 3) := dk_180 0 191 (dk_at dksX10_fact_7 6 rfl rfl)
theorem dX10_fact_174 : decode cX10_fact 174 = .ok (.aload_n 0, 1) := dk_42 (dk_at dksX10_fact_7 9 rfl rfl)
theorem dX10_fact_175 : decode cX10_fact 175 = .ok (.getfield 32, 3) := dk_180 0 32 (dk_at dksX10_fact_7 10 rfl rfl)
theorem dX10_fact_178 : decode cX10_fact 178 = .ok (.iconst 2, 1) := dk_5 (dk_at dksX10_fact_7 13 rfl rfl)
theorem dX10_fact_179 : decode cX10_fact 179 = .ok (.if_icmp .ne 13, 3) := dk_160 0 13 (dk_at dksX10_fact_7 14 rfl rfl)
theorem dX10_fact_182 : decode cX10_fact 182 = .ok (.aload_n 0, 1) := dk_42 (dk_at dksX10_fact_7 17 rfl rfl)
theorem dX10_fact_183 : decode cX10_fact 183 = .ok (.iconst 1, 1) := dk_4 (dk_at dksX10_fact_7 18 rfl rfl)
theorem dX10_fact_184 : decode cX10_fact 184 = .ok (.bipush 9, 2) := dk_16 9 (dk_at dksX10_fact_7 19 rfl rfl)
theorem dX10_fact_186 : decode cX10_fact 186 = .ok (.invokevirtual 206, 3) := dk_182 0 206 (dk_at dksX10_fact_7 21 rfl rfl)
theorem dX10_fact_189 : decode cX10_fact 189 = .ok (.goto 4, 3) := dk_167 0 4 (dk_at dksX10_fact_8 0 rfl rfl)
theorem dX10_fact_192 : decode cX10_fact 192 = .ok (.iconst 1, 1) := dk_4 (dk_at dksX10_fact_8 3 rfl rfl)
theorem dX10_fact_193 : decode cX10_fact 193 = .ok (.iastore, 1) := dk_79 (dk_at dksX10_fact_8 4 rfl rfl)
theorem dX10_fact_194 : decode cX10_fact 194 = .ok (.aload_n 1, 1) := dk_43 (dk_at dksX10_fact_8 5 rfl rfl)
theorem dX10_fact_195 : decode cX10_fact 195 = .ok (.dup, 1) := dk_89 (dk_at dksX10_fact_8 6 rfl rfl)
theorem dX10_fact_196 : decode cX10_fact 196 = .ok (.getfield 191, 3) := dk_180 0 191 (dk_at dksX10_fact_8 7 rfl rfl)
theorem dX10_fact_199 : decode cX10_fact 199 = .ok (.iconst 1, 1) := dk_4 (dk_at dksX10_fact_8 10 rfl rfl)
theorem dX10_fact_200 : decode cX10_fact 200 = .ok (.iadd, 1) := dk_96 (dk_at dksX10_fact_8 11 rfl rfl)
theorem dX10_fact_201 : decode cX10_fact 201 = .ok (.putfield 191, 3) := dk_181 0 191 (dk_at dksX10_fact_8 12 rfl rfl)
theorem dX10_fact_204 : decode cX10_fact 204 = .ok (.aload_n 1, 1) := dk_43 (dk_at dksX10_fact_8 15 rfl rfl)
theorem dX10_fact_205 : decode cX10_fact 205 = .ok (.getfield 194, 3) := dk_180 0 194 (dk_at dksX10_fact_8 16 rfl rfl)
theorem dX10_fact_208 : decode cX10_fact 208 = .ok (.iload 4, 2) := dk_21 4 (dk_at dksX10_fact_8 19 rfl rfl)
theorem dX10_fact_210 : decode cX10_fact 210 = .ok (.dup2, 1) := dk_92 (dk_at dksX10_fact_8 21 rfl rfl)
theorem dX10_fact_211 : decode cX10_fact 211 = .ok (.iaload, 1) := dk_46 (dk_at dksX10_fact_8 22 rfl rfl)
theorem dX10_fact_212 : decode cX10_fact 212 = .ok (.iconst 1, 1) := dk_4 (dk_at dksX10_fact_8 23 rfl rfl)
theorem dX10_fact_213 : decode cX10_fact 213 = .ok (.iadd, 1) := dk_96 (dk_at dksX10_fact_9 0 rfl rfl)
theorem dX10_fact_214 : decode cX10_fact 214 = .ok (.iastore, 1) := dk_79 (dk_at dksX10_fact_9 1 rfl rfl)
theorem dX10_fact_215 : decode cX10_fact 215 = .ok (.aload_n 0, 1) := dk_42 (dk_at dksX10_fact_9 2 rfl rfl)
theorem dX10_fact_216 : decode cX10_fact 216 = .ok (.getfield 32, 3) := dk_180 0 32 (dk_at dksX10_fact_9 3 rfl rfl)
theorem dX10_fact_219 : decode cX10_fact 219 = .ok (.iconst 1, 1) := dk_4 (dk_at dksX10_fact_9 6 rfl rfl)
theorem dX10_fact_220 : decode cX10_fact 220 = .ok (.if_icmp .eq (-116), 3) := dk_159 255 140 (dk_at dksX10_fact_9 7 rfl rfl)
theorem dX10_fact_223 : decode cX10_fact 223 = .ok (.aload_n 0, 1) := dk_42 (dk_at dksX10_fact_9 10 rfl rfl)
theorem dX10_fact_224 : decode cX10_fact 224 = .ok (.bipush 59, 2) := dk_16 59 (dk_at dksX10_fact_9 11 rfl rfl)
theorem dX10_fact_226 : decode cX10_fact 226 = .ok (.invokevirtual 64, 3) := dk_182 0 64 (dk_at dksX10_fact_9 13 rfl rfl)
theorem dX10_fact_229 : decode cX10_fact 229 = .ok (.ifCond .eq 49, 3) := dk_153 0 49 (dk_at dksX10_fact_9 16 rfl rfl)
theorem dX10_fact_232 : decode cX10_fact 232 = .ok (.aload_n 1, 1) := dk_43 (dk_at dksX10_fact_9 19 rfl rfl)
theorem dX10_fact_233 : decode cX10_fact 233 = .ok (.getfield 194, 3) := dk_180 0 194 (dk_at dksX10_fact_9 20 rfl rfl)
theorem dX10_fact_236 : decode cX10_fact 236 = .ok (.iload 4, 2) := dk_21 4 (dk_at dksX10_fact_10 0 rfl rfl)
theorem dX10_fact_238 : decode cX10_fact 238 = .ok (.iaload, 1) := dk_46 (dk_at dksX10_fact_10 2 rfl rfl)
theorem dX10_fact_239 : decode cX10_fact 239 = .ok (.iconst 1, 1) := dk_4 (dk_at dksX10_fact_10 3 rfl rfl)
theorem dX10_fact_240 : decode cX10_fact 240 = .ok (.if_icmp .eq 21, 3) := dk_159 0 21 (dk_at dksX10_fact_10 4 rfl rfl)
theorem dX10_fact_243 : decode cX10_fact 243 = .ok (.aload_n 1, 1) := dk_43 (dk_at dksX10_fact_10 7 rfl rfl)
theorem dX10_fact_244 : decode cX10_fact 244 = .ok (.getfield 209, 3) := dk_180 0 209 (dk_at dksX10_fact_10 8 rfl rfl)
theorem dX10_fact_247 : decode cX10_fact 247 = .ok (.aload_n 1, 1) := dk_43 (dk_at dksX10_fact_10 11 rfl rfl)
theorem dX10_fact_248 : decode cX10_fact 248 = .ok (.getfield 194, 3) := dk_180 0 194 (dk_at dksX10_fact_10 12 rfl rfl)
theorem dX10_fact_251 : decode cX10_fact 251 = .ok (.iload 4, 2) := dk_21 4 (dk_at dksX10_fact_10 15 rfl rfl)
theorem dX10_fact_253 : decode cX10_fact 253 = .ok (.iaload, 1) := dk_46 (dk_at dksX10_fact_10 17 rfl rfl)
theorem dX10_fact_254 : decode cX10_fact 254 = .ok (.imul, 1) := dk_104 (dk_at dksX10_fact_10 18 rfl rfl)
theorem dX10_fact_255 : decode cX10_fact 255 = .ok (.sipush 256, 3) := dk_17 1 0 (dk_at dksX10_fact_10 19 rfl rfl)
theorem dX10_fact_258 : decode cX10_fact 258 = .ok (.if_icmp .le 20, 3) := dk_164 0 20 (dk_at dksX10_fact_11 0 rfl rfl)
theorem dX10_fact_261 : decode cX10_fact 261 = .ok (.aload_n 0, 1) := dk_42 (dk_at dksX10_fact_11 3 rfl rfl)
theorem dX10_fact_262 : decode cX10_fact 262 = .ok (.getfield 3, 3) := dk_180 0 3 (dk_at dksX10_fact_11 4 rfl rfl)
theorem dX10_fact_265 : decode cX10_fact 265 = .ok (.getfield 55, 3) := dk_180 0 55 (dk_at dksX10_fact_11 7 rfl rfl)
theorem dX10_fact_268 : decode cX10_fact 268 = .ok (.bipush 8, 2) := dk_16 8 (dk_at dksX10_fact_11 10 rfl rfl)
theorem dX10_fact_270 : decode cX10_fact 270 = .ok (.aload_n 0, 1) := dk_42 (dk_at dksX10_fact_11 12 rfl rfl)
theorem dX10_fact_271 : decode cX10_fact 271 = .ok (.getfield 29, 3) := dk_180 0 29 (dk_at dksX10_fact_11 13 rfl rfl)
theorem dX10_fact_274 : decode cX10_fact 274 = .ok (.invokevirtual 59, 3) := dk_182 0 59 (dk_at dksX10_fact_11 16 rfl rfl)
theorem dX10_fact_277 : decode cX10_fact 277 = .ok (.athrow, 1) := dk_191 (dk_at dksX10_fact_11 19 rfl rfl)
theorem dX10_fact_278 : decode cX10_fact 278 = .ok (.aload_n 0, 1) := dk_42 (dk_at dksX10_fact_11 20 rfl rfl)
theorem dX10_fact_279 : decode cX10_fact 279 = .ok (.bipush 59, 2) := dk_16 59 (dk_at dksX10_fact_11 21 rfl rfl)
theorem dX10_fact_281 : decode cX10_fact 281 = .ok (.invokevirtual 64, 3) := dk_182 0 64 (dk_at dksX10_fact_12 0 rfl rfl)
theorem dX10_fact_284 : decode cX10_fact 284 = .ok (.ifCond .eq 8, 3) := dk_153 0 8 (dk_at dksX10_fact_12 3 rfl rfl)
theorem dX10_fact_287 : decode cX10_fact 287 = .ok (.aload_n 0, 1) := dk_42 (dk_at dksX10_fact_12 6 rfl rfl)
theorem dX10_fact_288 : decode cX10_fact 288 = .ok (.aload_n 1, 1) := dk_43 (dk_at dksX10_fact_12 7 rfl rfl)
theorem dX10_fact_289 : decode cX10_fact 289 = .ok (.invokevirtual 212, 3) := dk_182 0 212 (dk_at dksX10_fact_12 8 rfl rfl)
theorem dX10_fact_292 : decode cX10_fact 292 = .ok (.return_, 1) := dk_177 (dk_at dksX10_fact_12 11 rfl rfl)
abbrev cX10_newName : ByteArray := prog_8_method_15_code
def yX10_newName : MethodName := ⟨RX10, "newName", "(LAskingCourt$Case;)J"⟩
def dkwX10_newName_1 : List UInt8 := [180, 0, 29, 182, 0, 59, 191, 32, 173]
abbrev dktX10_newName_1 : List UInt8 := dkwX10_newName_1 ++ []
def dkwX10_newName_0 : List UInt8 := [42, 182, 0, 143, 65, 43, 32, 182, 0, 147, 153, 0, 19, 42, 180, 0, 3, 180, 0, 55, 6, 42]
abbrev dktX10_newName_0 : List UInt8 := dkwX10_newName_0 ++ dktX10_newName_1
theorem dksX10_newName_0 : cX10_newName.data.toList.drop 0 = dktX10_newName_0 := by decide +kernel
theorem dksX10_newName_1 : cX10_newName.data.toList.drop 22 = dktX10_newName_1 := dk_seg dksX10_newName_0 22 rfl rfl
theorem dX10_newName_0 : decode cX10_newName 0 = .ok (.aload_n 0, 1) := dk_42 (dk_at dksX10_newName_0 0 rfl rfl)
theorem dX10_newName_1 : decode cX10_newName 1 = .ok (.invokevirtual 143, 3) := dk_182 0 143 (dk_at dksX10_newName_0 1 rfl rfl)
theorem dX10_newName_4 : decode cX10_newName 4 = .ok (.lstore_n 2, 1) := dk_65 (dk_at dksX10_newName_0 4 rfl rfl)
theorem dX10_newName_5 : decode cX10_newName 5 = .ok (.aload_n 1, 1) := dk_43 (dk_at dksX10_newName_0 5 rfl rfl)
theorem dX10_newName_6 : decode cX10_newName 6 = .ok (.lload_n 2, 1) := dk_32 (dk_at dksX10_newName_0 6 rfl rfl)
theorem dX10_newName_7 : decode cX10_newName 7 = .ok (.invokevirtual 147, 3) := dk_182 0 147 (dk_at dksX10_newName_0 7 rfl rfl)
theorem dX10_newName_10 : decode cX10_newName 10 = .ok (.ifCond .eq 19, 3) := dk_153 0 19 (dk_at dksX10_newName_0 10 rfl rfl)
theorem dX10_newName_13 : decode cX10_newName 13 = .ok (.aload_n 0, 1) := dk_42 (dk_at dksX10_newName_0 13 rfl rfl)
theorem dX10_newName_14 : decode cX10_newName 14 = .ok (.getfield 3, 3) := dk_180 0 3 (dk_at dksX10_newName_0 14 rfl rfl)
theorem dX10_newName_17 : decode cX10_newName 17 = .ok (.getfield 55, 3) := dk_180 0 55 (dk_at dksX10_newName_0 17 rfl rfl)
theorem dX10_newName_20 : decode cX10_newName 20 = .ok (.iconst 3, 1) := dk_6 (dk_at dksX10_newName_0 20 rfl rfl)
theorem dX10_newName_21 : decode cX10_newName 21 = .ok (.aload_n 0, 1) := dk_42 (dk_at dksX10_newName_0 21 rfl rfl)
theorem dX10_newName_22 : decode cX10_newName 22 = .ok (.getfield 29, 3) := dk_180 0 29 (dk_at dksX10_newName_1 0 rfl rfl)
theorem dX10_newName_25 : decode cX10_newName 25 = .ok (.invokevirtual 59, 3) := dk_182 0 59 (dk_at dksX10_newName_1 3 rfl rfl)
theorem dX10_newName_28 : decode cX10_newName 28 = .ok (.athrow, 1) := dk_191 (dk_at dksX10_newName_1 6 rfl rfl)
theorem dX10_newName_29 : decode cX10_newName 29 = .ok (.lload_n 2, 1) := dk_32 (dk_at dksX10_newName_1 7 rfl rfl)
theorem dX10_newName_30 : decode cX10_newName 30 = .ok (.lreturn, 1) := dk_173 (dk_at dksX10_newName_1 8 rfl rfl)
abbrev cX10_name : ByteArray := prog_8_method_14_code
def yX10_name : MethodName := ⟨RX10, "name", "()J"⟩
def dkwX10_name_2 : List UInt8 := [132, 3, 1, 167, 255, 224, 31, 173]
abbrev dktX10_name_2 : List UInt8 := dkwX10_name_2 ++ []
def dkwX10_name_1 : List UInt8 := [162, 0, 30, 31, 20, 0, 139, 105, 42, 180, 0, 3, 180, 0, 22, 29, 51, 133, 97, 20, 0, 141, 101, 64]
abbrev dktX10_name_1 : List UInt8 := dkwX10_name_1 ++ dktX10_name_2
def dkwX10_name_0 : List UInt8 := [42, 182, 0, 136, 154, 0, 8, 42, 182, 0, 68, 191, 9, 64, 42, 180, 0, 29, 62, 29, 42, 180, 0, 26]
abbrev dktX10_name_0 : List UInt8 := dkwX10_name_0 ++ dktX10_name_1
theorem dksX10_name_0 : cX10_name.data.toList.drop 0 = dktX10_name_0 := by decide +kernel
theorem dksX10_name_1 : cX10_name.data.toList.drop 24 = dktX10_name_1 := dk_seg dksX10_name_0 24 rfl rfl
theorem dksX10_name_2 : cX10_name.data.toList.drop 48 = dktX10_name_2 := dk_seg dksX10_name_1 24 rfl rfl
theorem dX10_name_0 : decode cX10_name 0 = .ok (.aload_n 0, 1) := dk_42 (dk_at dksX10_name_0 0 rfl rfl)
theorem dX10_name_1 : decode cX10_name 1 = .ok (.invokevirtual 136, 3) := dk_182 0 136 (dk_at dksX10_name_0 1 rfl rfl)
theorem dX10_name_4 : decode cX10_name 4 = .ok (.ifCond .ne 8, 3) := dk_154 0 8 (dk_at dksX10_name_0 4 rfl rfl)
theorem dX10_name_7 : decode cX10_name 7 = .ok (.aload_n 0, 1) := dk_42 (dk_at dksX10_name_0 7 rfl rfl)
theorem dX10_name_8 : decode cX10_name 8 = .ok (.invokevirtual 68, 3) := dk_182 0 68 (dk_at dksX10_name_0 8 rfl rfl)
theorem dX10_name_11 : decode cX10_name 11 = .ok (.athrow, 1) := dk_191 (dk_at dksX10_name_0 11 rfl rfl)
theorem dX10_name_12 : decode cX10_name 12 = .ok (.lconst 0, 1) := dk_9 (dk_at dksX10_name_0 12 rfl rfl)
theorem dX10_name_13 : decode cX10_name 13 = .ok (.lstore_n 1, 1) := dk_64 (dk_at dksX10_name_0 13 rfl rfl)
theorem dX10_name_14 : decode cX10_name 14 = .ok (.aload_n 0, 1) := dk_42 (dk_at dksX10_name_0 14 rfl rfl)
theorem dX10_name_15 : decode cX10_name 15 = .ok (.getfield 29, 3) := dk_180 0 29 (dk_at dksX10_name_0 15 rfl rfl)
theorem dX10_name_18 : decode cX10_name 18 = .ok (.istore_n 3, 1) := dk_62 (dk_at dksX10_name_0 18 rfl rfl)
theorem dX10_name_19 : decode cX10_name 19 = .ok (.iload_n 3, 1) := dk_29 (dk_at dksX10_name_0 19 rfl rfl)
theorem dX10_name_20 : decode cX10_name 20 = .ok (.aload_n 0, 1) := dk_42 (dk_at dksX10_name_0 20 rfl rfl)
theorem dX10_name_21 : decode cX10_name 21 = .ok (.getfield 26, 3) := dk_180 0 26 (dk_at dksX10_name_0 21 rfl rfl)
theorem dX10_name_24 : decode cX10_name 24 = .ok (.if_icmp .ge 30, 3) := dk_162 0 30 (dk_at dksX10_name_1 0 rfl rfl)
theorem dX10_name_27 : decode cX10_name 27 = .ok (.lload_n 1, 1) := dk_31 (dk_at dksX10_name_1 3 rfl rfl)
theorem dX10_name_28 : decode cX10_name 28 = .ok (.ldc2_w 139, 3) := dk_20 0 139 (dk_at dksX10_name_1 4 rfl rfl)
theorem dX10_name_31 : decode cX10_name 31 = .ok (.lmul, 1) := dk_105 (dk_at dksX10_name_1 7 rfl rfl)
theorem dX10_name_32 : decode cX10_name 32 = .ok (.aload_n 0, 1) := dk_42 (dk_at dksX10_name_1 8 rfl rfl)
theorem dX10_name_33 : decode cX10_name 33 = .ok (.getfield 3, 3) := dk_180 0 3 (dk_at dksX10_name_1 9 rfl rfl)
theorem dX10_name_36 : decode cX10_name 36 = .ok (.getfield 22, 3) := dk_180 0 22 (dk_at dksX10_name_1 12 rfl rfl)
theorem dX10_name_39 : decode cX10_name 39 = .ok (.iload_n 3, 1) := dk_29 (dk_at dksX10_name_1 15 rfl rfl)
theorem dX10_name_40 : decode cX10_name 40 = .ok (.baload, 1) := dk_51 (dk_at dksX10_name_1 16 rfl rfl)
theorem dX10_name_41 : decode cX10_name 41 = .ok (.i2l, 1) := dk_133 (dk_at dksX10_name_1 17 rfl rfl)
theorem dX10_name_42 : decode cX10_name 42 = .ok (.ladd, 1) := dk_97 (dk_at dksX10_name_1 18 rfl rfl)
theorem dX10_name_43 : decode cX10_name 43 = .ok (.ldc2_w 141, 3) := dk_20 0 141 (dk_at dksX10_name_1 19 rfl rfl)
theorem dX10_name_46 : decode cX10_name 46 = .ok (.lsub, 1) := dk_101 (dk_at dksX10_name_1 22 rfl rfl)
theorem dX10_name_47 : decode cX10_name 47 = .ok (.lstore_n 1, 1) := dk_64 (dk_at dksX10_name_1 23 rfl rfl)
theorem dX10_name_48 : decode cX10_name 48 = .ok (.iinc 3 1, 3) := dk_132 3 1 (dk_at dksX10_name_2 0 rfl rfl)
theorem dX10_name_51 : decode cX10_name 51 = .ok (.goto (-32), 3) := dk_167 255 224 (dk_at dksX10_name_2 3 rfl rfl)
theorem dX10_name_54 : decode cX10_name 54 = .ok (.lload_n 1, 1) := dk_31 (dk_at dksX10_name_2 6 rfl rfl)
theorem dX10_name_55 : decode cX10_name 55 = .ok (.lreturn, 1) := dk_173 (dk_at dksX10_name_2 7 rfl rfl)
abbrev cX10_isName : ByteArray := prog_8_method_13_code
def yX10_isName : MethodName := ⟨RX10, "isName", "()Z"⟩
def dkwX10_isName_1 : List UInt8 := [182, 0, 132, 154, 0, 7, 4, 167, 0, 4, 3, 172]
abbrev dktX10_isName_1 : List UInt8 := dkwX10_isName_1 ++ []
def dkwX10_isName_0 : List UInt8 := [42, 180, 0, 32, 4, 160, 0, 28, 42, 180, 0, 26, 42, 180, 0, 29, 100, 16, 8, 163, 0, 14, 42]
abbrev dktX10_isName_0 : List UInt8 := dkwX10_isName_0 ++ dktX10_isName_1
theorem dksX10_isName_0 : cX10_isName.data.toList.drop 0 = dktX10_isName_0 := by decide +kernel
theorem dksX10_isName_1 : cX10_isName.data.toList.drop 23 = dktX10_isName_1 := dk_seg dksX10_isName_0 23 rfl rfl
theorem dX10_isName_0 : decode cX10_isName 0 = .ok (.aload_n 0, 1) := dk_42 (dk_at dksX10_isName_0 0 rfl rfl)
theorem dX10_isName_1 : decode cX10_isName 1 = .ok (.getfield 32, 3) := dk_180 0 32 (dk_at dksX10_isName_0 1 rfl rfl)
theorem dX10_isName_4 : decode cX10_isName 4 = .ok (.iconst 1, 1) := dk_4 (dk_at dksX10_isName_0 4 rfl rfl)
theorem dX10_isName_5 : decode cX10_isName 5 = .ok (.if_icmp .ne 28, 3) := dk_160 0 28 (dk_at dksX10_isName_0 5 rfl rfl)
theorem dX10_isName_8 : decode cX10_isName 8 = .ok (.aload_n 0, 1) := dk_42 (dk_at dksX10_isName_0 8 rfl rfl)
theorem dX10_isName_9 : decode cX10_isName 9 = .ok (.getfield 26, 3) := dk_180 0 26 (dk_at dksX10_isName_0 9 rfl rfl)
theorem dX10_isName_12 : decode cX10_isName 12 = .ok (.aload_n 0, 1) := dk_42 (dk_at dksX10_isName_0 12 rfl rfl)
theorem dX10_isName_13 : decode cX10_isName 13 = .ok (.getfield 29, 3) := dk_180 0 29 (dk_at dksX10_isName_0 13 rfl rfl)
theorem dX10_isName_16 : decode cX10_isName 16 = .ok (.isub, 1) := dk_100 (dk_at dksX10_isName_0 16 rfl rfl)
theorem dX10_isName_17 : decode cX10_isName 17 = .ok (.bipush 8, 2) := dk_16 8 (dk_at dksX10_isName_0 17 rfl rfl)
theorem dX10_isName_19 : decode cX10_isName 19 = .ok (.if_icmp .gt 14, 3) := dk_163 0 14 (dk_at dksX10_isName_0 19 rfl rfl)
theorem dX10_isName_22 : decode cX10_isName 22 = .ok (.aload_n 0, 1) := dk_42 (dk_at dksX10_isName_0 22 rfl rfl)
theorem dX10_isName_23 : decode cX10_isName 23 = .ok (.invokevirtual 132, 3) := dk_182 0 132 (dk_at dksX10_isName_1 0 rfl rfl)
theorem dX10_isName_26 : decode cX10_isName 26 = .ok (.ifCond .ne 7, 3) := dk_154 0 7 (dk_at dksX10_isName_1 3 rfl rfl)
theorem dX10_isName_29 : decode cX10_isName 29 = .ok (.iconst 1, 1) := dk_4 (dk_at dksX10_isName_1 6 rfl rfl)
theorem dX10_isName_30 : decode cX10_isName 30 = .ok (.goto 4, 3) := dk_167 0 4 (dk_at dksX10_isName_1 7 rfl rfl)
theorem dX10_isName_33 : decode cX10_isName 33 = .ok (.iconst 0, 1) := dk_3 (dk_at dksX10_isName_1 10 rfl rfl)
theorem dX10_isName_34 : decode cX10_isName 34 = .ok (.ireturn, 1) := dk_172 (dk_at dksX10_isName_1 11 rfl rfl)
abbrev cX10_isKept : ByteArray := prog_8_method_12_code
def yX10_isKept : MethodName := ⟨RX10, "isKept", "()Z"⟩
def dkwX10_isKept_9 : List UInt8 := [42, 18, 128, 182, 0, 72, 154, 0, 12, 42, 18, 130, 182, 0, 72, 153, 0, 7, 4, 167, 0, 4, 3, 172]
abbrev dktX10_isKept_9 : List UInt8 := dkwX10_isKept_9 ++ []
def dkwX10_isKept_8 : List UInt8 := [182, 0, 72, 154, 0, 39, 42, 18, 124, 182, 0, 72, 154, 0, 30, 42, 18, 126, 182, 0, 72, 154, 0, 21]
abbrev dktX10_isKept_8 : List UInt8 := dkwX10_isKept_8 ++ dktX10_isKept_9
def dkwX10_isKept_7 : List UInt8 := [156, 0, 66, 42, 18, 118, 182, 0, 72, 154, 0, 57, 42, 18, 120, 182, 0, 72, 154, 0, 48, 42, 18, 122]
abbrev dktX10_isKept_7 : List UInt8 := dkwX10_isKept_7 ++ dktX10_isKept_8
def dkwX10_isKept_6 : List UInt8 := [182, 0, 72, 153, 0, 7, 4, 167, 0, 4, 3, 61, 27, 154, 0, 77, 28, 154, 0, 73, 42, 182, 0, 115]
abbrev dktX10_isKept_6 : List UInt8 := dkwX10_isKept_6 ++ dktX10_isKept_7
def dkwX10_isKept_5 : List UInt8 := [154, 0, 30, 42, 18, 110, 182, 0, 72, 154, 0, 21, 42, 18, 112, 182, 0, 72, 154, 0, 12, 42, 18, 114]
abbrev dktX10_isKept_5 : List UInt8 := dkwX10_isKept_5 ++ dktX10_isKept_6
def dkwX10_isKept_4 : List UInt8 := [42, 18, 104, 182, 0, 72, 154, 0, 48, 42, 18, 106, 182, 0, 72, 154, 0, 39, 42, 18, 108, 182, 0, 72]
abbrev dktX10_isKept_4 : List UInt8 := dkwX10_isKept_4 ++ dktX10_isKept_5
def dkwX10_isKept_3 : List UInt8 := [4, 167, 0, 4, 3, 60, 42, 18, 100, 182, 0, 72, 154, 0, 66, 42, 18, 102, 182, 0, 72, 154, 0, 57]
abbrev dktX10_isKept_3 : List UInt8 := dkwX10_isKept_3 ++ dktX10_isKept_4
def dkwX10_isKept_2 : List UInt8 := [182, 0, 72, 154, 0, 21, 42, 18, 96, 182, 0, 72, 154, 0, 12, 42, 18, 98, 182, 0, 72, 153, 0, 7]
abbrev dktX10_isKept_2 : List UInt8 := dkwX10_isKept_2 ++ dktX10_isKept_3
def dkwX10_isKept_1 : List UInt8 := [154, 0, 48, 42, 18, 90, 182, 0, 72, 154, 0, 39, 42, 18, 92, 182, 0, 72, 154, 0, 30, 42, 18, 94]
abbrev dktX10_isKept_1 : List UInt8 := dkwX10_isKept_1 ++ dktX10_isKept_2
def dkwX10_isKept_0 : List UInt8 := [42, 18, 84, 182, 0, 72, 154, 0, 66, 42, 18, 86, 182, 0, 72, 154, 0, 57, 42, 18, 88, 182, 0, 72]
abbrev dktX10_isKept_0 : List UInt8 := dkwX10_isKept_0 ++ dktX10_isKept_1
theorem dksX10_isKept_0 : cX10_isKept.data.toList.drop 0 = dktX10_isKept_0 := by decide +kernel
theorem dksX10_isKept_1 : cX10_isKept.data.toList.drop 24 = dktX10_isKept_1 := dk_seg dksX10_isKept_0 24 rfl rfl
theorem dksX10_isKept_2 : cX10_isKept.data.toList.drop 48 = dktX10_isKept_2 := dk_seg dksX10_isKept_1 24 rfl rfl
theorem dksX10_isKept_3 : cX10_isKept.data.toList.drop 72 = dktX10_isKept_3 := dk_seg dksX10_isKept_2 24 rfl rfl
theorem dksX10_isKept_4 : cX10_isKept.data.toList.drop 96 = dktX10_isKept_4 := dk_seg dksX10_isKept_3 24 rfl rfl
theorem dksX10_isKept_5 : cX10_isKept.data.toList.drop 120 = dktX10_isKept_5 := dk_seg dksX10_isKept_4 24 rfl rfl
theorem dksX10_isKept_6 : cX10_isKept.data.toList.drop 144 = dktX10_isKept_6 := dk_seg dksX10_isKept_5 24 rfl rfl
theorem dksX10_isKept_7 : cX10_isKept.data.toList.drop 168 = dktX10_isKept_7 := dk_seg dksX10_isKept_6 24 rfl rfl
theorem dksX10_isKept_8 : cX10_isKept.data.toList.drop 192 = dktX10_isKept_8 := dk_seg dksX10_isKept_7 24 rfl rfl
theorem dksX10_isKept_9 : cX10_isKept.data.toList.drop 216 = dktX10_isKept_9 := dk_seg dksX10_isKept_8 24 rfl rfl
theorem dX10_isKept_0 : decode cX10_isKept 0 = .ok (.aload_n 0, 1) := dk_42 (dk_at dksX10_isKept_0 0 rfl rfl)
theorem dX10_isKept_1 : decode cX10_isKept 1 = .ok (.ldc 84, 2) := dk_18 84 (dk_at dksX10_isKept_0 1 rfl rfl)
theorem dX10_isKept_3 : decode cX10_isKept 3 = .ok (.invokevirtual 72, 3) := dk_182 0 72 (dk_at dksX10_isKept_0 3 rfl rfl)
theorem dX10_isKept_6 : decode cX10_isKept 6 = .ok (.ifCond .ne 66, 3) := dk_154 0 66 (dk_at dksX10_isKept_0 6 rfl rfl)
theorem dX10_isKept_9 : decode cX10_isKept 9 = .ok (.aload_n 0, 1) := dk_42 (dk_at dksX10_isKept_0 9 rfl rfl)
theorem dX10_isKept_10 : decode cX10_isKept 10 = .ok (.ldc 86, 2) := dk_18 86 (dk_at dksX10_isKept_0 10 rfl rfl)
theorem dX10_isKept_12 : decode cX10_isKept 12 = .ok (.invokevirtual 72, 3) := dk_182 0 72 (dk_at dksX10_isKept_0 12 rfl rfl)
theorem dX10_isKept_15 : decode cX10_isKept 15 = .ok (.ifCond .ne 57, 3) := dk_154 0 57 (dk_at dksX10_isKept_0 15 rfl rfl)
theorem dX10_isKept_18 : decode cX10_isKept 18 = .ok (.aload_n 0, 1) := dk_42 (dk_at dksX10_isKept_0 18 rfl rfl)
theorem dX10_isKept_19 : decode cX10_isKept 19 = .ok (.ldc 88, 2) := dk_18 88 (dk_at dksX10_isKept_0 19 rfl rfl)
theorem dX10_isKept_21 : decode cX10_isKept 21 = .ok (.invokevirtual 72, 3) := dk_182 0 72 (dk_at dksX10_isKept_0 21 rfl rfl)
theorem dX10_isKept_24 : decode cX10_isKept 24 = .ok (.ifCond .ne 48, 3) := dk_154 0 48 (dk_at dksX10_isKept_1 0 rfl rfl)
theorem dX10_isKept_27 : decode cX10_isKept 27 = .ok (.aload_n 0, 1) := dk_42 (dk_at dksX10_isKept_1 3 rfl rfl)
theorem dX10_isKept_28 : decode cX10_isKept 28 = .ok (.ldc 90, 2) := dk_18 90 (dk_at dksX10_isKept_1 4 rfl rfl)
theorem dX10_isKept_30 : decode cX10_isKept 30 = .ok (.invokevirtual 72, 3) := dk_182 0 72 (dk_at dksX10_isKept_1 6 rfl rfl)
theorem dX10_isKept_33 : decode cX10_isKept 33 = .ok (.ifCond .ne 39, 3) := dk_154 0 39 (dk_at dksX10_isKept_1 9 rfl rfl)
theorem dX10_isKept_36 : decode cX10_isKept 36 = .ok (.aload_n 0, 1) := dk_42 (dk_at dksX10_isKept_1 12 rfl rfl)
theorem dX10_isKept_37 : decode cX10_isKept 37 = .ok (.ldc 92, 2) := dk_18 92 (dk_at dksX10_isKept_1 13 rfl rfl)
theorem dX10_isKept_39 : decode cX10_isKept 39 = .ok (.invokevirtual 72, 3) := dk_182 0 72 (dk_at dksX10_isKept_1 15 rfl rfl)
theorem dX10_isKept_42 : decode cX10_isKept 42 = .ok (.ifCond .ne 30, 3) := dk_154 0 30 (dk_at dksX10_isKept_1 18 rfl rfl)
theorem dX10_isKept_45 : decode cX10_isKept 45 = .ok (.aload_n 0, 1) := dk_42 (dk_at dksX10_isKept_1 21 rfl rfl)
theorem dX10_isKept_46 : decode cX10_isKept 46 = .ok (.ldc 94, 2) := dk_18 94 (dk_at dksX10_isKept_1 22 rfl rfl)
theorem dX10_isKept_48 : decode cX10_isKept 48 = .ok (.invokevirtual 72, 3) := dk_182 0 72 (dk_at dksX10_isKept_2 0 rfl rfl)
theorem dX10_isKept_51 : decode cX10_isKept 51 = .ok (.ifCond .ne 21, 3) := dk_154 0 21 (dk_at dksX10_isKept_2 3 rfl rfl)
theorem dX10_isKept_54 : decode cX10_isKept 54 = .ok (.aload_n 0, 1) := dk_42 (dk_at dksX10_isKept_2 6 rfl rfl)
theorem dX10_isKept_55 : decode cX10_isKept 55 = .ok (.ldc 96, 2) := dk_18 96 (dk_at dksX10_isKept_2 7 rfl rfl)
theorem dX10_isKept_57 : decode cX10_isKept 57 = .ok (.invokevirtual 72, 3) := dk_182 0 72 (dk_at dksX10_isKept_2 9 rfl rfl)
theorem dX10_isKept_60 : decode cX10_isKept 60 = .ok (.ifCond .ne 12, 3) := dk_154 0 12 (dk_at dksX10_isKept_2 12 rfl rfl)
theorem dX10_isKept_63 : decode cX10_isKept 63 = .ok (.aload_n 0, 1) := dk_42 (dk_at dksX10_isKept_2 15 rfl rfl)
theorem dX10_isKept_64 : decode cX10_isKept 64 = .ok (.ldc 98, 2) := dk_18 98 (dk_at dksX10_isKept_2 16 rfl rfl)
theorem dX10_isKept_66 : decode cX10_isKept 66 = .ok (.invokevirtual 72, 3) := dk_182 0 72 (dk_at dksX10_isKept_2 18 rfl rfl)
theorem dX10_isKept_69 : decode cX10_isKept 69 = .ok (.ifCond .eq 7, 3) := dk_153 0 7 (dk_at dksX10_isKept_2 21 rfl rfl)
theorem dX10_isKept_72 : decode cX10_isKept 72 = .ok (.iconst 1, 1) := dk_4 (dk_at dksX10_isKept_3 0 rfl rfl)
theorem dX10_isKept_73 : decode cX10_isKept 73 = .ok (.goto 4, 3) := dk_167 0 4 (dk_at dksX10_isKept_3 1 rfl rfl)
theorem dX10_isKept_76 : decode cX10_isKept 76 = .ok (.iconst 0, 1) := dk_3 (dk_at dksX10_isKept_3 4 rfl rfl)
theorem dX10_isKept_77 : decode cX10_isKept 77 = .ok (.istore_n 1, 1) := dk_60 (dk_at dksX10_isKept_3 5 rfl rfl)
theorem dX10_isKept_78 : decode cX10_isKept 78 = .ok (.aload_n 0, 1) := dk_42 (dk_at dksX10_isKept_3 6 rfl rfl)
theorem dX10_isKept_79 : decode cX10_isKept 79 = .ok (.ldc 100, 2) := dk_18 100 (dk_at dksX10_isKept_3 7 rfl rfl)
theorem dX10_isKept_81 : decode cX10_isKept 81 = .ok (.invokevirtual 72, 3) := dk_182 0 72 (dk_at dksX10_isKept_3 9 rfl rfl)
theorem dX10_isKept_84 : decode cX10_isKept 84 = .ok (.ifCond .ne 66, 3) := dk_154 0 66 (dk_at dksX10_isKept_3 12 rfl rfl)
theorem dX10_isKept_87 : decode cX10_isKept 87 = .ok (.aload_n 0, 1) := dk_42 (dk_at dksX10_isKept_3 15 rfl rfl)
theorem dX10_isKept_88 : decode cX10_isKept 88 = .ok (.ldc 102, 2) := dk_18 102 (dk_at dksX10_isKept_3 16 rfl rfl)
theorem dX10_isKept_90 : decode cX10_isKept 90 = .ok (.invokevirtual 72, 3) := dk_182 0 72 (dk_at dksX10_isKept_3 18 rfl rfl)
theorem dX10_isKept_93 : decode cX10_isKept 93 = .ok (.ifCond .ne 57, 3) := dk_154 0 57 (dk_at dksX10_isKept_3 21 rfl rfl)
theorem dX10_isKept_96 : decode cX10_isKept 96 = .ok (.aload_n 0, 1) := dk_42 (dk_at dksX10_isKept_4 0 rfl rfl)
theorem dX10_isKept_97 : decode cX10_isKept 97 = .ok (.ldc 104, 2) := dk_18 104 (dk_at dksX10_isKept_4 1 rfl rfl)
theorem dX10_isKept_99 : decode cX10_isKept 99 = .ok (.invokevirtual 72, 3) := dk_182 0 72 (dk_at dksX10_isKept_4 3 rfl rfl)
theorem dX10_isKept_102 : decode cX10_isKept 102 = .ok (.ifCond .ne 48, 3) := dk_154 0 48 (dk_at dksX10_isKept_4 6 rfl rfl)
theorem dX10_isKept_105 : decode cX10_isKept 105 = .ok (.aload_n 0, 1) := dk_42 (dk_at dksX10_isKept_4 9 rfl rfl)
theorem dX10_isKept_106 : decode cX10_isKept 106 = .ok (.ldc 106, 2) := dk_18 106 (dk_at dksX10_isKept_4 10 rfl rfl)
theorem dX10_isKept_108 : decode cX10_isKept 108 = .ok (.invokevirtual 72, 3) := dk_182 0 72 (dk_at dksX10_isKept_4 12 rfl rfl)
theorem dX10_isKept_111 : decode cX10_isKept 111 = .ok (.ifCond .ne 39, 3) := dk_154 0 39 (dk_at dksX10_isKept_4 15 rfl rfl)
theorem dX10_isKept_114 : decode cX10_isKept 114 = .ok (.aload_n 0, 1) := dk_42 (dk_at dksX10_isKept_4 18 rfl rfl)
theorem dX10_isKept_115 : decode cX10_isKept 115 = .ok (.ldc 108, 2) := dk_18 108 (dk_at dksX10_isKept_4 19 rfl rfl)
theorem dX10_isKept_117 : decode cX10_isKept 117 = .ok (.invokevirtual 72, 3) := dk_182 0 72 (dk_at dksX10_isKept_4 21 rfl rfl)
theorem dX10_isKept_120 : decode cX10_isKept 120 = .ok (.ifCond .ne 30, 3) := dk_154 0 30 (dk_at dksX10_isKept_5 0 rfl rfl)
theorem dX10_isKept_123 : decode cX10_isKept 123 = .ok (.aload_n 0, 1) := dk_42 (dk_at dksX10_isKept_5 3 rfl rfl)
theorem dX10_isKept_124 : decode cX10_isKept 124 = .ok (.ldc 110, 2) := dk_18 110 (dk_at dksX10_isKept_5 4 rfl rfl)
theorem dX10_isKept_126 : decode cX10_isKept 126 = .ok (.invokevirtual 72, 3) := dk_182 0 72 (dk_at dksX10_isKept_5 6 rfl rfl)
theorem dX10_isKept_129 : decode cX10_isKept 129 = .ok (.ifCond .ne 21, 3) := dk_154 0 21 (dk_at dksX10_isKept_5 9 rfl rfl)
theorem dX10_isKept_132 : decode cX10_isKept 132 = .ok (.aload_n 0, 1) := dk_42 (dk_at dksX10_isKept_5 12 rfl rfl)
theorem dX10_isKept_133 : decode cX10_isKept 133 = .ok (.ldc 112, 2) := dk_18 112 (dk_at dksX10_isKept_5 13 rfl rfl)
theorem dX10_isKept_135 : decode cX10_isKept 135 = .ok (.invokevirtual 72, 3) := dk_182 0 72 (dk_at dksX10_isKept_5 15 rfl rfl)
theorem dX10_isKept_138 : decode cX10_isKept 138 = .ok (.ifCond .ne 12, 3) := dk_154 0 12 (dk_at dksX10_isKept_5 18 rfl rfl)
theorem dX10_isKept_141 : decode cX10_isKept 141 = .ok (.aload_n 0, 1) := dk_42 (dk_at dksX10_isKept_5 21 rfl rfl)
theorem dX10_isKept_142 : decode cX10_isKept 142 = .ok (.ldc 114, 2) := dk_18 114 (dk_at dksX10_isKept_5 22 rfl rfl)
theorem dX10_isKept_144 : decode cX10_isKept 144 = .ok (.invokevirtual 72, 3) := dk_182 0 72 (dk_at dksX10_isKept_6 0 rfl rfl)
theorem dX10_isKept_147 : decode cX10_isKept 147 = .ok (.ifCond .eq 7, 3) := dk_153 0 7 (dk_at dksX10_isKept_6 3 rfl rfl)
theorem dX10_isKept_150 : decode cX10_isKept 150 = .ok (.iconst 1, 1) := dk_4 (dk_at dksX10_isKept_6 6 rfl rfl)
theorem dX10_isKept_151 : decode cX10_isKept 151 = .ok (.goto 4, 3) := dk_167 0 4 (dk_at dksX10_isKept_6 7 rfl rfl)
theorem dX10_isKept_154 : decode cX10_isKept 154 = .ok (.iconst 0, 1) := dk_3 (dk_at dksX10_isKept_6 10 rfl rfl)
theorem dX10_isKept_155 : decode cX10_isKept 155 = .ok (.istore_n 2, 1) := dk_61 (dk_at dksX10_isKept_6 11 rfl rfl)
theorem dX10_isKept_156 : decode cX10_isKept 156 = .ok (.iload_n 1, 1) := dk_27 (dk_at dksX10_isKept_6 12 rfl rfl)
theorem dX10_isKept_157 : decode cX10_isKept 157 = .ok (.ifCond .ne 77, 3) := dk_154 0 77 (dk_at dksX10_isKept_6 13 rfl rfl)
theorem dX10_isKept_160 : decode cX10_isKept 160 = .ok (.iload_n 2, 1) := dk_28 (dk_at dksX10_isKept_6 16 rfl rfl)
theorem dX10_isKept_161 : decode cX10_isKept 161 = .ok (.ifCond .ne 73, 3) := dk_154 0 73 (dk_at dksX10_isKept_6 17 rfl rfl)
theorem dX10_isKept_164 : decode cX10_isKept 164 = .ok (.aload_n 0, 1) := dk_42 (dk_at dksX10_isKept_6 20 rfl rfl)
theorem dX10_isKept_165 : decode cX10_isKept 165 = .ok (.invokevirtual 115, 3) := dk_182 0 115 (dk_at dksX10_isKept_6 21 rfl rfl)
theorem dX10_isKept_168 : decode cX10_isKept 168 = .ok (.ifCond .ge 66, 3) := dk_156 0 66 (dk_at dksX10_isKept_7 0 rfl rfl)
theorem dX10_isKept_171 : decode cX10_isKept 171 = .ok (.aload_n 0, 1) := dk_42 (dk_at dksX10_isKept_7 3 rfl rfl)
theorem dX10_isKept_172 : decode cX10_isKept 172 = .ok (.ldc 118, 2) := dk_18 118 (dk_at dksX10_isKept_7 4 rfl rfl)
theorem dX10_isKept_174 : decode cX10_isKept 174 = .ok (.invokevirtual 72, 3) := dk_182 0 72 (dk_at dksX10_isKept_7 6 rfl rfl)
theorem dX10_isKept_177 : decode cX10_isKept 177 = .ok (.ifCond .ne 57, 3) := dk_154 0 57 (dk_at dksX10_isKept_7 9 rfl rfl)
theorem dX10_isKept_180 : decode cX10_isKept 180 = .ok (.aload_n 0, 1) := dk_42 (dk_at dksX10_isKept_7 12 rfl rfl)
theorem dX10_isKept_181 : decode cX10_isKept 181 = .ok (.ldc 120, 2) := dk_18 120 (dk_at dksX10_isKept_7 13 rfl rfl)
theorem dX10_isKept_183 : decode cX10_isKept 183 = .ok (.invokevirtual 72, 3) := dk_182 0 72 (dk_at dksX10_isKept_7 15 rfl rfl)
theorem dX10_isKept_186 : decode cX10_isKept 186 = .ok (.ifCond .ne 48, 3) := dk_154 0 48 (dk_at dksX10_isKept_7 18 rfl rfl)
theorem dX10_isKept_189 : decode cX10_isKept 189 = .ok (.aload_n 0, 1) := dk_42 (dk_at dksX10_isKept_7 21 rfl rfl)
theorem dX10_isKept_190 : decode cX10_isKept 190 = .ok (.ldc 122, 2) := dk_18 122 (dk_at dksX10_isKept_7 22 rfl rfl)
theorem dX10_isKept_192 : decode cX10_isKept 192 = .ok (.invokevirtual 72, 3) := dk_182 0 72 (dk_at dksX10_isKept_8 0 rfl rfl)
theorem dX10_isKept_195 : decode cX10_isKept 195 = .ok (.ifCond .ne 39, 3) := dk_154 0 39 (dk_at dksX10_isKept_8 3 rfl rfl)
theorem dX10_isKept_198 : decode cX10_isKept 198 = .ok (.aload_n 0, 1) := dk_42 (dk_at dksX10_isKept_8 6 rfl rfl)
theorem dX10_isKept_199 : decode cX10_isKept 199 = .ok (.ldc 124, 2) := dk_18 124 (dk_at dksX10_isKept_8 7 rfl rfl)
theorem dX10_isKept_201 : decode cX10_isKept 201 = .ok (.invokevirtual 72, 3) := dk_182 0 72 (dk_at dksX10_isKept_8 9 rfl rfl)
theorem dX10_isKept_204 : decode cX10_isKept 204 = .ok (.ifCond .ne 30, 3) := dk_154 0 30 (dk_at dksX10_isKept_8 12 rfl rfl)
theorem dX10_isKept_207 : decode cX10_isKept 207 = .ok (.aload_n 0, 1) := dk_42 (dk_at dksX10_isKept_8 15 rfl rfl)
theorem dX10_isKept_208 : decode cX10_isKept 208 = .ok (.ldc 126, 2) := dk_18 126 (dk_at dksX10_isKept_8 16 rfl rfl)
theorem dX10_isKept_210 : decode cX10_isKept 210 = .ok (.invokevirtual 72, 3) := dk_182 0 72 (dk_at dksX10_isKept_8 18 rfl rfl)
theorem dX10_isKept_213 : decode cX10_isKept 213 = .ok (.ifCond .ne 21, 3) := dk_154 0 21 (dk_at dksX10_isKept_8 21 rfl rfl)
theorem dX10_isKept_216 : decode cX10_isKept 216 = .ok (.aload_n 0, 1) := dk_42 (dk_at dksX10_isKept_9 0 rfl rfl)
theorem dX10_isKept_217 : decode cX10_isKept 217 = .ok (.ldc 128, 2) := dk_18 128 (dk_at dksX10_isKept_9 1 rfl rfl)
theorem dX10_isKept_219 : decode cX10_isKept 219 = .ok (.invokevirtual 72, 3) := dk_182 0 72 (dk_at dksX10_isKept_9 3 rfl rfl)
theorem dX10_isKept_222 : decode cX10_isKept 222 = .ok (.ifCond .ne 12, 3) := dk_154 0 12 (dk_at dksX10_isKept_9 6 rfl rfl)
theorem dX10_isKept_225 : decode cX10_isKept 225 = .ok (.aload_n 0, 1) := dk_42 (dk_at dksX10_isKept_9 9 rfl rfl)
theorem dX10_isKept_226 : decode cX10_isKept 226 = .ok (.ldc 130, 2) := dk_18 130 (dk_at dksX10_isKept_9 10 rfl rfl)
theorem dX10_isKept_228 : decode cX10_isKept 228 = .ok (.invokevirtual 72, 3) := dk_182 0 72 (dk_at dksX10_isKept_9 12 rfl rfl)
theorem dX10_isKept_231 : decode cX10_isKept 231 = .ok (.ifCond .eq 7, 3) := dk_153 0 7 (dk_at dksX10_isKept_9 15 rfl rfl)
theorem dX10_isKept_234 : decode cX10_isKept 234 = .ok (.iconst 1, 1) := dk_4 (dk_at dksX10_isKept_9 18 rfl rfl)
theorem dX10_isKept_235 : decode cX10_isKept 235 = .ok (.goto 4, 3) := dk_167 0 4 (dk_at dksX10_isKept_9 19 rfl rfl)
theorem dX10_isKept_238 : decode cX10_isKept 238 = .ok (.iconst 0, 1) := dk_3 (dk_at dksX10_isKept_9 22 rfl rfl)
theorem dX10_isKept_239 : decode cX10_isKept 239 = .ok (.ireturn, 1) := dk_172 (dk_at dksX10_isKept_9 23 rfl rfl)
abbrev cX10_kindOf : ByteArray := prog_8_method_11_code
def yX10_kindOf : MethodName := ⟨RX10, "kindOf", "()I"⟩
def dkwX10_kindOf_2 : List UInt8 := [153, 0, 7, 6, 167, 0, 4, 2, 172]
abbrev dktX10_kindOf_2 : List UInt8 := dkwX10_kindOf_2 ++ []
def dkwX10_kindOf_1 : List UInt8 := [167, 0, 30, 42, 18, 80, 182, 0, 72, 153, 0, 7, 5, 167, 0, 17, 42, 18, 82, 182, 0, 72]
abbrev dktX10_kindOf_1 : List UInt8 := dkwX10_kindOf_1 ++ dktX10_kindOf_2
def dkwX10_kindOf_0 : List UInt8 := [42, 18, 76, 182, 0, 72, 153, 0, 7, 3, 167, 0, 43, 42, 18, 78, 182, 0, 72, 153, 0, 7, 4]
abbrev dktX10_kindOf_0 : List UInt8 := dkwX10_kindOf_0 ++ dktX10_kindOf_1
theorem dksX10_kindOf_0 : cX10_kindOf.data.toList.drop 0 = dktX10_kindOf_0 := by decide +kernel
theorem dksX10_kindOf_1 : cX10_kindOf.data.toList.drop 23 = dktX10_kindOf_1 := dk_seg dksX10_kindOf_0 23 rfl rfl
theorem dksX10_kindOf_2 : cX10_kindOf.data.toList.drop 45 = dktX10_kindOf_2 := dk_seg dksX10_kindOf_1 22 rfl rfl
theorem dX10_kindOf_0 : decode cX10_kindOf 0 = .ok (.aload_n 0, 1) := dk_42 (dk_at dksX10_kindOf_0 0 rfl rfl)
theorem dX10_kindOf_1 : decode cX10_kindOf 1 = .ok (.ldc 76, 2) := dk_18 76 (dk_at dksX10_kindOf_0 1 rfl rfl)
theorem dX10_kindOf_3 : decode cX10_kindOf 3 = .ok (.invokevirtual 72, 3) := dk_182 0 72 (dk_at dksX10_kindOf_0 3 rfl rfl)
theorem dX10_kindOf_6 : decode cX10_kindOf 6 = .ok (.ifCond .eq 7, 3) := dk_153 0 7 (dk_at dksX10_kindOf_0 6 rfl rfl)
theorem dX10_kindOf_9 : decode cX10_kindOf 9 = .ok (.iconst 0, 1) := dk_3 (dk_at dksX10_kindOf_0 9 rfl rfl)
theorem dX10_kindOf_10 : decode cX10_kindOf 10 = .ok (.goto 43, 3) := dk_167 0 43 (dk_at dksX10_kindOf_0 10 rfl rfl)
theorem dX10_kindOf_13 : decode cX10_kindOf 13 = .ok (.aload_n 0, 1) := dk_42 (dk_at dksX10_kindOf_0 13 rfl rfl)
theorem dX10_kindOf_14 : decode cX10_kindOf 14 = .ok (.ldc 78, 2) := dk_18 78 (dk_at dksX10_kindOf_0 14 rfl rfl)
theorem dX10_kindOf_16 : decode cX10_kindOf 16 = .ok (.invokevirtual 72, 3) := dk_182 0 72 (dk_at dksX10_kindOf_0 16 rfl rfl)
theorem dX10_kindOf_19 : decode cX10_kindOf 19 = .ok (.ifCond .eq 7, 3) := dk_153 0 7 (dk_at dksX10_kindOf_0 19 rfl rfl)
theorem dX10_kindOf_22 : decode cX10_kindOf 22 = .ok (.iconst 1, 1) := dk_4 (dk_at dksX10_kindOf_0 22 rfl rfl)
theorem dX10_kindOf_23 : decode cX10_kindOf 23 = .ok (.goto 30, 3) := dk_167 0 30 (dk_at dksX10_kindOf_1 0 rfl rfl)
theorem dX10_kindOf_26 : decode cX10_kindOf 26 = .ok (.aload_n 0, 1) := dk_42 (dk_at dksX10_kindOf_1 3 rfl rfl)
theorem dX10_kindOf_27 : decode cX10_kindOf 27 = .ok (.ldc 80, 2) := dk_18 80 (dk_at dksX10_kindOf_1 4 rfl rfl)
theorem dX10_kindOf_29 : decode cX10_kindOf 29 = .ok (.invokevirtual 72, 3) := dk_182 0 72 (dk_at dksX10_kindOf_1 6 rfl rfl)
theorem dX10_kindOf_32 : decode cX10_kindOf 32 = .ok (.ifCond .eq 7, 3) := dk_153 0 7 (dk_at dksX10_kindOf_1 9 rfl rfl)
theorem dX10_kindOf_35 : decode cX10_kindOf 35 = .ok (.iconst 2, 1) := dk_5 (dk_at dksX10_kindOf_1 12 rfl rfl)
theorem dX10_kindOf_36 : decode cX10_kindOf 36 = .ok (.goto 17, 3) := dk_167 0 17 (dk_at dksX10_kindOf_1 13 rfl rfl)
theorem dX10_kindOf_39 : decode cX10_kindOf 39 = .ok (.aload_n 0, 1) := dk_42 (dk_at dksX10_kindOf_1 16 rfl rfl)
theorem dX10_kindOf_40 : decode cX10_kindOf 40 = .ok (.ldc 82, 2) := dk_18 82 (dk_at dksX10_kindOf_1 17 rfl rfl)
theorem dX10_kindOf_42 : decode cX10_kindOf 42 = .ok (.invokevirtual 72, 3) := dk_182 0 72 (dk_at dksX10_kindOf_1 19 rfl rfl)
theorem dX10_kindOf_45 : decode cX10_kindOf 45 = .ok (.ifCond .eq 7, 3) := dk_153 0 7 (dk_at dksX10_kindOf_2 0 rfl rfl)
theorem dX10_kindOf_48 : decode cX10_kindOf 48 = .ok (.iconst 3, 1) := dk_6 (dk_at dksX10_kindOf_2 3 rfl rfl)
theorem dX10_kindOf_49 : decode cX10_kindOf 49 = .ok (.goto 4, 3) := dk_167 0 4 (dk_at dksX10_kindOf_2 4 rfl rfl)
theorem dX10_kindOf_52 : decode cX10_kindOf 52 = .ok (.iconst (-1), 1) := dk_2 (dk_at dksX10_kindOf_2 7 rfl rfl)
theorem dX10_kindOf_53 : decode cX10_kindOf 53 = .ok (.ireturn, 1) := dk_172 (dk_at dksX10_kindOf_2 8 rfl rfl)
abbrev cX10_wrong : ByteArray := prog_8_method_7_code
def yX10_wrong : MethodName := ⟨RX10, "wrong", "()LAskingCourt$Bad;"⟩
def dkwX10_wrong_1 : List UInt8 := [182, 0, 59, 176]
abbrev dktX10_wrong_1 : List UInt8 := dkwX10_wrong_1 ++ []
def dkwX10_wrong_0 : List UInt8 := [42, 180, 0, 3, 180, 0, 55, 42, 180, 0, 32, 7, 160, 0, 7, 4, 167, 0, 4, 5, 42, 180, 0, 29]
abbrev dktX10_wrong_0 : List UInt8 := dkwX10_wrong_0 ++ dktX10_wrong_1
theorem dksX10_wrong_0 : cX10_wrong.data.toList.drop 0 = dktX10_wrong_0 := by decide +kernel
theorem dksX10_wrong_1 : cX10_wrong.data.toList.drop 24 = dktX10_wrong_1 := dk_seg dksX10_wrong_0 24 rfl rfl
theorem dX10_wrong_0 : decode cX10_wrong 0 = .ok (.aload_n 0, 1) := dk_42 (dk_at dksX10_wrong_0 0 rfl rfl)
theorem dX10_wrong_1 : decode cX10_wrong 1 = .ok (.getfield 3, 3) := dk_180 0 3 (dk_at dksX10_wrong_0 1 rfl rfl)
theorem dX10_wrong_4 : decode cX10_wrong 4 = .ok (.getfield 55, 3) := dk_180 0 55 (dk_at dksX10_wrong_0 4 rfl rfl)
theorem dX10_wrong_7 : decode cX10_wrong 7 = .ok (.aload_n 0, 1) := dk_42 (dk_at dksX10_wrong_0 7 rfl rfl)
theorem dX10_wrong_8 : decode cX10_wrong 8 = .ok (.getfield 32, 3) := dk_180 0 32 (dk_at dksX10_wrong_0 8 rfl rfl)
theorem dX10_wrong_11 : decode cX10_wrong 11 = .ok (.iconst 4, 1) := dk_7 (dk_at dksX10_wrong_0 11 rfl rfl)
theorem dX10_wrong_12 : decode cX10_wrong 12 = .ok (.if_icmp .ne 7, 3) := dk_160 0 7 (dk_at dksX10_wrong_0 12 rfl rfl)
theorem dX10_wrong_15 : decode cX10_wrong 15 = .ok (.iconst 1, 1) := dk_4 (dk_at dksX10_wrong_0 15 rfl rfl)
theorem dX10_wrong_16 : decode cX10_wrong 16 = .ok (.goto 4, 3) := dk_167 0 4 (dk_at dksX10_wrong_0 16 rfl rfl)
theorem dX10_wrong_19 : decode cX10_wrong 19 = .ok (.iconst 2, 1) := dk_5 (dk_at dksX10_wrong_0 19 rfl rfl)
theorem dX10_wrong_20 : decode cX10_wrong 20 = .ok (.aload_n 0, 1) := dk_42 (dk_at dksX10_wrong_0 20 rfl rfl)
theorem dX10_wrong_21 : decode cX10_wrong 21 = .ok (.getfield 29, 3) := dk_180 0 29 (dk_at dksX10_wrong_0 21 rfl rfl)
theorem dX10_wrong_24 : decode cX10_wrong 24 = .ok (.invokevirtual 59, 3) := dk_182 0 59 (dk_at dksX10_wrong_1 0 rfl rfl)
theorem dX10_wrong_27 : decode cX10_wrong 27 = .ok (.areturn, 1) := dk_176 (dk_at dksX10_wrong_1 3 rfl rfl)
abbrev cX10_word : ByteArray := prog_8_method_9_code
def yX10_word : MethodName := ⟨RX10, "word", "(Ljava/lang/String;)V"⟩
def dkwX10_word_0 : List UInt8 := [42, 43, 182, 0, 72, 154, 0, 8, 42, 182, 0, 68, 191, 42, 182, 0, 19, 177]
abbrev dktX10_word_0 : List UInt8 := dkwX10_word_0 ++ []
theorem dksX10_word_0 : cX10_word.data.toList.drop 0 = dktX10_word_0 := by decide +kernel
theorem dX10_word_0 : decode cX10_word 0 = .ok (.aload_n 0, 1) := dk_42 (dk_at dksX10_word_0 0 rfl rfl)
theorem dX10_word_1 : decode cX10_word 1 = .ok (.aload_n 1, 1) := dk_43 (dk_at dksX10_word_0 1 rfl rfl)
theorem dX10_word_2 : decode cX10_word 2 = .ok (.invokevirtual 72, 3) := dk_182 0 72 (dk_at dksX10_word_0 2 rfl rfl)
theorem dX10_word_5 : decode cX10_word 5 = .ok (.ifCond .ne 8, 3) := dk_154 0 8 (dk_at dksX10_word_0 5 rfl rfl)
theorem dX10_word_8 : decode cX10_word 8 = .ok (.aload_n 0, 1) := dk_42 (dk_at dksX10_word_0 8 rfl rfl)
theorem dX10_word_9 : decode cX10_word 9 = .ok (.invokevirtual 68, 3) := dk_182 0 68 (dk_at dksX10_word_0 9 rfl rfl)
theorem dX10_word_12 : decode cX10_word 12 = .ok (.athrow, 1) := dk_191 (dk_at dksX10_word_0 12 rfl rfl)
theorem dX10_word_13 : decode cX10_word 13 = .ok (.aload_n 0, 1) := dk_42 (dk_at dksX10_word_0 13 rfl rfl)
theorem dX10_word_14 : decode cX10_word 14 = .ok (.invokevirtual 19, 3) := dk_182 0 19 (dk_at dksX10_word_0 14 rfl rfl)
theorem dX10_word_17 : decode cX10_word 17 = .ok (.return_, 1) := dk_177 (dk_at dksX10_word_0 17 rfl rfl)
abbrev cX10_number : ByteArray := prog_8_method_10_code
def yX10_number : MethodName := ⟨RX10, "number", "(II)I"⟩
def dkwX10_number_2 : List UInt8 := [180, 0, 42, 62, 42, 182, 0, 19, 29, 172]
abbrev dktX10_number_2 : List UInt8 := dkwX10_number_2 ++ []
def dkwX10_number_1 : List UInt8 := [180, 0, 42, 28, 164, 0, 19, 42, 180, 0, 3, 180, 0, 55, 7, 42, 180, 0, 29, 182, 0, 59, 191, 42]
abbrev dktX10_number_1 : List UInt8 := dkwX10_number_1 ++ dktX10_number_2
def dkwX10_number_0 : List UInt8 := [42, 180, 0, 32, 5, 159, 0, 8, 42, 182, 0, 68, 191, 42, 180, 0, 42, 27, 161, 0, 11, 42]
abbrev dktX10_number_0 : List UInt8 := dkwX10_number_0 ++ dktX10_number_1
theorem dksX10_number_0 : cX10_number.data.toList.drop 0 = dktX10_number_0 := by decide +kernel
theorem dksX10_number_1 : cX10_number.data.toList.drop 22 = dktX10_number_1 := dk_seg dksX10_number_0 22 rfl rfl
theorem dksX10_number_2 : cX10_number.data.toList.drop 46 = dktX10_number_2 := dk_seg dksX10_number_1 24 rfl rfl
theorem dX10_number_0 : decode cX10_number 0 = .ok (.aload_n 0, 1) := dk_42 (dk_at dksX10_number_0 0 rfl rfl)
theorem dX10_number_1 : decode cX10_number 1 = .ok (.getfield 32, 3) := dk_180 0 32 (dk_at dksX10_number_0 1 rfl rfl)
theorem dX10_number_4 : decode cX10_number 4 = .ok (.iconst 2, 1) := dk_5 (dk_at dksX10_number_0 4 rfl rfl)
theorem dX10_number_5 : decode cX10_number 5 = .ok (.if_icmp .eq 8, 3) := dk_159 0 8 (dk_at dksX10_number_0 5 rfl rfl)
theorem dX10_number_8 : decode cX10_number 8 = .ok (.aload_n 0, 1) := dk_42 (dk_at dksX10_number_0 8 rfl rfl)
theorem dX10_number_9 : decode cX10_number 9 = .ok (.invokevirtual 68, 3) := dk_182 0 68 (dk_at dksX10_number_0 9 rfl rfl)
theorem dX10_number_12 : decode cX10_number 12 = .ok (.athrow, 1) := dk_191 (dk_at dksX10_number_0 12 rfl rfl)
theorem dX10_number_13 : decode cX10_number 13 = .ok (.aload_n 0, 1) := dk_42 (dk_at dksX10_number_0 13 rfl rfl)
theorem dX10_number_14 : decode cX10_number 14 = .ok (.getfield 42, 3) := dk_180 0 42 (dk_at dksX10_number_0 14 rfl rfl)
theorem dX10_number_17 : decode cX10_number 17 = .ok (.iload_n 1, 1) := dk_27 (dk_at dksX10_number_0 17 rfl rfl)
theorem dX10_number_18 : decode cX10_number 18 = .ok (.if_icmp .lt 11, 3) := dk_161 0 11 (dk_at dksX10_number_0 18 rfl rfl)
theorem dX10_number_21 : decode cX10_number 21 = .ok (.aload_n 0, 1) := dk_42 (dk_at dksX10_number_0 21 rfl rfl)
theorem dX10_number_22 : decode cX10_number 22 = .ok (.getfield 42, 3) := dk_180 0 42 (dk_at dksX10_number_1 0 rfl rfl)
theorem dX10_number_25 : decode cX10_number 25 = .ok (.iload_n 2, 1) := dk_28 (dk_at dksX10_number_1 3 rfl rfl)
theorem dX10_number_26 : decode cX10_number 26 = .ok (.if_icmp .le 19, 3) := dk_164 0 19 (dk_at dksX10_number_1 4 rfl rfl)
theorem dX10_number_29 : decode cX10_number 29 = .ok (.aload_n 0, 1) := dk_42 (dk_at dksX10_number_1 7 rfl rfl)
theorem dX10_number_30 : decode cX10_number 30 = .ok (.getfield 3, 3) := dk_180 0 3 (dk_at dksX10_number_1 8 rfl rfl)
theorem dX10_number_33 : decode cX10_number 33 = .ok (.getfield 55, 3) := dk_180 0 55 (dk_at dksX10_number_1 11 rfl rfl)
theorem dX10_number_36 : decode cX10_number 36 = .ok (.iconst 4, 1) := dk_7 (dk_at dksX10_number_1 14 rfl rfl)
theorem dX10_number_37 : decode cX10_number 37 = .ok (.aload_n 0, 1) := dk_42 (dk_at dksX10_number_1 15 rfl rfl)
theorem dX10_number_38 : decode cX10_number 38 = .ok (.getfield 29, 3) := dk_180 0 29 (dk_at dksX10_number_1 16 rfl rfl)
theorem dX10_number_41 : decode cX10_number 41 = .ok (.invokevirtual 59, 3) := dk_182 0 59 (dk_at dksX10_number_1 19 rfl rfl)
theorem dX10_number_44 : decode cX10_number 44 = .ok (.athrow, 1) := dk_191 (dk_at dksX10_number_1 22 rfl rfl)
theorem dX10_number_45 : decode cX10_number 45 = .ok (.aload_n 0, 1) := dk_42 (dk_at dksX10_number_1 23 rfl rfl)
theorem dX10_number_46 : decode cX10_number 46 = .ok (.getfield 42, 3) := dk_180 0 42 (dk_at dksX10_number_2 0 rfl rfl)
theorem dX10_number_49 : decode cX10_number 49 = .ok (.istore_n 3, 1) := dk_62 (dk_at dksX10_number_2 3 rfl rfl)
theorem dX10_number_50 : decode cX10_number 50 = .ok (.aload_n 0, 1) := dk_42 (dk_at dksX10_number_2 4 rfl rfl)
theorem dX10_number_51 : decode cX10_number 51 = .ok (.invokevirtual 19, 3) := dk_182 0 19 (dk_at dksX10_number_2 5 rfl rfl)
theorem dX10_number_54 : decode cX10_number 54 = .ok (.iload_n 3, 1) := dk_29 (dk_at dksX10_number_2 8 rfl rfl)
theorem dX10_number_55 : decode cX10_number 55 = .ok (.ireturn, 1) := dk_172 (dk_at dksX10_number_2 9 rfl rfl)
abbrev cX10_isSign : ByteArray := prog_8_method_6_code
def yX10_isSign : MethodName := ⟨RX10, "isSign", "(C)Z"⟩
def dkwX10_isSign_1 : List UInt8 := [4, 167, 0, 4, 3, 172]
abbrev dktX10_isSign_1 : List UInt8 := dkwX10_isSign_1 ++ []
def dkwX10_isSign_0 : List UInt8 := [42, 180, 0, 32, 6, 160, 0, 23, 42, 180, 0, 3, 180, 0, 22, 42, 180, 0, 29, 51, 27, 160, 0, 7]
abbrev dktX10_isSign_0 : List UInt8 := dkwX10_isSign_0 ++ dktX10_isSign_1
theorem dksX10_isSign_0 : cX10_isSign.data.toList.drop 0 = dktX10_isSign_0 := by decide +kernel
theorem dksX10_isSign_1 : cX10_isSign.data.toList.drop 24 = dktX10_isSign_1 := dk_seg dksX10_isSign_0 24 rfl rfl
theorem dX10_isSign_0 : decode cX10_isSign 0 = .ok (.aload_n 0, 1) := dk_42 (dk_at dksX10_isSign_0 0 rfl rfl)
theorem dX10_isSign_1 : decode cX10_isSign 1 = .ok (.getfield 32, 3) := dk_180 0 32 (dk_at dksX10_isSign_0 1 rfl rfl)
theorem dX10_isSign_4 : decode cX10_isSign 4 = .ok (.iconst 3, 1) := dk_6 (dk_at dksX10_isSign_0 4 rfl rfl)
theorem dX10_isSign_5 : decode cX10_isSign 5 = .ok (.if_icmp .ne 23, 3) := dk_160 0 23 (dk_at dksX10_isSign_0 5 rfl rfl)
theorem dX10_isSign_8 : decode cX10_isSign 8 = .ok (.aload_n 0, 1) := dk_42 (dk_at dksX10_isSign_0 8 rfl rfl)
theorem dX10_isSign_9 : decode cX10_isSign 9 = .ok (.getfield 3, 3) := dk_180 0 3 (dk_at dksX10_isSign_0 9 rfl rfl)
theorem dX10_isSign_12 : decode cX10_isSign 12 = .ok (.getfield 22, 3) := dk_180 0 22 (dk_at dksX10_isSign_0 12 rfl rfl)
theorem dX10_isSign_15 : decode cX10_isSign 15 = .ok (.aload_n 0, 1) := dk_42 (dk_at dksX10_isSign_0 15 rfl rfl)
theorem dX10_isSign_16 : decode cX10_isSign 16 = .ok (.getfield 29, 3) := dk_180 0 29 (dk_at dksX10_isSign_0 16 rfl rfl)
theorem dX10_isSign_19 : decode cX10_isSign 19 = .ok (.baload, 1) := dk_51 (dk_at dksX10_isSign_0 19 rfl rfl)
theorem dX10_isSign_20 : decode cX10_isSign 20 = .ok (.iload_n 1, 1) := dk_27 (dk_at dksX10_isSign_0 20 rfl rfl)
theorem dX10_isSign_21 : decode cX10_isSign 21 = .ok (.if_icmp .ne 7, 3) := dk_160 0 7 (dk_at dksX10_isSign_0 21 rfl rfl)
theorem dX10_isSign_24 : decode cX10_isSign 24 = .ok (.iconst 1, 1) := dk_4 (dk_at dksX10_isSign_1 0 rfl rfl)
theorem dX10_isSign_25 : decode cX10_isSign 25 = .ok (.goto 4, 3) := dk_167 0 4 (dk_at dksX10_isSign_1 1 rfl rfl)
theorem dX10_isSign_28 : decode cX10_isSign 28 = .ok (.iconst 0, 1) := dk_3 (dk_at dksX10_isSign_1 4 rfl rfl)
theorem dX10_isSign_29 : decode cX10_isSign 29 = .ok (.ireturn, 1) := dk_172 (dk_at dksX10_isSign_1 5 rfl rfl)
abbrev cX10_grow : ByteArray := prog_8_method_19_code
def yX10_grow : MethodName := ⟨RX10, "grow", "(LAskingCourt$Case;)V"⟩
def dkwX10_grow_2 : List UInt8 := [108, 182, 0, 228, 154, 0, 10, 42, 43, 21, 4, 182, 0, 230, 132, 4, 255, 167, 255, 230, 177]
abbrev dktX10_grow_2 : List UInt8 := dkwX10_grow_2 ++ []
def dkwX10_grow_1 : List UInt8 := [100, 46, 62, 43, 182, 0, 226, 43, 180, 0, 209, 4, 100, 54, 4, 21, 4, 155, 0, 27, 44, 21, 4, 29]
abbrev dktX10_grow_1 : List UInt8 := dkwX10_grow_1 ++ dktX10_grow_2
def dkwX10_grow_0 : List UInt8 := [187, 0, 215, 89, 183, 0, 217, 43, 180, 0, 218, 182, 0, 222, 77, 43, 180, 0, 194, 43, 180, 0, 169, 4]
abbrev dktX10_grow_0 : List UInt8 := dkwX10_grow_0 ++ dktX10_grow_1
theorem dksX10_grow_0 : cX10_grow.data.toList.drop 0 = dktX10_grow_0 := by decide +kernel
theorem dksX10_grow_1 : cX10_grow.data.toList.drop 24 = dktX10_grow_1 := dk_seg dksX10_grow_0 24 rfl rfl
theorem dksX10_grow_2 : cX10_grow.data.toList.drop 48 = dktX10_grow_2 := dk_seg dksX10_grow_1 24 rfl rfl
theorem dX10_grow_0 : decode cX10_grow 0 = .ok (.new 215, 3) := dk_187 0 215 (dk_at dksX10_grow_0 0 rfl rfl)
theorem dX10_grow_3 : decode cX10_grow 3 = .ok (.dup, 1) := dk_89 (dk_at dksX10_grow_0 3 rfl rfl)
theorem dX10_grow_4 : decode cX10_grow 4 = .ok (.invokespecial 217, 3) := dk_183 0 217 (dk_at dksX10_grow_0 4 rfl rfl)
theorem dX10_grow_7 : decode cX10_grow 7 = .ok (.aload_n 1, 1) := dk_43 (dk_at dksX10_grow_0 7 rfl rfl)
theorem dX10_grow_8 : decode cX10_grow 8 = .ok (.getfield 218, 3) := dk_180 0 218 (dk_at dksX10_grow_0 8 rfl rfl)
theorem dX10_grow_11 : decode cX10_grow 11 = .ok (.invokevirtual 222, 3) := dk_182 0 222 (dk_at dksX10_grow_0 11 rfl rfl)
theorem dX10_grow_14 : decode cX10_grow 14 = .ok (.astore_n 2, 1) := dk_77 (dk_at dksX10_grow_0 14 rfl rfl)
theorem dX10_grow_15 : decode cX10_grow 15 = .ok (.aload_n 1, 1) := dk_43 (dk_at dksX10_grow_0 15 rfl rfl)
theorem dX10_grow_16 : decode cX10_grow 16 = .ok (.getfield 194, 3) := dk_180 0 194 (dk_at dksX10_grow_0 16 rfl rfl)
theorem dX10_grow_19 : decode cX10_grow 19 = .ok (.aload_n 1, 1) := dk_43 (dk_at dksX10_grow_0 19 rfl rfl)
theorem dX10_grow_20 : decode cX10_grow 20 = .ok (.getfield 169, 3) := dk_180 0 169 (dk_at dksX10_grow_0 20 rfl rfl)
theorem dX10_grow_23 : decode cX10_grow 23 = .ok (.iconst 1, 1) := dk_4 (dk_at dksX10_grow_0 23 rfl rfl)
theorem dX10_grow_24 : decode cX10_grow 24 = .ok (.isub, 1) := dk_100 (dk_at dksX10_grow_1 0 rfl rfl)
theorem dX10_grow_25 : decode cX10_grow 25 = .ok (.iaload, 1) := dk_46 (dk_at dksX10_grow_1 1 rfl rfl)
theorem dX10_grow_26 : decode cX10_grow 26 = .ok (.istore_n 3, 1) := dk_62 (dk_at dksX10_grow_1 2 rfl rfl)
theorem dX10_grow_27 : decode cX10_grow 27 = .ok (.aload_n 1, 1) := dk_43 (dk_at dksX10_grow_1 3 rfl rfl)
theorem dX10_grow_28 : decode cX10_grow 28 = .ok (.invokevirtual 226, 3) := dk_182 0 226 (dk_at dksX10_grow_1 4 rfl rfl)
theorem dX10_grow_31 : decode cX10_grow 31 = .ok (.aload_n 1, 1) := dk_43 (dk_at dksX10_grow_1 7 rfl rfl)
theorem dX10_grow_32 : decode cX10_grow 32 = .ok (.getfield 209, 3) := dk_180 0 209 (dk_at dksX10_grow_1 8 rfl rfl)
theorem dX10_grow_35 : decode cX10_grow 35 = .ok (.iconst 1, 1) := dk_4 (dk_at dksX10_grow_1 11 rfl rfl)
theorem dX10_grow_36 : decode cX10_grow 36 = .ok (.isub, 1) := dk_100 (dk_at dksX10_grow_1 12 rfl rfl)
theorem dX10_grow_37 : decode cX10_grow 37 = .ok (.istore 4, 2) := dk_54 4 (dk_at dksX10_grow_1 13 rfl rfl)
theorem dX10_grow_39 : decode cX10_grow 39 = .ok (.iload 4, 2) := dk_21 4 (dk_at dksX10_grow_1 15 rfl rfl)
theorem dX10_grow_41 : decode cX10_grow 41 = .ok (.ifCond .lt 27, 3) := dk_155 0 27 (dk_at dksX10_grow_1 17 rfl rfl)
theorem dX10_grow_44 : decode cX10_grow 44 = .ok (.aload_n 2, 1) := dk_44 (dk_at dksX10_grow_1 20 rfl rfl)
theorem dX10_grow_45 : decode cX10_grow 45 = .ok (.iload 4, 2) := dk_21 4 (dk_at dksX10_grow_1 21 rfl rfl)
theorem dX10_grow_47 : decode cX10_grow 47 = .ok (.iload_n 3, 1) := dk_29 (dk_at dksX10_grow_1 23 rfl rfl)
theorem dX10_grow_48 : decode cX10_grow 48 = .ok (.idiv, 1) := dk_108 (dk_at dksX10_grow_2 0 rfl rfl)
theorem dX10_grow_49 : decode cX10_grow 49 = .ok (.invokevirtual 228, 3) := dk_182 0 228 (dk_at dksX10_grow_2 1 rfl rfl)
theorem dX10_grow_52 : decode cX10_grow 52 = .ok (.ifCond .ne 10, 3) := dk_154 0 10 (dk_at dksX10_grow_2 4 rfl rfl)
theorem dX10_grow_55 : decode cX10_grow 55 = .ok (.aload_n 0, 1) := dk_42 (dk_at dksX10_grow_2 7 rfl rfl)
theorem dX10_grow_56 : decode cX10_grow 56 = .ok (.aload_n 1, 1) := dk_43 (dk_at dksX10_grow_2 8 rfl rfl)
theorem dX10_grow_57 : decode cX10_grow 57 = .ok (.iload 4, 2) := dk_21 4 (dk_at dksX10_grow_2 9 rfl rfl)
theorem dX10_grow_59 : decode cX10_grow 59 = .ok (.invokevirtual 230, 3) := dk_182 0 230 (dk_at dksX10_grow_2 11 rfl rfl)
theorem dX10_grow_62 : decode cX10_grow 62 = .ok (.iinc 4 (-1), 3) := dk_132 4 255 (dk_at dksX10_grow_2 14 rfl rfl)
theorem dX10_grow_65 : decode cX10_grow 65 = .ok (.goto (-26), 3) := dk_167 255 230 (dk_at dksX10_grow_2 17 rfl rfl)
theorem dX10_grow_68 : decode cX10_grow 68 = .ok (.return_, 1) := dk_177 (dk_at dksX10_grow_2 20 rfl rfl)
abbrev cX10_bar : ByteArray := prog_8_method_20_code
def yX10_bar : MethodName := ⟨RX10, "bar", "(LAskingCourt$Case;I)V"⟩
def dkwX10_bar_0 : List UInt8 := [187, 0, 215, 89, 183, 0, 217, 78, 45, 28, 182, 0, 234, 43, 180, 0, 218, 45, 182, 0, 238, 177]
abbrev dktX10_bar_0 : List UInt8 := dkwX10_bar_0 ++ []
theorem dksX10_bar_0 : cX10_bar.data.toList.drop 0 = dktX10_bar_0 := by decide +kernel
theorem dX10_bar_0 : decode cX10_bar 0 = .ok (.new 215, 3) := dk_187 0 215 (dk_at dksX10_bar_0 0 rfl rfl)
theorem dX10_bar_3 : decode cX10_bar 3 = .ok (.dup, 1) := dk_89 (dk_at dksX10_bar_0 3 rfl rfl)
theorem dX10_bar_4 : decode cX10_bar 4 = .ok (.invokespecial 217, 3) := dk_183 0 217 (dk_at dksX10_bar_0 4 rfl rfl)
theorem dX10_bar_7 : decode cX10_bar 7 = .ok (.astore_n 3, 1) := dk_78 (dk_at dksX10_bar_0 7 rfl rfl)
theorem dX10_bar_8 : decode cX10_bar 8 = .ok (.aload_n 3, 1) := dk_45 (dk_at dksX10_bar_0 8 rfl rfl)
theorem dX10_bar_9 : decode cX10_bar 9 = .ok (.iload_n 2, 1) := dk_28 (dk_at dksX10_bar_0 9 rfl rfl)
theorem dX10_bar_10 : decode cX10_bar 10 = .ok (.invokevirtual 234, 3) := dk_182 0 234 (dk_at dksX10_bar_0 10 rfl rfl)
theorem dX10_bar_13 : decode cX10_bar 13 = .ok (.aload_n 1, 1) := dk_43 (dk_at dksX10_bar_0 13 rfl rfl)
theorem dX10_bar_14 : decode cX10_bar 14 = .ok (.getfield 218, 3) := dk_180 0 218 (dk_at dksX10_bar_0 14 rfl rfl)
theorem dX10_bar_17 : decode cX10_bar 17 = .ok (.aload_n 3, 1) := dk_45 (dk_at dksX10_bar_0 17 rfl rfl)
theorem dX10_bar_18 : decode cX10_bar 18 = .ok (.invokevirtual 238, 3) := dk_182 0 238 (dk_at dksX10_bar_0 18 rfl rfl)
theorem dX10_bar_21 : decode cX10_bar 21 = .ok (.return_, 1) := dk_177 (dk_at dksX10_bar_0 21 rfl rfl)
abbrev cX10_never : ByteArray := prog_8_method_22_code
def yX10_never : MethodName := ⟨RX10, "never", "(LAskingCourt$Case;)V"⟩
def dkwX10_never_5 : List UInt8 := [132, 4, 1, 167, 255, 217, 177]
abbrev dktX10_never_5 : List UInt8 := dkwX10_never_5 ++ []
def dkwX10_never_4 : List UInt8 := [182, 0, 254, 153, 0, 20, 43, 21, 4, 29, 182, 0, 254, 153, 0, 10, 42, 43, 21, 4, 182, 0, 230]
abbrev dktX10_never_4 : List UInt8 := dkwX10_never_4 ++ dktX10_never_5
def dkwX10_never_3 : List UInt8 := [182, 0, 59, 191, 42, 182, 0, 19, 3, 54, 4, 21, 4, 43, 180, 0, 209, 162, 0, 36, 43, 21, 4, 28]
abbrev dktX10_never_3 : List UInt8 := dkwX10_never_3 ++ dktX10_never_4
def dkwX10_never_2 : List UInt8 := [28, 46, 43, 180, 0, 200, 29, 46, 160, 0, 19, 42, 180, 0, 3, 180, 0, 55, 8, 42, 180, 0, 29]
abbrev dktX10_never_2 : List UInt8 := dkwX10_never_2 ++ dktX10_never_3
def dkwX10_never_1 : List UInt8 := [42, 182, 0, 19, 42, 43, 182, 0, 250, 61, 42, 182, 0, 19, 42, 43, 182, 0, 250, 62, 43, 180, 0, 200]
abbrev dktX10_never_1 : List UInt8 := dkwX10_never_1 ++ dktX10_never_2
def dkwX10_never_0 : List UInt8 := [43, 180, 0, 172, 158, 0, 20, 42, 180, 0, 3, 180, 0, 55, 16, 7, 42, 180, 0, 29, 182, 0, 59, 191]
abbrev dktX10_never_0 : List UInt8 := dkwX10_never_0 ++ dktX10_never_1
theorem dksX10_never_0 : cX10_never.data.toList.drop 0 = dktX10_never_0 := by decide +kernel
theorem dksX10_never_1 : cX10_never.data.toList.drop 24 = dktX10_never_1 := dk_seg dksX10_never_0 24 rfl rfl
theorem dksX10_never_2 : cX10_never.data.toList.drop 48 = dktX10_never_2 := dk_seg dksX10_never_1 24 rfl rfl
theorem dksX10_never_3 : cX10_never.data.toList.drop 71 = dktX10_never_3 := dk_seg dksX10_never_2 23 rfl rfl
theorem dksX10_never_4 : cX10_never.data.toList.drop 95 = dktX10_never_4 := dk_seg dksX10_never_3 24 rfl rfl
theorem dksX10_never_5 : cX10_never.data.toList.drop 118 = dktX10_never_5 := dk_seg dksX10_never_4 23 rfl rfl
theorem dX10_never_0 : decode cX10_never 0 = .ok (.aload_n 1, 1) := dk_43 (dk_at dksX10_never_0 0 rfl rfl)
theorem dX10_never_1 : decode cX10_never 1 = .ok (.getfield 172, 3) := dk_180 0 172 (dk_at dksX10_never_0 1 rfl rfl)
theorem dX10_never_4 : decode cX10_never 4 = .ok (.ifCond .le 20, 3) := dk_158 0 20 (dk_at dksX10_never_0 4 rfl rfl)
theorem dX10_never_7 : decode cX10_never 7 = .ok (.aload_n 0, 1) := dk_42 (dk_at dksX10_never_0 7 rfl rfl)
theorem dX10_never_8 : decode cX10_never 8 = .ok (.getfield 3, 3) := dk_180 0 3 (dk_at dksX10_never_0 8 rfl rfl)
theorem dX10_never_11 : decode cX10_never 11 = .ok (.getfield 55, 3) := dk_180 0 55 (dk_at dksX10_never_0 11 rfl rfl)
theorem dX10_never_14 : decode cX10_never 14 = .ok (.bipush 7, 2) := dk_16 7 (dk_at dksX10_never_0 14 rfl rfl)
theorem dX10_never_16 : decode cX10_never 16 = .ok (.aload_n 0, 1) := dk_42 (dk_at dksX10_never_0 16 rfl rfl)
theorem dX10_never_17 : decode cX10_never 17 = .ok (.getfield 29, 3) := dk_180 0 29 (dk_at dksX10_never_0 17 rfl rfl)
theorem dX10_never_20 : decode cX10_never 20 = .ok (.invokevirtual 59, 3) := dk_182 0 59 (dk_at dksX10_never_0 20 rfl rfl)
theorem dX10_never_23 : decode cX10_never 23 = .ok (.athrow, 1) := dk_191 (dk_at dksX10_never_0 23 rfl rfl)
theorem dX10_never_24 : decode cX10_never 24 = .ok (.aload_n 0, 1) := dk_42 (dk_at dksX10_never_1 0 rfl rfl)
theorem dX10_never_25 : decode cX10_never 25 = .ok (.invokevirtual 19, 3) := dk_182 0 19 (dk_at dksX10_never_1 1 rfl rfl)
theorem dX10_never_28 : decode cX10_never 28 = .ok (.aload_n 0, 1) := dk_42 (dk_at dksX10_never_1 4 rfl rfl)
theorem dX10_never_29 : decode cX10_never 29 = .ok (.aload_n 1, 1) := dk_43 (dk_at dksX10_never_1 5 rfl rfl)
theorem dX10_never_30 : decode cX10_never 30 = .ok (.invokevirtual 250, 3) := dk_182 0 250 (dk_at dksX10_never_1 6 rfl rfl)
theorem dX10_never_33 : decode cX10_never 33 = .ok (.istore_n 2, 1) := dk_61 (dk_at dksX10_never_1 9 rfl rfl)
theorem dX10_never_34 : decode cX10_never 34 = .ok (.aload_n 0, 1) := dk_42 (dk_at dksX10_never_1 10 rfl rfl)
theorem dX10_never_35 : decode cX10_never 35 = .ok (.invokevirtual 19, 3) := dk_182 0 19 (dk_at dksX10_never_1 11 rfl rfl)
theorem dX10_never_38 : decode cX10_never 38 = .ok (.aload_n 0, 1) := dk_42 (dk_at dksX10_never_1 14 rfl rfl)
theorem dX10_never_39 : decode cX10_never 39 = .ok (.aload_n 1, 1) := dk_43 (dk_at dksX10_never_1 15 rfl rfl)
theorem dX10_never_40 : decode cX10_never 40 = .ok (.invokevirtual 250, 3) := dk_182 0 250 (dk_at dksX10_never_1 16 rfl rfl)
theorem dX10_never_43 : decode cX10_never 43 = .ok (.istore_n 3, 1) := dk_62 (dk_at dksX10_never_1 19 rfl rfl)
theorem dX10_never_44 : decode cX10_never 44 = .ok (.aload_n 1, 1) := dk_43 (dk_at dksX10_never_1 20 rfl rfl)
theorem dX10_never_45 : decode cX10_never 45 = .ok (.getfield 200, 3) := dk_180 0 200 (dk_at dksX10_never_1 21 rfl rfl)
theorem dX10_never_48 : decode cX10_never 48 = .ok (.iload_n 2, 1) := dk_28 (dk_at dksX10_never_2 0 rfl rfl)
theorem dX10_never_49 : decode cX10_never 49 = .ok (.iaload, 1) := dk_46 (dk_at dksX10_never_2 1 rfl rfl)
theorem dX10_never_50 : decode cX10_never 50 = .ok (.aload_n 1, 1) := dk_43 (dk_at dksX10_never_2 2 rfl rfl)
theorem dX10_never_51 : decode cX10_never 51 = .ok (.getfield 200, 3) := dk_180 0 200 (dk_at dksX10_never_2 3 rfl rfl)
theorem dX10_never_54 : decode cX10_never 54 = .ok (.iload_n 3, 1) := dk_29 (dk_at dksX10_never_2 6 rfl rfl)
theorem dX10_never_55 : decode cX10_never 55 = .ok (.iaload, 1) := dk_46 (dk_at dksX10_never_2 7 rfl rfl)
theorem dX10_never_56 : decode cX10_never 56 = .ok (.if_icmp .ne 19, 3) := dk_160 0 19 (dk_at dksX10_never_2 8 rfl rfl)
theorem dX10_never_59 : decode cX10_never 59 = .ok (.aload_n 0, 1) := dk_42 (dk_at dksX10_never_2 11 rfl rfl)
theorem dX10_never_60 : decode cX10_never 60 = .ok (.getfield 3, 3) := dk_180 0 3 (dk_at dksX10_never_2 12 rfl rfl)
theorem dX10_never_63 : decode cX10_never 63 = .ok (.getfield 55, 3) := dk_180 0 55 (dk_at dksX10_never_2 15 rfl rfl)
theorem dX10_never_66 : decode cX10_never 66 = .ok (.iconst 5, 1) := dk_8 (dk_at dksX10_never_2 18 rfl rfl)
theorem dX10_never_67 : decode cX10_never 67 = .ok (.aload_n 0, 1) := dk_42 (dk_at dksX10_never_2 19 rfl rfl)
theorem dX10_never_68 : decode cX10_never 68 = .ok (.getfield 29, 3) := dk_180 0 29 (dk_at dksX10_never_2 20 rfl rfl)
theorem dX10_never_71 : decode cX10_never 71 = .ok (.invokevirtual 59, 3) := dk_182 0 59 (dk_at dksX10_never_3 0 rfl rfl)
theorem dX10_never_74 : decode cX10_never 74 = .ok (.athrow, 1) := dk_191 (dk_at dksX10_never_3 3 rfl rfl)
theorem dX10_never_75 : decode cX10_never 75 = .ok (.aload_n 0, 1) := dk_42 (dk_at dksX10_never_3 4 rfl rfl)
theorem dX10_never_76 : decode cX10_never 76 = .ok (.invokevirtual 19, 3) := dk_182 0 19 (dk_at dksX10_never_3 5 rfl rfl)
theorem dX10_never_79 : decode cX10_never 79 = .ok (.iconst 0, 1) := dk_3 (dk_at dksX10_never_3 8 rfl rfl)
theorem dX10_never_80 : decode cX10_never 80 = .ok (.istore 4, 2) := dk_54 4 (dk_at dksX10_never_3 9 rfl rfl)
theorem dX10_never_82 : decode cX10_never 82 = .ok (.iload 4, 2) := dk_21 4 (dk_at dksX10_never_3 11 rfl rfl)
theorem dX10_never_84 : decode cX10_never 84 = .ok (.aload_n 1, 1) := dk_43 (dk_at dksX10_never_3 13 rfl rfl)
theorem dX10_never_85 : decode cX10_never 85 = .ok (.getfield 209, 3) := dk_180 0 209 (dk_at dksX10_never_3 14 rfl rfl)
theorem dX10_never_88 : decode cX10_never 88 = .ok (.if_icmp .ge 36, 3) := dk_162 0 36 (dk_at dksX10_never_3 17 rfl rfl)
theorem dX10_never_91 : decode cX10_never 91 = .ok (.aload_n 1, 1) := dk_43 (dk_at dksX10_never_3 20 rfl rfl)
theorem dX10_never_92 : decode cX10_never 92 = .ok (.iload 4, 2) := dk_21 4 (dk_at dksX10_never_3 21 rfl rfl)
theorem dX10_never_94 : decode cX10_never 94 = .ok (.iload_n 2, 1) := dk_28 (dk_at dksX10_never_3 23 rfl rfl)
theorem dX10_never_95 : decode cX10_never 95 = .ok (.invokevirtual 254, 3) := dk_182 0 254 (dk_at dksX10_never_4 0 rfl rfl)
theorem dX10_never_98 : decode cX10_never 98 = .ok (.ifCond .eq 20, 3) := dk_153 0 20 (dk_at dksX10_never_4 3 rfl rfl)
theorem dX10_never_101 : decode cX10_never 101 = .ok (.aload_n 1, 1) := dk_43 (dk_at dksX10_never_4 6 rfl rfl)
theorem dX10_never_102 : decode cX10_never 102 = .ok (.iload 4, 2) := dk_21 4 (dk_at dksX10_never_4 7 rfl rfl)
theorem dX10_never_104 : decode cX10_never 104 = .ok (.iload_n 3, 1) := dk_29 (dk_at dksX10_never_4 9 rfl rfl)
theorem dX10_never_105 : decode cX10_never 105 = .ok (.invokevirtual 254, 3) := dk_182 0 254 (dk_at dksX10_never_4 10 rfl rfl)
theorem dX10_never_108 : decode cX10_never 108 = .ok (.ifCond .eq 10, 3) := dk_153 0 10 (dk_at dksX10_never_4 13 rfl rfl)
theorem dX10_never_111 : decode cX10_never 111 = .ok (.aload_n 0, 1) := dk_42 (dk_at dksX10_never_4 16 rfl rfl)
theorem dX10_never_112 : decode cX10_never 112 = .ok (.aload_n 1, 1) := dk_43 (dk_at dksX10_never_4 17 rfl rfl)
theorem dX10_never_113 : decode cX10_never 113 = .ok (.iload 4, 2) := dk_21 4 (dk_at dksX10_never_4 18 rfl rfl)
theorem dX10_never_115 : decode cX10_never 115 = .ok (.invokevirtual 230, 3) := dk_182 0 230 (dk_at dksX10_never_4 20 rfl rfl)
theorem dX10_never_118 : decode cX10_never 118 = .ok (.iinc 4 1, 3) := dk_132 4 1 (dk_at dksX10_never_5 0 rfl rfl)
theorem dX10_never_121 : decode cX10_never 121 = .ok (.goto (-39), 3) := dk_167 255 217 (dk_at dksX10_never_5 3 rfl rfl)
theorem dX10_never_124 : decode cX10_never 124 = .ok (.return_, 1) := dk_177 (dk_at dksX10_never_5 6 rfl rfl)
abbrev cX10_value : ByteArray := prog_8_method_21_code
def yX10_value : MethodName := ⟨RX10, "value", "(LAskingCourt$Case;)I"⟩
def dkwX10_value_0 : List UInt8 := [42, 43, 42, 182, 0, 143, 182, 0, 242, 182, 0, 246, 61, 28, 172]
abbrev dktX10_value_0 : List UInt8 := dkwX10_value_0 ++ []
theorem dksX10_value_0 : cX10_value.data.toList.drop 0 = dktX10_value_0 := by decide +kernel
theorem dX10_value_0 : decode cX10_value 0 = .ok (.aload_n 0, 1) := dk_42 (dk_at dksX10_value_0 0 rfl rfl)
theorem dX10_value_1 : decode cX10_value 1 = .ok (.aload_n 1, 1) := dk_43 (dk_at dksX10_value_0 1 rfl rfl)
theorem dX10_value_2 : decode cX10_value 2 = .ok (.aload_n 0, 1) := dk_42 (dk_at dksX10_value_0 2 rfl rfl)
theorem dX10_value_3 : decode cX10_value 3 = .ok (.invokevirtual 143, 3) := dk_182 0 143 (dk_at dksX10_value_0 3 rfl rfl)
theorem dX10_value_6 : decode cX10_value 6 = .ok (.invokevirtual 242, 3) := dk_182 0 242 (dk_at dksX10_value_0 6 rfl rfl)
theorem dX10_value_9 : decode cX10_value 9 = .ok (.invokevirtual 246, 3) := dk_182 0 246 (dk_at dksX10_value_0 9 rfl rfl)
theorem dX10_value_12 : decode cX10_value 12 = .ok (.istore_n 2, 1) := dk_61 (dk_at dksX10_value_0 12 rfl rfl)
theorem dX10_value_13 : decode cX10_value 13 = .ok (.iload_n 2, 1) := dk_28 (dk_at dksX10_value_0 13 rfl rfl)
theorem dX10_value_14 : decode cX10_value 14 = .ok (.ireturn, 1) := dk_172 (dk_at dksX10_value_0 14 rfl rfl)
abbrev cX10_told : ByteArray := prog_8_method_16_code
def yX10_told : MethodName := ⟨RX10, "told", "(I)I"⟩
def dkwX10_told_0 : List UInt8 := [27, 156, 0, 19, 42, 180, 0, 3, 180, 0, 55, 6, 42, 180, 0, 29, 182, 0, 59, 191, 27, 172]
abbrev dktX10_told_0 : List UInt8 := dkwX10_told_0 ++ []
theorem dksX10_told_0 : cX10_told.data.toList.drop 0 = dktX10_told_0 := by decide +kernel
theorem dX10_told_0 : decode cX10_told 0 = .ok (.iload_n 1, 1) := dk_27 (dk_at dksX10_told_0 0 rfl rfl)
theorem dX10_told_1 : decode cX10_told 1 = .ok (.ifCond .ge 19, 3) := dk_156 0 19 (dk_at dksX10_told_0 1 rfl rfl)
theorem dX10_told_4 : decode cX10_told 4 = .ok (.aload_n 0, 1) := dk_42 (dk_at dksX10_told_0 4 rfl rfl)
theorem dX10_told_5 : decode cX10_told 5 = .ok (.getfield 3, 3) := dk_180 0 3 (dk_at dksX10_told_0 5 rfl rfl)
theorem dX10_told_8 : decode cX10_told 8 = .ok (.getfield 55, 3) := dk_180 0 55 (dk_at dksX10_told_0 8 rfl rfl)
theorem dX10_told_11 : decode cX10_told 11 = .ok (.iconst 3, 1) := dk_6 (dk_at dksX10_told_0 11 rfl rfl)
theorem dX10_told_12 : decode cX10_told 12 = .ok (.aload_n 0, 1) := dk_42 (dk_at dksX10_told_0 12 rfl rfl)
theorem dX10_told_13 : decode cX10_told 13 = .ok (.getfield 29, 3) := dk_180 0 29 (dk_at dksX10_told_0 13 rfl rfl)
theorem dX10_told_16 : decode cX10_told 16 = .ok (.invokevirtual 59, 3) := dk_182 0 59 (dk_at dksX10_told_0 16 rfl rfl)
theorem dX10_told_19 : decode cX10_told 19 = .ok (.athrow, 1) := dk_191 (dk_at dksX10_told_0 19 rfl rfl)
theorem dX10_told_20 : decode cX10_told 20 = .ok (.iload_n 1, 1) := dk_27 (dk_at dksX10_told_0 20 rfl rfl)
theorem dX10_told_21 : decode cX10_told 21 = .ok (.ireturn, 1) := dk_172 (dk_at dksX10_told_0 21 rfl rfl)
abbrev cX10_question : ByteArray := prog_8_method_23_code
def yX10_question : MethodName := ⟨RX10, "question", "(LAskingCourt$Case;)V"⟩
def dkwX10_question_4 : List UInt8 := [21, 4, 79, 43, 89, 180, 0, 172, 4, 96, 181, 0, 172, 177]
abbrev dktX10_question_4 : List UInt8 := dkwX10_question_4 ++ []
def dkwX10_question_3 : List UInt8 := [43, 3, 182, 1, 6, 83, 43, 180, 1, 10, 43, 180, 0, 172, 32, 80, 43, 180, 1, 13, 43, 180, 0, 172]
abbrev dktX10_question_3 : List UInt8 := dkwX10_question_3 ++ dktX10_question_4
def dkwX10_question_2 : List UInt8 := [42, 3, 16, 99, 182, 0, 206, 54, 4, 42, 18, 94, 182, 0, 179, 43, 180, 1, 2, 43, 180, 0, 172, 42]
abbrev dktX10_question_2 : List UInt8 := dkwX10_question_2 ++ dktX10_question_3
def dkwX10_question_1 : List UInt8 := [182, 0, 59, 191, 42, 182, 0, 19, 42, 43, 182, 0, 175, 65, 42, 182, 0, 19, 42, 18, 92, 182, 0, 179]
abbrev dktX10_question_1 : List UInt8 := dkwX10_question_1 ++ dktX10_question_2
def dkwX10_question_0 : List UInt8 := [43, 180, 0, 172, 16, 12, 160, 0, 20, 42, 180, 0, 3, 180, 0, 55, 16, 6, 42, 180, 0, 29]
abbrev dktX10_question_0 : List UInt8 := dkwX10_question_0 ++ dktX10_question_1
theorem dksX10_question_0 : cX10_question.data.toList.drop 0 = dktX10_question_0 := by decide +kernel
theorem dksX10_question_1 : cX10_question.data.toList.drop 22 = dktX10_question_1 := dk_seg dksX10_question_0 22 rfl rfl
theorem dksX10_question_2 : cX10_question.data.toList.drop 46 = dktX10_question_2 := dk_seg dksX10_question_1 24 rfl rfl
theorem dksX10_question_3 : cX10_question.data.toList.drop 70 = dktX10_question_3 := dk_seg dksX10_question_2 24 rfl rfl
theorem dksX10_question_4 : cX10_question.data.toList.drop 94 = dktX10_question_4 := dk_seg dksX10_question_3 24 rfl rfl
theorem dX10_question_0 : decode cX10_question 0 = .ok (.aload_n 1, 1) := dk_43 (dk_at dksX10_question_0 0 rfl rfl)
theorem dX10_question_1 : decode cX10_question 1 = .ok (.getfield 172, 3) := dk_180 0 172 (dk_at dksX10_question_0 1 rfl rfl)
theorem dX10_question_4 : decode cX10_question 4 = .ok (.bipush 12, 2) := dk_16 12 (dk_at dksX10_question_0 4 rfl rfl)
theorem dX10_question_6 : decode cX10_question 6 = .ok (.if_icmp .ne 20, 3) := dk_160 0 20 (dk_at dksX10_question_0 6 rfl rfl)
theorem dX10_question_9 : decode cX10_question 9 = .ok (.aload_n 0, 1) := dk_42 (dk_at dksX10_question_0 9 rfl rfl)
theorem dX10_question_10 : decode cX10_question 10 = .ok (.getfield 3, 3) := dk_180 0 3 (dk_at dksX10_question_0 10 rfl rfl)
theorem dX10_question_13 : decode cX10_question 13 = .ok (.getfield 55, 3) := dk_180 0 55 (dk_at dksX10_question_0 13 rfl rfl)
theorem dX10_question_16 : decode cX10_question 16 = .ok (.bipush 6, 2) := dk_16 6 (dk_at dksX10_question_0 16 rfl rfl)
theorem dX10_question_18 : decode cX10_question 18 = .ok (.aload_n 0, 1) := dk_42 (dk_at dksX10_question_0 18 rfl rfl)
theorem dX10_question_19 : decode cX10_question 19 = .ok (.getfield 29, 3) := dk_180 0 29 (dk_at dksX10_question_0 19 rfl rfl)
theorem dX10_question_22 : decode cX10_question 22 = .ok (.invokevirtual 59, 3) := dk_182 0 59 (dk_at dksX10_question_1 0 rfl rfl)
theorem dX10_question_25 : decode cX10_question 25 = .ok (.athrow, 1) := dk_191 (dk_at dksX10_question_1 3 rfl rfl)
theorem dX10_question_26 : decode cX10_question 26 = .ok (.aload_n 0, 1) := dk_42 (dk_at dksX10_question_1 4 rfl rfl)
theorem dX10_question_27 : decode cX10_question 27 = .ok (.invokevirtual 19, 3) := dk_182 0 19 (dk_at dksX10_question_1 5 rfl rfl)
theorem dX10_question_30 : decode cX10_question 30 = .ok (.aload_n 0, 1) := dk_42 (dk_at dksX10_question_1 8 rfl rfl)
theorem dX10_question_31 : decode cX10_question 31 = .ok (.aload_n 1, 1) := dk_43 (dk_at dksX10_question_1 9 rfl rfl)
theorem dX10_question_32 : decode cX10_question 32 = .ok (.invokevirtual 175, 3) := dk_182 0 175 (dk_at dksX10_question_1 10 rfl rfl)
theorem dX10_question_35 : decode cX10_question 35 = .ok (.lstore_n 2, 1) := dk_65 (dk_at dksX10_question_1 13 rfl rfl)
theorem dX10_question_36 : decode cX10_question 36 = .ok (.aload_n 0, 1) := dk_42 (dk_at dksX10_question_1 14 rfl rfl)
theorem dX10_question_37 : decode cX10_question 37 = .ok (.invokevirtual 19, 3) := dk_182 0 19 (dk_at dksX10_question_1 15 rfl rfl)
theorem dX10_question_40 : decode cX10_question 40 = .ok (.aload_n 0, 1) := dk_42 (dk_at dksX10_question_1 18 rfl rfl)
theorem dX10_question_41 : decode cX10_question 41 = .ok (.ldc 92, 2) := dk_18 92 (dk_at dksX10_question_1 19 rfl rfl)
theorem dX10_question_43 : decode cX10_question 43 = .ok (.invokevirtual 179, 3) := dk_182 0 179 (dk_at dksX10_question_1 21 rfl rfl)
theorem dX10_question_46 : decode cX10_question 46 = .ok (.aload_n 0, 1) := dk_42 (dk_at dksX10_question_2 0 rfl rfl)
theorem dX10_question_47 : decode cX10_question 47 = .ok (.iconst 0, 1) := dk_3 (dk_at dksX10_question_2 1 rfl rfl)
theorem dX10_question_48 : decode cX10_question 48 = .ok (.bipush 99, 2) := dk_16 99 (dk_at dksX10_question_2 2 rfl rfl)
theorem dX10_question_50 : decode cX10_question 50 = .ok (.invokevirtual 206, 3) := dk_182 0 206 (dk_at dksX10_question_2 4 rfl rfl)
theorem dX10_question_53 : decode cX10_question 53 = .ok (.istore 4, 2) := dk_54 4 (dk_at dksX10_question_2 7 rfl rfl)
theorem dX10_question_55 : decode cX10_question 55 = .ok (.aload_n 0, 1) := dk_42 (dk_at dksX10_question_2 9 rfl rfl)
theorem dX10_question_56 : decode cX10_question 56 = .ok (.ldc 94, 2) := dk_18 94 (dk_at dksX10_question_2 10 rfl rfl)
theorem dX10_question_58 : decode cX10_question 58 = .ok (.invokevirtual 179, 3) := dk_182 0 179 (dk_at dksX10_question_2 12 rfl rfl)
theorem dX10_question_61 : decode cX10_question 61 = .ok (.aload_n 1, 1) := dk_43 (dk_at dksX10_question_2 15 rfl rfl)
theorem dX10_question_62 : decode cX10_question 62 = .ok (.getfield 258, 3) := dk_180 1 2 (dk_at dksX10_question_2 16 rfl rfl)
theorem dX10_question_65 : decode cX10_question 65 = .ok (.aload_n 1, 1) := dk_43 (dk_at dksX10_question_2 19 rfl rfl)
theorem dX10_question_66 : decode cX10_question 66 = .ok (.getfield 172, 3) := dk_180 0 172 (dk_at dksX10_question_2 20 rfl rfl)
theorem dX10_question_69 : decode cX10_question 69 = .ok (.aload_n 0, 1) := dk_42 (dk_at dksX10_question_2 23 rfl rfl)
theorem dX10_question_70 : decode cX10_question 70 = .ok (.aload_n 1, 1) := dk_43 (dk_at dksX10_question_3 0 rfl rfl)
theorem dX10_question_71 : decode cX10_question 71 = .ok (.iconst 0, 1) := dk_3 (dk_at dksX10_question_3 1 rfl rfl)
theorem dX10_question_72 : decode cX10_question 72 = .ok (.invokevirtual 262, 3) := dk_182 1 6 (dk_at dksX10_question_3 2 rfl rfl)
theorem dX10_question_75 : decode cX10_question 75 = .ok (.aastore, 1) := dk_83 (dk_at dksX10_question_3 5 rfl rfl)
theorem dX10_question_76 : decode cX10_question 76 = .ok (.aload_n 1, 1) := dk_43 (dk_at dksX10_question_3 6 rfl rfl)
theorem dX10_question_77 : decode cX10_question 77 = .ok (.getfield 266, 3) := dk_180 1 10 (dk_at dksX10_question_3 7 rfl rfl)
theorem dX10_question_80 : decode cX10_question 80 = .ok (.aload_n 1, 1) := dk_43 (dk_at dksX10_question_3 10 rfl rfl)
theorem dX10_question_81 : decode cX10_question 81 = .ok (.getfield 172, 3) := dk_180 0 172 (dk_at dksX10_question_3 11 rfl rfl)
theorem dX10_question_84 : decode cX10_question 84 = .ok (.lload_n 2, 1) := dk_32 (dk_at dksX10_question_3 14 rfl rfl)
theorem dX10_question_85 : decode cX10_question 85 = .ok (.lastore, 1) := dk_80 (dk_at dksX10_question_3 15 rfl rfl)
theorem dX10_question_86 : decode cX10_question 86 = .ok (.aload_n 1, 1) := dk_43 (dk_at dksX10_question_3 16 rfl rfl)
theorem dX10_question_87 : decode cX10_question 87 = .ok (.getfield 269, 3) := dk_180 1 13 (dk_at dksX10_question_3 17 rfl rfl)
theorem dX10_question_90 : decode cX10_question 90 = .ok (.aload_n 1, 1) := dk_43 (dk_at dksX10_question_3 20 rfl rfl)
theorem dX10_question_91 : decode cX10_question 91 = .ok (.getfield 172, 3) := dk_180 0 172 (dk_at dksX10_question_3 21 rfl rfl)
theorem dX10_question_94 : decode cX10_question 94 = .ok (.iload 4, 2) := dk_21 4 (dk_at dksX10_question_4 0 rfl rfl)
theorem dX10_question_96 : decode cX10_question 96 = .ok (.iastore, 1) := dk_79 (dk_at dksX10_question_4 2 rfl rfl)
theorem dX10_question_97 : decode cX10_question 97 = .ok (.aload_n 1, 1) := dk_43 (dk_at dksX10_question_4 3 rfl rfl)
theorem dX10_question_98 : decode cX10_question 98 = .ok (.dup, 1) := dk_89 (dk_at dksX10_question_4 4 rfl rfl)
theorem dX10_question_99 : decode cX10_question 99 = .ok (.getfield 172, 3) := dk_180 0 172 (dk_at dksX10_question_4 5 rfl rfl)
theorem dX10_question_102 : decode cX10_question 102 = .ok (.iconst 1, 1) := dk_4 (dk_at dksX10_question_4 8 rfl rfl)
theorem dX10_question_103 : decode cX10_question 103 = .ok (.iadd, 1) := dk_96 (dk_at dksX10_question_4 9 rfl rfl)
theorem dX10_question_104 : decode cX10_question 104 = .ok (.putfield 172, 3) := dk_181 0 172 (dk_at dksX10_question_4 10 rfl rfl)
theorem dX10_question_107 : decode cX10_question 107 = .ok (.return_, 1) := dk_177 (dk_at dksX10_question_4 13 rfl rfl)
abbrev cX10_either : ByteArray := prog_8_method_24_code
def yX10_either : MethodName := ⟨RX10, "either", "(LAskingCourt$Case;I)LAskingCourt$Worlds;"⟩
def dkwX10_either_1 : List UInt8 := [182, 1, 16, 182, 1, 19, 167, 255, 233, 45, 176]
abbrev dktX10_either_1 : List UInt8 := dkwX10_either_1 ++ []
def dkwX10_either_0 : List UInt8 := [42, 43, 28, 182, 1, 16, 78, 42, 18, 104, 182, 0, 72, 153, 0, 20, 42, 182, 0, 19, 45, 42, 43, 28]
abbrev dktX10_either_0 : List UInt8 := dkwX10_either_0 ++ dktX10_either_1
theorem dksX10_either_0 : cX10_either.data.toList.drop 0 = dktX10_either_0 := by decide +kernel
theorem dksX10_either_1 : cX10_either.data.toList.drop 24 = dktX10_either_1 := dk_seg dksX10_either_0 24 rfl rfl
theorem dX10_either_0 : decode cX10_either 0 = .ok (.aload_n 0, 1) := dk_42 (dk_at dksX10_either_0 0 rfl rfl)
theorem dX10_either_1 : decode cX10_either 1 = .ok (.aload_n 1, 1) := dk_43 (dk_at dksX10_either_0 1 rfl rfl)
theorem dX10_either_2 : decode cX10_either 2 = .ok (.iload_n 2, 1) := dk_28 (dk_at dksX10_either_0 2 rfl rfl)
theorem dX10_either_3 : decode cX10_either 3 = .ok (.invokevirtual 272, 3) := dk_182 1 16 (dk_at dksX10_either_0 3 rfl rfl)
theorem dX10_either_6 : decode cX10_either 6 = .ok (.astore_n 3, 1) := dk_78 (dk_at dksX10_either_0 6 rfl rfl)
theorem dX10_either_7 : decode cX10_either 7 = .ok (.aload_n 0, 1) := dk_42 (dk_at dksX10_either_0 7 rfl rfl)
theorem dX10_either_8 : decode cX10_either 8 = .ok (.ldc 104, 2) := dk_18 104 (dk_at dksX10_either_0 8 rfl rfl)
theorem dX10_either_10 : decode cX10_either 10 = .ok (.invokevirtual 72, 3) := dk_182 0 72 (dk_at dksX10_either_0 10 rfl rfl)
theorem dX10_either_13 : decode cX10_either 13 = .ok (.ifCond .eq 20, 3) := dk_153 0 20 (dk_at dksX10_either_0 13 rfl rfl)
theorem dX10_either_16 : decode cX10_either 16 = .ok (.aload_n 0, 1) := dk_42 (dk_at dksX10_either_0 16 rfl rfl)
theorem dX10_either_17 : decode cX10_either 17 = .ok (.invokevirtual 19, 3) := dk_182 0 19 (dk_at dksX10_either_0 17 rfl rfl)
theorem dX10_either_20 : decode cX10_either 20 = .ok (.aload_n 3, 1) := dk_45 (dk_at dksX10_either_0 20 rfl rfl)
theorem dX10_either_21 : decode cX10_either 21 = .ok (.aload_n 0, 1) := dk_42 (dk_at dksX10_either_0 21 rfl rfl)
theorem dX10_either_22 : decode cX10_either 22 = .ok (.aload_n 1, 1) := dk_43 (dk_at dksX10_either_0 22 rfl rfl)
theorem dX10_either_23 : decode cX10_either 23 = .ok (.iload_n 2, 1) := dk_28 (dk_at dksX10_either_0 23 rfl rfl)
theorem dX10_either_24 : decode cX10_either 24 = .ok (.invokevirtual 272, 3) := dk_182 1 16 (dk_at dksX10_either_1 0 rfl rfl)
theorem dX10_either_27 : decode cX10_either 27 = .ok (.invokevirtual 275, 3) := dk_182 1 19 (dk_at dksX10_either_1 3 rfl rfl)
theorem dX10_either_30 : decode cX10_either 30 = .ok (.goto (-23), 3) := dk_167 255 233 (dk_at dksX10_either_1 6 rfl rfl)
theorem dX10_either_33 : decode cX10_either 33 = .ok (.aload_n 3, 1) := dk_45 (dk_at dksX10_either_1 9 rfl rfl)
theorem dX10_either_34 : decode cX10_either 34 = .ok (.areturn, 1) := dk_176 (dk_at dksX10_either_1 10 rfl rfl)
abbrev cX10_both : ByteArray := prog_8_method_25_code
def yX10_both : MethodName := ⟨RX10, "both", "(LAskingCourt$Case;I)LAskingCourt$Worlds;"⟩
def dkwX10_both_1 : List UInt8 := [182, 1, 22, 182, 1, 25, 167, 255, 233, 45, 176]
abbrev dktX10_both_1 : List UInt8 := dkwX10_both_1 ++ []
def dkwX10_both_0 : List UInt8 := [42, 43, 28, 182, 1, 22, 78, 42, 18, 106, 182, 0, 72, 153, 0, 20, 42, 182, 0, 19, 45, 42, 43, 28]
abbrev dktX10_both_0 : List UInt8 := dkwX10_both_0 ++ dktX10_both_1
theorem dksX10_both_0 : cX10_both.data.toList.drop 0 = dktX10_both_0 := by decide +kernel
theorem dksX10_both_1 : cX10_both.data.toList.drop 24 = dktX10_both_1 := dk_seg dksX10_both_0 24 rfl rfl
theorem dX10_both_0 : decode cX10_both 0 = .ok (.aload_n 0, 1) := dk_42 (dk_at dksX10_both_0 0 rfl rfl)
theorem dX10_both_1 : decode cX10_both 1 = .ok (.aload_n 1, 1) := dk_43 (dk_at dksX10_both_0 1 rfl rfl)
theorem dX10_both_2 : decode cX10_both 2 = .ok (.iload_n 2, 1) := dk_28 (dk_at dksX10_both_0 2 rfl rfl)
theorem dX10_both_3 : decode cX10_both 3 = .ok (.invokevirtual 278, 3) := dk_182 1 22 (dk_at dksX10_both_0 3 rfl rfl)
theorem dX10_both_6 : decode cX10_both 6 = .ok (.astore_n 3, 1) := dk_78 (dk_at dksX10_both_0 6 rfl rfl)
theorem dX10_both_7 : decode cX10_both 7 = .ok (.aload_n 0, 1) := dk_42 (dk_at dksX10_both_0 7 rfl rfl)
theorem dX10_both_8 : decode cX10_both 8 = .ok (.ldc 106, 2) := dk_18 106 (dk_at dksX10_both_0 8 rfl rfl)
theorem dX10_both_10 : decode cX10_both 10 = .ok (.invokevirtual 72, 3) := dk_182 0 72 (dk_at dksX10_both_0 10 rfl rfl)
theorem dX10_both_13 : decode cX10_both 13 = .ok (.ifCond .eq 20, 3) := dk_153 0 20 (dk_at dksX10_both_0 13 rfl rfl)
theorem dX10_both_16 : decode cX10_both 16 = .ok (.aload_n 0, 1) := dk_42 (dk_at dksX10_both_0 16 rfl rfl)
theorem dX10_both_17 : decode cX10_both 17 = .ok (.invokevirtual 19, 3) := dk_182 0 19 (dk_at dksX10_both_0 17 rfl rfl)
theorem dX10_both_20 : decode cX10_both 20 = .ok (.aload_n 3, 1) := dk_45 (dk_at dksX10_both_0 20 rfl rfl)
theorem dX10_both_21 : decode cX10_both 21 = .ok (.aload_n 0, 1) := dk_42 (dk_at dksX10_both_0 21 rfl rfl)
theorem dX10_both_22 : decode cX10_both 22 = .ok (.aload_n 1, 1) := dk_43 (dk_at dksX10_both_0 22 rfl rfl)
theorem dX10_both_23 : decode cX10_both 23 = .ok (.iload_n 2, 1) := dk_28 (dk_at dksX10_both_0 23 rfl rfl)
theorem dX10_both_24 : decode cX10_both 24 = .ok (.invokevirtual 278, 3) := dk_182 1 22 (dk_at dksX10_both_1 0 rfl rfl)
theorem dX10_both_27 : decode cX10_both 27 = .ok (.invokevirtual 281, 3) := dk_182 1 25 (dk_at dksX10_both_1 3 rfl rfl)
theorem dX10_both_30 : decode cX10_both 30 = .ok (.goto (-23), 3) := dk_167 255 233 (dk_at dksX10_both_1 6 rfl rfl)
theorem dX10_both_33 : decode cX10_both 33 = .ok (.aload_n 3, 1) := dk_45 (dk_at dksX10_both_1 9 rfl rfl)
theorem dX10_both_34 : decode cX10_both 34 = .ok (.areturn, 1) := dk_176 (dk_at dksX10_both_1 10 rfl rfl)
abbrev cX10_one : ByteArray := prog_8_method_26_code
def yX10_one : MethodName := ⟨RX10, "one", "(LAskingCourt$Case;I)LAskingCourt$Worlds;"⟩
def dkwX10_one_7 : List UInt8 := [153, 0, 10, 25, 5, 21, 7, 182, 0, 234, 132, 7, 1, 167, 255, 214, 25, 5, 176]
abbrev dktX10_one_7 : List UInt8 := dkwX10_one_7 ++ []
def dkwX10_one_6 : List UInt8 := [162, 0, 39, 43, 180, 0, 218, 21, 7, 182, 0, 228, 153, 0, 21, 43, 21, 7, 21, 6, 182, 0, 254]
abbrev dktX10_one_6 : List UInt8 := dkwX10_one_6 ++ dktX10_one_7
def dkwX10_one_5 : List UInt8 := [25, 5, 176, 42, 43, 182, 0, 250, 54, 6, 42, 182, 0, 19, 3, 54, 7, 21, 7, 43, 180, 0, 209]
abbrev dktX10_one_5 : List UInt8 := dkwX10_one_5 ++ dktX10_one_6
def dkwX10_one_4 : List UInt8 := [25, 5, 43, 180, 0, 218, 182, 0, 222, 87, 25, 5, 42, 43, 28, 4, 96, 182, 1, 22, 182, 0, 238]
abbrev dktX10_one_4 : List UInt8 := dkwX10_one_4 ++ dktX10_one_5
def dkwX10_one_3 : List UInt8 := [182, 0, 162, 25, 5, 176, 187, 0, 215, 89, 183, 0, 217, 58, 5, 29, 153, 0, 33, 42, 182, 0, 19]
abbrev dktX10_one_3 : List UInt8 := dkwX10_one_3 ++ dktX10_one_4
def dkwX10_one_2 : List UInt8 := [21, 4, 153, 0, 26, 42, 182, 0, 19, 42, 43, 28, 4, 96, 182, 1, 6, 58, 5, 42, 16, 41]
abbrev dktX10_one_2 : List UInt8 := dkwX10_one_2 ++ dktX10_one_3
def dkwX10_one_1 : List UInt8 := [28, 16, 6, 160, 0, 20, 42, 180, 0, 3, 180, 0, 55, 16, 7, 42, 180, 0, 29, 182, 0, 59, 191]
abbrev dktX10_one_1 : List UInt8 := dkwX10_one_1 ++ dktX10_one_2
def dkwX10_one_0 : List UInt8 := [42, 18, 108, 182, 0, 72, 62, 42, 16, 40, 182, 0, 64, 54, 4, 29, 154, 0, 8, 21, 4, 153, 0, 26]
abbrev dktX10_one_0 : List UInt8 := dkwX10_one_0 ++ dktX10_one_1
theorem dksX10_one_0 : cX10_one.data.toList.drop 0 = dktX10_one_0 := by decide +kernel
theorem dksX10_one_1 : cX10_one.data.toList.drop 24 = dktX10_one_1 := dk_seg dksX10_one_0 24 rfl rfl
theorem dksX10_one_2 : cX10_one.data.toList.drop 47 = dktX10_one_2 := dk_seg dksX10_one_1 23 rfl rfl
theorem dksX10_one_3 : cX10_one.data.toList.drop 69 = dktX10_one_3 := dk_seg dksX10_one_2 22 rfl rfl
theorem dksX10_one_4 : cX10_one.data.toList.drop 92 = dktX10_one_4 := dk_seg dksX10_one_3 23 rfl rfl
theorem dksX10_one_5 : cX10_one.data.toList.drop 115 = dktX10_one_5 := dk_seg dksX10_one_4 23 rfl rfl
theorem dksX10_one_6 : cX10_one.data.toList.drop 138 = dktX10_one_6 := dk_seg dksX10_one_5 23 rfl rfl
theorem dksX10_one_7 : cX10_one.data.toList.drop 161 = dktX10_one_7 := dk_seg dksX10_one_6 23 rfl rfl
theorem dX10_one_0 : decode cX10_one 0 = .ok (.aload_n 0, 1) := dk_42 (dk_at dksX10_one_0 0 rfl rfl)
theorem dX10_one_1 : decode cX10_one 1 = .ok (.ldc 108, 2) := dk_18 108 (dk_at dksX10_one_0 1 rfl rfl)
theorem dX10_one_3 : decode cX10_one 3 = .ok (.invokevirtual 72, 3) := dk_182 0 72 (dk_at dksX10_one_0 3 rfl rfl)
theorem dX10_one_6 : decode cX10_one 6 = .ok (.istore_n 3, 1) := dk_62 (dk_at dksX10_one_0 6 rfl rfl)
theorem dX10_one_7 : decode cX10_one 7 = .ok (.aload_n 0, 1) := dk_42 (dk_at dksX10_one_0 7 rfl rfl)
theorem dX10_one_8 : decode cX10_one 8 = .ok (.bipush 40, 2) := dk_16 40 (dk_at dksX10_one_0 8 rfl rfl)
theorem dX10_one_10 : decode cX10_one 10 = .ok (.invokevirtual 64, 3) := dk_182 0 64 (dk_at dksX10_one_0 10 rfl rfl)
theorem dX10_one_13 : decode cX10_one 13 = .ok (.istore 4, 2) := dk_54 4 (dk_at dksX10_one_0 13 rfl rfl)
theorem dX10_one_15 : decode cX10_one 15 = .ok (.iload_n 3, 1) := dk_29 (dk_at dksX10_one_0 15 rfl rfl)
theorem dX10_one_16 : decode cX10_one 16 = .ok (.ifCond .ne 8, 3) := dk_154 0 8 (dk_at dksX10_one_0 16 rfl rfl)
theorem dX10_one_19 : decode cX10_one 19 = .ok (.iload 4, 2) := dk_21 4 (dk_at dksX10_one_0 19 rfl rfl)
theorem dX10_one_21 : decode cX10_one 21 = .ok (.ifCond .eq 26, 3) := dk_153 0 26 (dk_at dksX10_one_0 21 rfl rfl)
theorem dX10_one_24 : decode cX10_one 24 = .ok (.iload_n 2, 1) := dk_28 (dk_at dksX10_one_1 0 rfl rfl)
theorem dX10_one_25 : decode cX10_one 25 = .ok (.bipush 6, 2) := dk_16 6 (dk_at dksX10_one_1 1 rfl rfl)
theorem dX10_one_27 : decode cX10_one 27 = .ok (.if_icmp .ne 20, 3) := dk_160 0 20 (dk_at dksX10_one_1 3 rfl rfl)
theorem dX10_one_30 : decode cX10_one 30 = .ok (.aload_n 0, 1) := dk_42 (dk_at dksX10_one_1 6 rfl rfl)
theorem dX10_one_31 : decode cX10_one 31 = .ok (.getfield 3, 3) := dk_180 0 3 (dk_at dksX10_one_1 7 rfl rfl)
theorem dX10_one_34 : decode cX10_one 34 = .ok (.getfield 55, 3) := dk_180 0 55 (dk_at dksX10_one_1 10 rfl rfl)
theorem dX10_one_37 : decode cX10_one 37 = .ok (.bipush 7, 2) := dk_16 7 (dk_at dksX10_one_1 13 rfl rfl)
theorem dX10_one_39 : decode cX10_one 39 = .ok (.aload_n 0, 1) := dk_42 (dk_at dksX10_one_1 15 rfl rfl)
theorem dX10_one_40 : decode cX10_one 40 = .ok (.getfield 29, 3) := dk_180 0 29 (dk_at dksX10_one_1 16 rfl rfl)
theorem dX10_one_43 : decode cX10_one 43 = .ok (.invokevirtual 59, 3) := dk_182 0 59 (dk_at dksX10_one_1 19 rfl rfl)
theorem dX10_one_46 : decode cX10_one 46 = .ok (.athrow, 1) := dk_191 (dk_at dksX10_one_1 22 rfl rfl)
theorem dX10_one_47 : decode cX10_one 47 = .ok (.iload 4, 2) := dk_21 4 (dk_at dksX10_one_2 0 rfl rfl)
theorem dX10_one_49 : decode cX10_one 49 = .ok (.ifCond .eq 26, 3) := dk_153 0 26 (dk_at dksX10_one_2 2 rfl rfl)
theorem dX10_one_52 : decode cX10_one 52 = .ok (.aload_n 0, 1) := dk_42 (dk_at dksX10_one_2 5 rfl rfl)
theorem dX10_one_53 : decode cX10_one 53 = .ok (.invokevirtual 19, 3) := dk_182 0 19 (dk_at dksX10_one_2 6 rfl rfl)
theorem dX10_one_56 : decode cX10_one 56 = .ok (.aload_n 0, 1) := dk_42 (dk_at dksX10_one_2 9 rfl rfl)
theorem dX10_one_57 : decode cX10_one 57 = .ok (.aload_n 1, 1) := dk_43 (dk_at dksX10_one_2 10 rfl rfl)
theorem dX10_one_58 : decode cX10_one 58 = .ok (.iload_n 2, 1) := dk_28 (dk_at dksX10_one_2 11 rfl rfl)
theorem dX10_one_59 : decode cX10_one 59 = .ok (.iconst 1, 1) := dk_4 (dk_at dksX10_one_2 12 rfl rfl)
theorem dX10_one_60 : decode cX10_one 60 = .ok (.iadd, 1) := dk_96 (dk_at dksX10_one_2 13 rfl rfl)
theorem dX10_one_61 : decode cX10_one 61 = .ok (.invokevirtual 262, 3) := dk_182 1 6 (dk_at dksX10_one_2 14 rfl rfl)
theorem dX10_one_64 : decode cX10_one 64 = .ok (.astore 5, 2) := dk_58 5 (dk_at dksX10_one_2 17 rfl rfl)
theorem dX10_one_66 : decode cX10_one 66 = .ok (.aload_n 0, 1) := dk_42 (dk_at dksX10_one_2 19 rfl rfl)
theorem dX10_one_67 : decode cX10_one 67 = .ok (.bipush 41, 2) := dk_16 41 (dk_at dksX10_one_2 20 rfl rfl)
theorem dX10_one_69 : decode cX10_one 69 = .ok (.invokevirtual 162, 3) := dk_182 0 162 (dk_at dksX10_one_3 0 rfl rfl)
theorem dX10_one_72 : decode cX10_one 72 = .ok (.aload 5, 2) := dk_25 5 (dk_at dksX10_one_3 3 rfl rfl)
theorem dX10_one_74 : decode cX10_one 74 = .ok (.areturn, 1) := dk_176 (dk_at dksX10_one_3 5 rfl rfl)
theorem dX10_one_75 : decode cX10_one 75 = .ok (.new 215, 3) := dk_187 0 215 (dk_at dksX10_one_3 6 rfl rfl)
theorem dX10_one_78 : decode cX10_one 78 = .ok (.dup, 1) := dk_89 (dk_at dksX10_one_3 9 rfl rfl)
theorem dX10_one_79 : decode cX10_one 79 = .ok (.invokespecial 217, 3) := dk_183 0 217 (dk_at dksX10_one_3 10 rfl rfl)
theorem dX10_one_82 : decode cX10_one 82 = .ok (.astore 5, 2) := dk_58 5 (dk_at dksX10_one_3 13 rfl rfl)
theorem dX10_one_84 : decode cX10_one 84 = .ok (.iload_n 3, 1) := dk_29 (dk_at dksX10_one_3 15 rfl rfl)
theorem dX10_one_85 : decode cX10_one 85 = .ok (.ifCond .eq 33, 3) := dk_153 0 33 (dk_at dksX10_one_3 16 rfl rfl)
theorem dX10_one_88 : decode cX10_one 88 = .ok (.aload_n 0, 1) := dk_42 (dk_at dksX10_one_3 19 rfl rfl)
theorem dX10_one_89 : decode cX10_one 89 = .ok (.invokevirtual 19, 3) := dk_182 0 19 (dk_at dksX10_one_3 20 rfl rfl)
theorem dX10_one_92 : decode cX10_one 92 = .ok (.aload 5, 2) := dk_25 5 (dk_at dksX10_one_4 0 rfl rfl)
theorem dX10_one_94 : decode cX10_one 94 = .ok (.aload_n 1, 1) := dk_43 (dk_at dksX10_one_4 2 rfl rfl)
theorem dX10_one_95 : decode cX10_one 95 = .ok (.getfield 218, 3) := dk_180 0 218 (dk_at dksX10_one_4 3 rfl rfl)
theorem dX10_one_98 : decode cX10_one 98 = .ok (.invokevirtual 222, 3) := dk_182 0 222 (dk_at dksX10_one_4 6 rfl rfl)
theorem dX10_one_101 : decode cX10_one 101 = .ok (.pop, 1) := dk_87 (dk_at dksX10_one_4 9 rfl rfl)
theorem dX10_one_102 : decode cX10_one 102 = .ok (.aload 5, 2) := dk_25 5 (dk_at dksX10_one_4 10 rfl rfl)
theorem dX10_one_104 : decode cX10_one 104 = .ok (.aload_n 0, 1) := dk_42 (dk_at dksX10_one_4 12 rfl rfl)
theorem dX10_one_105 : decode cX10_one 105 = .ok (.aload_n 1, 1) := dk_43 (dk_at dksX10_one_4 13 rfl rfl)
theorem dX10_one_106 : decode cX10_one 106 = .ok (.iload_n 2, 1) := dk_28 (dk_at dksX10_one_4 14 rfl rfl)
theorem dX10_one_107 : decode cX10_one 107 = .ok (.iconst 1, 1) := dk_4 (dk_at dksX10_one_4 15 rfl rfl)
theorem dX10_one_108 : decode cX10_one 108 = .ok (.iadd, 1) := dk_96 (dk_at dksX10_one_4 16 rfl rfl)
theorem dX10_one_109 : decode cX10_one 109 = .ok (.invokevirtual 278, 3) := dk_182 1 22 (dk_at dksX10_one_4 17 rfl rfl)
theorem dX10_one_112 : decode cX10_one 112 = .ok (.invokevirtual 238, 3) := dk_182 0 238 (dk_at dksX10_one_4 20 rfl rfl)
theorem dX10_one_115 : decode cX10_one 115 = .ok (.aload 5, 2) := dk_25 5 (dk_at dksX10_one_5 0 rfl rfl)
theorem dX10_one_117 : decode cX10_one 117 = .ok (.areturn, 1) := dk_176 (dk_at dksX10_one_5 2 rfl rfl)
theorem dX10_one_118 : decode cX10_one 118 = .ok (.aload_n 0, 1) := dk_42 (dk_at dksX10_one_5 3 rfl rfl)
theorem dX10_one_119 : decode cX10_one 119 = .ok (.aload_n 1, 1) := dk_43 (dk_at dksX10_one_5 4 rfl rfl)
theorem dX10_one_120 : decode cX10_one 120 = .ok (.invokevirtual 250, 3) := dk_182 0 250 (dk_at dksX10_one_5 5 rfl rfl)
theorem dX10_one_123 : decode cX10_one 123 = .ok (.istore 6, 2) := dk_54 6 (dk_at dksX10_one_5 8 rfl rfl)
theorem dX10_one_125 : decode cX10_one 125 = .ok (.aload_n 0, 1) := dk_42 (dk_at dksX10_one_5 10 rfl rfl)
theorem dX10_one_126 : decode cX10_one 126 = .ok (.invokevirtual 19, 3) := dk_182 0 19 (dk_at dksX10_one_5 11 rfl rfl)
theorem dX10_one_129 : decode cX10_one 129 = .ok (.iconst 0, 1) := dk_3 (dk_at dksX10_one_5 14 rfl rfl)
theorem dX10_one_130 : decode cX10_one 130 = .ok (.istore 7, 2) := dk_54 7 (dk_at dksX10_one_5 15 rfl rfl)
theorem dX10_one_132 : decode cX10_one 132 = .ok (.iload 7, 2) := dk_21 7 (dk_at dksX10_one_5 17 rfl rfl)
theorem dX10_one_134 : decode cX10_one 134 = .ok (.aload_n 1, 1) := dk_43 (dk_at dksX10_one_5 19 rfl rfl)
theorem dX10_one_135 : decode cX10_one 135 = .ok (.getfield 209, 3) := dk_180 0 209 (dk_at dksX10_one_5 20 rfl rfl)
theorem dX10_one_138 : decode cX10_one 138 = .ok (.if_icmp .ge 39, 3) := dk_162 0 39 (dk_at dksX10_one_6 0 rfl rfl)
theorem dX10_one_141 : decode cX10_one 141 = .ok (.aload_n 1, 1) := dk_43 (dk_at dksX10_one_6 3 rfl rfl)
theorem dX10_one_142 : decode cX10_one 142 = .ok (.getfield 218, 3) := dk_180 0 218 (dk_at dksX10_one_6 4 rfl rfl)
theorem dX10_one_145 : decode cX10_one 145 = .ok (.iload 7, 2) := dk_21 7 (dk_at dksX10_one_6 7 rfl rfl)
theorem dX10_one_147 : decode cX10_one 147 = .ok (.invokevirtual 228, 3) := dk_182 0 228 (dk_at dksX10_one_6 9 rfl rfl)
theorem dX10_one_150 : decode cX10_one 150 = .ok (.ifCond .eq 21, 3) := dk_153 0 21 (dk_at dksX10_one_6 12 rfl rfl)
theorem dX10_one_153 : decode cX10_one 153 = .ok (.aload_n 1, 1) := dk_43 (dk_at dksX10_one_6 15 rfl rfl)
theorem dX10_one_154 : decode cX10_one 154 = .ok (.iload 7, 2) := dk_21 7 (dk_at dksX10_one_6 16 rfl rfl)
theorem dX10_one_156 : decode cX10_one 156 = .ok (.iload 6, 2) := dk_21 6 (dk_at dksX10_one_6 18 rfl rfl)
theorem dX10_one_158 : decode cX10_one 158 = .ok (.invokevirtual 254, 3) := dk_182 0 254 (dk_at dksX10_one_6 20 rfl rfl)
theorem dX10_one_161 : decode cX10_one 161 = .ok (.ifCond .eq 10, 3) := dk_153 0 10 (dk_at dksX10_one_7 0 rfl rfl)
theorem dX10_one_164 : decode cX10_one 164 = .ok (.aload 5, 2) := dk_25 5 (dk_at dksX10_one_7 3 rfl rfl)
theorem dX10_one_166 : decode cX10_one 166 = .ok (.iload 7, 2) := dk_21 7 (dk_at dksX10_one_7 5 rfl rfl)
theorem dX10_one_168 : decode cX10_one 168 = .ok (.invokevirtual 234, 3) := dk_182 0 234 (dk_at dksX10_one_7 7 rfl rfl)
theorem dX10_one_171 : decode cX10_one 171 = .ok (.iinc 7 1, 3) := dk_132 7 1 (dk_at dksX10_one_7 10 rfl rfl)
theorem dX10_one_174 : decode cX10_one 174 = .ok (.goto (-42), 3) := dk_167 255 214 (dk_at dksX10_one_7 13 rfl rfl)
theorem dX10_one_177 : decode cX10_one 177 = .ok (.aload 5, 2) := dk_25 5 (dk_at dksX10_one_7 16 rfl rfl)
theorem dX10_one_179 : decode cX10_one 179 = .ok (.areturn, 1) := dk_176 (dk_at dksX10_one_7 18 rfl rfl)
abbrev cX10_sign : ByteArray := prog_8_method_8_code
def yX10_sign : MethodName := ⟨RX10, "sign", "(C)V"⟩
def dkwX10_sign_0 : List UInt8 := [42, 27, 182, 0, 64, 154, 0, 8, 42, 182, 0, 68, 191, 42, 182, 0, 19, 177]
abbrev dktX10_sign_0 : List UInt8 := dkwX10_sign_0 ++ []
theorem dksX10_sign_0 : cX10_sign.data.toList.drop 0 = dktX10_sign_0 := by decide +kernel
theorem dX10_sign_0 : decode cX10_sign 0 = .ok (.aload_n 0, 1) := dk_42 (dk_at dksX10_sign_0 0 rfl rfl)
theorem dX10_sign_1 : decode cX10_sign 1 = .ok (.iload_n 1, 1) := dk_27 (dk_at dksX10_sign_0 1 rfl rfl)
theorem dX10_sign_2 : decode cX10_sign 2 = .ok (.invokevirtual 64, 3) := dk_182 0 64 (dk_at dksX10_sign_0 2 rfl rfl)
theorem dX10_sign_5 : decode cX10_sign 5 = .ok (.ifCond .ne 8, 3) := dk_154 0 8 (dk_at dksX10_sign_0 5 rfl rfl)
theorem dX10_sign_8 : decode cX10_sign 8 = .ok (.aload_n 0, 1) := dk_42 (dk_at dksX10_sign_0 8 rfl rfl)
theorem dX10_sign_9 : decode cX10_sign 9 = .ok (.invokevirtual 68, 3) := dk_182 0 68 (dk_at dksX10_sign_0 9 rfl rfl)
theorem dX10_sign_12 : decode cX10_sign 12 = .ok (.athrow, 1) := dk_191 (dk_at dksX10_sign_0 12 rfl rfl)
theorem dX10_sign_13 : decode cX10_sign 13 = .ok (.aload_n 0, 1) := dk_42 (dk_at dksX10_sign_0 13 rfl rfl)
theorem dX10_sign_14 : decode cX10_sign 14 = .ok (.invokevirtual 19, 3) := dk_182 0 19 (dk_at dksX10_sign_0 14 rfl rfl)
theorem dX10_sign_17 : decode cX10_sign 17 = .ok (.return_, 1) := dk_177 (dk_at dksX10_sign_0 17 rfl rfl)
abbrev cX10_witness : ByteArray := prog_8_method_27_code
def yX10_witness : MethodName := ⟨RX10, "witness", "(LAskingCourt$Case;)V"⟩
def dkwX10_witness_8 : List UInt8 := [180, 1, 54, 43, 180, 1, 28, 32, 80, 43, 89, 180, 1, 28, 4, 96, 181, 1, 28, 177]
abbrev dktX10_witness_8 : List UInt8 := dkwX10_witness_8 ++ []
def dkwX10_witness_7 : List UInt8 := [181, 1, 46, 42, 180, 0, 32, 4, 159, 255, 220, 43, 180, 1, 51, 43, 180, 1, 28, 25, 4, 83, 43]
abbrev dktX10_witness_7 : List UInt8 := dkwX10_witness_7 ++ dktX10_witness_8
def dkwX10_witness_6 : List UInt8 := [42, 25, 4, 180, 1, 46, 42, 43, 42, 182, 0, 143, 182, 1, 48, 182, 0, 246, 182, 1, 39, 128]
abbrev dktX10_witness_6 : List UInt8 := dkwX10_witness_6 ++ dktX10_witness_7
def dkwX10_witness_5 : List UInt8 := [25, 4, 182, 1, 42, 42, 18, 102, 182, 0, 72, 153, 0, 46, 42, 182, 0, 19, 25, 4, 89, 180, 1, 46]
abbrev dktX10_witness_5 : List UInt8 := dkwX10_witness_5 ++ dktX10_witness_6
def dkwX10_witness_4 : List UInt8 := [180, 0, 32, 4, 160, 0, 12, 42, 18, 100, 182, 0, 72, 153, 255, 211, 42, 18, 100, 182, 0, 179, 42]
abbrev dktX10_witness_4 : List UInt8 := dkwX10_witness_4 ++ dktX10_witness_5
def dkwX10_witness_3 : List UInt8 := [180, 1, 34, 42, 43, 42, 182, 0, 143, 182, 1, 36, 182, 0, 246, 182, 1, 39, 128, 181, 1, 34, 42]
abbrev dktX10_witness_3 : List UInt8 := dkwX10_witness_3 ++ dktX10_witness_4
def dkwX10_witness_2 : List UInt8 := [42, 18, 98, 182, 0, 72, 153, 0, 55, 42, 182, 0, 19, 25, 4, 89, 180, 1, 34, 42, 25, 4]
abbrev dktX10_witness_2 : List UInt8 := dkwX10_witness_2 ++ dktX10_witness_3
def dkwX10_witness_1 : List UInt8 := [191, 42, 182, 0, 19, 42, 43, 182, 0, 175, 65, 42, 182, 0, 19, 187, 1, 31, 89, 183, 1, 33, 58, 4]
abbrev dktX10_witness_1 : List UInt8 := dkwX10_witness_1 ++ dktX10_witness_2
def dkwX10_witness_0 : List UInt8 := [43, 180, 1, 28, 7, 160, 0, 20, 42, 180, 0, 3, 180, 0, 55, 16, 6, 42, 180, 0, 29, 182, 0, 59]
abbrev dktX10_witness_0 : List UInt8 := dkwX10_witness_0 ++ dktX10_witness_1
theorem dksX10_witness_0 : cX10_witness.data.toList.drop 0 = dktX10_witness_0 := by decide +kernel
theorem dksX10_witness_1 : cX10_witness.data.toList.drop 24 = dktX10_witness_1 := dk_seg dksX10_witness_0 24 rfl rfl
theorem dksX10_witness_2 : cX10_witness.data.toList.drop 48 = dktX10_witness_2 := dk_seg dksX10_witness_1 24 rfl rfl
theorem dksX10_witness_3 : cX10_witness.data.toList.drop 70 = dktX10_witness_3 := dk_seg dksX10_witness_2 22 rfl rfl
theorem dksX10_witness_4 : cX10_witness.data.toList.drop 93 = dktX10_witness_4 := dk_seg dksX10_witness_3 23 rfl rfl
theorem dksX10_witness_5 : cX10_witness.data.toList.drop 116 = dktX10_witness_5 := dk_seg dksX10_witness_4 23 rfl rfl
theorem dksX10_witness_6 : cX10_witness.data.toList.drop 140 = dktX10_witness_6 := dk_seg dksX10_witness_5 24 rfl rfl
theorem dksX10_witness_7 : cX10_witness.data.toList.drop 162 = dktX10_witness_7 := dk_seg dksX10_witness_6 22 rfl rfl
theorem dksX10_witness_8 : cX10_witness.data.toList.drop 185 = dktX10_witness_8 := dk_seg dksX10_witness_7 23 rfl rfl
theorem dX10_witness_0 : decode cX10_witness 0 = .ok (.aload_n 1, 1) := dk_43 (dk_at dksX10_witness_0 0 rfl rfl)
theorem dX10_witness_1 : decode cX10_witness 1 = .ok (.getfield 284, 3) := dk_180 1 28 (dk_at dksX10_witness_0 1 rfl rfl)
theorem dX10_witness_4 : decode cX10_witness 4 = .ok (.iconst 4, 1) := dk_7 (dk_at dksX10_witness_0 4 rfl rfl)
theorem dX10_witness_5 : decode cX10_witness 5 = .ok (.if_icmp .ne 20, 3) := dk_160 0 20 (dk_at dksX10_witness_0 5 rfl rfl)
theorem dX10_witness_8 : decode cX10_witness 8 = .ok (.aload_n 0, 1) := dk_42 (dk_at dksX10_witness_0 8 rfl rfl)
theorem dX10_witness_9 : decode cX10_witness 9 = .ok (.getfield 3, 3) := dk_180 0 3 (dk_at dksX10_witness_0 9 rfl rfl)
theorem dX10_witness_12 : decode cX10_witness 12 = .ok (.getfield 55, 3) := dk_180 0 55 (dk_at dksX10_witness_0 12 rfl rfl)
theorem dX10_witness_15 : decode cX10_witness 15 = .ok (.bipush 6, 2) := dk_16 6 (dk_at dksX10_witness_0 15 rfl rfl)
theorem dX10_witness_17 : decode cX10_witness 17 = .ok (.aload_n 0, 1) := dk_42 (dk_at dksX10_witness_0 17 rfl rfl)
theorem dX10_witness_18 : decode cX10_witness 18 = .ok (.getfield 29, 3) := dk_180 0 29 (dk_at dksX10_witness_0 18 rfl rfl)
theorem dX10_witness_21 : decode cX10_witness 21 = .ok (.invokevirtual 59, 3) := dk_182 0 59 (dk_at dksX10_witness_0 21 rfl rfl)
theorem dX10_witness_24 : decode cX10_witness 24 = .ok (.athrow, 1) := dk_191 (dk_at dksX10_witness_1 0 rfl rfl)
theorem dX10_witness_25 : decode cX10_witness 25 = .ok (.aload_n 0, 1) := dk_42 (dk_at dksX10_witness_1 1 rfl rfl)
theorem dX10_witness_26 : decode cX10_witness 26 = .ok (.invokevirtual 19, 3) := dk_182 0 19 (dk_at dksX10_witness_1 2 rfl rfl)
theorem dX10_witness_29 : decode cX10_witness 29 = .ok (.aload_n 0, 1) := dk_42 (dk_at dksX10_witness_1 5 rfl rfl)
theorem dX10_witness_30 : decode cX10_witness 30 = .ok (.aload_n 1, 1) := dk_43 (dk_at dksX10_witness_1 6 rfl rfl)
theorem dX10_witness_31 : decode cX10_witness 31 = .ok (.invokevirtual 175, 3) := dk_182 0 175 (dk_at dksX10_witness_1 7 rfl rfl)
theorem dX10_witness_34 : decode cX10_witness 34 = .ok (.lstore_n 2, 1) := dk_65 (dk_at dksX10_witness_1 10 rfl rfl)
theorem dX10_witness_35 : decode cX10_witness 35 = .ok (.aload_n 0, 1) := dk_42 (dk_at dksX10_witness_1 11 rfl rfl)
theorem dX10_witness_36 : decode cX10_witness 36 = .ok (.invokevirtual 19, 3) := dk_182 0 19 (dk_at dksX10_witness_1 12 rfl rfl)
theorem dX10_witness_39 : decode cX10_witness 39 = .ok (.new 287, 3) := dk_187 1 31 (dk_at dksX10_witness_1 15 rfl rfl)
theorem dX10_witness_42 : decode cX10_witness 42 = .ok (.dup, 1) := dk_89 (dk_at dksX10_witness_1 18 rfl rfl)
theorem dX10_witness_43 : decode cX10_witness 43 = .ok (.invokespecial 289, 3) := dk_183 1 33 (dk_at dksX10_witness_1 19 rfl rfl)
theorem dX10_witness_46 : decode cX10_witness 46 = .ok (.astore 4, 2) := dk_58 4 (dk_at dksX10_witness_1 22 rfl rfl)
theorem dX10_witness_48 : decode cX10_witness 48 = .ok (.aload_n 0, 1) := dk_42 (dk_at dksX10_witness_2 0 rfl rfl)
theorem dX10_witness_49 : decode cX10_witness 49 = .ok (.ldc 98, 2) := dk_18 98 (dk_at dksX10_witness_2 1 rfl rfl)
theorem dX10_witness_51 : decode cX10_witness 51 = .ok (.invokevirtual 72, 3) := dk_182 0 72 (dk_at dksX10_witness_2 3 rfl rfl)
theorem dX10_witness_54 : decode cX10_witness 54 = .ok (.ifCond .eq 55, 3) := dk_153 0 55 (dk_at dksX10_witness_2 6 rfl rfl)
theorem dX10_witness_57 : decode cX10_witness 57 = .ok (.aload_n 0, 1) := dk_42 (dk_at dksX10_witness_2 9 rfl rfl)
theorem dX10_witness_58 : decode cX10_witness 58 = .ok (.invokevirtual 19, 3) := dk_182 0 19 (dk_at dksX10_witness_2 10 rfl rfl)
theorem dX10_witness_61 : decode cX10_witness 61 = .ok (.aload 4, 2) := dk_25 4 (dk_at dksX10_witness_2 13 rfl rfl)
theorem dX10_witness_63 : decode cX10_witness 63 = .ok (.dup, 1) := dk_89 (dk_at dksX10_witness_2 15 rfl rfl)
theorem dX10_witness_64 : decode cX10_witness 64 = .ok (.getfield 290, 3) := dk_180 1 34 (dk_at dksX10_witness_2 16 rfl rfl)
theorem dX10_witness_67 : decode cX10_witness 67 = .ok (.aload_n 0, 1) := dk_42 (dk_at dksX10_witness_2 19 rfl rfl)
theorem dX10_witness_68 : decode cX10_witness 68 = .ok (.aload 4, 2) := dk_25 4 (dk_at dksX10_witness_2 20 rfl rfl)
theorem dX10_witness_70 : decode cX10_witness 70 = .ok (.getfield 290, 3) := dk_180 1 34 (dk_at dksX10_witness_3 0 rfl rfl)
theorem dX10_witness_73 : decode cX10_witness 73 = .ok (.aload_n 0, 1) := dk_42 (dk_at dksX10_witness_3 3 rfl rfl)
theorem dX10_witness_74 : decode cX10_witness 74 = .ok (.aload_n 1, 1) := dk_43 (dk_at dksX10_witness_3 4 rfl rfl)
theorem dX10_witness_75 : decode cX10_witness 75 = .ok (.aload_n 0, 1) := dk_42 (dk_at dksX10_witness_3 5 rfl rfl)
theorem dX10_witness_76 : decode cX10_witness 76 = .ok (.invokevirtual 143, 3) := dk_182 0 143 (dk_at dksX10_witness_3 6 rfl rfl)
theorem dX10_witness_79 : decode cX10_witness 79 = .ok (.invokevirtual 292, 3) := dk_182 1 36 (dk_at dksX10_witness_3 9 rfl rfl)
theorem dX10_witness_82 : decode cX10_witness 82 = .ok (.invokevirtual 246, 3) := dk_182 0 246 (dk_at dksX10_witness_3 12 rfl rfl)
theorem dX10_witness_85 : decode cX10_witness 85 = .ok (.invokevirtual 295, 3) := dk_182 1 39 (dk_at dksX10_witness_3 15 rfl rfl)
theorem dX10_witness_88 : decode cX10_witness 88 = .ok (.ior, 1) := dk_128 (dk_at dksX10_witness_3 18 rfl rfl)
theorem dX10_witness_89 : decode cX10_witness 89 = .ok (.putfield 290, 3) := dk_181 1 34 (dk_at dksX10_witness_3 19 rfl rfl)
theorem dX10_witness_92 : decode cX10_witness 92 = .ok (.aload_n 0, 1) := dk_42 (dk_at dksX10_witness_3 22 rfl rfl)
theorem dX10_witness_93 : decode cX10_witness 93 = .ok (.getfield 32, 3) := dk_180 0 32 (dk_at dksX10_witness_4 0 rfl rfl)
theorem dX10_witness_96 : decode cX10_witness 96 = .ok (.iconst 1, 1) := dk_4 (dk_at dksX10_witness_4 3 rfl rfl)
theorem dX10_witness_97 : decode cX10_witness 97 = .ok (.if_icmp .ne 12, 3) := dk_160 0 12 (dk_at dksX10_witness_4 4 rfl rfl)
theorem dX10_witness_100 : decode cX10_witness 100 = .ok (.aload_n 0, 1) := dk_42 (dk_at dksX10_witness_4 7 rfl rfl)
theorem dX10_witness_101 : decode cX10_witness 101 = .ok (.ldc 100, 2) := dk_18 100 (dk_at dksX10_witness_4 8 rfl rfl)
theorem dX10_witness_103 : decode cX10_witness 103 = .ok (.invokevirtual 72, 3) := dk_182 0 72 (dk_at dksX10_witness_4 10 rfl rfl)
theorem dX10_witness_106 : decode cX10_witness 106 = .ok (.ifCond .eq (-45), 3) := dk_153 255 211 (dk_at dksX10_witness_4 13 rfl rfl)
theorem dX10_witness_109 : decode cX10_witness 109 = .ok (.aload_n 0, 1) := dk_42 (dk_at dksX10_witness_4 16 rfl rfl)
theorem dX10_witness_110 : decode cX10_witness 110 = .ok (.ldc 100, 2) := dk_18 100 (dk_at dksX10_witness_4 17 rfl rfl)
theorem dX10_witness_112 : decode cX10_witness 112 = .ok (.invokevirtual 179, 3) := dk_182 0 179 (dk_at dksX10_witness_4 19 rfl rfl)
theorem dX10_witness_115 : decode cX10_witness 115 = .ok (.aload_n 0, 1) := dk_42 (dk_at dksX10_witness_4 22 rfl rfl)
theorem dX10_witness_116 : decode cX10_witness 116 = .ok (.aload 4, 2) := dk_25 4 (dk_at dksX10_witness_5 0 rfl rfl)
theorem dX10_witness_118 : decode cX10_witness 118 = .ok (.invokevirtual 298, 3) := dk_182 1 42 (dk_at dksX10_witness_5 2 rfl rfl)
theorem dX10_witness_121 : decode cX10_witness 121 = .ok (.aload_n 0, 1) := dk_42 (dk_at dksX10_witness_5 5 rfl rfl)
theorem dX10_witness_122 : decode cX10_witness 122 = .ok (.ldc 102, 2) := dk_18 102 (dk_at dksX10_witness_5 6 rfl rfl)
theorem dX10_witness_124 : decode cX10_witness 124 = .ok (.invokevirtual 72, 3) := dk_182 0 72 (dk_at dksX10_witness_5 8 rfl rfl)
theorem dX10_witness_127 : decode cX10_witness 127 = .ok (.ifCond .eq 46, 3) := dk_153 0 46 (dk_at dksX10_witness_5 11 rfl rfl)
theorem dX10_witness_130 : decode cX10_witness 130 = .ok (.aload_n 0, 1) := dk_42 (dk_at dksX10_witness_5 14 rfl rfl)
theorem dX10_witness_131 : decode cX10_witness 131 = .ok (.invokevirtual 19, 3) := dk_182 0 19 (dk_at dksX10_witness_5 15 rfl rfl)
theorem dX10_witness_134 : decode cX10_witness 134 = .ok (.aload 4, 2) := dk_25 4 (dk_at dksX10_witness_5 18 rfl rfl)
theorem dX10_witness_136 : decode cX10_witness 136 = .ok (.dup, 1) := dk_89 (dk_at dksX10_witness_5 20 rfl rfl)
theorem dX10_witness_137 : decode cX10_witness 137 = .ok (.getfield 302, 3) := dk_180 1 46 (dk_at dksX10_witness_5 21 rfl rfl)
theorem dX10_witness_140 : decode cX10_witness 140 = .ok (.aload_n 0, 1) := dk_42 (dk_at dksX10_witness_6 0 rfl rfl)
theorem dX10_witness_141 : decode cX10_witness 141 = .ok (.aload 4, 2) := dk_25 4 (dk_at dksX10_witness_6 1 rfl rfl)
theorem dX10_witness_143 : decode cX10_witness 143 = .ok (.getfield 302, 3) := dk_180 1 46 (dk_at dksX10_witness_6 3 rfl rfl)
theorem dX10_witness_146 : decode cX10_witness 146 = .ok (.aload_n 0, 1) := dk_42 (dk_at dksX10_witness_6 6 rfl rfl)
theorem dX10_witness_147 : decode cX10_witness 147 = .ok (.aload_n 1, 1) := dk_43 (dk_at dksX10_witness_6 7 rfl rfl)
theorem dX10_witness_148 : decode cX10_witness 148 = .ok (.aload_n 0, 1) := dk_42 (dk_at dksX10_witness_6 8 rfl rfl)
theorem dX10_witness_149 : decode cX10_witness 149 = .ok (.invokevirtual 143, 3) := dk_182 0 143 (dk_at dksX10_witness_6 9 rfl rfl)
theorem dX10_witness_152 : decode cX10_witness 152 = .ok (.invokevirtual 304, 3) := dk_182 1 48 (dk_at dksX10_witness_6 12 rfl rfl)
theorem dX10_witness_155 : decode cX10_witness 155 = .ok (.invokevirtual 246, 3) := dk_182 0 246 (dk_at dksX10_witness_6 15 rfl rfl)
theorem dX10_witness_158 : decode cX10_witness 158 = .ok (.invokevirtual 295, 3) := dk_182 1 39 (dk_at dksX10_witness_6 18 rfl rfl)
theorem dX10_witness_161 : decode cX10_witness 161 = .ok (.ior, 1) := dk_128 (dk_at dksX10_witness_6 21 rfl rfl)
theorem dX10_witness_162 : decode cX10_witness 162 = .ok (.putfield 302, 3) := dk_181 1 46 (dk_at dksX10_witness_7 0 rfl rfl)
theorem dX10_witness_165 : decode cX10_witness 165 = .ok (.aload_n 0, 1) := dk_42 (dk_at dksX10_witness_7 3 rfl rfl)
theorem dX10_witness_166 : decode cX10_witness 166 = .ok (.getfield 32, 3) := dk_180 0 32 (dk_at dksX10_witness_7 4 rfl rfl)
theorem dX10_witness_169 : decode cX10_witness 169 = .ok (.iconst 1, 1) := dk_4 (dk_at dksX10_witness_7 7 rfl rfl)
theorem dX10_witness_170 : decode cX10_witness 170 = .ok (.if_icmp .eq (-36), 3) := dk_159 255 220 (dk_at dksX10_witness_7 8 rfl rfl)
theorem dX10_witness_173 : decode cX10_witness 173 = .ok (.aload_n 1, 1) := dk_43 (dk_at dksX10_witness_7 11 rfl rfl)
theorem dX10_witness_174 : decode cX10_witness 174 = .ok (.getfield 307, 3) := dk_180 1 51 (dk_at dksX10_witness_7 12 rfl rfl)
theorem dX10_witness_177 : decode cX10_witness 177 = .ok (.aload_n 1, 1) := dk_43 (dk_at dksX10_witness_7 15 rfl rfl)
theorem dX10_witness_178 : decode cX10_witness 178 = .ok (.getfield 284, 3) := dk_180 1 28 (dk_at dksX10_witness_7 16 rfl rfl)
theorem dX10_witness_181 : decode cX10_witness 181 = .ok (.aload 4, 2) := dk_25 4 (dk_at dksX10_witness_7 19 rfl rfl)
theorem dX10_witness_183 : decode cX10_witness 183 = .ok (.aastore, 1) := dk_83 (dk_at dksX10_witness_7 21 rfl rfl)
theorem dX10_witness_184 : decode cX10_witness 184 = .ok (.aload_n 1, 1) := dk_43 (dk_at dksX10_witness_7 22 rfl rfl)
theorem dX10_witness_185 : decode cX10_witness 185 = .ok (.getfield 310, 3) := dk_180 1 54 (dk_at dksX10_witness_8 0 rfl rfl)
theorem dX10_witness_188 : decode cX10_witness 188 = .ok (.aload_n 1, 1) := dk_43 (dk_at dksX10_witness_8 3 rfl rfl)
theorem dX10_witness_189 : decode cX10_witness 189 = .ok (.getfield 284, 3) := dk_180 1 28 (dk_at dksX10_witness_8 4 rfl rfl)
theorem dX10_witness_192 : decode cX10_witness 192 = .ok (.lload_n 2, 1) := dk_32 (dk_at dksX10_witness_8 7 rfl rfl)
theorem dX10_witness_193 : decode cX10_witness 193 = .ok (.lastore, 1) := dk_80 (dk_at dksX10_witness_8 8 rfl rfl)
theorem dX10_witness_194 : decode cX10_witness 194 = .ok (.aload_n 1, 1) := dk_43 (dk_at dksX10_witness_8 9 rfl rfl)
theorem dX10_witness_195 : decode cX10_witness 195 = .ok (.dup, 1) := dk_89 (dk_at dksX10_witness_8 10 rfl rfl)
theorem dX10_witness_196 : decode cX10_witness 196 = .ok (.getfield 284, 3) := dk_180 1 28 (dk_at dksX10_witness_8 11 rfl rfl)
theorem dX10_witness_199 : decode cX10_witness 199 = .ok (.iconst 1, 1) := dk_4 (dk_at dksX10_witness_8 14 rfl rfl)
theorem dX10_witness_200 : decode cX10_witness 200 = .ok (.iadd, 1) := dk_96 (dk_at dksX10_witness_8 15 rfl rfl)
theorem dX10_witness_201 : decode cX10_witness 201 = .ok (.putfield 284, 3) := dk_181 1 28 (dk_at dksX10_witness_8 16 rfl rfl)
theorem dX10_witness_204 : decode cX10_witness 204 = .ok (.return_, 1) := dk_177 (dk_at dksX10_witness_8 19 rfl rfl)
abbrev cX10_fresh : ByteArray := prog_8_method_28_code
def yX10_fresh : MethodName := ⟨RX10, "fresh", "(II)I"⟩
def dkwX10_fresh_1 : List UInt8 := [191, 42, 182, 0, 19, 4, 28, 120, 172]
abbrev dktX10_fresh_1 : List UInt8 := dkwX10_fresh_1 ++ []
def dkwX10_fresh_0 : List UInt8 := [27, 28, 122, 4, 126, 4, 160, 0, 19, 42, 180, 0, 3, 180, 0, 55, 8, 42, 180, 0, 29, 182, 0, 59]
abbrev dktX10_fresh_0 : List UInt8 := dkwX10_fresh_0 ++ dktX10_fresh_1
theorem dksX10_fresh_0 : cX10_fresh.data.toList.drop 0 = dktX10_fresh_0 := by decide +kernel
theorem dksX10_fresh_1 : cX10_fresh.data.toList.drop 24 = dktX10_fresh_1 := dk_seg dksX10_fresh_0 24 rfl rfl
theorem dX10_fresh_0 : decode cX10_fresh 0 = .ok (.iload_n 1, 1) := dk_27 (dk_at dksX10_fresh_0 0 rfl rfl)
theorem dX10_fresh_1 : decode cX10_fresh 1 = .ok (.iload_n 2, 1) := dk_28 (dk_at dksX10_fresh_0 1 rfl rfl)
theorem dX10_fresh_2 : decode cX10_fresh 2 = .ok (.ishr, 1) := dk_122 (dk_at dksX10_fresh_0 2 rfl rfl)
theorem dX10_fresh_3 : decode cX10_fresh 3 = .ok (.iconst 1, 1) := dk_4 (dk_at dksX10_fresh_0 3 rfl rfl)
theorem dX10_fresh_4 : decode cX10_fresh 4 = .ok (.iand, 1) := dk_126 (dk_at dksX10_fresh_0 4 rfl rfl)
theorem dX10_fresh_5 : decode cX10_fresh 5 = .ok (.iconst 1, 1) := dk_4 (dk_at dksX10_fresh_0 5 rfl rfl)
theorem dX10_fresh_6 : decode cX10_fresh 6 = .ok (.if_icmp .ne 19, 3) := dk_160 0 19 (dk_at dksX10_fresh_0 6 rfl rfl)
theorem dX10_fresh_9 : decode cX10_fresh 9 = .ok (.aload_n 0, 1) := dk_42 (dk_at dksX10_fresh_0 9 rfl rfl)
theorem dX10_fresh_10 : decode cX10_fresh 10 = .ok (.getfield 3, 3) := dk_180 0 3 (dk_at dksX10_fresh_0 10 rfl rfl)
theorem dX10_fresh_13 : decode cX10_fresh 13 = .ok (.getfield 55, 3) := dk_180 0 55 (dk_at dksX10_fresh_0 13 rfl rfl)
theorem dX10_fresh_16 : decode cX10_fresh 16 = .ok (.iconst 5, 1) := dk_8 (dk_at dksX10_fresh_0 16 rfl rfl)
theorem dX10_fresh_17 : decode cX10_fresh 17 = .ok (.aload_n 0, 1) := dk_42 (dk_at dksX10_fresh_0 17 rfl rfl)
theorem dX10_fresh_18 : decode cX10_fresh 18 = .ok (.getfield 29, 3) := dk_180 0 29 (dk_at dksX10_fresh_0 18 rfl rfl)
theorem dX10_fresh_21 : decode cX10_fresh 21 = .ok (.invokevirtual 59, 3) := dk_182 0 59 (dk_at dksX10_fresh_0 21 rfl rfl)
theorem dX10_fresh_24 : decode cX10_fresh 24 = .ok (.athrow, 1) := dk_191 (dk_at dksX10_fresh_1 0 rfl rfl)
theorem dX10_fresh_25 : decode cX10_fresh 25 = .ok (.aload_n 0, 1) := dk_42 (dk_at dksX10_fresh_1 1 rfl rfl)
theorem dX10_fresh_26 : decode cX10_fresh 26 = .ok (.invokevirtual 19, 3) := dk_182 0 19 (dk_at dksX10_fresh_1 2 rfl rfl)
theorem dX10_fresh_29 : decode cX10_fresh 29 = .ok (.iconst 1, 1) := dk_4 (dk_at dksX10_fresh_1 5 rfl rfl)
theorem dX10_fresh_30 : decode cX10_fresh 30 = .ok (.iload_n 2, 1) := dk_28 (dk_at dksX10_fresh_1 6 rfl rfl)
theorem dX10_fresh_31 : decode cX10_fresh 31 = .ok (.ishl, 1) := dk_120 (dk_at dksX10_fresh_1 7 rfl rfl)
theorem dX10_fresh_32 : decode cX10_fresh 32 = .ok (.ireturn, 1) := dk_172 (dk_at dksX10_fresh_1 8 rfl rfl)
abbrev cX10_kinds : ByteArray := prog_8_method_29_code
def yX10_kinds : MethodName := ⟨RX10, "kinds", "(LAskingCourt$Witness;)V"⟩
def dkwX10_kinds_4 : List UInt8 := [28, 16, 16, 159, 0, 20, 42, 180, 0, 3, 180, 0, 55, 16, 8, 42, 180, 0, 29, 182, 0, 59, 191, 177]
abbrev dktX10_kinds_4 : List UInt8 := dkwX10_kinds_4 ++ []
def dkwX10_kinds_3 : List UInt8 := [182, 0, 115, 156, 255, 187, 42, 16, 59, 182, 0, 64, 154, 0, 12, 42, 18, 102, 182, 0, 72, 153, 0, 26]
abbrev dktX10_kinds_3 : List UInt8 := dkwX10_kinds_3 ++ dktX10_kinds_4
def dkwX10_kinds_2 : List UInt8 := [180, 1, 57, 29, 42, 4, 16, 16, 182, 0, 206, 79, 28, 43, 180, 1, 57, 29, 46, 96, 61, 42]
abbrev dktX10_kinds_2 : List UInt8 := dkwX10_kinds_2 ++ dktX10_kinds_3
def dkwX10_kinds_1 : List UInt8 := [158, 0, 19, 42, 180, 0, 3, 180, 0, 55, 8, 42, 180, 0, 29, 182, 0, 59, 191, 42, 182, 0, 19, 43]
abbrev dktX10_kinds_1 : List UInt8 := dkwX10_kinds_1 ++ dktX10_kinds_2
def dkwX10_kinds_0 : List UInt8 := [3, 61, 42, 182, 0, 115, 62, 29, 156, 0, 8, 42, 182, 0, 68, 191, 43, 180, 1, 57, 29, 46]
abbrev dktX10_kinds_0 : List UInt8 := dkwX10_kinds_0 ++ dktX10_kinds_1
theorem dksX10_kinds_0 : cX10_kinds.data.toList.drop 0 = dktX10_kinds_0 := by decide +kernel
theorem dksX10_kinds_1 : cX10_kinds.data.toList.drop 22 = dktX10_kinds_1 := dk_seg dksX10_kinds_0 22 rfl rfl
theorem dksX10_kinds_2 : cX10_kinds.data.toList.drop 46 = dktX10_kinds_2 := dk_seg dksX10_kinds_1 24 rfl rfl
theorem dksX10_kinds_3 : cX10_kinds.data.toList.drop 68 = dktX10_kinds_3 := dk_seg dksX10_kinds_2 22 rfl rfl
theorem dksX10_kinds_4 : cX10_kinds.data.toList.drop 92 = dktX10_kinds_4 := dk_seg dksX10_kinds_3 24 rfl rfl
theorem dX10_kinds_0 : decode cX10_kinds 0 = .ok (.iconst 0, 1) := dk_3 (dk_at dksX10_kinds_0 0 rfl rfl)
theorem dX10_kinds_1 : decode cX10_kinds 1 = .ok (.istore_n 2, 1) := dk_61 (dk_at dksX10_kinds_0 1 rfl rfl)
theorem dX10_kinds_2 : decode cX10_kinds 2 = .ok (.aload_n 0, 1) := dk_42 (dk_at dksX10_kinds_0 2 rfl rfl)
theorem dX10_kinds_3 : decode cX10_kinds 3 = .ok (.invokevirtual 115, 3) := dk_182 0 115 (dk_at dksX10_kinds_0 3 rfl rfl)
theorem dX10_kinds_6 : decode cX10_kinds 6 = .ok (.istore_n 3, 1) := dk_62 (dk_at dksX10_kinds_0 6 rfl rfl)
theorem dX10_kinds_7 : decode cX10_kinds 7 = .ok (.iload_n 3, 1) := dk_29 (dk_at dksX10_kinds_0 7 rfl rfl)
theorem dX10_kinds_8 : decode cX10_kinds 8 = .ok (.ifCond .ge 8, 3) := dk_156 0 8 (dk_at dksX10_kinds_0 8 rfl rfl)
theorem dX10_kinds_11 : decode cX10_kinds 11 = .ok (.aload_n 0, 1) := dk_42 (dk_at dksX10_kinds_0 11 rfl rfl)
theorem dX10_kinds_12 : decode cX10_kinds 12 = .ok (.invokevirtual 68, 3) := dk_182 0 68 (dk_at dksX10_kinds_0 12 rfl rfl)
theorem dX10_kinds_15 : decode cX10_kinds 15 = .ok (.athrow, 1) := dk_191 (dk_at dksX10_kinds_0 15 rfl rfl)
theorem dX10_kinds_16 : decode cX10_kinds 16 = .ok (.aload_n 1, 1) := dk_43 (dk_at dksX10_kinds_0 16 rfl rfl)
theorem dX10_kinds_17 : decode cX10_kinds 17 = .ok (.getfield 313, 3) := dk_180 1 57 (dk_at dksX10_kinds_0 17 rfl rfl)
theorem dX10_kinds_20 : decode cX10_kinds 20 = .ok (.iload_n 3, 1) := dk_29 (dk_at dksX10_kinds_0 20 rfl rfl)
theorem dX10_kinds_21 : decode cX10_kinds 21 = .ok (.iaload, 1) := dk_46 (dk_at dksX10_kinds_0 21 rfl rfl)
theorem dX10_kinds_22 : decode cX10_kinds 22 = .ok (.ifCond .le 19, 3) := dk_158 0 19 (dk_at dksX10_kinds_1 0 rfl rfl)
theorem dX10_kinds_25 : decode cX10_kinds 25 = .ok (.aload_n 0, 1) := dk_42 (dk_at dksX10_kinds_1 3 rfl rfl)
theorem dX10_kinds_26 : decode cX10_kinds 26 = .ok (.getfield 3, 3) := dk_180 0 3 (dk_at dksX10_kinds_1 4 rfl rfl)
theorem dX10_kinds_29 : decode cX10_kinds 29 = .ok (.getfield 55, 3) := dk_180 0 55 (dk_at dksX10_kinds_1 7 rfl rfl)
theorem dX10_kinds_32 : decode cX10_kinds 32 = .ok (.iconst 5, 1) := dk_8 (dk_at dksX10_kinds_1 10 rfl rfl)
theorem dX10_kinds_33 : decode cX10_kinds 33 = .ok (.aload_n 0, 1) := dk_42 (dk_at dksX10_kinds_1 11 rfl rfl)
theorem dX10_kinds_34 : decode cX10_kinds 34 = .ok (.getfield 29, 3) := dk_180 0 29 (dk_at dksX10_kinds_1 12 rfl rfl)
theorem dX10_kinds_37 : decode cX10_kinds 37 = .ok (.invokevirtual 59, 3) := dk_182 0 59 (dk_at dksX10_kinds_1 15 rfl rfl)
theorem dX10_kinds_40 : decode cX10_kinds 40 = .ok (.athrow, 1) := dk_191 (dk_at dksX10_kinds_1 18 rfl rfl)
theorem dX10_kinds_41 : decode cX10_kinds 41 = .ok (.aload_n 0, 1) := dk_42 (dk_at dksX10_kinds_1 19 rfl rfl)
theorem dX10_kinds_42 : decode cX10_kinds 42 = .ok (.invokevirtual 19, 3) := dk_182 0 19 (dk_at dksX10_kinds_1 20 rfl rfl)
theorem dX10_kinds_45 : decode cX10_kinds 45 = .ok (.aload_n 1, 1) := dk_43 (dk_at dksX10_kinds_1 23 rfl rfl)
theorem dX10_kinds_46 : decode cX10_kinds 46 = .ok (.getfield 313, 3) := dk_180 1 57 (dk_at dksX10_kinds_2 0 rfl rfl)
theorem dX10_kinds_49 : decode cX10_kinds 49 = .ok (.iload_n 3, 1) := dk_29 (dk_at dksX10_kinds_2 3 rfl rfl)
theorem dX10_kinds_50 : decode cX10_kinds 50 = .ok (.aload_n 0, 1) := dk_42 (dk_at dksX10_kinds_2 4 rfl rfl)
theorem dX10_kinds_51 : decode cX10_kinds 51 = .ok (.iconst 1, 1) := dk_4 (dk_at dksX10_kinds_2 5 rfl rfl)
theorem dX10_kinds_52 : decode cX10_kinds 52 = .ok (.bipush 16, 2) := dk_16 16 (dk_at dksX10_kinds_2 6 rfl rfl)
theorem dX10_kinds_54 : decode cX10_kinds 54 = .ok (.invokevirtual 206, 3) := dk_182 0 206 (dk_at dksX10_kinds_2 8 rfl rfl)
theorem dX10_kinds_57 : decode cX10_kinds 57 = .ok (.iastore, 1) := dk_79 (dk_at dksX10_kinds_2 11 rfl rfl)
theorem dX10_kinds_58 : decode cX10_kinds 58 = .ok (.iload_n 2, 1) := dk_28 (dk_at dksX10_kinds_2 12 rfl rfl)
theorem dX10_kinds_59 : decode cX10_kinds 59 = .ok (.aload_n 1, 1) := dk_43 (dk_at dksX10_kinds_2 13 rfl rfl)
theorem dX10_kinds_60 : decode cX10_kinds 60 = .ok (.getfield 313, 3) := dk_180 1 57 (dk_at dksX10_kinds_2 14 rfl rfl)
theorem dX10_kinds_63 : decode cX10_kinds 63 = .ok (.iload_n 3, 1) := dk_29 (dk_at dksX10_kinds_2 17 rfl rfl)
theorem dX10_kinds_64 : decode cX10_kinds 64 = .ok (.iaload, 1) := dk_46 (dk_at dksX10_kinds_2 18 rfl rfl)
theorem dX10_kinds_65 : decode cX10_kinds 65 = .ok (.iadd, 1) := dk_96 (dk_at dksX10_kinds_2 19 rfl rfl)
theorem dX10_kinds_66 : decode cX10_kinds 66 = .ok (.istore_n 2, 1) := dk_61 (dk_at dksX10_kinds_2 20 rfl rfl)
theorem dX10_kinds_67 : decode cX10_kinds 67 = .ok (.aload_n 0, 1) := dk_42 (dk_at dksX10_kinds_2 21 rfl rfl)
theorem dX10_kinds_68 : decode cX10_kinds 68 = .ok (.invokevirtual 115, 3) := dk_182 0 115 (dk_at dksX10_kinds_3 0 rfl rfl)
theorem dX10_kinds_71 : decode cX10_kinds 71 = .ok (.ifCond .ge (-69), 3) := dk_156 255 187 (dk_at dksX10_kinds_3 3 rfl rfl)
theorem dX10_kinds_74 : decode cX10_kinds 74 = .ok (.aload_n 0, 1) := dk_42 (dk_at dksX10_kinds_3 6 rfl rfl)
theorem dX10_kinds_75 : decode cX10_kinds 75 = .ok (.bipush 59, 2) := dk_16 59 (dk_at dksX10_kinds_3 7 rfl rfl)
theorem dX10_kinds_77 : decode cX10_kinds 77 = .ok (.invokevirtual 64, 3) := dk_182 0 64 (dk_at dksX10_kinds_3 9 rfl rfl)
theorem dX10_kinds_80 : decode cX10_kinds 80 = .ok (.ifCond .ne 12, 3) := dk_154 0 12 (dk_at dksX10_kinds_3 12 rfl rfl)
theorem dX10_kinds_83 : decode cX10_kinds 83 = .ok (.aload_n 0, 1) := dk_42 (dk_at dksX10_kinds_3 15 rfl rfl)
theorem dX10_kinds_84 : decode cX10_kinds 84 = .ok (.ldc 102, 2) := dk_18 102 (dk_at dksX10_kinds_3 16 rfl rfl)
theorem dX10_kinds_86 : decode cX10_kinds 86 = .ok (.invokevirtual 72, 3) := dk_182 0 72 (dk_at dksX10_kinds_3 18 rfl rfl)
theorem dX10_kinds_89 : decode cX10_kinds 89 = .ok (.ifCond .eq 26, 3) := dk_153 0 26 (dk_at dksX10_kinds_3 21 rfl rfl)
theorem dX10_kinds_92 : decode cX10_kinds 92 = .ok (.iload_n 2, 1) := dk_28 (dk_at dksX10_kinds_4 0 rfl rfl)
theorem dX10_kinds_93 : decode cX10_kinds 93 = .ok (.bipush 16, 2) := dk_16 16 (dk_at dksX10_kinds_4 1 rfl rfl)
theorem dX10_kinds_95 : decode cX10_kinds 95 = .ok (.if_icmp .eq 20, 3) := dk_159 0 20 (dk_at dksX10_kinds_4 3 rfl rfl)
theorem dX10_kinds_98 : decode cX10_kinds 98 = .ok (.aload_n 0, 1) := dk_42 (dk_at dksX10_kinds_4 6 rfl rfl)
theorem dX10_kinds_99 : decode cX10_kinds 99 = .ok (.getfield 3, 3) := dk_180 0 3 (dk_at dksX10_kinds_4 7 rfl rfl)
theorem dX10_kinds_102 : decode cX10_kinds 102 = .ok (.getfield 55, 3) := dk_180 0 55 (dk_at dksX10_kinds_4 10 rfl rfl)
theorem dX10_kinds_105 : decode cX10_kinds 105 = .ok (.bipush 8, 2) := dk_16 8 (dk_at dksX10_kinds_4 13 rfl rfl)
theorem dX10_kinds_107 : decode cX10_kinds 107 = .ok (.aload_n 0, 1) := dk_42 (dk_at dksX10_kinds_4 15 rfl rfl)
theorem dX10_kinds_108 : decode cX10_kinds 108 = .ok (.getfield 29, 3) := dk_180 0 29 (dk_at dksX10_kinds_4 16 rfl rfl)
theorem dX10_kinds_111 : decode cX10_kinds 111 = .ok (.invokevirtual 59, 3) := dk_182 0 59 (dk_at dksX10_kinds_4 19 rfl rfl)
theorem dX10_kinds_114 : decode cX10_kinds 114 = .ok (.athrow, 1) := dk_191 (dk_at dksX10_kinds_4 22 rfl rfl)
theorem dX10_kinds_115 : decode cX10_kinds 115 = .ok (.return_, 1) := dk_177 (dk_at dksX10_kinds_4 23 rfl rfl)
abbrev cX10_plan : ByteArray := prog_8_method_30_code
def yX10_plan : MethodName := ⟨RX10, "plan", "(LAskingCourt$Case;LAskingCourt$Block;)V"⟩
def dkwX10_plan_0 : List UInt8 := [42, 180, 0, 32, 153, 0, 13, 42, 43, 44, 3, 182, 1, 59, 167, 255, 242, 177]
abbrev dktX10_plan_0 : List UInt8 := dkwX10_plan_0 ++ []
theorem dksX10_plan_0 : cX10_plan.data.toList.drop 0 = dktX10_plan_0 := by decide +kernel
theorem dX10_plan_0 : decode cX10_plan 0 = .ok (.aload_n 0, 1) := dk_42 (dk_at dksX10_plan_0 0 rfl rfl)
theorem dX10_plan_1 : decode cX10_plan 1 = .ok (.getfield 32, 3) := dk_180 0 32 (dk_at dksX10_plan_0 1 rfl rfl)
theorem dX10_plan_4 : decode cX10_plan 4 = .ok (.ifCond .eq 13, 3) := dk_153 0 13 (dk_at dksX10_plan_0 4 rfl rfl)
theorem dX10_plan_7 : decode cX10_plan 7 = .ok (.aload_n 0, 1) := dk_42 (dk_at dksX10_plan_0 7 rfl rfl)
theorem dX10_plan_8 : decode cX10_plan 8 = .ok (.aload_n 1, 1) := dk_43 (dk_at dksX10_plan_0 8 rfl rfl)
theorem dX10_plan_9 : decode cX10_plan 9 = .ok (.aload_n 2, 1) := dk_44 (dk_at dksX10_plan_0 9 rfl rfl)
theorem dX10_plan_10 : decode cX10_plan 10 = .ok (.iconst 0, 1) := dk_3 (dk_at dksX10_plan_0 10 rfl rfl)
theorem dX10_plan_11 : decode cX10_plan 11 = .ok (.invokevirtual 315, 3) := dk_182 1 59 (dk_at dksX10_plan_0 11 rfl rfl)
theorem dX10_plan_14 : decode cX10_plan 14 = .ok (.goto (-14), 3) := dk_167 255 242 (dk_at dksX10_plan_0 14 rfl rfl)
theorem dX10_plan_17 : decode cX10_plan 17 = .ok (.return_, 1) := dk_177 (dk_at dksX10_plan_0 17 rfl rfl)
abbrev cX10_step : ByteArray := prog_8_method_34_code
def yX10_step : MethodName := ⟨RX10, "step", "(LAskingCourt$Case;LAskingCourt$Block;I)V"⟩
def dkwX10_step_4 : List UInt8 := [167, 0, 8, 42, 43, 182, 1, 75, 58, 5, 42, 16, 59, 182, 0, 162, 44, 25, 5, 182, 1, 79, 177]
abbrev dktX10_step_4 : List UInt8 := dkwX10_step_4 ++ []
def dkwX10_step_3 : List UInt8 := [191, 42, 89, 180, 1, 69, 4, 96, 181, 1, 69, 21, 4, 153, 0, 12, 42, 43, 29, 182, 1, 72]
abbrev dktX10_step_3 : List UInt8 := dkwX10_step_3 ++ dktX10_step_4
def dkwX10_step_2 : List UInt8 := [153, 0, 25, 29, 6, 160, 0, 20, 42, 180, 0, 3, 180, 0, 55, 16, 7, 42, 180, 0, 29, 182, 0, 59]
abbrev dktX10_step_2 : List UInt8 := dkwX10_step_2 ++ dktX10_step_3
def dkwX10_step_1 : List UInt8 := [16, 30, 160, 0, 20, 42, 180, 0, 3, 180, 0, 55, 16, 6, 42, 180, 0, 29, 182, 0, 59, 191, 21, 4]
abbrev dktX10_step_1 : List UInt8 := dkwX10_step_1 ++ dktX10_step_2
def dkwX10_step_0 : List UInt8 := [42, 18, 120, 182, 0, 72, 54, 4, 42, 182, 1, 66, 154, 0, 8, 42, 182, 0, 68, 191, 42, 180, 1, 69]
abbrev dktX10_step_0 : List UInt8 := dkwX10_step_0 ++ dktX10_step_1
theorem dksX10_step_0 : cX10_step.data.toList.drop 0 = dktX10_step_0 := by decide +kernel
theorem dksX10_step_1 : cX10_step.data.toList.drop 24 = dktX10_step_1 := dk_seg dksX10_step_0 24 rfl rfl
theorem dksX10_step_2 : cX10_step.data.toList.drop 48 = dktX10_step_2 := dk_seg dksX10_step_1 24 rfl rfl
theorem dksX10_step_3 : cX10_step.data.toList.drop 72 = dktX10_step_3 := dk_seg dksX10_step_2 24 rfl rfl
theorem dksX10_step_4 : cX10_step.data.toList.drop 94 = dktX10_step_4 := dk_seg dksX10_step_3 22 rfl rfl
theorem dX10_step_0 : decode cX10_step 0 = .ok (.aload_n 0, 1) := dk_42 (dk_at dksX10_step_0 0 rfl rfl)
theorem dX10_step_1 : decode cX10_step 1 = .ok (.ldc 120, 2) := dk_18 120 (dk_at dksX10_step_0 1 rfl rfl)
theorem dX10_step_3 : decode cX10_step 3 = .ok (.invokevirtual 72, 3) := dk_182 0 72 (dk_at dksX10_step_0 3 rfl rfl)
theorem dX10_step_6 : decode cX10_step 6 = .ok (.istore 4, 2) := dk_54 4 (dk_at dksX10_step_0 6 rfl rfl)
theorem dX10_step_8 : decode cX10_step 8 = .ok (.aload_n 0, 1) := dk_42 (dk_at dksX10_step_0 8 rfl rfl)
theorem dX10_step_9 : decode cX10_step 9 = .ok (.invokevirtual 322, 3) := dk_182 1 66 (dk_at dksX10_step_0 9 rfl rfl)
theorem dX10_step_12 : decode cX10_step 12 = .ok (.ifCond .ne 8, 3) := dk_154 0 8 (dk_at dksX10_step_0 12 rfl rfl)
theorem dX10_step_15 : decode cX10_step 15 = .ok (.aload_n 0, 1) := dk_42 (dk_at dksX10_step_0 15 rfl rfl)
theorem dX10_step_16 : decode cX10_step 16 = .ok (.invokevirtual 68, 3) := dk_182 0 68 (dk_at dksX10_step_0 16 rfl rfl)
theorem dX10_step_19 : decode cX10_step 19 = .ok (.athrow, 1) := dk_191 (dk_at dksX10_step_0 19 rfl rfl)
theorem dX10_step_20 : decode cX10_step 20 = .ok (.aload_n 0, 1) := dk_42 (dk_at dksX10_step_0 20 rfl rfl)
theorem dX10_step_21 : decode cX10_step 21 = .ok (.getfield 325, 3) := dk_180 1 69 (dk_at dksX10_step_0 21 rfl rfl)
theorem dX10_step_24 : decode cX10_step 24 = .ok (.bipush 30, 2) := dk_16 30 (dk_at dksX10_step_1 0 rfl rfl)
theorem dX10_step_26 : decode cX10_step 26 = .ok (.if_icmp .ne 20, 3) := dk_160 0 20 (dk_at dksX10_step_1 2 rfl rfl)
theorem dX10_step_29 : decode cX10_step 29 = .ok (.aload_n 0, 1) := dk_42 (dk_at dksX10_step_1 5 rfl rfl)
theorem dX10_step_30 : decode cX10_step 30 = .ok (.getfield 3, 3) := dk_180 0 3 (dk_at dksX10_step_1 6 rfl rfl)
theorem dX10_step_33 : decode cX10_step 33 = .ok (.getfield 55, 3) := dk_180 0 55 (dk_at dksX10_step_1 9 rfl rfl)
theorem dX10_step_36 : decode cX10_step 36 = .ok (.bipush 6, 2) := dk_16 6 (dk_at dksX10_step_1 12 rfl rfl)
theorem dX10_step_38 : decode cX10_step 38 = .ok (.aload_n 0, 1) := dk_42 (dk_at dksX10_step_1 14 rfl rfl)
theorem dX10_step_39 : decode cX10_step 39 = .ok (.getfield 29, 3) := dk_180 0 29 (dk_at dksX10_step_1 15 rfl rfl)
theorem dX10_step_42 : decode cX10_step 42 = .ok (.invokevirtual 59, 3) := dk_182 0 59 (dk_at dksX10_step_1 18 rfl rfl)
theorem dX10_step_45 : decode cX10_step 45 = .ok (.athrow, 1) := dk_191 (dk_at dksX10_step_1 21 rfl rfl)
theorem dX10_step_46 : decode cX10_step 46 = .ok (.iload 4, 2) := dk_21 4 (dk_at dksX10_step_1 22 rfl rfl)
theorem dX10_step_48 : decode cX10_step 48 = .ok (.ifCond .eq 25, 3) := dk_153 0 25 (dk_at dksX10_step_2 0 rfl rfl)
theorem dX10_step_51 : decode cX10_step 51 = .ok (.iload_n 3, 1) := dk_29 (dk_at dksX10_step_2 3 rfl rfl)
theorem dX10_step_52 : decode cX10_step 52 = .ok (.iconst 3, 1) := dk_6 (dk_at dksX10_step_2 4 rfl rfl)
theorem dX10_step_53 : decode cX10_step 53 = .ok (.if_icmp .ne 20, 3) := dk_160 0 20 (dk_at dksX10_step_2 5 rfl rfl)
theorem dX10_step_56 : decode cX10_step 56 = .ok (.aload_n 0, 1) := dk_42 (dk_at dksX10_step_2 8 rfl rfl)
theorem dX10_step_57 : decode cX10_step 57 = .ok (.getfield 3, 3) := dk_180 0 3 (dk_at dksX10_step_2 9 rfl rfl)
theorem dX10_step_60 : decode cX10_step 60 = .ok (.getfield 55, 3) := dk_180 0 55 (dk_at dksX10_step_2 12 rfl rfl)
theorem dX10_step_63 : decode cX10_step 63 = .ok (.bipush 7, 2) := dk_16 7 (dk_at dksX10_step_2 15 rfl rfl)
theorem dX10_step_65 : decode cX10_step 65 = .ok (.aload_n 0, 1) := dk_42 (dk_at dksX10_step_2 17 rfl rfl)
theorem dX10_step_66 : decode cX10_step 66 = .ok (.getfield 29, 3) := dk_180 0 29 (dk_at dksX10_step_2 18 rfl rfl)
theorem dX10_step_69 : decode cX10_step 69 = .ok (.invokevirtual 59, 3) := dk_182 0 59 (dk_at dksX10_step_2 21 rfl rfl)
theorem dX10_step_72 : decode cX10_step 72 = .ok (.athrow, 1) := dk_191 (dk_at dksX10_step_3 0 rfl rfl)
theorem dX10_step_73 : decode cX10_step 73 = .ok (.aload_n 0, 1) := dk_42 (dk_at dksX10_step_3 1 rfl rfl)
theorem dX10_step_74 : decode cX10_step 74 = .ok (.dup, 1) := dk_89 (dk_at dksX10_step_3 2 rfl rfl)
theorem dX10_step_75 : decode cX10_step 75 = .ok (.getfield 325, 3) := dk_180 1 69 (dk_at dksX10_step_3 3 rfl rfl)
theorem dX10_step_78 : decode cX10_step 78 = .ok (.iconst 1, 1) := dk_4 (dk_at dksX10_step_3 6 rfl rfl)
theorem dX10_step_79 : decode cX10_step 79 = .ok (.iadd, 1) := dk_96 (dk_at dksX10_step_3 7 rfl rfl)
theorem dX10_step_80 : decode cX10_step 80 = .ok (.putfield 325, 3) := dk_181 1 69 (dk_at dksX10_step_3 8 rfl rfl)
theorem dX10_step_83 : decode cX10_step 83 = .ok (.iload 4, 2) := dk_21 4 (dk_at dksX10_step_3 11 rfl rfl)
theorem dX10_step_85 : decode cX10_step 85 = .ok (.ifCond .eq 12, 3) := dk_153 0 12 (dk_at dksX10_step_3 13 rfl rfl)
theorem dX10_step_88 : decode cX10_step 88 = .ok (.aload_n 0, 1) := dk_42 (dk_at dksX10_step_3 16 rfl rfl)
theorem dX10_step_89 : decode cX10_step 89 = .ok (.aload_n 1, 1) := dk_43 (dk_at dksX10_step_3 17 rfl rfl)
theorem dX10_step_90 : decode cX10_step 90 = .ok (.iload_n 3, 1) := dk_29 (dk_at dksX10_step_3 18 rfl rfl)
theorem dX10_step_91 : decode cX10_step 91 = .ok (.invokevirtual 328, 3) := dk_182 1 72 (dk_at dksX10_step_3 19 rfl rfl)
theorem dX10_step_94 : decode cX10_step 94 = .ok (.goto 8, 3) := dk_167 0 8 (dk_at dksX10_step_4 0 rfl rfl)
theorem dX10_step_97 : decode cX10_step 97 = .ok (.aload_n 0, 1) := dk_42 (dk_at dksX10_step_4 3 rfl rfl)
theorem dX10_step_98 : decode cX10_step 98 = .ok (.aload_n 1, 1) := dk_43 (dk_at dksX10_step_4 4 rfl rfl)
theorem dX10_step_99 : decode cX10_step 99 = .ok (.invokevirtual 331, 3) := dk_182 1 75 (dk_at dksX10_step_4 5 rfl rfl)
theorem dX10_step_102 : decode cX10_step 102 = .ok (.astore 5, 2) := dk_58 5 (dk_at dksX10_step_4 8 rfl rfl)
theorem dX10_step_104 : decode cX10_step 104 = .ok (.aload_n 0, 1) := dk_42 (dk_at dksX10_step_4 10 rfl rfl)
theorem dX10_step_105 : decode cX10_step 105 = .ok (.bipush 59, 2) := dk_16 59 (dk_at dksX10_step_4 11 rfl rfl)
theorem dX10_step_107 : decode cX10_step 107 = .ok (.invokevirtual 162, 3) := dk_182 0 162 (dk_at dksX10_step_4 13 rfl rfl)
theorem dX10_step_110 : decode cX10_step 110 = .ok (.aload_n 2, 1) := dk_44 (dk_at dksX10_step_4 16 rfl rfl)
theorem dX10_step_111 : decode cX10_step 111 = .ok (.aload 5, 2) := dk_25 5 (dk_at dksX10_step_4 17 rfl rfl)
theorem dX10_step_113 : decode cX10_step 113 = .ok (.invokevirtual 335, 3) := dk_182 1 79 (dk_at dksX10_step_4 19 rfl rfl)
theorem dX10_step_116 : decode cX10_step 116 = .ok (.return_, 1) := dk_177 (dk_at dksX10_step_4 22 rfl rfl)
abbrev cX10_isStep : ByteArray := prog_8_method_33_code
def yX10_isStep : MethodName := ⟨RX10, "isStep", "()Z"⟩
def dkwX10_isStep_2 : List UInt8 := [167, 0, 4, 3, 172]
abbrev dktX10_isStep_2 : List UInt8 := dkwX10_isStep_2 ++ []
def dkwX10_isStep_1 : List UInt8 := [154, 0, 21, 42, 18, 118, 182, 0, 72, 154, 0, 12, 42, 18, 120, 182, 0, 72, 153, 0, 7, 4]
abbrev dktX10_isStep_1 : List UInt8 := dkwX10_isStep_1 ++ dktX10_isStep_2
def dkwX10_isStep_0 : List UInt8 := [42, 18, 110, 182, 0, 72, 154, 0, 39, 42, 18, 112, 182, 0, 72, 154, 0, 30, 42, 18, 114, 182, 0, 72]
abbrev dktX10_isStep_0 : List UInt8 := dkwX10_isStep_0 ++ dktX10_isStep_1
theorem dksX10_isStep_0 : cX10_isStep.data.toList.drop 0 = dktX10_isStep_0 := by decide +kernel
theorem dksX10_isStep_1 : cX10_isStep.data.toList.drop 24 = dktX10_isStep_1 := dk_seg dksX10_isStep_0 24 rfl rfl
theorem dksX10_isStep_2 : cX10_isStep.data.toList.drop 46 = dktX10_isStep_2 := dk_seg dksX10_isStep_1 22 rfl rfl
theorem dX10_isStep_0 : decode cX10_isStep 0 = .ok (.aload_n 0, 1) := dk_42 (dk_at dksX10_isStep_0 0 rfl rfl)
theorem dX10_isStep_1 : decode cX10_isStep 1 = .ok (.ldc 110, 2) := dk_18 110 (dk_at dksX10_isStep_0 1 rfl rfl)
theorem dX10_isStep_3 : decode cX10_isStep 3 = .ok (.invokevirtual 72, 3) := dk_182 0 72 (dk_at dksX10_isStep_0 3 rfl rfl)
theorem dX10_isStep_6 : decode cX10_isStep 6 = .ok (.ifCond .ne 39, 3) := dk_154 0 39 (dk_at dksX10_isStep_0 6 rfl rfl)
theorem dX10_isStep_9 : decode cX10_isStep 9 = .ok (.aload_n 0, 1) := dk_42 (dk_at dksX10_isStep_0 9 rfl rfl)
theorem dX10_isStep_10 : decode cX10_isStep 10 = .ok (.ldc 112, 2) := dk_18 112 (dk_at dksX10_isStep_0 10 rfl rfl)
theorem dX10_isStep_12 : decode cX10_isStep 12 = .ok (.invokevirtual 72, 3) := dk_182 0 72 (dk_at dksX10_isStep_0 12 rfl rfl)
theorem dX10_isStep_15 : decode cX10_isStep 15 = .ok (.ifCond .ne 30, 3) := dk_154 0 30 (dk_at dksX10_isStep_0 15 rfl rfl)
theorem dX10_isStep_18 : decode cX10_isStep 18 = .ok (.aload_n 0, 1) := dk_42 (dk_at dksX10_isStep_0 18 rfl rfl)
theorem dX10_isStep_19 : decode cX10_isStep 19 = .ok (.ldc 114, 2) := dk_18 114 (dk_at dksX10_isStep_0 19 rfl rfl)
theorem dX10_isStep_21 : decode cX10_isStep 21 = .ok (.invokevirtual 72, 3) := dk_182 0 72 (dk_at dksX10_isStep_0 21 rfl rfl)
theorem dX10_isStep_24 : decode cX10_isStep 24 = .ok (.ifCond .ne 21, 3) := dk_154 0 21 (dk_at dksX10_isStep_1 0 rfl rfl)
theorem dX10_isStep_27 : decode cX10_isStep 27 = .ok (.aload_n 0, 1) := dk_42 (dk_at dksX10_isStep_1 3 rfl rfl)
theorem dX10_isStep_28 : decode cX10_isStep 28 = .ok (.ldc 118, 2) := dk_18 118 (dk_at dksX10_isStep_1 4 rfl rfl)
theorem dX10_isStep_30 : decode cX10_isStep 30 = .ok (.invokevirtual 72, 3) := dk_182 0 72 (dk_at dksX10_isStep_1 6 rfl rfl)
theorem dX10_isStep_33 : decode cX10_isStep 33 = .ok (.ifCond .ne 12, 3) := dk_154 0 12 (dk_at dksX10_isStep_1 9 rfl rfl)
theorem dX10_isStep_36 : decode cX10_isStep 36 = .ok (.aload_n 0, 1) := dk_42 (dk_at dksX10_isStep_1 12 rfl rfl)
theorem dX10_isStep_37 : decode cX10_isStep 37 = .ok (.ldc 120, 2) := dk_18 120 (dk_at dksX10_isStep_1 13 rfl rfl)
theorem dX10_isStep_39 : decode cX10_isStep 39 = .ok (.invokevirtual 72, 3) := dk_182 0 72 (dk_at dksX10_isStep_1 15 rfl rfl)
theorem dX10_isStep_42 : decode cX10_isStep 42 = .ok (.ifCond .eq 7, 3) := dk_153 0 7 (dk_at dksX10_isStep_1 18 rfl rfl)
theorem dX10_isStep_45 : decode cX10_isStep 45 = .ok (.iconst 1, 1) := dk_4 (dk_at dksX10_isStep_1 21 rfl rfl)
theorem dX10_isStep_46 : decode cX10_isStep 46 = .ok (.goto 4, 3) := dk_167 0 4 (dk_at dksX10_isStep_2 0 rfl rfl)
theorem dX10_isStep_49 : decode cX10_isStep 49 = .ok (.iconst 0, 1) := dk_3 (dk_at dksX10_isStep_2 3 rfl rfl)
theorem dX10_isStep_50 : decode cX10_isStep 50 = .ok (.ireturn, 1) := dk_172 (dk_at dksX10_isStep_2 4 rfl rfl)
abbrev cX10_when : ByteArray := prog_8_method_36_code
def yX10_when : MethodName := ⟨RX10, "when", "(LAskingCourt$Case;I)LAskingCourt$When;"⟩
def dkwX10_when_6 : List UInt8 := [182, 0, 19, 25, 4, 176]
abbrev dktX10_when_6 : List UInt8 := dkwX10_when_6 ++ []
def dkwX10_when_5 : List UInt8 := [18, 130, 182, 0, 72, 154, 0, 16, 42, 43, 25, 4, 28, 4, 96, 182, 1, 59, 167, 255, 237, 42]
abbrev dktX10_when_5 : List UInt8 := dkwX10_when_5 ++ dktX10_when_6
def dkwX10_when_4 : List UInt8 := [182, 0, 206, 167, 0, 8, 42, 43, 182, 1, 88, 183, 1, 102, 58, 4, 42, 16, 59, 182, 0, 162, 42]
abbrev dktX10_when_4 : List UInt8 := dkwX10_when_4 ++ dktX10_when_5
def dkwX10_when_3 : List UInt8 := [182, 0, 19, 187, 1, 100, 89, 42, 180, 0, 3, 29, 29, 6, 160, 0, 14, 42, 3, 17, 1, 0]
abbrev dktX10_when_3 : List UInt8 := dkwX10_when_3 ++ dktX10_when_4
def dkwX10_when_2 : List UInt8 := [182, 0, 72, 153, 0, 7, 6, 167, 0, 4, 2, 62, 29, 156, 0, 8, 42, 182, 0, 68, 191, 42]
abbrev dktX10_when_2 : List UInt8 := dkwX10_when_2 ++ dktX10_when_3
def dkwX10_when_1 : List UInt8 := [153, 0, 7, 4, 167, 0, 30, 42, 18, 126, 182, 0, 72, 153, 0, 7, 5, 167, 0, 17, 42, 18, 128]
abbrev dktX10_when_1 : List UInt8 := dkwX10_when_1 ++ dktX10_when_2
def dkwX10_when_0 : List UInt8 := [42, 182, 0, 19, 42, 18, 122, 182, 0, 72, 153, 0, 7, 3, 167, 0, 43, 42, 18, 124, 182, 0, 72]
abbrev dktX10_when_0 : List UInt8 := dkwX10_when_0 ++ dktX10_when_1
theorem dksX10_when_0 : cX10_when.data.toList.drop 0 = dktX10_when_0 := by decide +kernel
theorem dksX10_when_1 : cX10_when.data.toList.drop 23 = dktX10_when_1 := dk_seg dksX10_when_0 23 rfl rfl
theorem dksX10_when_2 : cX10_when.data.toList.drop 46 = dktX10_when_2 := dk_seg dksX10_when_1 23 rfl rfl
theorem dksX10_when_3 : cX10_when.data.toList.drop 68 = dktX10_when_3 := dk_seg dksX10_when_2 22 rfl rfl
theorem dksX10_when_4 : cX10_when.data.toList.drop 90 = dktX10_when_4 := dk_seg dksX10_when_3 22 rfl rfl
theorem dksX10_when_5 : cX10_when.data.toList.drop 113 = dktX10_when_5 := dk_seg dksX10_when_4 23 rfl rfl
theorem dksX10_when_6 : cX10_when.data.toList.drop 135 = dktX10_when_6 := dk_seg dksX10_when_5 22 rfl rfl
theorem dX10_when_0 : decode cX10_when 0 = .ok (.aload_n 0, 1) := dk_42 (dk_at dksX10_when_0 0 rfl rfl)
theorem dX10_when_1 : decode cX10_when 1 = .ok (.invokevirtual 19, 3) := dk_182 0 19 (dk_at dksX10_when_0 1 rfl rfl)
theorem dX10_when_4 : decode cX10_when 4 = .ok (.aload_n 0, 1) := dk_42 (dk_at dksX10_when_0 4 rfl rfl)
theorem dX10_when_5 : decode cX10_when 5 = .ok (.ldc 122, 2) := dk_18 122 (dk_at dksX10_when_0 5 rfl rfl)
theorem dX10_when_7 : decode cX10_when 7 = .ok (.invokevirtual 72, 3) := dk_182 0 72 (dk_at dksX10_when_0 7 rfl rfl)
theorem dX10_when_10 : decode cX10_when 10 = .ok (.ifCond .eq 7, 3) := dk_153 0 7 (dk_at dksX10_when_0 10 rfl rfl)
theorem dX10_when_13 : decode cX10_when 13 = .ok (.iconst 0, 1) := dk_3 (dk_at dksX10_when_0 13 rfl rfl)
theorem dX10_when_14 : decode cX10_when 14 = .ok (.goto 43, 3) := dk_167 0 43 (dk_at dksX10_when_0 14 rfl rfl)
theorem dX10_when_17 : decode cX10_when 17 = .ok (.aload_n 0, 1) := dk_42 (dk_at dksX10_when_0 17 rfl rfl)
theorem dX10_when_18 : decode cX10_when 18 = .ok (.ldc 124, 2) := dk_18 124 (dk_at dksX10_when_0 18 rfl rfl)
theorem dX10_when_20 : decode cX10_when 20 = .ok (.invokevirtual 72, 3) := dk_182 0 72 (dk_at dksX10_when_0 20 rfl rfl)
theorem dX10_when_23 : decode cX10_when 23 = .ok (.ifCond .eq 7, 3) := dk_153 0 7 (dk_at dksX10_when_1 0 rfl rfl)
theorem dX10_when_26 : decode cX10_when 26 = .ok (.iconst 1, 1) := dk_4 (dk_at dksX10_when_1 3 rfl rfl)
theorem dX10_when_27 : decode cX10_when 27 = .ok (.goto 30, 3) := dk_167 0 30 (dk_at dksX10_when_1 4 rfl rfl)
theorem dX10_when_30 : decode cX10_when 30 = .ok (.aload_n 0, 1) := dk_42 (dk_at dksX10_when_1 7 rfl rfl)
theorem dX10_when_31 : decode cX10_when 31 = .ok (.ldc 126, 2) := dk_18 126 (dk_at dksX10_when_1 8 rfl rfl)
theorem dX10_when_33 : decode cX10_when 33 = .ok (.invokevirtual 72, 3) := dk_182 0 72 (dk_at dksX10_when_1 10 rfl rfl)
theorem dX10_when_36 : decode cX10_when 36 = .ok (.ifCond .eq 7, 3) := dk_153 0 7 (dk_at dksX10_when_1 13 rfl rfl)
theorem dX10_when_39 : decode cX10_when 39 = .ok (.iconst 2, 1) := dk_5 (dk_at dksX10_when_1 16 rfl rfl)
theorem dX10_when_40 : decode cX10_when 40 = .ok (.goto 17, 3) := dk_167 0 17 (dk_at dksX10_when_1 17 rfl rfl)
theorem dX10_when_43 : decode cX10_when 43 = .ok (.aload_n 0, 1) := dk_42 (dk_at dksX10_when_1 20 rfl rfl)
theorem dX10_when_44 : decode cX10_when 44 = .ok (.ldc 128, 2) := dk_18 128 (dk_at dksX10_when_1 21 rfl rfl)
theorem dX10_when_46 : decode cX10_when 46 = .ok (.invokevirtual 72, 3) := dk_182 0 72 (dk_at dksX10_when_2 0 rfl rfl)
theorem dX10_when_49 : decode cX10_when 49 = .ok (.ifCond .eq 7, 3) := dk_153 0 7 (dk_at dksX10_when_2 3 rfl rfl)
theorem dX10_when_52 : decode cX10_when 52 = .ok (.iconst 3, 1) := dk_6 (dk_at dksX10_when_2 6 rfl rfl)
theorem dX10_when_53 : decode cX10_when 53 = .ok (.goto 4, 3) := dk_167 0 4 (dk_at dksX10_when_2 7 rfl rfl)
theorem dX10_when_56 : decode cX10_when 56 = .ok (.iconst (-1), 1) := dk_2 (dk_at dksX10_when_2 10 rfl rfl)
theorem dX10_when_57 : decode cX10_when 57 = .ok (.istore_n 3, 1) := dk_62 (dk_at dksX10_when_2 11 rfl rfl)
theorem dX10_when_58 : decode cX10_when 58 = .ok (.iload_n 3, 1) := dk_29 (dk_at dksX10_when_2 12 rfl rfl)
theorem dX10_when_59 : decode cX10_when 59 = .ok (.ifCond .ge 8, 3) := dk_156 0 8 (dk_at dksX10_when_2 13 rfl rfl)
theorem dX10_when_62 : decode cX10_when 62 = .ok (.aload_n 0, 1) := dk_42 (dk_at dksX10_when_2 16 rfl rfl)
theorem dX10_when_63 : decode cX10_when 63 = .ok (.invokevirtual 68, 3) := dk_182 0 68 (dk_at dksX10_when_2 17 rfl rfl)
theorem dX10_when_66 : decode cX10_when 66 = .ok (.athrow, 1) := dk_191 (dk_at dksX10_when_2 20 rfl rfl)
theorem dX10_when_67 : decode cX10_when 67 = .ok (.aload_n 0, 1) := dk_42 (dk_at dksX10_when_2 21 rfl rfl)
theorem dX10_when_68 : decode cX10_when 68 = .ok (.invokevirtual 19, 3) := dk_182 0 19 (dk_at dksX10_when_3 0 rfl rfl)
theorem dX10_when_71 : decode cX10_when 71 = .ok (.new 356, 3) := dk_187 1 100 (dk_at dksX10_when_3 3 rfl rfl)
theorem dX10_when_74 : decode cX10_when 74 = .ok (.dup, 1) := dk_89 (dk_at dksX10_when_3 6 rfl rfl)
theorem dX10_when_75 : decode cX10_when 75 = .ok (.aload_n 0, 1) := dk_42 (dk_at dksX10_when_3 7 rfl rfl)
theorem dX10_when_76 : decode cX10_when 76 = .ok (.getfield 3, 3) := dk_180 0 3 (dk_at dksX10_when_3 8 rfl rfl)
theorem dX10_when_79 : decode cX10_when 79 = .ok (.iload_n 3, 1) := dk_29 (dk_at dksX10_when_3 11 rfl rfl)
theorem dX10_when_80 : decode cX10_when 80 = .ok (.iload_n 3, 1) := dk_29 (dk_at dksX10_when_3 12 rfl rfl)
theorem dX10_when_81 : decode cX10_when 81 = .ok (.iconst 3, 1) := dk_6 (dk_at dksX10_when_3 13 rfl rfl)
theorem dX10_when_82 : decode cX10_when 82 = .ok (.if_icmp .ne 14, 3) := dk_160 0 14 (dk_at dksX10_when_3 14 rfl rfl)
theorem dX10_when_85 : decode cX10_when 85 = .ok (.aload_n 0, 1) := dk_42 (dk_at dksX10_when_3 17 rfl rfl)
theorem dX10_when_86 : decode cX10_when 86 = .ok (.iconst 0, 1) := dk_3 (dk_at dksX10_when_3 18 rfl rfl)
theorem dX10_when_87 : decode cX10_when 87 = .ok (.sipush 256, 3) := dk_17 1 0 (dk_at dksX10_when_3 19 rfl rfl)
theorem dX10_when_90 : decode cX10_when 90 = .ok (.invokevirtual 206, 3) := dk_182 0 206 (dk_at dksX10_when_4 0 rfl rfl)
theorem dX10_when_93 : decode cX10_when 93 = .ok (.goto 8, 3) := dk_167 0 8 (dk_at dksX10_when_4 3 rfl rfl)
theorem dX10_when_96 : decode cX10_when 96 = .ok (.aload_n 0, 1) := dk_42 (dk_at dksX10_when_4 6 rfl rfl)
theorem dX10_when_97 : decode cX10_when 97 = .ok (.aload_n 1, 1) := dk_43 (dk_at dksX10_when_4 7 rfl rfl)
theorem dX10_when_98 : decode cX10_when 98 = .ok (.invokevirtual 344, 3) := dk_182 1 88 (dk_at dksX10_when_4 8 rfl rfl)
theorem dX10_when_101 : decode cX10_when 101 = .ok (.invokespecial 358, 3) := dk_183 1 102 (dk_at dksX10_when_4 11 rfl rfl)
theorem dX10_when_104 : decode cX10_when 104 = .ok (.astore 4, 2) := dk_58 4 (dk_at dksX10_when_4 14 rfl rfl)
theorem dX10_when_106 : decode cX10_when 106 = .ok (.aload_n 0, 1) := dk_42 (dk_at dksX10_when_4 16 rfl rfl)
theorem dX10_when_107 : decode cX10_when 107 = .ok (.bipush 59, 2) := dk_16 59 (dk_at dksX10_when_4 17 rfl rfl)
theorem dX10_when_109 : decode cX10_when 109 = .ok (.invokevirtual 162, 3) := dk_182 0 162 (dk_at dksX10_when_4 19 rfl rfl)
theorem dX10_when_112 : decode cX10_when 112 = .ok (.aload_n 0, 1) := dk_42 (dk_at dksX10_when_4 22 rfl rfl)
theorem dX10_when_113 : decode cX10_when 113 = .ok (.ldc 130, 2) := dk_18 130 (dk_at dksX10_when_5 0 rfl rfl)
theorem dX10_when_115 : decode cX10_when 115 = .ok (.invokevirtual 72, 3) := dk_182 0 72 (dk_at dksX10_when_5 2 rfl rfl)
theorem dX10_when_118 : decode cX10_when 118 = .ok (.ifCond .ne 16, 3) := dk_154 0 16 (dk_at dksX10_when_5 5 rfl rfl)
theorem dX10_when_121 : decode cX10_when 121 = .ok (.aload_n 0, 1) := dk_42 (dk_at dksX10_when_5 8 rfl rfl)
theorem dX10_when_122 : decode cX10_when 122 = .ok (.aload_n 1, 1) := dk_43 (dk_at dksX10_when_5 9 rfl rfl)
theorem dX10_when_123 : decode cX10_when 123 = .ok (.aload 4, 2) := dk_25 4 (dk_at dksX10_when_5 10 rfl rfl)
theorem dX10_when_125 : decode cX10_when 125 = .ok (.iload_n 2, 1) := dk_28 (dk_at dksX10_when_5 12 rfl rfl)
theorem dX10_when_126 : decode cX10_when 126 = .ok (.iconst 1, 1) := dk_4 (dk_at dksX10_when_5 13 rfl rfl)
theorem dX10_when_127 : decode cX10_when 127 = .ok (.iadd, 1) := dk_96 (dk_at dksX10_when_5 14 rfl rfl)
theorem dX10_when_128 : decode cX10_when 128 = .ok (.invokevirtual 315, 3) := dk_182 1 59 (dk_at dksX10_when_5 15 rfl rfl)
theorem dX10_when_131 : decode cX10_when 131 = .ok (.goto (-19), 3) := dk_167 255 237 (dk_at dksX10_when_5 18 rfl rfl)
theorem dX10_when_134 : decode cX10_when 134 = .ok (.aload_n 0, 1) := dk_42 (dk_at dksX10_when_5 21 rfl rfl)
theorem dX10_when_135 : decode cX10_when 135 = .ok (.invokevirtual 19, 3) := dk_182 0 19 (dk_at dksX10_when_6 0 rfl rfl)
theorem dX10_when_138 : decode cX10_when 138 = .ok (.aload 4, 2) := dk_25 4 (dk_at dksX10_when_6 3 rfl rfl)
theorem dX10_when_140 : decode cX10_when 140 = .ok (.areturn, 1) := dk_176 (dk_at dksX10_when_6 5 rfl rfl)
abbrev cX10_questionNamed : ByteArray := prog_8_method_32_code
def yX10_questionNamed : MethodName := ⟨RX10, "questionNamed", "(LAskingCourt$Case;)I"⟩
def dkwX10_questionNamed_0 : List UInt8 := [42, 43, 42, 182, 0, 143, 182, 1, 48, 182, 0, 246, 61, 42, 182, 0, 19, 28, 172]
abbrev dktX10_questionNamed_0 : List UInt8 := dkwX10_questionNamed_0 ++ []
theorem dksX10_questionNamed_0 : cX10_questionNamed.data.toList.drop 0 = dktX10_questionNamed_0 := by decide +kernel
theorem dX10_questionNamed_0 : decode cX10_questionNamed 0 = .ok (.aload_n 0, 1) := dk_42 (dk_at dksX10_questionNamed_0 0 rfl rfl)
theorem dX10_questionNamed_1 : decode cX10_questionNamed 1 = .ok (.aload_n 1, 1) := dk_43 (dk_at dksX10_questionNamed_0 1 rfl rfl)
theorem dX10_questionNamed_2 : decode cX10_questionNamed 2 = .ok (.aload_n 0, 1) := dk_42 (dk_at dksX10_questionNamed_0 2 rfl rfl)
theorem dX10_questionNamed_3 : decode cX10_questionNamed 3 = .ok (.invokevirtual 143, 3) := dk_182 0 143 (dk_at dksX10_questionNamed_0 3 rfl rfl)
theorem dX10_questionNamed_6 : decode cX10_questionNamed 6 = .ok (.invokevirtual 304, 3) := dk_182 1 48 (dk_at dksX10_questionNamed_0 6 rfl rfl)
theorem dX10_questionNamed_9 : decode cX10_questionNamed 9 = .ok (.invokevirtual 246, 3) := dk_182 0 246 (dk_at dksX10_questionNamed_0 9 rfl rfl)
theorem dX10_questionNamed_12 : decode cX10_questionNamed 12 = .ok (.istore_n 2, 1) := dk_61 (dk_at dksX10_questionNamed_0 12 rfl rfl)
theorem dX10_questionNamed_13 : decode cX10_questionNamed 13 = .ok (.aload_n 0, 1) := dk_42 (dk_at dksX10_questionNamed_0 13 rfl rfl)
theorem dX10_questionNamed_14 : decode cX10_questionNamed 14 = .ok (.invokevirtual 19, 3) := dk_182 0 19 (dk_at dksX10_questionNamed_0 14 rfl rfl)
theorem dX10_questionNamed_17 : decode cX10_questionNamed 17 = .ok (.iload_n 2, 1) := dk_28 (dk_at dksX10_questionNamed_0 17 rfl rfl)
theorem dX10_questionNamed_18 : decode cX10_questionNamed 18 = .ok (.ireturn, 1) := dk_172 (dk_at dksX10_questionNamed_0 18 rfl rfl)
abbrev cX10_plain : ByteArray := prog_8_method_35_code
def yX10_plain : MethodName := ⟨RX10, "plain", "(LAskingCourt$Case;)LAskingCourt$Step;"⟩
def dkwX10_plain_4 : List UInt8 := [89, 183, 1, 99, 176]
abbrev dktX10_plain_4 : List UInt8 := dkwX10_plain_4 ++ []
def dkwX10_plain_3 : List UInt8 := [176, 21, 4, 153, 0, 18, 187, 1, 93, 89, 42, 43, 182, 1, 88, 183, 1, 95, 167, 0, 10, 187, 1, 97]
abbrev dktX10_plain_3 : List UInt8 := dkwX10_plain_3 ++ dktX10_plain_4
def dkwX10_plain_2 : List UInt8 := [182, 1, 88, 183, 1, 90, 176, 29, 153, 0, 17, 187, 1, 86, 89, 42, 43, 182, 1, 84, 2, 183, 1, 90]
abbrev dktX10_plain_2 : List UInt8 := dkwX10_plain_2 ++ dktX10_plain_3
def dkwX10_plain_1 : List UInt8 := [182, 0, 19, 28, 153, 0, 25, 42, 43, 182, 1, 84, 54, 5, 187, 1, 86, 89, 21, 5, 42, 43]
abbrev dktX10_plain_1 : List UInt8 := dkwX10_plain_1 ++ dktX10_plain_2
def dkwX10_plain_0 : List UInt8 := [42, 18, 110, 182, 0, 72, 61, 42, 18, 112, 182, 0, 72, 62, 42, 18, 118, 182, 0, 72, 54, 4, 42]
abbrev dktX10_plain_0 : List UInt8 := dkwX10_plain_0 ++ dktX10_plain_1
theorem dksX10_plain_0 : cX10_plain.data.toList.drop 0 = dktX10_plain_0 := by decide +kernel
theorem dksX10_plain_1 : cX10_plain.data.toList.drop 23 = dktX10_plain_1 := dk_seg dksX10_plain_0 23 rfl rfl
theorem dksX10_plain_2 : cX10_plain.data.toList.drop 45 = dktX10_plain_2 := dk_seg dksX10_plain_1 22 rfl rfl
theorem dksX10_plain_3 : cX10_plain.data.toList.drop 69 = dktX10_plain_3 := dk_seg dksX10_plain_2 24 rfl rfl
theorem dksX10_plain_4 : cX10_plain.data.toList.drop 93 = dktX10_plain_4 := dk_seg dksX10_plain_3 24 rfl rfl
theorem dX10_plain_0 : decode cX10_plain 0 = .ok (.aload_n 0, 1) := dk_42 (dk_at dksX10_plain_0 0 rfl rfl)
theorem dX10_plain_1 : decode cX10_plain 1 = .ok (.ldc 110, 2) := dk_18 110 (dk_at dksX10_plain_0 1 rfl rfl)
theorem dX10_plain_3 : decode cX10_plain 3 = .ok (.invokevirtual 72, 3) := dk_182 0 72 (dk_at dksX10_plain_0 3 rfl rfl)
theorem dX10_plain_6 : decode cX10_plain 6 = .ok (.istore_n 2, 1) := dk_61 (dk_at dksX10_plain_0 6 rfl rfl)
theorem dX10_plain_7 : decode cX10_plain 7 = .ok (.aload_n 0, 1) := dk_42 (dk_at dksX10_plain_0 7 rfl rfl)
theorem dX10_plain_8 : decode cX10_plain 8 = .ok (.ldc 112, 2) := dk_18 112 (dk_at dksX10_plain_0 8 rfl rfl)
theorem dX10_plain_10 : decode cX10_plain 10 = .ok (.invokevirtual 72, 3) := dk_182 0 72 (dk_at dksX10_plain_0 10 rfl rfl)
theorem dX10_plain_13 : decode cX10_plain 13 = .ok (.istore_n 3, 1) := dk_62 (dk_at dksX10_plain_0 13 rfl rfl)
theorem dX10_plain_14 : decode cX10_plain 14 = .ok (.aload_n 0, 1) := dk_42 (dk_at dksX10_plain_0 14 rfl rfl)
theorem dX10_plain_15 : decode cX10_plain 15 = .ok (.ldc 118, 2) := dk_18 118 (dk_at dksX10_plain_0 15 rfl rfl)
theorem dX10_plain_17 : decode cX10_plain 17 = .ok (.invokevirtual 72, 3) := dk_182 0 72 (dk_at dksX10_plain_0 17 rfl rfl)
theorem dX10_plain_20 : decode cX10_plain 20 = .ok (.istore 4, 2) := dk_54 4 (dk_at dksX10_plain_0 20 rfl rfl)
theorem dX10_plain_22 : decode cX10_plain 22 = .ok (.aload_n 0, 1) := dk_42 (dk_at dksX10_plain_0 22 rfl rfl)
theorem dX10_plain_23 : decode cX10_plain 23 = .ok (.invokevirtual 19, 3) := dk_182 0 19 (dk_at dksX10_plain_1 0 rfl rfl)
theorem dX10_plain_26 : decode cX10_plain 26 = .ok (.iload_n 2, 1) := dk_28 (dk_at dksX10_plain_1 3 rfl rfl)
theorem dX10_plain_27 : decode cX10_plain 27 = .ok (.ifCond .eq 25, 3) := dk_153 0 25 (dk_at dksX10_plain_1 4 rfl rfl)
theorem dX10_plain_30 : decode cX10_plain 30 = .ok (.aload_n 0, 1) := dk_42 (dk_at dksX10_plain_1 7 rfl rfl)
theorem dX10_plain_31 : decode cX10_plain 31 = .ok (.aload_n 1, 1) := dk_43 (dk_at dksX10_plain_1 8 rfl rfl)
theorem dX10_plain_32 : decode cX10_plain 32 = .ok (.invokevirtual 340, 3) := dk_182 1 84 (dk_at dksX10_plain_1 9 rfl rfl)
theorem dX10_plain_35 : decode cX10_plain 35 = .ok (.istore 5, 2) := dk_54 5 (dk_at dksX10_plain_1 12 rfl rfl)
theorem dX10_plain_37 : decode cX10_plain 37 = .ok (.new 342, 3) := dk_187 1 86 (dk_at dksX10_plain_1 14 rfl rfl)
theorem dX10_plain_40 : decode cX10_plain 40 = .ok (.dup, 1) := dk_89 (dk_at dksX10_plain_1 17 rfl rfl)
theorem dX10_plain_41 : decode cX10_plain 41 = .ok (.iload 5, 2) := dk_21 5 (dk_at dksX10_plain_1 18 rfl rfl)
theorem dX10_plain_43 : decode cX10_plain 43 = .ok (.aload_n 0, 1) := dk_42 (dk_at dksX10_plain_1 20 rfl rfl)
theorem dX10_plain_44 : decode cX10_plain 44 = .ok (.aload_n 1, 1) := dk_43 (dk_at dksX10_plain_1 21 rfl rfl)
theorem dX10_plain_45 : decode cX10_plain 45 = .ok (.invokevirtual 344, 3) := dk_182 1 88 (dk_at dksX10_plain_2 0 rfl rfl)
theorem dX10_plain_48 : decode cX10_plain 48 = .ok (.invokespecial 346, 3) := dk_183 1 90 (dk_at dksX10_plain_2 3 rfl rfl)
theorem dX10_plain_51 : decode cX10_plain 51 = .ok (.areturn, 1) := dk_176 (dk_at dksX10_plain_2 6 rfl rfl)
theorem dX10_plain_52 : decode cX10_plain 52 = .ok (.iload_n 3, 1) := dk_29 (dk_at dksX10_plain_2 7 rfl rfl)
theorem dX10_plain_53 : decode cX10_plain 53 = .ok (.ifCond .eq 17, 3) := dk_153 0 17 (dk_at dksX10_plain_2 8 rfl rfl)
theorem dX10_plain_56 : decode cX10_plain 56 = .ok (.new 342, 3) := dk_187 1 86 (dk_at dksX10_plain_2 11 rfl rfl)
theorem dX10_plain_59 : decode cX10_plain 59 = .ok (.dup, 1) := dk_89 (dk_at dksX10_plain_2 14 rfl rfl)
theorem dX10_plain_60 : decode cX10_plain 60 = .ok (.aload_n 0, 1) := dk_42 (dk_at dksX10_plain_2 15 rfl rfl)
theorem dX10_plain_61 : decode cX10_plain 61 = .ok (.aload_n 1, 1) := dk_43 (dk_at dksX10_plain_2 16 rfl rfl)
theorem dX10_plain_62 : decode cX10_plain 62 = .ok (.invokevirtual 340, 3) := dk_182 1 84 (dk_at dksX10_plain_2 17 rfl rfl)
theorem dX10_plain_65 : decode cX10_plain 65 = .ok (.iconst (-1), 1) := dk_2 (dk_at dksX10_plain_2 20 rfl rfl)
theorem dX10_plain_66 : decode cX10_plain 66 = .ok (.invokespecial 346, 3) := dk_183 1 90 (dk_at dksX10_plain_2 21 rfl rfl)
theorem dX10_plain_69 : decode cX10_plain 69 = .ok (.areturn, 1) := dk_176 (dk_at dksX10_plain_3 0 rfl rfl)
theorem dX10_plain_70 : decode cX10_plain 70 = .ok (.iload 4, 2) := dk_21 4 (dk_at dksX10_plain_3 1 rfl rfl)
theorem dX10_plain_72 : decode cX10_plain 72 = .ok (.ifCond .eq 18, 3) := dk_153 0 18 (dk_at dksX10_plain_3 3 rfl rfl)
theorem dX10_plain_75 : decode cX10_plain 75 = .ok (.new 349, 3) := dk_187 1 93 (dk_at dksX10_plain_3 6 rfl rfl)
theorem dX10_plain_78 : decode cX10_plain 78 = .ok (.dup, 1) := dk_89 (dk_at dksX10_plain_3 9 rfl rfl)
theorem dX10_plain_79 : decode cX10_plain 79 = .ok (.aload_n 0, 1) := dk_42 (dk_at dksX10_plain_3 10 rfl rfl)
theorem dX10_plain_80 : decode cX10_plain 80 = .ok (.aload_n 1, 1) := dk_43 (dk_at dksX10_plain_3 11 rfl rfl)
theorem dX10_plain_81 : decode cX10_plain 81 = .ok (.invokevirtual 344, 3) := dk_182 1 88 (dk_at dksX10_plain_3 12 rfl rfl)
theorem dX10_plain_84 : decode cX10_plain 84 = .ok (.invokespecial 351, 3) := dk_183 1 95 (dk_at dksX10_plain_3 15 rfl rfl)
theorem dX10_plain_87 : decode cX10_plain 87 = .ok (.goto 10, 3) := dk_167 0 10 (dk_at dksX10_plain_3 18 rfl rfl)
theorem dX10_plain_90 : decode cX10_plain 90 = .ok (.new 353, 3) := dk_187 1 97 (dk_at dksX10_plain_3 21 rfl rfl)
theorem dX10_plain_93 : decode cX10_plain 93 = .ok (.dup, 1) := dk_89 (dk_at dksX10_plain_4 0 rfl rfl)
theorem dX10_plain_94 : decode cX10_plain 94 = .ok (.invokespecial 355, 3) := dk_183 1 99 (dk_at dksX10_plain_4 1 rfl rfl)
theorem dX10_plain_97 : decode cX10_plain 97 = .ok (.areturn, 1) := dk_176 (dk_at dksX10_plain_4 4 rfl rfl)
abbrev cX10_witnessNamed : ByteArray := prog_8_method_31_code
def yX10_witnessNamed : MethodName := ⟨RX10, "witnessNamed", "(LAskingCourt$Case;)I"⟩
def dkwX10_witnessNamed_0 : List UInt8 := [42, 43, 42, 182, 0, 143, 182, 1, 63, 182, 0, 246, 61, 42, 182, 0, 19, 28, 172]
abbrev dktX10_witnessNamed_0 : List UInt8 := dkwX10_witnessNamed_0 ++ []
theorem dksX10_witnessNamed_0 : cX10_witnessNamed.data.toList.drop 0 = dktX10_witnessNamed_0 := by decide +kernel
theorem dX10_witnessNamed_0 : decode cX10_witnessNamed 0 = .ok (.aload_n 0, 1) := dk_42 (dk_at dksX10_witnessNamed_0 0 rfl rfl)
theorem dX10_witnessNamed_1 : decode cX10_witnessNamed 1 = .ok (.aload_n 1, 1) := dk_43 (dk_at dksX10_witnessNamed_0 1 rfl rfl)
theorem dX10_witnessNamed_2 : decode cX10_witnessNamed 2 = .ok (.aload_n 0, 1) := dk_42 (dk_at dksX10_witnessNamed_0 2 rfl rfl)
theorem dX10_witnessNamed_3 : decode cX10_witnessNamed 3 = .ok (.invokevirtual 143, 3) := dk_182 0 143 (dk_at dksX10_witnessNamed_0 3 rfl rfl)
theorem dX10_witnessNamed_6 : decode cX10_witnessNamed 6 = .ok (.invokevirtual 319, 3) := dk_182 1 63 (dk_at dksX10_witnessNamed_0 6 rfl rfl)
theorem dX10_witnessNamed_9 : decode cX10_witnessNamed 9 = .ok (.invokevirtual 246, 3) := dk_182 0 246 (dk_at dksX10_witnessNamed_0 9 rfl rfl)
theorem dX10_witnessNamed_12 : decode cX10_witnessNamed 12 = .ok (.istore_n 2, 1) := dk_61 (dk_at dksX10_witnessNamed_0 12 rfl rfl)
theorem dX10_witnessNamed_13 : decode cX10_witnessNamed 13 = .ok (.aload_n 0, 1) := dk_42 (dk_at dksX10_witnessNamed_0 13 rfl rfl)
theorem dX10_witnessNamed_14 : decode cX10_witnessNamed 14 = .ok (.invokevirtual 19, 3) := dk_182 0 19 (dk_at dksX10_witnessNamed_0 14 rfl rfl)
theorem dX10_witnessNamed_17 : decode cX10_witnessNamed 17 = .ok (.iload_n 2, 1) := dk_28 (dk_at dksX10_witnessNamed_0 17 rfl rfl)
theorem dX10_witnessNamed_18 : decode cX10_witnessNamed 18 = .ok (.ireturn, 1) := dk_172 (dk_at dksX10_witnessNamed_0 18 rfl rfl)
theorem q182 : (Jvm.Cond.initialized "AskingCourt$Reader") ∈ lw_all := lw_g (lw_at lw_m1 19 rfl) rfl
theorem q347 : (Jvm.Cond.fieldLinkNest "AskingCourt$Reader" (169 : Nat) "AskingCourt$Case" "facts" "I" "AskingCourt") ∈ lw_tbl := lw_at lw_m1 184 rfl
theorem q350 : (Jvm.Cond.fieldLinkNest "AskingCourt$Reader" (191 : Nat) "AskingCourt$Case" "values" "I" "AskingCourt") ∈ lw_tbl := lw_at lw_m1 187 rfl
theorem q353 : (Jvm.Cond.fieldLinkNest "AskingCourt$Reader" (172 : Nat) "AskingCourt$Case" "questions" "I" "AskingCourt") ∈ lw_tbl := lw_at lw_m1 190 rfl
theorem q358 : (Jvm.Cond.fieldLinkNest "AskingCourt$Reader" (284 : Nat) "AskingCourt$Case" "many" "I" "AskingCourt") ∈ lw_tbl := lw_at lw_m1 195 rfl
theorem q361 : (Jvm.Cond.fieldLinkNest "AskingCourt$Reader" (209 : Nat) "AskingCourt$Case" "worlds" "I" "AskingCourt") ∈ lw_tbl := lw_at lw_m1 198 rfl
theorem q364 : (Jvm.Cond.fieldLinkNest "AskingCourt$Reader" (183 : Nat) "AskingCourt$Case" "factNames" "[J" "AskingCourt") ∈ lw_tbl := lw_at lw_m1 201 rfl
theorem q366 : (Jvm.Cond.fieldLinkNest "AskingCourt$Reader" (197 : Nat) "AskingCourt$Case" "valueNames" "[J" "AskingCourt") ∈ lw_tbl := lw_at lw_m1 203 rfl
theorem q368 : (Jvm.Cond.fieldLinkNest "AskingCourt$Reader" (266 : Nat) "AskingCourt$Case" "questionNames" "[J" "AskingCourt") ∈ lw_tbl := lw_at lw_m1 205 rfl
theorem q370 : (Jvm.Cond.fieldLinkNest "AskingCourt$Reader" (310 : Nat) "AskingCourt$Case" "witnessNames" "[J" "AskingCourt") ∈ lw_tbl := lw_at lw_m1 207 rfl
theorem q372 : (Jvm.Cond.fieldLinkNest "AskingCourt$Reader" (187 : Nat) "AskingCourt$Case" "factFirst" "[I" "AskingCourt") ∈ lw_tbl := lw_at lw_m1 209 rfl
theorem q374 : (Jvm.Cond.fieldLinkNest "AskingCourt$Reader" (194 : Nat) "AskingCourt$Case" "factSize" "[I" "AskingCourt") ∈ lw_tbl := lw_at lw_m1 211 rfl
theorem q376 : (Jvm.Cond.fieldLinkNest "AskingCourt$Reader" (200 : Nat) "AskingCourt$Case" "valueFact" "[I" "AskingCourt") ∈ lw_tbl := lw_at lw_m1 213 rfl
theorem q379 : (Jvm.Cond.fieldLinkNest "AskingCourt$Reader" (203 : Nat) "AskingCourt$Case" "weights" "[I" "AskingCourt") ∈ lw_tbl := lw_at lw_m1 216 rfl
theorem q383 : (Jvm.Cond.fieldLinkNest "AskingCourt$Reader" (269 : Nat) "AskingCourt$Case" "fees" "[I" "AskingCourt") ∈ lw_tbl := lw_at lw_m1 220 rfl
theorem q387 : (Jvm.Cond.fieldLinkNest "AskingCourt$Reader" (218 : Nat) "AskingCourt$Case" "possible" "LAskingCourt$Worlds;" "AskingCourt") ∈ lw_tbl := lw_at lw_m1 224 rfl
theorem q392 : (Jvm.Cond.fieldLinkNest "AskingCourt$Reader" (258 : Nat) "AskingCourt$Case" "meant" "[LAskingCourt$Worlds;" "AskingCourt") ∈ lw_tbl := lw_at lw_m1 229 rfl
theorem q396 : (Jvm.Cond.fieldLinkNest "AskingCourt$Reader" (307 : Nat) "AskingCourt$Case" "witness" "[LAskingCourt$Witness;" "AskingCourt") ∈ lw_tbl := lw_at lw_m1 233 rfl
theorem q516 : (Jvm.Cond.fieldLinkNest "AskingCourt$Reader" (22 : Nat) "AskingCourt" "tape" "[B" "AskingCourt") ∈ lw_tbl := lw_at lw_m2 113 rfl
theorem q522 : (Jvm.Cond.fieldLinkNest "AskingCourt$Reader" (55 : Nat) "AskingCourt" "bad" "LAskingCourt$Bad;" "AskingCourt") ∈ lw_tbl := lw_at lw_m2 119 rfl
theorem q728 : (Jvm.Cond.instantiable "AskingCourt$Reader" (7 : Nat)) ∈ lw_all := lw_g (lw_at lw_m3 85 rfl) rfl
theorem q730 : (Jvm.Cond.instanceMethod ({ cls := "AskingCourt$Reader", name := "<init>", desc := "(LAskingCourt;I)V" } : Jvm.MethodName)) ∈ lw_all := lw_g (lw_at lw_m3 87 rfl) rfl
theorem q731 : (Jvm.Cond.code ({ cls := "AskingCourt$Reader", name := "<init>", desc := "(LAskingCourt;I)V" } : Jvm.MethodName) prog_8_method_1_code (3 : Nat) (Option.none : Option Jvm.ClassFile.FieldType)) ∈ lw_all := lw_g (lw_at lw_m3 88 rfl) rfl
theorem q732 : (Jvm.Cond.methodLink "AskingCourt$Reader" (9 : Nat) ({ cls := "java/lang/Object", name := "<init>", desc := "()V" } : Jvm.MethodName)) ∈ lw_all := lw_g (lw_at lw_m3 89 rfl) rfl
theorem q733 : (Jvm.Cond.methodLink "AskingCourt$Reader" (19 : Nat) ({ cls := "AskingCourt$Reader", name := "next", desc := "()V" } : Jvm.MethodName)) ∈ lw_all := lw_g (lw_at lw_m3 90 rfl) rfl
theorem q734 : (Jvm.Cond.privateMethod ({ cls := "AskingCourt$Reader", name := "next", desc := "()V" } : Jvm.MethodName)) ∈ lw_tbl := lw_at lw_m3 91 rfl
theorem q735 : (Jvm.Cond.instanceMethod ({ cls := "AskingCourt$Reader", name := "next", desc := "()V" } : Jvm.MethodName)) ∈ lw_all := lw_g (lw_at lw_m3 92 rfl) rfl
theorem q736 : (Jvm.Cond.code ({ cls := "AskingCourt$Reader", name := "next", desc := "()V" } : Jvm.MethodName) prog_8_method_4_code (1 : Nat) (Option.none : Option Jvm.ClassFile.FieldType)) ∈ lw_all := lw_g (lw_at lw_m3 93 rfl) rfl
theorem q737 : (Jvm.Cond.methodLink "AskingCourt$Reader" (35 : Nat) ({ cls := "AskingCourt$Reader", name := "isLetter", desc := "(I)Z" } : Jvm.MethodName)) ∈ lw_all := lw_g (lw_at lw_m3 94 rfl) rfl
theorem q738 : (Jvm.Cond.privateMethod ({ cls := "AskingCourt$Reader", name := "isLetter", desc := "(I)Z" } : Jvm.MethodName)) ∈ lw_tbl := lw_at lw_m3 95 rfl
theorem q739 : (Jvm.Cond.instanceMethod ({ cls := "AskingCourt$Reader", name := "isLetter", desc := "(I)Z" } : Jvm.MethodName)) ∈ lw_all := lw_g (lw_at lw_m3 96 rfl) rfl
theorem q740 : (Jvm.Cond.code ({ cls := "AskingCourt$Reader", name := "isLetter", desc := "(I)Z" } : Jvm.MethodName) prog_8_method_2_code (2 : Nat) (Option.some Jvm.ClassFile.FieldType.boolean)) ∈ lw_all := lw_g (lw_at lw_m3 97 rfl) rfl
theorem q741 : (Jvm.Cond.methodLink "AskingCourt$Reader" (39 : Nat) ({ cls := "AskingCourt$Reader", name := "isDigit", desc := "(I)Z" } : Jvm.MethodName)) ∈ lw_all := lw_g (lw_at lw_m3 98 rfl) rfl
theorem q742 : (Jvm.Cond.privateMethod ({ cls := "AskingCourt$Reader", name := "isDigit", desc := "(I)Z" } : Jvm.MethodName)) ∈ lw_tbl := lw_at lw_m3 99 rfl
theorem q743 : (Jvm.Cond.instanceMethod ({ cls := "AskingCourt$Reader", name := "isDigit", desc := "(I)Z" } : Jvm.MethodName)) ∈ lw_all := lw_g (lw_at lw_m3 100 rfl) rfl
theorem q744 : (Jvm.Cond.code ({ cls := "AskingCourt$Reader", name := "isDigit", desc := "(I)Z" } : Jvm.MethodName) prog_8_method_3_code (2 : Nat) (Option.some Jvm.ClassFile.FieldType.boolean)) ∈ lw_all := lw_g (lw_at lw_m3 101 rfl) rfl
theorem q745 : (Jvm.Cond.fieldLink "AskingCourt$Reader" (15 : Nat) "AskingCourt$Reader" "size" "I") ∈ lw_all := lw_g (lw_at lw_m3 102 rfl) rfl
theorem q746 : (Jvm.Cond.fieldLink "AskingCourt$Reader" (29 : Nat) "AskingCourt$Reader" "at" "I") ∈ lw_all := lw_g (lw_at lw_m3 103 rfl) rfl
theorem q747 : (Jvm.Cond.fieldLink "AskingCourt$Reader" (26 : Nat) "AskingCourt$Reader" "behind" "I") ∈ lw_all := lw_g (lw_at lw_m3 104 rfl) rfl
theorem q748 : (Jvm.Cond.fieldLink "AskingCourt$Reader" (32 : Nat) "AskingCourt$Reader" "sort" "I") ∈ lw_all := lw_g (lw_at lw_m3 105 rfl) rfl
theorem q749 : (Jvm.Cond.fieldLink "AskingCourt$Reader" (42 : Nat) "AskingCourt$Reader" "number" "I") ∈ lw_all := lw_g (lw_at lw_m3 106 rfl) rfl
theorem q751 : (Jvm.Cond.fieldLink "AskingCourt$Reader" (325 : Nat) "AskingCourt$Reader" "steps" "I") ∈ lw_all := lw_g (lw_at lw_m3 108 rfl) rfl
theorem q752 : (Jvm.Cond.fieldLink "AskingCourt$Reader" (3 : Nat) "AskingCourt$Reader" "this$0" "LAskingCourt;") ∈ lw_all := lw_g (lw_at lw_m3 109 rfl) rfl
theorem q753 : (Jvm.Cond.laysFinal "AskingCourt$Reader" "AskingCourt$Reader" "size" "I") ∈ lw_all := lw_g (lw_at lw_m3 110 rfl) rfl
theorem q754 : (Jvm.Cond.soleField "AskingCourt$Reader" "size") ∈ lw_all := lw_g (lw_at lw_m3 111 rfl) rfl
theorem q755 : (Jvm.Cond.lays "AskingCourt$Reader" "AskingCourt$Reader" "at" "I") ∈ lw_all := lw_g (lw_at lw_m3 112 rfl) rfl
theorem q756 : (Jvm.Cond.soleField "AskingCourt$Reader" "at") ∈ lw_all := lw_g (lw_at lw_m3 113 rfl) rfl
theorem q757 : (Jvm.Cond.lays "AskingCourt$Reader" "AskingCourt$Reader" "behind" "I") ∈ lw_all := lw_g (lw_at lw_m3 114 rfl) rfl
theorem q758 : (Jvm.Cond.soleField "AskingCourt$Reader" "behind") ∈ lw_all := lw_g (lw_at lw_m3 115 rfl) rfl
theorem q759 : (Jvm.Cond.lays "AskingCourt$Reader" "AskingCourt$Reader" "sort" "I") ∈ lw_all := lw_g (lw_at lw_m3 116 rfl) rfl
theorem q760 : (Jvm.Cond.soleField "AskingCourt$Reader" "sort") ∈ lw_all := lw_g (lw_at lw_m3 117 rfl) rfl
theorem q761 : (Jvm.Cond.lays "AskingCourt$Reader" "AskingCourt$Reader" "number" "I") ∈ lw_all := lw_g (lw_at lw_m3 118 rfl) rfl
theorem q762 : (Jvm.Cond.soleField "AskingCourt$Reader" "number") ∈ lw_all := lw_g (lw_at lw_m3 119 rfl) rfl
theorem q763 : (Jvm.Cond.lays "AskingCourt$Reader" "AskingCourt$Reader" "steps" "I") ∈ lw_all := lw_g (lw_at lw_m3 120 rfl) rfl
theorem q764 : (Jvm.Cond.soleField "AskingCourt$Reader" "steps") ∈ lw_all := lw_g (lw_at lw_m3 121 rfl) rfl
theorem q765 : (Jvm.Cond.laysFinal "AskingCourt$Reader" "AskingCourt$Reader" "this$0" "LAskingCourt;") ∈ lw_all := lw_g (lw_at lw_m3 122 rfl) rfl
theorem q766 : (Jvm.Cond.soleField "AskingCourt$Reader" "this$0") ∈ lw_all := lw_g (lw_at lw_m3 123 rfl) rfl
theorem q767 : (Jvm.Cond.superclass "AskingCourt$Reader" "java/lang/Object") ∈ lw_all := lw_g (lw_at lw_m3 124 rfl) rfl
theorem q769 : (Jvm.Cond.instanceMethod ({ cls := "AskingCourt$Reader", name := "court", desc := "(LAskingCourt$Case;)V" } : Jvm.MethodName)) ∈ lw_all := lw_g (lw_at lw_m3 126 rfl) rfl
theorem q770 : (Jvm.Cond.selects "AskingCourt$Reader" ({ cls := "AskingCourt$Reader", name := "court", desc := "(LAskingCourt$Case;)V" } : Jvm.MethodName) ({ cls := "AskingCourt$Reader", name := "court", desc := "(LAskingCourt$Case;)V" } : Jvm.MethodName)) ∈ lw_all := lw_g (lw_at lw_m3 127 rfl) rfl
theorem q771 : (Jvm.Cond.code ({ cls := "AskingCourt$Reader", name := "court", desc := "(LAskingCourt$Case;)V" } : Jvm.MethodName) prog_8_method_17_code (2 : Nat) (Option.none : Option Jvm.ClassFile.FieldType)) ∈ lw_all := lw_g (lw_at lw_m3 128 rfl) rfl
theorem q772 : (Jvm.Cond.stringRef "AskingCourt$Reader" (84 : Nat) "fact") ∈ lw_tbl := lw_at lw_m3 129 rfl
theorem q773 : (Jvm.Cond.methodLink "AskingCourt$Reader" (72 : Nat) ({ cls := "AskingCourt$Reader", name := "isWord", desc := "(Ljava/lang/String;)Z" } : Jvm.MethodName)) ∈ lw_all := lw_g (lw_at lw_m3 130 rfl) rfl
theorem q774 : (Jvm.Cond.privateMethod ({ cls := "AskingCourt$Reader", name := "isWord", desc := "(Ljava/lang/String;)Z" } : Jvm.MethodName)) ∈ lw_tbl := lw_at lw_m3 131 rfl
theorem q775 : (Jvm.Cond.instanceMethod ({ cls := "AskingCourt$Reader", name := "isWord", desc := "(Ljava/lang/String;)Z" } : Jvm.MethodName)) ∈ lw_all := lw_g (lw_at lw_m3 132 rfl) rfl
theorem q776 : (Jvm.Cond.code ({ cls := "AskingCourt$Reader", name := "isWord", desc := "(Ljava/lang/String;)Z" } : Jvm.MethodName) prog_8_method_5_code (3 : Nat) (Option.some Jvm.ClassFile.FieldType.boolean)) ∈ lw_all := lw_g (lw_at lw_m3 133 rfl) rfl
theorem q777 : (Jvm.Cond.methodLink "AskingCourt$Reader" (45 : Nat) ({ cls := "java/lang/String", name := "length", desc := "()I" } : Jvm.MethodName)) ∈ lw_all := lw_g (lw_at lw_m3 134 rfl) rfl
theorem q787 : (Jvm.Cond.methodLink "AskingCourt$Reader" (51 : Nat) ({ cls := "java/lang/String", name := "charAt", desc := "(I)C" } : Jvm.MethodName)) ∈ lw_all := lw_g (lw_at lw_m3 144 rfl) rfl
theorem q825 : (Jvm.Cond.methodLink "AskingCourt$Reader" (153 : Nat) ({ cls := "AskingCourt$Reader", name := "fact", desc := "(LAskingCourt$Case;)V" } : Jvm.MethodName)) ∈ lw_all := lw_g (lw_at lw_m3 182 rfl) rfl
theorem q826 : (Jvm.Cond.privateMethod ({ cls := "AskingCourt$Reader", name := "fact", desc := "(LAskingCourt$Case;)V" } : Jvm.MethodName)) ∈ lw_tbl := lw_at lw_m3 183 rfl
theorem q827 : (Jvm.Cond.instanceMethod ({ cls := "AskingCourt$Reader", name := "fact", desc := "(LAskingCourt$Case;)V" } : Jvm.MethodName)) ∈ lw_all := lw_g (lw_at lw_m3 184 rfl) rfl
theorem q828 : (Jvm.Cond.code ({ cls := "AskingCourt$Reader", name := "fact", desc := "(LAskingCourt$Case;)V" } : Jvm.MethodName) prog_8_method_18_code (7 : Nat) (Option.none : Option Jvm.ClassFile.FieldType)) ∈ lw_all := lw_g (lw_at lw_m3 185 rfl) rfl
theorem q829 : (Jvm.Cond.methodLink "AskingCourt$Reader" (59 : Nat) ({ cls := "AskingCourt$Bad", name := "at", desc := "(II)LAskingCourt$Bad;" } : Jvm.MethodName)) ∈ lw_all := lw_g (lw_at lw_m3 186 rfl) rfl
theorem q833 : (Jvm.Cond.methodLink "AskingCourt$Reader" (175 : Nat) ({ cls := "AskingCourt$Reader", name := "newName", desc := "(LAskingCourt$Case;)J" } : Jvm.MethodName)) ∈ lw_all := lw_g (lw_at lw_m3 190 rfl) rfl
theorem q834 : (Jvm.Cond.privateMethod ({ cls := "AskingCourt$Reader", name := "newName", desc := "(LAskingCourt$Case;)J" } : Jvm.MethodName)) ∈ lw_tbl := lw_at lw_m3 191 rfl
theorem q835 : (Jvm.Cond.instanceMethod ({ cls := "AskingCourt$Reader", name := "newName", desc := "(LAskingCourt$Case;)J" } : Jvm.MethodName)) ∈ lw_all := lw_g (lw_at lw_m3 192 rfl) rfl
theorem q836 : (Jvm.Cond.code ({ cls := "AskingCourt$Reader", name := "newName", desc := "(LAskingCourt$Case;)J" } : Jvm.MethodName) prog_8_method_15_code (4 : Nat) (Option.some Jvm.ClassFile.FieldType.long)) ∈ lw_all := lw_g (lw_at lw_m3 193 rfl) rfl
theorem q837 : (Jvm.Cond.methodLink "AskingCourt$Reader" (143 : Nat) ({ cls := "AskingCourt$Reader", name := "name", desc := "()J" } : Jvm.MethodName)) ∈ lw_all := lw_g (lw_at lw_m3 194 rfl) rfl
theorem q838 : (Jvm.Cond.privateMethod ({ cls := "AskingCourt$Reader", name := "name", desc := "()J" } : Jvm.MethodName)) ∈ lw_tbl := lw_at lw_m3 195 rfl
theorem q839 : (Jvm.Cond.instanceMethod ({ cls := "AskingCourt$Reader", name := "name", desc := "()J" } : Jvm.MethodName)) ∈ lw_all := lw_g (lw_at lw_m3 196 rfl) rfl
theorem q840 : (Jvm.Cond.code ({ cls := "AskingCourt$Reader", name := "name", desc := "()J" } : Jvm.MethodName) prog_8_method_14_code (4 : Nat) (Option.some Jvm.ClassFile.FieldType.long)) ∈ lw_all := lw_g (lw_at lw_m3 197 rfl) rfl
theorem q841 : (Jvm.Cond.methodLink "AskingCourt$Reader" (136 : Nat) ({ cls := "AskingCourt$Reader", name := "isName", desc := "()Z" } : Jvm.MethodName)) ∈ lw_all := lw_g (lw_at lw_m3 198 rfl) rfl
theorem q842 : (Jvm.Cond.privateMethod ({ cls := "AskingCourt$Reader", name := "isName", desc := "()Z" } : Jvm.MethodName)) ∈ lw_tbl := lw_at lw_m3 199 rfl
theorem q843 : (Jvm.Cond.instanceMethod ({ cls := "AskingCourt$Reader", name := "isName", desc := "()Z" } : Jvm.MethodName)) ∈ lw_all := lw_g (lw_at lw_m3 200 rfl) rfl
theorem q844 : (Jvm.Cond.code ({ cls := "AskingCourt$Reader", name := "isName", desc := "()Z" } : Jvm.MethodName) prog_8_method_13_code (1 : Nat) (Option.some Jvm.ClassFile.FieldType.boolean)) ∈ lw_all := lw_g (lw_at lw_m3 201 rfl) rfl
theorem q845 : (Jvm.Cond.methodLink "AskingCourt$Reader" (132 : Nat) ({ cls := "AskingCourt$Reader", name := "isKept", desc := "()Z" } : Jvm.MethodName)) ∈ lw_all := lw_g (lw_at lw_m3 202 rfl) rfl
theorem q846 : (Jvm.Cond.privateMethod ({ cls := "AskingCourt$Reader", name := "isKept", desc := "()Z" } : Jvm.MethodName)) ∈ lw_tbl := lw_at lw_m3 203 rfl
theorem q847 : (Jvm.Cond.instanceMethod ({ cls := "AskingCourt$Reader", name := "isKept", desc := "()Z" } : Jvm.MethodName)) ∈ lw_all := lw_g (lw_at lw_m3 204 rfl) rfl
theorem q848 : (Jvm.Cond.code ({ cls := "AskingCourt$Reader", name := "isKept", desc := "()Z" } : Jvm.MethodName) prog_8_method_12_code (3 : Nat) (Option.some Jvm.ClassFile.FieldType.boolean)) ∈ lw_all := lw_g (lw_at lw_m3 205 rfl) rfl
theorem q849 : (Jvm.Cond.stringRef "AskingCourt$Reader" (86 : Nat) "has") ∈ lw_tbl := lw_at lw_m3 206 rfl
theorem q850 : (Jvm.Cond.stringRef "AskingCourt$Reader" (88 : Nat) "never") ∈ lw_tbl := lw_at lw_m3 207 rfl
theorem q851 : (Jvm.Cond.stringRef "AskingCourt$Reader" (90 : Nat) "question") ∈ lw_tbl := lw_at lw_m3 208 rfl
theorem q852 : (Jvm.Cond.stringRef "AskingCourt$Reader" (92 : Nat) "fee") ∈ lw_tbl := lw_at lw_m3 209 rfl
theorem q853 : (Jvm.Cond.stringRef "AskingCourt$Reader" (94 : Nat) "asks") ∈ lw_tbl := lw_at lw_m3 210 rfl
theorem q854 : (Jvm.Cond.stringRef "AskingCourt$Reader" (96 : Nat) "witness") ∈ lw_tbl := lw_at lw_m3 211 rfl
theorem q855 : (Jvm.Cond.stringRef "AskingCourt$Reader" (98 : Nat) "knows") ∈ lw_tbl := lw_at lw_m3 212 rfl
theorem q856 : (Jvm.Cond.stringRef "AskingCourt$Reader" (100 : Nat) "may") ∈ lw_tbl := lw_at lw_m3 213 rfl
theorem q857 : (Jvm.Cond.stringRef "AskingCourt$Reader" (102 : Nat) "hides") ∈ lw_tbl := lw_at lw_m3 214 rfl
theorem q858 : (Jvm.Cond.stringRef "AskingCourt$Reader" (104 : Nat) "or") ∈ lw_tbl := lw_at lw_m3 215 rfl
theorem q859 : (Jvm.Cond.stringRef "AskingCourt$Reader" (106 : Nat) "and") ∈ lw_tbl := lw_at lw_m3 216 rfl
theorem q860 : (Jvm.Cond.stringRef "AskingCourt$Reader" (108 : Nat) "not") ∈ lw_tbl := lw_at lw_m3 217 rfl
theorem q861 : (Jvm.Cond.stringRef "AskingCourt$Reader" (110 : Nat) "ask") ∈ lw_tbl := lw_at lw_m3 218 rfl
theorem q862 : (Jvm.Cond.stringRef "AskingCourt$Reader" (112 : Nat) "best") ∈ lw_tbl := lw_at lw_m3 219 rfl
theorem q863 : (Jvm.Cond.stringRef "AskingCourt$Reader" (114 : Nat) "next") ∈ lw_tbl := lw_at lw_m3 220 rfl
theorem q864 : (Jvm.Cond.methodLink "AskingCourt$Reader" (115 : Nat) ({ cls := "AskingCourt$Reader", name := "kindOf", desc := "()I" } : Jvm.MethodName)) ∈ lw_all := lw_g (lw_at lw_m3 221 rfl) rfl
theorem q865 : (Jvm.Cond.privateMethod ({ cls := "AskingCourt$Reader", name := "kindOf", desc := "()I" } : Jvm.MethodName)) ∈ lw_tbl := lw_at lw_m3 222 rfl
theorem q866 : (Jvm.Cond.instanceMethod ({ cls := "AskingCourt$Reader", name := "kindOf", desc := "()I" } : Jvm.MethodName)) ∈ lw_all := lw_g (lw_at lw_m3 223 rfl) rfl
theorem q867 : (Jvm.Cond.code ({ cls := "AskingCourt$Reader", name := "kindOf", desc := "()I" } : Jvm.MethodName) prog_8_method_11_code (1 : Nat) (Option.some Jvm.ClassFile.FieldType.int)) ∈ lw_all := lw_g (lw_at lw_m3 224 rfl) rfl
theorem q868 : (Jvm.Cond.stringRef "AskingCourt$Reader" (76 : Nat) "honest") ∈ lw_tbl := lw_at lw_m3 225 rfl
theorem q869 : (Jvm.Cond.stringRef "AskingCourt$Reader" (78 : Nat) "turns") ∈ lw_tbl := lw_at lw_m3 226 rfl
theorem q870 : (Jvm.Cond.stringRef "AskingCourt$Reader" (80 : Nat) "other") ∈ lw_tbl := lw_at lw_m3 227 rfl
theorem q871 : (Jvm.Cond.stringRef "AskingCourt$Reader" (82 : Nat) "silent") ∈ lw_tbl := lw_at lw_m3 228 rfl
theorem q872 : (Jvm.Cond.stringRef "AskingCourt$Reader" (118 : Nat) "rule") ∈ lw_tbl := lw_at lw_m3 229 rfl
theorem q873 : (Jvm.Cond.stringRef "AskingCourt$Reader" (120 : Nat) "when") ∈ lw_tbl := lw_at lw_m3 230 rfl
theorem q874 : (Jvm.Cond.stringRef "AskingCourt$Reader" (122 : Nat) "sure") ∈ lw_tbl := lw_at lw_m3 231 rfl
theorem q875 : (Jvm.Cond.stringRef "AskingCourt$Reader" (124 : Nat) "yes") ∈ lw_tbl := lw_at lw_m3 232 rfl
theorem q876 : (Jvm.Cond.stringRef "AskingCourt$Reader" (126 : Nat) "no") ∈ lw_tbl := lw_at lw_m3 233 rfl
theorem q877 : (Jvm.Cond.stringRef "AskingCourt$Reader" (128 : Nat) "left") ∈ lw_tbl := lw_at lw_m3 234 rfl
theorem q878 : (Jvm.Cond.stringRef "AskingCourt$Reader" (130 : Nat) "end") ∈ lw_tbl := lw_at lw_m3 235 rfl
theorem q879 : (Jvm.Cond.methodLink "AskingCourt$Reader" (68 : Nat) ({ cls := "AskingCourt$Reader", name := "wrong", desc := "()LAskingCourt$Bad;" } : Jvm.MethodName)) ∈ lw_all := lw_g (lw_at lw_m3 236 rfl) rfl
theorem q880 : (Jvm.Cond.privateMethod ({ cls := "AskingCourt$Reader", name := "wrong", desc := "()LAskingCourt$Bad;" } : Jvm.MethodName)) ∈ lw_tbl := lw_at lw_m3 237 rfl
theorem q881 : (Jvm.Cond.instanceMethod ({ cls := "AskingCourt$Reader", name := "wrong", desc := "()LAskingCourt$Bad;" } : Jvm.MethodName)) ∈ lw_all := lw_g (lw_at lw_m3 238 rfl) rfl
theorem q882 : (Jvm.Cond.code ({ cls := "AskingCourt$Reader", name := "wrong", desc := "()LAskingCourt$Bad;" } : Jvm.MethodName) prog_8_method_7_code (1 : Nat) (Option.some (Jvm.ClassFile.FieldType.object "AskingCourt$Bad"))) ∈ lw_all := lw_g (lw_at lw_m3 239 rfl) rfl
theorem q883 : (Jvm.Cond.constantLong "AskingCourt$Reader" (139 : Nat) (32 : Int64)) ∈ lw_all := lw_g (lw_at lw_m4 0 rfl) rfl
theorem q884 : (Jvm.Cond.constantLong "AskingCourt$Reader" (141 : Nat) (96 : Int64)) ∈ lw_all := lw_g (lw_at lw_m4 1 rfl) rfl
theorem q885 : (Jvm.Cond.methodLink "AskingCourt$Reader" (147 : Nat) ({ cls := "AskingCourt$Case", name := "isTaken", desc := "(J)Z" } : Jvm.MethodName)) ∈ lw_all := lw_g (lw_at lw_m4 2 rfl) rfl
theorem q908 : (Jvm.Cond.methodLink "AskingCourt$Reader" (179 : Nat) ({ cls := "AskingCourt$Reader", name := "word", desc := "(Ljava/lang/String;)V" } : Jvm.MethodName)) ∈ lw_all := lw_g (lw_at lw_m4 25 rfl) rfl
theorem q909 : (Jvm.Cond.privateMethod ({ cls := "AskingCourt$Reader", name := "word", desc := "(Ljava/lang/String;)V" } : Jvm.MethodName)) ∈ lw_tbl := lw_at lw_m4 26 rfl
theorem q910 : (Jvm.Cond.instanceMethod ({ cls := "AskingCourt$Reader", name := "word", desc := "(Ljava/lang/String;)V" } : Jvm.MethodName)) ∈ lw_all := lw_g (lw_at lw_m4 27 rfl) rfl
theorem q911 : (Jvm.Cond.code ({ cls := "AskingCourt$Reader", name := "word", desc := "(Ljava/lang/String;)V" } : Jvm.MethodName) prog_8_method_9_code (2 : Nat) (Option.none : Option Jvm.ClassFile.FieldType)) ∈ lw_all := lw_g (lw_at lw_m4 28 rfl) rfl
theorem q912 : (Jvm.Cond.methodLink "AskingCourt$Reader" (206 : Nat) ({ cls := "AskingCourt$Reader", name := "number", desc := "(II)I" } : Jvm.MethodName)) ∈ lw_all := lw_g (lw_at lw_m4 29 rfl) rfl
theorem q913 : (Jvm.Cond.privateMethod ({ cls := "AskingCourt$Reader", name := "number", desc := "(II)I" } : Jvm.MethodName)) ∈ lw_tbl := lw_at lw_m4 30 rfl
theorem q914 : (Jvm.Cond.instanceMethod ({ cls := "AskingCourt$Reader", name := "number", desc := "(II)I" } : Jvm.MethodName)) ∈ lw_all := lw_g (lw_at lw_m4 31 rfl) rfl
theorem q915 : (Jvm.Cond.code ({ cls := "AskingCourt$Reader", name := "number", desc := "(II)I" } : Jvm.MethodName) prog_8_method_10_code (4 : Nat) (Option.some Jvm.ClassFile.FieldType.int)) ∈ lw_all := lw_g (lw_at lw_m4 32 rfl) rfl
theorem q916 : (Jvm.Cond.methodLink "AskingCourt$Reader" (64 : Nat) ({ cls := "AskingCourt$Reader", name := "isSign", desc := "(C)Z" } : Jvm.MethodName)) ∈ lw_all := lw_g (lw_at lw_m4 33 rfl) rfl
theorem q917 : (Jvm.Cond.privateMethod ({ cls := "AskingCourt$Reader", name := "isSign", desc := "(C)Z" } : Jvm.MethodName)) ∈ lw_tbl := lw_at lw_m4 34 rfl
theorem q918 : (Jvm.Cond.instanceMethod ({ cls := "AskingCourt$Reader", name := "isSign", desc := "(C)Z" } : Jvm.MethodName)) ∈ lw_all := lw_g (lw_at lw_m4 35 rfl) rfl
theorem q919 : (Jvm.Cond.code ({ cls := "AskingCourt$Reader", name := "isSign", desc := "(C)Z" } : Jvm.MethodName) prog_8_method_6_code (2 : Nat) (Option.some Jvm.ClassFile.FieldType.boolean)) ∈ lw_all := lw_g (lw_at lw_m4 36 rfl) rfl
theorem q920 : (Jvm.Cond.methodLink "AskingCourt$Reader" (212 : Nat) ({ cls := "AskingCourt$Reader", name := "grow", desc := "(LAskingCourt$Case;)V" } : Jvm.MethodName)) ∈ lw_all := lw_g (lw_at lw_m4 37 rfl) rfl
theorem q921 : (Jvm.Cond.privateMethod ({ cls := "AskingCourt$Reader", name := "grow", desc := "(LAskingCourt$Case;)V" } : Jvm.MethodName)) ∈ lw_tbl := lw_at lw_m4 38 rfl
theorem q922 : (Jvm.Cond.instanceMethod ({ cls := "AskingCourt$Reader", name := "grow", desc := "(LAskingCourt$Case;)V" } : Jvm.MethodName)) ∈ lw_all := lw_g (lw_at lw_m4 39 rfl) rfl
theorem q923 : (Jvm.Cond.code ({ cls := "AskingCourt$Reader", name := "grow", desc := "(LAskingCourt$Case;)V" } : Jvm.MethodName) prog_8_method_19_code (5 : Nat) (Option.none : Option Jvm.ClassFile.FieldType)) ∈ lw_all := lw_g (lw_at lw_m4 40 rfl) rfl
theorem q924 : (Jvm.Cond.classLink "AskingCourt$Reader" (215 : Nat) "AskingCourt$Worlds") ∈ lw_all := lw_g (lw_at lw_m4 41 rfl) rfl
theorem q925 : (Jvm.Cond.methodLinkNest "AskingCourt$Reader" (217 : Nat) ({ cls := "AskingCourt$Worlds", name := "<init>", desc := "()V" } : Jvm.MethodName) "AskingCourt") ∈ lw_tbl := lw_at lw_m4 42 rfl
theorem q926 : (Jvm.Cond.methodLink "AskingCourt$Reader" (222 : Nat) ({ cls := "AskingCourt$Worlds", name := "be", desc := "(LAskingCourt$Worlds;)LAskingCourt$Worlds;" } : Jvm.MethodName)) ∈ lw_all := lw_g (lw_at lw_m4 43 rfl) rfl
theorem q930 : (Jvm.Cond.methodLink "AskingCourt$Reader" (226 : Nat) ({ cls := "AskingCourt$Case", name := "grow", desc := "()V" } : Jvm.MethodName)) ∈ lw_all := lw_g (lw_at lw_m4 47 rfl) rfl
theorem q938 : (Jvm.Cond.methodLink "AskingCourt$Reader" (228 : Nat) ({ cls := "AskingCourt$Worlds", name := "has", desc := "(I)Z" } : Jvm.MethodName)) ∈ lw_all := lw_g (lw_at lw_m4 55 rfl) rfl
theorem q942 : (Jvm.Cond.methodLink "AskingCourt$Reader" (230 : Nat) ({ cls := "AskingCourt$Reader", name := "bar", desc := "(LAskingCourt$Case;I)V" } : Jvm.MethodName)) ∈ lw_all := lw_g (lw_at lw_m4 59 rfl) rfl
theorem q943 : (Jvm.Cond.privateMethod ({ cls := "AskingCourt$Reader", name := "bar", desc := "(LAskingCourt$Case;I)V" } : Jvm.MethodName)) ∈ lw_tbl := lw_at lw_m4 60 rfl
theorem q944 : (Jvm.Cond.instanceMethod ({ cls := "AskingCourt$Reader", name := "bar", desc := "(LAskingCourt$Case;I)V" } : Jvm.MethodName)) ∈ lw_all := lw_g (lw_at lw_m4 61 rfl) rfl
theorem q945 : (Jvm.Cond.code ({ cls := "AskingCourt$Reader", name := "bar", desc := "(LAskingCourt$Case;I)V" } : Jvm.MethodName) prog_8_method_20_code (4 : Nat) (Option.none : Option Jvm.ClassFile.FieldType)) ∈ lw_all := lw_g (lw_at lw_m4 62 rfl) rfl
theorem q946 : (Jvm.Cond.methodLink "AskingCourt$Reader" (234 : Nat) ({ cls := "AskingCourt$Worlds", name := "add", desc := "(I)V" } : Jvm.MethodName)) ∈ lw_all := lw_g (lw_at lw_m4 63 rfl) rfl
theorem q947 : (Jvm.Cond.methodLink "AskingCourt$Reader" (238 : Nat) ({ cls := "AskingCourt$Worlds", name := "drop", desc := "(LAskingCourt$Worlds;)V" } : Jvm.MethodName)) ∈ lw_all := lw_g (lw_at lw_m4 64 rfl) rfl
theorem q952 : (Jvm.Cond.methodLink "AskingCourt$Reader" (156 : Nat) ({ cls := "AskingCourt$Reader", name := "never", desc := "(LAskingCourt$Case;)V" } : Jvm.MethodName)) ∈ lw_all := lw_g (lw_at lw_m4 69 rfl) rfl
theorem q953 : (Jvm.Cond.privateMethod ({ cls := "AskingCourt$Reader", name := "never", desc := "(LAskingCourt$Case;)V" } : Jvm.MethodName)) ∈ lw_tbl := lw_at lw_m4 70 rfl
theorem q954 : (Jvm.Cond.instanceMethod ({ cls := "AskingCourt$Reader", name := "never", desc := "(LAskingCourt$Case;)V" } : Jvm.MethodName)) ∈ lw_all := lw_g (lw_at lw_m4 71 rfl) rfl
theorem q955 : (Jvm.Cond.code ({ cls := "AskingCourt$Reader", name := "never", desc := "(LAskingCourt$Case;)V" } : Jvm.MethodName) prog_8_method_22_code (5 : Nat) (Option.none : Option Jvm.ClassFile.FieldType)) ∈ lw_all := lw_g (lw_at lw_m4 72 rfl) rfl
theorem q956 : (Jvm.Cond.methodLink "AskingCourt$Reader" (250 : Nat) ({ cls := "AskingCourt$Reader", name := "value", desc := "(LAskingCourt$Case;)I" } : Jvm.MethodName)) ∈ lw_all := lw_g (lw_at lw_m4 73 rfl) rfl
theorem q957 : (Jvm.Cond.privateMethod ({ cls := "AskingCourt$Reader", name := "value", desc := "(LAskingCourt$Case;)I" } : Jvm.MethodName)) ∈ lw_tbl := lw_at lw_m4 74 rfl
theorem q958 : (Jvm.Cond.instanceMethod ({ cls := "AskingCourt$Reader", name := "value", desc := "(LAskingCourt$Case;)I" } : Jvm.MethodName)) ∈ lw_all := lw_g (lw_at lw_m4 75 rfl) rfl
theorem q959 : (Jvm.Cond.code ({ cls := "AskingCourt$Reader", name := "value", desc := "(LAskingCourt$Case;)I" } : Jvm.MethodName) prog_8_method_21_code (3 : Nat) (Option.some Jvm.ClassFile.FieldType.int)) ∈ lw_all := lw_g (lw_at lw_m4 76 rfl) rfl
theorem q960 : (Jvm.Cond.methodLink "AskingCourt$Reader" (242 : Nat) ({ cls := "AskingCourt$Case", name := "valueNamed", desc := "(J)I" } : Jvm.MethodName)) ∈ lw_all := lw_g (lw_at lw_m4 77 rfl) rfl
theorem q961 : (Jvm.Cond.methodLink "AskingCourt$Reader" (246 : Nat) ({ cls := "AskingCourt$Reader", name := "told", desc := "(I)I" } : Jvm.MethodName)) ∈ lw_all := lw_g (lw_at lw_m4 78 rfl) rfl
theorem q962 : (Jvm.Cond.privateMethod ({ cls := "AskingCourt$Reader", name := "told", desc := "(I)I" } : Jvm.MethodName)) ∈ lw_tbl := lw_at lw_m4 79 rfl
theorem q963 : (Jvm.Cond.instanceMethod ({ cls := "AskingCourt$Reader", name := "told", desc := "(I)I" } : Jvm.MethodName)) ∈ lw_all := lw_g (lw_at lw_m4 80 rfl) rfl
theorem q964 : (Jvm.Cond.code ({ cls := "AskingCourt$Reader", name := "told", desc := "(I)I" } : Jvm.MethodName) prog_8_method_16_code (2 : Nat) (Option.some Jvm.ClassFile.FieldType.int)) ∈ lw_all := lw_g (lw_at lw_m4 81 rfl) rfl
theorem q965 : (Jvm.Cond.methodLink "AskingCourt$Reader" (254 : Nat) ({ cls := "AskingCourt$Case", name := "hasValue", desc := "(II)Z" } : Jvm.MethodName)) ∈ lw_all := lw_g (lw_at lw_m4 82 rfl) rfl
theorem q973 : (Jvm.Cond.methodLink "AskingCourt$Reader" (158 : Nat) ({ cls := "AskingCourt$Reader", name := "question", desc := "(LAskingCourt$Case;)V" } : Jvm.MethodName)) ∈ lw_all := lw_g (lw_at lw_m4 90 rfl) rfl
theorem q974 : (Jvm.Cond.privateMethod ({ cls := "AskingCourt$Reader", name := "question", desc := "(LAskingCourt$Case;)V" } : Jvm.MethodName)) ∈ lw_tbl := lw_at lw_m4 91 rfl
theorem q975 : (Jvm.Cond.instanceMethod ({ cls := "AskingCourt$Reader", name := "question", desc := "(LAskingCourt$Case;)V" } : Jvm.MethodName)) ∈ lw_all := lw_g (lw_at lw_m4 92 rfl) rfl
theorem q976 : (Jvm.Cond.code ({ cls := "AskingCourt$Reader", name := "question", desc := "(LAskingCourt$Case;)V" } : Jvm.MethodName) prog_8_method_23_code (5 : Nat) (Option.none : Option Jvm.ClassFile.FieldType)) ∈ lw_all := lw_g (lw_at lw_m4 93 rfl) rfl
theorem q977 : (Jvm.Cond.methodLink "AskingCourt$Reader" (262 : Nat) ({ cls := "AskingCourt$Reader", name := "either", desc := "(LAskingCourt$Case;I)LAskingCourt$Worlds;" } : Jvm.MethodName)) ∈ lw_all := lw_g (lw_at lw_m4 94 rfl) rfl
theorem q978 : (Jvm.Cond.privateMethod ({ cls := "AskingCourt$Reader", name := "either", desc := "(LAskingCourt$Case;I)LAskingCourt$Worlds;" } : Jvm.MethodName)) ∈ lw_tbl := lw_at lw_m4 95 rfl
theorem q979 : (Jvm.Cond.instanceMethod ({ cls := "AskingCourt$Reader", name := "either", desc := "(LAskingCourt$Case;I)LAskingCourt$Worlds;" } : Jvm.MethodName)) ∈ lw_all := lw_g (lw_at lw_m4 96 rfl) rfl
theorem q980 : (Jvm.Cond.code ({ cls := "AskingCourt$Reader", name := "either", desc := "(LAskingCourt$Case;I)LAskingCourt$Worlds;" } : Jvm.MethodName) prog_8_method_24_code (4 : Nat) (Option.some (Jvm.ClassFile.FieldType.object "AskingCourt$Worlds"))) ∈ lw_all := lw_g (lw_at lw_m4 97 rfl) rfl
theorem q981 : (Jvm.Cond.methodLink "AskingCourt$Reader" (272 : Nat) ({ cls := "AskingCourt$Reader", name := "both", desc := "(LAskingCourt$Case;I)LAskingCourt$Worlds;" } : Jvm.MethodName)) ∈ lw_all := lw_g (lw_at lw_m4 98 rfl) rfl
theorem q982 : (Jvm.Cond.privateMethod ({ cls := "AskingCourt$Reader", name := "both", desc := "(LAskingCourt$Case;I)LAskingCourt$Worlds;" } : Jvm.MethodName)) ∈ lw_tbl := lw_at lw_m4 99 rfl
theorem q983 : (Jvm.Cond.instanceMethod ({ cls := "AskingCourt$Reader", name := "both", desc := "(LAskingCourt$Case;I)LAskingCourt$Worlds;" } : Jvm.MethodName)) ∈ lw_all := lw_g (lw_at lw_m4 100 rfl) rfl
theorem q984 : (Jvm.Cond.code ({ cls := "AskingCourt$Reader", name := "both", desc := "(LAskingCourt$Case;I)LAskingCourt$Worlds;" } : Jvm.MethodName) prog_8_method_25_code (4 : Nat) (Option.some (Jvm.ClassFile.FieldType.object "AskingCourt$Worlds"))) ∈ lw_all := lw_g (lw_at lw_m4 101 rfl) rfl
theorem q985 : (Jvm.Cond.methodLink "AskingCourt$Reader" (278 : Nat) ({ cls := "AskingCourt$Reader", name := "one", desc := "(LAskingCourt$Case;I)LAskingCourt$Worlds;" } : Jvm.MethodName)) ∈ lw_all := lw_g (lw_at lw_m4 102 rfl) rfl
theorem q986 : (Jvm.Cond.privateMethod ({ cls := "AskingCourt$Reader", name := "one", desc := "(LAskingCourt$Case;I)LAskingCourt$Worlds;" } : Jvm.MethodName)) ∈ lw_tbl := lw_at lw_m4 103 rfl
theorem q987 : (Jvm.Cond.instanceMethod ({ cls := "AskingCourt$Reader", name := "one", desc := "(LAskingCourt$Case;I)LAskingCourt$Worlds;" } : Jvm.MethodName)) ∈ lw_all := lw_g (lw_at lw_m4 104 rfl) rfl
theorem q988 : (Jvm.Cond.code ({ cls := "AskingCourt$Reader", name := "one", desc := "(LAskingCourt$Case;I)LAskingCourt$Worlds;" } : Jvm.MethodName) prog_8_method_26_code (8 : Nat) (Option.some (Jvm.ClassFile.FieldType.object "AskingCourt$Worlds"))) ∈ lw_all := lw_g (lw_at lw_m4 105 rfl) rfl
theorem q989 : (Jvm.Cond.methodLink "AskingCourt$Reader" (162 : Nat) ({ cls := "AskingCourt$Reader", name := "sign", desc := "(C)V" } : Jvm.MethodName)) ∈ lw_all := lw_g (lw_at lw_m4 106 rfl) rfl
theorem q990 : (Jvm.Cond.privateMethod ({ cls := "AskingCourt$Reader", name := "sign", desc := "(C)V" } : Jvm.MethodName)) ∈ lw_tbl := lw_at lw_m4 107 rfl
theorem q991 : (Jvm.Cond.instanceMethod ({ cls := "AskingCourt$Reader", name := "sign", desc := "(C)V" } : Jvm.MethodName)) ∈ lw_all := lw_g (lw_at lw_m4 108 rfl) rfl
theorem q992 : (Jvm.Cond.code ({ cls := "AskingCourt$Reader", name := "sign", desc := "(C)V" } : Jvm.MethodName) prog_8_method_8_code (2 : Nat) (Option.none : Option Jvm.ClassFile.FieldType)) ∈ lw_all := lw_g (lw_at lw_m4 109 rfl) rfl
theorem q993 : (Jvm.Cond.methodLink "AskingCourt$Reader" (281 : Nat) ({ cls := "AskingCourt$Worlds", name := "keep", desc := "(LAskingCourt$Worlds;)V" } : Jvm.MethodName)) ∈ lw_all := lw_g (lw_at lw_m4 110 rfl) rfl
theorem q997 : (Jvm.Cond.methodLink "AskingCourt$Reader" (275 : Nat) ({ cls := "AskingCourt$Worlds", name := "join", desc := "(LAskingCourt$Worlds;)V" } : Jvm.MethodName)) ∈ lw_all := lw_g (lw_at lw_m4 114 rfl) rfl
theorem q1001 : (Jvm.Cond.methodLink "AskingCourt$Reader" (160 : Nat) ({ cls := "AskingCourt$Reader", name := "witness", desc := "(LAskingCourt$Case;)V" } : Jvm.MethodName)) ∈ lw_all := lw_g (lw_at lw_m4 118 rfl) rfl
theorem q1002 : (Jvm.Cond.privateMethod ({ cls := "AskingCourt$Reader", name := "witness", desc := "(LAskingCourt$Case;)V" } : Jvm.MethodName)) ∈ lw_tbl := lw_at lw_m4 119 rfl
theorem q1003 : (Jvm.Cond.instanceMethod ({ cls := "AskingCourt$Reader", name := "witness", desc := "(LAskingCourt$Case;)V" } : Jvm.MethodName)) ∈ lw_all := lw_g (lw_at lw_m4 120 rfl) rfl
theorem q1004 : (Jvm.Cond.code ({ cls := "AskingCourt$Reader", name := "witness", desc := "(LAskingCourt$Case;)V" } : Jvm.MethodName) prog_8_method_27_code (5 : Nat) (Option.none : Option Jvm.ClassFile.FieldType)) ∈ lw_all := lw_g (lw_at lw_m4 121 rfl) rfl
theorem q1005 : (Jvm.Cond.classLink "AskingCourt$Reader" (287 : Nat) "AskingCourt$Witness") ∈ lw_all := lw_g (lw_at lw_m4 122 rfl) rfl
theorem q1007 : (Jvm.Cond.methodLinkNest "AskingCourt$Reader" (289 : Nat) ({ cls := "AskingCourt$Witness", name := "<init>", desc := "()V" } : Jvm.MethodName) "AskingCourt") ∈ lw_tbl := lw_at lw_m4 124 rfl
theorem q1012 : (Jvm.Cond.fieldLinkNest "AskingCourt$Reader" (290 : Nat) "AskingCourt$Witness" "knows" "I" "AskingCourt") ∈ lw_tbl := lw_at lw_m4 129 rfl
theorem q1015 : (Jvm.Cond.fieldLinkNest "AskingCourt$Reader" (302 : Nat) "AskingCourt$Witness" "hides" "I" "AskingCourt") ∈ lw_tbl := lw_at lw_m4 132 rfl
theorem q1019 : (Jvm.Cond.fieldLinkNest "AskingCourt$Reader" (313 : Nat) "AskingCourt$Witness" "may" "[I" "AskingCourt") ∈ lw_tbl := lw_at lw_m4 136 rfl
theorem q1028 : (Jvm.Cond.methodLink "AskingCourt$Reader" (292 : Nat) ({ cls := "AskingCourt$Case", name := "factNamed", desc := "(J)I" } : Jvm.MethodName)) ∈ lw_all := lw_g (lw_at lw_m4 145 rfl) rfl
theorem q1029 : (Jvm.Cond.methodLink "AskingCourt$Reader" (295 : Nat) ({ cls := "AskingCourt$Reader", name := "fresh", desc := "(II)I" } : Jvm.MethodName)) ∈ lw_all := lw_g (lw_at lw_m4 146 rfl) rfl
theorem q1030 : (Jvm.Cond.privateMethod ({ cls := "AskingCourt$Reader", name := "fresh", desc := "(II)I" } : Jvm.MethodName)) ∈ lw_tbl := lw_at lw_m4 147 rfl
theorem q1031 : (Jvm.Cond.instanceMethod ({ cls := "AskingCourt$Reader", name := "fresh", desc := "(II)I" } : Jvm.MethodName)) ∈ lw_all := lw_g (lw_at lw_m4 148 rfl) rfl
theorem q1032 : (Jvm.Cond.code ({ cls := "AskingCourt$Reader", name := "fresh", desc := "(II)I" } : Jvm.MethodName) prog_8_method_28_code (3 : Nat) (Option.some Jvm.ClassFile.FieldType.int)) ∈ lw_all := lw_g (lw_at lw_m4 149 rfl) rfl
theorem q1033 : (Jvm.Cond.methodLink "AskingCourt$Reader" (298 : Nat) ({ cls := "AskingCourt$Reader", name := "kinds", desc := "(LAskingCourt$Witness;)V" } : Jvm.MethodName)) ∈ lw_all := lw_g (lw_at lw_m4 150 rfl) rfl
theorem q1034 : (Jvm.Cond.privateMethod ({ cls := "AskingCourt$Reader", name := "kinds", desc := "(LAskingCourt$Witness;)V" } : Jvm.MethodName)) ∈ lw_tbl := lw_at lw_m4 151 rfl
theorem q1035 : (Jvm.Cond.instanceMethod ({ cls := "AskingCourt$Reader", name := "kinds", desc := "(LAskingCourt$Witness;)V" } : Jvm.MethodName)) ∈ lw_all := lw_g (lw_at lw_m4 152 rfl) rfl
theorem q1036 : (Jvm.Cond.code ({ cls := "AskingCourt$Reader", name := "kinds", desc := "(LAskingCourt$Witness;)V" } : Jvm.MethodName) prog_8_method_29_code (4 : Nat) (Option.none : Option Jvm.ClassFile.FieldType)) ∈ lw_all := lw_g (lw_at lw_m4 153 rfl) rfl
theorem q1037 : (Jvm.Cond.methodLink "AskingCourt$Reader" (304 : Nat) ({ cls := "AskingCourt$Case", name := "questionNamed", desc := "(J)I" } : Jvm.MethodName)) ∈ lw_all := lw_g (lw_at lw_m4 154 rfl) rfl
theorem q1038 : (Jvm.Cond.methodLink "AskingCourt$Reader" (166 : Nat) ({ cls := "AskingCourt$Case", name := "tell", desc := "()V" } : Jvm.MethodName)) ∈ lw_all := lw_g (lw_at lw_m4 155 rfl) rfl
theorem q1112 : (Jvm.Cond.instanceMethod ({ cls := "AskingCourt$Reader", name := "plan", desc := "(LAskingCourt$Case;LAskingCourt$Block;)V" } : Jvm.MethodName)) ∈ lw_all := lw_g (lw_at lw_m4 229 rfl) rfl
theorem q1113 : (Jvm.Cond.selects "AskingCourt$Reader" ({ cls := "AskingCourt$Reader", name := "plan", desc := "(LAskingCourt$Case;LAskingCourt$Block;)V" } : Jvm.MethodName) ({ cls := "AskingCourt$Reader", name := "plan", desc := "(LAskingCourt$Case;LAskingCourt$Block;)V" } : Jvm.MethodName)) ∈ lw_all := lw_g (lw_at lw_m4 230 rfl) rfl
theorem q1114 : (Jvm.Cond.code ({ cls := "AskingCourt$Reader", name := "plan", desc := "(LAskingCourt$Case;LAskingCourt$Block;)V" } : Jvm.MethodName) prog_8_method_30_code (3 : Nat) (Option.none : Option Jvm.ClassFile.FieldType)) ∈ lw_all := lw_g (lw_at lw_m4 231 rfl) rfl
theorem q1115 : (Jvm.Cond.methodLink "AskingCourt$Reader" (315 : Nat) ({ cls := "AskingCourt$Reader", name := "step", desc := "(LAskingCourt$Case;LAskingCourt$Block;I)V" } : Jvm.MethodName)) ∈ lw_all := lw_g (lw_at lw_m4 232 rfl) rfl
theorem q1116 : (Jvm.Cond.privateMethod ({ cls := "AskingCourt$Reader", name := "step", desc := "(LAskingCourt$Case;LAskingCourt$Block;I)V" } : Jvm.MethodName)) ∈ lw_tbl := lw_at lw_m4 233 rfl
theorem q1117 : (Jvm.Cond.instanceMethod ({ cls := "AskingCourt$Reader", name := "step", desc := "(LAskingCourt$Case;LAskingCourt$Block;I)V" } : Jvm.MethodName)) ∈ lw_all := lw_g (lw_at lw_m4 234 rfl) rfl
theorem q1118 : (Jvm.Cond.code ({ cls := "AskingCourt$Reader", name := "step", desc := "(LAskingCourt$Case;LAskingCourt$Block;I)V" } : Jvm.MethodName) prog_8_method_34_code (6 : Nat) (Option.none : Option Jvm.ClassFile.FieldType)) ∈ lw_all := lw_g (lw_at lw_m4 235 rfl) rfl
theorem q1119 : (Jvm.Cond.methodLink "AskingCourt$Reader" (322 : Nat) ({ cls := "AskingCourt$Reader", name := "isStep", desc := "()Z" } : Jvm.MethodName)) ∈ lw_all := lw_g (lw_at lw_m4 236 rfl) rfl
theorem q1120 : (Jvm.Cond.privateMethod ({ cls := "AskingCourt$Reader", name := "isStep", desc := "()Z" } : Jvm.MethodName)) ∈ lw_tbl := lw_at lw_m4 237 rfl
theorem q1121 : (Jvm.Cond.instanceMethod ({ cls := "AskingCourt$Reader", name := "isStep", desc := "()Z" } : Jvm.MethodName)) ∈ lw_all := lw_g (lw_at lw_m4 238 rfl) rfl
theorem q1122 : (Jvm.Cond.code ({ cls := "AskingCourt$Reader", name := "isStep", desc := "()Z" } : Jvm.MethodName) prog_8_method_33_code (1 : Nat) (Option.some Jvm.ClassFile.FieldType.boolean)) ∈ lw_all := lw_g (lw_at lw_m4 239 rfl) rfl
theorem q1123 : (Jvm.Cond.methodLink "AskingCourt$Reader" (328 : Nat) ({ cls := "AskingCourt$Reader", name := "when", desc := "(LAskingCourt$Case;I)LAskingCourt$When;" } : Jvm.MethodName)) ∈ lw_all := lw_g (lw_at lw_m5 0 rfl) rfl
theorem q1124 : (Jvm.Cond.privateMethod ({ cls := "AskingCourt$Reader", name := "when", desc := "(LAskingCourt$Case;I)LAskingCourt$When;" } : Jvm.MethodName)) ∈ lw_tbl := lw_at lw_m5 1 rfl
theorem q1125 : (Jvm.Cond.instanceMethod ({ cls := "AskingCourt$Reader", name := "when", desc := "(LAskingCourt$Case;I)LAskingCourt$When;" } : Jvm.MethodName)) ∈ lw_all := lw_g (lw_at lw_m5 2 rfl) rfl
theorem q1126 : (Jvm.Cond.code ({ cls := "AskingCourt$Reader", name := "when", desc := "(LAskingCourt$Case;I)LAskingCourt$When;" } : Jvm.MethodName) prog_8_method_36_code (5 : Nat) (Option.some (Jvm.ClassFile.FieldType.object "AskingCourt$When"))) ∈ lw_all := lw_g (lw_at lw_m5 3 rfl) rfl
theorem q1127 : (Jvm.Cond.classLink "AskingCourt$Reader" (356 : Nat) "AskingCourt$When") ∈ lw_all := lw_g (lw_at lw_m5 4 rfl) rfl
theorem q1129 : (Jvm.Cond.methodLink "AskingCourt$Reader" (344 : Nat) ({ cls := "AskingCourt$Reader", name := "questionNamed", desc := "(LAskingCourt$Case;)I" } : Jvm.MethodName)) ∈ lw_all := lw_g (lw_at lw_m5 6 rfl) rfl
theorem q1130 : (Jvm.Cond.privateMethod ({ cls := "AskingCourt$Reader", name := "questionNamed", desc := "(LAskingCourt$Case;)I" } : Jvm.MethodName)) ∈ lw_tbl := lw_at lw_m5 7 rfl
theorem q1131 : (Jvm.Cond.instanceMethod ({ cls := "AskingCourt$Reader", name := "questionNamed", desc := "(LAskingCourt$Case;)I" } : Jvm.MethodName)) ∈ lw_all := lw_g (lw_at lw_m5 8 rfl) rfl
theorem q1132 : (Jvm.Cond.code ({ cls := "AskingCourt$Reader", name := "questionNamed", desc := "(LAskingCourt$Case;)I" } : Jvm.MethodName) prog_8_method_32_code (3 : Nat) (Option.some Jvm.ClassFile.FieldType.int)) ∈ lw_all := lw_g (lw_at lw_m5 9 rfl) rfl
theorem q1133 : (Jvm.Cond.methodLink "AskingCourt$Reader" (358 : Nat) ({ cls := "AskingCourt$When", name := "<init>", desc := "(LAskingCourt;II)V" } : Jvm.MethodName)) ∈ lw_all := lw_g (lw_at lw_m5 10 rfl) rfl
theorem q1149 : (Jvm.Cond.methodLink "AskingCourt$Reader" (331 : Nat) ({ cls := "AskingCourt$Reader", name := "plain", desc := "(LAskingCourt$Case;)LAskingCourt$Step;" } : Jvm.MethodName)) ∈ lw_all := lw_g (lw_at lw_m5 26 rfl) rfl
theorem q1150 : (Jvm.Cond.privateMethod ({ cls := "AskingCourt$Reader", name := "plain", desc := "(LAskingCourt$Case;)LAskingCourt$Step;" } : Jvm.MethodName)) ∈ lw_tbl := lw_at lw_m5 27 rfl
theorem q1151 : (Jvm.Cond.instanceMethod ({ cls := "AskingCourt$Reader", name := "plain", desc := "(LAskingCourt$Case;)LAskingCourt$Step;" } : Jvm.MethodName)) ∈ lw_all := lw_g (lw_at lw_m5 28 rfl) rfl
theorem q1152 : (Jvm.Cond.code ({ cls := "AskingCourt$Reader", name := "plain", desc := "(LAskingCourt$Case;)LAskingCourt$Step;" } : Jvm.MethodName) prog_8_method_35_code (6 : Nat) (Option.some (Jvm.ClassFile.FieldType.object "AskingCourt$Step"))) ∈ lw_all := lw_g (lw_at lw_m5 29 rfl) rfl
theorem q1153 : (Jvm.Cond.methodLink "AskingCourt$Reader" (340 : Nat) ({ cls := "AskingCourt$Reader", name := "witnessNamed", desc := "(LAskingCourt$Case;)I" } : Jvm.MethodName)) ∈ lw_all := lw_g (lw_at lw_m5 30 rfl) rfl
theorem q1154 : (Jvm.Cond.privateMethod ({ cls := "AskingCourt$Reader", name := "witnessNamed", desc := "(LAskingCourt$Case;)I" } : Jvm.MethodName)) ∈ lw_tbl := lw_at lw_m5 31 rfl
theorem q1155 : (Jvm.Cond.instanceMethod ({ cls := "AskingCourt$Reader", name := "witnessNamed", desc := "(LAskingCourt$Case;)I" } : Jvm.MethodName)) ∈ lw_all := lw_g (lw_at lw_m5 32 rfl) rfl
theorem q1156 : (Jvm.Cond.code ({ cls := "AskingCourt$Reader", name := "witnessNamed", desc := "(LAskingCourt$Case;)I" } : Jvm.MethodName) prog_8_method_31_code (3 : Nat) (Option.some Jvm.ClassFile.FieldType.int)) ∈ lw_all := lw_g (lw_at lw_m5 33 rfl) rfl
theorem q1157 : (Jvm.Cond.methodLink "AskingCourt$Reader" (319 : Nat) ({ cls := "AskingCourt$Case", name := "witnessNamed", desc := "(J)I" } : Jvm.MethodName)) ∈ lw_all := lw_g (lw_at lw_m5 34 rfl) rfl
theorem q1158 : (Jvm.Cond.classLink "AskingCourt$Reader" (342 : Nat) "AskingCourt$Ask") ∈ lw_all := lw_g (lw_at lw_m5 35 rfl) rfl
theorem q1160 : (Jvm.Cond.methodLink "AskingCourt$Reader" (346 : Nat) ({ cls := "AskingCourt$Ask", name := "<init>", desc := "(II)V" } : Jvm.MethodName)) ∈ lw_all := lw_g (lw_at lw_m5 37 rfl) rfl
theorem q1171 : (Jvm.Cond.classLink "AskingCourt$Reader" (349 : Nat) "AskingCourt$Rule") ∈ lw_all := lw_g (lw_at lw_m5 48 rfl) rfl
theorem q1173 : (Jvm.Cond.methodLink "AskingCourt$Reader" (351 : Nat) ({ cls := "AskingCourt$Rule", name := "<init>", desc := "(I)V" } : Jvm.MethodName)) ∈ lw_all := lw_g (lw_at lw_m5 50 rfl) rfl
theorem q1181 : (Jvm.Cond.classLink "AskingCourt$Reader" (353 : Nat) "AskingCourt$NextDay") ∈ lw_all := lw_g (lw_at lw_m5 58 rfl) rfl
theorem q1183 : (Jvm.Cond.methodLinkNest "AskingCourt$Reader" (355 : Nat) ({ cls := "AskingCourt$NextDay", name := "<init>", desc := "()V" } : Jvm.MethodName) "AskingCourt") ∈ lw_tbl := lw_at lw_m5 60 rfl
theorem q1188 : (Jvm.Cond.methodLink "AskingCourt$Reader" (335 : Nat) ({ cls := "AskingCourt$Block", name := "add", desc := "(LAskingCourt$Step;)V" } : Jvm.MethodName)) ∈ lw_all := lw_g (lw_at lw_m5 65 rfl) rfl
theorem in_X10 : ∀ w ∈ wsX100, w ∈ lw_all := lw_in wsX100 [753, 755, 757, 759, 761, 763, 765] (by decide +kernel) (by decide +kernel)
/-! the law's own entry -/
set_option maxRecDepth 100000
abbrev cL_law : ByteArray := code
def dkwL_law_55 : List UInt8 := [182, 0, 207, 159, 0, 5, 3, 172, 132, 3, 6, 167, 250, 85, 4, 172]
abbrev dktL_law_55 : List UInt8 := dkwL_law_55 ++ []
def dkwL_law_54 : List UInt8 := [159, 0, 31, 3, 172, 43, 182, 0, 200, 44, 182, 0, 203, 159, 0, 18, 3, 172, 43, 182, 0, 204, 44]
abbrev dktL_law_54 : List UInt8 := dkwL_law_54 ++ dktL_law_55
def dkwL_law_53 : List UInt8 := [182, 0, 196, 44, 42, 29, 4, 96, 46, 42, 29, 5, 96, 46, 42, 29, 6, 96, 46, 182, 0, 199]
abbrev dktL_law_53 : List UInt8 := dkwL_law_53 ++ dktL_law_54
def dkwL_law_52 : List UInt8 := [182, 0, 195, 159, 0, 74, 3, 172, 43, 42, 29, 4, 96, 46, 42, 29, 5, 96, 46, 42, 29, 6, 96, 46]
abbrev dktL_law_52 : List UInt8 := dkwL_law_52 ++ dktL_law_53
def dkwL_law_51 : List UInt8 := [182, 0, 191, 159, 0, 97, 3, 172, 43, 42, 29, 4, 96, 46, 182, 0, 192, 44, 42, 29, 4, 96, 46]
abbrev dktL_law_51 : List UInt8 := dkwL_law_51 ++ dktL_law_52
def dkwL_law_50 : List UInt8 := [182, 0, 187, 159, 0, 120, 3, 172, 43, 42, 29, 4, 96, 46, 182, 0, 188, 44, 42, 29, 4, 96, 46]
abbrev dktL_law_50 : List UInt8 := dkwL_law_50 ++ dktL_law_51
def dkwL_law_49 : List UInt8 := [159, 0, 146, 3, 172, 43, 182, 0, 180, 44, 182, 0, 183, 159, 0, 133, 3, 172, 43, 182, 0, 184, 44]
abbrev dktL_law_49 : List UInt8 := dkwL_law_49 ++ dktL_law_50
def dkwL_law_48 : List UInt8 := [172, 43, 182, 0, 172, 44, 182, 0, 175, 159, 0, 159, 3, 172, 43, 182, 0, 176, 44, 182, 0, 179]
abbrev dktL_law_48 : List UInt8 := dkwL_law_48 ++ dktL_law_49
def dkwL_law_47 : List UInt8 := [3, 172, 43, 42, 29, 4, 96, 46, 182, 0, 168, 44, 42, 29, 4, 96, 46, 182, 0, 171, 159, 0, 172, 3]
abbrev dktL_law_47 : List UInt8 := dkwL_law_47 ++ dktL_law_48
def dkwL_law_46 : List UInt8 := [29, 5, 96, 46, 182, 0, 164, 44, 42, 29, 4, 96, 46, 42, 29, 5, 96, 46, 182, 0, 167, 159, 0, 195]
abbrev dktL_law_46 : List UInt8 := dkwL_law_46 ++ dktL_law_47
def dkwL_law_45 : List UInt8 := [182, 0, 160, 44, 42, 29, 4, 96, 46, 182, 0, 163, 159, 0, 228, 3, 172, 43, 42, 29, 4, 96, 46, 42]
abbrev dktL_law_45 : List UInt8 := dkwL_law_45 ++ dktL_law_46
def dkwL_law_44 : List UInt8 := [42, 29, 4, 96, 46, 42, 29, 5, 96, 46, 182, 0, 159, 159, 0, 251, 3, 172, 43, 42, 29, 4, 96, 46]
abbrev dktL_law_44 : List UInt8 := dkwL_law_44 ++ dktL_law_45
def dkwL_law_43 : List UInt8 := [44, 182, 0, 155, 159, 1, 28, 3, 172, 43, 42, 29, 4, 96, 46, 42, 29, 5, 96, 46, 182, 0, 156, 44]
abbrev dktL_law_43 : List UInt8 := dkwL_law_43 ++ dktL_law_44
def dkwL_law_42 : List UInt8 := [4, 96, 46, 182, 0, 148, 44, 42, 29, 4, 96, 46, 182, 0, 151, 159, 1, 41, 3, 172, 43, 182, 0, 152]
abbrev dktL_law_42 : List UInt8 := dkwL_law_42 ++ dktL_law_43
def dkwL_law_41 : List UInt8 := [29, 4, 96, 46, 182, 0, 144, 44, 42, 29, 4, 96, 46, 182, 0, 147, 159, 1, 64, 3, 172, 43, 42, 29]
abbrev dktL_law_41 : List UInt8 := dkwL_law_41 ++ dktL_law_42
def dkwL_law_40 : List UInt8 := [182, 0, 139, 44, 42, 29, 4, 96, 46, 42, 29, 5, 96, 46, 182, 0, 143, 159, 1, 87, 3, 172, 43, 42]
abbrev dktL_law_40 : List UInt8 := dkwL_law_40 ++ dktL_law_41
def dkwL_law_39 : List UInt8 := [42, 29, 4, 96, 46, 182, 0, 138, 159, 1, 120, 3, 172, 43, 42, 29, 4, 96, 46, 42, 29, 5, 96, 46]
abbrev dktL_law_39 : List UInt8 := dkwL_law_39 ++ dktL_law_40
def dkwL_law_38 : List UInt8 := [44, 42, 29, 4, 96, 46, 182, 0, 133, 159, 1, 143, 3, 172, 43, 42, 29, 4, 96, 46, 182, 0, 134, 44]
abbrev dktL_law_38 : List UInt8 := dkwL_law_38 ++ dktL_law_39
def dkwL_law_37 : List UInt8 := [96, 46, 42, 29, 6, 96, 46, 182, 0, 129, 159, 1, 166, 3, 172, 43, 42, 29, 4, 96, 46, 182, 0, 130]
abbrev dktL_law_37 : List UInt8 := dkwL_law_37 ++ dktL_law_38
def dkwL_law_36 : List UInt8 := [96, 46, 42, 29, 5, 96, 46, 42, 29, 6, 96, 46, 182, 0, 125, 44, 42, 29, 4, 96, 46, 42, 29, 5]
abbrev dktL_law_36 : List UInt8 := dkwL_law_36 ++ dktL_law_37
def dkwL_law_35 : List UInt8 := [4, 96, 46, 182, 0, 121, 44, 42, 29, 4, 96, 46, 182, 0, 124, 159, 1, 209, 3, 172, 43, 42, 29, 4]
abbrev dktL_law_35 : List UInt8 := dkwL_law_35 ++ dktL_law_36
def dkwL_law_34 : List UInt8 := [182, 0, 116, 159, 1, 245, 3, 172, 43, 182, 0, 117, 44, 182, 0, 120, 159, 1, 232, 3, 172, 43, 42, 29]
abbrev dktL_law_34 : List UInt8 := dkwL_law_34 ++ dktL_law_35
def dkwL_law_33 : List UInt8 := [4, 96, 46, 42, 29, 5, 96, 46, 182, 0, 113, 44, 42, 29, 4, 96, 46, 42, 29, 5, 96, 46]
abbrev dktL_law_33 : List UInt8 := dkwL_law_33 ++ dktL_law_34
def dkwL_law_32 : List UInt8 := [182, 0, 108, 159, 2, 35, 3, 172, 43, 182, 0, 109, 44, 182, 0, 112, 159, 2, 22, 3, 172, 43, 42, 29]
abbrev dktL_law_32 : List UInt8 := dkwL_law_32 ++ dktL_law_33
def dkwL_law_31 : List UInt8 := [42, 29, 5, 96, 46, 42, 29, 6, 96, 46, 182, 0, 104, 159, 2, 48, 3, 172, 43, 182, 0, 105, 44]
abbrev dktL_law_31 : List UInt8 := dkwL_law_31 ++ dktL_law_32
def dkwL_law_30 : List UInt8 := [42, 29, 4, 96, 46, 42, 29, 5, 96, 46, 42, 29, 6, 96, 46, 182, 0, 101, 44, 42, 29, 4, 96, 46]
abbrev dktL_law_30 : List UInt8 := dkwL_law_30 ++ dktL_law_31
def dkwL_law_29 : List UInt8 := [42, 29, 5, 96, 46, 42, 29, 6, 96, 46, 42, 29, 7, 96, 46, 182, 0, 100, 159, 2, 91, 3, 172, 43]
abbrev dktL_law_29 : List UInt8 := dkwL_law_29 ++ dktL_law_30
def dkwL_law_28 : List UInt8 := [42, 29, 5, 96, 46, 42, 29, 6, 96, 46, 42, 29, 7, 96, 46, 182, 0, 96, 44, 42, 29, 4, 96, 46]
abbrev dktL_law_28 : List UInt8 := dkwL_law_28 ++ dktL_law_29
def dkwL_law_27 : List UInt8 := [42, 29, 4, 96, 46, 42, 29, 5, 96, 46, 182, 0, 95, 159, 2, 144, 3, 172, 43, 42, 29, 4, 96, 46]
abbrev dktL_law_27 : List UInt8 := dkwL_law_27 ++ dktL_law_28
def dkwL_law_26 : List UInt8 := [46, 182, 0, 91, 159, 2, 177, 3, 172, 43, 42, 29, 4, 96, 46, 42, 29, 5, 96, 46, 182, 0, 92, 44]
abbrev dktL_law_26 : List UInt8 := dkwL_law_26 ++ dktL_law_27
def dkwL_law_25 : List UInt8 := [96, 46, 182, 0, 87, 159, 2, 200, 3, 172, 43, 42, 29, 4, 96, 46, 182, 0, 88, 44, 42, 29, 4, 96]
abbrev dktL_law_25 : List UInt8 := dkwL_law_25 ++ dktL_law_26
def dkwL_law_24 : List UInt8 := [172, 43, 42, 29, 4, 96, 46, 42, 29, 5, 96, 46, 182, 0, 84, 44, 42, 29, 4, 96, 46, 42, 29, 5]
abbrev dktL_law_24 : List UInt8 := dkwL_law_24 ++ dktL_law_25
def dkwL_law_23 : List UInt8 := [3, 172, 43, 42, 29, 4, 96, 46, 182, 0, 80, 44, 42, 29, 4, 96, 46, 182, 0, 83, 159, 2, 233, 3]
abbrev dktL_law_23 : List UInt8 := dkwL_law_23 ++ dktL_law_24
def dkwL_law_22 : List UInt8 := [29, 5, 96, 46, 182, 0, 76, 44, 42, 29, 4, 96, 46, 42, 29, 5, 96, 46, 182, 0, 79, 159, 3, 0]
abbrev dktL_law_22 : List UInt8 := dkwL_law_22 ++ dktL_law_23
def dkwL_law_21 : List UInt8 := [29, 4, 96, 46, 42, 29, 5, 96, 46, 182, 0, 75, 159, 3, 33, 3, 172, 43, 42, 29, 4, 96, 46, 42]
abbrev dktL_law_21 : List UInt8 := dkwL_law_21 ++ dktL_law_22
def dkwL_law_20 : List UInt8 := [182, 0, 70, 159, 3, 66, 3, 172, 43, 42, 29, 4, 96, 46, 42, 29, 5, 96, 46, 182, 0, 71, 44, 42]
abbrev dktL_law_20 : List UInt8 := dkwL_law_20 ++ dktL_law_21
def dkwL_law_19 : List UInt8 := [182, 0, 66, 159, 3, 89, 3, 172, 43, 42, 29, 4, 96, 46, 182, 0, 67, 44, 42, 29, 4, 96, 46]
abbrev dktL_law_19 : List UInt8 := dkwL_law_19 ++ dktL_law_20
def dkwL_law_18 : List UInt8 := [182, 0, 62, 159, 3, 112, 3, 172, 43, 42, 29, 4, 96, 46, 182, 0, 63, 44, 42, 29, 4, 96, 46]
abbrev dktL_law_18 : List UInt8 := dkwL_law_18 ++ dktL_law_19
def dkwL_law_17 : List UInt8 := [182, 0, 58, 159, 3, 135, 3, 172, 43, 42, 29, 4, 96, 46, 182, 0, 59, 44, 42, 29, 4, 96, 46]
abbrev dktL_law_17 : List UInt8 := dkwL_law_17 ++ dktL_law_18
def dkwL_law_16 : List UInt8 := [182, 0, 53, 159, 3, 158, 3, 172, 43, 42, 29, 4, 96, 46, 182, 0, 54, 44, 42, 29, 4, 96, 46]
abbrev dktL_law_16 : List UInt8 := dkwL_law_16 ++ dktL_law_17
def dkwL_law_15 : List UInt8 := [4, 96, 46, 42, 29, 5, 96, 46, 42, 29, 6, 96, 46, 42, 29, 7, 96, 46, 42, 29, 8, 96, 46]
abbrev dktL_law_15 : List UInt8 := dkwL_law_15 ++ dktL_law_16
def dkwL_law_14 : List UInt8 := [5, 96, 46, 42, 29, 6, 96, 46, 42, 29, 7, 96, 46, 42, 29, 8, 96, 46, 182, 0, 49, 44, 42, 29]
abbrev dktL_law_14 : List UInt8 := dkwL_law_14 ++ dktL_law_15
def dkwL_law_13 : List UInt8 := [7, 96, 46, 42, 29, 8, 96, 46, 182, 0, 48, 159, 3, 221, 3, 172, 43, 42, 29, 4, 96, 46, 42, 29]
abbrev dktL_law_13 : List UInt8 := dkwL_law_13 ++ dktL_law_14
def dkwL_law_12 : List UInt8 := [8, 96, 46, 182, 0, 44, 44, 42, 29, 4, 96, 46, 42, 29, 5, 96, 46, 42, 29, 6, 96, 46, 42, 29]
abbrev dktL_law_12 : List UInt8 := dkwL_law_12 ++ dktL_law_13
def dkwL_law_11 : List UInt8 := [172, 43, 42, 29, 4, 96, 46, 42, 29, 5, 96, 46, 42, 29, 6, 96, 46, 42, 29, 7, 96, 46, 42, 29]
abbrev dktL_law_11 : List UInt8 := dkwL_law_11 ++ dktL_law_12
def dkwL_law_10 : List UInt8 := [96, 46, 182, 0, 39, 44, 42, 29, 4, 96, 46, 42, 29, 5, 96, 46, 182, 0, 43, 148, 153, 4, 28, 3]
abbrev dktL_law_10 : List UInt8 := dkwL_law_10 ++ dktL_law_11
def dkwL_law_9 : List UInt8 := [46, 133, 20, 0, 32, 127, 129, 182, 0, 38, 159, 4, 62, 3, 172, 43, 42, 29, 4, 96, 46, 42, 29, 5]
abbrev dktL_law_9 : List UInt8 := dkwL_law_9 ++ dktL_law_10
def dkwL_law_8 : List UInt8 := [44, 42, 29, 4, 96, 46, 42, 29, 5, 96, 46, 42, 29, 6, 96, 46, 133, 16, 32, 121, 42, 29, 7, 96]
abbrev dktL_law_8 : List UInt8 := dkwL_law_8 ++ dktL_law_9
def dkwL_law_7 : List UInt8 := [46, 42, 29, 6, 96, 46, 133, 16, 32, 121, 42, 29, 7, 96, 46, 133, 20, 0, 32, 127, 129, 182, 0, 34]
abbrev dktL_law_7 : List UInt8 := dkwL_law_7 ++ dktL_law_8
def dkwL_law_6 : List UInt8 := [46, 42, 29, 6, 96, 46, 182, 0, 31, 159, 4, 135, 3, 172, 43, 42, 29, 4, 96, 46, 42, 29, 5, 96]
abbrev dktL_law_6 : List UInt8 := dkwL_law_6 ++ dktL_law_7
def dkwL_law_5 : List UInt8 := [46, 42, 29, 5, 96, 46, 42, 29, 6, 96, 46, 182, 0, 27, 44, 42, 29, 4, 96, 46, 42, 29, 5, 96]
abbrev dktL_law_5 : List UInt8 := dkwL_law_5 ++ dktL_law_6
def dkwL_law_4 : List UInt8 := [153, 4, 192, 3, 172, 43, 182, 0, 23, 44, 182, 0, 26, 148, 153, 4, 178, 3, 172, 43, 42, 29, 4, 96]
abbrev dktL_law_4 : List UInt8 := dkwL_law_4 ++ dktL_law_5
def dkwL_law_3 : List UInt8 := [43, 182, 0, 13, 44, 182, 0, 17, 159, 4, 206, 3, 172, 43, 182, 0, 18, 44, 182, 0, 22, 148]
abbrev dktL_law_3 : List UInt8 := dkwL_law_3 ++ dktL_law_4
def dkwL_law_2 : List UInt8 := [170, 0, 0, 0, 0, 5, 153, 0, 0, 0, 0, 0, 0, 0, 44, 0, 0, 0, 195, 0, 0, 0, 208, 0, 0, 0, 222, 0, 0, 0, 236, 0, 0, 1, 23, 0, 0, 1, 96, 0, 0, 1, 130, 0, 0, 1, 193, 0, 0, 2, 0, 0, 0, 2, 23, 0, 0, 2, 46, 0, 0, 2, 69, 0, 0, 2, 92, 0, 0, 2, 125, 0, 0, 2, 158, 0, 0, 2, 181, 0, 0, 2, 214, 0, 0, 2, 237, 0, 0, 3, 14, 0, 0, 3, 67, 0, 0, 3, 110, 0, 0, 3, 123, 0, 0, 3, 136, 0, 0, 3, 169, 0, 0, 3, 182, 0, 0, 3, 205, 0, 0, 3, 248, 0, 0, 4, 15, 0, 0, 4, 38, 0, 0, 4, 71, 0, 0, 4, 94, 0, 0, 4, 117, 0, 0, 4, 130, 0, 0, 4, 163, 0, 0, 4, 186, 0, 0, 4, 219, 0, 0, 4, 242, 0, 0, 4, 255, 0, 0, 5, 12, 0, 0, 5, 25, 0, 0, 5, 38, 0, 0, 5, 61, 0, 0, 5, 84, 0, 0, 5, 127, 0, 0, 5, 140]
abbrev dktL_law_2 : List UInt8 := dkwL_law_2 ++ dktL_law_3
def dkwL_law_1 : List UInt8 := [163, 5, 168, 42, 29, 46, 16, 63, 126]
abbrev dktL_law_1 : List UInt8 := dkwL_law_1 ++ dktL_law_2
def dkwL_law_0 : List UInt8 := [187, 0, 7, 89, 183, 0, 9, 76, 187, 0, 10, 89, 183, 0, 12, 77, 3, 62, 29, 42, 190, 16, 6, 100]
abbrev dktL_law_0 : List UInt8 := dkwL_law_0 ++ dktL_law_1
theorem dksL_law_0 : cL_law.data.toList.drop 0 = dktL_law_0 := by decide +kernel
theorem dksL_law_1 : cL_law.data.toList.drop 24 = dktL_law_1 := dk_seg dksL_law_0 24 rfl rfl
theorem dksL_law_2 : cL_law.data.toList.drop 33 = dktL_law_2 := dk_seg dksL_law_1 9 rfl rfl
theorem dksL_law_3 : cL_law.data.toList.drop 228 = dktL_law_3 := dk_seg dksL_law_2 195 rfl rfl
theorem dksL_law_4 : cL_law.data.toList.drop 250 = dktL_law_4 := dk_seg dksL_law_3 22 rfl rfl
theorem dksL_law_5 : cL_law.data.toList.drop 274 = dktL_law_5 := dk_seg dksL_law_4 24 rfl rfl
theorem dksL_law_6 : cL_law.data.toList.drop 298 = dktL_law_6 := dk_seg dksL_law_5 24 rfl rfl
theorem dksL_law_7 : cL_law.data.toList.drop 322 = dktL_law_7 := dk_seg dksL_law_6 24 rfl rfl
theorem dksL_law_8 : cL_law.data.toList.drop 346 = dktL_law_8 := dk_seg dksL_law_7 24 rfl rfl
theorem dksL_law_9 : cL_law.data.toList.drop 370 = dktL_law_9 := dk_seg dksL_law_8 24 rfl rfl
theorem dksL_law_10 : cL_law.data.toList.drop 394 = dktL_law_10 := dk_seg dksL_law_9 24 rfl rfl
theorem dksL_law_11 : cL_law.data.toList.drop 418 = dktL_law_11 := dk_seg dksL_law_10 24 rfl rfl
theorem dksL_law_12 : cL_law.data.toList.drop 442 = dktL_law_12 := dk_seg dksL_law_11 24 rfl rfl
theorem dksL_law_13 : cL_law.data.toList.drop 466 = dktL_law_13 := dk_seg dksL_law_12 24 rfl rfl
theorem dksL_law_14 : cL_law.data.toList.drop 490 = dktL_law_14 := dk_seg dksL_law_13 24 rfl rfl
theorem dksL_law_15 : cL_law.data.toList.drop 514 = dktL_law_15 := dk_seg dksL_law_14 24 rfl rfl
theorem dksL_law_16 : cL_law.data.toList.drop 537 = dktL_law_16 := dk_seg dksL_law_15 23 rfl rfl
theorem dksL_law_17 : cL_law.data.toList.drop 560 = dktL_law_17 := dk_seg dksL_law_16 23 rfl rfl
theorem dksL_law_18 : cL_law.data.toList.drop 583 = dktL_law_18 := dk_seg dksL_law_17 23 rfl rfl
theorem dksL_law_19 : cL_law.data.toList.drop 606 = dktL_law_19 := dk_seg dksL_law_18 23 rfl rfl
theorem dksL_law_20 : cL_law.data.toList.drop 629 = dktL_law_20 := dk_seg dksL_law_19 23 rfl rfl
theorem dksL_law_21 : cL_law.data.toList.drop 653 = dktL_law_21 := dk_seg dksL_law_20 24 rfl rfl
theorem dksL_law_22 : cL_law.data.toList.drop 677 = dktL_law_22 := dk_seg dksL_law_21 24 rfl rfl
theorem dksL_law_23 : cL_law.data.toList.drop 701 = dktL_law_23 := dk_seg dksL_law_22 24 rfl rfl
theorem dksL_law_24 : cL_law.data.toList.drop 725 = dktL_law_24 := dk_seg dksL_law_23 24 rfl rfl
theorem dksL_law_25 : cL_law.data.toList.drop 749 = dktL_law_25 := dk_seg dksL_law_24 24 rfl rfl
theorem dksL_law_26 : cL_law.data.toList.drop 773 = dktL_law_26 := dk_seg dksL_law_25 24 rfl rfl
theorem dksL_law_27 : cL_law.data.toList.drop 797 = dktL_law_27 := dk_seg dksL_law_26 24 rfl rfl
theorem dksL_law_28 : cL_law.data.toList.drop 821 = dktL_law_28 := dk_seg dksL_law_27 24 rfl rfl
theorem dksL_law_29 : cL_law.data.toList.drop 845 = dktL_law_29 := dk_seg dksL_law_28 24 rfl rfl
theorem dksL_law_30 : cL_law.data.toList.drop 869 = dktL_law_30 := dk_seg dksL_law_29 24 rfl rfl
theorem dksL_law_31 : cL_law.data.toList.drop 893 = dktL_law_31 := dk_seg dksL_law_30 24 rfl rfl
theorem dksL_law_32 : cL_law.data.toList.drop 916 = dktL_law_32 := dk_seg dksL_law_31 23 rfl rfl
theorem dksL_law_33 : cL_law.data.toList.drop 940 = dktL_law_33 := dk_seg dksL_law_32 24 rfl rfl
theorem dksL_law_34 : cL_law.data.toList.drop 962 = dktL_law_34 := dk_seg dksL_law_33 22 rfl rfl
theorem dksL_law_35 : cL_law.data.toList.drop 986 = dktL_law_35 := dk_seg dksL_law_34 24 rfl rfl
theorem dksL_law_36 : cL_law.data.toList.drop 1010 = dktL_law_36 := dk_seg dksL_law_35 24 rfl rfl
theorem dksL_law_37 : cL_law.data.toList.drop 1034 = dktL_law_37 := dk_seg dksL_law_36 24 rfl rfl
theorem dksL_law_38 : cL_law.data.toList.drop 1058 = dktL_law_38 := dk_seg dksL_law_37 24 rfl rfl
theorem dksL_law_39 : cL_law.data.toList.drop 1082 = dktL_law_39 := dk_seg dksL_law_38 24 rfl rfl
theorem dksL_law_40 : cL_law.data.toList.drop 1106 = dktL_law_40 := dk_seg dksL_law_39 24 rfl rfl
theorem dksL_law_41 : cL_law.data.toList.drop 1130 = dktL_law_41 := dk_seg dksL_law_40 24 rfl rfl
theorem dksL_law_42 : cL_law.data.toList.drop 1154 = dktL_law_42 := dk_seg dksL_law_41 24 rfl rfl
theorem dksL_law_43 : cL_law.data.toList.drop 1178 = dktL_law_43 := dk_seg dksL_law_42 24 rfl rfl
theorem dksL_law_44 : cL_law.data.toList.drop 1202 = dktL_law_44 := dk_seg dksL_law_43 24 rfl rfl
theorem dksL_law_45 : cL_law.data.toList.drop 1226 = dktL_law_45 := dk_seg dksL_law_44 24 rfl rfl
theorem dksL_law_46 : cL_law.data.toList.drop 1250 = dktL_law_46 := dk_seg dksL_law_45 24 rfl rfl
theorem dksL_law_47 : cL_law.data.toList.drop 1274 = dktL_law_47 := dk_seg dksL_law_46 24 rfl rfl
theorem dksL_law_48 : cL_law.data.toList.drop 1298 = dktL_law_48 := dk_seg dksL_law_47 24 rfl rfl
theorem dksL_law_49 : cL_law.data.toList.drop 1320 = dktL_law_49 := dk_seg dksL_law_48 22 rfl rfl
theorem dksL_law_50 : cL_law.data.toList.drop 1343 = dktL_law_50 := dk_seg dksL_law_49 23 rfl rfl
theorem dksL_law_51 : cL_law.data.toList.drop 1366 = dktL_law_51 := dk_seg dksL_law_50 23 rfl rfl
theorem dksL_law_52 : cL_law.data.toList.drop 1389 = dktL_law_52 := dk_seg dksL_law_51 23 rfl rfl
theorem dksL_law_53 : cL_law.data.toList.drop 1413 = dktL_law_53 := dk_seg dksL_law_52 24 rfl rfl
theorem dksL_law_54 : cL_law.data.toList.drop 1435 = dktL_law_54 := dk_seg dksL_law_53 22 rfl rfl
theorem dksL_law_55 : cL_law.data.toList.drop 1458 = dktL_law_55 := dk_seg dksL_law_54 23 rfl rfl
theorem dL_law_0 : decode cL_law 0 = .ok (.new 7, 3) := dk_187 0 7 (dk_at dksL_law_0 0 rfl rfl)
theorem dL_law_3 : decode cL_law 3 = .ok (.dup, 1) := dk_89 (dk_at dksL_law_0 3 rfl rfl)
theorem dL_law_4 : decode cL_law 4 = .ok (.invokespecial 9, 3) := dk_183 0 9 (dk_at dksL_law_0 4 rfl rfl)
theorem dL_law_7 : decode cL_law 7 = .ok (.astore_n 1, 1) := dk_76 (dk_at dksL_law_0 7 rfl rfl)
theorem dL_law_8 : decode cL_law 8 = .ok (.new 10, 3) := dk_187 0 10 (dk_at dksL_law_0 8 rfl rfl)
theorem dL_law_11 : decode cL_law 11 = .ok (.dup, 1) := dk_89 (dk_at dksL_law_0 11 rfl rfl)
theorem dL_law_12 : decode cL_law 12 = .ok (.invokespecial 12, 3) := dk_183 0 12 (dk_at dksL_law_0 12 rfl rfl)
theorem dL_law_15 : decode cL_law 15 = .ok (.astore_n 2, 1) := dk_77 (dk_at dksL_law_0 15 rfl rfl)
theorem dL_law_16 : decode cL_law 16 = .ok (.iconst 0, 1) := dk_3 (dk_at dksL_law_0 16 rfl rfl)
theorem dL_law_17 : decode cL_law 17 = .ok (.istore_n 3, 1) := dk_62 (dk_at dksL_law_0 17 rfl rfl)
theorem dL_law_18 : decode cL_law 18 = .ok (.iload_n 3, 1) := dk_29 (dk_at dksL_law_0 18 rfl rfl)
theorem dL_law_19 : decode cL_law 19 = .ok (.aload_n 0, 1) := dk_42 (dk_at dksL_law_0 19 rfl rfl)
theorem dL_law_20 : decode cL_law 20 = .ok (.arraylength, 1) := dk_190 (dk_at dksL_law_0 20 rfl rfl)
theorem dL_law_21 : decode cL_law 21 = .ok (.bipush 6, 2) := dk_16 6 (dk_at dksL_law_0 21 rfl rfl)
theorem dL_law_23 : decode cL_law 23 = .ok (.isub, 1) := dk_100 (dk_at dksL_law_0 23 rfl rfl)
theorem dL_law_24 : decode cL_law 24 = .ok (.if_icmp .gt 1448, 3) := dk_163 5 168 (dk_at dksL_law_1 0 rfl rfl)
theorem dL_law_27 : decode cL_law 27 = .ok (.aload_n 0, 1) := dk_42 (dk_at dksL_law_1 3 rfl rfl)
theorem dL_law_28 : decode cL_law 28 = .ok (.iload_n 3, 1) := dk_29 (dk_at dksL_law_1 4 rfl rfl)
theorem dL_law_29 : decode cL_law 29 = .ok (.iaload, 1) := dk_46 (dk_at dksL_law_1 5 rfl rfl)
theorem dL_law_30 : decode cL_law 30 = .ok (.bipush 63, 2) := dk_16 63 (dk_at dksL_law_1 6 rfl rfl)
theorem dL_law_32 : decode cL_law 32 = .ok (.iand, 1) := dk_126 (dk_at dksL_law_1 8 rfl rfl)
theorem dL_law_33 : decode cL_law 33 = .ok (.tableswitch 1433 0 44 #[195, 208, 222, 236, 279, 352, 386, 449, 512, 535, 558, 581, 604, 637, 670, 693, 726, 749, 782, 835, 878, 891, 904, 937, 950, 973, 1016, 1039, 1062, 1095, 1118, 1141, 1154, 1187, 1210, 1243, 1266, 1279, 1292, 1305, 1318, 1341, 1364, 1407, 1420], 195) := by decide +kernel
theorem dL_law_228 : decode cL_law 228 = .ok (.aload_n 1, 1) := dk_43 (dk_at dksL_law_3 0 rfl rfl)
theorem dL_law_229 : decode cL_law 229 = .ok (.invokevirtual 13, 3) := dk_182 0 13 (dk_at dksL_law_3 1 rfl rfl)
theorem dL_law_232 : decode cL_law 232 = .ok (.aload_n 2, 1) := dk_44 (dk_at dksL_law_3 4 rfl rfl)
theorem dL_law_233 : decode cL_law 233 = .ok (.invokevirtual 17, 3) := dk_182 0 17 (dk_at dksL_law_3 5 rfl rfl)
theorem dL_law_236 : decode cL_law 236 = .ok (.if_icmp .eq 1230, 3) := dk_159 4 206 (dk_at dksL_law_3 8 rfl rfl)
theorem dL_law_239 : decode cL_law 239 = .ok (.iconst 0, 1) := dk_3 (dk_at dksL_law_3 11 rfl rfl)
theorem dL_law_240 : decode cL_law 240 = .ok (.ireturn, 1) := dk_172 (dk_at dksL_law_3 12 rfl rfl)
theorem dL_law_241 : decode cL_law 241 = .ok (.aload_n 1, 1) := dk_43 (dk_at dksL_law_3 13 rfl rfl)
theorem dL_law_242 : decode cL_law 242 = .ok (.invokevirtual 18, 3) := dk_182 0 18 (dk_at dksL_law_3 14 rfl rfl)
theorem dL_law_245 : decode cL_law 245 = .ok (.aload_n 2, 1) := dk_44 (dk_at dksL_law_3 17 rfl rfl)
theorem dL_law_246 : decode cL_law 246 = .ok (.invokevirtual 22, 3) := dk_182 0 22 (dk_at dksL_law_3 18 rfl rfl)
theorem dL_law_249 : decode cL_law 249 = .ok (.lcmp, 1) := dk_148 (dk_at dksL_law_3 21 rfl rfl)
theorem dL_law_250 : decode cL_law 250 = .ok (.ifCond .eq 1216, 3) := dk_153 4 192 (dk_at dksL_law_4 0 rfl rfl)
theorem dL_law_253 : decode cL_law 253 = .ok (.iconst 0, 1) := dk_3 (dk_at dksL_law_4 3 rfl rfl)
theorem dL_law_254 : decode cL_law 254 = .ok (.ireturn, 1) := dk_172 (dk_at dksL_law_4 4 rfl rfl)
theorem dL_law_255 : decode cL_law 255 = .ok (.aload_n 1, 1) := dk_43 (dk_at dksL_law_4 5 rfl rfl)
theorem dL_law_256 : decode cL_law 256 = .ok (.invokevirtual 23, 3) := dk_182 0 23 (dk_at dksL_law_4 6 rfl rfl)
theorem dL_law_259 : decode cL_law 259 = .ok (.aload_n 2, 1) := dk_44 (dk_at dksL_law_4 9 rfl rfl)
theorem dL_law_260 : decode cL_law 260 = .ok (.invokevirtual 26, 3) := dk_182 0 26 (dk_at dksL_law_4 10 rfl rfl)
theorem dL_law_263 : decode cL_law 263 = .ok (.lcmp, 1) := dk_148 (dk_at dksL_law_4 13 rfl rfl)
theorem dL_law_264 : decode cL_law 264 = .ok (.ifCond .eq 1202, 3) := dk_153 4 178 (dk_at dksL_law_4 14 rfl rfl)
theorem dL_law_267 : decode cL_law 267 = .ok (.iconst 0, 1) := dk_3 (dk_at dksL_law_4 17 rfl rfl)
theorem dL_law_268 : decode cL_law 268 = .ok (.ireturn, 1) := dk_172 (dk_at dksL_law_4 18 rfl rfl)
theorem dL_law_269 : decode cL_law 269 = .ok (.aload_n 1, 1) := dk_43 (dk_at dksL_law_4 19 rfl rfl)
theorem dL_law_270 : decode cL_law 270 = .ok (.aload_n 0, 1) := dk_42 (dk_at dksL_law_4 20 rfl rfl)
theorem dL_law_271 : decode cL_law 271 = .ok (.iload_n 3, 1) := dk_29 (dk_at dksL_law_4 21 rfl rfl)
theorem dL_law_272 : decode cL_law 272 = .ok (.iconst 1, 1) := dk_4 (dk_at dksL_law_4 22 rfl rfl)
theorem dL_law_273 : decode cL_law 273 = .ok (.iadd, 1) := dk_96 (dk_at dksL_law_4 23 rfl rfl)
theorem dL_law_274 : decode cL_law 274 = .ok (.iaload, 1) := dk_46 (dk_at dksL_law_5 0 rfl rfl)
theorem dL_law_275 : decode cL_law 275 = .ok (.aload_n 0, 1) := dk_42 (dk_at dksL_law_5 1 rfl rfl)
theorem dL_law_276 : decode cL_law 276 = .ok (.iload_n 3, 1) := dk_29 (dk_at dksL_law_5 2 rfl rfl)
theorem dL_law_277 : decode cL_law 277 = .ok (.iconst 2, 1) := dk_5 (dk_at dksL_law_5 3 rfl rfl)
theorem dL_law_278 : decode cL_law 278 = .ok (.iadd, 1) := dk_96 (dk_at dksL_law_5 4 rfl rfl)
theorem dL_law_279 : decode cL_law 279 = .ok (.iaload, 1) := dk_46 (dk_at dksL_law_5 5 rfl rfl)
theorem dL_law_280 : decode cL_law 280 = .ok (.aload_n 0, 1) := dk_42 (dk_at dksL_law_5 6 rfl rfl)
theorem dL_law_281 : decode cL_law 281 = .ok (.iload_n 3, 1) := dk_29 (dk_at dksL_law_5 7 rfl rfl)
theorem dL_law_282 : decode cL_law 282 = .ok (.iconst 3, 1) := dk_6 (dk_at dksL_law_5 8 rfl rfl)
theorem dL_law_283 : decode cL_law 283 = .ok (.iadd, 1) := dk_96 (dk_at dksL_law_5 9 rfl rfl)
theorem dL_law_284 : decode cL_law 284 = .ok (.iaload, 1) := dk_46 (dk_at dksL_law_5 10 rfl rfl)
theorem dL_law_285 : decode cL_law 285 = .ok (.invokevirtual 27, 3) := dk_182 0 27 (dk_at dksL_law_5 11 rfl rfl)
theorem dL_law_288 : decode cL_law 288 = .ok (.aload_n 2, 1) := dk_44 (dk_at dksL_law_5 14 rfl rfl)
theorem dL_law_289 : decode cL_law 289 = .ok (.aload_n 0, 1) := dk_42 (dk_at dksL_law_5 15 rfl rfl)
theorem dL_law_290 : decode cL_law 290 = .ok (.iload_n 3, 1) := dk_29 (dk_at dksL_law_5 16 rfl rfl)
theorem dL_law_291 : decode cL_law 291 = .ok (.iconst 1, 1) := dk_4 (dk_at dksL_law_5 17 rfl rfl)
theorem dL_law_292 : decode cL_law 292 = .ok (.iadd, 1) := dk_96 (dk_at dksL_law_5 18 rfl rfl)
theorem dL_law_293 : decode cL_law 293 = .ok (.iaload, 1) := dk_46 (dk_at dksL_law_5 19 rfl rfl)
theorem dL_law_294 : decode cL_law 294 = .ok (.aload_n 0, 1) := dk_42 (dk_at dksL_law_5 20 rfl rfl)
theorem dL_law_295 : decode cL_law 295 = .ok (.iload_n 3, 1) := dk_29 (dk_at dksL_law_5 21 rfl rfl)
theorem dL_law_296 : decode cL_law 296 = .ok (.iconst 2, 1) := dk_5 (dk_at dksL_law_5 22 rfl rfl)
theorem dL_law_297 : decode cL_law 297 = .ok (.iadd, 1) := dk_96 (dk_at dksL_law_5 23 rfl rfl)
theorem dL_law_298 : decode cL_law 298 = .ok (.iaload, 1) := dk_46 (dk_at dksL_law_6 0 rfl rfl)
theorem dL_law_299 : decode cL_law 299 = .ok (.aload_n 0, 1) := dk_42 (dk_at dksL_law_6 1 rfl rfl)
theorem dL_law_300 : decode cL_law 300 = .ok (.iload_n 3, 1) := dk_29 (dk_at dksL_law_6 2 rfl rfl)
theorem dL_law_301 : decode cL_law 301 = .ok (.iconst 3, 1) := dk_6 (dk_at dksL_law_6 3 rfl rfl)
theorem dL_law_302 : decode cL_law 302 = .ok (.iadd, 1) := dk_96 (dk_at dksL_law_6 4 rfl rfl)
theorem dL_law_303 : decode cL_law 303 = .ok (.iaload, 1) := dk_46 (dk_at dksL_law_6 5 rfl rfl)
theorem dL_law_304 : decode cL_law 304 = .ok (.invokevirtual 31, 3) := dk_182 0 31 (dk_at dksL_law_6 6 rfl rfl)
theorem dL_law_307 : decode cL_law 307 = .ok (.if_icmp .eq 1159, 3) := dk_159 4 135 (dk_at dksL_law_6 9 rfl rfl)
theorem dL_law_310 : decode cL_law 310 = .ok (.iconst 0, 1) := dk_3 (dk_at dksL_law_6 12 rfl rfl)
theorem dL_law_311 : decode cL_law 311 = .ok (.ireturn, 1) := dk_172 (dk_at dksL_law_6 13 rfl rfl)
theorem dL_law_312 : decode cL_law 312 = .ok (.aload_n 1, 1) := dk_43 (dk_at dksL_law_6 14 rfl rfl)
theorem dL_law_313 : decode cL_law 313 = .ok (.aload_n 0, 1) := dk_42 (dk_at dksL_law_6 15 rfl rfl)
theorem dL_law_314 : decode cL_law 314 = .ok (.iload_n 3, 1) := dk_29 (dk_at dksL_law_6 16 rfl rfl)
theorem dL_law_315 : decode cL_law 315 = .ok (.iconst 1, 1) := dk_4 (dk_at dksL_law_6 17 rfl rfl)
theorem dL_law_316 : decode cL_law 316 = .ok (.iadd, 1) := dk_96 (dk_at dksL_law_6 18 rfl rfl)
theorem dL_law_317 : decode cL_law 317 = .ok (.iaload, 1) := dk_46 (dk_at dksL_law_6 19 rfl rfl)
theorem dL_law_318 : decode cL_law 318 = .ok (.aload_n 0, 1) := dk_42 (dk_at dksL_law_6 20 rfl rfl)
theorem dL_law_319 : decode cL_law 319 = .ok (.iload_n 3, 1) := dk_29 (dk_at dksL_law_6 21 rfl rfl)
theorem dL_law_320 : decode cL_law 320 = .ok (.iconst 2, 1) := dk_5 (dk_at dksL_law_6 22 rfl rfl)
theorem dL_law_321 : decode cL_law 321 = .ok (.iadd, 1) := dk_96 (dk_at dksL_law_6 23 rfl rfl)
theorem dL_law_322 : decode cL_law 322 = .ok (.iaload, 1) := dk_46 (dk_at dksL_law_7 0 rfl rfl)
theorem dL_law_323 : decode cL_law 323 = .ok (.aload_n 0, 1) := dk_42 (dk_at dksL_law_7 1 rfl rfl)
theorem dL_law_324 : decode cL_law 324 = .ok (.iload_n 3, 1) := dk_29 (dk_at dksL_law_7 2 rfl rfl)
theorem dL_law_325 : decode cL_law 325 = .ok (.iconst 3, 1) := dk_6 (dk_at dksL_law_7 3 rfl rfl)
theorem dL_law_326 : decode cL_law 326 = .ok (.iadd, 1) := dk_96 (dk_at dksL_law_7 4 rfl rfl)
theorem dL_law_327 : decode cL_law 327 = .ok (.iaload, 1) := dk_46 (dk_at dksL_law_7 5 rfl rfl)
theorem dL_law_328 : decode cL_law 328 = .ok (.i2l, 1) := dk_133 (dk_at dksL_law_7 6 rfl rfl)
theorem dL_law_329 : decode cL_law 329 = .ok (.bipush 32, 2) := dk_16 32 (dk_at dksL_law_7 7 rfl rfl)
theorem dL_law_331 : decode cL_law 331 = .ok (.lshl, 1) := dk_121 (dk_at dksL_law_7 9 rfl rfl)
theorem dL_law_332 : decode cL_law 332 = .ok (.aload_n 0, 1) := dk_42 (dk_at dksL_law_7 10 rfl rfl)
theorem dL_law_333 : decode cL_law 333 = .ok (.iload_n 3, 1) := dk_29 (dk_at dksL_law_7 11 rfl rfl)
theorem dL_law_334 : decode cL_law 334 = .ok (.iconst 4, 1) := dk_7 (dk_at dksL_law_7 12 rfl rfl)
theorem dL_law_335 : decode cL_law 335 = .ok (.iadd, 1) := dk_96 (dk_at dksL_law_7 13 rfl rfl)
theorem dL_law_336 : decode cL_law 336 = .ok (.iaload, 1) := dk_46 (dk_at dksL_law_7 14 rfl rfl)
theorem dL_law_337 : decode cL_law 337 = .ok (.i2l, 1) := dk_133 (dk_at dksL_law_7 15 rfl rfl)
theorem dL_law_338 : decode cL_law 338 = .ok (.ldc2_w 32, 3) := dk_20 0 32 (dk_at dksL_law_7 16 rfl rfl)
theorem dL_law_341 : decode cL_law 341 = .ok (.land, 1) := dk_127 (dk_at dksL_law_7 19 rfl rfl)
theorem dL_law_342 : decode cL_law 342 = .ok (.lor, 1) := dk_129 (dk_at dksL_law_7 20 rfl rfl)
theorem dL_law_343 : decode cL_law 343 = .ok (.invokevirtual 34, 3) := dk_182 0 34 (dk_at dksL_law_7 21 rfl rfl)
theorem dL_law_346 : decode cL_law 346 = .ok (.aload_n 2, 1) := dk_44 (dk_at dksL_law_8 0 rfl rfl)
theorem dL_law_347 : decode cL_law 347 = .ok (.aload_n 0, 1) := dk_42 (dk_at dksL_law_8 1 rfl rfl)
theorem dL_law_348 : decode cL_law 348 = .ok (.iload_n 3, 1) := dk_29 (dk_at dksL_law_8 2 rfl rfl)
theorem dL_law_349 : decode cL_law 349 = .ok (.iconst 1, 1) := dk_4 (dk_at dksL_law_8 3 rfl rfl)
theorem dL_law_350 : decode cL_law 350 = .ok (.iadd, 1) := dk_96 (dk_at dksL_law_8 4 rfl rfl)
theorem dL_law_351 : decode cL_law 351 = .ok (.iaload, 1) := dk_46 (dk_at dksL_law_8 5 rfl rfl)
theorem dL_law_352 : decode cL_law 352 = .ok (.aload_n 0, 1) := dk_42 (dk_at dksL_law_8 6 rfl rfl)
theorem dL_law_353 : decode cL_law 353 = .ok (.iload_n 3, 1) := dk_29 (dk_at dksL_law_8 7 rfl rfl)
theorem dL_law_354 : decode cL_law 354 = .ok (.iconst 2, 1) := dk_5 (dk_at dksL_law_8 8 rfl rfl)
theorem dL_law_355 : decode cL_law 355 = .ok (.iadd, 1) := dk_96 (dk_at dksL_law_8 9 rfl rfl)
theorem dL_law_356 : decode cL_law 356 = .ok (.iaload, 1) := dk_46 (dk_at dksL_law_8 10 rfl rfl)
theorem dL_law_357 : decode cL_law 357 = .ok (.aload_n 0, 1) := dk_42 (dk_at dksL_law_8 11 rfl rfl)
theorem dL_law_358 : decode cL_law 358 = .ok (.iload_n 3, 1) := dk_29 (dk_at dksL_law_8 12 rfl rfl)
theorem dL_law_359 : decode cL_law 359 = .ok (.iconst 3, 1) := dk_6 (dk_at dksL_law_8 13 rfl rfl)
theorem dL_law_360 : decode cL_law 360 = .ok (.iadd, 1) := dk_96 (dk_at dksL_law_8 14 rfl rfl)
theorem dL_law_361 : decode cL_law 361 = .ok (.iaload, 1) := dk_46 (dk_at dksL_law_8 15 rfl rfl)
theorem dL_law_362 : decode cL_law 362 = .ok (.i2l, 1) := dk_133 (dk_at dksL_law_8 16 rfl rfl)
theorem dL_law_363 : decode cL_law 363 = .ok (.bipush 32, 2) := dk_16 32 (dk_at dksL_law_8 17 rfl rfl)
theorem dL_law_365 : decode cL_law 365 = .ok (.lshl, 1) := dk_121 (dk_at dksL_law_8 19 rfl rfl)
theorem dL_law_366 : decode cL_law 366 = .ok (.aload_n 0, 1) := dk_42 (dk_at dksL_law_8 20 rfl rfl)
theorem dL_law_367 : decode cL_law 367 = .ok (.iload_n 3, 1) := dk_29 (dk_at dksL_law_8 21 rfl rfl)
theorem dL_law_368 : decode cL_law 368 = .ok (.iconst 4, 1) := dk_7 (dk_at dksL_law_8 22 rfl rfl)
theorem dL_law_369 : decode cL_law 369 = .ok (.iadd, 1) := dk_96 (dk_at dksL_law_8 23 rfl rfl)
theorem dL_law_370 : decode cL_law 370 = .ok (.iaload, 1) := dk_46 (dk_at dksL_law_9 0 rfl rfl)
theorem dL_law_371 : decode cL_law 371 = .ok (.i2l, 1) := dk_133 (dk_at dksL_law_9 1 rfl rfl)
theorem dL_law_372 : decode cL_law 372 = .ok (.ldc2_w 32, 3) := dk_20 0 32 (dk_at dksL_law_9 2 rfl rfl)
theorem dL_law_375 : decode cL_law 375 = .ok (.land, 1) := dk_127 (dk_at dksL_law_9 5 rfl rfl)
theorem dL_law_376 : decode cL_law 376 = .ok (.lor, 1) := dk_129 (dk_at dksL_law_9 6 rfl rfl)
theorem dL_law_377 : decode cL_law 377 = .ok (.invokevirtual 38, 3) := dk_182 0 38 (dk_at dksL_law_9 7 rfl rfl)
theorem dL_law_380 : decode cL_law 380 = .ok (.if_icmp .eq 1086, 3) := dk_159 4 62 (dk_at dksL_law_9 10 rfl rfl)
theorem dL_law_383 : decode cL_law 383 = .ok (.iconst 0, 1) := dk_3 (dk_at dksL_law_9 13 rfl rfl)
theorem dL_law_384 : decode cL_law 384 = .ok (.ireturn, 1) := dk_172 (dk_at dksL_law_9 14 rfl rfl)
theorem dL_law_385 : decode cL_law 385 = .ok (.aload_n 1, 1) := dk_43 (dk_at dksL_law_9 15 rfl rfl)
theorem dL_law_386 : decode cL_law 386 = .ok (.aload_n 0, 1) := dk_42 (dk_at dksL_law_9 16 rfl rfl)
theorem dL_law_387 : decode cL_law 387 = .ok (.iload_n 3, 1) := dk_29 (dk_at dksL_law_9 17 rfl rfl)
theorem dL_law_388 : decode cL_law 388 = .ok (.iconst 1, 1) := dk_4 (dk_at dksL_law_9 18 rfl rfl)
theorem dL_law_389 : decode cL_law 389 = .ok (.iadd, 1) := dk_96 (dk_at dksL_law_9 19 rfl rfl)
theorem dL_law_390 : decode cL_law 390 = .ok (.iaload, 1) := dk_46 (dk_at dksL_law_9 20 rfl rfl)
theorem dL_law_391 : decode cL_law 391 = .ok (.aload_n 0, 1) := dk_42 (dk_at dksL_law_9 21 rfl rfl)
theorem dL_law_392 : decode cL_law 392 = .ok (.iload_n 3, 1) := dk_29 (dk_at dksL_law_9 22 rfl rfl)
theorem dL_law_393 : decode cL_law 393 = .ok (.iconst 2, 1) := dk_5 (dk_at dksL_law_9 23 rfl rfl)
theorem dL_law_394 : decode cL_law 394 = .ok (.iadd, 1) := dk_96 (dk_at dksL_law_10 0 rfl rfl)
theorem dL_law_395 : decode cL_law 395 = .ok (.iaload, 1) := dk_46 (dk_at dksL_law_10 1 rfl rfl)
theorem dL_law_396 : decode cL_law 396 = .ok (.invokevirtual 39, 3) := dk_182 0 39 (dk_at dksL_law_10 2 rfl rfl)
theorem dL_law_399 : decode cL_law 399 = .ok (.aload_n 2, 1) := dk_44 (dk_at dksL_law_10 5 rfl rfl)
theorem dL_law_400 : decode cL_law 400 = .ok (.aload_n 0, 1) := dk_42 (dk_at dksL_law_10 6 rfl rfl)
theorem dL_law_401 : decode cL_law 401 = .ok (.iload_n 3, 1) := dk_29 (dk_at dksL_law_10 7 rfl rfl)
theorem dL_law_402 : decode cL_law 402 = .ok (.iconst 1, 1) := dk_4 (dk_at dksL_law_10 8 rfl rfl)
theorem dL_law_403 : decode cL_law 403 = .ok (.iadd, 1) := dk_96 (dk_at dksL_law_10 9 rfl rfl)
theorem dL_law_404 : decode cL_law 404 = .ok (.iaload, 1) := dk_46 (dk_at dksL_law_10 10 rfl rfl)
theorem dL_law_405 : decode cL_law 405 = .ok (.aload_n 0, 1) := dk_42 (dk_at dksL_law_10 11 rfl rfl)
theorem dL_law_406 : decode cL_law 406 = .ok (.iload_n 3, 1) := dk_29 (dk_at dksL_law_10 12 rfl rfl)
theorem dL_law_407 : decode cL_law 407 = .ok (.iconst 2, 1) := dk_5 (dk_at dksL_law_10 13 rfl rfl)
theorem dL_law_408 : decode cL_law 408 = .ok (.iadd, 1) := dk_96 (dk_at dksL_law_10 14 rfl rfl)
theorem dL_law_409 : decode cL_law 409 = .ok (.iaload, 1) := dk_46 (dk_at dksL_law_10 15 rfl rfl)
theorem dL_law_410 : decode cL_law 410 = .ok (.invokevirtual 43, 3) := dk_182 0 43 (dk_at dksL_law_10 16 rfl rfl)
theorem dL_law_413 : decode cL_law 413 = .ok (.lcmp, 1) := dk_148 (dk_at dksL_law_10 19 rfl rfl)
theorem dL_law_414 : decode cL_law 414 = .ok (.ifCond .eq 1052, 3) := dk_153 4 28 (dk_at dksL_law_10 20 rfl rfl)
theorem dL_law_417 : decode cL_law 417 = .ok (.iconst 0, 1) := dk_3 (dk_at dksL_law_10 23 rfl rfl)
theorem dL_law_418 : decode cL_law 418 = .ok (.ireturn, 1) := dk_172 (dk_at dksL_law_11 0 rfl rfl)
theorem dL_law_419 : decode cL_law 419 = .ok (.aload_n 1, 1) := dk_43 (dk_at dksL_law_11 1 rfl rfl)
theorem dL_law_420 : decode cL_law 420 = .ok (.aload_n 0, 1) := dk_42 (dk_at dksL_law_11 2 rfl rfl)
theorem dL_law_421 : decode cL_law 421 = .ok (.iload_n 3, 1) := dk_29 (dk_at dksL_law_11 3 rfl rfl)
theorem dL_law_422 : decode cL_law 422 = .ok (.iconst 1, 1) := dk_4 (dk_at dksL_law_11 4 rfl rfl)
theorem dL_law_423 : decode cL_law 423 = .ok (.iadd, 1) := dk_96 (dk_at dksL_law_11 5 rfl rfl)
theorem dL_law_424 : decode cL_law 424 = .ok (.iaload, 1) := dk_46 (dk_at dksL_law_11 6 rfl rfl)
theorem dL_law_425 : decode cL_law 425 = .ok (.aload_n 0, 1) := dk_42 (dk_at dksL_law_11 7 rfl rfl)
theorem dL_law_426 : decode cL_law 426 = .ok (.iload_n 3, 1) := dk_29 (dk_at dksL_law_11 8 rfl rfl)
theorem dL_law_427 : decode cL_law 427 = .ok (.iconst 2, 1) := dk_5 (dk_at dksL_law_11 9 rfl rfl)
theorem dL_law_428 : decode cL_law 428 = .ok (.iadd, 1) := dk_96 (dk_at dksL_law_11 10 rfl rfl)
theorem dL_law_429 : decode cL_law 429 = .ok (.iaload, 1) := dk_46 (dk_at dksL_law_11 11 rfl rfl)
theorem dL_law_430 : decode cL_law 430 = .ok (.aload_n 0, 1) := dk_42 (dk_at dksL_law_11 12 rfl rfl)
theorem dL_law_431 : decode cL_law 431 = .ok (.iload_n 3, 1) := dk_29 (dk_at dksL_law_11 13 rfl rfl)
theorem dL_law_432 : decode cL_law 432 = .ok (.iconst 3, 1) := dk_6 (dk_at dksL_law_11 14 rfl rfl)
theorem dL_law_433 : decode cL_law 433 = .ok (.iadd, 1) := dk_96 (dk_at dksL_law_11 15 rfl rfl)
theorem dL_law_434 : decode cL_law 434 = .ok (.iaload, 1) := dk_46 (dk_at dksL_law_11 16 rfl rfl)
theorem dL_law_435 : decode cL_law 435 = .ok (.aload_n 0, 1) := dk_42 (dk_at dksL_law_11 17 rfl rfl)
theorem dL_law_436 : decode cL_law 436 = .ok (.iload_n 3, 1) := dk_29 (dk_at dksL_law_11 18 rfl rfl)
theorem dL_law_437 : decode cL_law 437 = .ok (.iconst 4, 1) := dk_7 (dk_at dksL_law_11 19 rfl rfl)
theorem dL_law_438 : decode cL_law 438 = .ok (.iadd, 1) := dk_96 (dk_at dksL_law_11 20 rfl rfl)
theorem dL_law_439 : decode cL_law 439 = .ok (.iaload, 1) := dk_46 (dk_at dksL_law_11 21 rfl rfl)
theorem dL_law_440 : decode cL_law 440 = .ok (.aload_n 0, 1) := dk_42 (dk_at dksL_law_11 22 rfl rfl)
theorem dL_law_441 : decode cL_law 441 = .ok (.iload_n 3, 1) := dk_29 (dk_at dksL_law_11 23 rfl rfl)
theorem dL_law_442 : decode cL_law 442 = .ok (.iconst 5, 1) := dk_8 (dk_at dksL_law_12 0 rfl rfl)
theorem dL_law_443 : decode cL_law 443 = .ok (.iadd, 1) := dk_96 (dk_at dksL_law_12 1 rfl rfl)
theorem dL_law_444 : decode cL_law 444 = .ok (.iaload, 1) := dk_46 (dk_at dksL_law_12 2 rfl rfl)
theorem dL_law_445 : decode cL_law 445 = .ok (.invokevirtual 44, 3) := dk_182 0 44 (dk_at dksL_law_12 3 rfl rfl)
theorem dL_law_448 : decode cL_law 448 = .ok (.aload_n 2, 1) := dk_44 (dk_at dksL_law_12 6 rfl rfl)
theorem dL_law_449 : decode cL_law 449 = .ok (.aload_n 0, 1) := dk_42 (dk_at dksL_law_12 7 rfl rfl)
theorem dL_law_450 : decode cL_law 450 = .ok (.iload_n 3, 1) := dk_29 (dk_at dksL_law_12 8 rfl rfl)
theorem dL_law_451 : decode cL_law 451 = .ok (.iconst 1, 1) := dk_4 (dk_at dksL_law_12 9 rfl rfl)
theorem dL_law_452 : decode cL_law 452 = .ok (.iadd, 1) := dk_96 (dk_at dksL_law_12 10 rfl rfl)
theorem dL_law_453 : decode cL_law 453 = .ok (.iaload, 1) := dk_46 (dk_at dksL_law_12 11 rfl rfl)
theorem dL_law_454 : decode cL_law 454 = .ok (.aload_n 0, 1) := dk_42 (dk_at dksL_law_12 12 rfl rfl)
theorem dL_law_455 : decode cL_law 455 = .ok (.iload_n 3, 1) := dk_29 (dk_at dksL_law_12 13 rfl rfl)
theorem dL_law_456 : decode cL_law 456 = .ok (.iconst 2, 1) := dk_5 (dk_at dksL_law_12 14 rfl rfl)
theorem dL_law_457 : decode cL_law 457 = .ok (.iadd, 1) := dk_96 (dk_at dksL_law_12 15 rfl rfl)
theorem dL_law_458 : decode cL_law 458 = .ok (.iaload, 1) := dk_46 (dk_at dksL_law_12 16 rfl rfl)
theorem dL_law_459 : decode cL_law 459 = .ok (.aload_n 0, 1) := dk_42 (dk_at dksL_law_12 17 rfl rfl)
theorem dL_law_460 : decode cL_law 460 = .ok (.iload_n 3, 1) := dk_29 (dk_at dksL_law_12 18 rfl rfl)
theorem dL_law_461 : decode cL_law 461 = .ok (.iconst 3, 1) := dk_6 (dk_at dksL_law_12 19 rfl rfl)
theorem dL_law_462 : decode cL_law 462 = .ok (.iadd, 1) := dk_96 (dk_at dksL_law_12 20 rfl rfl)
theorem dL_law_463 : decode cL_law 463 = .ok (.iaload, 1) := dk_46 (dk_at dksL_law_12 21 rfl rfl)
theorem dL_law_464 : decode cL_law 464 = .ok (.aload_n 0, 1) := dk_42 (dk_at dksL_law_12 22 rfl rfl)
theorem dL_law_465 : decode cL_law 465 = .ok (.iload_n 3, 1) := dk_29 (dk_at dksL_law_12 23 rfl rfl)
theorem dL_law_466 : decode cL_law 466 = .ok (.iconst 4, 1) := dk_7 (dk_at dksL_law_13 0 rfl rfl)
theorem dL_law_467 : decode cL_law 467 = .ok (.iadd, 1) := dk_96 (dk_at dksL_law_13 1 rfl rfl)
theorem dL_law_468 : decode cL_law 468 = .ok (.iaload, 1) := dk_46 (dk_at dksL_law_13 2 rfl rfl)
theorem dL_law_469 : decode cL_law 469 = .ok (.aload_n 0, 1) := dk_42 (dk_at dksL_law_13 3 rfl rfl)
theorem dL_law_470 : decode cL_law 470 = .ok (.iload_n 3, 1) := dk_29 (dk_at dksL_law_13 4 rfl rfl)
theorem dL_law_471 : decode cL_law 471 = .ok (.iconst 5, 1) := dk_8 (dk_at dksL_law_13 5 rfl rfl)
theorem dL_law_472 : decode cL_law 472 = .ok (.iadd, 1) := dk_96 (dk_at dksL_law_13 6 rfl rfl)
theorem dL_law_473 : decode cL_law 473 = .ok (.iaload, 1) := dk_46 (dk_at dksL_law_13 7 rfl rfl)
theorem dL_law_474 : decode cL_law 474 = .ok (.invokevirtual 48, 3) := dk_182 0 48 (dk_at dksL_law_13 8 rfl rfl)
theorem dL_law_477 : decode cL_law 477 = .ok (.if_icmp .eq 989, 3) := dk_159 3 221 (dk_at dksL_law_13 11 rfl rfl)
theorem dL_law_480 : decode cL_law 480 = .ok (.iconst 0, 1) := dk_3 (dk_at dksL_law_13 14 rfl rfl)
theorem dL_law_481 : decode cL_law 481 = .ok (.ireturn, 1) := dk_172 (dk_at dksL_law_13 15 rfl rfl)
theorem dL_law_482 : decode cL_law 482 = .ok (.aload_n 1, 1) := dk_43 (dk_at dksL_law_13 16 rfl rfl)
theorem dL_law_483 : decode cL_law 483 = .ok (.aload_n 0, 1) := dk_42 (dk_at dksL_law_13 17 rfl rfl)
theorem dL_law_484 : decode cL_law 484 = .ok (.iload_n 3, 1) := dk_29 (dk_at dksL_law_13 18 rfl rfl)
theorem dL_law_485 : decode cL_law 485 = .ok (.iconst 1, 1) := dk_4 (dk_at dksL_law_13 19 rfl rfl)
theorem dL_law_486 : decode cL_law 486 = .ok (.iadd, 1) := dk_96 (dk_at dksL_law_13 20 rfl rfl)
theorem dL_law_487 : decode cL_law 487 = .ok (.iaload, 1) := dk_46 (dk_at dksL_law_13 21 rfl rfl)
theorem dL_law_488 : decode cL_law 488 = .ok (.aload_n 0, 1) := dk_42 (dk_at dksL_law_13 22 rfl rfl)
theorem dL_law_489 : decode cL_law 489 = .ok (.iload_n 3, 1) := dk_29 (dk_at dksL_law_13 23 rfl rfl)
theorem dL_law_490 : decode cL_law 490 = .ok (.iconst 2, 1) := dk_5 (dk_at dksL_law_14 0 rfl rfl)
theorem dL_law_491 : decode cL_law 491 = .ok (.iadd, 1) := dk_96 (dk_at dksL_law_14 1 rfl rfl)
theorem dL_law_492 : decode cL_law 492 = .ok (.iaload, 1) := dk_46 (dk_at dksL_law_14 2 rfl rfl)
theorem dL_law_493 : decode cL_law 493 = .ok (.aload_n 0, 1) := dk_42 (dk_at dksL_law_14 3 rfl rfl)
theorem dL_law_494 : decode cL_law 494 = .ok (.iload_n 3, 1) := dk_29 (dk_at dksL_law_14 4 rfl rfl)
theorem dL_law_495 : decode cL_law 495 = .ok (.iconst 3, 1) := dk_6 (dk_at dksL_law_14 5 rfl rfl)
theorem dL_law_496 : decode cL_law 496 = .ok (.iadd, 1) := dk_96 (dk_at dksL_law_14 6 rfl rfl)
theorem dL_law_497 : decode cL_law 497 = .ok (.iaload, 1) := dk_46 (dk_at dksL_law_14 7 rfl rfl)
theorem dL_law_498 : decode cL_law 498 = .ok (.aload_n 0, 1) := dk_42 (dk_at dksL_law_14 8 rfl rfl)
theorem dL_law_499 : decode cL_law 499 = .ok (.iload_n 3, 1) := dk_29 (dk_at dksL_law_14 9 rfl rfl)
theorem dL_law_500 : decode cL_law 500 = .ok (.iconst 4, 1) := dk_7 (dk_at dksL_law_14 10 rfl rfl)
theorem dL_law_501 : decode cL_law 501 = .ok (.iadd, 1) := dk_96 (dk_at dksL_law_14 11 rfl rfl)
theorem dL_law_502 : decode cL_law 502 = .ok (.iaload, 1) := dk_46 (dk_at dksL_law_14 12 rfl rfl)
theorem dL_law_503 : decode cL_law 503 = .ok (.aload_n 0, 1) := dk_42 (dk_at dksL_law_14 13 rfl rfl)
theorem dL_law_504 : decode cL_law 504 = .ok (.iload_n 3, 1) := dk_29 (dk_at dksL_law_14 14 rfl rfl)
theorem dL_law_505 : decode cL_law 505 = .ok (.iconst 5, 1) := dk_8 (dk_at dksL_law_14 15 rfl rfl)
theorem dL_law_506 : decode cL_law 506 = .ok (.iadd, 1) := dk_96 (dk_at dksL_law_14 16 rfl rfl)
theorem dL_law_507 : decode cL_law 507 = .ok (.iaload, 1) := dk_46 (dk_at dksL_law_14 17 rfl rfl)
theorem dL_law_508 : decode cL_law 508 = .ok (.invokevirtual 49, 3) := dk_182 0 49 (dk_at dksL_law_14 18 rfl rfl)
theorem dL_law_511 : decode cL_law 511 = .ok (.aload_n 2, 1) := dk_44 (dk_at dksL_law_14 21 rfl rfl)
theorem dL_law_512 : decode cL_law 512 = .ok (.aload_n 0, 1) := dk_42 (dk_at dksL_law_14 22 rfl rfl)
theorem dL_law_513 : decode cL_law 513 = .ok (.iload_n 3, 1) := dk_29 (dk_at dksL_law_14 23 rfl rfl)
theorem dL_law_514 : decode cL_law 514 = .ok (.iconst 1, 1) := dk_4 (dk_at dksL_law_15 0 rfl rfl)
theorem dL_law_515 : decode cL_law 515 = .ok (.iadd, 1) := dk_96 (dk_at dksL_law_15 1 rfl rfl)
theorem dL_law_516 : decode cL_law 516 = .ok (.iaload, 1) := dk_46 (dk_at dksL_law_15 2 rfl rfl)
theorem dL_law_517 : decode cL_law 517 = .ok (.aload_n 0, 1) := dk_42 (dk_at dksL_law_15 3 rfl rfl)
theorem dL_law_518 : decode cL_law 518 = .ok (.iload_n 3, 1) := dk_29 (dk_at dksL_law_15 4 rfl rfl)
theorem dL_law_519 : decode cL_law 519 = .ok (.iconst 2, 1) := dk_5 (dk_at dksL_law_15 5 rfl rfl)
theorem dL_law_520 : decode cL_law 520 = .ok (.iadd, 1) := dk_96 (dk_at dksL_law_15 6 rfl rfl)
theorem dL_law_521 : decode cL_law 521 = .ok (.iaload, 1) := dk_46 (dk_at dksL_law_15 7 rfl rfl)
theorem dL_law_522 : decode cL_law 522 = .ok (.aload_n 0, 1) := dk_42 (dk_at dksL_law_15 8 rfl rfl)
theorem dL_law_523 : decode cL_law 523 = .ok (.iload_n 3, 1) := dk_29 (dk_at dksL_law_15 9 rfl rfl)
theorem dL_law_524 : decode cL_law 524 = .ok (.iconst 3, 1) := dk_6 (dk_at dksL_law_15 10 rfl rfl)
theorem dL_law_525 : decode cL_law 525 = .ok (.iadd, 1) := dk_96 (dk_at dksL_law_15 11 rfl rfl)
theorem dL_law_526 : decode cL_law 526 = .ok (.iaload, 1) := dk_46 (dk_at dksL_law_15 12 rfl rfl)
theorem dL_law_527 : decode cL_law 527 = .ok (.aload_n 0, 1) := dk_42 (dk_at dksL_law_15 13 rfl rfl)
theorem dL_law_528 : decode cL_law 528 = .ok (.iload_n 3, 1) := dk_29 (dk_at dksL_law_15 14 rfl rfl)
theorem dL_law_529 : decode cL_law 529 = .ok (.iconst 4, 1) := dk_7 (dk_at dksL_law_15 15 rfl rfl)
theorem dL_law_530 : decode cL_law 530 = .ok (.iadd, 1) := dk_96 (dk_at dksL_law_15 16 rfl rfl)
theorem dL_law_531 : decode cL_law 531 = .ok (.iaload, 1) := dk_46 (dk_at dksL_law_15 17 rfl rfl)
theorem dL_law_532 : decode cL_law 532 = .ok (.aload_n 0, 1) := dk_42 (dk_at dksL_law_15 18 rfl rfl)
theorem dL_law_533 : decode cL_law 533 = .ok (.iload_n 3, 1) := dk_29 (dk_at dksL_law_15 19 rfl rfl)
theorem dL_law_534 : decode cL_law 534 = .ok (.iconst 5, 1) := dk_8 (dk_at dksL_law_15 20 rfl rfl)
theorem dL_law_535 : decode cL_law 535 = .ok (.iadd, 1) := dk_96 (dk_at dksL_law_15 21 rfl rfl)
theorem dL_law_536 : decode cL_law 536 = .ok (.iaload, 1) := dk_46 (dk_at dksL_law_15 22 rfl rfl)
theorem dL_law_537 : decode cL_law 537 = .ok (.invokevirtual 53, 3) := dk_182 0 53 (dk_at dksL_law_16 0 rfl rfl)
theorem dL_law_540 : decode cL_law 540 = .ok (.if_icmp .eq 926, 3) := dk_159 3 158 (dk_at dksL_law_16 3 rfl rfl)
theorem dL_law_543 : decode cL_law 543 = .ok (.iconst 0, 1) := dk_3 (dk_at dksL_law_16 6 rfl rfl)
theorem dL_law_544 : decode cL_law 544 = .ok (.ireturn, 1) := dk_172 (dk_at dksL_law_16 7 rfl rfl)
theorem dL_law_545 : decode cL_law 545 = .ok (.aload_n 1, 1) := dk_43 (dk_at dksL_law_16 8 rfl rfl)
theorem dL_law_546 : decode cL_law 546 = .ok (.aload_n 0, 1) := dk_42 (dk_at dksL_law_16 9 rfl rfl)
theorem dL_law_547 : decode cL_law 547 = .ok (.iload_n 3, 1) := dk_29 (dk_at dksL_law_16 10 rfl rfl)
theorem dL_law_548 : decode cL_law 548 = .ok (.iconst 1, 1) := dk_4 (dk_at dksL_law_16 11 rfl rfl)
theorem dL_law_549 : decode cL_law 549 = .ok (.iadd, 1) := dk_96 (dk_at dksL_law_16 12 rfl rfl)
theorem dL_law_550 : decode cL_law 550 = .ok (.iaload, 1) := dk_46 (dk_at dksL_law_16 13 rfl rfl)
theorem dL_law_551 : decode cL_law 551 = .ok (.invokevirtual 54, 3) := dk_182 0 54 (dk_at dksL_law_16 14 rfl rfl)
theorem dL_law_554 : decode cL_law 554 = .ok (.aload_n 2, 1) := dk_44 (dk_at dksL_law_16 17 rfl rfl)
theorem dL_law_555 : decode cL_law 555 = .ok (.aload_n 0, 1) := dk_42 (dk_at dksL_law_16 18 rfl rfl)
theorem dL_law_556 : decode cL_law 556 = .ok (.iload_n 3, 1) := dk_29 (dk_at dksL_law_16 19 rfl rfl)
theorem dL_law_557 : decode cL_law 557 = .ok (.iconst 1, 1) := dk_4 (dk_at dksL_law_16 20 rfl rfl)
theorem dL_law_558 : decode cL_law 558 = .ok (.iadd, 1) := dk_96 (dk_at dksL_law_16 21 rfl rfl)
theorem dL_law_559 : decode cL_law 559 = .ok (.iaload, 1) := dk_46 (dk_at dksL_law_16 22 rfl rfl)
theorem dL_law_560 : decode cL_law 560 = .ok (.invokevirtual 58, 3) := dk_182 0 58 (dk_at dksL_law_17 0 rfl rfl)
theorem dL_law_563 : decode cL_law 563 = .ok (.if_icmp .eq 903, 3) := dk_159 3 135 (dk_at dksL_law_17 3 rfl rfl)
theorem dL_law_566 : decode cL_law 566 = .ok (.iconst 0, 1) := dk_3 (dk_at dksL_law_17 6 rfl rfl)
theorem dL_law_567 : decode cL_law 567 = .ok (.ireturn, 1) := dk_172 (dk_at dksL_law_17 7 rfl rfl)
theorem dL_law_568 : decode cL_law 568 = .ok (.aload_n 1, 1) := dk_43 (dk_at dksL_law_17 8 rfl rfl)
theorem dL_law_569 : decode cL_law 569 = .ok (.aload_n 0, 1) := dk_42 (dk_at dksL_law_17 9 rfl rfl)
theorem dL_law_570 : decode cL_law 570 = .ok (.iload_n 3, 1) := dk_29 (dk_at dksL_law_17 10 rfl rfl)
theorem dL_law_571 : decode cL_law 571 = .ok (.iconst 1, 1) := dk_4 (dk_at dksL_law_17 11 rfl rfl)
theorem dL_law_572 : decode cL_law 572 = .ok (.iadd, 1) := dk_96 (dk_at dksL_law_17 12 rfl rfl)
theorem dL_law_573 : decode cL_law 573 = .ok (.iaload, 1) := dk_46 (dk_at dksL_law_17 13 rfl rfl)
theorem dL_law_574 : decode cL_law 574 = .ok (.invokevirtual 59, 3) := dk_182 0 59 (dk_at dksL_law_17 14 rfl rfl)
theorem dL_law_577 : decode cL_law 577 = .ok (.aload_n 2, 1) := dk_44 (dk_at dksL_law_17 17 rfl rfl)
theorem dL_law_578 : decode cL_law 578 = .ok (.aload_n 0, 1) := dk_42 (dk_at dksL_law_17 18 rfl rfl)
theorem dL_law_579 : decode cL_law 579 = .ok (.iload_n 3, 1) := dk_29 (dk_at dksL_law_17 19 rfl rfl)
theorem dL_law_580 : decode cL_law 580 = .ok (.iconst 1, 1) := dk_4 (dk_at dksL_law_17 20 rfl rfl)
theorem dL_law_581 : decode cL_law 581 = .ok (.iadd, 1) := dk_96 (dk_at dksL_law_17 21 rfl rfl)
theorem dL_law_582 : decode cL_law 582 = .ok (.iaload, 1) := dk_46 (dk_at dksL_law_17 22 rfl rfl)
theorem dL_law_583 : decode cL_law 583 = .ok (.invokevirtual 62, 3) := dk_182 0 62 (dk_at dksL_law_18 0 rfl rfl)
theorem dL_law_586 : decode cL_law 586 = .ok (.if_icmp .eq 880, 3) := dk_159 3 112 (dk_at dksL_law_18 3 rfl rfl)
theorem dL_law_589 : decode cL_law 589 = .ok (.iconst 0, 1) := dk_3 (dk_at dksL_law_18 6 rfl rfl)
theorem dL_law_590 : decode cL_law 590 = .ok (.ireturn, 1) := dk_172 (dk_at dksL_law_18 7 rfl rfl)
theorem dL_law_591 : decode cL_law 591 = .ok (.aload_n 1, 1) := dk_43 (dk_at dksL_law_18 8 rfl rfl)
theorem dL_law_592 : decode cL_law 592 = .ok (.aload_n 0, 1) := dk_42 (dk_at dksL_law_18 9 rfl rfl)
theorem dL_law_593 : decode cL_law 593 = .ok (.iload_n 3, 1) := dk_29 (dk_at dksL_law_18 10 rfl rfl)
theorem dL_law_594 : decode cL_law 594 = .ok (.iconst 1, 1) := dk_4 (dk_at dksL_law_18 11 rfl rfl)
theorem dL_law_595 : decode cL_law 595 = .ok (.iadd, 1) := dk_96 (dk_at dksL_law_18 12 rfl rfl)
theorem dL_law_596 : decode cL_law 596 = .ok (.iaload, 1) := dk_46 (dk_at dksL_law_18 13 rfl rfl)
theorem dL_law_597 : decode cL_law 597 = .ok (.invokevirtual 63, 3) := dk_182 0 63 (dk_at dksL_law_18 14 rfl rfl)
theorem dL_law_600 : decode cL_law 600 = .ok (.aload_n 2, 1) := dk_44 (dk_at dksL_law_18 17 rfl rfl)
theorem dL_law_601 : decode cL_law 601 = .ok (.aload_n 0, 1) := dk_42 (dk_at dksL_law_18 18 rfl rfl)
theorem dL_law_602 : decode cL_law 602 = .ok (.iload_n 3, 1) := dk_29 (dk_at dksL_law_18 19 rfl rfl)
theorem dL_law_603 : decode cL_law 603 = .ok (.iconst 1, 1) := dk_4 (dk_at dksL_law_18 20 rfl rfl)
theorem dL_law_604 : decode cL_law 604 = .ok (.iadd, 1) := dk_96 (dk_at dksL_law_18 21 rfl rfl)
theorem dL_law_605 : decode cL_law 605 = .ok (.iaload, 1) := dk_46 (dk_at dksL_law_18 22 rfl rfl)
theorem dL_law_606 : decode cL_law 606 = .ok (.invokevirtual 66, 3) := dk_182 0 66 (dk_at dksL_law_19 0 rfl rfl)
theorem dL_law_609 : decode cL_law 609 = .ok (.if_icmp .eq 857, 3) := dk_159 3 89 (dk_at dksL_law_19 3 rfl rfl)
theorem dL_law_612 : decode cL_law 612 = .ok (.iconst 0, 1) := dk_3 (dk_at dksL_law_19 6 rfl rfl)
theorem dL_law_613 : decode cL_law 613 = .ok (.ireturn, 1) := dk_172 (dk_at dksL_law_19 7 rfl rfl)
theorem dL_law_614 : decode cL_law 614 = .ok (.aload_n 1, 1) := dk_43 (dk_at dksL_law_19 8 rfl rfl)
theorem dL_law_615 : decode cL_law 615 = .ok (.aload_n 0, 1) := dk_42 (dk_at dksL_law_19 9 rfl rfl)
theorem dL_law_616 : decode cL_law 616 = .ok (.iload_n 3, 1) := dk_29 (dk_at dksL_law_19 10 rfl rfl)
theorem dL_law_617 : decode cL_law 617 = .ok (.iconst 1, 1) := dk_4 (dk_at dksL_law_19 11 rfl rfl)
theorem dL_law_618 : decode cL_law 618 = .ok (.iadd, 1) := dk_96 (dk_at dksL_law_19 12 rfl rfl)
theorem dL_law_619 : decode cL_law 619 = .ok (.iaload, 1) := dk_46 (dk_at dksL_law_19 13 rfl rfl)
theorem dL_law_620 : decode cL_law 620 = .ok (.invokevirtual 67, 3) := dk_182 0 67 (dk_at dksL_law_19 14 rfl rfl)
theorem dL_law_623 : decode cL_law 623 = .ok (.aload_n 2, 1) := dk_44 (dk_at dksL_law_19 17 rfl rfl)
theorem dL_law_624 : decode cL_law 624 = .ok (.aload_n 0, 1) := dk_42 (dk_at dksL_law_19 18 rfl rfl)
theorem dL_law_625 : decode cL_law 625 = .ok (.iload_n 3, 1) := dk_29 (dk_at dksL_law_19 19 rfl rfl)
theorem dL_law_626 : decode cL_law 626 = .ok (.iconst 1, 1) := dk_4 (dk_at dksL_law_19 20 rfl rfl)
theorem dL_law_627 : decode cL_law 627 = .ok (.iadd, 1) := dk_96 (dk_at dksL_law_19 21 rfl rfl)
theorem dL_law_628 : decode cL_law 628 = .ok (.iaload, 1) := dk_46 (dk_at dksL_law_19 22 rfl rfl)
theorem dL_law_629 : decode cL_law 629 = .ok (.invokevirtual 70, 3) := dk_182 0 70 (dk_at dksL_law_20 0 rfl rfl)
theorem dL_law_632 : decode cL_law 632 = .ok (.if_icmp .eq 834, 3) := dk_159 3 66 (dk_at dksL_law_20 3 rfl rfl)
theorem dL_law_635 : decode cL_law 635 = .ok (.iconst 0, 1) := dk_3 (dk_at dksL_law_20 6 rfl rfl)
theorem dL_law_636 : decode cL_law 636 = .ok (.ireturn, 1) := dk_172 (dk_at dksL_law_20 7 rfl rfl)
theorem dL_law_637 : decode cL_law 637 = .ok (.aload_n 1, 1) := dk_43 (dk_at dksL_law_20 8 rfl rfl)
theorem dL_law_638 : decode cL_law 638 = .ok (.aload_n 0, 1) := dk_42 (dk_at dksL_law_20 9 rfl rfl)
theorem dL_law_639 : decode cL_law 639 = .ok (.iload_n 3, 1) := dk_29 (dk_at dksL_law_20 10 rfl rfl)
theorem dL_law_640 : decode cL_law 640 = .ok (.iconst 1, 1) := dk_4 (dk_at dksL_law_20 11 rfl rfl)
theorem dL_law_641 : decode cL_law 641 = .ok (.iadd, 1) := dk_96 (dk_at dksL_law_20 12 rfl rfl)
theorem dL_law_642 : decode cL_law 642 = .ok (.iaload, 1) := dk_46 (dk_at dksL_law_20 13 rfl rfl)
theorem dL_law_643 : decode cL_law 643 = .ok (.aload_n 0, 1) := dk_42 (dk_at dksL_law_20 14 rfl rfl)
theorem dL_law_644 : decode cL_law 644 = .ok (.iload_n 3, 1) := dk_29 (dk_at dksL_law_20 15 rfl rfl)
theorem dL_law_645 : decode cL_law 645 = .ok (.iconst 2, 1) := dk_5 (dk_at dksL_law_20 16 rfl rfl)
theorem dL_law_646 : decode cL_law 646 = .ok (.iadd, 1) := dk_96 (dk_at dksL_law_20 17 rfl rfl)
theorem dL_law_647 : decode cL_law 647 = .ok (.iaload, 1) := dk_46 (dk_at dksL_law_20 18 rfl rfl)
theorem dL_law_648 : decode cL_law 648 = .ok (.invokevirtual 71, 3) := dk_182 0 71 (dk_at dksL_law_20 19 rfl rfl)
theorem dL_law_651 : decode cL_law 651 = .ok (.aload_n 2, 1) := dk_44 (dk_at dksL_law_20 22 rfl rfl)
theorem dL_law_652 : decode cL_law 652 = .ok (.aload_n 0, 1) := dk_42 (dk_at dksL_law_20 23 rfl rfl)
theorem dL_law_653 : decode cL_law 653 = .ok (.iload_n 3, 1) := dk_29 (dk_at dksL_law_21 0 rfl rfl)
theorem dL_law_654 : decode cL_law 654 = .ok (.iconst 1, 1) := dk_4 (dk_at dksL_law_21 1 rfl rfl)
theorem dL_law_655 : decode cL_law 655 = .ok (.iadd, 1) := dk_96 (dk_at dksL_law_21 2 rfl rfl)
theorem dL_law_656 : decode cL_law 656 = .ok (.iaload, 1) := dk_46 (dk_at dksL_law_21 3 rfl rfl)
theorem dL_law_657 : decode cL_law 657 = .ok (.aload_n 0, 1) := dk_42 (dk_at dksL_law_21 4 rfl rfl)
theorem dL_law_658 : decode cL_law 658 = .ok (.iload_n 3, 1) := dk_29 (dk_at dksL_law_21 5 rfl rfl)
theorem dL_law_659 : decode cL_law 659 = .ok (.iconst 2, 1) := dk_5 (dk_at dksL_law_21 6 rfl rfl)
theorem dL_law_660 : decode cL_law 660 = .ok (.iadd, 1) := dk_96 (dk_at dksL_law_21 7 rfl rfl)
theorem dL_law_661 : decode cL_law 661 = .ok (.iaload, 1) := dk_46 (dk_at dksL_law_21 8 rfl rfl)
theorem dL_law_662 : decode cL_law 662 = .ok (.invokevirtual 75, 3) := dk_182 0 75 (dk_at dksL_law_21 9 rfl rfl)
theorem dL_law_665 : decode cL_law 665 = .ok (.if_icmp .eq 801, 3) := dk_159 3 33 (dk_at dksL_law_21 12 rfl rfl)
theorem dL_law_668 : decode cL_law 668 = .ok (.iconst 0, 1) := dk_3 (dk_at dksL_law_21 15 rfl rfl)
theorem dL_law_669 : decode cL_law 669 = .ok (.ireturn, 1) := dk_172 (dk_at dksL_law_21 16 rfl rfl)
theorem dL_law_670 : decode cL_law 670 = .ok (.aload_n 1, 1) := dk_43 (dk_at dksL_law_21 17 rfl rfl)
theorem dL_law_671 : decode cL_law 671 = .ok (.aload_n 0, 1) := dk_42 (dk_at dksL_law_21 18 rfl rfl)
theorem dL_law_672 : decode cL_law 672 = .ok (.iload_n 3, 1) := dk_29 (dk_at dksL_law_21 19 rfl rfl)
theorem dL_law_673 : decode cL_law 673 = .ok (.iconst 1, 1) := dk_4 (dk_at dksL_law_21 20 rfl rfl)
theorem dL_law_674 : decode cL_law 674 = .ok (.iadd, 1) := dk_96 (dk_at dksL_law_21 21 rfl rfl)
theorem dL_law_675 : decode cL_law 675 = .ok (.iaload, 1) := dk_46 (dk_at dksL_law_21 22 rfl rfl)
theorem dL_law_676 : decode cL_law 676 = .ok (.aload_n 0, 1) := dk_42 (dk_at dksL_law_21 23 rfl rfl)
theorem dL_law_677 : decode cL_law 677 = .ok (.iload_n 3, 1) := dk_29 (dk_at dksL_law_22 0 rfl rfl)
theorem dL_law_678 : decode cL_law 678 = .ok (.iconst 2, 1) := dk_5 (dk_at dksL_law_22 1 rfl rfl)
theorem dL_law_679 : decode cL_law 679 = .ok (.iadd, 1) := dk_96 (dk_at dksL_law_22 2 rfl rfl)
theorem dL_law_680 : decode cL_law 680 = .ok (.iaload, 1) := dk_46 (dk_at dksL_law_22 3 rfl rfl)
theorem dL_law_681 : decode cL_law 681 = .ok (.invokevirtual 76, 3) := dk_182 0 76 (dk_at dksL_law_22 4 rfl rfl)
theorem dL_law_684 : decode cL_law 684 = .ok (.aload_n 2, 1) := dk_44 (dk_at dksL_law_22 7 rfl rfl)
theorem dL_law_685 : decode cL_law 685 = .ok (.aload_n 0, 1) := dk_42 (dk_at dksL_law_22 8 rfl rfl)
theorem dL_law_686 : decode cL_law 686 = .ok (.iload_n 3, 1) := dk_29 (dk_at dksL_law_22 9 rfl rfl)
theorem dL_law_687 : decode cL_law 687 = .ok (.iconst 1, 1) := dk_4 (dk_at dksL_law_22 10 rfl rfl)
theorem dL_law_688 : decode cL_law 688 = .ok (.iadd, 1) := dk_96 (dk_at dksL_law_22 11 rfl rfl)
theorem dL_law_689 : decode cL_law 689 = .ok (.iaload, 1) := dk_46 (dk_at dksL_law_22 12 rfl rfl)
theorem dL_law_690 : decode cL_law 690 = .ok (.aload_n 0, 1) := dk_42 (dk_at dksL_law_22 13 rfl rfl)
theorem dL_law_691 : decode cL_law 691 = .ok (.iload_n 3, 1) := dk_29 (dk_at dksL_law_22 14 rfl rfl)
theorem dL_law_692 : decode cL_law 692 = .ok (.iconst 2, 1) := dk_5 (dk_at dksL_law_22 15 rfl rfl)
theorem dL_law_693 : decode cL_law 693 = .ok (.iadd, 1) := dk_96 (dk_at dksL_law_22 16 rfl rfl)
theorem dL_law_694 : decode cL_law 694 = .ok (.iaload, 1) := dk_46 (dk_at dksL_law_22 17 rfl rfl)
theorem dL_law_695 : decode cL_law 695 = .ok (.invokevirtual 79, 3) := dk_182 0 79 (dk_at dksL_law_22 18 rfl rfl)
theorem dL_law_698 : decode cL_law 698 = .ok (.if_icmp .eq 768, 3) := dk_159 3 0 (dk_at dksL_law_22 21 rfl rfl)
theorem dL_law_701 : decode cL_law 701 = .ok (.iconst 0, 1) := dk_3 (dk_at dksL_law_23 0 rfl rfl)
theorem dL_law_702 : decode cL_law 702 = .ok (.ireturn, 1) := dk_172 (dk_at dksL_law_23 1 rfl rfl)
theorem dL_law_703 : decode cL_law 703 = .ok (.aload_n 1, 1) := dk_43 (dk_at dksL_law_23 2 rfl rfl)
theorem dL_law_704 : decode cL_law 704 = .ok (.aload_n 0, 1) := dk_42 (dk_at dksL_law_23 3 rfl rfl)
theorem dL_law_705 : decode cL_law 705 = .ok (.iload_n 3, 1) := dk_29 (dk_at dksL_law_23 4 rfl rfl)
theorem dL_law_706 : decode cL_law 706 = .ok (.iconst 1, 1) := dk_4 (dk_at dksL_law_23 5 rfl rfl)
theorem dL_law_707 : decode cL_law 707 = .ok (.iadd, 1) := dk_96 (dk_at dksL_law_23 6 rfl rfl)
theorem dL_law_708 : decode cL_law 708 = .ok (.iaload, 1) := dk_46 (dk_at dksL_law_23 7 rfl rfl)
theorem dL_law_709 : decode cL_law 709 = .ok (.invokevirtual 80, 3) := dk_182 0 80 (dk_at dksL_law_23 8 rfl rfl)
theorem dL_law_712 : decode cL_law 712 = .ok (.aload_n 2, 1) := dk_44 (dk_at dksL_law_23 11 rfl rfl)
theorem dL_law_713 : decode cL_law 713 = .ok (.aload_n 0, 1) := dk_42 (dk_at dksL_law_23 12 rfl rfl)
theorem dL_law_714 : decode cL_law 714 = .ok (.iload_n 3, 1) := dk_29 (dk_at dksL_law_23 13 rfl rfl)
theorem dL_law_715 : decode cL_law 715 = .ok (.iconst 1, 1) := dk_4 (dk_at dksL_law_23 14 rfl rfl)
theorem dL_law_716 : decode cL_law 716 = .ok (.iadd, 1) := dk_96 (dk_at dksL_law_23 15 rfl rfl)
theorem dL_law_717 : decode cL_law 717 = .ok (.iaload, 1) := dk_46 (dk_at dksL_law_23 16 rfl rfl)
theorem dL_law_718 : decode cL_law 718 = .ok (.invokevirtual 83, 3) := dk_182 0 83 (dk_at dksL_law_23 17 rfl rfl)
theorem dL_law_721 : decode cL_law 721 = .ok (.if_icmp .eq 745, 3) := dk_159 2 233 (dk_at dksL_law_23 20 rfl rfl)
theorem dL_law_724 : decode cL_law 724 = .ok (.iconst 0, 1) := dk_3 (dk_at dksL_law_23 23 rfl rfl)
theorem dL_law_725 : decode cL_law 725 = .ok (.ireturn, 1) := dk_172 (dk_at dksL_law_24 0 rfl rfl)
theorem dL_law_726 : decode cL_law 726 = .ok (.aload_n 1, 1) := dk_43 (dk_at dksL_law_24 1 rfl rfl)
theorem dL_law_727 : decode cL_law 727 = .ok (.aload_n 0, 1) := dk_42 (dk_at dksL_law_24 2 rfl rfl)
theorem dL_law_728 : decode cL_law 728 = .ok (.iload_n 3, 1) := dk_29 (dk_at dksL_law_24 3 rfl rfl)
theorem dL_law_729 : decode cL_law 729 = .ok (.iconst 1, 1) := dk_4 (dk_at dksL_law_24 4 rfl rfl)
theorem dL_law_730 : decode cL_law 730 = .ok (.iadd, 1) := dk_96 (dk_at dksL_law_24 5 rfl rfl)
theorem dL_law_731 : decode cL_law 731 = .ok (.iaload, 1) := dk_46 (dk_at dksL_law_24 6 rfl rfl)
theorem dL_law_732 : decode cL_law 732 = .ok (.aload_n 0, 1) := dk_42 (dk_at dksL_law_24 7 rfl rfl)
theorem dL_law_733 : decode cL_law 733 = .ok (.iload_n 3, 1) := dk_29 (dk_at dksL_law_24 8 rfl rfl)
theorem dL_law_734 : decode cL_law 734 = .ok (.iconst 2, 1) := dk_5 (dk_at dksL_law_24 9 rfl rfl)
theorem dL_law_735 : decode cL_law 735 = .ok (.iadd, 1) := dk_96 (dk_at dksL_law_24 10 rfl rfl)
theorem dL_law_736 : decode cL_law 736 = .ok (.iaload, 1) := dk_46 (dk_at dksL_law_24 11 rfl rfl)
theorem dL_law_737 : decode cL_law 737 = .ok (.invokevirtual 84, 3) := dk_182 0 84 (dk_at dksL_law_24 12 rfl rfl)
theorem dL_law_740 : decode cL_law 740 = .ok (.aload_n 2, 1) := dk_44 (dk_at dksL_law_24 15 rfl rfl)
theorem dL_law_741 : decode cL_law 741 = .ok (.aload_n 0, 1) := dk_42 (dk_at dksL_law_24 16 rfl rfl)
theorem dL_law_742 : decode cL_law 742 = .ok (.iload_n 3, 1) := dk_29 (dk_at dksL_law_24 17 rfl rfl)
theorem dL_law_743 : decode cL_law 743 = .ok (.iconst 1, 1) := dk_4 (dk_at dksL_law_24 18 rfl rfl)
theorem dL_law_744 : decode cL_law 744 = .ok (.iadd, 1) := dk_96 (dk_at dksL_law_24 19 rfl rfl)
theorem dL_law_745 : decode cL_law 745 = .ok (.iaload, 1) := dk_46 (dk_at dksL_law_24 20 rfl rfl)
theorem dL_law_746 : decode cL_law 746 = .ok (.aload_n 0, 1) := dk_42 (dk_at dksL_law_24 21 rfl rfl)
theorem dL_law_747 : decode cL_law 747 = .ok (.iload_n 3, 1) := dk_29 (dk_at dksL_law_24 22 rfl rfl)
theorem dL_law_748 : decode cL_law 748 = .ok (.iconst 2, 1) := dk_5 (dk_at dksL_law_24 23 rfl rfl)
theorem dL_law_749 : decode cL_law 749 = .ok (.iadd, 1) := dk_96 (dk_at dksL_law_25 0 rfl rfl)
theorem dL_law_750 : decode cL_law 750 = .ok (.iaload, 1) := dk_46 (dk_at dksL_law_25 1 rfl rfl)
theorem dL_law_751 : decode cL_law 751 = .ok (.invokevirtual 87, 3) := dk_182 0 87 (dk_at dksL_law_25 2 rfl rfl)
theorem dL_law_754 : decode cL_law 754 = .ok (.if_icmp .eq 712, 3) := dk_159 2 200 (dk_at dksL_law_25 5 rfl rfl)
theorem dL_law_757 : decode cL_law 757 = .ok (.iconst 0, 1) := dk_3 (dk_at dksL_law_25 8 rfl rfl)
theorem dL_law_758 : decode cL_law 758 = .ok (.ireturn, 1) := dk_172 (dk_at dksL_law_25 9 rfl rfl)
theorem dL_law_759 : decode cL_law 759 = .ok (.aload_n 1, 1) := dk_43 (dk_at dksL_law_25 10 rfl rfl)
theorem dL_law_760 : decode cL_law 760 = .ok (.aload_n 0, 1) := dk_42 (dk_at dksL_law_25 11 rfl rfl)
theorem dL_law_761 : decode cL_law 761 = .ok (.iload_n 3, 1) := dk_29 (dk_at dksL_law_25 12 rfl rfl)
theorem dL_law_762 : decode cL_law 762 = .ok (.iconst 1, 1) := dk_4 (dk_at dksL_law_25 13 rfl rfl)
theorem dL_law_763 : decode cL_law 763 = .ok (.iadd, 1) := dk_96 (dk_at dksL_law_25 14 rfl rfl)
theorem dL_law_764 : decode cL_law 764 = .ok (.iaload, 1) := dk_46 (dk_at dksL_law_25 15 rfl rfl)
theorem dL_law_765 : decode cL_law 765 = .ok (.invokevirtual 88, 3) := dk_182 0 88 (dk_at dksL_law_25 16 rfl rfl)
theorem dL_law_768 : decode cL_law 768 = .ok (.aload_n 2, 1) := dk_44 (dk_at dksL_law_25 19 rfl rfl)
theorem dL_law_769 : decode cL_law 769 = .ok (.aload_n 0, 1) := dk_42 (dk_at dksL_law_25 20 rfl rfl)
theorem dL_law_770 : decode cL_law 770 = .ok (.iload_n 3, 1) := dk_29 (dk_at dksL_law_25 21 rfl rfl)
theorem dL_law_771 : decode cL_law 771 = .ok (.iconst 1, 1) := dk_4 (dk_at dksL_law_25 22 rfl rfl)
theorem dL_law_772 : decode cL_law 772 = .ok (.iadd, 1) := dk_96 (dk_at dksL_law_25 23 rfl rfl)
theorem dL_law_773 : decode cL_law 773 = .ok (.iaload, 1) := dk_46 (dk_at dksL_law_26 0 rfl rfl)
theorem dL_law_774 : decode cL_law 774 = .ok (.invokevirtual 91, 3) := dk_182 0 91 (dk_at dksL_law_26 1 rfl rfl)
theorem dL_law_777 : decode cL_law 777 = .ok (.if_icmp .eq 689, 3) := dk_159 2 177 (dk_at dksL_law_26 4 rfl rfl)
theorem dL_law_780 : decode cL_law 780 = .ok (.iconst 0, 1) := dk_3 (dk_at dksL_law_26 7 rfl rfl)
theorem dL_law_781 : decode cL_law 781 = .ok (.ireturn, 1) := dk_172 (dk_at dksL_law_26 8 rfl rfl)
theorem dL_law_782 : decode cL_law 782 = .ok (.aload_n 1, 1) := dk_43 (dk_at dksL_law_26 9 rfl rfl)
theorem dL_law_783 : decode cL_law 783 = .ok (.aload_n 0, 1) := dk_42 (dk_at dksL_law_26 10 rfl rfl)
theorem dL_law_784 : decode cL_law 784 = .ok (.iload_n 3, 1) := dk_29 (dk_at dksL_law_26 11 rfl rfl)
theorem dL_law_785 : decode cL_law 785 = .ok (.iconst 1, 1) := dk_4 (dk_at dksL_law_26 12 rfl rfl)
theorem dL_law_786 : decode cL_law 786 = .ok (.iadd, 1) := dk_96 (dk_at dksL_law_26 13 rfl rfl)
theorem dL_law_787 : decode cL_law 787 = .ok (.iaload, 1) := dk_46 (dk_at dksL_law_26 14 rfl rfl)
theorem dL_law_788 : decode cL_law 788 = .ok (.aload_n 0, 1) := dk_42 (dk_at dksL_law_26 15 rfl rfl)
theorem dL_law_789 : decode cL_law 789 = .ok (.iload_n 3, 1) := dk_29 (dk_at dksL_law_26 16 rfl rfl)
theorem dL_law_790 : decode cL_law 790 = .ok (.iconst 2, 1) := dk_5 (dk_at dksL_law_26 17 rfl rfl)
theorem dL_law_791 : decode cL_law 791 = .ok (.iadd, 1) := dk_96 (dk_at dksL_law_26 18 rfl rfl)
theorem dL_law_792 : decode cL_law 792 = .ok (.iaload, 1) := dk_46 (dk_at dksL_law_26 19 rfl rfl)
theorem dL_law_793 : decode cL_law 793 = .ok (.invokevirtual 92, 3) := dk_182 0 92 (dk_at dksL_law_26 20 rfl rfl)
theorem dL_law_796 : decode cL_law 796 = .ok (.aload_n 2, 1) := dk_44 (dk_at dksL_law_26 23 rfl rfl)
theorem dL_law_797 : decode cL_law 797 = .ok (.aload_n 0, 1) := dk_42 (dk_at dksL_law_27 0 rfl rfl)
theorem dL_law_798 : decode cL_law 798 = .ok (.iload_n 3, 1) := dk_29 (dk_at dksL_law_27 1 rfl rfl)
theorem dL_law_799 : decode cL_law 799 = .ok (.iconst 1, 1) := dk_4 (dk_at dksL_law_27 2 rfl rfl)
theorem dL_law_800 : decode cL_law 800 = .ok (.iadd, 1) := dk_96 (dk_at dksL_law_27 3 rfl rfl)
theorem dL_law_801 : decode cL_law 801 = .ok (.iaload, 1) := dk_46 (dk_at dksL_law_27 4 rfl rfl)
theorem dL_law_802 : decode cL_law 802 = .ok (.aload_n 0, 1) := dk_42 (dk_at dksL_law_27 5 rfl rfl)
theorem dL_law_803 : decode cL_law 803 = .ok (.iload_n 3, 1) := dk_29 (dk_at dksL_law_27 6 rfl rfl)
theorem dL_law_804 : decode cL_law 804 = .ok (.iconst 2, 1) := dk_5 (dk_at dksL_law_27 7 rfl rfl)
theorem dL_law_805 : decode cL_law 805 = .ok (.iadd, 1) := dk_96 (dk_at dksL_law_27 8 rfl rfl)
theorem dL_law_806 : decode cL_law 806 = .ok (.iaload, 1) := dk_46 (dk_at dksL_law_27 9 rfl rfl)
theorem dL_law_807 : decode cL_law 807 = .ok (.invokevirtual 95, 3) := dk_182 0 95 (dk_at dksL_law_27 10 rfl rfl)
theorem dL_law_810 : decode cL_law 810 = .ok (.if_icmp .eq 656, 3) := dk_159 2 144 (dk_at dksL_law_27 13 rfl rfl)
theorem dL_law_813 : decode cL_law 813 = .ok (.iconst 0, 1) := dk_3 (dk_at dksL_law_27 16 rfl rfl)
theorem dL_law_814 : decode cL_law 814 = .ok (.ireturn, 1) := dk_172 (dk_at dksL_law_27 17 rfl rfl)
theorem dL_law_815 : decode cL_law 815 = .ok (.aload_n 1, 1) := dk_43 (dk_at dksL_law_27 18 rfl rfl)
theorem dL_law_816 : decode cL_law 816 = .ok (.aload_n 0, 1) := dk_42 (dk_at dksL_law_27 19 rfl rfl)
theorem dL_law_817 : decode cL_law 817 = .ok (.iload_n 3, 1) := dk_29 (dk_at dksL_law_27 20 rfl rfl)
theorem dL_law_818 : decode cL_law 818 = .ok (.iconst 1, 1) := dk_4 (dk_at dksL_law_27 21 rfl rfl)
theorem dL_law_819 : decode cL_law 819 = .ok (.iadd, 1) := dk_96 (dk_at dksL_law_27 22 rfl rfl)
theorem dL_law_820 : decode cL_law 820 = .ok (.iaload, 1) := dk_46 (dk_at dksL_law_27 23 rfl rfl)
theorem dL_law_821 : decode cL_law 821 = .ok (.aload_n 0, 1) := dk_42 (dk_at dksL_law_28 0 rfl rfl)
theorem dL_law_822 : decode cL_law 822 = .ok (.iload_n 3, 1) := dk_29 (dk_at dksL_law_28 1 rfl rfl)
theorem dL_law_823 : decode cL_law 823 = .ok (.iconst 2, 1) := dk_5 (dk_at dksL_law_28 2 rfl rfl)
theorem dL_law_824 : decode cL_law 824 = .ok (.iadd, 1) := dk_96 (dk_at dksL_law_28 3 rfl rfl)
theorem dL_law_825 : decode cL_law 825 = .ok (.iaload, 1) := dk_46 (dk_at dksL_law_28 4 rfl rfl)
theorem dL_law_826 : decode cL_law 826 = .ok (.aload_n 0, 1) := dk_42 (dk_at dksL_law_28 5 rfl rfl)
theorem dL_law_827 : decode cL_law 827 = .ok (.iload_n 3, 1) := dk_29 (dk_at dksL_law_28 6 rfl rfl)
theorem dL_law_828 : decode cL_law 828 = .ok (.iconst 3, 1) := dk_6 (dk_at dksL_law_28 7 rfl rfl)
theorem dL_law_829 : decode cL_law 829 = .ok (.iadd, 1) := dk_96 (dk_at dksL_law_28 8 rfl rfl)
theorem dL_law_830 : decode cL_law 830 = .ok (.iaload, 1) := dk_46 (dk_at dksL_law_28 9 rfl rfl)
theorem dL_law_831 : decode cL_law 831 = .ok (.aload_n 0, 1) := dk_42 (dk_at dksL_law_28 10 rfl rfl)
theorem dL_law_832 : decode cL_law 832 = .ok (.iload_n 3, 1) := dk_29 (dk_at dksL_law_28 11 rfl rfl)
theorem dL_law_833 : decode cL_law 833 = .ok (.iconst 4, 1) := dk_7 (dk_at dksL_law_28 12 rfl rfl)
theorem dL_law_834 : decode cL_law 834 = .ok (.iadd, 1) := dk_96 (dk_at dksL_law_28 13 rfl rfl)
theorem dL_law_835 : decode cL_law 835 = .ok (.iaload, 1) := dk_46 (dk_at dksL_law_28 14 rfl rfl)
theorem dL_law_836 : decode cL_law 836 = .ok (.invokevirtual 96, 3) := dk_182 0 96 (dk_at dksL_law_28 15 rfl rfl)
theorem dL_law_839 : decode cL_law 839 = .ok (.aload_n 2, 1) := dk_44 (dk_at dksL_law_28 18 rfl rfl)
theorem dL_law_840 : decode cL_law 840 = .ok (.aload_n 0, 1) := dk_42 (dk_at dksL_law_28 19 rfl rfl)
theorem dL_law_841 : decode cL_law 841 = .ok (.iload_n 3, 1) := dk_29 (dk_at dksL_law_28 20 rfl rfl)
theorem dL_law_842 : decode cL_law 842 = .ok (.iconst 1, 1) := dk_4 (dk_at dksL_law_28 21 rfl rfl)
theorem dL_law_843 : decode cL_law 843 = .ok (.iadd, 1) := dk_96 (dk_at dksL_law_28 22 rfl rfl)
theorem dL_law_844 : decode cL_law 844 = .ok (.iaload, 1) := dk_46 (dk_at dksL_law_28 23 rfl rfl)
theorem dL_law_845 : decode cL_law 845 = .ok (.aload_n 0, 1) := dk_42 (dk_at dksL_law_29 0 rfl rfl)
theorem dL_law_846 : decode cL_law 846 = .ok (.iload_n 3, 1) := dk_29 (dk_at dksL_law_29 1 rfl rfl)
theorem dL_law_847 : decode cL_law 847 = .ok (.iconst 2, 1) := dk_5 (dk_at dksL_law_29 2 rfl rfl)
theorem dL_law_848 : decode cL_law 848 = .ok (.iadd, 1) := dk_96 (dk_at dksL_law_29 3 rfl rfl)
theorem dL_law_849 : decode cL_law 849 = .ok (.iaload, 1) := dk_46 (dk_at dksL_law_29 4 rfl rfl)
theorem dL_law_850 : decode cL_law 850 = .ok (.aload_n 0, 1) := dk_42 (dk_at dksL_law_29 5 rfl rfl)
theorem dL_law_851 : decode cL_law 851 = .ok (.iload_n 3, 1) := dk_29 (dk_at dksL_law_29 6 rfl rfl)
theorem dL_law_852 : decode cL_law 852 = .ok (.iconst 3, 1) := dk_6 (dk_at dksL_law_29 7 rfl rfl)
theorem dL_law_853 : decode cL_law 853 = .ok (.iadd, 1) := dk_96 (dk_at dksL_law_29 8 rfl rfl)
theorem dL_law_854 : decode cL_law 854 = .ok (.iaload, 1) := dk_46 (dk_at dksL_law_29 9 rfl rfl)
theorem dL_law_855 : decode cL_law 855 = .ok (.aload_n 0, 1) := dk_42 (dk_at dksL_law_29 10 rfl rfl)
theorem dL_law_856 : decode cL_law 856 = .ok (.iload_n 3, 1) := dk_29 (dk_at dksL_law_29 11 rfl rfl)
theorem dL_law_857 : decode cL_law 857 = .ok (.iconst 4, 1) := dk_7 (dk_at dksL_law_29 12 rfl rfl)
theorem dL_law_858 : decode cL_law 858 = .ok (.iadd, 1) := dk_96 (dk_at dksL_law_29 13 rfl rfl)
theorem dL_law_859 : decode cL_law 859 = .ok (.iaload, 1) := dk_46 (dk_at dksL_law_29 14 rfl rfl)
theorem dL_law_860 : decode cL_law 860 = .ok (.invokevirtual 100, 3) := dk_182 0 100 (dk_at dksL_law_29 15 rfl rfl)
theorem dL_law_863 : decode cL_law 863 = .ok (.if_icmp .eq 603, 3) := dk_159 2 91 (dk_at dksL_law_29 18 rfl rfl)
theorem dL_law_866 : decode cL_law 866 = .ok (.iconst 0, 1) := dk_3 (dk_at dksL_law_29 21 rfl rfl)
theorem dL_law_867 : decode cL_law 867 = .ok (.ireturn, 1) := dk_172 (dk_at dksL_law_29 22 rfl rfl)
theorem dL_law_868 : decode cL_law 868 = .ok (.aload_n 1, 1) := dk_43 (dk_at dksL_law_29 23 rfl rfl)
theorem dL_law_869 : decode cL_law 869 = .ok (.aload_n 0, 1) := dk_42 (dk_at dksL_law_30 0 rfl rfl)
theorem dL_law_870 : decode cL_law 870 = .ok (.iload_n 3, 1) := dk_29 (dk_at dksL_law_30 1 rfl rfl)
theorem dL_law_871 : decode cL_law 871 = .ok (.iconst 1, 1) := dk_4 (dk_at dksL_law_30 2 rfl rfl)
theorem dL_law_872 : decode cL_law 872 = .ok (.iadd, 1) := dk_96 (dk_at dksL_law_30 3 rfl rfl)
theorem dL_law_873 : decode cL_law 873 = .ok (.iaload, 1) := dk_46 (dk_at dksL_law_30 4 rfl rfl)
theorem dL_law_874 : decode cL_law 874 = .ok (.aload_n 0, 1) := dk_42 (dk_at dksL_law_30 5 rfl rfl)
theorem dL_law_875 : decode cL_law 875 = .ok (.iload_n 3, 1) := dk_29 (dk_at dksL_law_30 6 rfl rfl)
theorem dL_law_876 : decode cL_law 876 = .ok (.iconst 2, 1) := dk_5 (dk_at dksL_law_30 7 rfl rfl)
theorem dL_law_877 : decode cL_law 877 = .ok (.iadd, 1) := dk_96 (dk_at dksL_law_30 8 rfl rfl)
theorem dL_law_878 : decode cL_law 878 = .ok (.iaload, 1) := dk_46 (dk_at dksL_law_30 9 rfl rfl)
theorem dL_law_879 : decode cL_law 879 = .ok (.aload_n 0, 1) := dk_42 (dk_at dksL_law_30 10 rfl rfl)
theorem dL_law_880 : decode cL_law 880 = .ok (.iload_n 3, 1) := dk_29 (dk_at dksL_law_30 11 rfl rfl)
theorem dL_law_881 : decode cL_law 881 = .ok (.iconst 3, 1) := dk_6 (dk_at dksL_law_30 12 rfl rfl)
theorem dL_law_882 : decode cL_law 882 = .ok (.iadd, 1) := dk_96 (dk_at dksL_law_30 13 rfl rfl)
theorem dL_law_883 : decode cL_law 883 = .ok (.iaload, 1) := dk_46 (dk_at dksL_law_30 14 rfl rfl)
theorem dL_law_884 : decode cL_law 884 = .ok (.invokevirtual 101, 3) := dk_182 0 101 (dk_at dksL_law_30 15 rfl rfl)
theorem dL_law_887 : decode cL_law 887 = .ok (.aload_n 2, 1) := dk_44 (dk_at dksL_law_30 18 rfl rfl)
theorem dL_law_888 : decode cL_law 888 = .ok (.aload_n 0, 1) := dk_42 (dk_at dksL_law_30 19 rfl rfl)
theorem dL_law_889 : decode cL_law 889 = .ok (.iload_n 3, 1) := dk_29 (dk_at dksL_law_30 20 rfl rfl)
theorem dL_law_890 : decode cL_law 890 = .ok (.iconst 1, 1) := dk_4 (dk_at dksL_law_30 21 rfl rfl)
theorem dL_law_891 : decode cL_law 891 = .ok (.iadd, 1) := dk_96 (dk_at dksL_law_30 22 rfl rfl)
theorem dL_law_892 : decode cL_law 892 = .ok (.iaload, 1) := dk_46 (dk_at dksL_law_30 23 rfl rfl)
theorem dL_law_893 : decode cL_law 893 = .ok (.aload_n 0, 1) := dk_42 (dk_at dksL_law_31 0 rfl rfl)
theorem dL_law_894 : decode cL_law 894 = .ok (.iload_n 3, 1) := dk_29 (dk_at dksL_law_31 1 rfl rfl)
theorem dL_law_895 : decode cL_law 895 = .ok (.iconst 2, 1) := dk_5 (dk_at dksL_law_31 2 rfl rfl)
theorem dL_law_896 : decode cL_law 896 = .ok (.iadd, 1) := dk_96 (dk_at dksL_law_31 3 rfl rfl)
theorem dL_law_897 : decode cL_law 897 = .ok (.iaload, 1) := dk_46 (dk_at dksL_law_31 4 rfl rfl)
theorem dL_law_898 : decode cL_law 898 = .ok (.aload_n 0, 1) := dk_42 (dk_at dksL_law_31 5 rfl rfl)
theorem dL_law_899 : decode cL_law 899 = .ok (.iload_n 3, 1) := dk_29 (dk_at dksL_law_31 6 rfl rfl)
theorem dL_law_900 : decode cL_law 900 = .ok (.iconst 3, 1) := dk_6 (dk_at dksL_law_31 7 rfl rfl)
theorem dL_law_901 : decode cL_law 901 = .ok (.iadd, 1) := dk_96 (dk_at dksL_law_31 8 rfl rfl)
theorem dL_law_902 : decode cL_law 902 = .ok (.iaload, 1) := dk_46 (dk_at dksL_law_31 9 rfl rfl)
theorem dL_law_903 : decode cL_law 903 = .ok (.invokevirtual 104, 3) := dk_182 0 104 (dk_at dksL_law_31 10 rfl rfl)
theorem dL_law_906 : decode cL_law 906 = .ok (.if_icmp .eq 560, 3) := dk_159 2 48 (dk_at dksL_law_31 13 rfl rfl)
theorem dL_law_909 : decode cL_law 909 = .ok (.iconst 0, 1) := dk_3 (dk_at dksL_law_31 16 rfl rfl)
theorem dL_law_910 : decode cL_law 910 = .ok (.ireturn, 1) := dk_172 (dk_at dksL_law_31 17 rfl rfl)
theorem dL_law_911 : decode cL_law 911 = .ok (.aload_n 1, 1) := dk_43 (dk_at dksL_law_31 18 rfl rfl)
theorem dL_law_912 : decode cL_law 912 = .ok (.invokevirtual 105, 3) := dk_182 0 105 (dk_at dksL_law_31 19 rfl rfl)
theorem dL_law_915 : decode cL_law 915 = .ok (.aload_n 2, 1) := dk_44 (dk_at dksL_law_31 22 rfl rfl)
theorem dL_law_916 : decode cL_law 916 = .ok (.invokevirtual 108, 3) := dk_182 0 108 (dk_at dksL_law_32 0 rfl rfl)
theorem dL_law_919 : decode cL_law 919 = .ok (.if_icmp .eq 547, 3) := dk_159 2 35 (dk_at dksL_law_32 3 rfl rfl)
theorem dL_law_922 : decode cL_law 922 = .ok (.iconst 0, 1) := dk_3 (dk_at dksL_law_32 6 rfl rfl)
theorem dL_law_923 : decode cL_law 923 = .ok (.ireturn, 1) := dk_172 (dk_at dksL_law_32 7 rfl rfl)
theorem dL_law_924 : decode cL_law 924 = .ok (.aload_n 1, 1) := dk_43 (dk_at dksL_law_32 8 rfl rfl)
theorem dL_law_925 : decode cL_law 925 = .ok (.invokevirtual 109, 3) := dk_182 0 109 (dk_at dksL_law_32 9 rfl rfl)
theorem dL_law_928 : decode cL_law 928 = .ok (.aload_n 2, 1) := dk_44 (dk_at dksL_law_32 12 rfl rfl)
theorem dL_law_929 : decode cL_law 929 = .ok (.invokevirtual 112, 3) := dk_182 0 112 (dk_at dksL_law_32 13 rfl rfl)
theorem dL_law_932 : decode cL_law 932 = .ok (.if_icmp .eq 534, 3) := dk_159 2 22 (dk_at dksL_law_32 16 rfl rfl)
theorem dL_law_935 : decode cL_law 935 = .ok (.iconst 0, 1) := dk_3 (dk_at dksL_law_32 19 rfl rfl)
theorem dL_law_936 : decode cL_law 936 = .ok (.ireturn, 1) := dk_172 (dk_at dksL_law_32 20 rfl rfl)
theorem dL_law_937 : decode cL_law 937 = .ok (.aload_n 1, 1) := dk_43 (dk_at dksL_law_32 21 rfl rfl)
theorem dL_law_938 : decode cL_law 938 = .ok (.aload_n 0, 1) := dk_42 (dk_at dksL_law_32 22 rfl rfl)
theorem dL_law_939 : decode cL_law 939 = .ok (.iload_n 3, 1) := dk_29 (dk_at dksL_law_32 23 rfl rfl)
theorem dL_law_940 : decode cL_law 940 = .ok (.iconst 1, 1) := dk_4 (dk_at dksL_law_33 0 rfl rfl)
theorem dL_law_941 : decode cL_law 941 = .ok (.iadd, 1) := dk_96 (dk_at dksL_law_33 1 rfl rfl)
theorem dL_law_942 : decode cL_law 942 = .ok (.iaload, 1) := dk_46 (dk_at dksL_law_33 2 rfl rfl)
theorem dL_law_943 : decode cL_law 943 = .ok (.aload_n 0, 1) := dk_42 (dk_at dksL_law_33 3 rfl rfl)
theorem dL_law_944 : decode cL_law 944 = .ok (.iload_n 3, 1) := dk_29 (dk_at dksL_law_33 4 rfl rfl)
theorem dL_law_945 : decode cL_law 945 = .ok (.iconst 2, 1) := dk_5 (dk_at dksL_law_33 5 rfl rfl)
theorem dL_law_946 : decode cL_law 946 = .ok (.iadd, 1) := dk_96 (dk_at dksL_law_33 6 rfl rfl)
theorem dL_law_947 : decode cL_law 947 = .ok (.iaload, 1) := dk_46 (dk_at dksL_law_33 7 rfl rfl)
theorem dL_law_948 : decode cL_law 948 = .ok (.invokevirtual 113, 3) := dk_182 0 113 (dk_at dksL_law_33 8 rfl rfl)
theorem dL_law_951 : decode cL_law 951 = .ok (.aload_n 2, 1) := dk_44 (dk_at dksL_law_33 11 rfl rfl)
theorem dL_law_952 : decode cL_law 952 = .ok (.aload_n 0, 1) := dk_42 (dk_at dksL_law_33 12 rfl rfl)
theorem dL_law_953 : decode cL_law 953 = .ok (.iload_n 3, 1) := dk_29 (dk_at dksL_law_33 13 rfl rfl)
theorem dL_law_954 : decode cL_law 954 = .ok (.iconst 1, 1) := dk_4 (dk_at dksL_law_33 14 rfl rfl)
theorem dL_law_955 : decode cL_law 955 = .ok (.iadd, 1) := dk_96 (dk_at dksL_law_33 15 rfl rfl)
theorem dL_law_956 : decode cL_law 956 = .ok (.iaload, 1) := dk_46 (dk_at dksL_law_33 16 rfl rfl)
theorem dL_law_957 : decode cL_law 957 = .ok (.aload_n 0, 1) := dk_42 (dk_at dksL_law_33 17 rfl rfl)
theorem dL_law_958 : decode cL_law 958 = .ok (.iload_n 3, 1) := dk_29 (dk_at dksL_law_33 18 rfl rfl)
theorem dL_law_959 : decode cL_law 959 = .ok (.iconst 2, 1) := dk_5 (dk_at dksL_law_33 19 rfl rfl)
theorem dL_law_960 : decode cL_law 960 = .ok (.iadd, 1) := dk_96 (dk_at dksL_law_33 20 rfl rfl)
theorem dL_law_961 : decode cL_law 961 = .ok (.iaload, 1) := dk_46 (dk_at dksL_law_33 21 rfl rfl)
theorem dL_law_962 : decode cL_law 962 = .ok (.invokevirtual 116, 3) := dk_182 0 116 (dk_at dksL_law_34 0 rfl rfl)
theorem dL_law_965 : decode cL_law 965 = .ok (.if_icmp .eq 501, 3) := dk_159 1 245 (dk_at dksL_law_34 3 rfl rfl)
theorem dL_law_968 : decode cL_law 968 = .ok (.iconst 0, 1) := dk_3 (dk_at dksL_law_34 6 rfl rfl)
theorem dL_law_969 : decode cL_law 969 = .ok (.ireturn, 1) := dk_172 (dk_at dksL_law_34 7 rfl rfl)
theorem dL_law_970 : decode cL_law 970 = .ok (.aload_n 1, 1) := dk_43 (dk_at dksL_law_34 8 rfl rfl)
theorem dL_law_971 : decode cL_law 971 = .ok (.invokevirtual 117, 3) := dk_182 0 117 (dk_at dksL_law_34 9 rfl rfl)
theorem dL_law_974 : decode cL_law 974 = .ok (.aload_n 2, 1) := dk_44 (dk_at dksL_law_34 12 rfl rfl)
theorem dL_law_975 : decode cL_law 975 = .ok (.invokevirtual 120, 3) := dk_182 0 120 (dk_at dksL_law_34 13 rfl rfl)
theorem dL_law_978 : decode cL_law 978 = .ok (.if_icmp .eq 488, 3) := dk_159 1 232 (dk_at dksL_law_34 16 rfl rfl)
theorem dL_law_981 : decode cL_law 981 = .ok (.iconst 0, 1) := dk_3 (dk_at dksL_law_34 19 rfl rfl)
theorem dL_law_982 : decode cL_law 982 = .ok (.ireturn, 1) := dk_172 (dk_at dksL_law_34 20 rfl rfl)
theorem dL_law_983 : decode cL_law 983 = .ok (.aload_n 1, 1) := dk_43 (dk_at dksL_law_34 21 rfl rfl)
theorem dL_law_984 : decode cL_law 984 = .ok (.aload_n 0, 1) := dk_42 (dk_at dksL_law_34 22 rfl rfl)
theorem dL_law_985 : decode cL_law 985 = .ok (.iload_n 3, 1) := dk_29 (dk_at dksL_law_34 23 rfl rfl)
theorem dL_law_986 : decode cL_law 986 = .ok (.iconst 1, 1) := dk_4 (dk_at dksL_law_35 0 rfl rfl)
theorem dL_law_987 : decode cL_law 987 = .ok (.iadd, 1) := dk_96 (dk_at dksL_law_35 1 rfl rfl)
theorem dL_law_988 : decode cL_law 988 = .ok (.iaload, 1) := dk_46 (dk_at dksL_law_35 2 rfl rfl)
theorem dL_law_989 : decode cL_law 989 = .ok (.invokevirtual 121, 3) := dk_182 0 121 (dk_at dksL_law_35 3 rfl rfl)
theorem dL_law_992 : decode cL_law 992 = .ok (.aload_n 2, 1) := dk_44 (dk_at dksL_law_35 6 rfl rfl)
theorem dL_law_993 : decode cL_law 993 = .ok (.aload_n 0, 1) := dk_42 (dk_at dksL_law_35 7 rfl rfl)
theorem dL_law_994 : decode cL_law 994 = .ok (.iload_n 3, 1) := dk_29 (dk_at dksL_law_35 8 rfl rfl)
theorem dL_law_995 : decode cL_law 995 = .ok (.iconst 1, 1) := dk_4 (dk_at dksL_law_35 9 rfl rfl)
theorem dL_law_996 : decode cL_law 996 = .ok (.iadd, 1) := dk_96 (dk_at dksL_law_35 10 rfl rfl)
theorem dL_law_997 : decode cL_law 997 = .ok (.iaload, 1) := dk_46 (dk_at dksL_law_35 11 rfl rfl)
theorem dL_law_998 : decode cL_law 998 = .ok (.invokevirtual 124, 3) := dk_182 0 124 (dk_at dksL_law_35 12 rfl rfl)
theorem dL_law_1001 : decode cL_law 1001 = .ok (.if_icmp .eq 465, 3) := dk_159 1 209 (dk_at dksL_law_35 15 rfl rfl)
theorem dL_law_1004 : decode cL_law 1004 = .ok (.iconst 0, 1) := dk_3 (dk_at dksL_law_35 18 rfl rfl)
theorem dL_law_1005 : decode cL_law 1005 = .ok (.ireturn, 1) := dk_172 (dk_at dksL_law_35 19 rfl rfl)
theorem dL_law_1006 : decode cL_law 1006 = .ok (.aload_n 1, 1) := dk_43 (dk_at dksL_law_35 20 rfl rfl)
theorem dL_law_1007 : decode cL_law 1007 = .ok (.aload_n 0, 1) := dk_42 (dk_at dksL_law_35 21 rfl rfl)
theorem dL_law_1008 : decode cL_law 1008 = .ok (.iload_n 3, 1) := dk_29 (dk_at dksL_law_35 22 rfl rfl)
theorem dL_law_1009 : decode cL_law 1009 = .ok (.iconst 1, 1) := dk_4 (dk_at dksL_law_35 23 rfl rfl)
theorem dL_law_1010 : decode cL_law 1010 = .ok (.iadd, 1) := dk_96 (dk_at dksL_law_36 0 rfl rfl)
theorem dL_law_1011 : decode cL_law 1011 = .ok (.iaload, 1) := dk_46 (dk_at dksL_law_36 1 rfl rfl)
theorem dL_law_1012 : decode cL_law 1012 = .ok (.aload_n 0, 1) := dk_42 (dk_at dksL_law_36 2 rfl rfl)
theorem dL_law_1013 : decode cL_law 1013 = .ok (.iload_n 3, 1) := dk_29 (dk_at dksL_law_36 3 rfl rfl)
theorem dL_law_1014 : decode cL_law 1014 = .ok (.iconst 2, 1) := dk_5 (dk_at dksL_law_36 4 rfl rfl)
theorem dL_law_1015 : decode cL_law 1015 = .ok (.iadd, 1) := dk_96 (dk_at dksL_law_36 5 rfl rfl)
theorem dL_law_1016 : decode cL_law 1016 = .ok (.iaload, 1) := dk_46 (dk_at dksL_law_36 6 rfl rfl)
theorem dL_law_1017 : decode cL_law 1017 = .ok (.aload_n 0, 1) := dk_42 (dk_at dksL_law_36 7 rfl rfl)
theorem dL_law_1018 : decode cL_law 1018 = .ok (.iload_n 3, 1) := dk_29 (dk_at dksL_law_36 8 rfl rfl)
theorem dL_law_1019 : decode cL_law 1019 = .ok (.iconst 3, 1) := dk_6 (dk_at dksL_law_36 9 rfl rfl)
theorem dL_law_1020 : decode cL_law 1020 = .ok (.iadd, 1) := dk_96 (dk_at dksL_law_36 10 rfl rfl)
theorem dL_law_1021 : decode cL_law 1021 = .ok (.iaload, 1) := dk_46 (dk_at dksL_law_36 11 rfl rfl)
theorem dL_law_1022 : decode cL_law 1022 = .ok (.invokevirtual 125, 3) := dk_182 0 125 (dk_at dksL_law_36 12 rfl rfl)
theorem dL_law_1025 : decode cL_law 1025 = .ok (.aload_n 2, 1) := dk_44 (dk_at dksL_law_36 15 rfl rfl)
theorem dL_law_1026 : decode cL_law 1026 = .ok (.aload_n 0, 1) := dk_42 (dk_at dksL_law_36 16 rfl rfl)
theorem dL_law_1027 : decode cL_law 1027 = .ok (.iload_n 3, 1) := dk_29 (dk_at dksL_law_36 17 rfl rfl)
theorem dL_law_1028 : decode cL_law 1028 = .ok (.iconst 1, 1) := dk_4 (dk_at dksL_law_36 18 rfl rfl)
theorem dL_law_1029 : decode cL_law 1029 = .ok (.iadd, 1) := dk_96 (dk_at dksL_law_36 19 rfl rfl)
theorem dL_law_1030 : decode cL_law 1030 = .ok (.iaload, 1) := dk_46 (dk_at dksL_law_36 20 rfl rfl)
theorem dL_law_1031 : decode cL_law 1031 = .ok (.aload_n 0, 1) := dk_42 (dk_at dksL_law_36 21 rfl rfl)
theorem dL_law_1032 : decode cL_law 1032 = .ok (.iload_n 3, 1) := dk_29 (dk_at dksL_law_36 22 rfl rfl)
theorem dL_law_1033 : decode cL_law 1033 = .ok (.iconst 2, 1) := dk_5 (dk_at dksL_law_36 23 rfl rfl)
theorem dL_law_1034 : decode cL_law 1034 = .ok (.iadd, 1) := dk_96 (dk_at dksL_law_37 0 rfl rfl)
theorem dL_law_1035 : decode cL_law 1035 = .ok (.iaload, 1) := dk_46 (dk_at dksL_law_37 1 rfl rfl)
theorem dL_law_1036 : decode cL_law 1036 = .ok (.aload_n 0, 1) := dk_42 (dk_at dksL_law_37 2 rfl rfl)
theorem dL_law_1037 : decode cL_law 1037 = .ok (.iload_n 3, 1) := dk_29 (dk_at dksL_law_37 3 rfl rfl)
theorem dL_law_1038 : decode cL_law 1038 = .ok (.iconst 3, 1) := dk_6 (dk_at dksL_law_37 4 rfl rfl)
theorem dL_law_1039 : decode cL_law 1039 = .ok (.iadd, 1) := dk_96 (dk_at dksL_law_37 5 rfl rfl)
theorem dL_law_1040 : decode cL_law 1040 = .ok (.iaload, 1) := dk_46 (dk_at dksL_law_37 6 rfl rfl)
theorem dL_law_1041 : decode cL_law 1041 = .ok (.invokevirtual 129, 3) := dk_182 0 129 (dk_at dksL_law_37 7 rfl rfl)
theorem dL_law_1044 : decode cL_law 1044 = .ok (.if_icmp .eq 422, 3) := dk_159 1 166 (dk_at dksL_law_37 10 rfl rfl)
theorem dL_law_1047 : decode cL_law 1047 = .ok (.iconst 0, 1) := dk_3 (dk_at dksL_law_37 13 rfl rfl)
theorem dL_law_1048 : decode cL_law 1048 = .ok (.ireturn, 1) := dk_172 (dk_at dksL_law_37 14 rfl rfl)
theorem dL_law_1049 : decode cL_law 1049 = .ok (.aload_n 1, 1) := dk_43 (dk_at dksL_law_37 15 rfl rfl)
theorem dL_law_1050 : decode cL_law 1050 = .ok (.aload_n 0, 1) := dk_42 (dk_at dksL_law_37 16 rfl rfl)
theorem dL_law_1051 : decode cL_law 1051 = .ok (.iload_n 3, 1) := dk_29 (dk_at dksL_law_37 17 rfl rfl)
theorem dL_law_1052 : decode cL_law 1052 = .ok (.iconst 1, 1) := dk_4 (dk_at dksL_law_37 18 rfl rfl)
theorem dL_law_1053 : decode cL_law 1053 = .ok (.iadd, 1) := dk_96 (dk_at dksL_law_37 19 rfl rfl)
theorem dL_law_1054 : decode cL_law 1054 = .ok (.iaload, 1) := dk_46 (dk_at dksL_law_37 20 rfl rfl)
theorem dL_law_1055 : decode cL_law 1055 = .ok (.invokevirtual 130, 3) := dk_182 0 130 (dk_at dksL_law_37 21 rfl rfl)
theorem dL_law_1058 : decode cL_law 1058 = .ok (.aload_n 2, 1) := dk_44 (dk_at dksL_law_38 0 rfl rfl)
theorem dL_law_1059 : decode cL_law 1059 = .ok (.aload_n 0, 1) := dk_42 (dk_at dksL_law_38 1 rfl rfl)
theorem dL_law_1060 : decode cL_law 1060 = .ok (.iload_n 3, 1) := dk_29 (dk_at dksL_law_38 2 rfl rfl)
theorem dL_law_1061 : decode cL_law 1061 = .ok (.iconst 1, 1) := dk_4 (dk_at dksL_law_38 3 rfl rfl)
theorem dL_law_1062 : decode cL_law 1062 = .ok (.iadd, 1) := dk_96 (dk_at dksL_law_38 4 rfl rfl)
theorem dL_law_1063 : decode cL_law 1063 = .ok (.iaload, 1) := dk_46 (dk_at dksL_law_38 5 rfl rfl)
theorem dL_law_1064 : decode cL_law 1064 = .ok (.invokevirtual 133, 3) := dk_182 0 133 (dk_at dksL_law_38 6 rfl rfl)
theorem dL_law_1067 : decode cL_law 1067 = .ok (.if_icmp .eq 399, 3) := dk_159 1 143 (dk_at dksL_law_38 9 rfl rfl)
theorem dL_law_1070 : decode cL_law 1070 = .ok (.iconst 0, 1) := dk_3 (dk_at dksL_law_38 12 rfl rfl)
theorem dL_law_1071 : decode cL_law 1071 = .ok (.ireturn, 1) := dk_172 (dk_at dksL_law_38 13 rfl rfl)
theorem dL_law_1072 : decode cL_law 1072 = .ok (.aload_n 1, 1) := dk_43 (dk_at dksL_law_38 14 rfl rfl)
theorem dL_law_1073 : decode cL_law 1073 = .ok (.aload_n 0, 1) := dk_42 (dk_at dksL_law_38 15 rfl rfl)
theorem dL_law_1074 : decode cL_law 1074 = .ok (.iload_n 3, 1) := dk_29 (dk_at dksL_law_38 16 rfl rfl)
theorem dL_law_1075 : decode cL_law 1075 = .ok (.iconst 1, 1) := dk_4 (dk_at dksL_law_38 17 rfl rfl)
theorem dL_law_1076 : decode cL_law 1076 = .ok (.iadd, 1) := dk_96 (dk_at dksL_law_38 18 rfl rfl)
theorem dL_law_1077 : decode cL_law 1077 = .ok (.iaload, 1) := dk_46 (dk_at dksL_law_38 19 rfl rfl)
theorem dL_law_1078 : decode cL_law 1078 = .ok (.invokevirtual 134, 3) := dk_182 0 134 (dk_at dksL_law_38 20 rfl rfl)
theorem dL_law_1081 : decode cL_law 1081 = .ok (.aload_n 2, 1) := dk_44 (dk_at dksL_law_38 23 rfl rfl)
theorem dL_law_1082 : decode cL_law 1082 = .ok (.aload_n 0, 1) := dk_42 (dk_at dksL_law_39 0 rfl rfl)
theorem dL_law_1083 : decode cL_law 1083 = .ok (.iload_n 3, 1) := dk_29 (dk_at dksL_law_39 1 rfl rfl)
theorem dL_law_1084 : decode cL_law 1084 = .ok (.iconst 1, 1) := dk_4 (dk_at dksL_law_39 2 rfl rfl)
theorem dL_law_1085 : decode cL_law 1085 = .ok (.iadd, 1) := dk_96 (dk_at dksL_law_39 3 rfl rfl)
theorem dL_law_1086 : decode cL_law 1086 = .ok (.iaload, 1) := dk_46 (dk_at dksL_law_39 4 rfl rfl)
theorem dL_law_1087 : decode cL_law 1087 = .ok (.invokevirtual 138, 3) := dk_182 0 138 (dk_at dksL_law_39 5 rfl rfl)
theorem dL_law_1090 : decode cL_law 1090 = .ok (.if_icmp .eq 376, 3) := dk_159 1 120 (dk_at dksL_law_39 8 rfl rfl)
theorem dL_law_1093 : decode cL_law 1093 = .ok (.iconst 0, 1) := dk_3 (dk_at dksL_law_39 11 rfl rfl)
theorem dL_law_1094 : decode cL_law 1094 = .ok (.ireturn, 1) := dk_172 (dk_at dksL_law_39 12 rfl rfl)
theorem dL_law_1095 : decode cL_law 1095 = .ok (.aload_n 1, 1) := dk_43 (dk_at dksL_law_39 13 rfl rfl)
theorem dL_law_1096 : decode cL_law 1096 = .ok (.aload_n 0, 1) := dk_42 (dk_at dksL_law_39 14 rfl rfl)
theorem dL_law_1097 : decode cL_law 1097 = .ok (.iload_n 3, 1) := dk_29 (dk_at dksL_law_39 15 rfl rfl)
theorem dL_law_1098 : decode cL_law 1098 = .ok (.iconst 1, 1) := dk_4 (dk_at dksL_law_39 16 rfl rfl)
theorem dL_law_1099 : decode cL_law 1099 = .ok (.iadd, 1) := dk_96 (dk_at dksL_law_39 17 rfl rfl)
theorem dL_law_1100 : decode cL_law 1100 = .ok (.iaload, 1) := dk_46 (dk_at dksL_law_39 18 rfl rfl)
theorem dL_law_1101 : decode cL_law 1101 = .ok (.aload_n 0, 1) := dk_42 (dk_at dksL_law_39 19 rfl rfl)
theorem dL_law_1102 : decode cL_law 1102 = .ok (.iload_n 3, 1) := dk_29 (dk_at dksL_law_39 20 rfl rfl)
theorem dL_law_1103 : decode cL_law 1103 = .ok (.iconst 2, 1) := dk_5 (dk_at dksL_law_39 21 rfl rfl)
theorem dL_law_1104 : decode cL_law 1104 = .ok (.iadd, 1) := dk_96 (dk_at dksL_law_39 22 rfl rfl)
theorem dL_law_1105 : decode cL_law 1105 = .ok (.iaload, 1) := dk_46 (dk_at dksL_law_39 23 rfl rfl)
theorem dL_law_1106 : decode cL_law 1106 = .ok (.invokevirtual 139, 3) := dk_182 0 139 (dk_at dksL_law_40 0 rfl rfl)
theorem dL_law_1109 : decode cL_law 1109 = .ok (.aload_n 2, 1) := dk_44 (dk_at dksL_law_40 3 rfl rfl)
theorem dL_law_1110 : decode cL_law 1110 = .ok (.aload_n 0, 1) := dk_42 (dk_at dksL_law_40 4 rfl rfl)
theorem dL_law_1111 : decode cL_law 1111 = .ok (.iload_n 3, 1) := dk_29 (dk_at dksL_law_40 5 rfl rfl)
theorem dL_law_1112 : decode cL_law 1112 = .ok (.iconst 1, 1) := dk_4 (dk_at dksL_law_40 6 rfl rfl)
theorem dL_law_1113 : decode cL_law 1113 = .ok (.iadd, 1) := dk_96 (dk_at dksL_law_40 7 rfl rfl)
theorem dL_law_1114 : decode cL_law 1114 = .ok (.iaload, 1) := dk_46 (dk_at dksL_law_40 8 rfl rfl)
theorem dL_law_1115 : decode cL_law 1115 = .ok (.aload_n 0, 1) := dk_42 (dk_at dksL_law_40 9 rfl rfl)
theorem dL_law_1116 : decode cL_law 1116 = .ok (.iload_n 3, 1) := dk_29 (dk_at dksL_law_40 10 rfl rfl)
theorem dL_law_1117 : decode cL_law 1117 = .ok (.iconst 2, 1) := dk_5 (dk_at dksL_law_40 11 rfl rfl)
theorem dL_law_1118 : decode cL_law 1118 = .ok (.iadd, 1) := dk_96 (dk_at dksL_law_40 12 rfl rfl)
theorem dL_law_1119 : decode cL_law 1119 = .ok (.iaload, 1) := dk_46 (dk_at dksL_law_40 13 rfl rfl)
theorem dL_law_1120 : decode cL_law 1120 = .ok (.invokevirtual 143, 3) := dk_182 0 143 (dk_at dksL_law_40 14 rfl rfl)
theorem dL_law_1123 : decode cL_law 1123 = .ok (.if_icmp .eq 343, 3) := dk_159 1 87 (dk_at dksL_law_40 17 rfl rfl)
theorem dL_law_1126 : decode cL_law 1126 = .ok (.iconst 0, 1) := dk_3 (dk_at dksL_law_40 20 rfl rfl)
theorem dL_law_1127 : decode cL_law 1127 = .ok (.ireturn, 1) := dk_172 (dk_at dksL_law_40 21 rfl rfl)
theorem dL_law_1128 : decode cL_law 1128 = .ok (.aload_n 1, 1) := dk_43 (dk_at dksL_law_40 22 rfl rfl)
theorem dL_law_1129 : decode cL_law 1129 = .ok (.aload_n 0, 1) := dk_42 (dk_at dksL_law_40 23 rfl rfl)
theorem dL_law_1130 : decode cL_law 1130 = .ok (.iload_n 3, 1) := dk_29 (dk_at dksL_law_41 0 rfl rfl)
theorem dL_law_1131 : decode cL_law 1131 = .ok (.iconst 1, 1) := dk_4 (dk_at dksL_law_41 1 rfl rfl)
theorem dL_law_1132 : decode cL_law 1132 = .ok (.iadd, 1) := dk_96 (dk_at dksL_law_41 2 rfl rfl)
theorem dL_law_1133 : decode cL_law 1133 = .ok (.iaload, 1) := dk_46 (dk_at dksL_law_41 3 rfl rfl)
theorem dL_law_1134 : decode cL_law 1134 = .ok (.invokevirtual 144, 3) := dk_182 0 144 (dk_at dksL_law_41 4 rfl rfl)
theorem dL_law_1137 : decode cL_law 1137 = .ok (.aload_n 2, 1) := dk_44 (dk_at dksL_law_41 7 rfl rfl)
theorem dL_law_1138 : decode cL_law 1138 = .ok (.aload_n 0, 1) := dk_42 (dk_at dksL_law_41 8 rfl rfl)
theorem dL_law_1139 : decode cL_law 1139 = .ok (.iload_n 3, 1) := dk_29 (dk_at dksL_law_41 9 rfl rfl)
theorem dL_law_1140 : decode cL_law 1140 = .ok (.iconst 1, 1) := dk_4 (dk_at dksL_law_41 10 rfl rfl)
theorem dL_law_1141 : decode cL_law 1141 = .ok (.iadd, 1) := dk_96 (dk_at dksL_law_41 11 rfl rfl)
theorem dL_law_1142 : decode cL_law 1142 = .ok (.iaload, 1) := dk_46 (dk_at dksL_law_41 12 rfl rfl)
theorem dL_law_1143 : decode cL_law 1143 = .ok (.invokevirtual 147, 3) := dk_182 0 147 (dk_at dksL_law_41 13 rfl rfl)
theorem dL_law_1146 : decode cL_law 1146 = .ok (.if_icmp .eq 320, 3) := dk_159 1 64 (dk_at dksL_law_41 16 rfl rfl)
theorem dL_law_1149 : decode cL_law 1149 = .ok (.iconst 0, 1) := dk_3 (dk_at dksL_law_41 19 rfl rfl)
theorem dL_law_1150 : decode cL_law 1150 = .ok (.ireturn, 1) := dk_172 (dk_at dksL_law_41 20 rfl rfl)
theorem dL_law_1151 : decode cL_law 1151 = .ok (.aload_n 1, 1) := dk_43 (dk_at dksL_law_41 21 rfl rfl)
theorem dL_law_1152 : decode cL_law 1152 = .ok (.aload_n 0, 1) := dk_42 (dk_at dksL_law_41 22 rfl rfl)
theorem dL_law_1153 : decode cL_law 1153 = .ok (.iload_n 3, 1) := dk_29 (dk_at dksL_law_41 23 rfl rfl)
theorem dL_law_1154 : decode cL_law 1154 = .ok (.iconst 1, 1) := dk_4 (dk_at dksL_law_42 0 rfl rfl)
theorem dL_law_1155 : decode cL_law 1155 = .ok (.iadd, 1) := dk_96 (dk_at dksL_law_42 1 rfl rfl)
theorem dL_law_1156 : decode cL_law 1156 = .ok (.iaload, 1) := dk_46 (dk_at dksL_law_42 2 rfl rfl)
theorem dL_law_1157 : decode cL_law 1157 = .ok (.invokevirtual 148, 3) := dk_182 0 148 (dk_at dksL_law_42 3 rfl rfl)
theorem dL_law_1160 : decode cL_law 1160 = .ok (.aload_n 2, 1) := dk_44 (dk_at dksL_law_42 6 rfl rfl)
theorem dL_law_1161 : decode cL_law 1161 = .ok (.aload_n 0, 1) := dk_42 (dk_at dksL_law_42 7 rfl rfl)
theorem dL_law_1162 : decode cL_law 1162 = .ok (.iload_n 3, 1) := dk_29 (dk_at dksL_law_42 8 rfl rfl)
theorem dL_law_1163 : decode cL_law 1163 = .ok (.iconst 1, 1) := dk_4 (dk_at dksL_law_42 9 rfl rfl)
theorem dL_law_1164 : decode cL_law 1164 = .ok (.iadd, 1) := dk_96 (dk_at dksL_law_42 10 rfl rfl)
theorem dL_law_1165 : decode cL_law 1165 = .ok (.iaload, 1) := dk_46 (dk_at dksL_law_42 11 rfl rfl)
theorem dL_law_1166 : decode cL_law 1166 = .ok (.invokevirtual 151, 3) := dk_182 0 151 (dk_at dksL_law_42 12 rfl rfl)
theorem dL_law_1169 : decode cL_law 1169 = .ok (.if_icmp .eq 297, 3) := dk_159 1 41 (dk_at dksL_law_42 15 rfl rfl)
theorem dL_law_1172 : decode cL_law 1172 = .ok (.iconst 0, 1) := dk_3 (dk_at dksL_law_42 18 rfl rfl)
theorem dL_law_1173 : decode cL_law 1173 = .ok (.ireturn, 1) := dk_172 (dk_at dksL_law_42 19 rfl rfl)
theorem dL_law_1174 : decode cL_law 1174 = .ok (.aload_n 1, 1) := dk_43 (dk_at dksL_law_42 20 rfl rfl)
theorem dL_law_1175 : decode cL_law 1175 = .ok (.invokevirtual 152, 3) := dk_182 0 152 (dk_at dksL_law_42 21 rfl rfl)
theorem dL_law_1178 : decode cL_law 1178 = .ok (.aload_n 2, 1) := dk_44 (dk_at dksL_law_43 0 rfl rfl)
theorem dL_law_1179 : decode cL_law 1179 = .ok (.invokevirtual 155, 3) := dk_182 0 155 (dk_at dksL_law_43 1 rfl rfl)
theorem dL_law_1182 : decode cL_law 1182 = .ok (.if_icmp .eq 284, 3) := dk_159 1 28 (dk_at dksL_law_43 4 rfl rfl)
theorem dL_law_1185 : decode cL_law 1185 = .ok (.iconst 0, 1) := dk_3 (dk_at dksL_law_43 7 rfl rfl)
theorem dL_law_1186 : decode cL_law 1186 = .ok (.ireturn, 1) := dk_172 (dk_at dksL_law_43 8 rfl rfl)
theorem dL_law_1187 : decode cL_law 1187 = .ok (.aload_n 1, 1) := dk_43 (dk_at dksL_law_43 9 rfl rfl)
theorem dL_law_1188 : decode cL_law 1188 = .ok (.aload_n 0, 1) := dk_42 (dk_at dksL_law_43 10 rfl rfl)
theorem dL_law_1189 : decode cL_law 1189 = .ok (.iload_n 3, 1) := dk_29 (dk_at dksL_law_43 11 rfl rfl)
theorem dL_law_1190 : decode cL_law 1190 = .ok (.iconst 1, 1) := dk_4 (dk_at dksL_law_43 12 rfl rfl)
theorem dL_law_1191 : decode cL_law 1191 = .ok (.iadd, 1) := dk_96 (dk_at dksL_law_43 13 rfl rfl)
theorem dL_law_1192 : decode cL_law 1192 = .ok (.iaload, 1) := dk_46 (dk_at dksL_law_43 14 rfl rfl)
theorem dL_law_1193 : decode cL_law 1193 = .ok (.aload_n 0, 1) := dk_42 (dk_at dksL_law_43 15 rfl rfl)
theorem dL_law_1194 : decode cL_law 1194 = .ok (.iload_n 3, 1) := dk_29 (dk_at dksL_law_43 16 rfl rfl)
theorem dL_law_1195 : decode cL_law 1195 = .ok (.iconst 2, 1) := dk_5 (dk_at dksL_law_43 17 rfl rfl)
theorem dL_law_1196 : decode cL_law 1196 = .ok (.iadd, 1) := dk_96 (dk_at dksL_law_43 18 rfl rfl)
theorem dL_law_1197 : decode cL_law 1197 = .ok (.iaload, 1) := dk_46 (dk_at dksL_law_43 19 rfl rfl)
theorem dL_law_1198 : decode cL_law 1198 = .ok (.invokevirtual 156, 3) := dk_182 0 156 (dk_at dksL_law_43 20 rfl rfl)
theorem dL_law_1201 : decode cL_law 1201 = .ok (.aload_n 2, 1) := dk_44 (dk_at dksL_law_43 23 rfl rfl)
theorem dL_law_1202 : decode cL_law 1202 = .ok (.aload_n 0, 1) := dk_42 (dk_at dksL_law_44 0 rfl rfl)
theorem dL_law_1203 : decode cL_law 1203 = .ok (.iload_n 3, 1) := dk_29 (dk_at dksL_law_44 1 rfl rfl)
theorem dL_law_1204 : decode cL_law 1204 = .ok (.iconst 1, 1) := dk_4 (dk_at dksL_law_44 2 rfl rfl)
theorem dL_law_1205 : decode cL_law 1205 = .ok (.iadd, 1) := dk_96 (dk_at dksL_law_44 3 rfl rfl)
theorem dL_law_1206 : decode cL_law 1206 = .ok (.iaload, 1) := dk_46 (dk_at dksL_law_44 4 rfl rfl)
theorem dL_law_1207 : decode cL_law 1207 = .ok (.aload_n 0, 1) := dk_42 (dk_at dksL_law_44 5 rfl rfl)
theorem dL_law_1208 : decode cL_law 1208 = .ok (.iload_n 3, 1) := dk_29 (dk_at dksL_law_44 6 rfl rfl)
theorem dL_law_1209 : decode cL_law 1209 = .ok (.iconst 2, 1) := dk_5 (dk_at dksL_law_44 7 rfl rfl)
theorem dL_law_1210 : decode cL_law 1210 = .ok (.iadd, 1) := dk_96 (dk_at dksL_law_44 8 rfl rfl)
theorem dL_law_1211 : decode cL_law 1211 = .ok (.iaload, 1) := dk_46 (dk_at dksL_law_44 9 rfl rfl)
theorem dL_law_1212 : decode cL_law 1212 = .ok (.invokevirtual 159, 3) := dk_182 0 159 (dk_at dksL_law_44 10 rfl rfl)
theorem dL_law_1215 : decode cL_law 1215 = .ok (.if_icmp .eq 251, 3) := dk_159 0 251 (dk_at dksL_law_44 13 rfl rfl)
theorem dL_law_1218 : decode cL_law 1218 = .ok (.iconst 0, 1) := dk_3 (dk_at dksL_law_44 16 rfl rfl)
theorem dL_law_1219 : decode cL_law 1219 = .ok (.ireturn, 1) := dk_172 (dk_at dksL_law_44 17 rfl rfl)
theorem dL_law_1220 : decode cL_law 1220 = .ok (.aload_n 1, 1) := dk_43 (dk_at dksL_law_44 18 rfl rfl)
theorem dL_law_1221 : decode cL_law 1221 = .ok (.aload_n 0, 1) := dk_42 (dk_at dksL_law_44 19 rfl rfl)
theorem dL_law_1222 : decode cL_law 1222 = .ok (.iload_n 3, 1) := dk_29 (dk_at dksL_law_44 20 rfl rfl)
theorem dL_law_1223 : decode cL_law 1223 = .ok (.iconst 1, 1) := dk_4 (dk_at dksL_law_44 21 rfl rfl)
theorem dL_law_1224 : decode cL_law 1224 = .ok (.iadd, 1) := dk_96 (dk_at dksL_law_44 22 rfl rfl)
theorem dL_law_1225 : decode cL_law 1225 = .ok (.iaload, 1) := dk_46 (dk_at dksL_law_44 23 rfl rfl)
theorem dL_law_1226 : decode cL_law 1226 = .ok (.invokevirtual 160, 3) := dk_182 0 160 (dk_at dksL_law_45 0 rfl rfl)
theorem dL_law_1229 : decode cL_law 1229 = .ok (.aload_n 2, 1) := dk_44 (dk_at dksL_law_45 3 rfl rfl)
theorem dL_law_1230 : decode cL_law 1230 = .ok (.aload_n 0, 1) := dk_42 (dk_at dksL_law_45 4 rfl rfl)
theorem dL_law_1231 : decode cL_law 1231 = .ok (.iload_n 3, 1) := dk_29 (dk_at dksL_law_45 5 rfl rfl)
theorem dL_law_1232 : decode cL_law 1232 = .ok (.iconst 1, 1) := dk_4 (dk_at dksL_law_45 6 rfl rfl)
theorem dL_law_1233 : decode cL_law 1233 = .ok (.iadd, 1) := dk_96 (dk_at dksL_law_45 7 rfl rfl)
theorem dL_law_1234 : decode cL_law 1234 = .ok (.iaload, 1) := dk_46 (dk_at dksL_law_45 8 rfl rfl)
theorem dL_law_1235 : decode cL_law 1235 = .ok (.invokevirtual 163, 3) := dk_182 0 163 (dk_at dksL_law_45 9 rfl rfl)
theorem dL_law_1238 : decode cL_law 1238 = .ok (.if_icmp .eq 228, 3) := dk_159 0 228 (dk_at dksL_law_45 12 rfl rfl)
theorem dL_law_1241 : decode cL_law 1241 = .ok (.iconst 0, 1) := dk_3 (dk_at dksL_law_45 15 rfl rfl)
theorem dL_law_1242 : decode cL_law 1242 = .ok (.ireturn, 1) := dk_172 (dk_at dksL_law_45 16 rfl rfl)
theorem dL_law_1243 : decode cL_law 1243 = .ok (.aload_n 1, 1) := dk_43 (dk_at dksL_law_45 17 rfl rfl)
theorem dL_law_1244 : decode cL_law 1244 = .ok (.aload_n 0, 1) := dk_42 (dk_at dksL_law_45 18 rfl rfl)
theorem dL_law_1245 : decode cL_law 1245 = .ok (.iload_n 3, 1) := dk_29 (dk_at dksL_law_45 19 rfl rfl)
theorem dL_law_1246 : decode cL_law 1246 = .ok (.iconst 1, 1) := dk_4 (dk_at dksL_law_45 20 rfl rfl)
theorem dL_law_1247 : decode cL_law 1247 = .ok (.iadd, 1) := dk_96 (dk_at dksL_law_45 21 rfl rfl)
theorem dL_law_1248 : decode cL_law 1248 = .ok (.iaload, 1) := dk_46 (dk_at dksL_law_45 22 rfl rfl)
theorem dL_law_1249 : decode cL_law 1249 = .ok (.aload_n 0, 1) := dk_42 (dk_at dksL_law_45 23 rfl rfl)
theorem dL_law_1250 : decode cL_law 1250 = .ok (.iload_n 3, 1) := dk_29 (dk_at dksL_law_46 0 rfl rfl)
theorem dL_law_1251 : decode cL_law 1251 = .ok (.iconst 2, 1) := dk_5 (dk_at dksL_law_46 1 rfl rfl)
theorem dL_law_1252 : decode cL_law 1252 = .ok (.iadd, 1) := dk_96 (dk_at dksL_law_46 2 rfl rfl)
theorem dL_law_1253 : decode cL_law 1253 = .ok (.iaload, 1) := dk_46 (dk_at dksL_law_46 3 rfl rfl)
theorem dL_law_1254 : decode cL_law 1254 = .ok (.invokevirtual 164, 3) := dk_182 0 164 (dk_at dksL_law_46 4 rfl rfl)
theorem dL_law_1257 : decode cL_law 1257 = .ok (.aload_n 2, 1) := dk_44 (dk_at dksL_law_46 7 rfl rfl)
theorem dL_law_1258 : decode cL_law 1258 = .ok (.aload_n 0, 1) := dk_42 (dk_at dksL_law_46 8 rfl rfl)
theorem dL_law_1259 : decode cL_law 1259 = .ok (.iload_n 3, 1) := dk_29 (dk_at dksL_law_46 9 rfl rfl)
theorem dL_law_1260 : decode cL_law 1260 = .ok (.iconst 1, 1) := dk_4 (dk_at dksL_law_46 10 rfl rfl)
theorem dL_law_1261 : decode cL_law 1261 = .ok (.iadd, 1) := dk_96 (dk_at dksL_law_46 11 rfl rfl)
theorem dL_law_1262 : decode cL_law 1262 = .ok (.iaload, 1) := dk_46 (dk_at dksL_law_46 12 rfl rfl)
theorem dL_law_1263 : decode cL_law 1263 = .ok (.aload_n 0, 1) := dk_42 (dk_at dksL_law_46 13 rfl rfl)
theorem dL_law_1264 : decode cL_law 1264 = .ok (.iload_n 3, 1) := dk_29 (dk_at dksL_law_46 14 rfl rfl)
theorem dL_law_1265 : decode cL_law 1265 = .ok (.iconst 2, 1) := dk_5 (dk_at dksL_law_46 15 rfl rfl)
theorem dL_law_1266 : decode cL_law 1266 = .ok (.iadd, 1) := dk_96 (dk_at dksL_law_46 16 rfl rfl)
theorem dL_law_1267 : decode cL_law 1267 = .ok (.iaload, 1) := dk_46 (dk_at dksL_law_46 17 rfl rfl)
theorem dL_law_1268 : decode cL_law 1268 = .ok (.invokevirtual 167, 3) := dk_182 0 167 (dk_at dksL_law_46 18 rfl rfl)
theorem dL_law_1271 : decode cL_law 1271 = .ok (.if_icmp .eq 195, 3) := dk_159 0 195 (dk_at dksL_law_46 21 rfl rfl)
theorem dL_law_1274 : decode cL_law 1274 = .ok (.iconst 0, 1) := dk_3 (dk_at dksL_law_47 0 rfl rfl)
theorem dL_law_1275 : decode cL_law 1275 = .ok (.ireturn, 1) := dk_172 (dk_at dksL_law_47 1 rfl rfl)
theorem dL_law_1276 : decode cL_law 1276 = .ok (.aload_n 1, 1) := dk_43 (dk_at dksL_law_47 2 rfl rfl)
theorem dL_law_1277 : decode cL_law 1277 = .ok (.aload_n 0, 1) := dk_42 (dk_at dksL_law_47 3 rfl rfl)
theorem dL_law_1278 : decode cL_law 1278 = .ok (.iload_n 3, 1) := dk_29 (dk_at dksL_law_47 4 rfl rfl)
theorem dL_law_1279 : decode cL_law 1279 = .ok (.iconst 1, 1) := dk_4 (dk_at dksL_law_47 5 rfl rfl)
theorem dL_law_1280 : decode cL_law 1280 = .ok (.iadd, 1) := dk_96 (dk_at dksL_law_47 6 rfl rfl)
theorem dL_law_1281 : decode cL_law 1281 = .ok (.iaload, 1) := dk_46 (dk_at dksL_law_47 7 rfl rfl)
theorem dL_law_1282 : decode cL_law 1282 = .ok (.invokevirtual 168, 3) := dk_182 0 168 (dk_at dksL_law_47 8 rfl rfl)
theorem dL_law_1285 : decode cL_law 1285 = .ok (.aload_n 2, 1) := dk_44 (dk_at dksL_law_47 11 rfl rfl)
theorem dL_law_1286 : decode cL_law 1286 = .ok (.aload_n 0, 1) := dk_42 (dk_at dksL_law_47 12 rfl rfl)
theorem dL_law_1287 : decode cL_law 1287 = .ok (.iload_n 3, 1) := dk_29 (dk_at dksL_law_47 13 rfl rfl)
theorem dL_law_1288 : decode cL_law 1288 = .ok (.iconst 1, 1) := dk_4 (dk_at dksL_law_47 14 rfl rfl)
theorem dL_law_1289 : decode cL_law 1289 = .ok (.iadd, 1) := dk_96 (dk_at dksL_law_47 15 rfl rfl)
theorem dL_law_1290 : decode cL_law 1290 = .ok (.iaload, 1) := dk_46 (dk_at dksL_law_47 16 rfl rfl)
theorem dL_law_1291 : decode cL_law 1291 = .ok (.invokevirtual 171, 3) := dk_182 0 171 (dk_at dksL_law_47 17 rfl rfl)
theorem dL_law_1294 : decode cL_law 1294 = .ok (.if_icmp .eq 172, 3) := dk_159 0 172 (dk_at dksL_law_47 20 rfl rfl)
theorem dL_law_1297 : decode cL_law 1297 = .ok (.iconst 0, 1) := dk_3 (dk_at dksL_law_47 23 rfl rfl)
theorem dL_law_1298 : decode cL_law 1298 = .ok (.ireturn, 1) := dk_172 (dk_at dksL_law_48 0 rfl rfl)
theorem dL_law_1299 : decode cL_law 1299 = .ok (.aload_n 1, 1) := dk_43 (dk_at dksL_law_48 1 rfl rfl)
theorem dL_law_1300 : decode cL_law 1300 = .ok (.invokevirtual 172, 3) := dk_182 0 172 (dk_at dksL_law_48 2 rfl rfl)
theorem dL_law_1303 : decode cL_law 1303 = .ok (.aload_n 2, 1) := dk_44 (dk_at dksL_law_48 5 rfl rfl)
theorem dL_law_1304 : decode cL_law 1304 = .ok (.invokevirtual 175, 3) := dk_182 0 175 (dk_at dksL_law_48 6 rfl rfl)
theorem dL_law_1307 : decode cL_law 1307 = .ok (.if_icmp .eq 159, 3) := dk_159 0 159 (dk_at dksL_law_48 9 rfl rfl)
theorem dL_law_1310 : decode cL_law 1310 = .ok (.iconst 0, 1) := dk_3 (dk_at dksL_law_48 12 rfl rfl)
theorem dL_law_1311 : decode cL_law 1311 = .ok (.ireturn, 1) := dk_172 (dk_at dksL_law_48 13 rfl rfl)
theorem dL_law_1312 : decode cL_law 1312 = .ok (.aload_n 1, 1) := dk_43 (dk_at dksL_law_48 14 rfl rfl)
theorem dL_law_1313 : decode cL_law 1313 = .ok (.invokevirtual 176, 3) := dk_182 0 176 (dk_at dksL_law_48 15 rfl rfl)
theorem dL_law_1316 : decode cL_law 1316 = .ok (.aload_n 2, 1) := dk_44 (dk_at dksL_law_48 18 rfl rfl)
theorem dL_law_1317 : decode cL_law 1317 = .ok (.invokevirtual 179, 3) := dk_182 0 179 (dk_at dksL_law_48 19 rfl rfl)
theorem dL_law_1320 : decode cL_law 1320 = .ok (.if_icmp .eq 146, 3) := dk_159 0 146 (dk_at dksL_law_49 0 rfl rfl)
theorem dL_law_1323 : decode cL_law 1323 = .ok (.iconst 0, 1) := dk_3 (dk_at dksL_law_49 3 rfl rfl)
theorem dL_law_1324 : decode cL_law 1324 = .ok (.ireturn, 1) := dk_172 (dk_at dksL_law_49 4 rfl rfl)
theorem dL_law_1325 : decode cL_law 1325 = .ok (.aload_n 1, 1) := dk_43 (dk_at dksL_law_49 5 rfl rfl)
theorem dL_law_1326 : decode cL_law 1326 = .ok (.invokevirtual 180, 3) := dk_182 0 180 (dk_at dksL_law_49 6 rfl rfl)
theorem dL_law_1329 : decode cL_law 1329 = .ok (.aload_n 2, 1) := dk_44 (dk_at dksL_law_49 9 rfl rfl)
theorem dL_law_1330 : decode cL_law 1330 = .ok (.invokevirtual 183, 3) := dk_182 0 183 (dk_at dksL_law_49 10 rfl rfl)
theorem dL_law_1333 : decode cL_law 1333 = .ok (.if_icmp .eq 133, 3) := dk_159 0 133 (dk_at dksL_law_49 13 rfl rfl)
theorem dL_law_1336 : decode cL_law 1336 = .ok (.iconst 0, 1) := dk_3 (dk_at dksL_law_49 16 rfl rfl)
theorem dL_law_1337 : decode cL_law 1337 = .ok (.ireturn, 1) := dk_172 (dk_at dksL_law_49 17 rfl rfl)
theorem dL_law_1338 : decode cL_law 1338 = .ok (.aload_n 1, 1) := dk_43 (dk_at dksL_law_49 18 rfl rfl)
theorem dL_law_1339 : decode cL_law 1339 = .ok (.invokevirtual 184, 3) := dk_182 0 184 (dk_at dksL_law_49 19 rfl rfl)
theorem dL_law_1342 : decode cL_law 1342 = .ok (.aload_n 2, 1) := dk_44 (dk_at dksL_law_49 22 rfl rfl)
theorem dL_law_1343 : decode cL_law 1343 = .ok (.invokevirtual 187, 3) := dk_182 0 187 (dk_at dksL_law_50 0 rfl rfl)
theorem dL_law_1346 : decode cL_law 1346 = .ok (.if_icmp .eq 120, 3) := dk_159 0 120 (dk_at dksL_law_50 3 rfl rfl)
theorem dL_law_1349 : decode cL_law 1349 = .ok (.iconst 0, 1) := dk_3 (dk_at dksL_law_50 6 rfl rfl)
theorem dL_law_1350 : decode cL_law 1350 = .ok (.ireturn, 1) := dk_172 (dk_at dksL_law_50 7 rfl rfl)
theorem dL_law_1351 : decode cL_law 1351 = .ok (.aload_n 1, 1) := dk_43 (dk_at dksL_law_50 8 rfl rfl)
theorem dL_law_1352 : decode cL_law 1352 = .ok (.aload_n 0, 1) := dk_42 (dk_at dksL_law_50 9 rfl rfl)
theorem dL_law_1353 : decode cL_law 1353 = .ok (.iload_n 3, 1) := dk_29 (dk_at dksL_law_50 10 rfl rfl)
theorem dL_law_1354 : decode cL_law 1354 = .ok (.iconst 1, 1) := dk_4 (dk_at dksL_law_50 11 rfl rfl)
theorem dL_law_1355 : decode cL_law 1355 = .ok (.iadd, 1) := dk_96 (dk_at dksL_law_50 12 rfl rfl)
theorem dL_law_1356 : decode cL_law 1356 = .ok (.iaload, 1) := dk_46 (dk_at dksL_law_50 13 rfl rfl)
theorem dL_law_1357 : decode cL_law 1357 = .ok (.invokevirtual 188, 3) := dk_182 0 188 (dk_at dksL_law_50 14 rfl rfl)
theorem dL_law_1360 : decode cL_law 1360 = .ok (.aload_n 2, 1) := dk_44 (dk_at dksL_law_50 17 rfl rfl)
theorem dL_law_1361 : decode cL_law 1361 = .ok (.aload_n 0, 1) := dk_42 (dk_at dksL_law_50 18 rfl rfl)
theorem dL_law_1362 : decode cL_law 1362 = .ok (.iload_n 3, 1) := dk_29 (dk_at dksL_law_50 19 rfl rfl)
theorem dL_law_1363 : decode cL_law 1363 = .ok (.iconst 1, 1) := dk_4 (dk_at dksL_law_50 20 rfl rfl)
theorem dL_law_1364 : decode cL_law 1364 = .ok (.iadd, 1) := dk_96 (dk_at dksL_law_50 21 rfl rfl)
theorem dL_law_1365 : decode cL_law 1365 = .ok (.iaload, 1) := dk_46 (dk_at dksL_law_50 22 rfl rfl)
theorem dL_law_1366 : decode cL_law 1366 = .ok (.invokevirtual 191, 3) := dk_182 0 191 (dk_at dksL_law_51 0 rfl rfl)
theorem dL_law_1369 : decode cL_law 1369 = .ok (.if_icmp .eq 97, 3) := dk_159 0 97 (dk_at dksL_law_51 3 rfl rfl)
theorem dL_law_1372 : decode cL_law 1372 = .ok (.iconst 0, 1) := dk_3 (dk_at dksL_law_51 6 rfl rfl)
theorem dL_law_1373 : decode cL_law 1373 = .ok (.ireturn, 1) := dk_172 (dk_at dksL_law_51 7 rfl rfl)
theorem dL_law_1374 : decode cL_law 1374 = .ok (.aload_n 1, 1) := dk_43 (dk_at dksL_law_51 8 rfl rfl)
theorem dL_law_1375 : decode cL_law 1375 = .ok (.aload_n 0, 1) := dk_42 (dk_at dksL_law_51 9 rfl rfl)
theorem dL_law_1376 : decode cL_law 1376 = .ok (.iload_n 3, 1) := dk_29 (dk_at dksL_law_51 10 rfl rfl)
theorem dL_law_1377 : decode cL_law 1377 = .ok (.iconst 1, 1) := dk_4 (dk_at dksL_law_51 11 rfl rfl)
theorem dL_law_1378 : decode cL_law 1378 = .ok (.iadd, 1) := dk_96 (dk_at dksL_law_51 12 rfl rfl)
theorem dL_law_1379 : decode cL_law 1379 = .ok (.iaload, 1) := dk_46 (dk_at dksL_law_51 13 rfl rfl)
theorem dL_law_1380 : decode cL_law 1380 = .ok (.invokevirtual 192, 3) := dk_182 0 192 (dk_at dksL_law_51 14 rfl rfl)
theorem dL_law_1383 : decode cL_law 1383 = .ok (.aload_n 2, 1) := dk_44 (dk_at dksL_law_51 17 rfl rfl)
theorem dL_law_1384 : decode cL_law 1384 = .ok (.aload_n 0, 1) := dk_42 (dk_at dksL_law_51 18 rfl rfl)
theorem dL_law_1385 : decode cL_law 1385 = .ok (.iload_n 3, 1) := dk_29 (dk_at dksL_law_51 19 rfl rfl)
theorem dL_law_1386 : decode cL_law 1386 = .ok (.iconst 1, 1) := dk_4 (dk_at dksL_law_51 20 rfl rfl)
theorem dL_law_1387 : decode cL_law 1387 = .ok (.iadd, 1) := dk_96 (dk_at dksL_law_51 21 rfl rfl)
theorem dL_law_1388 : decode cL_law 1388 = .ok (.iaload, 1) := dk_46 (dk_at dksL_law_51 22 rfl rfl)
theorem dL_law_1389 : decode cL_law 1389 = .ok (.invokevirtual 195, 3) := dk_182 0 195 (dk_at dksL_law_52 0 rfl rfl)
theorem dL_law_1392 : decode cL_law 1392 = .ok (.if_icmp .eq 74, 3) := dk_159 0 74 (dk_at dksL_law_52 3 rfl rfl)
theorem dL_law_1395 : decode cL_law 1395 = .ok (.iconst 0, 1) := dk_3 (dk_at dksL_law_52 6 rfl rfl)
theorem dL_law_1396 : decode cL_law 1396 = .ok (.ireturn, 1) := dk_172 (dk_at dksL_law_52 7 rfl rfl)
theorem dL_law_1397 : decode cL_law 1397 = .ok (.aload_n 1, 1) := dk_43 (dk_at dksL_law_52 8 rfl rfl)
theorem dL_law_1398 : decode cL_law 1398 = .ok (.aload_n 0, 1) := dk_42 (dk_at dksL_law_52 9 rfl rfl)
theorem dL_law_1399 : decode cL_law 1399 = .ok (.iload_n 3, 1) := dk_29 (dk_at dksL_law_52 10 rfl rfl)
theorem dL_law_1400 : decode cL_law 1400 = .ok (.iconst 1, 1) := dk_4 (dk_at dksL_law_52 11 rfl rfl)
theorem dL_law_1401 : decode cL_law 1401 = .ok (.iadd, 1) := dk_96 (dk_at dksL_law_52 12 rfl rfl)
theorem dL_law_1402 : decode cL_law 1402 = .ok (.iaload, 1) := dk_46 (dk_at dksL_law_52 13 rfl rfl)
theorem dL_law_1403 : decode cL_law 1403 = .ok (.aload_n 0, 1) := dk_42 (dk_at dksL_law_52 14 rfl rfl)
theorem dL_law_1404 : decode cL_law 1404 = .ok (.iload_n 3, 1) := dk_29 (dk_at dksL_law_52 15 rfl rfl)
theorem dL_law_1405 : decode cL_law 1405 = .ok (.iconst 2, 1) := dk_5 (dk_at dksL_law_52 16 rfl rfl)
theorem dL_law_1406 : decode cL_law 1406 = .ok (.iadd, 1) := dk_96 (dk_at dksL_law_52 17 rfl rfl)
theorem dL_law_1407 : decode cL_law 1407 = .ok (.iaload, 1) := dk_46 (dk_at dksL_law_52 18 rfl rfl)
theorem dL_law_1408 : decode cL_law 1408 = .ok (.aload_n 0, 1) := dk_42 (dk_at dksL_law_52 19 rfl rfl)
theorem dL_law_1409 : decode cL_law 1409 = .ok (.iload_n 3, 1) := dk_29 (dk_at dksL_law_52 20 rfl rfl)
theorem dL_law_1410 : decode cL_law 1410 = .ok (.iconst 3, 1) := dk_6 (dk_at dksL_law_52 21 rfl rfl)
theorem dL_law_1411 : decode cL_law 1411 = .ok (.iadd, 1) := dk_96 (dk_at dksL_law_52 22 rfl rfl)
theorem dL_law_1412 : decode cL_law 1412 = .ok (.iaload, 1) := dk_46 (dk_at dksL_law_52 23 rfl rfl)
theorem dL_law_1413 : decode cL_law 1413 = .ok (.invokevirtual 196, 3) := dk_182 0 196 (dk_at dksL_law_53 0 rfl rfl)
theorem dL_law_1416 : decode cL_law 1416 = .ok (.aload_n 2, 1) := dk_44 (dk_at dksL_law_53 3 rfl rfl)
theorem dL_law_1417 : decode cL_law 1417 = .ok (.aload_n 0, 1) := dk_42 (dk_at dksL_law_53 4 rfl rfl)
theorem dL_law_1418 : decode cL_law 1418 = .ok (.iload_n 3, 1) := dk_29 (dk_at dksL_law_53 5 rfl rfl)
theorem dL_law_1419 : decode cL_law 1419 = .ok (.iconst 1, 1) := dk_4 (dk_at dksL_law_53 6 rfl rfl)
theorem dL_law_1420 : decode cL_law 1420 = .ok (.iadd, 1) := dk_96 (dk_at dksL_law_53 7 rfl rfl)
theorem dL_law_1421 : decode cL_law 1421 = .ok (.iaload, 1) := dk_46 (dk_at dksL_law_53 8 rfl rfl)
theorem dL_law_1422 : decode cL_law 1422 = .ok (.aload_n 0, 1) := dk_42 (dk_at dksL_law_53 9 rfl rfl)
theorem dL_law_1423 : decode cL_law 1423 = .ok (.iload_n 3, 1) := dk_29 (dk_at dksL_law_53 10 rfl rfl)
theorem dL_law_1424 : decode cL_law 1424 = .ok (.iconst 2, 1) := dk_5 (dk_at dksL_law_53 11 rfl rfl)
theorem dL_law_1425 : decode cL_law 1425 = .ok (.iadd, 1) := dk_96 (dk_at dksL_law_53 12 rfl rfl)
theorem dL_law_1426 : decode cL_law 1426 = .ok (.iaload, 1) := dk_46 (dk_at dksL_law_53 13 rfl rfl)
theorem dL_law_1427 : decode cL_law 1427 = .ok (.aload_n 0, 1) := dk_42 (dk_at dksL_law_53 14 rfl rfl)
theorem dL_law_1428 : decode cL_law 1428 = .ok (.iload_n 3, 1) := dk_29 (dk_at dksL_law_53 15 rfl rfl)
theorem dL_law_1429 : decode cL_law 1429 = .ok (.iconst 3, 1) := dk_6 (dk_at dksL_law_53 16 rfl rfl)
theorem dL_law_1430 : decode cL_law 1430 = .ok (.iadd, 1) := dk_96 (dk_at dksL_law_53 17 rfl rfl)
theorem dL_law_1431 : decode cL_law 1431 = .ok (.iaload, 1) := dk_46 (dk_at dksL_law_53 18 rfl rfl)
theorem dL_law_1432 : decode cL_law 1432 = .ok (.invokevirtual 199, 3) := dk_182 0 199 (dk_at dksL_law_53 19 rfl rfl)
theorem dL_law_1435 : decode cL_law 1435 = .ok (.if_icmp .eq 31, 3) := dk_159 0 31 (dk_at dksL_law_54 0 rfl rfl)
theorem dL_law_1438 : decode cL_law 1438 = .ok (.iconst 0, 1) := dk_3 (dk_at dksL_law_54 3 rfl rfl)
theorem dL_law_1439 : decode cL_law 1439 = .ok (.ireturn, 1) := dk_172 (dk_at dksL_law_54 4 rfl rfl)
theorem dL_law_1440 : decode cL_law 1440 = .ok (.aload_n 1, 1) := dk_43 (dk_at dksL_law_54 5 rfl rfl)
theorem dL_law_1441 : decode cL_law 1441 = .ok (.invokevirtual 200, 3) := dk_182 0 200 (dk_at dksL_law_54 6 rfl rfl)
theorem dL_law_1444 : decode cL_law 1444 = .ok (.aload_n 2, 1) := dk_44 (dk_at dksL_law_54 9 rfl rfl)
theorem dL_law_1445 : decode cL_law 1445 = .ok (.invokevirtual 203, 3) := dk_182 0 203 (dk_at dksL_law_54 10 rfl rfl)
theorem dL_law_1448 : decode cL_law 1448 = .ok (.if_icmp .eq 18, 3) := dk_159 0 18 (dk_at dksL_law_54 13 rfl rfl)
theorem dL_law_1451 : decode cL_law 1451 = .ok (.iconst 0, 1) := dk_3 (dk_at dksL_law_54 16 rfl rfl)
theorem dL_law_1452 : decode cL_law 1452 = .ok (.ireturn, 1) := dk_172 (dk_at dksL_law_54 17 rfl rfl)
theorem dL_law_1453 : decode cL_law 1453 = .ok (.aload_n 1, 1) := dk_43 (dk_at dksL_law_54 18 rfl rfl)
theorem dL_law_1454 : decode cL_law 1454 = .ok (.invokevirtual 204, 3) := dk_182 0 204 (dk_at dksL_law_54 19 rfl rfl)
theorem dL_law_1457 : decode cL_law 1457 = .ok (.aload_n 2, 1) := dk_44 (dk_at dksL_law_54 22 rfl rfl)
theorem dL_law_1458 : decode cL_law 1458 = .ok (.invokevirtual 207, 3) := dk_182 0 207 (dk_at dksL_law_55 0 rfl rfl)
theorem dL_law_1461 : decode cL_law 1461 = .ok (.if_icmp .eq 5, 3) := dk_159 0 5 (dk_at dksL_law_55 3 rfl rfl)
theorem dL_law_1464 : decode cL_law 1464 = .ok (.iconst 0, 1) := dk_3 (dk_at dksL_law_55 6 rfl rfl)
theorem dL_law_1465 : decode cL_law 1465 = .ok (.ireturn, 1) := dk_172 (dk_at dksL_law_55 7 rfl rfl)
theorem dL_law_1466 : decode cL_law 1466 = .ok (.iinc 3 6, 3) := dk_132 3 6 (dk_at dksL_law_55 8 rfl rfl)
theorem dL_law_1469 : decode cL_law 1469 = .ok (.goto (-1451), 3) := dk_167 250 85 (dk_at dksL_law_55 11 rfl rfl)
theorem dL_law_1472 : decode cL_law 1472 = .ok (.iconst 1, 1) := dk_4 (dk_at dksL_law_55 14 rfl rfl)
theorem dL_law_1473 : decode cL_law 1473 = .ok (.ireturn, 1) := dk_172 (dk_at dksL_law_55 15 rfl rfl)
