/-! AskingCourt -/
set_option maxRecDepth 100000
def RX0 : String := "AskingCourt"
def TX0 : u_T := fun k => match k with
  | 0 => ("AskingCourt", "trays", "[LAskingCourt$Tray;", true)
  | 1 => ("AskingCourt", "tape", "[B", true)
  | 2 => ("AskingCourt", "taped", "I", false)
  | 3 => ("AskingCourt", "faultKind", "I", false)
  | 4 => ("AskingCourt", "faultAt", "I", false)
  | 5 => ("AskingCourt", "bad", "LAskingCourt$Bad;", true)
  | 6 => ("AskingCourt", "refused", "LAskingCourt$Refused;", true)
  | 7 => ("AskingCourt", "status", "I", false)
  | 8 => ("AskingCourt", "above", "J", false)
  | 9 => ("AskingCourt", "under", "J", false)
  | 10 => ("AskingCourt", "now", "LAskingCourt$House;", true)
  | 11 => ("AskingCourt", "marks", "[LAskingCourt$House;", true)
  | 12 => ("AskingCourt", "markMany", "I", false)
  | 13 => ("AskingCourt", "alone", "[B", true)
  | 14 => ("AskingCourt", "states", "[S", true)
  | 15 => ("AskingCourt", "firstPut", "[I", true)
  | 16 => ("AskingCourt", "putSet", "I", false)
  | 17 => ("AskingCourt", "goal", "I", false)
  | 18 => ("AskingCourt", "oneWitness", "I", false)
  | 19 => ("AskingCourt", "shortest", "I", false)
  | 20 => ("AskingCourt", "sitting", "LAskingCourt$Sitting;", true)
  | 21 => ("AskingCourt", "state", "I", false)
  | 22 => ("AskingCourt", "hasSat", "Z", false)
  | _ => ("AskingCourt", "last", "[I", true)
def tyX0 : Nat → FieldType := fun k => match k with
  | 0 => .array (.object "AskingCourt$Tray")
  | 1 => .array .byte
  | 2 => .int
  | 3 => .int
  | 4 => .int
  | 5 => .object "AskingCourt$Bad"
  | 6 => .object "AskingCourt$Refused"
  | 7 => .int
  | 8 => .long
  | 9 => .long
  | 10 => .object "AskingCourt$House"
  | 11 => .array (.object "AskingCourt$House")
  | 12 => .int
  | 13 => .array .byte
  | 14 => .array .short
  | 15 => .array .int
  | 16 => .int
  | 17 => .int
  | 18 => .int
  | 19 => .int
  | 20 => .object "AskingCourt$Sitting"
  | 21 => .int
  | 22 => .boolean
  | _ => .array .int
abbrev wsX00 : List Cond := u_ws RX0 TX0 24
set_option maxRecDepth 100000 in
theorem nmX0 : ∀ a, a < 24 → ∀ b, b < 24 → a ≠ b → (TX0 a).2.1 ≠ (TX0 b).2.1 := by decide +kernel
set_option maxRecDepth 100000 in
theorem tyX0_ok : ∀ k, k < 24 → parseFieldDescriptor (TX0 k).2.2.1 = some (tyX0 k) := by decide +kernel
abbrev cX0_init : ByteArray := prog_1_method_6_code
def yX0_init : MethodName := ⟨RX0, "<init>", "()V"⟩
def dkwX0_init_7 : List UInt8 := [181, 0, 84, 177]
abbrev dktX0_init_7 : List UInt8 := dkwX0_init_7 ++ []
def dkwX0_init_6 : List UInt8 := [42, 2, 181, 0, 72, 42, 187, 0, 75, 89, 42, 183, 0, 77, 181, 0, 80, 42, 16, 6, 188, 10]
abbrev dktX0_init_6 : List UInt8 := dkwX0_init_6 ++ dktX0_init_7
def dkwX0_init_5 : List UInt8 := [17, 12, 0, 188, 8, 181, 0, 63, 42, 17, 4, 0, 188, 9, 181, 0, 66, 42, 5, 188, 10, 181, 0, 69]
abbrev dktX0_init_5 : List UInt8 := dkwX0_init_5 ++ dktX0_init_6
def dkwX0_init_4 : List UInt8 := [181, 0, 48, 42, 187, 0, 52, 89, 183, 0, 54, 181, 0, 55, 42, 6, 189, 0, 52, 181, 0, 59, 42]
abbrev dktX0_init_4 : List UInt8 := dkwX0_init_4 ++ dktX0_init_5
def dkwX0_init_3 : List UInt8 := [187, 0, 34, 89, 183, 0, 36, 181, 0, 37, 42, 187, 0, 41, 89, 183, 0, 43, 181, 0, 44, 42, 10]
abbrev dktX0_init_3 : List UInt8 := dkwX0_init_3 ++ dktX0_init_4
def dkwX0_init_2 : List UInt8 := [83, 181, 0, 18, 42, 17, 3, 132, 188, 8, 181, 0, 24, 42, 2, 181, 0, 27, 42, 2, 181, 0, 31, 42]
abbrev dktX0_init_2 : List UInt8 := dkwX0_init_2 ++ dktX0_init_3
def dkwX0_init_1 : List UInt8 := [89, 183, 0, 17, 83, 89, 5, 187, 0, 15, 89, 183, 0, 17, 83, 89, 6, 187, 0, 15, 89, 183, 0, 17]
abbrev dktX0_init_1 : List UInt8 := dkwX0_init_1 ++ dktX0_init_2
def dkwX0_init_0 : List UInt8 := [42, 183, 0, 9, 42, 7, 189, 0, 15, 89, 3, 187, 0, 15, 89, 183, 0, 17, 83, 89, 4, 187, 0, 15]
abbrev dktX0_init_0 : List UInt8 := dkwX0_init_0 ++ dktX0_init_1
theorem dksX0_init_0 : cX0_init.data.toList.drop 0 = dktX0_init_0 := by decide +kernel
theorem dksX0_init_1 : cX0_init.data.toList.drop 24 = dktX0_init_1 := dk_seg dksX0_init_0 24 rfl rfl
theorem dksX0_init_2 : cX0_init.data.toList.drop 48 = dktX0_init_2 := dk_seg dksX0_init_1 24 rfl rfl
theorem dksX0_init_3 : cX0_init.data.toList.drop 72 = dktX0_init_3 := dk_seg dksX0_init_2 24 rfl rfl
theorem dksX0_init_4 : cX0_init.data.toList.drop 95 = dktX0_init_4 := dk_seg dksX0_init_3 23 rfl rfl
theorem dksX0_init_5 : cX0_init.data.toList.drop 118 = dktX0_init_5 := dk_seg dksX0_init_4 23 rfl rfl
theorem dksX0_init_6 : cX0_init.data.toList.drop 142 = dktX0_init_6 := dk_seg dksX0_init_5 24 rfl rfl
theorem dksX0_init_7 : cX0_init.data.toList.drop 164 = dktX0_init_7 := dk_seg dksX0_init_6 22 rfl rfl
theorem dX0_init_0 : decode cX0_init 0 = .ok (.aload_n 0, 1) := dk_42 (dk_at dksX0_init_0 0 rfl rfl)
theorem dX0_init_1 : decode cX0_init 1 = .ok (.invokespecial 9, 3) := dk_183 0 9 (dk_at dksX0_init_0 1 rfl rfl)
theorem dX0_init_4 : decode cX0_init 4 = .ok (.aload_n 0, 1) := dk_42 (dk_at dksX0_init_0 4 rfl rfl)
theorem dX0_init_5 : decode cX0_init 5 = .ok (.iconst 4, 1) := dk_7 (dk_at dksX0_init_0 5 rfl rfl)
theorem dX0_init_6 : decode cX0_init 6 = .ok (.anewarray 15, 3) := dk_189 0 15 (dk_at dksX0_init_0 6 rfl rfl)
theorem dX0_init_9 : decode cX0_init 9 = .ok (.dup, 1) := dk_89 (dk_at dksX0_init_0 9 rfl rfl)
theorem dX0_init_10 : decode cX0_init 10 = .ok (.iconst 0, 1) := dk_3 (dk_at dksX0_init_0 10 rfl rfl)
theorem dX0_init_11 : decode cX0_init 11 = .ok (.new 15, 3) := dk_187 0 15 (dk_at dksX0_init_0 11 rfl rfl)
theorem dX0_init_14 : decode cX0_init 14 = .ok (.dup, 1) := dk_89 (dk_at dksX0_init_0 14 rfl rfl)
theorem dX0_init_15 : decode cX0_init 15 = .ok (.invokespecial 17, 3) := dk_183 0 17 (dk_at dksX0_init_0 15 rfl rfl)
theorem dX0_init_18 : decode cX0_init 18 = .ok (.aastore, 1) := dk_83 (dk_at dksX0_init_0 18 rfl rfl)
theorem dX0_init_19 : decode cX0_init 19 = .ok (.dup, 1) := dk_89 (dk_at dksX0_init_0 19 rfl rfl)
theorem dX0_init_20 : decode cX0_init 20 = .ok (.iconst 1, 1) := dk_4 (dk_at dksX0_init_0 20 rfl rfl)
theorem dX0_init_21 : decode cX0_init 21 = .ok (.new 15, 3) := dk_187 0 15 (dk_at dksX0_init_0 21 rfl rfl)
theorem dX0_init_24 : decode cX0_init 24 = .ok (.dup, 1) := dk_89 (dk_at dksX0_init_1 0 rfl rfl)
theorem dX0_init_25 : decode cX0_init 25 = .ok (.invokespecial 17, 3) := dk_183 0 17 (dk_at dksX0_init_1 1 rfl rfl)
theorem dX0_init_28 : decode cX0_init 28 = .ok (.aastore, 1) := dk_83 (dk_at dksX0_init_1 4 rfl rfl)
theorem dX0_init_29 : decode cX0_init 29 = .ok (.dup, 1) := dk_89 (dk_at dksX0_init_1 5 rfl rfl)
theorem dX0_init_30 : decode cX0_init 30 = .ok (.iconst 2, 1) := dk_5 (dk_at dksX0_init_1 6 rfl rfl)
theorem dX0_init_31 : decode cX0_init 31 = .ok (.new 15, 3) := dk_187 0 15 (dk_at dksX0_init_1 7 rfl rfl)
theorem dX0_init_34 : decode cX0_init 34 = .ok (.dup, 1) := dk_89 (dk_at dksX0_init_1 10 rfl rfl)
theorem dX0_init_35 : decode cX0_init 35 = .ok (.invokespecial 17, 3) := dk_183 0 17 (dk_at dksX0_init_1 11 rfl rfl)
theorem dX0_init_38 : decode cX0_init 38 = .ok (.aastore, 1) := dk_83 (dk_at dksX0_init_1 14 rfl rfl)
theorem dX0_init_39 : decode cX0_init 39 = .ok (.dup, 1) := dk_89 (dk_at dksX0_init_1 15 rfl rfl)
theorem dX0_init_40 : decode cX0_init 40 = .ok (.iconst 3, 1) := dk_6 (dk_at dksX0_init_1 16 rfl rfl)
theorem dX0_init_41 : decode cX0_init 41 = .ok (.new 15, 3) := dk_187 0 15 (dk_at dksX0_init_1 17 rfl rfl)
theorem dX0_init_44 : decode cX0_init 44 = .ok (.dup, 1) := dk_89 (dk_at dksX0_init_1 20 rfl rfl)
theorem dX0_init_45 : decode cX0_init 45 = .ok (.invokespecial 17, 3) := dk_183 0 17 (dk_at dksX0_init_1 21 rfl rfl)
theorem dX0_init_48 : decode cX0_init 48 = .ok (.aastore, 1) := dk_83 (dk_at dksX0_init_2 0 rfl rfl)
theorem dX0_init_49 : decode cX0_init 49 = .ok (.putfield 18, 3) := dk_181 0 18 (dk_at dksX0_init_2 1 rfl rfl)
theorem dX0_init_52 : decode cX0_init 52 = .ok (.aload_n 0, 1) := dk_42 (dk_at dksX0_init_2 4 rfl rfl)
theorem dX0_init_53 : decode cX0_init 53 = .ok (.sipush 900, 3) := dk_17 3 132 (dk_at dksX0_init_2 5 rfl rfl)
theorem dX0_init_56 : decode cX0_init 56 = .ok (.newarray .byte, 2) := dk_188_8 (dk_at dksX0_init_2 8 rfl rfl)
theorem dX0_init_58 : decode cX0_init 58 = .ok (.putfield 24, 3) := dk_181 0 24 (dk_at dksX0_init_2 10 rfl rfl)
theorem dX0_init_61 : decode cX0_init 61 = .ok (.aload_n 0, 1) := dk_42 (dk_at dksX0_init_2 13 rfl rfl)
theorem dX0_init_62 : decode cX0_init 62 = .ok (.iconst (-1), 1) := dk_2 (dk_at dksX0_init_2 14 rfl rfl)
theorem dX0_init_63 : decode cX0_init 63 = .ok (.putfield 27, 3) := dk_181 0 27 (dk_at dksX0_init_2 15 rfl rfl)
theorem dX0_init_66 : decode cX0_init 66 = .ok (.aload_n 0, 1) := dk_42 (dk_at dksX0_init_2 18 rfl rfl)
theorem dX0_init_67 : decode cX0_init 67 = .ok (.iconst (-1), 1) := dk_2 (dk_at dksX0_init_2 19 rfl rfl)
theorem dX0_init_68 : decode cX0_init 68 = .ok (.putfield 31, 3) := dk_181 0 31 (dk_at dksX0_init_2 20 rfl rfl)
theorem dX0_init_71 : decode cX0_init 71 = .ok (.aload_n 0, 1) := dk_42 (dk_at dksX0_init_2 23 rfl rfl)
theorem dX0_init_72 : decode cX0_init 72 = .ok (.new 34, 3) := dk_187 0 34 (dk_at dksX0_init_3 0 rfl rfl)
theorem dX0_init_75 : decode cX0_init 75 = .ok (.dup, 1) := dk_89 (dk_at dksX0_init_3 3 rfl rfl)
theorem dX0_init_76 : decode cX0_init 76 = .ok (.invokespecial 36, 3) := dk_183 0 36 (dk_at dksX0_init_3 4 rfl rfl)
theorem dX0_init_79 : decode cX0_init 79 = .ok (.putfield 37, 3) := dk_181 0 37 (dk_at dksX0_init_3 7 rfl rfl)
theorem dX0_init_82 : decode cX0_init 82 = .ok (.aload_n 0, 1) := dk_42 (dk_at dksX0_init_3 10 rfl rfl)
theorem dX0_init_83 : decode cX0_init 83 = .ok (.new 41, 3) := dk_187 0 41 (dk_at dksX0_init_3 11 rfl rfl)
theorem dX0_init_86 : decode cX0_init 86 = .ok (.dup, 1) := dk_89 (dk_at dksX0_init_3 14 rfl rfl)
theorem dX0_init_87 : decode cX0_init 87 = .ok (.invokespecial 43, 3) := dk_183 0 43 (dk_at dksX0_init_3 15 rfl rfl)
theorem dX0_init_90 : decode cX0_init 90 = .ok (.putfield 44, 3) := dk_181 0 44 (dk_at dksX0_init_3 18 rfl rfl)
theorem dX0_init_93 : decode cX0_init 93 = .ok (.aload_n 0, 1) := dk_42 (dk_at dksX0_init_3 21 rfl rfl)
theorem dX0_init_94 : decode cX0_init 94 = .ok (.lconst 1, 1) := dk_10 (dk_at dksX0_init_3 22 rfl rfl)
theorem dX0_init_95 : decode cX0_init 95 = .ok (.putfield 48, 3) := dk_181 0 48 (dk_at dksX0_init_4 0 rfl rfl)
theorem dX0_init_98 : decode cX0_init 98 = .ok (.aload_n 0, 1) := dk_42 (dk_at dksX0_init_4 3 rfl rfl)
theorem dX0_init_99 : decode cX0_init 99 = .ok (.new 52, 3) := dk_187 0 52 (dk_at dksX0_init_4 4 rfl rfl)
theorem dX0_init_102 : decode cX0_init 102 = .ok (.dup, 1) := dk_89 (dk_at dksX0_init_4 7 rfl rfl)
theorem dX0_init_103 : decode cX0_init 103 = .ok (.invokespecial 54, 3) := dk_183 0 54 (dk_at dksX0_init_4 8 rfl rfl)
theorem dX0_init_106 : decode cX0_init 106 = .ok (.putfield 55, 3) := dk_181 0 55 (dk_at dksX0_init_4 11 rfl rfl)
theorem dX0_init_109 : decode cX0_init 109 = .ok (.aload_n 0, 1) := dk_42 (dk_at dksX0_init_4 14 rfl rfl)
theorem dX0_init_110 : decode cX0_init 110 = .ok (.iconst 3, 1) := dk_6 (dk_at dksX0_init_4 15 rfl rfl)
theorem dX0_init_111 : decode cX0_init 111 = .ok (.anewarray 52, 3) := dk_189 0 52 (dk_at dksX0_init_4 16 rfl rfl)
theorem dX0_init_114 : decode cX0_init 114 = .ok (.putfield 59, 3) := dk_181 0 59 (dk_at dksX0_init_4 19 rfl rfl)
theorem dX0_init_117 : decode cX0_init 117 = .ok (.aload_n 0, 1) := dk_42 (dk_at dksX0_init_4 22 rfl rfl)
theorem dX0_init_118 : decode cX0_init 118 = .ok (.sipush 3072, 3) := dk_17 12 0 (dk_at dksX0_init_5 0 rfl rfl)
theorem dX0_init_121 : decode cX0_init 121 = .ok (.newarray .byte, 2) := dk_188_8 (dk_at dksX0_init_5 3 rfl rfl)
theorem dX0_init_123 : decode cX0_init 123 = .ok (.putfield 63, 3) := dk_181 0 63 (dk_at dksX0_init_5 5 rfl rfl)
theorem dX0_init_126 : decode cX0_init 126 = .ok (.aload_n 0, 1) := dk_42 (dk_at dksX0_init_5 8 rfl rfl)
theorem dX0_init_127 : decode cX0_init 127 = .ok (.sipush 1024, 3) := dk_17 4 0 (dk_at dksX0_init_5 9 rfl rfl)
theorem dX0_init_130 : decode cX0_init 130 = .ok (.newarray .short, 2) := dk_188_9 (dk_at dksX0_init_5 12 rfl rfl)
theorem dX0_init_132 : decode cX0_init 132 = .ok (.putfield 66, 3) := dk_181 0 66 (dk_at dksX0_init_5 14 rfl rfl)
theorem dX0_init_135 : decode cX0_init 135 = .ok (.aload_n 0, 1) := dk_42 (dk_at dksX0_init_5 17 rfl rfl)
theorem dX0_init_136 : decode cX0_init 136 = .ok (.iconst 2, 1) := dk_5 (dk_at dksX0_init_5 18 rfl rfl)
theorem dX0_init_137 : decode cX0_init 137 = .ok (.newarray .int, 2) := dk_188_10 (dk_at dksX0_init_5 19 rfl rfl)
theorem dX0_init_139 : decode cX0_init 139 = .ok (.putfield 69, 3) := dk_181 0 69 (dk_at dksX0_init_5 21 rfl rfl)
theorem dX0_init_142 : decode cX0_init 142 = .ok (.aload_n 0, 1) := dk_42 (dk_at dksX0_init_6 0 rfl rfl)
theorem dX0_init_143 : decode cX0_init 143 = .ok (.iconst (-1), 1) := dk_2 (dk_at dksX0_init_6 1 rfl rfl)
theorem dX0_init_144 : decode cX0_init 144 = .ok (.putfield 72, 3) := dk_181 0 72 (dk_at dksX0_init_6 2 rfl rfl)
theorem dX0_init_147 : decode cX0_init 147 = .ok (.aload_n 0, 1) := dk_42 (dk_at dksX0_init_6 5 rfl rfl)
theorem dX0_init_148 : decode cX0_init 148 = .ok (.new 75, 3) := dk_187 0 75 (dk_at dksX0_init_6 6 rfl rfl)
theorem dX0_init_151 : decode cX0_init 151 = .ok (.dup, 1) := dk_89 (dk_at dksX0_init_6 9 rfl rfl)
theorem dX0_init_152 : decode cX0_init 152 = .ok (.aload_n 0, 1) := dk_42 (dk_at dksX0_init_6 10 rfl rfl)
theorem dX0_init_153 : decode cX0_init 153 = .ok (.invokespecial 77, 3) := dk_183 0 77 (dk_at dksX0_init_6 11 rfl rfl)
theorem dX0_init_156 : decode cX0_init 156 = .ok (.putfield 80, 3) := dk_181 0 80 (dk_at dksX0_init_6 14 rfl rfl)
theorem dX0_init_159 : decode cX0_init 159 = .ok (.aload_n 0, 1) := dk_42 (dk_at dksX0_init_6 17 rfl rfl)
theorem dX0_init_160 : decode cX0_init 160 = .ok (.bipush 6, 2) := dk_16 6 (dk_at dksX0_init_6 18 rfl rfl)
theorem dX0_init_162 : decode cX0_init 162 = .ok (.newarray .int, 2) := dk_188_10 (dk_at dksX0_init_6 20 rfl rfl)
theorem dX0_init_164 : decode cX0_init 164 = .ok (.putfield 84, 3) := dk_181 0 84 (dk_at dksX0_init_7 0 rfl rfl)
theorem dX0_init_167 : decode cX0_init 167 = .ok (.return_, 1) := dk_177 (dk_at dksX0_init_7 3 rfl rfl)
abbrev cX0_status : ByteArray := prog_1_method_7_code
def yX0_status : MethodName := ⟨RX0, "status", "()I"⟩
theorem dX0_status_0 : decode cX0_status 0 = .ok (.aload_n 0, 1) := by decide +kernel
theorem dX0_status_1 : decode cX0_status 1 = .ok (.getfield 87, 3) := by decide +kernel
theorem dX0_status_4 : decode cX0_status 4 = .ok (.ireturn, 1) := by decide +kernel
abbrev cX0_top : ByteArray := prog_1_method_8_code
def yX0_top : MethodName := ⟨RX0, "top", "()J"⟩
theorem dX0_top_0 : decode cX0_top 0 = .ok (.aload_n 0, 1) := by decide +kernel
theorem dX0_top_1 : decode cX0_top 1 = .ok (.getfield 90, 3) := by decide +kernel
theorem dX0_top_4 : decode cX0_top 4 = .ok (.lreturn, 1) := by decide +kernel
abbrev cX0_bottom : ByteArray := prog_1_method_9_code
def yX0_bottom : MethodName := ⟨RX0, "bottom", "()J"⟩
theorem dX0_bottom_0 : decode cX0_bottom 0 = .ok (.aload_n 0, 1) := by decide +kernel
theorem dX0_bottom_1 : decode cX0_bottom 1 = .ok (.getfield 48, 3) := by decide +kernel
theorem dX0_bottom_4 : decode cX0_bottom 4 = .ok (.lreturn, 1) := by decide +kernel
abbrev cX0_tray : ByteArray := prog_1_method_15_code
def yX0_tray : MethodName := ⟨RX0, "tray", "(III)Z"⟩
def dkwX0_tray_3 : List UInt8 := [182, 0, 125, 172]
abbrev dktX0_tray_3 : List UInt8 := dkwX0_tray_3 ++ []
def dkwX0_tray_2 : List UInt8 := [184, 0, 120, 181, 0, 116, 4, 172, 58, 4, 42, 4, 181, 0, 87, 3, 172, 58, 4, 42, 25, 4]
abbrev dktX0_tray_2 : List UInt8 := dkwX0_tray_2 ++ dktX0_tray_3
def dkwX0_tray_1 : List UInt8 := [29, 16, 60, 163, 0, 7, 4, 167, 0, 4, 3, 4, 182, 0, 112, 42, 180, 0, 18, 27, 50, 28, 29]
abbrev dktX0_tray_1 : List UInt8 := dkwX0_tray_1 ++ dktX0_tray_2
def dkwX0_tray_0 : List UInt8 := [42, 3, 181, 0, 87, 42, 27, 155, 0, 27, 27, 7, 162, 0, 22, 28, 155, 0, 18, 28, 6, 163, 0, 13]
abbrev dktX0_tray_0 : List UInt8 := dkwX0_tray_0 ++ dktX0_tray_1
theorem dksX0_tray_0 : cX0_tray.data.toList.drop 0 = dktX0_tray_0 := by decide +kernel
theorem dksX0_tray_1 : cX0_tray.data.toList.drop 24 = dktX0_tray_1 := dk_seg dksX0_tray_0 24 rfl rfl
theorem dksX0_tray_2 : cX0_tray.data.toList.drop 47 = dktX0_tray_2 := dk_seg dksX0_tray_1 23 rfl rfl
theorem dksX0_tray_3 : cX0_tray.data.toList.drop 69 = dktX0_tray_3 := dk_seg dksX0_tray_2 22 rfl rfl
theorem dX0_tray_0 : decode cX0_tray 0 = .ok (.aload_n 0, 1) := dk_42 (dk_at dksX0_tray_0 0 rfl rfl)
theorem dX0_tray_1 : decode cX0_tray 1 = .ok (.iconst 0, 1) := dk_3 (dk_at dksX0_tray_0 1 rfl rfl)
theorem dX0_tray_2 : decode cX0_tray 2 = .ok (.putfield 87, 3) := dk_181 0 87 (dk_at dksX0_tray_0 2 rfl rfl)
theorem dX0_tray_5 : decode cX0_tray 5 = .ok (.aload_n 0, 1) := dk_42 (dk_at dksX0_tray_0 5 rfl rfl)
theorem dX0_tray_6 : decode cX0_tray 6 = .ok (.iload_n 1, 1) := dk_27 (dk_at dksX0_tray_0 6 rfl rfl)
theorem dX0_tray_7 : decode cX0_tray 7 = .ok (.ifCond .lt 27, 3) := dk_155 0 27 (dk_at dksX0_tray_0 7 rfl rfl)
theorem dX0_tray_10 : decode cX0_tray 10 = .ok (.iload_n 1, 1) := dk_27 (dk_at dksX0_tray_0 10 rfl rfl)
theorem dX0_tray_11 : decode cX0_tray 11 = .ok (.iconst 4, 1) := dk_7 (dk_at dksX0_tray_0 11 rfl rfl)
theorem dX0_tray_12 : decode cX0_tray 12 = .ok (.if_icmp .ge 22, 3) := dk_162 0 22 (dk_at dksX0_tray_0 12 rfl rfl)
theorem dX0_tray_15 : decode cX0_tray 15 = .ok (.iload_n 2, 1) := dk_28 (dk_at dksX0_tray_0 15 rfl rfl)
theorem dX0_tray_16 : decode cX0_tray 16 = .ok (.ifCond .lt 18, 3) := dk_155 0 18 (dk_at dksX0_tray_0 16 rfl rfl)
theorem dX0_tray_19 : decode cX0_tray 19 = .ok (.iload_n 2, 1) := dk_28 (dk_at dksX0_tray_0 19 rfl rfl)
theorem dX0_tray_20 : decode cX0_tray 20 = .ok (.iconst 3, 1) := dk_6 (dk_at dksX0_tray_0 20 rfl rfl)
theorem dX0_tray_21 : decode cX0_tray 21 = .ok (.if_icmp .gt 13, 3) := dk_163 0 13 (dk_at dksX0_tray_0 21 rfl rfl)
theorem dX0_tray_24 : decode cX0_tray 24 = .ok (.iload_n 3, 1) := dk_29 (dk_at dksX0_tray_1 0 rfl rfl)
theorem dX0_tray_25 : decode cX0_tray 25 = .ok (.bipush 60, 2) := dk_16 60 (dk_at dksX0_tray_1 1 rfl rfl)
theorem dX0_tray_27 : decode cX0_tray 27 = .ok (.if_icmp .gt 7, 3) := dk_163 0 7 (dk_at dksX0_tray_1 3 rfl rfl)
theorem dX0_tray_30 : decode cX0_tray 30 = .ok (.iconst 1, 1) := dk_4 (dk_at dksX0_tray_1 6 rfl rfl)
theorem dX0_tray_31 : decode cX0_tray 31 = .ok (.goto 4, 3) := dk_167 0 4 (dk_at dksX0_tray_1 7 rfl rfl)
theorem dX0_tray_34 : decode cX0_tray 34 = .ok (.iconst 0, 1) := dk_3 (dk_at dksX0_tray_1 10 rfl rfl)
theorem dX0_tray_35 : decode cX0_tray 35 = .ok (.iconst 1, 1) := dk_4 (dk_at dksX0_tray_1 11 rfl rfl)
theorem dX0_tray_36 : decode cX0_tray 36 = .ok (.invokevirtual 112, 3) := dk_182 0 112 (dk_at dksX0_tray_1 12 rfl rfl)
theorem dX0_tray_39 : decode cX0_tray 39 = .ok (.aload_n 0, 1) := dk_42 (dk_at dksX0_tray_1 15 rfl rfl)
theorem dX0_tray_40 : decode cX0_tray 40 = .ok (.getfield 18, 3) := dk_180 0 18 (dk_at dksX0_tray_1 16 rfl rfl)
theorem dX0_tray_43 : decode cX0_tray 43 = .ok (.iload_n 1, 1) := dk_27 (dk_at dksX0_tray_1 19 rfl rfl)
theorem dX0_tray_44 : decode cX0_tray 44 = .ok (.aaload, 1) := dk_50 (dk_at dksX0_tray_1 20 rfl rfl)
theorem dX0_tray_45 : decode cX0_tray 45 = .ok (.iload_n 2, 1) := dk_28 (dk_at dksX0_tray_1 21 rfl rfl)
theorem dX0_tray_46 : decode cX0_tray 46 = .ok (.iload_n 3, 1) := dk_29 (dk_at dksX0_tray_1 22 rfl rfl)
theorem dX0_tray_47 : decode cX0_tray 47 = .ok (.invokestatic 120, 3) := dk_184 0 120 (dk_at dksX0_tray_2 0 rfl rfl)
theorem dX0_tray_50 : decode cX0_tray 50 = .ok (.putfield 116, 3) := dk_181 0 116 (dk_at dksX0_tray_2 3 rfl rfl)
theorem dX0_tray_53 : decode cX0_tray 53 = .ok (.iconst 1, 1) := dk_4 (dk_at dksX0_tray_2 6 rfl rfl)
theorem dX0_tray_54 : decode cX0_tray 54 = .ok (.ireturn, 1) := dk_172 (dk_at dksX0_tray_2 7 rfl rfl)
theorem dX0_tray_55 : decode cX0_tray 55 = .ok (.astore 4, 2) := dk_58 4 (dk_at dksX0_tray_2 8 rfl rfl)
theorem dX0_tray_57 : decode cX0_tray 57 = .ok (.aload_n 0, 1) := dk_42 (dk_at dksX0_tray_2 10 rfl rfl)
theorem dX0_tray_58 : decode cX0_tray 58 = .ok (.iconst 1, 1) := dk_4 (dk_at dksX0_tray_2 11 rfl rfl)
theorem dX0_tray_59 : decode cX0_tray 59 = .ok (.putfield 87, 3) := dk_181 0 87 (dk_at dksX0_tray_2 12 rfl rfl)
theorem dX0_tray_62 : decode cX0_tray 62 = .ok (.iconst 0, 1) := dk_3 (dk_at dksX0_tray_2 15 rfl rfl)
theorem dX0_tray_63 : decode cX0_tray 63 = .ok (.ireturn, 1) := dk_172 (dk_at dksX0_tray_2 16 rfl rfl)
theorem dX0_tray_64 : decode cX0_tray 64 = .ok (.astore 4, 2) := dk_58 4 (dk_at dksX0_tray_2 17 rfl rfl)
theorem dX0_tray_66 : decode cX0_tray 66 = .ok (.aload_n 0, 1) := dk_42 (dk_at dksX0_tray_2 19 rfl rfl)
theorem dX0_tray_67 : decode cX0_tray 67 = .ok (.aload 4, 2) := dk_25 4 (dk_at dksX0_tray_2 20 rfl rfl)
theorem dX0_tray_69 : decode cX0_tray 69 = .ok (.invokevirtual 125, 3) := dk_182 0 125 (dk_at dksX0_tray_3 0 rfl rfl)
theorem dX0_tray_72 : decode cX0_tray 72 = .ok (.ireturn, 1) := dk_172 (dk_at dksX0_tray_3 3 rfl rfl)
abbrev cX0_want : ByteArray := prog_1_method_10_code
def yX0_want : MethodName := ⟨RX0, "want", "(ZI)V"⟩
def dkwX0_want_0 : List UInt8 := [27, 154, 0, 12, 42, 180, 0, 44, 28, 182, 0, 93, 191, 177]
abbrev dktX0_want_0 : List UInt8 := dkwX0_want_0 ++ []
theorem dksX0_want_0 : cX0_want.data.toList.drop 0 = dktX0_want_0 := by decide +kernel
theorem dX0_want_0 : decode cX0_want 0 = .ok (.iload_n 1, 1) := dk_27 (dk_at dksX0_want_0 0 rfl rfl)
theorem dX0_want_1 : decode cX0_want 1 = .ok (.ifCond .ne 12, 3) := dk_154 0 12 (dk_at dksX0_want_0 1 rfl rfl)
theorem dX0_want_4 : decode cX0_want 4 = .ok (.aload_n 0, 1) := dk_42 (dk_at dksX0_want_0 4 rfl rfl)
theorem dX0_want_5 : decode cX0_want 5 = .ok (.getfield 44, 3) := dk_180 0 44 (dk_at dksX0_want_0 5 rfl rfl)
theorem dX0_want_8 : decode cX0_want 8 = .ok (.iload_n 2, 1) := dk_28 (dk_at dksX0_want_0 8 rfl rfl)
theorem dX0_want_9 : decode cX0_want 9 = .ok (.invokevirtual 93, 3) := dk_182 0 93 (dk_at dksX0_want_0 9 rfl rfl)
theorem dX0_want_12 : decode cX0_want 12 = .ok (.athrow, 1) := dk_191 (dk_at dksX0_want_0 12 rfl rfl)
theorem dX0_want_13 : decode cX0_want 13 = .ok (.return_, 1) := dk_177 (dk_at dksX0_want_0 13 rfl rfl)
abbrev cX0_row : ByteArray := prog_1_method_1_code
def yX0_row : MethodName := ⟨RX0, "row", "(II)Ljava/lang/Object;"⟩
def dkwX0_row_1 : List UInt8 := [160, 0, 9, 27, 188, 10, 167, 0, 6, 27, 188, 11, 176]
abbrev dktX0_row_1 : List UInt8 := dkwX0_row_1 ++ []
def dkwX0_row_0 : List UInt8 := [26, 154, 0, 9, 27, 188, 8, 167, 0, 28, 26, 4, 160, 0, 9, 27, 188, 9, 167, 0, 17, 26, 5]
abbrev dktX0_row_0 : List UInt8 := dkwX0_row_0 ++ dktX0_row_1
theorem dksX0_row_0 : cX0_row.data.toList.drop 0 = dktX0_row_0 := by decide +kernel
theorem dksX0_row_1 : cX0_row.data.toList.drop 23 = dktX0_row_1 := dk_seg dksX0_row_0 23 rfl rfl
theorem dX0_row_0 : decode cX0_row 0 = .ok (.iload_n 0, 1) := dk_26 (dk_at dksX0_row_0 0 rfl rfl)
theorem dX0_row_1 : decode cX0_row 1 = .ok (.ifCond .ne 9, 3) := dk_154 0 9 (dk_at dksX0_row_0 1 rfl rfl)
theorem dX0_row_4 : decode cX0_row 4 = .ok (.iload_n 1, 1) := dk_27 (dk_at dksX0_row_0 4 rfl rfl)
theorem dX0_row_5 : decode cX0_row 5 = .ok (.newarray .byte, 2) := dk_188_8 (dk_at dksX0_row_0 5 rfl rfl)
theorem dX0_row_7 : decode cX0_row 7 = .ok (.goto 28, 3) := dk_167 0 28 (dk_at dksX0_row_0 7 rfl rfl)
theorem dX0_row_10 : decode cX0_row 10 = .ok (.iload_n 0, 1) := dk_26 (dk_at dksX0_row_0 10 rfl rfl)
theorem dX0_row_11 : decode cX0_row 11 = .ok (.iconst 1, 1) := dk_4 (dk_at dksX0_row_0 11 rfl rfl)
theorem dX0_row_12 : decode cX0_row 12 = .ok (.if_icmp .ne 9, 3) := dk_160 0 9 (dk_at dksX0_row_0 12 rfl rfl)
theorem dX0_row_15 : decode cX0_row 15 = .ok (.iload_n 1, 1) := dk_27 (dk_at dksX0_row_0 15 rfl rfl)
theorem dX0_row_16 : decode cX0_row 16 = .ok (.newarray .short, 2) := dk_188_9 (dk_at dksX0_row_0 16 rfl rfl)
theorem dX0_row_18 : decode cX0_row 18 = .ok (.goto 17, 3) := dk_167 0 17 (dk_at dksX0_row_0 18 rfl rfl)
theorem dX0_row_21 : decode cX0_row 21 = .ok (.iload_n 0, 1) := dk_26 (dk_at dksX0_row_0 21 rfl rfl)
theorem dX0_row_22 : decode cX0_row 22 = .ok (.iconst 2, 1) := dk_5 (dk_at dksX0_row_0 22 rfl rfl)
theorem dX0_row_23 : decode cX0_row 23 = .ok (.if_icmp .ne 9, 3) := dk_160 0 9 (dk_at dksX0_row_1 0 rfl rfl)
theorem dX0_row_26 : decode cX0_row 26 = .ok (.iload_n 1, 1) := dk_27 (dk_at dksX0_row_1 3 rfl rfl)
theorem dX0_row_27 : decode cX0_row 27 = .ok (.newarray .int, 2) := dk_188_10 (dk_at dksX0_row_1 4 rfl rfl)
theorem dX0_row_29 : decode cX0_row 29 = .ok (.goto 6, 3) := dk_167 0 6 (dk_at dksX0_row_1 6 rfl rfl)
theorem dX0_row_32 : decode cX0_row 32 = .ok (.iload_n 1, 1) := dk_27 (dk_at dksX0_row_1 9 rfl rfl)
theorem dX0_row_33 : decode cX0_row 33 = .ok (.newarray .long, 2) := dk_188_11 (dk_at dksX0_row_1 10 rfl rfl)
theorem dX0_row_35 : decode cX0_row 35 = .ok (.areturn, 1) := dk_176 (dk_at dksX0_row_1 12 rfl rfl)
abbrev cX0_no : ByteArray := prog_1_method_12_code
def yX0_no : MethodName := ⟨RX0, "no", "(LAskingCourt$Refused;)Z"⟩
def dkwX0_no_0 : List UInt8 := [42, 43, 180, 0, 97, 181, 0, 87, 3, 172]
abbrev dktX0_no_0 : List UInt8 := dkwX0_no_0 ++ []
theorem dksX0_no_0 : cX0_no.data.toList.drop 0 = dktX0_no_0 := by decide +kernel
theorem dX0_no_0 : decode cX0_no 0 = .ok (.aload_n 0, 1) := dk_42 (dk_at dksX0_no_0 0 rfl rfl)
theorem dX0_no_1 : decode cX0_no 1 = .ok (.aload_n 1, 1) := dk_43 (dk_at dksX0_no_0 1 rfl rfl)
theorem dX0_no_2 : decode cX0_no 2 = .ok (.getfield 97, 3) := dk_180 0 97 (dk_at dksX0_no_0 2 rfl rfl)
theorem dX0_no_5 : decode cX0_no 5 = .ok (.putfield 87, 3) := dk_181 0 87 (dk_at dksX0_no_0 5 rfl rfl)
theorem dX0_no_8 : decode cX0_no 8 = .ok (.iconst 0, 1) := dk_3 (dk_at dksX0_no_0 8 rfl rfl)
theorem dX0_no_9 : decode cX0_no 9 = .ok (.ireturn, 1) := dk_172 (dk_at dksX0_no_0 9 rfl rfl)
abbrev cX0_write : ByteArray := prog_1_method_16_code
def yX0_write : MethodName := ⟨RX0, "write", "(IIJ)Z"⟩
def dkwX0_write_1 : List UInt8 := [3, 172, 58, 5, 42, 25, 5, 182, 0, 125, 172]
abbrev dktX0_write_1 : List UInt8 := dkwX0_write_1 ++ []
def dkwX0_write_0 : List UInt8 := [42, 3, 181, 0, 87, 42, 27, 182, 0, 129, 28, 33, 184, 0, 133, 4, 172, 58, 5, 42, 6, 181, 0, 87]
abbrev dktX0_write_0 : List UInt8 := dkwX0_write_0 ++ dktX0_write_1
theorem dksX0_write_0 : cX0_write.data.toList.drop 0 = dktX0_write_0 := by decide +kernel
theorem dksX0_write_1 : cX0_write.data.toList.drop 24 = dktX0_write_1 := dk_seg dksX0_write_0 24 rfl rfl
theorem dX0_write_0 : decode cX0_write 0 = .ok (.aload_n 0, 1) := dk_42 (dk_at dksX0_write_0 0 rfl rfl)
theorem dX0_write_1 : decode cX0_write 1 = .ok (.iconst 0, 1) := dk_3 (dk_at dksX0_write_0 1 rfl rfl)
theorem dX0_write_2 : decode cX0_write 2 = .ok (.putfield 87, 3) := dk_181 0 87 (dk_at dksX0_write_0 2 rfl rfl)
theorem dX0_write_5 : decode cX0_write 5 = .ok (.aload_n 0, 1) := dk_42 (dk_at dksX0_write_0 5 rfl rfl)
theorem dX0_write_6 : decode cX0_write 6 = .ok (.iload_n 1, 1) := dk_27 (dk_at dksX0_write_0 6 rfl rfl)
theorem dX0_write_7 : decode cX0_write 7 = .ok (.invokevirtual 129, 3) := dk_182 0 129 (dk_at dksX0_write_0 7 rfl rfl)
theorem dX0_write_10 : decode cX0_write 10 = .ok (.iload_n 2, 1) := dk_28 (dk_at dksX0_write_0 10 rfl rfl)
theorem dX0_write_11 : decode cX0_write 11 = .ok (.lload_n 3, 1) := dk_33 (dk_at dksX0_write_0 11 rfl rfl)
theorem dX0_write_12 : decode cX0_write 12 = .ok (.invokestatic 133, 3) := dk_184 0 133 (dk_at dksX0_write_0 12 rfl rfl)
theorem dX0_write_15 : decode cX0_write 15 = .ok (.iconst 1, 1) := dk_4 (dk_at dksX0_write_0 15 rfl rfl)
theorem dX0_write_16 : decode cX0_write 16 = .ok (.ireturn, 1) := dk_172 (dk_at dksX0_write_0 16 rfl rfl)
theorem dX0_write_17 : decode cX0_write 17 = .ok (.astore 5, 2) := dk_58 5 (dk_at dksX0_write_0 17 rfl rfl)
theorem dX0_write_19 : decode cX0_write 19 = .ok (.aload_n 0, 1) := dk_42 (dk_at dksX0_write_0 19 rfl rfl)
theorem dX0_write_20 : decode cX0_write 20 = .ok (.iconst 3, 1) := dk_6 (dk_at dksX0_write_0 20 rfl rfl)
theorem dX0_write_21 : decode cX0_write 21 = .ok (.putfield 87, 3) := dk_181 0 87 (dk_at dksX0_write_0 21 rfl rfl)
theorem dX0_write_24 : decode cX0_write 24 = .ok (.iconst 0, 1) := dk_3 (dk_at dksX0_write_1 0 rfl rfl)
theorem dX0_write_25 : decode cX0_write 25 = .ok (.ireturn, 1) := dk_172 (dk_at dksX0_write_1 1 rfl rfl)
theorem dX0_write_26 : decode cX0_write 26 = .ok (.astore 5, 2) := dk_58 5 (dk_at dksX0_write_1 2 rfl rfl)
theorem dX0_write_28 : decode cX0_write 28 = .ok (.aload_n 0, 1) := dk_42 (dk_at dksX0_write_1 4 rfl rfl)
theorem dX0_write_29 : decode cX0_write 29 = .ok (.aload 5, 2) := dk_25 5 (dk_at dksX0_write_1 5 rfl rfl)
theorem dX0_write_31 : decode cX0_write 31 = .ok (.invokevirtual 125, 3) := dk_182 0 125 (dk_at dksX0_write_1 7 rfl rfl)
theorem dX0_write_34 : decode cX0_write 34 = .ok (.ireturn, 1) := dk_172 (dk_at dksX0_write_1 10 rfl rfl)
abbrev cX0_on : ByteArray := prog_1_method_14_code
def yX0_on : MethodName := ⟨RX0, "on", "(I)Ljava/lang/Object;"⟩
def dkwX0_on_2 : List UInt8 := [180, 0, 116, 176]
abbrev dktX0_on_2 : List UInt8 := dkwX0_on_2 ++ []
def dkwX0_on_1 : List UInt8 := [27, 50, 180, 0, 116, 198, 0, 7, 4, 167, 0, 4, 3, 5, 182, 0, 112, 42, 180, 0, 18, 27, 50]
abbrev dktX0_on_1 : List UInt8 := dkwX0_on_1 ++ dktX0_on_2
def dkwX0_on_0 : List UInt8 := [42, 27, 155, 0, 12, 27, 7, 162, 0, 7, 4, 167, 0, 4, 3, 4, 182, 0, 112, 42, 42, 180, 0, 18]
abbrev dktX0_on_0 : List UInt8 := dkwX0_on_0 ++ dktX0_on_1
theorem dksX0_on_0 : cX0_on.data.toList.drop 0 = dktX0_on_0 := by decide +kernel
theorem dksX0_on_1 : cX0_on.data.toList.drop 24 = dktX0_on_1 := dk_seg dksX0_on_0 24 rfl rfl
theorem dksX0_on_2 : cX0_on.data.toList.drop 47 = dktX0_on_2 := dk_seg dksX0_on_1 23 rfl rfl
theorem dX0_on_0 : decode cX0_on 0 = .ok (.aload_n 0, 1) := dk_42 (dk_at dksX0_on_0 0 rfl rfl)
theorem dX0_on_1 : decode cX0_on 1 = .ok (.iload_n 1, 1) := dk_27 (dk_at dksX0_on_0 1 rfl rfl)
theorem dX0_on_2 : decode cX0_on 2 = .ok (.ifCond .lt 12, 3) := dk_155 0 12 (dk_at dksX0_on_0 2 rfl rfl)
theorem dX0_on_5 : decode cX0_on 5 = .ok (.iload_n 1, 1) := dk_27 (dk_at dksX0_on_0 5 rfl rfl)
theorem dX0_on_6 : decode cX0_on 6 = .ok (.iconst 4, 1) := dk_7 (dk_at dksX0_on_0 6 rfl rfl)
theorem dX0_on_7 : decode cX0_on 7 = .ok (.if_icmp .ge 7, 3) := dk_162 0 7 (dk_at dksX0_on_0 7 rfl rfl)
theorem dX0_on_10 : decode cX0_on 10 = .ok (.iconst 1, 1) := dk_4 (dk_at dksX0_on_0 10 rfl rfl)
theorem dX0_on_11 : decode cX0_on 11 = .ok (.goto 4, 3) := dk_167 0 4 (dk_at dksX0_on_0 11 rfl rfl)
theorem dX0_on_14 : decode cX0_on 14 = .ok (.iconst 0, 1) := dk_3 (dk_at dksX0_on_0 14 rfl rfl)
theorem dX0_on_15 : decode cX0_on 15 = .ok (.iconst 1, 1) := dk_4 (dk_at dksX0_on_0 15 rfl rfl)
theorem dX0_on_16 : decode cX0_on 16 = .ok (.invokevirtual 112, 3) := dk_182 0 112 (dk_at dksX0_on_0 16 rfl rfl)
theorem dX0_on_19 : decode cX0_on 19 = .ok (.aload_n 0, 1) := dk_42 (dk_at dksX0_on_0 19 rfl rfl)
theorem dX0_on_20 : decode cX0_on 20 = .ok (.aload_n 0, 1) := dk_42 (dk_at dksX0_on_0 20 rfl rfl)
theorem dX0_on_21 : decode cX0_on 21 = .ok (.getfield 18, 3) := dk_180 0 18 (dk_at dksX0_on_0 21 rfl rfl)
theorem dX0_on_24 : decode cX0_on 24 = .ok (.iload_n 1, 1) := dk_27 (dk_at dksX0_on_1 0 rfl rfl)
theorem dX0_on_25 : decode cX0_on 25 = .ok (.aaload, 1) := dk_50 (dk_at dksX0_on_1 1 rfl rfl)
theorem dX0_on_26 : decode cX0_on 26 = .ok (.getfield 116, 3) := dk_180 0 116 (dk_at dksX0_on_1 2 rfl rfl)
theorem dX0_on_29 : decode cX0_on 29 = .ok (.ifnull 7, 3) := dk_198 0 7 (dk_at dksX0_on_1 5 rfl rfl)
theorem dX0_on_32 : decode cX0_on 32 = .ok (.iconst 1, 1) := dk_4 (dk_at dksX0_on_1 8 rfl rfl)
theorem dX0_on_33 : decode cX0_on 33 = .ok (.goto 4, 3) := dk_167 0 4 (dk_at dksX0_on_1 9 rfl rfl)
theorem dX0_on_36 : decode cX0_on 36 = .ok (.iconst 0, 1) := dk_3 (dk_at dksX0_on_1 12 rfl rfl)
theorem dX0_on_37 : decode cX0_on 37 = .ok (.iconst 2, 1) := dk_5 (dk_at dksX0_on_1 13 rfl rfl)
theorem dX0_on_38 : decode cX0_on 38 = .ok (.invokevirtual 112, 3) := dk_182 0 112 (dk_at dksX0_on_1 14 rfl rfl)
theorem dX0_on_41 : decode cX0_on 41 = .ok (.aload_n 0, 1) := dk_42 (dk_at dksX0_on_1 17 rfl rfl)
theorem dX0_on_42 : decode cX0_on 42 = .ok (.getfield 18, 3) := dk_180 0 18 (dk_at dksX0_on_1 18 rfl rfl)
theorem dX0_on_45 : decode cX0_on 45 = .ok (.iload_n 1, 1) := dk_27 (dk_at dksX0_on_1 21 rfl rfl)
theorem dX0_on_46 : decode cX0_on 46 = .ok (.aaload, 1) := dk_50 (dk_at dksX0_on_1 22 rfl rfl)
theorem dX0_on_47 : decode cX0_on 47 = .ok (.getfield 116, 3) := dk_180 0 116 (dk_at dksX0_on_2 0 rfl rfl)
theorem dX0_on_50 : decode cX0_on 50 = .ok (.areturn, 1) := dk_176 (dk_at dksX0_on_2 3 rfl rfl)
abbrev cX0_put : ByteArray := prog_1_method_5_code
def yX0_put : MethodName := ⟨RX0, "put", "(Ljava/lang/Object;IJ)V"⟩
def dkwX0_put_3 : List UInt8 := [192, 0, 7, 27, 32, 80, 177]
abbrev dktX0_put_3 : List UInt8 := dkwX0_put_3 ++ []
def dkwX0_put_2 : List UInt8 := [193, 0, 5, 153, 0, 18, 42, 192, 0, 5, 58, 6, 25, 6, 27, 32, 136, 79, 167, 0, 10, 42]
abbrev dktX0_put_2 : List UInt8 := dkwX0_put_2 ++ dktX0_put_3
def dkwX0_put_1 : List UInt8 := [193, 0, 3, 153, 0, 19, 42, 192, 0, 3, 58, 5, 25, 5, 27, 32, 136, 147, 86, 167, 0, 32, 42]
abbrev dktX0_put_1 : List UInt8 := dkwX0_put_1 ++ dktX0_put_2
def dkwX0_put_0 : List UInt8 := [42, 193, 0, 1, 153, 0, 19, 42, 192, 0, 1, 58, 4, 25, 4, 27, 32, 136, 145, 84, 167, 0, 55, 42]
abbrev dktX0_put_0 : List UInt8 := dkwX0_put_0 ++ dktX0_put_1
theorem dksX0_put_0 : cX0_put.data.toList.drop 0 = dktX0_put_0 := by decide +kernel
theorem dksX0_put_1 : cX0_put.data.toList.drop 24 = dktX0_put_1 := dk_seg dksX0_put_0 24 rfl rfl
theorem dksX0_put_2 : cX0_put.data.toList.drop 47 = dktX0_put_2 := dk_seg dksX0_put_1 23 rfl rfl
theorem dksX0_put_3 : cX0_put.data.toList.drop 69 = dktX0_put_3 := dk_seg dksX0_put_2 22 rfl rfl
theorem dX0_put_0 : decode cX0_put 0 = .ok (.aload_n 0, 1) := dk_42 (dk_at dksX0_put_0 0 rfl rfl)
theorem dX0_put_1 : decode cX0_put 1 = .ok (.instanceof 1, 3) := dk_193 0 1 (dk_at dksX0_put_0 1 rfl rfl)
theorem dX0_put_4 : decode cX0_put 4 = .ok (.ifCond .eq 19, 3) := dk_153 0 19 (dk_at dksX0_put_0 4 rfl rfl)
theorem dX0_put_7 : decode cX0_put 7 = .ok (.aload_n 0, 1) := dk_42 (dk_at dksX0_put_0 7 rfl rfl)
theorem dX0_put_8 : decode cX0_put 8 = .ok (.checkcast 1, 3) := dk_192 0 1 (dk_at dksX0_put_0 8 rfl rfl)
theorem dX0_put_11 : decode cX0_put 11 = .ok (.astore 4, 2) := dk_58 4 (dk_at dksX0_put_0 11 rfl rfl)
theorem dX0_put_13 : decode cX0_put 13 = .ok (.aload 4, 2) := dk_25 4 (dk_at dksX0_put_0 13 rfl rfl)
theorem dX0_put_15 : decode cX0_put 15 = .ok (.iload_n 1, 1) := dk_27 (dk_at dksX0_put_0 15 rfl rfl)
theorem dX0_put_16 : decode cX0_put 16 = .ok (.lload_n 2, 1) := dk_32 (dk_at dksX0_put_0 16 rfl rfl)
theorem dX0_put_17 : decode cX0_put 17 = .ok (.l2i, 1) := dk_136 (dk_at dksX0_put_0 17 rfl rfl)
theorem dX0_put_18 : decode cX0_put 18 = .ok (.i2b, 1) := dk_145 (dk_at dksX0_put_0 18 rfl rfl)
theorem dX0_put_19 : decode cX0_put 19 = .ok (.bastore, 1) := dk_84 (dk_at dksX0_put_0 19 rfl rfl)
theorem dX0_put_20 : decode cX0_put 20 = .ok (.goto 55, 3) := dk_167 0 55 (dk_at dksX0_put_0 20 rfl rfl)
theorem dX0_put_23 : decode cX0_put 23 = .ok (.aload_n 0, 1) := dk_42 (dk_at dksX0_put_0 23 rfl rfl)
theorem dX0_put_24 : decode cX0_put 24 = .ok (.instanceof 3, 3) := dk_193 0 3 (dk_at dksX0_put_1 0 rfl rfl)
theorem dX0_put_27 : decode cX0_put 27 = .ok (.ifCond .eq 19, 3) := dk_153 0 19 (dk_at dksX0_put_1 3 rfl rfl)
theorem dX0_put_30 : decode cX0_put 30 = .ok (.aload_n 0, 1) := dk_42 (dk_at dksX0_put_1 6 rfl rfl)
theorem dX0_put_31 : decode cX0_put 31 = .ok (.checkcast 3, 3) := dk_192 0 3 (dk_at dksX0_put_1 7 rfl rfl)
theorem dX0_put_34 : decode cX0_put 34 = .ok (.astore 5, 2) := dk_58 5 (dk_at dksX0_put_1 10 rfl rfl)
theorem dX0_put_36 : decode cX0_put 36 = .ok (.aload 5, 2) := dk_25 5 (dk_at dksX0_put_1 12 rfl rfl)
theorem dX0_put_38 : decode cX0_put 38 = .ok (.iload_n 1, 1) := dk_27 (dk_at dksX0_put_1 14 rfl rfl)
theorem dX0_put_39 : decode cX0_put 39 = .ok (.lload_n 2, 1) := dk_32 (dk_at dksX0_put_1 15 rfl rfl)
theorem dX0_put_40 : decode cX0_put 40 = .ok (.l2i, 1) := dk_136 (dk_at dksX0_put_1 16 rfl rfl)
theorem dX0_put_41 : decode cX0_put 41 = .ok (.i2s, 1) := dk_147 (dk_at dksX0_put_1 17 rfl rfl)
theorem dX0_put_42 : decode cX0_put 42 = .ok (.sastore, 1) := dk_86 (dk_at dksX0_put_1 18 rfl rfl)
theorem dX0_put_43 : decode cX0_put 43 = .ok (.goto 32, 3) := dk_167 0 32 (dk_at dksX0_put_1 19 rfl rfl)
theorem dX0_put_46 : decode cX0_put 46 = .ok (.aload_n 0, 1) := dk_42 (dk_at dksX0_put_1 22 rfl rfl)
theorem dX0_put_47 : decode cX0_put 47 = .ok (.instanceof 5, 3) := dk_193 0 5 (dk_at dksX0_put_2 0 rfl rfl)
theorem dX0_put_50 : decode cX0_put 50 = .ok (.ifCond .eq 18, 3) := dk_153 0 18 (dk_at dksX0_put_2 3 rfl rfl)
theorem dX0_put_53 : decode cX0_put 53 = .ok (.aload_n 0, 1) := dk_42 (dk_at dksX0_put_2 6 rfl rfl)
theorem dX0_put_54 : decode cX0_put 54 = .ok (.checkcast 5, 3) := dk_192 0 5 (dk_at dksX0_put_2 7 rfl rfl)
theorem dX0_put_57 : decode cX0_put 57 = .ok (.astore 6, 2) := dk_58 6 (dk_at dksX0_put_2 10 rfl rfl)
theorem dX0_put_59 : decode cX0_put 59 = .ok (.aload 6, 2) := dk_25 6 (dk_at dksX0_put_2 12 rfl rfl)
theorem dX0_put_61 : decode cX0_put 61 = .ok (.iload_n 1, 1) := dk_27 (dk_at dksX0_put_2 14 rfl rfl)
theorem dX0_put_62 : decode cX0_put 62 = .ok (.lload_n 2, 1) := dk_32 (dk_at dksX0_put_2 15 rfl rfl)
theorem dX0_put_63 : decode cX0_put 63 = .ok (.l2i, 1) := dk_136 (dk_at dksX0_put_2 16 rfl rfl)
theorem dX0_put_64 : decode cX0_put 64 = .ok (.iastore, 1) := dk_79 (dk_at dksX0_put_2 17 rfl rfl)
theorem dX0_put_65 : decode cX0_put 65 = .ok (.goto 10, 3) := dk_167 0 10 (dk_at dksX0_put_2 18 rfl rfl)
theorem dX0_put_68 : decode cX0_put 68 = .ok (.aload_n 0, 1) := dk_42 (dk_at dksX0_put_2 21 rfl rfl)
theorem dX0_put_69 : decode cX0_put 69 = .ok (.checkcast 7, 3) := dk_192 0 7 (dk_at dksX0_put_3 0 rfl rfl)
theorem dX0_put_72 : decode cX0_put 72 = .ok (.iload_n 1, 1) := dk_27 (dk_at dksX0_put_3 3 rfl rfl)
theorem dX0_put_73 : decode cX0_put 73 = .ok (.lload_n 2, 1) := dk_32 (dk_at dksX0_put_3 4 rfl rfl)
theorem dX0_put_74 : decode cX0_put 74 = .ok (.lastore, 1) := dk_80 (dk_at dksX0_put_3 5 rfl rfl)
theorem dX0_put_75 : decode cX0_put 75 = .ok (.return_, 1) := dk_177 (dk_at dksX0_put_3 6 rfl rfl)
abbrev cX0_read : ByteArray := prog_1_method_17_code
def yX0_read : MethodName := ⟨RX0, "read", "(II)J"⟩
def dkwX0_read_1 : List UInt8 := [173, 78, 42, 45, 182, 0, 145, 133, 173]
abbrev dktX0_read_1 : List UInt8 := dkwX0_read_1 ++ []
def dkwX0_read_0 : List UInt8 := [42, 3, 181, 0, 87, 42, 27, 182, 0, 129, 28, 184, 0, 139, 173, 78, 42, 6, 181, 0, 87, 20, 0, 143]
abbrev dktX0_read_0 : List UInt8 := dkwX0_read_0 ++ dktX0_read_1
theorem dksX0_read_0 : cX0_read.data.toList.drop 0 = dktX0_read_0 := by decide +kernel
theorem dksX0_read_1 : cX0_read.data.toList.drop 24 = dktX0_read_1 := dk_seg dksX0_read_0 24 rfl rfl
theorem dX0_read_0 : decode cX0_read 0 = .ok (.aload_n 0, 1) := dk_42 (dk_at dksX0_read_0 0 rfl rfl)
theorem dX0_read_1 : decode cX0_read 1 = .ok (.iconst 0, 1) := dk_3 (dk_at dksX0_read_0 1 rfl rfl)
theorem dX0_read_2 : decode cX0_read 2 = .ok (.putfield 87, 3) := dk_181 0 87 (dk_at dksX0_read_0 2 rfl rfl)
theorem dX0_read_5 : decode cX0_read 5 = .ok (.aload_n 0, 1) := dk_42 (dk_at dksX0_read_0 5 rfl rfl)
theorem dX0_read_6 : decode cX0_read 6 = .ok (.iload_n 1, 1) := dk_27 (dk_at dksX0_read_0 6 rfl rfl)
theorem dX0_read_7 : decode cX0_read 7 = .ok (.invokevirtual 129, 3) := dk_182 0 129 (dk_at dksX0_read_0 7 rfl rfl)
theorem dX0_read_10 : decode cX0_read 10 = .ok (.iload_n 2, 1) := dk_28 (dk_at dksX0_read_0 10 rfl rfl)
theorem dX0_read_11 : decode cX0_read 11 = .ok (.invokestatic 139, 3) := dk_184 0 139 (dk_at dksX0_read_0 11 rfl rfl)
theorem dX0_read_14 : decode cX0_read 14 = .ok (.lreturn, 1) := dk_173 (dk_at dksX0_read_0 14 rfl rfl)
theorem dX0_read_15 : decode cX0_read 15 = .ok (.astore_n 3, 1) := dk_78 (dk_at dksX0_read_0 15 rfl rfl)
theorem dX0_read_16 : decode cX0_read 16 = .ok (.aload_n 0, 1) := dk_42 (dk_at dksX0_read_0 16 rfl rfl)
theorem dX0_read_17 : decode cX0_read 17 = .ok (.iconst 3, 1) := dk_6 (dk_at dksX0_read_0 17 rfl rfl)
theorem dX0_read_18 : decode cX0_read 18 = .ok (.putfield 87, 3) := dk_181 0 87 (dk_at dksX0_read_0 18 rfl rfl)
theorem dX0_read_21 : decode cX0_read 21 = .ok (.ldc2_w 143, 3) := dk_20 0 143 (dk_at dksX0_read_0 21 rfl rfl)
theorem dX0_read_24 : decode cX0_read 24 = .ok (.lreturn, 1) := dk_173 (dk_at dksX0_read_1 0 rfl rfl)
theorem dX0_read_25 : decode cX0_read 25 = .ok (.astore_n 3, 1) := dk_78 (dk_at dksX0_read_1 1 rfl rfl)
theorem dX0_read_26 : decode cX0_read 26 = .ok (.aload_n 0, 1) := dk_42 (dk_at dksX0_read_1 2 rfl rfl)
theorem dX0_read_27 : decode cX0_read 27 = .ok (.aload_n 3, 1) := dk_45 (dk_at dksX0_read_1 3 rfl rfl)
theorem dX0_read_28 : decode cX0_read 28 = .ok (.invokevirtual 145, 3) := dk_182 0 145 (dk_at dksX0_read_1 4 rfl rfl)
theorem dX0_read_31 : decode cX0_read 31 = .ok (.i2l, 1) := dk_133 (dk_at dksX0_read_1 7 rfl rfl)
theorem dX0_read_32 : decode cX0_read 32 = .ok (.lreturn, 1) := dk_173 (dk_at dksX0_read_1 8 rfl rfl)
abbrev cX0_number : ByteArray := prog_1_method_4_code
def yX0_number : MethodName := ⟨RX0, "number", "(Ljava/lang/Object;I)J"⟩
def dkwX0_number_2 : List UInt8 := [46, 133, 167, 0, 9, 42, 192, 0, 7, 27, 47, 173]
abbrev dktX0_number_2 : List UInt8 := dkwX0_number_2 ++ []
def dkwX0_number_1 : List UInt8 := [42, 192, 0, 3, 77, 44, 27, 53, 133, 173, 42, 193, 0, 5, 153, 0, 15, 42, 192, 0, 5, 77, 44, 27]
abbrev dktX0_number_1 : List UInt8 := dkwX0_number_1 ++ dktX0_number_2
def dkwX0_number_0 : List UInt8 := [42, 193, 0, 1, 153, 0, 13, 42, 192, 0, 1, 77, 44, 27, 51, 133, 173, 42, 193, 0, 3, 153, 0, 13]
abbrev dktX0_number_0 : List UInt8 := dkwX0_number_0 ++ dktX0_number_1
theorem dksX0_number_0 : cX0_number.data.toList.drop 0 = dktX0_number_0 := by decide +kernel
theorem dksX0_number_1 : cX0_number.data.toList.drop 24 = dktX0_number_1 := dk_seg dksX0_number_0 24 rfl rfl
theorem dksX0_number_2 : cX0_number.data.toList.drop 48 = dktX0_number_2 := dk_seg dksX0_number_1 24 rfl rfl
theorem dX0_number_0 : decode cX0_number 0 = .ok (.aload_n 0, 1) := dk_42 (dk_at dksX0_number_0 0 rfl rfl)
theorem dX0_number_1 : decode cX0_number 1 = .ok (.instanceof 1, 3) := dk_193 0 1 (dk_at dksX0_number_0 1 rfl rfl)
theorem dX0_number_4 : decode cX0_number 4 = .ok (.ifCond .eq 13, 3) := dk_153 0 13 (dk_at dksX0_number_0 4 rfl rfl)
theorem dX0_number_7 : decode cX0_number 7 = .ok (.aload_n 0, 1) := dk_42 (dk_at dksX0_number_0 7 rfl rfl)
theorem dX0_number_8 : decode cX0_number 8 = .ok (.checkcast 1, 3) := dk_192 0 1 (dk_at dksX0_number_0 8 rfl rfl)
theorem dX0_number_11 : decode cX0_number 11 = .ok (.astore_n 2, 1) := dk_77 (dk_at dksX0_number_0 11 rfl rfl)
theorem dX0_number_12 : decode cX0_number 12 = .ok (.aload_n 2, 1) := dk_44 (dk_at dksX0_number_0 12 rfl rfl)
theorem dX0_number_13 : decode cX0_number 13 = .ok (.iload_n 1, 1) := dk_27 (dk_at dksX0_number_0 13 rfl rfl)
theorem dX0_number_14 : decode cX0_number 14 = .ok (.baload, 1) := dk_51 (dk_at dksX0_number_0 14 rfl rfl)
theorem dX0_number_15 : decode cX0_number 15 = .ok (.i2l, 1) := dk_133 (dk_at dksX0_number_0 15 rfl rfl)
theorem dX0_number_16 : decode cX0_number 16 = .ok (.lreturn, 1) := dk_173 (dk_at dksX0_number_0 16 rfl rfl)
theorem dX0_number_17 : decode cX0_number 17 = .ok (.aload_n 0, 1) := dk_42 (dk_at dksX0_number_0 17 rfl rfl)
theorem dX0_number_18 : decode cX0_number 18 = .ok (.instanceof 3, 3) := dk_193 0 3 (dk_at dksX0_number_0 18 rfl rfl)
theorem dX0_number_21 : decode cX0_number 21 = .ok (.ifCond .eq 13, 3) := dk_153 0 13 (dk_at dksX0_number_0 21 rfl rfl)
theorem dX0_number_24 : decode cX0_number 24 = .ok (.aload_n 0, 1) := dk_42 (dk_at dksX0_number_1 0 rfl rfl)
theorem dX0_number_25 : decode cX0_number 25 = .ok (.checkcast 3, 3) := dk_192 0 3 (dk_at dksX0_number_1 1 rfl rfl)
theorem dX0_number_28 : decode cX0_number 28 = .ok (.astore_n 2, 1) := dk_77 (dk_at dksX0_number_1 4 rfl rfl)
theorem dX0_number_29 : decode cX0_number 29 = .ok (.aload_n 2, 1) := dk_44 (dk_at dksX0_number_1 5 rfl rfl)
theorem dX0_number_30 : decode cX0_number 30 = .ok (.iload_n 1, 1) := dk_27 (dk_at dksX0_number_1 6 rfl rfl)
theorem dX0_number_31 : decode cX0_number 31 = .ok (.saload, 1) := dk_53 (dk_at dksX0_number_1 7 rfl rfl)
theorem dX0_number_32 : decode cX0_number 32 = .ok (.i2l, 1) := dk_133 (dk_at dksX0_number_1 8 rfl rfl)
theorem dX0_number_33 : decode cX0_number 33 = .ok (.lreturn, 1) := dk_173 (dk_at dksX0_number_1 9 rfl rfl)
theorem dX0_number_34 : decode cX0_number 34 = .ok (.aload_n 0, 1) := dk_42 (dk_at dksX0_number_1 10 rfl rfl)
theorem dX0_number_35 : decode cX0_number 35 = .ok (.instanceof 5, 3) := dk_193 0 5 (dk_at dksX0_number_1 11 rfl rfl)
theorem dX0_number_38 : decode cX0_number 38 = .ok (.ifCond .eq 15, 3) := dk_153 0 15 (dk_at dksX0_number_1 14 rfl rfl)
theorem dX0_number_41 : decode cX0_number 41 = .ok (.aload_n 0, 1) := dk_42 (dk_at dksX0_number_1 17 rfl rfl)
theorem dX0_number_42 : decode cX0_number 42 = .ok (.checkcast 5, 3) := dk_192 0 5 (dk_at dksX0_number_1 18 rfl rfl)
theorem dX0_number_45 : decode cX0_number 45 = .ok (.astore_n 2, 1) := dk_77 (dk_at dksX0_number_1 21 rfl rfl)
theorem dX0_number_46 : decode cX0_number 46 = .ok (.aload_n 2, 1) := dk_44 (dk_at dksX0_number_1 22 rfl rfl)
theorem dX0_number_47 : decode cX0_number 47 = .ok (.iload_n 1, 1) := dk_27 (dk_at dksX0_number_1 23 rfl rfl)
theorem dX0_number_48 : decode cX0_number 48 = .ok (.iaload, 1) := dk_46 (dk_at dksX0_number_2 0 rfl rfl)
theorem dX0_number_49 : decode cX0_number 49 = .ok (.i2l, 1) := dk_133 (dk_at dksX0_number_2 1 rfl rfl)
theorem dX0_number_50 : decode cX0_number 50 = .ok (.goto 9, 3) := dk_167 0 9 (dk_at dksX0_number_2 2 rfl rfl)
theorem dX0_number_53 : decode cX0_number 53 = .ok (.aload_n 0, 1) := dk_42 (dk_at dksX0_number_2 5 rfl rfl)
theorem dX0_number_54 : decode cX0_number 54 = .ok (.checkcast 7, 3) := dk_192 0 7 (dk_at dksX0_number_2 6 rfl rfl)
theorem dX0_number_57 : decode cX0_number 57 = .ok (.iload_n 1, 1) := dk_27 (dk_at dksX0_number_2 9 rfl rfl)
theorem dX0_number_58 : decode cX0_number 58 = .ok (.laload, 1) := dk_47 (dk_at dksX0_number_2 10 rfl rfl)
theorem dX0_number_59 : decode cX0_number 59 = .ok (.lreturn, 1) := dk_173 (dk_at dksX0_number_2 11 rfl rfl)
abbrev cX0_none : ByteArray := prog_1_method_11_code
def yX0_none : MethodName := ⟨RX0, "none", "(LAskingCourt$Refused;)I"⟩
def dkwX0_none_0 : List UInt8 := [42, 43, 180, 0, 97, 181, 0, 87, 2, 172]
abbrev dktX0_none_0 : List UInt8 := dkwX0_none_0 ++ []
theorem dksX0_none_0 : cX0_none.data.toList.drop 0 = dktX0_none_0 := by decide +kernel
theorem dX0_none_0 : decode cX0_none 0 = .ok (.aload_n 0, 1) := dk_42 (dk_at dksX0_none_0 0 rfl rfl)
theorem dX0_none_1 : decode cX0_none 1 = .ok (.aload_n 1, 1) := dk_43 (dk_at dksX0_none_0 1 rfl rfl)
theorem dX0_none_2 : decode cX0_none 2 = .ok (.getfield 97, 3) := dk_180 0 97 (dk_at dksX0_none_0 2 rfl rfl)
theorem dX0_none_5 : decode cX0_none 5 = .ok (.putfield 87, 3) := dk_181 0 87 (dk_at dksX0_none_0 5 rfl rfl)
theorem dX0_none_8 : decode cX0_none 8 = .ok (.iconst (-1), 1) := dk_2 (dk_at dksX0_none_0 8 rfl rfl)
theorem dX0_none_9 : decode cX0_none 9 = .ok (.ireturn, 1) := dk_172 (dk_at dksX0_none_0 9 rfl rfl)
abbrev cX0_pour : ByteArray := prog_1_method_18_code
def yX0_pour : MethodName := ⟨RX0, "pour", "(IIIII)Z"⟩
def dkwX0_pour_5 : List UInt8 := [182, 0, 125, 172]
abbrev dktX0_pour_5 : List UInt8 := dkwX0_pour_5 ++ []
def dkwX0_pour_4 : List UInt8 := [184, 0, 153, 167, 0, 14, 58, 8, 42, 180, 0, 44, 6, 182, 0, 93, 191, 4, 172, 58, 6, 42, 25, 6]
abbrev dktX0_pour_4 : List UInt8 := dkwX0_pour_4 ++ dktX0_pour_5
def dkwX0_pour_3 : List UInt8 := [160, 0, 7, 4, 167, 0, 4, 3, 16, 8, 182, 0, 112, 25, 6, 28, 25, 7, 21, 4, 21, 5]
abbrev dktX0_pour_3 : List UInt8 := dkwX0_pour_3 ++ dktX0_pour_4
def dkwX0_pour_2 : List UInt8 := [27, 182, 0, 129, 58, 6, 42, 29, 182, 0, 129, 58, 7, 42, 25, 6, 184, 0, 149, 25, 7, 184, 0, 149]
abbrev dktX0_pour_2 : List UInt8 := dkwX0_pour_2 ++ dktX0_pour_3
def dkwX0_pour_1 : List UInt8 := [28, 155, 0, 17, 21, 4, 155, 0, 12, 21, 5, 155, 0, 7, 4, 167, 0, 4, 3, 4, 182, 0, 112, 42]
abbrev dktX0_pour_1 : List UInt8 := dkwX0_pour_1 ++ dktX0_pour_2
def dkwX0_pour_0 : List UInt8 := [42, 3, 181, 0, 87, 42, 27, 155, 0, 35, 27, 7, 162, 0, 30, 29, 155, 0, 26, 29, 7, 162, 0, 21]
abbrev dktX0_pour_0 : List UInt8 := dkwX0_pour_0 ++ dktX0_pour_1
theorem dksX0_pour_0 : cX0_pour.data.toList.drop 0 = dktX0_pour_0 := by decide +kernel
theorem dksX0_pour_1 : cX0_pour.data.toList.drop 24 = dktX0_pour_1 := dk_seg dksX0_pour_0 24 rfl rfl
theorem dksX0_pour_2 : cX0_pour.data.toList.drop 48 = dktX0_pour_2 := dk_seg dksX0_pour_1 24 rfl rfl
theorem dksX0_pour_3 : cX0_pour.data.toList.drop 72 = dktX0_pour_3 := dk_seg dksX0_pour_2 24 rfl rfl
theorem dksX0_pour_4 : cX0_pour.data.toList.drop 94 = dktX0_pour_4 := dk_seg dksX0_pour_3 22 rfl rfl
theorem dksX0_pour_5 : cX0_pour.data.toList.drop 118 = dktX0_pour_5 := dk_seg dksX0_pour_4 24 rfl rfl
theorem dX0_pour_0 : decode cX0_pour 0 = .ok (.aload_n 0, 1) := dk_42 (dk_at dksX0_pour_0 0 rfl rfl)
theorem dX0_pour_1 : decode cX0_pour 1 = .ok (.iconst 0, 1) := dk_3 (dk_at dksX0_pour_0 1 rfl rfl)
theorem dX0_pour_2 : decode cX0_pour 2 = .ok (.putfield 87, 3) := dk_181 0 87 (dk_at dksX0_pour_0 2 rfl rfl)
theorem dX0_pour_5 : decode cX0_pour 5 = .ok (.aload_n 0, 1) := dk_42 (dk_at dksX0_pour_0 5 rfl rfl)
theorem dX0_pour_6 : decode cX0_pour 6 = .ok (.iload_n 1, 1) := dk_27 (dk_at dksX0_pour_0 6 rfl rfl)
theorem dX0_pour_7 : decode cX0_pour 7 = .ok (.ifCond .lt 35, 3) := dk_155 0 35 (dk_at dksX0_pour_0 7 rfl rfl)
theorem dX0_pour_10 : decode cX0_pour 10 = .ok (.iload_n 1, 1) := dk_27 (dk_at dksX0_pour_0 10 rfl rfl)
theorem dX0_pour_11 : decode cX0_pour 11 = .ok (.iconst 4, 1) := dk_7 (dk_at dksX0_pour_0 11 rfl rfl)
theorem dX0_pour_12 : decode cX0_pour 12 = .ok (.if_icmp .ge 30, 3) := dk_162 0 30 (dk_at dksX0_pour_0 12 rfl rfl)
theorem dX0_pour_15 : decode cX0_pour 15 = .ok (.iload_n 3, 1) := dk_29 (dk_at dksX0_pour_0 15 rfl rfl)
theorem dX0_pour_16 : decode cX0_pour 16 = .ok (.ifCond .lt 26, 3) := dk_155 0 26 (dk_at dksX0_pour_0 16 rfl rfl)
theorem dX0_pour_19 : decode cX0_pour 19 = .ok (.iload_n 3, 1) := dk_29 (dk_at dksX0_pour_0 19 rfl rfl)
theorem dX0_pour_20 : decode cX0_pour 20 = .ok (.iconst 4, 1) := dk_7 (dk_at dksX0_pour_0 20 rfl rfl)
theorem dX0_pour_21 : decode cX0_pour 21 = .ok (.if_icmp .ge 21, 3) := dk_162 0 21 (dk_at dksX0_pour_0 21 rfl rfl)
theorem dX0_pour_24 : decode cX0_pour 24 = .ok (.iload_n 2, 1) := dk_28 (dk_at dksX0_pour_1 0 rfl rfl)
theorem dX0_pour_25 : decode cX0_pour 25 = .ok (.ifCond .lt 17, 3) := dk_155 0 17 (dk_at dksX0_pour_1 1 rfl rfl)
theorem dX0_pour_28 : decode cX0_pour 28 = .ok (.iload 4, 2) := dk_21 4 (dk_at dksX0_pour_1 4 rfl rfl)
theorem dX0_pour_30 : decode cX0_pour 30 = .ok (.ifCond .lt 12, 3) := dk_155 0 12 (dk_at dksX0_pour_1 6 rfl rfl)
theorem dX0_pour_33 : decode cX0_pour 33 = .ok (.iload 5, 2) := dk_21 5 (dk_at dksX0_pour_1 9 rfl rfl)
theorem dX0_pour_35 : decode cX0_pour 35 = .ok (.ifCond .lt 7, 3) := dk_155 0 7 (dk_at dksX0_pour_1 11 rfl rfl)
theorem dX0_pour_38 : decode cX0_pour 38 = .ok (.iconst 1, 1) := dk_4 (dk_at dksX0_pour_1 14 rfl rfl)
theorem dX0_pour_39 : decode cX0_pour 39 = .ok (.goto 4, 3) := dk_167 0 4 (dk_at dksX0_pour_1 15 rfl rfl)
theorem dX0_pour_42 : decode cX0_pour 42 = .ok (.iconst 0, 1) := dk_3 (dk_at dksX0_pour_1 18 rfl rfl)
theorem dX0_pour_43 : decode cX0_pour 43 = .ok (.iconst 1, 1) := dk_4 (dk_at dksX0_pour_1 19 rfl rfl)
theorem dX0_pour_44 : decode cX0_pour 44 = .ok (.invokevirtual 112, 3) := dk_182 0 112 (dk_at dksX0_pour_1 20 rfl rfl)
theorem dX0_pour_47 : decode cX0_pour 47 = .ok (.aload_n 0, 1) := dk_42 (dk_at dksX0_pour_1 23 rfl rfl)
theorem dX0_pour_48 : decode cX0_pour 48 = .ok (.iload_n 1, 1) := dk_27 (dk_at dksX0_pour_2 0 rfl rfl)
theorem dX0_pour_49 : decode cX0_pour 49 = .ok (.invokevirtual 129, 3) := dk_182 0 129 (dk_at dksX0_pour_2 1 rfl rfl)
theorem dX0_pour_52 : decode cX0_pour 52 = .ok (.astore 6, 2) := dk_58 6 (dk_at dksX0_pour_2 4 rfl rfl)
theorem dX0_pour_54 : decode cX0_pour 54 = .ok (.aload_n 0, 1) := dk_42 (dk_at dksX0_pour_2 6 rfl rfl)
theorem dX0_pour_55 : decode cX0_pour 55 = .ok (.iload_n 3, 1) := dk_29 (dk_at dksX0_pour_2 7 rfl rfl)
theorem dX0_pour_56 : decode cX0_pour 56 = .ok (.invokevirtual 129, 3) := dk_182 0 129 (dk_at dksX0_pour_2 8 rfl rfl)
theorem dX0_pour_59 : decode cX0_pour 59 = .ok (.astore 7, 2) := dk_58 7 (dk_at dksX0_pour_2 11 rfl rfl)
theorem dX0_pour_61 : decode cX0_pour 61 = .ok (.aload_n 0, 1) := dk_42 (dk_at dksX0_pour_2 13 rfl rfl)
theorem dX0_pour_62 : decode cX0_pour 62 = .ok (.aload 6, 2) := dk_25 6 (dk_at dksX0_pour_2 14 rfl rfl)
theorem dX0_pour_64 : decode cX0_pour 64 = .ok (.invokestatic 149, 3) := dk_184 0 149 (dk_at dksX0_pour_2 16 rfl rfl)
theorem dX0_pour_67 : decode cX0_pour 67 = .ok (.aload 7, 2) := dk_25 7 (dk_at dksX0_pour_2 19 rfl rfl)
theorem dX0_pour_69 : decode cX0_pour 69 = .ok (.invokestatic 149, 3) := dk_184 0 149 (dk_at dksX0_pour_2 21 rfl rfl)
theorem dX0_pour_72 : decode cX0_pour 72 = .ok (.if_icmp .ne 7, 3) := dk_160 0 7 (dk_at dksX0_pour_3 0 rfl rfl)
theorem dX0_pour_75 : decode cX0_pour 75 = .ok (.iconst 1, 1) := dk_4 (dk_at dksX0_pour_3 3 rfl rfl)
theorem dX0_pour_76 : decode cX0_pour 76 = .ok (.goto 4, 3) := dk_167 0 4 (dk_at dksX0_pour_3 4 rfl rfl)
theorem dX0_pour_79 : decode cX0_pour 79 = .ok (.iconst 0, 1) := dk_3 (dk_at dksX0_pour_3 7 rfl rfl)
theorem dX0_pour_80 : decode cX0_pour 80 = .ok (.bipush 8, 2) := dk_16 8 (dk_at dksX0_pour_3 8 rfl rfl)
theorem dX0_pour_82 : decode cX0_pour 82 = .ok (.invokevirtual 112, 3) := dk_182 0 112 (dk_at dksX0_pour_3 10 rfl rfl)
theorem dX0_pour_85 : decode cX0_pour 85 = .ok (.aload 6, 2) := dk_25 6 (dk_at dksX0_pour_3 13 rfl rfl)
theorem dX0_pour_87 : decode cX0_pour 87 = .ok (.iload_n 2, 1) := dk_28 (dk_at dksX0_pour_3 15 rfl rfl)
theorem dX0_pour_88 : decode cX0_pour 88 = .ok (.aload 7, 2) := dk_25 7 (dk_at dksX0_pour_3 16 rfl rfl)
theorem dX0_pour_90 : decode cX0_pour 90 = .ok (.iload 4, 2) := dk_21 4 (dk_at dksX0_pour_3 18 rfl rfl)
theorem dX0_pour_92 : decode cX0_pour 92 = .ok (.iload 5, 2) := dk_21 5 (dk_at dksX0_pour_3 20 rfl rfl)
theorem dX0_pour_94 : decode cX0_pour 94 = .ok (.invokestatic 153, 3) := dk_184 0 153 (dk_at dksX0_pour_4 0 rfl rfl)
theorem dX0_pour_97 : decode cX0_pour 97 = .ok (.goto 14, 3) := dk_167 0 14 (dk_at dksX0_pour_4 3 rfl rfl)
theorem dX0_pour_100 : decode cX0_pour 100 = .ok (.astore 8, 2) := dk_58 8 (dk_at dksX0_pour_4 6 rfl rfl)
theorem dX0_pour_102 : decode cX0_pour 102 = .ok (.aload_n 0, 1) := dk_42 (dk_at dksX0_pour_4 8 rfl rfl)
theorem dX0_pour_103 : decode cX0_pour 103 = .ok (.getfield 44, 3) := dk_180 0 44 (dk_at dksX0_pour_4 9 rfl rfl)
theorem dX0_pour_106 : decode cX0_pour 106 = .ok (.iconst 3, 1) := dk_6 (dk_at dksX0_pour_4 12 rfl rfl)
theorem dX0_pour_107 : decode cX0_pour 107 = .ok (.invokevirtual 93, 3) := dk_182 0 93 (dk_at dksX0_pour_4 13 rfl rfl)
theorem dX0_pour_110 : decode cX0_pour 110 = .ok (.athrow, 1) := dk_191 (dk_at dksX0_pour_4 16 rfl rfl)
theorem dX0_pour_111 : decode cX0_pour 111 = .ok (.iconst 1, 1) := dk_4 (dk_at dksX0_pour_4 17 rfl rfl)
theorem dX0_pour_112 : decode cX0_pour 112 = .ok (.ireturn, 1) := dk_172 (dk_at dksX0_pour_4 18 rfl rfl)
theorem dX0_pour_113 : decode cX0_pour 113 = .ok (.astore 6, 2) := dk_58 6 (dk_at dksX0_pour_4 19 rfl rfl)
theorem dX0_pour_115 : decode cX0_pour 115 = .ok (.aload_n 0, 1) := dk_42 (dk_at dksX0_pour_4 21 rfl rfl)
theorem dX0_pour_116 : decode cX0_pour 116 = .ok (.aload 6, 2) := dk_25 6 (dk_at dksX0_pour_4 22 rfl rfl)
theorem dX0_pour_118 : decode cX0_pour 118 = .ok (.invokevirtual 125, 3) := dk_182 0 125 (dk_at dksX0_pour_5 0 rfl rfl)
theorem dX0_pour_121 : decode cX0_pour 121 = .ok (.ireturn, 1) := dk_172 (dk_at dksX0_pour_5 3 rfl rfl)
abbrev cX0_sortOf : ByteArray := prog_1_method_2_code
def yX0_sortOf : MethodName := ⟨RX0, "sortOf", "(Ljava/lang/Object;)I"⟩
def dkwX0_sortOf_1 : List UInt8 := [193, 0, 5, 153, 0, 7, 5, 167, 0, 4, 6, 172]
abbrev dktX0_sortOf_1 : List UInt8 := dkwX0_sortOf_1 ++ []
def dkwX0_sortOf_0 : List UInt8 := [42, 193, 0, 1, 153, 0, 7, 3, 167, 0, 26, 42, 193, 0, 3, 153, 0, 7, 4, 167, 0, 15, 42]
abbrev dktX0_sortOf_0 : List UInt8 := dkwX0_sortOf_0 ++ dktX0_sortOf_1
theorem dksX0_sortOf_0 : cX0_sortOf.data.toList.drop 0 = dktX0_sortOf_0 := by decide +kernel
theorem dksX0_sortOf_1 : cX0_sortOf.data.toList.drop 23 = dktX0_sortOf_1 := dk_seg dksX0_sortOf_0 23 rfl rfl
theorem dX0_sortOf_0 : decode cX0_sortOf 0 = .ok (.aload_n 0, 1) := dk_42 (dk_at dksX0_sortOf_0 0 rfl rfl)
theorem dX0_sortOf_1 : decode cX0_sortOf 1 = .ok (.instanceof 1, 3) := dk_193 0 1 (dk_at dksX0_sortOf_0 1 rfl rfl)
theorem dX0_sortOf_4 : decode cX0_sortOf 4 = .ok (.ifCond .eq 7, 3) := dk_153 0 7 (dk_at dksX0_sortOf_0 4 rfl rfl)
theorem dX0_sortOf_7 : decode cX0_sortOf 7 = .ok (.iconst 0, 1) := dk_3 (dk_at dksX0_sortOf_0 7 rfl rfl)
theorem dX0_sortOf_8 : decode cX0_sortOf 8 = .ok (.goto 26, 3) := dk_167 0 26 (dk_at dksX0_sortOf_0 8 rfl rfl)
theorem dX0_sortOf_11 : decode cX0_sortOf 11 = .ok (.aload_n 0, 1) := dk_42 (dk_at dksX0_sortOf_0 11 rfl rfl)
theorem dX0_sortOf_12 : decode cX0_sortOf 12 = .ok (.instanceof 3, 3) := dk_193 0 3 (dk_at dksX0_sortOf_0 12 rfl rfl)
theorem dX0_sortOf_15 : decode cX0_sortOf 15 = .ok (.ifCond .eq 7, 3) := dk_153 0 7 (dk_at dksX0_sortOf_0 15 rfl rfl)
theorem dX0_sortOf_18 : decode cX0_sortOf 18 = .ok (.iconst 1, 1) := dk_4 (dk_at dksX0_sortOf_0 18 rfl rfl)
theorem dX0_sortOf_19 : decode cX0_sortOf 19 = .ok (.goto 15, 3) := dk_167 0 15 (dk_at dksX0_sortOf_0 19 rfl rfl)
theorem dX0_sortOf_22 : decode cX0_sortOf 22 = .ok (.aload_n 0, 1) := dk_42 (dk_at dksX0_sortOf_0 22 rfl rfl)
theorem dX0_sortOf_23 : decode cX0_sortOf 23 = .ok (.instanceof 5, 3) := dk_193 0 5 (dk_at dksX0_sortOf_1 0 rfl rfl)
theorem dX0_sortOf_26 : decode cX0_sortOf 26 = .ok (.ifCond .eq 7, 3) := dk_153 0 7 (dk_at dksX0_sortOf_1 3 rfl rfl)
theorem dX0_sortOf_29 : decode cX0_sortOf 29 = .ok (.iconst 2, 1) := dk_5 (dk_at dksX0_sortOf_1 6 rfl rfl)
theorem dX0_sortOf_30 : decode cX0_sortOf 30 = .ok (.goto 4, 3) := dk_167 0 4 (dk_at dksX0_sortOf_1 7 rfl rfl)
theorem dX0_sortOf_33 : decode cX0_sortOf 33 = .ok (.iconst 3, 1) := dk_6 (dk_at dksX0_sortOf_1 10 rfl rfl)
theorem dX0_sortOf_34 : decode cX0_sortOf 34 = .ok (.ireturn, 1) := dk_172 (dk_at dksX0_sortOf_1 11 rfl rfl)
abbrev cX0_feed : ByteArray := prog_1_method_25_code
def yX0_feed : MethodName := ⟨RX0, "feed", "(IIIII)I"⟩
def dkwX0_feed_2 : List UInt8 := [172]
abbrev dktX0_feed_2 : List UInt8 := dkwX0_feed_2 ++ []
def dkwX0_feed_1 : List UInt8 := [182, 0, 188, 42, 29, 182, 0, 188, 42, 21, 4, 182, 0, 188, 42, 21, 5, 182, 0, 188, 42, 180, 0, 185]
abbrev dktX0_feed_1 : List UInt8 := dkwX0_feed_1 ++ dktX0_feed_2
def dkwX0_feed_0 : List UInt8 := [42, 180, 0, 185, 16, 20, 96, 17, 3, 132, 164, 0, 5, 2, 172, 42, 27, 182, 0, 188, 42, 28]
abbrev dktX0_feed_0 : List UInt8 := dkwX0_feed_0 ++ dktX0_feed_1
theorem dksX0_feed_0 : cX0_feed.data.toList.drop 0 = dktX0_feed_0 := by decide +kernel
theorem dksX0_feed_1 : cX0_feed.data.toList.drop 22 = dktX0_feed_1 := dk_seg dksX0_feed_0 22 rfl rfl
theorem dksX0_feed_2 : cX0_feed.data.toList.drop 46 = dktX0_feed_2 := dk_seg dksX0_feed_1 24 rfl rfl
theorem dX0_feed_0 : decode cX0_feed 0 = .ok (.aload_n 0, 1) := dk_42 (dk_at dksX0_feed_0 0 rfl rfl)
theorem dX0_feed_1 : decode cX0_feed 1 = .ok (.getfield 185, 3) := dk_180 0 185 (dk_at dksX0_feed_0 1 rfl rfl)
theorem dX0_feed_4 : decode cX0_feed 4 = .ok (.bipush 20, 2) := dk_16 20 (dk_at dksX0_feed_0 4 rfl rfl)
theorem dX0_feed_6 : decode cX0_feed 6 = .ok (.iadd, 1) := dk_96 (dk_at dksX0_feed_0 6 rfl rfl)
theorem dX0_feed_7 : decode cX0_feed 7 = .ok (.sipush 900, 3) := dk_17 3 132 (dk_at dksX0_feed_0 7 rfl rfl)
theorem dX0_feed_10 : decode cX0_feed 10 = .ok (.if_icmp .le 5, 3) := dk_164 0 5 (dk_at dksX0_feed_0 10 rfl rfl)
theorem dX0_feed_13 : decode cX0_feed 13 = .ok (.iconst (-1), 1) := dk_2 (dk_at dksX0_feed_0 13 rfl rfl)
theorem dX0_feed_14 : decode cX0_feed 14 = .ok (.ireturn, 1) := dk_172 (dk_at dksX0_feed_0 14 rfl rfl)
theorem dX0_feed_15 : decode cX0_feed 15 = .ok (.aload_n 0, 1) := dk_42 (dk_at dksX0_feed_0 15 rfl rfl)
theorem dX0_feed_16 : decode cX0_feed 16 = .ok (.iload_n 1, 1) := dk_27 (dk_at dksX0_feed_0 16 rfl rfl)
theorem dX0_feed_17 : decode cX0_feed 17 = .ok (.invokevirtual 188, 3) := dk_182 0 188 (dk_at dksX0_feed_0 17 rfl rfl)
theorem dX0_feed_20 : decode cX0_feed 20 = .ok (.aload_n 0, 1) := dk_42 (dk_at dksX0_feed_0 20 rfl rfl)
theorem dX0_feed_21 : decode cX0_feed 21 = .ok (.iload_n 2, 1) := dk_28 (dk_at dksX0_feed_0 21 rfl rfl)
theorem dX0_feed_22 : decode cX0_feed 22 = .ok (.invokevirtual 188, 3) := dk_182 0 188 (dk_at dksX0_feed_1 0 rfl rfl)
theorem dX0_feed_25 : decode cX0_feed 25 = .ok (.aload_n 0, 1) := dk_42 (dk_at dksX0_feed_1 3 rfl rfl)
theorem dX0_feed_26 : decode cX0_feed 26 = .ok (.iload_n 3, 1) := dk_29 (dk_at dksX0_feed_1 4 rfl rfl)
theorem dX0_feed_27 : decode cX0_feed 27 = .ok (.invokevirtual 188, 3) := dk_182 0 188 (dk_at dksX0_feed_1 5 rfl rfl)
theorem dX0_feed_30 : decode cX0_feed 30 = .ok (.aload_n 0, 1) := dk_42 (dk_at dksX0_feed_1 8 rfl rfl)
theorem dX0_feed_31 : decode cX0_feed 31 = .ok (.iload 4, 2) := dk_21 4 (dk_at dksX0_feed_1 9 rfl rfl)
theorem dX0_feed_33 : decode cX0_feed 33 = .ok (.invokevirtual 188, 3) := dk_182 0 188 (dk_at dksX0_feed_1 11 rfl rfl)
theorem dX0_feed_36 : decode cX0_feed 36 = .ok (.aload_n 0, 1) := dk_42 (dk_at dksX0_feed_1 14 rfl rfl)
theorem dX0_feed_37 : decode cX0_feed 37 = .ok (.iload 5, 2) := dk_21 5 (dk_at dksX0_feed_1 15 rfl rfl)
theorem dX0_feed_39 : decode cX0_feed 39 = .ok (.invokevirtual 188, 3) := dk_182 0 188 (dk_at dksX0_feed_1 17 rfl rfl)
theorem dX0_feed_42 : decode cX0_feed 42 = .ok (.aload_n 0, 1) := dk_42 (dk_at dksX0_feed_1 20 rfl rfl)
theorem dX0_feed_43 : decode cX0_feed 43 = .ok (.getfield 185, 3) := dk_180 0 185 (dk_at dksX0_feed_1 21 rfl rfl)
theorem dX0_feed_46 : decode cX0_feed 46 = .ok (.ireturn, 1) := dk_172 (dk_at dksX0_feed_2 0 rfl rfl)
abbrev cX0_lay : ByteArray := prog_1_method_26_code
def yX0_lay : MethodName := ⟨RX0, "lay", "(I)V"⟩
def dkwX0_lay_1 : List UInt8 := [180, 0, 185, 4, 96, 181, 0, 185, 132, 2, 248, 167, 255, 226, 177]
abbrev dktX0_lay_1 : List UInt8 := dkwX0_lay_1 ++ []
def dkwX0_lay_0 : List UInt8 := [16, 24, 61, 28, 155, 0, 32, 42, 180, 0, 24, 42, 180, 0, 185, 27, 28, 122, 145, 84, 42, 89]
abbrev dktX0_lay_0 : List UInt8 := dkwX0_lay_0 ++ dktX0_lay_1
theorem dksX0_lay_0 : cX0_lay.data.toList.drop 0 = dktX0_lay_0 := by decide +kernel
theorem dksX0_lay_1 : cX0_lay.data.toList.drop 22 = dktX0_lay_1 := dk_seg dksX0_lay_0 22 rfl rfl
theorem dX0_lay_0 : decode cX0_lay 0 = .ok (.bipush 24, 2) := dk_16 24 (dk_at dksX0_lay_0 0 rfl rfl)
theorem dX0_lay_2 : decode cX0_lay 2 = .ok (.istore_n 2, 1) := dk_61 (dk_at dksX0_lay_0 2 rfl rfl)
theorem dX0_lay_3 : decode cX0_lay 3 = .ok (.iload_n 2, 1) := dk_28 (dk_at dksX0_lay_0 3 rfl rfl)
theorem dX0_lay_4 : decode cX0_lay 4 = .ok (.ifCond .lt 32, 3) := dk_155 0 32 (dk_at dksX0_lay_0 4 rfl rfl)
theorem dX0_lay_7 : decode cX0_lay 7 = .ok (.aload_n 0, 1) := dk_42 (dk_at dksX0_lay_0 7 rfl rfl)
theorem dX0_lay_8 : decode cX0_lay 8 = .ok (.getfield 24, 3) := dk_180 0 24 (dk_at dksX0_lay_0 8 rfl rfl)
theorem dX0_lay_11 : decode cX0_lay 11 = .ok (.aload_n 0, 1) := dk_42 (dk_at dksX0_lay_0 11 rfl rfl)
theorem dX0_lay_12 : decode cX0_lay 12 = .ok (.getfield 185, 3) := dk_180 0 185 (dk_at dksX0_lay_0 12 rfl rfl)
theorem dX0_lay_15 : decode cX0_lay 15 = .ok (.iload_n 1, 1) := dk_27 (dk_at dksX0_lay_0 15 rfl rfl)
theorem dX0_lay_16 : decode cX0_lay 16 = .ok (.iload_n 2, 1) := dk_28 (dk_at dksX0_lay_0 16 rfl rfl)
theorem dX0_lay_17 : decode cX0_lay 17 = .ok (.ishr, 1) := dk_122 (dk_at dksX0_lay_0 17 rfl rfl)
theorem dX0_lay_18 : decode cX0_lay 18 = .ok (.i2b, 1) := dk_145 (dk_at dksX0_lay_0 18 rfl rfl)
theorem dX0_lay_19 : decode cX0_lay 19 = .ok (.bastore, 1) := dk_84 (dk_at dksX0_lay_0 19 rfl rfl)
theorem dX0_lay_20 : decode cX0_lay 20 = .ok (.aload_n 0, 1) := dk_42 (dk_at dksX0_lay_0 20 rfl rfl)
theorem dX0_lay_21 : decode cX0_lay 21 = .ok (.dup, 1) := dk_89 (dk_at dksX0_lay_0 21 rfl rfl)
theorem dX0_lay_22 : decode cX0_lay 22 = .ok (.getfield 185, 3) := dk_180 0 185 (dk_at dksX0_lay_1 0 rfl rfl)
theorem dX0_lay_25 : decode cX0_lay 25 = .ok (.iconst 1, 1) := dk_4 (dk_at dksX0_lay_1 3 rfl rfl)
theorem dX0_lay_26 : decode cX0_lay 26 = .ok (.iadd, 1) := dk_96 (dk_at dksX0_lay_1 4 rfl rfl)
theorem dX0_lay_27 : decode cX0_lay 27 = .ok (.putfield 185, 3) := dk_181 0 185 (dk_at dksX0_lay_1 5 rfl rfl)
theorem dX0_lay_30 : decode cX0_lay 30 = .ok (.iinc 2 (-8), 3) := dk_132 2 248 (dk_at dksX0_lay_1 8 rfl rfl)
theorem dX0_lay_33 : decode cX0_lay 33 = .ok (.goto (-30), 3) := dk_167 255 226 (dk_at dksX0_lay_1 11 rfl rfl)
theorem dX0_lay_36 : decode cX0_lay 36 = .ok (.return_, 1) := dk_177 (dk_at dksX0_lay_1 14 rfl rfl)
abbrev cX0_court : ByteArray := prog_1_method_29_code
def yX0_court : MethodName := ⟨RX0, "court", "(I)I"⟩
def dkwX0_court_3 : List UInt8 := [182, 0, 228, 172]
abbrev dktX0_court_3 : List UInt8 := dkwX0_court_3 ++ []
def dkwX0_court_2 : List UInt8 := [180, 0, 211, 182, 0, 215, 42, 180, 0, 55, 1, 181, 0, 220, 44, 182, 0, 224, 172, 77, 42, 44]
abbrev dktX0_court_2 : List UInt8 := dkwX0_court_2 ++ dktX0_court_3
def dkwX0_court_1 : List UInt8 := [89, 42, 27, 183, 0, 205, 44, 182, 0, 208, 42, 180, 0, 55, 44, 181, 0, 161, 42, 180, 0, 55]
abbrev dktX0_court_1 : List UInt8 := dkwX0_court_1 ++ dktX0_court_2
def dkwX0_court_0 : List UInt8 := [42, 27, 17, 3, 132, 182, 0, 198, 154, 0, 5, 2, 172, 187, 0, 169, 89, 183, 0, 202, 77, 187, 0, 203]
abbrev dktX0_court_0 : List UInt8 := dkwX0_court_0 ++ dktX0_court_1
theorem dksX0_court_0 : cX0_court.data.toList.drop 0 = dktX0_court_0 := by decide +kernel
theorem dksX0_court_1 : cX0_court.data.toList.drop 24 = dktX0_court_1 := dk_seg dksX0_court_0 24 rfl rfl
theorem dksX0_court_2 : cX0_court.data.toList.drop 46 = dktX0_court_2 := dk_seg dksX0_court_1 22 rfl rfl
theorem dksX0_court_3 : cX0_court.data.toList.drop 68 = dktX0_court_3 := dk_seg dksX0_court_2 22 rfl rfl
theorem dX0_court_0 : decode cX0_court 0 = .ok (.aload_n 0, 1) := dk_42 (dk_at dksX0_court_0 0 rfl rfl)
theorem dX0_court_1 : decode cX0_court 1 = .ok (.iload_n 1, 1) := dk_27 (dk_at dksX0_court_0 1 rfl rfl)
theorem dX0_court_2 : decode cX0_court 2 = .ok (.sipush 900, 3) := dk_17 3 132 (dk_at dksX0_court_0 2 rfl rfl)
theorem dX0_court_5 : decode cX0_court 5 = .ok (.invokevirtual 198, 3) := dk_182 0 198 (dk_at dksX0_court_0 5 rfl rfl)
theorem dX0_court_8 : decode cX0_court 8 = .ok (.ifCond .ne 5, 3) := dk_154 0 5 (dk_at dksX0_court_0 8 rfl rfl)
theorem dX0_court_11 : decode cX0_court 11 = .ok (.iconst (-1), 1) := dk_2 (dk_at dksX0_court_0 11 rfl rfl)
theorem dX0_court_12 : decode cX0_court 12 = .ok (.ireturn, 1) := dk_172 (dk_at dksX0_court_0 12 rfl rfl)
theorem dX0_court_13 : decode cX0_court 13 = .ok (.new 169, 3) := dk_187 0 169 (dk_at dksX0_court_0 13 rfl rfl)
theorem dX0_court_16 : decode cX0_court 16 = .ok (.dup, 1) := dk_89 (dk_at dksX0_court_0 16 rfl rfl)
theorem dX0_court_17 : decode cX0_court 17 = .ok (.invokespecial 202, 3) := dk_183 0 202 (dk_at dksX0_court_0 17 rfl rfl)
theorem dX0_court_20 : decode cX0_court 20 = .ok (.astore_n 2, 1) := dk_77 (dk_at dksX0_court_0 20 rfl rfl)
theorem dX0_court_21 : decode cX0_court 21 = .ok (.new 203, 3) := dk_187 0 203 (dk_at dksX0_court_0 21 rfl rfl)
theorem dX0_court_24 : decode cX0_court 24 = .ok (.dup, 1) := dk_89 (dk_at dksX0_court_1 0 rfl rfl)
theorem dX0_court_25 : decode cX0_court 25 = .ok (.aload_n 0, 1) := dk_42 (dk_at dksX0_court_1 1 rfl rfl)
theorem dX0_court_26 : decode cX0_court 26 = .ok (.iload_n 1, 1) := dk_27 (dk_at dksX0_court_1 2 rfl rfl)
theorem dX0_court_27 : decode cX0_court 27 = .ok (.invokespecial 205, 3) := dk_183 0 205 (dk_at dksX0_court_1 3 rfl rfl)
theorem dX0_court_30 : decode cX0_court 30 = .ok (.aload_n 2, 1) := dk_44 (dk_at dksX0_court_1 6 rfl rfl)
theorem dX0_court_31 : decode cX0_court 31 = .ok (.invokevirtual 208, 3) := dk_182 0 208 (dk_at dksX0_court_1 7 rfl rfl)
theorem dX0_court_34 : decode cX0_court 34 = .ok (.aload_n 0, 1) := dk_42 (dk_at dksX0_court_1 10 rfl rfl)
theorem dX0_court_35 : decode cX0_court 35 = .ok (.getfield 55, 3) := dk_180 0 55 (dk_at dksX0_court_1 11 rfl rfl)
theorem dX0_court_38 : decode cX0_court 38 = .ok (.aload_n 2, 1) := dk_44 (dk_at dksX0_court_1 14 rfl rfl)
theorem dX0_court_39 : decode cX0_court 39 = .ok (.putfield 161, 3) := dk_181 0 161 (dk_at dksX0_court_1 15 rfl rfl)
theorem dX0_court_42 : decode cX0_court 42 = .ok (.aload_n 0, 1) := dk_42 (dk_at dksX0_court_1 18 rfl rfl)
theorem dX0_court_43 : decode cX0_court 43 = .ok (.getfield 55, 3) := dk_180 0 55 (dk_at dksX0_court_1 19 rfl rfl)
theorem dX0_court_46 : decode cX0_court 46 = .ok (.getfield 211, 3) := dk_180 0 211 (dk_at dksX0_court_2 0 rfl rfl)
theorem dX0_court_49 : decode cX0_court 49 = .ok (.invokevirtual 215, 3) := dk_182 0 215 (dk_at dksX0_court_2 3 rfl rfl)
theorem dX0_court_52 : decode cX0_court 52 = .ok (.aload_n 0, 1) := dk_42 (dk_at dksX0_court_2 6 rfl rfl)
theorem dX0_court_53 : decode cX0_court 53 = .ok (.getfield 55, 3) := dk_180 0 55 (dk_at dksX0_court_2 7 rfl rfl)
theorem dX0_court_56 : decode cX0_court 56 = .ok (.aconst_null, 1) := dk_1 (dk_at dksX0_court_2 10 rfl rfl)
theorem dX0_court_57 : decode cX0_court 57 = .ok (.putfield 220, 3) := dk_181 0 220 (dk_at dksX0_court_2 11 rfl rfl)
theorem dX0_court_60 : decode cX0_court 60 = .ok (.aload_n 2, 1) := dk_44 (dk_at dksX0_court_2 14 rfl rfl)
theorem dX0_court_61 : decode cX0_court 61 = .ok (.invokevirtual 224, 3) := dk_182 0 224 (dk_at dksX0_court_2 15 rfl rfl)
theorem dX0_court_64 : decode cX0_court 64 = .ok (.ireturn, 1) := dk_172 (dk_at dksX0_court_2 18 rfl rfl)
theorem dX0_court_65 : decode cX0_court 65 = .ok (.astore_n 2, 1) := dk_77 (dk_at dksX0_court_2 19 rfl rfl)
theorem dX0_court_66 : decode cX0_court 66 = .ok (.aload_n 0, 1) := dk_42 (dk_at dksX0_court_2 20 rfl rfl)
theorem dX0_court_67 : decode cX0_court 67 = .ok (.aload_n 2, 1) := dk_44 (dk_at dksX0_court_2 21 rfl rfl)
theorem dX0_court_68 : decode cX0_court 68 = .ok (.invokevirtual 228, 3) := dk_182 0 228 (dk_at dksX0_court_3 0 rfl rfl)
theorem dX0_court_71 : decode cX0_court 71 = .ok (.ireturn, 1) := dk_172 (dk_at dksX0_court_3 3 rfl rfl)
abbrev cX0_opens : ByteArray := prog_1_method_27_code
def yX0_opens : MethodName := ⟨RX0, "opens", "(II)Z"⟩
def dkwX0_opens_2 : List UInt8 := [181, 0, 31, 4, 172]
abbrev dktX0_opens_2 : List UInt8 := dkwX0_opens_2 ++ []
def dkwX0_opens_1 : List UInt8 := [181, 0, 87, 42, 180, 0, 87, 158, 0, 5, 3, 172, 42, 3, 181, 0, 185, 42, 3, 181, 0, 27, 42, 2]
abbrev dktX0_opens_1 : List UInt8 := dkwX0_opens_1 ++ dktX0_opens_2
def dkwX0_opens_0 : List UInt8 := [42, 27, 155, 0, 16, 27, 42, 180, 0, 185, 163, 0, 8, 27, 28, 164, 0, 7, 4, 167, 0, 4, 3]
abbrev dktX0_opens_0 : List UInt8 := dkwX0_opens_0 ++ dktX0_opens_1
theorem dksX0_opens_0 : cX0_opens.data.toList.drop 0 = dktX0_opens_0 := by decide +kernel
theorem dksX0_opens_1 : cX0_opens.data.toList.drop 23 = dktX0_opens_1 := dk_seg dksX0_opens_0 23 rfl rfl
theorem dksX0_opens_2 : cX0_opens.data.toList.drop 47 = dktX0_opens_2 := dk_seg dksX0_opens_1 24 rfl rfl
theorem dX0_opens_0 : decode cX0_opens 0 = .ok (.aload_n 0, 1) := dk_42 (dk_at dksX0_opens_0 0 rfl rfl)
theorem dX0_opens_1 : decode cX0_opens 1 = .ok (.iload_n 1, 1) := dk_27 (dk_at dksX0_opens_0 1 rfl rfl)
theorem dX0_opens_2 : decode cX0_opens 2 = .ok (.ifCond .lt 16, 3) := dk_155 0 16 (dk_at dksX0_opens_0 2 rfl rfl)
theorem dX0_opens_5 : decode cX0_opens 5 = .ok (.iload_n 1, 1) := dk_27 (dk_at dksX0_opens_0 5 rfl rfl)
theorem dX0_opens_6 : decode cX0_opens 6 = .ok (.aload_n 0, 1) := dk_42 (dk_at dksX0_opens_0 6 rfl rfl)
theorem dX0_opens_7 : decode cX0_opens 7 = .ok (.getfield 185, 3) := dk_180 0 185 (dk_at dksX0_opens_0 7 rfl rfl)
theorem dX0_opens_10 : decode cX0_opens 10 = .ok (.if_icmp .gt 8, 3) := dk_163 0 8 (dk_at dksX0_opens_0 10 rfl rfl)
theorem dX0_opens_13 : decode cX0_opens 13 = .ok (.iload_n 1, 1) := dk_27 (dk_at dksX0_opens_0 13 rfl rfl)
theorem dX0_opens_14 : decode cX0_opens 14 = .ok (.iload_n 2, 1) := dk_28 (dk_at dksX0_opens_0 14 rfl rfl)
theorem dX0_opens_15 : decode cX0_opens 15 = .ok (.if_icmp .le 7, 3) := dk_164 0 7 (dk_at dksX0_opens_0 15 rfl rfl)
theorem dX0_opens_18 : decode cX0_opens 18 = .ok (.iconst 1, 1) := dk_4 (dk_at dksX0_opens_0 18 rfl rfl)
theorem dX0_opens_19 : decode cX0_opens 19 = .ok (.goto 4, 3) := dk_167 0 4 (dk_at dksX0_opens_0 19 rfl rfl)
theorem dX0_opens_22 : decode cX0_opens 22 = .ok (.iconst 0, 1) := dk_3 (dk_at dksX0_opens_0 22 rfl rfl)
theorem dX0_opens_23 : decode cX0_opens 23 = .ok (.putfield 87, 3) := dk_181 0 87 (dk_at dksX0_opens_1 0 rfl rfl)
theorem dX0_opens_26 : decode cX0_opens 26 = .ok (.aload_n 0, 1) := dk_42 (dk_at dksX0_opens_1 3 rfl rfl)
theorem dX0_opens_27 : decode cX0_opens 27 = .ok (.getfield 87, 3) := dk_180 0 87 (dk_at dksX0_opens_1 4 rfl rfl)
theorem dX0_opens_30 : decode cX0_opens 30 = .ok (.ifCond .le 5, 3) := dk_158 0 5 (dk_at dksX0_opens_1 7 rfl rfl)
theorem dX0_opens_33 : decode cX0_opens 33 = .ok (.iconst 0, 1) := dk_3 (dk_at dksX0_opens_1 10 rfl rfl)
theorem dX0_opens_34 : decode cX0_opens 34 = .ok (.ireturn, 1) := dk_172 (dk_at dksX0_opens_1 11 rfl rfl)
theorem dX0_opens_35 : decode cX0_opens 35 = .ok (.aload_n 0, 1) := dk_42 (dk_at dksX0_opens_1 12 rfl rfl)
theorem dX0_opens_36 : decode cX0_opens 36 = .ok (.iconst 0, 1) := dk_3 (dk_at dksX0_opens_1 13 rfl rfl)
theorem dX0_opens_37 : decode cX0_opens 37 = .ok (.putfield 185, 3) := dk_181 0 185 (dk_at dksX0_opens_1 14 rfl rfl)
theorem dX0_opens_40 : decode cX0_opens 40 = .ok (.aload_n 0, 1) := dk_42 (dk_at dksX0_opens_1 17 rfl rfl)
theorem dX0_opens_41 : decode cX0_opens 41 = .ok (.iconst 0, 1) := dk_3 (dk_at dksX0_opens_1 18 rfl rfl)
theorem dX0_opens_42 : decode cX0_opens 42 = .ok (.putfield 27, 3) := dk_181 0 27 (dk_at dksX0_opens_1 19 rfl rfl)
theorem dX0_opens_45 : decode cX0_opens 45 = .ok (.aload_n 0, 1) := dk_42 (dk_at dksX0_opens_1 22 rfl rfl)
theorem dX0_opens_46 : decode cX0_opens 46 = .ok (.iconst (-1), 1) := dk_2 (dk_at dksX0_opens_1 23 rfl rfl)
theorem dX0_opens_47 : decode cX0_opens 47 = .ok (.putfield 31, 3) := dk_181 0 31 (dk_at dksX0_opens_2 0 rfl rfl)
theorem dX0_opens_50 : decode cX0_opens 50 = .ok (.iconst 1, 1) := dk_4 (dk_at dksX0_opens_2 3 rfl rfl)
theorem dX0_opens_51 : decode cX0_opens 51 = .ok (.ireturn, 1) := dk_172 (dk_at dksX0_opens_2 4 rfl rfl)
abbrev cX0_faulty : ByteArray := prog_1_method_28_code
def yX0_faulty : MethodName := ⟨RX0, "faulty", "(LAskingCourt$Bad;)I"⟩
def dkwX0_faulty_0 : List UInt8 := [42, 43, 180, 0, 192, 181, 0, 27, 42, 43, 180, 0, 195, 181, 0, 31, 42, 16, 9, 181, 0, 87, 2, 172]
abbrev dktX0_faulty_0 : List UInt8 := dkwX0_faulty_0 ++ []
theorem dksX0_faulty_0 : cX0_faulty.data.toList.drop 0 = dktX0_faulty_0 := by decide +kernel
theorem dX0_faulty_0 : decode cX0_faulty 0 = .ok (.aload_n 0, 1) := dk_42 (dk_at dksX0_faulty_0 0 rfl rfl)
theorem dX0_faulty_1 : decode cX0_faulty 1 = .ok (.aload_n 1, 1) := dk_43 (dk_at dksX0_faulty_0 1 rfl rfl)
theorem dX0_faulty_2 : decode cX0_faulty 2 = .ok (.getfield 192, 3) := dk_180 0 192 (dk_at dksX0_faulty_0 2 rfl rfl)
theorem dX0_faulty_5 : decode cX0_faulty 5 = .ok (.putfield 27, 3) := dk_181 0 27 (dk_at dksX0_faulty_0 5 rfl rfl)
theorem dX0_faulty_8 : decode cX0_faulty 8 = .ok (.aload_n 0, 1) := dk_42 (dk_at dksX0_faulty_0 8 rfl rfl)
theorem dX0_faulty_9 : decode cX0_faulty 9 = .ok (.aload_n 1, 1) := dk_43 (dk_at dksX0_faulty_0 9 rfl rfl)
theorem dX0_faulty_10 : decode cX0_faulty 10 = .ok (.getfield 195, 3) := dk_180 0 195 (dk_at dksX0_faulty_0 10 rfl rfl)
theorem dX0_faulty_13 : decode cX0_faulty 13 = .ok (.putfield 31, 3) := dk_181 0 31 (dk_at dksX0_faulty_0 13 rfl rfl)
theorem dX0_faulty_16 : decode cX0_faulty 16 = .ok (.aload_n 0, 1) := dk_42 (dk_at dksX0_faulty_0 16 rfl rfl)
theorem dX0_faulty_17 : decode cX0_faulty 17 = .ok (.bipush 9, 2) := dk_16 9 (dk_at dksX0_faulty_0 17 rfl rfl)
theorem dX0_faulty_19 : decode cX0_faulty 19 = .ok (.putfield 87, 3) := dk_181 0 87 (dk_at dksX0_faulty_0 19 rfl rfl)
theorem dX0_faulty_22 : decode cX0_faulty 22 = .ok (.iconst (-1), 1) := dk_2 (dk_at dksX0_faulty_0 22 rfl rfl)
theorem dX0_faulty_23 : decode cX0_faulty 23 = .ok (.ireturn, 1) := dk_172 (dk_at dksX0_faulty_0 23 rfl rfl)
abbrev cX0_plan : ByteArray := prog_1_method_30_code
def yX0_plan : MethodName := ⟨RX0, "plan", "(I)I"⟩
def dkwX0_plan_2 : List UInt8 := [45, 180, 0, 238, 172, 77, 42, 44, 182, 0, 228, 172]
abbrev dktX0_plan_2 : List UInt8 := dkwX0_plan_2 ++ []
def dkwX0_plan_1 : List UInt8 := [89, 42, 27, 183, 0, 205, 78, 45, 42, 182, 0, 165, 44, 182, 0, 235, 42, 180, 0, 55, 44, 181, 0, 220]
abbrev dktX0_plan_1 : List UInt8 := dkwX0_plan_1 ++ dktX0_plan_2
def dkwX0_plan_0 : List UInt8 := [42, 27, 17, 1, 44, 182, 0, 198, 154, 0, 5, 2, 172, 187, 0, 232, 89, 183, 0, 234, 77, 187, 0, 203]
abbrev dktX0_plan_0 : List UInt8 := dkwX0_plan_0 ++ dktX0_plan_1
theorem dksX0_plan_0 : cX0_plan.data.toList.drop 0 = dktX0_plan_0 := by decide +kernel
theorem dksX0_plan_1 : cX0_plan.data.toList.drop 24 = dktX0_plan_1 := dk_seg dksX0_plan_0 24 rfl rfl
theorem dksX0_plan_2 : cX0_plan.data.toList.drop 48 = dktX0_plan_2 := dk_seg dksX0_plan_1 24 rfl rfl
theorem dX0_plan_0 : decode cX0_plan 0 = .ok (.aload_n 0, 1) := dk_42 (dk_at dksX0_plan_0 0 rfl rfl)
theorem dX0_plan_1 : decode cX0_plan 1 = .ok (.iload_n 1, 1) := dk_27 (dk_at dksX0_plan_0 1 rfl rfl)
theorem dX0_plan_2 : decode cX0_plan 2 = .ok (.sipush 300, 3) := dk_17 1 44 (dk_at dksX0_plan_0 2 rfl rfl)
theorem dX0_plan_5 : decode cX0_plan 5 = .ok (.invokevirtual 198, 3) := dk_182 0 198 (dk_at dksX0_plan_0 5 rfl rfl)
theorem dX0_plan_8 : decode cX0_plan 8 = .ok (.ifCond .ne 5, 3) := dk_154 0 5 (dk_at dksX0_plan_0 8 rfl rfl)
theorem dX0_plan_11 : decode cX0_plan 11 = .ok (.iconst (-1), 1) := dk_2 (dk_at dksX0_plan_0 11 rfl rfl)
theorem dX0_plan_12 : decode cX0_plan 12 = .ok (.ireturn, 1) := dk_172 (dk_at dksX0_plan_0 12 rfl rfl)
theorem dX0_plan_13 : decode cX0_plan 13 = .ok (.new 232, 3) := dk_187 0 232 (dk_at dksX0_plan_0 13 rfl rfl)
theorem dX0_plan_16 : decode cX0_plan 16 = .ok (.dup, 1) := dk_89 (dk_at dksX0_plan_0 16 rfl rfl)
theorem dX0_plan_17 : decode cX0_plan 17 = .ok (.invokespecial 234, 3) := dk_183 0 234 (dk_at dksX0_plan_0 17 rfl rfl)
theorem dX0_plan_20 : decode cX0_plan 20 = .ok (.astore_n 2, 1) := dk_77 (dk_at dksX0_plan_0 20 rfl rfl)
theorem dX0_plan_21 : decode cX0_plan 21 = .ok (.new 203, 3) := dk_187 0 203 (dk_at dksX0_plan_0 21 rfl rfl)
theorem dX0_plan_24 : decode cX0_plan 24 = .ok (.dup, 1) := dk_89 (dk_at dksX0_plan_1 0 rfl rfl)
theorem dX0_plan_25 : decode cX0_plan 25 = .ok (.aload_n 0, 1) := dk_42 (dk_at dksX0_plan_1 1 rfl rfl)
theorem dX0_plan_26 : decode cX0_plan 26 = .ok (.iload_n 1, 1) := dk_27 (dk_at dksX0_plan_1 2 rfl rfl)
theorem dX0_plan_27 : decode cX0_plan 27 = .ok (.invokespecial 205, 3) := dk_183 0 205 (dk_at dksX0_plan_1 3 rfl rfl)
theorem dX0_plan_30 : decode cX0_plan 30 = .ok (.astore_n 3, 1) := dk_78 (dk_at dksX0_plan_1 6 rfl rfl)
theorem dX0_plan_31 : decode cX0_plan 31 = .ok (.aload_n 3, 1) := dk_45 (dk_at dksX0_plan_1 7 rfl rfl)
theorem dX0_plan_32 : decode cX0_plan 32 = .ok (.aload_n 0, 1) := dk_42 (dk_at dksX0_plan_1 8 rfl rfl)
theorem dX0_plan_33 : decode cX0_plan 33 = .ok (.invokevirtual 165, 3) := dk_182 0 165 (dk_at dksX0_plan_1 9 rfl rfl)
theorem dX0_plan_36 : decode cX0_plan 36 = .ok (.aload_n 2, 1) := dk_44 (dk_at dksX0_plan_1 12 rfl rfl)
theorem dX0_plan_37 : decode cX0_plan 37 = .ok (.invokevirtual 235, 3) := dk_182 0 235 (dk_at dksX0_plan_1 13 rfl rfl)
theorem dX0_plan_40 : decode cX0_plan 40 = .ok (.aload_n 0, 1) := dk_42 (dk_at dksX0_plan_1 16 rfl rfl)
theorem dX0_plan_41 : decode cX0_plan 41 = .ok (.getfield 55, 3) := dk_180 0 55 (dk_at dksX0_plan_1 17 rfl rfl)
theorem dX0_plan_44 : decode cX0_plan 44 = .ok (.aload_n 2, 1) := dk_44 (dk_at dksX0_plan_1 20 rfl rfl)
theorem dX0_plan_45 : decode cX0_plan 45 = .ok (.putfield 220, 3) := dk_181 0 220 (dk_at dksX0_plan_1 21 rfl rfl)
theorem dX0_plan_48 : decode cX0_plan 48 = .ok (.aload_n 3, 1) := dk_45 (dk_at dksX0_plan_2 0 rfl rfl)
theorem dX0_plan_49 : decode cX0_plan 49 = .ok (.getfield 238, 3) := dk_180 0 238 (dk_at dksX0_plan_2 1 rfl rfl)
theorem dX0_plan_52 : decode cX0_plan 52 = .ok (.ireturn, 1) := dk_172 (dk_at dksX0_plan_2 4 rfl rfl)
theorem dX0_plan_53 : decode cX0_plan 53 = .ok (.astore_n 2, 1) := dk_77 (dk_at dksX0_plan_2 5 rfl rfl)
theorem dX0_plan_54 : decode cX0_plan 54 = .ok (.aload_n 0, 1) := dk_42 (dk_at dksX0_plan_2 6 rfl rfl)
theorem dX0_plan_55 : decode cX0_plan 55 = .ok (.aload_n 2, 1) := dk_44 (dk_at dksX0_plan_2 7 rfl rfl)
theorem dX0_plan_56 : decode cX0_plan 56 = .ok (.invokevirtual 228, 3) := dk_182 0 228 (dk_at dksX0_plan_2 8 rfl rfl)
theorem dX0_plan_59 : decode cX0_plan 59 = .ok (.ireturn, 1) := dk_172 (dk_at dksX0_plan_2 11 rfl rfl)
abbrev cX0_court_2 : ByteArray := prog_1_method_20_code
def yX0_court_2 : MethodName := ⟨RX0, "court", "()LAskingCourt$Case;"⟩
def dkwX0_court_2_0 : List UInt8 := [42, 180, 0, 55, 180, 0, 161, 176]
abbrev dktX0_court_2_0 : List UInt8 := dkwX0_court_2_0 ++ []
theorem dksX0_court_2_0 : cX0_court_2.data.toList.drop 0 = dktX0_court_2_0 := by decide +kernel
theorem dX0_court_2_0 : decode cX0_court_2 0 = .ok (.aload_n 0, 1) := dk_42 (dk_at dksX0_court_2_0 0 rfl rfl)
theorem dX0_court_2_1 : decode cX0_court_2 1 = .ok (.getfield 55, 3) := dk_180 0 55 (dk_at dksX0_court_2_0 1 rfl rfl)
theorem dX0_court_2_4 : decode cX0_court_2 4 = .ok (.getfield 161, 3) := dk_180 0 161 (dk_at dksX0_court_2_0 4 rfl rfl)
theorem dX0_court_2_7 : decode cX0_court_2 7 = .ok (.areturn, 1) := dk_176 (dk_at dksX0_court_2_0 7 rfl rfl)
abbrev cX0_fault : ByteArray := prog_1_method_31_code
def yX0_fault : MethodName := ⟨RX0, "fault", "(I)I"⟩
def dkwX0_fault_1 : List UInt8 := [172]
abbrev dktX0_fault_1 : List UInt8 := dkwX0_fault_1 ++ []
def dkwX0_fault_0 : List UInt8 := [27, 154, 0, 10, 42, 180, 0, 27, 167, 0, 16, 27, 4, 160, 0, 10, 42, 180, 0, 31, 167, 0, 4, 2]
abbrev dktX0_fault_0 : List UInt8 := dkwX0_fault_0 ++ dktX0_fault_1
theorem dksX0_fault_0 : cX0_fault.data.toList.drop 0 = dktX0_fault_0 := by decide +kernel
theorem dksX0_fault_1 : cX0_fault.data.toList.drop 24 = dktX0_fault_1 := dk_seg dksX0_fault_0 24 rfl rfl
theorem dX0_fault_0 : decode cX0_fault 0 = .ok (.iload_n 1, 1) := dk_27 (dk_at dksX0_fault_0 0 rfl rfl)
theorem dX0_fault_1 : decode cX0_fault 1 = .ok (.ifCond .ne 10, 3) := dk_154 0 10 (dk_at dksX0_fault_0 1 rfl rfl)
theorem dX0_fault_4 : decode cX0_fault 4 = .ok (.aload_n 0, 1) := dk_42 (dk_at dksX0_fault_0 4 rfl rfl)
theorem dX0_fault_5 : decode cX0_fault 5 = .ok (.getfield 27, 3) := dk_180 0 27 (dk_at dksX0_fault_0 5 rfl rfl)
theorem dX0_fault_8 : decode cX0_fault 8 = .ok (.goto 16, 3) := dk_167 0 16 (dk_at dksX0_fault_0 8 rfl rfl)
theorem dX0_fault_11 : decode cX0_fault 11 = .ok (.iload_n 1, 1) := dk_27 (dk_at dksX0_fault_0 11 rfl rfl)
theorem dX0_fault_12 : decode cX0_fault 12 = .ok (.iconst 1, 1) := dk_4 (dk_at dksX0_fault_0 12 rfl rfl)
theorem dX0_fault_13 : decode cX0_fault 13 = .ok (.if_icmp .ne 10, 3) := dk_160 0 10 (dk_at dksX0_fault_0 13 rfl rfl)
theorem dX0_fault_16 : decode cX0_fault 16 = .ok (.aload_n 0, 1) := dk_42 (dk_at dksX0_fault_0 16 rfl rfl)
theorem dX0_fault_17 : decode cX0_fault 17 = .ok (.getfield 31, 3) := dk_180 0 31 (dk_at dksX0_fault_0 17 rfl rfl)
theorem dX0_fault_20 : decode cX0_fault 20 = .ok (.goto 4, 3) := dk_167 0 4 (dk_at dksX0_fault_0 20 rfl rfl)
theorem dX0_fault_23 : decode cX0_fault 23 = .ok (.iconst (-1), 1) := dk_2 (dk_at dksX0_fault_0 23 rfl rfl)
theorem dX0_fault_24 : decode cX0_fault 24 = .ok (.ireturn, 1) := dk_172 (dk_at dksX0_fault_1 0 rfl rfl)
abbrev cX0_told : ByteArray := prog_1_method_32_code
def yX0_told : MethodName := ⟨RX0, "told", "(I)I"⟩
def dkwX0_told_5 : List UInt8 := [182, 0, 253, 172, 2, 172]
abbrev dktX0_told_5 : List UInt8 := dkwX0_told_5 ++ []
def dkwX0_told_4 : List UInt8 := [180, 0, 249, 172, 42, 180, 0, 55, 180, 0, 211, 180, 0, 252, 172, 42, 180, 0, 55, 180, 0, 211]
abbrev dktX0_told_4 : List UInt8 := dkwX0_told_4 ++ dktX0_told_5
def dkwX0_told_3 : List UInt8 := [42, 182, 0, 165, 180, 0, 177, 172, 42, 182, 0, 165, 180, 0, 180, 172, 42, 180, 0, 55, 180, 0, 211]
abbrev dktX0_told_3 : List UInt8 := dkwX0_told_3 ++ dktX0_told_4
def dkwX0_told_2 : List UInt8 := [42, 182, 0, 165, 180, 0, 243, 172, 42, 182, 0, 165, 180, 0, 246, 172, 42, 182, 0, 165, 180, 0, 168, 172]
abbrev dktX0_told_2 : List UInt8 := dkwX0_told_2 ++ dktX0_told_3
def dkwX0_told_1 : List UInt8 := [170, 0, 0, 0, 0, 119, 0, 0, 0, 0, 0, 0, 0, 7, 0, 0, 0, 46, 0, 0, 0, 54, 0, 0, 0, 62, 0, 0, 0, 70, 0, 0, 0, 78, 0, 0, 0, 86, 0, 0, 0, 97, 0, 0, 0, 108]
abbrev dktX0_told_1 : List UInt8 := dkwX0_told_1 ++ dktX0_told_2
def dkwX0_told_0 : List UInt8 := [42, 27, 133, 9, 20, 0, 241, 184, 0, 173, 153, 0, 7, 3, 167, 0, 4, 4, 181, 0, 87, 27]
abbrev dktX0_told_0 : List UInt8 := dkwX0_told_0 ++ dktX0_told_1
theorem dksX0_told_0 : cX0_told.data.toList.drop 0 = dktX0_told_0 := by decide +kernel
theorem dksX0_told_1 : cX0_told.data.toList.drop 22 = dktX0_told_1 := dk_seg dksX0_told_0 22 rfl rfl
theorem dksX0_told_2 : cX0_told.data.toList.drop 68 = dktX0_told_2 := dk_seg dksX0_told_1 46 rfl rfl
theorem dksX0_told_3 : cX0_told.data.toList.drop 92 = dktX0_told_3 := dk_seg dksX0_told_2 24 rfl rfl
theorem dksX0_told_4 : cX0_told.data.toList.drop 115 = dktX0_told_4 := dk_seg dksX0_told_3 23 rfl rfl
theorem dksX0_told_5 : cX0_told.data.toList.drop 137 = dktX0_told_5 := dk_seg dksX0_told_4 22 rfl rfl
theorem dX0_told_0 : decode cX0_told 0 = .ok (.aload_n 0, 1) := dk_42 (dk_at dksX0_told_0 0 rfl rfl)
theorem dX0_told_1 : decode cX0_told 1 = .ok (.iload_n 1, 1) := dk_27 (dk_at dksX0_told_0 1 rfl rfl)
theorem dX0_told_2 : decode cX0_told 2 = .ok (.i2l, 1) := dk_133 (dk_at dksX0_told_0 2 rfl rfl)
theorem dX0_told_3 : decode cX0_told 3 = .ok (.lconst 0, 1) := dk_9 (dk_at dksX0_told_0 3 rfl rfl)
theorem dX0_told_4 : decode cX0_told 4 = .ok (.ldc2_w 241, 3) := dk_20 0 241 (dk_at dksX0_told_0 4 rfl rfl)
theorem dX0_told_7 : decode cX0_told 7 = .ok (.invokestatic 173, 3) := dk_184 0 173 (dk_at dksX0_told_0 7 rfl rfl)
theorem dX0_told_10 : decode cX0_told 10 = .ok (.ifCond .eq 7, 3) := dk_153 0 7 (dk_at dksX0_told_0 10 rfl rfl)
theorem dX0_told_13 : decode cX0_told 13 = .ok (.iconst 0, 1) := dk_3 (dk_at dksX0_told_0 13 rfl rfl)
theorem dX0_told_14 : decode cX0_told 14 = .ok (.goto 4, 3) := dk_167 0 4 (dk_at dksX0_told_0 14 rfl rfl)
theorem dX0_told_17 : decode cX0_told 17 = .ok (.iconst 1, 1) := dk_4 (dk_at dksX0_told_0 17 rfl rfl)
theorem dX0_told_18 : decode cX0_told 18 = .ok (.putfield 87, 3) := dk_181 0 87 (dk_at dksX0_told_0 18 rfl rfl)
theorem dX0_told_21 : decode cX0_told 21 = .ok (.iload_n 1, 1) := dk_27 (dk_at dksX0_told_0 21 rfl rfl)
theorem dX0_told_22 : decode cX0_told 22 = .ok (.tableswitch 119 0 7 #[46, 54, 62, 70, 78, 86, 97, 108], 46) := by decide +kernel
theorem dX0_told_68 : decode cX0_told 68 = .ok (.aload_n 0, 1) := dk_42 (dk_at dksX0_told_2 0 rfl rfl)
theorem dX0_told_69 : decode cX0_told 69 = .ok (.invokevirtual 165, 3) := dk_182 0 165 (dk_at dksX0_told_2 1 rfl rfl)
theorem dX0_told_72 : decode cX0_told 72 = .ok (.getfield 243, 3) := dk_180 0 243 (dk_at dksX0_told_2 4 rfl rfl)
theorem dX0_told_75 : decode cX0_told 75 = .ok (.ireturn, 1) := dk_172 (dk_at dksX0_told_2 7 rfl rfl)
theorem dX0_told_76 : decode cX0_told 76 = .ok (.aload_n 0, 1) := dk_42 (dk_at dksX0_told_2 8 rfl rfl)
theorem dX0_told_77 : decode cX0_told 77 = .ok (.invokevirtual 165, 3) := dk_182 0 165 (dk_at dksX0_told_2 9 rfl rfl)
theorem dX0_told_80 : decode cX0_told 80 = .ok (.getfield 246, 3) := dk_180 0 246 (dk_at dksX0_told_2 12 rfl rfl)
theorem dX0_told_83 : decode cX0_told 83 = .ok (.ireturn, 1) := dk_172 (dk_at dksX0_told_2 15 rfl rfl)
theorem dX0_told_84 : decode cX0_told 84 = .ok (.aload_n 0, 1) := dk_42 (dk_at dksX0_told_2 16 rfl rfl)
theorem dX0_told_85 : decode cX0_told 85 = .ok (.invokevirtual 165, 3) := dk_182 0 165 (dk_at dksX0_told_2 17 rfl rfl)
theorem dX0_told_88 : decode cX0_told 88 = .ok (.getfield 168, 3) := dk_180 0 168 (dk_at dksX0_told_2 20 rfl rfl)
theorem dX0_told_91 : decode cX0_told 91 = .ok (.ireturn, 1) := dk_172 (dk_at dksX0_told_2 23 rfl rfl)
theorem dX0_told_92 : decode cX0_told 92 = .ok (.aload_n 0, 1) := dk_42 (dk_at dksX0_told_3 0 rfl rfl)
theorem dX0_told_93 : decode cX0_told 93 = .ok (.invokevirtual 165, 3) := dk_182 0 165 (dk_at dksX0_told_3 1 rfl rfl)
theorem dX0_told_96 : decode cX0_told 96 = .ok (.getfield 177, 3) := dk_180 0 177 (dk_at dksX0_told_3 4 rfl rfl)
theorem dX0_told_99 : decode cX0_told 99 = .ok (.ireturn, 1) := dk_172 (dk_at dksX0_told_3 7 rfl rfl)
theorem dX0_told_100 : decode cX0_told 100 = .ok (.aload_n 0, 1) := dk_42 (dk_at dksX0_told_3 8 rfl rfl)
theorem dX0_told_101 : decode cX0_told 101 = .ok (.invokevirtual 165, 3) := dk_182 0 165 (dk_at dksX0_told_3 9 rfl rfl)
theorem dX0_told_104 : decode cX0_told 104 = .ok (.getfield 180, 3) := dk_180 0 180 (dk_at dksX0_told_3 12 rfl rfl)
theorem dX0_told_107 : decode cX0_told 107 = .ok (.ireturn, 1) := dk_172 (dk_at dksX0_told_3 15 rfl rfl)
theorem dX0_told_108 : decode cX0_told 108 = .ok (.aload_n 0, 1) := dk_42 (dk_at dksX0_told_3 16 rfl rfl)
theorem dX0_told_109 : decode cX0_told 109 = .ok (.getfield 55, 3) := dk_180 0 55 (dk_at dksX0_told_3 17 rfl rfl)
theorem dX0_told_112 : decode cX0_told 112 = .ok (.getfield 211, 3) := dk_180 0 211 (dk_at dksX0_told_3 20 rfl rfl)
theorem dX0_told_115 : decode cX0_told 115 = .ok (.getfield 249, 3) := dk_180 0 249 (dk_at dksX0_told_4 0 rfl rfl)
theorem dX0_told_118 : decode cX0_told 118 = .ok (.ireturn, 1) := dk_172 (dk_at dksX0_told_4 3 rfl rfl)
theorem dX0_told_119 : decode cX0_told 119 = .ok (.aload_n 0, 1) := dk_42 (dk_at dksX0_told_4 4 rfl rfl)
theorem dX0_told_120 : decode cX0_told 120 = .ok (.getfield 55, 3) := dk_180 0 55 (dk_at dksX0_told_4 5 rfl rfl)
theorem dX0_told_123 : decode cX0_told 123 = .ok (.getfield 211, 3) := dk_180 0 211 (dk_at dksX0_told_4 8 rfl rfl)
theorem dX0_told_126 : decode cX0_told 126 = .ok (.getfield 252, 3) := dk_180 0 252 (dk_at dksX0_told_4 11 rfl rfl)
theorem dX0_told_129 : decode cX0_told 129 = .ok (.ireturn, 1) := dk_172 (dk_at dksX0_told_4 14 rfl rfl)
theorem dX0_told_130 : decode cX0_told 130 = .ok (.aload_n 0, 1) := dk_42 (dk_at dksX0_told_4 15 rfl rfl)
theorem dX0_told_131 : decode cX0_told 131 = .ok (.getfield 55, 3) := dk_180 0 55 (dk_at dksX0_told_4 16 rfl rfl)
theorem dX0_told_134 : decode cX0_told 134 = .ok (.getfield 211, 3) := dk_180 0 211 (dk_at dksX0_told_4 19 rfl rfl)
theorem dX0_told_137 : decode cX0_told 137 = .ok (.invokevirtual 253, 3) := dk_182 0 253 (dk_at dksX0_told_5 0 rfl rfl)
theorem dX0_told_140 : decode cX0_told 140 = .ok (.ireturn, 1) := dk_172 (dk_at dksX0_told_5 3 rfl rfl)
theorem dX0_told_141 : decode cX0_told 141 = .ok (.iconst (-1), 1) := dk_2 (dk_at dksX0_told_5 4 rfl rfl)
theorem dX0_told_142 : decode cX0_told 142 = .ok (.ireturn, 1) := dk_172 (dk_at dksX0_told_5 5 rfl rfl)
abbrev cX0_isIn : ByteArray := prog_1_method_19_code
def yX0_isIn : MethodName := ⟨RX0, "isIn", "(JJJ)Z"⟩
def dkwX0_isIn_0 : List UInt8 := [30, 32, 148, 155, 0, 14, 30, 22, 4, 148, 157, 0, 7, 4, 167, 0, 4, 3, 172]
abbrev dktX0_isIn_0 : List UInt8 := dkwX0_isIn_0 ++ []
theorem dksX0_isIn_0 : cX0_isIn.data.toList.drop 0 = dktX0_isIn_0 := by decide +kernel
theorem dX0_isIn_0 : decode cX0_isIn 0 = .ok (.lload_n 0, 1) := dk_30 (dk_at dksX0_isIn_0 0 rfl rfl)
theorem dX0_isIn_1 : decode cX0_isIn 1 = .ok (.lload_n 2, 1) := dk_32 (dk_at dksX0_isIn_0 1 rfl rfl)
theorem dX0_isIn_2 : decode cX0_isIn 2 = .ok (.lcmp, 1) := dk_148 (dk_at dksX0_isIn_0 2 rfl rfl)
theorem dX0_isIn_3 : decode cX0_isIn 3 = .ok (.ifCond .lt 14, 3) := dk_155 0 14 (dk_at dksX0_isIn_0 3 rfl rfl)
theorem dX0_isIn_6 : decode cX0_isIn 6 = .ok (.lload_n 0, 1) := dk_30 (dk_at dksX0_isIn_0 6 rfl rfl)
theorem dX0_isIn_7 : decode cX0_isIn 7 = .ok (.lload 4, 2) := dk_22 4 (dk_at dksX0_isIn_0 7 rfl rfl)
theorem dX0_isIn_9 : decode cX0_isIn 9 = .ok (.lcmp, 1) := dk_148 (dk_at dksX0_isIn_0 9 rfl rfl)
theorem dX0_isIn_10 : decode cX0_isIn 10 = .ok (.ifCond .gt 7, 3) := dk_157 0 7 (dk_at dksX0_isIn_0 10 rfl rfl)
theorem dX0_isIn_13 : decode cX0_isIn 13 = .ok (.iconst 1, 1) := dk_4 (dk_at dksX0_isIn_0 13 rfl rfl)
theorem dX0_isIn_14 : decode cX0_isIn 14 = .ok (.goto 4, 3) := dk_167 0 4 (dk_at dksX0_isIn_0 14 rfl rfl)
theorem dX0_isIn_17 : decode cX0_isIn 17 = .ok (.iconst 0, 1) := dk_3 (dk_at dksX0_isIn_0 17 rfl rfl)
theorem dX0_isIn_18 : decode cX0_isIn 18 = .ok (.ireturn, 1) := dk_172 (dk_at dksX0_isIn_0 18 rfl rfl)
abbrev cX0_value : ByteArray := prog_1_method_33_code
def yX0_value : MethodName := ⟨RX0, "value", "(II)I"⟩
def dkwX0_value_3 : List UInt8 := [180, 1, 3, 27, 46, 172]
abbrev dktX0_value_3 : List UInt8 := dkwX0_value_3 ++ []
def dkwX0_value_2 : List UInt8 := [167, 0, 28, 28, 154, 0, 15, 42, 182, 0, 165, 180, 1, 0, 27, 46, 167, 0, 12, 42, 182, 0, 165]
abbrev dktX0_value_2 : List UInt8 := dkwX0_value_2 ++ dktX0_value_3
def dkwX0_value_1 : List UInt8 := [184, 0, 173, 153, 0, 7, 3, 167, 0, 4, 4, 181, 0, 87, 42, 180, 0, 87, 158, 0, 7, 2]
abbrev dktX0_value_1 : List UInt8 := dkwX0_value_1 ++ dktX0_value_2
def dkwX0_value_0 : List UInt8 := [42, 27, 133, 9, 42, 182, 0, 165, 180, 0, 246, 4, 100, 133, 184, 0, 173, 153, 0, 17, 28, 133, 9, 10]
abbrev dktX0_value_0 : List UInt8 := dkwX0_value_0 ++ dktX0_value_1
theorem dksX0_value_0 : cX0_value.data.toList.drop 0 = dktX0_value_0 := by decide +kernel
theorem dksX0_value_1 : cX0_value.data.toList.drop 24 = dktX0_value_1 := dk_seg dksX0_value_0 24 rfl rfl
theorem dksX0_value_2 : cX0_value.data.toList.drop 46 = dktX0_value_2 := dk_seg dksX0_value_1 22 rfl rfl
theorem dksX0_value_3 : cX0_value.data.toList.drop 69 = dktX0_value_3 := dk_seg dksX0_value_2 23 rfl rfl
theorem dX0_value_0 : decode cX0_value 0 = .ok (.aload_n 0, 1) := dk_42 (dk_at dksX0_value_0 0 rfl rfl)
theorem dX0_value_1 : decode cX0_value 1 = .ok (.iload_n 1, 1) := dk_27 (dk_at dksX0_value_0 1 rfl rfl)
theorem dX0_value_2 : decode cX0_value 2 = .ok (.i2l, 1) := dk_133 (dk_at dksX0_value_0 2 rfl rfl)
theorem dX0_value_3 : decode cX0_value 3 = .ok (.lconst 0, 1) := dk_9 (dk_at dksX0_value_0 3 rfl rfl)
theorem dX0_value_4 : decode cX0_value 4 = .ok (.aload_n 0, 1) := dk_42 (dk_at dksX0_value_0 4 rfl rfl)
theorem dX0_value_5 : decode cX0_value 5 = .ok (.invokevirtual 165, 3) := dk_182 0 165 (dk_at dksX0_value_0 5 rfl rfl)
theorem dX0_value_8 : decode cX0_value 8 = .ok (.getfield 246, 3) := dk_180 0 246 (dk_at dksX0_value_0 8 rfl rfl)
theorem dX0_value_11 : decode cX0_value 11 = .ok (.iconst 1, 1) := dk_4 (dk_at dksX0_value_0 11 rfl rfl)
theorem dX0_value_12 : decode cX0_value 12 = .ok (.isub, 1) := dk_100 (dk_at dksX0_value_0 12 rfl rfl)
theorem dX0_value_13 : decode cX0_value 13 = .ok (.i2l, 1) := dk_133 (dk_at dksX0_value_0 13 rfl rfl)
theorem dX0_value_14 : decode cX0_value 14 = .ok (.invokestatic 173, 3) := dk_184 0 173 (dk_at dksX0_value_0 14 rfl rfl)
theorem dX0_value_17 : decode cX0_value 17 = .ok (.ifCond .eq 17, 3) := dk_153 0 17 (dk_at dksX0_value_0 17 rfl rfl)
theorem dX0_value_20 : decode cX0_value 20 = .ok (.iload_n 2, 1) := dk_28 (dk_at dksX0_value_0 20 rfl rfl)
theorem dX0_value_21 : decode cX0_value 21 = .ok (.i2l, 1) := dk_133 (dk_at dksX0_value_0 21 rfl rfl)
theorem dX0_value_22 : decode cX0_value 22 = .ok (.lconst 0, 1) := dk_9 (dk_at dksX0_value_0 22 rfl rfl)
theorem dX0_value_23 : decode cX0_value 23 = .ok (.lconst 1, 1) := dk_10 (dk_at dksX0_value_0 23 rfl rfl)
theorem dX0_value_24 : decode cX0_value 24 = .ok (.invokestatic 173, 3) := dk_184 0 173 (dk_at dksX0_value_1 0 rfl rfl)
theorem dX0_value_27 : decode cX0_value 27 = .ok (.ifCond .eq 7, 3) := dk_153 0 7 (dk_at dksX0_value_1 3 rfl rfl)
theorem dX0_value_30 : decode cX0_value 30 = .ok (.iconst 0, 1) := dk_3 (dk_at dksX0_value_1 6 rfl rfl)
theorem dX0_value_31 : decode cX0_value 31 = .ok (.goto 4, 3) := dk_167 0 4 (dk_at dksX0_value_1 7 rfl rfl)
theorem dX0_value_34 : decode cX0_value 34 = .ok (.iconst 1, 1) := dk_4 (dk_at dksX0_value_1 10 rfl rfl)
theorem dX0_value_35 : decode cX0_value 35 = .ok (.putfield 87, 3) := dk_181 0 87 (dk_at dksX0_value_1 11 rfl rfl)
theorem dX0_value_38 : decode cX0_value 38 = .ok (.aload_n 0, 1) := dk_42 (dk_at dksX0_value_1 14 rfl rfl)
theorem dX0_value_39 : decode cX0_value 39 = .ok (.getfield 87, 3) := dk_180 0 87 (dk_at dksX0_value_1 15 rfl rfl)
theorem dX0_value_42 : decode cX0_value 42 = .ok (.ifCond .le 7, 3) := dk_158 0 7 (dk_at dksX0_value_1 18 rfl rfl)
theorem dX0_value_45 : decode cX0_value 45 = .ok (.iconst (-1), 1) := dk_2 (dk_at dksX0_value_1 21 rfl rfl)
theorem dX0_value_46 : decode cX0_value 46 = .ok (.goto 28, 3) := dk_167 0 28 (dk_at dksX0_value_2 0 rfl rfl)
theorem dX0_value_49 : decode cX0_value 49 = .ok (.iload_n 2, 1) := dk_28 (dk_at dksX0_value_2 3 rfl rfl)
theorem dX0_value_50 : decode cX0_value 50 = .ok (.ifCond .ne 15, 3) := dk_154 0 15 (dk_at dksX0_value_2 4 rfl rfl)
theorem dX0_value_53 : decode cX0_value 53 = .ok (.aload_n 0, 1) := dk_42 (dk_at dksX0_value_2 7 rfl rfl)
theorem dX0_value_54 : decode cX0_value 54 = .ok (.invokevirtual 165, 3) := dk_182 0 165 (dk_at dksX0_value_2 8 rfl rfl)
theorem dX0_value_57 : decode cX0_value 57 = .ok (.getfield 256, 3) := dk_180 1 0 (dk_at dksX0_value_2 11 rfl rfl)
theorem dX0_value_60 : decode cX0_value 60 = .ok (.iload_n 1, 1) := dk_27 (dk_at dksX0_value_2 14 rfl rfl)
theorem dX0_value_61 : decode cX0_value 61 = .ok (.iaload, 1) := dk_46 (dk_at dksX0_value_2 15 rfl rfl)
theorem dX0_value_62 : decode cX0_value 62 = .ok (.goto 12, 3) := dk_167 0 12 (dk_at dksX0_value_2 16 rfl rfl)
theorem dX0_value_65 : decode cX0_value 65 = .ok (.aload_n 0, 1) := dk_42 (dk_at dksX0_value_2 19 rfl rfl)
theorem dX0_value_66 : decode cX0_value 66 = .ok (.invokevirtual 165, 3) := dk_182 0 165 (dk_at dksX0_value_2 20 rfl rfl)
theorem dX0_value_69 : decode cX0_value 69 = .ok (.getfield 259, 3) := dk_180 1 3 (dk_at dksX0_value_3 0 rfl rfl)
theorem dX0_value_72 : decode cX0_value 72 = .ok (.iload_n 1, 1) := dk_27 (dk_at dksX0_value_3 3 rfl rfl)
theorem dX0_value_73 : decode cX0_value 73 = .ok (.iaload, 1) := dk_46 (dk_at dksX0_value_3 4 rfl rfl)
theorem dX0_value_74 : decode cX0_value 74 = .ok (.ireturn, 1) := dk_172 (dk_at dksX0_value_3 5 rfl rfl)
abbrev cX0_world : ByteArray := prog_1_method_34_code
def yX0_world : MethodName := ⟨RX0, "world", "(II)I"⟩
def dkwX0_world_2 : List UInt8 := [167, 0, 12, 42, 182, 0, 165, 27, 28, 182, 1, 10, 172]
abbrev dktX0_world_2 : List UInt8 := dkwX0_world_2 ++ []
def dkwX0_world_1 : List UInt8 := [184, 0, 173, 153, 0, 7, 3, 167, 0, 4, 4, 181, 0, 87, 42, 180, 0, 87, 158, 0, 7, 2]
abbrev dktX0_world_1 : List UInt8 := dkwX0_world_1 ++ dktX0_world_2
def dkwX0_world_0 : List UInt8 := [42, 42, 27, 182, 1, 6, 153, 0, 26, 28, 133, 9, 42, 182, 0, 165, 180, 0, 243, 4, 100, 133]
abbrev dktX0_world_0 : List UInt8 := dkwX0_world_0 ++ dktX0_world_1
theorem dksX0_world_0 : cX0_world.data.toList.drop 0 = dktX0_world_0 := by decide +kernel
theorem dksX0_world_1 : cX0_world.data.toList.drop 22 = dktX0_world_1 := dk_seg dksX0_world_0 22 rfl rfl
theorem dksX0_world_2 : cX0_world.data.toList.drop 44 = dktX0_world_2 := dk_seg dksX0_world_1 22 rfl rfl
theorem dX0_world_0 : decode cX0_world 0 = .ok (.aload_n 0, 1) := dk_42 (dk_at dksX0_world_0 0 rfl rfl)
theorem dX0_world_1 : decode cX0_world 1 = .ok (.aload_n 0, 1) := dk_42 (dk_at dksX0_world_0 1 rfl rfl)
theorem dX0_world_2 : decode cX0_world 2 = .ok (.iload_n 1, 1) := dk_27 (dk_at dksX0_world_0 2 rfl rfl)
theorem dX0_world_3 : decode cX0_world 3 = .ok (.invokevirtual 262, 3) := dk_182 1 6 (dk_at dksX0_world_0 3 rfl rfl)
theorem dX0_world_6 : decode cX0_world 6 = .ok (.ifCond .eq 26, 3) := dk_153 0 26 (dk_at dksX0_world_0 6 rfl rfl)
theorem dX0_world_9 : decode cX0_world 9 = .ok (.iload_n 2, 1) := dk_28 (dk_at dksX0_world_0 9 rfl rfl)
theorem dX0_world_10 : decode cX0_world 10 = .ok (.i2l, 1) := dk_133 (dk_at dksX0_world_0 10 rfl rfl)
theorem dX0_world_11 : decode cX0_world 11 = .ok (.lconst 0, 1) := dk_9 (dk_at dksX0_world_0 11 rfl rfl)
theorem dX0_world_12 : decode cX0_world 12 = .ok (.aload_n 0, 1) := dk_42 (dk_at dksX0_world_0 12 rfl rfl)
theorem dX0_world_13 : decode cX0_world 13 = .ok (.invokevirtual 165, 3) := dk_182 0 165 (dk_at dksX0_world_0 13 rfl rfl)
theorem dX0_world_16 : decode cX0_world 16 = .ok (.getfield 243, 3) := dk_180 0 243 (dk_at dksX0_world_0 16 rfl rfl)
theorem dX0_world_19 : decode cX0_world 19 = .ok (.iconst 1, 1) := dk_4 (dk_at dksX0_world_0 19 rfl rfl)
theorem dX0_world_20 : decode cX0_world 20 = .ok (.isub, 1) := dk_100 (dk_at dksX0_world_0 20 rfl rfl)
theorem dX0_world_21 : decode cX0_world 21 = .ok (.i2l, 1) := dk_133 (dk_at dksX0_world_0 21 rfl rfl)
theorem dX0_world_22 : decode cX0_world 22 = .ok (.invokestatic 173, 3) := dk_184 0 173 (dk_at dksX0_world_1 0 rfl rfl)
theorem dX0_world_25 : decode cX0_world 25 = .ok (.ifCond .eq 7, 3) := dk_153 0 7 (dk_at dksX0_world_1 3 rfl rfl)
theorem dX0_world_28 : decode cX0_world 28 = .ok (.iconst 0, 1) := dk_3 (dk_at dksX0_world_1 6 rfl rfl)
theorem dX0_world_29 : decode cX0_world 29 = .ok (.goto 4, 3) := dk_167 0 4 (dk_at dksX0_world_1 7 rfl rfl)
theorem dX0_world_32 : decode cX0_world 32 = .ok (.iconst 1, 1) := dk_4 (dk_at dksX0_world_1 10 rfl rfl)
theorem dX0_world_33 : decode cX0_world 33 = .ok (.putfield 87, 3) := dk_181 0 87 (dk_at dksX0_world_1 11 rfl rfl)
theorem dX0_world_36 : decode cX0_world 36 = .ok (.aload_n 0, 1) := dk_42 (dk_at dksX0_world_1 14 rfl rfl)
theorem dX0_world_37 : decode cX0_world 37 = .ok (.getfield 87, 3) := dk_180 0 87 (dk_at dksX0_world_1 15 rfl rfl)
theorem dX0_world_40 : decode cX0_world 40 = .ok (.ifCond .le 7, 3) := dk_158 0 7 (dk_at dksX0_world_1 18 rfl rfl)
theorem dX0_world_43 : decode cX0_world 43 = .ok (.iconst (-1), 1) := dk_2 (dk_at dksX0_world_1 21 rfl rfl)
theorem dX0_world_44 : decode cX0_world 44 = .ok (.goto 12, 3) := dk_167 0 12 (dk_at dksX0_world_2 0 rfl rfl)
theorem dX0_world_47 : decode cX0_world 47 = .ok (.aload_n 0, 1) := dk_42 (dk_at dksX0_world_2 3 rfl rfl)
theorem dX0_world_48 : decode cX0_world 48 = .ok (.invokevirtual 165, 3) := dk_182 0 165 (dk_at dksX0_world_2 4 rfl rfl)
theorem dX0_world_51 : decode cX0_world 51 = .ok (.iload_n 1, 1) := dk_27 (dk_at dksX0_world_2 7 rfl rfl)
theorem dX0_world_52 : decode cX0_world 52 = .ok (.iload_n 2, 1) := dk_28 (dk_at dksX0_world_2 8 rfl rfl)
theorem dX0_world_53 : decode cX0_world 53 = .ok (.invokevirtual 266, 3) := dk_182 1 10 (dk_at dksX0_world_2 9 rfl rfl)
theorem dX0_world_56 : decode cX0_world 56 = .ok (.ireturn, 1) := dk_172 (dk_at dksX0_world_2 12 rfl rfl)
abbrev cX0_isWorld : ByteArray := prog_1_method_21_code
def yX0_isWorld : MethodName := ⟨RX0, "isWorld", "(I)Z"⟩
def dkwX0_isWorld_0 : List UInt8 := [27, 133, 9, 42, 182, 0, 165, 180, 0, 168, 4, 100, 133, 184, 0, 173, 172]
abbrev dktX0_isWorld_0 : List UInt8 := dkwX0_isWorld_0 ++ []
theorem dksX0_isWorld_0 : cX0_isWorld.data.toList.drop 0 = dktX0_isWorld_0 := by decide +kernel
theorem dX0_isWorld_0 : decode cX0_isWorld 0 = .ok (.iload_n 1, 1) := dk_27 (dk_at dksX0_isWorld_0 0 rfl rfl)
theorem dX0_isWorld_1 : decode cX0_isWorld 1 = .ok (.i2l, 1) := dk_133 (dk_at dksX0_isWorld_0 1 rfl rfl)
theorem dX0_isWorld_2 : decode cX0_isWorld 2 = .ok (.lconst 0, 1) := dk_9 (dk_at dksX0_isWorld_0 2 rfl rfl)
theorem dX0_isWorld_3 : decode cX0_isWorld 3 = .ok (.aload_n 0, 1) := dk_42 (dk_at dksX0_isWorld_0 3 rfl rfl)
theorem dX0_isWorld_4 : decode cX0_isWorld 4 = .ok (.invokevirtual 165, 3) := dk_182 0 165 (dk_at dksX0_isWorld_0 4 rfl rfl)
theorem dX0_isWorld_7 : decode cX0_isWorld 7 = .ok (.getfield 168, 3) := dk_180 0 168 (dk_at dksX0_isWorld_0 7 rfl rfl)
theorem dX0_isWorld_10 : decode cX0_isWorld 10 = .ok (.iconst 1, 1) := dk_4 (dk_at dksX0_isWorld_0 10 rfl rfl)
theorem dX0_isWorld_11 : decode cX0_isWorld 11 = .ok (.isub, 1) := dk_100 (dk_at dksX0_isWorld_0 11 rfl rfl)
theorem dX0_isWorld_12 : decode cX0_isWorld 12 = .ok (.i2l, 1) := dk_133 (dk_at dksX0_isWorld_0 12 rfl rfl)
theorem dX0_isWorld_13 : decode cX0_isWorld 13 = .ok (.invokestatic 173, 3) := dk_184 0 173 (dk_at dksX0_isWorld_0 13 rfl rfl)
theorem dX0_isWorld_16 : decode cX0_isWorld 16 = .ok (.ireturn, 1) := dk_172 (dk_at dksX0_isWorld_0 16 rfl rfl)
abbrev cX0_possible : ByteArray := prog_1_method_35_code
def yX0_possible : MethodName := ⟨RX0, "possible", "(I)I"⟩
def dkwX0_possible_1 : List UInt8 := [2, 167, 0, 22, 42, 182, 0, 165, 180, 1, 14, 27, 182, 1, 18, 153, 0, 7, 4, 167, 0, 4, 3, 172]
abbrev dktX0_possible_1 : List UInt8 := dkwX0_possible_1 ++ []
def dkwX0_possible_0 : List UInt8 := [42, 42, 27, 182, 1, 6, 153, 0, 7, 3, 167, 0, 4, 4, 181, 0, 87, 42, 180, 0, 87, 158, 0, 7]
abbrev dktX0_possible_0 : List UInt8 := dkwX0_possible_0 ++ dktX0_possible_1
theorem dksX0_possible_0 : cX0_possible.data.toList.drop 0 = dktX0_possible_0 := by decide +kernel
theorem dksX0_possible_1 : cX0_possible.data.toList.drop 24 = dktX0_possible_1 := dk_seg dksX0_possible_0 24 rfl rfl
theorem dX0_possible_0 : decode cX0_possible 0 = .ok (.aload_n 0, 1) := dk_42 (dk_at dksX0_possible_0 0 rfl rfl)
theorem dX0_possible_1 : decode cX0_possible 1 = .ok (.aload_n 0, 1) := dk_42 (dk_at dksX0_possible_0 1 rfl rfl)
theorem dX0_possible_2 : decode cX0_possible 2 = .ok (.iload_n 1, 1) := dk_27 (dk_at dksX0_possible_0 2 rfl rfl)
theorem dX0_possible_3 : decode cX0_possible 3 = .ok (.invokevirtual 262, 3) := dk_182 1 6 (dk_at dksX0_possible_0 3 rfl rfl)
theorem dX0_possible_6 : decode cX0_possible 6 = .ok (.ifCond .eq 7, 3) := dk_153 0 7 (dk_at dksX0_possible_0 6 rfl rfl)
theorem dX0_possible_9 : decode cX0_possible 9 = .ok (.iconst 0, 1) := dk_3 (dk_at dksX0_possible_0 9 rfl rfl)
theorem dX0_possible_10 : decode cX0_possible 10 = .ok (.goto 4, 3) := dk_167 0 4 (dk_at dksX0_possible_0 10 rfl rfl)
theorem dX0_possible_13 : decode cX0_possible 13 = .ok (.iconst 1, 1) := dk_4 (dk_at dksX0_possible_0 13 rfl rfl)
theorem dX0_possible_14 : decode cX0_possible 14 = .ok (.putfield 87, 3) := dk_181 0 87 (dk_at dksX0_possible_0 14 rfl rfl)
theorem dX0_possible_17 : decode cX0_possible 17 = .ok (.aload_n 0, 1) := dk_42 (dk_at dksX0_possible_0 17 rfl rfl)
theorem dX0_possible_18 : decode cX0_possible 18 = .ok (.getfield 87, 3) := dk_180 0 87 (dk_at dksX0_possible_0 18 rfl rfl)
theorem dX0_possible_21 : decode cX0_possible 21 = .ok (.ifCond .le 7, 3) := dk_158 0 7 (dk_at dksX0_possible_0 21 rfl rfl)
theorem dX0_possible_24 : decode cX0_possible 24 = .ok (.iconst (-1), 1) := dk_2 (dk_at dksX0_possible_1 0 rfl rfl)
theorem dX0_possible_25 : decode cX0_possible 25 = .ok (.goto 22, 3) := dk_167 0 22 (dk_at dksX0_possible_1 1 rfl rfl)
theorem dX0_possible_28 : decode cX0_possible 28 = .ok (.aload_n 0, 1) := dk_42 (dk_at dksX0_possible_1 4 rfl rfl)
theorem dX0_possible_29 : decode cX0_possible 29 = .ok (.invokevirtual 165, 3) := dk_182 0 165 (dk_at dksX0_possible_1 5 rfl rfl)
theorem dX0_possible_32 : decode cX0_possible 32 = .ok (.getfield 270, 3) := dk_180 1 14 (dk_at dksX0_possible_1 8 rfl rfl)
theorem dX0_possible_35 : decode cX0_possible 35 = .ok (.iload_n 1, 1) := dk_27 (dk_at dksX0_possible_1 11 rfl rfl)
theorem dX0_possible_36 : decode cX0_possible 36 = .ok (.invokevirtual 274, 3) := dk_182 1 18 (dk_at dksX0_possible_1 12 rfl rfl)
theorem dX0_possible_39 : decode cX0_possible 39 = .ok (.ifCond .eq 7, 3) := dk_153 0 7 (dk_at dksX0_possible_1 15 rfl rfl)
theorem dX0_possible_42 : decode cX0_possible 42 = .ok (.iconst 1, 1) := dk_4 (dk_at dksX0_possible_1 18 rfl rfl)
theorem dX0_possible_43 : decode cX0_possible 43 = .ok (.goto 4, 3) := dk_167 0 4 (dk_at dksX0_possible_1 19 rfl rfl)
theorem dX0_possible_46 : decode cX0_possible 46 = .ok (.iconst 0, 1) := dk_3 (dk_at dksX0_possible_1 22 rfl rfl)
theorem dX0_possible_47 : decode cX0_possible 47 = .ok (.ireturn, 1) := dk_172 (dk_at dksX0_possible_1 23 rfl rfl)
abbrev cX0_holds : ByteArray := prog_1_method_36_code
def yX0_holds : MethodName := ⟨RX0, "holds", "(II)I"⟩
def dkwX0_holds_2 : List UInt8 := [182, 1, 18, 153, 0, 7, 4, 167, 0, 4, 3, 172]
abbrev dktX0_holds_2 : List UInt8 := dkwX0_holds_2 ++ []
def dkwX0_holds_1 : List UInt8 := [181, 0, 87, 42, 180, 0, 87, 158, 0, 7, 2, 167, 0, 24, 42, 182, 0, 165, 180, 1, 26, 27, 50, 28]
abbrev dktX0_holds_1 : List UInt8 := dkwX0_holds_1 ++ dktX0_holds_2
def dkwX0_holds_0 : List UInt8 := [42, 42, 27, 182, 1, 23, 153, 0, 15, 42, 28, 182, 1, 6, 153, 0, 7, 3, 167, 0, 4, 4]
abbrev dktX0_holds_0 : List UInt8 := dkwX0_holds_0 ++ dktX0_holds_1
theorem dksX0_holds_0 : cX0_holds.data.toList.drop 0 = dktX0_holds_0 := by decide +kernel
theorem dksX0_holds_1 : cX0_holds.data.toList.drop 22 = dktX0_holds_1 := dk_seg dksX0_holds_0 22 rfl rfl
theorem dksX0_holds_2 : cX0_holds.data.toList.drop 46 = dktX0_holds_2 := dk_seg dksX0_holds_1 24 rfl rfl
theorem dX0_holds_0 : decode cX0_holds 0 = .ok (.aload_n 0, 1) := dk_42 (dk_at dksX0_holds_0 0 rfl rfl)
theorem dX0_holds_1 : decode cX0_holds 1 = .ok (.aload_n 0, 1) := dk_42 (dk_at dksX0_holds_0 1 rfl rfl)
theorem dX0_holds_2 : decode cX0_holds 2 = .ok (.iload_n 1, 1) := dk_27 (dk_at dksX0_holds_0 2 rfl rfl)
theorem dX0_holds_3 : decode cX0_holds 3 = .ok (.invokevirtual 279, 3) := dk_182 1 23 (dk_at dksX0_holds_0 3 rfl rfl)
theorem dX0_holds_6 : decode cX0_holds 6 = .ok (.ifCond .eq 15, 3) := dk_153 0 15 (dk_at dksX0_holds_0 6 rfl rfl)
theorem dX0_holds_9 : decode cX0_holds 9 = .ok (.aload_n 0, 1) := dk_42 (dk_at dksX0_holds_0 9 rfl rfl)
theorem dX0_holds_10 : decode cX0_holds 10 = .ok (.iload_n 2, 1) := dk_28 (dk_at dksX0_holds_0 10 rfl rfl)
theorem dX0_holds_11 : decode cX0_holds 11 = .ok (.invokevirtual 262, 3) := dk_182 1 6 (dk_at dksX0_holds_0 11 rfl rfl)
theorem dX0_holds_14 : decode cX0_holds 14 = .ok (.ifCond .eq 7, 3) := dk_153 0 7 (dk_at dksX0_holds_0 14 rfl rfl)
theorem dX0_holds_17 : decode cX0_holds 17 = .ok (.iconst 0, 1) := dk_3 (dk_at dksX0_holds_0 17 rfl rfl)
theorem dX0_holds_18 : decode cX0_holds 18 = .ok (.goto 4, 3) := dk_167 0 4 (dk_at dksX0_holds_0 18 rfl rfl)
theorem dX0_holds_21 : decode cX0_holds 21 = .ok (.iconst 1, 1) := dk_4 (dk_at dksX0_holds_0 21 rfl rfl)
theorem dX0_holds_22 : decode cX0_holds 22 = .ok (.putfield 87, 3) := dk_181 0 87 (dk_at dksX0_holds_1 0 rfl rfl)
theorem dX0_holds_25 : decode cX0_holds 25 = .ok (.aload_n 0, 1) := dk_42 (dk_at dksX0_holds_1 3 rfl rfl)
theorem dX0_holds_26 : decode cX0_holds 26 = .ok (.getfield 87, 3) := dk_180 0 87 (dk_at dksX0_holds_1 4 rfl rfl)
theorem dX0_holds_29 : decode cX0_holds 29 = .ok (.ifCond .le 7, 3) := dk_158 0 7 (dk_at dksX0_holds_1 7 rfl rfl)
theorem dX0_holds_32 : decode cX0_holds 32 = .ok (.iconst (-1), 1) := dk_2 (dk_at dksX0_holds_1 10 rfl rfl)
theorem dX0_holds_33 : decode cX0_holds 33 = .ok (.goto 24, 3) := dk_167 0 24 (dk_at dksX0_holds_1 11 rfl rfl)
theorem dX0_holds_36 : decode cX0_holds 36 = .ok (.aload_n 0, 1) := dk_42 (dk_at dksX0_holds_1 14 rfl rfl)
theorem dX0_holds_37 : decode cX0_holds 37 = .ok (.invokevirtual 165, 3) := dk_182 0 165 (dk_at dksX0_holds_1 15 rfl rfl)
theorem dX0_holds_40 : decode cX0_holds 40 = .ok (.getfield 282, 3) := dk_180 1 26 (dk_at dksX0_holds_1 18 rfl rfl)
theorem dX0_holds_43 : decode cX0_holds 43 = .ok (.iload_n 1, 1) := dk_27 (dk_at dksX0_holds_1 21 rfl rfl)
theorem dX0_holds_44 : decode cX0_holds 44 = .ok (.aaload, 1) := dk_50 (dk_at dksX0_holds_1 22 rfl rfl)
theorem dX0_holds_45 : decode cX0_holds 45 = .ok (.iload_n 2, 1) := dk_28 (dk_at dksX0_holds_1 23 rfl rfl)
theorem dX0_holds_46 : decode cX0_holds 46 = .ok (.invokevirtual 274, 3) := dk_182 1 18 (dk_at dksX0_holds_2 0 rfl rfl)
theorem dX0_holds_49 : decode cX0_holds 49 = .ok (.ifCond .eq 7, 3) := dk_153 0 7 (dk_at dksX0_holds_2 3 rfl rfl)
theorem dX0_holds_52 : decode cX0_holds 52 = .ok (.iconst 1, 1) := dk_4 (dk_at dksX0_holds_2 6 rfl rfl)
theorem dX0_holds_53 : decode cX0_holds 53 = .ok (.goto 4, 3) := dk_167 0 4 (dk_at dksX0_holds_2 7 rfl rfl)
theorem dX0_holds_56 : decode cX0_holds 56 = .ok (.iconst 0, 1) := dk_3 (dk_at dksX0_holds_2 10 rfl rfl)
theorem dX0_holds_57 : decode cX0_holds 57 = .ok (.ireturn, 1) := dk_172 (dk_at dksX0_holds_2 11 rfl rfl)
abbrev cX0_isQuestion : ByteArray := prog_1_method_22_code
def yX0_isQuestion : MethodName := ⟨RX0, "isQuestion", "(I)Z"⟩
def dkwX0_isQuestion_0 : List UInt8 := [27, 133, 9, 42, 182, 0, 165, 180, 0, 177, 4, 100, 133, 184, 0, 173, 172]
abbrev dktX0_isQuestion_0 : List UInt8 := dkwX0_isQuestion_0 ++ []
theorem dksX0_isQuestion_0 : cX0_isQuestion.data.toList.drop 0 = dktX0_isQuestion_0 := by decide +kernel
theorem dX0_isQuestion_0 : decode cX0_isQuestion 0 = .ok (.iload_n 1, 1) := dk_27 (dk_at dksX0_isQuestion_0 0 rfl rfl)
theorem dX0_isQuestion_1 : decode cX0_isQuestion 1 = .ok (.i2l, 1) := dk_133 (dk_at dksX0_isQuestion_0 1 rfl rfl)
theorem dX0_isQuestion_2 : decode cX0_isQuestion 2 = .ok (.lconst 0, 1) := dk_9 (dk_at dksX0_isQuestion_0 2 rfl rfl)
theorem dX0_isQuestion_3 : decode cX0_isQuestion 3 = .ok (.aload_n 0, 1) := dk_42 (dk_at dksX0_isQuestion_0 3 rfl rfl)
theorem dX0_isQuestion_4 : decode cX0_isQuestion 4 = .ok (.invokevirtual 165, 3) := dk_182 0 165 (dk_at dksX0_isQuestion_0 4 rfl rfl)
theorem dX0_isQuestion_7 : decode cX0_isQuestion 7 = .ok (.getfield 177, 3) := dk_180 0 177 (dk_at dksX0_isQuestion_0 7 rfl rfl)
theorem dX0_isQuestion_10 : decode cX0_isQuestion 10 = .ok (.iconst 1, 1) := dk_4 (dk_at dksX0_isQuestion_0 10 rfl rfl)
theorem dX0_isQuestion_11 : decode cX0_isQuestion 11 = .ok (.isub, 1) := dk_100 (dk_at dksX0_isQuestion_0 11 rfl rfl)
theorem dX0_isQuestion_12 : decode cX0_isQuestion 12 = .ok (.i2l, 1) := dk_133 (dk_at dksX0_isQuestion_0 12 rfl rfl)
theorem dX0_isQuestion_13 : decode cX0_isQuestion 13 = .ok (.invokestatic 173, 3) := dk_184 0 173 (dk_at dksX0_isQuestion_0 13 rfl rfl)
theorem dX0_isQuestion_16 : decode cX0_isQuestion 16 = .ok (.ireturn, 1) := dk_172 (dk_at dksX0_isQuestion_0 16 rfl rfl)
abbrev cX0_fee : ByteArray := prog_1_method_37_code
def yX0_fee : MethodName := ⟨RX0, "fee", "(I)I"⟩
def dkwX0_fee_1 : List UInt8 := [2, 167, 0, 12, 42, 182, 0, 165, 180, 1, 30, 27, 46, 172]
abbrev dktX0_fee_1 : List UInt8 := dkwX0_fee_1 ++ []
def dkwX0_fee_0 : List UInt8 := [42, 42, 27, 182, 1, 23, 153, 0, 7, 3, 167, 0, 4, 4, 181, 0, 87, 42, 180, 0, 87, 158, 0, 7]
abbrev dktX0_fee_0 : List UInt8 := dkwX0_fee_0 ++ dktX0_fee_1
theorem dksX0_fee_0 : cX0_fee.data.toList.drop 0 = dktX0_fee_0 := by decide +kernel
theorem dksX0_fee_1 : cX0_fee.data.toList.drop 24 = dktX0_fee_1 := dk_seg dksX0_fee_0 24 rfl rfl
theorem dX0_fee_0 : decode cX0_fee 0 = .ok (.aload_n 0, 1) := dk_42 (dk_at dksX0_fee_0 0 rfl rfl)
theorem dX0_fee_1 : decode cX0_fee 1 = .ok (.aload_n 0, 1) := dk_42 (dk_at dksX0_fee_0 1 rfl rfl)
theorem dX0_fee_2 : decode cX0_fee 2 = .ok (.iload_n 1, 1) := dk_27 (dk_at dksX0_fee_0 2 rfl rfl)
theorem dX0_fee_3 : decode cX0_fee 3 = .ok (.invokevirtual 279, 3) := dk_182 1 23 (dk_at dksX0_fee_0 3 rfl rfl)
theorem dX0_fee_6 : decode cX0_fee 6 = .ok (.ifCond .eq 7, 3) := dk_153 0 7 (dk_at dksX0_fee_0 6 rfl rfl)
theorem dX0_fee_9 : decode cX0_fee 9 = .ok (.iconst 0, 1) := dk_3 (dk_at dksX0_fee_0 9 rfl rfl)
theorem dX0_fee_10 : decode cX0_fee 10 = .ok (.goto 4, 3) := dk_167 0 4 (dk_at dksX0_fee_0 10 rfl rfl)
theorem dX0_fee_13 : decode cX0_fee 13 = .ok (.iconst 1, 1) := dk_4 (dk_at dksX0_fee_0 13 rfl rfl)
theorem dX0_fee_14 : decode cX0_fee 14 = .ok (.putfield 87, 3) := dk_181 0 87 (dk_at dksX0_fee_0 14 rfl rfl)
theorem dX0_fee_17 : decode cX0_fee 17 = .ok (.aload_n 0, 1) := dk_42 (dk_at dksX0_fee_0 17 rfl rfl)
theorem dX0_fee_18 : decode cX0_fee 18 = .ok (.getfield 87, 3) := dk_180 0 87 (dk_at dksX0_fee_0 18 rfl rfl)
theorem dX0_fee_21 : decode cX0_fee 21 = .ok (.ifCond .le 7, 3) := dk_158 0 7 (dk_at dksX0_fee_0 21 rfl rfl)
theorem dX0_fee_24 : decode cX0_fee 24 = .ok (.iconst (-1), 1) := dk_2 (dk_at dksX0_fee_1 0 rfl rfl)
theorem dX0_fee_25 : decode cX0_fee 25 = .ok (.goto 12, 3) := dk_167 0 12 (dk_at dksX0_fee_1 1 rfl rfl)
theorem dX0_fee_28 : decode cX0_fee 28 = .ok (.aload_n 0, 1) := dk_42 (dk_at dksX0_fee_1 4 rfl rfl)
theorem dX0_fee_29 : decode cX0_fee 29 = .ok (.invokevirtual 165, 3) := dk_182 0 165 (dk_at dksX0_fee_1 5 rfl rfl)
theorem dX0_fee_32 : decode cX0_fee 32 = .ok (.getfield 286, 3) := dk_180 1 30 (dk_at dksX0_fee_1 8 rfl rfl)
theorem dX0_fee_35 : decode cX0_fee 35 = .ok (.iload_n 1, 1) := dk_27 (dk_at dksX0_fee_1 11 rfl rfl)
theorem dX0_fee_36 : decode cX0_fee 36 = .ok (.iaload, 1) := dk_46 (dk_at dksX0_fee_1 12 rfl rfl)
theorem dX0_fee_37 : decode cX0_fee 37 = .ok (.ireturn, 1) := dk_172 (dk_at dksX0_fee_1 13 rfl rfl)
abbrev cX0_witness : ByteArray := prog_1_method_38_code
def yX0_witness : MethodName := ⟨RX0, "witness", "(II)I"⟩
def dkwX0_witness_3 : List UInt8 := [180, 1, 47, 167, 0, 7, 45, 180, 1, 50, 172]
abbrev dktX0_witness_3 : List UInt8 := dkwX0_witness_3 ++ []
def dkwX0_witness_2 : List UInt8 := [50, 78, 28, 7, 162, 0, 12, 45, 180, 1, 42, 28, 46, 167, 0, 19, 28, 7, 160, 0, 10, 45]
abbrev dktX0_witness_2 : List UInt8 := dkwX0_witness_2 ++ dktX0_witness_3
def dkwX0_witness_1 : List UInt8 := [167, 0, 4, 4, 181, 0, 87, 42, 180, 0, 87, 158, 0, 5, 2, 172, 42, 182, 0, 165, 180, 1, 38, 27]
abbrev dktX0_witness_1 : List UInt8 := dkwX0_witness_1 ++ dktX0_witness_2
def dkwX0_witness_0 : List UInt8 := [42, 42, 27, 182, 1, 33, 153, 0, 19, 28, 133, 9, 20, 1, 36, 184, 0, 173, 153, 0, 7, 3]
abbrev dktX0_witness_0 : List UInt8 := dkwX0_witness_0 ++ dktX0_witness_1
theorem dksX0_witness_0 : cX0_witness.data.toList.drop 0 = dktX0_witness_0 := by decide +kernel
theorem dksX0_witness_1 : cX0_witness.data.toList.drop 22 = dktX0_witness_1 := dk_seg dksX0_witness_0 22 rfl rfl
theorem dksX0_witness_2 : cX0_witness.data.toList.drop 46 = dktX0_witness_2 := dk_seg dksX0_witness_1 24 rfl rfl
theorem dksX0_witness_3 : cX0_witness.data.toList.drop 68 = dktX0_witness_3 := dk_seg dksX0_witness_2 22 rfl rfl
theorem dX0_witness_0 : decode cX0_witness 0 = .ok (.aload_n 0, 1) := dk_42 (dk_at dksX0_witness_0 0 rfl rfl)
theorem dX0_witness_1 : decode cX0_witness 1 = .ok (.aload_n 0, 1) := dk_42 (dk_at dksX0_witness_0 1 rfl rfl)
theorem dX0_witness_2 : decode cX0_witness 2 = .ok (.iload_n 1, 1) := dk_27 (dk_at dksX0_witness_0 2 rfl rfl)
theorem dX0_witness_3 : decode cX0_witness 3 = .ok (.invokevirtual 289, 3) := dk_182 1 33 (dk_at dksX0_witness_0 3 rfl rfl)
theorem dX0_witness_6 : decode cX0_witness 6 = .ok (.ifCond .eq 19, 3) := dk_153 0 19 (dk_at dksX0_witness_0 6 rfl rfl)
theorem dX0_witness_9 : decode cX0_witness 9 = .ok (.iload_n 2, 1) := dk_28 (dk_at dksX0_witness_0 9 rfl rfl)
theorem dX0_witness_10 : decode cX0_witness 10 = .ok (.i2l, 1) := dk_133 (dk_at dksX0_witness_0 10 rfl rfl)
theorem dX0_witness_11 : decode cX0_witness 11 = .ok (.lconst 0, 1) := dk_9 (dk_at dksX0_witness_0 11 rfl rfl)
theorem dX0_witness_12 : decode cX0_witness 12 = .ok (.ldc2_w 292, 3) := dk_20 1 36 (dk_at dksX0_witness_0 12 rfl rfl)
theorem dX0_witness_15 : decode cX0_witness 15 = .ok (.invokestatic 173, 3) := dk_184 0 173 (dk_at dksX0_witness_0 15 rfl rfl)
theorem dX0_witness_18 : decode cX0_witness 18 = .ok (.ifCond .eq 7, 3) := dk_153 0 7 (dk_at dksX0_witness_0 18 rfl rfl)
theorem dX0_witness_21 : decode cX0_witness 21 = .ok (.iconst 0, 1) := dk_3 (dk_at dksX0_witness_0 21 rfl rfl)
theorem dX0_witness_22 : decode cX0_witness 22 = .ok (.goto 4, 3) := dk_167 0 4 (dk_at dksX0_witness_1 0 rfl rfl)
theorem dX0_witness_25 : decode cX0_witness 25 = .ok (.iconst 1, 1) := dk_4 (dk_at dksX0_witness_1 3 rfl rfl)
theorem dX0_witness_26 : decode cX0_witness 26 = .ok (.putfield 87, 3) := dk_181 0 87 (dk_at dksX0_witness_1 4 rfl rfl)
theorem dX0_witness_29 : decode cX0_witness 29 = .ok (.aload_n 0, 1) := dk_42 (dk_at dksX0_witness_1 7 rfl rfl)
theorem dX0_witness_30 : decode cX0_witness 30 = .ok (.getfield 87, 3) := dk_180 0 87 (dk_at dksX0_witness_1 8 rfl rfl)
theorem dX0_witness_33 : decode cX0_witness 33 = .ok (.ifCond .le 5, 3) := dk_158 0 5 (dk_at dksX0_witness_1 11 rfl rfl)
theorem dX0_witness_36 : decode cX0_witness 36 = .ok (.iconst (-1), 1) := dk_2 (dk_at dksX0_witness_1 14 rfl rfl)
theorem dX0_witness_37 : decode cX0_witness 37 = .ok (.ireturn, 1) := dk_172 (dk_at dksX0_witness_1 15 rfl rfl)
theorem dX0_witness_38 : decode cX0_witness 38 = .ok (.aload_n 0, 1) := dk_42 (dk_at dksX0_witness_1 16 rfl rfl)
theorem dX0_witness_39 : decode cX0_witness 39 = .ok (.invokevirtual 165, 3) := dk_182 0 165 (dk_at dksX0_witness_1 17 rfl rfl)
theorem dX0_witness_42 : decode cX0_witness 42 = .ok (.getfield 294, 3) := dk_180 1 38 (dk_at dksX0_witness_1 20 rfl rfl)
theorem dX0_witness_45 : decode cX0_witness 45 = .ok (.iload_n 1, 1) := dk_27 (dk_at dksX0_witness_1 23 rfl rfl)
theorem dX0_witness_46 : decode cX0_witness 46 = .ok (.aaload, 1) := dk_50 (dk_at dksX0_witness_2 0 rfl rfl)
theorem dX0_witness_47 : decode cX0_witness 47 = .ok (.astore_n 3, 1) := dk_78 (dk_at dksX0_witness_2 1 rfl rfl)
theorem dX0_witness_48 : decode cX0_witness 48 = .ok (.iload_n 2, 1) := dk_28 (dk_at dksX0_witness_2 2 rfl rfl)
theorem dX0_witness_49 : decode cX0_witness 49 = .ok (.iconst 4, 1) := dk_7 (dk_at dksX0_witness_2 3 rfl rfl)
theorem dX0_witness_50 : decode cX0_witness 50 = .ok (.if_icmp .ge 12, 3) := dk_162 0 12 (dk_at dksX0_witness_2 4 rfl rfl)
theorem dX0_witness_53 : decode cX0_witness 53 = .ok (.aload_n 3, 1) := dk_45 (dk_at dksX0_witness_2 7 rfl rfl)
theorem dX0_witness_54 : decode cX0_witness 54 = .ok (.getfield 298, 3) := dk_180 1 42 (dk_at dksX0_witness_2 8 rfl rfl)
theorem dX0_witness_57 : decode cX0_witness 57 = .ok (.iload_n 2, 1) := dk_28 (dk_at dksX0_witness_2 11 rfl rfl)
theorem dX0_witness_58 : decode cX0_witness 58 = .ok (.iaload, 1) := dk_46 (dk_at dksX0_witness_2 12 rfl rfl)
theorem dX0_witness_59 : decode cX0_witness 59 = .ok (.goto 19, 3) := dk_167 0 19 (dk_at dksX0_witness_2 13 rfl rfl)
theorem dX0_witness_62 : decode cX0_witness 62 = .ok (.iload_n 2, 1) := dk_28 (dk_at dksX0_witness_2 16 rfl rfl)
theorem dX0_witness_63 : decode cX0_witness 63 = .ok (.iconst 4, 1) := dk_7 (dk_at dksX0_witness_2 17 rfl rfl)
theorem dX0_witness_64 : decode cX0_witness 64 = .ok (.if_icmp .ne 10, 3) := dk_160 0 10 (dk_at dksX0_witness_2 18 rfl rfl)
theorem dX0_witness_67 : decode cX0_witness 67 = .ok (.aload_n 3, 1) := dk_45 (dk_at dksX0_witness_2 21 rfl rfl)
theorem dX0_witness_68 : decode cX0_witness 68 = .ok (.getfield 303, 3) := dk_180 1 47 (dk_at dksX0_witness_3 0 rfl rfl)
theorem dX0_witness_71 : decode cX0_witness 71 = .ok (.goto 7, 3) := dk_167 0 7 (dk_at dksX0_witness_3 3 rfl rfl)
theorem dX0_witness_74 : decode cX0_witness 74 = .ok (.aload_n 3, 1) := dk_45 (dk_at dksX0_witness_3 6 rfl rfl)
theorem dX0_witness_75 : decode cX0_witness 75 = .ok (.getfield 306, 3) := dk_180 1 50 (dk_at dksX0_witness_3 7 rfl rfl)
theorem dX0_witness_78 : decode cX0_witness 78 = .ok (.ireturn, 1) := dk_172 (dk_at dksX0_witness_3 10 rfl rfl)
abbrev cX0_isWitness : ByteArray := prog_1_method_23_code
def yX0_isWitness : MethodName := ⟨RX0, "isWitness", "(I)Z"⟩
def dkwX0_isWitness_0 : List UInt8 := [27, 133, 9, 42, 182, 0, 165, 180, 0, 180, 4, 100, 133, 184, 0, 173, 172]
abbrev dktX0_isWitness_0 : List UInt8 := dkwX0_isWitness_0 ++ []
theorem dksX0_isWitness_0 : cX0_isWitness.data.toList.drop 0 = dktX0_isWitness_0 := by decide +kernel
theorem dX0_isWitness_0 : decode cX0_isWitness 0 = .ok (.iload_n 1, 1) := dk_27 (dk_at dksX0_isWitness_0 0 rfl rfl)
theorem dX0_isWitness_1 : decode cX0_isWitness 1 = .ok (.i2l, 1) := dk_133 (dk_at dksX0_isWitness_0 1 rfl rfl)
theorem dX0_isWitness_2 : decode cX0_isWitness 2 = .ok (.lconst 0, 1) := dk_9 (dk_at dksX0_isWitness_0 2 rfl rfl)
theorem dX0_isWitness_3 : decode cX0_isWitness 3 = .ok (.aload_n 0, 1) := dk_42 (dk_at dksX0_isWitness_0 3 rfl rfl)
theorem dX0_isWitness_4 : decode cX0_isWitness 4 = .ok (.invokevirtual 165, 3) := dk_182 0 165 (dk_at dksX0_isWitness_0 4 rfl rfl)
theorem dX0_isWitness_7 : decode cX0_isWitness 7 = .ok (.getfield 180, 3) := dk_180 0 180 (dk_at dksX0_isWitness_0 7 rfl rfl)
theorem dX0_isWitness_10 : decode cX0_isWitness 10 = .ok (.iconst 1, 1) := dk_4 (dk_at dksX0_isWitness_0 10 rfl rfl)
theorem dX0_isWitness_11 : decode cX0_isWitness 11 = .ok (.isub, 1) := dk_100 (dk_at dksX0_isWitness_0 11 rfl rfl)
theorem dX0_isWitness_12 : decode cX0_isWitness 12 = .ok (.i2l, 1) := dk_133 (dk_at dksX0_isWitness_0 12 rfl rfl)
theorem dX0_isWitness_13 : decode cX0_isWitness 13 = .ok (.invokestatic 173, 3) := dk_184 0 173 (dk_at dksX0_isWitness_0 13 rfl rfl)
theorem dX0_isWitness_16 : decode cX0_isWitness 16 = .ok (.ireturn, 1) := dk_172 (dk_at dksX0_isWitness_0 16 rfl rfl)
abbrev cX0_answer : ByteArray := prog_1_method_39_code
def yX0_answer : MethodName := ⟨RX0, "answer", "(IIII)I"⟩
def dkwX0_answer_3 : List UInt8 := [167, 0, 15, 42, 182, 0, 165, 27, 21, 4, 28, 29, 182, 1, 56, 172]
abbrev dktX0_answer_3 : List UInt8 := dkwX0_answer_3 ++ []
def dkwX0_answer_2 : List UInt8 := [182, 1, 18, 154, 0, 8, 16, 7, 167, 0, 4, 3, 181, 0, 87, 42, 180, 0, 87, 158, 0, 7, 2]
abbrev dktX0_answer_2 : List UInt8 := dkwX0_answer_2 ++ dktX0_answer_3
def dkwX0_answer_1 : List UInt8 := [153, 0, 11, 21, 4, 184, 1, 53, 154, 0, 7, 4, 167, 0, 23, 42, 182, 0, 165, 180, 1, 14, 29]
abbrev dktX0_answer_1 : List UInt8 := dkwX0_answer_1 ++ dktX0_answer_2
def dkwX0_answer_0 : List UInt8 := [42, 42, 27, 182, 1, 33, 153, 0, 27, 42, 28, 182, 1, 23, 153, 0, 19, 42, 29, 182, 1, 6]
abbrev dktX0_answer_0 : List UInt8 := dkwX0_answer_0 ++ dktX0_answer_1
theorem dksX0_answer_0 : cX0_answer.data.toList.drop 0 = dktX0_answer_0 := by decide +kernel
theorem dksX0_answer_1 : cX0_answer.data.toList.drop 22 = dktX0_answer_1 := dk_seg dksX0_answer_0 22 rfl rfl
theorem dksX0_answer_2 : cX0_answer.data.toList.drop 45 = dktX0_answer_2 := dk_seg dksX0_answer_1 23 rfl rfl
theorem dksX0_answer_3 : cX0_answer.data.toList.drop 68 = dktX0_answer_3 := dk_seg dksX0_answer_2 23 rfl rfl
theorem dX0_answer_0 : decode cX0_answer 0 = .ok (.aload_n 0, 1) := dk_42 (dk_at dksX0_answer_0 0 rfl rfl)
theorem dX0_answer_1 : decode cX0_answer 1 = .ok (.aload_n 0, 1) := dk_42 (dk_at dksX0_answer_0 1 rfl rfl)
theorem dX0_answer_2 : decode cX0_answer 2 = .ok (.iload_n 1, 1) := dk_27 (dk_at dksX0_answer_0 2 rfl rfl)
theorem dX0_answer_3 : decode cX0_answer 3 = .ok (.invokevirtual 289, 3) := dk_182 1 33 (dk_at dksX0_answer_0 3 rfl rfl)
theorem dX0_answer_6 : decode cX0_answer 6 = .ok (.ifCond .eq 27, 3) := dk_153 0 27 (dk_at dksX0_answer_0 6 rfl rfl)
theorem dX0_answer_9 : decode cX0_answer 9 = .ok (.aload_n 0, 1) := dk_42 (dk_at dksX0_answer_0 9 rfl rfl)
theorem dX0_answer_10 : decode cX0_answer 10 = .ok (.iload_n 2, 1) := dk_28 (dk_at dksX0_answer_0 10 rfl rfl)
theorem dX0_answer_11 : decode cX0_answer 11 = .ok (.invokevirtual 279, 3) := dk_182 1 23 (dk_at dksX0_answer_0 11 rfl rfl)
theorem dX0_answer_14 : decode cX0_answer 14 = .ok (.ifCond .eq 19, 3) := dk_153 0 19 (dk_at dksX0_answer_0 14 rfl rfl)
theorem dX0_answer_17 : decode cX0_answer 17 = .ok (.aload_n 0, 1) := dk_42 (dk_at dksX0_answer_0 17 rfl rfl)
theorem dX0_answer_18 : decode cX0_answer 18 = .ok (.iload_n 3, 1) := dk_29 (dk_at dksX0_answer_0 18 rfl rfl)
theorem dX0_answer_19 : decode cX0_answer 19 = .ok (.invokevirtual 262, 3) := dk_182 1 6 (dk_at dksX0_answer_0 19 rfl rfl)
theorem dX0_answer_22 : decode cX0_answer 22 = .ok (.ifCond .eq 11, 3) := dk_153 0 11 (dk_at dksX0_answer_1 0 rfl rfl)
theorem dX0_answer_25 : decode cX0_answer 25 = .ok (.iload 4, 2) := dk_21 4 (dk_at dksX0_answer_1 3 rfl rfl)
theorem dX0_answer_27 : decode cX0_answer 27 = .ok (.invokestatic 309, 3) := dk_184 1 53 (dk_at dksX0_answer_1 5 rfl rfl)
theorem dX0_answer_30 : decode cX0_answer 30 = .ok (.ifCond .ne 7, 3) := dk_154 0 7 (dk_at dksX0_answer_1 8 rfl rfl)
theorem dX0_answer_33 : decode cX0_answer 33 = .ok (.iconst 1, 1) := dk_4 (dk_at dksX0_answer_1 11 rfl rfl)
theorem dX0_answer_34 : decode cX0_answer 34 = .ok (.goto 23, 3) := dk_167 0 23 (dk_at dksX0_answer_1 12 rfl rfl)
theorem dX0_answer_37 : decode cX0_answer 37 = .ok (.aload_n 0, 1) := dk_42 (dk_at dksX0_answer_1 15 rfl rfl)
theorem dX0_answer_38 : decode cX0_answer 38 = .ok (.invokevirtual 165, 3) := dk_182 0 165 (dk_at dksX0_answer_1 16 rfl rfl)
theorem dX0_answer_41 : decode cX0_answer 41 = .ok (.getfield 270, 3) := dk_180 1 14 (dk_at dksX0_answer_1 19 rfl rfl)
theorem dX0_answer_44 : decode cX0_answer 44 = .ok (.iload_n 3, 1) := dk_29 (dk_at dksX0_answer_1 22 rfl rfl)
theorem dX0_answer_45 : decode cX0_answer 45 = .ok (.invokevirtual 274, 3) := dk_182 1 18 (dk_at dksX0_answer_2 0 rfl rfl)
theorem dX0_answer_48 : decode cX0_answer 48 = .ok (.ifCond .ne 8, 3) := dk_154 0 8 (dk_at dksX0_answer_2 3 rfl rfl)
theorem dX0_answer_51 : decode cX0_answer 51 = .ok (.bipush 7, 2) := dk_16 7 (dk_at dksX0_answer_2 6 rfl rfl)
theorem dX0_answer_53 : decode cX0_answer 53 = .ok (.goto 4, 3) := dk_167 0 4 (dk_at dksX0_answer_2 8 rfl rfl)
theorem dX0_answer_56 : decode cX0_answer 56 = .ok (.iconst 0, 1) := dk_3 (dk_at dksX0_answer_2 11 rfl rfl)
theorem dX0_answer_57 : decode cX0_answer 57 = .ok (.putfield 87, 3) := dk_181 0 87 (dk_at dksX0_answer_2 12 rfl rfl)
theorem dX0_answer_60 : decode cX0_answer 60 = .ok (.aload_n 0, 1) := dk_42 (dk_at dksX0_answer_2 15 rfl rfl)
theorem dX0_answer_61 : decode cX0_answer 61 = .ok (.getfield 87, 3) := dk_180 0 87 (dk_at dksX0_answer_2 16 rfl rfl)
theorem dX0_answer_64 : decode cX0_answer 64 = .ok (.ifCond .le 7, 3) := dk_158 0 7 (dk_at dksX0_answer_2 19 rfl rfl)
theorem dX0_answer_67 : decode cX0_answer 67 = .ok (.iconst (-1), 1) := dk_2 (dk_at dksX0_answer_2 22 rfl rfl)
theorem dX0_answer_68 : decode cX0_answer 68 = .ok (.goto 15, 3) := dk_167 0 15 (dk_at dksX0_answer_3 0 rfl rfl)
theorem dX0_answer_71 : decode cX0_answer 71 = .ok (.aload_n 0, 1) := dk_42 (dk_at dksX0_answer_3 3 rfl rfl)
theorem dX0_answer_72 : decode cX0_answer 72 = .ok (.invokevirtual 165, 3) := dk_182 0 165 (dk_at dksX0_answer_3 4 rfl rfl)
theorem dX0_answer_75 : decode cX0_answer 75 = .ok (.iload_n 1, 1) := dk_27 (dk_at dksX0_answer_3 7 rfl rfl)
theorem dX0_answer_76 : decode cX0_answer 76 = .ok (.iload 4, 2) := dk_21 4 (dk_at dksX0_answer_3 8 rfl rfl)
theorem dX0_answer_78 : decode cX0_answer 78 = .ok (.iload_n 2, 1) := dk_28 (dk_at dksX0_answer_3 10 rfl rfl)
theorem dX0_answer_79 : decode cX0_answer 79 = .ok (.iload_n 3, 1) := dk_29 (dk_at dksX0_answer_3 11 rfl rfl)
theorem dX0_answer_80 : decode cX0_answer 80 = .ok (.invokevirtual 312, 3) := dk_182 1 56 (dk_at dksX0_answer_3 12 rfl rfl)
theorem dX0_answer_83 : decode cX0_answer 83 = .ok (.ireturn, 1) := dk_172 (dk_at dksX0_answer_3 15 rfl rfl)
abbrev cX0_isKind : ByteArray := prog_1_method_24_code
def yX0_isKind : MethodName := ⟨RX0, "isKind", "(I)Z"⟩
def dkwX0_isKind_0 : List UInt8 := [26, 133, 9, 20, 0, 183, 184, 0, 173, 172]
abbrev dktX0_isKind_0 : List UInt8 := dkwX0_isKind_0 ++ []
theorem dksX0_isKind_0 : cX0_isKind.data.toList.drop 0 = dktX0_isKind_0 := by decide +kernel
theorem dX0_isKind_0 : decode cX0_isKind 0 = .ok (.iload_n 0, 1) := dk_26 (dk_at dksX0_isKind_0 0 rfl rfl)
theorem dX0_isKind_1 : decode cX0_isKind 1 = .ok (.i2l, 1) := dk_133 (dk_at dksX0_isKind_0 1 rfl rfl)
theorem dX0_isKind_2 : decode cX0_isKind 2 = .ok (.lconst 0, 1) := dk_9 (dk_at dksX0_isKind_0 2 rfl rfl)
theorem dX0_isKind_3 : decode cX0_isKind 3 = .ok (.ldc2_w 183, 3) := dk_20 0 183 (dk_at dksX0_isKind_0 3 rfl rfl)
theorem dX0_isKind_6 : decode cX0_isKind 6 = .ok (.invokestatic 173, 3) := dk_184 0 173 (dk_at dksX0_isKind_0 6 rfl rfl)
theorem dX0_isKind_9 : decode cX0_isKind 9 = .ok (.ireturn, 1) := dk_172 (dk_at dksX0_isKind_0 9 rfl rfl)
abbrev cX0_hear : ByteArray := prog_1_method_40_code
def yX0_hear : MethodName := ⟨RX0, "hear", "(III)Z"⟩
def dkwX0_hear_4 : List UInt8 := [182, 1, 63, 42, 180, 0, 87, 154, 0, 7, 4, 167, 0, 4, 3, 172]
abbrev dktX0_hear_4 : List UInt8 := dkwX0_hear_4 ++ []
def dkwX0_hear_3 : List UInt8 := [153, 0, 8, 16, 7, 167, 0, 4, 3, 181, 0, 87, 42, 180, 0, 87, 154, 0, 11, 25, 4, 27, 28, 29]
abbrev dktX0_hear_3 : List UInt8 := dkwX0_hear_3 ++ dktX0_hear_4
def dkwX0_hear_2 : List UInt8 := [4, 167, 0, 32, 25, 4, 182, 0, 253, 16, 9, 160, 0, 7, 7, 167, 0, 18, 25, 4, 28, 182, 1, 60]
abbrev dktX0_hear_2 : List UInt8 := dkwX0_hear_2 ++ dktX0_hear_3
def dkwX0_hear_1 : List UInt8 := [153, 0, 24, 29, 133, 9, 5, 42, 182, 0, 165, 180, 0, 177, 104, 4, 100, 133, 184, 0, 173, 154, 0, 7]
abbrev dktX0_hear_1 : List UInt8 := dkwX0_hear_1 ++ dktX0_hear_2
def dkwX0_hear_0 : List UInt8 := [42, 180, 0, 55, 180, 0, 211, 58, 4, 42, 42, 27, 182, 1, 33, 153, 0, 32, 42, 28, 182, 1, 23]
abbrev dktX0_hear_0 : List UInt8 := dkwX0_hear_0 ++ dktX0_hear_1
theorem dksX0_hear_0 : cX0_hear.data.toList.drop 0 = dktX0_hear_0 := by decide +kernel
theorem dksX0_hear_1 : cX0_hear.data.toList.drop 23 = dktX0_hear_1 := dk_seg dksX0_hear_0 23 rfl rfl
theorem dksX0_hear_2 : cX0_hear.data.toList.drop 47 = dktX0_hear_2 := dk_seg dksX0_hear_1 24 rfl rfl
theorem dksX0_hear_3 : cX0_hear.data.toList.drop 71 = dktX0_hear_3 := dk_seg dksX0_hear_2 24 rfl rfl
theorem dksX0_hear_4 : cX0_hear.data.toList.drop 95 = dktX0_hear_4 := dk_seg dksX0_hear_3 24 rfl rfl
theorem dX0_hear_0 : decode cX0_hear 0 = .ok (.aload_n 0, 1) := dk_42 (dk_at dksX0_hear_0 0 rfl rfl)
theorem dX0_hear_1 : decode cX0_hear 1 = .ok (.getfield 55, 3) := dk_180 0 55 (dk_at dksX0_hear_0 1 rfl rfl)
theorem dX0_hear_4 : decode cX0_hear 4 = .ok (.getfield 211, 3) := dk_180 0 211 (dk_at dksX0_hear_0 4 rfl rfl)
theorem dX0_hear_7 : decode cX0_hear 7 = .ok (.astore 4, 2) := dk_58 4 (dk_at dksX0_hear_0 7 rfl rfl)
theorem dX0_hear_9 : decode cX0_hear 9 = .ok (.aload_n 0, 1) := dk_42 (dk_at dksX0_hear_0 9 rfl rfl)
theorem dX0_hear_10 : decode cX0_hear 10 = .ok (.aload_n 0, 1) := dk_42 (dk_at dksX0_hear_0 10 rfl rfl)
theorem dX0_hear_11 : decode cX0_hear 11 = .ok (.iload_n 1, 1) := dk_27 (dk_at dksX0_hear_0 11 rfl rfl)
theorem dX0_hear_12 : decode cX0_hear 12 = .ok (.invokevirtual 289, 3) := dk_182 1 33 (dk_at dksX0_hear_0 12 rfl rfl)
theorem dX0_hear_15 : decode cX0_hear 15 = .ok (.ifCond .eq 32, 3) := dk_153 0 32 (dk_at dksX0_hear_0 15 rfl rfl)
theorem dX0_hear_18 : decode cX0_hear 18 = .ok (.aload_n 0, 1) := dk_42 (dk_at dksX0_hear_0 18 rfl rfl)
theorem dX0_hear_19 : decode cX0_hear 19 = .ok (.iload_n 2, 1) := dk_28 (dk_at dksX0_hear_0 19 rfl rfl)
theorem dX0_hear_20 : decode cX0_hear 20 = .ok (.invokevirtual 279, 3) := dk_182 1 23 (dk_at dksX0_hear_0 20 rfl rfl)
theorem dX0_hear_23 : decode cX0_hear 23 = .ok (.ifCond .eq 24, 3) := dk_153 0 24 (dk_at dksX0_hear_1 0 rfl rfl)
theorem dX0_hear_26 : decode cX0_hear 26 = .ok (.iload_n 3, 1) := dk_29 (dk_at dksX0_hear_1 3 rfl rfl)
theorem dX0_hear_27 : decode cX0_hear 27 = .ok (.i2l, 1) := dk_133 (dk_at dksX0_hear_1 4 rfl rfl)
theorem dX0_hear_28 : decode cX0_hear 28 = .ok (.lconst 0, 1) := dk_9 (dk_at dksX0_hear_1 5 rfl rfl)
theorem dX0_hear_29 : decode cX0_hear 29 = .ok (.iconst 2, 1) := dk_5 (dk_at dksX0_hear_1 6 rfl rfl)
theorem dX0_hear_30 : decode cX0_hear 30 = .ok (.aload_n 0, 1) := dk_42 (dk_at dksX0_hear_1 7 rfl rfl)
theorem dX0_hear_31 : decode cX0_hear 31 = .ok (.invokevirtual 165, 3) := dk_182 0 165 (dk_at dksX0_hear_1 8 rfl rfl)
theorem dX0_hear_34 : decode cX0_hear 34 = .ok (.getfield 177, 3) := dk_180 0 177 (dk_at dksX0_hear_1 11 rfl rfl)
theorem dX0_hear_37 : decode cX0_hear 37 = .ok (.imul, 1) := dk_104 (dk_at dksX0_hear_1 14 rfl rfl)
theorem dX0_hear_38 : decode cX0_hear 38 = .ok (.iconst 1, 1) := dk_4 (dk_at dksX0_hear_1 15 rfl rfl)
theorem dX0_hear_39 : decode cX0_hear 39 = .ok (.isub, 1) := dk_100 (dk_at dksX0_hear_1 16 rfl rfl)
theorem dX0_hear_40 : decode cX0_hear 40 = .ok (.i2l, 1) := dk_133 (dk_at dksX0_hear_1 17 rfl rfl)
theorem dX0_hear_41 : decode cX0_hear 41 = .ok (.invokestatic 173, 3) := dk_184 0 173 (dk_at dksX0_hear_1 18 rfl rfl)
theorem dX0_hear_44 : decode cX0_hear 44 = .ok (.ifCond .ne 7, 3) := dk_154 0 7 (dk_at dksX0_hear_1 21 rfl rfl)
theorem dX0_hear_47 : decode cX0_hear 47 = .ok (.iconst 1, 1) := dk_4 (dk_at dksX0_hear_2 0 rfl rfl)
theorem dX0_hear_48 : decode cX0_hear 48 = .ok (.goto 32, 3) := dk_167 0 32 (dk_at dksX0_hear_2 1 rfl rfl)
theorem dX0_hear_51 : decode cX0_hear 51 = .ok (.aload 4, 2) := dk_25 4 (dk_at dksX0_hear_2 4 rfl rfl)
theorem dX0_hear_53 : decode cX0_hear 53 = .ok (.invokevirtual 253, 3) := dk_182 0 253 (dk_at dksX0_hear_2 6 rfl rfl)
theorem dX0_hear_56 : decode cX0_hear 56 = .ok (.bipush 9, 2) := dk_16 9 (dk_at dksX0_hear_2 9 rfl rfl)
theorem dX0_hear_58 : decode cX0_hear 58 = .ok (.if_icmp .ne 7, 3) := dk_160 0 7 (dk_at dksX0_hear_2 11 rfl rfl)
theorem dX0_hear_61 : decode cX0_hear 61 = .ok (.iconst 4, 1) := dk_7 (dk_at dksX0_hear_2 14 rfl rfl)
theorem dX0_hear_62 : decode cX0_hear 62 = .ok (.goto 18, 3) := dk_167 0 18 (dk_at dksX0_hear_2 15 rfl rfl)
theorem dX0_hear_65 : decode cX0_hear 65 = .ok (.aload 4, 2) := dk_25 4 (dk_at dksX0_hear_2 18 rfl rfl)
theorem dX0_hear_67 : decode cX0_hear 67 = .ok (.iload_n 2, 1) := dk_28 (dk_at dksX0_hear_2 20 rfl rfl)
theorem dX0_hear_68 : decode cX0_hear 68 = .ok (.invokevirtual 316, 3) := dk_182 1 60 (dk_at dksX0_hear_2 21 rfl rfl)
theorem dX0_hear_71 : decode cX0_hear 71 = .ok (.ifCond .eq 8, 3) := dk_153 0 8 (dk_at dksX0_hear_3 0 rfl rfl)
theorem dX0_hear_74 : decode cX0_hear 74 = .ok (.bipush 7, 2) := dk_16 7 (dk_at dksX0_hear_3 3 rfl rfl)
theorem dX0_hear_76 : decode cX0_hear 76 = .ok (.goto 4, 3) := dk_167 0 4 (dk_at dksX0_hear_3 5 rfl rfl)
theorem dX0_hear_79 : decode cX0_hear 79 = .ok (.iconst 0, 1) := dk_3 (dk_at dksX0_hear_3 8 rfl rfl)
theorem dX0_hear_80 : decode cX0_hear 80 = .ok (.putfield 87, 3) := dk_181 0 87 (dk_at dksX0_hear_3 9 rfl rfl)
theorem dX0_hear_83 : decode cX0_hear 83 = .ok (.aload_n 0, 1) := dk_42 (dk_at dksX0_hear_3 12 rfl rfl)
theorem dX0_hear_84 : decode cX0_hear 84 = .ok (.getfield 87, 3) := dk_180 0 87 (dk_at dksX0_hear_3 13 rfl rfl)
theorem dX0_hear_87 : decode cX0_hear 87 = .ok (.ifCond .ne 11, 3) := dk_154 0 11 (dk_at dksX0_hear_3 16 rfl rfl)
theorem dX0_hear_90 : decode cX0_hear 90 = .ok (.aload 4, 2) := dk_25 4 (dk_at dksX0_hear_3 19 rfl rfl)
theorem dX0_hear_92 : decode cX0_hear 92 = .ok (.iload_n 1, 1) := dk_27 (dk_at dksX0_hear_3 21 rfl rfl)
theorem dX0_hear_93 : decode cX0_hear 93 = .ok (.iload_n 2, 1) := dk_28 (dk_at dksX0_hear_3 22 rfl rfl)
theorem dX0_hear_94 : decode cX0_hear 94 = .ok (.iload_n 3, 1) := dk_29 (dk_at dksX0_hear_3 23 rfl rfl)
theorem dX0_hear_95 : decode cX0_hear 95 = .ok (.invokevirtual 319, 3) := dk_182 1 63 (dk_at dksX0_hear_4 0 rfl rfl)
theorem dX0_hear_98 : decode cX0_hear 98 = .ok (.aload_n 0, 1) := dk_42 (dk_at dksX0_hear_4 3 rfl rfl)
theorem dX0_hear_99 : decode cX0_hear 99 = .ok (.getfield 87, 3) := dk_180 0 87 (dk_at dksX0_hear_4 4 rfl rfl)
theorem dX0_hear_102 : decode cX0_hear 102 = .ok (.ifCond .ne 7, 3) := dk_154 0 7 (dk_at dksX0_hear_4 7 rfl rfl)
theorem dX0_hear_105 : decode cX0_hear 105 = .ok (.iconst 1, 1) := dk_4 (dk_at dksX0_hear_4 10 rfl rfl)
theorem dX0_hear_106 : decode cX0_hear 106 = .ok (.goto 4, 3) := dk_167 0 4 (dk_at dksX0_hear_4 11 rfl rfl)
theorem dX0_hear_109 : decode cX0_hear 109 = .ok (.iconst 0, 1) := dk_3 (dk_at dksX0_hear_4 14 rfl rfl)
theorem dX0_hear_110 : decode cX0_hear 110 = .ok (.ireturn, 1) := dk_172 (dk_at dksX0_hear_4 15 rfl rfl)
abbrev cX0_unsay : ByteArray := prog_1_method_41_code
def yX0_unsay : MethodName := ⟨RX0, "unsay", "()I"⟩
def dkwX0_unsay_2 : List UInt8 := [42, 180, 0, 55, 180, 0, 211, 180, 0, 252, 172]
abbrev dktX0_unsay_2 : List UInt8 := dkwX0_unsay_2 ++ []
def dkwX0_unsay_1 : List UInt8 := [180, 0, 87, 158, 0, 5, 2, 172, 42, 180, 0, 55, 180, 0, 211, 89, 180, 0, 252, 4, 100, 181, 0, 252]
abbrev dktX0_unsay_1 : List UInt8 := dkwX0_unsay_1 ++ dktX0_unsay_2
def dkwX0_unsay_0 : List UInt8 := [42, 42, 180, 0, 55, 180, 0, 211, 180, 0, 252, 154, 0, 8, 16, 6, 167, 0, 4, 3, 181, 0, 87, 42]
abbrev dktX0_unsay_0 : List UInt8 := dkwX0_unsay_0 ++ dktX0_unsay_1
theorem dksX0_unsay_0 : cX0_unsay.data.toList.drop 0 = dktX0_unsay_0 := by decide +kernel
theorem dksX0_unsay_1 : cX0_unsay.data.toList.drop 24 = dktX0_unsay_1 := dk_seg dksX0_unsay_0 24 rfl rfl
theorem dksX0_unsay_2 : cX0_unsay.data.toList.drop 48 = dktX0_unsay_2 := dk_seg dksX0_unsay_1 24 rfl rfl
theorem dX0_unsay_0 : decode cX0_unsay 0 = .ok (.aload_n 0, 1) := dk_42 (dk_at dksX0_unsay_0 0 rfl rfl)
theorem dX0_unsay_1 : decode cX0_unsay 1 = .ok (.aload_n 0, 1) := dk_42 (dk_at dksX0_unsay_0 1 rfl rfl)
theorem dX0_unsay_2 : decode cX0_unsay 2 = .ok (.getfield 55, 3) := dk_180 0 55 (dk_at dksX0_unsay_0 2 rfl rfl)
theorem dX0_unsay_5 : decode cX0_unsay 5 = .ok (.getfield 211, 3) := dk_180 0 211 (dk_at dksX0_unsay_0 5 rfl rfl)
theorem dX0_unsay_8 : decode cX0_unsay 8 = .ok (.getfield 252, 3) := dk_180 0 252 (dk_at dksX0_unsay_0 8 rfl rfl)
theorem dX0_unsay_11 : decode cX0_unsay 11 = .ok (.ifCond .ne 8, 3) := dk_154 0 8 (dk_at dksX0_unsay_0 11 rfl rfl)
theorem dX0_unsay_14 : decode cX0_unsay 14 = .ok (.bipush 6, 2) := dk_16 6 (dk_at dksX0_unsay_0 14 rfl rfl)
theorem dX0_unsay_16 : decode cX0_unsay 16 = .ok (.goto 4, 3) := dk_167 0 4 (dk_at dksX0_unsay_0 16 rfl rfl)
theorem dX0_unsay_19 : decode cX0_unsay 19 = .ok (.iconst 0, 1) := dk_3 (dk_at dksX0_unsay_0 19 rfl rfl)
theorem dX0_unsay_20 : decode cX0_unsay 20 = .ok (.putfield 87, 3) := dk_181 0 87 (dk_at dksX0_unsay_0 20 rfl rfl)
theorem dX0_unsay_23 : decode cX0_unsay 23 = .ok (.aload_n 0, 1) := dk_42 (dk_at dksX0_unsay_0 23 rfl rfl)
theorem dX0_unsay_24 : decode cX0_unsay 24 = .ok (.getfield 87, 3) := dk_180 0 87 (dk_at dksX0_unsay_1 0 rfl rfl)
theorem dX0_unsay_27 : decode cX0_unsay 27 = .ok (.ifCond .le 5, 3) := dk_158 0 5 (dk_at dksX0_unsay_1 3 rfl rfl)
theorem dX0_unsay_30 : decode cX0_unsay 30 = .ok (.iconst (-1), 1) := dk_2 (dk_at dksX0_unsay_1 6 rfl rfl)
theorem dX0_unsay_31 : decode cX0_unsay 31 = .ok (.ireturn, 1) := dk_172 (dk_at dksX0_unsay_1 7 rfl rfl)
theorem dX0_unsay_32 : decode cX0_unsay 32 = .ok (.aload_n 0, 1) := dk_42 (dk_at dksX0_unsay_1 8 rfl rfl)
theorem dX0_unsay_33 : decode cX0_unsay 33 = .ok (.getfield 55, 3) := dk_180 0 55 (dk_at dksX0_unsay_1 9 rfl rfl)
theorem dX0_unsay_36 : decode cX0_unsay 36 = .ok (.getfield 211, 3) := dk_180 0 211 (dk_at dksX0_unsay_1 12 rfl rfl)
theorem dX0_unsay_39 : decode cX0_unsay 39 = .ok (.dup, 1) := dk_89 (dk_at dksX0_unsay_1 15 rfl rfl)
theorem dX0_unsay_40 : decode cX0_unsay 40 = .ok (.getfield 252, 3) := dk_180 0 252 (dk_at dksX0_unsay_1 16 rfl rfl)
theorem dX0_unsay_43 : decode cX0_unsay 43 = .ok (.iconst 1, 1) := dk_4 (dk_at dksX0_unsay_1 19 rfl rfl)
theorem dX0_unsay_44 : decode cX0_unsay 44 = .ok (.isub, 1) := dk_100 (dk_at dksX0_unsay_1 20 rfl rfl)
theorem dX0_unsay_45 : decode cX0_unsay 45 = .ok (.putfield 252, 3) := dk_181 0 252 (dk_at dksX0_unsay_1 21 rfl rfl)
theorem dX0_unsay_48 : decode cX0_unsay 48 = .ok (.aload_n 0, 1) := dk_42 (dk_at dksX0_unsay_2 0 rfl rfl)
theorem dX0_unsay_49 : decode cX0_unsay 49 = .ok (.getfield 55, 3) := dk_180 0 55 (dk_at dksX0_unsay_2 1 rfl rfl)
theorem dX0_unsay_52 : decode cX0_unsay 52 = .ok (.getfield 211, 3) := dk_180 0 211 (dk_at dksX0_unsay_2 4 rfl rfl)
theorem dX0_unsay_55 : decode cX0_unsay 55 = .ok (.getfield 252, 3) := dk_180 0 252 (dk_at dksX0_unsay_2 7 rfl rfl)
theorem dX0_unsay_58 : decode cX0_unsay 58 = .ok (.ireturn, 1) := dk_172 (dk_at dksX0_unsay_2 10 rfl rfl)
abbrev cX0_nextDay : ByteArray := prog_1_method_42_code
def yX0_nextDay : MethodName := ⟨RX0, "nextDay", "()I"⟩
def dkwX0_nextDay_2 : List UInt8 := [181, 0, 249, 42, 180, 0, 55, 180, 0, 211, 180, 0, 249, 172]
abbrev dktX0_nextDay_2 : List UInt8 := dkwX0_nextDay_2 ++ []
def dkwX0_nextDay_1 : List UInt8 := [42, 180, 0, 87, 158, 0, 5, 2, 172, 42, 180, 0, 55, 180, 0, 211, 89, 180, 0, 249, 4, 96]
abbrev dktX0_nextDay_1 : List UInt8 := dkwX0_nextDay_1 ++ dktX0_nextDay_2
def dkwX0_nextDay_0 : List UInt8 := [42, 42, 180, 0, 55, 180, 0, 211, 180, 0, 249, 16, 99, 160, 0, 7, 7, 167, 0, 4, 3, 181, 0, 87]
abbrev dktX0_nextDay_0 : List UInt8 := dkwX0_nextDay_0 ++ dktX0_nextDay_1
theorem dksX0_nextDay_0 : cX0_nextDay.data.toList.drop 0 = dktX0_nextDay_0 := by decide +kernel
theorem dksX0_nextDay_1 : cX0_nextDay.data.toList.drop 24 = dktX0_nextDay_1 := dk_seg dksX0_nextDay_0 24 rfl rfl
theorem dksX0_nextDay_2 : cX0_nextDay.data.toList.drop 46 = dktX0_nextDay_2 := dk_seg dksX0_nextDay_1 22 rfl rfl
theorem dX0_nextDay_0 : decode cX0_nextDay 0 = .ok (.aload_n 0, 1) := dk_42 (dk_at dksX0_nextDay_0 0 rfl rfl)
theorem dX0_nextDay_1 : decode cX0_nextDay 1 = .ok (.aload_n 0, 1) := dk_42 (dk_at dksX0_nextDay_0 1 rfl rfl)
theorem dX0_nextDay_2 : decode cX0_nextDay 2 = .ok (.getfield 55, 3) := dk_180 0 55 (dk_at dksX0_nextDay_0 2 rfl rfl)
theorem dX0_nextDay_5 : decode cX0_nextDay 5 = .ok (.getfield 211, 3) := dk_180 0 211 (dk_at dksX0_nextDay_0 5 rfl rfl)
theorem dX0_nextDay_8 : decode cX0_nextDay 8 = .ok (.getfield 249, 3) := dk_180 0 249 (dk_at dksX0_nextDay_0 8 rfl rfl)
theorem dX0_nextDay_11 : decode cX0_nextDay 11 = .ok (.bipush 99, 2) := dk_16 99 (dk_at dksX0_nextDay_0 11 rfl rfl)
theorem dX0_nextDay_13 : decode cX0_nextDay 13 = .ok (.if_icmp .ne 7, 3) := dk_160 0 7 (dk_at dksX0_nextDay_0 13 rfl rfl)
theorem dX0_nextDay_16 : decode cX0_nextDay 16 = .ok (.iconst 4, 1) := dk_7 (dk_at dksX0_nextDay_0 16 rfl rfl)
theorem dX0_nextDay_17 : decode cX0_nextDay 17 = .ok (.goto 4, 3) := dk_167 0 4 (dk_at dksX0_nextDay_0 17 rfl rfl)
theorem dX0_nextDay_20 : decode cX0_nextDay 20 = .ok (.iconst 0, 1) := dk_3 (dk_at dksX0_nextDay_0 20 rfl rfl)
theorem dX0_nextDay_21 : decode cX0_nextDay 21 = .ok (.putfield 87, 3) := dk_181 0 87 (dk_at dksX0_nextDay_0 21 rfl rfl)
theorem dX0_nextDay_24 : decode cX0_nextDay 24 = .ok (.aload_n 0, 1) := dk_42 (dk_at dksX0_nextDay_1 0 rfl rfl)
theorem dX0_nextDay_25 : decode cX0_nextDay 25 = .ok (.getfield 87, 3) := dk_180 0 87 (dk_at dksX0_nextDay_1 1 rfl rfl)
theorem dX0_nextDay_28 : decode cX0_nextDay 28 = .ok (.ifCond .le 5, 3) := dk_158 0 5 (dk_at dksX0_nextDay_1 4 rfl rfl)
theorem dX0_nextDay_31 : decode cX0_nextDay 31 = .ok (.iconst (-1), 1) := dk_2 (dk_at dksX0_nextDay_1 7 rfl rfl)
theorem dX0_nextDay_32 : decode cX0_nextDay 32 = .ok (.ireturn, 1) := dk_172 (dk_at dksX0_nextDay_1 8 rfl rfl)
theorem dX0_nextDay_33 : decode cX0_nextDay 33 = .ok (.aload_n 0, 1) := dk_42 (dk_at dksX0_nextDay_1 9 rfl rfl)
theorem dX0_nextDay_34 : decode cX0_nextDay 34 = .ok (.getfield 55, 3) := dk_180 0 55 (dk_at dksX0_nextDay_1 10 rfl rfl)
theorem dX0_nextDay_37 : decode cX0_nextDay 37 = .ok (.getfield 211, 3) := dk_180 0 211 (dk_at dksX0_nextDay_1 13 rfl rfl)
theorem dX0_nextDay_40 : decode cX0_nextDay 40 = .ok (.dup, 1) := dk_89 (dk_at dksX0_nextDay_1 16 rfl rfl)
theorem dX0_nextDay_41 : decode cX0_nextDay 41 = .ok (.getfield 249, 3) := dk_180 0 249 (dk_at dksX0_nextDay_1 17 rfl rfl)
theorem dX0_nextDay_44 : decode cX0_nextDay 44 = .ok (.iconst 1, 1) := dk_4 (dk_at dksX0_nextDay_1 20 rfl rfl)
theorem dX0_nextDay_45 : decode cX0_nextDay 45 = .ok (.iadd, 1) := dk_96 (dk_at dksX0_nextDay_1 21 rfl rfl)
theorem dX0_nextDay_46 : decode cX0_nextDay 46 = .ok (.putfield 249, 3) := dk_181 0 249 (dk_at dksX0_nextDay_2 0 rfl rfl)
theorem dX0_nextDay_49 : decode cX0_nextDay 49 = .ok (.aload_n 0, 1) := dk_42 (dk_at dksX0_nextDay_2 3 rfl rfl)
theorem dX0_nextDay_50 : decode cX0_nextDay 50 = .ok (.getfield 55, 3) := dk_180 0 55 (dk_at dksX0_nextDay_2 4 rfl rfl)
theorem dX0_nextDay_53 : decode cX0_nextDay 53 = .ok (.getfield 211, 3) := dk_180 0 211 (dk_at dksX0_nextDay_2 7 rfl rfl)
theorem dX0_nextDay_56 : decode cX0_nextDay 56 = .ok (.getfield 249, 3) := dk_180 0 249 (dk_at dksX0_nextDay_2 10 rfl rfl)
theorem dX0_nextDay_59 : decode cX0_nextDay 59 = .ok (.ireturn, 1) := dk_172 (dk_at dksX0_nextDay_2 13 rfl rfl)
abbrev cX0_heard : ByteArray := prog_1_method_43_code
def yX0_heard : MethodName := ⟨RX0, "heard", "(II)I"⟩
def dkwX0_heard_4 : List UInt8 := [180, 1, 73, 27, 46, 167, 0, 9, 45, 180, 1, 75, 27, 46, 172]
abbrev dktX0_heard_4 : List UInt8 := dkwX0_heard_4 ++ []
def dkwX0_heard_3 : List UInt8 := [167, 0, 37, 28, 4, 160, 0, 12, 45, 180, 1, 70, 27, 46, 167, 0, 23, 28, 5, 160, 0, 12, 45]
abbrev dktX0_heard_3 : List UInt8 := dkwX0_heard_3 ++ dktX0_heard_4
def dkwX0_heard_2 : List UInt8 := [3, 181, 0, 87, 42, 180, 0, 87, 158, 0, 5, 2, 172, 28, 154, 0, 12, 45, 180, 1, 67, 27, 46]
abbrev dktX0_heard_2 : List UInt8 := dkwX0_heard_2 ++ dktX0_heard_3
def dkwX0_heard_1 : List UInt8 := [167, 0, 25, 27, 133, 9, 45, 180, 0, 252, 4, 100, 133, 184, 0, 173, 154, 0, 8, 16, 6, 167, 0, 4]
abbrev dktX0_heard_1 : List UInt8 := dkwX0_heard_1 ++ dktX0_heard_2
def dkwX0_heard_0 : List UInt8 := [42, 180, 0, 55, 180, 0, 211, 78, 42, 28, 133, 9, 20, 0, 183, 184, 0, 173, 154, 0, 7, 4]
abbrev dktX0_heard_0 : List UInt8 := dkwX0_heard_0 ++ dktX0_heard_1
theorem dksX0_heard_0 : cX0_heard.data.toList.drop 0 = dktX0_heard_0 := by decide +kernel
theorem dksX0_heard_1 : cX0_heard.data.toList.drop 22 = dktX0_heard_1 := dk_seg dksX0_heard_0 22 rfl rfl
theorem dksX0_heard_2 : cX0_heard.data.toList.drop 46 = dktX0_heard_2 := dk_seg dksX0_heard_1 24 rfl rfl
theorem dksX0_heard_3 : cX0_heard.data.toList.drop 69 = dktX0_heard_3 := dk_seg dksX0_heard_2 23 rfl rfl
theorem dksX0_heard_4 : cX0_heard.data.toList.drop 92 = dktX0_heard_4 := dk_seg dksX0_heard_3 23 rfl rfl
theorem dX0_heard_0 : decode cX0_heard 0 = .ok (.aload_n 0, 1) := dk_42 (dk_at dksX0_heard_0 0 rfl rfl)
theorem dX0_heard_1 : decode cX0_heard 1 = .ok (.getfield 55, 3) := dk_180 0 55 (dk_at dksX0_heard_0 1 rfl rfl)
theorem dX0_heard_4 : decode cX0_heard 4 = .ok (.getfield 211, 3) := dk_180 0 211 (dk_at dksX0_heard_0 4 rfl rfl)
theorem dX0_heard_7 : decode cX0_heard 7 = .ok (.astore_n 3, 1) := dk_78 (dk_at dksX0_heard_0 7 rfl rfl)
theorem dX0_heard_8 : decode cX0_heard 8 = .ok (.aload_n 0, 1) := dk_42 (dk_at dksX0_heard_0 8 rfl rfl)
theorem dX0_heard_9 : decode cX0_heard 9 = .ok (.iload_n 2, 1) := dk_28 (dk_at dksX0_heard_0 9 rfl rfl)
theorem dX0_heard_10 : decode cX0_heard 10 = .ok (.i2l, 1) := dk_133 (dk_at dksX0_heard_0 10 rfl rfl)
theorem dX0_heard_11 : decode cX0_heard 11 = .ok (.lconst 0, 1) := dk_9 (dk_at dksX0_heard_0 11 rfl rfl)
theorem dX0_heard_12 : decode cX0_heard 12 = .ok (.ldc2_w 183, 3) := dk_20 0 183 (dk_at dksX0_heard_0 12 rfl rfl)
theorem dX0_heard_15 : decode cX0_heard 15 = .ok (.invokestatic 173, 3) := dk_184 0 173 (dk_at dksX0_heard_0 15 rfl rfl)
theorem dX0_heard_18 : decode cX0_heard 18 = .ok (.ifCond .ne 7, 3) := dk_154 0 7 (dk_at dksX0_heard_0 18 rfl rfl)
theorem dX0_heard_21 : decode cX0_heard 21 = .ok (.iconst 1, 1) := dk_4 (dk_at dksX0_heard_0 21 rfl rfl)
theorem dX0_heard_22 : decode cX0_heard 22 = .ok (.goto 25, 3) := dk_167 0 25 (dk_at dksX0_heard_1 0 rfl rfl)
theorem dX0_heard_25 : decode cX0_heard 25 = .ok (.iload_n 1, 1) := dk_27 (dk_at dksX0_heard_1 3 rfl rfl)
theorem dX0_heard_26 : decode cX0_heard 26 = .ok (.i2l, 1) := dk_133 (dk_at dksX0_heard_1 4 rfl rfl)
theorem dX0_heard_27 : decode cX0_heard 27 = .ok (.lconst 0, 1) := dk_9 (dk_at dksX0_heard_1 5 rfl rfl)
theorem dX0_heard_28 : decode cX0_heard 28 = .ok (.aload_n 3, 1) := dk_45 (dk_at dksX0_heard_1 6 rfl rfl)
theorem dX0_heard_29 : decode cX0_heard 29 = .ok (.getfield 252, 3) := dk_180 0 252 (dk_at dksX0_heard_1 7 rfl rfl)
theorem dX0_heard_32 : decode cX0_heard 32 = .ok (.iconst 1, 1) := dk_4 (dk_at dksX0_heard_1 10 rfl rfl)
theorem dX0_heard_33 : decode cX0_heard 33 = .ok (.isub, 1) := dk_100 (dk_at dksX0_heard_1 11 rfl rfl)
theorem dX0_heard_34 : decode cX0_heard 34 = .ok (.i2l, 1) := dk_133 (dk_at dksX0_heard_1 12 rfl rfl)
theorem dX0_heard_35 : decode cX0_heard 35 = .ok (.invokestatic 173, 3) := dk_184 0 173 (dk_at dksX0_heard_1 13 rfl rfl)
theorem dX0_heard_38 : decode cX0_heard 38 = .ok (.ifCond .ne 8, 3) := dk_154 0 8 (dk_at dksX0_heard_1 16 rfl rfl)
theorem dX0_heard_41 : decode cX0_heard 41 = .ok (.bipush 6, 2) := dk_16 6 (dk_at dksX0_heard_1 19 rfl rfl)
theorem dX0_heard_43 : decode cX0_heard 43 = .ok (.goto 4, 3) := dk_167 0 4 (dk_at dksX0_heard_1 21 rfl rfl)
theorem dX0_heard_46 : decode cX0_heard 46 = .ok (.iconst 0, 1) := dk_3 (dk_at dksX0_heard_2 0 rfl rfl)
theorem dX0_heard_47 : decode cX0_heard 47 = .ok (.putfield 87, 3) := dk_181 0 87 (dk_at dksX0_heard_2 1 rfl rfl)
theorem dX0_heard_50 : decode cX0_heard 50 = .ok (.aload_n 0, 1) := dk_42 (dk_at dksX0_heard_2 4 rfl rfl)
theorem dX0_heard_51 : decode cX0_heard 51 = .ok (.getfield 87, 3) := dk_180 0 87 (dk_at dksX0_heard_2 5 rfl rfl)
theorem dX0_heard_54 : decode cX0_heard 54 = .ok (.ifCond .le 5, 3) := dk_158 0 5 (dk_at dksX0_heard_2 8 rfl rfl)
theorem dX0_heard_57 : decode cX0_heard 57 = .ok (.iconst (-1), 1) := dk_2 (dk_at dksX0_heard_2 11 rfl rfl)
theorem dX0_heard_58 : decode cX0_heard 58 = .ok (.ireturn, 1) := dk_172 (dk_at dksX0_heard_2 12 rfl rfl)
theorem dX0_heard_59 : decode cX0_heard 59 = .ok (.iload_n 2, 1) := dk_28 (dk_at dksX0_heard_2 13 rfl rfl)
theorem dX0_heard_60 : decode cX0_heard 60 = .ok (.ifCond .ne 12, 3) := dk_154 0 12 (dk_at dksX0_heard_2 14 rfl rfl)
theorem dX0_heard_63 : decode cX0_heard 63 = .ok (.aload_n 3, 1) := dk_45 (dk_at dksX0_heard_2 17 rfl rfl)
theorem dX0_heard_64 : decode cX0_heard 64 = .ok (.getfield 323, 3) := dk_180 1 67 (dk_at dksX0_heard_2 18 rfl rfl)
theorem dX0_heard_67 : decode cX0_heard 67 = .ok (.iload_n 1, 1) := dk_27 (dk_at dksX0_heard_2 21 rfl rfl)
theorem dX0_heard_68 : decode cX0_heard 68 = .ok (.iaload, 1) := dk_46 (dk_at dksX0_heard_2 22 rfl rfl)
theorem dX0_heard_69 : decode cX0_heard 69 = .ok (.goto 37, 3) := dk_167 0 37 (dk_at dksX0_heard_3 0 rfl rfl)
theorem dX0_heard_72 : decode cX0_heard 72 = .ok (.iload_n 2, 1) := dk_28 (dk_at dksX0_heard_3 3 rfl rfl)
theorem dX0_heard_73 : decode cX0_heard 73 = .ok (.iconst 1, 1) := dk_4 (dk_at dksX0_heard_3 4 rfl rfl)
theorem dX0_heard_74 : decode cX0_heard 74 = .ok (.if_icmp .ne 12, 3) := dk_160 0 12 (dk_at dksX0_heard_3 5 rfl rfl)
theorem dX0_heard_77 : decode cX0_heard 77 = .ok (.aload_n 3, 1) := dk_45 (dk_at dksX0_heard_3 8 rfl rfl)
theorem dX0_heard_78 : decode cX0_heard 78 = .ok (.getfield 326, 3) := dk_180 1 70 (dk_at dksX0_heard_3 9 rfl rfl)
theorem dX0_heard_81 : decode cX0_heard 81 = .ok (.iload_n 1, 1) := dk_27 (dk_at dksX0_heard_3 12 rfl rfl)
theorem dX0_heard_82 : decode cX0_heard 82 = .ok (.iaload, 1) := dk_46 (dk_at dksX0_heard_3 13 rfl rfl)
theorem dX0_heard_83 : decode cX0_heard 83 = .ok (.goto 23, 3) := dk_167 0 23 (dk_at dksX0_heard_3 14 rfl rfl)
theorem dX0_heard_86 : decode cX0_heard 86 = .ok (.iload_n 2, 1) := dk_28 (dk_at dksX0_heard_3 17 rfl rfl)
theorem dX0_heard_87 : decode cX0_heard 87 = .ok (.iconst 2, 1) := dk_5 (dk_at dksX0_heard_3 18 rfl rfl)
theorem dX0_heard_88 : decode cX0_heard 88 = .ok (.if_icmp .ne 12, 3) := dk_160 0 12 (dk_at dksX0_heard_3 19 rfl rfl)
theorem dX0_heard_91 : decode cX0_heard 91 = .ok (.aload_n 3, 1) := dk_45 (dk_at dksX0_heard_3 22 rfl rfl)
theorem dX0_heard_92 : decode cX0_heard 92 = .ok (.getfield 329, 3) := dk_180 1 73 (dk_at dksX0_heard_4 0 rfl rfl)
theorem dX0_heard_95 : decode cX0_heard 95 = .ok (.iload_n 1, 1) := dk_27 (dk_at dksX0_heard_4 3 rfl rfl)
theorem dX0_heard_96 : decode cX0_heard 96 = .ok (.iaload, 1) := dk_46 (dk_at dksX0_heard_4 4 rfl rfl)
theorem dX0_heard_97 : decode cX0_heard 97 = .ok (.goto 9, 3) := dk_167 0 9 (dk_at dksX0_heard_4 5 rfl rfl)
theorem dX0_heard_100 : decode cX0_heard 100 = .ok (.aload_n 3, 1) := dk_45 (dk_at dksX0_heard_4 8 rfl rfl)
theorem dX0_heard_101 : decode cX0_heard 101 = .ok (.getfield 331, 3) := dk_180 1 75 (dk_at dksX0_heard_4 9 rfl rfl)
theorem dX0_heard_104 : decode cX0_heard 104 = .ok (.iload_n 1, 1) := dk_27 (dk_at dksX0_heard_4 12 rfl rfl)
theorem dX0_heard_105 : decode cX0_heard 105 = .ok (.iaload, 1) := dk_46 (dk_at dksX0_heard_4 13 rfl rfl)
theorem dX0_heard_106 : decode cX0_heard 106 = .ok (.ireturn, 1) := dk_172 (dk_at dksX0_heard_4 14 rfl rfl)
abbrev cX0_left : ByteArray := prog_1_method_45_code
def yX0_left : MethodName := ⟨RX0, "left", "()I"⟩
def dkwX0_left_0 : List UInt8 := [42, 3, 181, 0, 87, 42, 42, 180, 0, 55, 180, 0, 211, 182, 1, 82, 182, 1, 85, 172]
abbrev dktX0_left_0 : List UInt8 := dkwX0_left_0 ++ []
theorem dksX0_left_0 : cX0_left.data.toList.drop 0 = dktX0_left_0 := by decide +kernel
theorem dX0_left_0 : decode cX0_left 0 = .ok (.aload_n 0, 1) := dk_42 (dk_at dksX0_left_0 0 rfl rfl)
theorem dX0_left_1 : decode cX0_left 1 = .ok (.iconst 0, 1) := dk_3 (dk_at dksX0_left_0 1 rfl rfl)
theorem dX0_left_2 : decode cX0_left 2 = .ok (.putfield 87, 3) := dk_181 0 87 (dk_at dksX0_left_0 2 rfl rfl)
theorem dX0_left_5 : decode cX0_left 5 = .ok (.aload_n 0, 1) := dk_42 (dk_at dksX0_left_0 5 rfl rfl)
theorem dX0_left_6 : decode cX0_left 6 = .ok (.aload_n 0, 1) := dk_42 (dk_at dksX0_left_0 6 rfl rfl)
theorem dX0_left_7 : decode cX0_left 7 = .ok (.getfield 55, 3) := dk_180 0 55 (dk_at dksX0_left_0 7 rfl rfl)
theorem dX0_left_10 : decode cX0_left 10 = .ok (.getfield 211, 3) := dk_180 0 211 (dk_at dksX0_left_0 10 rfl rfl)
theorem dX0_left_13 : decode cX0_left 13 = .ok (.invokevirtual 338, 3) := dk_182 1 82 (dk_at dksX0_left_0 13 rfl rfl)
theorem dX0_left_16 : decode cX0_left 16 = .ok (.invokevirtual 341, 3) := dk_182 1 85 (dk_at dksX0_left_0 16 rfl rfl)
theorem dX0_left_19 : decode cX0_left 19 = .ok (.ireturn, 1) := dk_172 (dk_at dksX0_left_0 19 rfl rfl)
abbrev cX0_left_2 : ByteArray := prog_1_method_44_code
def yX0_left_2 : MethodName := ⟨RX0, "left", "(I)I"⟩
def dkwX0_left_2_0 : List UInt8 := [42, 180, 0, 55, 180, 0, 211, 42, 182, 0, 165, 27, 182, 1, 78, 172]
abbrev dktX0_left_2_0 : List UInt8 := dkwX0_left_2_0 ++ []
theorem dksX0_left_2_0 : cX0_left_2.data.toList.drop 0 = dktX0_left_2_0 := by decide +kernel
theorem dX0_left_2_0 : decode cX0_left_2 0 = .ok (.aload_n 0, 1) := dk_42 (dk_at dksX0_left_2_0 0 rfl rfl)
theorem dX0_left_2_1 : decode cX0_left_2 1 = .ok (.getfield 55, 3) := dk_180 0 55 (dk_at dksX0_left_2_0 1 rfl rfl)
theorem dX0_left_2_4 : decode cX0_left_2 4 = .ok (.getfield 211, 3) := dk_180 0 211 (dk_at dksX0_left_2_0 4 rfl rfl)
theorem dX0_left_2_7 : decode cX0_left_2 7 = .ok (.aload_n 0, 1) := dk_42 (dk_at dksX0_left_2_0 7 rfl rfl)
theorem dX0_left_2_8 : decode cX0_left_2 8 = .ok (.invokevirtual 165, 3) := dk_182 0 165 (dk_at dksX0_left_2_0 8 rfl rfl)
theorem dX0_left_2_11 : decode cX0_left_2 11 = .ok (.iload_n 1, 1) := dk_27 (dk_at dksX0_left_2_0 11 rfl rfl)
theorem dX0_left_2_12 : decode cX0_left_2 12 = .ok (.invokevirtual 334, 3) := dk_182 1 78 (dk_at dksX0_left_2_0 12 rfl rfl)
theorem dX0_left_2_15 : decode cX0_left_2 15 = .ok (.ireturn, 1) := dk_172 (dk_at dksX0_left_2_0 15 rfl rfl)
abbrev cX0_isLeft : ByteArray := prog_1_method_46_code
def yX0_isLeft : MethodName := ⟨RX0, "isLeft", "(I)I"⟩
def dkwX0_isLeft_2 : List UInt8 := [182, 1, 82, 182, 1, 88, 153, 0, 7, 4, 167, 0, 4, 3, 172]
abbrev dktX0_isLeft_2 : List UInt8 := dkwX0_isLeft_2 ++ []
def dkwX0_isLeft_1 : List UInt8 := [2, 167, 0, 36, 42, 180, 0, 55, 180, 0, 211, 42, 182, 0, 165, 27, 42, 180, 0, 55, 180, 0, 211]
abbrev dktX0_isLeft_1 : List UInt8 := dkwX0_isLeft_1 ++ dktX0_isLeft_2
def dkwX0_isLeft_0 : List UInt8 := [42, 42, 27, 182, 1, 6, 153, 0, 7, 3, 167, 0, 4, 4, 181, 0, 87, 42, 180, 0, 87, 158, 0, 7]
abbrev dktX0_isLeft_0 : List UInt8 := dkwX0_isLeft_0 ++ dktX0_isLeft_1
theorem dksX0_isLeft_0 : cX0_isLeft.data.toList.drop 0 = dktX0_isLeft_0 := by decide +kernel
theorem dksX0_isLeft_1 : cX0_isLeft.data.toList.drop 24 = dktX0_isLeft_1 := dk_seg dksX0_isLeft_0 24 rfl rfl
theorem dksX0_isLeft_2 : cX0_isLeft.data.toList.drop 47 = dktX0_isLeft_2 := dk_seg dksX0_isLeft_1 23 rfl rfl
theorem dX0_isLeft_0 : decode cX0_isLeft 0 = .ok (.aload_n 0, 1) := dk_42 (dk_at dksX0_isLeft_0 0 rfl rfl)
theorem dX0_isLeft_1 : decode cX0_isLeft 1 = .ok (.aload_n 0, 1) := dk_42 (dk_at dksX0_isLeft_0 1 rfl rfl)
theorem dX0_isLeft_2 : decode cX0_isLeft 2 = .ok (.iload_n 1, 1) := dk_27 (dk_at dksX0_isLeft_0 2 rfl rfl)
theorem dX0_isLeft_3 : decode cX0_isLeft 3 = .ok (.invokevirtual 262, 3) := dk_182 1 6 (dk_at dksX0_isLeft_0 3 rfl rfl)
theorem dX0_isLeft_6 : decode cX0_isLeft 6 = .ok (.ifCond .eq 7, 3) := dk_153 0 7 (dk_at dksX0_isLeft_0 6 rfl rfl)
theorem dX0_isLeft_9 : decode cX0_isLeft 9 = .ok (.iconst 0, 1) := dk_3 (dk_at dksX0_isLeft_0 9 rfl rfl)
theorem dX0_isLeft_10 : decode cX0_isLeft 10 = .ok (.goto 4, 3) := dk_167 0 4 (dk_at dksX0_isLeft_0 10 rfl rfl)
theorem dX0_isLeft_13 : decode cX0_isLeft 13 = .ok (.iconst 1, 1) := dk_4 (dk_at dksX0_isLeft_0 13 rfl rfl)
theorem dX0_isLeft_14 : decode cX0_isLeft 14 = .ok (.putfield 87, 3) := dk_181 0 87 (dk_at dksX0_isLeft_0 14 rfl rfl)
theorem dX0_isLeft_17 : decode cX0_isLeft 17 = .ok (.aload_n 0, 1) := dk_42 (dk_at dksX0_isLeft_0 17 rfl rfl)
theorem dX0_isLeft_18 : decode cX0_isLeft 18 = .ok (.getfield 87, 3) := dk_180 0 87 (dk_at dksX0_isLeft_0 18 rfl rfl)
theorem dX0_isLeft_21 : decode cX0_isLeft 21 = .ok (.ifCond .le 7, 3) := dk_158 0 7 (dk_at dksX0_isLeft_0 21 rfl rfl)
theorem dX0_isLeft_24 : decode cX0_isLeft 24 = .ok (.iconst (-1), 1) := dk_2 (dk_at dksX0_isLeft_1 0 rfl rfl)
theorem dX0_isLeft_25 : decode cX0_isLeft 25 = .ok (.goto 36, 3) := dk_167 0 36 (dk_at dksX0_isLeft_1 1 rfl rfl)
theorem dX0_isLeft_28 : decode cX0_isLeft 28 = .ok (.aload_n 0, 1) := dk_42 (dk_at dksX0_isLeft_1 4 rfl rfl)
theorem dX0_isLeft_29 : decode cX0_isLeft 29 = .ok (.getfield 55, 3) := dk_180 0 55 (dk_at dksX0_isLeft_1 5 rfl rfl)
theorem dX0_isLeft_32 : decode cX0_isLeft 32 = .ok (.getfield 211, 3) := dk_180 0 211 (dk_at dksX0_isLeft_1 8 rfl rfl)
theorem dX0_isLeft_35 : decode cX0_isLeft 35 = .ok (.aload_n 0, 1) := dk_42 (dk_at dksX0_isLeft_1 11 rfl rfl)
theorem dX0_isLeft_36 : decode cX0_isLeft 36 = .ok (.invokevirtual 165, 3) := dk_182 0 165 (dk_at dksX0_isLeft_1 12 rfl rfl)
theorem dX0_isLeft_39 : decode cX0_isLeft 39 = .ok (.iload_n 1, 1) := dk_27 (dk_at dksX0_isLeft_1 15 rfl rfl)
theorem dX0_isLeft_40 : decode cX0_isLeft 40 = .ok (.aload_n 0, 1) := dk_42 (dk_at dksX0_isLeft_1 16 rfl rfl)
theorem dX0_isLeft_41 : decode cX0_isLeft 41 = .ok (.getfield 55, 3) := dk_180 0 55 (dk_at dksX0_isLeft_1 17 rfl rfl)
theorem dX0_isLeft_44 : decode cX0_isLeft 44 = .ok (.getfield 211, 3) := dk_180 0 211 (dk_at dksX0_isLeft_1 20 rfl rfl)
theorem dX0_isLeft_47 : decode cX0_isLeft 47 = .ok (.invokevirtual 338, 3) := dk_182 1 82 (dk_at dksX0_isLeft_2 0 rfl rfl)
theorem dX0_isLeft_50 : decode cX0_isLeft 50 = .ok (.invokevirtual 344, 3) := dk_182 1 88 (dk_at dksX0_isLeft_2 3 rfl rfl)
theorem dX0_isLeft_53 : decode cX0_isLeft 53 = .ok (.ifCond .eq 7, 3) := dk_153 0 7 (dk_at dksX0_isLeft_2 6 rfl rfl)
theorem dX0_isLeft_56 : decode cX0_isLeft 56 = .ok (.iconst 1, 1) := dk_4 (dk_at dksX0_isLeft_2 9 rfl rfl)
theorem dX0_isLeft_57 : decode cX0_isLeft 57 = .ok (.goto 4, 3) := dk_167 0 4 (dk_at dksX0_isLeft_2 10 rfl rfl)
theorem dX0_isLeft_60 : decode cX0_isLeft 60 = .ok (.iconst 0, 1) := dk_3 (dk_at dksX0_isLeft_2 13 rfl rfl)
theorem dX0_isLeft_61 : decode cX0_isLeft 61 = .ok (.ireturn, 1) := dk_172 (dk_at dksX0_isLeft_2 14 rfl rfl)
abbrev cX0_fits : ByteArray := prog_1_method_47_code
def yX0_fits : MethodName := ⟨RX0, "fits", "(III)I"⟩
def dkwX0_fits_4 : List UInt8 := [180, 1, 38, 27, 50, 182, 1, 96, 126, 28, 122, 4, 126, 172]
abbrev dktX0_fits_4 : List UInt8 := dkwX0_fits_4 ++ []
def dkwX0_fits_3 : List UInt8 := [182, 0, 165, 27, 29, 42, 180, 0, 55, 180, 0, 211, 182, 1, 82, 182, 1, 92, 42, 182, 0, 165]
abbrev dktX0_fits_3 : List UInt8 := dkwX0_fits_3 ++ dktX0_fits_4
def dkwX0_fits_2 : List UInt8 := [181, 0, 87, 42, 180, 0, 87, 158, 0, 7, 2, 167, 0, 46, 42, 180, 0, 55, 180, 0, 211, 42]
abbrev dktX0_fits_2 : List UInt8 := dkwX0_fits_2 ++ dktX0_fits_3
def dkwX0_fits_1 : List UInt8 := [4, 167, 0, 23, 42, 182, 0, 165, 180, 1, 14, 29, 182, 1, 18, 154, 0, 8, 16, 7, 167, 0, 4, 3]
abbrev dktX0_fits_1 : List UInt8 := dkwX0_fits_1 ++ dktX0_fits_2
def dkwX0_fits_0 : List UInt8 := [42, 42, 27, 182, 1, 33, 153, 0, 18, 28, 184, 1, 53, 153, 0, 11, 42, 29, 182, 1, 6, 154, 0, 7]
abbrev dktX0_fits_0 : List UInt8 := dkwX0_fits_0 ++ dktX0_fits_1
theorem dksX0_fits_0 : cX0_fits.data.toList.drop 0 = dktX0_fits_0 := by decide +kernel
theorem dksX0_fits_1 : cX0_fits.data.toList.drop 24 = dktX0_fits_1 := dk_seg dksX0_fits_0 24 rfl rfl
theorem dksX0_fits_2 : cX0_fits.data.toList.drop 48 = dktX0_fits_2 := dk_seg dksX0_fits_1 24 rfl rfl
theorem dksX0_fits_3 : cX0_fits.data.toList.drop 70 = dktX0_fits_3 := dk_seg dksX0_fits_2 22 rfl rfl
theorem dksX0_fits_4 : cX0_fits.data.toList.drop 92 = dktX0_fits_4 := dk_seg dksX0_fits_3 22 rfl rfl
theorem dX0_fits_0 : decode cX0_fits 0 = .ok (.aload_n 0, 1) := dk_42 (dk_at dksX0_fits_0 0 rfl rfl)
theorem dX0_fits_1 : decode cX0_fits 1 = .ok (.aload_n 0, 1) := dk_42 (dk_at dksX0_fits_0 1 rfl rfl)
theorem dX0_fits_2 : decode cX0_fits 2 = .ok (.iload_n 1, 1) := dk_27 (dk_at dksX0_fits_0 2 rfl rfl)
theorem dX0_fits_3 : decode cX0_fits 3 = .ok (.invokevirtual 289, 3) := dk_182 1 33 (dk_at dksX0_fits_0 3 rfl rfl)
theorem dX0_fits_6 : decode cX0_fits 6 = .ok (.ifCond .eq 18, 3) := dk_153 0 18 (dk_at dksX0_fits_0 6 rfl rfl)
theorem dX0_fits_9 : decode cX0_fits 9 = .ok (.iload_n 2, 1) := dk_28 (dk_at dksX0_fits_0 9 rfl rfl)
theorem dX0_fits_10 : decode cX0_fits 10 = .ok (.invokestatic 309, 3) := dk_184 1 53 (dk_at dksX0_fits_0 10 rfl rfl)
theorem dX0_fits_13 : decode cX0_fits 13 = .ok (.ifCond .eq 11, 3) := dk_153 0 11 (dk_at dksX0_fits_0 13 rfl rfl)
theorem dX0_fits_16 : decode cX0_fits 16 = .ok (.aload_n 0, 1) := dk_42 (dk_at dksX0_fits_0 16 rfl rfl)
theorem dX0_fits_17 : decode cX0_fits 17 = .ok (.iload_n 3, 1) := dk_29 (dk_at dksX0_fits_0 17 rfl rfl)
theorem dX0_fits_18 : decode cX0_fits 18 = .ok (.invokevirtual 262, 3) := dk_182 1 6 (dk_at dksX0_fits_0 18 rfl rfl)
theorem dX0_fits_21 : decode cX0_fits 21 = .ok (.ifCond .ne 7, 3) := dk_154 0 7 (dk_at dksX0_fits_0 21 rfl rfl)
theorem dX0_fits_24 : decode cX0_fits 24 = .ok (.iconst 1, 1) := dk_4 (dk_at dksX0_fits_1 0 rfl rfl)
theorem dX0_fits_25 : decode cX0_fits 25 = .ok (.goto 23, 3) := dk_167 0 23 (dk_at dksX0_fits_1 1 rfl rfl)
theorem dX0_fits_28 : decode cX0_fits 28 = .ok (.aload_n 0, 1) := dk_42 (dk_at dksX0_fits_1 4 rfl rfl)
theorem dX0_fits_29 : decode cX0_fits 29 = .ok (.invokevirtual 165, 3) := dk_182 0 165 (dk_at dksX0_fits_1 5 rfl rfl)
theorem dX0_fits_32 : decode cX0_fits 32 = .ok (.getfield 270, 3) := dk_180 1 14 (dk_at dksX0_fits_1 8 rfl rfl)
theorem dX0_fits_35 : decode cX0_fits 35 = .ok (.iload_n 3, 1) := dk_29 (dk_at dksX0_fits_1 11 rfl rfl)
theorem dX0_fits_36 : decode cX0_fits 36 = .ok (.invokevirtual 274, 3) := dk_182 1 18 (dk_at dksX0_fits_1 12 rfl rfl)
theorem dX0_fits_39 : decode cX0_fits 39 = .ok (.ifCond .ne 8, 3) := dk_154 0 8 (dk_at dksX0_fits_1 15 rfl rfl)
theorem dX0_fits_42 : decode cX0_fits 42 = .ok (.bipush 7, 2) := dk_16 7 (dk_at dksX0_fits_1 18 rfl rfl)
theorem dX0_fits_44 : decode cX0_fits 44 = .ok (.goto 4, 3) := dk_167 0 4 (dk_at dksX0_fits_1 20 rfl rfl)
theorem dX0_fits_47 : decode cX0_fits 47 = .ok (.iconst 0, 1) := dk_3 (dk_at dksX0_fits_1 23 rfl rfl)
theorem dX0_fits_48 : decode cX0_fits 48 = .ok (.putfield 87, 3) := dk_181 0 87 (dk_at dksX0_fits_2 0 rfl rfl)
theorem dX0_fits_51 : decode cX0_fits 51 = .ok (.aload_n 0, 1) := dk_42 (dk_at dksX0_fits_2 3 rfl rfl)
theorem dX0_fits_52 : decode cX0_fits 52 = .ok (.getfield 87, 3) := dk_180 0 87 (dk_at dksX0_fits_2 4 rfl rfl)
theorem dX0_fits_55 : decode cX0_fits 55 = .ok (.ifCond .le 7, 3) := dk_158 0 7 (dk_at dksX0_fits_2 7 rfl rfl)
theorem dX0_fits_58 : decode cX0_fits 58 = .ok (.iconst (-1), 1) := dk_2 (dk_at dksX0_fits_2 10 rfl rfl)
theorem dX0_fits_59 : decode cX0_fits 59 = .ok (.goto 46, 3) := dk_167 0 46 (dk_at dksX0_fits_2 11 rfl rfl)
theorem dX0_fits_62 : decode cX0_fits 62 = .ok (.aload_n 0, 1) := dk_42 (dk_at dksX0_fits_2 14 rfl rfl)
theorem dX0_fits_63 : decode cX0_fits 63 = .ok (.getfield 55, 3) := dk_180 0 55 (dk_at dksX0_fits_2 15 rfl rfl)
theorem dX0_fits_66 : decode cX0_fits 66 = .ok (.getfield 211, 3) := dk_180 0 211 (dk_at dksX0_fits_2 18 rfl rfl)
theorem dX0_fits_69 : decode cX0_fits 69 = .ok (.aload_n 0, 1) := dk_42 (dk_at dksX0_fits_2 21 rfl rfl)
theorem dX0_fits_70 : decode cX0_fits 70 = .ok (.invokevirtual 165, 3) := dk_182 0 165 (dk_at dksX0_fits_3 0 rfl rfl)
theorem dX0_fits_73 : decode cX0_fits 73 = .ok (.iload_n 1, 1) := dk_27 (dk_at dksX0_fits_3 3 rfl rfl)
theorem dX0_fits_74 : decode cX0_fits 74 = .ok (.iload_n 3, 1) := dk_29 (dk_at dksX0_fits_3 4 rfl rfl)
theorem dX0_fits_75 : decode cX0_fits 75 = .ok (.aload_n 0, 1) := dk_42 (dk_at dksX0_fits_3 5 rfl rfl)
theorem dX0_fits_76 : decode cX0_fits 76 = .ok (.getfield 55, 3) := dk_180 0 55 (dk_at dksX0_fits_3 6 rfl rfl)
theorem dX0_fits_79 : decode cX0_fits 79 = .ok (.getfield 211, 3) := dk_180 0 211 (dk_at dksX0_fits_3 9 rfl rfl)
theorem dX0_fits_82 : decode cX0_fits 82 = .ok (.invokevirtual 338, 3) := dk_182 1 82 (dk_at dksX0_fits_3 12 rfl rfl)
theorem dX0_fits_85 : decode cX0_fits 85 = .ok (.invokevirtual 348, 3) := dk_182 1 92 (dk_at dksX0_fits_3 15 rfl rfl)
theorem dX0_fits_88 : decode cX0_fits 88 = .ok (.aload_n 0, 1) := dk_42 (dk_at dksX0_fits_3 18 rfl rfl)
theorem dX0_fits_89 : decode cX0_fits 89 = .ok (.invokevirtual 165, 3) := dk_182 0 165 (dk_at dksX0_fits_3 19 rfl rfl)
theorem dX0_fits_92 : decode cX0_fits 92 = .ok (.getfield 294, 3) := dk_180 1 38 (dk_at dksX0_fits_4 0 rfl rfl)
theorem dX0_fits_95 : decode cX0_fits 95 = .ok (.iload_n 1, 1) := dk_27 (dk_at dksX0_fits_4 3 rfl rfl)
theorem dX0_fits_96 : decode cX0_fits 96 = .ok (.aaload, 1) := dk_50 (dk_at dksX0_fits_4 4 rfl rfl)
theorem dX0_fits_97 : decode cX0_fits 97 = .ok (.invokevirtual 352, 3) := dk_182 1 96 (dk_at dksX0_fits_4 5 rfl rfl)
theorem dX0_fits_100 : decode cX0_fits 100 = .ok (.iand, 1) := dk_126 (dk_at dksX0_fits_4 8 rfl rfl)
theorem dX0_fits_101 : decode cX0_fits 101 = .ok (.iload_n 2, 1) := dk_28 (dk_at dksX0_fits_4 9 rfl rfl)
theorem dX0_fits_102 : decode cX0_fits 102 = .ok (.ishr, 1) := dk_122 (dk_at dksX0_fits_4 10 rfl rfl)
theorem dX0_fits_103 : decode cX0_fits 103 = .ok (.iconst 1, 1) := dk_4 (dk_at dksX0_fits_4 11 rfl rfl)
theorem dX0_fits_104 : decode cX0_fits 104 = .ok (.iand, 1) := dk_126 (dk_at dksX0_fits_4 12 rfl rfl)
theorem dX0_fits_105 : decode cX0_fits 105 = .ok (.ireturn, 1) := dk_172 (dk_at dksX0_fits_4 13 rfl rfl)
abbrev cX0_sure : ByteArray := prog_1_method_48_code
def yX0_sure : MethodName := ⟨RX0, "sure", "(I)I"⟩
def dkwX0_sure_2 : List UInt8 := [182, 1, 99, 61, 42, 28, 156, 0, 8, 16, 6, 167, 0, 4, 3, 181, 0, 87, 28, 172]
abbrev dktX0_sure_2 : List UInt8 := dkwX0_sure_2 ++ []
def dkwX0_sure_1 : List UInt8 := [2, 172, 42, 180, 0, 55, 180, 0, 211, 42, 182, 0, 165, 27, 42, 180, 0, 55, 180, 0, 211, 182, 1, 82]
abbrev dktX0_sure_1 : List UInt8 := dkwX0_sure_1 ++ dktX0_sure_2
def dkwX0_sure_0 : List UInt8 := [42, 42, 27, 182, 1, 23, 153, 0, 7, 3, 167, 0, 4, 4, 181, 0, 87, 42, 180, 0, 87, 158, 0, 5]
abbrev dktX0_sure_0 : List UInt8 := dkwX0_sure_0 ++ dktX0_sure_1
theorem dksX0_sure_0 : cX0_sure.data.toList.drop 0 = dktX0_sure_0 := by decide +kernel
theorem dksX0_sure_1 : cX0_sure.data.toList.drop 24 = dktX0_sure_1 := dk_seg dksX0_sure_0 24 rfl rfl
theorem dksX0_sure_2 : cX0_sure.data.toList.drop 48 = dktX0_sure_2 := dk_seg dksX0_sure_1 24 rfl rfl
theorem dX0_sure_0 : decode cX0_sure 0 = .ok (.aload_n 0, 1) := dk_42 (dk_at dksX0_sure_0 0 rfl rfl)
theorem dX0_sure_1 : decode cX0_sure 1 = .ok (.aload_n 0, 1) := dk_42 (dk_at dksX0_sure_0 1 rfl rfl)
theorem dX0_sure_2 : decode cX0_sure 2 = .ok (.iload_n 1, 1) := dk_27 (dk_at dksX0_sure_0 2 rfl rfl)
theorem dX0_sure_3 : decode cX0_sure 3 = .ok (.invokevirtual 279, 3) := dk_182 1 23 (dk_at dksX0_sure_0 3 rfl rfl)
theorem dX0_sure_6 : decode cX0_sure 6 = .ok (.ifCond .eq 7, 3) := dk_153 0 7 (dk_at dksX0_sure_0 6 rfl rfl)
theorem dX0_sure_9 : decode cX0_sure 9 = .ok (.iconst 0, 1) := dk_3 (dk_at dksX0_sure_0 9 rfl rfl)
theorem dX0_sure_10 : decode cX0_sure 10 = .ok (.goto 4, 3) := dk_167 0 4 (dk_at dksX0_sure_0 10 rfl rfl)
theorem dX0_sure_13 : decode cX0_sure 13 = .ok (.iconst 1, 1) := dk_4 (dk_at dksX0_sure_0 13 rfl rfl)
theorem dX0_sure_14 : decode cX0_sure 14 = .ok (.putfield 87, 3) := dk_181 0 87 (dk_at dksX0_sure_0 14 rfl rfl)
theorem dX0_sure_17 : decode cX0_sure 17 = .ok (.aload_n 0, 1) := dk_42 (dk_at dksX0_sure_0 17 rfl rfl)
theorem dX0_sure_18 : decode cX0_sure 18 = .ok (.getfield 87, 3) := dk_180 0 87 (dk_at dksX0_sure_0 18 rfl rfl)
theorem dX0_sure_21 : decode cX0_sure 21 = .ok (.ifCond .le 5, 3) := dk_158 0 5 (dk_at dksX0_sure_0 21 rfl rfl)
theorem dX0_sure_24 : decode cX0_sure 24 = .ok (.iconst (-1), 1) := dk_2 (dk_at dksX0_sure_1 0 rfl rfl)
theorem dX0_sure_25 : decode cX0_sure 25 = .ok (.ireturn, 1) := dk_172 (dk_at dksX0_sure_1 1 rfl rfl)
theorem dX0_sure_26 : decode cX0_sure 26 = .ok (.aload_n 0, 1) := dk_42 (dk_at dksX0_sure_1 2 rfl rfl)
theorem dX0_sure_27 : decode cX0_sure 27 = .ok (.getfield 55, 3) := dk_180 0 55 (dk_at dksX0_sure_1 3 rfl rfl)
theorem dX0_sure_30 : decode cX0_sure 30 = .ok (.getfield 211, 3) := dk_180 0 211 (dk_at dksX0_sure_1 6 rfl rfl)
theorem dX0_sure_33 : decode cX0_sure 33 = .ok (.aload_n 0, 1) := dk_42 (dk_at dksX0_sure_1 9 rfl rfl)
theorem dX0_sure_34 : decode cX0_sure 34 = .ok (.invokevirtual 165, 3) := dk_182 0 165 (dk_at dksX0_sure_1 10 rfl rfl)
theorem dX0_sure_37 : decode cX0_sure 37 = .ok (.iload_n 1, 1) := dk_27 (dk_at dksX0_sure_1 13 rfl rfl)
theorem dX0_sure_38 : decode cX0_sure 38 = .ok (.aload_n 0, 1) := dk_42 (dk_at dksX0_sure_1 14 rfl rfl)
theorem dX0_sure_39 : decode cX0_sure 39 = .ok (.getfield 55, 3) := dk_180 0 55 (dk_at dksX0_sure_1 15 rfl rfl)
theorem dX0_sure_42 : decode cX0_sure 42 = .ok (.getfield 211, 3) := dk_180 0 211 (dk_at dksX0_sure_1 18 rfl rfl)
theorem dX0_sure_45 : decode cX0_sure 45 = .ok (.invokevirtual 338, 3) := dk_182 1 82 (dk_at dksX0_sure_1 21 rfl rfl)
theorem dX0_sure_48 : decode cX0_sure 48 = .ok (.invokevirtual 355, 3) := dk_182 1 99 (dk_at dksX0_sure_2 0 rfl rfl)
theorem dX0_sure_51 : decode cX0_sure 51 = .ok (.istore_n 2, 1) := dk_61 (dk_at dksX0_sure_2 3 rfl rfl)
theorem dX0_sure_52 : decode cX0_sure 52 = .ok (.aload_n 0, 1) := dk_42 (dk_at dksX0_sure_2 4 rfl rfl)
theorem dX0_sure_53 : decode cX0_sure 53 = .ok (.iload_n 2, 1) := dk_28 (dk_at dksX0_sure_2 5 rfl rfl)
theorem dX0_sure_54 : decode cX0_sure 54 = .ok (.ifCond .ge 8, 3) := dk_156 0 8 (dk_at dksX0_sure_2 6 rfl rfl)
theorem dX0_sure_57 : decode cX0_sure 57 = .ok (.bipush 6, 2) := dk_16 6 (dk_at dksX0_sure_2 9 rfl rfl)
theorem dX0_sure_59 : decode cX0_sure 59 = .ok (.goto 4, 3) := dk_167 0 4 (dk_at dksX0_sure_2 11 rfl rfl)
theorem dX0_sure_62 : decode cX0_sure 62 = .ok (.iconst 0, 1) := dk_3 (dk_at dksX0_sure_2 14 rfl rfl)
theorem dX0_sure_63 : decode cX0_sure 63 = .ok (.putfield 87, 3) := dk_181 0 87 (dk_at dksX0_sure_2 15 rfl rfl)
theorem dX0_sure_66 : decode cX0_sure 66 = .ok (.iload_n 2, 1) := dk_28 (dk_at dksX0_sure_2 18 rfl rfl)
theorem dX0_sure_67 : decode cX0_sure 67 = .ok (.ireturn, 1) := dk_172 (dk_at dksX0_sure_2 19 rfl rfl)
abbrev cX0_chance : ByteArray := prog_1_method_50_code
def yX0_chance : MethodName := ⟨RX0, "chance", "(I)Z"⟩
def dkwX0_chance_3 : List UInt8 := [182, 1, 107, 32, 182, 1, 111, 87, 42, 180, 0, 87, 154, 0, 7, 4, 167, 0, 4, 3, 172]
abbrev dktX0_chance_3 : List UInt8 := dkwX0_chance_3 ++ []
def dkwX0_chance_2 : List UInt8 := [167, 0, 4, 3, 181, 0, 87, 42, 180, 0, 87, 154, 0, 21, 42, 42, 42, 180, 0, 55, 180, 0, 211, 27]
abbrev dktX0_chance_2 : List UInt8 := dkwX0_chance_2 ++ dktX0_chance_3
def dkwX0_chance_1 : List UInt8 := [65, 42, 42, 27, 182, 1, 23, 154, 0, 7, 4, 167, 0, 15, 32, 9, 148, 154, 0, 8, 16, 6]
abbrev dktX0_chance_1 : List UInt8 := dkwX0_chance_1 ++ dktX0_chance_2
def dkwX0_chance_0 : List UInt8 := [42, 27, 182, 1, 23, 153, 0, 18, 42, 42, 180, 0, 55, 180, 0, 211, 2, 182, 1, 107, 167, 0, 4, 9]
abbrev dktX0_chance_0 : List UInt8 := dkwX0_chance_0 ++ dktX0_chance_1
theorem dksX0_chance_0 : cX0_chance.data.toList.drop 0 = dktX0_chance_0 := by decide +kernel
theorem dksX0_chance_1 : cX0_chance.data.toList.drop 24 = dktX0_chance_1 := dk_seg dksX0_chance_0 24 rfl rfl
theorem dksX0_chance_2 : cX0_chance.data.toList.drop 46 = dktX0_chance_2 := dk_seg dksX0_chance_1 22 rfl rfl
theorem dksX0_chance_3 : cX0_chance.data.toList.drop 70 = dktX0_chance_3 := dk_seg dksX0_chance_2 24 rfl rfl
theorem dX0_chance_0 : decode cX0_chance 0 = .ok (.aload_n 0, 1) := dk_42 (dk_at dksX0_chance_0 0 rfl rfl)
theorem dX0_chance_1 : decode cX0_chance 1 = .ok (.iload_n 1, 1) := dk_27 (dk_at dksX0_chance_0 1 rfl rfl)
theorem dX0_chance_2 : decode cX0_chance 2 = .ok (.invokevirtual 279, 3) := dk_182 1 23 (dk_at dksX0_chance_0 2 rfl rfl)
theorem dX0_chance_5 : decode cX0_chance 5 = .ok (.ifCond .eq 18, 3) := dk_153 0 18 (dk_at dksX0_chance_0 5 rfl rfl)
theorem dX0_chance_8 : decode cX0_chance 8 = .ok (.aload_n 0, 1) := dk_42 (dk_at dksX0_chance_0 8 rfl rfl)
theorem dX0_chance_9 : decode cX0_chance 9 = .ok (.aload_n 0, 1) := dk_42 (dk_at dksX0_chance_0 9 rfl rfl)
theorem dX0_chance_10 : decode cX0_chance 10 = .ok (.getfield 55, 3) := dk_180 0 55 (dk_at dksX0_chance_0 10 rfl rfl)
theorem dX0_chance_13 : decode cX0_chance 13 = .ok (.getfield 211, 3) := dk_180 0 211 (dk_at dksX0_chance_0 13 rfl rfl)
theorem dX0_chance_16 : decode cX0_chance 16 = .ok (.iconst (-1), 1) := dk_2 (dk_at dksX0_chance_0 16 rfl rfl)
theorem dX0_chance_17 : decode cX0_chance 17 = .ok (.invokevirtual 363, 3) := dk_182 1 107 (dk_at dksX0_chance_0 17 rfl rfl)
theorem dX0_chance_20 : decode cX0_chance 20 = .ok (.goto 4, 3) := dk_167 0 4 (dk_at dksX0_chance_0 20 rfl rfl)
theorem dX0_chance_23 : decode cX0_chance 23 = .ok (.lconst 0, 1) := dk_9 (dk_at dksX0_chance_0 23 rfl rfl)
theorem dX0_chance_24 : decode cX0_chance 24 = .ok (.lstore_n 2, 1) := dk_65 (dk_at dksX0_chance_1 0 rfl rfl)
theorem dX0_chance_25 : decode cX0_chance 25 = .ok (.aload_n 0, 1) := dk_42 (dk_at dksX0_chance_1 1 rfl rfl)
theorem dX0_chance_26 : decode cX0_chance 26 = .ok (.aload_n 0, 1) := dk_42 (dk_at dksX0_chance_1 2 rfl rfl)
theorem dX0_chance_27 : decode cX0_chance 27 = .ok (.iload_n 1, 1) := dk_27 (dk_at dksX0_chance_1 3 rfl rfl)
theorem dX0_chance_28 : decode cX0_chance 28 = .ok (.invokevirtual 279, 3) := dk_182 1 23 (dk_at dksX0_chance_1 4 rfl rfl)
theorem dX0_chance_31 : decode cX0_chance 31 = .ok (.ifCond .ne 7, 3) := dk_154 0 7 (dk_at dksX0_chance_1 7 rfl rfl)
theorem dX0_chance_34 : decode cX0_chance 34 = .ok (.iconst 1, 1) := dk_4 (dk_at dksX0_chance_1 10 rfl rfl)
theorem dX0_chance_35 : decode cX0_chance 35 = .ok (.goto 15, 3) := dk_167 0 15 (dk_at dksX0_chance_1 11 rfl rfl)
theorem dX0_chance_38 : decode cX0_chance 38 = .ok (.lload_n 2, 1) := dk_32 (dk_at dksX0_chance_1 14 rfl rfl)
theorem dX0_chance_39 : decode cX0_chance 39 = .ok (.lconst 0, 1) := dk_9 (dk_at dksX0_chance_1 15 rfl rfl)
theorem dX0_chance_40 : decode cX0_chance 40 = .ok (.lcmp, 1) := dk_148 (dk_at dksX0_chance_1 16 rfl rfl)
theorem dX0_chance_41 : decode cX0_chance 41 = .ok (.ifCond .ne 8, 3) := dk_154 0 8 (dk_at dksX0_chance_1 17 rfl rfl)
theorem dX0_chance_44 : decode cX0_chance 44 = .ok (.bipush 6, 2) := dk_16 6 (dk_at dksX0_chance_1 20 rfl rfl)
theorem dX0_chance_46 : decode cX0_chance 46 = .ok (.goto 4, 3) := dk_167 0 4 (dk_at dksX0_chance_2 0 rfl rfl)
theorem dX0_chance_49 : decode cX0_chance 49 = .ok (.iconst 0, 1) := dk_3 (dk_at dksX0_chance_2 3 rfl rfl)
theorem dX0_chance_50 : decode cX0_chance 50 = .ok (.putfield 87, 3) := dk_181 0 87 (dk_at dksX0_chance_2 4 rfl rfl)
theorem dX0_chance_53 : decode cX0_chance 53 = .ok (.aload_n 0, 1) := dk_42 (dk_at dksX0_chance_2 7 rfl rfl)
theorem dX0_chance_54 : decode cX0_chance 54 = .ok (.getfield 87, 3) := dk_180 0 87 (dk_at dksX0_chance_2 8 rfl rfl)
theorem dX0_chance_57 : decode cX0_chance 57 = .ok (.ifCond .ne 21, 3) := dk_154 0 21 (dk_at dksX0_chance_2 11 rfl rfl)
theorem dX0_chance_60 : decode cX0_chance 60 = .ok (.aload_n 0, 1) := dk_42 (dk_at dksX0_chance_2 14 rfl rfl)
theorem dX0_chance_61 : decode cX0_chance 61 = .ok (.aload_n 0, 1) := dk_42 (dk_at dksX0_chance_2 15 rfl rfl)
theorem dX0_chance_62 : decode cX0_chance 62 = .ok (.aload_n 0, 1) := dk_42 (dk_at dksX0_chance_2 16 rfl rfl)
theorem dX0_chance_63 : decode cX0_chance 63 = .ok (.getfield 55, 3) := dk_180 0 55 (dk_at dksX0_chance_2 17 rfl rfl)
theorem dX0_chance_66 : decode cX0_chance 66 = .ok (.getfield 211, 3) := dk_180 0 211 (dk_at dksX0_chance_2 20 rfl rfl)
theorem dX0_chance_69 : decode cX0_chance 69 = .ok (.iload_n 1, 1) := dk_27 (dk_at dksX0_chance_2 23 rfl rfl)
theorem dX0_chance_70 : decode cX0_chance 70 = .ok (.invokevirtual 363, 3) := dk_182 1 107 (dk_at dksX0_chance_3 0 rfl rfl)
theorem dX0_chance_73 : decode cX0_chance 73 = .ok (.lload_n 2, 1) := dk_32 (dk_at dksX0_chance_3 3 rfl rfl)
theorem dX0_chance_74 : decode cX0_chance 74 = .ok (.invokevirtual 367, 3) := dk_182 1 111 (dk_at dksX0_chance_3 4 rfl rfl)
theorem dX0_chance_77 : decode cX0_chance 77 = .ok (.pop, 1) := dk_87 (dk_at dksX0_chance_3 7 rfl rfl)
theorem dX0_chance_78 : decode cX0_chance 78 = .ok (.aload_n 0, 1) := dk_42 (dk_at dksX0_chance_3 8 rfl rfl)
theorem dX0_chance_79 : decode cX0_chance 79 = .ok (.getfield 87, 3) := dk_180 0 87 (dk_at dksX0_chance_3 9 rfl rfl)
theorem dX0_chance_82 : decode cX0_chance 82 = .ok (.ifCond .ne 7, 3) := dk_154 0 7 (dk_at dksX0_chance_3 12 rfl rfl)
theorem dX0_chance_85 : decode cX0_chance 85 = .ok (.iconst 1, 1) := dk_4 (dk_at dksX0_chance_3 15 rfl rfl)
theorem dX0_chance_86 : decode cX0_chance 86 = .ok (.goto 4, 3) := dk_167 0 4 (dk_at dksX0_chance_3 16 rfl rfl)
theorem dX0_chance_89 : decode cX0_chance 89 = .ok (.iconst 0, 1) := dk_3 (dk_at dksX0_chance_3 19 rfl rfl)
theorem dX0_chance_90 : decode cX0_chance 90 = .ok (.ireturn, 1) := dk_172 (dk_at dksX0_chance_3 20 rfl rfl)
abbrev cX0_weightOf : ByteArray := prog_1_method_49_code
def yX0_weightOf : MethodName := ⟨RX0, "weightOf", "(LAskingCourt$Record;I)J"⟩
def dkwX0_weightOf_3 : List UInt8 := [132, 5, 1, 167, 255, 188, 33, 173]
abbrev dktX0_weightOf_3 : List UInt8 := dkwX0_weightOf_3 ++ []
def dkwX0_weightOf_2 : List UInt8 := [21, 5, 182, 1, 18, 153, 0, 18, 33, 43, 42, 182, 0, 165, 21, 5, 2, 3, 182, 1, 103, 97, 66]
abbrev dktX0_weightOf_2 : List UInt8 := dkwX0_weightOf_2 ++ dktX0_weightOf_3
def dkwX0_weightOf_1 : List UInt8 := [43, 182, 1, 82, 182, 1, 88, 153, 0, 39, 28, 155, 0, 20, 42, 182, 0, 165, 180, 1, 26, 28, 50]
abbrev dktX0_weightOf_1 : List UInt8 := dkwX0_weightOf_1 ++ dktX0_weightOf_2
def dkwX0_weightOf_0 : List UInt8 := [9, 66, 3, 54, 5, 21, 5, 42, 182, 0, 165, 180, 0, 168, 162, 0, 62, 43, 42, 182, 0, 165, 21, 5]
abbrev dktX0_weightOf_0 : List UInt8 := dkwX0_weightOf_0 ++ dktX0_weightOf_1
theorem dksX0_weightOf_0 : cX0_weightOf.data.toList.drop 0 = dktX0_weightOf_0 := by decide +kernel
theorem dksX0_weightOf_1 : cX0_weightOf.data.toList.drop 24 = dktX0_weightOf_1 := dk_seg dksX0_weightOf_0 24 rfl rfl
theorem dksX0_weightOf_2 : cX0_weightOf.data.toList.drop 47 = dktX0_weightOf_2 := dk_seg dksX0_weightOf_1 23 rfl rfl
theorem dksX0_weightOf_3 : cX0_weightOf.data.toList.drop 70 = dktX0_weightOf_3 := dk_seg dksX0_weightOf_2 23 rfl rfl
theorem dX0_weightOf_0 : decode cX0_weightOf 0 = .ok (.lconst 0, 1) := dk_9 (dk_at dksX0_weightOf_0 0 rfl rfl)
theorem dX0_weightOf_1 : decode cX0_weightOf 1 = .ok (.lstore_n 3, 1) := dk_66 (dk_at dksX0_weightOf_0 1 rfl rfl)
theorem dX0_weightOf_2 : decode cX0_weightOf 2 = .ok (.iconst 0, 1) := dk_3 (dk_at dksX0_weightOf_0 2 rfl rfl)
theorem dX0_weightOf_3 : decode cX0_weightOf 3 = .ok (.istore 5, 2) := dk_54 5 (dk_at dksX0_weightOf_0 3 rfl rfl)
theorem dX0_weightOf_5 : decode cX0_weightOf 5 = .ok (.iload 5, 2) := dk_21 5 (dk_at dksX0_weightOf_0 5 rfl rfl)
theorem dX0_weightOf_7 : decode cX0_weightOf 7 = .ok (.aload_n 0, 1) := dk_42 (dk_at dksX0_weightOf_0 7 rfl rfl)
theorem dX0_weightOf_8 : decode cX0_weightOf 8 = .ok (.invokevirtual 165, 3) := dk_182 0 165 (dk_at dksX0_weightOf_0 8 rfl rfl)
theorem dX0_weightOf_11 : decode cX0_weightOf 11 = .ok (.getfield 168, 3) := dk_180 0 168 (dk_at dksX0_weightOf_0 11 rfl rfl)
theorem dX0_weightOf_14 : decode cX0_weightOf 14 = .ok (.if_icmp .ge 62, 3) := dk_162 0 62 (dk_at dksX0_weightOf_0 14 rfl rfl)
theorem dX0_weightOf_17 : decode cX0_weightOf 17 = .ok (.aload_n 1, 1) := dk_43 (dk_at dksX0_weightOf_0 17 rfl rfl)
theorem dX0_weightOf_18 : decode cX0_weightOf 18 = .ok (.aload_n 0, 1) := dk_42 (dk_at dksX0_weightOf_0 18 rfl rfl)
theorem dX0_weightOf_19 : decode cX0_weightOf 19 = .ok (.invokevirtual 165, 3) := dk_182 0 165 (dk_at dksX0_weightOf_0 19 rfl rfl)
theorem dX0_weightOf_22 : decode cX0_weightOf 22 = .ok (.iload 5, 2) := dk_21 5 (dk_at dksX0_weightOf_0 22 rfl rfl)
theorem dX0_weightOf_24 : decode cX0_weightOf 24 = .ok (.aload_n 1, 1) := dk_43 (dk_at dksX0_weightOf_1 0 rfl rfl)
theorem dX0_weightOf_25 : decode cX0_weightOf 25 = .ok (.invokevirtual 338, 3) := dk_182 1 82 (dk_at dksX0_weightOf_1 1 rfl rfl)
theorem dX0_weightOf_28 : decode cX0_weightOf 28 = .ok (.invokevirtual 344, 3) := dk_182 1 88 (dk_at dksX0_weightOf_1 4 rfl rfl)
theorem dX0_weightOf_31 : decode cX0_weightOf 31 = .ok (.ifCond .eq 39, 3) := dk_153 0 39 (dk_at dksX0_weightOf_1 7 rfl rfl)
theorem dX0_weightOf_34 : decode cX0_weightOf 34 = .ok (.iload_n 2, 1) := dk_28 (dk_at dksX0_weightOf_1 10 rfl rfl)
theorem dX0_weightOf_35 : decode cX0_weightOf 35 = .ok (.ifCond .lt 20, 3) := dk_155 0 20 (dk_at dksX0_weightOf_1 11 rfl rfl)
theorem dX0_weightOf_38 : decode cX0_weightOf 38 = .ok (.aload_n 0, 1) := dk_42 (dk_at dksX0_weightOf_1 14 rfl rfl)
theorem dX0_weightOf_39 : decode cX0_weightOf 39 = .ok (.invokevirtual 165, 3) := dk_182 0 165 (dk_at dksX0_weightOf_1 15 rfl rfl)
theorem dX0_weightOf_42 : decode cX0_weightOf 42 = .ok (.getfield 282, 3) := dk_180 1 26 (dk_at dksX0_weightOf_1 18 rfl rfl)
theorem dX0_weightOf_45 : decode cX0_weightOf 45 = .ok (.iload_n 2, 1) := dk_28 (dk_at dksX0_weightOf_1 21 rfl rfl)
theorem dX0_weightOf_46 : decode cX0_weightOf 46 = .ok (.aaload, 1) := dk_50 (dk_at dksX0_weightOf_1 22 rfl rfl)
theorem dX0_weightOf_47 : decode cX0_weightOf 47 = .ok (.iload 5, 2) := dk_21 5 (dk_at dksX0_weightOf_2 0 rfl rfl)
theorem dX0_weightOf_49 : decode cX0_weightOf 49 = .ok (.invokevirtual 274, 3) := dk_182 1 18 (dk_at dksX0_weightOf_2 2 rfl rfl)
theorem dX0_weightOf_52 : decode cX0_weightOf 52 = .ok (.ifCond .eq 18, 3) := dk_153 0 18 (dk_at dksX0_weightOf_2 5 rfl rfl)
theorem dX0_weightOf_55 : decode cX0_weightOf 55 = .ok (.lload_n 3, 1) := dk_33 (dk_at dksX0_weightOf_2 8 rfl rfl)
theorem dX0_weightOf_56 : decode cX0_weightOf 56 = .ok (.aload_n 1, 1) := dk_43 (dk_at dksX0_weightOf_2 9 rfl rfl)
theorem dX0_weightOf_57 : decode cX0_weightOf 57 = .ok (.aload_n 0, 1) := dk_42 (dk_at dksX0_weightOf_2 10 rfl rfl)
theorem dX0_weightOf_58 : decode cX0_weightOf 58 = .ok (.invokevirtual 165, 3) := dk_182 0 165 (dk_at dksX0_weightOf_2 11 rfl rfl)
theorem dX0_weightOf_61 : decode cX0_weightOf 61 = .ok (.iload 5, 2) := dk_21 5 (dk_at dksX0_weightOf_2 14 rfl rfl)
theorem dX0_weightOf_63 : decode cX0_weightOf 63 = .ok (.iconst (-1), 1) := dk_2 (dk_at dksX0_weightOf_2 16 rfl rfl)
theorem dX0_weightOf_64 : decode cX0_weightOf 64 = .ok (.iconst 0, 1) := dk_3 (dk_at dksX0_weightOf_2 17 rfl rfl)
theorem dX0_weightOf_65 : decode cX0_weightOf 65 = .ok (.invokevirtual 359, 3) := dk_182 1 103 (dk_at dksX0_weightOf_2 18 rfl rfl)
theorem dX0_weightOf_68 : decode cX0_weightOf 68 = .ok (.ladd, 1) := dk_97 (dk_at dksX0_weightOf_2 21 rfl rfl)
theorem dX0_weightOf_69 : decode cX0_weightOf 69 = .ok (.lstore_n 3, 1) := dk_66 (dk_at dksX0_weightOf_2 22 rfl rfl)
theorem dX0_weightOf_70 : decode cX0_weightOf 70 = .ok (.iinc 5 1, 3) := dk_132 5 1 (dk_at dksX0_weightOf_3 0 rfl rfl)
theorem dX0_weightOf_73 : decode cX0_weightOf 73 = .ok (.goto (-68), 3) := dk_167 255 188 (dk_at dksX0_weightOf_3 3 rfl rfl)
theorem dX0_weightOf_76 : decode cX0_weightOf 76 = .ok (.lload_n 3, 1) := dk_33 (dk_at dksX0_weightOf_3 6 rfl rfl)
theorem dX0_weightOf_77 : decode cX0_weightOf 77 = .ok (.lreturn, 1) := dk_173 (dk_at dksX0_weightOf_3 7 rfl rfl)
abbrev cX0_fraction : ByteArray := prog_1_method_13_code
def yX0_fraction : MethodName := ⟨RX0, "fraction", "(JJ)I"⟩
def dkwX0_fraction_2 : List UInt8 := [181, 0, 48, 31, 184, 0, 106, 172]
abbrev dktX0_fraction_2 : List UInt8 := dkwX0_fraction_2 ++ []
def dkwX0_fraction_1 : List UInt8 := [22, 7, 55, 5, 22, 9, 55, 7, 167, 255, 234, 42, 31, 22, 5, 109, 181, 0, 90, 42, 33, 22, 5, 109]
abbrev dktX0_fraction_1 : List UInt8 := dkwX0_fraction_1 ++ dktX0_fraction_2
def dkwX0_fraction_0 : List UInt8 := [31, 184, 0, 100, 55, 5, 33, 55, 7, 22, 7, 9, 148, 153, 0, 21, 22, 5, 22, 7, 113, 55, 9]
abbrev dktX0_fraction_0 : List UInt8 := dkwX0_fraction_0 ++ dktX0_fraction_1
theorem dksX0_fraction_0 : cX0_fraction.data.toList.drop 0 = dktX0_fraction_0 := by decide +kernel
theorem dksX0_fraction_1 : cX0_fraction.data.toList.drop 23 = dktX0_fraction_1 := dk_seg dksX0_fraction_0 23 rfl rfl
theorem dksX0_fraction_2 : cX0_fraction.data.toList.drop 47 = dktX0_fraction_2 := dk_seg dksX0_fraction_1 24 rfl rfl
theorem dX0_fraction_0 : decode cX0_fraction 0 = .ok (.lload_n 1, 1) := dk_31 (dk_at dksX0_fraction_0 0 rfl rfl)
theorem dX0_fraction_1 : decode cX0_fraction 1 = .ok (.invokestatic 100, 3) := dk_184 0 100 (dk_at dksX0_fraction_0 1 rfl rfl)
theorem dX0_fraction_4 : decode cX0_fraction 4 = .ok (.lstore 5, 2) := dk_55 5 (dk_at dksX0_fraction_0 4 rfl rfl)
theorem dX0_fraction_6 : decode cX0_fraction 6 = .ok (.lload_n 3, 1) := dk_33 (dk_at dksX0_fraction_0 6 rfl rfl)
theorem dX0_fraction_7 : decode cX0_fraction 7 = .ok (.lstore 7, 2) := dk_55 7 (dk_at dksX0_fraction_0 7 rfl rfl)
theorem dX0_fraction_9 : decode cX0_fraction 9 = .ok (.lload 7, 2) := dk_22 7 (dk_at dksX0_fraction_0 9 rfl rfl)
theorem dX0_fraction_11 : decode cX0_fraction 11 = .ok (.lconst 0, 1) := dk_9 (dk_at dksX0_fraction_0 11 rfl rfl)
theorem dX0_fraction_12 : decode cX0_fraction 12 = .ok (.lcmp, 1) := dk_148 (dk_at dksX0_fraction_0 12 rfl rfl)
theorem dX0_fraction_13 : decode cX0_fraction 13 = .ok (.ifCond .eq 21, 3) := dk_153 0 21 (dk_at dksX0_fraction_0 13 rfl rfl)
theorem dX0_fraction_16 : decode cX0_fraction 16 = .ok (.lload 5, 2) := dk_22 5 (dk_at dksX0_fraction_0 16 rfl rfl)
theorem dX0_fraction_18 : decode cX0_fraction 18 = .ok (.lload 7, 2) := dk_22 7 (dk_at dksX0_fraction_0 18 rfl rfl)
theorem dX0_fraction_20 : decode cX0_fraction 20 = .ok (.lrem, 1) := dk_113 (dk_at dksX0_fraction_0 20 rfl rfl)
theorem dX0_fraction_21 : decode cX0_fraction 21 = .ok (.lstore 9, 2) := dk_55 9 (dk_at dksX0_fraction_0 21 rfl rfl)
theorem dX0_fraction_23 : decode cX0_fraction 23 = .ok (.lload 7, 2) := dk_22 7 (dk_at dksX0_fraction_1 0 rfl rfl)
theorem dX0_fraction_25 : decode cX0_fraction 25 = .ok (.lstore 5, 2) := dk_55 5 (dk_at dksX0_fraction_1 2 rfl rfl)
theorem dX0_fraction_27 : decode cX0_fraction 27 = .ok (.lload 9, 2) := dk_22 9 (dk_at dksX0_fraction_1 4 rfl rfl)
theorem dX0_fraction_29 : decode cX0_fraction 29 = .ok (.lstore 7, 2) := dk_55 7 (dk_at dksX0_fraction_1 6 rfl rfl)
theorem dX0_fraction_31 : decode cX0_fraction 31 = .ok (.goto (-22), 3) := dk_167 255 234 (dk_at dksX0_fraction_1 8 rfl rfl)
theorem dX0_fraction_34 : decode cX0_fraction 34 = .ok (.aload_n 0, 1) := dk_42 (dk_at dksX0_fraction_1 11 rfl rfl)
theorem dX0_fraction_35 : decode cX0_fraction 35 = .ok (.lload_n 1, 1) := dk_31 (dk_at dksX0_fraction_1 12 rfl rfl)
theorem dX0_fraction_36 : decode cX0_fraction 36 = .ok (.lload 5, 2) := dk_22 5 (dk_at dksX0_fraction_1 13 rfl rfl)
theorem dX0_fraction_38 : decode cX0_fraction 38 = .ok (.ldiv, 1) := dk_109 (dk_at dksX0_fraction_1 15 rfl rfl)
theorem dX0_fraction_39 : decode cX0_fraction 39 = .ok (.putfield 90, 3) := dk_181 0 90 (dk_at dksX0_fraction_1 16 rfl rfl)
theorem dX0_fraction_42 : decode cX0_fraction 42 = .ok (.aload_n 0, 1) := dk_42 (dk_at dksX0_fraction_1 19 rfl rfl)
theorem dX0_fraction_43 : decode cX0_fraction 43 = .ok (.lload_n 3, 1) := dk_33 (dk_at dksX0_fraction_1 20 rfl rfl)
theorem dX0_fraction_44 : decode cX0_fraction 44 = .ok (.lload 5, 2) := dk_22 5 (dk_at dksX0_fraction_1 21 rfl rfl)
theorem dX0_fraction_46 : decode cX0_fraction 46 = .ok (.ldiv, 1) := dk_109 (dk_at dksX0_fraction_1 23 rfl rfl)
theorem dX0_fraction_47 : decode cX0_fraction 47 = .ok (.putfield 48, 3) := dk_181 0 48 (dk_at dksX0_fraction_2 0 rfl rfl)
theorem dX0_fraction_50 : decode cX0_fraction 50 = .ok (.lload_n 1, 1) := dk_31 (dk_at dksX0_fraction_2 3 rfl rfl)
theorem dX0_fraction_51 : decode cX0_fraction 51 = .ok (.invokestatic 106, 3) := dk_184 0 106 (dk_at dksX0_fraction_2 4 rfl rfl)
theorem dX0_fraction_54 : decode cX0_fraction 54 = .ok (.ireturn, 1) := dk_172 (dk_at dksX0_fraction_2 7 rfl rfl)
abbrev cX0_trust : ByteArray := prog_1_method_51_code
def yX0_trust : MethodName := ⟨RX0, "trust", "(II)Z"⟩
def dkwX0_trust_6 : List UInt8 := [33, 182, 1, 111, 87, 4, 172]
abbrev dktX0_trust_6 : List UInt8 := dkwX0_trust_6 ++ []
def dkwX0_trust_5 : List UInt8 := [182, 0, 165, 21, 7, 27, 4, 28, 120, 182, 1, 103, 97, 55, 5, 132, 7, 1, 167, 255, 187, 42, 22, 5]
abbrev dktX0_trust_5 : List UInt8 := dkwX0_trust_5 ++ dktX0_trust_6
def dkwX0_trust_4 : List UInt8 := [180, 0, 211, 182, 1, 82, 182, 1, 88, 153, 0, 28, 22, 5, 42, 180, 0, 55, 180, 0, 211, 42]
abbrev dktX0_trust_4 : List UInt8 := dkwX0_trust_4 ++ dktX0_trust_5
def dkwX0_trust_3 : List UInt8 := [180, 0, 168, 162, 0, 63, 42, 180, 0, 55, 180, 0, 211, 42, 182, 0, 165, 21, 7, 42, 180, 0, 55]
abbrev dktX0_trust_3 : List UInt8 := dkwX0_trust_3 ++ dktX0_trust_4
def dkwX0_trust_2 : List UInt8 := [181, 0, 87, 42, 180, 0, 87, 158, 0, 5, 3, 172, 9, 55, 5, 3, 54, 7, 21, 7, 42, 182, 0, 165]
abbrev dktX0_trust_2 : List UInt8 := dkwX0_trust_2 ++ dktX0_trust_3
def dkwX0_trust_1 : List UInt8 := [184, 1, 53, 154, 0, 7, 4, 167, 0, 15, 33, 9, 148, 154, 0, 8, 16, 6, 167, 0, 4, 3]
abbrev dktX0_trust_1 : List UInt8 := dkwX0_trust_1 ++ dktX0_trust_2
def dkwX0_trust_0 : List UInt8 := [42, 42, 180, 0, 55, 180, 0, 211, 2, 182, 1, 107, 66, 42, 42, 27, 182, 1, 33, 153, 0, 10, 28]
abbrev dktX0_trust_0 : List UInt8 := dkwX0_trust_0 ++ dktX0_trust_1
theorem dksX0_trust_0 : cX0_trust.data.toList.drop 0 = dktX0_trust_0 := by decide +kernel
theorem dksX0_trust_1 : cX0_trust.data.toList.drop 23 = dktX0_trust_1 := dk_seg dksX0_trust_0 23 rfl rfl
theorem dksX0_trust_2 : cX0_trust.data.toList.drop 45 = dktX0_trust_2 := dk_seg dksX0_trust_1 22 rfl rfl
theorem dksX0_trust_3 : cX0_trust.data.toList.drop 69 = dktX0_trust_3 := dk_seg dksX0_trust_2 24 rfl rfl
theorem dksX0_trust_4 : cX0_trust.data.toList.drop 92 = dktX0_trust_4 := dk_seg dksX0_trust_3 23 rfl rfl
theorem dksX0_trust_5 : cX0_trust.data.toList.drop 114 = dktX0_trust_5 := dk_seg dksX0_trust_4 22 rfl rfl
theorem dksX0_trust_6 : cX0_trust.data.toList.drop 138 = dktX0_trust_6 := dk_seg dksX0_trust_5 24 rfl rfl
theorem dX0_trust_0 : decode cX0_trust 0 = .ok (.aload_n 0, 1) := dk_42 (dk_at dksX0_trust_0 0 rfl rfl)
theorem dX0_trust_1 : decode cX0_trust 1 = .ok (.aload_n 0, 1) := dk_42 (dk_at dksX0_trust_0 1 rfl rfl)
theorem dX0_trust_2 : decode cX0_trust 2 = .ok (.getfield 55, 3) := dk_180 0 55 (dk_at dksX0_trust_0 2 rfl rfl)
theorem dX0_trust_5 : decode cX0_trust 5 = .ok (.getfield 211, 3) := dk_180 0 211 (dk_at dksX0_trust_0 5 rfl rfl)
theorem dX0_trust_8 : decode cX0_trust 8 = .ok (.iconst (-1), 1) := dk_2 (dk_at dksX0_trust_0 8 rfl rfl)
theorem dX0_trust_9 : decode cX0_trust 9 = .ok (.invokevirtual 363, 3) := dk_182 1 107 (dk_at dksX0_trust_0 9 rfl rfl)
theorem dX0_trust_12 : decode cX0_trust 12 = .ok (.lstore_n 3, 1) := dk_66 (dk_at dksX0_trust_0 12 rfl rfl)
theorem dX0_trust_13 : decode cX0_trust 13 = .ok (.aload_n 0, 1) := dk_42 (dk_at dksX0_trust_0 13 rfl rfl)
theorem dX0_trust_14 : decode cX0_trust 14 = .ok (.aload_n 0, 1) := dk_42 (dk_at dksX0_trust_0 14 rfl rfl)
theorem dX0_trust_15 : decode cX0_trust 15 = .ok (.iload_n 1, 1) := dk_27 (dk_at dksX0_trust_0 15 rfl rfl)
theorem dX0_trust_16 : decode cX0_trust 16 = .ok (.invokevirtual 289, 3) := dk_182 1 33 (dk_at dksX0_trust_0 16 rfl rfl)
theorem dX0_trust_19 : decode cX0_trust 19 = .ok (.ifCond .eq 10, 3) := dk_153 0 10 (dk_at dksX0_trust_0 19 rfl rfl)
theorem dX0_trust_22 : decode cX0_trust 22 = .ok (.iload_n 2, 1) := dk_28 (dk_at dksX0_trust_0 22 rfl rfl)
theorem dX0_trust_23 : decode cX0_trust 23 = .ok (.invokestatic 309, 3) := dk_184 1 53 (dk_at dksX0_trust_1 0 rfl rfl)
theorem dX0_trust_26 : decode cX0_trust 26 = .ok (.ifCond .ne 7, 3) := dk_154 0 7 (dk_at dksX0_trust_1 3 rfl rfl)
theorem dX0_trust_29 : decode cX0_trust 29 = .ok (.iconst 1, 1) := dk_4 (dk_at dksX0_trust_1 6 rfl rfl)
theorem dX0_trust_30 : decode cX0_trust 30 = .ok (.goto 15, 3) := dk_167 0 15 (dk_at dksX0_trust_1 7 rfl rfl)
theorem dX0_trust_33 : decode cX0_trust 33 = .ok (.lload_n 3, 1) := dk_33 (dk_at dksX0_trust_1 10 rfl rfl)
theorem dX0_trust_34 : decode cX0_trust 34 = .ok (.lconst 0, 1) := dk_9 (dk_at dksX0_trust_1 11 rfl rfl)
theorem dX0_trust_35 : decode cX0_trust 35 = .ok (.lcmp, 1) := dk_148 (dk_at dksX0_trust_1 12 rfl rfl)
theorem dX0_trust_36 : decode cX0_trust 36 = .ok (.ifCond .ne 8, 3) := dk_154 0 8 (dk_at dksX0_trust_1 13 rfl rfl)
theorem dX0_trust_39 : decode cX0_trust 39 = .ok (.bipush 6, 2) := dk_16 6 (dk_at dksX0_trust_1 16 rfl rfl)
theorem dX0_trust_41 : decode cX0_trust 41 = .ok (.goto 4, 3) := dk_167 0 4 (dk_at dksX0_trust_1 18 rfl rfl)
theorem dX0_trust_44 : decode cX0_trust 44 = .ok (.iconst 0, 1) := dk_3 (dk_at dksX0_trust_1 21 rfl rfl)
theorem dX0_trust_45 : decode cX0_trust 45 = .ok (.putfield 87, 3) := dk_181 0 87 (dk_at dksX0_trust_2 0 rfl rfl)
theorem dX0_trust_48 : decode cX0_trust 48 = .ok (.aload_n 0, 1) := dk_42 (dk_at dksX0_trust_2 3 rfl rfl)
theorem dX0_trust_49 : decode cX0_trust 49 = .ok (.getfield 87, 3) := dk_180 0 87 (dk_at dksX0_trust_2 4 rfl rfl)
theorem dX0_trust_52 : decode cX0_trust 52 = .ok (.ifCond .le 5, 3) := dk_158 0 5 (dk_at dksX0_trust_2 7 rfl rfl)
theorem dX0_trust_55 : decode cX0_trust 55 = .ok (.iconst 0, 1) := dk_3 (dk_at dksX0_trust_2 10 rfl rfl)
theorem dX0_trust_56 : decode cX0_trust 56 = .ok (.ireturn, 1) := dk_172 (dk_at dksX0_trust_2 11 rfl rfl)
theorem dX0_trust_57 : decode cX0_trust 57 = .ok (.lconst 0, 1) := dk_9 (dk_at dksX0_trust_2 12 rfl rfl)
theorem dX0_trust_58 : decode cX0_trust 58 = .ok (.lstore 5, 2) := dk_55 5 (dk_at dksX0_trust_2 13 rfl rfl)
theorem dX0_trust_60 : decode cX0_trust 60 = .ok (.iconst 0, 1) := dk_3 (dk_at dksX0_trust_2 15 rfl rfl)
theorem dX0_trust_61 : decode cX0_trust 61 = .ok (.istore 7, 2) := dk_54 7 (dk_at dksX0_trust_2 16 rfl rfl)
theorem dX0_trust_63 : decode cX0_trust 63 = .ok (.iload 7, 2) := dk_21 7 (dk_at dksX0_trust_2 18 rfl rfl)
theorem dX0_trust_65 : decode cX0_trust 65 = .ok (.aload_n 0, 1) := dk_42 (dk_at dksX0_trust_2 20 rfl rfl)
theorem dX0_trust_66 : decode cX0_trust 66 = .ok (.invokevirtual 165, 3) := dk_182 0 165 (dk_at dksX0_trust_2 21 rfl rfl)
theorem dX0_trust_69 : decode cX0_trust 69 = .ok (.getfield 168, 3) := dk_180 0 168 (dk_at dksX0_trust_3 0 rfl rfl)
theorem dX0_trust_72 : decode cX0_trust 72 = .ok (.if_icmp .ge 63, 3) := dk_162 0 63 (dk_at dksX0_trust_3 3 rfl rfl)
theorem dX0_trust_75 : decode cX0_trust 75 = .ok (.aload_n 0, 1) := dk_42 (dk_at dksX0_trust_3 6 rfl rfl)
theorem dX0_trust_76 : decode cX0_trust 76 = .ok (.getfield 55, 3) := dk_180 0 55 (dk_at dksX0_trust_3 7 rfl rfl)
theorem dX0_trust_79 : decode cX0_trust 79 = .ok (.getfield 211, 3) := dk_180 0 211 (dk_at dksX0_trust_3 10 rfl rfl)
theorem dX0_trust_82 : decode cX0_trust 82 = .ok (.aload_n 0, 1) := dk_42 (dk_at dksX0_trust_3 13 rfl rfl)
theorem dX0_trust_83 : decode cX0_trust 83 = .ok (.invokevirtual 165, 3) := dk_182 0 165 (dk_at dksX0_trust_3 14 rfl rfl)
theorem dX0_trust_86 : decode cX0_trust 86 = .ok (.iload 7, 2) := dk_21 7 (dk_at dksX0_trust_3 17 rfl rfl)
theorem dX0_trust_88 : decode cX0_trust 88 = .ok (.aload_n 0, 1) := dk_42 (dk_at dksX0_trust_3 19 rfl rfl)
theorem dX0_trust_89 : decode cX0_trust 89 = .ok (.getfield 55, 3) := dk_180 0 55 (dk_at dksX0_trust_3 20 rfl rfl)
theorem dX0_trust_92 : decode cX0_trust 92 = .ok (.getfield 211, 3) := dk_180 0 211 (dk_at dksX0_trust_4 0 rfl rfl)
theorem dX0_trust_95 : decode cX0_trust 95 = .ok (.invokevirtual 338, 3) := dk_182 1 82 (dk_at dksX0_trust_4 3 rfl rfl)
theorem dX0_trust_98 : decode cX0_trust 98 = .ok (.invokevirtual 344, 3) := dk_182 1 88 (dk_at dksX0_trust_4 6 rfl rfl)
theorem dX0_trust_101 : decode cX0_trust 101 = .ok (.ifCond .eq 28, 3) := dk_153 0 28 (dk_at dksX0_trust_4 9 rfl rfl)
theorem dX0_trust_104 : decode cX0_trust 104 = .ok (.lload 5, 2) := dk_22 5 (dk_at dksX0_trust_4 12 rfl rfl)
theorem dX0_trust_106 : decode cX0_trust 106 = .ok (.aload_n 0, 1) := dk_42 (dk_at dksX0_trust_4 14 rfl rfl)
theorem dX0_trust_107 : decode cX0_trust 107 = .ok (.getfield 55, 3) := dk_180 0 55 (dk_at dksX0_trust_4 15 rfl rfl)
theorem dX0_trust_110 : decode cX0_trust 110 = .ok (.getfield 211, 3) := dk_180 0 211 (dk_at dksX0_trust_4 18 rfl rfl)
theorem dX0_trust_113 : decode cX0_trust 113 = .ok (.aload_n 0, 1) := dk_42 (dk_at dksX0_trust_4 21 rfl rfl)
theorem dX0_trust_114 : decode cX0_trust 114 = .ok (.invokevirtual 165, 3) := dk_182 0 165 (dk_at dksX0_trust_5 0 rfl rfl)
theorem dX0_trust_117 : decode cX0_trust 117 = .ok (.iload 7, 2) := dk_21 7 (dk_at dksX0_trust_5 3 rfl rfl)
theorem dX0_trust_119 : decode cX0_trust 119 = .ok (.iload_n 1, 1) := dk_27 (dk_at dksX0_trust_5 5 rfl rfl)
theorem dX0_trust_120 : decode cX0_trust 120 = .ok (.iconst 1, 1) := dk_4 (dk_at dksX0_trust_5 6 rfl rfl)
theorem dX0_trust_121 : decode cX0_trust 121 = .ok (.iload_n 2, 1) := dk_28 (dk_at dksX0_trust_5 7 rfl rfl)
theorem dX0_trust_122 : decode cX0_trust 122 = .ok (.ishl, 1) := dk_120 (dk_at dksX0_trust_5 8 rfl rfl)
theorem dX0_trust_123 : decode cX0_trust 123 = .ok (.invokevirtual 359, 3) := dk_182 1 103 (dk_at dksX0_trust_5 9 rfl rfl)
theorem dX0_trust_126 : decode cX0_trust 126 = .ok (.ladd, 1) := dk_97 (dk_at dksX0_trust_5 12 rfl rfl)
theorem dX0_trust_127 : decode cX0_trust 127 = .ok (.lstore 5, 2) := dk_55 5 (dk_at dksX0_trust_5 13 rfl rfl)
theorem dX0_trust_129 : decode cX0_trust 129 = .ok (.iinc 7 1, 3) := dk_132 7 1 (dk_at dksX0_trust_5 15 rfl rfl)
theorem dX0_trust_132 : decode cX0_trust 132 = .ok (.goto (-69), 3) := dk_167 255 187 (dk_at dksX0_trust_5 18 rfl rfl)
theorem dX0_trust_135 : decode cX0_trust 135 = .ok (.aload_n 0, 1) := dk_42 (dk_at dksX0_trust_5 21 rfl rfl)
theorem dX0_trust_136 : decode cX0_trust 136 = .ok (.lload 5, 2) := dk_22 5 (dk_at dksX0_trust_5 22 rfl rfl)
theorem dX0_trust_138 : decode cX0_trust 138 = .ok (.lload_n 3, 1) := dk_33 (dk_at dksX0_trust_6 0 rfl rfl)
theorem dX0_trust_139 : decode cX0_trust 139 = .ok (.invokevirtual 367, 3) := dk_182 1 111 (dk_at dksX0_trust_6 1 rfl rfl)
theorem dX0_trust_142 : decode cX0_trust 142 = .ok (.pop, 1) := dk_87 (dk_at dksX0_trust_6 4 rfl rfl)
theorem dX0_trust_143 : decode cX0_trust 143 = .ok (.iconst 1, 1) := dk_4 (dk_at dksX0_trust_6 5 rfl rfl)
theorem dX0_trust_144 : decode cX0_trust 144 = .ok (.ireturn, 1) := dk_172 (dk_at dksX0_trust_6 6 rfl rfl)
abbrev cX0_because : ByteArray := prog_1_method_54_code
def yX0_because : MethodName := ⟨RX0, "because", "(I)I"⟩
def dkwX0_because_7 : List UInt8 := [21, 4, 172]
abbrev dktX0_because_7 : List UInt8 := dkwX0_because_7 ++ []
def dkwX0_because_6 : List UInt8 := [162, 0, 18, 42, 27, 21, 5, 28, 182, 1, 125, 153, 0, 7, 21, 5, 54, 4, 132, 5, 1, 167, 255, 211]
abbrev dktX0_because_6 : List UInt8 := dkwX0_because_6 ++ dktX0_because_7
def dkwX0_because_5 : List UInt8 := [21, 5, 45, 182, 1, 82, 163, 0, 42, 21, 4, 155, 0, 16, 21, 5, 184, 1, 120, 21, 4, 184, 1, 120]
abbrev dktX0_because_5 : List UInt8 := dkwX0_because_5 ++ dktX0_because_6
def dkwX0_because_4 : List UInt8 := [120, 182, 1, 92, 145, 84, 132, 5, 1, 167, 255, 190, 132, 4, 1, 167, 255, 172, 2, 54, 4, 3, 54, 5]
abbrev dktX0_because_4 : List UInt8 := dkwX0_because_4 ++ dktX0_because_5
def dkwX0_because_3 : List UInt8 := [17, 1, 0, 104, 21, 5, 96, 45, 42, 182, 0, 165, 45, 180, 1, 67, 21, 4, 46, 21, 5, 4, 21, 4]
abbrev dktX0_because_3 : List UInt8 := dkwX0_because_3 ++ dktX0_because_4
def dkwX0_because_2 : List UInt8 := [162, 0, 60, 42, 182, 0, 165, 180, 1, 14, 21, 5, 182, 1, 18, 153, 0, 39, 42, 180, 0, 63, 21, 4]
abbrev dktX0_because_2 : List UInt8 := dkwX0_because_2 ++ dktX0_because_3
def dkwX0_because_1 : List UInt8 := [54, 4, 21, 4, 45, 180, 0, 252, 162, 0, 81, 3, 54, 5, 21, 5, 42, 182, 0, 165, 180, 0, 168]
abbrev dktX0_because_1 : List UInt8 := dkwX0_because_1 ++ dktX0_because_2
def dkwX0_because_0 : List UInt8 := [42, 27, 182, 1, 118, 61, 42, 180, 0, 87, 158, 0, 5, 2, 172, 42, 180, 0, 55, 180, 0, 211, 78, 3]
abbrev dktX0_because_0 : List UInt8 := dkwX0_because_0 ++ dktX0_because_1
theorem dksX0_because_0 : cX0_because.data.toList.drop 0 = dktX0_because_0 := by decide +kernel
theorem dksX0_because_1 : cX0_because.data.toList.drop 24 = dktX0_because_1 := dk_seg dksX0_because_0 24 rfl rfl
theorem dksX0_because_2 : cX0_because.data.toList.drop 47 = dktX0_because_2 := dk_seg dksX0_because_1 23 rfl rfl
theorem dksX0_because_3 : cX0_because.data.toList.drop 71 = dktX0_because_3 := dk_seg dksX0_because_2 24 rfl rfl
theorem dksX0_because_4 : cX0_because.data.toList.drop 95 = dktX0_because_4 := dk_seg dksX0_because_3 24 rfl rfl
theorem dksX0_because_5 : cX0_because.data.toList.drop 119 = dktX0_because_5 := dk_seg dksX0_because_4 24 rfl rfl
theorem dksX0_because_6 : cX0_because.data.toList.drop 143 = dktX0_because_6 := dk_seg dksX0_because_5 24 rfl rfl
theorem dksX0_because_7 : cX0_because.data.toList.drop 167 = dktX0_because_7 := dk_seg dksX0_because_6 24 rfl rfl
theorem dX0_because_0 : decode cX0_because 0 = .ok (.aload_n 0, 1) := dk_42 (dk_at dksX0_because_0 0 rfl rfl)
theorem dX0_because_1 : decode cX0_because 1 = .ok (.iload_n 1, 1) := dk_27 (dk_at dksX0_because_0 1 rfl rfl)
theorem dX0_because_2 : decode cX0_because 2 = .ok (.invokevirtual 374, 3) := dk_182 1 118 (dk_at dksX0_because_0 2 rfl rfl)
theorem dX0_because_5 : decode cX0_because 5 = .ok (.istore_n 2, 1) := dk_61 (dk_at dksX0_because_0 5 rfl rfl)
theorem dX0_because_6 : decode cX0_because 6 = .ok (.aload_n 0, 1) := dk_42 (dk_at dksX0_because_0 6 rfl rfl)
theorem dX0_because_7 : decode cX0_because 7 = .ok (.getfield 87, 3) := dk_180 0 87 (dk_at dksX0_because_0 7 rfl rfl)
theorem dX0_because_10 : decode cX0_because 10 = .ok (.ifCond .le 5, 3) := dk_158 0 5 (dk_at dksX0_because_0 10 rfl rfl)
theorem dX0_because_13 : decode cX0_because 13 = .ok (.iconst (-1), 1) := dk_2 (dk_at dksX0_because_0 13 rfl rfl)
theorem dX0_because_14 : decode cX0_because 14 = .ok (.ireturn, 1) := dk_172 (dk_at dksX0_because_0 14 rfl rfl)
theorem dX0_because_15 : decode cX0_because 15 = .ok (.aload_n 0, 1) := dk_42 (dk_at dksX0_because_0 15 rfl rfl)
theorem dX0_because_16 : decode cX0_because 16 = .ok (.getfield 55, 3) := dk_180 0 55 (dk_at dksX0_because_0 16 rfl rfl)
theorem dX0_because_19 : decode cX0_because 19 = .ok (.getfield 211, 3) := dk_180 0 211 (dk_at dksX0_because_0 19 rfl rfl)
theorem dX0_because_22 : decode cX0_because 22 = .ok (.astore_n 3, 1) := dk_78 (dk_at dksX0_because_0 22 rfl rfl)
theorem dX0_because_23 : decode cX0_because 23 = .ok (.iconst 0, 1) := dk_3 (dk_at dksX0_because_0 23 rfl rfl)
theorem dX0_because_24 : decode cX0_because 24 = .ok (.istore 4, 2) := dk_54 4 (dk_at dksX0_because_1 0 rfl rfl)
theorem dX0_because_26 : decode cX0_because 26 = .ok (.iload 4, 2) := dk_21 4 (dk_at dksX0_because_1 2 rfl rfl)
theorem dX0_because_28 : decode cX0_because 28 = .ok (.aload_n 3, 1) := dk_45 (dk_at dksX0_because_1 4 rfl rfl)
theorem dX0_because_29 : decode cX0_because 29 = .ok (.getfield 252, 3) := dk_180 0 252 (dk_at dksX0_because_1 5 rfl rfl)
theorem dX0_because_32 : decode cX0_because 32 = .ok (.if_icmp .ge 81, 3) := dk_162 0 81 (dk_at dksX0_because_1 8 rfl rfl)
theorem dX0_because_35 : decode cX0_because 35 = .ok (.iconst 0, 1) := dk_3 (dk_at dksX0_because_1 11 rfl rfl)
theorem dX0_because_36 : decode cX0_because 36 = .ok (.istore 5, 2) := dk_54 5 (dk_at dksX0_because_1 12 rfl rfl)
theorem dX0_because_38 : decode cX0_because 38 = .ok (.iload 5, 2) := dk_21 5 (dk_at dksX0_because_1 14 rfl rfl)
theorem dX0_because_40 : decode cX0_because 40 = .ok (.aload_n 0, 1) := dk_42 (dk_at dksX0_because_1 16 rfl rfl)
theorem dX0_because_41 : decode cX0_because 41 = .ok (.invokevirtual 165, 3) := dk_182 0 165 (dk_at dksX0_because_1 17 rfl rfl)
theorem dX0_because_44 : decode cX0_because 44 = .ok (.getfield 168, 3) := dk_180 0 168 (dk_at dksX0_because_1 20 rfl rfl)
theorem dX0_because_47 : decode cX0_because 47 = .ok (.if_icmp .ge 60, 3) := dk_162 0 60 (dk_at dksX0_because_2 0 rfl rfl)
theorem dX0_because_50 : decode cX0_because 50 = .ok (.aload_n 0, 1) := dk_42 (dk_at dksX0_because_2 3 rfl rfl)
theorem dX0_because_51 : decode cX0_because 51 = .ok (.invokevirtual 165, 3) := dk_182 0 165 (dk_at dksX0_because_2 4 rfl rfl)
theorem dX0_because_54 : decode cX0_because 54 = .ok (.getfield 270, 3) := dk_180 1 14 (dk_at dksX0_because_2 7 rfl rfl)
theorem dX0_because_57 : decode cX0_because 57 = .ok (.iload 5, 2) := dk_21 5 (dk_at dksX0_because_2 10 rfl rfl)
theorem dX0_because_59 : decode cX0_because 59 = .ok (.invokevirtual 274, 3) := dk_182 1 18 (dk_at dksX0_because_2 12 rfl rfl)
theorem dX0_because_62 : decode cX0_because 62 = .ok (.ifCond .eq 39, 3) := dk_153 0 39 (dk_at dksX0_because_2 15 rfl rfl)
theorem dX0_because_65 : decode cX0_because 65 = .ok (.aload_n 0, 1) := dk_42 (dk_at dksX0_because_2 18 rfl rfl)
theorem dX0_because_66 : decode cX0_because 66 = .ok (.getfield 63, 3) := dk_180 0 63 (dk_at dksX0_because_2 19 rfl rfl)
theorem dX0_because_69 : decode cX0_because 69 = .ok (.iload 4, 2) := dk_21 4 (dk_at dksX0_because_2 22 rfl rfl)
theorem dX0_because_71 : decode cX0_because 71 = .ok (.sipush 256, 3) := dk_17 1 0 (dk_at dksX0_because_3 0 rfl rfl)
theorem dX0_because_74 : decode cX0_because 74 = .ok (.imul, 1) := dk_104 (dk_at dksX0_because_3 3 rfl rfl)
theorem dX0_because_75 : decode cX0_because 75 = .ok (.iload 5, 2) := dk_21 5 (dk_at dksX0_because_3 4 rfl rfl)
theorem dX0_because_77 : decode cX0_because 77 = .ok (.iadd, 1) := dk_96 (dk_at dksX0_because_3 6 rfl rfl)
theorem dX0_because_78 : decode cX0_because 78 = .ok (.aload_n 3, 1) := dk_45 (dk_at dksX0_because_3 7 rfl rfl)
theorem dX0_because_79 : decode cX0_because 79 = .ok (.aload_n 0, 1) := dk_42 (dk_at dksX0_because_3 8 rfl rfl)
theorem dX0_because_80 : decode cX0_because 80 = .ok (.invokevirtual 165, 3) := dk_182 0 165 (dk_at dksX0_because_3 9 rfl rfl)
theorem dX0_because_83 : decode cX0_because 83 = .ok (.aload_n 3, 1) := dk_45 (dk_at dksX0_because_3 12 rfl rfl)
theorem dX0_because_84 : decode cX0_because 84 = .ok (.getfield 323, 3) := dk_180 1 67 (dk_at dksX0_because_3 13 rfl rfl)
theorem dX0_because_87 : decode cX0_because 87 = .ok (.iload 4, 2) := dk_21 4 (dk_at dksX0_because_3 16 rfl rfl)
theorem dX0_because_89 : decode cX0_because 89 = .ok (.iaload, 1) := dk_46 (dk_at dksX0_because_3 18 rfl rfl)
theorem dX0_because_90 : decode cX0_because 90 = .ok (.iload 5, 2) := dk_21 5 (dk_at dksX0_because_3 19 rfl rfl)
theorem dX0_because_92 : decode cX0_because 92 = .ok (.iconst 1, 1) := dk_4 (dk_at dksX0_because_3 21 rfl rfl)
theorem dX0_because_93 : decode cX0_because 93 = .ok (.iload 4, 2) := dk_21 4 (dk_at dksX0_because_3 22 rfl rfl)
theorem dX0_because_95 : decode cX0_because 95 = .ok (.ishl, 1) := dk_120 (dk_at dksX0_because_4 0 rfl rfl)
theorem dX0_because_96 : decode cX0_because 96 = .ok (.invokevirtual 348, 3) := dk_182 1 92 (dk_at dksX0_because_4 1 rfl rfl)
theorem dX0_because_99 : decode cX0_because 99 = .ok (.i2b, 1) := dk_145 (dk_at dksX0_because_4 4 rfl rfl)
theorem dX0_because_100 : decode cX0_because 100 = .ok (.bastore, 1) := dk_84 (dk_at dksX0_because_4 5 rfl rfl)
theorem dX0_because_101 : decode cX0_because 101 = .ok (.iinc 5 1, 3) := dk_132 5 1 (dk_at dksX0_because_4 6 rfl rfl)
theorem dX0_because_104 : decode cX0_because 104 = .ok (.goto (-66), 3) := dk_167 255 190 (dk_at dksX0_because_4 9 rfl rfl)
theorem dX0_because_107 : decode cX0_because 107 = .ok (.iinc 4 1, 3) := dk_132 4 1 (dk_at dksX0_because_4 12 rfl rfl)
theorem dX0_because_110 : decode cX0_because 110 = .ok (.goto (-84), 3) := dk_167 255 172 (dk_at dksX0_because_4 15 rfl rfl)
theorem dX0_because_113 : decode cX0_because 113 = .ok (.iconst (-1), 1) := dk_2 (dk_at dksX0_because_4 18 rfl rfl)
theorem dX0_because_114 : decode cX0_because 114 = .ok (.istore 4, 2) := dk_54 4 (dk_at dksX0_because_4 19 rfl rfl)
theorem dX0_because_116 : decode cX0_because 116 = .ok (.iconst 0, 1) := dk_3 (dk_at dksX0_because_4 21 rfl rfl)
theorem dX0_because_117 : decode cX0_because 117 = .ok (.istore 5, 2) := dk_54 5 (dk_at dksX0_because_4 22 rfl rfl)
theorem dX0_because_119 : decode cX0_because 119 = .ok (.iload 5, 2) := dk_21 5 (dk_at dksX0_because_5 0 rfl rfl)
theorem dX0_because_121 : decode cX0_because 121 = .ok (.aload_n 3, 1) := dk_45 (dk_at dksX0_because_5 2 rfl rfl)
theorem dX0_because_122 : decode cX0_because 122 = .ok (.invokevirtual 338, 3) := dk_182 1 82 (dk_at dksX0_because_5 3 rfl rfl)
theorem dX0_because_125 : decode cX0_because 125 = .ok (.if_icmp .gt 42, 3) := dk_163 0 42 (dk_at dksX0_because_5 6 rfl rfl)
theorem dX0_because_128 : decode cX0_because 128 = .ok (.iload 4, 2) := dk_21 4 (dk_at dksX0_because_5 9 rfl rfl)
theorem dX0_because_130 : decode cX0_because 130 = .ok (.ifCond .lt 16, 3) := dk_155 0 16 (dk_at dksX0_because_5 11 rfl rfl)
theorem dX0_because_133 : decode cX0_because 133 = .ok (.iload 5, 2) := dk_21 5 (dk_at dksX0_because_5 14 rfl rfl)
theorem dX0_because_135 : decode cX0_because 135 = .ok (.invokestatic 376, 3) := dk_184 1 120 (dk_at dksX0_because_5 16 rfl rfl)
theorem dX0_because_138 : decode cX0_because 138 = .ok (.iload 4, 2) := dk_21 4 (dk_at dksX0_because_5 19 rfl rfl)
theorem dX0_because_140 : decode cX0_because 140 = .ok (.invokestatic 376, 3) := dk_184 1 120 (dk_at dksX0_because_5 21 rfl rfl)
theorem dX0_because_143 : decode cX0_because 143 = .ok (.if_icmp .ge 18, 3) := dk_162 0 18 (dk_at dksX0_because_6 0 rfl rfl)
theorem dX0_because_146 : decode cX0_because 146 = .ok (.aload_n 0, 1) := dk_42 (dk_at dksX0_because_6 3 rfl rfl)
theorem dX0_because_147 : decode cX0_because 147 = .ok (.iload_n 1, 1) := dk_27 (dk_at dksX0_because_6 4 rfl rfl)
theorem dX0_because_148 : decode cX0_because 148 = .ok (.iload 5, 2) := dk_21 5 (dk_at dksX0_because_6 5 rfl rfl)
theorem dX0_because_150 : decode cX0_because 150 = .ok (.iload_n 2, 1) := dk_28 (dk_at dksX0_because_6 7 rfl rfl)
theorem dX0_because_151 : decode cX0_because 151 = .ok (.invokevirtual 381, 3) := dk_182 1 125 (dk_at dksX0_because_6 8 rfl rfl)
theorem dX0_because_154 : decode cX0_because 154 = .ok (.ifCond .eq 7, 3) := dk_153 0 7 (dk_at dksX0_because_6 11 rfl rfl)
theorem dX0_because_157 : decode cX0_because 157 = .ok (.iload 5, 2) := dk_21 5 (dk_at dksX0_because_6 14 rfl rfl)
theorem dX0_because_159 : decode cX0_because 159 = .ok (.istore 4, 2) := dk_54 4 (dk_at dksX0_because_6 16 rfl rfl)
theorem dX0_because_161 : decode cX0_because 161 = .ok (.iinc 5 1, 3) := dk_132 5 1 (dk_at dksX0_because_6 18 rfl rfl)
theorem dX0_because_164 : decode cX0_because 164 = .ok (.goto (-45), 3) := dk_167 255 211 (dk_at dksX0_because_6 21 rfl rfl)
theorem dX0_because_167 : decode cX0_because 167 = .ok (.iload 4, 2) := dk_21 4 (dk_at dksX0_because_7 0 rfl rfl)
theorem dX0_because_169 : decode cX0_because 169 = .ok (.ireturn, 1) := dk_172 (dk_at dksX0_because_7 2 rfl rfl)
abbrev cX0_isSureBy : ByteArray := prog_1_method_52_code
def yX0_isSureBy : MethodName := ⟨RX0, "isSureBy", "(III)Z"⟩
def dkwX0_isSureBy_3 : List UInt8 := [159, 0, 5, 3, 172, 4, 54, 4, 132, 5, 1, 167, 255, 181, 21, 4, 172]
abbrev dktX0_isSureBy_3 : List UInt8 := dkwX0_isSureBy_3 ++ []
def dkwX0_isSureBy_2 : List UInt8 := [42, 182, 0, 165, 180, 1, 26, 27, 50, 21, 5, 182, 1, 18, 29, 4, 160, 0, 7, 4, 167, 0, 4, 3]
abbrev dktX0_isSureBy_2 : List UInt8 := dkwX0_isSureBy_2 ++ dktX0_isSureBy_3
def dkwX0_isSureBy_1 : List UInt8 := [180, 1, 14, 21, 5, 182, 1, 18, 153, 0, 48, 42, 21, 5, 28, 182, 1, 115, 154, 0, 6, 167, 0, 35]
abbrev dktX0_isSureBy_1 : List UInt8 := dkwX0_isSureBy_1 ++ dktX0_isSureBy_2
def dkwX0_isSureBy_0 : List UInt8 := [3, 54, 4, 3, 54, 5, 21, 5, 42, 182, 0, 165, 180, 0, 168, 162, 0, 69, 42, 182, 0, 165]
abbrev dktX0_isSureBy_0 : List UInt8 := dkwX0_isSureBy_0 ++ dktX0_isSureBy_1
theorem dksX0_isSureBy_0 : cX0_isSureBy.data.toList.drop 0 = dktX0_isSureBy_0 := by decide +kernel
theorem dksX0_isSureBy_1 : cX0_isSureBy.data.toList.drop 22 = dktX0_isSureBy_1 := dk_seg dksX0_isSureBy_0 22 rfl rfl
theorem dksX0_isSureBy_2 : cX0_isSureBy.data.toList.drop 46 = dktX0_isSureBy_2 := dk_seg dksX0_isSureBy_1 24 rfl rfl
theorem dksX0_isSureBy_3 : cX0_isSureBy.data.toList.drop 70 = dktX0_isSureBy_3 := dk_seg dksX0_isSureBy_2 24 rfl rfl
theorem dX0_isSureBy_0 : decode cX0_isSureBy 0 = .ok (.iconst 0, 1) := dk_3 (dk_at dksX0_isSureBy_0 0 rfl rfl)
theorem dX0_isSureBy_1 : decode cX0_isSureBy 1 = .ok (.istore 4, 2) := dk_54 4 (dk_at dksX0_isSureBy_0 1 rfl rfl)
theorem dX0_isSureBy_3 : decode cX0_isSureBy 3 = .ok (.iconst 0, 1) := dk_3 (dk_at dksX0_isSureBy_0 3 rfl rfl)
theorem dX0_isSureBy_4 : decode cX0_isSureBy 4 = .ok (.istore 5, 2) := dk_54 5 (dk_at dksX0_isSureBy_0 4 rfl rfl)
theorem dX0_isSureBy_6 : decode cX0_isSureBy 6 = .ok (.iload 5, 2) := dk_21 5 (dk_at dksX0_isSureBy_0 6 rfl rfl)
theorem dX0_isSureBy_8 : decode cX0_isSureBy 8 = .ok (.aload_n 0, 1) := dk_42 (dk_at dksX0_isSureBy_0 8 rfl rfl)
theorem dX0_isSureBy_9 : decode cX0_isSureBy 9 = .ok (.invokevirtual 165, 3) := dk_182 0 165 (dk_at dksX0_isSureBy_0 9 rfl rfl)
theorem dX0_isSureBy_12 : decode cX0_isSureBy 12 = .ok (.getfield 168, 3) := dk_180 0 168 (dk_at dksX0_isSureBy_0 12 rfl rfl)
theorem dX0_isSureBy_15 : decode cX0_isSureBy 15 = .ok (.if_icmp .ge 69, 3) := dk_162 0 69 (dk_at dksX0_isSureBy_0 15 rfl rfl)
theorem dX0_isSureBy_18 : decode cX0_isSureBy 18 = .ok (.aload_n 0, 1) := dk_42 (dk_at dksX0_isSureBy_0 18 rfl rfl)
theorem dX0_isSureBy_19 : decode cX0_isSureBy 19 = .ok (.invokevirtual 165, 3) := dk_182 0 165 (dk_at dksX0_isSureBy_0 19 rfl rfl)
theorem dX0_isSureBy_22 : decode cX0_isSureBy 22 = .ok (.getfield 270, 3) := dk_180 1 14 (dk_at dksX0_isSureBy_1 0 rfl rfl)
theorem dX0_isSureBy_25 : decode cX0_isSureBy 25 = .ok (.iload 5, 2) := dk_21 5 (dk_at dksX0_isSureBy_1 3 rfl rfl)
theorem dX0_isSureBy_27 : decode cX0_isSureBy 27 = .ok (.invokevirtual 274, 3) := dk_182 1 18 (dk_at dksX0_isSureBy_1 5 rfl rfl)
theorem dX0_isSureBy_30 : decode cX0_isSureBy 30 = .ok (.ifCond .eq 48, 3) := dk_153 0 48 (dk_at dksX0_isSureBy_1 8 rfl rfl)
theorem dX0_isSureBy_33 : decode cX0_isSureBy 33 = .ok (.aload_n 0, 1) := dk_42 (dk_at dksX0_isSureBy_1 11 rfl rfl)
theorem dX0_isSureBy_34 : decode cX0_isSureBy 34 = .ok (.iload 5, 2) := dk_21 5 (dk_at dksX0_isSureBy_1 12 rfl rfl)
theorem dX0_isSureBy_36 : decode cX0_isSureBy 36 = .ok (.iload_n 2, 1) := dk_28 (dk_at dksX0_isSureBy_1 14 rfl rfl)
theorem dX0_isSureBy_37 : decode cX0_isSureBy 37 = .ok (.invokevirtual 371, 3) := dk_182 1 115 (dk_at dksX0_isSureBy_1 15 rfl rfl)
theorem dX0_isSureBy_40 : decode cX0_isSureBy 40 = .ok (.ifCond .ne 6, 3) := dk_154 0 6 (dk_at dksX0_isSureBy_1 18 rfl rfl)
theorem dX0_isSureBy_43 : decode cX0_isSureBy 43 = .ok (.goto 35, 3) := dk_167 0 35 (dk_at dksX0_isSureBy_1 21 rfl rfl)
theorem dX0_isSureBy_46 : decode cX0_isSureBy 46 = .ok (.aload_n 0, 1) := dk_42 (dk_at dksX0_isSureBy_2 0 rfl rfl)
theorem dX0_isSureBy_47 : decode cX0_isSureBy 47 = .ok (.invokevirtual 165, 3) := dk_182 0 165 (dk_at dksX0_isSureBy_2 1 rfl rfl)
theorem dX0_isSureBy_50 : decode cX0_isSureBy 50 = .ok (.getfield 282, 3) := dk_180 1 26 (dk_at dksX0_isSureBy_2 4 rfl rfl)
theorem dX0_isSureBy_53 : decode cX0_isSureBy 53 = .ok (.iload_n 1, 1) := dk_27 (dk_at dksX0_isSureBy_2 7 rfl rfl)
theorem dX0_isSureBy_54 : decode cX0_isSureBy 54 = .ok (.aaload, 1) := dk_50 (dk_at dksX0_isSureBy_2 8 rfl rfl)
theorem dX0_isSureBy_55 : decode cX0_isSureBy 55 = .ok (.iload 5, 2) := dk_21 5 (dk_at dksX0_isSureBy_2 9 rfl rfl)
theorem dX0_isSureBy_57 : decode cX0_isSureBy 57 = .ok (.invokevirtual 274, 3) := dk_182 1 18 (dk_at dksX0_isSureBy_2 11 rfl rfl)
theorem dX0_isSureBy_60 : decode cX0_isSureBy 60 = .ok (.iload_n 3, 1) := dk_29 (dk_at dksX0_isSureBy_2 14 rfl rfl)
theorem dX0_isSureBy_61 : decode cX0_isSureBy 61 = .ok (.iconst 1, 1) := dk_4 (dk_at dksX0_isSureBy_2 15 rfl rfl)
theorem dX0_isSureBy_62 : decode cX0_isSureBy 62 = .ok (.if_icmp .ne 7, 3) := dk_160 0 7 (dk_at dksX0_isSureBy_2 16 rfl rfl)
theorem dX0_isSureBy_65 : decode cX0_isSureBy 65 = .ok (.iconst 1, 1) := dk_4 (dk_at dksX0_isSureBy_2 19 rfl rfl)
theorem dX0_isSureBy_66 : decode cX0_isSureBy 66 = .ok (.goto 4, 3) := dk_167 0 4 (dk_at dksX0_isSureBy_2 20 rfl rfl)
theorem dX0_isSureBy_69 : decode cX0_isSureBy 69 = .ok (.iconst 0, 1) := dk_3 (dk_at dksX0_isSureBy_2 23 rfl rfl)
theorem dX0_isSureBy_70 : decode cX0_isSureBy 70 = .ok (.if_icmp .eq 5, 3) := dk_159 0 5 (dk_at dksX0_isSureBy_3 0 rfl rfl)
theorem dX0_isSureBy_73 : decode cX0_isSureBy 73 = .ok (.iconst 0, 1) := dk_3 (dk_at dksX0_isSureBy_3 3 rfl rfl)
theorem dX0_isSureBy_74 : decode cX0_isSureBy 74 = .ok (.ireturn, 1) := dk_172 (dk_at dksX0_isSureBy_3 4 rfl rfl)
theorem dX0_isSureBy_75 : decode cX0_isSureBy 75 = .ok (.iconst 1, 1) := dk_4 (dk_at dksX0_isSureBy_3 5 rfl rfl)
theorem dX0_isSureBy_76 : decode cX0_isSureBy 76 = .ok (.istore 4, 2) := dk_54 4 (dk_at dksX0_isSureBy_3 6 rfl rfl)
theorem dX0_isSureBy_78 : decode cX0_isSureBy 78 = .ok (.iinc 5 1, 3) := dk_132 5 1 (dk_at dksX0_isSureBy_3 8 rfl rfl)
theorem dX0_isSureBy_81 : decode cX0_isSureBy 81 = .ok (.goto (-75), 3) := dk_167 255 181 (dk_at dksX0_isSureBy_3 11 rfl rfl)
theorem dX0_isSureBy_84 : decode cX0_isSureBy 84 = .ok (.iload 4, 2) := dk_21 4 (dk_at dksX0_isSureBy_3 14 rfl rfl)
theorem dX0_isSureBy_86 : decode cX0_isSureBy 86 = .ok (.ireturn, 1) := dk_172 (dk_at dksX0_isSureBy_3 16 rfl rfl)
abbrev cX0_isLeftBy : ByteArray := prog_1_method_53_code
def yX0_isLeftBy : MethodName := ⟨RX0, "isLeftBy", "(II)Z"⟩
def dkwX0_isLeftBy_4 : List UInt8 := [167, 255, 193, 21, 4, 154, 0, 5, 3, 172, 132, 3, 1, 167, 255, 152, 4, 172]
abbrev dktX0_isLeftBy_4 : List UInt8 := dkwX0_isLeftBy_4 ++ []
def dkwX0_isLeftBy_3 : List UInt8 := [160, 0, 21, 21, 4, 42, 180, 0, 63, 21, 5, 17, 1, 0, 104, 27, 96, 51, 126, 54, 4, 132, 5, 1]
abbrev dktX0_isLeftBy_3 : List UInt8 := dkwX0_isLeftBy_3 ++ dktX0_isLeftBy_4
def dkwX0_isLeftBy_2 : List UInt8 := [21, 5, 122, 4, 126, 4, 160, 0, 38, 42, 180, 0, 55, 180, 0, 211, 180, 1, 67, 21, 5, 46, 29]
abbrev dktX0_isLeftBy_2 : List UInt8 := dkwX0_isLeftBy_2 ++ dktX0_isLeftBy_3
def dkwX0_isLeftBy_1 : List UInt8 := [182, 1, 96, 54, 4, 3, 54, 5, 21, 5, 42, 180, 0, 55, 180, 0, 211, 180, 0, 252, 162, 0, 54, 28]
abbrev dktX0_isLeftBy_1 : List UInt8 := dkwX0_isLeftBy_1 ++ dktX0_isLeftBy_2
def dkwX0_isLeftBy_0 : List UInt8 := [3, 62, 29, 42, 182, 0, 165, 180, 0, 180, 162, 0, 99, 42, 182, 0, 165, 180, 1, 38, 29, 50]
abbrev dktX0_isLeftBy_0 : List UInt8 := dkwX0_isLeftBy_0 ++ dktX0_isLeftBy_1
theorem dksX0_isLeftBy_0 : cX0_isLeftBy.data.toList.drop 0 = dktX0_isLeftBy_0 := by decide +kernel
theorem dksX0_isLeftBy_1 : cX0_isLeftBy.data.toList.drop 22 = dktX0_isLeftBy_1 := dk_seg dksX0_isLeftBy_0 22 rfl rfl
theorem dksX0_isLeftBy_2 : cX0_isLeftBy.data.toList.drop 46 = dktX0_isLeftBy_2 := dk_seg dksX0_isLeftBy_1 24 rfl rfl
theorem dksX0_isLeftBy_3 : cX0_isLeftBy.data.toList.drop 69 = dktX0_isLeftBy_3 := dk_seg dksX0_isLeftBy_2 23 rfl rfl
theorem dksX0_isLeftBy_4 : cX0_isLeftBy.data.toList.drop 93 = dktX0_isLeftBy_4 := dk_seg dksX0_isLeftBy_3 24 rfl rfl
theorem dX0_isLeftBy_0 : decode cX0_isLeftBy 0 = .ok (.iconst 0, 1) := dk_3 (dk_at dksX0_isLeftBy_0 0 rfl rfl)
theorem dX0_isLeftBy_1 : decode cX0_isLeftBy 1 = .ok (.istore_n 3, 1) := dk_62 (dk_at dksX0_isLeftBy_0 1 rfl rfl)
theorem dX0_isLeftBy_2 : decode cX0_isLeftBy 2 = .ok (.iload_n 3, 1) := dk_29 (dk_at dksX0_isLeftBy_0 2 rfl rfl)
theorem dX0_isLeftBy_3 : decode cX0_isLeftBy 3 = .ok (.aload_n 0, 1) := dk_42 (dk_at dksX0_isLeftBy_0 3 rfl rfl)
theorem dX0_isLeftBy_4 : decode cX0_isLeftBy 4 = .ok (.invokevirtual 165, 3) := dk_182 0 165 (dk_at dksX0_isLeftBy_0 4 rfl rfl)
theorem dX0_isLeftBy_7 : decode cX0_isLeftBy 7 = .ok (.getfield 180, 3) := dk_180 0 180 (dk_at dksX0_isLeftBy_0 7 rfl rfl)
theorem dX0_isLeftBy_10 : decode cX0_isLeftBy 10 = .ok (.if_icmp .ge 99, 3) := dk_162 0 99 (dk_at dksX0_isLeftBy_0 10 rfl rfl)
theorem dX0_isLeftBy_13 : decode cX0_isLeftBy 13 = .ok (.aload_n 0, 1) := dk_42 (dk_at dksX0_isLeftBy_0 13 rfl rfl)
theorem dX0_isLeftBy_14 : decode cX0_isLeftBy 14 = .ok (.invokevirtual 165, 3) := dk_182 0 165 (dk_at dksX0_isLeftBy_0 14 rfl rfl)
theorem dX0_isLeftBy_17 : decode cX0_isLeftBy 17 = .ok (.getfield 294, 3) := dk_180 1 38 (dk_at dksX0_isLeftBy_0 17 rfl rfl)
theorem dX0_isLeftBy_20 : decode cX0_isLeftBy 20 = .ok (.iload_n 3, 1) := dk_29 (dk_at dksX0_isLeftBy_0 20 rfl rfl)
theorem dX0_isLeftBy_21 : decode cX0_isLeftBy 21 = .ok (.aaload, 1) := dk_50 (dk_at dksX0_isLeftBy_0 21 rfl rfl)
theorem dX0_isLeftBy_22 : decode cX0_isLeftBy 22 = .ok (.invokevirtual 352, 3) := dk_182 1 96 (dk_at dksX0_isLeftBy_1 0 rfl rfl)
theorem dX0_isLeftBy_25 : decode cX0_isLeftBy 25 = .ok (.istore 4, 2) := dk_54 4 (dk_at dksX0_isLeftBy_1 3 rfl rfl)
theorem dX0_isLeftBy_27 : decode cX0_isLeftBy 27 = .ok (.iconst 0, 1) := dk_3 (dk_at dksX0_isLeftBy_1 5 rfl rfl)
theorem dX0_isLeftBy_28 : decode cX0_isLeftBy 28 = .ok (.istore 5, 2) := dk_54 5 (dk_at dksX0_isLeftBy_1 6 rfl rfl)
theorem dX0_isLeftBy_30 : decode cX0_isLeftBy 30 = .ok (.iload 5, 2) := dk_21 5 (dk_at dksX0_isLeftBy_1 8 rfl rfl)
theorem dX0_isLeftBy_32 : decode cX0_isLeftBy 32 = .ok (.aload_n 0, 1) := dk_42 (dk_at dksX0_isLeftBy_1 10 rfl rfl)
theorem dX0_isLeftBy_33 : decode cX0_isLeftBy 33 = .ok (.getfield 55, 3) := dk_180 0 55 (dk_at dksX0_isLeftBy_1 11 rfl rfl)
theorem dX0_isLeftBy_36 : decode cX0_isLeftBy 36 = .ok (.getfield 211, 3) := dk_180 0 211 (dk_at dksX0_isLeftBy_1 14 rfl rfl)
theorem dX0_isLeftBy_39 : decode cX0_isLeftBy 39 = .ok (.getfield 252, 3) := dk_180 0 252 (dk_at dksX0_isLeftBy_1 17 rfl rfl)
theorem dX0_isLeftBy_42 : decode cX0_isLeftBy 42 = .ok (.if_icmp .ge 54, 3) := dk_162 0 54 (dk_at dksX0_isLeftBy_1 20 rfl rfl)
theorem dX0_isLeftBy_45 : decode cX0_isLeftBy 45 = .ok (.iload_n 2, 1) := dk_28 (dk_at dksX0_isLeftBy_1 23 rfl rfl)
theorem dX0_isLeftBy_46 : decode cX0_isLeftBy 46 = .ok (.iload 5, 2) := dk_21 5 (dk_at dksX0_isLeftBy_2 0 rfl rfl)
theorem dX0_isLeftBy_48 : decode cX0_isLeftBy 48 = .ok (.ishr, 1) := dk_122 (dk_at dksX0_isLeftBy_2 2 rfl rfl)
theorem dX0_isLeftBy_49 : decode cX0_isLeftBy 49 = .ok (.iconst 1, 1) := dk_4 (dk_at dksX0_isLeftBy_2 3 rfl rfl)
theorem dX0_isLeftBy_50 : decode cX0_isLeftBy 50 = .ok (.iand, 1) := dk_126 (dk_at dksX0_isLeftBy_2 4 rfl rfl)
theorem dX0_isLeftBy_51 : decode cX0_isLeftBy 51 = .ok (.iconst 1, 1) := dk_4 (dk_at dksX0_isLeftBy_2 5 rfl rfl)
theorem dX0_isLeftBy_52 : decode cX0_isLeftBy 52 = .ok (.if_icmp .ne 38, 3) := dk_160 0 38 (dk_at dksX0_isLeftBy_2 6 rfl rfl)
theorem dX0_isLeftBy_55 : decode cX0_isLeftBy 55 = .ok (.aload_n 0, 1) := dk_42 (dk_at dksX0_isLeftBy_2 9 rfl rfl)
theorem dX0_isLeftBy_56 : decode cX0_isLeftBy 56 = .ok (.getfield 55, 3) := dk_180 0 55 (dk_at dksX0_isLeftBy_2 10 rfl rfl)
theorem dX0_isLeftBy_59 : decode cX0_isLeftBy 59 = .ok (.getfield 211, 3) := dk_180 0 211 (dk_at dksX0_isLeftBy_2 13 rfl rfl)
theorem dX0_isLeftBy_62 : decode cX0_isLeftBy 62 = .ok (.getfield 323, 3) := dk_180 1 67 (dk_at dksX0_isLeftBy_2 16 rfl rfl)
theorem dX0_isLeftBy_65 : decode cX0_isLeftBy 65 = .ok (.iload 5, 2) := dk_21 5 (dk_at dksX0_isLeftBy_2 19 rfl rfl)
theorem dX0_isLeftBy_67 : decode cX0_isLeftBy 67 = .ok (.iaload, 1) := dk_46 (dk_at dksX0_isLeftBy_2 21 rfl rfl)
theorem dX0_isLeftBy_68 : decode cX0_isLeftBy 68 = .ok (.iload_n 3, 1) := dk_29 (dk_at dksX0_isLeftBy_2 22 rfl rfl)
theorem dX0_isLeftBy_69 : decode cX0_isLeftBy 69 = .ok (.if_icmp .ne 21, 3) := dk_160 0 21 (dk_at dksX0_isLeftBy_3 0 rfl rfl)
theorem dX0_isLeftBy_72 : decode cX0_isLeftBy 72 = .ok (.iload 4, 2) := dk_21 4 (dk_at dksX0_isLeftBy_3 3 rfl rfl)
theorem dX0_isLeftBy_74 : decode cX0_isLeftBy 74 = .ok (.aload_n 0, 1) := dk_42 (dk_at dksX0_isLeftBy_3 5 rfl rfl)
theorem dX0_isLeftBy_75 : decode cX0_isLeftBy 75 = .ok (.getfield 63, 3) := dk_180 0 63 (dk_at dksX0_isLeftBy_3 6 rfl rfl)
theorem dX0_isLeftBy_78 : decode cX0_isLeftBy 78 = .ok (.iload 5, 2) := dk_21 5 (dk_at dksX0_isLeftBy_3 9 rfl rfl)
theorem dX0_isLeftBy_80 : decode cX0_isLeftBy 80 = .ok (.sipush 256, 3) := dk_17 1 0 (dk_at dksX0_isLeftBy_3 11 rfl rfl)
theorem dX0_isLeftBy_83 : decode cX0_isLeftBy 83 = .ok (.imul, 1) := dk_104 (dk_at dksX0_isLeftBy_3 14 rfl rfl)
theorem dX0_isLeftBy_84 : decode cX0_isLeftBy 84 = .ok (.iload_n 1, 1) := dk_27 (dk_at dksX0_isLeftBy_3 15 rfl rfl)
theorem dX0_isLeftBy_85 : decode cX0_isLeftBy 85 = .ok (.iadd, 1) := dk_96 (dk_at dksX0_isLeftBy_3 16 rfl rfl)
theorem dX0_isLeftBy_86 : decode cX0_isLeftBy 86 = .ok (.baload, 1) := dk_51 (dk_at dksX0_isLeftBy_3 17 rfl rfl)
theorem dX0_isLeftBy_87 : decode cX0_isLeftBy 87 = .ok (.iand, 1) := dk_126 (dk_at dksX0_isLeftBy_3 18 rfl rfl)
theorem dX0_isLeftBy_88 : decode cX0_isLeftBy 88 = .ok (.istore 4, 2) := dk_54 4 (dk_at dksX0_isLeftBy_3 19 rfl rfl)
theorem dX0_isLeftBy_90 : decode cX0_isLeftBy 90 = .ok (.iinc 5 1, 3) := dk_132 5 1 (dk_at dksX0_isLeftBy_3 21 rfl rfl)
theorem dX0_isLeftBy_93 : decode cX0_isLeftBy 93 = .ok (.goto (-63), 3) := dk_167 255 193 (dk_at dksX0_isLeftBy_4 0 rfl rfl)
theorem dX0_isLeftBy_96 : decode cX0_isLeftBy 96 = .ok (.iload 4, 2) := dk_21 4 (dk_at dksX0_isLeftBy_4 3 rfl rfl)
theorem dX0_isLeftBy_98 : decode cX0_isLeftBy 98 = .ok (.ifCond .ne 5, 3) := dk_154 0 5 (dk_at dksX0_isLeftBy_4 5 rfl rfl)
theorem dX0_isLeftBy_101 : decode cX0_isLeftBy 101 = .ok (.iconst 0, 1) := dk_3 (dk_at dksX0_isLeftBy_4 8 rfl rfl)
theorem dX0_isLeftBy_102 : decode cX0_isLeftBy 102 = .ok (.ireturn, 1) := dk_172 (dk_at dksX0_isLeftBy_4 9 rfl rfl)
theorem dX0_isLeftBy_103 : decode cX0_isLeftBy 103 = .ok (.iinc 3 1, 3) := dk_132 3 1 (dk_at dksX0_isLeftBy_4 10 rfl rfl)
theorem dX0_isLeftBy_106 : decode cX0_isLeftBy 106 = .ok (.goto (-104), 3) := dk_167 255 152 (dk_at dksX0_isLeftBy_4 13 rfl rfl)
theorem dX0_isLeftBy_109 : decode cX0_isLeftBy 109 = .ok (.iconst 1, 1) := dk_4 (dk_at dksX0_isLeftBy_4 16 rfl rfl)
theorem dX0_isLeftBy_110 : decode cX0_isLeftBy 110 = .ok (.ireturn, 1) := dk_172 (dk_at dksX0_isLeftBy_4 17 rfl rfl)
abbrev cX0_gave : ByteArray := prog_1_method_55_code
def yX0_gave : MethodName := ⟨RX0, "gave", "(I)I"⟩
def dkwX0_gave_2 : List UInt8 := [182, 0, 224, 42, 4, 27, 120, 182, 1, 85, 100, 172]
abbrev dktX0_gave_2 : List UInt8 := dkwX0_gave_2 ++ []
def dkwX0_gave_1 : List UInt8 := [167, 0, 5, 16, 6, 181, 0, 87, 42, 180, 0, 87, 158, 0, 7, 2, 167, 0, 18, 42, 182, 0, 165]
abbrev dktX0_gave_1 : List UInt8 := dkwX0_gave_1 ++ dktX0_gave_2
def dkwX0_gave_0 : List UInt8 := [42, 27, 133, 9, 42, 180, 0, 55, 180, 0, 211, 180, 0, 252, 4, 100, 133, 184, 0, 173, 153, 0, 7, 3]
abbrev dktX0_gave_0 : List UInt8 := dkwX0_gave_0 ++ dktX0_gave_1
theorem dksX0_gave_0 : cX0_gave.data.toList.drop 0 = dktX0_gave_0 := by decide +kernel
theorem dksX0_gave_1 : cX0_gave.data.toList.drop 24 = dktX0_gave_1 := dk_seg dksX0_gave_0 24 rfl rfl
theorem dksX0_gave_2 : cX0_gave.data.toList.drop 47 = dktX0_gave_2 := dk_seg dksX0_gave_1 23 rfl rfl
theorem dX0_gave_0 : decode cX0_gave 0 = .ok (.aload_n 0, 1) := dk_42 (dk_at dksX0_gave_0 0 rfl rfl)
theorem dX0_gave_1 : decode cX0_gave 1 = .ok (.iload_n 1, 1) := dk_27 (dk_at dksX0_gave_0 1 rfl rfl)
theorem dX0_gave_2 : decode cX0_gave 2 = .ok (.i2l, 1) := dk_133 (dk_at dksX0_gave_0 2 rfl rfl)
theorem dX0_gave_3 : decode cX0_gave 3 = .ok (.lconst 0, 1) := dk_9 (dk_at dksX0_gave_0 3 rfl rfl)
theorem dX0_gave_4 : decode cX0_gave 4 = .ok (.aload_n 0, 1) := dk_42 (dk_at dksX0_gave_0 4 rfl rfl)
theorem dX0_gave_5 : decode cX0_gave 5 = .ok (.getfield 55, 3) := dk_180 0 55 (dk_at dksX0_gave_0 5 rfl rfl)
theorem dX0_gave_8 : decode cX0_gave 8 = .ok (.getfield 211, 3) := dk_180 0 211 (dk_at dksX0_gave_0 8 rfl rfl)
theorem dX0_gave_11 : decode cX0_gave 11 = .ok (.getfield 252, 3) := dk_180 0 252 (dk_at dksX0_gave_0 11 rfl rfl)
theorem dX0_gave_14 : decode cX0_gave 14 = .ok (.iconst 1, 1) := dk_4 (dk_at dksX0_gave_0 14 rfl rfl)
theorem dX0_gave_15 : decode cX0_gave 15 = .ok (.isub, 1) := dk_100 (dk_at dksX0_gave_0 15 rfl rfl)
theorem dX0_gave_16 : decode cX0_gave 16 = .ok (.i2l, 1) := dk_133 (dk_at dksX0_gave_0 16 rfl rfl)
theorem dX0_gave_17 : decode cX0_gave 17 = .ok (.invokestatic 173, 3) := dk_184 0 173 (dk_at dksX0_gave_0 17 rfl rfl)
theorem dX0_gave_20 : decode cX0_gave 20 = .ok (.ifCond .eq 7, 3) := dk_153 0 7 (dk_at dksX0_gave_0 20 rfl rfl)
theorem dX0_gave_23 : decode cX0_gave 23 = .ok (.iconst 0, 1) := dk_3 (dk_at dksX0_gave_0 23 rfl rfl)
theorem dX0_gave_24 : decode cX0_gave 24 = .ok (.goto 5, 3) := dk_167 0 5 (dk_at dksX0_gave_1 0 rfl rfl)
theorem dX0_gave_27 : decode cX0_gave 27 = .ok (.bipush 6, 2) := dk_16 6 (dk_at dksX0_gave_1 3 rfl rfl)
theorem dX0_gave_29 : decode cX0_gave 29 = .ok (.putfield 87, 3) := dk_181 0 87 (dk_at dksX0_gave_1 5 rfl rfl)
theorem dX0_gave_32 : decode cX0_gave 32 = .ok (.aload_n 0, 1) := dk_42 (dk_at dksX0_gave_1 8 rfl rfl)
theorem dX0_gave_33 : decode cX0_gave 33 = .ok (.getfield 87, 3) := dk_180 0 87 (dk_at dksX0_gave_1 9 rfl rfl)
theorem dX0_gave_36 : decode cX0_gave 36 = .ok (.ifCond .le 7, 3) := dk_158 0 7 (dk_at dksX0_gave_1 12 rfl rfl)
theorem dX0_gave_39 : decode cX0_gave 39 = .ok (.iconst (-1), 1) := dk_2 (dk_at dksX0_gave_1 15 rfl rfl)
theorem dX0_gave_40 : decode cX0_gave 40 = .ok (.goto 18, 3) := dk_167 0 18 (dk_at dksX0_gave_1 16 rfl rfl)
theorem dX0_gave_43 : decode cX0_gave 43 = .ok (.aload_n 0, 1) := dk_42 (dk_at dksX0_gave_1 19 rfl rfl)
theorem dX0_gave_44 : decode cX0_gave 44 = .ok (.invokevirtual 165, 3) := dk_182 0 165 (dk_at dksX0_gave_1 20 rfl rfl)
theorem dX0_gave_47 : decode cX0_gave 47 = .ok (.invokevirtual 224, 3) := dk_182 0 224 (dk_at dksX0_gave_2 0 rfl rfl)
theorem dX0_gave_50 : decode cX0_gave 50 = .ok (.aload_n 0, 1) := dk_42 (dk_at dksX0_gave_2 3 rfl rfl)
theorem dX0_gave_51 : decode cX0_gave 51 = .ok (.iconst 1, 1) := dk_4 (dk_at dksX0_gave_2 4 rfl rfl)
theorem dX0_gave_52 : decode cX0_gave 52 = .ok (.iload_n 1, 1) := dk_27 (dk_at dksX0_gave_2 5 rfl rfl)
theorem dX0_gave_53 : decode cX0_gave 53 = .ok (.ishl, 1) := dk_120 (dk_at dksX0_gave_2 6 rfl rfl)
theorem dX0_gave_54 : decode cX0_gave 54 = .ok (.invokevirtual 341, 3) := dk_182 1 85 (dk_at dksX0_gave_2 7 rfl rfl)
theorem dX0_gave_57 : decode cX0_gave 57 = .ok (.isub, 1) := dk_100 (dk_at dksX0_gave_2 10 rfl rfl)
theorem dX0_gave_58 : decode cX0_gave 58 = .ok (.ireturn, 1) := dk_172 (dk_at dksX0_gave_2 11 rfl rfl)
abbrev cX0_fees : ByteArray := prog_1_method_56_code
def yX0_fees : MethodName := ⟨RX0, "fees", "()I"⟩
def dkwX0_fees_0 : List UInt8 := [42, 3, 181, 0, 87, 42, 180, 0, 55, 180, 0, 211, 42, 182, 0, 165, 182, 1, 129, 172]
abbrev dktX0_fees_0 : List UInt8 := dkwX0_fees_0 ++ []
theorem dksX0_fees_0 : cX0_fees.data.toList.drop 0 = dktX0_fees_0 := by decide +kernel
theorem dX0_fees_0 : decode cX0_fees 0 = .ok (.aload_n 0, 1) := dk_42 (dk_at dksX0_fees_0 0 rfl rfl)
theorem dX0_fees_1 : decode cX0_fees 1 = .ok (.iconst 0, 1) := dk_3 (dk_at dksX0_fees_0 1 rfl rfl)
theorem dX0_fees_2 : decode cX0_fees 2 = .ok (.putfield 87, 3) := dk_181 0 87 (dk_at dksX0_fees_0 2 rfl rfl)
theorem dX0_fees_5 : decode cX0_fees 5 = .ok (.aload_n 0, 1) := dk_42 (dk_at dksX0_fees_0 5 rfl rfl)
theorem dX0_fees_6 : decode cX0_fees 6 = .ok (.getfield 55, 3) := dk_180 0 55 (dk_at dksX0_fees_0 6 rfl rfl)
theorem dX0_fees_9 : decode cX0_fees 9 = .ok (.getfield 211, 3) := dk_180 0 211 (dk_at dksX0_fees_0 9 rfl rfl)
theorem dX0_fees_12 : decode cX0_fees 12 = .ok (.aload_n 0, 1) := dk_42 (dk_at dksX0_fees_0 12 rfl rfl)
theorem dX0_fees_13 : decode cX0_fees 13 = .ok (.invokevirtual 165, 3) := dk_182 0 165 (dk_at dksX0_fees_0 13 rfl rfl)
theorem dX0_fees_16 : decode cX0_fees 16 = .ok (.invokevirtual 385, 3) := dk_182 1 129 (dk_at dksX0_fees_0 16 rfl rfl)
theorem dX0_fees_19 : decode cX0_fees 19 = .ok (.ireturn, 1) := dk_172 (dk_at dksX0_fees_0 19 rfl rfl)
abbrev cX0_worst : ByteArray := prog_1_method_61_code
def yX0_worst : MethodName := ⟨RX0, "worst", "(II)I"⟩
def dkwX0_worst_3 : List UInt8 := [158, 0, 5, 2, 172, 42, 42, 180, 0, 55, 180, 0, 211, 182, 1, 142, 42, 27, 28, 182, 1, 146, 172]
abbrev dktX0_worst_3 : List UInt8 := dkwX0_worst_3 ++ []
def dkwX0_worst_2 : List UInt8 := [180, 0, 211, 28, 182, 1, 60, 153, 0, 8, 16, 7, 167, 0, 4, 3, 181, 0, 87, 42, 180, 0, 87]
abbrev dktX0_worst_2 : List UInt8 := dkwX0_worst_2 ++ dktX0_worst_3
def dkwX0_worst_1 : List UInt8 := [180, 0, 55, 180, 0, 211, 182, 1, 82, 182, 1, 85, 154, 0, 8, 16, 6, 167, 0, 23, 42, 180, 0, 55]
abbrev dktX0_worst_1 : List UInt8 := dkwX0_worst_1 ++ dktX0_worst_2
def dkwX0_worst_0 : List UInt8 := [42, 42, 27, 182, 1, 33, 153, 0, 11, 42, 28, 182, 1, 23, 154, 0, 7, 4, 167, 0, 45, 42, 42]
abbrev dktX0_worst_0 : List UInt8 := dkwX0_worst_0 ++ dktX0_worst_1
theorem dksX0_worst_0 : cX0_worst.data.toList.drop 0 = dktX0_worst_0 := by decide +kernel
theorem dksX0_worst_1 : cX0_worst.data.toList.drop 23 = dktX0_worst_1 := dk_seg dksX0_worst_0 23 rfl rfl
theorem dksX0_worst_2 : cX0_worst.data.toList.drop 47 = dktX0_worst_2 := dk_seg dksX0_worst_1 24 rfl rfl
theorem dksX0_worst_3 : cX0_worst.data.toList.drop 70 = dktX0_worst_3 := dk_seg dksX0_worst_2 23 rfl rfl
theorem dX0_worst_0 : decode cX0_worst 0 = .ok (.aload_n 0, 1) := dk_42 (dk_at dksX0_worst_0 0 rfl rfl)
theorem dX0_worst_1 : decode cX0_worst 1 = .ok (.aload_n 0, 1) := dk_42 (dk_at dksX0_worst_0 1 rfl rfl)
theorem dX0_worst_2 : decode cX0_worst 2 = .ok (.iload_n 1, 1) := dk_27 (dk_at dksX0_worst_0 2 rfl rfl)
theorem dX0_worst_3 : decode cX0_worst 3 = .ok (.invokevirtual 289, 3) := dk_182 1 33 (dk_at dksX0_worst_0 3 rfl rfl)
theorem dX0_worst_6 : decode cX0_worst 6 = .ok (.ifCond .eq 11, 3) := dk_153 0 11 (dk_at dksX0_worst_0 6 rfl rfl)
theorem dX0_worst_9 : decode cX0_worst 9 = .ok (.aload_n 0, 1) := dk_42 (dk_at dksX0_worst_0 9 rfl rfl)
theorem dX0_worst_10 : decode cX0_worst 10 = .ok (.iload_n 2, 1) := dk_28 (dk_at dksX0_worst_0 10 rfl rfl)
theorem dX0_worst_11 : decode cX0_worst 11 = .ok (.invokevirtual 279, 3) := dk_182 1 23 (dk_at dksX0_worst_0 11 rfl rfl)
theorem dX0_worst_14 : decode cX0_worst 14 = .ok (.ifCond .ne 7, 3) := dk_154 0 7 (dk_at dksX0_worst_0 14 rfl rfl)
theorem dX0_worst_17 : decode cX0_worst 17 = .ok (.iconst 1, 1) := dk_4 (dk_at dksX0_worst_0 17 rfl rfl)
theorem dX0_worst_18 : decode cX0_worst 18 = .ok (.goto 45, 3) := dk_167 0 45 (dk_at dksX0_worst_0 18 rfl rfl)
theorem dX0_worst_21 : decode cX0_worst 21 = .ok (.aload_n 0, 1) := dk_42 (dk_at dksX0_worst_0 21 rfl rfl)
theorem dX0_worst_22 : decode cX0_worst 22 = .ok (.aload_n 0, 1) := dk_42 (dk_at dksX0_worst_0 22 rfl rfl)
theorem dX0_worst_23 : decode cX0_worst 23 = .ok (.getfield 55, 3) := dk_180 0 55 (dk_at dksX0_worst_1 0 rfl rfl)
theorem dX0_worst_26 : decode cX0_worst 26 = .ok (.getfield 211, 3) := dk_180 0 211 (dk_at dksX0_worst_1 3 rfl rfl)
theorem dX0_worst_29 : decode cX0_worst 29 = .ok (.invokevirtual 338, 3) := dk_182 1 82 (dk_at dksX0_worst_1 6 rfl rfl)
theorem dX0_worst_32 : decode cX0_worst 32 = .ok (.invokevirtual 341, 3) := dk_182 1 85 (dk_at dksX0_worst_1 9 rfl rfl)
theorem dX0_worst_35 : decode cX0_worst 35 = .ok (.ifCond .ne 8, 3) := dk_154 0 8 (dk_at dksX0_worst_1 12 rfl rfl)
theorem dX0_worst_38 : decode cX0_worst 38 = .ok (.bipush 6, 2) := dk_16 6 (dk_at dksX0_worst_1 15 rfl rfl)
theorem dX0_worst_40 : decode cX0_worst 40 = .ok (.goto 23, 3) := dk_167 0 23 (dk_at dksX0_worst_1 17 rfl rfl)
theorem dX0_worst_43 : decode cX0_worst 43 = .ok (.aload_n 0, 1) := dk_42 (dk_at dksX0_worst_1 20 rfl rfl)
theorem dX0_worst_44 : decode cX0_worst 44 = .ok (.getfield 55, 3) := dk_180 0 55 (dk_at dksX0_worst_1 21 rfl rfl)
theorem dX0_worst_47 : decode cX0_worst 47 = .ok (.getfield 211, 3) := dk_180 0 211 (dk_at dksX0_worst_2 0 rfl rfl)
theorem dX0_worst_50 : decode cX0_worst 50 = .ok (.iload_n 2, 1) := dk_28 (dk_at dksX0_worst_2 3 rfl rfl)
theorem dX0_worst_51 : decode cX0_worst 51 = .ok (.invokevirtual 316, 3) := dk_182 1 60 (dk_at dksX0_worst_2 4 rfl rfl)
theorem dX0_worst_54 : decode cX0_worst 54 = .ok (.ifCond .eq 8, 3) := dk_153 0 8 (dk_at dksX0_worst_2 7 rfl rfl)
theorem dX0_worst_57 : decode cX0_worst 57 = .ok (.bipush 7, 2) := dk_16 7 (dk_at dksX0_worst_2 10 rfl rfl)
theorem dX0_worst_59 : decode cX0_worst 59 = .ok (.goto 4, 3) := dk_167 0 4 (dk_at dksX0_worst_2 12 rfl rfl)
theorem dX0_worst_62 : decode cX0_worst 62 = .ok (.iconst 0, 1) := dk_3 (dk_at dksX0_worst_2 15 rfl rfl)
theorem dX0_worst_63 : decode cX0_worst 63 = .ok (.putfield 87, 3) := dk_181 0 87 (dk_at dksX0_worst_2 16 rfl rfl)
theorem dX0_worst_66 : decode cX0_worst 66 = .ok (.aload_n 0, 1) := dk_42 (dk_at dksX0_worst_2 19 rfl rfl)
theorem dX0_worst_67 : decode cX0_worst 67 = .ok (.getfield 87, 3) := dk_180 0 87 (dk_at dksX0_worst_2 20 rfl rfl)
theorem dX0_worst_70 : decode cX0_worst 70 = .ok (.ifCond .le 5, 3) := dk_158 0 5 (dk_at dksX0_worst_3 0 rfl rfl)
theorem dX0_worst_73 : decode cX0_worst 73 = .ok (.iconst (-1), 1) := dk_2 (dk_at dksX0_worst_3 3 rfl rfl)
theorem dX0_worst_74 : decode cX0_worst 74 = .ok (.ireturn, 1) := dk_172 (dk_at dksX0_worst_3 4 rfl rfl)
theorem dX0_worst_75 : decode cX0_worst 75 = .ok (.aload_n 0, 1) := dk_42 (dk_at dksX0_worst_3 5 rfl rfl)
theorem dX0_worst_76 : decode cX0_worst 76 = .ok (.aload_n 0, 1) := dk_42 (dk_at dksX0_worst_3 6 rfl rfl)
theorem dX0_worst_77 : decode cX0_worst 77 = .ok (.getfield 55, 3) := dk_180 0 55 (dk_at dksX0_worst_3 7 rfl rfl)
theorem dX0_worst_80 : decode cX0_worst 80 = .ok (.getfield 211, 3) := dk_180 0 211 (dk_at dksX0_worst_3 10 rfl rfl)
theorem dX0_worst_83 : decode cX0_worst 83 = .ok (.invokevirtual 398, 3) := dk_182 1 142 (dk_at dksX0_worst_3 13 rfl rfl)
theorem dX0_worst_86 : decode cX0_worst 86 = .ok (.aload_n 0, 1) := dk_42 (dk_at dksX0_worst_3 16 rfl rfl)
theorem dX0_worst_87 : decode cX0_worst 87 = .ok (.iload_n 1, 1) := dk_27 (dk_at dksX0_worst_3 17 rfl rfl)
theorem dX0_worst_88 : decode cX0_worst 88 = .ok (.iload_n 2, 1) := dk_28 (dk_at dksX0_worst_3 18 rfl rfl)
theorem dX0_worst_89 : decode cX0_worst 89 = .ok (.invokevirtual 402, 3) := dk_182 1 146 (dk_at dksX0_worst_3 19 rfl rfl)
theorem dX0_worst_92 : decode cX0_worst 92 = .ok (.ireturn, 1) := dk_172 (dk_at dksX0_worst_3 22 rfl rfl)
abbrev cX0_begin : ByteArray := prog_1_method_58_code
def yX0_begin : MethodName := ⟨RX0, "begin", "(LAskingCourt$Record;)V"⟩
def dkwX0_begin_6 : List UInt8 := [167, 0, 4, 3, 128, 167, 0, 4, 3, 147, 86, 132, 2, 1, 167, 255, 108, 177]
abbrev dktX0_begin_6 : List UInt8 := dkwX0_begin_6 ++ []
def dkwX0_begin_5 : List UInt8 := [21, 4, 153, 0, 29, 29, 42, 182, 0, 165, 180, 0, 180, 7, 162, 0, 12, 4, 6, 184, 1, 132, 120]
abbrev dktX0_begin_5 : List UInt8 := dkwX0_begin_5 ++ dktX0_begin_6
def dkwX0_begin_4 : List UInt8 := [21, 6, 158, 0, 7, 4, 167, 0, 4, 3, 54, 4, 132, 5, 1, 167, 255, 182, 42, 180, 0, 66, 28]
abbrev dktX0_begin_4 : List UInt8 := dkwX0_begin_4 ++ dktX0_begin_5
def dkwX0_begin_3 : List UInt8 := [180, 1, 38, 21, 5, 50, 182, 1, 96, 126, 54, 6, 29, 21, 6, 21, 5, 184, 1, 132, 120, 128, 62]
abbrev dktX0_begin_3 : List UInt8 := dkwX0_begin_3 ++ dktX0_begin_4
def dkwX0_begin_2 : List UInt8 := [153, 0, 63, 43, 42, 182, 0, 165, 21, 5, 28, 43, 182, 1, 82, 182, 1, 92, 42, 182, 0, 165]
abbrev dktX0_begin_2 : List UInt8 := dkwX0_begin_2 ++ dktX0_begin_3
def dkwX0_begin_1 : List UInt8 := [182, 1, 18, 54, 4, 3, 54, 5, 21, 5, 42, 182, 0, 165, 180, 0, 180, 162, 0, 68, 21, 4]
abbrev dktX0_begin_1 : List UInt8 := dkwX0_begin_1 ++ dktX0_begin_2
def dkwX0_begin_0 : List UInt8 := [3, 61, 28, 42, 182, 0, 165, 180, 0, 168, 162, 0, 143, 3, 62, 42, 182, 0, 165, 180, 1, 14, 28]
abbrev dktX0_begin_0 : List UInt8 := dkwX0_begin_0 ++ dktX0_begin_1
theorem dksX0_begin_0 : cX0_begin.data.toList.drop 0 = dktX0_begin_0 := by decide +kernel
theorem dksX0_begin_1 : cX0_begin.data.toList.drop 23 = dktX0_begin_1 := dk_seg dksX0_begin_0 23 rfl rfl
theorem dksX0_begin_2 : cX0_begin.data.toList.drop 45 = dktX0_begin_2 := dk_seg dksX0_begin_1 22 rfl rfl
theorem dksX0_begin_3 : cX0_begin.data.toList.drop 67 = dktX0_begin_3 := dk_seg dksX0_begin_2 22 rfl rfl
theorem dksX0_begin_4 : cX0_begin.data.toList.drop 90 = dktX0_begin_4 := dk_seg dksX0_begin_3 23 rfl rfl
theorem dksX0_begin_5 : cX0_begin.data.toList.drop 113 = dktX0_begin_5 := dk_seg dksX0_begin_4 23 rfl rfl
theorem dksX0_begin_6 : cX0_begin.data.toList.drop 136 = dktX0_begin_6 := dk_seg dksX0_begin_5 23 rfl rfl
theorem dX0_begin_0 : decode cX0_begin 0 = .ok (.iconst 0, 1) := dk_3 (dk_at dksX0_begin_0 0 rfl rfl)
theorem dX0_begin_1 : decode cX0_begin 1 = .ok (.istore_n 2, 1) := dk_61 (dk_at dksX0_begin_0 1 rfl rfl)
theorem dX0_begin_2 : decode cX0_begin 2 = .ok (.iload_n 2, 1) := dk_28 (dk_at dksX0_begin_0 2 rfl rfl)
theorem dX0_begin_3 : decode cX0_begin 3 = .ok (.aload_n 0, 1) := dk_42 (dk_at dksX0_begin_0 3 rfl rfl)
theorem dX0_begin_4 : decode cX0_begin 4 = .ok (.invokevirtual 165, 3) := dk_182 0 165 (dk_at dksX0_begin_0 4 rfl rfl)
theorem dX0_begin_7 : decode cX0_begin 7 = .ok (.getfield 168, 3) := dk_180 0 168 (dk_at dksX0_begin_0 7 rfl rfl)
theorem dX0_begin_10 : decode cX0_begin 10 = .ok (.if_icmp .ge 143, 3) := dk_162 0 143 (dk_at dksX0_begin_0 10 rfl rfl)
theorem dX0_begin_13 : decode cX0_begin 13 = .ok (.iconst 0, 1) := dk_3 (dk_at dksX0_begin_0 13 rfl rfl)
theorem dX0_begin_14 : decode cX0_begin 14 = .ok (.istore_n 3, 1) := dk_62 (dk_at dksX0_begin_0 14 rfl rfl)
theorem dX0_begin_15 : decode cX0_begin 15 = .ok (.aload_n 0, 1) := dk_42 (dk_at dksX0_begin_0 15 rfl rfl)
theorem dX0_begin_16 : decode cX0_begin 16 = .ok (.invokevirtual 165, 3) := dk_182 0 165 (dk_at dksX0_begin_0 16 rfl rfl)
theorem dX0_begin_19 : decode cX0_begin 19 = .ok (.getfield 270, 3) := dk_180 1 14 (dk_at dksX0_begin_0 19 rfl rfl)
theorem dX0_begin_22 : decode cX0_begin 22 = .ok (.iload_n 2, 1) := dk_28 (dk_at dksX0_begin_0 22 rfl rfl)
theorem dX0_begin_23 : decode cX0_begin 23 = .ok (.invokevirtual 274, 3) := dk_182 1 18 (dk_at dksX0_begin_1 0 rfl rfl)
theorem dX0_begin_26 : decode cX0_begin 26 = .ok (.istore 4, 2) := dk_54 4 (dk_at dksX0_begin_1 3 rfl rfl)
theorem dX0_begin_28 : decode cX0_begin 28 = .ok (.iconst 0, 1) := dk_3 (dk_at dksX0_begin_1 5 rfl rfl)
theorem dX0_begin_29 : decode cX0_begin 29 = .ok (.istore 5, 2) := dk_54 5 (dk_at dksX0_begin_1 6 rfl rfl)
theorem dX0_begin_31 : decode cX0_begin 31 = .ok (.iload 5, 2) := dk_21 5 (dk_at dksX0_begin_1 8 rfl rfl)
theorem dX0_begin_33 : decode cX0_begin 33 = .ok (.aload_n 0, 1) := dk_42 (dk_at dksX0_begin_1 10 rfl rfl)
theorem dX0_begin_34 : decode cX0_begin 34 = .ok (.invokevirtual 165, 3) := dk_182 0 165 (dk_at dksX0_begin_1 11 rfl rfl)
theorem dX0_begin_37 : decode cX0_begin 37 = .ok (.getfield 180, 3) := dk_180 0 180 (dk_at dksX0_begin_1 14 rfl rfl)
theorem dX0_begin_40 : decode cX0_begin 40 = .ok (.if_icmp .ge 68, 3) := dk_162 0 68 (dk_at dksX0_begin_1 17 rfl rfl)
theorem dX0_begin_43 : decode cX0_begin 43 = .ok (.iload 4, 2) := dk_21 4 (dk_at dksX0_begin_1 20 rfl rfl)
theorem dX0_begin_45 : decode cX0_begin 45 = .ok (.ifCond .eq 63, 3) := dk_153 0 63 (dk_at dksX0_begin_2 0 rfl rfl)
theorem dX0_begin_48 : decode cX0_begin 48 = .ok (.aload_n 1, 1) := dk_43 (dk_at dksX0_begin_2 3 rfl rfl)
theorem dX0_begin_49 : decode cX0_begin 49 = .ok (.aload_n 0, 1) := dk_42 (dk_at dksX0_begin_2 4 rfl rfl)
theorem dX0_begin_50 : decode cX0_begin 50 = .ok (.invokevirtual 165, 3) := dk_182 0 165 (dk_at dksX0_begin_2 5 rfl rfl)
theorem dX0_begin_53 : decode cX0_begin 53 = .ok (.iload 5, 2) := dk_21 5 (dk_at dksX0_begin_2 8 rfl rfl)
theorem dX0_begin_55 : decode cX0_begin 55 = .ok (.iload_n 2, 1) := dk_28 (dk_at dksX0_begin_2 10 rfl rfl)
theorem dX0_begin_56 : decode cX0_begin 56 = .ok (.aload_n 1, 1) := dk_43 (dk_at dksX0_begin_2 11 rfl rfl)
theorem dX0_begin_57 : decode cX0_begin 57 = .ok (.invokevirtual 338, 3) := dk_182 1 82 (dk_at dksX0_begin_2 12 rfl rfl)
theorem dX0_begin_60 : decode cX0_begin 60 = .ok (.invokevirtual 348, 3) := dk_182 1 92 (dk_at dksX0_begin_2 15 rfl rfl)
theorem dX0_begin_63 : decode cX0_begin 63 = .ok (.aload_n 0, 1) := dk_42 (dk_at dksX0_begin_2 18 rfl rfl)
theorem dX0_begin_64 : decode cX0_begin 64 = .ok (.invokevirtual 165, 3) := dk_182 0 165 (dk_at dksX0_begin_2 19 rfl rfl)
theorem dX0_begin_67 : decode cX0_begin 67 = .ok (.getfield 294, 3) := dk_180 1 38 (dk_at dksX0_begin_3 0 rfl rfl)
theorem dX0_begin_70 : decode cX0_begin 70 = .ok (.iload 5, 2) := dk_21 5 (dk_at dksX0_begin_3 3 rfl rfl)
theorem dX0_begin_72 : decode cX0_begin 72 = .ok (.aaload, 1) := dk_50 (dk_at dksX0_begin_3 5 rfl rfl)
theorem dX0_begin_73 : decode cX0_begin 73 = .ok (.invokevirtual 352, 3) := dk_182 1 96 (dk_at dksX0_begin_3 6 rfl rfl)
theorem dX0_begin_76 : decode cX0_begin 76 = .ok (.iand, 1) := dk_126 (dk_at dksX0_begin_3 9 rfl rfl)
theorem dX0_begin_77 : decode cX0_begin 77 = .ok (.istore 6, 2) := dk_54 6 (dk_at dksX0_begin_3 10 rfl rfl)
theorem dX0_begin_79 : decode cX0_begin 79 = .ok (.iload_n 3, 1) := dk_29 (dk_at dksX0_begin_3 12 rfl rfl)
theorem dX0_begin_80 : decode cX0_begin 80 = .ok (.iload 6, 2) := dk_21 6 (dk_at dksX0_begin_3 13 rfl rfl)
theorem dX0_begin_82 : decode cX0_begin 82 = .ok (.iload 5, 2) := dk_21 5 (dk_at dksX0_begin_3 15 rfl rfl)
theorem dX0_begin_84 : decode cX0_begin 84 = .ok (.invokestatic 388, 3) := dk_184 1 132 (dk_at dksX0_begin_3 17 rfl rfl)
theorem dX0_begin_87 : decode cX0_begin 87 = .ok (.ishl, 1) := dk_120 (dk_at dksX0_begin_3 20 rfl rfl)
theorem dX0_begin_88 : decode cX0_begin 88 = .ok (.ior, 1) := dk_128 (dk_at dksX0_begin_3 21 rfl rfl)
theorem dX0_begin_89 : decode cX0_begin 89 = .ok (.istore_n 3, 1) := dk_62 (dk_at dksX0_begin_3 22 rfl rfl)
theorem dX0_begin_90 : decode cX0_begin 90 = .ok (.iload 6, 2) := dk_21 6 (dk_at dksX0_begin_4 0 rfl rfl)
theorem dX0_begin_92 : decode cX0_begin 92 = .ok (.ifCond .le 7, 3) := dk_158 0 7 (dk_at dksX0_begin_4 2 rfl rfl)
theorem dX0_begin_95 : decode cX0_begin 95 = .ok (.iconst 1, 1) := dk_4 (dk_at dksX0_begin_4 5 rfl rfl)
theorem dX0_begin_96 : decode cX0_begin 96 = .ok (.goto 4, 3) := dk_167 0 4 (dk_at dksX0_begin_4 6 rfl rfl)
theorem dX0_begin_99 : decode cX0_begin 99 = .ok (.iconst 0, 1) := dk_3 (dk_at dksX0_begin_4 9 rfl rfl)
theorem dX0_begin_100 : decode cX0_begin 100 = .ok (.istore 4, 2) := dk_54 4 (dk_at dksX0_begin_4 10 rfl rfl)
theorem dX0_begin_102 : decode cX0_begin 102 = .ok (.iinc 5 1, 3) := dk_132 5 1 (dk_at dksX0_begin_4 12 rfl rfl)
theorem dX0_begin_105 : decode cX0_begin 105 = .ok (.goto (-74), 3) := dk_167 255 182 (dk_at dksX0_begin_4 15 rfl rfl)
theorem dX0_begin_108 : decode cX0_begin 108 = .ok (.aload_n 0, 1) := dk_42 (dk_at dksX0_begin_4 18 rfl rfl)
theorem dX0_begin_109 : decode cX0_begin 109 = .ok (.getfield 66, 3) := dk_180 0 66 (dk_at dksX0_begin_4 19 rfl rfl)
theorem dX0_begin_112 : decode cX0_begin 112 = .ok (.iload_n 2, 1) := dk_28 (dk_at dksX0_begin_4 22 rfl rfl)
theorem dX0_begin_113 : decode cX0_begin 113 = .ok (.iload 4, 2) := dk_21 4 (dk_at dksX0_begin_5 0 rfl rfl)
theorem dX0_begin_115 : decode cX0_begin 115 = .ok (.ifCond .eq 29, 3) := dk_153 0 29 (dk_at dksX0_begin_5 2 rfl rfl)
theorem dX0_begin_118 : decode cX0_begin 118 = .ok (.iload_n 3, 1) := dk_29 (dk_at dksX0_begin_5 5 rfl rfl)
theorem dX0_begin_119 : decode cX0_begin 119 = .ok (.aload_n 0, 1) := dk_42 (dk_at dksX0_begin_5 6 rfl rfl)
theorem dX0_begin_120 : decode cX0_begin 120 = .ok (.invokevirtual 165, 3) := dk_182 0 165 (dk_at dksX0_begin_5 7 rfl rfl)
theorem dX0_begin_123 : decode cX0_begin 123 = .ok (.getfield 180, 3) := dk_180 0 180 (dk_at dksX0_begin_5 10 rfl rfl)
theorem dX0_begin_126 : decode cX0_begin 126 = .ok (.iconst 4, 1) := dk_7 (dk_at dksX0_begin_5 13 rfl rfl)
theorem dX0_begin_127 : decode cX0_begin 127 = .ok (.if_icmp .ge 12, 3) := dk_162 0 12 (dk_at dksX0_begin_5 14 rfl rfl)
theorem dX0_begin_130 : decode cX0_begin 130 = .ok (.iconst 1, 1) := dk_4 (dk_at dksX0_begin_5 17 rfl rfl)
theorem dX0_begin_131 : decode cX0_begin 131 = .ok (.iconst 3, 1) := dk_6 (dk_at dksX0_begin_5 18 rfl rfl)
theorem dX0_begin_132 : decode cX0_begin 132 = .ok (.invokestatic 388, 3) := dk_184 1 132 (dk_at dksX0_begin_5 19 rfl rfl)
theorem dX0_begin_135 : decode cX0_begin 135 = .ok (.ishl, 1) := dk_120 (dk_at dksX0_begin_5 22 rfl rfl)
theorem dX0_begin_136 : decode cX0_begin 136 = .ok (.goto 4, 3) := dk_167 0 4 (dk_at dksX0_begin_6 0 rfl rfl)
theorem dX0_begin_139 : decode cX0_begin 139 = .ok (.iconst 0, 1) := dk_3 (dk_at dksX0_begin_6 3 rfl rfl)
theorem dX0_begin_140 : decode cX0_begin 140 = .ok (.ior, 1) := dk_128 (dk_at dksX0_begin_6 4 rfl rfl)
theorem dX0_begin_141 : decode cX0_begin 141 = .ok (.goto 4, 3) := dk_167 0 4 (dk_at dksX0_begin_6 5 rfl rfl)
theorem dX0_begin_144 : decode cX0_begin 144 = .ok (.iconst 0, 1) := dk_3 (dk_at dksX0_begin_6 8 rfl rfl)
theorem dX0_begin_145 : decode cX0_begin 145 = .ok (.i2s, 1) := dk_147 (dk_at dksX0_begin_6 9 rfl rfl)
theorem dX0_begin_146 : decode cX0_begin 146 = .ok (.sastore, 1) := dk_86 (dk_at dksX0_begin_6 10 rfl rfl)
theorem dX0_begin_147 : decode cX0_begin 147 = .ok (.iinc 2 1, 3) := dk_132 2 1 (dk_at dksX0_begin_6 11 rfl rfl)
theorem dX0_begin_150 : decode cX0_begin 150 = .ok (.goto (-148), 3) := dk_167 255 108 (dk_at dksX0_begin_6 14 rfl rfl)
theorem dX0_begin_153 : decode cX0_begin 153 = .ok (.return_, 1) := dk_177 (dk_at dksX0_begin_6 17 rfl rfl)
abbrev cX0_bitsAt : ByteArray := prog_1_method_57_code
def yX0_bitsAt : MethodName := ⟨RX0, "bitsAt", "(I)I"⟩
def dkwX0_bitsAt_0 : List UInt8 := [7, 26, 104, 172]
abbrev dktX0_bitsAt_0 : List UInt8 := dkwX0_bitsAt_0 ++ []
theorem dksX0_bitsAt_0 : cX0_bitsAt.data.toList.drop 0 = dktX0_bitsAt_0 := by decide +kernel
theorem dX0_bitsAt_0 : decode cX0_bitsAt 0 = .ok (.iconst 4, 1) := dk_7 (dk_at dksX0_bitsAt_0 0 rfl rfl)
theorem dX0_bitsAt_1 : decode cX0_bitsAt 1 = .ok (.iload_n 0, 1) := dk_26 (dk_at dksX0_bitsAt_0 1 rfl rfl)
theorem dX0_bitsAt_2 : decode cX0_bitsAt 2 = .ok (.imul, 1) := dk_104 (dk_at dksX0_bitsAt_0 2 rfl rfl)
theorem dX0_bitsAt_3 : decode cX0_bitsAt 3 = .ok (.ireturn, 1) := dk_172 (dk_at dksX0_bitsAt_0 3 rfl rfl)
abbrev cX0_worstOf : ByteArray := prog_1_method_60_code
def yX0_worstOf : MethodName := ⟨RX0, "worstOf", "(II)I"⟩
def dkwX0_worstOf_1 : List UInt8 := [21, 4, 182, 1, 136, 184, 1, 139, 62, 132, 4, 1, 167, 255, 225, 29, 172]
abbrev dktX0_worstOf_1 : List UInt8 := dkwX0_worstOf_1 ++ []
def dkwX0_worstOf_0 : List UInt8 := [3, 62, 3, 54, 4, 21, 4, 5, 42, 182, 0, 165, 180, 0, 177, 104, 162, 0, 23, 29, 42, 3, 27, 28]
abbrev dktX0_worstOf_0 : List UInt8 := dkwX0_worstOf_0 ++ dktX0_worstOf_1
theorem dksX0_worstOf_0 : cX0_worstOf.data.toList.drop 0 = dktX0_worstOf_0 := by decide +kernel
theorem dksX0_worstOf_1 : cX0_worstOf.data.toList.drop 24 = dktX0_worstOf_1 := dk_seg dksX0_worstOf_0 24 rfl rfl
theorem dX0_worstOf_0 : decode cX0_worstOf 0 = .ok (.iconst 0, 1) := dk_3 (dk_at dksX0_worstOf_0 0 rfl rfl)
theorem dX0_worstOf_1 : decode cX0_worstOf 1 = .ok (.istore_n 3, 1) := dk_62 (dk_at dksX0_worstOf_0 1 rfl rfl)
theorem dX0_worstOf_2 : decode cX0_worstOf 2 = .ok (.iconst 0, 1) := dk_3 (dk_at dksX0_worstOf_0 2 rfl rfl)
theorem dX0_worstOf_3 : decode cX0_worstOf 3 = .ok (.istore 4, 2) := dk_54 4 (dk_at dksX0_worstOf_0 3 rfl rfl)
theorem dX0_worstOf_5 : decode cX0_worstOf 5 = .ok (.iload 4, 2) := dk_21 4 (dk_at dksX0_worstOf_0 5 rfl rfl)
theorem dX0_worstOf_7 : decode cX0_worstOf 7 = .ok (.iconst 2, 1) := dk_5 (dk_at dksX0_worstOf_0 7 rfl rfl)
theorem dX0_worstOf_8 : decode cX0_worstOf 8 = .ok (.aload_n 0, 1) := dk_42 (dk_at dksX0_worstOf_0 8 rfl rfl)
theorem dX0_worstOf_9 : decode cX0_worstOf 9 = .ok (.invokevirtual 165, 3) := dk_182 0 165 (dk_at dksX0_worstOf_0 9 rfl rfl)
theorem dX0_worstOf_12 : decode cX0_worstOf 12 = .ok (.getfield 177, 3) := dk_180 0 177 (dk_at dksX0_worstOf_0 12 rfl rfl)
theorem dX0_worstOf_15 : decode cX0_worstOf 15 = .ok (.imul, 1) := dk_104 (dk_at dksX0_worstOf_0 15 rfl rfl)
theorem dX0_worstOf_16 : decode cX0_worstOf 16 = .ok (.if_icmp .ge 23, 3) := dk_162 0 23 (dk_at dksX0_worstOf_0 16 rfl rfl)
theorem dX0_worstOf_19 : decode cX0_worstOf 19 = .ok (.iload_n 3, 1) := dk_29 (dk_at dksX0_worstOf_0 19 rfl rfl)
theorem dX0_worstOf_20 : decode cX0_worstOf 20 = .ok (.aload_n 0, 1) := dk_42 (dk_at dksX0_worstOf_0 20 rfl rfl)
theorem dX0_worstOf_21 : decode cX0_worstOf 21 = .ok (.iconst 0, 1) := dk_3 (dk_at dksX0_worstOf_0 21 rfl rfl)
theorem dX0_worstOf_22 : decode cX0_worstOf 22 = .ok (.iload_n 1, 1) := dk_27 (dk_at dksX0_worstOf_0 22 rfl rfl)
theorem dX0_worstOf_23 : decode cX0_worstOf 23 = .ok (.iload_n 2, 1) := dk_28 (dk_at dksX0_worstOf_0 23 rfl rfl)
theorem dX0_worstOf_24 : decode cX0_worstOf 24 = .ok (.iload 4, 2) := dk_21 4 (dk_at dksX0_worstOf_1 0 rfl rfl)
theorem dX0_worstOf_26 : decode cX0_worstOf 26 = .ok (.invokevirtual 392, 3) := dk_182 1 136 (dk_at dksX0_worstOf_1 2 rfl rfl)
theorem dX0_worstOf_29 : decode cX0_worstOf 29 = .ok (.invokestatic 395, 3) := dk_184 1 139 (dk_at dksX0_worstOf_1 5 rfl rfl)
theorem dX0_worstOf_32 : decode cX0_worstOf 32 = .ok (.istore_n 3, 1) := dk_62 (dk_at dksX0_worstOf_1 8 rfl rfl)
theorem dX0_worstOf_33 : decode cX0_worstOf 33 = .ok (.iinc 4 1, 3) := dk_132 4 1 (dk_at dksX0_worstOf_1 9 rfl rfl)
theorem dX0_worstOf_36 : decode cX0_worstOf 36 = .ok (.goto (-31), 3) := dk_167 255 225 (dk_at dksX0_worstOf_1 12 rfl rfl)
theorem dX0_worstOf_39 : decode cX0_worstOf 39 = .ok (.iload_n 3, 1) := dk_29 (dk_at dksX0_worstOf_1 15 rfl rfl)
theorem dX0_worstOf_40 : decode cX0_worstOf 40 = .ok (.ireturn, 1) := dk_172 (dk_at dksX0_worstOf_1 16 rfl rfl)
abbrev cX0_behind : ByteArray := prog_1_method_59_code
def yX0_behind : MethodName := ⟨RX0, "behind", "(IIII)I"⟩
def dkwX0_behind_7 : List UInt8 := [167, 0, 4, 4, 96, 54, 5, 132, 6, 1, 167, 255, 89, 21, 5, 172]
abbrev dktX0_behind_7 : List UInt8 := dkwX0_behind_7 ++ []
def dkwX0_behind_6 : List UInt8 := [120, 2, 130, 126, 21, 9, 28, 184, 1, 132, 120, 128, 147, 86, 21, 5, 21, 9, 154, 0, 7, 3]
abbrev dktX0_behind_6 : List UInt8 := dkwX0_behind_6 ++ dktX0_behind_7
def dkwX0_behind_5 : List UInt8 := [17, 1, 0, 104, 21, 6, 96, 21, 9, 154, 0, 7, 3, 167, 0, 23, 21, 7, 16, 15, 28, 184, 1, 132]
abbrev dktX0_behind_5 : List UInt8 := dkwX0_behind_5 ++ dktX0_behind_6
def dkwX0_behind_4 : List UInt8 := [21, 9, 4, 21, 10, 120, 128, 54, 9, 132, 10, 1, 167, 255, 204, 42, 180, 0, 66, 27, 4, 96]
abbrev dktX0_behind_4 : List UInt8 := dkwX0_behind_4 ++ dktX0_behind_5
def dkwX0_behind_3 : List UInt8 := [4, 126, 4, 160, 0, 30, 42, 182, 0, 165, 28, 21, 10, 29, 21, 6, 182, 1, 56, 21, 4, 160, 0, 12]
abbrev dktX0_behind_3 : List UInt8 := dkwX0_behind_3 ++ dktX0_behind_4
def dkwX0_behind_2 : List UInt8 := [54, 8, 3, 54, 9, 3, 54, 10, 21, 10, 7, 162, 0, 52, 21, 7, 153, 0, 47, 21, 8, 21, 10, 122]
abbrev dktX0_behind_2 : List UInt8 := dkwX0_behind_2 ++ dktX0_behind_3
def dkwX0_behind_1 : List UInt8 := [17, 1, 0, 104, 21, 6, 96, 53, 19, 1, 135, 126, 54, 7, 21, 7, 28, 184, 1, 132, 122, 16, 15, 126]
abbrev dktX0_behind_1 : List UInt8 := dkwX0_behind_1 ++ dktX0_behind_2
def dkwX0_behind_0 : List UInt8 := [3, 54, 5, 3, 54, 6, 21, 6, 42, 182, 0, 165, 180, 0, 168, 162, 0, 161, 42, 180, 0, 66, 27]
abbrev dktX0_behind_0 : List UInt8 := dkwX0_behind_0 ++ dktX0_behind_1
theorem dksX0_behind_0 : cX0_behind.data.toList.drop 0 = dktX0_behind_0 := by decide +kernel
theorem dksX0_behind_1 : cX0_behind.data.toList.drop 23 = dktX0_behind_1 := dk_seg dksX0_behind_0 23 rfl rfl
theorem dksX0_behind_2 : cX0_behind.data.toList.drop 47 = dktX0_behind_2 := dk_seg dksX0_behind_1 24 rfl rfl
theorem dksX0_behind_3 : cX0_behind.data.toList.drop 71 = dktX0_behind_3 := dk_seg dksX0_behind_2 24 rfl rfl
theorem dksX0_behind_4 : cX0_behind.data.toList.drop 95 = dktX0_behind_4 := dk_seg dksX0_behind_3 24 rfl rfl
theorem dksX0_behind_5 : cX0_behind.data.toList.drop 117 = dktX0_behind_5 := dk_seg dksX0_behind_4 22 rfl rfl
theorem dksX0_behind_6 : cX0_behind.data.toList.drop 141 = dktX0_behind_6 := dk_seg dksX0_behind_5 24 rfl rfl
theorem dksX0_behind_7 : cX0_behind.data.toList.drop 163 = dktX0_behind_7 := dk_seg dksX0_behind_6 22 rfl rfl
theorem dX0_behind_0 : decode cX0_behind 0 = .ok (.iconst 0, 1) := dk_3 (dk_at dksX0_behind_0 0 rfl rfl)
theorem dX0_behind_1 : decode cX0_behind 1 = .ok (.istore 5, 2) := dk_54 5 (dk_at dksX0_behind_0 1 rfl rfl)
theorem dX0_behind_3 : decode cX0_behind 3 = .ok (.iconst 0, 1) := dk_3 (dk_at dksX0_behind_0 3 rfl rfl)
theorem dX0_behind_4 : decode cX0_behind 4 = .ok (.istore 6, 2) := dk_54 6 (dk_at dksX0_behind_0 4 rfl rfl)
theorem dX0_behind_6 : decode cX0_behind 6 = .ok (.iload 6, 2) := dk_21 6 (dk_at dksX0_behind_0 6 rfl rfl)
theorem dX0_behind_8 : decode cX0_behind 8 = .ok (.aload_n 0, 1) := dk_42 (dk_at dksX0_behind_0 8 rfl rfl)
theorem dX0_behind_9 : decode cX0_behind 9 = .ok (.invokevirtual 165, 3) := dk_182 0 165 (dk_at dksX0_behind_0 9 rfl rfl)
theorem dX0_behind_12 : decode cX0_behind 12 = .ok (.getfield 168, 3) := dk_180 0 168 (dk_at dksX0_behind_0 12 rfl rfl)
theorem dX0_behind_15 : decode cX0_behind 15 = .ok (.if_icmp .ge 161, 3) := dk_162 0 161 (dk_at dksX0_behind_0 15 rfl rfl)
theorem dX0_behind_18 : decode cX0_behind 18 = .ok (.aload_n 0, 1) := dk_42 (dk_at dksX0_behind_0 18 rfl rfl)
theorem dX0_behind_19 : decode cX0_behind 19 = .ok (.getfield 66, 3) := dk_180 0 66 (dk_at dksX0_behind_0 19 rfl rfl)
theorem dX0_behind_22 : decode cX0_behind 22 = .ok (.iload_n 1, 1) := dk_27 (dk_at dksX0_behind_0 22 rfl rfl)
theorem dX0_behind_23 : decode cX0_behind 23 = .ok (.sipush 256, 3) := dk_17 1 0 (dk_at dksX0_behind_1 0 rfl rfl)
theorem dX0_behind_26 : decode cX0_behind 26 = .ok (.imul, 1) := dk_104 (dk_at dksX0_behind_1 3 rfl rfl)
theorem dX0_behind_27 : decode cX0_behind 27 = .ok (.iload 6, 2) := dk_21 6 (dk_at dksX0_behind_1 4 rfl rfl)
theorem dX0_behind_29 : decode cX0_behind 29 = .ok (.iadd, 1) := dk_96 (dk_at dksX0_behind_1 6 rfl rfl)
theorem dX0_behind_30 : decode cX0_behind 30 = .ok (.saload, 1) := dk_53 (dk_at dksX0_behind_1 7 rfl rfl)
theorem dX0_behind_31 : decode cX0_behind 31 = .ok (.ldc_w 391, 3) := dk_19 1 135 (dk_at dksX0_behind_1 8 rfl rfl)
theorem dX0_behind_34 : decode cX0_behind 34 = .ok (.iand, 1) := dk_126 (dk_at dksX0_behind_1 11 rfl rfl)
theorem dX0_behind_35 : decode cX0_behind 35 = .ok (.istore 7, 2) := dk_54 7 (dk_at dksX0_behind_1 12 rfl rfl)
theorem dX0_behind_37 : decode cX0_behind 37 = .ok (.iload 7, 2) := dk_21 7 (dk_at dksX0_behind_1 14 rfl rfl)
theorem dX0_behind_39 : decode cX0_behind 39 = .ok (.iload_n 2, 1) := dk_28 (dk_at dksX0_behind_1 16 rfl rfl)
theorem dX0_behind_40 : decode cX0_behind 40 = .ok (.invokestatic 388, 3) := dk_184 1 132 (dk_at dksX0_behind_1 17 rfl rfl)
theorem dX0_behind_43 : decode cX0_behind 43 = .ok (.ishr, 1) := dk_122 (dk_at dksX0_behind_1 20 rfl rfl)
theorem dX0_behind_44 : decode cX0_behind 44 = .ok (.bipush 15, 2) := dk_16 15 (dk_at dksX0_behind_1 21 rfl rfl)
theorem dX0_behind_46 : decode cX0_behind 46 = .ok (.iand, 1) := dk_126 (dk_at dksX0_behind_1 23 rfl rfl)
theorem dX0_behind_47 : decode cX0_behind 47 = .ok (.istore 8, 2) := dk_54 8 (dk_at dksX0_behind_2 0 rfl rfl)
theorem dX0_behind_49 : decode cX0_behind 49 = .ok (.iconst 0, 1) := dk_3 (dk_at dksX0_behind_2 2 rfl rfl)
theorem dX0_behind_50 : decode cX0_behind 50 = .ok (.istore 9, 2) := dk_54 9 (dk_at dksX0_behind_2 3 rfl rfl)
theorem dX0_behind_52 : decode cX0_behind 52 = .ok (.iconst 0, 1) := dk_3 (dk_at dksX0_behind_2 5 rfl rfl)
theorem dX0_behind_53 : decode cX0_behind 53 = .ok (.istore 10, 2) := dk_54 10 (dk_at dksX0_behind_2 6 rfl rfl)
theorem dX0_behind_55 : decode cX0_behind 55 = .ok (.iload 10, 2) := dk_21 10 (dk_at dksX0_behind_2 8 rfl rfl)
theorem dX0_behind_57 : decode cX0_behind 57 = .ok (.iconst 4, 1) := dk_7 (dk_at dksX0_behind_2 10 rfl rfl)
theorem dX0_behind_58 : decode cX0_behind 58 = .ok (.if_icmp .ge 52, 3) := dk_162 0 52 (dk_at dksX0_behind_2 11 rfl rfl)
theorem dX0_behind_61 : decode cX0_behind 61 = .ok (.iload 7, 2) := dk_21 7 (dk_at dksX0_behind_2 14 rfl rfl)
theorem dX0_behind_63 : decode cX0_behind 63 = .ok (.ifCond .eq 47, 3) := dk_153 0 47 (dk_at dksX0_behind_2 16 rfl rfl)
theorem dX0_behind_66 : decode cX0_behind 66 = .ok (.iload 8, 2) := dk_21 8 (dk_at dksX0_behind_2 19 rfl rfl)
theorem dX0_behind_68 : decode cX0_behind 68 = .ok (.iload 10, 2) := dk_21 10 (dk_at dksX0_behind_2 21 rfl rfl)
theorem dX0_behind_70 : decode cX0_behind 70 = .ok (.ishr, 1) := dk_122 (dk_at dksX0_behind_2 23 rfl rfl)
theorem dX0_behind_71 : decode cX0_behind 71 = .ok (.iconst 1, 1) := dk_4 (dk_at dksX0_behind_3 0 rfl rfl)
theorem dX0_behind_72 : decode cX0_behind 72 = .ok (.iand, 1) := dk_126 (dk_at dksX0_behind_3 1 rfl rfl)
theorem dX0_behind_73 : decode cX0_behind 73 = .ok (.iconst 1, 1) := dk_4 (dk_at dksX0_behind_3 2 rfl rfl)
theorem dX0_behind_74 : decode cX0_behind 74 = .ok (.if_icmp .ne 30, 3) := dk_160 0 30 (dk_at dksX0_behind_3 3 rfl rfl)
theorem dX0_behind_77 : decode cX0_behind 77 = .ok (.aload_n 0, 1) := dk_42 (dk_at dksX0_behind_3 6 rfl rfl)
theorem dX0_behind_78 : decode cX0_behind 78 = .ok (.invokevirtual 165, 3) := dk_182 0 165 (dk_at dksX0_behind_3 7 rfl rfl)
theorem dX0_behind_81 : decode cX0_behind 81 = .ok (.iload_n 2, 1) := dk_28 (dk_at dksX0_behind_3 10 rfl rfl)
theorem dX0_behind_82 : decode cX0_behind 82 = .ok (.iload 10, 2) := dk_21 10 (dk_at dksX0_behind_3 11 rfl rfl)
theorem dX0_behind_84 : decode cX0_behind 84 = .ok (.iload_n 3, 1) := dk_29 (dk_at dksX0_behind_3 13 rfl rfl)
theorem dX0_behind_85 : decode cX0_behind 85 = .ok (.iload 6, 2) := dk_21 6 (dk_at dksX0_behind_3 14 rfl rfl)
theorem dX0_behind_87 : decode cX0_behind 87 = .ok (.invokevirtual 312, 3) := dk_182 1 56 (dk_at dksX0_behind_3 16 rfl rfl)
theorem dX0_behind_90 : decode cX0_behind 90 = .ok (.iload 4, 2) := dk_21 4 (dk_at dksX0_behind_3 19 rfl rfl)
theorem dX0_behind_92 : decode cX0_behind 92 = .ok (.if_icmp .ne 12, 3) := dk_160 0 12 (dk_at dksX0_behind_3 21 rfl rfl)
theorem dX0_behind_95 : decode cX0_behind 95 = .ok (.iload 9, 2) := dk_21 9 (dk_at dksX0_behind_4 0 rfl rfl)
theorem dX0_behind_97 : decode cX0_behind 97 = .ok (.iconst 1, 1) := dk_4 (dk_at dksX0_behind_4 2 rfl rfl)
theorem dX0_behind_98 : decode cX0_behind 98 = .ok (.iload 10, 2) := dk_21 10 (dk_at dksX0_behind_4 3 rfl rfl)
theorem dX0_behind_100 : decode cX0_behind 100 = .ok (.ishl, 1) := dk_120 (dk_at dksX0_behind_4 5 rfl rfl)
theorem dX0_behind_101 : decode cX0_behind 101 = .ok (.ior, 1) := dk_128 (dk_at dksX0_behind_4 6 rfl rfl)
theorem dX0_behind_102 : decode cX0_behind 102 = .ok (.istore 9, 2) := dk_54 9 (dk_at dksX0_behind_4 7 rfl rfl)
theorem dX0_behind_104 : decode cX0_behind 104 = .ok (.iinc 10 1, 3) := dk_132 10 1 (dk_at dksX0_behind_4 9 rfl rfl)
theorem dX0_behind_107 : decode cX0_behind 107 = .ok (.goto (-52), 3) := dk_167 255 204 (dk_at dksX0_behind_4 12 rfl rfl)
theorem dX0_behind_110 : decode cX0_behind 110 = .ok (.aload_n 0, 1) := dk_42 (dk_at dksX0_behind_4 15 rfl rfl)
theorem dX0_behind_111 : decode cX0_behind 111 = .ok (.getfield 66, 3) := dk_180 0 66 (dk_at dksX0_behind_4 16 rfl rfl)
theorem dX0_behind_114 : decode cX0_behind 114 = .ok (.iload_n 1, 1) := dk_27 (dk_at dksX0_behind_4 19 rfl rfl)
theorem dX0_behind_115 : decode cX0_behind 115 = .ok (.iconst 1, 1) := dk_4 (dk_at dksX0_behind_4 20 rfl rfl)
theorem dX0_behind_116 : decode cX0_behind 116 = .ok (.iadd, 1) := dk_96 (dk_at dksX0_behind_4 21 rfl rfl)
theorem dX0_behind_117 : decode cX0_behind 117 = .ok (.sipush 256, 3) := dk_17 1 0 (dk_at dksX0_behind_5 0 rfl rfl)
theorem dX0_behind_120 : decode cX0_behind 120 = .ok (.imul, 1) := dk_104 (dk_at dksX0_behind_5 3 rfl rfl)
theorem dX0_behind_121 : decode cX0_behind 121 = .ok (.iload 6, 2) := dk_21 6 (dk_at dksX0_behind_5 4 rfl rfl)
theorem dX0_behind_123 : decode cX0_behind 123 = .ok (.iadd, 1) := dk_96 (dk_at dksX0_behind_5 6 rfl rfl)
theorem dX0_behind_124 : decode cX0_behind 124 = .ok (.iload 9, 2) := dk_21 9 (dk_at dksX0_behind_5 7 rfl rfl)
theorem dX0_behind_126 : decode cX0_behind 126 = .ok (.ifCond .ne 7, 3) := dk_154 0 7 (dk_at dksX0_behind_5 9 rfl rfl)
theorem dX0_behind_129 : decode cX0_behind 129 = .ok (.iconst 0, 1) := dk_3 (dk_at dksX0_behind_5 12 rfl rfl)
theorem dX0_behind_130 : decode cX0_behind 130 = .ok (.goto 23, 3) := dk_167 0 23 (dk_at dksX0_behind_5 13 rfl rfl)
theorem dX0_behind_133 : decode cX0_behind 133 = .ok (.iload 7, 2) := dk_21 7 (dk_at dksX0_behind_5 16 rfl rfl)
theorem dX0_behind_135 : decode cX0_behind 135 = .ok (.bipush 15, 2) := dk_16 15 (dk_at dksX0_behind_5 18 rfl rfl)
theorem dX0_behind_137 : decode cX0_behind 137 = .ok (.iload_n 2, 1) := dk_28 (dk_at dksX0_behind_5 20 rfl rfl)
theorem dX0_behind_138 : decode cX0_behind 138 = .ok (.invokestatic 388, 3) := dk_184 1 132 (dk_at dksX0_behind_5 21 rfl rfl)
theorem dX0_behind_141 : decode cX0_behind 141 = .ok (.ishl, 1) := dk_120 (dk_at dksX0_behind_6 0 rfl rfl)
theorem dX0_behind_142 : decode cX0_behind 142 = .ok (.iconst (-1), 1) := dk_2 (dk_at dksX0_behind_6 1 rfl rfl)
theorem dX0_behind_143 : decode cX0_behind 143 = .ok (.ixor, 1) := dk_130 (dk_at dksX0_behind_6 2 rfl rfl)
theorem dX0_behind_144 : decode cX0_behind 144 = .ok (.iand, 1) := dk_126 (dk_at dksX0_behind_6 3 rfl rfl)
theorem dX0_behind_145 : decode cX0_behind 145 = .ok (.iload 9, 2) := dk_21 9 (dk_at dksX0_behind_6 4 rfl rfl)
theorem dX0_behind_147 : decode cX0_behind 147 = .ok (.iload_n 2, 1) := dk_28 (dk_at dksX0_behind_6 6 rfl rfl)
theorem dX0_behind_148 : decode cX0_behind 148 = .ok (.invokestatic 388, 3) := dk_184 1 132 (dk_at dksX0_behind_6 7 rfl rfl)
theorem dX0_behind_151 : decode cX0_behind 151 = .ok (.ishl, 1) := dk_120 (dk_at dksX0_behind_6 10 rfl rfl)
theorem dX0_behind_152 : decode cX0_behind 152 = .ok (.ior, 1) := dk_128 (dk_at dksX0_behind_6 11 rfl rfl)
theorem dX0_behind_153 : decode cX0_behind 153 = .ok (.i2s, 1) := dk_147 (dk_at dksX0_behind_6 12 rfl rfl)
theorem dX0_behind_154 : decode cX0_behind 154 = .ok (.sastore, 1) := dk_86 (dk_at dksX0_behind_6 13 rfl rfl)
theorem dX0_behind_155 : decode cX0_behind 155 = .ok (.iload 5, 2) := dk_21 5 (dk_at dksX0_behind_6 14 rfl rfl)
theorem dX0_behind_157 : decode cX0_behind 157 = .ok (.iload 9, 2) := dk_21 9 (dk_at dksX0_behind_6 16 rfl rfl)
theorem dX0_behind_159 : decode cX0_behind 159 = .ok (.ifCond .ne 7, 3) := dk_154 0 7 (dk_at dksX0_behind_6 18 rfl rfl)
theorem dX0_behind_162 : decode cX0_behind 162 = .ok (.iconst 0, 1) := dk_3 (dk_at dksX0_behind_6 21 rfl rfl)
theorem dX0_behind_163 : decode cX0_behind 163 = .ok (.goto 4, 3) := dk_167 0 4 (dk_at dksX0_behind_7 0 rfl rfl)
theorem dX0_behind_166 : decode cX0_behind 166 = .ok (.iconst 1, 1) := dk_4 (dk_at dksX0_behind_7 3 rfl rfl)
theorem dX0_behind_167 : decode cX0_behind 167 = .ok (.iadd, 1) := dk_96 (dk_at dksX0_behind_7 4 rfl rfl)
theorem dX0_behind_168 : decode cX0_behind 168 = .ok (.istore 5, 2) := dk_54 5 (dk_at dksX0_behind_7 5 rfl rfl)
theorem dX0_behind_170 : decode cX0_behind 170 = .ok (.iinc 6 1, 3) := dk_132 6 1 (dk_at dksX0_behind_7 7 rfl rfl)
theorem dX0_behind_173 : decode cX0_behind 173 = .ok (.goto (-167), 3) := dk_167 255 89 (dk_at dksX0_behind_7 10 rfl rfl)
theorem dX0_behind_176 : decode cX0_behind 176 = .ok (.iload 5, 2) := dk_21 5 (dk_at dksX0_behind_7 13 rfl rfl)
theorem dX0_behind_178 : decode cX0_behind 178 = .ok (.ireturn, 1) := dk_172 (dk_at dksX0_behind_7 15 rfl rfl)
abbrev cX0_best : ByteArray := prog_1_method_63_code
def yX0_best : MethodName := ⟨RX0, "best", "(I)I"⟩
def dkwX0_best_2 : List UInt8 := [167, 0, 4, 3, 181, 0, 87, 28, 172]
abbrev dktX0_best_2 : List UInt8 := dkwX0_best_2 ++ []
def dkwX0_best_1 : List UInt8 := [2, 172, 42, 42, 180, 0, 55, 180, 0, 211, 27, 182, 1, 149, 61, 42, 28, 156, 0, 8, 16, 6]
abbrev dktX0_best_1 : List UInt8 := dkwX0_best_1 ++ dktX0_best_2
def dkwX0_best_0 : List UInt8 := [42, 42, 27, 182, 1, 33, 153, 0, 7, 3, 167, 0, 4, 4, 181, 0, 87, 42, 180, 0, 87, 158, 0, 5]
abbrev dktX0_best_0 : List UInt8 := dkwX0_best_0 ++ dktX0_best_1
theorem dksX0_best_0 : cX0_best.data.toList.drop 0 = dktX0_best_0 := by decide +kernel
theorem dksX0_best_1 : cX0_best.data.toList.drop 24 = dktX0_best_1 := dk_seg dksX0_best_0 24 rfl rfl
theorem dksX0_best_2 : cX0_best.data.toList.drop 46 = dktX0_best_2 := dk_seg dksX0_best_1 22 rfl rfl
theorem dX0_best_0 : decode cX0_best 0 = .ok (.aload_n 0, 1) := dk_42 (dk_at dksX0_best_0 0 rfl rfl)
theorem dX0_best_1 : decode cX0_best 1 = .ok (.aload_n 0, 1) := dk_42 (dk_at dksX0_best_0 1 rfl rfl)
theorem dX0_best_2 : decode cX0_best 2 = .ok (.iload_n 1, 1) := dk_27 (dk_at dksX0_best_0 2 rfl rfl)
theorem dX0_best_3 : decode cX0_best 3 = .ok (.invokevirtual 289, 3) := dk_182 1 33 (dk_at dksX0_best_0 3 rfl rfl)
theorem dX0_best_6 : decode cX0_best 6 = .ok (.ifCond .eq 7, 3) := dk_153 0 7 (dk_at dksX0_best_0 6 rfl rfl)
theorem dX0_best_9 : decode cX0_best 9 = .ok (.iconst 0, 1) := dk_3 (dk_at dksX0_best_0 9 rfl rfl)
theorem dX0_best_10 : decode cX0_best 10 = .ok (.goto 4, 3) := dk_167 0 4 (dk_at dksX0_best_0 10 rfl rfl)
theorem dX0_best_13 : decode cX0_best 13 = .ok (.iconst 1, 1) := dk_4 (dk_at dksX0_best_0 13 rfl rfl)
theorem dX0_best_14 : decode cX0_best 14 = .ok (.putfield 87, 3) := dk_181 0 87 (dk_at dksX0_best_0 14 rfl rfl)
theorem dX0_best_17 : decode cX0_best 17 = .ok (.aload_n 0, 1) := dk_42 (dk_at dksX0_best_0 17 rfl rfl)
theorem dX0_best_18 : decode cX0_best 18 = .ok (.getfield 87, 3) := dk_180 0 87 (dk_at dksX0_best_0 18 rfl rfl)
theorem dX0_best_21 : decode cX0_best 21 = .ok (.ifCond .le 5, 3) := dk_158 0 5 (dk_at dksX0_best_0 21 rfl rfl)
theorem dX0_best_24 : decode cX0_best 24 = .ok (.iconst (-1), 1) := dk_2 (dk_at dksX0_best_1 0 rfl rfl)
theorem dX0_best_25 : decode cX0_best 25 = .ok (.ireturn, 1) := dk_172 (dk_at dksX0_best_1 1 rfl rfl)
theorem dX0_best_26 : decode cX0_best 26 = .ok (.aload_n 0, 1) := dk_42 (dk_at dksX0_best_1 2 rfl rfl)
theorem dX0_best_27 : decode cX0_best 27 = .ok (.aload_n 0, 1) := dk_42 (dk_at dksX0_best_1 3 rfl rfl)
theorem dX0_best_28 : decode cX0_best 28 = .ok (.getfield 55, 3) := dk_180 0 55 (dk_at dksX0_best_1 4 rfl rfl)
theorem dX0_best_31 : decode cX0_best 31 = .ok (.getfield 211, 3) := dk_180 0 211 (dk_at dksX0_best_1 7 rfl rfl)
theorem dX0_best_34 : decode cX0_best 34 = .ok (.iload_n 1, 1) := dk_27 (dk_at dksX0_best_1 10 rfl rfl)
theorem dX0_best_35 : decode cX0_best 35 = .ok (.invokevirtual 405, 3) := dk_182 1 149 (dk_at dksX0_best_1 11 rfl rfl)
theorem dX0_best_38 : decode cX0_best 38 = .ok (.istore_n 2, 1) := dk_61 (dk_at dksX0_best_1 14 rfl rfl)
theorem dX0_best_39 : decode cX0_best 39 = .ok (.aload_n 0, 1) := dk_42 (dk_at dksX0_best_1 15 rfl rfl)
theorem dX0_best_40 : decode cX0_best 40 = .ok (.iload_n 2, 1) := dk_28 (dk_at dksX0_best_1 16 rfl rfl)
theorem dX0_best_41 : decode cX0_best 41 = .ok (.ifCond .ge 8, 3) := dk_156 0 8 (dk_at dksX0_best_1 17 rfl rfl)
theorem dX0_best_44 : decode cX0_best 44 = .ok (.bipush 6, 2) := dk_16 6 (dk_at dksX0_best_1 20 rfl rfl)
theorem dX0_best_46 : decode cX0_best 46 = .ok (.goto 4, 3) := dk_167 0 4 (dk_at dksX0_best_2 0 rfl rfl)
theorem dX0_best_49 : decode cX0_best 49 = .ok (.iconst 0, 1) := dk_3 (dk_at dksX0_best_2 3 rfl rfl)
theorem dX0_best_50 : decode cX0_best 50 = .ok (.putfield 87, 3) := dk_181 0 87 (dk_at dksX0_best_2 4 rfl rfl)
theorem dX0_best_53 : decode cX0_best 53 = .ok (.iload_n 2, 1) := dk_28 (dk_at dksX0_best_2 7 rfl rfl)
theorem dX0_best_54 : decode cX0_best 54 = .ok (.ireturn, 1) := dk_172 (dk_at dksX0_best_2 8 rfl rfl)
abbrev cX0_bestOf : ByteArray := prog_1_method_62_code
def yX0_bestOf : MethodName := ⟨RX0, "bestOf", "(LAskingCourt$Record;I)I"⟩
def dkwX0_bestOf_3 : List UInt8 := [161, 0, 6, 167, 0, 10, 21, 5, 62, 21, 6, 54, 4, 132, 5, 1, 167, 255, 199, 29, 172]
abbrev dktX0_bestOf_3 : List UInt8 := dkwX0_bestOf_3 ++ []
def dkwX0_bestOf_2 : List UInt8 := [153, 0, 6, 167, 0, 33, 42, 28, 21, 5, 182, 1, 146, 54, 6, 29, 155, 0, 13, 21, 6, 21, 4]
abbrev dktX0_bestOf_2 : List UInt8 := dkwX0_bestOf_2 ++ dktX0_bestOf_3
def dkwX0_bestOf_1 : List UInt8 := [3, 54, 4, 3, 54, 5, 21, 5, 42, 182, 0, 165, 180, 0, 177, 162, 0, 51, 43, 21, 5, 182, 1, 60]
abbrev dktX0_bestOf_1 : List UInt8 := dkwX0_bestOf_1 ++ dktX0_bestOf_2
def dkwX0_bestOf_0 : List UInt8 := [43, 42, 182, 0, 165, 43, 182, 1, 82, 182, 1, 78, 154, 0, 5, 2, 172, 42, 43, 182, 1, 142, 2, 62]
abbrev dktX0_bestOf_0 : List UInt8 := dkwX0_bestOf_0 ++ dktX0_bestOf_1
theorem dksX0_bestOf_0 : cX0_bestOf.data.toList.drop 0 = dktX0_bestOf_0 := by decide +kernel
theorem dksX0_bestOf_1 : cX0_bestOf.data.toList.drop 24 = dktX0_bestOf_1 := dk_seg dksX0_bestOf_0 24 rfl rfl
theorem dksX0_bestOf_2 : cX0_bestOf.data.toList.drop 48 = dktX0_bestOf_2 := dk_seg dksX0_bestOf_1 24 rfl rfl
theorem dksX0_bestOf_3 : cX0_bestOf.data.toList.drop 71 = dktX0_bestOf_3 := dk_seg dksX0_bestOf_2 23 rfl rfl
theorem dX0_bestOf_0 : decode cX0_bestOf 0 = .ok (.aload_n 1, 1) := dk_43 (dk_at dksX0_bestOf_0 0 rfl rfl)
theorem dX0_bestOf_1 : decode cX0_bestOf 1 = .ok (.aload_n 0, 1) := dk_42 (dk_at dksX0_bestOf_0 1 rfl rfl)
theorem dX0_bestOf_2 : decode cX0_bestOf 2 = .ok (.invokevirtual 165, 3) := dk_182 0 165 (dk_at dksX0_bestOf_0 2 rfl rfl)
theorem dX0_bestOf_5 : decode cX0_bestOf 5 = .ok (.aload_n 1, 1) := dk_43 (dk_at dksX0_bestOf_0 5 rfl rfl)
theorem dX0_bestOf_6 : decode cX0_bestOf 6 = .ok (.invokevirtual 338, 3) := dk_182 1 82 (dk_at dksX0_bestOf_0 6 rfl rfl)
theorem dX0_bestOf_9 : decode cX0_bestOf 9 = .ok (.invokevirtual 334, 3) := dk_182 1 78 (dk_at dksX0_bestOf_0 9 rfl rfl)
theorem dX0_bestOf_12 : decode cX0_bestOf 12 = .ok (.ifCond .ne 5, 3) := dk_154 0 5 (dk_at dksX0_bestOf_0 12 rfl rfl)
theorem dX0_bestOf_15 : decode cX0_bestOf 15 = .ok (.iconst (-1), 1) := dk_2 (dk_at dksX0_bestOf_0 15 rfl rfl)
theorem dX0_bestOf_16 : decode cX0_bestOf 16 = .ok (.ireturn, 1) := dk_172 (dk_at dksX0_bestOf_0 16 rfl rfl)
theorem dX0_bestOf_17 : decode cX0_bestOf 17 = .ok (.aload_n 0, 1) := dk_42 (dk_at dksX0_bestOf_0 17 rfl rfl)
theorem dX0_bestOf_18 : decode cX0_bestOf 18 = .ok (.aload_n 1, 1) := dk_43 (dk_at dksX0_bestOf_0 18 rfl rfl)
theorem dX0_bestOf_19 : decode cX0_bestOf 19 = .ok (.invokevirtual 398, 3) := dk_182 1 142 (dk_at dksX0_bestOf_0 19 rfl rfl)
theorem dX0_bestOf_22 : decode cX0_bestOf 22 = .ok (.iconst (-1), 1) := dk_2 (dk_at dksX0_bestOf_0 22 rfl rfl)
theorem dX0_bestOf_23 : decode cX0_bestOf 23 = .ok (.istore_n 3, 1) := dk_62 (dk_at dksX0_bestOf_0 23 rfl rfl)
theorem dX0_bestOf_24 : decode cX0_bestOf 24 = .ok (.iconst 0, 1) := dk_3 (dk_at dksX0_bestOf_1 0 rfl rfl)
theorem dX0_bestOf_25 : decode cX0_bestOf 25 = .ok (.istore 4, 2) := dk_54 4 (dk_at dksX0_bestOf_1 1 rfl rfl)
theorem dX0_bestOf_27 : decode cX0_bestOf 27 = .ok (.iconst 0, 1) := dk_3 (dk_at dksX0_bestOf_1 3 rfl rfl)
theorem dX0_bestOf_28 : decode cX0_bestOf 28 = .ok (.istore 5, 2) := dk_54 5 (dk_at dksX0_bestOf_1 4 rfl rfl)
theorem dX0_bestOf_30 : decode cX0_bestOf 30 = .ok (.iload 5, 2) := dk_21 5 (dk_at dksX0_bestOf_1 6 rfl rfl)
theorem dX0_bestOf_32 : decode cX0_bestOf 32 = .ok (.aload_n 0, 1) := dk_42 (dk_at dksX0_bestOf_1 8 rfl rfl)
theorem dX0_bestOf_33 : decode cX0_bestOf 33 = .ok (.invokevirtual 165, 3) := dk_182 0 165 (dk_at dksX0_bestOf_1 9 rfl rfl)
theorem dX0_bestOf_36 : decode cX0_bestOf 36 = .ok (.getfield 177, 3) := dk_180 0 177 (dk_at dksX0_bestOf_1 12 rfl rfl)
theorem dX0_bestOf_39 : decode cX0_bestOf 39 = .ok (.if_icmp .ge 51, 3) := dk_162 0 51 (dk_at dksX0_bestOf_1 15 rfl rfl)
theorem dX0_bestOf_42 : decode cX0_bestOf 42 = .ok (.aload_n 1, 1) := dk_43 (dk_at dksX0_bestOf_1 18 rfl rfl)
theorem dX0_bestOf_43 : decode cX0_bestOf 43 = .ok (.iload 5, 2) := dk_21 5 (dk_at dksX0_bestOf_1 19 rfl rfl)
theorem dX0_bestOf_45 : decode cX0_bestOf 45 = .ok (.invokevirtual 316, 3) := dk_182 1 60 (dk_at dksX0_bestOf_1 21 rfl rfl)
theorem dX0_bestOf_48 : decode cX0_bestOf 48 = .ok (.ifCond .eq 6, 3) := dk_153 0 6 (dk_at dksX0_bestOf_2 0 rfl rfl)
theorem dX0_bestOf_51 : decode cX0_bestOf 51 = .ok (.goto 33, 3) := dk_167 0 33 (dk_at dksX0_bestOf_2 3 rfl rfl)
theorem dX0_bestOf_54 : decode cX0_bestOf 54 = .ok (.aload_n 0, 1) := dk_42 (dk_at dksX0_bestOf_2 6 rfl rfl)
theorem dX0_bestOf_55 : decode cX0_bestOf 55 = .ok (.iload_n 2, 1) := dk_28 (dk_at dksX0_bestOf_2 7 rfl rfl)
theorem dX0_bestOf_56 : decode cX0_bestOf 56 = .ok (.iload 5, 2) := dk_21 5 (dk_at dksX0_bestOf_2 8 rfl rfl)
theorem dX0_bestOf_58 : decode cX0_bestOf 58 = .ok (.invokevirtual 402, 3) := dk_182 1 146 (dk_at dksX0_bestOf_2 10 rfl rfl)
theorem dX0_bestOf_61 : decode cX0_bestOf 61 = .ok (.istore 6, 2) := dk_54 6 (dk_at dksX0_bestOf_2 13 rfl rfl)
theorem dX0_bestOf_63 : decode cX0_bestOf 63 = .ok (.iload_n 3, 1) := dk_29 (dk_at dksX0_bestOf_2 15 rfl rfl)
theorem dX0_bestOf_64 : decode cX0_bestOf 64 = .ok (.ifCond .lt 13, 3) := dk_155 0 13 (dk_at dksX0_bestOf_2 16 rfl rfl)
theorem dX0_bestOf_67 : decode cX0_bestOf 67 = .ok (.iload 6, 2) := dk_21 6 (dk_at dksX0_bestOf_2 19 rfl rfl)
theorem dX0_bestOf_69 : decode cX0_bestOf 69 = .ok (.iload 4, 2) := dk_21 4 (dk_at dksX0_bestOf_2 21 rfl rfl)
theorem dX0_bestOf_71 : decode cX0_bestOf 71 = .ok (.if_icmp .lt 6, 3) := dk_161 0 6 (dk_at dksX0_bestOf_3 0 rfl rfl)
theorem dX0_bestOf_74 : decode cX0_bestOf 74 = .ok (.goto 10, 3) := dk_167 0 10 (dk_at dksX0_bestOf_3 3 rfl rfl)
theorem dX0_bestOf_77 : decode cX0_bestOf 77 = .ok (.iload 5, 2) := dk_21 5 (dk_at dksX0_bestOf_3 6 rfl rfl)
theorem dX0_bestOf_79 : decode cX0_bestOf 79 = .ok (.istore_n 3, 1) := dk_62 (dk_at dksX0_bestOf_3 8 rfl rfl)
theorem dX0_bestOf_80 : decode cX0_bestOf 80 = .ok (.iload 6, 2) := dk_21 6 (dk_at dksX0_bestOf_3 9 rfl rfl)
theorem dX0_bestOf_82 : decode cX0_bestOf 82 = .ok (.istore 4, 2) := dk_54 4 (dk_at dksX0_bestOf_3 11 rfl rfl)
theorem dX0_bestOf_84 : decode cX0_bestOf 84 = .ok (.iinc 5 1, 3) := dk_132 5 1 (dk_at dksX0_bestOf_3 13 rfl rfl)
theorem dX0_bestOf_87 : decode cX0_bestOf 87 = .ok (.goto (-57), 3) := dk_167 255 199 (dk_at dksX0_bestOf_3 16 rfl rfl)
theorem dX0_bestOf_90 : decode cX0_bestOf 90 = .ok (.iload_n 3, 1) := dk_29 (dk_at dksX0_bestOf_3 19 rfl rfl)
theorem dX0_bestOf_91 : decode cX0_bestOf 91 = .ok (.ireturn, 1) := dk_172 (dk_at dksX0_bestOf_3 20 rfl rfl)
abbrev cX0_shortest : ByteArray := prog_1_method_67_code
def yX0_shortest : MethodName := ⟨RX0, "shortest", "(II)I"⟩
def dkwX0_shortest_7 : List UInt8 := [181, 0, 72, 29, 172, 132, 3, 1, 167, 255, 210, 42, 16, 6, 181, 0, 87, 2, 172]
abbrev dktX0_shortest_7 : List UInt8 := dkwX0_shortest_7 ++ []
def dkwX0_shortest_6 : List UInt8 := [180, 0, 55, 180, 0, 211, 182, 1, 142, 42, 3, 29, 182, 1, 169, 154, 0, 6, 167, 0, 10, 42, 29]
abbrev dktX0_shortest_6 : List UInt8 := dkwX0_shortest_6 ++ dktX0_shortest_7
def dkwX0_shortest_5 : List UInt8 := [42, 28, 181, 1, 159, 3, 62, 29, 28, 156, 0, 7, 5, 167, 0, 4, 6, 163, 0, 39, 42, 42]
abbrev dktX0_shortest_5 : List UInt8 := dkwX0_shortest_5 ++ dktX0_shortest_6
def dkwX0_shortest_4 : List UInt8 := [180, 0, 211, 180, 1, 70, 29, 46, 120, 128, 181, 1, 162, 132, 3, 1, 167, 255, 216, 42, 27, 181, 1, 153]
abbrev dktX0_shortest_4 : List UInt8 := dkwX0_shortest_4 ++ dktX0_shortest_5
def dkwX0_shortest_3 : List UInt8 := [42, 180, 0, 55, 180, 0, 211, 180, 0, 252, 162, 0, 32, 42, 89, 180, 1, 162, 4, 42, 180, 0, 55]
abbrev dktX0_shortest_3 : List UInt8 := dkwX0_shortest_3 ++ dktX0_shortest_4
def dkwX0_shortest_2 : List UInt8 := [167, 0, 4, 3, 181, 0, 87, 42, 180, 0, 87, 158, 0, 5, 2, 172, 42, 3, 181, 1, 162, 3, 62, 29]
abbrev dktX0_shortest_2 : List UInt8 := dkwX0_shortest_2 ++ dktX0_shortest_3
def dkwX0_shortest_1 : List UInt8 := [167, 0, 26, 42, 42, 180, 0, 55, 180, 0, 211, 182, 1, 82, 182, 1, 85, 154, 0, 8, 16, 6]
abbrev dktX0_shortest_1 : List UInt8 := dkwX0_shortest_1 ++ dktX0_shortest_2
def dkwX0_shortest_0 : List UInt8 := [42, 42, 27, 182, 1, 23, 153, 0, 16, 28, 2, 159, 0, 15, 42, 28, 182, 1, 33, 154, 0, 7, 4]
abbrev dktX0_shortest_0 : List UInt8 := dkwX0_shortest_0 ++ dktX0_shortest_1
theorem dksX0_shortest_0 : cX0_shortest.data.toList.drop 0 = dktX0_shortest_0 := by decide +kernel
theorem dksX0_shortest_1 : cX0_shortest.data.toList.drop 23 = dktX0_shortest_1 := dk_seg dksX0_shortest_0 23 rfl rfl
theorem dksX0_shortest_2 : cX0_shortest.data.toList.drop 45 = dktX0_shortest_2 := dk_seg dksX0_shortest_1 22 rfl rfl
theorem dksX0_shortest_3 : cX0_shortest.data.toList.drop 69 = dktX0_shortest_3 := dk_seg dksX0_shortest_2 24 rfl rfl
theorem dksX0_shortest_4 : cX0_shortest.data.toList.drop 92 = dktX0_shortest_4 := dk_seg dksX0_shortest_3 23 rfl rfl
theorem dksX0_shortest_5 : cX0_shortest.data.toList.drop 116 = dktX0_shortest_5 := dk_seg dksX0_shortest_4 24 rfl rfl
theorem dksX0_shortest_6 : cX0_shortest.data.toList.drop 138 = dktX0_shortest_6 := dk_seg dksX0_shortest_5 22 rfl rfl
theorem dksX0_shortest_7 : cX0_shortest.data.toList.drop 161 = dktX0_shortest_7 := dk_seg dksX0_shortest_6 23 rfl rfl
theorem dX0_shortest_0 : decode cX0_shortest 0 = .ok (.aload_n 0, 1) := dk_42 (dk_at dksX0_shortest_0 0 rfl rfl)
theorem dX0_shortest_1 : decode cX0_shortest 1 = .ok (.aload_n 0, 1) := dk_42 (dk_at dksX0_shortest_0 1 rfl rfl)
theorem dX0_shortest_2 : decode cX0_shortest 2 = .ok (.iload_n 1, 1) := dk_27 (dk_at dksX0_shortest_0 2 rfl rfl)
theorem dX0_shortest_3 : decode cX0_shortest 3 = .ok (.invokevirtual 279, 3) := dk_182 1 23 (dk_at dksX0_shortest_0 3 rfl rfl)
theorem dX0_shortest_6 : decode cX0_shortest 6 = .ok (.ifCond .eq 16, 3) := dk_153 0 16 (dk_at dksX0_shortest_0 6 rfl rfl)
theorem dX0_shortest_9 : decode cX0_shortest 9 = .ok (.iload_n 2, 1) := dk_28 (dk_at dksX0_shortest_0 9 rfl rfl)
theorem dX0_shortest_10 : decode cX0_shortest 10 = .ok (.iconst (-1), 1) := dk_2 (dk_at dksX0_shortest_0 10 rfl rfl)
theorem dX0_shortest_11 : decode cX0_shortest 11 = .ok (.if_icmp .eq 15, 3) := dk_159 0 15 (dk_at dksX0_shortest_0 11 rfl rfl)
theorem dX0_shortest_14 : decode cX0_shortest 14 = .ok (.aload_n 0, 1) := dk_42 (dk_at dksX0_shortest_0 14 rfl rfl)
theorem dX0_shortest_15 : decode cX0_shortest 15 = .ok (.iload_n 2, 1) := dk_28 (dk_at dksX0_shortest_0 15 rfl rfl)
theorem dX0_shortest_16 : decode cX0_shortest 16 = .ok (.invokevirtual 289, 3) := dk_182 1 33 (dk_at dksX0_shortest_0 16 rfl rfl)
theorem dX0_shortest_19 : decode cX0_shortest 19 = .ok (.ifCond .ne 7, 3) := dk_154 0 7 (dk_at dksX0_shortest_0 19 rfl rfl)
theorem dX0_shortest_22 : decode cX0_shortest 22 = .ok (.iconst 1, 1) := dk_4 (dk_at dksX0_shortest_0 22 rfl rfl)
theorem dX0_shortest_23 : decode cX0_shortest 23 = .ok (.goto 26, 3) := dk_167 0 26 (dk_at dksX0_shortest_1 0 rfl rfl)
theorem dX0_shortest_26 : decode cX0_shortest 26 = .ok (.aload_n 0, 1) := dk_42 (dk_at dksX0_shortest_1 3 rfl rfl)
theorem dX0_shortest_27 : decode cX0_shortest 27 = .ok (.aload_n 0, 1) := dk_42 (dk_at dksX0_shortest_1 4 rfl rfl)
theorem dX0_shortest_28 : decode cX0_shortest 28 = .ok (.getfield 55, 3) := dk_180 0 55 (dk_at dksX0_shortest_1 5 rfl rfl)
theorem dX0_shortest_31 : decode cX0_shortest 31 = .ok (.getfield 211, 3) := dk_180 0 211 (dk_at dksX0_shortest_1 8 rfl rfl)
theorem dX0_shortest_34 : decode cX0_shortest 34 = .ok (.invokevirtual 338, 3) := dk_182 1 82 (dk_at dksX0_shortest_1 11 rfl rfl)
theorem dX0_shortest_37 : decode cX0_shortest 37 = .ok (.invokevirtual 341, 3) := dk_182 1 85 (dk_at dksX0_shortest_1 14 rfl rfl)
theorem dX0_shortest_40 : decode cX0_shortest 40 = .ok (.ifCond .ne 8, 3) := dk_154 0 8 (dk_at dksX0_shortest_1 17 rfl rfl)
theorem dX0_shortest_43 : decode cX0_shortest 43 = .ok (.bipush 6, 2) := dk_16 6 (dk_at dksX0_shortest_1 20 rfl rfl)
theorem dX0_shortest_45 : decode cX0_shortest 45 = .ok (.goto 4, 3) := dk_167 0 4 (dk_at dksX0_shortest_2 0 rfl rfl)
theorem dX0_shortest_48 : decode cX0_shortest 48 = .ok (.iconst 0, 1) := dk_3 (dk_at dksX0_shortest_2 3 rfl rfl)
theorem dX0_shortest_49 : decode cX0_shortest 49 = .ok (.putfield 87, 3) := dk_181 0 87 (dk_at dksX0_shortest_2 4 rfl rfl)
theorem dX0_shortest_52 : decode cX0_shortest 52 = .ok (.aload_n 0, 1) := dk_42 (dk_at dksX0_shortest_2 7 rfl rfl)
theorem dX0_shortest_53 : decode cX0_shortest 53 = .ok (.getfield 87, 3) := dk_180 0 87 (dk_at dksX0_shortest_2 8 rfl rfl)
theorem dX0_shortest_56 : decode cX0_shortest 56 = .ok (.ifCond .le 5, 3) := dk_158 0 5 (dk_at dksX0_shortest_2 11 rfl rfl)
theorem dX0_shortest_59 : decode cX0_shortest 59 = .ok (.iconst (-1), 1) := dk_2 (dk_at dksX0_shortest_2 14 rfl rfl)
theorem dX0_shortest_60 : decode cX0_shortest 60 = .ok (.ireturn, 1) := dk_172 (dk_at dksX0_shortest_2 15 rfl rfl)
theorem dX0_shortest_61 : decode cX0_shortest 61 = .ok (.aload_n 0, 1) := dk_42 (dk_at dksX0_shortest_2 16 rfl rfl)
theorem dX0_shortest_62 : decode cX0_shortest 62 = .ok (.iconst 0, 1) := dk_3 (dk_at dksX0_shortest_2 17 rfl rfl)
theorem dX0_shortest_63 : decode cX0_shortest 63 = .ok (.putfield 418, 3) := dk_181 1 162 (dk_at dksX0_shortest_2 18 rfl rfl)
theorem dX0_shortest_66 : decode cX0_shortest 66 = .ok (.iconst 0, 1) := dk_3 (dk_at dksX0_shortest_2 21 rfl rfl)
theorem dX0_shortest_67 : decode cX0_shortest 67 = .ok (.istore_n 3, 1) := dk_62 (dk_at dksX0_shortest_2 22 rfl rfl)
theorem dX0_shortest_68 : decode cX0_shortest 68 = .ok (.iload_n 3, 1) := dk_29 (dk_at dksX0_shortest_2 23 rfl rfl)
theorem dX0_shortest_69 : decode cX0_shortest 69 = .ok (.aload_n 0, 1) := dk_42 (dk_at dksX0_shortest_3 0 rfl rfl)
theorem dX0_shortest_70 : decode cX0_shortest 70 = .ok (.getfield 55, 3) := dk_180 0 55 (dk_at dksX0_shortest_3 1 rfl rfl)
theorem dX0_shortest_73 : decode cX0_shortest 73 = .ok (.getfield 211, 3) := dk_180 0 211 (dk_at dksX0_shortest_3 4 rfl rfl)
theorem dX0_shortest_76 : decode cX0_shortest 76 = .ok (.getfield 252, 3) := dk_180 0 252 (dk_at dksX0_shortest_3 7 rfl rfl)
theorem dX0_shortest_79 : decode cX0_shortest 79 = .ok (.if_icmp .ge 32, 3) := dk_162 0 32 (dk_at dksX0_shortest_3 10 rfl rfl)
theorem dX0_shortest_82 : decode cX0_shortest 82 = .ok (.aload_n 0, 1) := dk_42 (dk_at dksX0_shortest_3 13 rfl rfl)
theorem dX0_shortest_83 : decode cX0_shortest 83 = .ok (.dup, 1) := dk_89 (dk_at dksX0_shortest_3 14 rfl rfl)
theorem dX0_shortest_84 : decode cX0_shortest 84 = .ok (.getfield 418, 3) := dk_180 1 162 (dk_at dksX0_shortest_3 15 rfl rfl)
theorem dX0_shortest_87 : decode cX0_shortest 87 = .ok (.iconst 1, 1) := dk_4 (dk_at dksX0_shortest_3 18 rfl rfl)
theorem dX0_shortest_88 : decode cX0_shortest 88 = .ok (.aload_n 0, 1) := dk_42 (dk_at dksX0_shortest_3 19 rfl rfl)
theorem dX0_shortest_89 : decode cX0_shortest 89 = .ok (.getfield 55, 3) := dk_180 0 55 (dk_at dksX0_shortest_3 20 rfl rfl)
theorem dX0_shortest_92 : decode cX0_shortest 92 = .ok (.getfield 211, 3) := dk_180 0 211 (dk_at dksX0_shortest_4 0 rfl rfl)
theorem dX0_shortest_95 : decode cX0_shortest 95 = .ok (.getfield 326, 3) := dk_180 1 70 (dk_at dksX0_shortest_4 3 rfl rfl)
theorem dX0_shortest_98 : decode cX0_shortest 98 = .ok (.iload_n 3, 1) := dk_29 (dk_at dksX0_shortest_4 6 rfl rfl)
theorem dX0_shortest_99 : decode cX0_shortest 99 = .ok (.iaload, 1) := dk_46 (dk_at dksX0_shortest_4 7 rfl rfl)
theorem dX0_shortest_100 : decode cX0_shortest 100 = .ok (.ishl, 1) := dk_120 (dk_at dksX0_shortest_4 8 rfl rfl)
theorem dX0_shortest_101 : decode cX0_shortest 101 = .ok (.ior, 1) := dk_128 (dk_at dksX0_shortest_4 9 rfl rfl)
theorem dX0_shortest_102 : decode cX0_shortest 102 = .ok (.putfield 418, 3) := dk_181 1 162 (dk_at dksX0_shortest_4 10 rfl rfl)
theorem dX0_shortest_105 : decode cX0_shortest 105 = .ok (.iinc 3 1, 3) := dk_132 3 1 (dk_at dksX0_shortest_4 13 rfl rfl)
theorem dX0_shortest_108 : decode cX0_shortest 108 = .ok (.goto (-40), 3) := dk_167 255 216 (dk_at dksX0_shortest_4 16 rfl rfl)
theorem dX0_shortest_111 : decode cX0_shortest 111 = .ok (.aload_n 0, 1) := dk_42 (dk_at dksX0_shortest_4 19 rfl rfl)
theorem dX0_shortest_112 : decode cX0_shortest 112 = .ok (.iload_n 1, 1) := dk_27 (dk_at dksX0_shortest_4 20 rfl rfl)
theorem dX0_shortest_113 : decode cX0_shortest 113 = .ok (.putfield 409, 3) := dk_181 1 153 (dk_at dksX0_shortest_4 21 rfl rfl)
theorem dX0_shortest_116 : decode cX0_shortest 116 = .ok (.aload_n 0, 1) := dk_42 (dk_at dksX0_shortest_5 0 rfl rfl)
theorem dX0_shortest_117 : decode cX0_shortest 117 = .ok (.iload_n 2, 1) := dk_28 (dk_at dksX0_shortest_5 1 rfl rfl)
theorem dX0_shortest_118 : decode cX0_shortest 118 = .ok (.putfield 415, 3) := dk_181 1 159 (dk_at dksX0_shortest_5 2 rfl rfl)
theorem dX0_shortest_121 : decode cX0_shortest 121 = .ok (.iconst 0, 1) := dk_3 (dk_at dksX0_shortest_5 5 rfl rfl)
theorem dX0_shortest_122 : decode cX0_shortest 122 = .ok (.istore_n 3, 1) := dk_62 (dk_at dksX0_shortest_5 6 rfl rfl)
theorem dX0_shortest_123 : decode cX0_shortest 123 = .ok (.iload_n 3, 1) := dk_29 (dk_at dksX0_shortest_5 7 rfl rfl)
theorem dX0_shortest_124 : decode cX0_shortest 124 = .ok (.iload_n 2, 1) := dk_28 (dk_at dksX0_shortest_5 8 rfl rfl)
theorem dX0_shortest_125 : decode cX0_shortest 125 = .ok (.ifCond .ge 7, 3) := dk_156 0 7 (dk_at dksX0_shortest_5 9 rfl rfl)
theorem dX0_shortest_128 : decode cX0_shortest 128 = .ok (.iconst 2, 1) := dk_5 (dk_at dksX0_shortest_5 12 rfl rfl)
theorem dX0_shortest_129 : decode cX0_shortest 129 = .ok (.goto 4, 3) := dk_167 0 4 (dk_at dksX0_shortest_5 13 rfl rfl)
theorem dX0_shortest_132 : decode cX0_shortest 132 = .ok (.iconst 3, 1) := dk_6 (dk_at dksX0_shortest_5 16 rfl rfl)
theorem dX0_shortest_133 : decode cX0_shortest 133 = .ok (.if_icmp .gt 39, 3) := dk_163 0 39 (dk_at dksX0_shortest_5 17 rfl rfl)
theorem dX0_shortest_136 : decode cX0_shortest 136 = .ok (.aload_n 0, 1) := dk_42 (dk_at dksX0_shortest_5 20 rfl rfl)
theorem dX0_shortest_137 : decode cX0_shortest 137 = .ok (.aload_n 0, 1) := dk_42 (dk_at dksX0_shortest_5 21 rfl rfl)
theorem dX0_shortest_138 : decode cX0_shortest 138 = .ok (.getfield 55, 3) := dk_180 0 55 (dk_at dksX0_shortest_6 0 rfl rfl)
theorem dX0_shortest_141 : decode cX0_shortest 141 = .ok (.getfield 211, 3) := dk_180 0 211 (dk_at dksX0_shortest_6 3 rfl rfl)
theorem dX0_shortest_144 : decode cX0_shortest 144 = .ok (.invokevirtual 398, 3) := dk_182 1 142 (dk_at dksX0_shortest_6 6 rfl rfl)
theorem dX0_shortest_147 : decode cX0_shortest 147 = .ok (.aload_n 0, 1) := dk_42 (dk_at dksX0_shortest_6 9 rfl rfl)
theorem dX0_shortest_148 : decode cX0_shortest 148 = .ok (.iconst 0, 1) := dk_3 (dk_at dksX0_shortest_6 10 rfl rfl)
theorem dX0_shortest_149 : decode cX0_shortest 149 = .ok (.iload_n 3, 1) := dk_29 (dk_at dksX0_shortest_6 11 rfl rfl)
theorem dX0_shortest_150 : decode cX0_shortest 150 = .ok (.invokevirtual 425, 3) := dk_182 1 169 (dk_at dksX0_shortest_6 12 rfl rfl)
theorem dX0_shortest_153 : decode cX0_shortest 153 = .ok (.ifCond .ne 6, 3) := dk_154 0 6 (dk_at dksX0_shortest_6 15 rfl rfl)
theorem dX0_shortest_156 : decode cX0_shortest 156 = .ok (.goto 10, 3) := dk_167 0 10 (dk_at dksX0_shortest_6 18 rfl rfl)
theorem dX0_shortest_159 : decode cX0_shortest 159 = .ok (.aload_n 0, 1) := dk_42 (dk_at dksX0_shortest_6 21 rfl rfl)
theorem dX0_shortest_160 : decode cX0_shortest 160 = .ok (.iload_n 3, 1) := dk_29 (dk_at dksX0_shortest_6 22 rfl rfl)
theorem dX0_shortest_161 : decode cX0_shortest 161 = .ok (.putfield 72, 3) := dk_181 0 72 (dk_at dksX0_shortest_7 0 rfl rfl)
theorem dX0_shortest_164 : decode cX0_shortest 164 = .ok (.iload_n 3, 1) := dk_29 (dk_at dksX0_shortest_7 3 rfl rfl)
theorem dX0_shortest_165 : decode cX0_shortest 165 = .ok (.ireturn, 1) := dk_172 (dk_at dksX0_shortest_7 4 rfl rfl)
theorem dX0_shortest_166 : decode cX0_shortest 166 = .ok (.iinc 3 1, 3) := dk_132 3 1 (dk_at dksX0_shortest_7 5 rfl rfl)
theorem dX0_shortest_169 : decode cX0_shortest 169 = .ok (.goto (-46), 3) := dk_167 255 210 (dk_at dksX0_shortest_7 8 rfl rfl)
theorem dX0_shortest_172 : decode cX0_shortest 172 = .ok (.aload_n 0, 1) := dk_42 (dk_at dksX0_shortest_7 11 rfl rfl)
theorem dX0_shortest_173 : decode cX0_shortest 173 = .ok (.bipush 6, 2) := dk_16 6 (dk_at dksX0_shortest_7 12 rfl rfl)
theorem dX0_shortest_175 : decode cX0_shortest 175 = .ok (.putfield 87, 3) := dk_181 0 87 (dk_at dksX0_shortest_7 14 rfl rfl)
theorem dX0_shortest_178 : decode cX0_shortest 178 = .ok (.iconst (-1), 1) := dk_2 (dk_at dksX0_shortest_7 17 rfl rfl)
theorem dX0_shortest_179 : decode cX0_shortest 179 = .ok (.ireturn, 1) := dk_172 (dk_at dksX0_shortest_7 18 rfl rfl)
abbrev cX0_canSure : ByteArray := prog_1_method_65_code
def yX0_canSure : MethodName := ⟨RX0, "canSure", "(II)Z"⟩
def dkwX0_canSure_5 : List UInt8 := [132, 3, 1, 167, 255, 154, 3, 172]
abbrev dktX0_canSure_5 : List UInt8 := dkwX0_canSure_5 ++ []
def dkwX0_canSure_4 : List UInt8 := [180, 0, 69, 3, 29, 79, 42, 180, 0, 69, 4, 21, 4, 79, 4, 172, 132, 4, 1, 167, 255, 192]
abbrev dktX0_canSure_4 : List UInt8 := dkwX0_canSure_4 ++ dktX0_canSure_5
def dkwX0_canSure_3 : List UInt8 := [4, 159, 0, 39, 42, 27, 29, 21, 4, 28, 182, 1, 165, 154, 0, 6, 167, 0, 24, 27, 154, 0, 18, 42]
abbrev dktX0_canSure_3 : List UInt8 := dkwX0_canSure_3 ++ dktX0_canSure_4
def dkwX0_canSure_2 : List UInt8 := [3, 54, 4, 21, 4, 42, 182, 0, 165, 180, 0, 177, 162, 0, 58, 42, 180, 1, 162, 21, 4, 122, 4, 126]
abbrev dktX0_canSure_2 : List UInt8 := dkwX0_canSure_2 ++ dktX0_canSure_3
def dkwX0_canSure_1 : List UInt8 := [180, 0, 180, 162, 0, 97, 42, 180, 1, 159, 155, 0, 14, 29, 42, 180, 1, 159, 159, 0, 6, 167, 0, 73]
abbrev dktX0_canSure_1 : List UInt8 := dkwX0_canSure_1 ++ dktX0_canSure_2
def dkwX0_canSure_0 : List UInt8 := [42, 27, 182, 1, 156, 153, 0, 5, 4, 172, 28, 154, 0, 5, 3, 172, 3, 62, 29, 42, 182, 0, 165]
abbrev dktX0_canSure_0 : List UInt8 := dkwX0_canSure_0 ++ dktX0_canSure_1
theorem dksX0_canSure_0 : cX0_canSure.data.toList.drop 0 = dktX0_canSure_0 := by decide +kernel
theorem dksX0_canSure_1 : cX0_canSure.data.toList.drop 23 = dktX0_canSure_1 := dk_seg dksX0_canSure_0 23 rfl rfl
theorem dksX0_canSure_2 : cX0_canSure.data.toList.drop 47 = dktX0_canSure_2 := dk_seg dksX0_canSure_1 24 rfl rfl
theorem dksX0_canSure_3 : cX0_canSure.data.toList.drop 71 = dktX0_canSure_3 := dk_seg dksX0_canSure_2 24 rfl rfl
theorem dksX0_canSure_4 : cX0_canSure.data.toList.drop 95 = dktX0_canSure_4 := dk_seg dksX0_canSure_3 24 rfl rfl
theorem dksX0_canSure_5 : cX0_canSure.data.toList.drop 117 = dktX0_canSure_5 := dk_seg dksX0_canSure_4 22 rfl rfl
theorem dX0_canSure_0 : decode cX0_canSure 0 = .ok (.aload_n 0, 1) := dk_42 (dk_at dksX0_canSure_0 0 rfl rfl)
theorem dX0_canSure_1 : decode cX0_canSure 1 = .ok (.iload_n 1, 1) := dk_27 (dk_at dksX0_canSure_0 1 rfl rfl)
theorem dX0_canSure_2 : decode cX0_canSure 2 = .ok (.invokevirtual 412, 3) := dk_182 1 156 (dk_at dksX0_canSure_0 2 rfl rfl)
theorem dX0_canSure_5 : decode cX0_canSure 5 = .ok (.ifCond .eq 5, 3) := dk_153 0 5 (dk_at dksX0_canSure_0 5 rfl rfl)
theorem dX0_canSure_8 : decode cX0_canSure 8 = .ok (.iconst 1, 1) := dk_4 (dk_at dksX0_canSure_0 8 rfl rfl)
theorem dX0_canSure_9 : decode cX0_canSure 9 = .ok (.ireturn, 1) := dk_172 (dk_at dksX0_canSure_0 9 rfl rfl)
theorem dX0_canSure_10 : decode cX0_canSure 10 = .ok (.iload_n 2, 1) := dk_28 (dk_at dksX0_canSure_0 10 rfl rfl)
theorem dX0_canSure_11 : decode cX0_canSure 11 = .ok (.ifCond .ne 5, 3) := dk_154 0 5 (dk_at dksX0_canSure_0 11 rfl rfl)
theorem dX0_canSure_14 : decode cX0_canSure 14 = .ok (.iconst 0, 1) := dk_3 (dk_at dksX0_canSure_0 14 rfl rfl)
theorem dX0_canSure_15 : decode cX0_canSure 15 = .ok (.ireturn, 1) := dk_172 (dk_at dksX0_canSure_0 15 rfl rfl)
theorem dX0_canSure_16 : decode cX0_canSure 16 = .ok (.iconst 0, 1) := dk_3 (dk_at dksX0_canSure_0 16 rfl rfl)
theorem dX0_canSure_17 : decode cX0_canSure 17 = .ok (.istore_n 3, 1) := dk_62 (dk_at dksX0_canSure_0 17 rfl rfl)
theorem dX0_canSure_18 : decode cX0_canSure 18 = .ok (.iload_n 3, 1) := dk_29 (dk_at dksX0_canSure_0 18 rfl rfl)
theorem dX0_canSure_19 : decode cX0_canSure 19 = .ok (.aload_n 0, 1) := dk_42 (dk_at dksX0_canSure_0 19 rfl rfl)
theorem dX0_canSure_20 : decode cX0_canSure 20 = .ok (.invokevirtual 165, 3) := dk_182 0 165 (dk_at dksX0_canSure_0 20 rfl rfl)
theorem dX0_canSure_23 : decode cX0_canSure 23 = .ok (.getfield 180, 3) := dk_180 0 180 (dk_at dksX0_canSure_1 0 rfl rfl)
theorem dX0_canSure_26 : decode cX0_canSure 26 = .ok (.if_icmp .ge 97, 3) := dk_162 0 97 (dk_at dksX0_canSure_1 3 rfl rfl)
theorem dX0_canSure_29 : decode cX0_canSure 29 = .ok (.aload_n 0, 1) := dk_42 (dk_at dksX0_canSure_1 6 rfl rfl)
theorem dX0_canSure_30 : decode cX0_canSure 30 = .ok (.getfield 415, 3) := dk_180 1 159 (dk_at dksX0_canSure_1 7 rfl rfl)
theorem dX0_canSure_33 : decode cX0_canSure 33 = .ok (.ifCond .lt 14, 3) := dk_155 0 14 (dk_at dksX0_canSure_1 10 rfl rfl)
theorem dX0_canSure_36 : decode cX0_canSure 36 = .ok (.iload_n 3, 1) := dk_29 (dk_at dksX0_canSure_1 13 rfl rfl)
theorem dX0_canSure_37 : decode cX0_canSure 37 = .ok (.aload_n 0, 1) := dk_42 (dk_at dksX0_canSure_1 14 rfl rfl)
theorem dX0_canSure_38 : decode cX0_canSure 38 = .ok (.getfield 415, 3) := dk_180 1 159 (dk_at dksX0_canSure_1 15 rfl rfl)
theorem dX0_canSure_41 : decode cX0_canSure 41 = .ok (.if_icmp .eq 6, 3) := dk_159 0 6 (dk_at dksX0_canSure_1 18 rfl rfl)
theorem dX0_canSure_44 : decode cX0_canSure 44 = .ok (.goto 73, 3) := dk_167 0 73 (dk_at dksX0_canSure_1 21 rfl rfl)
theorem dX0_canSure_47 : decode cX0_canSure 47 = .ok (.iconst 0, 1) := dk_3 (dk_at dksX0_canSure_2 0 rfl rfl)
theorem dX0_canSure_48 : decode cX0_canSure 48 = .ok (.istore 4, 2) := dk_54 4 (dk_at dksX0_canSure_2 1 rfl rfl)
theorem dX0_canSure_50 : decode cX0_canSure 50 = .ok (.iload 4, 2) := dk_21 4 (dk_at dksX0_canSure_2 3 rfl rfl)
theorem dX0_canSure_52 : decode cX0_canSure 52 = .ok (.aload_n 0, 1) := dk_42 (dk_at dksX0_canSure_2 5 rfl rfl)
theorem dX0_canSure_53 : decode cX0_canSure 53 = .ok (.invokevirtual 165, 3) := dk_182 0 165 (dk_at dksX0_canSure_2 6 rfl rfl)
theorem dX0_canSure_56 : decode cX0_canSure 56 = .ok (.getfield 177, 3) := dk_180 0 177 (dk_at dksX0_canSure_2 9 rfl rfl)
theorem dX0_canSure_59 : decode cX0_canSure 59 = .ok (.if_icmp .ge 58, 3) := dk_162 0 58 (dk_at dksX0_canSure_2 12 rfl rfl)
theorem dX0_canSure_62 : decode cX0_canSure 62 = .ok (.aload_n 0, 1) := dk_42 (dk_at dksX0_canSure_2 15 rfl rfl)
theorem dX0_canSure_63 : decode cX0_canSure 63 = .ok (.getfield 418, 3) := dk_180 1 162 (dk_at dksX0_canSure_2 16 rfl rfl)
theorem dX0_canSure_66 : decode cX0_canSure 66 = .ok (.iload 4, 2) := dk_21 4 (dk_at dksX0_canSure_2 19 rfl rfl)
theorem dX0_canSure_68 : decode cX0_canSure 68 = .ok (.ishr, 1) := dk_122 (dk_at dksX0_canSure_2 21 rfl rfl)
theorem dX0_canSure_69 : decode cX0_canSure 69 = .ok (.iconst 1, 1) := dk_4 (dk_at dksX0_canSure_2 22 rfl rfl)
theorem dX0_canSure_70 : decode cX0_canSure 70 = .ok (.iand, 1) := dk_126 (dk_at dksX0_canSure_2 23 rfl rfl)
theorem dX0_canSure_71 : decode cX0_canSure 71 = .ok (.iconst 1, 1) := dk_4 (dk_at dksX0_canSure_3 0 rfl rfl)
theorem dX0_canSure_72 : decode cX0_canSure 72 = .ok (.if_icmp .eq 39, 3) := dk_159 0 39 (dk_at dksX0_canSure_3 1 rfl rfl)
theorem dX0_canSure_75 : decode cX0_canSure 75 = .ok (.aload_n 0, 1) := dk_42 (dk_at dksX0_canSure_3 4 rfl rfl)
theorem dX0_canSure_76 : decode cX0_canSure 76 = .ok (.iload_n 1, 1) := dk_27 (dk_at dksX0_canSure_3 5 rfl rfl)
theorem dX0_canSure_77 : decode cX0_canSure 77 = .ok (.iload_n 3, 1) := dk_29 (dk_at dksX0_canSure_3 6 rfl rfl)
theorem dX0_canSure_78 : decode cX0_canSure 78 = .ok (.iload 4, 2) := dk_21 4 (dk_at dksX0_canSure_3 7 rfl rfl)
theorem dX0_canSure_80 : decode cX0_canSure 80 = .ok (.iload_n 2, 1) := dk_28 (dk_at dksX0_canSure_3 9 rfl rfl)
theorem dX0_canSure_81 : decode cX0_canSure 81 = .ok (.invokevirtual 421, 3) := dk_182 1 165 (dk_at dksX0_canSure_3 10 rfl rfl)
theorem dX0_canSure_84 : decode cX0_canSure 84 = .ok (.ifCond .ne 6, 3) := dk_154 0 6 (dk_at dksX0_canSure_3 13 rfl rfl)
theorem dX0_canSure_87 : decode cX0_canSure 87 = .ok (.goto 24, 3) := dk_167 0 24 (dk_at dksX0_canSure_3 16 rfl rfl)
theorem dX0_canSure_90 : decode cX0_canSure 90 = .ok (.iload_n 1, 1) := dk_27 (dk_at dksX0_canSure_3 19 rfl rfl)
theorem dX0_canSure_91 : decode cX0_canSure 91 = .ok (.ifCond .ne 18, 3) := dk_154 0 18 (dk_at dksX0_canSure_3 20 rfl rfl)
theorem dX0_canSure_94 : decode cX0_canSure 94 = .ok (.aload_n 0, 1) := dk_42 (dk_at dksX0_canSure_3 23 rfl rfl)
theorem dX0_canSure_95 : decode cX0_canSure 95 = .ok (.getfield 69, 3) := dk_180 0 69 (dk_at dksX0_canSure_4 0 rfl rfl)
theorem dX0_canSure_98 : decode cX0_canSure 98 = .ok (.iconst 0, 1) := dk_3 (dk_at dksX0_canSure_4 3 rfl rfl)
theorem dX0_canSure_99 : decode cX0_canSure 99 = .ok (.iload_n 3, 1) := dk_29 (dk_at dksX0_canSure_4 4 rfl rfl)
theorem dX0_canSure_100 : decode cX0_canSure 100 = .ok (.iastore, 1) := dk_79 (dk_at dksX0_canSure_4 5 rfl rfl)
theorem dX0_canSure_101 : decode cX0_canSure 101 = .ok (.aload_n 0, 1) := dk_42 (dk_at dksX0_canSure_4 6 rfl rfl)
theorem dX0_canSure_102 : decode cX0_canSure 102 = .ok (.getfield 69, 3) := dk_180 0 69 (dk_at dksX0_canSure_4 7 rfl rfl)
theorem dX0_canSure_105 : decode cX0_canSure 105 = .ok (.iconst 1, 1) := dk_4 (dk_at dksX0_canSure_4 10 rfl rfl)
theorem dX0_canSure_106 : decode cX0_canSure 106 = .ok (.iload 4, 2) := dk_21 4 (dk_at dksX0_canSure_4 11 rfl rfl)
theorem dX0_canSure_108 : decode cX0_canSure 108 = .ok (.iastore, 1) := dk_79 (dk_at dksX0_canSure_4 13 rfl rfl)
theorem dX0_canSure_109 : decode cX0_canSure 109 = .ok (.iconst 1, 1) := dk_4 (dk_at dksX0_canSure_4 14 rfl rfl)
theorem dX0_canSure_110 : decode cX0_canSure 110 = .ok (.ireturn, 1) := dk_172 (dk_at dksX0_canSure_4 15 rfl rfl)
theorem dX0_canSure_111 : decode cX0_canSure 111 = .ok (.iinc 4 1, 3) := dk_132 4 1 (dk_at dksX0_canSure_4 16 rfl rfl)
theorem dX0_canSure_114 : decode cX0_canSure 114 = .ok (.goto (-64), 3) := dk_167 255 192 (dk_at dksX0_canSure_4 19 rfl rfl)
theorem dX0_canSure_117 : decode cX0_canSure 117 = .ok (.iinc 3 1, 3) := dk_132 3 1 (dk_at dksX0_canSure_5 0 rfl rfl)
theorem dX0_canSure_120 : decode cX0_canSure 120 = .ok (.goto (-102), 3) := dk_167 255 154 (dk_at dksX0_canSure_5 3 rfl rfl)
theorem dX0_canSure_123 : decode cX0_canSure 123 = .ok (.iconst 0, 1) := dk_3 (dk_at dksX0_canSure_5 6 rfl rfl)
theorem dX0_canSure_124 : decode cX0_canSure 124 = .ok (.ireturn, 1) := dk_172 (dk_at dksX0_canSure_5 7 rfl rfl)
abbrev cX0_isSureAt : ByteArray := prog_1_method_64_code
def yX0_isSureAt : MethodName := ⟨RX0, "isSureAt", "(I)Z"⟩
def dkwX0_isSureAt_3 : List UInt8 := [167, 255, 195, 28, 29, 159, 0, 7, 4, 167, 0, 4, 3, 172]
abbrev dktX0_isSureAt_3 : List UInt8 := dkwX0_isSureAt_3 ++ []
def dkwX0_isSureAt_2 : List UInt8 := [180, 1, 153, 50, 21, 4, 182, 1, 18, 153, 0, 8, 4, 61, 167, 0, 5, 4, 62, 132, 4, 1]
abbrev dktX0_isSureAt_2 : List UInt8 := dkwX0_isSureAt_2 ++ dktX0_isSureAt_3
def dkwX0_isSureAt_1 : List UInt8 := [17, 1, 0, 104, 21, 4, 96, 53, 154, 0, 6, 167, 0, 30, 42, 182, 0, 165, 180, 1, 26, 42]
abbrev dktX0_isSureAt_1 : List UInt8 := dkwX0_isSureAt_1 ++ dktX0_isSureAt_2
def dkwX0_isSureAt_0 : List UInt8 := [3, 61, 3, 62, 3, 54, 4, 21, 4, 42, 182, 0, 165, 180, 0, 168, 162, 0, 55, 42, 180, 0, 66, 27]
abbrev dktX0_isSureAt_0 : List UInt8 := dkwX0_isSureAt_0 ++ dktX0_isSureAt_1
theorem dksX0_isSureAt_0 : cX0_isSureAt.data.toList.drop 0 = dktX0_isSureAt_0 := by decide +kernel
theorem dksX0_isSureAt_1 : cX0_isSureAt.data.toList.drop 24 = dktX0_isSureAt_1 := dk_seg dksX0_isSureAt_0 24 rfl rfl
theorem dksX0_isSureAt_2 : cX0_isSureAt.data.toList.drop 46 = dktX0_isSureAt_2 := dk_seg dksX0_isSureAt_1 22 rfl rfl
theorem dksX0_isSureAt_3 : cX0_isSureAt.data.toList.drop 68 = dktX0_isSureAt_3 := dk_seg dksX0_isSureAt_2 22 rfl rfl
theorem dX0_isSureAt_0 : decode cX0_isSureAt 0 = .ok (.iconst 0, 1) := dk_3 (dk_at dksX0_isSureAt_0 0 rfl rfl)
theorem dX0_isSureAt_1 : decode cX0_isSureAt 1 = .ok (.istore_n 2, 1) := dk_61 (dk_at dksX0_isSureAt_0 1 rfl rfl)
theorem dX0_isSureAt_2 : decode cX0_isSureAt 2 = .ok (.iconst 0, 1) := dk_3 (dk_at dksX0_isSureAt_0 2 rfl rfl)
theorem dX0_isSureAt_3 : decode cX0_isSureAt 3 = .ok (.istore_n 3, 1) := dk_62 (dk_at dksX0_isSureAt_0 3 rfl rfl)
theorem dX0_isSureAt_4 : decode cX0_isSureAt 4 = .ok (.iconst 0, 1) := dk_3 (dk_at dksX0_isSureAt_0 4 rfl rfl)
theorem dX0_isSureAt_5 : decode cX0_isSureAt 5 = .ok (.istore 4, 2) := dk_54 4 (dk_at dksX0_isSureAt_0 5 rfl rfl)
theorem dX0_isSureAt_7 : decode cX0_isSureAt 7 = .ok (.iload 4, 2) := dk_21 4 (dk_at dksX0_isSureAt_0 7 rfl rfl)
theorem dX0_isSureAt_9 : decode cX0_isSureAt 9 = .ok (.aload_n 0, 1) := dk_42 (dk_at dksX0_isSureAt_0 9 rfl rfl)
theorem dX0_isSureAt_10 : decode cX0_isSureAt 10 = .ok (.invokevirtual 165, 3) := dk_182 0 165 (dk_at dksX0_isSureAt_0 10 rfl rfl)
theorem dX0_isSureAt_13 : decode cX0_isSureAt 13 = .ok (.getfield 168, 3) := dk_180 0 168 (dk_at dksX0_isSureAt_0 13 rfl rfl)
theorem dX0_isSureAt_16 : decode cX0_isSureAt 16 = .ok (.if_icmp .ge 55, 3) := dk_162 0 55 (dk_at dksX0_isSureAt_0 16 rfl rfl)
theorem dX0_isSureAt_19 : decode cX0_isSureAt 19 = .ok (.aload_n 0, 1) := dk_42 (dk_at dksX0_isSureAt_0 19 rfl rfl)
theorem dX0_isSureAt_20 : decode cX0_isSureAt 20 = .ok (.getfield 66, 3) := dk_180 0 66 (dk_at dksX0_isSureAt_0 20 rfl rfl)
theorem dX0_isSureAt_23 : decode cX0_isSureAt 23 = .ok (.iload_n 1, 1) := dk_27 (dk_at dksX0_isSureAt_0 23 rfl rfl)
theorem dX0_isSureAt_24 : decode cX0_isSureAt 24 = .ok (.sipush 256, 3) := dk_17 1 0 (dk_at dksX0_isSureAt_1 0 rfl rfl)
theorem dX0_isSureAt_27 : decode cX0_isSureAt 27 = .ok (.imul, 1) := dk_104 (dk_at dksX0_isSureAt_1 3 rfl rfl)
theorem dX0_isSureAt_28 : decode cX0_isSureAt 28 = .ok (.iload 4, 2) := dk_21 4 (dk_at dksX0_isSureAt_1 4 rfl rfl)
theorem dX0_isSureAt_30 : decode cX0_isSureAt 30 = .ok (.iadd, 1) := dk_96 (dk_at dksX0_isSureAt_1 6 rfl rfl)
theorem dX0_isSureAt_31 : decode cX0_isSureAt 31 = .ok (.saload, 1) := dk_53 (dk_at dksX0_isSureAt_1 7 rfl rfl)
theorem dX0_isSureAt_32 : decode cX0_isSureAt 32 = .ok (.ifCond .ne 6, 3) := dk_154 0 6 (dk_at dksX0_isSureAt_1 8 rfl rfl)
theorem dX0_isSureAt_35 : decode cX0_isSureAt 35 = .ok (.goto 30, 3) := dk_167 0 30 (dk_at dksX0_isSureAt_1 11 rfl rfl)
theorem dX0_isSureAt_38 : decode cX0_isSureAt 38 = .ok (.aload_n 0, 1) := dk_42 (dk_at dksX0_isSureAt_1 14 rfl rfl)
theorem dX0_isSureAt_39 : decode cX0_isSureAt 39 = .ok (.invokevirtual 165, 3) := dk_182 0 165 (dk_at dksX0_isSureAt_1 15 rfl rfl)
theorem dX0_isSureAt_42 : decode cX0_isSureAt 42 = .ok (.getfield 282, 3) := dk_180 1 26 (dk_at dksX0_isSureAt_1 18 rfl rfl)
theorem dX0_isSureAt_45 : decode cX0_isSureAt 45 = .ok (.aload_n 0, 1) := dk_42 (dk_at dksX0_isSureAt_1 21 rfl rfl)
theorem dX0_isSureAt_46 : decode cX0_isSureAt 46 = .ok (.getfield 409, 3) := dk_180 1 153 (dk_at dksX0_isSureAt_2 0 rfl rfl)
theorem dX0_isSureAt_49 : decode cX0_isSureAt 49 = .ok (.aaload, 1) := dk_50 (dk_at dksX0_isSureAt_2 3 rfl rfl)
theorem dX0_isSureAt_50 : decode cX0_isSureAt 50 = .ok (.iload 4, 2) := dk_21 4 (dk_at dksX0_isSureAt_2 4 rfl rfl)
theorem dX0_isSureAt_52 : decode cX0_isSureAt 52 = .ok (.invokevirtual 274, 3) := dk_182 1 18 (dk_at dksX0_isSureAt_2 6 rfl rfl)
theorem dX0_isSureAt_55 : decode cX0_isSureAt 55 = .ok (.ifCond .eq 8, 3) := dk_153 0 8 (dk_at dksX0_isSureAt_2 9 rfl rfl)
theorem dX0_isSureAt_58 : decode cX0_isSureAt 58 = .ok (.iconst 1, 1) := dk_4 (dk_at dksX0_isSureAt_2 12 rfl rfl)
theorem dX0_isSureAt_59 : decode cX0_isSureAt 59 = .ok (.istore_n 2, 1) := dk_61 (dk_at dksX0_isSureAt_2 13 rfl rfl)
theorem dX0_isSureAt_60 : decode cX0_isSureAt 60 = .ok (.goto 5, 3) := dk_167 0 5 (dk_at dksX0_isSureAt_2 14 rfl rfl)
theorem dX0_isSureAt_63 : decode cX0_isSureAt 63 = .ok (.iconst 1, 1) := dk_4 (dk_at dksX0_isSureAt_2 17 rfl rfl)
theorem dX0_isSureAt_64 : decode cX0_isSureAt 64 = .ok (.istore_n 3, 1) := dk_62 (dk_at dksX0_isSureAt_2 18 rfl rfl)
theorem dX0_isSureAt_65 : decode cX0_isSureAt 65 = .ok (.iinc 4 1, 3) := dk_132 4 1 (dk_at dksX0_isSureAt_2 19 rfl rfl)
theorem dX0_isSureAt_68 : decode cX0_isSureAt 68 = .ok (.goto (-61), 3) := dk_167 255 195 (dk_at dksX0_isSureAt_3 0 rfl rfl)
theorem dX0_isSureAt_71 : decode cX0_isSureAt 71 = .ok (.iload_n 2, 1) := dk_28 (dk_at dksX0_isSureAt_3 3 rfl rfl)
theorem dX0_isSureAt_72 : decode cX0_isSureAt 72 = .ok (.iload_n 3, 1) := dk_29 (dk_at dksX0_isSureAt_3 4 rfl rfl)
theorem dX0_isSureAt_73 : decode cX0_isSureAt 73 = .ok (.if_icmp .eq 7, 3) := dk_159 0 7 (dk_at dksX0_isSureAt_3 5 rfl rfl)
theorem dX0_isSureAt_76 : decode cX0_isSureAt 76 = .ok (.iconst 1, 1) := dk_4 (dk_at dksX0_isSureAt_3 8 rfl rfl)
theorem dX0_isSureAt_77 : decode cX0_isSureAt 77 = .ok (.goto 4, 3) := dk_167 0 4 (dk_at dksX0_isSureAt_3 9 rfl rfl)
theorem dX0_isSureAt_80 : decode cX0_isSureAt 80 = .ok (.iconst 0, 1) := dk_3 (dk_at dksX0_isSureAt_3 12 rfl rfl)
theorem dX0_isSureAt_81 : decode cX0_isSureAt 81 = .ok (.ireturn, 1) := dk_172 (dk_at dksX0_isSureAt_3 13 rfl rfl)
abbrev cX0_settles : ByteArray := prog_1_method_66_code
def yX0_settles : MethodName := ⟨RX0, "settles", "(IIII)Z"⟩
def dkwX0_settles_3 : List UInt8 := [132, 6, 1, 167, 255, 201, 42, 89, 180, 1, 162, 4, 29, 120, 2, 130, 126, 181, 1, 162, 21, 5, 172]
abbrev dktX0_settles_3 : List UInt8 := dkwX0_settles_3 ++ []
def dkwX0_settles_2 : List UInt8 := [153, 0, 17, 42, 27, 4, 96, 21, 4, 4, 100, 182, 1, 169, 153, 0, 7, 4, 167, 0, 4, 3, 54, 5]
abbrev dktX0_settles_2 : List UInt8 := dkwX0_settles_2 ++ dktX0_settles_3
def dkwX0_settles_1 : List UInt8 := [182, 0, 165, 180, 0, 177, 104, 162, 0, 47, 21, 5, 153, 0, 42, 42, 27, 28, 29, 21, 6, 182, 1, 136]
abbrev dktX0_settles_1 : List UInt8 := dkwX0_settles_1 ++ dktX0_settles_2
def dkwX0_settles_0 : List UInt8 := [42, 89, 180, 1, 162, 4, 29, 120, 128, 181, 1, 162, 4, 54, 5, 3, 54, 6, 21, 6, 5, 42]
abbrev dktX0_settles_0 : List UInt8 := dkwX0_settles_0 ++ dktX0_settles_1
theorem dksX0_settles_0 : cX0_settles.data.toList.drop 0 = dktX0_settles_0 := by decide +kernel
theorem dksX0_settles_1 : cX0_settles.data.toList.drop 22 = dktX0_settles_1 := dk_seg dksX0_settles_0 22 rfl rfl
theorem dksX0_settles_2 : cX0_settles.data.toList.drop 46 = dktX0_settles_2 := dk_seg dksX0_settles_1 24 rfl rfl
theorem dksX0_settles_3 : cX0_settles.data.toList.drop 70 = dktX0_settles_3 := dk_seg dksX0_settles_2 24 rfl rfl
theorem dX0_settles_0 : decode cX0_settles 0 = .ok (.aload_n 0, 1) := dk_42 (dk_at dksX0_settles_0 0 rfl rfl)
theorem dX0_settles_1 : decode cX0_settles 1 = .ok (.dup, 1) := dk_89 (dk_at dksX0_settles_0 1 rfl rfl)
theorem dX0_settles_2 : decode cX0_settles 2 = .ok (.getfield 418, 3) := dk_180 1 162 (dk_at dksX0_settles_0 2 rfl rfl)
theorem dX0_settles_5 : decode cX0_settles 5 = .ok (.iconst 1, 1) := dk_4 (dk_at dksX0_settles_0 5 rfl rfl)
theorem dX0_settles_6 : decode cX0_settles 6 = .ok (.iload_n 3, 1) := dk_29 (dk_at dksX0_settles_0 6 rfl rfl)
theorem dX0_settles_7 : decode cX0_settles 7 = .ok (.ishl, 1) := dk_120 (dk_at dksX0_settles_0 7 rfl rfl)
theorem dX0_settles_8 : decode cX0_settles 8 = .ok (.ior, 1) := dk_128 (dk_at dksX0_settles_0 8 rfl rfl)
theorem dX0_settles_9 : decode cX0_settles 9 = .ok (.putfield 418, 3) := dk_181 1 162 (dk_at dksX0_settles_0 9 rfl rfl)
theorem dX0_settles_12 : decode cX0_settles 12 = .ok (.iconst 1, 1) := dk_4 (dk_at dksX0_settles_0 12 rfl rfl)
theorem dX0_settles_13 : decode cX0_settles 13 = .ok (.istore 5, 2) := dk_54 5 (dk_at dksX0_settles_0 13 rfl rfl)
theorem dX0_settles_15 : decode cX0_settles 15 = .ok (.iconst 0, 1) := dk_3 (dk_at dksX0_settles_0 15 rfl rfl)
theorem dX0_settles_16 : decode cX0_settles 16 = .ok (.istore 6, 2) := dk_54 6 (dk_at dksX0_settles_0 16 rfl rfl)
theorem dX0_settles_18 : decode cX0_settles 18 = .ok (.iload 6, 2) := dk_21 6 (dk_at dksX0_settles_0 18 rfl rfl)
theorem dX0_settles_20 : decode cX0_settles 20 = .ok (.iconst 2, 1) := dk_5 (dk_at dksX0_settles_0 20 rfl rfl)
theorem dX0_settles_21 : decode cX0_settles 21 = .ok (.aload_n 0, 1) := dk_42 (dk_at dksX0_settles_0 21 rfl rfl)
theorem dX0_settles_22 : decode cX0_settles 22 = .ok (.invokevirtual 165, 3) := dk_182 0 165 (dk_at dksX0_settles_1 0 rfl rfl)
theorem dX0_settles_25 : decode cX0_settles 25 = .ok (.getfield 177, 3) := dk_180 0 177 (dk_at dksX0_settles_1 3 rfl rfl)
theorem dX0_settles_28 : decode cX0_settles 28 = .ok (.imul, 1) := dk_104 (dk_at dksX0_settles_1 6 rfl rfl)
theorem dX0_settles_29 : decode cX0_settles 29 = .ok (.if_icmp .ge 47, 3) := dk_162 0 47 (dk_at dksX0_settles_1 7 rfl rfl)
theorem dX0_settles_32 : decode cX0_settles 32 = .ok (.iload 5, 2) := dk_21 5 (dk_at dksX0_settles_1 10 rfl rfl)
theorem dX0_settles_34 : decode cX0_settles 34 = .ok (.ifCond .eq 42, 3) := dk_153 0 42 (dk_at dksX0_settles_1 12 rfl rfl)
theorem dX0_settles_37 : decode cX0_settles 37 = .ok (.aload_n 0, 1) := dk_42 (dk_at dksX0_settles_1 15 rfl rfl)
theorem dX0_settles_38 : decode cX0_settles 38 = .ok (.iload_n 1, 1) := dk_27 (dk_at dksX0_settles_1 16 rfl rfl)
theorem dX0_settles_39 : decode cX0_settles 39 = .ok (.iload_n 2, 1) := dk_28 (dk_at dksX0_settles_1 17 rfl rfl)
theorem dX0_settles_40 : decode cX0_settles 40 = .ok (.iload_n 3, 1) := dk_29 (dk_at dksX0_settles_1 18 rfl rfl)
theorem dX0_settles_41 : decode cX0_settles 41 = .ok (.iload 6, 2) := dk_21 6 (dk_at dksX0_settles_1 19 rfl rfl)
theorem dX0_settles_43 : decode cX0_settles 43 = .ok (.invokevirtual 392, 3) := dk_182 1 136 (dk_at dksX0_settles_1 21 rfl rfl)
theorem dX0_settles_46 : decode cX0_settles 46 = .ok (.ifCond .eq 17, 3) := dk_153 0 17 (dk_at dksX0_settles_2 0 rfl rfl)
theorem dX0_settles_49 : decode cX0_settles 49 = .ok (.aload_n 0, 1) := dk_42 (dk_at dksX0_settles_2 3 rfl rfl)
theorem dX0_settles_50 : decode cX0_settles 50 = .ok (.iload_n 1, 1) := dk_27 (dk_at dksX0_settles_2 4 rfl rfl)
theorem dX0_settles_51 : decode cX0_settles 51 = .ok (.iconst 1, 1) := dk_4 (dk_at dksX0_settles_2 5 rfl rfl)
theorem dX0_settles_52 : decode cX0_settles 52 = .ok (.iadd, 1) := dk_96 (dk_at dksX0_settles_2 6 rfl rfl)
theorem dX0_settles_53 : decode cX0_settles 53 = .ok (.iload 4, 2) := dk_21 4 (dk_at dksX0_settles_2 7 rfl rfl)
theorem dX0_settles_55 : decode cX0_settles 55 = .ok (.iconst 1, 1) := dk_4 (dk_at dksX0_settles_2 9 rfl rfl)
theorem dX0_settles_56 : decode cX0_settles 56 = .ok (.isub, 1) := dk_100 (dk_at dksX0_settles_2 10 rfl rfl)
theorem dX0_settles_57 : decode cX0_settles 57 = .ok (.invokevirtual 425, 3) := dk_182 1 169 (dk_at dksX0_settles_2 11 rfl rfl)
theorem dX0_settles_60 : decode cX0_settles 60 = .ok (.ifCond .eq 7, 3) := dk_153 0 7 (dk_at dksX0_settles_2 14 rfl rfl)
theorem dX0_settles_63 : decode cX0_settles 63 = .ok (.iconst 1, 1) := dk_4 (dk_at dksX0_settles_2 17 rfl rfl)
theorem dX0_settles_64 : decode cX0_settles 64 = .ok (.goto 4, 3) := dk_167 0 4 (dk_at dksX0_settles_2 18 rfl rfl)
theorem dX0_settles_67 : decode cX0_settles 67 = .ok (.iconst 0, 1) := dk_3 (dk_at dksX0_settles_2 21 rfl rfl)
theorem dX0_settles_68 : decode cX0_settles 68 = .ok (.istore 5, 2) := dk_54 5 (dk_at dksX0_settles_2 22 rfl rfl)
theorem dX0_settles_70 : decode cX0_settles 70 = .ok (.iinc 6 1, 3) := dk_132 6 1 (dk_at dksX0_settles_3 0 rfl rfl)
theorem dX0_settles_73 : decode cX0_settles 73 = .ok (.goto (-55), 3) := dk_167 255 201 (dk_at dksX0_settles_3 3 rfl rfl)
theorem dX0_settles_76 : decode cX0_settles 76 = .ok (.aload_n 0, 1) := dk_42 (dk_at dksX0_settles_3 6 rfl rfl)
theorem dX0_settles_77 : decode cX0_settles 77 = .ok (.dup, 1) := dk_89 (dk_at dksX0_settles_3 7 rfl rfl)
theorem dX0_settles_78 : decode cX0_settles 78 = .ok (.getfield 418, 3) := dk_180 1 162 (dk_at dksX0_settles_3 8 rfl rfl)
theorem dX0_settles_81 : decode cX0_settles 81 = .ok (.iconst 1, 1) := dk_4 (dk_at dksX0_settles_3 11 rfl rfl)
theorem dX0_settles_82 : decode cX0_settles 82 = .ok (.iload_n 3, 1) := dk_29 (dk_at dksX0_settles_3 12 rfl rfl)
theorem dX0_settles_83 : decode cX0_settles 83 = .ok (.ishl, 1) := dk_120 (dk_at dksX0_settles_3 13 rfl rfl)
theorem dX0_settles_84 : decode cX0_settles 84 = .ok (.iconst (-1), 1) := dk_2 (dk_at dksX0_settles_3 14 rfl rfl)
theorem dX0_settles_85 : decode cX0_settles 85 = .ok (.ixor, 1) := dk_130 (dk_at dksX0_settles_3 15 rfl rfl)
theorem dX0_settles_86 : decode cX0_settles 86 = .ok (.iand, 1) := dk_126 (dk_at dksX0_settles_3 16 rfl rfl)
theorem dX0_settles_87 : decode cX0_settles 87 = .ok (.putfield 418, 3) := dk_181 1 162 (dk_at dksX0_settles_3 17 rfl rfl)
theorem dX0_settles_90 : decode cX0_settles 90 = .ok (.iload 5, 2) := dk_21 5 (dk_at dksX0_settles_3 20 rfl rfl)
theorem dX0_settles_92 : decode cX0_settles 92 = .ok (.ireturn, 1) := dk_172 (dk_at dksX0_settles_3 22 rfl rfl)
abbrev cX0_shortestFirst : ByteArray := prog_1_method_68_code
def yX0_shortestFirst : MethodName := ⟨RX0, "shortestFirst", "(I)I"⟩
def dkwX0_shortestFirst_2 : List UInt8 := [27, 46, 172]
abbrev dktX0_shortestFirst_2 : List UInt8 := dkwX0_shortestFirst_2 ++ []
def dkwX0_shortestFirst_1 : List UInt8 := [16, 6, 167, 0, 4, 3, 181, 0, 87, 42, 180, 0, 87, 158, 0, 7, 2, 167, 0, 9, 42, 180, 0, 69]
abbrev dktX0_shortestFirst_1 : List UInt8 := dkwX0_shortestFirst_1 ++ dktX0_shortestFirst_2
def dkwX0_shortestFirst_0 : List UInt8 := [42, 27, 133, 9, 10, 184, 0, 173, 154, 0, 7, 4, 167, 0, 17, 42, 180, 0, 72, 4, 162, 0, 8]
abbrev dktX0_shortestFirst_0 : List UInt8 := dkwX0_shortestFirst_0 ++ dktX0_shortestFirst_1
theorem dksX0_shortestFirst_0 : cX0_shortestFirst.data.toList.drop 0 = dktX0_shortestFirst_0 := by decide +kernel
theorem dksX0_shortestFirst_1 : cX0_shortestFirst.data.toList.drop 23 = dktX0_shortestFirst_1 := dk_seg dksX0_shortestFirst_0 23 rfl rfl
theorem dksX0_shortestFirst_2 : cX0_shortestFirst.data.toList.drop 47 = dktX0_shortestFirst_2 := dk_seg dksX0_shortestFirst_1 24 rfl rfl
theorem dX0_shortestFirst_0 : decode cX0_shortestFirst 0 = .ok (.aload_n 0, 1) := dk_42 (dk_at dksX0_shortestFirst_0 0 rfl rfl)
theorem dX0_shortestFirst_1 : decode cX0_shortestFirst 1 = .ok (.iload_n 1, 1) := dk_27 (dk_at dksX0_shortestFirst_0 1 rfl rfl)
theorem dX0_shortestFirst_2 : decode cX0_shortestFirst 2 = .ok (.i2l, 1) := dk_133 (dk_at dksX0_shortestFirst_0 2 rfl rfl)
theorem dX0_shortestFirst_3 : decode cX0_shortestFirst 3 = .ok (.lconst 0, 1) := dk_9 (dk_at dksX0_shortestFirst_0 3 rfl rfl)
theorem dX0_shortestFirst_4 : decode cX0_shortestFirst 4 = .ok (.lconst 1, 1) := dk_10 (dk_at dksX0_shortestFirst_0 4 rfl rfl)
theorem dX0_shortestFirst_5 : decode cX0_shortestFirst 5 = .ok (.invokestatic 173, 3) := dk_184 0 173 (dk_at dksX0_shortestFirst_0 5 rfl rfl)
theorem dX0_shortestFirst_8 : decode cX0_shortestFirst 8 = .ok (.ifCond .ne 7, 3) := dk_154 0 7 (dk_at dksX0_shortestFirst_0 8 rfl rfl)
theorem dX0_shortestFirst_11 : decode cX0_shortestFirst 11 = .ok (.iconst 1, 1) := dk_4 (dk_at dksX0_shortestFirst_0 11 rfl rfl)
theorem dX0_shortestFirst_12 : decode cX0_shortestFirst 12 = .ok (.goto 17, 3) := dk_167 0 17 (dk_at dksX0_shortestFirst_0 12 rfl rfl)
theorem dX0_shortestFirst_15 : decode cX0_shortestFirst 15 = .ok (.aload_n 0, 1) := dk_42 (dk_at dksX0_shortestFirst_0 15 rfl rfl)
theorem dX0_shortestFirst_16 : decode cX0_shortestFirst 16 = .ok (.getfield 72, 3) := dk_180 0 72 (dk_at dksX0_shortestFirst_0 16 rfl rfl)
theorem dX0_shortestFirst_19 : decode cX0_shortestFirst 19 = .ok (.iconst 1, 1) := dk_4 (dk_at dksX0_shortestFirst_0 19 rfl rfl)
theorem dX0_shortestFirst_20 : decode cX0_shortestFirst 20 = .ok (.if_icmp .ge 8, 3) := dk_162 0 8 (dk_at dksX0_shortestFirst_0 20 rfl rfl)
theorem dX0_shortestFirst_23 : decode cX0_shortestFirst 23 = .ok (.bipush 6, 2) := dk_16 6 (dk_at dksX0_shortestFirst_1 0 rfl rfl)
theorem dX0_shortestFirst_25 : decode cX0_shortestFirst 25 = .ok (.goto 4, 3) := dk_167 0 4 (dk_at dksX0_shortestFirst_1 2 rfl rfl)
theorem dX0_shortestFirst_28 : decode cX0_shortestFirst 28 = .ok (.iconst 0, 1) := dk_3 (dk_at dksX0_shortestFirst_1 5 rfl rfl)
theorem dX0_shortestFirst_29 : decode cX0_shortestFirst 29 = .ok (.putfield 87, 3) := dk_181 0 87 (dk_at dksX0_shortestFirst_1 6 rfl rfl)
theorem dX0_shortestFirst_32 : decode cX0_shortestFirst 32 = .ok (.aload_n 0, 1) := dk_42 (dk_at dksX0_shortestFirst_1 9 rfl rfl)
theorem dX0_shortestFirst_33 : decode cX0_shortestFirst 33 = .ok (.getfield 87, 3) := dk_180 0 87 (dk_at dksX0_shortestFirst_1 10 rfl rfl)
theorem dX0_shortestFirst_36 : decode cX0_shortestFirst 36 = .ok (.ifCond .le 7, 3) := dk_158 0 7 (dk_at dksX0_shortestFirst_1 13 rfl rfl)
theorem dX0_shortestFirst_39 : decode cX0_shortestFirst 39 = .ok (.iconst (-1), 1) := dk_2 (dk_at dksX0_shortestFirst_1 16 rfl rfl)
theorem dX0_shortestFirst_40 : decode cX0_shortestFirst 40 = .ok (.goto 9, 3) := dk_167 0 9 (dk_at dksX0_shortestFirst_1 17 rfl rfl)
theorem dX0_shortestFirst_43 : decode cX0_shortestFirst 43 = .ok (.aload_n 0, 1) := dk_42 (dk_at dksX0_shortestFirst_1 20 rfl rfl)
theorem dX0_shortestFirst_44 : decode cX0_shortestFirst 44 = .ok (.getfield 69, 3) := dk_180 0 69 (dk_at dksX0_shortestFirst_1 21 rfl rfl)
theorem dX0_shortestFirst_47 : decode cX0_shortestFirst 47 = .ok (.iload_n 1, 1) := dk_27 (dk_at dksX0_shortestFirst_2 0 rfl rfl)
theorem dX0_shortestFirst_48 : decode cX0_shortestFirst 48 = .ok (.iaload, 1) := dk_46 (dk_at dksX0_shortestFirst_2 1 rfl rfl)
theorem dX0_shortestFirst_49 : decode cX0_shortestFirst 49 = .ok (.ireturn, 1) := dk_172 (dk_at dksX0_shortestFirst_2 2 rfl rfl)
abbrev cX0_settled : ByteArray := prog_1_method_69_code
def yX0_settled : MethodName := ⟨RX0, "settled", "()I"⟩
def dkwX0_settled_3 : List UInt8 := [132, 2, 1, 167, 255, 192, 27, 172]
abbrev dktX0_settled_3 : List UInt8 := dkwX0_settled_3 ++ []
def dkwX0_settled_2 : List UInt8 := [28, 42, 180, 0, 55, 180, 0, 211, 182, 1, 82, 182, 1, 99, 155, 0, 7, 4, 167, 0, 4, 3, 96, 60]
abbrev dktX0_settled_2 : List UInt8 := dkwX0_settled_2 ++ dktX0_settled_3
def dkwX0_settled_1 : List UInt8 := [180, 0, 55, 180, 0, 211, 28, 182, 1, 60, 154, 0, 35, 42, 180, 0, 55, 180, 0, 211, 42, 182, 0, 165]
abbrev dktX0_settled_1 : List UInt8 := dkwX0_settled_1 ++ dktX0_settled_2
def dkwX0_settled_0 : List UInt8 := [42, 3, 181, 0, 87, 3, 60, 3, 61, 28, 42, 182, 0, 165, 180, 0, 177, 162, 0, 59, 27, 42]
abbrev dktX0_settled_0 : List UInt8 := dkwX0_settled_0 ++ dktX0_settled_1
theorem dksX0_settled_0 : cX0_settled.data.toList.drop 0 = dktX0_settled_0 := by decide +kernel
theorem dksX0_settled_1 : cX0_settled.data.toList.drop 22 = dktX0_settled_1 := dk_seg dksX0_settled_0 22 rfl rfl
theorem dksX0_settled_2 : cX0_settled.data.toList.drop 46 = dktX0_settled_2 := dk_seg dksX0_settled_1 24 rfl rfl
theorem dksX0_settled_3 : cX0_settled.data.toList.drop 70 = dktX0_settled_3 := dk_seg dksX0_settled_2 24 rfl rfl
theorem dX0_settled_0 : decode cX0_settled 0 = .ok (.aload_n 0, 1) := dk_42 (dk_at dksX0_settled_0 0 rfl rfl)
theorem dX0_settled_1 : decode cX0_settled 1 = .ok (.iconst 0, 1) := dk_3 (dk_at dksX0_settled_0 1 rfl rfl)
theorem dX0_settled_2 : decode cX0_settled 2 = .ok (.putfield 87, 3) := dk_181 0 87 (dk_at dksX0_settled_0 2 rfl rfl)
theorem dX0_settled_5 : decode cX0_settled 5 = .ok (.iconst 0, 1) := dk_3 (dk_at dksX0_settled_0 5 rfl rfl)
theorem dX0_settled_6 : decode cX0_settled 6 = .ok (.istore_n 1, 1) := dk_60 (dk_at dksX0_settled_0 6 rfl rfl)
theorem dX0_settled_7 : decode cX0_settled 7 = .ok (.iconst 0, 1) := dk_3 (dk_at dksX0_settled_0 7 rfl rfl)
theorem dX0_settled_8 : decode cX0_settled 8 = .ok (.istore_n 2, 1) := dk_61 (dk_at dksX0_settled_0 8 rfl rfl)
theorem dX0_settled_9 : decode cX0_settled 9 = .ok (.iload_n 2, 1) := dk_28 (dk_at dksX0_settled_0 9 rfl rfl)
theorem dX0_settled_10 : decode cX0_settled 10 = .ok (.aload_n 0, 1) := dk_42 (dk_at dksX0_settled_0 10 rfl rfl)
theorem dX0_settled_11 : decode cX0_settled 11 = .ok (.invokevirtual 165, 3) := dk_182 0 165 (dk_at dksX0_settled_0 11 rfl rfl)
theorem dX0_settled_14 : decode cX0_settled 14 = .ok (.getfield 177, 3) := dk_180 0 177 (dk_at dksX0_settled_0 14 rfl rfl)
theorem dX0_settled_17 : decode cX0_settled 17 = .ok (.if_icmp .ge 59, 3) := dk_162 0 59 (dk_at dksX0_settled_0 17 rfl rfl)
theorem dX0_settled_20 : decode cX0_settled 20 = .ok (.iload_n 1, 1) := dk_27 (dk_at dksX0_settled_0 20 rfl rfl)
theorem dX0_settled_21 : decode cX0_settled 21 = .ok (.aload_n 0, 1) := dk_42 (dk_at dksX0_settled_0 21 rfl rfl)
theorem dX0_settled_22 : decode cX0_settled 22 = .ok (.getfield 55, 3) := dk_180 0 55 (dk_at dksX0_settled_1 0 rfl rfl)
theorem dX0_settled_25 : decode cX0_settled 25 = .ok (.getfield 211, 3) := dk_180 0 211 (dk_at dksX0_settled_1 3 rfl rfl)
theorem dX0_settled_28 : decode cX0_settled 28 = .ok (.iload_n 2, 1) := dk_28 (dk_at dksX0_settled_1 6 rfl rfl)
theorem dX0_settled_29 : decode cX0_settled 29 = .ok (.invokevirtual 316, 3) := dk_182 1 60 (dk_at dksX0_settled_1 7 rfl rfl)
theorem dX0_settled_32 : decode cX0_settled 32 = .ok (.ifCond .ne 35, 3) := dk_154 0 35 (dk_at dksX0_settled_1 10 rfl rfl)
theorem dX0_settled_35 : decode cX0_settled 35 = .ok (.aload_n 0, 1) := dk_42 (dk_at dksX0_settled_1 13 rfl rfl)
theorem dX0_settled_36 : decode cX0_settled 36 = .ok (.getfield 55, 3) := dk_180 0 55 (dk_at dksX0_settled_1 14 rfl rfl)
theorem dX0_settled_39 : decode cX0_settled 39 = .ok (.getfield 211, 3) := dk_180 0 211 (dk_at dksX0_settled_1 17 rfl rfl)
theorem dX0_settled_42 : decode cX0_settled 42 = .ok (.aload_n 0, 1) := dk_42 (dk_at dksX0_settled_1 20 rfl rfl)
theorem dX0_settled_43 : decode cX0_settled 43 = .ok (.invokevirtual 165, 3) := dk_182 0 165 (dk_at dksX0_settled_1 21 rfl rfl)
theorem dX0_settled_46 : decode cX0_settled 46 = .ok (.iload_n 2, 1) := dk_28 (dk_at dksX0_settled_2 0 rfl rfl)
theorem dX0_settled_47 : decode cX0_settled 47 = .ok (.aload_n 0, 1) := dk_42 (dk_at dksX0_settled_2 1 rfl rfl)
theorem dX0_settled_48 : decode cX0_settled 48 = .ok (.getfield 55, 3) := dk_180 0 55 (dk_at dksX0_settled_2 2 rfl rfl)
theorem dX0_settled_51 : decode cX0_settled 51 = .ok (.getfield 211, 3) := dk_180 0 211 (dk_at dksX0_settled_2 5 rfl rfl)
theorem dX0_settled_54 : decode cX0_settled 54 = .ok (.invokevirtual 338, 3) := dk_182 1 82 (dk_at dksX0_settled_2 8 rfl rfl)
theorem dX0_settled_57 : decode cX0_settled 57 = .ok (.invokevirtual 355, 3) := dk_182 1 99 (dk_at dksX0_settled_2 11 rfl rfl)
theorem dX0_settled_60 : decode cX0_settled 60 = .ok (.ifCond .lt 7, 3) := dk_155 0 7 (dk_at dksX0_settled_2 14 rfl rfl)
theorem dX0_settled_63 : decode cX0_settled 63 = .ok (.iconst 1, 1) := dk_4 (dk_at dksX0_settled_2 17 rfl rfl)
theorem dX0_settled_64 : decode cX0_settled 64 = .ok (.goto 4, 3) := dk_167 0 4 (dk_at dksX0_settled_2 18 rfl rfl)
theorem dX0_settled_67 : decode cX0_settled 67 = .ok (.iconst 0, 1) := dk_3 (dk_at dksX0_settled_2 21 rfl rfl)
theorem dX0_settled_68 : decode cX0_settled 68 = .ok (.iadd, 1) := dk_96 (dk_at dksX0_settled_2 22 rfl rfl)
theorem dX0_settled_69 : decode cX0_settled 69 = .ok (.istore_n 1, 1) := dk_60 (dk_at dksX0_settled_2 23 rfl rfl)
theorem dX0_settled_70 : decode cX0_settled 70 = .ok (.iinc 2 1, 3) := dk_132 2 1 (dk_at dksX0_settled_3 0 rfl rfl)
theorem dX0_settled_73 : decode cX0_settled 73 = .ok (.goto (-64), 3) := dk_167 255 192 (dk_at dksX0_settled_3 3 rfl rfl)
theorem dX0_settled_76 : decode cX0_settled 76 = .ok (.iload_n 1, 1) := dk_27 (dk_at dksX0_settled_3 6 rfl rfl)
theorem dX0_settled_77 : decode cX0_settled 77 = .ok (.ireturn, 1) := dk_172 (dk_at dksX0_settled_3 7 rfl rfl)
abbrev cX0_bench : ByteArray := prog_1_method_71_code
def yX0_bench : MethodName := ⟨RX0, "bench", "()I"⟩
def dkwX0_bench_0 : List UInt8 := [42, 3, 181, 0, 87, 42, 42, 180, 0, 55, 180, 0, 211, 182, 1, 82, 182, 1, 172, 172]
abbrev dktX0_bench_0 : List UInt8 := dkwX0_bench_0 ++ []
theorem dksX0_bench_0 : cX0_bench.data.toList.drop 0 = dktX0_bench_0 := by decide +kernel
theorem dX0_bench_0 : decode cX0_bench 0 = .ok (.aload_n 0, 1) := dk_42 (dk_at dksX0_bench_0 0 rfl rfl)
theorem dX0_bench_1 : decode cX0_bench 1 = .ok (.iconst 0, 1) := dk_3 (dk_at dksX0_bench_0 1 rfl rfl)
theorem dX0_bench_2 : decode cX0_bench 2 = .ok (.putfield 87, 3) := dk_181 0 87 (dk_at dksX0_bench_0 2 rfl rfl)
theorem dX0_bench_5 : decode cX0_bench 5 = .ok (.aload_n 0, 1) := dk_42 (dk_at dksX0_bench_0 5 rfl rfl)
theorem dX0_bench_6 : decode cX0_bench 6 = .ok (.aload_n 0, 1) := dk_42 (dk_at dksX0_bench_0 6 rfl rfl)
theorem dX0_bench_7 : decode cX0_bench 7 = .ok (.getfield 55, 3) := dk_180 0 55 (dk_at dksX0_bench_0 7 rfl rfl)
theorem dX0_bench_10 : decode cX0_bench 10 = .ok (.getfield 211, 3) := dk_180 0 211 (dk_at dksX0_bench_0 10 rfl rfl)
theorem dX0_bench_13 : decode cX0_bench 13 = .ok (.invokevirtual 338, 3) := dk_182 1 82 (dk_at dksX0_bench_0 13 rfl rfl)
theorem dX0_bench_16 : decode cX0_bench 16 = .ok (.invokevirtual 428, 3) := dk_182 1 172 (dk_at dksX0_bench_0 16 rfl rfl)
theorem dX0_bench_19 : decode cX0_bench 19 = .ok (.ireturn, 1) := dk_172 (dk_at dksX0_bench_0 19 rfl rfl)
abbrev cX0_honestMany : ByteArray := prog_1_method_70_code
def yX0_honestMany : MethodName := ⟨RX0, "honestMany", "(I)I"⟩
def dkwX0_honestMany_4 : List UInt8 := [167, 0, 4, 3, 96, 61, 132, 3, 1, 167, 255, 160, 28, 172]
abbrev dktX0_honestMany_4 : List UInt8 := dkwX0_honestMany_4 ++ []
def dkwX0_honestMany_3 : List UInt8 := [153, 0, 7, 4, 167, 0, 4, 3, 54, 4, 132, 5, 1, 167, 255, 206, 28, 21, 4, 153, 0, 7, 4]
abbrev dktX0_honestMany_3 : List UInt8 := dkwX0_honestMany_3 ++ dktX0_honestMany_4
def dkwX0_honestMany_2 : List UInt8 := [153, 0, 39, 42, 180, 0, 55, 180, 0, 211, 42, 182, 0, 165, 21, 5, 29, 27, 182, 1, 92, 4, 126]
abbrev dktX0_honestMany_2 : List UInt8 := dkwX0_honestMany_2 ++ dktX0_honestMany_3
def dkwX0_honestMany_1 : List UInt8 := [182, 1, 18, 54, 4, 3, 54, 5, 21, 5, 42, 182, 0, 165, 180, 0, 180, 162, 0, 44, 21, 4]
abbrev dktX0_honestMany_1 : List UInt8 := dkwX0_honestMany_1 ++ dktX0_honestMany_2
def dkwX0_honestMany_0 : List UInt8 := [3, 61, 3, 62, 29, 42, 182, 0, 165, 180, 0, 168, 162, 0, 91, 42, 182, 0, 165, 180, 1, 14, 29]
abbrev dktX0_honestMany_0 : List UInt8 := dkwX0_honestMany_0 ++ dktX0_honestMany_1
theorem dksX0_honestMany_0 : cX0_honestMany.data.toList.drop 0 = dktX0_honestMany_0 := by decide +kernel
theorem dksX0_honestMany_1 : cX0_honestMany.data.toList.drop 23 = dktX0_honestMany_1 := dk_seg dksX0_honestMany_0 23 rfl rfl
theorem dksX0_honestMany_2 : cX0_honestMany.data.toList.drop 45 = dktX0_honestMany_2 := dk_seg dksX0_honestMany_1 22 rfl rfl
theorem dksX0_honestMany_3 : cX0_honestMany.data.toList.drop 68 = dktX0_honestMany_3 := dk_seg dksX0_honestMany_2 23 rfl rfl
theorem dksX0_honestMany_4 : cX0_honestMany.data.toList.drop 91 = dktX0_honestMany_4 := dk_seg dksX0_honestMany_3 23 rfl rfl
theorem dX0_honestMany_0 : decode cX0_honestMany 0 = .ok (.iconst 0, 1) := dk_3 (dk_at dksX0_honestMany_0 0 rfl rfl)
theorem dX0_honestMany_1 : decode cX0_honestMany 1 = .ok (.istore_n 2, 1) := dk_61 (dk_at dksX0_honestMany_0 1 rfl rfl)
theorem dX0_honestMany_2 : decode cX0_honestMany 2 = .ok (.iconst 0, 1) := dk_3 (dk_at dksX0_honestMany_0 2 rfl rfl)
theorem dX0_honestMany_3 : decode cX0_honestMany 3 = .ok (.istore_n 3, 1) := dk_62 (dk_at dksX0_honestMany_0 3 rfl rfl)
theorem dX0_honestMany_4 : decode cX0_honestMany 4 = .ok (.iload_n 3, 1) := dk_29 (dk_at dksX0_honestMany_0 4 rfl rfl)
theorem dX0_honestMany_5 : decode cX0_honestMany 5 = .ok (.aload_n 0, 1) := dk_42 (dk_at dksX0_honestMany_0 5 rfl rfl)
theorem dX0_honestMany_6 : decode cX0_honestMany 6 = .ok (.invokevirtual 165, 3) := dk_182 0 165 (dk_at dksX0_honestMany_0 6 rfl rfl)
theorem dX0_honestMany_9 : decode cX0_honestMany 9 = .ok (.getfield 168, 3) := dk_180 0 168 (dk_at dksX0_honestMany_0 9 rfl rfl)
theorem dX0_honestMany_12 : decode cX0_honestMany 12 = .ok (.if_icmp .ge 91, 3) := dk_162 0 91 (dk_at dksX0_honestMany_0 12 rfl rfl)
theorem dX0_honestMany_15 : decode cX0_honestMany 15 = .ok (.aload_n 0, 1) := dk_42 (dk_at dksX0_honestMany_0 15 rfl rfl)
theorem dX0_honestMany_16 : decode cX0_honestMany 16 = .ok (.invokevirtual 165, 3) := dk_182 0 165 (dk_at dksX0_honestMany_0 16 rfl rfl)
theorem dX0_honestMany_19 : decode cX0_honestMany 19 = .ok (.getfield 270, 3) := dk_180 1 14 (dk_at dksX0_honestMany_0 19 rfl rfl)
theorem dX0_honestMany_22 : decode cX0_honestMany 22 = .ok (.iload_n 3, 1) := dk_29 (dk_at dksX0_honestMany_0 22 rfl rfl)
theorem dX0_honestMany_23 : decode cX0_honestMany 23 = .ok (.invokevirtual 274, 3) := dk_182 1 18 (dk_at dksX0_honestMany_1 0 rfl rfl)
theorem dX0_honestMany_26 : decode cX0_honestMany 26 = .ok (.istore 4, 2) := dk_54 4 (dk_at dksX0_honestMany_1 3 rfl rfl)
theorem dX0_honestMany_28 : decode cX0_honestMany 28 = .ok (.iconst 0, 1) := dk_3 (dk_at dksX0_honestMany_1 5 rfl rfl)
theorem dX0_honestMany_29 : decode cX0_honestMany 29 = .ok (.istore 5, 2) := dk_54 5 (dk_at dksX0_honestMany_1 6 rfl rfl)
theorem dX0_honestMany_31 : decode cX0_honestMany 31 = .ok (.iload 5, 2) := dk_21 5 (dk_at dksX0_honestMany_1 8 rfl rfl)
theorem dX0_honestMany_33 : decode cX0_honestMany 33 = .ok (.aload_n 0, 1) := dk_42 (dk_at dksX0_honestMany_1 10 rfl rfl)
theorem dX0_honestMany_34 : decode cX0_honestMany 34 = .ok (.invokevirtual 165, 3) := dk_182 0 165 (dk_at dksX0_honestMany_1 11 rfl rfl)
theorem dX0_honestMany_37 : decode cX0_honestMany 37 = .ok (.getfield 180, 3) := dk_180 0 180 (dk_at dksX0_honestMany_1 14 rfl rfl)
theorem dX0_honestMany_40 : decode cX0_honestMany 40 = .ok (.if_icmp .ge 44, 3) := dk_162 0 44 (dk_at dksX0_honestMany_1 17 rfl rfl)
theorem dX0_honestMany_43 : decode cX0_honestMany 43 = .ok (.iload 4, 2) := dk_21 4 (dk_at dksX0_honestMany_1 20 rfl rfl)
theorem dX0_honestMany_45 : decode cX0_honestMany 45 = .ok (.ifCond .eq 39, 3) := dk_153 0 39 (dk_at dksX0_honestMany_2 0 rfl rfl)
theorem dX0_honestMany_48 : decode cX0_honestMany 48 = .ok (.aload_n 0, 1) := dk_42 (dk_at dksX0_honestMany_2 3 rfl rfl)
theorem dX0_honestMany_49 : decode cX0_honestMany 49 = .ok (.getfield 55, 3) := dk_180 0 55 (dk_at dksX0_honestMany_2 4 rfl rfl)
theorem dX0_honestMany_52 : decode cX0_honestMany 52 = .ok (.getfield 211, 3) := dk_180 0 211 (dk_at dksX0_honestMany_2 7 rfl rfl)
theorem dX0_honestMany_55 : decode cX0_honestMany 55 = .ok (.aload_n 0, 1) := dk_42 (dk_at dksX0_honestMany_2 10 rfl rfl)
theorem dX0_honestMany_56 : decode cX0_honestMany 56 = .ok (.invokevirtual 165, 3) := dk_182 0 165 (dk_at dksX0_honestMany_2 11 rfl rfl)
theorem dX0_honestMany_59 : decode cX0_honestMany 59 = .ok (.iload 5, 2) := dk_21 5 (dk_at dksX0_honestMany_2 14 rfl rfl)
theorem dX0_honestMany_61 : decode cX0_honestMany 61 = .ok (.iload_n 3, 1) := dk_29 (dk_at dksX0_honestMany_2 16 rfl rfl)
theorem dX0_honestMany_62 : decode cX0_honestMany 62 = .ok (.iload_n 1, 1) := dk_27 (dk_at dksX0_honestMany_2 17 rfl rfl)
theorem dX0_honestMany_63 : decode cX0_honestMany 63 = .ok (.invokevirtual 348, 3) := dk_182 1 92 (dk_at dksX0_honestMany_2 18 rfl rfl)
theorem dX0_honestMany_66 : decode cX0_honestMany 66 = .ok (.iconst 1, 1) := dk_4 (dk_at dksX0_honestMany_2 21 rfl rfl)
theorem dX0_honestMany_67 : decode cX0_honestMany 67 = .ok (.iand, 1) := dk_126 (dk_at dksX0_honestMany_2 22 rfl rfl)
theorem dX0_honestMany_68 : decode cX0_honestMany 68 = .ok (.ifCond .eq 7, 3) := dk_153 0 7 (dk_at dksX0_honestMany_3 0 rfl rfl)
theorem dX0_honestMany_71 : decode cX0_honestMany 71 = .ok (.iconst 1, 1) := dk_4 (dk_at dksX0_honestMany_3 3 rfl rfl)
theorem dX0_honestMany_72 : decode cX0_honestMany 72 = .ok (.goto 4, 3) := dk_167 0 4 (dk_at dksX0_honestMany_3 4 rfl rfl)
theorem dX0_honestMany_75 : decode cX0_honestMany 75 = .ok (.iconst 0, 1) := dk_3 (dk_at dksX0_honestMany_3 7 rfl rfl)
theorem dX0_honestMany_76 : decode cX0_honestMany 76 = .ok (.istore 4, 2) := dk_54 4 (dk_at dksX0_honestMany_3 8 rfl rfl)
theorem dX0_honestMany_78 : decode cX0_honestMany 78 = .ok (.iinc 5 1, 3) := dk_132 5 1 (dk_at dksX0_honestMany_3 10 rfl rfl)
theorem dX0_honestMany_81 : decode cX0_honestMany 81 = .ok (.goto (-50), 3) := dk_167 255 206 (dk_at dksX0_honestMany_3 13 rfl rfl)
theorem dX0_honestMany_84 : decode cX0_honestMany 84 = .ok (.iload_n 2, 1) := dk_28 (dk_at dksX0_honestMany_3 16 rfl rfl)
theorem dX0_honestMany_85 : decode cX0_honestMany 85 = .ok (.iload 4, 2) := dk_21 4 (dk_at dksX0_honestMany_3 17 rfl rfl)
theorem dX0_honestMany_87 : decode cX0_honestMany 87 = .ok (.ifCond .eq 7, 3) := dk_153 0 7 (dk_at dksX0_honestMany_3 19 rfl rfl)
theorem dX0_honestMany_90 : decode cX0_honestMany 90 = .ok (.iconst 1, 1) := dk_4 (dk_at dksX0_honestMany_3 22 rfl rfl)
theorem dX0_honestMany_91 : decode cX0_honestMany 91 = .ok (.goto 4, 3) := dk_167 0 4 (dk_at dksX0_honestMany_4 0 rfl rfl)
theorem dX0_honestMany_94 : decode cX0_honestMany 94 = .ok (.iconst 0, 1) := dk_3 (dk_at dksX0_honestMany_4 3 rfl rfl)
theorem dX0_honestMany_95 : decode cX0_honestMany 95 = .ok (.iadd, 1) := dk_96 (dk_at dksX0_honestMany_4 4 rfl rfl)
theorem dX0_honestMany_96 : decode cX0_honestMany 96 = .ok (.istore_n 2, 1) := dk_61 (dk_at dksX0_honestMany_4 5 rfl rfl)
theorem dX0_honestMany_97 : decode cX0_honestMany 97 = .ok (.iinc 3 1, 3) := dk_132 3 1 (dk_at dksX0_honestMany_4 6 rfl rfl)
theorem dX0_honestMany_100 : decode cX0_honestMany 100 = .ok (.goto (-96), 3) := dk_167 255 160 (dk_at dksX0_honestMany_4 9 rfl rfl)
theorem dX0_honestMany_103 : decode cX0_honestMany 103 = .ok (.iload_n 2, 1) := dk_28 (dk_at dksX0_honestMany_4 12 rfl rfl)
theorem dX0_honestMany_104 : decode cX0_honestMany 104 = .ok (.ireturn, 1) := dk_172 (dk_at dksX0_honestMany_4 13 rfl rfl)
abbrev cX0_clash : ByteArray := prog_1_method_72_code
def yX0_clash : MethodName := ⟨RX0, "clash", "()I"⟩
def dkwX0_clash_2 : List UInt8 := [172]
abbrev dktX0_clash_2 : List UInt8 := dkwX0_clash_2 ++ []
def dkwX0_clash_1 : List UInt8 := [120, 4, 100, 182, 1, 172, 154, 0, 5, 27, 172, 132, 1, 1, 167, 255, 225, 42, 16, 6, 181, 0, 87, 2]
abbrev dktX0_clash_1 : List UInt8 := dkwX0_clash_1 ++ dktX0_clash_2
def dkwX0_clash_0 : List UInt8 := [42, 3, 181, 0, 87, 3, 60, 27, 42, 180, 0, 55, 180, 0, 211, 180, 0, 252, 162, 0, 23, 42, 5, 27]
abbrev dktX0_clash_0 : List UInt8 := dkwX0_clash_0 ++ dktX0_clash_1
theorem dksX0_clash_0 : cX0_clash.data.toList.drop 0 = dktX0_clash_0 := by decide +kernel
theorem dksX0_clash_1 : cX0_clash.data.toList.drop 24 = dktX0_clash_1 := dk_seg dksX0_clash_0 24 rfl rfl
theorem dksX0_clash_2 : cX0_clash.data.toList.drop 48 = dktX0_clash_2 := dk_seg dksX0_clash_1 24 rfl rfl
theorem dX0_clash_0 : decode cX0_clash 0 = .ok (.aload_n 0, 1) := dk_42 (dk_at dksX0_clash_0 0 rfl rfl)
theorem dX0_clash_1 : decode cX0_clash 1 = .ok (.iconst 0, 1) := dk_3 (dk_at dksX0_clash_0 1 rfl rfl)
theorem dX0_clash_2 : decode cX0_clash 2 = .ok (.putfield 87, 3) := dk_181 0 87 (dk_at dksX0_clash_0 2 rfl rfl)
theorem dX0_clash_5 : decode cX0_clash 5 = .ok (.iconst 0, 1) := dk_3 (dk_at dksX0_clash_0 5 rfl rfl)
theorem dX0_clash_6 : decode cX0_clash 6 = .ok (.istore_n 1, 1) := dk_60 (dk_at dksX0_clash_0 6 rfl rfl)
theorem dX0_clash_7 : decode cX0_clash 7 = .ok (.iload_n 1, 1) := dk_27 (dk_at dksX0_clash_0 7 rfl rfl)
theorem dX0_clash_8 : decode cX0_clash 8 = .ok (.aload_n 0, 1) := dk_42 (dk_at dksX0_clash_0 8 rfl rfl)
theorem dX0_clash_9 : decode cX0_clash 9 = .ok (.getfield 55, 3) := dk_180 0 55 (dk_at dksX0_clash_0 9 rfl rfl)
theorem dX0_clash_12 : decode cX0_clash 12 = .ok (.getfield 211, 3) := dk_180 0 211 (dk_at dksX0_clash_0 12 rfl rfl)
theorem dX0_clash_15 : decode cX0_clash 15 = .ok (.getfield 252, 3) := dk_180 0 252 (dk_at dksX0_clash_0 15 rfl rfl)
theorem dX0_clash_18 : decode cX0_clash 18 = .ok (.if_icmp .ge 23, 3) := dk_162 0 23 (dk_at dksX0_clash_0 18 rfl rfl)
theorem dX0_clash_21 : decode cX0_clash 21 = .ok (.aload_n 0, 1) := dk_42 (dk_at dksX0_clash_0 21 rfl rfl)
theorem dX0_clash_22 : decode cX0_clash 22 = .ok (.iconst 2, 1) := dk_5 (dk_at dksX0_clash_0 22 rfl rfl)
theorem dX0_clash_23 : decode cX0_clash 23 = .ok (.iload_n 1, 1) := dk_27 (dk_at dksX0_clash_0 23 rfl rfl)
theorem dX0_clash_24 : decode cX0_clash 24 = .ok (.ishl, 1) := dk_120 (dk_at dksX0_clash_1 0 rfl rfl)
theorem dX0_clash_25 : decode cX0_clash 25 = .ok (.iconst 1, 1) := dk_4 (dk_at dksX0_clash_1 1 rfl rfl)
theorem dX0_clash_26 : decode cX0_clash 26 = .ok (.isub, 1) := dk_100 (dk_at dksX0_clash_1 2 rfl rfl)
theorem dX0_clash_27 : decode cX0_clash 27 = .ok (.invokevirtual 428, 3) := dk_182 1 172 (dk_at dksX0_clash_1 3 rfl rfl)
theorem dX0_clash_30 : decode cX0_clash 30 = .ok (.ifCond .ne 5, 3) := dk_154 0 5 (dk_at dksX0_clash_1 6 rfl rfl)
theorem dX0_clash_33 : decode cX0_clash 33 = .ok (.iload_n 1, 1) := dk_27 (dk_at dksX0_clash_1 9 rfl rfl)
theorem dX0_clash_34 : decode cX0_clash 34 = .ok (.ireturn, 1) := dk_172 (dk_at dksX0_clash_1 10 rfl rfl)
theorem dX0_clash_35 : decode cX0_clash 35 = .ok (.iinc 1 1, 3) := dk_132 1 1 (dk_at dksX0_clash_1 11 rfl rfl)
theorem dX0_clash_38 : decode cX0_clash 38 = .ok (.goto (-31), 3) := dk_167 255 225 (dk_at dksX0_clash_1 14 rfl rfl)
theorem dX0_clash_41 : decode cX0_clash 41 = .ok (.aload_n 0, 1) := dk_42 (dk_at dksX0_clash_1 17 rfl rfl)
theorem dX0_clash_42 : decode cX0_clash 42 = .ok (.bipush 6, 2) := dk_16 6 (dk_at dksX0_clash_1 18 rfl rfl)
theorem dX0_clash_44 : decode cX0_clash 44 = .ok (.putfield 87, 3) := dk_181 0 87 (dk_at dksX0_clash_1 20 rfl rfl)
theorem dX0_clash_47 : decode cX0_clash 47 = .ok (.iconst (-1), 1) := dk_2 (dk_at dksX0_clash_1 23 rfl rfl)
theorem dX0_clash_48 : decode cX0_clash 48 = .ok (.ireturn, 1) := dk_172 (dk_at dksX0_clash_2 0 rfl rfl)
abbrev cX0_liars : ByteArray := prog_1_method_73_code
def yX0_liars : MethodName := ⟨RX0, "liars", "()I"⟩
def dkwX0_liars_7 : List UInt8 := [172]
abbrev dktX0_liars_7 : List UInt8 := dkwX0_liars_7 ++ []
def dkwX0_liars_6 : List UInt8 := [167, 255, 170, 27, 29, 153, 0, 7, 3, 167, 0, 6, 4, 28, 120, 128, 60, 132, 2, 1, 167, 255, 134, 27]
abbrev dktX0_liars_6 : List UInt8 := dkwX0_liars_6 ++ dktX0_liars_7
def dkwX0_liars_5 : List UInt8 := [180, 0, 211, 182, 1, 82, 182, 1, 92, 4, 126, 153, 0, 7, 4, 167, 0, 4, 3, 62, 132, 4, 1]
abbrev dktX0_liars_5 : List UInt8 := dkwX0_liars_5 ++ dktX0_liars_6
def dkwX0_liars_4 : List UInt8 := [182, 1, 88, 153, 0, 39, 42, 180, 0, 55, 180, 0, 211, 42, 182, 0, 165, 28, 21, 4, 42, 180, 0, 55]
abbrev dktX0_liars_4 : List UInt8 := dkwX0_liars_4 ++ dktX0_liars_5
def dkwX0_liars_3 : List UInt8 := [42, 180, 0, 55, 180, 0, 211, 42, 182, 0, 165, 21, 4, 42, 180, 0, 55, 180, 0, 211, 182, 1, 82]
abbrev dktX0_liars_3 : List UInt8 := dkwX0_liars_3 ++ dktX0_liars_4
def dkwX0_liars_2 : List UInt8 := [162, 0, 117, 3, 62, 3, 54, 4, 21, 4, 42, 182, 0, 165, 180, 0, 168, 162, 0, 80, 29, 154, 0, 64]
abbrev dktX0_liars_2 : List UInt8 := dkwX0_liars_2 ++ dktX0_liars_3
def dkwX0_liars_1 : List UInt8 := [181, 0, 87, 42, 180, 0, 87, 158, 0, 5, 2, 172, 3, 60, 3, 61, 28, 42, 182, 0, 165, 180, 0, 180]
abbrev dktX0_liars_1 : List UInt8 := dkwX0_liars_1 ++ dktX0_liars_2
def dkwX0_liars_0 : List UInt8 := [42, 42, 42, 180, 0, 55, 180, 0, 211, 182, 1, 82, 182, 1, 85, 154, 0, 8, 16, 6, 167, 0, 4, 3]
abbrev dktX0_liars_0 : List UInt8 := dkwX0_liars_0 ++ dktX0_liars_1
theorem dksX0_liars_0 : cX0_liars.data.toList.drop 0 = dktX0_liars_0 := by decide +kernel
theorem dksX0_liars_1 : cX0_liars.data.toList.drop 24 = dktX0_liars_1 := dk_seg dksX0_liars_0 24 rfl rfl
theorem dksX0_liars_2 : cX0_liars.data.toList.drop 48 = dktX0_liars_2 := dk_seg dksX0_liars_1 24 rfl rfl
theorem dksX0_liars_3 : cX0_liars.data.toList.drop 72 = dktX0_liars_3 := dk_seg dksX0_liars_2 24 rfl rfl
theorem dksX0_liars_4 : cX0_liars.data.toList.drop 95 = dktX0_liars_4 := dk_seg dksX0_liars_3 23 rfl rfl
theorem dksX0_liars_5 : cX0_liars.data.toList.drop 119 = dktX0_liars_5 := dk_seg dksX0_liars_4 24 rfl rfl
theorem dksX0_liars_6 : cX0_liars.data.toList.drop 142 = dktX0_liars_6 := dk_seg dksX0_liars_5 23 rfl rfl
theorem dksX0_liars_7 : cX0_liars.data.toList.drop 166 = dktX0_liars_7 := dk_seg dksX0_liars_6 24 rfl rfl
theorem dX0_liars_0 : decode cX0_liars 0 = .ok (.aload_n 0, 1) := dk_42 (dk_at dksX0_liars_0 0 rfl rfl)
theorem dX0_liars_1 : decode cX0_liars 1 = .ok (.aload_n 0, 1) := dk_42 (dk_at dksX0_liars_0 1 rfl rfl)
theorem dX0_liars_2 : decode cX0_liars 2 = .ok (.aload_n 0, 1) := dk_42 (dk_at dksX0_liars_0 2 rfl rfl)
theorem dX0_liars_3 : decode cX0_liars 3 = .ok (.getfield 55, 3) := dk_180 0 55 (dk_at dksX0_liars_0 3 rfl rfl)
theorem dX0_liars_6 : decode cX0_liars 6 = .ok (.getfield 211, 3) := dk_180 0 211 (dk_at dksX0_liars_0 6 rfl rfl)
theorem dX0_liars_9 : decode cX0_liars 9 = .ok (.invokevirtual 338, 3) := dk_182 1 82 (dk_at dksX0_liars_0 9 rfl rfl)
theorem dX0_liars_12 : decode cX0_liars 12 = .ok (.invokevirtual 341, 3) := dk_182 1 85 (dk_at dksX0_liars_0 12 rfl rfl)
theorem dX0_liars_15 : decode cX0_liars 15 = .ok (.ifCond .ne 8, 3) := dk_154 0 8 (dk_at dksX0_liars_0 15 rfl rfl)
theorem dX0_liars_18 : decode cX0_liars 18 = .ok (.bipush 6, 2) := dk_16 6 (dk_at dksX0_liars_0 18 rfl rfl)
theorem dX0_liars_20 : decode cX0_liars 20 = .ok (.goto 4, 3) := dk_167 0 4 (dk_at dksX0_liars_0 20 rfl rfl)
theorem dX0_liars_23 : decode cX0_liars 23 = .ok (.iconst 0, 1) := dk_3 (dk_at dksX0_liars_0 23 rfl rfl)
theorem dX0_liars_24 : decode cX0_liars 24 = .ok (.putfield 87, 3) := dk_181 0 87 (dk_at dksX0_liars_1 0 rfl rfl)
theorem dX0_liars_27 : decode cX0_liars 27 = .ok (.aload_n 0, 1) := dk_42 (dk_at dksX0_liars_1 3 rfl rfl)
theorem dX0_liars_28 : decode cX0_liars 28 = .ok (.getfield 87, 3) := dk_180 0 87 (dk_at dksX0_liars_1 4 rfl rfl)
theorem dX0_liars_31 : decode cX0_liars 31 = .ok (.ifCond .le 5, 3) := dk_158 0 5 (dk_at dksX0_liars_1 7 rfl rfl)
theorem dX0_liars_34 : decode cX0_liars 34 = .ok (.iconst (-1), 1) := dk_2 (dk_at dksX0_liars_1 10 rfl rfl)
theorem dX0_liars_35 : decode cX0_liars 35 = .ok (.ireturn, 1) := dk_172 (dk_at dksX0_liars_1 11 rfl rfl)
theorem dX0_liars_36 : decode cX0_liars 36 = .ok (.iconst 0, 1) := dk_3 (dk_at dksX0_liars_1 12 rfl rfl)
theorem dX0_liars_37 : decode cX0_liars 37 = .ok (.istore_n 1, 1) := dk_60 (dk_at dksX0_liars_1 13 rfl rfl)
theorem dX0_liars_38 : decode cX0_liars 38 = .ok (.iconst 0, 1) := dk_3 (dk_at dksX0_liars_1 14 rfl rfl)
theorem dX0_liars_39 : decode cX0_liars 39 = .ok (.istore_n 2, 1) := dk_61 (dk_at dksX0_liars_1 15 rfl rfl)
theorem dX0_liars_40 : decode cX0_liars 40 = .ok (.iload_n 2, 1) := dk_28 (dk_at dksX0_liars_1 16 rfl rfl)
theorem dX0_liars_41 : decode cX0_liars 41 = .ok (.aload_n 0, 1) := dk_42 (dk_at dksX0_liars_1 17 rfl rfl)
theorem dX0_liars_42 : decode cX0_liars 42 = .ok (.invokevirtual 165, 3) := dk_182 0 165 (dk_at dksX0_liars_1 18 rfl rfl)
theorem dX0_liars_45 : decode cX0_liars 45 = .ok (.getfield 180, 3) := dk_180 0 180 (dk_at dksX0_liars_1 21 rfl rfl)
theorem dX0_liars_48 : decode cX0_liars 48 = .ok (.if_icmp .ge 117, 3) := dk_162 0 117 (dk_at dksX0_liars_2 0 rfl rfl)
theorem dX0_liars_51 : decode cX0_liars 51 = .ok (.iconst 0, 1) := dk_3 (dk_at dksX0_liars_2 3 rfl rfl)
theorem dX0_liars_52 : decode cX0_liars 52 = .ok (.istore_n 3, 1) := dk_62 (dk_at dksX0_liars_2 4 rfl rfl)
theorem dX0_liars_53 : decode cX0_liars 53 = .ok (.iconst 0, 1) := dk_3 (dk_at dksX0_liars_2 5 rfl rfl)
theorem dX0_liars_54 : decode cX0_liars 54 = .ok (.istore 4, 2) := dk_54 4 (dk_at dksX0_liars_2 6 rfl rfl)
theorem dX0_liars_56 : decode cX0_liars 56 = .ok (.iload 4, 2) := dk_21 4 (dk_at dksX0_liars_2 8 rfl rfl)
theorem dX0_liars_58 : decode cX0_liars 58 = .ok (.aload_n 0, 1) := dk_42 (dk_at dksX0_liars_2 10 rfl rfl)
theorem dX0_liars_59 : decode cX0_liars 59 = .ok (.invokevirtual 165, 3) := dk_182 0 165 (dk_at dksX0_liars_2 11 rfl rfl)
theorem dX0_liars_62 : decode cX0_liars 62 = .ok (.getfield 168, 3) := dk_180 0 168 (dk_at dksX0_liars_2 14 rfl rfl)
theorem dX0_liars_65 : decode cX0_liars 65 = .ok (.if_icmp .ge 80, 3) := dk_162 0 80 (dk_at dksX0_liars_2 17 rfl rfl)
theorem dX0_liars_68 : decode cX0_liars 68 = .ok (.iload_n 3, 1) := dk_29 (dk_at dksX0_liars_2 20 rfl rfl)
theorem dX0_liars_69 : decode cX0_liars 69 = .ok (.ifCond .ne 64, 3) := dk_154 0 64 (dk_at dksX0_liars_2 21 rfl rfl)
theorem dX0_liars_72 : decode cX0_liars 72 = .ok (.aload_n 0, 1) := dk_42 (dk_at dksX0_liars_3 0 rfl rfl)
theorem dX0_liars_73 : decode cX0_liars 73 = .ok (.getfield 55, 3) := dk_180 0 55 (dk_at dksX0_liars_3 1 rfl rfl)
theorem dX0_liars_76 : decode cX0_liars 76 = .ok (.getfield 211, 3) := dk_180 0 211 (dk_at dksX0_liars_3 4 rfl rfl)
theorem dX0_liars_79 : decode cX0_liars 79 = .ok (.aload_n 0, 1) := dk_42 (dk_at dksX0_liars_3 7 rfl rfl)
theorem dX0_liars_80 : decode cX0_liars 80 = .ok (.invokevirtual 165, 3) := dk_182 0 165 (dk_at dksX0_liars_3 8 rfl rfl)
theorem dX0_liars_83 : decode cX0_liars 83 = .ok (.iload 4, 2) := dk_21 4 (dk_at dksX0_liars_3 11 rfl rfl)
theorem dX0_liars_85 : decode cX0_liars 85 = .ok (.aload_n 0, 1) := dk_42 (dk_at dksX0_liars_3 13 rfl rfl)
theorem dX0_liars_86 : decode cX0_liars 86 = .ok (.getfield 55, 3) := dk_180 0 55 (dk_at dksX0_liars_3 14 rfl rfl)
theorem dX0_liars_89 : decode cX0_liars 89 = .ok (.getfield 211, 3) := dk_180 0 211 (dk_at dksX0_liars_3 17 rfl rfl)
theorem dX0_liars_92 : decode cX0_liars 92 = .ok (.invokevirtual 338, 3) := dk_182 1 82 (dk_at dksX0_liars_3 20 rfl rfl)
theorem dX0_liars_95 : decode cX0_liars 95 = .ok (.invokevirtual 344, 3) := dk_182 1 88 (dk_at dksX0_liars_4 0 rfl rfl)
theorem dX0_liars_98 : decode cX0_liars 98 = .ok (.ifCond .eq 39, 3) := dk_153 0 39 (dk_at dksX0_liars_4 3 rfl rfl)
theorem dX0_liars_101 : decode cX0_liars 101 = .ok (.aload_n 0, 1) := dk_42 (dk_at dksX0_liars_4 6 rfl rfl)
theorem dX0_liars_102 : decode cX0_liars 102 = .ok (.getfield 55, 3) := dk_180 0 55 (dk_at dksX0_liars_4 7 rfl rfl)
theorem dX0_liars_105 : decode cX0_liars 105 = .ok (.getfield 211, 3) := dk_180 0 211 (dk_at dksX0_liars_4 10 rfl rfl)
theorem dX0_liars_108 : decode cX0_liars 108 = .ok (.aload_n 0, 1) := dk_42 (dk_at dksX0_liars_4 13 rfl rfl)
theorem dX0_liars_109 : decode cX0_liars 109 = .ok (.invokevirtual 165, 3) := dk_182 0 165 (dk_at dksX0_liars_4 14 rfl rfl)
theorem dX0_liars_112 : decode cX0_liars 112 = .ok (.iload_n 2, 1) := dk_28 (dk_at dksX0_liars_4 17 rfl rfl)
theorem dX0_liars_113 : decode cX0_liars 113 = .ok (.iload 4, 2) := dk_21 4 (dk_at dksX0_liars_4 18 rfl rfl)
theorem dX0_liars_115 : decode cX0_liars 115 = .ok (.aload_n 0, 1) := dk_42 (dk_at dksX0_liars_4 20 rfl rfl)
theorem dX0_liars_116 : decode cX0_liars 116 = .ok (.getfield 55, 3) := dk_180 0 55 (dk_at dksX0_liars_4 21 rfl rfl)
theorem dX0_liars_119 : decode cX0_liars 119 = .ok (.getfield 211, 3) := dk_180 0 211 (dk_at dksX0_liars_5 0 rfl rfl)
theorem dX0_liars_122 : decode cX0_liars 122 = .ok (.invokevirtual 338, 3) := dk_182 1 82 (dk_at dksX0_liars_5 3 rfl rfl)
theorem dX0_liars_125 : decode cX0_liars 125 = .ok (.invokevirtual 348, 3) := dk_182 1 92 (dk_at dksX0_liars_5 6 rfl rfl)
theorem dX0_liars_128 : decode cX0_liars 128 = .ok (.iconst 1, 1) := dk_4 (dk_at dksX0_liars_5 9 rfl rfl)
theorem dX0_liars_129 : decode cX0_liars 129 = .ok (.iand, 1) := dk_126 (dk_at dksX0_liars_5 10 rfl rfl)
theorem dX0_liars_130 : decode cX0_liars 130 = .ok (.ifCond .eq 7, 3) := dk_153 0 7 (dk_at dksX0_liars_5 11 rfl rfl)
theorem dX0_liars_133 : decode cX0_liars 133 = .ok (.iconst 1, 1) := dk_4 (dk_at dksX0_liars_5 14 rfl rfl)
theorem dX0_liars_134 : decode cX0_liars 134 = .ok (.goto 4, 3) := dk_167 0 4 (dk_at dksX0_liars_5 15 rfl rfl)
theorem dX0_liars_137 : decode cX0_liars 137 = .ok (.iconst 0, 1) := dk_3 (dk_at dksX0_liars_5 18 rfl rfl)
theorem dX0_liars_138 : decode cX0_liars 138 = .ok (.istore_n 3, 1) := dk_62 (dk_at dksX0_liars_5 19 rfl rfl)
theorem dX0_liars_139 : decode cX0_liars 139 = .ok (.iinc 4 1, 3) := dk_132 4 1 (dk_at dksX0_liars_5 20 rfl rfl)
theorem dX0_liars_142 : decode cX0_liars 142 = .ok (.goto (-86), 3) := dk_167 255 170 (dk_at dksX0_liars_6 0 rfl rfl)
theorem dX0_liars_145 : decode cX0_liars 145 = .ok (.iload_n 1, 1) := dk_27 (dk_at dksX0_liars_6 3 rfl rfl)
theorem dX0_liars_146 : decode cX0_liars 146 = .ok (.iload_n 3, 1) := dk_29 (dk_at dksX0_liars_6 4 rfl rfl)
theorem dX0_liars_147 : decode cX0_liars 147 = .ok (.ifCond .eq 7, 3) := dk_153 0 7 (dk_at dksX0_liars_6 5 rfl rfl)
theorem dX0_liars_150 : decode cX0_liars 150 = .ok (.iconst 0, 1) := dk_3 (dk_at dksX0_liars_6 8 rfl rfl)
theorem dX0_liars_151 : decode cX0_liars 151 = .ok (.goto 6, 3) := dk_167 0 6 (dk_at dksX0_liars_6 9 rfl rfl)
theorem dX0_liars_154 : decode cX0_liars 154 = .ok (.iconst 1, 1) := dk_4 (dk_at dksX0_liars_6 12 rfl rfl)
theorem dX0_liars_155 : decode cX0_liars 155 = .ok (.iload_n 2, 1) := dk_28 (dk_at dksX0_liars_6 13 rfl rfl)
theorem dX0_liars_156 : decode cX0_liars 156 = .ok (.ishl, 1) := dk_120 (dk_at dksX0_liars_6 14 rfl rfl)
theorem dX0_liars_157 : decode cX0_liars 157 = .ok (.ior, 1) := dk_128 (dk_at dksX0_liars_6 15 rfl rfl)
theorem dX0_liars_158 : decode cX0_liars 158 = .ok (.istore_n 1, 1) := dk_60 (dk_at dksX0_liars_6 16 rfl rfl)
theorem dX0_liars_159 : decode cX0_liars 159 = .ok (.iinc 2 1, 3) := dk_132 2 1 (dk_at dksX0_liars_6 17 rfl rfl)
theorem dX0_liars_162 : decode cX0_liars 162 = .ok (.goto (-122), 3) := dk_167 255 134 (dk_at dksX0_liars_6 20 rfl rfl)
theorem dX0_liars_165 : decode cX0_liars 165 = .ok (.iload_n 1, 1) := dk_27 (dk_at dksX0_liars_6 23 rfl rfl)
theorem dX0_liars_166 : decode cX0_liars 166 = .ok (.ireturn, 1) := dk_172 (dk_at dksX0_liars_7 0 rfl rfl)
abbrev cX0_sit : ByteArray := prog_1_method_78_code
def yX0_sit : MethodName := ⟨RX0, "sit", "(I)I"⟩
def dkwX0_sit_9 : List UInt8 := [180, 0, 80, 180, 1, 180, 172]
abbrev dktX0_sit_9 : List UInt8 := dkwX0_sit_9 ++ []
def dkwX0_sit_8 : List UInt8 := [167, 255, 211, 42, 4, 181, 1, 215, 42, 180, 0, 80, 180, 1, 180, 156, 0, 7, 5, 167, 0, 10, 42]
abbrev dktX0_sit_8 : List UInt8 := dkwX0_sit_8 ++ dktX0_sit_9
def dkwX0_sit_7 : List UInt8 := [180, 1, 192, 21, 5, 46, 154, 0, 7, 3, 167, 0, 7, 4, 21, 5, 120, 128, 79, 132, 5, 1]
abbrev dktX0_sit_7 : List UInt8 := dkwX0_sit_7 ++ dktX0_sit_8
def dkwX0_sit_6 : List UInt8 := [21, 5, 42, 182, 0, 165, 180, 0, 180, 162, 0, 39, 42, 180, 0, 84, 8, 92, 46, 42, 180, 0, 80]
abbrev dktX0_sit_6 : List UInt8 := dkwX0_sit_6 ++ dktX0_sit_7
def dkwX0_sit_5 : List UInt8 := [42, 182, 0, 165, 25, 4, 182, 1, 82, 182, 1, 78, 79, 42, 180, 0, 84, 8, 3, 79, 3, 54, 5]
abbrev dktX0_sit_5 : List UInt8 := dkwX0_sit_5 ++ dktX0_sit_6
def dkwX0_sit_4 : List UInt8 := [180, 0, 249, 79, 42, 180, 0, 84, 6, 42, 180, 0, 80, 180, 1, 186, 79, 42, 180, 0, 84, 7, 25, 4]
abbrev dktX0_sit_4 : List UInt8 := dkwX0_sit_4 ++ dktX0_sit_5
def dkwX0_sit_3 : List UInt8 := [42, 180, 0, 84, 4, 25, 4, 42, 182, 0, 165, 182, 1, 129, 79, 42, 180, 0, 84, 5, 25, 4]
abbrev dktX0_sit_3 : List UInt8 := dkwX0_sit_3 ++ dktX0_sit_4
def dkwX0_sit_2 : List UInt8 := [32, 182, 1, 211, 42, 180, 0, 80, 180, 1, 179, 58, 4, 42, 180, 0, 84, 3, 25, 4, 180, 0, 252, 79]
abbrev dktX0_sit_2 : List UInt8 := dkwX0_sit_2 ++ dktX0_sit_3
def dkwX0_sit_1 : List UInt8 := [148, 154, 0, 8, 16, 6, 167, 0, 4, 3, 181, 0, 87, 42, 180, 0, 87, 158, 0, 5, 2, 172, 42, 27]
abbrev dktX0_sit_1 : List UInt8 := dkwX0_sit_1 ++ dktX0_sit_2
def dkwX0_sit_0 : List UInt8 := [42, 182, 1, 205, 65, 42, 27, 133, 9, 20, 1, 209, 184, 0, 173, 154, 0, 7, 4, 167, 0, 15, 32, 9]
abbrev dktX0_sit_0 : List UInt8 := dkwX0_sit_0 ++ dktX0_sit_1
theorem dksX0_sit_0 : cX0_sit.data.toList.drop 0 = dktX0_sit_0 := by decide +kernel
theorem dksX0_sit_1 : cX0_sit.data.toList.drop 24 = dktX0_sit_1 := dk_seg dksX0_sit_0 24 rfl rfl
theorem dksX0_sit_2 : cX0_sit.data.toList.drop 48 = dktX0_sit_2 := dk_seg dksX0_sit_1 24 rfl rfl
theorem dksX0_sit_3 : cX0_sit.data.toList.drop 72 = dktX0_sit_3 := dk_seg dksX0_sit_2 24 rfl rfl
theorem dksX0_sit_4 : cX0_sit.data.toList.drop 94 = dktX0_sit_4 := dk_seg dksX0_sit_3 22 rfl rfl
theorem dksX0_sit_5 : cX0_sit.data.toList.drop 118 = dktX0_sit_5 := dk_seg dksX0_sit_4 24 rfl rfl
theorem dksX0_sit_6 : cX0_sit.data.toList.drop 141 = dktX0_sit_6 := dk_seg dksX0_sit_5 23 rfl rfl
theorem dksX0_sit_7 : cX0_sit.data.toList.drop 164 = dktX0_sit_7 := dk_seg dksX0_sit_6 23 rfl rfl
theorem dksX0_sit_8 : cX0_sit.data.toList.drop 186 = dktX0_sit_8 := dk_seg dksX0_sit_7 22 rfl rfl
theorem dksX0_sit_9 : cX0_sit.data.toList.drop 209 = dktX0_sit_9 := dk_seg dksX0_sit_8 23 rfl rfl
theorem dX0_sit_0 : decode cX0_sit 0 = .ok (.aload_n 0, 1) := dk_42 (dk_at dksX0_sit_0 0 rfl rfl)
theorem dX0_sit_1 : decode cX0_sit 1 = .ok (.invokevirtual 461, 3) := dk_182 1 205 (dk_at dksX0_sit_0 1 rfl rfl)
theorem dX0_sit_4 : decode cX0_sit 4 = .ok (.lstore_n 2, 1) := dk_65 (dk_at dksX0_sit_0 4 rfl rfl)
theorem dX0_sit_5 : decode cX0_sit 5 = .ok (.aload_n 0, 1) := dk_42 (dk_at dksX0_sit_0 5 rfl rfl)
theorem dX0_sit_6 : decode cX0_sit 6 = .ok (.iload_n 1, 1) := dk_27 (dk_at dksX0_sit_0 6 rfl rfl)
theorem dX0_sit_7 : decode cX0_sit 7 = .ok (.i2l, 1) := dk_133 (dk_at dksX0_sit_0 7 rfl rfl)
theorem dX0_sit_8 : decode cX0_sit 8 = .ok (.lconst 0, 1) := dk_9 (dk_at dksX0_sit_0 8 rfl rfl)
theorem dX0_sit_9 : decode cX0_sit 9 = .ok (.ldc2_w 465, 3) := dk_20 1 209 (dk_at dksX0_sit_0 9 rfl rfl)
theorem dX0_sit_12 : decode cX0_sit 12 = .ok (.invokestatic 173, 3) := dk_184 0 173 (dk_at dksX0_sit_0 12 rfl rfl)
theorem dX0_sit_15 : decode cX0_sit 15 = .ok (.ifCond .ne 7, 3) := dk_154 0 7 (dk_at dksX0_sit_0 15 rfl rfl)
theorem dX0_sit_18 : decode cX0_sit 18 = .ok (.iconst 1, 1) := dk_4 (dk_at dksX0_sit_0 18 rfl rfl)
theorem dX0_sit_19 : decode cX0_sit 19 = .ok (.goto 15, 3) := dk_167 0 15 (dk_at dksX0_sit_0 19 rfl rfl)
theorem dX0_sit_22 : decode cX0_sit 22 = .ok (.lload_n 2, 1) := dk_32 (dk_at dksX0_sit_0 22 rfl rfl)
theorem dX0_sit_23 : decode cX0_sit 23 = .ok (.lconst 0, 1) := dk_9 (dk_at dksX0_sit_0 23 rfl rfl)
theorem dX0_sit_24 : decode cX0_sit 24 = .ok (.lcmp, 1) := dk_148 (dk_at dksX0_sit_1 0 rfl rfl)
theorem dX0_sit_25 : decode cX0_sit 25 = .ok (.ifCond .ne 8, 3) := dk_154 0 8 (dk_at dksX0_sit_1 1 rfl rfl)
theorem dX0_sit_28 : decode cX0_sit 28 = .ok (.bipush 6, 2) := dk_16 6 (dk_at dksX0_sit_1 4 rfl rfl)
theorem dX0_sit_30 : decode cX0_sit 30 = .ok (.goto 4, 3) := dk_167 0 4 (dk_at dksX0_sit_1 6 rfl rfl)
theorem dX0_sit_33 : decode cX0_sit 33 = .ok (.iconst 0, 1) := dk_3 (dk_at dksX0_sit_1 9 rfl rfl)
theorem dX0_sit_34 : decode cX0_sit 34 = .ok (.putfield 87, 3) := dk_181 0 87 (dk_at dksX0_sit_1 10 rfl rfl)
theorem dX0_sit_37 : decode cX0_sit 37 = .ok (.aload_n 0, 1) := dk_42 (dk_at dksX0_sit_1 13 rfl rfl)
theorem dX0_sit_38 : decode cX0_sit 38 = .ok (.getfield 87, 3) := dk_180 0 87 (dk_at dksX0_sit_1 14 rfl rfl)
theorem dX0_sit_41 : decode cX0_sit 41 = .ok (.ifCond .le 5, 3) := dk_158 0 5 (dk_at dksX0_sit_1 17 rfl rfl)
theorem dX0_sit_44 : decode cX0_sit 44 = .ok (.iconst (-1), 1) := dk_2 (dk_at dksX0_sit_1 20 rfl rfl)
theorem dX0_sit_45 : decode cX0_sit 45 = .ok (.ireturn, 1) := dk_172 (dk_at dksX0_sit_1 21 rfl rfl)
theorem dX0_sit_46 : decode cX0_sit 46 = .ok (.aload_n 0, 1) := dk_42 (dk_at dksX0_sit_1 22 rfl rfl)
theorem dX0_sit_47 : decode cX0_sit 47 = .ok (.iload_n 1, 1) := dk_27 (dk_at dksX0_sit_1 23 rfl rfl)
theorem dX0_sit_48 : decode cX0_sit 48 = .ok (.lload_n 2, 1) := dk_32 (dk_at dksX0_sit_2 0 rfl rfl)
theorem dX0_sit_49 : decode cX0_sit 49 = .ok (.invokevirtual 467, 3) := dk_182 1 211 (dk_at dksX0_sit_2 1 rfl rfl)
theorem dX0_sit_52 : decode cX0_sit 52 = .ok (.aload_n 0, 1) := dk_42 (dk_at dksX0_sit_2 4 rfl rfl)
theorem dX0_sit_53 : decode cX0_sit 53 = .ok (.getfield 80, 3) := dk_180 0 80 (dk_at dksX0_sit_2 5 rfl rfl)
theorem dX0_sit_56 : decode cX0_sit 56 = .ok (.getfield 435, 3) := dk_180 1 179 (dk_at dksX0_sit_2 8 rfl rfl)
theorem dX0_sit_59 : decode cX0_sit 59 = .ok (.astore 4, 2) := dk_58 4 (dk_at dksX0_sit_2 11 rfl rfl)
theorem dX0_sit_61 : decode cX0_sit 61 = .ok (.aload_n 0, 1) := dk_42 (dk_at dksX0_sit_2 13 rfl rfl)
theorem dX0_sit_62 : decode cX0_sit 62 = .ok (.getfield 84, 3) := dk_180 0 84 (dk_at dksX0_sit_2 14 rfl rfl)
theorem dX0_sit_65 : decode cX0_sit 65 = .ok (.iconst 0, 1) := dk_3 (dk_at dksX0_sit_2 17 rfl rfl)
theorem dX0_sit_66 : decode cX0_sit 66 = .ok (.aload 4, 2) := dk_25 4 (dk_at dksX0_sit_2 18 rfl rfl)
theorem dX0_sit_68 : decode cX0_sit 68 = .ok (.getfield 252, 3) := dk_180 0 252 (dk_at dksX0_sit_2 20 rfl rfl)
theorem dX0_sit_71 : decode cX0_sit 71 = .ok (.iastore, 1) := dk_79 (dk_at dksX0_sit_2 23 rfl rfl)
theorem dX0_sit_72 : decode cX0_sit 72 = .ok (.aload_n 0, 1) := dk_42 (dk_at dksX0_sit_3 0 rfl rfl)
theorem dX0_sit_73 : decode cX0_sit 73 = .ok (.getfield 84, 3) := dk_180 0 84 (dk_at dksX0_sit_3 1 rfl rfl)
theorem dX0_sit_76 : decode cX0_sit 76 = .ok (.iconst 1, 1) := dk_4 (dk_at dksX0_sit_3 4 rfl rfl)
theorem dX0_sit_77 : decode cX0_sit 77 = .ok (.aload 4, 2) := dk_25 4 (dk_at dksX0_sit_3 5 rfl rfl)
theorem dX0_sit_79 : decode cX0_sit 79 = .ok (.aload_n 0, 1) := dk_42 (dk_at dksX0_sit_3 7 rfl rfl)
theorem dX0_sit_80 : decode cX0_sit 80 = .ok (.invokevirtual 165, 3) := dk_182 0 165 (dk_at dksX0_sit_3 8 rfl rfl)
theorem dX0_sit_83 : decode cX0_sit 83 = .ok (.invokevirtual 385, 3) := dk_182 1 129 (dk_at dksX0_sit_3 11 rfl rfl)
theorem dX0_sit_86 : decode cX0_sit 86 = .ok (.iastore, 1) := dk_79 (dk_at dksX0_sit_3 14 rfl rfl)
theorem dX0_sit_87 : decode cX0_sit 87 = .ok (.aload_n 0, 1) := dk_42 (dk_at dksX0_sit_3 15 rfl rfl)
theorem dX0_sit_88 : decode cX0_sit 88 = .ok (.getfield 84, 3) := dk_180 0 84 (dk_at dksX0_sit_3 16 rfl rfl)
theorem dX0_sit_91 : decode cX0_sit 91 = .ok (.iconst 2, 1) := dk_5 (dk_at dksX0_sit_3 19 rfl rfl)
theorem dX0_sit_92 : decode cX0_sit 92 = .ok (.aload 4, 2) := dk_25 4 (dk_at dksX0_sit_3 20 rfl rfl)
theorem dX0_sit_94 : decode cX0_sit 94 = .ok (.getfield 249, 3) := dk_180 0 249 (dk_at dksX0_sit_4 0 rfl rfl)
theorem dX0_sit_97 : decode cX0_sit 97 = .ok (.iastore, 1) := dk_79 (dk_at dksX0_sit_4 3 rfl rfl)
theorem dX0_sit_98 : decode cX0_sit 98 = .ok (.aload_n 0, 1) := dk_42 (dk_at dksX0_sit_4 4 rfl rfl)
theorem dX0_sit_99 : decode cX0_sit 99 = .ok (.getfield 84, 3) := dk_180 0 84 (dk_at dksX0_sit_4 5 rfl rfl)
theorem dX0_sit_102 : decode cX0_sit 102 = .ok (.iconst 3, 1) := dk_6 (dk_at dksX0_sit_4 8 rfl rfl)
theorem dX0_sit_103 : decode cX0_sit 103 = .ok (.aload_n 0, 1) := dk_42 (dk_at dksX0_sit_4 9 rfl rfl)
theorem dX0_sit_104 : decode cX0_sit 104 = .ok (.getfield 80, 3) := dk_180 0 80 (dk_at dksX0_sit_4 10 rfl rfl)
theorem dX0_sit_107 : decode cX0_sit 107 = .ok (.getfield 442, 3) := dk_180 1 186 (dk_at dksX0_sit_4 13 rfl rfl)
theorem dX0_sit_110 : decode cX0_sit 110 = .ok (.iastore, 1) := dk_79 (dk_at dksX0_sit_4 16 rfl rfl)
theorem dX0_sit_111 : decode cX0_sit 111 = .ok (.aload_n 0, 1) := dk_42 (dk_at dksX0_sit_4 17 rfl rfl)
theorem dX0_sit_112 : decode cX0_sit 112 = .ok (.getfield 84, 3) := dk_180 0 84 (dk_at dksX0_sit_4 18 rfl rfl)
theorem dX0_sit_115 : decode cX0_sit 115 = .ok (.iconst 4, 1) := dk_7 (dk_at dksX0_sit_4 21 rfl rfl)
theorem dX0_sit_116 : decode cX0_sit 116 = .ok (.aload 4, 2) := dk_25 4 (dk_at dksX0_sit_4 22 rfl rfl)
theorem dX0_sit_118 : decode cX0_sit 118 = .ok (.aload_n 0, 1) := dk_42 (dk_at dksX0_sit_5 0 rfl rfl)
theorem dX0_sit_119 : decode cX0_sit 119 = .ok (.invokevirtual 165, 3) := dk_182 0 165 (dk_at dksX0_sit_5 1 rfl rfl)
theorem dX0_sit_122 : decode cX0_sit 122 = .ok (.aload 4, 2) := dk_25 4 (dk_at dksX0_sit_5 4 rfl rfl)
theorem dX0_sit_124 : decode cX0_sit 124 = .ok (.invokevirtual 338, 3) := dk_182 1 82 (dk_at dksX0_sit_5 6 rfl rfl)
theorem dX0_sit_127 : decode cX0_sit 127 = .ok (.invokevirtual 334, 3) := dk_182 1 78 (dk_at dksX0_sit_5 9 rfl rfl)
theorem dX0_sit_130 : decode cX0_sit 130 = .ok (.iastore, 1) := dk_79 (dk_at dksX0_sit_5 12 rfl rfl)
theorem dX0_sit_131 : decode cX0_sit 131 = .ok (.aload_n 0, 1) := dk_42 (dk_at dksX0_sit_5 13 rfl rfl)
theorem dX0_sit_132 : decode cX0_sit 132 = .ok (.getfield 84, 3) := dk_180 0 84 (dk_at dksX0_sit_5 14 rfl rfl)
theorem dX0_sit_135 : decode cX0_sit 135 = .ok (.iconst 5, 1) := dk_8 (dk_at dksX0_sit_5 17 rfl rfl)
theorem dX0_sit_136 : decode cX0_sit 136 = .ok (.iconst 0, 1) := dk_3 (dk_at dksX0_sit_5 18 rfl rfl)
theorem dX0_sit_137 : decode cX0_sit 137 = .ok (.iastore, 1) := dk_79 (dk_at dksX0_sit_5 19 rfl rfl)
theorem dX0_sit_138 : decode cX0_sit 138 = .ok (.iconst 0, 1) := dk_3 (dk_at dksX0_sit_5 20 rfl rfl)
theorem dX0_sit_139 : decode cX0_sit 139 = .ok (.istore 5, 2) := dk_54 5 (dk_at dksX0_sit_5 21 rfl rfl)
theorem dX0_sit_141 : decode cX0_sit 141 = .ok (.iload 5, 2) := dk_21 5 (dk_at dksX0_sit_6 0 rfl rfl)
theorem dX0_sit_143 : decode cX0_sit 143 = .ok (.aload_n 0, 1) := dk_42 (dk_at dksX0_sit_6 2 rfl rfl)
theorem dX0_sit_144 : decode cX0_sit 144 = .ok (.invokevirtual 165, 3) := dk_182 0 165 (dk_at dksX0_sit_6 3 rfl rfl)
theorem dX0_sit_147 : decode cX0_sit 147 = .ok (.getfield 180, 3) := dk_180 0 180 (dk_at dksX0_sit_6 6 rfl rfl)
theorem dX0_sit_150 : decode cX0_sit 150 = .ok (.if_icmp .ge 39, 3) := dk_162 0 39 (dk_at dksX0_sit_6 9 rfl rfl)
theorem dX0_sit_153 : decode cX0_sit 153 = .ok (.aload_n 0, 1) := dk_42 (dk_at dksX0_sit_6 12 rfl rfl)
theorem dX0_sit_154 : decode cX0_sit 154 = .ok (.getfield 84, 3) := dk_180 0 84 (dk_at dksX0_sit_6 13 rfl rfl)
theorem dX0_sit_157 : decode cX0_sit 157 = .ok (.iconst 5, 1) := dk_8 (dk_at dksX0_sit_6 16 rfl rfl)
theorem dX0_sit_158 : decode cX0_sit 158 = .ok (.dup2, 1) := dk_92 (dk_at dksX0_sit_6 17 rfl rfl)
theorem dX0_sit_159 : decode cX0_sit 159 = .ok (.iaload, 1) := dk_46 (dk_at dksX0_sit_6 18 rfl rfl)
theorem dX0_sit_160 : decode cX0_sit 160 = .ok (.aload_n 0, 1) := dk_42 (dk_at dksX0_sit_6 19 rfl rfl)
theorem dX0_sit_161 : decode cX0_sit 161 = .ok (.getfield 80, 3) := dk_180 0 80 (dk_at dksX0_sit_6 20 rfl rfl)
theorem dX0_sit_164 : decode cX0_sit 164 = .ok (.getfield 448, 3) := dk_180 1 192 (dk_at dksX0_sit_7 0 rfl rfl)
theorem dX0_sit_167 : decode cX0_sit 167 = .ok (.iload 5, 2) := dk_21 5 (dk_at dksX0_sit_7 3 rfl rfl)
theorem dX0_sit_169 : decode cX0_sit 169 = .ok (.iaload, 1) := dk_46 (dk_at dksX0_sit_7 5 rfl rfl)
theorem dX0_sit_170 : decode cX0_sit 170 = .ok (.ifCond .ne 7, 3) := dk_154 0 7 (dk_at dksX0_sit_7 6 rfl rfl)
theorem dX0_sit_173 : decode cX0_sit 173 = .ok (.iconst 0, 1) := dk_3 (dk_at dksX0_sit_7 9 rfl rfl)
theorem dX0_sit_174 : decode cX0_sit 174 = .ok (.goto 7, 3) := dk_167 0 7 (dk_at dksX0_sit_7 10 rfl rfl)
theorem dX0_sit_177 : decode cX0_sit 177 = .ok (.iconst 1, 1) := dk_4 (dk_at dksX0_sit_7 13 rfl rfl)
theorem dX0_sit_178 : decode cX0_sit 178 = .ok (.iload 5, 2) := dk_21 5 (dk_at dksX0_sit_7 14 rfl rfl)
theorem dX0_sit_180 : decode cX0_sit 180 = .ok (.ishl, 1) := dk_120 (dk_at dksX0_sit_7 16 rfl rfl)
theorem dX0_sit_181 : decode cX0_sit 181 = .ok (.ior, 1) := dk_128 (dk_at dksX0_sit_7 17 rfl rfl)
theorem dX0_sit_182 : decode cX0_sit 182 = .ok (.iastore, 1) := dk_79 (dk_at dksX0_sit_7 18 rfl rfl)
theorem dX0_sit_183 : decode cX0_sit 183 = .ok (.iinc 5 1, 3) := dk_132 5 1 (dk_at dksX0_sit_7 19 rfl rfl)
theorem dX0_sit_186 : decode cX0_sit 186 = .ok (.goto (-45), 3) := dk_167 255 211 (dk_at dksX0_sit_8 0 rfl rfl)
theorem dX0_sit_189 : decode cX0_sit 189 = .ok (.aload_n 0, 1) := dk_42 (dk_at dksX0_sit_8 3 rfl rfl)
theorem dX0_sit_190 : decode cX0_sit 190 = .ok (.iconst 1, 1) := dk_4 (dk_at dksX0_sit_8 4 rfl rfl)
theorem dX0_sit_191 : decode cX0_sit 191 = .ok (.putfield 471, 3) := dk_181 1 215 (dk_at dksX0_sit_8 5 rfl rfl)
theorem dX0_sit_194 : decode cX0_sit 194 = .ok (.aload_n 0, 1) := dk_42 (dk_at dksX0_sit_8 8 rfl rfl)
theorem dX0_sit_195 : decode cX0_sit 195 = .ok (.getfield 80, 3) := dk_180 0 80 (dk_at dksX0_sit_8 9 rfl rfl)
theorem dX0_sit_198 : decode cX0_sit 198 = .ok (.getfield 436, 3) := dk_180 1 180 (dk_at dksX0_sit_8 12 rfl rfl)
theorem dX0_sit_201 : decode cX0_sit 201 = .ok (.ifCond .ge 7, 3) := dk_156 0 7 (dk_at dksX0_sit_8 15 rfl rfl)
theorem dX0_sit_204 : decode cX0_sit 204 = .ok (.iconst 2, 1) := dk_5 (dk_at dksX0_sit_8 18 rfl rfl)
theorem dX0_sit_205 : decode cX0_sit 205 = .ok (.goto 10, 3) := dk_167 0 10 (dk_at dksX0_sit_8 19 rfl rfl)
theorem dX0_sit_208 : decode cX0_sit 208 = .ok (.aload_n 0, 1) := dk_42 (dk_at dksX0_sit_8 22 rfl rfl)
theorem dX0_sit_209 : decode cX0_sit 209 = .ok (.getfield 80, 3) := dk_180 0 80 (dk_at dksX0_sit_9 0 rfl rfl)
theorem dX0_sit_212 : decode cX0_sit 212 = .ok (.getfield 436, 3) := dk_180 1 180 (dk_at dksX0_sit_9 3 rfl rfl)
theorem dX0_sit_215 : decode cX0_sit 215 = .ok (.ireturn, 1) := dk_172 (dk_at dksX0_sit_9 6 rfl rfl)
abbrev cX0_sits : ByteArray := prog_1_method_77_code
def yX0_sits : MethodName := ⟨RX0, "sits", "()J"⟩
def dkwX0_sits_2 : List UInt8 := [182, 1, 189, 167, 0, 4, 9, 97, 64, 132, 3, 1, 167, 255, 203, 31, 173]
abbrev dktX0_sits_2 : List UInt8 := dkwX0_sits_2 ++ []
def dkwX0_sits_1 : List UInt8 := [198, 0, 38, 31, 42, 182, 0, 165, 180, 1, 14, 29, 182, 1, 18, 153, 0, 14, 42, 182, 0, 165, 29]
abbrev dktX0_sits_1 : List UInt8 := dkwX0_sits_1 ++ dktX0_sits_2
def dkwX0_sits_0 : List UInt8 := [9, 64, 3, 62, 29, 42, 182, 0, 165, 180, 0, 168, 162, 0, 48, 42, 180, 0, 55, 180, 0, 220]
abbrev dktX0_sits_0 : List UInt8 := dkwX0_sits_0 ++ dktX0_sits_1
theorem dksX0_sits_0 : cX0_sits.data.toList.drop 0 = dktX0_sits_0 := by decide +kernel
theorem dksX0_sits_1 : cX0_sits.data.toList.drop 22 = dktX0_sits_1 := dk_seg dksX0_sits_0 22 rfl rfl
theorem dksX0_sits_2 : cX0_sits.data.toList.drop 45 = dktX0_sits_2 := dk_seg dksX0_sits_1 23 rfl rfl
theorem dX0_sits_0 : decode cX0_sits 0 = .ok (.lconst 0, 1) := dk_9 (dk_at dksX0_sits_0 0 rfl rfl)
theorem dX0_sits_1 : decode cX0_sits 1 = .ok (.lstore_n 1, 1) := dk_64 (dk_at dksX0_sits_0 1 rfl rfl)
theorem dX0_sits_2 : decode cX0_sits 2 = .ok (.iconst 0, 1) := dk_3 (dk_at dksX0_sits_0 2 rfl rfl)
theorem dX0_sits_3 : decode cX0_sits 3 = .ok (.istore_n 3, 1) := dk_62 (dk_at dksX0_sits_0 3 rfl rfl)
theorem dX0_sits_4 : decode cX0_sits 4 = .ok (.iload_n 3, 1) := dk_29 (dk_at dksX0_sits_0 4 rfl rfl)
theorem dX0_sits_5 : decode cX0_sits 5 = .ok (.aload_n 0, 1) := dk_42 (dk_at dksX0_sits_0 5 rfl rfl)
theorem dX0_sits_6 : decode cX0_sits 6 = .ok (.invokevirtual 165, 3) := dk_182 0 165 (dk_at dksX0_sits_0 6 rfl rfl)
theorem dX0_sits_9 : decode cX0_sits 9 = .ok (.getfield 168, 3) := dk_180 0 168 (dk_at dksX0_sits_0 9 rfl rfl)
theorem dX0_sits_12 : decode cX0_sits 12 = .ok (.if_icmp .ge 48, 3) := dk_162 0 48 (dk_at dksX0_sits_0 12 rfl rfl)
theorem dX0_sits_15 : decode cX0_sits 15 = .ok (.aload_n 0, 1) := dk_42 (dk_at dksX0_sits_0 15 rfl rfl)
theorem dX0_sits_16 : decode cX0_sits 16 = .ok (.getfield 55, 3) := dk_180 0 55 (dk_at dksX0_sits_0 16 rfl rfl)
theorem dX0_sits_19 : decode cX0_sits 19 = .ok (.getfield 220, 3) := dk_180 0 220 (dk_at dksX0_sits_0 19 rfl rfl)
theorem dX0_sits_22 : decode cX0_sits 22 = .ok (.ifnull 38, 3) := dk_198 0 38 (dk_at dksX0_sits_1 0 rfl rfl)
theorem dX0_sits_25 : decode cX0_sits 25 = .ok (.lload_n 1, 1) := dk_31 (dk_at dksX0_sits_1 3 rfl rfl)
theorem dX0_sits_26 : decode cX0_sits 26 = .ok (.aload_n 0, 1) := dk_42 (dk_at dksX0_sits_1 4 rfl rfl)
theorem dX0_sits_27 : decode cX0_sits 27 = .ok (.invokevirtual 165, 3) := dk_182 0 165 (dk_at dksX0_sits_1 5 rfl rfl)
theorem dX0_sits_30 : decode cX0_sits 30 = .ok (.getfield 270, 3) := dk_180 1 14 (dk_at dksX0_sits_1 8 rfl rfl)
theorem dX0_sits_33 : decode cX0_sits 33 = .ok (.iload_n 3, 1) := dk_29 (dk_at dksX0_sits_1 11 rfl rfl)
theorem dX0_sits_34 : decode cX0_sits 34 = .ok (.invokevirtual 274, 3) := dk_182 1 18 (dk_at dksX0_sits_1 12 rfl rfl)
theorem dX0_sits_37 : decode cX0_sits 37 = .ok (.ifCond .eq 14, 3) := dk_153 0 14 (dk_at dksX0_sits_1 15 rfl rfl)
theorem dX0_sits_40 : decode cX0_sits 40 = .ok (.aload_n 0, 1) := dk_42 (dk_at dksX0_sits_1 18 rfl rfl)
theorem dX0_sits_41 : decode cX0_sits 41 = .ok (.invokevirtual 165, 3) := dk_182 0 165 (dk_at dksX0_sits_1 19 rfl rfl)
theorem dX0_sits_44 : decode cX0_sits 44 = .ok (.iload_n 3, 1) := dk_29 (dk_at dksX0_sits_1 22 rfl rfl)
theorem dX0_sits_45 : decode cX0_sits 45 = .ok (.invokevirtual 445, 3) := dk_182 1 189 (dk_at dksX0_sits_2 0 rfl rfl)
theorem dX0_sits_48 : decode cX0_sits 48 = .ok (.goto 4, 3) := dk_167 0 4 (dk_at dksX0_sits_2 3 rfl rfl)
theorem dX0_sits_51 : decode cX0_sits 51 = .ok (.lconst 0, 1) := dk_9 (dk_at dksX0_sits_2 6 rfl rfl)
theorem dX0_sits_52 : decode cX0_sits 52 = .ok (.ladd, 1) := dk_97 (dk_at dksX0_sits_2 7 rfl rfl)
theorem dX0_sits_53 : decode cX0_sits 53 = .ok (.lstore_n 1, 1) := dk_64 (dk_at dksX0_sits_2 8 rfl rfl)
theorem dX0_sits_54 : decode cX0_sits 54 = .ok (.iinc 3 1, 3) := dk_132 3 1 (dk_at dksX0_sits_2 9 rfl rfl)
theorem dX0_sits_57 : decode cX0_sits 57 = .ok (.goto (-53), 3) := dk_167 255 203 (dk_at dksX0_sits_2 12 rfl rfl)
theorem dX0_sits_60 : decode cX0_sits 60 = .ok (.lload_n 1, 1) := dk_31 (dk_at dksX0_sits_2 15 rfl rfl)
theorem dX0_sits_61 : decode cX0_sits 61 = .ok (.lreturn, 1) := dk_173 (dk_at dksX0_sits_2 16 rfl rfl)
abbrev cX0_run : ByteArray := prog_1_method_75_code
def yX0_run : MethodName := ⟨RX0, "run", "(IJ)V"⟩
def dkwX0_run_7 : List UInt8 := [132, 7, 1, 167, 255, 217, 42, 180, 0, 55, 180, 0, 220, 42, 180, 0, 80, 182, 1, 199, 177]
abbrev dktX0_run_7 : List UInt8 := dkwX0_run_7 ++ []
def dkwX0_run_6 : List UInt8 := [42, 180, 0, 80, 180, 1, 192, 21, 7, 42, 42, 182, 0, 165, 180, 1, 38, 21, 7, 50, 182, 1, 195, 79]
abbrev dktX0_run_6 : List UInt8 := dkwX0_run_6 ++ dktX0_run_7
def dkwX0_run_5 : List UInt8 := [181, 1, 186, 132, 7, 1, 167, 255, 180, 3, 54, 7, 21, 7, 42, 182, 0, 165, 180, 0, 180, 162, 0, 33]
abbrev dktX0_run_5 : List UInt8 := dkwX0_run_5 ++ dktX0_run_6
def dkwX0_run_4 : List UInt8 := [167, 0, 4, 9, 97, 55, 5, 22, 5, 21, 4, 133, 148, 158, 0, 12, 42, 180, 0, 80, 21, 7]
abbrev dktX0_run_4 : List UInt8 := dkwX0_run_4 ++ dktX0_run_5
def dkwX0_run_3 : List UInt8 := [182, 0, 165, 180, 1, 14, 21, 7, 182, 1, 18, 153, 0, 15, 42, 182, 0, 165, 21, 7, 182, 1, 189]
abbrev dktX0_run_3 : List UInt8 := dkwX0_run_3 ++ dktX0_run_4
def dkwX0_run_2 : List UInt8 := [182, 0, 165, 180, 0, 168, 162, 0, 70, 42, 180, 0, 80, 180, 1, 186, 156, 0, 60, 22, 5, 42]
abbrev dktX0_run_2 : List UInt8 := dkwX0_run_2 ++ dktX0_run_3
def dkwX0_run_1 : List UInt8 := [32, 182, 1, 183, 54, 4, 9, 55, 5, 42, 180, 0, 80, 2, 181, 1, 186, 3, 54, 7, 21, 7, 42]
abbrev dktX0_run_1 : List UInt8 := dkwX0_run_1 ++ dktX0_run_2
def dkwX0_run_0 : List UInt8 := [42, 27, 181, 1, 175, 42, 180, 0, 80, 180, 1, 179, 182, 0, 215, 42, 180, 0, 80, 2, 181, 1, 180, 42]
abbrev dktX0_run_0 : List UInt8 := dkwX0_run_0 ++ dktX0_run_1
theorem dksX0_run_0 : cX0_run.data.toList.drop 0 = dktX0_run_0 := by decide +kernel
theorem dksX0_run_1 : cX0_run.data.toList.drop 24 = dktX0_run_1 := dk_seg dksX0_run_0 24 rfl rfl
theorem dksX0_run_2 : cX0_run.data.toList.drop 47 = dktX0_run_2 := dk_seg dksX0_run_1 23 rfl rfl
theorem dksX0_run_3 : cX0_run.data.toList.drop 69 = dktX0_run_3 := dk_seg dksX0_run_2 22 rfl rfl
theorem dksX0_run_4 : cX0_run.data.toList.drop 92 = dktX0_run_4 := dk_seg dksX0_run_3 23 rfl rfl
theorem dksX0_run_5 : cX0_run.data.toList.drop 114 = dktX0_run_5 := dk_seg dksX0_run_4 22 rfl rfl
theorem dksX0_run_6 : cX0_run.data.toList.drop 138 = dktX0_run_6 := dk_seg dksX0_run_5 24 rfl rfl
theorem dksX0_run_7 : cX0_run.data.toList.drop 162 = dktX0_run_7 := dk_seg dksX0_run_6 24 rfl rfl
theorem dX0_run_0 : decode cX0_run 0 = .ok (.aload_n 0, 1) := dk_42 (dk_at dksX0_run_0 0 rfl rfl)
theorem dX0_run_1 : decode cX0_run 1 = .ok (.iload_n 1, 1) := dk_27 (dk_at dksX0_run_0 1 rfl rfl)
theorem dX0_run_2 : decode cX0_run 2 = .ok (.putfield 431, 3) := dk_181 1 175 (dk_at dksX0_run_0 2 rfl rfl)
theorem dX0_run_5 : decode cX0_run 5 = .ok (.aload_n 0, 1) := dk_42 (dk_at dksX0_run_0 5 rfl rfl)
theorem dX0_run_6 : decode cX0_run 6 = .ok (.getfield 80, 3) := dk_180 0 80 (dk_at dksX0_run_0 6 rfl rfl)
theorem dX0_run_9 : decode cX0_run 9 = .ok (.getfield 435, 3) := dk_180 1 179 (dk_at dksX0_run_0 9 rfl rfl)
theorem dX0_run_12 : decode cX0_run 12 = .ok (.invokevirtual 215, 3) := dk_182 0 215 (dk_at dksX0_run_0 12 rfl rfl)
theorem dX0_run_15 : decode cX0_run 15 = .ok (.aload_n 0, 1) := dk_42 (dk_at dksX0_run_0 15 rfl rfl)
theorem dX0_run_16 : decode cX0_run 16 = .ok (.getfield 80, 3) := dk_180 0 80 (dk_at dksX0_run_0 16 rfl rfl)
theorem dX0_run_19 : decode cX0_run 19 = .ok (.iconst (-1), 1) := dk_2 (dk_at dksX0_run_0 19 rfl rfl)
theorem dX0_run_20 : decode cX0_run 20 = .ok (.putfield 436, 3) := dk_181 1 180 (dk_at dksX0_run_0 20 rfl rfl)
theorem dX0_run_23 : decode cX0_run 23 = .ok (.aload_n 0, 1) := dk_42 (dk_at dksX0_run_0 23 rfl rfl)
theorem dX0_run_24 : decode cX0_run 24 = .ok (.lload_n 2, 1) := dk_32 (dk_at dksX0_run_1 0 rfl rfl)
theorem dX0_run_25 : decode cX0_run 25 = .ok (.invokevirtual 439, 3) := dk_182 1 183 (dk_at dksX0_run_1 1 rfl rfl)
theorem dX0_run_28 : decode cX0_run 28 = .ok (.istore 4, 2) := dk_54 4 (dk_at dksX0_run_1 4 rfl rfl)
theorem dX0_run_30 : decode cX0_run 30 = .ok (.lconst 0, 1) := dk_9 (dk_at dksX0_run_1 6 rfl rfl)
theorem dX0_run_31 : decode cX0_run 31 = .ok (.lstore 5, 2) := dk_55 5 (dk_at dksX0_run_1 7 rfl rfl)
theorem dX0_run_33 : decode cX0_run 33 = .ok (.aload_n 0, 1) := dk_42 (dk_at dksX0_run_1 9 rfl rfl)
theorem dX0_run_34 : decode cX0_run 34 = .ok (.getfield 80, 3) := dk_180 0 80 (dk_at dksX0_run_1 10 rfl rfl)
theorem dX0_run_37 : decode cX0_run 37 = .ok (.iconst (-1), 1) := dk_2 (dk_at dksX0_run_1 13 rfl rfl)
theorem dX0_run_38 : decode cX0_run 38 = .ok (.putfield 442, 3) := dk_181 1 186 (dk_at dksX0_run_1 14 rfl rfl)
theorem dX0_run_41 : decode cX0_run 41 = .ok (.iconst 0, 1) := dk_3 (dk_at dksX0_run_1 17 rfl rfl)
theorem dX0_run_42 : decode cX0_run 42 = .ok (.istore 7, 2) := dk_54 7 (dk_at dksX0_run_1 18 rfl rfl)
theorem dX0_run_44 : decode cX0_run 44 = .ok (.iload 7, 2) := dk_21 7 (dk_at dksX0_run_1 20 rfl rfl)
theorem dX0_run_46 : decode cX0_run 46 = .ok (.aload_n 0, 1) := dk_42 (dk_at dksX0_run_1 22 rfl rfl)
theorem dX0_run_47 : decode cX0_run 47 = .ok (.invokevirtual 165, 3) := dk_182 0 165 (dk_at dksX0_run_2 0 rfl rfl)
theorem dX0_run_50 : decode cX0_run 50 = .ok (.getfield 168, 3) := dk_180 0 168 (dk_at dksX0_run_2 3 rfl rfl)
theorem dX0_run_53 : decode cX0_run 53 = .ok (.if_icmp .ge 70, 3) := dk_162 0 70 (dk_at dksX0_run_2 6 rfl rfl)
theorem dX0_run_56 : decode cX0_run 56 = .ok (.aload_n 0, 1) := dk_42 (dk_at dksX0_run_2 9 rfl rfl)
theorem dX0_run_57 : decode cX0_run 57 = .ok (.getfield 80, 3) := dk_180 0 80 (dk_at dksX0_run_2 10 rfl rfl)
theorem dX0_run_60 : decode cX0_run 60 = .ok (.getfield 442, 3) := dk_180 1 186 (dk_at dksX0_run_2 13 rfl rfl)
theorem dX0_run_63 : decode cX0_run 63 = .ok (.ifCond .ge 60, 3) := dk_156 0 60 (dk_at dksX0_run_2 16 rfl rfl)
theorem dX0_run_66 : decode cX0_run 66 = .ok (.lload 5, 2) := dk_22 5 (dk_at dksX0_run_2 19 rfl rfl)
theorem dX0_run_68 : decode cX0_run 68 = .ok (.aload_n 0, 1) := dk_42 (dk_at dksX0_run_2 21 rfl rfl)
theorem dX0_run_69 : decode cX0_run 69 = .ok (.invokevirtual 165, 3) := dk_182 0 165 (dk_at dksX0_run_3 0 rfl rfl)
theorem dX0_run_72 : decode cX0_run 72 = .ok (.getfield 270, 3) := dk_180 1 14 (dk_at dksX0_run_3 3 rfl rfl)
theorem dX0_run_75 : decode cX0_run 75 = .ok (.iload 7, 2) := dk_21 7 (dk_at dksX0_run_3 6 rfl rfl)
theorem dX0_run_77 : decode cX0_run 77 = .ok (.invokevirtual 274, 3) := dk_182 1 18 (dk_at dksX0_run_3 8 rfl rfl)
theorem dX0_run_80 : decode cX0_run 80 = .ok (.ifCond .eq 15, 3) := dk_153 0 15 (dk_at dksX0_run_3 11 rfl rfl)
theorem dX0_run_83 : decode cX0_run 83 = .ok (.aload_n 0, 1) := dk_42 (dk_at dksX0_run_3 14 rfl rfl)
theorem dX0_run_84 : decode cX0_run 84 = .ok (.invokevirtual 165, 3) := dk_182 0 165 (dk_at dksX0_run_3 15 rfl rfl)
theorem dX0_run_87 : decode cX0_run 87 = .ok (.iload 7, 2) := dk_21 7 (dk_at dksX0_run_3 18 rfl rfl)
theorem dX0_run_89 : decode cX0_run 89 = .ok (.invokevirtual 445, 3) := dk_182 1 189 (dk_at dksX0_run_3 20 rfl rfl)
theorem dX0_run_92 : decode cX0_run 92 = .ok (.goto 4, 3) := dk_167 0 4 (dk_at dksX0_run_4 0 rfl rfl)
theorem dX0_run_95 : decode cX0_run 95 = .ok (.lconst 0, 1) := dk_9 (dk_at dksX0_run_4 3 rfl rfl)
theorem dX0_run_96 : decode cX0_run 96 = .ok (.ladd, 1) := dk_97 (dk_at dksX0_run_4 4 rfl rfl)
theorem dX0_run_97 : decode cX0_run 97 = .ok (.lstore 5, 2) := dk_55 5 (dk_at dksX0_run_4 5 rfl rfl)
theorem dX0_run_99 : decode cX0_run 99 = .ok (.lload 5, 2) := dk_22 5 (dk_at dksX0_run_4 7 rfl rfl)
theorem dX0_run_101 : decode cX0_run 101 = .ok (.iload 4, 2) := dk_21 4 (dk_at dksX0_run_4 9 rfl rfl)
theorem dX0_run_103 : decode cX0_run 103 = .ok (.i2l, 1) := dk_133 (dk_at dksX0_run_4 11 rfl rfl)
theorem dX0_run_104 : decode cX0_run 104 = .ok (.lcmp, 1) := dk_148 (dk_at dksX0_run_4 12 rfl rfl)
theorem dX0_run_105 : decode cX0_run 105 = .ok (.ifCond .le 12, 3) := dk_158 0 12 (dk_at dksX0_run_4 13 rfl rfl)
theorem dX0_run_108 : decode cX0_run 108 = .ok (.aload_n 0, 1) := dk_42 (dk_at dksX0_run_4 16 rfl rfl)
theorem dX0_run_109 : decode cX0_run 109 = .ok (.getfield 80, 3) := dk_180 0 80 (dk_at dksX0_run_4 17 rfl rfl)
theorem dX0_run_112 : decode cX0_run 112 = .ok (.iload 7, 2) := dk_21 7 (dk_at dksX0_run_4 20 rfl rfl)
theorem dX0_run_114 : decode cX0_run 114 = .ok (.putfield 442, 3) := dk_181 1 186 (dk_at dksX0_run_5 0 rfl rfl)
theorem dX0_run_117 : decode cX0_run 117 = .ok (.iinc 7 1, 3) := dk_132 7 1 (dk_at dksX0_run_5 3 rfl rfl)
theorem dX0_run_120 : decode cX0_run 120 = .ok (.goto (-76), 3) := dk_167 255 180 (dk_at dksX0_run_5 6 rfl rfl)
theorem dX0_run_123 : decode cX0_run 123 = .ok (.iconst 0, 1) := dk_3 (dk_at dksX0_run_5 9 rfl rfl)
theorem dX0_run_124 : decode cX0_run 124 = .ok (.istore 7, 2) := dk_54 7 (dk_at dksX0_run_5 10 rfl rfl)
theorem dX0_run_126 : decode cX0_run 126 = .ok (.iload 7, 2) := dk_21 7 (dk_at dksX0_run_5 12 rfl rfl)
theorem dX0_run_128 : decode cX0_run 128 = .ok (.aload_n 0, 1) := dk_42 (dk_at dksX0_run_5 14 rfl rfl)
theorem dX0_run_129 : decode cX0_run 129 = .ok (.invokevirtual 165, 3) := dk_182 0 165 (dk_at dksX0_run_5 15 rfl rfl)
theorem dX0_run_132 : decode cX0_run 132 = .ok (.getfield 180, 3) := dk_180 0 180 (dk_at dksX0_run_5 18 rfl rfl)
theorem dX0_run_135 : decode cX0_run 135 = .ok (.if_icmp .ge 33, 3) := dk_162 0 33 (dk_at dksX0_run_5 21 rfl rfl)
theorem dX0_run_138 : decode cX0_run 138 = .ok (.aload_n 0, 1) := dk_42 (dk_at dksX0_run_6 0 rfl rfl)
theorem dX0_run_139 : decode cX0_run 139 = .ok (.getfield 80, 3) := dk_180 0 80 (dk_at dksX0_run_6 1 rfl rfl)
theorem dX0_run_142 : decode cX0_run 142 = .ok (.getfield 448, 3) := dk_180 1 192 (dk_at dksX0_run_6 4 rfl rfl)
theorem dX0_run_145 : decode cX0_run 145 = .ok (.iload 7, 2) := dk_21 7 (dk_at dksX0_run_6 7 rfl rfl)
theorem dX0_run_147 : decode cX0_run 147 = .ok (.aload_n 0, 1) := dk_42 (dk_at dksX0_run_6 9 rfl rfl)
theorem dX0_run_148 : decode cX0_run 148 = .ok (.aload_n 0, 1) := dk_42 (dk_at dksX0_run_6 10 rfl rfl)
theorem dX0_run_149 : decode cX0_run 149 = .ok (.invokevirtual 165, 3) := dk_182 0 165 (dk_at dksX0_run_6 11 rfl rfl)
theorem dX0_run_152 : decode cX0_run 152 = .ok (.getfield 294, 3) := dk_180 1 38 (dk_at dksX0_run_6 14 rfl rfl)
theorem dX0_run_155 : decode cX0_run 155 = .ok (.iload 7, 2) := dk_21 7 (dk_at dksX0_run_6 17 rfl rfl)
theorem dX0_run_157 : decode cX0_run 157 = .ok (.aaload, 1) := dk_50 (dk_at dksX0_run_6 19 rfl rfl)
theorem dX0_run_158 : decode cX0_run 158 = .ok (.invokevirtual 451, 3) := dk_182 1 195 (dk_at dksX0_run_6 20 rfl rfl)
theorem dX0_run_161 : decode cX0_run 161 = .ok (.iastore, 1) := dk_79 (dk_at dksX0_run_6 23 rfl rfl)
theorem dX0_run_162 : decode cX0_run 162 = .ok (.iinc 7 1, 3) := dk_132 7 1 (dk_at dksX0_run_7 0 rfl rfl)
theorem dX0_run_165 : decode cX0_run 165 = .ok (.goto (-39), 3) := dk_167 255 217 (dk_at dksX0_run_7 3 rfl rfl)
theorem dX0_run_168 : decode cX0_run 168 = .ok (.aload_n 0, 1) := dk_42 (dk_at dksX0_run_7 6 rfl rfl)
theorem dX0_run_169 : decode cX0_run 169 = .ok (.getfield 55, 3) := dk_180 0 55 (dk_at dksX0_run_7 7 rfl rfl)
theorem dX0_run_172 : decode cX0_run 172 = .ok (.getfield 220, 3) := dk_180 0 220 (dk_at dksX0_run_7 10 rfl rfl)
theorem dX0_run_175 : decode cX0_run 175 = .ok (.aload_n 0, 1) := dk_42 (dk_at dksX0_run_7 13 rfl rfl)
theorem dX0_run_176 : decode cX0_run 176 = .ok (.getfield 80, 3) := dk_180 0 80 (dk_at dksX0_run_7 14 rfl rfl)
theorem dX0_run_179 : decode cX0_run 179 = .ok (.invokevirtual 455, 3) := dk_182 1 199 (dk_at dksX0_run_7 17 rfl rfl)
theorem dX0_run_182 : decode cX0_run 182 = .ok (.return_, 1) := dk_177 (dk_at dksX0_run_7 20 rfl rfl)
abbrev cX0_draw : ByteArray := prog_1_method_74_code
def yX0_draw : MethodName := ⟨RX0, "draw", "(J)I"⟩
def dkwX0_draw_1 : List UInt8 := [16, 8, 108, 133, 31, 113, 136, 172]
abbrev dktX0_draw_1 : List UInt8 := dkwX0_draw_1 ++ []
def dkwX0_draw_0 : List UInt8 := [42, 42, 180, 1, 175, 17, 9, 113, 104, 17, 41, 117, 96, 19, 1, 178, 112, 181, 1, 175, 42, 180, 1, 175]
abbrev dktX0_draw_0 : List UInt8 := dkwX0_draw_0 ++ dktX0_draw_1
theorem dksX0_draw_0 : cX0_draw.data.toList.drop 0 = dktX0_draw_0 := by decide +kernel
theorem dksX0_draw_1 : cX0_draw.data.toList.drop 24 = dktX0_draw_1 := dk_seg dksX0_draw_0 24 rfl rfl
theorem dX0_draw_0 : decode cX0_draw 0 = .ok (.aload_n 0, 1) := dk_42 (dk_at dksX0_draw_0 0 rfl rfl)
theorem dX0_draw_1 : decode cX0_draw 1 = .ok (.aload_n 0, 1) := dk_42 (dk_at dksX0_draw_0 1 rfl rfl)
theorem dX0_draw_2 : decode cX0_draw 2 = .ok (.getfield 431, 3) := dk_180 1 175 (dk_at dksX0_draw_0 2 rfl rfl)
theorem dX0_draw_5 : decode cX0_draw 5 = .ok (.sipush 2417, 3) := dk_17 9 113 (dk_at dksX0_draw_0 5 rfl rfl)
theorem dX0_draw_8 : decode cX0_draw 8 = .ok (.imul, 1) := dk_104 (dk_at dksX0_draw_0 8 rfl rfl)
theorem dX0_draw_9 : decode cX0_draw 9 = .ok (.sipush 10613, 3) := dk_17 41 117 (dk_at dksX0_draw_0 9 rfl rfl)
theorem dX0_draw_12 : decode cX0_draw 12 = .ok (.iadd, 1) := dk_96 (dk_at dksX0_draw_0 12 rfl rfl)
theorem dX0_draw_13 : decode cX0_draw 13 = .ok (.ldc_w 434, 3) := dk_19 1 178 (dk_at dksX0_draw_0 13 rfl rfl)
theorem dX0_draw_16 : decode cX0_draw 16 = .ok (.irem, 1) := dk_112 (dk_at dksX0_draw_0 16 rfl rfl)
theorem dX0_draw_17 : decode cX0_draw 17 = .ok (.putfield 431, 3) := dk_181 1 175 (dk_at dksX0_draw_0 17 rfl rfl)
theorem dX0_draw_20 : decode cX0_draw 20 = .ok (.aload_n 0, 1) := dk_42 (dk_at dksX0_draw_0 20 rfl rfl)
theorem dX0_draw_21 : decode cX0_draw 21 = .ok (.getfield 431, 3) := dk_180 1 175 (dk_at dksX0_draw_0 21 rfl rfl)
theorem dX0_draw_24 : decode cX0_draw 24 = .ok (.bipush 8, 2) := dk_16 8 (dk_at dksX0_draw_1 0 rfl rfl)
theorem dX0_draw_26 : decode cX0_draw 26 = .ok (.idiv, 1) := dk_108 (dk_at dksX0_draw_1 2 rfl rfl)
theorem dX0_draw_27 : decode cX0_draw 27 = .ok (.i2l, 1) := dk_133 (dk_at dksX0_draw_1 3 rfl rfl)
theorem dX0_draw_28 : decode cX0_draw 28 = .ok (.lload_n 1, 1) := dk_31 (dk_at dksX0_draw_1 4 rfl rfl)
theorem dX0_draw_29 : decode cX0_draw 29 = .ok (.lrem, 1) := dk_113 (dk_at dksX0_draw_1 5 rfl rfl)
theorem dX0_draw_30 : decode cX0_draw 30 = .ok (.l2i, 1) := dk_136 (dk_at dksX0_draw_1 6 rfl rfl)
theorem dX0_draw_31 : decode cX0_draw 31 = .ok (.ireturn, 1) := dk_172 (dk_at dksX0_draw_1 7 rfl rfl)
abbrev cX0_drawKind : ByteArray := prog_1_method_76_code
def yX0_drawKind : MethodName := ⟨RX0, "drawKind", "(LAskingCourt$Witness;)I"⟩
def dkwX0_drawKind_1 : List UInt8 := [132, 3, 1, 21, 4, 43, 180, 1, 42, 29, 46, 96, 54, 4, 167, 255, 236, 29, 172]
abbrev dktX0_drawKind_1 : List UInt8 := dkwX0_drawKind_1 ++ []
def dkwX0_drawKind_0 : List UInt8 := [42, 20, 1, 203, 182, 1, 183, 61, 3, 62, 43, 180, 1, 42, 3, 46, 54, 4, 21, 4, 28, 163, 0, 20]
abbrev dktX0_drawKind_0 : List UInt8 := dkwX0_drawKind_0 ++ dktX0_drawKind_1
theorem dksX0_drawKind_0 : cX0_drawKind.data.toList.drop 0 = dktX0_drawKind_0 := by decide +kernel
theorem dksX0_drawKind_1 : cX0_drawKind.data.toList.drop 24 = dktX0_drawKind_1 := dk_seg dksX0_drawKind_0 24 rfl rfl
theorem dX0_drawKind_0 : decode cX0_drawKind 0 = .ok (.aload_n 0, 1) := dk_42 (dk_at dksX0_drawKind_0 0 rfl rfl)
theorem dX0_drawKind_1 : decode cX0_drawKind 1 = .ok (.ldc2_w 459, 3) := dk_20 1 203 (dk_at dksX0_drawKind_0 1 rfl rfl)
theorem dX0_drawKind_4 : decode cX0_drawKind 4 = .ok (.invokevirtual 439, 3) := dk_182 1 183 (dk_at dksX0_drawKind_0 4 rfl rfl)
theorem dX0_drawKind_7 : decode cX0_drawKind 7 = .ok (.istore_n 2, 1) := dk_61 (dk_at dksX0_drawKind_0 7 rfl rfl)
theorem dX0_drawKind_8 : decode cX0_drawKind 8 = .ok (.iconst 0, 1) := dk_3 (dk_at dksX0_drawKind_0 8 rfl rfl)
theorem dX0_drawKind_9 : decode cX0_drawKind 9 = .ok (.istore_n 3, 1) := dk_62 (dk_at dksX0_drawKind_0 9 rfl rfl)
theorem dX0_drawKind_10 : decode cX0_drawKind 10 = .ok (.aload_n 1, 1) := dk_43 (dk_at dksX0_drawKind_0 10 rfl rfl)
theorem dX0_drawKind_11 : decode cX0_drawKind 11 = .ok (.getfield 298, 3) := dk_180 1 42 (dk_at dksX0_drawKind_0 11 rfl rfl)
theorem dX0_drawKind_14 : decode cX0_drawKind 14 = .ok (.iconst 0, 1) := dk_3 (dk_at dksX0_drawKind_0 14 rfl rfl)
theorem dX0_drawKind_15 : decode cX0_drawKind 15 = .ok (.iaload, 1) := dk_46 (dk_at dksX0_drawKind_0 15 rfl rfl)
theorem dX0_drawKind_16 : decode cX0_drawKind 16 = .ok (.istore 4, 2) := dk_54 4 (dk_at dksX0_drawKind_0 16 rfl rfl)
theorem dX0_drawKind_18 : decode cX0_drawKind 18 = .ok (.iload 4, 2) := dk_21 4 (dk_at dksX0_drawKind_0 18 rfl rfl)
theorem dX0_drawKind_20 : decode cX0_drawKind 20 = .ok (.iload_n 2, 1) := dk_28 (dk_at dksX0_drawKind_0 20 rfl rfl)
theorem dX0_drawKind_21 : decode cX0_drawKind 21 = .ok (.if_icmp .gt 20, 3) := dk_163 0 20 (dk_at dksX0_drawKind_0 21 rfl rfl)
theorem dX0_drawKind_24 : decode cX0_drawKind 24 = .ok (.iinc 3 1, 3) := dk_132 3 1 (dk_at dksX0_drawKind_1 0 rfl rfl)
theorem dX0_drawKind_27 : decode cX0_drawKind 27 = .ok (.iload 4, 2) := dk_21 4 (dk_at dksX0_drawKind_1 3 rfl rfl)
theorem dX0_drawKind_29 : decode cX0_drawKind 29 = .ok (.aload_n 1, 1) := dk_43 (dk_at dksX0_drawKind_1 5 rfl rfl)
theorem dX0_drawKind_30 : decode cX0_drawKind 30 = .ok (.getfield 298, 3) := dk_180 1 42 (dk_at dksX0_drawKind_1 6 rfl rfl)
theorem dX0_drawKind_33 : decode cX0_drawKind 33 = .ok (.iload_n 3, 1) := dk_29 (dk_at dksX0_drawKind_1 9 rfl rfl)
theorem dX0_drawKind_34 : decode cX0_drawKind 34 = .ok (.iaload, 1) := dk_46 (dk_at dksX0_drawKind_1 10 rfl rfl)
theorem dX0_drawKind_35 : decode cX0_drawKind 35 = .ok (.iadd, 1) := dk_96 (dk_at dksX0_drawKind_1 11 rfl rfl)
theorem dX0_drawKind_36 : decode cX0_drawKind 36 = .ok (.istore 4, 2) := dk_54 4 (dk_at dksX0_drawKind_1 12 rfl rfl)
theorem dX0_drawKind_38 : decode cX0_drawKind 38 = .ok (.goto (-20), 3) := dk_167 255 236 (dk_at dksX0_drawKind_1 14 rfl rfl)
theorem dX0_drawKind_41 : decode cX0_drawKind 41 = .ok (.iload_n 3, 1) := dk_29 (dk_at dksX0_drawKind_1 17 rfl rfl)
theorem dX0_drawKind_42 : decode cX0_drawKind 42 = .ok (.ireturn, 1) := dk_172 (dk_at dksX0_drawKind_1 18 rfl rfl)
abbrev cX0_sat : ByteArray := prog_1_method_79_code
def yX0_sat : MethodName := ⟨RX0, "sat", "(I)I"⟩
def dkwX0_sat_2 : List UInt8 := [27, 46, 172]
abbrev dktX0_sat_2 : List UInt8 := dkwX0_sat_2 ++ []
def dkwX0_sat_1 : List UInt8 := [16, 6, 167, 0, 4, 3, 181, 0, 87, 42, 180, 0, 87, 158, 0, 7, 2, 167, 0, 9, 42, 180, 0, 84]
abbrev dktX0_sat_1 : List UInt8 := dkwX0_sat_1 ++ dktX0_sat_2
def dkwX0_sat_0 : List UInt8 := [42, 27, 133, 9, 20, 1, 36, 184, 0, 173, 154, 0, 7, 4, 167, 0, 16, 42, 180, 1, 215, 154, 0, 8]
abbrev dktX0_sat_0 : List UInt8 := dkwX0_sat_0 ++ dktX0_sat_1
theorem dksX0_sat_0 : cX0_sat.data.toList.drop 0 = dktX0_sat_0 := by decide +kernel
theorem dksX0_sat_1 : cX0_sat.data.toList.drop 24 = dktX0_sat_1 := dk_seg dksX0_sat_0 24 rfl rfl
theorem dksX0_sat_2 : cX0_sat.data.toList.drop 48 = dktX0_sat_2 := dk_seg dksX0_sat_1 24 rfl rfl
theorem dX0_sat_0 : decode cX0_sat 0 = .ok (.aload_n 0, 1) := dk_42 (dk_at dksX0_sat_0 0 rfl rfl)
theorem dX0_sat_1 : decode cX0_sat 1 = .ok (.iload_n 1, 1) := dk_27 (dk_at dksX0_sat_0 1 rfl rfl)
theorem dX0_sat_2 : decode cX0_sat 2 = .ok (.i2l, 1) := dk_133 (dk_at dksX0_sat_0 2 rfl rfl)
theorem dX0_sat_3 : decode cX0_sat 3 = .ok (.lconst 0, 1) := dk_9 (dk_at dksX0_sat_0 3 rfl rfl)
theorem dX0_sat_4 : decode cX0_sat 4 = .ok (.ldc2_w 292, 3) := dk_20 1 36 (dk_at dksX0_sat_0 4 rfl rfl)
theorem dX0_sat_7 : decode cX0_sat 7 = .ok (.invokestatic 173, 3) := dk_184 0 173 (dk_at dksX0_sat_0 7 rfl rfl)
theorem dX0_sat_10 : decode cX0_sat 10 = .ok (.ifCond .ne 7, 3) := dk_154 0 7 (dk_at dksX0_sat_0 10 rfl rfl)
theorem dX0_sat_13 : decode cX0_sat 13 = .ok (.iconst 1, 1) := dk_4 (dk_at dksX0_sat_0 13 rfl rfl)
theorem dX0_sat_14 : decode cX0_sat 14 = .ok (.goto 16, 3) := dk_167 0 16 (dk_at dksX0_sat_0 14 rfl rfl)
theorem dX0_sat_17 : decode cX0_sat 17 = .ok (.aload_n 0, 1) := dk_42 (dk_at dksX0_sat_0 17 rfl rfl)
theorem dX0_sat_18 : decode cX0_sat 18 = .ok (.getfield 471, 3) := dk_180 1 215 (dk_at dksX0_sat_0 18 rfl rfl)
theorem dX0_sat_21 : decode cX0_sat 21 = .ok (.ifCond .ne 8, 3) := dk_154 0 8 (dk_at dksX0_sat_0 21 rfl rfl)
theorem dX0_sat_24 : decode cX0_sat 24 = .ok (.bipush 6, 2) := dk_16 6 (dk_at dksX0_sat_1 0 rfl rfl)
theorem dX0_sat_26 : decode cX0_sat 26 = .ok (.goto 4, 3) := dk_167 0 4 (dk_at dksX0_sat_1 2 rfl rfl)
theorem dX0_sat_29 : decode cX0_sat 29 = .ok (.iconst 0, 1) := dk_3 (dk_at dksX0_sat_1 5 rfl rfl)
theorem dX0_sat_30 : decode cX0_sat 30 = .ok (.putfield 87, 3) := dk_181 0 87 (dk_at dksX0_sat_1 6 rfl rfl)
theorem dX0_sat_33 : decode cX0_sat 33 = .ok (.aload_n 0, 1) := dk_42 (dk_at dksX0_sat_1 9 rfl rfl)
theorem dX0_sat_34 : decode cX0_sat 34 = .ok (.getfield 87, 3) := dk_180 0 87 (dk_at dksX0_sat_1 10 rfl rfl)
theorem dX0_sat_37 : decode cX0_sat 37 = .ok (.ifCond .le 7, 3) := dk_158 0 7 (dk_at dksX0_sat_1 13 rfl rfl)
theorem dX0_sat_40 : decode cX0_sat 40 = .ok (.iconst (-1), 1) := dk_2 (dk_at dksX0_sat_1 16 rfl rfl)
theorem dX0_sat_41 : decode cX0_sat 41 = .ok (.goto 9, 3) := dk_167 0 9 (dk_at dksX0_sat_1 17 rfl rfl)
theorem dX0_sat_44 : decode cX0_sat 44 = .ok (.aload_n 0, 1) := dk_42 (dk_at dksX0_sat_1 20 rfl rfl)
theorem dX0_sat_45 : decode cX0_sat 45 = .ok (.getfield 84, 3) := dk_180 0 84 (dk_at dksX0_sat_1 21 rfl rfl)
theorem dX0_sat_48 : decode cX0_sat 48 = .ok (.iload_n 1, 1) := dk_27 (dk_at dksX0_sat_2 0 rfl rfl)
theorem dX0_sat_49 : decode cX0_sat 49 = .ok (.iaload, 1) := dk_46 (dk_at dksX0_sat_2 1 rfl rfl)
theorem dX0_sat_50 : decode cX0_sat 50 = .ok (.ireturn, 1) := dk_172 (dk_at dksX0_sat_2 2 rfl rfl)
abbrev cX0_tally : ByteArray := prog_1_method_80_code
def yX0_tally : MethodName := ⟨RX0, "tally", "(III)I"⟩
def dkwX0_tally_6 : List UInt8 := [21, 6, 172]
abbrev dktX0_tally_6 : List UInt8 := dkwX0_tally_6 ++ []
def dkwX0_tally_5 : List UInt8 := [180, 0, 80, 180, 1, 180, 29, 160, 0, 7, 4, 167, 0, 4, 3, 96, 54, 6, 132, 7, 1, 167, 255, 202]
abbrev dktX0_tally_5 : List UInt8 := dkwX0_tally_5 ++ dktX0_tally_6
def dkwX0_tally_4 : List UInt8 := [96, 22, 4, 182, 1, 211, 21, 6, 42, 180, 0, 80, 180, 1, 180, 156, 0, 7, 5, 167, 0, 10, 42]
abbrev dktX0_tally_4 : List UInt8 := dkwX0_tally_4 ++ dktX0_tally_5
def dkwX0_tally_3 : List UInt8 := [180, 0, 87, 158, 0, 5, 2, 172, 3, 54, 6, 3, 54, 7, 21, 7, 28, 162, 0, 54, 42, 27, 21, 7]
abbrev dktX0_tally_3 : List UInt8 := dkwX0_tally_3 ++ dktX0_tally_4
def dkwX0_tally_2 : List UInt8 := [154, 0, 7, 4, 167, 0, 16, 22, 4, 9, 148, 154, 0, 8, 16, 6, 167, 0, 4, 3, 181, 0, 87, 42]
abbrev dktX0_tally_2 : List UInt8 := dkwX0_tally_2 ++ dktX0_tally_3
def dkwX0_tally_1 : List UInt8 := [17, 39, 15, 28, 100, 4, 96, 133, 184, 0, 173, 153, 0, 15, 29, 133, 9, 20, 1, 221, 184, 0, 173]
abbrev dktX0_tally_1 : List UInt8 := dkwX0_tally_1 ++ dktX0_tally_2
def dkwX0_tally_0 : List UInt8 := [42, 182, 1, 205, 55, 4, 42, 28, 133, 10, 20, 1, 219, 184, 0, 173, 153, 0, 32, 27, 133, 9]
abbrev dktX0_tally_0 : List UInt8 := dkwX0_tally_0 ++ dktX0_tally_1
theorem dksX0_tally_0 : cX0_tally.data.toList.drop 0 = dktX0_tally_0 := by decide +kernel
theorem dksX0_tally_1 : cX0_tally.data.toList.drop 22 = dktX0_tally_1 := dk_seg dksX0_tally_0 22 rfl rfl
theorem dksX0_tally_2 : cX0_tally.data.toList.drop 45 = dktX0_tally_2 := dk_seg dksX0_tally_1 23 rfl rfl
theorem dksX0_tally_3 : cX0_tally.data.toList.drop 69 = dktX0_tally_3 := dk_seg dksX0_tally_2 24 rfl rfl
theorem dksX0_tally_4 : cX0_tally.data.toList.drop 93 = dktX0_tally_4 := dk_seg dksX0_tally_3 24 rfl rfl
theorem dksX0_tally_5 : cX0_tally.data.toList.drop 116 = dktX0_tally_5 := dk_seg dksX0_tally_4 23 rfl rfl
theorem dksX0_tally_6 : cX0_tally.data.toList.drop 140 = dktX0_tally_6 := dk_seg dksX0_tally_5 24 rfl rfl
theorem dX0_tally_0 : decode cX0_tally 0 = .ok (.aload_n 0, 1) := dk_42 (dk_at dksX0_tally_0 0 rfl rfl)
theorem dX0_tally_1 : decode cX0_tally 1 = .ok (.invokevirtual 461, 3) := dk_182 1 205 (dk_at dksX0_tally_0 1 rfl rfl)
theorem dX0_tally_4 : decode cX0_tally 4 = .ok (.lstore 4, 2) := dk_55 4 (dk_at dksX0_tally_0 4 rfl rfl)
theorem dX0_tally_6 : decode cX0_tally 6 = .ok (.aload_n 0, 1) := dk_42 (dk_at dksX0_tally_0 6 rfl rfl)
theorem dX0_tally_7 : decode cX0_tally 7 = .ok (.iload_n 2, 1) := dk_28 (dk_at dksX0_tally_0 7 rfl rfl)
theorem dX0_tally_8 : decode cX0_tally 8 = .ok (.i2l, 1) := dk_133 (dk_at dksX0_tally_0 8 rfl rfl)
theorem dX0_tally_9 : decode cX0_tally 9 = .ok (.lconst 1, 1) := dk_10 (dk_at dksX0_tally_0 9 rfl rfl)
theorem dX0_tally_10 : decode cX0_tally 10 = .ok (.ldc2_w 475, 3) := dk_20 1 219 (dk_at dksX0_tally_0 10 rfl rfl)
theorem dX0_tally_13 : decode cX0_tally 13 = .ok (.invokestatic 173, 3) := dk_184 0 173 (dk_at dksX0_tally_0 13 rfl rfl)
theorem dX0_tally_16 : decode cX0_tally 16 = .ok (.ifCond .eq 32, 3) := dk_153 0 32 (dk_at dksX0_tally_0 16 rfl rfl)
theorem dX0_tally_19 : decode cX0_tally 19 = .ok (.iload_n 1, 1) := dk_27 (dk_at dksX0_tally_0 19 rfl rfl)
theorem dX0_tally_20 : decode cX0_tally 20 = .ok (.i2l, 1) := dk_133 (dk_at dksX0_tally_0 20 rfl rfl)
theorem dX0_tally_21 : decode cX0_tally 21 = .ok (.lconst 0, 1) := dk_9 (dk_at dksX0_tally_0 21 rfl rfl)
theorem dX0_tally_22 : decode cX0_tally 22 = .ok (.sipush 9999, 3) := dk_17 39 15 (dk_at dksX0_tally_1 0 rfl rfl)
theorem dX0_tally_25 : decode cX0_tally 25 = .ok (.iload_n 2, 1) := dk_28 (dk_at dksX0_tally_1 3 rfl rfl)
theorem dX0_tally_26 : decode cX0_tally 26 = .ok (.isub, 1) := dk_100 (dk_at dksX0_tally_1 4 rfl rfl)
theorem dX0_tally_27 : decode cX0_tally 27 = .ok (.iconst 1, 1) := dk_4 (dk_at dksX0_tally_1 5 rfl rfl)
theorem dX0_tally_28 : decode cX0_tally 28 = .ok (.iadd, 1) := dk_96 (dk_at dksX0_tally_1 6 rfl rfl)
theorem dX0_tally_29 : decode cX0_tally 29 = .ok (.i2l, 1) := dk_133 (dk_at dksX0_tally_1 7 rfl rfl)
theorem dX0_tally_30 : decode cX0_tally 30 = .ok (.invokestatic 173, 3) := dk_184 0 173 (dk_at dksX0_tally_1 8 rfl rfl)
theorem dX0_tally_33 : decode cX0_tally 33 = .ok (.ifCond .eq 15, 3) := dk_153 0 15 (dk_at dksX0_tally_1 11 rfl rfl)
theorem dX0_tally_36 : decode cX0_tally 36 = .ok (.iload_n 3, 1) := dk_29 (dk_at dksX0_tally_1 14 rfl rfl)
theorem dX0_tally_37 : decode cX0_tally 37 = .ok (.i2l, 1) := dk_133 (dk_at dksX0_tally_1 15 rfl rfl)
theorem dX0_tally_38 : decode cX0_tally 38 = .ok (.lconst 0, 1) := dk_9 (dk_at dksX0_tally_1 16 rfl rfl)
theorem dX0_tally_39 : decode cX0_tally 39 = .ok (.ldc2_w 477, 3) := dk_20 1 221 (dk_at dksX0_tally_1 17 rfl rfl)
theorem dX0_tally_42 : decode cX0_tally 42 = .ok (.invokestatic 173, 3) := dk_184 0 173 (dk_at dksX0_tally_1 20 rfl rfl)
theorem dX0_tally_45 : decode cX0_tally 45 = .ok (.ifCond .ne 7, 3) := dk_154 0 7 (dk_at dksX0_tally_2 0 rfl rfl)
theorem dX0_tally_48 : decode cX0_tally 48 = .ok (.iconst 1, 1) := dk_4 (dk_at dksX0_tally_2 3 rfl rfl)
theorem dX0_tally_49 : decode cX0_tally 49 = .ok (.goto 16, 3) := dk_167 0 16 (dk_at dksX0_tally_2 4 rfl rfl)
theorem dX0_tally_52 : decode cX0_tally 52 = .ok (.lload 4, 2) := dk_22 4 (dk_at dksX0_tally_2 7 rfl rfl)
theorem dX0_tally_54 : decode cX0_tally 54 = .ok (.lconst 0, 1) := dk_9 (dk_at dksX0_tally_2 9 rfl rfl)
theorem dX0_tally_55 : decode cX0_tally 55 = .ok (.lcmp, 1) := dk_148 (dk_at dksX0_tally_2 10 rfl rfl)
theorem dX0_tally_56 : decode cX0_tally 56 = .ok (.ifCond .ne 8, 3) := dk_154 0 8 (dk_at dksX0_tally_2 11 rfl rfl)
theorem dX0_tally_59 : decode cX0_tally 59 = .ok (.bipush 6, 2) := dk_16 6 (dk_at dksX0_tally_2 14 rfl rfl)
theorem dX0_tally_61 : decode cX0_tally 61 = .ok (.goto 4, 3) := dk_167 0 4 (dk_at dksX0_tally_2 16 rfl rfl)
theorem dX0_tally_64 : decode cX0_tally 64 = .ok (.iconst 0, 1) := dk_3 (dk_at dksX0_tally_2 19 rfl rfl)
theorem dX0_tally_65 : decode cX0_tally 65 = .ok (.putfield 87, 3) := dk_181 0 87 (dk_at dksX0_tally_2 20 rfl rfl)
theorem dX0_tally_68 : decode cX0_tally 68 = .ok (.aload_n 0, 1) := dk_42 (dk_at dksX0_tally_2 23 rfl rfl)
theorem dX0_tally_69 : decode cX0_tally 69 = .ok (.getfield 87, 3) := dk_180 0 87 (dk_at dksX0_tally_3 0 rfl rfl)
theorem dX0_tally_72 : decode cX0_tally 72 = .ok (.ifCond .le 5, 3) := dk_158 0 5 (dk_at dksX0_tally_3 3 rfl rfl)
theorem dX0_tally_75 : decode cX0_tally 75 = .ok (.iconst (-1), 1) := dk_2 (dk_at dksX0_tally_3 6 rfl rfl)
theorem dX0_tally_76 : decode cX0_tally 76 = .ok (.ireturn, 1) := dk_172 (dk_at dksX0_tally_3 7 rfl rfl)
theorem dX0_tally_77 : decode cX0_tally 77 = .ok (.iconst 0, 1) := dk_3 (dk_at dksX0_tally_3 8 rfl rfl)
theorem dX0_tally_78 : decode cX0_tally 78 = .ok (.istore 6, 2) := dk_54 6 (dk_at dksX0_tally_3 9 rfl rfl)
theorem dX0_tally_80 : decode cX0_tally 80 = .ok (.iconst 0, 1) := dk_3 (dk_at dksX0_tally_3 11 rfl rfl)
theorem dX0_tally_81 : decode cX0_tally 81 = .ok (.istore 7, 2) := dk_54 7 (dk_at dksX0_tally_3 12 rfl rfl)
theorem dX0_tally_83 : decode cX0_tally 83 = .ok (.iload 7, 2) := dk_21 7 (dk_at dksX0_tally_3 14 rfl rfl)
theorem dX0_tally_85 : decode cX0_tally 85 = .ok (.iload_n 2, 1) := dk_28 (dk_at dksX0_tally_3 16 rfl rfl)
theorem dX0_tally_86 : decode cX0_tally 86 = .ok (.if_icmp .ge 54, 3) := dk_162 0 54 (dk_at dksX0_tally_3 17 rfl rfl)
theorem dX0_tally_89 : decode cX0_tally 89 = .ok (.aload_n 0, 1) := dk_42 (dk_at dksX0_tally_3 20 rfl rfl)
theorem dX0_tally_90 : decode cX0_tally 90 = .ok (.iload_n 1, 1) := dk_27 (dk_at dksX0_tally_3 21 rfl rfl)
theorem dX0_tally_91 : decode cX0_tally 91 = .ok (.iload 7, 2) := dk_21 7 (dk_at dksX0_tally_3 22 rfl rfl)
theorem dX0_tally_93 : decode cX0_tally 93 = .ok (.iadd, 1) := dk_96 (dk_at dksX0_tally_4 0 rfl rfl)
theorem dX0_tally_94 : decode cX0_tally 94 = .ok (.lload 4, 2) := dk_22 4 (dk_at dksX0_tally_4 1 rfl rfl)
theorem dX0_tally_96 : decode cX0_tally 96 = .ok (.invokevirtual 467, 3) := dk_182 1 211 (dk_at dksX0_tally_4 3 rfl rfl)
theorem dX0_tally_99 : decode cX0_tally 99 = .ok (.iload 6, 2) := dk_21 6 (dk_at dksX0_tally_4 6 rfl rfl)
theorem dX0_tally_101 : decode cX0_tally 101 = .ok (.aload_n 0, 1) := dk_42 (dk_at dksX0_tally_4 8 rfl rfl)
theorem dX0_tally_102 : decode cX0_tally 102 = .ok (.getfield 80, 3) := dk_180 0 80 (dk_at dksX0_tally_4 9 rfl rfl)
theorem dX0_tally_105 : decode cX0_tally 105 = .ok (.getfield 436, 3) := dk_180 1 180 (dk_at dksX0_tally_4 12 rfl rfl)
theorem dX0_tally_108 : decode cX0_tally 108 = .ok (.ifCond .ge 7, 3) := dk_156 0 7 (dk_at dksX0_tally_4 15 rfl rfl)
theorem dX0_tally_111 : decode cX0_tally 111 = .ok (.iconst 2, 1) := dk_5 (dk_at dksX0_tally_4 18 rfl rfl)
theorem dX0_tally_112 : decode cX0_tally 112 = .ok (.goto 10, 3) := dk_167 0 10 (dk_at dksX0_tally_4 19 rfl rfl)
theorem dX0_tally_115 : decode cX0_tally 115 = .ok (.aload_n 0, 1) := dk_42 (dk_at dksX0_tally_4 22 rfl rfl)
theorem dX0_tally_116 : decode cX0_tally 116 = .ok (.getfield 80, 3) := dk_180 0 80 (dk_at dksX0_tally_5 0 rfl rfl)
theorem dX0_tally_119 : decode cX0_tally 119 = .ok (.getfield 436, 3) := dk_180 1 180 (dk_at dksX0_tally_5 3 rfl rfl)
theorem dX0_tally_122 : decode cX0_tally 122 = .ok (.iload_n 3, 1) := dk_29 (dk_at dksX0_tally_5 6 rfl rfl)
theorem dX0_tally_123 : decode cX0_tally 123 = .ok (.if_icmp .ne 7, 3) := dk_160 0 7 (dk_at dksX0_tally_5 7 rfl rfl)
theorem dX0_tally_126 : decode cX0_tally 126 = .ok (.iconst 1, 1) := dk_4 (dk_at dksX0_tally_5 10 rfl rfl)
theorem dX0_tally_127 : decode cX0_tally 127 = .ok (.goto 4, 3) := dk_167 0 4 (dk_at dksX0_tally_5 11 rfl rfl)
theorem dX0_tally_130 : decode cX0_tally 130 = .ok (.iconst 0, 1) := dk_3 (dk_at dksX0_tally_5 14 rfl rfl)
theorem dX0_tally_131 : decode cX0_tally 131 = .ok (.iadd, 1) := dk_96 (dk_at dksX0_tally_5 15 rfl rfl)
theorem dX0_tally_132 : decode cX0_tally 132 = .ok (.istore 6, 2) := dk_54 6 (dk_at dksX0_tally_5 16 rfl rfl)
theorem dX0_tally_134 : decode cX0_tally 134 = .ok (.iinc 7 1, 3) := dk_132 7 1 (dk_at dksX0_tally_5 18 rfl rfl)
theorem dX0_tally_137 : decode cX0_tally 137 = .ok (.goto (-54), 3) := dk_167 255 202 (dk_at dksX0_tally_5 21 rfl rfl)
theorem dX0_tally_140 : decode cX0_tally 140 = .ok (.iload 6, 2) := dk_21 6 (dk_at dksX0_tally_6 0 rfl rfl)
theorem dX0_tally_142 : decode cX0_tally 142 = .ok (.ireturn, 1) := dk_172 (dk_at dksX0_tally_6 2 rfl rfl)
abbrev cX0_mark : ByteArray := prog_1_method_81_code
def yX0_mark : MethodName := ⟨RX0, "mark", "()I"⟩
def dkwX0_mark_3 : List UInt8 := [42, 89, 180, 1, 223, 4, 96, 181, 1, 223, 42, 180, 1, 223, 172]
abbrev dktX0_mark_3 : List UInt8 := dkwX0_mark_3 ++ []
def dkwX0_mark_2 : List UInt8 := [187, 0, 52, 89, 183, 0, 54, 83, 42, 180, 0, 59, 42, 180, 1, 223, 50, 42, 180, 0, 55, 182, 1, 226]
abbrev dktX0_mark_2 : List UInt8 := dkwX0_mark_2 ++ dktX0_mark_3
def dkwX0_mark_1 : List UInt8 := [2, 172, 42, 180, 0, 59, 42, 180, 1, 223, 50, 199, 0, 19, 42, 180, 0, 59, 42, 180, 1, 223]
abbrev dktX0_mark_1 : List UInt8 := dkwX0_mark_1 ++ dktX0_mark_2
def dkwX0_mark_0 : List UInt8 := [42, 42, 180, 1, 223, 6, 160, 0, 7, 7, 167, 0, 4, 3, 181, 0, 87, 42, 180, 0, 87, 158, 0, 5]
abbrev dktX0_mark_0 : List UInt8 := dkwX0_mark_0 ++ dktX0_mark_1
theorem dksX0_mark_0 : cX0_mark.data.toList.drop 0 = dktX0_mark_0 := by decide +kernel
theorem dksX0_mark_1 : cX0_mark.data.toList.drop 24 = dktX0_mark_1 := dk_seg dksX0_mark_0 24 rfl rfl
theorem dksX0_mark_2 : cX0_mark.data.toList.drop 46 = dktX0_mark_2 := dk_seg dksX0_mark_1 22 rfl rfl
theorem dksX0_mark_3 : cX0_mark.data.toList.drop 70 = dktX0_mark_3 := dk_seg dksX0_mark_2 24 rfl rfl
theorem dX0_mark_0 : decode cX0_mark 0 = .ok (.aload_n 0, 1) := dk_42 (dk_at dksX0_mark_0 0 rfl rfl)
theorem dX0_mark_1 : decode cX0_mark 1 = .ok (.aload_n 0, 1) := dk_42 (dk_at dksX0_mark_0 1 rfl rfl)
theorem dX0_mark_2 : decode cX0_mark 2 = .ok (.getfield 479, 3) := dk_180 1 223 (dk_at dksX0_mark_0 2 rfl rfl)
theorem dX0_mark_5 : decode cX0_mark 5 = .ok (.iconst 3, 1) := dk_6 (dk_at dksX0_mark_0 5 rfl rfl)
theorem dX0_mark_6 : decode cX0_mark 6 = .ok (.if_icmp .ne 7, 3) := dk_160 0 7 (dk_at dksX0_mark_0 6 rfl rfl)
theorem dX0_mark_9 : decode cX0_mark 9 = .ok (.iconst 4, 1) := dk_7 (dk_at dksX0_mark_0 9 rfl rfl)
theorem dX0_mark_10 : decode cX0_mark 10 = .ok (.goto 4, 3) := dk_167 0 4 (dk_at dksX0_mark_0 10 rfl rfl)
theorem dX0_mark_13 : decode cX0_mark 13 = .ok (.iconst 0, 1) := dk_3 (dk_at dksX0_mark_0 13 rfl rfl)
theorem dX0_mark_14 : decode cX0_mark 14 = .ok (.putfield 87, 3) := dk_181 0 87 (dk_at dksX0_mark_0 14 rfl rfl)
theorem dX0_mark_17 : decode cX0_mark 17 = .ok (.aload_n 0, 1) := dk_42 (dk_at dksX0_mark_0 17 rfl rfl)
theorem dX0_mark_18 : decode cX0_mark 18 = .ok (.getfield 87, 3) := dk_180 0 87 (dk_at dksX0_mark_0 18 rfl rfl)
theorem dX0_mark_21 : decode cX0_mark 21 = .ok (.ifCond .le 5, 3) := dk_158 0 5 (dk_at dksX0_mark_0 21 rfl rfl)
theorem dX0_mark_24 : decode cX0_mark 24 = .ok (.iconst (-1), 1) := dk_2 (dk_at dksX0_mark_1 0 rfl rfl)
theorem dX0_mark_25 : decode cX0_mark 25 = .ok (.ireturn, 1) := dk_172 (dk_at dksX0_mark_1 1 rfl rfl)
theorem dX0_mark_26 : decode cX0_mark 26 = .ok (.aload_n 0, 1) := dk_42 (dk_at dksX0_mark_1 2 rfl rfl)
theorem dX0_mark_27 : decode cX0_mark 27 = .ok (.getfield 59, 3) := dk_180 0 59 (dk_at dksX0_mark_1 3 rfl rfl)
theorem dX0_mark_30 : decode cX0_mark 30 = .ok (.aload_n 0, 1) := dk_42 (dk_at dksX0_mark_1 6 rfl rfl)
theorem dX0_mark_31 : decode cX0_mark 31 = .ok (.getfield 479, 3) := dk_180 1 223 (dk_at dksX0_mark_1 7 rfl rfl)
theorem dX0_mark_34 : decode cX0_mark 34 = .ok (.aaload, 1) := dk_50 (dk_at dksX0_mark_1 10 rfl rfl)
theorem dX0_mark_35 : decode cX0_mark 35 = .ok (.ifnonnull 19, 3) := dk_199 0 19 (dk_at dksX0_mark_1 11 rfl rfl)
theorem dX0_mark_38 : decode cX0_mark 38 = .ok (.aload_n 0, 1) := dk_42 (dk_at dksX0_mark_1 14 rfl rfl)
theorem dX0_mark_39 : decode cX0_mark 39 = .ok (.getfield 59, 3) := dk_180 0 59 (dk_at dksX0_mark_1 15 rfl rfl)
theorem dX0_mark_42 : decode cX0_mark 42 = .ok (.aload_n 0, 1) := dk_42 (dk_at dksX0_mark_1 18 rfl rfl)
theorem dX0_mark_43 : decode cX0_mark 43 = .ok (.getfield 479, 3) := dk_180 1 223 (dk_at dksX0_mark_1 19 rfl rfl)
theorem dX0_mark_46 : decode cX0_mark 46 = .ok (.new 52, 3) := dk_187 0 52 (dk_at dksX0_mark_2 0 rfl rfl)
theorem dX0_mark_49 : decode cX0_mark 49 = .ok (.dup, 1) := dk_89 (dk_at dksX0_mark_2 3 rfl rfl)
theorem dX0_mark_50 : decode cX0_mark 50 = .ok (.invokespecial 54, 3) := dk_183 0 54 (dk_at dksX0_mark_2 4 rfl rfl)
theorem dX0_mark_53 : decode cX0_mark 53 = .ok (.aastore, 1) := dk_83 (dk_at dksX0_mark_2 7 rfl rfl)
theorem dX0_mark_54 : decode cX0_mark 54 = .ok (.aload_n 0, 1) := dk_42 (dk_at dksX0_mark_2 8 rfl rfl)
theorem dX0_mark_55 : decode cX0_mark 55 = .ok (.getfield 59, 3) := dk_180 0 59 (dk_at dksX0_mark_2 9 rfl rfl)
theorem dX0_mark_58 : decode cX0_mark 58 = .ok (.aload_n 0, 1) := dk_42 (dk_at dksX0_mark_2 12 rfl rfl)
theorem dX0_mark_59 : decode cX0_mark 59 = .ok (.getfield 479, 3) := dk_180 1 223 (dk_at dksX0_mark_2 13 rfl rfl)
theorem dX0_mark_62 : decode cX0_mark 62 = .ok (.aaload, 1) := dk_50 (dk_at dksX0_mark_2 16 rfl rfl)
theorem dX0_mark_63 : decode cX0_mark 63 = .ok (.aload_n 0, 1) := dk_42 (dk_at dksX0_mark_2 17 rfl rfl)
theorem dX0_mark_64 : decode cX0_mark 64 = .ok (.getfield 55, 3) := dk_180 0 55 (dk_at dksX0_mark_2 18 rfl rfl)
theorem dX0_mark_67 : decode cX0_mark 67 = .ok (.invokevirtual 482, 3) := dk_182 1 226 (dk_at dksX0_mark_2 21 rfl rfl)
theorem dX0_mark_70 : decode cX0_mark 70 = .ok (.aload_n 0, 1) := dk_42 (dk_at dksX0_mark_3 0 rfl rfl)
theorem dX0_mark_71 : decode cX0_mark 71 = .ok (.dup, 1) := dk_89 (dk_at dksX0_mark_3 1 rfl rfl)
theorem dX0_mark_72 : decode cX0_mark 72 = .ok (.getfield 479, 3) := dk_180 1 223 (dk_at dksX0_mark_3 2 rfl rfl)
theorem dX0_mark_75 : decode cX0_mark 75 = .ok (.iconst 1, 1) := dk_4 (dk_at dksX0_mark_3 5 rfl rfl)
theorem dX0_mark_76 : decode cX0_mark 76 = .ok (.iadd, 1) := dk_96 (dk_at dksX0_mark_3 6 rfl rfl)
theorem dX0_mark_77 : decode cX0_mark 77 = .ok (.putfield 479, 3) := dk_181 1 223 (dk_at dksX0_mark_3 7 rfl rfl)
theorem dX0_mark_80 : decode cX0_mark 80 = .ok (.aload_n 0, 1) := dk_42 (dk_at dksX0_mark_3 10 rfl rfl)
theorem dX0_mark_81 : decode cX0_mark 81 = .ok (.getfield 479, 3) := dk_180 1 223 (dk_at dksX0_mark_3 11 rfl rfl)
theorem dX0_mark_84 : decode cX0_mark 84 = .ok (.ireturn, 1) := dk_172 (dk_at dksX0_mark_3 14 rfl rfl)
abbrev cX0_back : ByteArray := prog_1_method_82_code
def yX0_back : MethodName := ⟨RX0, "back", "()I"⟩
def dkwX0_back_2 : List UInt8 := [50, 182, 1, 226, 42, 180, 1, 223, 172]
abbrev dktX0_back_2 : List UInt8 := dkwX0_back_2 ++ []
def dkwX0_back_1 : List UInt8 := [2, 172, 42, 89, 180, 1, 223, 4, 100, 181, 1, 223, 42, 180, 0, 55, 42, 180, 0, 59, 42, 180, 1, 223]
abbrev dktX0_back_1 : List UInt8 := dkwX0_back_1 ++ dktX0_back_2
def dkwX0_back_0 : List UInt8 := [42, 42, 180, 1, 223, 154, 0, 8, 16, 6, 167, 0, 4, 3, 181, 0, 87, 42, 180, 0, 87, 158, 0, 5]
abbrev dktX0_back_0 : List UInt8 := dkwX0_back_0 ++ dktX0_back_1
theorem dksX0_back_0 : cX0_back.data.toList.drop 0 = dktX0_back_0 := by decide +kernel
theorem dksX0_back_1 : cX0_back.data.toList.drop 24 = dktX0_back_1 := dk_seg dksX0_back_0 24 rfl rfl
theorem dksX0_back_2 : cX0_back.data.toList.drop 48 = dktX0_back_2 := dk_seg dksX0_back_1 24 rfl rfl
theorem dX0_back_0 : decode cX0_back 0 = .ok (.aload_n 0, 1) := dk_42 (dk_at dksX0_back_0 0 rfl rfl)
theorem dX0_back_1 : decode cX0_back 1 = .ok (.aload_n 0, 1) := dk_42 (dk_at dksX0_back_0 1 rfl rfl)
theorem dX0_back_2 : decode cX0_back 2 = .ok (.getfield 479, 3) := dk_180 1 223 (dk_at dksX0_back_0 2 rfl rfl)
theorem dX0_back_5 : decode cX0_back 5 = .ok (.ifCond .ne 8, 3) := dk_154 0 8 (dk_at dksX0_back_0 5 rfl rfl)
theorem dX0_back_8 : decode cX0_back 8 = .ok (.bipush 6, 2) := dk_16 6 (dk_at dksX0_back_0 8 rfl rfl)
theorem dX0_back_10 : decode cX0_back 10 = .ok (.goto 4, 3) := dk_167 0 4 (dk_at dksX0_back_0 10 rfl rfl)
theorem dX0_back_13 : decode cX0_back 13 = .ok (.iconst 0, 1) := dk_3 (dk_at dksX0_back_0 13 rfl rfl)
theorem dX0_back_14 : decode cX0_back 14 = .ok (.putfield 87, 3) := dk_181 0 87 (dk_at dksX0_back_0 14 rfl rfl)
theorem dX0_back_17 : decode cX0_back 17 = .ok (.aload_n 0, 1) := dk_42 (dk_at dksX0_back_0 17 rfl rfl)
theorem dX0_back_18 : decode cX0_back 18 = .ok (.getfield 87, 3) := dk_180 0 87 (dk_at dksX0_back_0 18 rfl rfl)
theorem dX0_back_21 : decode cX0_back 21 = .ok (.ifCond .le 5, 3) := dk_158 0 5 (dk_at dksX0_back_0 21 rfl rfl)
theorem dX0_back_24 : decode cX0_back 24 = .ok (.iconst (-1), 1) := dk_2 (dk_at dksX0_back_1 0 rfl rfl)
theorem dX0_back_25 : decode cX0_back 25 = .ok (.ireturn, 1) := dk_172 (dk_at dksX0_back_1 1 rfl rfl)
theorem dX0_back_26 : decode cX0_back 26 = .ok (.aload_n 0, 1) := dk_42 (dk_at dksX0_back_1 2 rfl rfl)
theorem dX0_back_27 : decode cX0_back 27 = .ok (.dup, 1) := dk_89 (dk_at dksX0_back_1 3 rfl rfl)
theorem dX0_back_28 : decode cX0_back 28 = .ok (.getfield 479, 3) := dk_180 1 223 (dk_at dksX0_back_1 4 rfl rfl)
theorem dX0_back_31 : decode cX0_back 31 = .ok (.iconst 1, 1) := dk_4 (dk_at dksX0_back_1 7 rfl rfl)
theorem dX0_back_32 : decode cX0_back 32 = .ok (.isub, 1) := dk_100 (dk_at dksX0_back_1 8 rfl rfl)
theorem dX0_back_33 : decode cX0_back 33 = .ok (.putfield 479, 3) := dk_181 1 223 (dk_at dksX0_back_1 9 rfl rfl)
theorem dX0_back_36 : decode cX0_back 36 = .ok (.aload_n 0, 1) := dk_42 (dk_at dksX0_back_1 12 rfl rfl)
theorem dX0_back_37 : decode cX0_back 37 = .ok (.getfield 55, 3) := dk_180 0 55 (dk_at dksX0_back_1 13 rfl rfl)
theorem dX0_back_40 : decode cX0_back 40 = .ok (.aload_n 0, 1) := dk_42 (dk_at dksX0_back_1 16 rfl rfl)
theorem dX0_back_41 : decode cX0_back 41 = .ok (.getfield 59, 3) := dk_180 0 59 (dk_at dksX0_back_1 17 rfl rfl)
theorem dX0_back_44 : decode cX0_back 44 = .ok (.aload_n 0, 1) := dk_42 (dk_at dksX0_back_1 20 rfl rfl)
theorem dX0_back_45 : decode cX0_back 45 = .ok (.getfield 479, 3) := dk_180 1 223 (dk_at dksX0_back_1 21 rfl rfl)
theorem dX0_back_48 : decode cX0_back 48 = .ok (.aaload, 1) := dk_50 (dk_at dksX0_back_2 0 rfl rfl)
theorem dX0_back_49 : decode cX0_back 49 = .ok (.invokevirtual 482, 3) := dk_182 1 226 (dk_at dksX0_back_2 1 rfl rfl)
theorem dX0_back_52 : decode cX0_back 52 = .ok (.aload_n 0, 1) := dk_42 (dk_at dksX0_back_2 4 rfl rfl)
theorem dX0_back_53 : decode cX0_back 53 = .ok (.getfield 479, 3) := dk_180 1 223 (dk_at dksX0_back_2 5 rfl rfl)
theorem dX0_back_56 : decode cX0_back 56 = .ok (.ireturn, 1) := dk_172 (dk_at dksX0_back_2 8 rfl rfl)
theorem q164 : (Jvm.Cond.initialized "AskingCourt") ∈ lw_all := lw_g (lw_at lw_m1 1 rfl) rfl
theorem q197 : (Jvm.Cond.instantiable "AskingCourt" (24 : Nat)) ∈ lw_all := lw_g (lw_at lw_m1 34 rfl) rfl
theorem q199 : (Jvm.Cond.instanceMethod ({ cls := "AskingCourt", name := "<init>", desc := "()V" } : Jvm.MethodName)) ∈ lw_all := lw_g (lw_at lw_m1 36 rfl) rfl
theorem q200 : (Jvm.Cond.code ({ cls := "AskingCourt", name := "<init>", desc := "()V" } : Jvm.MethodName) prog_1_method_6_code (1 : Nat) (Option.none : Option Jvm.ClassFile.FieldType)) ∈ lw_all := lw_g (lw_at lw_m1 37 rfl) rfl
theorem q201 : (Jvm.Cond.methodLink "AskingCourt" (9 : Nat) ({ cls := "java/lang/Object", name := "<init>", desc := "()V" } : Jvm.MethodName)) ∈ lw_all := lw_g (lw_at lw_m1 38 rfl) rfl
theorem q204 : (Jvm.Cond.classLink "AskingCourt" (15 : Nat) "AskingCourt$Tray") ∈ lw_all := lw_g (lw_at lw_m1 41 rfl) rfl
theorem q207 : (Jvm.Cond.methodLinkNest "AskingCourt" (17 : Nat) ({ cls := "AskingCourt$Tray", name := "<init>", desc := "()V" } : Jvm.MethodName) "AskingCourt") ∈ lw_tbl := lw_at lw_m1 44 rfl
theorem q211 : (Jvm.Cond.fieldLinkNest "AskingCourt" (116 : Nat) "AskingCourt$Tray" "row" "Ljava/lang/Object;" "AskingCourt") ∈ lw_tbl := lw_at lw_m1 48 rfl
theorem q215 : (Jvm.Cond.classLink "AskingCourt" (34 : Nat) "AskingCourt$Bad") ∈ lw_all := lw_g (lw_at lw_m1 52 rfl) rfl
theorem q255 : (Jvm.Cond.methodLink "AskingCourt" (36 : Nat) ({ cls := "AskingCourt$Bad", name := "<init>", desc := "()V" } : Jvm.MethodName)) ∈ lw_all := lw_g (lw_at lw_m1 92 rfl) rfl
theorem q265 : (Jvm.Cond.fieldLinkNest "AskingCourt" (192 : Nat) "AskingCourt$Bad" "kind" "I" "AskingCourt") ∈ lw_tbl := lw_at lw_m1 102 rfl
theorem q267 : (Jvm.Cond.fieldLinkNest "AskingCourt" (195 : Nat) "AskingCourt$Bad" "place" "I" "AskingCourt") ∈ lw_tbl := lw_at lw_m1 104 rfl
theorem q286 : (Jvm.Cond.classLink "AskingCourt" (41 : Nat) "AskingCourt$Refused") ∈ lw_all := lw_g (lw_at lw_m1 123 rfl) rfl
theorem q295 : (Jvm.Cond.methodLink "AskingCourt" (43 : Nat) ({ cls := "AskingCourt$Refused", name := "<init>", desc := "()V" } : Jvm.MethodName)) ∈ lw_all := lw_g (lw_at lw_m1 132 rfl) rfl
theorem q300 : (Jvm.Cond.fieldLinkNest "AskingCourt" (97 : Nat) "AskingCourt$Refused" "why" "I" "AskingCourt") ∈ lw_tbl := lw_at lw_m1 137 rfl
theorem q305 : (Jvm.Cond.classLink "AskingCourt" (52 : Nat) "AskingCourt$House") ∈ lw_all := lw_g (lw_at lw_m1 142 rfl) rfl
theorem q307 : (Jvm.Cond.methodLinkNest "AskingCourt" (54 : Nat) ({ cls := "AskingCourt$House", name := "<init>", desc := "()V" } : Jvm.MethodName) "AskingCourt") ∈ lw_tbl := lw_at lw_m1 144 rfl
theorem q348 : (Jvm.Cond.fieldLinkNest "AskingCourt" (243 : Nat) "AskingCourt$Case" "facts" "I" "AskingCourt") ∈ lw_tbl := lw_at lw_m1 185 rfl
theorem q351 : (Jvm.Cond.fieldLinkNest "AskingCourt" (246 : Nat) "AskingCourt$Case" "values" "I" "AskingCourt") ∈ lw_tbl := lw_at lw_m1 188 rfl
theorem q354 : (Jvm.Cond.fieldLinkNest "AskingCourt" (177 : Nat) "AskingCourt$Case" "questions" "I" "AskingCourt") ∈ lw_tbl := lw_at lw_m1 191 rfl
theorem q357 : (Jvm.Cond.fieldLinkNest "AskingCourt" (180 : Nat) "AskingCourt$Case" "many" "I" "AskingCourt") ∈ lw_tbl := lw_at lw_m1 194 rfl
theorem q362 : (Jvm.Cond.fieldLinkNest "AskingCourt" (168 : Nat) "AskingCourt$Case" "worlds" "I" "AskingCourt") ∈ lw_tbl := lw_at lw_m1 199 rfl
theorem q377 : (Jvm.Cond.fieldLinkNest "AskingCourt" (256 : Nat) "AskingCourt$Case" "valueFact" "[I" "AskingCourt") ∈ lw_tbl := lw_at lw_m1 214 rfl
theorem q380 : (Jvm.Cond.fieldLinkNest "AskingCourt" (259 : Nat) "AskingCourt$Case" "weights" "[I" "AskingCourt") ∈ lw_tbl := lw_at lw_m1 217 rfl
theorem q384 : (Jvm.Cond.fieldLinkNest "AskingCourt" (286 : Nat) "AskingCourt$Case" "fees" "[I" "AskingCourt") ∈ lw_tbl := lw_at lw_m1 221 rfl
theorem q388 : (Jvm.Cond.fieldLinkNest "AskingCourt" (270 : Nat) "AskingCourt$Case" "possible" "LAskingCourt$Worlds;" "AskingCourt") ∈ lw_tbl := lw_at lw_m1 225 rfl
theorem q393 : (Jvm.Cond.fieldLinkNest "AskingCourt" (282 : Nat) "AskingCourt$Case" "meant" "[LAskingCourt$Worlds;" "AskingCourt") ∈ lw_tbl := lw_at lw_m1 230 rfl
theorem q397 : (Jvm.Cond.fieldLinkNest "AskingCourt" (294 : Nat) "AskingCourt$Case" "witness" "[LAskingCourt$Witness;" "AskingCourt") ∈ lw_tbl := lw_at lw_m1 234 rfl
theorem q443 : (Jvm.Cond.fieldLinkNest "AskingCourt" (323 : Nat) "AskingCourt$Record" "who" "[I" "AskingCourt") ∈ lw_tbl := lw_at lw_m2 40 rfl
theorem q445 : (Jvm.Cond.fieldLinkNest "AskingCourt" (326 : Nat) "AskingCourt$Record" "what" "[I" "AskingCourt") ∈ lw_tbl := lw_at lw_m2 42 rfl
theorem q447 : (Jvm.Cond.fieldLinkNest "AskingCourt" (329 : Nat) "AskingCourt$Record" "answer" "[I" "AskingCourt") ∈ lw_tbl := lw_at lw_m2 44 rfl
theorem q449 : (Jvm.Cond.fieldLinkNest "AskingCourt" (331 : Nat) "AskingCourt$Record" "days" "[I" "AskingCourt") ∈ lw_tbl := lw_at lw_m2 46 rfl
theorem q451 : (Jvm.Cond.fieldLinkNest "AskingCourt" (252 : Nat) "AskingCourt$Record" "many" "I" "AskingCourt") ∈ lw_tbl := lw_at lw_m2 48 rfl
theorem q454 : (Jvm.Cond.fieldLinkNest "AskingCourt" (249 : Nat) "AskingCourt$Record" "day" "I" "AskingCourt") ∈ lw_tbl := lw_at lw_m2 51 rfl
theorem q471 : (Jvm.Cond.fieldLinkNest "AskingCourt" (161 : Nat) "AskingCourt$House" "court" "LAskingCourt$Case;" "AskingCourt") ∈ lw_tbl := lw_at lw_m2 68 rfl
theorem q473 : (Jvm.Cond.fieldLinkNest "AskingCourt" (211 : Nat) "AskingCourt$House" "record" "LAskingCourt$Record;" "AskingCourt") ∈ lw_tbl := lw_at lw_m2 70 rfl
theorem q475 : (Jvm.Cond.fieldLinkNest "AskingCourt" (220 : Nat) "AskingCourt$House" "plan" "LAskingCourt$Block;" "AskingCourt") ∈ lw_tbl := lw_at lw_m2 72 rfl
theorem q484 : (Jvm.Cond.classLink "AskingCourt" (75 : Nat) "AskingCourt$Sitting") ∈ lw_all := lw_g (lw_at lw_m2 81 rfl) rfl
theorem q486 : (Jvm.Cond.methodLinkNest "AskingCourt" (77 : Nat) ({ cls := "AskingCourt$Sitting", name := "<init>", desc := "(LAskingCourt;)V" } : Jvm.MethodName) "AskingCourt") ∈ lw_tbl := lw_at lw_m2 83 rfl
theorem q495 : (Jvm.Cond.fieldLinkNest "AskingCourt" (435 : Nat) "AskingCourt$Sitting" "record" "LAskingCourt$Record;" "AskingCourt") ∈ lw_tbl := lw_at lw_m2 92 rfl
theorem q497 : (Jvm.Cond.fieldLinkNest "AskingCourt" (448 : Nat) "AskingCourt$Sitting" "kinds" "[I" "AskingCourt") ∈ lw_tbl := lw_at lw_m2 94 rfl
theorem q499 : (Jvm.Cond.fieldLinkNest "AskingCourt" (442 : Nat) "AskingCourt$Sitting" "world" "I" "AskingCourt") ∈ lw_tbl := lw_at lw_m2 96 rfl
theorem q501 : (Jvm.Cond.fieldLinkNest "AskingCourt" (436 : Nat) "AskingCourt$Sitting" "verdict" "I" "AskingCourt") ∈ lw_tbl := lw_at lw_m2 98 rfl
theorem q515 : (Jvm.Cond.fieldLink "AskingCourt" (18 : Nat) "AskingCourt" "trays" "[LAskingCourt$Tray;") ∈ lw_all := lw_g (lw_at lw_m2 112 rfl) rfl
theorem q517 : (Jvm.Cond.fieldLink "AskingCourt" (24 : Nat) "AskingCourt" "tape" "[B") ∈ lw_all := lw_g (lw_at lw_m2 114 rfl) rfl
theorem q518 : (Jvm.Cond.fieldLink "AskingCourt" (185 : Nat) "AskingCourt" "taped" "I") ∈ lw_all := lw_g (lw_at lw_m2 115 rfl) rfl
theorem q519 : (Jvm.Cond.fieldLink "AskingCourt" (27 : Nat) "AskingCourt" "faultKind" "I") ∈ lw_all := lw_g (lw_at lw_m2 116 rfl) rfl
theorem q520 : (Jvm.Cond.fieldLink "AskingCourt" (31 : Nat) "AskingCourt" "faultAt" "I") ∈ lw_all := lw_g (lw_at lw_m2 117 rfl) rfl
theorem q521 : (Jvm.Cond.fieldLink "AskingCourt" (37 : Nat) "AskingCourt" "bad" "LAskingCourt$Bad;") ∈ lw_all := lw_g (lw_at lw_m2 118 rfl) rfl
theorem q523 : (Jvm.Cond.fieldLink "AskingCourt" (44 : Nat) "AskingCourt" "refused" "LAskingCourt$Refused;") ∈ lw_all := lw_g (lw_at lw_m2 120 rfl) rfl
theorem q524 : (Jvm.Cond.fieldLink "AskingCourt" (87 : Nat) "AskingCourt" "status" "I") ∈ lw_all := lw_g (lw_at lw_m2 121 rfl) rfl
theorem q525 : (Jvm.Cond.fieldLink "AskingCourt" (90 : Nat) "AskingCourt" "above" "J") ∈ lw_all := lw_g (lw_at lw_m2 122 rfl) rfl
theorem q526 : (Jvm.Cond.fieldLink "AskingCourt" (48 : Nat) "AskingCourt" "under" "J") ∈ lw_all := lw_g (lw_at lw_m2 123 rfl) rfl
theorem q529 : (Jvm.Cond.fieldLink "AskingCourt" (55 : Nat) "AskingCourt" "now" "LAskingCourt$House;") ∈ lw_all := lw_g (lw_at lw_m2 126 rfl) rfl
theorem q530 : (Jvm.Cond.fieldLink "AskingCourt" (59 : Nat) "AskingCourt" "marks" "[LAskingCourt$House;") ∈ lw_all := lw_g (lw_at lw_m2 127 rfl) rfl
theorem q531 : (Jvm.Cond.fieldLink "AskingCourt" (479 : Nat) "AskingCourt" "markMany" "I") ∈ lw_all := lw_g (lw_at lw_m2 128 rfl) rfl
theorem q532 : (Jvm.Cond.fieldLink "AskingCourt" (63 : Nat) "AskingCourt" "alone" "[B") ∈ lw_all := lw_g (lw_at lw_m2 129 rfl) rfl
theorem q533 : (Jvm.Cond.fieldLink "AskingCourt" (66 : Nat) "AskingCourt" "states" "[S") ∈ lw_all := lw_g (lw_at lw_m2 130 rfl) rfl
theorem q534 : (Jvm.Cond.fieldLink "AskingCourt" (69 : Nat) "AskingCourt" "firstPut" "[I") ∈ lw_all := lw_g (lw_at lw_m2 131 rfl) rfl
theorem q535 : (Jvm.Cond.fieldLink "AskingCourt" (418 : Nat) "AskingCourt" "putSet" "I") ∈ lw_all := lw_g (lw_at lw_m2 132 rfl) rfl
theorem q536 : (Jvm.Cond.fieldLink "AskingCourt" (409 : Nat) "AskingCourt" "goal" "I") ∈ lw_all := lw_g (lw_at lw_m2 133 rfl) rfl
theorem q537 : (Jvm.Cond.fieldLink "AskingCourt" (415 : Nat) "AskingCourt" "oneWitness" "I") ∈ lw_all := lw_g (lw_at lw_m2 134 rfl) rfl
theorem q538 : (Jvm.Cond.fieldLink "AskingCourt" (72 : Nat) "AskingCourt" "shortest" "I") ∈ lw_all := lw_g (lw_at lw_m2 135 rfl) rfl
theorem q539 : (Jvm.Cond.fieldLink "AskingCourt" (80 : Nat) "AskingCourt" "sitting" "LAskingCourt$Sitting;") ∈ lw_all := lw_g (lw_at lw_m2 136 rfl) rfl
theorem q540 : (Jvm.Cond.fieldLink "AskingCourt" (431 : Nat) "AskingCourt" "state" "I") ∈ lw_all := lw_g (lw_at lw_m2 137 rfl) rfl
theorem q541 : (Jvm.Cond.fieldLink "AskingCourt" (471 : Nat) "AskingCourt" "hasSat" "Z") ∈ lw_all := lw_g (lw_at lw_m2 138 rfl) rfl
theorem q542 : (Jvm.Cond.fieldLink "AskingCourt" (84 : Nat) "AskingCourt" "last" "[I") ∈ lw_all := lw_g (lw_at lw_m2 139 rfl) rfl
theorem q543 : (Jvm.Cond.laysFinal "AskingCourt" "AskingCourt" "trays" "[LAskingCourt$Tray;") ∈ lw_all := lw_g (lw_at lw_m2 140 rfl) rfl
theorem q544 : (Jvm.Cond.soleField "AskingCourt" "trays") ∈ lw_all := lw_g (lw_at lw_m2 141 rfl) rfl
theorem q545 : (Jvm.Cond.laysFinal "AskingCourt" "AskingCourt" "tape" "[B") ∈ lw_all := lw_g (lw_at lw_m2 142 rfl) rfl
theorem q546 : (Jvm.Cond.soleField "AskingCourt" "tape") ∈ lw_all := lw_g (lw_at lw_m2 143 rfl) rfl
theorem q547 : (Jvm.Cond.lays "AskingCourt" "AskingCourt" "taped" "I") ∈ lw_all := lw_g (lw_at lw_m2 144 rfl) rfl
theorem q548 : (Jvm.Cond.soleField "AskingCourt" "taped") ∈ lw_all := lw_g (lw_at lw_m2 145 rfl) rfl
theorem q549 : (Jvm.Cond.lays "AskingCourt" "AskingCourt" "faultKind" "I") ∈ lw_all := lw_g (lw_at lw_m2 146 rfl) rfl
theorem q550 : (Jvm.Cond.soleField "AskingCourt" "faultKind") ∈ lw_all := lw_g (lw_at lw_m2 147 rfl) rfl
theorem q551 : (Jvm.Cond.lays "AskingCourt" "AskingCourt" "faultAt" "I") ∈ lw_all := lw_g (lw_at lw_m2 148 rfl) rfl
theorem q552 : (Jvm.Cond.soleField "AskingCourt" "faultAt") ∈ lw_all := lw_g (lw_at lw_m2 149 rfl) rfl
theorem q553 : (Jvm.Cond.laysFinal "AskingCourt" "AskingCourt" "bad" "LAskingCourt$Bad;") ∈ lw_all := lw_g (lw_at lw_m2 150 rfl) rfl
theorem q554 : (Jvm.Cond.soleField "AskingCourt" "bad") ∈ lw_all := lw_g (lw_at lw_m2 151 rfl) rfl
theorem q555 : (Jvm.Cond.laysFinal "AskingCourt" "AskingCourt" "refused" "LAskingCourt$Refused;") ∈ lw_all := lw_g (lw_at lw_m2 152 rfl) rfl
theorem q556 : (Jvm.Cond.soleField "AskingCourt" "refused") ∈ lw_all := lw_g (lw_at lw_m2 153 rfl) rfl
theorem q557 : (Jvm.Cond.lays "AskingCourt" "AskingCourt" "status" "I") ∈ lw_all := lw_g (lw_at lw_m2 154 rfl) rfl
theorem q558 : (Jvm.Cond.soleField "AskingCourt" "status") ∈ lw_all := lw_g (lw_at lw_m2 155 rfl) rfl
theorem q559 : (Jvm.Cond.lays "AskingCourt" "AskingCourt" "above" "J") ∈ lw_all := lw_g (lw_at lw_m2 156 rfl) rfl
theorem q560 : (Jvm.Cond.soleField "AskingCourt" "above") ∈ lw_all := lw_g (lw_at lw_m2 157 rfl) rfl
theorem q561 : (Jvm.Cond.lays "AskingCourt" "AskingCourt" "under" "J") ∈ lw_all := lw_g (lw_at lw_m2 158 rfl) rfl
theorem q562 : (Jvm.Cond.soleField "AskingCourt" "under") ∈ lw_all := lw_g (lw_at lw_m2 159 rfl) rfl
theorem q563 : (Jvm.Cond.laysFinal "AskingCourt" "AskingCourt" "now" "LAskingCourt$House;") ∈ lw_all := lw_g (lw_at lw_m2 160 rfl) rfl
theorem q564 : (Jvm.Cond.soleField "AskingCourt" "now") ∈ lw_all := lw_g (lw_at lw_m2 161 rfl) rfl
theorem q565 : (Jvm.Cond.laysFinal "AskingCourt" "AskingCourt" "marks" "[LAskingCourt$House;") ∈ lw_all := lw_g (lw_at lw_m2 162 rfl) rfl
theorem q566 : (Jvm.Cond.soleField "AskingCourt" "marks") ∈ lw_all := lw_g (lw_at lw_m2 163 rfl) rfl
theorem q567 : (Jvm.Cond.lays "AskingCourt" "AskingCourt" "markMany" "I") ∈ lw_all := lw_g (lw_at lw_m2 164 rfl) rfl
theorem q568 : (Jvm.Cond.soleField "AskingCourt" "markMany") ∈ lw_all := lw_g (lw_at lw_m2 165 rfl) rfl
theorem q569 : (Jvm.Cond.laysFinal "AskingCourt" "AskingCourt" "alone" "[B") ∈ lw_all := lw_g (lw_at lw_m2 166 rfl) rfl
theorem q570 : (Jvm.Cond.soleField "AskingCourt" "alone") ∈ lw_all := lw_g (lw_at lw_m2 167 rfl) rfl
theorem q571 : (Jvm.Cond.laysFinal "AskingCourt" "AskingCourt" "states" "[S") ∈ lw_all := lw_g (lw_at lw_m2 168 rfl) rfl
theorem q572 : (Jvm.Cond.soleField "AskingCourt" "states") ∈ lw_all := lw_g (lw_at lw_m2 169 rfl) rfl
theorem q573 : (Jvm.Cond.laysFinal "AskingCourt" "AskingCourt" "firstPut" "[I") ∈ lw_all := lw_g (lw_at lw_m2 170 rfl) rfl
theorem q574 : (Jvm.Cond.soleField "AskingCourt" "firstPut") ∈ lw_all := lw_g (lw_at lw_m2 171 rfl) rfl
theorem q575 : (Jvm.Cond.lays "AskingCourt" "AskingCourt" "putSet" "I") ∈ lw_all := lw_g (lw_at lw_m2 172 rfl) rfl
theorem q576 : (Jvm.Cond.soleField "AskingCourt" "putSet") ∈ lw_all := lw_g (lw_at lw_m2 173 rfl) rfl
theorem q577 : (Jvm.Cond.lays "AskingCourt" "AskingCourt" "goal" "I") ∈ lw_all := lw_g (lw_at lw_m2 174 rfl) rfl
theorem q578 : (Jvm.Cond.soleField "AskingCourt" "goal") ∈ lw_all := lw_g (lw_at lw_m2 175 rfl) rfl
theorem q579 : (Jvm.Cond.lays "AskingCourt" "AskingCourt" "oneWitness" "I") ∈ lw_all := lw_g (lw_at lw_m2 176 rfl) rfl
theorem q580 : (Jvm.Cond.soleField "AskingCourt" "oneWitness") ∈ lw_all := lw_g (lw_at lw_m2 177 rfl) rfl
theorem q581 : (Jvm.Cond.lays "AskingCourt" "AskingCourt" "shortest" "I") ∈ lw_all := lw_g (lw_at lw_m2 178 rfl) rfl
theorem q582 : (Jvm.Cond.soleField "AskingCourt" "shortest") ∈ lw_all := lw_g (lw_at lw_m2 179 rfl) rfl
theorem q583 : (Jvm.Cond.laysFinal "AskingCourt" "AskingCourt" "sitting" "LAskingCourt$Sitting;") ∈ lw_all := lw_g (lw_at lw_m2 180 rfl) rfl
theorem q584 : (Jvm.Cond.soleField "AskingCourt" "sitting") ∈ lw_all := lw_g (lw_at lw_m2 181 rfl) rfl
theorem q585 : (Jvm.Cond.lays "AskingCourt" "AskingCourt" "state" "I") ∈ lw_all := lw_g (lw_at lw_m2 182 rfl) rfl
theorem q586 : (Jvm.Cond.soleField "AskingCourt" "state") ∈ lw_all := lw_g (lw_at lw_m2 183 rfl) rfl
theorem q587 : (Jvm.Cond.lays "AskingCourt" "AskingCourt" "hasSat" "Z") ∈ lw_all := lw_g (lw_at lw_m2 184 rfl) rfl
theorem q588 : (Jvm.Cond.soleField "AskingCourt" "hasSat") ∈ lw_all := lw_g (lw_at lw_m2 185 rfl) rfl
theorem q589 : (Jvm.Cond.laysFinal "AskingCourt" "AskingCourt" "last" "[I") ∈ lw_all := lw_g (lw_at lw_m2 186 rfl) rfl
theorem q590 : (Jvm.Cond.soleField "AskingCourt" "last") ∈ lw_all := lw_g (lw_at lw_m2 187 rfl) rfl
theorem q591 : (Jvm.Cond.superclass "AskingCourt" "java/lang/Object") ∈ lw_all := lw_g (lw_at lw_m2 188 rfl) rfl
theorem q593 : (Jvm.Cond.instanceMethod ({ cls := "AskingCourt", name := "status", desc := "()I" } : Jvm.MethodName)) ∈ lw_all := lw_g (lw_at lw_m2 190 rfl) rfl
theorem q594 : (Jvm.Cond.selects "AskingCourt" ({ cls := "AskingCourt", name := "status", desc := "()I" } : Jvm.MethodName) ({ cls := "AskingCourt", name := "status", desc := "()I" } : Jvm.MethodName)) ∈ lw_all := lw_g (lw_at lw_m2 191 rfl) rfl
theorem q595 : (Jvm.Cond.code ({ cls := "AskingCourt", name := "status", desc := "()I" } : Jvm.MethodName) prog_1_method_7_code (1 : Nat) (Option.some Jvm.ClassFile.FieldType.int)) ∈ lw_all := lw_g (lw_at lw_m2 192 rfl) rfl
theorem q597 : (Jvm.Cond.instanceMethod ({ cls := "AskingCourt", name := "top", desc := "()J" } : Jvm.MethodName)) ∈ lw_all := lw_g (lw_at lw_m2 194 rfl) rfl
theorem q598 : (Jvm.Cond.selects "AskingCourt" ({ cls := "AskingCourt", name := "top", desc := "()J" } : Jvm.MethodName) ({ cls := "AskingCourt", name := "top", desc := "()J" } : Jvm.MethodName)) ∈ lw_all := lw_g (lw_at lw_m2 195 rfl) rfl
theorem q599 : (Jvm.Cond.code ({ cls := "AskingCourt", name := "top", desc := "()J" } : Jvm.MethodName) prog_1_method_8_code (1 : Nat) (Option.some Jvm.ClassFile.FieldType.long)) ∈ lw_all := lw_g (lw_at lw_m2 196 rfl) rfl
theorem q601 : (Jvm.Cond.instanceMethod ({ cls := "AskingCourt", name := "bottom", desc := "()J" } : Jvm.MethodName)) ∈ lw_all := lw_g (lw_at lw_m2 198 rfl) rfl
theorem q602 : (Jvm.Cond.selects "AskingCourt" ({ cls := "AskingCourt", name := "bottom", desc := "()J" } : Jvm.MethodName) ({ cls := "AskingCourt", name := "bottom", desc := "()J" } : Jvm.MethodName)) ∈ lw_all := lw_g (lw_at lw_m2 199 rfl) rfl
theorem q603 : (Jvm.Cond.code ({ cls := "AskingCourt", name := "bottom", desc := "()J" } : Jvm.MethodName) prog_1_method_9_code (1 : Nat) (Option.some Jvm.ClassFile.FieldType.long)) ∈ lw_all := lw_g (lw_at lw_m2 200 rfl) rfl
theorem q605 : (Jvm.Cond.instanceMethod ({ cls := "AskingCourt", name := "tray", desc := "(III)Z" } : Jvm.MethodName)) ∈ lw_all := lw_g (lw_at lw_m2 202 rfl) rfl
theorem q606 : (Jvm.Cond.selects "AskingCourt" ({ cls := "AskingCourt", name := "tray", desc := "(III)Z" } : Jvm.MethodName) ({ cls := "AskingCourt", name := "tray", desc := "(III)Z" } : Jvm.MethodName)) ∈ lw_all := lw_g (lw_at lw_m2 203 rfl) rfl
theorem q607 : (Jvm.Cond.codeWith ({ cls := "AskingCourt", name := "tray", desc := "(III)Z" } : Jvm.MethodName) prog_1_method_15_code (5 : Nat) (Option.some Jvm.ClassFile.FieldType.boolean) [((5 : Nat), (54 : Nat), (55 : Nat), (123 : Nat)), ((5 : Nat), (54 : Nat), (64 : Nat), (41 : Nat))]) ∈ lw_all := lw_g (lw_at lw_m2 204 rfl) rfl
theorem q608 : (Jvm.Cond.classLink "AskingCourt" (123 : Nat) "java/lang/NegativeArraySizeException") ∈ lw_all := lw_g (lw_at lw_m2 205 rfl) rfl
theorem q637 : (Jvm.Cond.methodLink "AskingCourt" (112 : Nat) ({ cls := "AskingCourt", name := "want", desc := "(ZI)V" } : Jvm.MethodName)) ∈ lw_all := lw_g (lw_at lw_m2 234 rfl) rfl
theorem q638 : (Jvm.Cond.privateMethod ({ cls := "AskingCourt", name := "want", desc := "(ZI)V" } : Jvm.MethodName)) ∈ lw_tbl := lw_at lw_m2 235 rfl
theorem q639 : (Jvm.Cond.instanceMethod ({ cls := "AskingCourt", name := "want", desc := "(ZI)V" } : Jvm.MethodName)) ∈ lw_all := lw_g (lw_at lw_m2 236 rfl) rfl
theorem q640 : (Jvm.Cond.code ({ cls := "AskingCourt", name := "want", desc := "(ZI)V" } : Jvm.MethodName) prog_1_method_10_code (3 : Nat) (Option.none : Option Jvm.ClassFile.FieldType)) ∈ lw_all := lw_g (lw_at lw_m2 237 rfl) rfl
theorem q641 : (Jvm.Cond.methodLink "AskingCourt" (93 : Nat) ({ cls := "AskingCourt$Refused", name := "by", desc := "(I)LAskingCourt$Refused;" } : Jvm.MethodName)) ∈ lw_all := lw_g (lw_at lw_m2 238 rfl) rfl
theorem q645 : (Jvm.Cond.methodLink "AskingCourt" (120 : Nat) ({ cls := "AskingCourt", name := "row", desc := "(II)Ljava/lang/Object;" } : Jvm.MethodName)) ∈ lw_all := lw_g (lw_at lw_m3 2 rfl) rfl
theorem q646 : (Jvm.Cond.static ({ cls := "AskingCourt", name := "row", desc := "(II)Ljava/lang/Object;" } : Jvm.MethodName)) ∈ lw_all := lw_g (lw_at lw_m3 3 rfl) rfl
theorem q647 : (Jvm.Cond.code ({ cls := "AskingCourt", name := "row", desc := "(II)Ljava/lang/Object;" } : Jvm.MethodName) prog_1_method_1_code (2 : Nat) (Option.some (Jvm.ClassFile.FieldType.object "java/lang/Object"))) ∈ lw_all := lw_g (lw_at lw_m3 4 rfl) rfl
theorem q648 : (Jvm.Cond.methodLink "AskingCourt" (125 : Nat) ({ cls := "AskingCourt", name := "no", desc := "(LAskingCourt$Refused;)Z" } : Jvm.MethodName)) ∈ lw_all := lw_g (lw_at lw_m3 5 rfl) rfl
theorem q649 : (Jvm.Cond.privateMethod ({ cls := "AskingCourt", name := "no", desc := "(LAskingCourt$Refused;)Z" } : Jvm.MethodName)) ∈ lw_tbl := lw_at lw_m3 6 rfl
theorem q650 : (Jvm.Cond.instanceMethod ({ cls := "AskingCourt", name := "no", desc := "(LAskingCourt$Refused;)Z" } : Jvm.MethodName)) ∈ lw_all := lw_g (lw_at lw_m3 7 rfl) rfl
theorem q651 : (Jvm.Cond.code ({ cls := "AskingCourt", name := "no", desc := "(LAskingCourt$Refused;)Z" } : Jvm.MethodName) prog_1_method_12_code (2 : Nat) (Option.some Jvm.ClassFile.FieldType.boolean)) ∈ lw_all := lw_g (lw_at lw_m3 8 rfl) rfl
theorem q653 : (Jvm.Cond.instanceMethod ({ cls := "AskingCourt", name := "write", desc := "(IIJ)Z" } : Jvm.MethodName)) ∈ lw_all := lw_g (lw_at lw_m3 10 rfl) rfl
theorem q654 : (Jvm.Cond.selects "AskingCourt" ({ cls := "AskingCourt", name := "write", desc := "(IIJ)Z" } : Jvm.MethodName) ({ cls := "AskingCourt", name := "write", desc := "(IIJ)Z" } : Jvm.MethodName)) ∈ lw_all := lw_g (lw_at lw_m3 11 rfl) rfl
theorem q655 : (Jvm.Cond.codeWith ({ cls := "AskingCourt", name := "write", desc := "(IIJ)Z" } : Jvm.MethodName) prog_1_method_16_code (6 : Nat) (Option.some Jvm.ClassFile.FieldType.boolean) [((5 : Nat), (16 : Nat), (17 : Nat), (137 : Nat)), ((5 : Nat), (16 : Nat), (26 : Nat), (41 : Nat))]) ∈ lw_all := lw_g (lw_at lw_m3 12 rfl) rfl
theorem q656 : (Jvm.Cond.classLink "AskingCourt" (137 : Nat) "java/lang/ArrayIndexOutOfBoundsException") ∈ lw_all := lw_g (lw_at lw_m3 13 rfl) rfl
theorem q675 : (Jvm.Cond.methodLink "AskingCourt" (129 : Nat) ({ cls := "AskingCourt", name := "on", desc := "(I)Ljava/lang/Object;" } : Jvm.MethodName)) ∈ lw_all := lw_g (lw_at lw_m3 32 rfl) rfl
theorem q676 : (Jvm.Cond.privateMethod ({ cls := "AskingCourt", name := "on", desc := "(I)Ljava/lang/Object;" } : Jvm.MethodName)) ∈ lw_tbl := lw_at lw_m3 33 rfl
theorem q677 : (Jvm.Cond.instanceMethod ({ cls := "AskingCourt", name := "on", desc := "(I)Ljava/lang/Object;" } : Jvm.MethodName)) ∈ lw_all := lw_g (lw_at lw_m3 34 rfl) rfl
theorem q678 : (Jvm.Cond.code ({ cls := "AskingCourt", name := "on", desc := "(I)Ljava/lang/Object;" } : Jvm.MethodName) prog_1_method_14_code (2 : Nat) (Option.some (Jvm.ClassFile.FieldType.object "java/lang/Object"))) ∈ lw_all := lw_g (lw_at lw_m3 35 rfl) rfl
theorem q679 : (Jvm.Cond.methodLink "AskingCourt" (133 : Nat) ({ cls := "AskingCourt", name := "put", desc := "(Ljava/lang/Object;IJ)V" } : Jvm.MethodName)) ∈ lw_all := lw_g (lw_at lw_m3 36 rfl) rfl
theorem q680 : (Jvm.Cond.static ({ cls := "AskingCourt", name := "put", desc := "(Ljava/lang/Object;IJ)V" } : Jvm.MethodName)) ∈ lw_all := lw_g (lw_at lw_m3 37 rfl) rfl
theorem q681 : (Jvm.Cond.code ({ cls := "AskingCourt", name := "put", desc := "(Ljava/lang/Object;IJ)V" } : Jvm.MethodName) prog_1_method_5_code (7 : Nat) (Option.none : Option Jvm.ClassFile.FieldType)) ∈ lw_all := lw_g (lw_at lw_m3 38 rfl) rfl
theorem q682 : (Jvm.Cond.classLink "AskingCourt" (1 : Nat) "[B") ∈ lw_all := lw_g (lw_at lw_m3 39 rfl) rfl
theorem q683 : (Jvm.Cond.classLink "AskingCourt" (3 : Nat) "[S") ∈ lw_all := lw_g (lw_at lw_m3 40 rfl) rfl
theorem q684 : (Jvm.Cond.classLink "AskingCourt" (5 : Nat) "[I") ∈ lw_all := lw_g (lw_at lw_m3 41 rfl) rfl
theorem q685 : (Jvm.Cond.classLink "AskingCourt" (7 : Nat) "[J") ∈ lw_all := lw_g (lw_at lw_m3 42 rfl) rfl
theorem q687 : (Jvm.Cond.instanceMethod ({ cls := "AskingCourt", name := "read", desc := "(II)J" } : Jvm.MethodName)) ∈ lw_all := lw_g (lw_at lw_m3 44 rfl) rfl
theorem q688 : (Jvm.Cond.selects "AskingCourt" ({ cls := "AskingCourt", name := "read", desc := "(II)J" } : Jvm.MethodName) ({ cls := "AskingCourt", name := "read", desc := "(II)J" } : Jvm.MethodName)) ∈ lw_all := lw_g (lw_at lw_m3 45 rfl) rfl
theorem q689 : (Jvm.Cond.codeWith ({ cls := "AskingCourt", name := "read", desc := "(II)J" } : Jvm.MethodName) prog_1_method_17_code (4 : Nat) (Option.some Jvm.ClassFile.FieldType.long) [((5 : Nat), (14 : Nat), (15 : Nat), (137 : Nat)), ((5 : Nat), (14 : Nat), (25 : Nat), (41 : Nat))]) ∈ lw_all := lw_g (lw_at lw_m3 46 rfl) rfl
theorem q690 : (Jvm.Cond.methodLink "AskingCourt" (139 : Nat) ({ cls := "AskingCourt", name := "number", desc := "(Ljava/lang/Object;I)J" } : Jvm.MethodName)) ∈ lw_all := lw_g (lw_at lw_m3 47 rfl) rfl
theorem q691 : (Jvm.Cond.static ({ cls := "AskingCourt", name := "number", desc := "(Ljava/lang/Object;I)J" } : Jvm.MethodName)) ∈ lw_all := lw_g (lw_at lw_m3 48 rfl) rfl
theorem q692 : (Jvm.Cond.code ({ cls := "AskingCourt", name := "number", desc := "(Ljava/lang/Object;I)J" } : Jvm.MethodName) prog_1_method_4_code (3 : Nat) (Option.some Jvm.ClassFile.FieldType.long)) ∈ lw_all := lw_g (lw_at lw_m3 49 rfl) rfl
theorem q693 : (Jvm.Cond.constantLong "AskingCourt" (143 : Nat) (-1 : Int64)) ∈ lw_all := lw_g (lw_at lw_m3 50 rfl) rfl
theorem q694 : (Jvm.Cond.methodLink "AskingCourt" (145 : Nat) ({ cls := "AskingCourt", name := "none", desc := "(LAskingCourt$Refused;)I" } : Jvm.MethodName)) ∈ lw_all := lw_g (lw_at lw_m3 51 rfl) rfl
theorem q695 : (Jvm.Cond.privateMethod ({ cls := "AskingCourt", name := "none", desc := "(LAskingCourt$Refused;)I" } : Jvm.MethodName)) ∈ lw_tbl := lw_at lw_m3 52 rfl
theorem q696 : (Jvm.Cond.instanceMethod ({ cls := "AskingCourt", name := "none", desc := "(LAskingCourt$Refused;)I" } : Jvm.MethodName)) ∈ lw_all := lw_g (lw_at lw_m3 53 rfl) rfl
theorem q697 : (Jvm.Cond.code ({ cls := "AskingCourt", name := "none", desc := "(LAskingCourt$Refused;)I" } : Jvm.MethodName) prog_1_method_11_code (2 : Nat) (Option.some Jvm.ClassFile.FieldType.int)) ∈ lw_all := lw_g (lw_at lw_m3 54 rfl) rfl
theorem q699 : (Jvm.Cond.instanceMethod ({ cls := "AskingCourt", name := "pour", desc := "(IIIII)Z" } : Jvm.MethodName)) ∈ lw_all := lw_g (lw_at lw_m3 56 rfl) rfl
theorem q700 : (Jvm.Cond.selects "AskingCourt" ({ cls := "AskingCourt", name := "pour", desc := "(IIIII)Z" } : Jvm.MethodName) ({ cls := "AskingCourt", name := "pour", desc := "(IIIII)Z" } : Jvm.MethodName)) ∈ lw_all := lw_g (lw_at lw_m3 57 rfl) rfl
theorem q701 : (Jvm.Cond.codeWith ({ cls := "AskingCourt", name := "pour", desc := "(IIIII)Z" } : Jvm.MethodName) prog_1_method_18_code (9 : Nat) (Option.some Jvm.ClassFile.FieldType.boolean) [((85 : Nat), (97 : Nat), (100 : Nat), (159 : Nat)), ((5 : Nat), (112 : Nat), (113 : Nat), (41 : Nat))]) ∈ lw_all := lw_g (lw_at lw_m3 58 rfl) rfl
theorem q702 : (Jvm.Cond.classLink "AskingCourt" (159 : Nat) "java/lang/IndexOutOfBoundsException") ∈ lw_all := lw_g (lw_at lw_m3 59 rfl) rfl
theorem q703 : (Jvm.Cond.methodLink "AskingCourt" (149 : Nat) ({ cls := "AskingCourt", name := "sortOf", desc := "(Ljava/lang/Object;)I" } : Jvm.MethodName)) ∈ lw_all := lw_g (lw_at lw_m3 60 rfl) rfl
theorem q704 : (Jvm.Cond.static ({ cls := "AskingCourt", name := "sortOf", desc := "(Ljava/lang/Object;)I" } : Jvm.MethodName)) ∈ lw_all := lw_g (lw_at lw_m3 61 rfl) rfl
theorem q705 : (Jvm.Cond.code ({ cls := "AskingCourt", name := "sortOf", desc := "(Ljava/lang/Object;)I" } : Jvm.MethodName) prog_1_method_2_code (1 : Nat) (Option.some Jvm.ClassFile.FieldType.int)) ∈ lw_all := lw_g (lw_at lw_m3 62 rfl) rfl
theorem q706 : (Jvm.Cond.methodLink "AskingCourt" (153 : Nat) ({ cls := "java/lang/System", name := "arraycopy", desc := "(Ljava/lang/Object;ILjava/lang/Object;II)V" } : Jvm.MethodName)) ∈ lw_all := lw_g (lw_at lw_m3 63 rfl) rfl
theorem q710 : (Jvm.Cond.instanceMethod ({ cls := "AskingCourt", name := "feed", desc := "(IIIII)I" } : Jvm.MethodName)) ∈ lw_all := lw_g (lw_at lw_m3 67 rfl) rfl
theorem q711 : (Jvm.Cond.selects "AskingCourt" ({ cls := "AskingCourt", name := "feed", desc := "(IIIII)I" } : Jvm.MethodName) ({ cls := "AskingCourt", name := "feed", desc := "(IIIII)I" } : Jvm.MethodName)) ∈ lw_all := lw_g (lw_at lw_m3 68 rfl) rfl
theorem q712 : (Jvm.Cond.code ({ cls := "AskingCourt", name := "feed", desc := "(IIIII)I" } : Jvm.MethodName) prog_1_method_25_code (6 : Nat) (Option.some Jvm.ClassFile.FieldType.int)) ∈ lw_all := lw_g (lw_at lw_m3 69 rfl) rfl
theorem q713 : (Jvm.Cond.methodLink "AskingCourt" (188 : Nat) ({ cls := "AskingCourt", name := "lay", desc := "(I)V" } : Jvm.MethodName)) ∈ lw_all := lw_g (lw_at lw_m3 70 rfl) rfl
theorem q714 : (Jvm.Cond.privateMethod ({ cls := "AskingCourt", name := "lay", desc := "(I)V" } : Jvm.MethodName)) ∈ lw_tbl := lw_at lw_m3 71 rfl
theorem q715 : (Jvm.Cond.instanceMethod ({ cls := "AskingCourt", name := "lay", desc := "(I)V" } : Jvm.MethodName)) ∈ lw_all := lw_g (lw_at lw_m3 72 rfl) rfl
theorem q716 : (Jvm.Cond.code ({ cls := "AskingCourt", name := "lay", desc := "(I)V" } : Jvm.MethodName) prog_1_method_26_code (3 : Nat) (Option.none : Option Jvm.ClassFile.FieldType)) ∈ lw_all := lw_g (lw_at lw_m3 73 rfl) rfl
theorem q718 : (Jvm.Cond.instanceMethod ({ cls := "AskingCourt", name := "court", desc := "(I)I" } : Jvm.MethodName)) ∈ lw_all := lw_g (lw_at lw_m3 75 rfl) rfl
theorem q719 : (Jvm.Cond.selects "AskingCourt" ({ cls := "AskingCourt", name := "court", desc := "(I)I" } : Jvm.MethodName) ({ cls := "AskingCourt", name := "court", desc := "(I)I" } : Jvm.MethodName)) ∈ lw_all := lw_g (lw_at lw_m3 76 rfl) rfl
theorem q720 : (Jvm.Cond.codeWith ({ cls := "AskingCourt", name := "court", desc := "(I)I" } : Jvm.MethodName) prog_1_method_29_code (3 : Nat) (Option.some Jvm.ClassFile.FieldType.int) [((13 : Nat), (64 : Nat), (65 : Nat), (34 : Nat))]) ∈ lw_all := lw_g (lw_at lw_m3 77 rfl) rfl
theorem q721 : (Jvm.Cond.methodLink "AskingCourt" (198 : Nat) ({ cls := "AskingCourt", name := "opens", desc := "(II)Z" } : Jvm.MethodName)) ∈ lw_all := lw_g (lw_at lw_m3 78 rfl) rfl
theorem q722 : (Jvm.Cond.privateMethod ({ cls := "AskingCourt", name := "opens", desc := "(II)Z" } : Jvm.MethodName)) ∈ lw_tbl := lw_at lw_m3 79 rfl
theorem q723 : (Jvm.Cond.instanceMethod ({ cls := "AskingCourt", name := "opens", desc := "(II)Z" } : Jvm.MethodName)) ∈ lw_all := lw_g (lw_at lw_m3 80 rfl) rfl
theorem q724 : (Jvm.Cond.code ({ cls := "AskingCourt", name := "opens", desc := "(II)Z" } : Jvm.MethodName) prog_1_method_27_code (3 : Nat) (Option.some Jvm.ClassFile.FieldType.boolean)) ∈ lw_all := lw_g (lw_at lw_m3 81 rfl) rfl
theorem q725 : (Jvm.Cond.classLink "AskingCourt" (169 : Nat) "AskingCourt$Case") ∈ lw_all := lw_g (lw_at lw_m3 82 rfl) rfl
theorem q726 : (Jvm.Cond.methodLink "AskingCourt" (202 : Nat) ({ cls := "AskingCourt$Case", name := "<init>", desc := "()V" } : Jvm.MethodName)) ∈ lw_all := lw_g (lw_at lw_m3 83 rfl) rfl
theorem q727 : (Jvm.Cond.classLink "AskingCourt" (203 : Nat) "AskingCourt$Reader") ∈ lw_all := lw_g (lw_at lw_m3 84 rfl) rfl
theorem q729 : (Jvm.Cond.methodLink "AskingCourt" (205 : Nat) ({ cls := "AskingCourt$Reader", name := "<init>", desc := "(LAskingCourt;I)V" } : Jvm.MethodName)) ∈ lw_all := lw_g (lw_at lw_m3 86 rfl) rfl
theorem q750 : (Jvm.Cond.fieldLinkNest "AskingCourt" (238 : Nat) "AskingCourt$Reader" "steps" "I" "AskingCourt") ∈ lw_tbl := lw_at lw_m3 107 rfl
theorem q768 : (Jvm.Cond.methodLink "AskingCourt" (208 : Nat) ({ cls := "AskingCourt$Reader", name := "court", desc := "(LAskingCourt$Case;)V" } : Jvm.MethodName)) ∈ lw_all := lw_g (lw_at lw_m3 125 rfl) rfl
theorem q1013 : (Jvm.Cond.fieldLinkNest "AskingCourt" (303 : Nat) "AskingCourt$Witness" "knows" "I" "AskingCourt") ∈ lw_tbl := lw_at lw_m4 130 rfl
theorem q1016 : (Jvm.Cond.fieldLinkNest "AskingCourt" (306 : Nat) "AskingCourt$Witness" "hides" "I" "AskingCourt") ∈ lw_tbl := lw_at lw_m4 133 rfl
theorem q1020 : (Jvm.Cond.fieldLinkNest "AskingCourt" (298 : Nat) "AskingCourt$Witness" "may" "[I" "AskingCourt") ∈ lw_tbl := lw_at lw_m4 137 rfl
theorem q1073 : (Jvm.Cond.methodLink "AskingCourt" (215 : Nat) ({ cls := "AskingCourt$Record", name := "clear", desc := "()V" } : Jvm.MethodName)) ∈ lw_all := lw_g (lw_at lw_m4 190 rfl) rfl
theorem q1077 : (Jvm.Cond.methodLink "AskingCourt" (224 : Nat) ({ cls := "AskingCourt$Case", name := "possibleMany", desc := "()I" } : Jvm.MethodName)) ∈ lw_all := lw_g (lw_at lw_m4 194 rfl) rfl
theorem q1081 : (Jvm.Cond.methodLink "AskingCourt" (228 : Nat) ({ cls := "AskingCourt", name := "faulty", desc := "(LAskingCourt$Bad;)I" } : Jvm.MethodName)) ∈ lw_all := lw_g (lw_at lw_m4 198 rfl) rfl
theorem q1082 : (Jvm.Cond.privateMethod ({ cls := "AskingCourt", name := "faulty", desc := "(LAskingCourt$Bad;)I" } : Jvm.MethodName)) ∈ lw_tbl := lw_at lw_m4 199 rfl
theorem q1083 : (Jvm.Cond.instanceMethod ({ cls := "AskingCourt", name := "faulty", desc := "(LAskingCourt$Bad;)I" } : Jvm.MethodName)) ∈ lw_all := lw_g (lw_at lw_m4 200 rfl) rfl
theorem q1084 : (Jvm.Cond.code ({ cls := "AskingCourt", name := "faulty", desc := "(LAskingCourt$Bad;)I" } : Jvm.MethodName) prog_1_method_28_code (2 : Nat) (Option.some Jvm.ClassFile.FieldType.int)) ∈ lw_all := lw_g (lw_at lw_m4 201 rfl) rfl
theorem q1086 : (Jvm.Cond.instanceMethod ({ cls := "AskingCourt", name := "plan", desc := "(I)I" } : Jvm.MethodName)) ∈ lw_all := lw_g (lw_at lw_m4 203 rfl) rfl
theorem q1087 : (Jvm.Cond.selects "AskingCourt" ({ cls := "AskingCourt", name := "plan", desc := "(I)I" } : Jvm.MethodName) ({ cls := "AskingCourt", name := "plan", desc := "(I)I" } : Jvm.MethodName)) ∈ lw_all := lw_g (lw_at lw_m4 204 rfl) rfl
theorem q1088 : (Jvm.Cond.codeWith ({ cls := "AskingCourt", name := "plan", desc := "(I)I" } : Jvm.MethodName) prog_1_method_30_code (4 : Nat) (Option.some Jvm.ClassFile.FieldType.int) [((13 : Nat), (52 : Nat), (53 : Nat), (34 : Nat))]) ∈ lw_all := lw_g (lw_at lw_m4 205 rfl) rfl
theorem q1089 : (Jvm.Cond.classLink "AskingCourt" (232 : Nat) "AskingCourt$Block") ∈ lw_all := lw_g (lw_at lw_m4 206 rfl) rfl
theorem q1091 : (Jvm.Cond.methodLinkNest "AskingCourt" (234 : Nat) ({ cls := "AskingCourt$Block", name := "<init>", desc := "()V" } : Jvm.MethodName) "AskingCourt") ∈ lw_tbl := lw_at lw_m4 208 rfl
theorem q1107 : (Jvm.Cond.methodLink "AskingCourt" (165 : Nat) ({ cls := "AskingCourt", name := "court", desc := "()LAskingCourt$Case;" } : Jvm.MethodName)) ∈ lw_all := lw_g (lw_at lw_m4 224 rfl) rfl
theorem q1108 : (Jvm.Cond.privateMethod ({ cls := "AskingCourt", name := "court", desc := "()LAskingCourt$Case;" } : Jvm.MethodName)) ∈ lw_tbl := lw_at lw_m4 225 rfl
theorem q1109 : (Jvm.Cond.instanceMethod ({ cls := "AskingCourt", name := "court", desc := "()LAskingCourt$Case;" } : Jvm.MethodName)) ∈ lw_all := lw_g (lw_at lw_m4 226 rfl) rfl
theorem q1110 : (Jvm.Cond.code ({ cls := "AskingCourt", name := "court", desc := "()LAskingCourt$Case;" } : Jvm.MethodName) prog_1_method_20_code (1 : Nat) (Option.some (Jvm.ClassFile.FieldType.object "AskingCourt$Case"))) ∈ lw_all := lw_g (lw_at lw_m4 227 rfl) rfl
theorem q1111 : (Jvm.Cond.methodLink "AskingCourt" (235 : Nat) ({ cls := "AskingCourt$Reader", name := "plan", desc := "(LAskingCourt$Case;LAskingCourt$Block;)V" } : Jvm.MethodName)) ∈ lw_all := lw_g (lw_at lw_m4 228 rfl) rfl
theorem q1196 : (Jvm.Cond.instanceMethod ({ cls := "AskingCourt", name := "fault", desc := "(I)I" } : Jvm.MethodName)) ∈ lw_all := lw_g (lw_at lw_m5 73 rfl) rfl
theorem q1197 : (Jvm.Cond.selects "AskingCourt" ({ cls := "AskingCourt", name := "fault", desc := "(I)I" } : Jvm.MethodName) ({ cls := "AskingCourt", name := "fault", desc := "(I)I" } : Jvm.MethodName)) ∈ lw_all := lw_g (lw_at lw_m5 74 rfl) rfl
theorem q1198 : (Jvm.Cond.code ({ cls := "AskingCourt", name := "fault", desc := "(I)I" } : Jvm.MethodName) prog_1_method_31_code (2 : Nat) (Option.some Jvm.ClassFile.FieldType.int)) ∈ lw_all := lw_g (lw_at lw_m5 75 rfl) rfl
theorem q1200 : (Jvm.Cond.instanceMethod ({ cls := "AskingCourt", name := "told", desc := "(I)I" } : Jvm.MethodName)) ∈ lw_all := lw_g (lw_at lw_m5 77 rfl) rfl
theorem q1201 : (Jvm.Cond.selects "AskingCourt" ({ cls := "AskingCourt", name := "told", desc := "(I)I" } : Jvm.MethodName) ({ cls := "AskingCourt", name := "told", desc := "(I)I" } : Jvm.MethodName)) ∈ lw_all := lw_g (lw_at lw_m5 78 rfl) rfl
theorem q1202 : (Jvm.Cond.code ({ cls := "AskingCourt", name := "told", desc := "(I)I" } : Jvm.MethodName) prog_1_method_32_code (2 : Nat) (Option.some Jvm.ClassFile.FieldType.int)) ∈ lw_all := lw_g (lw_at lw_m5 79 rfl) rfl
theorem q1203 : (Jvm.Cond.constantLong "AskingCourt" (241 : Nat) (7 : Int64)) ∈ lw_all := lw_g (lw_at lw_m5 80 rfl) rfl
theorem q1204 : (Jvm.Cond.methodLink "AskingCourt" (173 : Nat) ({ cls := "AskingCourt", name := "isIn", desc := "(JJJ)Z" } : Jvm.MethodName)) ∈ lw_all := lw_g (lw_at lw_m5 81 rfl) rfl
theorem q1205 : (Jvm.Cond.static ({ cls := "AskingCourt", name := "isIn", desc := "(JJJ)Z" } : Jvm.MethodName)) ∈ lw_all := lw_g (lw_at lw_m5 82 rfl) rfl
theorem q1206 : (Jvm.Cond.code ({ cls := "AskingCourt", name := "isIn", desc := "(JJJ)Z" } : Jvm.MethodName) prog_1_method_19_code (6 : Nat) (Option.some Jvm.ClassFile.FieldType.boolean)) ∈ lw_all := lw_g (lw_at lw_m5 83 rfl) rfl
theorem q1207 : (Jvm.Cond.methodLink "AskingCourt" (253 : Nat) ({ cls := "AskingCourt$Record", name := "putToday", desc := "()I" } : Jvm.MethodName)) ∈ lw_all := lw_g (lw_at lw_m5 84 rfl) rfl
theorem q1212 : (Jvm.Cond.instanceMethod ({ cls := "AskingCourt", name := "value", desc := "(II)I" } : Jvm.MethodName)) ∈ lw_all := lw_g (lw_at lw_m5 89 rfl) rfl
theorem q1213 : (Jvm.Cond.selects "AskingCourt" ({ cls := "AskingCourt", name := "value", desc := "(II)I" } : Jvm.MethodName) ({ cls := "AskingCourt", name := "value", desc := "(II)I" } : Jvm.MethodName)) ∈ lw_all := lw_g (lw_at lw_m5 90 rfl) rfl
theorem q1214 : (Jvm.Cond.code ({ cls := "AskingCourt", name := "value", desc := "(II)I" } : Jvm.MethodName) prog_1_method_33_code (3 : Nat) (Option.some Jvm.ClassFile.FieldType.int)) ∈ lw_all := lw_g (lw_at lw_m5 91 rfl) rfl
theorem q1216 : (Jvm.Cond.instanceMethod ({ cls := "AskingCourt", name := "world", desc := "(II)I" } : Jvm.MethodName)) ∈ lw_all := lw_g (lw_at lw_m5 93 rfl) rfl
theorem q1217 : (Jvm.Cond.selects "AskingCourt" ({ cls := "AskingCourt", name := "world", desc := "(II)I" } : Jvm.MethodName) ({ cls := "AskingCourt", name := "world", desc := "(II)I" } : Jvm.MethodName)) ∈ lw_all := lw_g (lw_at lw_m5 94 rfl) rfl
theorem q1218 : (Jvm.Cond.code ({ cls := "AskingCourt", name := "world", desc := "(II)I" } : Jvm.MethodName) prog_1_method_34_code (3 : Nat) (Option.some Jvm.ClassFile.FieldType.int)) ∈ lw_all := lw_g (lw_at lw_m5 95 rfl) rfl
theorem q1219 : (Jvm.Cond.methodLink "AskingCourt" (262 : Nat) ({ cls := "AskingCourt", name := "isWorld", desc := "(I)Z" } : Jvm.MethodName)) ∈ lw_all := lw_g (lw_at lw_m5 96 rfl) rfl
theorem q1220 : (Jvm.Cond.privateMethod ({ cls := "AskingCourt", name := "isWorld", desc := "(I)Z" } : Jvm.MethodName)) ∈ lw_tbl := lw_at lw_m5 97 rfl
theorem q1221 : (Jvm.Cond.instanceMethod ({ cls := "AskingCourt", name := "isWorld", desc := "(I)Z" } : Jvm.MethodName)) ∈ lw_all := lw_g (lw_at lw_m5 98 rfl) rfl
theorem q1222 : (Jvm.Cond.code ({ cls := "AskingCourt", name := "isWorld", desc := "(I)Z" } : Jvm.MethodName) prog_1_method_21_code (2 : Nat) (Option.some Jvm.ClassFile.FieldType.boolean)) ∈ lw_all := lw_g (lw_at lw_m5 99 rfl) rfl
theorem q1223 : (Jvm.Cond.methodLink "AskingCourt" (266 : Nat) ({ cls := "AskingCourt$Case", name := "valueIn", desc := "(II)I" } : Jvm.MethodName)) ∈ lw_all := lw_g (lw_at lw_m5 100 rfl) rfl
theorem q1225 : (Jvm.Cond.instanceMethod ({ cls := "AskingCourt", name := "possible", desc := "(I)I" } : Jvm.MethodName)) ∈ lw_all := lw_g (lw_at lw_m5 102 rfl) rfl
theorem q1226 : (Jvm.Cond.selects "AskingCourt" ({ cls := "AskingCourt", name := "possible", desc := "(I)I" } : Jvm.MethodName) ({ cls := "AskingCourt", name := "possible", desc := "(I)I" } : Jvm.MethodName)) ∈ lw_all := lw_g (lw_at lw_m5 103 rfl) rfl
theorem q1227 : (Jvm.Cond.code ({ cls := "AskingCourt", name := "possible", desc := "(I)I" } : Jvm.MethodName) prog_1_method_35_code (2 : Nat) (Option.some Jvm.ClassFile.FieldType.int)) ∈ lw_all := lw_g (lw_at lw_m5 104 rfl) rfl
theorem q1228 : (Jvm.Cond.methodLink "AskingCourt" (274 : Nat) ({ cls := "AskingCourt$Worlds", name := "has", desc := "(I)Z" } : Jvm.MethodName)) ∈ lw_all := lw_g (lw_at lw_m5 105 rfl) rfl
theorem q1230 : (Jvm.Cond.instanceMethod ({ cls := "AskingCourt", name := "holds", desc := "(II)I" } : Jvm.MethodName)) ∈ lw_all := lw_g (lw_at lw_m5 107 rfl) rfl
theorem q1231 : (Jvm.Cond.selects "AskingCourt" ({ cls := "AskingCourt", name := "holds", desc := "(II)I" } : Jvm.MethodName) ({ cls := "AskingCourt", name := "holds", desc := "(II)I" } : Jvm.MethodName)) ∈ lw_all := lw_g (lw_at lw_m5 108 rfl) rfl
theorem q1232 : (Jvm.Cond.code ({ cls := "AskingCourt", name := "holds", desc := "(II)I" } : Jvm.MethodName) prog_1_method_36_code (3 : Nat) (Option.some Jvm.ClassFile.FieldType.int)) ∈ lw_all := lw_g (lw_at lw_m5 109 rfl) rfl
theorem q1233 : (Jvm.Cond.methodLink "AskingCourt" (279 : Nat) ({ cls := "AskingCourt", name := "isQuestion", desc := "(I)Z" } : Jvm.MethodName)) ∈ lw_all := lw_g (lw_at lw_m5 110 rfl) rfl
theorem q1234 : (Jvm.Cond.privateMethod ({ cls := "AskingCourt", name := "isQuestion", desc := "(I)Z" } : Jvm.MethodName)) ∈ lw_tbl := lw_at lw_m5 111 rfl
theorem q1235 : (Jvm.Cond.instanceMethod ({ cls := "AskingCourt", name := "isQuestion", desc := "(I)Z" } : Jvm.MethodName)) ∈ lw_all := lw_g (lw_at lw_m5 112 rfl) rfl
theorem q1236 : (Jvm.Cond.code ({ cls := "AskingCourt", name := "isQuestion", desc := "(I)Z" } : Jvm.MethodName) prog_1_method_22_code (2 : Nat) (Option.some Jvm.ClassFile.FieldType.boolean)) ∈ lw_all := lw_g (lw_at lw_m5 113 rfl) rfl
theorem q1238 : (Jvm.Cond.instanceMethod ({ cls := "AskingCourt", name := "fee", desc := "(I)I" } : Jvm.MethodName)) ∈ lw_all := lw_g (lw_at lw_m5 115 rfl) rfl
theorem q1239 : (Jvm.Cond.selects "AskingCourt" ({ cls := "AskingCourt", name := "fee", desc := "(I)I" } : Jvm.MethodName) ({ cls := "AskingCourt", name := "fee", desc := "(I)I" } : Jvm.MethodName)) ∈ lw_all := lw_g (lw_at lw_m5 116 rfl) rfl
theorem q1240 : (Jvm.Cond.code ({ cls := "AskingCourt", name := "fee", desc := "(I)I" } : Jvm.MethodName) prog_1_method_37_code (2 : Nat) (Option.some Jvm.ClassFile.FieldType.int)) ∈ lw_all := lw_g (lw_at lw_m5 117 rfl) rfl
theorem q1242 : (Jvm.Cond.instanceMethod ({ cls := "AskingCourt", name := "witness", desc := "(II)I" } : Jvm.MethodName)) ∈ lw_all := lw_g (lw_at lw_m5 119 rfl) rfl
theorem q1243 : (Jvm.Cond.selects "AskingCourt" ({ cls := "AskingCourt", name := "witness", desc := "(II)I" } : Jvm.MethodName) ({ cls := "AskingCourt", name := "witness", desc := "(II)I" } : Jvm.MethodName)) ∈ lw_all := lw_g (lw_at lw_m5 120 rfl) rfl
theorem q1244 : (Jvm.Cond.code ({ cls := "AskingCourt", name := "witness", desc := "(II)I" } : Jvm.MethodName) prog_1_method_38_code (4 : Nat) (Option.some Jvm.ClassFile.FieldType.int)) ∈ lw_all := lw_g (lw_at lw_m5 121 rfl) rfl
theorem q1245 : (Jvm.Cond.methodLink "AskingCourt" (289 : Nat) ({ cls := "AskingCourt", name := "isWitness", desc := "(I)Z" } : Jvm.MethodName)) ∈ lw_all := lw_g (lw_at lw_m5 122 rfl) rfl
theorem q1246 : (Jvm.Cond.privateMethod ({ cls := "AskingCourt", name := "isWitness", desc := "(I)Z" } : Jvm.MethodName)) ∈ lw_tbl := lw_at lw_m5 123 rfl
theorem q1247 : (Jvm.Cond.instanceMethod ({ cls := "AskingCourt", name := "isWitness", desc := "(I)Z" } : Jvm.MethodName)) ∈ lw_all := lw_g (lw_at lw_m5 124 rfl) rfl
theorem q1248 : (Jvm.Cond.code ({ cls := "AskingCourt", name := "isWitness", desc := "(I)Z" } : Jvm.MethodName) prog_1_method_23_code (2 : Nat) (Option.some Jvm.ClassFile.FieldType.boolean)) ∈ lw_all := lw_g (lw_at lw_m5 125 rfl) rfl
theorem q1249 : (Jvm.Cond.constantLong "AskingCourt" (292 : Nat) (5 : Int64)) ∈ lw_all := lw_g (lw_at lw_m5 126 rfl) rfl
theorem q1251 : (Jvm.Cond.instanceMethod ({ cls := "AskingCourt", name := "answer", desc := "(IIII)I" } : Jvm.MethodName)) ∈ lw_all := lw_g (lw_at lw_m5 128 rfl) rfl
theorem q1252 : (Jvm.Cond.selects "AskingCourt" ({ cls := "AskingCourt", name := "answer", desc := "(IIII)I" } : Jvm.MethodName) ({ cls := "AskingCourt", name := "answer", desc := "(IIII)I" } : Jvm.MethodName)) ∈ lw_all := lw_g (lw_at lw_m5 129 rfl) rfl
theorem q1253 : (Jvm.Cond.code ({ cls := "AskingCourt", name := "answer", desc := "(IIII)I" } : Jvm.MethodName) prog_1_method_39_code (5 : Nat) (Option.some Jvm.ClassFile.FieldType.int)) ∈ lw_all := lw_g (lw_at lw_m5 130 rfl) rfl
theorem q1254 : (Jvm.Cond.methodLink "AskingCourt" (309 : Nat) ({ cls := "AskingCourt", name := "isKind", desc := "(I)Z" } : Jvm.MethodName)) ∈ lw_all := lw_g (lw_at lw_m5 131 rfl) rfl
theorem q1255 : (Jvm.Cond.static ({ cls := "AskingCourt", name := "isKind", desc := "(I)Z" } : Jvm.MethodName)) ∈ lw_all := lw_g (lw_at lw_m5 132 rfl) rfl
theorem q1256 : (Jvm.Cond.code ({ cls := "AskingCourt", name := "isKind", desc := "(I)Z" } : Jvm.MethodName) prog_1_method_24_code (1 : Nat) (Option.some Jvm.ClassFile.FieldType.boolean)) ∈ lw_all := lw_g (lw_at lw_m5 133 rfl) rfl
theorem q1257 : (Jvm.Cond.constantLong "AskingCourt" (183 : Nat) (3 : Int64)) ∈ lw_all := lw_g (lw_at lw_m5 134 rfl) rfl
theorem q1258 : (Jvm.Cond.methodLink "AskingCourt" (312 : Nat) ({ cls := "AskingCourt$Case", name := "answer", desc := "(IIII)I" } : Jvm.MethodName)) ∈ lw_all := lw_g (lw_at lw_m5 135 rfl) rfl
theorem q1263 : (Jvm.Cond.instanceMethod ({ cls := "AskingCourt", name := "hear", desc := "(III)Z" } : Jvm.MethodName)) ∈ lw_all := lw_g (lw_at lw_m5 140 rfl) rfl
theorem q1264 : (Jvm.Cond.selects "AskingCourt" ({ cls := "AskingCourt", name := "hear", desc := "(III)Z" } : Jvm.MethodName) ({ cls := "AskingCourt", name := "hear", desc := "(III)Z" } : Jvm.MethodName)) ∈ lw_all := lw_g (lw_at lw_m5 141 rfl) rfl
theorem q1265 : (Jvm.Cond.code ({ cls := "AskingCourt", name := "hear", desc := "(III)Z" } : Jvm.MethodName) prog_1_method_40_code (5 : Nat) (Option.some Jvm.ClassFile.FieldType.boolean)) ∈ lw_all := lw_g (lw_at lw_m5 142 rfl) rfl
theorem q1266 : (Jvm.Cond.methodLink "AskingCourt" (316 : Nat) ({ cls := "AskingCourt$Record", name := "wasPut", desc := "(I)Z" } : Jvm.MethodName)) ∈ lw_all := lw_g (lw_at lw_m5 143 rfl) rfl
theorem q1270 : (Jvm.Cond.methodLink "AskingCourt" (319 : Nat) ({ cls := "AskingCourt$Record", name := "hear", desc := "(III)V" } : Jvm.MethodName)) ∈ lw_all := lw_g (lw_at lw_m5 147 rfl) rfl
theorem q1275 : (Jvm.Cond.instanceMethod ({ cls := "AskingCourt", name := "unsay", desc := "()I" } : Jvm.MethodName)) ∈ lw_all := lw_g (lw_at lw_m5 152 rfl) rfl
theorem q1276 : (Jvm.Cond.selects "AskingCourt" ({ cls := "AskingCourt", name := "unsay", desc := "()I" } : Jvm.MethodName) ({ cls := "AskingCourt", name := "unsay", desc := "()I" } : Jvm.MethodName)) ∈ lw_all := lw_g (lw_at lw_m5 153 rfl) rfl
theorem q1277 : (Jvm.Cond.code ({ cls := "AskingCourt", name := "unsay", desc := "()I" } : Jvm.MethodName) prog_1_method_41_code (1 : Nat) (Option.some Jvm.ClassFile.FieldType.int)) ∈ lw_all := lw_g (lw_at lw_m5 154 rfl) rfl
theorem q1279 : (Jvm.Cond.instanceMethod ({ cls := "AskingCourt", name := "nextDay", desc := "()I" } : Jvm.MethodName)) ∈ lw_all := lw_g (lw_at lw_m5 156 rfl) rfl
theorem q1280 : (Jvm.Cond.selects "AskingCourt" ({ cls := "AskingCourt", name := "nextDay", desc := "()I" } : Jvm.MethodName) ({ cls := "AskingCourt", name := "nextDay", desc := "()I" } : Jvm.MethodName)) ∈ lw_all := lw_g (lw_at lw_m5 157 rfl) rfl
theorem q1281 : (Jvm.Cond.code ({ cls := "AskingCourt", name := "nextDay", desc := "()I" } : Jvm.MethodName) prog_1_method_42_code (1 : Nat) (Option.some Jvm.ClassFile.FieldType.int)) ∈ lw_all := lw_g (lw_at lw_m5 158 rfl) rfl
theorem q1283 : (Jvm.Cond.instanceMethod ({ cls := "AskingCourt", name := "heard", desc := "(II)I" } : Jvm.MethodName)) ∈ lw_all := lw_g (lw_at lw_m5 160 rfl) rfl
theorem q1284 : (Jvm.Cond.selects "AskingCourt" ({ cls := "AskingCourt", name := "heard", desc := "(II)I" } : Jvm.MethodName) ({ cls := "AskingCourt", name := "heard", desc := "(II)I" } : Jvm.MethodName)) ∈ lw_all := lw_g (lw_at lw_m5 161 rfl) rfl
theorem q1285 : (Jvm.Cond.code ({ cls := "AskingCourt", name := "heard", desc := "(II)I" } : Jvm.MethodName) prog_1_method_43_code (4 : Nat) (Option.some Jvm.ClassFile.FieldType.int)) ∈ lw_all := lw_g (lw_at lw_m5 162 rfl) rfl
theorem q1287 : (Jvm.Cond.instanceMethod ({ cls := "AskingCourt", name := "left", desc := "()I" } : Jvm.MethodName)) ∈ lw_all := lw_g (lw_at lw_m5 164 rfl) rfl
theorem q1288 : (Jvm.Cond.selects "AskingCourt" ({ cls := "AskingCourt", name := "left", desc := "()I" } : Jvm.MethodName) ({ cls := "AskingCourt", name := "left", desc := "()I" } : Jvm.MethodName)) ∈ lw_all := lw_g (lw_at lw_m5 165 rfl) rfl
theorem q1289 : (Jvm.Cond.code ({ cls := "AskingCourt", name := "left", desc := "()I" } : Jvm.MethodName) prog_1_method_45_code (1 : Nat) (Option.some Jvm.ClassFile.FieldType.int)) ∈ lw_all := lw_g (lw_at lw_m5 166 rfl) rfl
theorem q1290 : (Jvm.Cond.methodLink "AskingCourt" (338 : Nat) ({ cls := "AskingCourt$Record", name := "all", desc := "()I" } : Jvm.MethodName)) ∈ lw_all := lw_g (lw_at lw_m5 167 rfl) rfl
theorem q1294 : (Jvm.Cond.methodLink "AskingCourt" (341 : Nat) ({ cls := "AskingCourt", name := "left", desc := "(I)I" } : Jvm.MethodName)) ∈ lw_all := lw_g (lw_at lw_m5 171 rfl) rfl
theorem q1295 : (Jvm.Cond.privateMethod ({ cls := "AskingCourt", name := "left", desc := "(I)I" } : Jvm.MethodName)) ∈ lw_tbl := lw_at lw_m5 172 rfl
theorem q1296 : (Jvm.Cond.instanceMethod ({ cls := "AskingCourt", name := "left", desc := "(I)I" } : Jvm.MethodName)) ∈ lw_all := lw_g (lw_at lw_m5 173 rfl) rfl
theorem q1297 : (Jvm.Cond.code ({ cls := "AskingCourt", name := "left", desc := "(I)I" } : Jvm.MethodName) prog_1_method_44_code (2 : Nat) (Option.some Jvm.ClassFile.FieldType.int)) ∈ lw_all := lw_g (lw_at lw_m5 174 rfl) rfl
theorem q1298 : (Jvm.Cond.methodLink "AskingCourt" (334 : Nat) ({ cls := "AskingCourt$Record", name := "left", desc := "(LAskingCourt$Case;I)I" } : Jvm.MethodName)) ∈ lw_all := lw_g (lw_at lw_m5 175 rfl) rfl
theorem q1317 : (Jvm.Cond.instanceMethod ({ cls := "AskingCourt", name := "isLeft", desc := "(I)I" } : Jvm.MethodName)) ∈ lw_all := lw_g (lw_at lw_m5 194 rfl) rfl
theorem q1318 : (Jvm.Cond.selects "AskingCourt" ({ cls := "AskingCourt", name := "isLeft", desc := "(I)I" } : Jvm.MethodName) ({ cls := "AskingCourt", name := "isLeft", desc := "(I)I" } : Jvm.MethodName)) ∈ lw_all := lw_g (lw_at lw_m5 195 rfl) rfl
theorem q1319 : (Jvm.Cond.code ({ cls := "AskingCourt", name := "isLeft", desc := "(I)I" } : Jvm.MethodName) prog_1_method_46_code (2 : Nat) (Option.some Jvm.ClassFile.FieldType.int)) ∈ lw_all := lw_g (lw_at lw_m5 196 rfl) rfl
theorem q1320 : (Jvm.Cond.methodLink "AskingCourt" (344 : Nat) ({ cls := "AskingCourt$Record", name := "isLeft", desc := "(LAskingCourt$Case;II)Z" } : Jvm.MethodName)) ∈ lw_all := lw_g (lw_at lw_m5 197 rfl) rfl
theorem q1322 : (Jvm.Cond.instanceMethod ({ cls := "AskingCourt", name := "fits", desc := "(III)I" } : Jvm.MethodName)) ∈ lw_all := lw_g (lw_at lw_m5 199 rfl) rfl
theorem q1323 : (Jvm.Cond.selects "AskingCourt" ({ cls := "AskingCourt", name := "fits", desc := "(III)I" } : Jvm.MethodName) ({ cls := "AskingCourt", name := "fits", desc := "(III)I" } : Jvm.MethodName)) ∈ lw_all := lw_g (lw_at lw_m5 200 rfl) rfl
theorem q1324 : (Jvm.Cond.code ({ cls := "AskingCourt", name := "fits", desc := "(III)I" } : Jvm.MethodName) prog_1_method_47_code (4 : Nat) (Option.some Jvm.ClassFile.FieldType.int)) ∈ lw_all := lw_g (lw_at lw_m5 201 rfl) rfl
theorem q1325 : (Jvm.Cond.methodLink "AskingCourt" (348 : Nat) ({ cls := "AskingCourt$Record", name := "fits", desc := "(LAskingCourt$Case;III)I" } : Jvm.MethodName)) ∈ lw_all := lw_g (lw_at lw_m5 202 rfl) rfl
theorem q1326 : (Jvm.Cond.methodLink "AskingCourt" (352 : Nat) ({ cls := "AskingCourt$Witness", name := "mayBe", desc := "()I" } : Jvm.MethodName)) ∈ lw_all := lw_g (lw_at lw_m5 203 rfl) rfl
theorem q1328 : (Jvm.Cond.instanceMethod ({ cls := "AskingCourt", name := "sure", desc := "(I)I" } : Jvm.MethodName)) ∈ lw_all := lw_g (lw_at lw_m5 205 rfl) rfl
theorem q1329 : (Jvm.Cond.selects "AskingCourt" ({ cls := "AskingCourt", name := "sure", desc := "(I)I" } : Jvm.MethodName) ({ cls := "AskingCourt", name := "sure", desc := "(I)I" } : Jvm.MethodName)) ∈ lw_all := lw_g (lw_at lw_m5 206 rfl) rfl
theorem q1330 : (Jvm.Cond.code ({ cls := "AskingCourt", name := "sure", desc := "(I)I" } : Jvm.MethodName) prog_1_method_48_code (3 : Nat) (Option.some Jvm.ClassFile.FieldType.int)) ∈ lw_all := lw_g (lw_at lw_m5 207 rfl) rfl
theorem q1331 : (Jvm.Cond.methodLink "AskingCourt" (355 : Nat) ({ cls := "AskingCourt$Record", name := "sure", desc := "(LAskingCourt$Case;II)I" } : Jvm.MethodName)) ∈ lw_all := lw_g (lw_at lw_m5 208 rfl) rfl
theorem q1336 : (Jvm.Cond.instanceMethod ({ cls := "AskingCourt", name := "chance", desc := "(I)Z" } : Jvm.MethodName)) ∈ lw_all := lw_g (lw_at lw_m5 213 rfl) rfl
theorem q1337 : (Jvm.Cond.selects "AskingCourt" ({ cls := "AskingCourt", name := "chance", desc := "(I)Z" } : Jvm.MethodName) ({ cls := "AskingCourt", name := "chance", desc := "(I)Z" } : Jvm.MethodName)) ∈ lw_all := lw_g (lw_at lw_m5 214 rfl) rfl
theorem q1338 : (Jvm.Cond.code ({ cls := "AskingCourt", name := "chance", desc := "(I)Z" } : Jvm.MethodName) prog_1_method_50_code (4 : Nat) (Option.some Jvm.ClassFile.FieldType.boolean)) ∈ lw_all := lw_g (lw_at lw_m5 215 rfl) rfl
theorem q1339 : (Jvm.Cond.methodLink "AskingCourt" (363 : Nat) ({ cls := "AskingCourt", name := "weightOf", desc := "(LAskingCourt$Record;I)J" } : Jvm.MethodName)) ∈ lw_all := lw_g (lw_at lw_m5 216 rfl) rfl
theorem q1340 : (Jvm.Cond.privateMethod ({ cls := "AskingCourt", name := "weightOf", desc := "(LAskingCourt$Record;I)J" } : Jvm.MethodName)) ∈ lw_tbl := lw_at lw_m5 217 rfl
theorem q1341 : (Jvm.Cond.instanceMethod ({ cls := "AskingCourt", name := "weightOf", desc := "(LAskingCourt$Record;I)J" } : Jvm.MethodName)) ∈ lw_all := lw_g (lw_at lw_m5 218 rfl) rfl
theorem q1342 : (Jvm.Cond.code ({ cls := "AskingCourt", name := "weightOf", desc := "(LAskingCourt$Record;I)J" } : Jvm.MethodName) prog_1_method_49_code (6 : Nat) (Option.some Jvm.ClassFile.FieldType.long)) ∈ lw_all := lw_g (lw_at lw_m5 219 rfl) rfl
theorem q1343 : (Jvm.Cond.methodLink "AskingCourt" (359 : Nat) ({ cls := "AskingCourt$Record", name := "weight", desc := "(LAskingCourt$Case;III)J" } : Jvm.MethodName)) ∈ lw_all := lw_g (lw_at lw_m5 220 rfl) rfl
theorem q1356 : (Jvm.Cond.methodLink "AskingCourt" (367 : Nat) ({ cls := "AskingCourt", name := "fraction", desc := "(JJ)I" } : Jvm.MethodName)) ∈ lw_all := lw_g (lw_at lw_m5 233 rfl) rfl
theorem q1357 : (Jvm.Cond.privateMethod ({ cls := "AskingCourt", name := "fraction", desc := "(JJ)I" } : Jvm.MethodName)) ∈ lw_tbl := lw_at lw_m5 234 rfl
theorem q1358 : (Jvm.Cond.instanceMethod ({ cls := "AskingCourt", name := "fraction", desc := "(JJ)I" } : Jvm.MethodName)) ∈ lw_all := lw_g (lw_at lw_m5 235 rfl) rfl
theorem q1359 : (Jvm.Cond.code ({ cls := "AskingCourt", name := "fraction", desc := "(JJ)I" } : Jvm.MethodName) prog_1_method_13_code (11 : Nat) (Option.some Jvm.ClassFile.FieldType.int)) ∈ lw_all := lw_g (lw_at lw_m5 236 rfl) rfl
theorem q1360 : (Jvm.Cond.methodLink "AskingCourt" (100 : Nat) ({ cls := "java/lang/Math", name := "abs", desc := "(J)J" } : Jvm.MethodName)) ∈ lw_all := lw_g (lw_at lw_m5 237 rfl) rfl
theorem q1363 : (Jvm.Cond.methodLink "AskingCourt" (106 : Nat) ({ cls := "java/lang/Long", name := "signum", desc := "(J)I" } : Jvm.MethodName)) ∈ lw_all := lw_g (lw_at lw_m6 0 rfl) rfl
theorem q1367 : (Jvm.Cond.instanceMethod ({ cls := "AskingCourt", name := "trust", desc := "(II)Z" } : Jvm.MethodName)) ∈ lw_all := lw_g (lw_at lw_m6 4 rfl) rfl
theorem q1368 : (Jvm.Cond.selects "AskingCourt" ({ cls := "AskingCourt", name := "trust", desc := "(II)Z" } : Jvm.MethodName) ({ cls := "AskingCourt", name := "trust", desc := "(II)Z" } : Jvm.MethodName)) ∈ lw_all := lw_g (lw_at lw_m6 5 rfl) rfl
theorem q1369 : (Jvm.Cond.code ({ cls := "AskingCourt", name := "trust", desc := "(II)Z" } : Jvm.MethodName) prog_1_method_51_code (8 : Nat) (Option.some Jvm.ClassFile.FieldType.boolean)) ∈ lw_all := lw_g (lw_at lw_m6 6 rfl) rfl
theorem q1371 : (Jvm.Cond.instanceMethod ({ cls := "AskingCourt", name := "because", desc := "(I)I" } : Jvm.MethodName)) ∈ lw_all := lw_g (lw_at lw_m6 8 rfl) rfl
theorem q1372 : (Jvm.Cond.selects "AskingCourt" ({ cls := "AskingCourt", name := "because", desc := "(I)I" } : Jvm.MethodName) ({ cls := "AskingCourt", name := "because", desc := "(I)I" } : Jvm.MethodName)) ∈ lw_all := lw_g (lw_at lw_m6 9 rfl) rfl
theorem q1373 : (Jvm.Cond.code ({ cls := "AskingCourt", name := "because", desc := "(I)I" } : Jvm.MethodName) prog_1_method_54_code (6 : Nat) (Option.some Jvm.ClassFile.FieldType.int)) ∈ lw_all := lw_g (lw_at lw_m6 10 rfl) rfl
theorem q1374 : (Jvm.Cond.methodLink "AskingCourt" (374 : Nat) ({ cls := "AskingCourt", name := "sure", desc := "(I)I" } : Jvm.MethodName)) ∈ lw_all := lw_g (lw_at lw_m6 11 rfl) rfl
theorem q1375 : (Jvm.Cond.methodLink "AskingCourt" (376 : Nat) ({ cls := "java/lang/Integer", name := "bitCount", desc := "(I)I" } : Jvm.MethodName)) ∈ lw_all := lw_g (lw_at lw_m6 12 rfl) rfl
theorem q1381 : (Jvm.Cond.methodLink "AskingCourt" (381 : Nat) ({ cls := "AskingCourt", name := "isSureBy", desc := "(III)Z" } : Jvm.MethodName)) ∈ lw_all := lw_g (lw_at lw_m6 18 rfl) rfl
theorem q1382 : (Jvm.Cond.privateMethod ({ cls := "AskingCourt", name := "isSureBy", desc := "(III)Z" } : Jvm.MethodName)) ∈ lw_tbl := lw_at lw_m6 19 rfl
theorem q1383 : (Jvm.Cond.instanceMethod ({ cls := "AskingCourt", name := "isSureBy", desc := "(III)Z" } : Jvm.MethodName)) ∈ lw_all := lw_g (lw_at lw_m6 20 rfl) rfl
theorem q1384 : (Jvm.Cond.code ({ cls := "AskingCourt", name := "isSureBy", desc := "(III)Z" } : Jvm.MethodName) prog_1_method_52_code (6 : Nat) (Option.some Jvm.ClassFile.FieldType.boolean)) ∈ lw_all := lw_g (lw_at lw_m6 21 rfl) rfl
theorem q1385 : (Jvm.Cond.methodLink "AskingCourt" (371 : Nat) ({ cls := "AskingCourt", name := "isLeftBy", desc := "(II)Z" } : Jvm.MethodName)) ∈ lw_all := lw_g (lw_at lw_m6 22 rfl) rfl
theorem q1386 : (Jvm.Cond.privateMethod ({ cls := "AskingCourt", name := "isLeftBy", desc := "(II)Z" } : Jvm.MethodName)) ∈ lw_tbl := lw_at lw_m6 23 rfl
theorem q1387 : (Jvm.Cond.instanceMethod ({ cls := "AskingCourt", name := "isLeftBy", desc := "(II)Z" } : Jvm.MethodName)) ∈ lw_all := lw_g (lw_at lw_m6 24 rfl) rfl
theorem q1388 : (Jvm.Cond.code ({ cls := "AskingCourt", name := "isLeftBy", desc := "(II)Z" } : Jvm.MethodName) prog_1_method_53_code (6 : Nat) (Option.some Jvm.ClassFile.FieldType.boolean)) ∈ lw_all := lw_g (lw_at lw_m6 25 rfl) rfl
theorem q1390 : (Jvm.Cond.instanceMethod ({ cls := "AskingCourt", name := "gave", desc := "(I)I" } : Jvm.MethodName)) ∈ lw_all := lw_g (lw_at lw_m6 27 rfl) rfl
theorem q1391 : (Jvm.Cond.selects "AskingCourt" ({ cls := "AskingCourt", name := "gave", desc := "(I)I" } : Jvm.MethodName) ({ cls := "AskingCourt", name := "gave", desc := "(I)I" } : Jvm.MethodName)) ∈ lw_all := lw_g (lw_at lw_m6 28 rfl) rfl
theorem q1392 : (Jvm.Cond.code ({ cls := "AskingCourt", name := "gave", desc := "(I)I" } : Jvm.MethodName) prog_1_method_55_code (2 : Nat) (Option.some Jvm.ClassFile.FieldType.int)) ∈ lw_all := lw_g (lw_at lw_m6 29 rfl) rfl
theorem q1394 : (Jvm.Cond.instanceMethod ({ cls := "AskingCourt", name := "fees", desc := "()I" } : Jvm.MethodName)) ∈ lw_all := lw_g (lw_at lw_m6 31 rfl) rfl
theorem q1395 : (Jvm.Cond.selects "AskingCourt" ({ cls := "AskingCourt", name := "fees", desc := "()I" } : Jvm.MethodName) ({ cls := "AskingCourt", name := "fees", desc := "()I" } : Jvm.MethodName)) ∈ lw_all := lw_g (lw_at lw_m6 32 rfl) rfl
theorem q1396 : (Jvm.Cond.code ({ cls := "AskingCourt", name := "fees", desc := "()I" } : Jvm.MethodName) prog_1_method_56_code (1 : Nat) (Option.some Jvm.ClassFile.FieldType.int)) ∈ lw_all := lw_g (lw_at lw_m6 33 rfl) rfl
theorem q1397 : (Jvm.Cond.methodLink "AskingCourt" (385 : Nat) ({ cls := "AskingCourt$Record", name := "fees", desc := "(LAskingCourt$Case;)I" } : Jvm.MethodName)) ∈ lw_all := lw_g (lw_at lw_m6 34 rfl) rfl
theorem q1402 : (Jvm.Cond.instanceMethod ({ cls := "AskingCourt", name := "worst", desc := "(II)I" } : Jvm.MethodName)) ∈ lw_all := lw_g (lw_at lw_m6 39 rfl) rfl
theorem q1403 : (Jvm.Cond.selects "AskingCourt" ({ cls := "AskingCourt", name := "worst", desc := "(II)I" } : Jvm.MethodName) ({ cls := "AskingCourt", name := "worst", desc := "(II)I" } : Jvm.MethodName)) ∈ lw_all := lw_g (lw_at lw_m6 40 rfl) rfl
theorem q1404 : (Jvm.Cond.code ({ cls := "AskingCourt", name := "worst", desc := "(II)I" } : Jvm.MethodName) prog_1_method_61_code (3 : Nat) (Option.some Jvm.ClassFile.FieldType.int)) ∈ lw_all := lw_g (lw_at lw_m6 41 rfl) rfl
theorem q1405 : (Jvm.Cond.methodLink "AskingCourt" (398 : Nat) ({ cls := "AskingCourt", name := "begin", desc := "(LAskingCourt$Record;)V" } : Jvm.MethodName)) ∈ lw_all := lw_g (lw_at lw_m6 42 rfl) rfl
theorem q1406 : (Jvm.Cond.privateMethod ({ cls := "AskingCourt", name := "begin", desc := "(LAskingCourt$Record;)V" } : Jvm.MethodName)) ∈ lw_tbl := lw_at lw_m6 43 rfl
theorem q1407 : (Jvm.Cond.instanceMethod ({ cls := "AskingCourt", name := "begin", desc := "(LAskingCourt$Record;)V" } : Jvm.MethodName)) ∈ lw_all := lw_g (lw_at lw_m6 44 rfl) rfl
theorem q1408 : (Jvm.Cond.code ({ cls := "AskingCourt", name := "begin", desc := "(LAskingCourt$Record;)V" } : Jvm.MethodName) prog_1_method_58_code (7 : Nat) (Option.none : Option Jvm.ClassFile.FieldType)) ∈ lw_all := lw_g (lw_at lw_m6 45 rfl) rfl
theorem q1409 : (Jvm.Cond.methodLink "AskingCourt" (388 : Nat) ({ cls := "AskingCourt", name := "bitsAt", desc := "(I)I" } : Jvm.MethodName)) ∈ lw_all := lw_g (lw_at lw_m6 46 rfl) rfl
theorem q1410 : (Jvm.Cond.static ({ cls := "AskingCourt", name := "bitsAt", desc := "(I)I" } : Jvm.MethodName)) ∈ lw_all := lw_g (lw_at lw_m6 47 rfl) rfl
theorem q1411 : (Jvm.Cond.code ({ cls := "AskingCourt", name := "bitsAt", desc := "(I)I" } : Jvm.MethodName) prog_1_method_57_code (1 : Nat) (Option.some Jvm.ClassFile.FieldType.int)) ∈ lw_all := lw_g (lw_at lw_m6 48 rfl) rfl
theorem q1412 : (Jvm.Cond.methodLink "AskingCourt" (402 : Nat) ({ cls := "AskingCourt", name := "worstOf", desc := "(II)I" } : Jvm.MethodName)) ∈ lw_all := lw_g (lw_at lw_m6 49 rfl) rfl
theorem q1413 : (Jvm.Cond.privateMethod ({ cls := "AskingCourt", name := "worstOf", desc := "(II)I" } : Jvm.MethodName)) ∈ lw_tbl := lw_at lw_m6 50 rfl
theorem q1414 : (Jvm.Cond.instanceMethod ({ cls := "AskingCourt", name := "worstOf", desc := "(II)I" } : Jvm.MethodName)) ∈ lw_all := lw_g (lw_at lw_m6 51 rfl) rfl
theorem q1415 : (Jvm.Cond.code ({ cls := "AskingCourt", name := "worstOf", desc := "(II)I" } : Jvm.MethodName) prog_1_method_60_code (5 : Nat) (Option.some Jvm.ClassFile.FieldType.int)) ∈ lw_all := lw_g (lw_at lw_m6 52 rfl) rfl
theorem q1416 : (Jvm.Cond.methodLink "AskingCourt" (392 : Nat) ({ cls := "AskingCourt", name := "behind", desc := "(IIII)I" } : Jvm.MethodName)) ∈ lw_all := lw_g (lw_at lw_m6 53 rfl) rfl
theorem q1417 : (Jvm.Cond.privateMethod ({ cls := "AskingCourt", name := "behind", desc := "(IIII)I" } : Jvm.MethodName)) ∈ lw_tbl := lw_at lw_m6 54 rfl
theorem q1418 : (Jvm.Cond.instanceMethod ({ cls := "AskingCourt", name := "behind", desc := "(IIII)I" } : Jvm.MethodName)) ∈ lw_all := lw_g (lw_at lw_m6 55 rfl) rfl
theorem q1419 : (Jvm.Cond.code ({ cls := "AskingCourt", name := "behind", desc := "(IIII)I" } : Jvm.MethodName) prog_1_method_59_code (11 : Nat) (Option.some Jvm.ClassFile.FieldType.int)) ∈ lw_all := lw_g (lw_at lw_m6 56 rfl) rfl
theorem q1420 : (Jvm.Cond.constant "AskingCourt" (391 : Nat) (65535 : Int32)) ∈ lw_all := lw_g (lw_at lw_m6 57 rfl) rfl
theorem q1421 : (Jvm.Cond.methodLink "AskingCourt" (395 : Nat) ({ cls := "java/lang/Math", name := "max", desc := "(II)I" } : Jvm.MethodName)) ∈ lw_all := lw_g (lw_at lw_m6 58 rfl) rfl
theorem q1425 : (Jvm.Cond.instanceMethod ({ cls := "AskingCourt", name := "best", desc := "(I)I" } : Jvm.MethodName)) ∈ lw_all := lw_g (lw_at lw_m6 62 rfl) rfl
theorem q1426 : (Jvm.Cond.selects "AskingCourt" ({ cls := "AskingCourt", name := "best", desc := "(I)I" } : Jvm.MethodName) ({ cls := "AskingCourt", name := "best", desc := "(I)I" } : Jvm.MethodName)) ∈ lw_all := lw_g (lw_at lw_m6 63 rfl) rfl
theorem q1427 : (Jvm.Cond.code ({ cls := "AskingCourt", name := "best", desc := "(I)I" } : Jvm.MethodName) prog_1_method_63_code (3 : Nat) (Option.some Jvm.ClassFile.FieldType.int)) ∈ lw_all := lw_g (lw_at lw_m6 64 rfl) rfl
theorem q1428 : (Jvm.Cond.methodLink "AskingCourt" (405 : Nat) ({ cls := "AskingCourt", name := "bestOf", desc := "(LAskingCourt$Record;I)I" } : Jvm.MethodName)) ∈ lw_all := lw_g (lw_at lw_m6 65 rfl) rfl
theorem q1429 : (Jvm.Cond.privateMethod ({ cls := "AskingCourt", name := "bestOf", desc := "(LAskingCourt$Record;I)I" } : Jvm.MethodName)) ∈ lw_tbl := lw_at lw_m6 66 rfl
theorem q1430 : (Jvm.Cond.instanceMethod ({ cls := "AskingCourt", name := "bestOf", desc := "(LAskingCourt$Record;I)I" } : Jvm.MethodName)) ∈ lw_all := lw_g (lw_at lw_m6 67 rfl) rfl
theorem q1431 : (Jvm.Cond.code ({ cls := "AskingCourt", name := "bestOf", desc := "(LAskingCourt$Record;I)I" } : Jvm.MethodName) prog_1_method_62_code (7 : Nat) (Option.some Jvm.ClassFile.FieldType.int)) ∈ lw_all := lw_g (lw_at lw_m6 68 rfl) rfl
theorem q1433 : (Jvm.Cond.instanceMethod ({ cls := "AskingCourt", name := "shortest", desc := "(II)I" } : Jvm.MethodName)) ∈ lw_all := lw_g (lw_at lw_m6 70 rfl) rfl
theorem q1434 : (Jvm.Cond.selects "AskingCourt" ({ cls := "AskingCourt", name := "shortest", desc := "(II)I" } : Jvm.MethodName) ({ cls := "AskingCourt", name := "shortest", desc := "(II)I" } : Jvm.MethodName)) ∈ lw_all := lw_g (lw_at lw_m6 71 rfl) rfl
theorem q1435 : (Jvm.Cond.code ({ cls := "AskingCourt", name := "shortest", desc := "(II)I" } : Jvm.MethodName) prog_1_method_67_code (4 : Nat) (Option.some Jvm.ClassFile.FieldType.int)) ∈ lw_all := lw_g (lw_at lw_m6 72 rfl) rfl
theorem q1436 : (Jvm.Cond.methodLink "AskingCourt" (425 : Nat) ({ cls := "AskingCourt", name := "canSure", desc := "(II)Z" } : Jvm.MethodName)) ∈ lw_all := lw_g (lw_at lw_m6 73 rfl) rfl
theorem q1437 : (Jvm.Cond.privateMethod ({ cls := "AskingCourt", name := "canSure", desc := "(II)Z" } : Jvm.MethodName)) ∈ lw_tbl := lw_at lw_m6 74 rfl
theorem q1438 : (Jvm.Cond.instanceMethod ({ cls := "AskingCourt", name := "canSure", desc := "(II)Z" } : Jvm.MethodName)) ∈ lw_all := lw_g (lw_at lw_m6 75 rfl) rfl
theorem q1439 : (Jvm.Cond.code ({ cls := "AskingCourt", name := "canSure", desc := "(II)Z" } : Jvm.MethodName) prog_1_method_65_code (5 : Nat) (Option.some Jvm.ClassFile.FieldType.boolean)) ∈ lw_all := lw_g (lw_at lw_m6 76 rfl) rfl
theorem q1440 : (Jvm.Cond.methodLink "AskingCourt" (412 : Nat) ({ cls := "AskingCourt", name := "isSureAt", desc := "(I)Z" } : Jvm.MethodName)) ∈ lw_all := lw_g (lw_at lw_m6 77 rfl) rfl
theorem q1441 : (Jvm.Cond.privateMethod ({ cls := "AskingCourt", name := "isSureAt", desc := "(I)Z" } : Jvm.MethodName)) ∈ lw_tbl := lw_at lw_m6 78 rfl
theorem q1442 : (Jvm.Cond.instanceMethod ({ cls := "AskingCourt", name := "isSureAt", desc := "(I)Z" } : Jvm.MethodName)) ∈ lw_all := lw_g (lw_at lw_m6 79 rfl) rfl
theorem q1443 : (Jvm.Cond.code ({ cls := "AskingCourt", name := "isSureAt", desc := "(I)Z" } : Jvm.MethodName) prog_1_method_64_code (5 : Nat) (Option.some Jvm.ClassFile.FieldType.boolean)) ∈ lw_all := lw_g (lw_at lw_m6 80 rfl) rfl
theorem q1444 : (Jvm.Cond.methodLink "AskingCourt" (421 : Nat) ({ cls := "AskingCourt", name := "settles", desc := "(IIII)Z" } : Jvm.MethodName)) ∈ lw_all := lw_g (lw_at lw_m6 81 rfl) rfl
theorem q1445 : (Jvm.Cond.privateMethod ({ cls := "AskingCourt", name := "settles", desc := "(IIII)Z" } : Jvm.MethodName)) ∈ lw_tbl := lw_at lw_m6 82 rfl
theorem q1446 : (Jvm.Cond.instanceMethod ({ cls := "AskingCourt", name := "settles", desc := "(IIII)Z" } : Jvm.MethodName)) ∈ lw_all := lw_g (lw_at lw_m6 83 rfl) rfl
theorem q1447 : (Jvm.Cond.code ({ cls := "AskingCourt", name := "settles", desc := "(IIII)Z" } : Jvm.MethodName) prog_1_method_66_code (7 : Nat) (Option.some Jvm.ClassFile.FieldType.boolean)) ∈ lw_all := lw_g (lw_at lw_m6 84 rfl) rfl
theorem q1449 : (Jvm.Cond.instanceMethod ({ cls := "AskingCourt", name := "shortestFirst", desc := "(I)I" } : Jvm.MethodName)) ∈ lw_all := lw_g (lw_at lw_m6 86 rfl) rfl
theorem q1450 : (Jvm.Cond.selects "AskingCourt" ({ cls := "AskingCourt", name := "shortestFirst", desc := "(I)I" } : Jvm.MethodName) ({ cls := "AskingCourt", name := "shortestFirst", desc := "(I)I" } : Jvm.MethodName)) ∈ lw_all := lw_g (lw_at lw_m6 87 rfl) rfl
theorem q1451 : (Jvm.Cond.code ({ cls := "AskingCourt", name := "shortestFirst", desc := "(I)I" } : Jvm.MethodName) prog_1_method_68_code (2 : Nat) (Option.some Jvm.ClassFile.FieldType.int)) ∈ lw_all := lw_g (lw_at lw_m6 88 rfl) rfl
theorem q1453 : (Jvm.Cond.instanceMethod ({ cls := "AskingCourt", name := "settled", desc := "()I" } : Jvm.MethodName)) ∈ lw_all := lw_g (lw_at lw_m6 90 rfl) rfl
theorem q1454 : (Jvm.Cond.selects "AskingCourt" ({ cls := "AskingCourt", name := "settled", desc := "()I" } : Jvm.MethodName) ({ cls := "AskingCourt", name := "settled", desc := "()I" } : Jvm.MethodName)) ∈ lw_all := lw_g (lw_at lw_m6 91 rfl) rfl
theorem q1455 : (Jvm.Cond.code ({ cls := "AskingCourt", name := "settled", desc := "()I" } : Jvm.MethodName) prog_1_method_69_code (3 : Nat) (Option.some Jvm.ClassFile.FieldType.int)) ∈ lw_all := lw_g (lw_at lw_m6 92 rfl) rfl
theorem q1457 : (Jvm.Cond.instanceMethod ({ cls := "AskingCourt", name := "bench", desc := "()I" } : Jvm.MethodName)) ∈ lw_all := lw_g (lw_at lw_m6 94 rfl) rfl
theorem q1458 : (Jvm.Cond.selects "AskingCourt" ({ cls := "AskingCourt", name := "bench", desc := "()I" } : Jvm.MethodName) ({ cls := "AskingCourt", name := "bench", desc := "()I" } : Jvm.MethodName)) ∈ lw_all := lw_g (lw_at lw_m6 95 rfl) rfl
theorem q1459 : (Jvm.Cond.code ({ cls := "AskingCourt", name := "bench", desc := "()I" } : Jvm.MethodName) prog_1_method_71_code (1 : Nat) (Option.some Jvm.ClassFile.FieldType.int)) ∈ lw_all := lw_g (lw_at lw_m6 96 rfl) rfl
theorem q1460 : (Jvm.Cond.methodLink "AskingCourt" (428 : Nat) ({ cls := "AskingCourt", name := "honestMany", desc := "(I)I" } : Jvm.MethodName)) ∈ lw_all := lw_g (lw_at lw_m6 97 rfl) rfl
theorem q1461 : (Jvm.Cond.privateMethod ({ cls := "AskingCourt", name := "honestMany", desc := "(I)I" } : Jvm.MethodName)) ∈ lw_tbl := lw_at lw_m6 98 rfl
theorem q1462 : (Jvm.Cond.instanceMethod ({ cls := "AskingCourt", name := "honestMany", desc := "(I)I" } : Jvm.MethodName)) ∈ lw_all := lw_g (lw_at lw_m6 99 rfl) rfl
theorem q1463 : (Jvm.Cond.code ({ cls := "AskingCourt", name := "honestMany", desc := "(I)I" } : Jvm.MethodName) prog_1_method_70_code (6 : Nat) (Option.some Jvm.ClassFile.FieldType.int)) ∈ lw_all := lw_g (lw_at lw_m6 100 rfl) rfl
theorem q1465 : (Jvm.Cond.instanceMethod ({ cls := "AskingCourt", name := "clash", desc := "()I" } : Jvm.MethodName)) ∈ lw_all := lw_g (lw_at lw_m6 102 rfl) rfl
theorem q1466 : (Jvm.Cond.selects "AskingCourt" ({ cls := "AskingCourt", name := "clash", desc := "()I" } : Jvm.MethodName) ({ cls := "AskingCourt", name := "clash", desc := "()I" } : Jvm.MethodName)) ∈ lw_all := lw_g (lw_at lw_m6 103 rfl) rfl
theorem q1467 : (Jvm.Cond.code ({ cls := "AskingCourt", name := "clash", desc := "()I" } : Jvm.MethodName) prog_1_method_72_code (2 : Nat) (Option.some Jvm.ClassFile.FieldType.int)) ∈ lw_all := lw_g (lw_at lw_m6 104 rfl) rfl
theorem q1469 : (Jvm.Cond.instanceMethod ({ cls := "AskingCourt", name := "liars", desc := "()I" } : Jvm.MethodName)) ∈ lw_all := lw_g (lw_at lw_m6 106 rfl) rfl
theorem q1470 : (Jvm.Cond.selects "AskingCourt" ({ cls := "AskingCourt", name := "liars", desc := "()I" } : Jvm.MethodName) ({ cls := "AskingCourt", name := "liars", desc := "()I" } : Jvm.MethodName)) ∈ lw_all := lw_g (lw_at lw_m6 107 rfl) rfl
theorem q1471 : (Jvm.Cond.code ({ cls := "AskingCourt", name := "liars", desc := "()I" } : Jvm.MethodName) prog_1_method_73_code (5 : Nat) (Option.some Jvm.ClassFile.FieldType.int)) ∈ lw_all := lw_g (lw_at lw_m6 108 rfl) rfl
theorem q1473 : (Jvm.Cond.instanceMethod ({ cls := "AskingCourt", name := "sit", desc := "(I)I" } : Jvm.MethodName)) ∈ lw_all := lw_g (lw_at lw_m6 110 rfl) rfl
theorem q1474 : (Jvm.Cond.selects "AskingCourt" ({ cls := "AskingCourt", name := "sit", desc := "(I)I" } : Jvm.MethodName) ({ cls := "AskingCourt", name := "sit", desc := "(I)I" } : Jvm.MethodName)) ∈ lw_all := lw_g (lw_at lw_m6 111 rfl) rfl
theorem q1475 : (Jvm.Cond.code ({ cls := "AskingCourt", name := "sit", desc := "(I)I" } : Jvm.MethodName) prog_1_method_78_code (6 : Nat) (Option.some Jvm.ClassFile.FieldType.int)) ∈ lw_all := lw_g (lw_at lw_m6 112 rfl) rfl
theorem q1476 : (Jvm.Cond.methodLink "AskingCourt" (461 : Nat) ({ cls := "AskingCourt", name := "sits", desc := "()J" } : Jvm.MethodName)) ∈ lw_all := lw_g (lw_at lw_m6 113 rfl) rfl
theorem q1477 : (Jvm.Cond.privateMethod ({ cls := "AskingCourt", name := "sits", desc := "()J" } : Jvm.MethodName)) ∈ lw_tbl := lw_at lw_m6 114 rfl
theorem q1478 : (Jvm.Cond.instanceMethod ({ cls := "AskingCourt", name := "sits", desc := "()J" } : Jvm.MethodName)) ∈ lw_all := lw_g (lw_at lw_m6 115 rfl) rfl
theorem q1479 : (Jvm.Cond.code ({ cls := "AskingCourt", name := "sits", desc := "()J" } : Jvm.MethodName) prog_1_method_77_code (4 : Nat) (Option.some Jvm.ClassFile.FieldType.long)) ∈ lw_all := lw_g (lw_at lw_m6 116 rfl) rfl
theorem q1480 : (Jvm.Cond.methodLink "AskingCourt" (445 : Nat) ({ cls := "AskingCourt$Case", name := "weight", desc := "(I)J" } : Jvm.MethodName)) ∈ lw_all := lw_g (lw_at lw_m6 117 rfl) rfl
theorem q1481 : (Jvm.Cond.constantLong "AskingCourt" (465 : Nat) (9999 : Int64)) ∈ lw_all := lw_g (lw_at lw_m6 118 rfl) rfl
theorem q1482 : (Jvm.Cond.methodLink "AskingCourt" (467 : Nat) ({ cls := "AskingCourt", name := "run", desc := "(IJ)V" } : Jvm.MethodName)) ∈ lw_all := lw_g (lw_at lw_m6 119 rfl) rfl
theorem q1483 : (Jvm.Cond.privateMethod ({ cls := "AskingCourt", name := "run", desc := "(IJ)V" } : Jvm.MethodName)) ∈ lw_tbl := lw_at lw_m6 120 rfl
theorem q1484 : (Jvm.Cond.instanceMethod ({ cls := "AskingCourt", name := "run", desc := "(IJ)V" } : Jvm.MethodName)) ∈ lw_all := lw_g (lw_at lw_m6 121 rfl) rfl
theorem q1485 : (Jvm.Cond.code ({ cls := "AskingCourt", name := "run", desc := "(IJ)V" } : Jvm.MethodName) prog_1_method_75_code (8 : Nat) (Option.none : Option Jvm.ClassFile.FieldType)) ∈ lw_all := lw_g (lw_at lw_m6 122 rfl) rfl
theorem q1486 : (Jvm.Cond.methodLink "AskingCourt" (439 : Nat) ({ cls := "AskingCourt", name := "draw", desc := "(J)I" } : Jvm.MethodName)) ∈ lw_all := lw_g (lw_at lw_m6 123 rfl) rfl
theorem q1487 : (Jvm.Cond.privateMethod ({ cls := "AskingCourt", name := "draw", desc := "(J)I" } : Jvm.MethodName)) ∈ lw_tbl := lw_at lw_m6 124 rfl
theorem q1488 : (Jvm.Cond.instanceMethod ({ cls := "AskingCourt", name := "draw", desc := "(J)I" } : Jvm.MethodName)) ∈ lw_all := lw_g (lw_at lw_m6 125 rfl) rfl
theorem q1489 : (Jvm.Cond.code ({ cls := "AskingCourt", name := "draw", desc := "(J)I" } : Jvm.MethodName) prog_1_method_74_code (3 : Nat) (Option.some Jvm.ClassFile.FieldType.int)) ∈ lw_all := lw_g (lw_at lw_m6 126 rfl) rfl
theorem q1490 : (Jvm.Cond.constant "AskingCourt" (434 : Nat) (65536 : Int32)) ∈ lw_all := lw_g (lw_at lw_m6 127 rfl) rfl
theorem q1491 : (Jvm.Cond.methodLink "AskingCourt" (451 : Nat) ({ cls := "AskingCourt", name := "drawKind", desc := "(LAskingCourt$Witness;)I" } : Jvm.MethodName)) ∈ lw_all := lw_g (lw_at lw_m6 128 rfl) rfl
theorem q1492 : (Jvm.Cond.privateMethod ({ cls := "AskingCourt", name := "drawKind", desc := "(LAskingCourt$Witness;)I" } : Jvm.MethodName)) ∈ lw_tbl := lw_at lw_m6 129 rfl
theorem q1493 : (Jvm.Cond.instanceMethod ({ cls := "AskingCourt", name := "drawKind", desc := "(LAskingCourt$Witness;)I" } : Jvm.MethodName)) ∈ lw_all := lw_g (lw_at lw_m6 130 rfl) rfl
theorem q1494 : (Jvm.Cond.code ({ cls := "AskingCourt", name := "drawKind", desc := "(LAskingCourt$Witness;)I" } : Jvm.MethodName) prog_1_method_76_code (5 : Nat) (Option.some Jvm.ClassFile.FieldType.int)) ∈ lw_all := lw_g (lw_at lw_m6 131 rfl) rfl
theorem q1495 : (Jvm.Cond.constantLong "AskingCourt" (459 : Nat) (16 : Int64)) ∈ lw_all := lw_g (lw_at lw_m6 132 rfl) rfl
theorem q1496 : (Jvm.Cond.methodLink "AskingCourt" (455 : Nat) ({ cls := "AskingCourt$Block", name := "go", desc := "(LAskingCourt$Sitting;)V" } : Jvm.MethodName)) ∈ lw_all := lw_g (lw_at lw_m6 133 rfl) rfl
theorem q1561 : (Jvm.Cond.instanceMethod ({ cls := "AskingCourt", name := "sat", desc := "(I)I" } : Jvm.MethodName)) ∈ lw_all := lw_g (lw_at lw_m6 198 rfl) rfl
theorem q1562 : (Jvm.Cond.selects "AskingCourt" ({ cls := "AskingCourt", name := "sat", desc := "(I)I" } : Jvm.MethodName) ({ cls := "AskingCourt", name := "sat", desc := "(I)I" } : Jvm.MethodName)) ∈ lw_all := lw_g (lw_at lw_m6 199 rfl) rfl
theorem q1563 : (Jvm.Cond.code ({ cls := "AskingCourt", name := "sat", desc := "(I)I" } : Jvm.MethodName) prog_1_method_79_code (2 : Nat) (Option.some Jvm.ClassFile.FieldType.int)) ∈ lw_all := lw_g (lw_at lw_m6 200 rfl) rfl
theorem q1565 : (Jvm.Cond.instanceMethod ({ cls := "AskingCourt", name := "tally", desc := "(III)I" } : Jvm.MethodName)) ∈ lw_all := lw_g (lw_at lw_m6 202 rfl) rfl
theorem q1566 : (Jvm.Cond.selects "AskingCourt" ({ cls := "AskingCourt", name := "tally", desc := "(III)I" } : Jvm.MethodName) ({ cls := "AskingCourt", name := "tally", desc := "(III)I" } : Jvm.MethodName)) ∈ lw_all := lw_g (lw_at lw_m6 203 rfl) rfl
theorem q1567 : (Jvm.Cond.code ({ cls := "AskingCourt", name := "tally", desc := "(III)I" } : Jvm.MethodName) prog_1_method_80_code (8 : Nat) (Option.some Jvm.ClassFile.FieldType.int)) ∈ lw_all := lw_g (lw_at lw_m6 204 rfl) rfl
theorem q1568 : (Jvm.Cond.constantLong "AskingCourt" (475 : Nat) (30 : Int64)) ∈ lw_all := lw_g (lw_at lw_m6 205 rfl) rfl
theorem q1569 : (Jvm.Cond.constantLong "AskingCourt" (477 : Nat) (2 : Int64)) ∈ lw_all := lw_g (lw_at lw_m6 206 rfl) rfl
theorem q1571 : (Jvm.Cond.instanceMethod ({ cls := "AskingCourt", name := "mark", desc := "()I" } : Jvm.MethodName)) ∈ lw_all := lw_g (lw_at lw_m6 208 rfl) rfl
theorem q1572 : (Jvm.Cond.selects "AskingCourt" ({ cls := "AskingCourt", name := "mark", desc := "()I" } : Jvm.MethodName) ({ cls := "AskingCourt", name := "mark", desc := "()I" } : Jvm.MethodName)) ∈ lw_all := lw_g (lw_at lw_m6 209 rfl) rfl
theorem q1573 : (Jvm.Cond.code ({ cls := "AskingCourt", name := "mark", desc := "()I" } : Jvm.MethodName) prog_1_method_81_code (1 : Nat) (Option.some Jvm.ClassFile.FieldType.int)) ∈ lw_all := lw_g (lw_at lw_m6 210 rfl) rfl
theorem q1574 : (Jvm.Cond.methodLink "AskingCourt" (482 : Nat) ({ cls := "AskingCourt$House", name := "be", desc := "(LAskingCourt$House;)V" } : Jvm.MethodName)) ∈ lw_all := lw_g (lw_at lw_m6 211 rfl) rfl
theorem q1584 : (Jvm.Cond.instanceMethod ({ cls := "AskingCourt", name := "back", desc := "()I" } : Jvm.MethodName)) ∈ lw_all := lw_g (lw_at lw_m6 221 rfl) rfl
theorem q1585 : (Jvm.Cond.selects "AskingCourt" ({ cls := "AskingCourt", name := "back", desc := "()I" } : Jvm.MethodName) ({ cls := "AskingCourt", name := "back", desc := "()I" } : Jvm.MethodName)) ∈ lw_all := lw_g (lw_at lw_m6 222 rfl) rfl
theorem q1586 : (Jvm.Cond.code ({ cls := "AskingCourt", name := "back", desc := "()I" } : Jvm.MethodName) prog_1_method_82_code (1 : Nat) (Option.some Jvm.ClassFile.FieldType.int)) ∈ lw_all := lw_g (lw_at lw_m6 223 rfl) rfl
theorem in_X0 : ∀ w ∈ wsX00, w ∈ lw_all := lw_in wsX00 [543, 545, 547, 549, 551, 553, 555, 557, 559, 561, 563, 565, 567, 569, 571, 573, 575, 577, 579, 581, 583, 585, 587, 589] (by decide +kernel) (by decide +kernel)
