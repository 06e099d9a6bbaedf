/-! AskingCourtModel -/
set_option maxRecDepth 100000
def RX9 : String := "AskingCourtModel"
def TX9 : u_T := fun k => match k with
  | 0 => ("AskingCourtModel", "at", "[I", true)
  | 1 => ("AskingCourtModel", "sets", "[J", true)
  | 2 => ("AskingCourtModel", "names", "[J", true)
  | 3 => ("AskingCourtModel", "status", "I", false)
  | 4 => ("AskingCourtModel", "top", "J", false)
  | 5 => ("AskingCourtModel", "bottom", "J", false)
  | 6 => ("AskingCourtModel", "sort", "[I", true)
  | 7 => ("AskingCourtModel", "trayMany", "[I", true)
  | 8 => ("AskingCourtModel", "trays", "[J", true)
  | 9 => ("AskingCourtModel", "tape", "[B", true)
  | 10 => ("AskingCourtModel", "text", "[B", true)
  | 11 => ("AskingCourtModel", "taped", "I", false)
  | 12 => ("AskingCourtModel", "size", "I", false)
  | 13 => ("AskingCourtModel", "token", "I", false)
  | 14 => ("AskingCourtModel", "from", "I", false)
  | 15 => ("AskingCourtModel", "end", "I", false)
  | 16 => ("AskingCourtModel", "value", "I", false)
  | 17 => ("AskingCourtModel", "faultKind", "I", false)
  | 18 => ("AskingCourtModel", "faultPlace", "I", false)
  | 19 => ("AskingCourtModel", "faults", "I", false)
  | 20 => ("AskingCourtModel", "seen", "I", false)
  | 21 => ("AskingCourtModel", "found", "I", false)
  | 22 => ("AskingCourtModel", "bars", "[I", true)
  | 23 => ("AskingCourtModel", "stack", "[J", true)
  | 24 => ("AskingCourtModel", "doing", "[I", true)
  | 25 => ("AskingCourtModel", "stacked", "I", false)
  | 26 => ("AskingCourtModel", "toDo", "I", false)
  | 27 => ("AskingCourtModel", "within", "I", false)
  | 28 => ("AskingCourtModel", "opened", "[I", true)
  | 29 => ("AskingCourtModel", "depth", "I", false)
  | 30 => ("AskingCourtModel", "steps", "I", false)
  | 31 => ("AskingCourtModel", "says", "[I", true)
  | 32 => ("AskingCourtModel", "known", "[J", true)
  | 33 => ("AskingCourtModel", "means", "[J", true)
  | 34 => ("AskingCourtModel", "fit", "[I", true)
  | 35 => ("AskingCourtModel", "put", "[Z", true)
  | 36 => ("AskingCourtModel", "kindsBy", "[I", true)
  | 37 => ("AskingCourtModel", "firstWho", "I", false)
  | 38 => ("AskingCourtModel", "firstWhat", "I", false)
  | 39 => ("AskingCourtModel", "drawn", "I", false)
  | 40 => ("AskingCourtModel", "truth", "I", false)
  | 41 => ("AskingCourtModel", "verdict", "I", false)
  | 42 => ("AskingCourtModel", "trueKind", "[I", true)
  | 43 => ("AskingCourtModel", "keptHeard", "[I", true)
  | 44 => ("AskingCourtModel", "told", "[I", true)
  | 45 => ("AskingCourtModel", "isTold", "Z", false)
  | 46 => ("AskingCourtModel", "lastTold", "[I", true)
  | _ => ("AskingCourtModel", "marks", "I", false)
def tyX9 : Nat → FieldType := fun k => match k with
  | 0 => .array .int
  | 1 => .array .long
  | 2 => .array .long
  | 3 => .int
  | 4 => .long
  | 5 => .long
  | 6 => .array .int
  | 7 => .array .int
  | 8 => .array .long
  | 9 => .array .byte
  | 10 => .array .byte
  | 11 => .int
  | 12 => .int
  | 13 => .int
  | 14 => .int
  | 15 => .int
  | 16 => .int
  | 17 => .int
  | 18 => .int
  | 19 => .int
  | 20 => .int
  | 21 => .int
  | 22 => .array .int
  | 23 => .array .long
  | 24 => .array .int
  | 25 => .int
  | 26 => .int
  | 27 => .int
  | 28 => .array .int
  | 29 => .int
  | 30 => .int
  | 31 => .array .int
  | 32 => .array .long
  | 33 => .array .long
  | 34 => .array .int
  | 35 => .array .boolean
  | 36 => .array .int
  | 37 => .int
  | 38 => .int
  | 39 => .int
  | 40 => .int
  | 41 => .int
  | 42 => .array .int
  | 43 => .array .int
  | 44 => .array .int
  | 45 => .boolean
  | 46 => .array .int
  | _ => .int
abbrev wsX90 : List Cond := u_ws RX9 TX9 48
set_option maxRecDepth 100000 in
theorem nmX9 : ∀ a, a < 48 → ∀ b, b < 48 → a ≠ b → (TX9 a).2.1 ≠ (TX9 b).2.1 := by decide +kernel
set_option maxRecDepth 100000 in
theorem tyX9_ok : ∀ k, k < 48 → parseFieldDescriptor (TX9 k).2.2.1 = some (tyX9 k) := by decide +kernel
abbrev cX9_init : ByteArray := prog_19_method_1_code
def yX9_init : MethodName := ⟨RX9, "<init>", "()V"⟩
def dkwX9_init_9 : List UInt8 := [181, 0, 88, 42, 16, 6, 188, 10, 181, 0, 91, 42, 182, 0, 94, 42, 182, 0, 97, 177]
abbrev dktX9_init_9 : List UInt8 := dkwX9_init_9 ++ []
def dkwX9_init_8 : List UInt8 := [181, 0, 79, 42, 7, 188, 10, 181, 0, 82, 42, 16, 48, 188, 10, 181, 0, 85, 42, 16, 6, 188, 10]
abbrev dktX9_init_8 : List UInt8 := dkwX9_init_8 ++ dktX9_init_9
def dkwX9_init_7 : List UInt8 := [181, 0, 69, 42, 16, 48, 188, 4, 181, 0, 72, 42, 17, 12, 0, 188, 10, 181, 0, 76, 42, 2]
abbrev dktX9_init_7 : List UInt8 := dkwX9_init_7 ++ dktX9_init_8
def dkwX9_init_6 : List UInt8 := [181, 0, 60, 42, 7, 188, 11, 181, 0, 63, 42, 7, 188, 11, 181, 0, 66, 42, 17, 16, 0, 188, 10]
abbrev dktX9_init_6 : List UInt8 := dkwX9_init_6 ++ dktX9_init_7
def dkwX9_init_5 : List UInt8 := [181, 0, 50, 42, 16, 100, 188, 10, 181, 0, 53, 42, 6, 188, 10, 181, 0, 56, 42, 18, 59, 188, 10]
abbrev dktX9_init_5 : List UInt8 := dkwX9_init_5 ++ dktX9_init_6
def dkwX9_init_4 : List UInt8 := [2, 181, 0, 40, 42, 2, 181, 0, 44, 42, 16, 24, 188, 10, 181, 0, 47, 42, 17, 0, 240, 188, 11]
abbrev dktX9_init_4 : List UInt8 := dkwX9_init_4 ++ dktX9_init_5
def dkwX9_init_3 : List UInt8 := [188, 11, 181, 0, 30, 42, 17, 3, 132, 188, 8, 181, 0, 33, 42, 17, 3, 132, 188, 8, 181, 0, 37, 42]
abbrev dktX9_init_3 : List UInt8 := dkwX9_init_3 ++ dktX9_init_4
def dkwX9_init_2 : List UInt8 := [89, 3, 2, 79, 89, 4, 2, 79, 89, 5, 2, 79, 89, 6, 2, 79, 181, 0, 27, 42, 17, 0, 240]
abbrev dktX9_init_2 : List UInt8 := dkwX9_init_2 ++ dktX9_init_3
def dkwX9_init_1 : List UInt8 := [17, 0, 220, 188, 11, 181, 0, 17, 42, 10, 181, 0, 20, 42, 7, 188, 10, 181, 0, 24, 42, 7, 188, 10]
abbrev dktX9_init_1 : List UInt8 := dkwX9_init_1 ++ dktX9_init_2
def dkwX9_init_0 : List UInt8 := [42, 183, 0, 1, 42, 17, 7, 208, 188, 10, 181, 0, 7, 42, 17, 1, 4, 188, 11, 181, 0, 13, 42]
abbrev dktX9_init_0 : List UInt8 := dkwX9_init_0 ++ dktX9_init_1
theorem dksX9_init_0 : cX9_init.data.toList.drop 0 = dktX9_init_0 := by decide +kernel
theorem dksX9_init_1 : cX9_init.data.toList.drop 23 = dktX9_init_1 := dk_seg dksX9_init_0 23 rfl rfl
theorem dksX9_init_2 : cX9_init.data.toList.drop 47 = dktX9_init_2 := dk_seg dksX9_init_1 24 rfl rfl
theorem dksX9_init_3 : cX9_init.data.toList.drop 70 = dktX9_init_3 := dk_seg dksX9_init_2 23 rfl rfl
theorem dksX9_init_4 : cX9_init.data.toList.drop 94 = dktX9_init_4 := dk_seg dksX9_init_3 24 rfl rfl
theorem dksX9_init_5 : cX9_init.data.toList.drop 117 = dktX9_init_5 := dk_seg dksX9_init_4 23 rfl rfl
theorem dksX9_init_6 : cX9_init.data.toList.drop 140 = dktX9_init_6 := dk_seg dksX9_init_5 23 rfl rfl
theorem dksX9_init_7 : cX9_init.data.toList.drop 163 = dktX9_init_7 := dk_seg dksX9_init_6 23 rfl rfl
theorem dksX9_init_8 : cX9_init.data.toList.drop 185 = dktX9_init_8 := dk_seg dksX9_init_7 22 rfl rfl
theorem dksX9_init_9 : cX9_init.data.toList.drop 208 = dktX9_init_9 := dk_seg dksX9_init_8 23 rfl rfl
theorem dX9_init_0 : decode cX9_init 0 = .ok (.aload_n 0, 1) := dk_42 (dk_at dksX9_init_0 0 rfl rfl)
theorem dX9_init_1 : decode cX9_init 1 = .ok (.invokespecial 1, 3) := dk_183 0 1 (dk_at dksX9_init_0 1 rfl rfl)
theorem dX9_init_4 : decode cX9_init 4 = .ok (.aload_n 0, 1) := dk_42 (dk_at dksX9_init_0 4 rfl rfl)
theorem dX9_init_5 : decode cX9_init 5 = .ok (.sipush 2000, 3) := dk_17 7 208 (dk_at dksX9_init_0 5 rfl rfl)
theorem dX9_init_8 : decode cX9_init 8 = .ok (.newarray .int, 2) := dk_188_10 (dk_at dksX9_init_0 8 rfl rfl)
theorem dX9_init_10 : decode cX9_init 10 = .ok (.putfield 7, 3) := dk_181 0 7 (dk_at dksX9_init_0 10 rfl rfl)
theorem dX9_init_13 : decode cX9_init 13 = .ok (.aload_n 0, 1) := dk_42 (dk_at dksX9_init_0 13 rfl rfl)
theorem dX9_init_14 : decode cX9_init 14 = .ok (.sipush 260, 3) := dk_17 1 4 (dk_at dksX9_init_0 14 rfl rfl)
theorem dX9_init_17 : decode cX9_init 17 = .ok (.newarray .long, 2) := dk_188_11 (dk_at dksX9_init_0 17 rfl rfl)
theorem dX9_init_19 : decode cX9_init 19 = .ok (.putfield 13, 3) := dk_181 0 13 (dk_at dksX9_init_0 19 rfl rfl)
theorem dX9_init_22 : decode cX9_init 22 = .ok (.aload_n 0, 1) := dk_42 (dk_at dksX9_init_0 22 rfl rfl)
theorem dX9_init_23 : decode cX9_init 23 = .ok (.sipush 220, 3) := dk_17 0 220 (dk_at dksX9_init_1 0 rfl rfl)
theorem dX9_init_26 : decode cX9_init 26 = .ok (.newarray .long, 2) := dk_188_11 (dk_at dksX9_init_1 3 rfl rfl)
theorem dX9_init_28 : decode cX9_init 28 = .ok (.putfield 17, 3) := dk_181 0 17 (dk_at dksX9_init_1 5 rfl rfl)
theorem dX9_init_31 : decode cX9_init 31 = .ok (.aload_n 0, 1) := dk_42 (dk_at dksX9_init_1 8 rfl rfl)
theorem dX9_init_32 : decode cX9_init 32 = .ok (.lconst 1, 1) := dk_10 (dk_at dksX9_init_1 9 rfl rfl)
theorem dX9_init_33 : decode cX9_init 33 = .ok (.putfield 20, 3) := dk_181 0 20 (dk_at dksX9_init_1 10 rfl rfl)
theorem dX9_init_36 : decode cX9_init 36 = .ok (.aload_n 0, 1) := dk_42 (dk_at dksX9_init_1 13 rfl rfl)
theorem dX9_init_37 : decode cX9_init 37 = .ok (.iconst 4, 1) := dk_7 (dk_at dksX9_init_1 14 rfl rfl)
theorem dX9_init_38 : decode cX9_init 38 = .ok (.newarray .int, 2) := dk_188_10 (dk_at dksX9_init_1 15 rfl rfl)
theorem dX9_init_40 : decode cX9_init 40 = .ok (.putfield 24, 3) := dk_181 0 24 (dk_at dksX9_init_1 17 rfl rfl)
theorem dX9_init_43 : decode cX9_init 43 = .ok (.aload_n 0, 1) := dk_42 (dk_at dksX9_init_1 20 rfl rfl)
theorem dX9_init_44 : decode cX9_init 44 = .ok (.iconst 4, 1) := dk_7 (dk_at dksX9_init_1 21 rfl rfl)
theorem dX9_init_45 : decode cX9_init 45 = .ok (.newarray .int, 2) := dk_188_10 (dk_at dksX9_init_1 22 rfl rfl)
theorem dX9_init_47 : decode cX9_init 47 = .ok (.dup, 1) := dk_89 (dk_at dksX9_init_2 0 rfl rfl)
theorem dX9_init_48 : decode cX9_init 48 = .ok (.iconst 0, 1) := dk_3 (dk_at dksX9_init_2 1 rfl rfl)
theorem dX9_init_49 : decode cX9_init 49 = .ok (.iconst (-1), 1) := dk_2 (dk_at dksX9_init_2 2 rfl rfl)
theorem dX9_init_50 : decode cX9_init 50 = .ok (.iastore, 1) := dk_79 (dk_at dksX9_init_2 3 rfl rfl)
theorem dX9_init_51 : decode cX9_init 51 = .ok (.dup, 1) := dk_89 (dk_at dksX9_init_2 4 rfl rfl)
theorem dX9_init_52 : decode cX9_init 52 = .ok (.iconst 1, 1) := dk_4 (dk_at dksX9_init_2 5 rfl rfl)
theorem dX9_init_53 : decode cX9_init 53 = .ok (.iconst (-1), 1) := dk_2 (dk_at dksX9_init_2 6 rfl rfl)
theorem dX9_init_54 : decode cX9_init 54 = .ok (.iastore, 1) := dk_79 (dk_at dksX9_init_2 7 rfl rfl)
theorem dX9_init_55 : decode cX9_init 55 = .ok (.dup, 1) := dk_89 (dk_at dksX9_init_2 8 rfl rfl)
theorem dX9_init_56 : decode cX9_init 56 = .ok (.iconst 2, 1) := dk_5 (dk_at dksX9_init_2 9 rfl rfl)
theorem dX9_init_57 : decode cX9_init 57 = .ok (.iconst (-1), 1) := dk_2 (dk_at dksX9_init_2 10 rfl rfl)
theorem dX9_init_58 : decode cX9_init 58 = .ok (.iastore, 1) := dk_79 (dk_at dksX9_init_2 11 rfl rfl)
theorem dX9_init_59 : decode cX9_init 59 = .ok (.dup, 1) := dk_89 (dk_at dksX9_init_2 12 rfl rfl)
theorem dX9_init_60 : decode cX9_init 60 = .ok (.iconst 3, 1) := dk_6 (dk_at dksX9_init_2 13 rfl rfl)
theorem dX9_init_61 : decode cX9_init 61 = .ok (.iconst (-1), 1) := dk_2 (dk_at dksX9_init_2 14 rfl rfl)
theorem dX9_init_62 : decode cX9_init 62 = .ok (.iastore, 1) := dk_79 (dk_at dksX9_init_2 15 rfl rfl)
theorem dX9_init_63 : decode cX9_init 63 = .ok (.putfield 27, 3) := dk_181 0 27 (dk_at dksX9_init_2 16 rfl rfl)
theorem dX9_init_66 : decode cX9_init 66 = .ok (.aload_n 0, 1) := dk_42 (dk_at dksX9_init_2 19 rfl rfl)
theorem dX9_init_67 : decode cX9_init 67 = .ok (.sipush 240, 3) := dk_17 0 240 (dk_at dksX9_init_2 20 rfl rfl)
theorem dX9_init_70 : decode cX9_init 70 = .ok (.newarray .long, 2) := dk_188_11 (dk_at dksX9_init_3 0 rfl rfl)
theorem dX9_init_72 : decode cX9_init 72 = .ok (.putfield 30, 3) := dk_181 0 30 (dk_at dksX9_init_3 2 rfl rfl)
theorem dX9_init_75 : decode cX9_init 75 = .ok (.aload_n 0, 1) := dk_42 (dk_at dksX9_init_3 5 rfl rfl)
theorem dX9_init_76 : decode cX9_init 76 = .ok (.sipush 900, 3) := dk_17 3 132 (dk_at dksX9_init_3 6 rfl rfl)
theorem dX9_init_79 : decode cX9_init 79 = .ok (.newarray .byte, 2) := dk_188_8 (dk_at dksX9_init_3 9 rfl rfl)
theorem dX9_init_81 : decode cX9_init 81 = .ok (.putfield 33, 3) := dk_181 0 33 (dk_at dksX9_init_3 11 rfl rfl)
theorem dX9_init_84 : decode cX9_init 84 = .ok (.aload_n 0, 1) := dk_42 (dk_at dksX9_init_3 14 rfl rfl)
theorem dX9_init_85 : decode cX9_init 85 = .ok (.sipush 900, 3) := dk_17 3 132 (dk_at dksX9_init_3 15 rfl rfl)
theorem dX9_init_88 : decode cX9_init 88 = .ok (.newarray .byte, 2) := dk_188_8 (dk_at dksX9_init_3 18 rfl rfl)
theorem dX9_init_90 : decode cX9_init 90 = .ok (.putfield 37, 3) := dk_181 0 37 (dk_at dksX9_init_3 20 rfl rfl)
theorem dX9_init_93 : decode cX9_init 93 = .ok (.aload_n 0, 1) := dk_42 (dk_at dksX9_init_3 23 rfl rfl)
theorem dX9_init_94 : decode cX9_init 94 = .ok (.iconst (-1), 1) := dk_2 (dk_at dksX9_init_4 0 rfl rfl)
theorem dX9_init_95 : decode cX9_init 95 = .ok (.putfield 40, 3) := dk_181 0 40 (dk_at dksX9_init_4 1 rfl rfl)
theorem dX9_init_98 : decode cX9_init 98 = .ok (.aload_n 0, 1) := dk_42 (dk_at dksX9_init_4 4 rfl rfl)
theorem dX9_init_99 : decode cX9_init 99 = .ok (.iconst (-1), 1) := dk_2 (dk_at dksX9_init_4 5 rfl rfl)
theorem dX9_init_100 : decode cX9_init 100 = .ok (.putfield 44, 3) := dk_181 0 44 (dk_at dksX9_init_4 6 rfl rfl)
theorem dX9_init_103 : decode cX9_init 103 = .ok (.aload_n 0, 1) := dk_42 (dk_at dksX9_init_4 9 rfl rfl)
theorem dX9_init_104 : decode cX9_init 104 = .ok (.bipush 24, 2) := dk_16 24 (dk_at dksX9_init_4 10 rfl rfl)
theorem dX9_init_106 : decode cX9_init 106 = .ok (.newarray .int, 2) := dk_188_10 (dk_at dksX9_init_4 12 rfl rfl)
theorem dX9_init_108 : decode cX9_init 108 = .ok (.putfield 47, 3) := dk_181 0 47 (dk_at dksX9_init_4 14 rfl rfl)
theorem dX9_init_111 : decode cX9_init 111 = .ok (.aload_n 0, 1) := dk_42 (dk_at dksX9_init_4 17 rfl rfl)
theorem dX9_init_112 : decode cX9_init 112 = .ok (.sipush 240, 3) := dk_17 0 240 (dk_at dksX9_init_4 18 rfl rfl)
theorem dX9_init_115 : decode cX9_init 115 = .ok (.newarray .long, 2) := dk_188_11 (dk_at dksX9_init_4 21 rfl rfl)
theorem dX9_init_117 : decode cX9_init 117 = .ok (.putfield 50, 3) := dk_181 0 50 (dk_at dksX9_init_5 0 rfl rfl)
theorem dX9_init_120 : decode cX9_init 120 = .ok (.aload_n 0, 1) := dk_42 (dk_at dksX9_init_5 3 rfl rfl)
theorem dX9_init_121 : decode cX9_init 121 = .ok (.bipush 100, 2) := dk_16 100 (dk_at dksX9_init_5 4 rfl rfl)
theorem dX9_init_123 : decode cX9_init 123 = .ok (.newarray .int, 2) := dk_188_10 (dk_at dksX9_init_5 6 rfl rfl)
theorem dX9_init_125 : decode cX9_init 125 = .ok (.putfield 53, 3) := dk_181 0 53 (dk_at dksX9_init_5 8 rfl rfl)
theorem dX9_init_128 : decode cX9_init 128 = .ok (.aload_n 0, 1) := dk_42 (dk_at dksX9_init_5 11 rfl rfl)
theorem dX9_init_129 : decode cX9_init 129 = .ok (.iconst 3, 1) := dk_6 (dk_at dksX9_init_5 12 rfl rfl)
theorem dX9_init_130 : decode cX9_init 130 = .ok (.newarray .int, 2) := dk_188_10 (dk_at dksX9_init_5 13 rfl rfl)
theorem dX9_init_132 : decode cX9_init 132 = .ok (.putfield 56, 3) := dk_181 0 56 (dk_at dksX9_init_5 15 rfl rfl)
theorem dX9_init_135 : decode cX9_init 135 = .ok (.aload_n 0, 1) := dk_42 (dk_at dksX9_init_5 18 rfl rfl)
theorem dX9_init_136 : decode cX9_init 136 = .ok (.ldc 59, 2) := dk_18 59 (dk_at dksX9_init_5 19 rfl rfl)
theorem dX9_init_138 : decode cX9_init 138 = .ok (.newarray .int, 2) := dk_188_10 (dk_at dksX9_init_5 21 rfl rfl)
theorem dX9_init_140 : decode cX9_init 140 = .ok (.putfield 60, 3) := dk_181 0 60 (dk_at dksX9_init_6 0 rfl rfl)
theorem dX9_init_143 : decode cX9_init 143 = .ok (.aload_n 0, 1) := dk_42 (dk_at dksX9_init_6 3 rfl rfl)
theorem dX9_init_144 : decode cX9_init 144 = .ok (.iconst 4, 1) := dk_7 (dk_at dksX9_init_6 4 rfl rfl)
theorem dX9_init_145 : decode cX9_init 145 = .ok (.newarray .long, 2) := dk_188_11 (dk_at dksX9_init_6 5 rfl rfl)
theorem dX9_init_147 : decode cX9_init 147 = .ok (.putfield 63, 3) := dk_181 0 63 (dk_at dksX9_init_6 7 rfl rfl)
theorem dX9_init_150 : decode cX9_init 150 = .ok (.aload_n 0, 1) := dk_42 (dk_at dksX9_init_6 10 rfl rfl)
theorem dX9_init_151 : decode cX9_init 151 = .ok (.iconst 4, 1) := dk_7 (dk_at dksX9_init_6 11 rfl rfl)
theorem dX9_init_152 : decode cX9_init 152 = .ok (.newarray .long, 2) := dk_188_11 (dk_at dksX9_init_6 12 rfl rfl)
theorem dX9_init_154 : decode cX9_init 154 = .ok (.putfield 66, 3) := dk_181 0 66 (dk_at dksX9_init_6 14 rfl rfl)
theorem dX9_init_157 : decode cX9_init 157 = .ok (.aload_n 0, 1) := dk_42 (dk_at dksX9_init_6 17 rfl rfl)
theorem dX9_init_158 : decode cX9_init 158 = .ok (.sipush 4096, 3) := dk_17 16 0 (dk_at dksX9_init_6 18 rfl rfl)
theorem dX9_init_161 : decode cX9_init 161 = .ok (.newarray .int, 2) := dk_188_10 (dk_at dksX9_init_6 21 rfl rfl)
theorem dX9_init_163 : decode cX9_init 163 = .ok (.putfield 69, 3) := dk_181 0 69 (dk_at dksX9_init_7 0 rfl rfl)
theorem dX9_init_166 : decode cX9_init 166 = .ok (.aload_n 0, 1) := dk_42 (dk_at dksX9_init_7 3 rfl rfl)
theorem dX9_init_167 : decode cX9_init 167 = .ok (.bipush 48, 2) := dk_16 48 (dk_at dksX9_init_7 4 rfl rfl)
theorem dX9_init_169 : decode cX9_init 169 = .ok (.newarray .boolean, 2) := dk_188_4 (dk_at dksX9_init_7 6 rfl rfl)
theorem dX9_init_171 : decode cX9_init 171 = .ok (.putfield 72, 3) := dk_181 0 72 (dk_at dksX9_init_7 8 rfl rfl)
theorem dX9_init_174 : decode cX9_init 174 = .ok (.aload_n 0, 1) := dk_42 (dk_at dksX9_init_7 11 rfl rfl)
theorem dX9_init_175 : decode cX9_init 175 = .ok (.sipush 3072, 3) := dk_17 12 0 (dk_at dksX9_init_7 12 rfl rfl)
theorem dX9_init_178 : decode cX9_init 178 = .ok (.newarray .int, 2) := dk_188_10 (dk_at dksX9_init_7 15 rfl rfl)
theorem dX9_init_180 : decode cX9_init 180 = .ok (.putfield 76, 3) := dk_181 0 76 (dk_at dksX9_init_7 17 rfl rfl)
theorem dX9_init_183 : decode cX9_init 183 = .ok (.aload_n 0, 1) := dk_42 (dk_at dksX9_init_7 20 rfl rfl)
theorem dX9_init_184 : decode cX9_init 184 = .ok (.iconst (-1), 1) := dk_2 (dk_at dksX9_init_7 21 rfl rfl)
theorem dX9_init_185 : decode cX9_init 185 = .ok (.putfield 79, 3) := dk_181 0 79 (dk_at dksX9_init_8 0 rfl rfl)
theorem dX9_init_188 : decode cX9_init 188 = .ok (.aload_n 0, 1) := dk_42 (dk_at dksX9_init_8 3 rfl rfl)
theorem dX9_init_189 : decode cX9_init 189 = .ok (.iconst 4, 1) := dk_7 (dk_at dksX9_init_8 4 rfl rfl)
theorem dX9_init_190 : decode cX9_init 190 = .ok (.newarray .int, 2) := dk_188_10 (dk_at dksX9_init_8 5 rfl rfl)
theorem dX9_init_192 : decode cX9_init 192 = .ok (.putfield 82, 3) := dk_181 0 82 (dk_at dksX9_init_8 7 rfl rfl)
theorem dX9_init_195 : decode cX9_init 195 = .ok (.aload_n 0, 1) := dk_42 (dk_at dksX9_init_8 10 rfl rfl)
theorem dX9_init_196 : decode cX9_init 196 = .ok (.bipush 48, 2) := dk_16 48 (dk_at dksX9_init_8 11 rfl rfl)
theorem dX9_init_198 : decode cX9_init 198 = .ok (.newarray .int, 2) := dk_188_10 (dk_at dksX9_init_8 13 rfl rfl)
theorem dX9_init_200 : decode cX9_init 200 = .ok (.putfield 85, 3) := dk_181 0 85 (dk_at dksX9_init_8 15 rfl rfl)
theorem dX9_init_203 : decode cX9_init 203 = .ok (.aload_n 0, 1) := dk_42 (dk_at dksX9_init_8 18 rfl rfl)
theorem dX9_init_204 : decode cX9_init 204 = .ok (.bipush 6, 2) := dk_16 6 (dk_at dksX9_init_8 19 rfl rfl)
theorem dX9_init_206 : decode cX9_init 206 = .ok (.newarray .int, 2) := dk_188_10 (dk_at dksX9_init_8 21 rfl rfl)
theorem dX9_init_208 : decode cX9_init 208 = .ok (.putfield 88, 3) := dk_181 0 88 (dk_at dksX9_init_9 0 rfl rfl)
theorem dX9_init_211 : decode cX9_init 211 = .ok (.aload_n 0, 1) := dk_42 (dk_at dksX9_init_9 3 rfl rfl)
theorem dX9_init_212 : decode cX9_init 212 = .ok (.bipush 6, 2) := dk_16 6 (dk_at dksX9_init_9 4 rfl rfl)
theorem dX9_init_214 : decode cX9_init 214 = .ok (.newarray .int, 2) := dk_188_10 (dk_at dksX9_init_9 6 rfl rfl)
theorem dX9_init_216 : decode cX9_init 216 = .ok (.putfield 91, 3) := dk_181 0 91 (dk_at dksX9_init_9 8 rfl rfl)
theorem dX9_init_219 : decode cX9_init 219 = .ok (.aload_n 0, 1) := dk_42 (dk_at dksX9_init_9 11 rfl rfl)
theorem dX9_init_220 : decode cX9_init 220 = .ok (.invokevirtual 94, 3) := dk_182 0 94 (dk_at dksX9_init_9 12 rfl rfl)
theorem dX9_init_223 : decode cX9_init 223 = .ok (.aload_n 0, 1) := dk_42 (dk_at dksX9_init_9 15 rfl rfl)
theorem dX9_init_224 : decode cX9_init 224 = .ok (.invokevirtual 97, 3) := dk_182 0 97 (dk_at dksX9_init_9 16 rfl rfl)
theorem dX9_init_227 : decode cX9_init 227 = .ok (.return_, 1) := dk_177 (dk_at dksX9_init_9 19 rfl rfl)
abbrev cX9_asNew : ByteArray := prog_19_method_2_code
def yX9_asNew : MethodName := ⟨RX9, "asNew", "()V"⟩
def dkwX9_asNew_3 : List UInt8 := [42, 180, 0, 13, 17, 0, 208, 10, 80, 177]
abbrev dktX9_asNew_3 : List UInt8 := dkwX9_asNew_3 ++ []
def dkwX9_asNew_2 : List UInt8 := [132, 1, 1, 167, 255, 236, 42, 180, 0, 7, 17, 6, 66, 4, 79, 42, 180, 0, 7, 17, 6, 71, 2, 79]
abbrev dktX9_asNew_2 : List UInt8 := dkwX9_asNew_2 ++ dktX9_asNew_3
def dkwX9_asNew_1 : List UInt8 := [167, 255, 235, 3, 60, 27, 16, 52, 162, 0, 20, 42, 180, 0, 13, 17, 0, 208, 27, 96, 9, 80]
abbrev dktX9_asNew_1 : List UInt8 := dkwX9_asNew_1 ++ dktX9_asNew_2
def dkwX9_asNew_0 : List UInt8 := [3, 60, 27, 17, 1, 144, 162, 0, 20, 42, 180, 0, 7, 17, 6, 64, 27, 96, 3, 79, 132, 1, 1]
abbrev dktX9_asNew_0 : List UInt8 := dkwX9_asNew_0 ++ dktX9_asNew_1
theorem dksX9_asNew_0 : cX9_asNew.data.toList.drop 0 = dktX9_asNew_0 := by decide +kernel
theorem dksX9_asNew_1 : cX9_asNew.data.toList.drop 23 = dktX9_asNew_1 := dk_seg dksX9_asNew_0 23 rfl rfl
theorem dksX9_asNew_2 : cX9_asNew.data.toList.drop 45 = dktX9_asNew_2 := dk_seg dksX9_asNew_1 22 rfl rfl
theorem dksX9_asNew_3 : cX9_asNew.data.toList.drop 69 = dktX9_asNew_3 := dk_seg dksX9_asNew_2 24 rfl rfl
theorem dX9_asNew_0 : decode cX9_asNew 0 = .ok (.iconst 0, 1) := dk_3 (dk_at dksX9_asNew_0 0 rfl rfl)
theorem dX9_asNew_1 : decode cX9_asNew 1 = .ok (.istore_n 1, 1) := dk_60 (dk_at dksX9_asNew_0 1 rfl rfl)
theorem dX9_asNew_2 : decode cX9_asNew 2 = .ok (.iload_n 1, 1) := dk_27 (dk_at dksX9_asNew_0 2 rfl rfl)
theorem dX9_asNew_3 : decode cX9_asNew 3 = .ok (.sipush 400, 3) := dk_17 1 144 (dk_at dksX9_asNew_0 3 rfl rfl)
theorem dX9_asNew_6 : decode cX9_asNew 6 = .ok (.if_icmp .ge 20, 3) := dk_162 0 20 (dk_at dksX9_asNew_0 6 rfl rfl)
theorem dX9_asNew_9 : decode cX9_asNew 9 = .ok (.aload_n 0, 1) := dk_42 (dk_at dksX9_asNew_0 9 rfl rfl)
theorem dX9_asNew_10 : decode cX9_asNew 10 = .ok (.getfield 7, 3) := dk_180 0 7 (dk_at dksX9_asNew_0 10 rfl rfl)
theorem dX9_asNew_13 : decode cX9_asNew 13 = .ok (.sipush 1600, 3) := dk_17 6 64 (dk_at dksX9_asNew_0 13 rfl rfl)
theorem dX9_asNew_16 : decode cX9_asNew 16 = .ok (.iload_n 1, 1) := dk_27 (dk_at dksX9_asNew_0 16 rfl rfl)
theorem dX9_asNew_17 : decode cX9_asNew 17 = .ok (.iadd, 1) := dk_96 (dk_at dksX9_asNew_0 17 rfl rfl)
theorem dX9_asNew_18 : decode cX9_asNew 18 = .ok (.iconst 0, 1) := dk_3 (dk_at dksX9_asNew_0 18 rfl rfl)
theorem dX9_asNew_19 : decode cX9_asNew 19 = .ok (.iastore, 1) := dk_79 (dk_at dksX9_asNew_0 19 rfl rfl)
theorem dX9_asNew_20 : decode cX9_asNew 20 = .ok (.iinc 1 1, 3) := dk_132 1 1 (dk_at dksX9_asNew_0 20 rfl rfl)
theorem dX9_asNew_23 : decode cX9_asNew 23 = .ok (.goto (-21), 3) := dk_167 255 235 (dk_at dksX9_asNew_1 0 rfl rfl)
theorem dX9_asNew_26 : decode cX9_asNew 26 = .ok (.iconst 0, 1) := dk_3 (dk_at dksX9_asNew_1 3 rfl rfl)
theorem dX9_asNew_27 : decode cX9_asNew 27 = .ok (.istore_n 1, 1) := dk_60 (dk_at dksX9_asNew_1 4 rfl rfl)
theorem dX9_asNew_28 : decode cX9_asNew 28 = .ok (.iload_n 1, 1) := dk_27 (dk_at dksX9_asNew_1 5 rfl rfl)
theorem dX9_asNew_29 : decode cX9_asNew 29 = .ok (.bipush 52, 2) := dk_16 52 (dk_at dksX9_asNew_1 6 rfl rfl)
theorem dX9_asNew_31 : decode cX9_asNew 31 = .ok (.if_icmp .ge 20, 3) := dk_162 0 20 (dk_at dksX9_asNew_1 8 rfl rfl)
theorem dX9_asNew_34 : decode cX9_asNew 34 = .ok (.aload_n 0, 1) := dk_42 (dk_at dksX9_asNew_1 11 rfl rfl)
theorem dX9_asNew_35 : decode cX9_asNew 35 = .ok (.getfield 13, 3) := dk_180 0 13 (dk_at dksX9_asNew_1 12 rfl rfl)
theorem dX9_asNew_38 : decode cX9_asNew 38 = .ok (.sipush 208, 3) := dk_17 0 208 (dk_at dksX9_asNew_1 15 rfl rfl)
theorem dX9_asNew_41 : decode cX9_asNew 41 = .ok (.iload_n 1, 1) := dk_27 (dk_at dksX9_asNew_1 18 rfl rfl)
theorem dX9_asNew_42 : decode cX9_asNew 42 = .ok (.iadd, 1) := dk_96 (dk_at dksX9_asNew_1 19 rfl rfl)
theorem dX9_asNew_43 : decode cX9_asNew 43 = .ok (.lconst 0, 1) := dk_9 (dk_at dksX9_asNew_1 20 rfl rfl)
theorem dX9_asNew_44 : decode cX9_asNew 44 = .ok (.lastore, 1) := dk_80 (dk_at dksX9_asNew_1 21 rfl rfl)
theorem dX9_asNew_45 : decode cX9_asNew 45 = .ok (.iinc 1 1, 3) := dk_132 1 1 (dk_at dksX9_asNew_2 0 rfl rfl)
theorem dX9_asNew_48 : decode cX9_asNew 48 = .ok (.goto (-20), 3) := dk_167 255 236 (dk_at dksX9_asNew_2 3 rfl rfl)
theorem dX9_asNew_51 : decode cX9_asNew 51 = .ok (.aload_n 0, 1) := dk_42 (dk_at dksX9_asNew_2 6 rfl rfl)
theorem dX9_asNew_52 : decode cX9_asNew 52 = .ok (.getfield 7, 3) := dk_180 0 7 (dk_at dksX9_asNew_2 7 rfl rfl)
theorem dX9_asNew_55 : decode cX9_asNew 55 = .ok (.sipush 1602, 3) := dk_17 6 66 (dk_at dksX9_asNew_2 10 rfl rfl)
theorem dX9_asNew_58 : decode cX9_asNew 58 = .ok (.iconst 1, 1) := dk_4 (dk_at dksX9_asNew_2 13 rfl rfl)
theorem dX9_asNew_59 : decode cX9_asNew 59 = .ok (.iastore, 1) := dk_79 (dk_at dksX9_asNew_2 14 rfl rfl)
theorem dX9_asNew_60 : decode cX9_asNew 60 = .ok (.aload_n 0, 1) := dk_42 (dk_at dksX9_asNew_2 15 rfl rfl)
theorem dX9_asNew_61 : decode cX9_asNew 61 = .ok (.getfield 7, 3) := dk_180 0 7 (dk_at dksX9_asNew_2 16 rfl rfl)
theorem dX9_asNew_64 : decode cX9_asNew 64 = .ok (.sipush 1607, 3) := dk_17 6 71 (dk_at dksX9_asNew_2 19 rfl rfl)
theorem dX9_asNew_67 : decode cX9_asNew 67 = .ok (.iconst (-1), 1) := dk_2 (dk_at dksX9_asNew_2 22 rfl rfl)
theorem dX9_asNew_68 : decode cX9_asNew 68 = .ok (.iastore, 1) := dk_79 (dk_at dksX9_asNew_2 23 rfl rfl)
theorem dX9_asNew_69 : decode cX9_asNew 69 = .ok (.aload_n 0, 1) := dk_42 (dk_at dksX9_asNew_3 0 rfl rfl)
theorem dX9_asNew_70 : decode cX9_asNew 70 = .ok (.getfield 13, 3) := dk_180 0 13 (dk_at dksX9_asNew_3 1 rfl rfl)
theorem dX9_asNew_73 : decode cX9_asNew 73 = .ok (.sipush 208, 3) := dk_17 0 208 (dk_at dksX9_asNew_3 4 rfl rfl)
theorem dX9_asNew_76 : decode cX9_asNew 76 = .ok (.lconst 1, 1) := dk_10 (dk_at dksX9_asNew_3 7 rfl rfl)
theorem dX9_asNew_77 : decode cX9_asNew 77 = .ok (.lastore, 1) := dk_80 (dk_at dksX9_asNew_3 8 rfl rfl)
theorem dX9_asNew_78 : decode cX9_asNew 78 = .ok (.return_, 1) := dk_177 (dk_at dksX9_asNew_3 9 rfl rfl)
abbrev cX9_takes : ByteArray := prog_19_method_3_code
def yX9_takes : MethodName := ⟨RX9, "takes", "()V"⟩
def dkwX9_takes_4 : List UInt8 := [182, 0, 100, 177]
abbrev dktX9_takes_4 : List UInt8 := dkwX9_takes_4 ++ []
def dkwX9_takes_3 : List UInt8 := [180, 0, 17, 27, 42, 180, 0, 17, 17, 0, 176, 27, 96, 47, 80, 132, 1, 1, 167, 255, 231, 42]
abbrev dktX9_takes_3 : List UInt8 := dkwX9_takes_3 ++ dktX9_takes_4
def dkwX9_takes_2 : List UInt8 := [17, 0, 208, 27, 96, 47, 80, 132, 1, 1, 167, 255, 231, 3, 60, 27, 16, 44, 162, 0, 25, 42]
abbrev dktX9_takes_2 : List UInt8 := dkwX9_takes_2 ++ dktX9_takes_3
def dkwX9_takes_1 : List UInt8 := [79, 132, 1, 1, 167, 255, 230, 3, 60, 27, 16, 52, 162, 0, 25, 42, 180, 0, 13, 27, 42, 180, 0, 13]
abbrev dktX9_takes_1 : List UInt8 := dkwX9_takes_1 ++ dktX9_takes_2
def dkwX9_takes_0 : List UInt8 := [3, 60, 27, 17, 1, 144, 162, 0, 25, 42, 180, 0, 7, 27, 42, 180, 0, 7, 17, 6, 64, 27, 96, 46]
abbrev dktX9_takes_0 : List UInt8 := dkwX9_takes_0 ++ dktX9_takes_1
theorem dksX9_takes_0 : cX9_takes.data.toList.drop 0 = dktX9_takes_0 := by decide +kernel
theorem dksX9_takes_1 : cX9_takes.data.toList.drop 24 = dktX9_takes_1 := dk_seg dksX9_takes_0 24 rfl rfl
theorem dksX9_takes_2 : cX9_takes.data.toList.drop 48 = dktX9_takes_2 := dk_seg dksX9_takes_1 24 rfl rfl
theorem dksX9_takes_3 : cX9_takes.data.toList.drop 70 = dktX9_takes_3 := dk_seg dksX9_takes_2 22 rfl rfl
theorem dksX9_takes_4 : cX9_takes.data.toList.drop 92 = dktX9_takes_4 := dk_seg dksX9_takes_3 22 rfl rfl
theorem dX9_takes_0 : decode cX9_takes 0 = .ok (.iconst 0, 1) := dk_3 (dk_at dksX9_takes_0 0 rfl rfl)
theorem dX9_takes_1 : decode cX9_takes 1 = .ok (.istore_n 1, 1) := dk_60 (dk_at dksX9_takes_0 1 rfl rfl)
theorem dX9_takes_2 : decode cX9_takes 2 = .ok (.iload_n 1, 1) := dk_27 (dk_at dksX9_takes_0 2 rfl rfl)
theorem dX9_takes_3 : decode cX9_takes 3 = .ok (.sipush 400, 3) := dk_17 1 144 (dk_at dksX9_takes_0 3 rfl rfl)
theorem dX9_takes_6 : decode cX9_takes 6 = .ok (.if_icmp .ge 25, 3) := dk_162 0 25 (dk_at dksX9_takes_0 6 rfl rfl)
theorem dX9_takes_9 : decode cX9_takes 9 = .ok (.aload_n 0, 1) := dk_42 (dk_at dksX9_takes_0 9 rfl rfl)
theorem dX9_takes_10 : decode cX9_takes 10 = .ok (.getfield 7, 3) := dk_180 0 7 (dk_at dksX9_takes_0 10 rfl rfl)
theorem dX9_takes_13 : decode cX9_takes 13 = .ok (.iload_n 1, 1) := dk_27 (dk_at dksX9_takes_0 13 rfl rfl)
theorem dX9_takes_14 : decode cX9_takes 14 = .ok (.aload_n 0, 1) := dk_42 (dk_at dksX9_takes_0 14 rfl rfl)
theorem dX9_takes_15 : decode cX9_takes 15 = .ok (.getfield 7, 3) := dk_180 0 7 (dk_at dksX9_takes_0 15 rfl rfl)
theorem dX9_takes_18 : decode cX9_takes 18 = .ok (.sipush 1600, 3) := dk_17 6 64 (dk_at dksX9_takes_0 18 rfl rfl)
theorem dX9_takes_21 : decode cX9_takes 21 = .ok (.iload_n 1, 1) := dk_27 (dk_at dksX9_takes_0 21 rfl rfl)
theorem dX9_takes_22 : decode cX9_takes 22 = .ok (.iadd, 1) := dk_96 (dk_at dksX9_takes_0 22 rfl rfl)
theorem dX9_takes_23 : decode cX9_takes 23 = .ok (.iaload, 1) := dk_46 (dk_at dksX9_takes_0 23 rfl rfl)
theorem dX9_takes_24 : decode cX9_takes 24 = .ok (.iastore, 1) := dk_79 (dk_at dksX9_takes_1 0 rfl rfl)
theorem dX9_takes_25 : decode cX9_takes 25 = .ok (.iinc 1 1, 3) := dk_132 1 1 (dk_at dksX9_takes_1 1 rfl rfl)
theorem dX9_takes_28 : decode cX9_takes 28 = .ok (.goto (-26), 3) := dk_167 255 230 (dk_at dksX9_takes_1 4 rfl rfl)
theorem dX9_takes_31 : decode cX9_takes 31 = .ok (.iconst 0, 1) := dk_3 (dk_at dksX9_takes_1 7 rfl rfl)
theorem dX9_takes_32 : decode cX9_takes 32 = .ok (.istore_n 1, 1) := dk_60 (dk_at dksX9_takes_1 8 rfl rfl)
theorem dX9_takes_33 : decode cX9_takes 33 = .ok (.iload_n 1, 1) := dk_27 (dk_at dksX9_takes_1 9 rfl rfl)
theorem dX9_takes_34 : decode cX9_takes 34 = .ok (.bipush 52, 2) := dk_16 52 (dk_at dksX9_takes_1 10 rfl rfl)
theorem dX9_takes_36 : decode cX9_takes 36 = .ok (.if_icmp .ge 25, 3) := dk_162 0 25 (dk_at dksX9_takes_1 12 rfl rfl)
theorem dX9_takes_39 : decode cX9_takes 39 = .ok (.aload_n 0, 1) := dk_42 (dk_at dksX9_takes_1 15 rfl rfl)
theorem dX9_takes_40 : decode cX9_takes 40 = .ok (.getfield 13, 3) := dk_180 0 13 (dk_at dksX9_takes_1 16 rfl rfl)
theorem dX9_takes_43 : decode cX9_takes 43 = .ok (.iload_n 1, 1) := dk_27 (dk_at dksX9_takes_1 19 rfl rfl)
theorem dX9_takes_44 : decode cX9_takes 44 = .ok (.aload_n 0, 1) := dk_42 (dk_at dksX9_takes_1 20 rfl rfl)
theorem dX9_takes_45 : decode cX9_takes 45 = .ok (.getfield 13, 3) := dk_180 0 13 (dk_at dksX9_takes_1 21 rfl rfl)
theorem dX9_takes_48 : decode cX9_takes 48 = .ok (.sipush 208, 3) := dk_17 0 208 (dk_at dksX9_takes_2 0 rfl rfl)
theorem dX9_takes_51 : decode cX9_takes 51 = .ok (.iload_n 1, 1) := dk_27 (dk_at dksX9_takes_2 3 rfl rfl)
theorem dX9_takes_52 : decode cX9_takes 52 = .ok (.iadd, 1) := dk_96 (dk_at dksX9_takes_2 4 rfl rfl)
theorem dX9_takes_53 : decode cX9_takes 53 = .ok (.laload, 1) := dk_47 (dk_at dksX9_takes_2 5 rfl rfl)
theorem dX9_takes_54 : decode cX9_takes 54 = .ok (.lastore, 1) := dk_80 (dk_at dksX9_takes_2 6 rfl rfl)
theorem dX9_takes_55 : decode cX9_takes 55 = .ok (.iinc 1 1, 3) := dk_132 1 1 (dk_at dksX9_takes_2 7 rfl rfl)
theorem dX9_takes_58 : decode cX9_takes 58 = .ok (.goto (-25), 3) := dk_167 255 231 (dk_at dksX9_takes_2 10 rfl rfl)
theorem dX9_takes_61 : decode cX9_takes 61 = .ok (.iconst 0, 1) := dk_3 (dk_at dksX9_takes_2 13 rfl rfl)
theorem dX9_takes_62 : decode cX9_takes 62 = .ok (.istore_n 1, 1) := dk_60 (dk_at dksX9_takes_2 14 rfl rfl)
theorem dX9_takes_63 : decode cX9_takes 63 = .ok (.iload_n 1, 1) := dk_27 (dk_at dksX9_takes_2 15 rfl rfl)
theorem dX9_takes_64 : decode cX9_takes 64 = .ok (.bipush 44, 2) := dk_16 44 (dk_at dksX9_takes_2 16 rfl rfl)
theorem dX9_takes_66 : decode cX9_takes 66 = .ok (.if_icmp .ge 25, 3) := dk_162 0 25 (dk_at dksX9_takes_2 18 rfl rfl)
theorem dX9_takes_69 : decode cX9_takes 69 = .ok (.aload_n 0, 1) := dk_42 (dk_at dksX9_takes_2 21 rfl rfl)
theorem dX9_takes_70 : decode cX9_takes 70 = .ok (.getfield 17, 3) := dk_180 0 17 (dk_at dksX9_takes_3 0 rfl rfl)
theorem dX9_takes_73 : decode cX9_takes 73 = .ok (.iload_n 1, 1) := dk_27 (dk_at dksX9_takes_3 3 rfl rfl)
theorem dX9_takes_74 : decode cX9_takes 74 = .ok (.aload_n 0, 1) := dk_42 (dk_at dksX9_takes_3 4 rfl rfl)
theorem dX9_takes_75 : decode cX9_takes 75 = .ok (.getfield 17, 3) := dk_180 0 17 (dk_at dksX9_takes_3 5 rfl rfl)
theorem dX9_takes_78 : decode cX9_takes 78 = .ok (.sipush 176, 3) := dk_17 0 176 (dk_at dksX9_takes_3 8 rfl rfl)
theorem dX9_takes_81 : decode cX9_takes 81 = .ok (.iload_n 1, 1) := dk_27 (dk_at dksX9_takes_3 11 rfl rfl)
theorem dX9_takes_82 : decode cX9_takes 82 = .ok (.iadd, 1) := dk_96 (dk_at dksX9_takes_3 12 rfl rfl)
theorem dX9_takes_83 : decode cX9_takes 83 = .ok (.laload, 1) := dk_47 (dk_at dksX9_takes_3 13 rfl rfl)
theorem dX9_takes_84 : decode cX9_takes 84 = .ok (.lastore, 1) := dk_80 (dk_at dksX9_takes_3 14 rfl rfl)
theorem dX9_takes_85 : decode cX9_takes 85 = .ok (.iinc 1 1, 3) := dk_132 1 1 (dk_at dksX9_takes_3 15 rfl rfl)
theorem dX9_takes_88 : decode cX9_takes 88 = .ok (.goto (-25), 3) := dk_167 255 231 (dk_at dksX9_takes_3 18 rfl rfl)
theorem dX9_takes_91 : decode cX9_takes 91 = .ok (.aload_n 0, 1) := dk_42 (dk_at dksX9_takes_3 21 rfl rfl)
theorem dX9_takes_92 : decode cX9_takes 92 = .ok (.invokevirtual 100, 3) := dk_182 0 100 (dk_at dksX9_takes_4 0 rfl rfl)
theorem dX9_takes_95 : decode cX9_takes 95 = .ok (.return_, 1) := dk_177 (dk_at dksX9_takes_4 3 rfl rfl)
abbrev cX9_laysAnswers : ByteArray := prog_19_method_86_code
def yX9_laysAnswers : MethodName := ⟨RX9, "laysAnswers", "()V"⟩
def dkwX9_laysAnswers_8 : List UInt8 := [104, 79, 132, 3, 1, 167, 255, 103, 132, 2, 1, 167, 255, 68, 132, 1, 1, 167, 255, 50, 177]
abbrev dktX9_laysAnswers_8 : List UInt8 := dkwX9_laysAnswers_8 ++ []
def dkwX9_laysAnswers_7 : List UInt8 := [160, 0, 9, 5, 29, 104, 167, 0, 7, 21, 5, 4, 130, 79, 42, 180, 0, 60, 21, 4, 6, 96, 5, 29]
abbrev dktX9_laysAnswers_7 : List UInt8 := dkwX9_laysAnswers_7 ++ dktX9_laysAnswers_8
def dkwX9_laysAnswers_6 : List UInt8 := [4, 96, 21, 6, 153, 0, 15, 42, 180, 0, 60, 21, 4, 5, 96, 46, 167, 0, 21, 21, 5, 5, 29, 104]
abbrev dktX9_laysAnswers_6 : List UInt8 := dkwX9_laysAnswers_6 ++ dktX9_laysAnswers_7
def dkwX9_laysAnswers_5 : List UInt8 := [153, 0, 15, 42, 180, 0, 60, 21, 4, 5, 96, 46, 167, 0, 5, 21, 5, 79, 42, 180, 0, 60, 21, 4]
abbrev dktX9_laysAnswers_5 : List UInt8 := dkwX9_laysAnswers_5 ++ dktX9_laysAnswers_6
def dkwX9_laysAnswers_4 : List UInt8 := [54, 6, 42, 180, 0, 60, 21, 4, 5, 96, 42, 29, 182, 1, 106, 79, 42, 180, 0, 60, 21, 4, 21, 6]
abbrev dktX9_laysAnswers_4 : List UInt8 := dkwX9_laysAnswers_4 ++ dktX9_laysAnswers_5
def dkwX9_laysAnswers_3 : List UInt8 := [182, 1, 103, 54, 5, 42, 27, 8, 182, 1, 87, 29, 122, 4, 126, 4, 160, 0, 7, 4, 167, 0, 4, 3]
abbrev dktX9_laysAnswers_3 : List UInt8 := dkwX9_laysAnswers_3 ++ dktX9_laysAnswers_4
def dkwX9_laysAnswers_2 : List UInt8 := [6, 46, 162, 0, 149, 7, 17, 1, 0, 16, 12, 27, 104, 29, 96, 104, 28, 96, 104, 54, 4, 42, 29]
abbrev dktX9_laysAnswers_2 : List UInt8 := dkwX9_laysAnswers_2 ++ dktX9_laysAnswers_3
def dkwX9_laysAnswers_1 : List UInt8 := [42, 28, 182, 1, 75, 154, 0, 6, 167, 0, 167, 42, 27, 28, 182, 1, 99, 3, 62, 29, 42, 180, 0, 7]
abbrev dktX9_laysAnswers_1 : List UInt8 := dkwX9_laysAnswers_1 ++ dktX9_laysAnswers_2
def dkwX9_laysAnswers_0 : List UInt8 := [3, 60, 27, 42, 180, 0, 7, 7, 46, 162, 0, 202, 3, 61, 28, 42, 180, 0, 7, 5, 46, 162, 0, 184]
abbrev dktX9_laysAnswers_0 : List UInt8 := dkwX9_laysAnswers_0 ++ dktX9_laysAnswers_1
theorem dksX9_laysAnswers_0 : cX9_laysAnswers.data.toList.drop 0 = dktX9_laysAnswers_0 := by decide +kernel
theorem dksX9_laysAnswers_1 : cX9_laysAnswers.data.toList.drop 24 = dktX9_laysAnswers_1 := dk_seg dksX9_laysAnswers_0 24 rfl rfl
theorem dksX9_laysAnswers_2 : cX9_laysAnswers.data.toList.drop 48 = dktX9_laysAnswers_2 := dk_seg dksX9_laysAnswers_1 24 rfl rfl
theorem dksX9_laysAnswers_3 : cX9_laysAnswers.data.toList.drop 71 = dktX9_laysAnswers_3 := dk_seg dksX9_laysAnswers_2 23 rfl rfl
theorem dksX9_laysAnswers_4 : cX9_laysAnswers.data.toList.drop 95 = dktX9_laysAnswers_4 := dk_seg dksX9_laysAnswers_3 24 rfl rfl
theorem dksX9_laysAnswers_5 : cX9_laysAnswers.data.toList.drop 119 = dktX9_laysAnswers_5 := dk_seg dksX9_laysAnswers_4 24 rfl rfl
theorem dksX9_laysAnswers_6 : cX9_laysAnswers.data.toList.drop 143 = dktX9_laysAnswers_6 := dk_seg dksX9_laysAnswers_5 24 rfl rfl
theorem dksX9_laysAnswers_7 : cX9_laysAnswers.data.toList.drop 167 = dktX9_laysAnswers_7 := dk_seg dksX9_laysAnswers_6 24 rfl rfl
theorem dksX9_laysAnswers_8 : cX9_laysAnswers.data.toList.drop 191 = dktX9_laysAnswers_8 := dk_seg dksX9_laysAnswers_7 24 rfl rfl
theorem dX9_laysAnswers_0 : decode cX9_laysAnswers 0 = .ok (.iconst 0, 1) := dk_3 (dk_at dksX9_laysAnswers_0 0 rfl rfl)
theorem dX9_laysAnswers_1 : decode cX9_laysAnswers 1 = .ok (.istore_n 1, 1) := dk_60 (dk_at dksX9_laysAnswers_0 1 rfl rfl)
theorem dX9_laysAnswers_2 : decode cX9_laysAnswers 2 = .ok (.iload_n 1, 1) := dk_27 (dk_at dksX9_laysAnswers_0 2 rfl rfl)
theorem dX9_laysAnswers_3 : decode cX9_laysAnswers 3 = .ok (.aload_n 0, 1) := dk_42 (dk_at dksX9_laysAnswers_0 3 rfl rfl)
theorem dX9_laysAnswers_4 : decode cX9_laysAnswers 4 = .ok (.getfield 7, 3) := dk_180 0 7 (dk_at dksX9_laysAnswers_0 4 rfl rfl)
theorem dX9_laysAnswers_7 : decode cX9_laysAnswers 7 = .ok (.iconst 4, 1) := dk_7 (dk_at dksX9_laysAnswers_0 7 rfl rfl)
theorem dX9_laysAnswers_8 : decode cX9_laysAnswers 8 = .ok (.iaload, 1) := dk_46 (dk_at dksX9_laysAnswers_0 8 rfl rfl)
theorem dX9_laysAnswers_9 : decode cX9_laysAnswers 9 = .ok (.if_icmp .ge 202, 3) := dk_162 0 202 (dk_at dksX9_laysAnswers_0 9 rfl rfl)
theorem dX9_laysAnswers_12 : decode cX9_laysAnswers 12 = .ok (.iconst 0, 1) := dk_3 (dk_at dksX9_laysAnswers_0 12 rfl rfl)
theorem dX9_laysAnswers_13 : decode cX9_laysAnswers 13 = .ok (.istore_n 2, 1) := dk_61 (dk_at dksX9_laysAnswers_0 13 rfl rfl)
theorem dX9_laysAnswers_14 : decode cX9_laysAnswers 14 = .ok (.iload_n 2, 1) := dk_28 (dk_at dksX9_laysAnswers_0 14 rfl rfl)
theorem dX9_laysAnswers_15 : decode cX9_laysAnswers 15 = .ok (.aload_n 0, 1) := dk_42 (dk_at dksX9_laysAnswers_0 15 rfl rfl)
theorem dX9_laysAnswers_16 : decode cX9_laysAnswers 16 = .ok (.getfield 7, 3) := dk_180 0 7 (dk_at dksX9_laysAnswers_0 16 rfl rfl)
theorem dX9_laysAnswers_19 : decode cX9_laysAnswers 19 = .ok (.iconst 2, 1) := dk_5 (dk_at dksX9_laysAnswers_0 19 rfl rfl)
theorem dX9_laysAnswers_20 : decode cX9_laysAnswers 20 = .ok (.iaload, 1) := dk_46 (dk_at dksX9_laysAnswers_0 20 rfl rfl)
theorem dX9_laysAnswers_21 : decode cX9_laysAnswers 21 = .ok (.if_icmp .ge 184, 3) := dk_162 0 184 (dk_at dksX9_laysAnswers_0 21 rfl rfl)
theorem dX9_laysAnswers_24 : decode cX9_laysAnswers 24 = .ok (.aload_n 0, 1) := dk_42 (dk_at dksX9_laysAnswers_1 0 rfl rfl)
theorem dX9_laysAnswers_25 : decode cX9_laysAnswers 25 = .ok (.iload_n 2, 1) := dk_28 (dk_at dksX9_laysAnswers_1 1 rfl rfl)
theorem dX9_laysAnswers_26 : decode cX9_laysAnswers 26 = .ok (.invokevirtual 331, 3) := dk_182 1 75 (dk_at dksX9_laysAnswers_1 2 rfl rfl)
theorem dX9_laysAnswers_29 : decode cX9_laysAnswers 29 = .ok (.ifCond .ne 6, 3) := dk_154 0 6 (dk_at dksX9_laysAnswers_1 5 rfl rfl)
theorem dX9_laysAnswers_32 : decode cX9_laysAnswers 32 = .ok (.goto 167, 3) := dk_167 0 167 (dk_at dksX9_laysAnswers_1 8 rfl rfl)
theorem dX9_laysAnswers_35 : decode cX9_laysAnswers 35 = .ok (.aload_n 0, 1) := dk_42 (dk_at dksX9_laysAnswers_1 11 rfl rfl)
theorem dX9_laysAnswers_36 : decode cX9_laysAnswers 36 = .ok (.iload_n 1, 1) := dk_27 (dk_at dksX9_laysAnswers_1 12 rfl rfl)
theorem dX9_laysAnswers_37 : decode cX9_laysAnswers 37 = .ok (.iload_n 2, 1) := dk_28 (dk_at dksX9_laysAnswers_1 13 rfl rfl)
theorem dX9_laysAnswers_38 : decode cX9_laysAnswers 38 = .ok (.invokevirtual 355, 3) := dk_182 1 99 (dk_at dksX9_laysAnswers_1 14 rfl rfl)
theorem dX9_laysAnswers_41 : decode cX9_laysAnswers 41 = .ok (.iconst 0, 1) := dk_3 (dk_at dksX9_laysAnswers_1 17 rfl rfl)
theorem dX9_laysAnswers_42 : decode cX9_laysAnswers 42 = .ok (.istore_n 3, 1) := dk_62 (dk_at dksX9_laysAnswers_1 18 rfl rfl)
theorem dX9_laysAnswers_43 : decode cX9_laysAnswers 43 = .ok (.iload_n 3, 1) := dk_29 (dk_at dksX9_laysAnswers_1 19 rfl rfl)
theorem dX9_laysAnswers_44 : decode cX9_laysAnswers 44 = .ok (.aload_n 0, 1) := dk_42 (dk_at dksX9_laysAnswers_1 20 rfl rfl)
theorem dX9_laysAnswers_45 : decode cX9_laysAnswers 45 = .ok (.getfield 7, 3) := dk_180 0 7 (dk_at dksX9_laysAnswers_1 21 rfl rfl)
theorem dX9_laysAnswers_48 : decode cX9_laysAnswers 48 = .ok (.iconst 3, 1) := dk_6 (dk_at dksX9_laysAnswers_2 0 rfl rfl)
theorem dX9_laysAnswers_49 : decode cX9_laysAnswers 49 = .ok (.iaload, 1) := dk_46 (dk_at dksX9_laysAnswers_2 1 rfl rfl)
theorem dX9_laysAnswers_50 : decode cX9_laysAnswers 50 = .ok (.if_icmp .ge 149, 3) := dk_162 0 149 (dk_at dksX9_laysAnswers_2 2 rfl rfl)
theorem dX9_laysAnswers_53 : decode cX9_laysAnswers 53 = .ok (.iconst 4, 1) := dk_7 (dk_at dksX9_laysAnswers_2 5 rfl rfl)
theorem dX9_laysAnswers_54 : decode cX9_laysAnswers 54 = .ok (.sipush 256, 3) := dk_17 1 0 (dk_at dksX9_laysAnswers_2 6 rfl rfl)
theorem dX9_laysAnswers_57 : decode cX9_laysAnswers 57 = .ok (.bipush 12, 2) := dk_16 12 (dk_at dksX9_laysAnswers_2 9 rfl rfl)
theorem dX9_laysAnswers_59 : decode cX9_laysAnswers 59 = .ok (.iload_n 1, 1) := dk_27 (dk_at dksX9_laysAnswers_2 11 rfl rfl)
theorem dX9_laysAnswers_60 : decode cX9_laysAnswers 60 = .ok (.imul, 1) := dk_104 (dk_at dksX9_laysAnswers_2 12 rfl rfl)
theorem dX9_laysAnswers_61 : decode cX9_laysAnswers 61 = .ok (.iload_n 3, 1) := dk_29 (dk_at dksX9_laysAnswers_2 13 rfl rfl)
theorem dX9_laysAnswers_62 : decode cX9_laysAnswers 62 = .ok (.iadd, 1) := dk_96 (dk_at dksX9_laysAnswers_2 14 rfl rfl)
theorem dX9_laysAnswers_63 : decode cX9_laysAnswers 63 = .ok (.imul, 1) := dk_104 (dk_at dksX9_laysAnswers_2 15 rfl rfl)
theorem dX9_laysAnswers_64 : decode cX9_laysAnswers 64 = .ok (.iload_n 2, 1) := dk_28 (dk_at dksX9_laysAnswers_2 16 rfl rfl)
theorem dX9_laysAnswers_65 : decode cX9_laysAnswers 65 = .ok (.iadd, 1) := dk_96 (dk_at dksX9_laysAnswers_2 17 rfl rfl)
theorem dX9_laysAnswers_66 : decode cX9_laysAnswers 66 = .ok (.imul, 1) := dk_104 (dk_at dksX9_laysAnswers_2 18 rfl rfl)
theorem dX9_laysAnswers_67 : decode cX9_laysAnswers 67 = .ok (.istore 4, 2) := dk_54 4 (dk_at dksX9_laysAnswers_2 19 rfl rfl)
theorem dX9_laysAnswers_69 : decode cX9_laysAnswers 69 = .ok (.aload_n 0, 1) := dk_42 (dk_at dksX9_laysAnswers_2 21 rfl rfl)
theorem dX9_laysAnswers_70 : decode cX9_laysAnswers 70 = .ok (.iload_n 3, 1) := dk_29 (dk_at dksX9_laysAnswers_2 22 rfl rfl)
theorem dX9_laysAnswers_71 : decode cX9_laysAnswers 71 = .ok (.invokevirtual 359, 3) := dk_182 1 103 (dk_at dksX9_laysAnswers_3 0 rfl rfl)
theorem dX9_laysAnswers_74 : decode cX9_laysAnswers 74 = .ok (.istore 5, 2) := dk_54 5 (dk_at dksX9_laysAnswers_3 3 rfl rfl)
theorem dX9_laysAnswers_76 : decode cX9_laysAnswers 76 = .ok (.aload_n 0, 1) := dk_42 (dk_at dksX9_laysAnswers_3 5 rfl rfl)
theorem dX9_laysAnswers_77 : decode cX9_laysAnswers 77 = .ok (.iload_n 1, 1) := dk_27 (dk_at dksX9_laysAnswers_3 6 rfl rfl)
theorem dX9_laysAnswers_78 : decode cX9_laysAnswers 78 = .ok (.iconst 5, 1) := dk_8 (dk_at dksX9_laysAnswers_3 7 rfl rfl)
theorem dX9_laysAnswers_79 : decode cX9_laysAnswers 79 = .ok (.invokevirtual 343, 3) := dk_182 1 87 (dk_at dksX9_laysAnswers_3 8 rfl rfl)
theorem dX9_laysAnswers_82 : decode cX9_laysAnswers 82 = .ok (.iload_n 3, 1) := dk_29 (dk_at dksX9_laysAnswers_3 11 rfl rfl)
theorem dX9_laysAnswers_83 : decode cX9_laysAnswers 83 = .ok (.ishr, 1) := dk_122 (dk_at dksX9_laysAnswers_3 12 rfl rfl)
theorem dX9_laysAnswers_84 : decode cX9_laysAnswers 84 = .ok (.iconst 1, 1) := dk_4 (dk_at dksX9_laysAnswers_3 13 rfl rfl)
theorem dX9_laysAnswers_85 : decode cX9_laysAnswers 85 = .ok (.iand, 1) := dk_126 (dk_at dksX9_laysAnswers_3 14 rfl rfl)
theorem dX9_laysAnswers_86 : decode cX9_laysAnswers 86 = .ok (.iconst 1, 1) := dk_4 (dk_at dksX9_laysAnswers_3 15 rfl rfl)
theorem dX9_laysAnswers_87 : decode cX9_laysAnswers 87 = .ok (.if_icmp .ne 7, 3) := dk_160 0 7 (dk_at dksX9_laysAnswers_3 16 rfl rfl)
theorem dX9_laysAnswers_90 : decode cX9_laysAnswers 90 = .ok (.iconst 1, 1) := dk_4 (dk_at dksX9_laysAnswers_3 19 rfl rfl)
theorem dX9_laysAnswers_91 : decode cX9_laysAnswers 91 = .ok (.goto 4, 3) := dk_167 0 4 (dk_at dksX9_laysAnswers_3 20 rfl rfl)
theorem dX9_laysAnswers_94 : decode cX9_laysAnswers 94 = .ok (.iconst 0, 1) := dk_3 (dk_at dksX9_laysAnswers_3 23 rfl rfl)
theorem dX9_laysAnswers_95 : decode cX9_laysAnswers 95 = .ok (.istore 6, 2) := dk_54 6 (dk_at dksX9_laysAnswers_4 0 rfl rfl)
theorem dX9_laysAnswers_97 : decode cX9_laysAnswers 97 = .ok (.aload_n 0, 1) := dk_42 (dk_at dksX9_laysAnswers_4 2 rfl rfl)
theorem dX9_laysAnswers_98 : decode cX9_laysAnswers 98 = .ok (.getfield 60, 3) := dk_180 0 60 (dk_at dksX9_laysAnswers_4 3 rfl rfl)
theorem dX9_laysAnswers_101 : decode cX9_laysAnswers 101 = .ok (.iload 4, 2) := dk_21 4 (dk_at dksX9_laysAnswers_4 6 rfl rfl)
theorem dX9_laysAnswers_103 : decode cX9_laysAnswers 103 = .ok (.iconst 2, 1) := dk_5 (dk_at dksX9_laysAnswers_4 8 rfl rfl)
theorem dX9_laysAnswers_104 : decode cX9_laysAnswers 104 = .ok (.iadd, 1) := dk_96 (dk_at dksX9_laysAnswers_4 9 rfl rfl)
theorem dX9_laysAnswers_105 : decode cX9_laysAnswers 105 = .ok (.aload_n 0, 1) := dk_42 (dk_at dksX9_laysAnswers_4 10 rfl rfl)
theorem dX9_laysAnswers_106 : decode cX9_laysAnswers 106 = .ok (.iload_n 3, 1) := dk_29 (dk_at dksX9_laysAnswers_4 11 rfl rfl)
theorem dX9_laysAnswers_107 : decode cX9_laysAnswers 107 = .ok (.invokevirtual 362, 3) := dk_182 1 106 (dk_at dksX9_laysAnswers_4 12 rfl rfl)
theorem dX9_laysAnswers_110 : decode cX9_laysAnswers 110 = .ok (.iastore, 1) := dk_79 (dk_at dksX9_laysAnswers_4 15 rfl rfl)
theorem dX9_laysAnswers_111 : decode cX9_laysAnswers 111 = .ok (.aload_n 0, 1) := dk_42 (dk_at dksX9_laysAnswers_4 16 rfl rfl)
theorem dX9_laysAnswers_112 : decode cX9_laysAnswers 112 = .ok (.getfield 60, 3) := dk_180 0 60 (dk_at dksX9_laysAnswers_4 17 rfl rfl)
theorem dX9_laysAnswers_115 : decode cX9_laysAnswers 115 = .ok (.iload 4, 2) := dk_21 4 (dk_at dksX9_laysAnswers_4 20 rfl rfl)
theorem dX9_laysAnswers_117 : decode cX9_laysAnswers 117 = .ok (.iload 6, 2) := dk_21 6 (dk_at dksX9_laysAnswers_4 22 rfl rfl)
theorem dX9_laysAnswers_119 : decode cX9_laysAnswers 119 = .ok (.ifCond .eq 15, 3) := dk_153 0 15 (dk_at dksX9_laysAnswers_5 0 rfl rfl)
theorem dX9_laysAnswers_122 : decode cX9_laysAnswers 122 = .ok (.aload_n 0, 1) := dk_42 (dk_at dksX9_laysAnswers_5 3 rfl rfl)
theorem dX9_laysAnswers_123 : decode cX9_laysAnswers 123 = .ok (.getfield 60, 3) := dk_180 0 60 (dk_at dksX9_laysAnswers_5 4 rfl rfl)
theorem dX9_laysAnswers_126 : decode cX9_laysAnswers 126 = .ok (.iload 4, 2) := dk_21 4 (dk_at dksX9_laysAnswers_5 7 rfl rfl)
theorem dX9_laysAnswers_128 : decode cX9_laysAnswers 128 = .ok (.iconst 2, 1) := dk_5 (dk_at dksX9_laysAnswers_5 9 rfl rfl)
theorem dX9_laysAnswers_129 : decode cX9_laysAnswers 129 = .ok (.iadd, 1) := dk_96 (dk_at dksX9_laysAnswers_5 10 rfl rfl)
theorem dX9_laysAnswers_130 : decode cX9_laysAnswers 130 = .ok (.iaload, 1) := dk_46 (dk_at dksX9_laysAnswers_5 11 rfl rfl)
theorem dX9_laysAnswers_131 : decode cX9_laysAnswers 131 = .ok (.goto 5, 3) := dk_167 0 5 (dk_at dksX9_laysAnswers_5 12 rfl rfl)
theorem dX9_laysAnswers_134 : decode cX9_laysAnswers 134 = .ok (.iload 5, 2) := dk_21 5 (dk_at dksX9_laysAnswers_5 15 rfl rfl)
theorem dX9_laysAnswers_136 : decode cX9_laysAnswers 136 = .ok (.iastore, 1) := dk_79 (dk_at dksX9_laysAnswers_5 17 rfl rfl)
theorem dX9_laysAnswers_137 : decode cX9_laysAnswers 137 = .ok (.aload_n 0, 1) := dk_42 (dk_at dksX9_laysAnswers_5 18 rfl rfl)
theorem dX9_laysAnswers_138 : decode cX9_laysAnswers 138 = .ok (.getfield 60, 3) := dk_180 0 60 (dk_at dksX9_laysAnswers_5 19 rfl rfl)
theorem dX9_laysAnswers_141 : decode cX9_laysAnswers 141 = .ok (.iload 4, 2) := dk_21 4 (dk_at dksX9_laysAnswers_5 22 rfl rfl)
theorem dX9_laysAnswers_143 : decode cX9_laysAnswers 143 = .ok (.iconst 1, 1) := dk_4 (dk_at dksX9_laysAnswers_6 0 rfl rfl)
theorem dX9_laysAnswers_144 : decode cX9_laysAnswers 144 = .ok (.iadd, 1) := dk_96 (dk_at dksX9_laysAnswers_6 1 rfl rfl)
theorem dX9_laysAnswers_145 : decode cX9_laysAnswers 145 = .ok (.iload 6, 2) := dk_21 6 (dk_at dksX9_laysAnswers_6 2 rfl rfl)
theorem dX9_laysAnswers_147 : decode cX9_laysAnswers 147 = .ok (.ifCond .eq 15, 3) := dk_153 0 15 (dk_at dksX9_laysAnswers_6 4 rfl rfl)
theorem dX9_laysAnswers_150 : decode cX9_laysAnswers 150 = .ok (.aload_n 0, 1) := dk_42 (dk_at dksX9_laysAnswers_6 7 rfl rfl)
theorem dX9_laysAnswers_151 : decode cX9_laysAnswers 151 = .ok (.getfield 60, 3) := dk_180 0 60 (dk_at dksX9_laysAnswers_6 8 rfl rfl)
theorem dX9_laysAnswers_154 : decode cX9_laysAnswers 154 = .ok (.iload 4, 2) := dk_21 4 (dk_at dksX9_laysAnswers_6 11 rfl rfl)
theorem dX9_laysAnswers_156 : decode cX9_laysAnswers 156 = .ok (.iconst 2, 1) := dk_5 (dk_at dksX9_laysAnswers_6 13 rfl rfl)
theorem dX9_laysAnswers_157 : decode cX9_laysAnswers 157 = .ok (.iadd, 1) := dk_96 (dk_at dksX9_laysAnswers_6 14 rfl rfl)
theorem dX9_laysAnswers_158 : decode cX9_laysAnswers 158 = .ok (.iaload, 1) := dk_46 (dk_at dksX9_laysAnswers_6 15 rfl rfl)
theorem dX9_laysAnswers_159 : decode cX9_laysAnswers 159 = .ok (.goto 21, 3) := dk_167 0 21 (dk_at dksX9_laysAnswers_6 16 rfl rfl)
theorem dX9_laysAnswers_162 : decode cX9_laysAnswers 162 = .ok (.iload 5, 2) := dk_21 5 (dk_at dksX9_laysAnswers_6 19 rfl rfl)
theorem dX9_laysAnswers_164 : decode cX9_laysAnswers 164 = .ok (.iconst 2, 1) := dk_5 (dk_at dksX9_laysAnswers_6 21 rfl rfl)
theorem dX9_laysAnswers_165 : decode cX9_laysAnswers 165 = .ok (.iload_n 3, 1) := dk_29 (dk_at dksX9_laysAnswers_6 22 rfl rfl)
theorem dX9_laysAnswers_166 : decode cX9_laysAnswers 166 = .ok (.imul, 1) := dk_104 (dk_at dksX9_laysAnswers_6 23 rfl rfl)
theorem dX9_laysAnswers_167 : decode cX9_laysAnswers 167 = .ok (.if_icmp .ne 9, 3) := dk_160 0 9 (dk_at dksX9_laysAnswers_7 0 rfl rfl)
theorem dX9_laysAnswers_170 : decode cX9_laysAnswers 170 = .ok (.iconst 2, 1) := dk_5 (dk_at dksX9_laysAnswers_7 3 rfl rfl)
theorem dX9_laysAnswers_171 : decode cX9_laysAnswers 171 = .ok (.iload_n 3, 1) := dk_29 (dk_at dksX9_laysAnswers_7 4 rfl rfl)
theorem dX9_laysAnswers_172 : decode cX9_laysAnswers 172 = .ok (.imul, 1) := dk_104 (dk_at dksX9_laysAnswers_7 5 rfl rfl)
theorem dX9_laysAnswers_173 : decode cX9_laysAnswers 173 = .ok (.goto 7, 3) := dk_167 0 7 (dk_at dksX9_laysAnswers_7 6 rfl rfl)
theorem dX9_laysAnswers_176 : decode cX9_laysAnswers 176 = .ok (.iload 5, 2) := dk_21 5 (dk_at dksX9_laysAnswers_7 9 rfl rfl)
theorem dX9_laysAnswers_178 : decode cX9_laysAnswers 178 = .ok (.iconst 1, 1) := dk_4 (dk_at dksX9_laysAnswers_7 11 rfl rfl)
theorem dX9_laysAnswers_179 : decode cX9_laysAnswers 179 = .ok (.ixor, 1) := dk_130 (dk_at dksX9_laysAnswers_7 12 rfl rfl)
theorem dX9_laysAnswers_180 : decode cX9_laysAnswers 180 = .ok (.iastore, 1) := dk_79 (dk_at dksX9_laysAnswers_7 13 rfl rfl)
theorem dX9_laysAnswers_181 : decode cX9_laysAnswers 181 = .ok (.aload_n 0, 1) := dk_42 (dk_at dksX9_laysAnswers_7 14 rfl rfl)
theorem dX9_laysAnswers_182 : decode cX9_laysAnswers 182 = .ok (.getfield 60, 3) := dk_180 0 60 (dk_at dksX9_laysAnswers_7 15 rfl rfl)
theorem dX9_laysAnswers_185 : decode cX9_laysAnswers 185 = .ok (.iload 4, 2) := dk_21 4 (dk_at dksX9_laysAnswers_7 18 rfl rfl)
theorem dX9_laysAnswers_187 : decode cX9_laysAnswers 187 = .ok (.iconst 3, 1) := dk_6 (dk_at dksX9_laysAnswers_7 20 rfl rfl)
theorem dX9_laysAnswers_188 : decode cX9_laysAnswers 188 = .ok (.iadd, 1) := dk_96 (dk_at dksX9_laysAnswers_7 21 rfl rfl)
theorem dX9_laysAnswers_189 : decode cX9_laysAnswers 189 = .ok (.iconst 2, 1) := dk_5 (dk_at dksX9_laysAnswers_7 22 rfl rfl)
theorem dX9_laysAnswers_190 : decode cX9_laysAnswers 190 = .ok (.iload_n 3, 1) := dk_29 (dk_at dksX9_laysAnswers_7 23 rfl rfl)
theorem dX9_laysAnswers_191 : decode cX9_laysAnswers 191 = .ok (.imul, 1) := dk_104 (dk_at dksX9_laysAnswers_8 0 rfl rfl)
theorem dX9_laysAnswers_192 : decode cX9_laysAnswers 192 = .ok (.iastore, 1) := dk_79 (dk_at dksX9_laysAnswers_8 1 rfl rfl)
theorem dX9_laysAnswers_193 : decode cX9_laysAnswers 193 = .ok (.iinc 3 1, 3) := dk_132 3 1 (dk_at dksX9_laysAnswers_8 2 rfl rfl)
theorem dX9_laysAnswers_196 : decode cX9_laysAnswers 196 = .ok (.goto (-153), 3) := dk_167 255 103 (dk_at dksX9_laysAnswers_8 5 rfl rfl)
theorem dX9_laysAnswers_199 : decode cX9_laysAnswers 199 = .ok (.iinc 2 1, 3) := dk_132 2 1 (dk_at dksX9_laysAnswers_8 8 rfl rfl)
theorem dX9_laysAnswers_202 : decode cX9_laysAnswers 202 = .ok (.goto (-188), 3) := dk_167 255 68 (dk_at dksX9_laysAnswers_8 11 rfl rfl)
theorem dX9_laysAnswers_205 : decode cX9_laysAnswers 205 = .ok (.iinc 1 1, 3) := dk_132 1 1 (dk_at dksX9_laysAnswers_8 14 rfl rfl)
theorem dX9_laysAnswers_208 : decode cX9_laysAnswers 208 = .ok (.goto (-206), 3) := dk_167 255 50 (dk_at dksX9_laysAnswers_8 17 rfl rfl)
theorem dX9_laysAnswers_211 : decode cX9_laysAnswers 211 = .ok (.return_, 1) := dk_177 (dk_at dksX9_laysAnswers_8 20 rfl rfl)
abbrev cX9_isPossible : ByteArray := prog_19_method_67_code
def yX9_isPossible : MethodName := ⟨RX9, "isPossible", "(I)Z"⟩
def dkwX9_isPossible_0 : List UInt8 := [42, 180, 0, 13, 3, 27, 184, 1, 47, 172]
abbrev dktX9_isPossible_0 : List UInt8 := dkwX9_isPossible_0 ++ []
theorem dksX9_isPossible_0 : cX9_isPossible.data.toList.drop 0 = dktX9_isPossible_0 := by decide +kernel
theorem dX9_isPossible_0 : decode cX9_isPossible 0 = .ok (.aload_n 0, 1) := dk_42 (dk_at dksX9_isPossible_0 0 rfl rfl)
theorem dX9_isPossible_1 : decode cX9_isPossible 1 = .ok (.getfield 13, 3) := dk_180 0 13 (dk_at dksX9_isPossible_0 1 rfl rfl)
theorem dX9_isPossible_4 : decode cX9_isPossible 4 = .ok (.iconst 0, 1) := dk_3 (dk_at dksX9_isPossible_0 4 rfl rfl)
theorem dX9_isPossible_5 : decode cX9_isPossible 5 = .ok (.iload_n 1, 1) := dk_27 (dk_at dksX9_isPossible_0 5 rfl rfl)
theorem dX9_isPossible_6 : decode cX9_isPossible 6 = .ok (.invokestatic 303, 3) := dk_184 1 47 (dk_at dksX9_isPossible_0 6 rfl rfl)
theorem dX9_isPossible_9 : decode cX9_isPossible 9 = .ok (.ireturn, 1) := dk_172 (dk_at dksX9_isPossible_0 9 rfl rfl)
abbrev cX9_inSet : ByteArray := prog_19_method_43_code
def yX9_inSet : MethodName := ⟨RX9, "inSet", "([JII)Z"⟩
def dkwX9_inSet_1 : List UInt8 := [3, 172]
abbrev dktX9_inSet_1 : List UInt8 := dkwX9_inSet_1 ++ []
def dkwX9_inSet_0 : List UInt8 := [42, 27, 28, 16, 64, 108, 96, 47, 28, 16, 64, 112, 123, 10, 127, 10, 148, 154, 0, 7, 4, 167, 0, 4]
abbrev dktX9_inSet_0 : List UInt8 := dkwX9_inSet_0 ++ dktX9_inSet_1
theorem dksX9_inSet_0 : cX9_inSet.data.toList.drop 0 = dktX9_inSet_0 := by decide +kernel
theorem dksX9_inSet_1 : cX9_inSet.data.toList.drop 24 = dktX9_inSet_1 := dk_seg dksX9_inSet_0 24 rfl rfl
theorem dX9_inSet_0 : decode cX9_inSet 0 = .ok (.aload_n 0, 1) := dk_42 (dk_at dksX9_inSet_0 0 rfl rfl)
theorem dX9_inSet_1 : decode cX9_inSet 1 = .ok (.iload_n 1, 1) := dk_27 (dk_at dksX9_inSet_0 1 rfl rfl)
theorem dX9_inSet_2 : decode cX9_inSet 2 = .ok (.iload_n 2, 1) := dk_28 (dk_at dksX9_inSet_0 2 rfl rfl)
theorem dX9_inSet_3 : decode cX9_inSet 3 = .ok (.bipush 64, 2) := dk_16 64 (dk_at dksX9_inSet_0 3 rfl rfl)
theorem dX9_inSet_5 : decode cX9_inSet 5 = .ok (.idiv, 1) := dk_108 (dk_at dksX9_inSet_0 5 rfl rfl)
theorem dX9_inSet_6 : decode cX9_inSet 6 = .ok (.iadd, 1) := dk_96 (dk_at dksX9_inSet_0 6 rfl rfl)
theorem dX9_inSet_7 : decode cX9_inSet 7 = .ok (.laload, 1) := dk_47 (dk_at dksX9_inSet_0 7 rfl rfl)
theorem dX9_inSet_8 : decode cX9_inSet 8 = .ok (.iload_n 2, 1) := dk_28 (dk_at dksX9_inSet_0 8 rfl rfl)
theorem dX9_inSet_9 : decode cX9_inSet 9 = .ok (.bipush 64, 2) := dk_16 64 (dk_at dksX9_inSet_0 9 rfl rfl)
theorem dX9_inSet_11 : decode cX9_inSet 11 = .ok (.irem, 1) := dk_112 (dk_at dksX9_inSet_0 11 rfl rfl)
theorem dX9_inSet_12 : decode cX9_inSet 12 = .ok (.lshr, 1) := dk_123 (dk_at dksX9_inSet_0 12 rfl rfl)
theorem dX9_inSet_13 : decode cX9_inSet 13 = .ok (.lconst 1, 1) := dk_10 (dk_at dksX9_inSet_0 13 rfl rfl)
theorem dX9_inSet_14 : decode cX9_inSet 14 = .ok (.land, 1) := dk_127 (dk_at dksX9_inSet_0 14 rfl rfl)
theorem dX9_inSet_15 : decode cX9_inSet 15 = .ok (.lconst 1, 1) := dk_10 (dk_at dksX9_inSet_0 15 rfl rfl)
theorem dX9_inSet_16 : decode cX9_inSet 16 = .ok (.lcmp, 1) := dk_148 (dk_at dksX9_inSet_0 16 rfl rfl)
theorem dX9_inSet_17 : decode cX9_inSet 17 = .ok (.ifCond .ne 7, 3) := dk_154 0 7 (dk_at dksX9_inSet_0 17 rfl rfl)
theorem dX9_inSet_20 : decode cX9_inSet 20 = .ok (.iconst 1, 1) := dk_4 (dk_at dksX9_inSet_0 20 rfl rfl)
theorem dX9_inSet_21 : decode cX9_inSet 21 = .ok (.goto 4, 3) := dk_167 0 4 (dk_at dksX9_inSet_0 21 rfl rfl)
theorem dX9_inSet_24 : decode cX9_inSet 24 = .ok (.iconst 0, 1) := dk_3 (dk_at dksX9_inSet_1 0 rfl rfl)
theorem dX9_inSet_25 : decode cX9_inSet 25 = .ok (.ireturn, 1) := dk_172 (dk_at dksX9_inSet_1 1 rfl rfl)
abbrev cX9_knowsIn : ByteArray := prog_19_method_80_code
def yX9_knowsIn : MethodName := ⟨RX9, "knowsIn", "(II)V"⟩
def dkwX9_knowsIn_5 : List UInt8 := [29, 16, 64, 112, 121, 129, 80, 132, 3, 1, 167, 255, 148, 177]
abbrev dktX9_knowsIn_5 : List UInt8 := dkwX9_knowsIn_5 ++ []
def dkwX9_knowsIn_4 : List UInt8 := [54, 4, 132, 5, 1, 167, 255, 197, 21, 4, 153, 0, 21, 42, 180, 0, 63, 29, 16, 64, 108, 92, 47, 10]
abbrev dktX9_knowsIn_4 : List UInt8 := dkwX9_knowsIn_4 ++ dktX9_knowsIn_5
def dkwX9_knowsIn_3 : List UInt8 := [42, 3, 29, 21, 5, 182, 0, 234, 42, 3, 28, 21, 5, 182, 0, 234, 160, 0, 7, 4, 167, 0, 4, 3]
abbrev dktX9_knowsIn_3 : List UInt8 := dkwX9_knowsIn_3 ++ dktX9_knowsIn_4
def dkwX9_knowsIn_2 : List UInt8 := [3, 46, 162, 0, 54, 21, 4, 153, 0, 40, 42, 27, 7, 182, 1, 87, 21, 5, 122, 4, 126, 153, 0, 22]
abbrev dktX9_knowsIn_2 : List UInt8 := dkwX9_knowsIn_2 ++ dktX9_knowsIn_3
def dkwX9_knowsIn_1 : List UInt8 := [180, 0, 7, 5, 46, 162, 0, 104, 42, 29, 182, 1, 75, 54, 4, 3, 54, 5, 21, 5, 42, 180, 0, 7]
abbrev dktX9_knowsIn_1 : List UInt8 := dkwX9_knowsIn_1 ++ dktX9_knowsIn_2
def dkwX9_knowsIn_0 : List UInt8 := [3, 62, 29, 7, 162, 0, 16, 42, 180, 0, 63, 29, 9, 80, 132, 3, 1, 167, 255, 241, 3, 62, 29, 42]
abbrev dktX9_knowsIn_0 : List UInt8 := dkwX9_knowsIn_0 ++ dktX9_knowsIn_1
theorem dksX9_knowsIn_0 : cX9_knowsIn.data.toList.drop 0 = dktX9_knowsIn_0 := by decide +kernel
theorem dksX9_knowsIn_1 : cX9_knowsIn.data.toList.drop 24 = dktX9_knowsIn_1 := dk_seg dksX9_knowsIn_0 24 rfl rfl
theorem dksX9_knowsIn_2 : cX9_knowsIn.data.toList.drop 48 = dktX9_knowsIn_2 := dk_seg dksX9_knowsIn_1 24 rfl rfl
theorem dksX9_knowsIn_3 : cX9_knowsIn.data.toList.drop 72 = dktX9_knowsIn_3 := dk_seg dksX9_knowsIn_2 24 rfl rfl
theorem dksX9_knowsIn_4 : cX9_knowsIn.data.toList.drop 96 = dktX9_knowsIn_4 := dk_seg dksX9_knowsIn_3 24 rfl rfl
theorem dksX9_knowsIn_5 : cX9_knowsIn.data.toList.drop 120 = dktX9_knowsIn_5 := dk_seg dksX9_knowsIn_4 24 rfl rfl
theorem dX9_knowsIn_0 : decode cX9_knowsIn 0 = .ok (.iconst 0, 1) := dk_3 (dk_at dksX9_knowsIn_0 0 rfl rfl)
theorem dX9_knowsIn_1 : decode cX9_knowsIn 1 = .ok (.istore_n 3, 1) := dk_62 (dk_at dksX9_knowsIn_0 1 rfl rfl)
theorem dX9_knowsIn_2 : decode cX9_knowsIn 2 = .ok (.iload_n 3, 1) := dk_29 (dk_at dksX9_knowsIn_0 2 rfl rfl)
theorem dX9_knowsIn_3 : decode cX9_knowsIn 3 = .ok (.iconst 4, 1) := dk_7 (dk_at dksX9_knowsIn_0 3 rfl rfl)
theorem dX9_knowsIn_4 : decode cX9_knowsIn 4 = .ok (.if_icmp .ge 16, 3) := dk_162 0 16 (dk_at dksX9_knowsIn_0 4 rfl rfl)
theorem dX9_knowsIn_7 : decode cX9_knowsIn 7 = .ok (.aload_n 0, 1) := dk_42 (dk_at dksX9_knowsIn_0 7 rfl rfl)
theorem dX9_knowsIn_8 : decode cX9_knowsIn 8 = .ok (.getfield 63, 3) := dk_180 0 63 (dk_at dksX9_knowsIn_0 8 rfl rfl)
theorem dX9_knowsIn_11 : decode cX9_knowsIn 11 = .ok (.iload_n 3, 1) := dk_29 (dk_at dksX9_knowsIn_0 11 rfl rfl)
theorem dX9_knowsIn_12 : decode cX9_knowsIn 12 = .ok (.lconst 0, 1) := dk_9 (dk_at dksX9_knowsIn_0 12 rfl rfl)
theorem dX9_knowsIn_13 : decode cX9_knowsIn 13 = .ok (.lastore, 1) := dk_80 (dk_at dksX9_knowsIn_0 13 rfl rfl)
theorem dX9_knowsIn_14 : decode cX9_knowsIn 14 = .ok (.iinc 3 1, 3) := dk_132 3 1 (dk_at dksX9_knowsIn_0 14 rfl rfl)
theorem dX9_knowsIn_17 : decode cX9_knowsIn 17 = .ok (.goto (-15), 3) := dk_167 255 241 (dk_at dksX9_knowsIn_0 17 rfl rfl)
theorem dX9_knowsIn_20 : decode cX9_knowsIn 20 = .ok (.iconst 0, 1) := dk_3 (dk_at dksX9_knowsIn_0 20 rfl rfl)
theorem dX9_knowsIn_21 : decode cX9_knowsIn 21 = .ok (.istore_n 3, 1) := dk_62 (dk_at dksX9_knowsIn_0 21 rfl rfl)
theorem dX9_knowsIn_22 : decode cX9_knowsIn 22 = .ok (.iload_n 3, 1) := dk_29 (dk_at dksX9_knowsIn_0 22 rfl rfl)
theorem dX9_knowsIn_23 : decode cX9_knowsIn 23 = .ok (.aload_n 0, 1) := dk_42 (dk_at dksX9_knowsIn_0 23 rfl rfl)
theorem dX9_knowsIn_24 : decode cX9_knowsIn 24 = .ok (.getfield 7, 3) := dk_180 0 7 (dk_at dksX9_knowsIn_1 0 rfl rfl)
theorem dX9_knowsIn_27 : decode cX9_knowsIn 27 = .ok (.iconst 2, 1) := dk_5 (dk_at dksX9_knowsIn_1 3 rfl rfl)
theorem dX9_knowsIn_28 : decode cX9_knowsIn 28 = .ok (.iaload, 1) := dk_46 (dk_at dksX9_knowsIn_1 4 rfl rfl)
theorem dX9_knowsIn_29 : decode cX9_knowsIn 29 = .ok (.if_icmp .ge 104, 3) := dk_162 0 104 (dk_at dksX9_knowsIn_1 5 rfl rfl)
theorem dX9_knowsIn_32 : decode cX9_knowsIn 32 = .ok (.aload_n 0, 1) := dk_42 (dk_at dksX9_knowsIn_1 8 rfl rfl)
theorem dX9_knowsIn_33 : decode cX9_knowsIn 33 = .ok (.iload_n 3, 1) := dk_29 (dk_at dksX9_knowsIn_1 9 rfl rfl)
theorem dX9_knowsIn_34 : decode cX9_knowsIn 34 = .ok (.invokevirtual 331, 3) := dk_182 1 75 (dk_at dksX9_knowsIn_1 10 rfl rfl)
theorem dX9_knowsIn_37 : decode cX9_knowsIn 37 = .ok (.istore 4, 2) := dk_54 4 (dk_at dksX9_knowsIn_1 13 rfl rfl)
theorem dX9_knowsIn_39 : decode cX9_knowsIn 39 = .ok (.iconst 0, 1) := dk_3 (dk_at dksX9_knowsIn_1 15 rfl rfl)
theorem dX9_knowsIn_40 : decode cX9_knowsIn 40 = .ok (.istore 5, 2) := dk_54 5 (dk_at dksX9_knowsIn_1 16 rfl rfl)
theorem dX9_knowsIn_42 : decode cX9_knowsIn 42 = .ok (.iload 5, 2) := dk_21 5 (dk_at dksX9_knowsIn_1 18 rfl rfl)
theorem dX9_knowsIn_44 : decode cX9_knowsIn 44 = .ok (.aload_n 0, 1) := dk_42 (dk_at dksX9_knowsIn_1 20 rfl rfl)
theorem dX9_knowsIn_45 : decode cX9_knowsIn 45 = .ok (.getfield 7, 3) := dk_180 0 7 (dk_at dksX9_knowsIn_1 21 rfl rfl)
theorem dX9_knowsIn_48 : decode cX9_knowsIn 48 = .ok (.iconst 0, 1) := dk_3 (dk_at dksX9_knowsIn_2 0 rfl rfl)
theorem dX9_knowsIn_49 : decode cX9_knowsIn 49 = .ok (.iaload, 1) := dk_46 (dk_at dksX9_knowsIn_2 1 rfl rfl)
theorem dX9_knowsIn_50 : decode cX9_knowsIn 50 = .ok (.if_icmp .ge 54, 3) := dk_162 0 54 (dk_at dksX9_knowsIn_2 2 rfl rfl)
theorem dX9_knowsIn_53 : decode cX9_knowsIn 53 = .ok (.iload 4, 2) := dk_21 4 (dk_at dksX9_knowsIn_2 5 rfl rfl)
theorem dX9_knowsIn_55 : decode cX9_knowsIn 55 = .ok (.ifCond .eq 40, 3) := dk_153 0 40 (dk_at dksX9_knowsIn_2 7 rfl rfl)
theorem dX9_knowsIn_58 : decode cX9_knowsIn 58 = .ok (.aload_n 0, 1) := dk_42 (dk_at dksX9_knowsIn_2 10 rfl rfl)
theorem dX9_knowsIn_59 : decode cX9_knowsIn 59 = .ok (.iload_n 1, 1) := dk_27 (dk_at dksX9_knowsIn_2 11 rfl rfl)
theorem dX9_knowsIn_60 : decode cX9_knowsIn 60 = .ok (.iconst 4, 1) := dk_7 (dk_at dksX9_knowsIn_2 12 rfl rfl)
theorem dX9_knowsIn_61 : decode cX9_knowsIn 61 = .ok (.invokevirtual 343, 3) := dk_182 1 87 (dk_at dksX9_knowsIn_2 13 rfl rfl)
theorem dX9_knowsIn_64 : decode cX9_knowsIn 64 = .ok (.iload 5, 2) := dk_21 5 (dk_at dksX9_knowsIn_2 16 rfl rfl)
theorem dX9_knowsIn_66 : decode cX9_knowsIn 66 = .ok (.ishr, 1) := dk_122 (dk_at dksX9_knowsIn_2 18 rfl rfl)
theorem dX9_knowsIn_67 : decode cX9_knowsIn 67 = .ok (.iconst 1, 1) := dk_4 (dk_at dksX9_knowsIn_2 19 rfl rfl)
theorem dX9_knowsIn_68 : decode cX9_knowsIn 68 = .ok (.iand, 1) := dk_126 (dk_at dksX9_knowsIn_2 20 rfl rfl)
theorem dX9_knowsIn_69 : decode cX9_knowsIn 69 = .ok (.ifCond .eq 22, 3) := dk_153 0 22 (dk_at dksX9_knowsIn_2 21 rfl rfl)
theorem dX9_knowsIn_72 : decode cX9_knowsIn 72 = .ok (.aload_n 0, 1) := dk_42 (dk_at dksX9_knowsIn_3 0 rfl rfl)
theorem dX9_knowsIn_73 : decode cX9_knowsIn 73 = .ok (.iconst 0, 1) := dk_3 (dk_at dksX9_knowsIn_3 1 rfl rfl)
theorem dX9_knowsIn_74 : decode cX9_knowsIn 74 = .ok (.iload_n 3, 1) := dk_29 (dk_at dksX9_knowsIn_3 2 rfl rfl)
theorem dX9_knowsIn_75 : decode cX9_knowsIn 75 = .ok (.iload 5, 2) := dk_21 5 (dk_at dksX9_knowsIn_3 3 rfl rfl)
theorem dX9_knowsIn_77 : decode cX9_knowsIn 77 = .ok (.invokevirtual 234, 3) := dk_182 0 234 (dk_at dksX9_knowsIn_3 5 rfl rfl)
theorem dX9_knowsIn_80 : decode cX9_knowsIn 80 = .ok (.aload_n 0, 1) := dk_42 (dk_at dksX9_knowsIn_3 8 rfl rfl)
theorem dX9_knowsIn_81 : decode cX9_knowsIn 81 = .ok (.iconst 0, 1) := dk_3 (dk_at dksX9_knowsIn_3 9 rfl rfl)
theorem dX9_knowsIn_82 : decode cX9_knowsIn 82 = .ok (.iload_n 2, 1) := dk_28 (dk_at dksX9_knowsIn_3 10 rfl rfl)
theorem dX9_knowsIn_83 : decode cX9_knowsIn 83 = .ok (.iload 5, 2) := dk_21 5 (dk_at dksX9_knowsIn_3 11 rfl rfl)
theorem dX9_knowsIn_85 : decode cX9_knowsIn 85 = .ok (.invokevirtual 234, 3) := dk_182 0 234 (dk_at dksX9_knowsIn_3 13 rfl rfl)
theorem dX9_knowsIn_88 : decode cX9_knowsIn 88 = .ok (.if_icmp .ne 7, 3) := dk_160 0 7 (dk_at dksX9_knowsIn_3 16 rfl rfl)
theorem dX9_knowsIn_91 : decode cX9_knowsIn 91 = .ok (.iconst 1, 1) := dk_4 (dk_at dksX9_knowsIn_3 19 rfl rfl)
theorem dX9_knowsIn_92 : decode cX9_knowsIn 92 = .ok (.goto 4, 3) := dk_167 0 4 (dk_at dksX9_knowsIn_3 20 rfl rfl)
theorem dX9_knowsIn_95 : decode cX9_knowsIn 95 = .ok (.iconst 0, 1) := dk_3 (dk_at dksX9_knowsIn_3 23 rfl rfl)
theorem dX9_knowsIn_96 : decode cX9_knowsIn 96 = .ok (.istore 4, 2) := dk_54 4 (dk_at dksX9_knowsIn_4 0 rfl rfl)
theorem dX9_knowsIn_98 : decode cX9_knowsIn 98 = .ok (.iinc 5 1, 3) := dk_132 5 1 (dk_at dksX9_knowsIn_4 2 rfl rfl)
theorem dX9_knowsIn_101 : decode cX9_knowsIn 101 = .ok (.goto (-59), 3) := dk_167 255 197 (dk_at dksX9_knowsIn_4 5 rfl rfl)
theorem dX9_knowsIn_104 : decode cX9_knowsIn 104 = .ok (.iload 4, 2) := dk_21 4 (dk_at dksX9_knowsIn_4 8 rfl rfl)
theorem dX9_knowsIn_106 : decode cX9_knowsIn 106 = .ok (.ifCond .eq 21, 3) := dk_153 0 21 (dk_at dksX9_knowsIn_4 10 rfl rfl)
theorem dX9_knowsIn_109 : decode cX9_knowsIn 109 = .ok (.aload_n 0, 1) := dk_42 (dk_at dksX9_knowsIn_4 13 rfl rfl)
theorem dX9_knowsIn_110 : decode cX9_knowsIn 110 = .ok (.getfield 63, 3) := dk_180 0 63 (dk_at dksX9_knowsIn_4 14 rfl rfl)
theorem dX9_knowsIn_113 : decode cX9_knowsIn 113 = .ok (.iload_n 3, 1) := dk_29 (dk_at dksX9_knowsIn_4 17 rfl rfl)
theorem dX9_knowsIn_114 : decode cX9_knowsIn 114 = .ok (.bipush 64, 2) := dk_16 64 (dk_at dksX9_knowsIn_4 18 rfl rfl)
theorem dX9_knowsIn_116 : decode cX9_knowsIn 116 = .ok (.idiv, 1) := dk_108 (dk_at dksX9_knowsIn_4 20 rfl rfl)
theorem dX9_knowsIn_117 : decode cX9_knowsIn 117 = .ok (.dup2, 1) := dk_92 (dk_at dksX9_knowsIn_4 21 rfl rfl)
theorem dX9_knowsIn_118 : decode cX9_knowsIn 118 = .ok (.laload, 1) := dk_47 (dk_at dksX9_knowsIn_4 22 rfl rfl)
theorem dX9_knowsIn_119 : decode cX9_knowsIn 119 = .ok (.lconst 1, 1) := dk_10 (dk_at dksX9_knowsIn_4 23 rfl rfl)
theorem dX9_knowsIn_120 : decode cX9_knowsIn 120 = .ok (.iload_n 3, 1) := dk_29 (dk_at dksX9_knowsIn_5 0 rfl rfl)
theorem dX9_knowsIn_121 : decode cX9_knowsIn 121 = .ok (.bipush 64, 2) := dk_16 64 (dk_at dksX9_knowsIn_5 1 rfl rfl)
theorem dX9_knowsIn_123 : decode cX9_knowsIn 123 = .ok (.irem, 1) := dk_112 (dk_at dksX9_knowsIn_5 3 rfl rfl)
theorem dX9_knowsIn_124 : decode cX9_knowsIn 124 = .ok (.lshl, 1) := dk_121 (dk_at dksX9_knowsIn_5 4 rfl rfl)
theorem dX9_knowsIn_125 : decode cX9_knowsIn 125 = .ok (.lor, 1) := dk_129 (dk_at dksX9_knowsIn_5 5 rfl rfl)
theorem dX9_knowsIn_126 : decode cX9_knowsIn 126 = .ok (.lastore, 1) := dk_80 (dk_at dksX9_knowsIn_5 6 rfl rfl)
theorem dX9_knowsIn_127 : decode cX9_knowsIn 127 = .ok (.iinc 3 1, 3) := dk_132 3 1 (dk_at dksX9_knowsIn_5 7 rfl rfl)
theorem dX9_knowsIn_130 : decode cX9_knowsIn 130 = .ok (.goto (-108), 3) := dk_167 255 148 (dk_at dksX9_knowsIn_5 10 rfl rfl)
theorem dX9_knowsIn_133 : decode cX9_knowsIn 133 = .ok (.return_, 1) := dk_177 (dk_at dksX9_knowsIn_5 13 rfl rfl)
abbrev cX9_ofWitness : ByteArray := prog_19_method_69_code
def yX9_ofWitness : MethodName := ⟨RX9, "ofWitness", "(II)I"⟩
def dkwX9_ofWitness_0 : List UInt8 := [42, 180, 0, 7, 16, 76, 16, 6, 27, 104, 96, 28, 96, 46, 172]
abbrev dktX9_ofWitness_0 : List UInt8 := dkwX9_ofWitness_0 ++ []
theorem dksX9_ofWitness_0 : cX9_ofWitness.data.toList.drop 0 = dktX9_ofWitness_0 := by decide +kernel
theorem dX9_ofWitness_0 : decode cX9_ofWitness 0 = .ok (.aload_n 0, 1) := dk_42 (dk_at dksX9_ofWitness_0 0 rfl rfl)
theorem dX9_ofWitness_1 : decode cX9_ofWitness 1 = .ok (.getfield 7, 3) := dk_180 0 7 (dk_at dksX9_ofWitness_0 1 rfl rfl)
theorem dX9_ofWitness_4 : decode cX9_ofWitness 4 = .ok (.bipush 76, 2) := dk_16 76 (dk_at dksX9_ofWitness_0 4 rfl rfl)
theorem dX9_ofWitness_6 : decode cX9_ofWitness 6 = .ok (.bipush 6, 2) := dk_16 6 (dk_at dksX9_ofWitness_0 6 rfl rfl)
theorem dX9_ofWitness_8 : decode cX9_ofWitness 8 = .ok (.iload_n 1, 1) := dk_27 (dk_at dksX9_ofWitness_0 8 rfl rfl)
theorem dX9_ofWitness_9 : decode cX9_ofWitness 9 = .ok (.imul, 1) := dk_104 (dk_at dksX9_ofWitness_0 9 rfl rfl)
theorem dX9_ofWitness_10 : decode cX9_ofWitness 10 = .ok (.iadd, 1) := dk_96 (dk_at dksX9_ofWitness_0 10 rfl rfl)
theorem dX9_ofWitness_11 : decode cX9_ofWitness 11 = .ok (.iload_n 2, 1) := dk_28 (dk_at dksX9_ofWitness_0 11 rfl rfl)
theorem dX9_ofWitness_12 : decode cX9_ofWitness 12 = .ok (.iadd, 1) := dk_96 (dk_at dksX9_ofWitness_0 12 rfl rfl)
theorem dX9_ofWitness_13 : decode cX9_ofWitness 13 = .ok (.iaload, 1) := dk_46 (dk_at dksX9_ofWitness_0 13 rfl rfl)
theorem dX9_ofWitness_14 : decode cX9_ofWitness 14 = .ok (.ireturn, 1) := dk_172 (dk_at dksX9_ofWitness_0 14 rfl rfl)
abbrev cX9_valueIn : ByteArray := prog_19_method_42_code
def yX9_valueIn : MethodName := ⟨RX9, "valueIn", "(III)I"⟩
def dkwX9_valueIn_2 : List UInt8 := [27, 16, 56, 96, 29, 96, 46, 21, 4, 42, 180, 0, 7, 27, 16, 60, 96, 29, 96, 46, 112, 96, 172]
abbrev dktX9_valueIn_2 : List UInt8 := dkwX9_valueIn_2 ++ []
def dkwX9_valueIn_1 : List UInt8 := [180, 0, 7, 27, 16, 60, 96, 21, 5, 96, 46, 108, 54, 4, 132, 5, 255, 167, 255, 230, 42, 180, 0, 7]
abbrev dktX9_valueIn_1 : List UInt8 := dkwX9_valueIn_1 ++ dktX9_valueIn_2
def dkwX9_valueIn_0 : List UInt8 := [28, 54, 4, 42, 180, 0, 7, 27, 3, 96, 46, 4, 100, 54, 5, 21, 5, 29, 164, 0, 26, 21, 4, 42]
abbrev dktX9_valueIn_0 : List UInt8 := dkwX9_valueIn_0 ++ dktX9_valueIn_1
theorem dksX9_valueIn_0 : cX9_valueIn.data.toList.drop 0 = dktX9_valueIn_0 := by decide +kernel
theorem dksX9_valueIn_1 : cX9_valueIn.data.toList.drop 24 = dktX9_valueIn_1 := dk_seg dksX9_valueIn_0 24 rfl rfl
theorem dksX9_valueIn_2 : cX9_valueIn.data.toList.drop 48 = dktX9_valueIn_2 := dk_seg dksX9_valueIn_1 24 rfl rfl
theorem dX9_valueIn_0 : decode cX9_valueIn 0 = .ok (.iload_n 2, 1) := dk_28 (dk_at dksX9_valueIn_0 0 rfl rfl)
theorem dX9_valueIn_1 : decode cX9_valueIn 1 = .ok (.istore 4, 2) := dk_54 4 (dk_at dksX9_valueIn_0 1 rfl rfl)
theorem dX9_valueIn_3 : decode cX9_valueIn 3 = .ok (.aload_n 0, 1) := dk_42 (dk_at dksX9_valueIn_0 3 rfl rfl)
theorem dX9_valueIn_4 : decode cX9_valueIn 4 = .ok (.getfield 7, 3) := dk_180 0 7 (dk_at dksX9_valueIn_0 4 rfl rfl)
theorem dX9_valueIn_7 : decode cX9_valueIn 7 = .ok (.iload_n 1, 1) := dk_27 (dk_at dksX9_valueIn_0 7 rfl rfl)
theorem dX9_valueIn_8 : decode cX9_valueIn 8 = .ok (.iconst 0, 1) := dk_3 (dk_at dksX9_valueIn_0 8 rfl rfl)
theorem dX9_valueIn_9 : decode cX9_valueIn 9 = .ok (.iadd, 1) := dk_96 (dk_at dksX9_valueIn_0 9 rfl rfl)
theorem dX9_valueIn_10 : decode cX9_valueIn 10 = .ok (.iaload, 1) := dk_46 (dk_at dksX9_valueIn_0 10 rfl rfl)
theorem dX9_valueIn_11 : decode cX9_valueIn 11 = .ok (.iconst 1, 1) := dk_4 (dk_at dksX9_valueIn_0 11 rfl rfl)
theorem dX9_valueIn_12 : decode cX9_valueIn 12 = .ok (.isub, 1) := dk_100 (dk_at dksX9_valueIn_0 12 rfl rfl)
theorem dX9_valueIn_13 : decode cX9_valueIn 13 = .ok (.istore 5, 2) := dk_54 5 (dk_at dksX9_valueIn_0 13 rfl rfl)
theorem dX9_valueIn_15 : decode cX9_valueIn 15 = .ok (.iload 5, 2) := dk_21 5 (dk_at dksX9_valueIn_0 15 rfl rfl)
theorem dX9_valueIn_17 : decode cX9_valueIn 17 = .ok (.iload_n 3, 1) := dk_29 (dk_at dksX9_valueIn_0 17 rfl rfl)
theorem dX9_valueIn_18 : decode cX9_valueIn 18 = .ok (.if_icmp .le 26, 3) := dk_164 0 26 (dk_at dksX9_valueIn_0 18 rfl rfl)
theorem dX9_valueIn_21 : decode cX9_valueIn 21 = .ok (.iload 4, 2) := dk_21 4 (dk_at dksX9_valueIn_0 21 rfl rfl)
theorem dX9_valueIn_23 : decode cX9_valueIn 23 = .ok (.aload_n 0, 1) := dk_42 (dk_at dksX9_valueIn_0 23 rfl rfl)
theorem dX9_valueIn_24 : decode cX9_valueIn 24 = .ok (.getfield 7, 3) := dk_180 0 7 (dk_at dksX9_valueIn_1 0 rfl rfl)
theorem dX9_valueIn_27 : decode cX9_valueIn 27 = .ok (.iload_n 1, 1) := dk_27 (dk_at dksX9_valueIn_1 3 rfl rfl)
theorem dX9_valueIn_28 : decode cX9_valueIn 28 = .ok (.bipush 60, 2) := dk_16 60 (dk_at dksX9_valueIn_1 4 rfl rfl)
theorem dX9_valueIn_30 : decode cX9_valueIn 30 = .ok (.iadd, 1) := dk_96 (dk_at dksX9_valueIn_1 6 rfl rfl)
theorem dX9_valueIn_31 : decode cX9_valueIn 31 = .ok (.iload 5, 2) := dk_21 5 (dk_at dksX9_valueIn_1 7 rfl rfl)
theorem dX9_valueIn_33 : decode cX9_valueIn 33 = .ok (.iadd, 1) := dk_96 (dk_at dksX9_valueIn_1 9 rfl rfl)
theorem dX9_valueIn_34 : decode cX9_valueIn 34 = .ok (.iaload, 1) := dk_46 (dk_at dksX9_valueIn_1 10 rfl rfl)
theorem dX9_valueIn_35 : decode cX9_valueIn 35 = .ok (.idiv, 1) := dk_108 (dk_at dksX9_valueIn_1 11 rfl rfl)
theorem dX9_valueIn_36 : decode cX9_valueIn 36 = .ok (.istore 4, 2) := dk_54 4 (dk_at dksX9_valueIn_1 12 rfl rfl)
theorem dX9_valueIn_38 : decode cX9_valueIn 38 = .ok (.iinc 5 (-1), 3) := dk_132 5 255 (dk_at dksX9_valueIn_1 14 rfl rfl)
theorem dX9_valueIn_41 : decode cX9_valueIn 41 = .ok (.goto (-26), 3) := dk_167 255 230 (dk_at dksX9_valueIn_1 17 rfl rfl)
theorem dX9_valueIn_44 : decode cX9_valueIn 44 = .ok (.aload_n 0, 1) := dk_42 (dk_at dksX9_valueIn_1 20 rfl rfl)
theorem dX9_valueIn_45 : decode cX9_valueIn 45 = .ok (.getfield 7, 3) := dk_180 0 7 (dk_at dksX9_valueIn_1 21 rfl rfl)
theorem dX9_valueIn_48 : decode cX9_valueIn 48 = .ok (.iload_n 1, 1) := dk_27 (dk_at dksX9_valueIn_2 0 rfl rfl)
theorem dX9_valueIn_49 : decode cX9_valueIn 49 = .ok (.bipush 56, 2) := dk_16 56 (dk_at dksX9_valueIn_2 1 rfl rfl)
theorem dX9_valueIn_51 : decode cX9_valueIn 51 = .ok (.iadd, 1) := dk_96 (dk_at dksX9_valueIn_2 3 rfl rfl)
theorem dX9_valueIn_52 : decode cX9_valueIn 52 = .ok (.iload_n 3, 1) := dk_29 (dk_at dksX9_valueIn_2 4 rfl rfl)
theorem dX9_valueIn_53 : decode cX9_valueIn 53 = .ok (.iadd, 1) := dk_96 (dk_at dksX9_valueIn_2 5 rfl rfl)
theorem dX9_valueIn_54 : decode cX9_valueIn 54 = .ok (.iaload, 1) := dk_46 (dk_at dksX9_valueIn_2 6 rfl rfl)
theorem dX9_valueIn_55 : decode cX9_valueIn 55 = .ok (.iload 4, 2) := dk_21 4 (dk_at dksX9_valueIn_2 7 rfl rfl)
theorem dX9_valueIn_57 : decode cX9_valueIn 57 = .ok (.aload_n 0, 1) := dk_42 (dk_at dksX9_valueIn_2 9 rfl rfl)
theorem dX9_valueIn_58 : decode cX9_valueIn 58 = .ok (.getfield 7, 3) := dk_180 0 7 (dk_at dksX9_valueIn_2 10 rfl rfl)
theorem dX9_valueIn_61 : decode cX9_valueIn 61 = .ok (.iload_n 1, 1) := dk_27 (dk_at dksX9_valueIn_2 13 rfl rfl)
theorem dX9_valueIn_62 : decode cX9_valueIn 62 = .ok (.bipush 60, 2) := dk_16 60 (dk_at dksX9_valueIn_2 14 rfl rfl)
theorem dX9_valueIn_64 : decode cX9_valueIn 64 = .ok (.iadd, 1) := dk_96 (dk_at dksX9_valueIn_2 16 rfl rfl)
theorem dX9_valueIn_65 : decode cX9_valueIn 65 = .ok (.iload_n 3, 1) := dk_29 (dk_at dksX9_valueIn_2 17 rfl rfl)
theorem dX9_valueIn_66 : decode cX9_valueIn 66 = .ok (.iadd, 1) := dk_96 (dk_at dksX9_valueIn_2 18 rfl rfl)
theorem dX9_valueIn_67 : decode cX9_valueIn 67 = .ok (.iaload, 1) := dk_46 (dk_at dksX9_valueIn_2 19 rfl rfl)
theorem dX9_valueIn_68 : decode cX9_valueIn 68 = .ok (.irem, 1) := dk_112 (dk_at dksX9_valueIn_2 20 rfl rfl)
theorem dX9_valueIn_69 : decode cX9_valueIn 69 = .ok (.iadd, 1) := dk_96 (dk_at dksX9_valueIn_2 21 rfl rfl)
theorem dX9_valueIn_70 : decode cX9_valueIn 70 = .ok (.ireturn, 1) := dk_172 (dk_at dksX9_valueIn_2 22 rfl rfl)
abbrev cX9_honestly : ByteArray := prog_19_method_84_code
def yX9_honestly : MethodName := ⟨RX9, "honestly", "(I)I"⟩
def dkwX9_honestly_7 : List UInt8 := [132, 4, 1, 167, 255, 195, 5, 27, 104, 172]
abbrev dktX9_honestly_7 : List UInt8 := dkwX9_honestly_7 ++ []
def dkwX9_honestly_6 : List UInt8 := [167, 0, 24, 42, 27, 182, 1, 96, 28, 153, 0, 7, 5, 167, 0, 4, 4, 126, 154, 0, 6, 21, 4, 172]
abbrev dktX9_honestly_6 : List UInt8 := dkwX9_honestly_6 ++ dktX9_honestly_7
def dkwX9_honestly_5 : List UInt8 := [162, 0, 54, 42, 21, 4, 182, 1, 90, 21, 4, 5, 27, 104, 159, 0, 34, 42, 182, 1, 93, 154, 0, 6]
abbrev dktX9_honestly_5 : List UInt8 := dkwX9_honestly_5 ++ dktX9_honestly_6
def dkwX9_honestly_4 : List UInt8 := [154, 0, 11, 29, 154, 0, 7, 5, 27, 104, 172, 3, 54, 4, 21, 4, 5, 42, 180, 0, 7, 6, 46, 104]
abbrev dktX9_honestly_4 : List UInt8 := dkwX9_honestly_4 ++ dktX9_honestly_5
def dkwX9_honestly_3 : List UInt8 := [96, 21, 4, 96, 47, 127, 9, 148, 154, 0, 7, 4, 167, 0, 4, 3, 62, 132, 4, 1, 167, 255, 171, 28]
abbrev dktX9_honestly_3 : List UInt8 := dkwX9_honestly_3 ++ dktX9_honestly_4
def dkwX9_honestly_2 : List UInt8 := [167, 0, 4, 3, 61, 29, 153, 0, 33, 42, 180, 0, 63, 21, 4, 47, 42, 180, 0, 13, 7, 7, 27, 104]
abbrev dktX9_honestly_2 : List UInt8 := dkwX9_honestly_2 ++ dktX9_honestly_3
def dkwX9_honestly_1 : List UInt8 := [42, 180, 0, 13, 7, 7, 27, 104, 96, 21, 4, 96, 47, 20, 0, 124, 131, 127, 9, 148, 154, 0, 7, 4]
abbrev dktX9_honestly_1 : List UInt8 := dkwX9_honestly_1 ++ dktX9_honestly_2
def dkwX9_honestly_0 : List UInt8 := [4, 61, 4, 62, 3, 54, 4, 21, 4, 7, 162, 0, 85, 28, 153, 0, 37, 42, 180, 0, 63, 21, 4, 47]
abbrev dktX9_honestly_0 : List UInt8 := dkwX9_honestly_0 ++ dktX9_honestly_1
theorem dksX9_honestly_0 : cX9_honestly.data.toList.drop 0 = dktX9_honestly_0 := by decide +kernel
theorem dksX9_honestly_1 : cX9_honestly.data.toList.drop 24 = dktX9_honestly_1 := dk_seg dksX9_honestly_0 24 rfl rfl
theorem dksX9_honestly_2 : cX9_honestly.data.toList.drop 48 = dktX9_honestly_2 := dk_seg dksX9_honestly_1 24 rfl rfl
theorem dksX9_honestly_3 : cX9_honestly.data.toList.drop 72 = dktX9_honestly_3 := dk_seg dksX9_honestly_2 24 rfl rfl
theorem dksX9_honestly_4 : cX9_honestly.data.toList.drop 96 = dktX9_honestly_4 := dk_seg dksX9_honestly_3 24 rfl rfl
theorem dksX9_honestly_5 : cX9_honestly.data.toList.drop 120 = dktX9_honestly_5 := dk_seg dksX9_honestly_4 24 rfl rfl
theorem dksX9_honestly_6 : cX9_honestly.data.toList.drop 144 = dktX9_honestly_6 := dk_seg dksX9_honestly_5 24 rfl rfl
theorem dksX9_honestly_7 : cX9_honestly.data.toList.drop 168 = dktX9_honestly_7 := dk_seg dksX9_honestly_6 24 rfl rfl
theorem dX9_honestly_0 : decode cX9_honestly 0 = .ok (.iconst 1, 1) := dk_4 (dk_at dksX9_honestly_0 0 rfl rfl)
theorem dX9_honestly_1 : decode cX9_honestly 1 = .ok (.istore_n 2, 1) := dk_61 (dk_at dksX9_honestly_0 1 rfl rfl)
theorem dX9_honestly_2 : decode cX9_honestly 2 = .ok (.iconst 1, 1) := dk_4 (dk_at dksX9_honestly_0 2 rfl rfl)
theorem dX9_honestly_3 : decode cX9_honestly 3 = .ok (.istore_n 3, 1) := dk_62 (dk_at dksX9_honestly_0 3 rfl rfl)
theorem dX9_honestly_4 : decode cX9_honestly 4 = .ok (.iconst 0, 1) := dk_3 (dk_at dksX9_honestly_0 4 rfl rfl)
theorem dX9_honestly_5 : decode cX9_honestly 5 = .ok (.istore 4, 2) := dk_54 4 (dk_at dksX9_honestly_0 5 rfl rfl)
theorem dX9_honestly_7 : decode cX9_honestly 7 = .ok (.iload 4, 2) := dk_21 4 (dk_at dksX9_honestly_0 7 rfl rfl)
theorem dX9_honestly_9 : decode cX9_honestly 9 = .ok (.iconst 4, 1) := dk_7 (dk_at dksX9_honestly_0 9 rfl rfl)
theorem dX9_honestly_10 : decode cX9_honestly 10 = .ok (.if_icmp .ge 85, 3) := dk_162 0 85 (dk_at dksX9_honestly_0 10 rfl rfl)
theorem dX9_honestly_13 : decode cX9_honestly 13 = .ok (.iload_n 2, 1) := dk_28 (dk_at dksX9_honestly_0 13 rfl rfl)
theorem dX9_honestly_14 : decode cX9_honestly 14 = .ok (.ifCond .eq 37, 3) := dk_153 0 37 (dk_at dksX9_honestly_0 14 rfl rfl)
theorem dX9_honestly_17 : decode cX9_honestly 17 = .ok (.aload_n 0, 1) := dk_42 (dk_at dksX9_honestly_0 17 rfl rfl)
theorem dX9_honestly_18 : decode cX9_honestly 18 = .ok (.getfield 63, 3) := dk_180 0 63 (dk_at dksX9_honestly_0 18 rfl rfl)
theorem dX9_honestly_21 : decode cX9_honestly 21 = .ok (.iload 4, 2) := dk_21 4 (dk_at dksX9_honestly_0 21 rfl rfl)
theorem dX9_honestly_23 : decode cX9_honestly 23 = .ok (.laload, 1) := dk_47 (dk_at dksX9_honestly_0 23 rfl rfl)
theorem dX9_honestly_24 : decode cX9_honestly 24 = .ok (.aload_n 0, 1) := dk_42 (dk_at dksX9_honestly_1 0 rfl rfl)
theorem dX9_honestly_25 : decode cX9_honestly 25 = .ok (.getfield 13, 3) := dk_180 0 13 (dk_at dksX9_honestly_1 1 rfl rfl)
theorem dX9_honestly_28 : decode cX9_honestly 28 = .ok (.iconst 4, 1) := dk_7 (dk_at dksX9_honestly_1 4 rfl rfl)
theorem dX9_honestly_29 : decode cX9_honestly 29 = .ok (.iconst 4, 1) := dk_7 (dk_at dksX9_honestly_1 5 rfl rfl)
theorem dX9_honestly_30 : decode cX9_honestly 30 = .ok (.iload_n 1, 1) := dk_27 (dk_at dksX9_honestly_1 6 rfl rfl)
theorem dX9_honestly_31 : decode cX9_honestly 31 = .ok (.imul, 1) := dk_104 (dk_at dksX9_honestly_1 7 rfl rfl)
theorem dX9_honestly_32 : decode cX9_honestly 32 = .ok (.iadd, 1) := dk_96 (dk_at dksX9_honestly_1 8 rfl rfl)
theorem dX9_honestly_33 : decode cX9_honestly 33 = .ok (.iload 4, 2) := dk_21 4 (dk_at dksX9_honestly_1 9 rfl rfl)
theorem dX9_honestly_35 : decode cX9_honestly 35 = .ok (.iadd, 1) := dk_96 (dk_at dksX9_honestly_1 11 rfl rfl)
theorem dX9_honestly_36 : decode cX9_honestly 36 = .ok (.laload, 1) := dk_47 (dk_at dksX9_honestly_1 12 rfl rfl)
theorem dX9_honestly_37 : decode cX9_honestly 37 = .ok (.ldc2_w 124, 3) := dk_20 0 124 (dk_at dksX9_honestly_1 13 rfl rfl)
theorem dX9_honestly_40 : decode cX9_honestly 40 = .ok (.lxor, 1) := dk_131 (dk_at dksX9_honestly_1 16 rfl rfl)
theorem dX9_honestly_41 : decode cX9_honestly 41 = .ok (.land, 1) := dk_127 (dk_at dksX9_honestly_1 17 rfl rfl)
theorem dX9_honestly_42 : decode cX9_honestly 42 = .ok (.lconst 0, 1) := dk_9 (dk_at dksX9_honestly_1 18 rfl rfl)
theorem dX9_honestly_43 : decode cX9_honestly 43 = .ok (.lcmp, 1) := dk_148 (dk_at dksX9_honestly_1 19 rfl rfl)
theorem dX9_honestly_44 : decode cX9_honestly 44 = .ok (.ifCond .ne 7, 3) := dk_154 0 7 (dk_at dksX9_honestly_1 20 rfl rfl)
theorem dX9_honestly_47 : decode cX9_honestly 47 = .ok (.iconst 1, 1) := dk_4 (dk_at dksX9_honestly_1 23 rfl rfl)
theorem dX9_honestly_48 : decode cX9_honestly 48 = .ok (.goto 4, 3) := dk_167 0 4 (dk_at dksX9_honestly_2 0 rfl rfl)
theorem dX9_honestly_51 : decode cX9_honestly 51 = .ok (.iconst 0, 1) := dk_3 (dk_at dksX9_honestly_2 3 rfl rfl)
theorem dX9_honestly_52 : decode cX9_honestly 52 = .ok (.istore_n 2, 1) := dk_61 (dk_at dksX9_honestly_2 4 rfl rfl)
theorem dX9_honestly_53 : decode cX9_honestly 53 = .ok (.iload_n 3, 1) := dk_29 (dk_at dksX9_honestly_2 5 rfl rfl)
theorem dX9_honestly_54 : decode cX9_honestly 54 = .ok (.ifCond .eq 33, 3) := dk_153 0 33 (dk_at dksX9_honestly_2 6 rfl rfl)
theorem dX9_honestly_57 : decode cX9_honestly 57 = .ok (.aload_n 0, 1) := dk_42 (dk_at dksX9_honestly_2 9 rfl rfl)
theorem dX9_honestly_58 : decode cX9_honestly 58 = .ok (.getfield 63, 3) := dk_180 0 63 (dk_at dksX9_honestly_2 10 rfl rfl)
theorem dX9_honestly_61 : decode cX9_honestly 61 = .ok (.iload 4, 2) := dk_21 4 (dk_at dksX9_honestly_2 13 rfl rfl)
theorem dX9_honestly_63 : decode cX9_honestly 63 = .ok (.laload, 1) := dk_47 (dk_at dksX9_honestly_2 15 rfl rfl)
theorem dX9_honestly_64 : decode cX9_honestly 64 = .ok (.aload_n 0, 1) := dk_42 (dk_at dksX9_honestly_2 16 rfl rfl)
theorem dX9_honestly_65 : decode cX9_honestly 65 = .ok (.getfield 13, 3) := dk_180 0 13 (dk_at dksX9_honestly_2 17 rfl rfl)
theorem dX9_honestly_68 : decode cX9_honestly 68 = .ok (.iconst 4, 1) := dk_7 (dk_at dksX9_honestly_2 20 rfl rfl)
theorem dX9_honestly_69 : decode cX9_honestly 69 = .ok (.iconst 4, 1) := dk_7 (dk_at dksX9_honestly_2 21 rfl rfl)
theorem dX9_honestly_70 : decode cX9_honestly 70 = .ok (.iload_n 1, 1) := dk_27 (dk_at dksX9_honestly_2 22 rfl rfl)
theorem dX9_honestly_71 : decode cX9_honestly 71 = .ok (.imul, 1) := dk_104 (dk_at dksX9_honestly_2 23 rfl rfl)
theorem dX9_honestly_72 : decode cX9_honestly 72 = .ok (.iadd, 1) := dk_96 (dk_at dksX9_honestly_3 0 rfl rfl)
theorem dX9_honestly_73 : decode cX9_honestly 73 = .ok (.iload 4, 2) := dk_21 4 (dk_at dksX9_honestly_3 1 rfl rfl)
theorem dX9_honestly_75 : decode cX9_honestly 75 = .ok (.iadd, 1) := dk_96 (dk_at dksX9_honestly_3 3 rfl rfl)
theorem dX9_honestly_76 : decode cX9_honestly 76 = .ok (.laload, 1) := dk_47 (dk_at dksX9_honestly_3 4 rfl rfl)
theorem dX9_honestly_77 : decode cX9_honestly 77 = .ok (.land, 1) := dk_127 (dk_at dksX9_honestly_3 5 rfl rfl)
theorem dX9_honestly_78 : decode cX9_honestly 78 = .ok (.lconst 0, 1) := dk_9 (dk_at dksX9_honestly_3 6 rfl rfl)
theorem dX9_honestly_79 : decode cX9_honestly 79 = .ok (.lcmp, 1) := dk_148 (dk_at dksX9_honestly_3 7 rfl rfl)
theorem dX9_honestly_80 : decode cX9_honestly 80 = .ok (.ifCond .ne 7, 3) := dk_154 0 7 (dk_at dksX9_honestly_3 8 rfl rfl)
theorem dX9_honestly_83 : decode cX9_honestly 83 = .ok (.iconst 1, 1) := dk_4 (dk_at dksX9_honestly_3 11 rfl rfl)
theorem dX9_honestly_84 : decode cX9_honestly 84 = .ok (.goto 4, 3) := dk_167 0 4 (dk_at dksX9_honestly_3 12 rfl rfl)
theorem dX9_honestly_87 : decode cX9_honestly 87 = .ok (.iconst 0, 1) := dk_3 (dk_at dksX9_honestly_3 15 rfl rfl)
theorem dX9_honestly_88 : decode cX9_honestly 88 = .ok (.istore_n 3, 1) := dk_62 (dk_at dksX9_honestly_3 16 rfl rfl)
theorem dX9_honestly_89 : decode cX9_honestly 89 = .ok (.iinc 4 1, 3) := dk_132 4 1 (dk_at dksX9_honestly_3 17 rfl rfl)
theorem dX9_honestly_92 : decode cX9_honestly 92 = .ok (.goto (-85), 3) := dk_167 255 171 (dk_at dksX9_honestly_3 20 rfl rfl)
theorem dX9_honestly_95 : decode cX9_honestly 95 = .ok (.iload_n 2, 1) := dk_28 (dk_at dksX9_honestly_3 23 rfl rfl)
theorem dX9_honestly_96 : decode cX9_honestly 96 = .ok (.ifCond .ne 11, 3) := dk_154 0 11 (dk_at dksX9_honestly_4 0 rfl rfl)
theorem dX9_honestly_99 : decode cX9_honestly 99 = .ok (.iload_n 3, 1) := dk_29 (dk_at dksX9_honestly_4 3 rfl rfl)
theorem dX9_honestly_100 : decode cX9_honestly 100 = .ok (.ifCond .ne 7, 3) := dk_154 0 7 (dk_at dksX9_honestly_4 4 rfl rfl)
theorem dX9_honestly_103 : decode cX9_honestly 103 = .ok (.iconst 2, 1) := dk_5 (dk_at dksX9_honestly_4 7 rfl rfl)
theorem dX9_honestly_104 : decode cX9_honestly 104 = .ok (.iload_n 1, 1) := dk_27 (dk_at dksX9_honestly_4 8 rfl rfl)
theorem dX9_honestly_105 : decode cX9_honestly 105 = .ok (.imul, 1) := dk_104 (dk_at dksX9_honestly_4 9 rfl rfl)
theorem dX9_honestly_106 : decode cX9_honestly 106 = .ok (.ireturn, 1) := dk_172 (dk_at dksX9_honestly_4 10 rfl rfl)
theorem dX9_honestly_107 : decode cX9_honestly 107 = .ok (.iconst 0, 1) := dk_3 (dk_at dksX9_honestly_4 11 rfl rfl)
theorem dX9_honestly_108 : decode cX9_honestly 108 = .ok (.istore 4, 2) := dk_54 4 (dk_at dksX9_honestly_4 12 rfl rfl)
theorem dX9_honestly_110 : decode cX9_honestly 110 = .ok (.iload 4, 2) := dk_21 4 (dk_at dksX9_honestly_4 14 rfl rfl)
theorem dX9_honestly_112 : decode cX9_honestly 112 = .ok (.iconst 2, 1) := dk_5 (dk_at dksX9_honestly_4 16 rfl rfl)
theorem dX9_honestly_113 : decode cX9_honestly 113 = .ok (.aload_n 0, 1) := dk_42 (dk_at dksX9_honestly_4 17 rfl rfl)
theorem dX9_honestly_114 : decode cX9_honestly 114 = .ok (.getfield 7, 3) := dk_180 0 7 (dk_at dksX9_honestly_4 18 rfl rfl)
theorem dX9_honestly_117 : decode cX9_honestly 117 = .ok (.iconst 3, 1) := dk_6 (dk_at dksX9_honestly_4 21 rfl rfl)
theorem dX9_honestly_118 : decode cX9_honestly 118 = .ok (.iaload, 1) := dk_46 (dk_at dksX9_honestly_4 22 rfl rfl)
theorem dX9_honestly_119 : decode cX9_honestly 119 = .ok (.imul, 1) := dk_104 (dk_at dksX9_honestly_4 23 rfl rfl)
theorem dX9_honestly_120 : decode cX9_honestly 120 = .ok (.if_icmp .ge 54, 3) := dk_162 0 54 (dk_at dksX9_honestly_5 0 rfl rfl)
theorem dX9_honestly_123 : decode cX9_honestly 123 = .ok (.aload_n 0, 1) := dk_42 (dk_at dksX9_honestly_5 3 rfl rfl)
theorem dX9_honestly_124 : decode cX9_honestly 124 = .ok (.iload 4, 2) := dk_21 4 (dk_at dksX9_honestly_5 4 rfl rfl)
theorem dX9_honestly_126 : decode cX9_honestly 126 = .ok (.invokevirtual 346, 3) := dk_182 1 90 (dk_at dksX9_honestly_5 6 rfl rfl)
theorem dX9_honestly_129 : decode cX9_honestly 129 = .ok (.iload 4, 2) := dk_21 4 (dk_at dksX9_honestly_5 9 rfl rfl)
theorem dX9_honestly_131 : decode cX9_honestly 131 = .ok (.iconst 2, 1) := dk_5 (dk_at dksX9_honestly_5 11 rfl rfl)
theorem dX9_honestly_132 : decode cX9_honestly 132 = .ok (.iload_n 1, 1) := dk_27 (dk_at dksX9_honestly_5 12 rfl rfl)
theorem dX9_honestly_133 : decode cX9_honestly 133 = .ok (.imul, 1) := dk_104 (dk_at dksX9_honestly_5 13 rfl rfl)
theorem dX9_honestly_134 : decode cX9_honestly 134 = .ok (.if_icmp .eq 34, 3) := dk_159 0 34 (dk_at dksX9_honestly_5 14 rfl rfl)
theorem dX9_honestly_137 : decode cX9_honestly 137 = .ok (.aload_n 0, 1) := dk_42 (dk_at dksX9_honestly_5 17 rfl rfl)
theorem dX9_honestly_138 : decode cX9_honestly 138 = .ok (.invokevirtual 349, 3) := dk_182 1 93 (dk_at dksX9_honestly_5 18 rfl rfl)
theorem dX9_honestly_141 : decode cX9_honestly 141 = .ok (.ifCond .ne 6, 3) := dk_154 0 6 (dk_at dksX9_honestly_5 21 rfl rfl)
theorem dX9_honestly_144 : decode cX9_honestly 144 = .ok (.goto 24, 3) := dk_167 0 24 (dk_at dksX9_honestly_6 0 rfl rfl)
theorem dX9_honestly_147 : decode cX9_honestly 147 = .ok (.aload_n 0, 1) := dk_42 (dk_at dksX9_honestly_6 3 rfl rfl)
theorem dX9_honestly_148 : decode cX9_honestly 148 = .ok (.iload_n 1, 1) := dk_27 (dk_at dksX9_honestly_6 4 rfl rfl)
theorem dX9_honestly_149 : decode cX9_honestly 149 = .ok (.invokevirtual 352, 3) := dk_182 1 96 (dk_at dksX9_honestly_6 5 rfl rfl)
theorem dX9_honestly_152 : decode cX9_honestly 152 = .ok (.iload_n 2, 1) := dk_28 (dk_at dksX9_honestly_6 8 rfl rfl)
theorem dX9_honestly_153 : decode cX9_honestly 153 = .ok (.ifCond .eq 7, 3) := dk_153 0 7 (dk_at dksX9_honestly_6 9 rfl rfl)
theorem dX9_honestly_156 : decode cX9_honestly 156 = .ok (.iconst 2, 1) := dk_5 (dk_at dksX9_honestly_6 12 rfl rfl)
theorem dX9_honestly_157 : decode cX9_honestly 157 = .ok (.goto 4, 3) := dk_167 0 4 (dk_at dksX9_honestly_6 13 rfl rfl)
theorem dX9_honestly_160 : decode cX9_honestly 160 = .ok (.iconst 1, 1) := dk_4 (dk_at dksX9_honestly_6 16 rfl rfl)
theorem dX9_honestly_161 : decode cX9_honestly 161 = .ok (.iand, 1) := dk_126 (dk_at dksX9_honestly_6 17 rfl rfl)
theorem dX9_honestly_162 : decode cX9_honestly 162 = .ok (.ifCond .ne 6, 3) := dk_154 0 6 (dk_at dksX9_honestly_6 18 rfl rfl)
theorem dX9_honestly_165 : decode cX9_honestly 165 = .ok (.iload 4, 2) := dk_21 4 (dk_at dksX9_honestly_6 21 rfl rfl)
theorem dX9_honestly_167 : decode cX9_honestly 167 = .ok (.ireturn, 1) := dk_172 (dk_at dksX9_honestly_6 23 rfl rfl)
theorem dX9_honestly_168 : decode cX9_honestly 168 = .ok (.iinc 4 1, 3) := dk_132 4 1 (dk_at dksX9_honestly_7 0 rfl rfl)
theorem dX9_honestly_171 : decode cX9_honestly 171 = .ok (.goto (-61), 3) := dk_167 255 195 (dk_at dksX9_honestly_7 3 rfl rfl)
theorem dX9_honestly_174 : decode cX9_honestly 174 = .ok (.iconst 2, 1) := dk_5 (dk_at dksX9_honestly_7 6 rfl rfl)
theorem dX9_honestly_175 : decode cX9_honestly 175 = .ok (.iload_n 1, 1) := dk_27 (dk_at dksX9_honestly_7 7 rfl rfl)
theorem dX9_honestly_176 : decode cX9_honestly 176 = .ok (.imul, 1) := dk_104 (dk_at dksX9_honestly_7 8 rfl rfl)
theorem dX9_honestly_177 : decode cX9_honestly 177 = .ok (.ireturn, 1) := dk_172 (dk_at dksX9_honestly_7 9 rfl rfl)
abbrev cX9_meansBy : ByteArray := prog_19_method_81_code
def yX9_meansBy : MethodName := ⟨RX9, "meansBy", "(I)V"⟩
def dkwX9_meansBy_2 : List UInt8 := [20, 0, 124, 131, 127, 80, 132, 2, 1, 167, 255, 203, 177]
abbrev dktX9_meansBy_2 : List UInt8 := dkwX9_meansBy_2 ++ []
def dkwX9_meansBy_1 : List UInt8 := [180, 0, 66, 28, 27, 5, 112, 154, 0, 7, 33, 167, 0, 17, 42, 180, 0, 13, 3, 28, 96, 47, 33]
abbrev dktX9_meansBy_1 : List UInt8 := dkwX9_meansBy_1 ++ dktX9_meansBy_2
def dkwX9_meansBy_0 : List UInt8 := [3, 61, 28, 7, 162, 0, 54, 42, 180, 0, 13, 7, 7, 27, 5, 108, 104, 96, 28, 96, 47, 66, 42]
abbrev dktX9_meansBy_0 : List UInt8 := dkwX9_meansBy_0 ++ dktX9_meansBy_1
theorem dksX9_meansBy_0 : cX9_meansBy.data.toList.drop 0 = dktX9_meansBy_0 := by decide +kernel
theorem dksX9_meansBy_1 : cX9_meansBy.data.toList.drop 23 = dktX9_meansBy_1 := dk_seg dksX9_meansBy_0 23 rfl rfl
theorem dksX9_meansBy_2 : cX9_meansBy.data.toList.drop 46 = dktX9_meansBy_2 := dk_seg dksX9_meansBy_1 23 rfl rfl
theorem dX9_meansBy_0 : decode cX9_meansBy 0 = .ok (.iconst 0, 1) := dk_3 (dk_at dksX9_meansBy_0 0 rfl rfl)
theorem dX9_meansBy_1 : decode cX9_meansBy 1 = .ok (.istore_n 2, 1) := dk_61 (dk_at dksX9_meansBy_0 1 rfl rfl)
theorem dX9_meansBy_2 : decode cX9_meansBy 2 = .ok (.iload_n 2, 1) := dk_28 (dk_at dksX9_meansBy_0 2 rfl rfl)
theorem dX9_meansBy_3 : decode cX9_meansBy 3 = .ok (.iconst 4, 1) := dk_7 (dk_at dksX9_meansBy_0 3 rfl rfl)
theorem dX9_meansBy_4 : decode cX9_meansBy 4 = .ok (.if_icmp .ge 54, 3) := dk_162 0 54 (dk_at dksX9_meansBy_0 4 rfl rfl)
theorem dX9_meansBy_7 : decode cX9_meansBy 7 = .ok (.aload_n 0, 1) := dk_42 (dk_at dksX9_meansBy_0 7 rfl rfl)
theorem dX9_meansBy_8 : decode cX9_meansBy 8 = .ok (.getfield 13, 3) := dk_180 0 13 (dk_at dksX9_meansBy_0 8 rfl rfl)
theorem dX9_meansBy_11 : decode cX9_meansBy 11 = .ok (.iconst 4, 1) := dk_7 (dk_at dksX9_meansBy_0 11 rfl rfl)
theorem dX9_meansBy_12 : decode cX9_meansBy 12 = .ok (.iconst 4, 1) := dk_7 (dk_at dksX9_meansBy_0 12 rfl rfl)
theorem dX9_meansBy_13 : decode cX9_meansBy 13 = .ok (.iload_n 1, 1) := dk_27 (dk_at dksX9_meansBy_0 13 rfl rfl)
theorem dX9_meansBy_14 : decode cX9_meansBy 14 = .ok (.iconst 2, 1) := dk_5 (dk_at dksX9_meansBy_0 14 rfl rfl)
theorem dX9_meansBy_15 : decode cX9_meansBy 15 = .ok (.idiv, 1) := dk_108 (dk_at dksX9_meansBy_0 15 rfl rfl)
theorem dX9_meansBy_16 : decode cX9_meansBy 16 = .ok (.imul, 1) := dk_104 (dk_at dksX9_meansBy_0 16 rfl rfl)
theorem dX9_meansBy_17 : decode cX9_meansBy 17 = .ok (.iadd, 1) := dk_96 (dk_at dksX9_meansBy_0 17 rfl rfl)
theorem dX9_meansBy_18 : decode cX9_meansBy 18 = .ok (.iload_n 2, 1) := dk_28 (dk_at dksX9_meansBy_0 18 rfl rfl)
theorem dX9_meansBy_19 : decode cX9_meansBy 19 = .ok (.iadd, 1) := dk_96 (dk_at dksX9_meansBy_0 19 rfl rfl)
theorem dX9_meansBy_20 : decode cX9_meansBy 20 = .ok (.laload, 1) := dk_47 (dk_at dksX9_meansBy_0 20 rfl rfl)
theorem dX9_meansBy_21 : decode cX9_meansBy 21 = .ok (.lstore_n 3, 1) := dk_66 (dk_at dksX9_meansBy_0 21 rfl rfl)
theorem dX9_meansBy_22 : decode cX9_meansBy 22 = .ok (.aload_n 0, 1) := dk_42 (dk_at dksX9_meansBy_0 22 rfl rfl)
theorem dX9_meansBy_23 : decode cX9_meansBy 23 = .ok (.getfield 66, 3) := dk_180 0 66 (dk_at dksX9_meansBy_1 0 rfl rfl)
theorem dX9_meansBy_26 : decode cX9_meansBy 26 = .ok (.iload_n 2, 1) := dk_28 (dk_at dksX9_meansBy_1 3 rfl rfl)
theorem dX9_meansBy_27 : decode cX9_meansBy 27 = .ok (.iload_n 1, 1) := dk_27 (dk_at dksX9_meansBy_1 4 rfl rfl)
theorem dX9_meansBy_28 : decode cX9_meansBy 28 = .ok (.iconst 2, 1) := dk_5 (dk_at dksX9_meansBy_1 5 rfl rfl)
theorem dX9_meansBy_29 : decode cX9_meansBy 29 = .ok (.irem, 1) := dk_112 (dk_at dksX9_meansBy_1 6 rfl rfl)
theorem dX9_meansBy_30 : decode cX9_meansBy 30 = .ok (.ifCond .ne 7, 3) := dk_154 0 7 (dk_at dksX9_meansBy_1 7 rfl rfl)
theorem dX9_meansBy_33 : decode cX9_meansBy 33 = .ok (.lload_n 3, 1) := dk_33 (dk_at dksX9_meansBy_1 10 rfl rfl)
theorem dX9_meansBy_34 : decode cX9_meansBy 34 = .ok (.goto 17, 3) := dk_167 0 17 (dk_at dksX9_meansBy_1 11 rfl rfl)
theorem dX9_meansBy_37 : decode cX9_meansBy 37 = .ok (.aload_n 0, 1) := dk_42 (dk_at dksX9_meansBy_1 14 rfl rfl)
theorem dX9_meansBy_38 : decode cX9_meansBy 38 = .ok (.getfield 13, 3) := dk_180 0 13 (dk_at dksX9_meansBy_1 15 rfl rfl)
theorem dX9_meansBy_41 : decode cX9_meansBy 41 = .ok (.iconst 0, 1) := dk_3 (dk_at dksX9_meansBy_1 18 rfl rfl)
theorem dX9_meansBy_42 : decode cX9_meansBy 42 = .ok (.iload_n 2, 1) := dk_28 (dk_at dksX9_meansBy_1 19 rfl rfl)
theorem dX9_meansBy_43 : decode cX9_meansBy 43 = .ok (.iadd, 1) := dk_96 (dk_at dksX9_meansBy_1 20 rfl rfl)
theorem dX9_meansBy_44 : decode cX9_meansBy 44 = .ok (.laload, 1) := dk_47 (dk_at dksX9_meansBy_1 21 rfl rfl)
theorem dX9_meansBy_45 : decode cX9_meansBy 45 = .ok (.lload_n 3, 1) := dk_33 (dk_at dksX9_meansBy_1 22 rfl rfl)
theorem dX9_meansBy_46 : decode cX9_meansBy 46 = .ok (.ldc2_w 124, 3) := dk_20 0 124 (dk_at dksX9_meansBy_2 0 rfl rfl)
theorem dX9_meansBy_49 : decode cX9_meansBy 49 = .ok (.lxor, 1) := dk_131 (dk_at dksX9_meansBy_2 3 rfl rfl)
theorem dX9_meansBy_50 : decode cX9_meansBy 50 = .ok (.land, 1) := dk_127 (dk_at dksX9_meansBy_2 4 rfl rfl)
theorem dX9_meansBy_51 : decode cX9_meansBy 51 = .ok (.lastore, 1) := dk_80 (dk_at dksX9_meansBy_2 5 rfl rfl)
theorem dX9_meansBy_52 : decode cX9_meansBy 52 = .ok (.iinc 2 1, 3) := dk_132 2 1 (dk_at dksX9_meansBy_2 6 rfl rfl)
theorem dX9_meansBy_55 : decode cX9_meansBy 55 = .ok (.goto (-53), 3) := dk_167 255 203 (dk_at dksX9_meansBy_2 9 rfl rfl)
theorem dX9_meansBy_58 : decode cX9_meansBy 58 = .ok (.return_, 1) := dk_177 (dk_at dksX9_meansBy_2 12 rfl rfl)
abbrev cX9_isMeant : ByteArray := prog_19_method_82_code
def yX9_isMeant : MethodName := ⟨RX9, "isMeant", "()Z"⟩
def dkwX9_isMeant_2 : List UInt8 := [172]
abbrev dktX9_isMeant_2 : List UInt8 := dkwX9_isMeant_2 ++ []
def dkwX9_isMeant_1 : List UInt8 := [47, 20, 0, 124, 131, 127, 9, 148, 154, 0, 7, 4, 167, 0, 4, 3, 60, 132, 2, 1, 167, 255, 216, 27]
abbrev dktX9_isMeant_1 : List UInt8 := dkwX9_isMeant_1 ++ dktX9_isMeant_2
def dkwX9_isMeant_0 : List UInt8 := [4, 60, 3, 61, 28, 7, 162, 0, 41, 27, 153, 0, 29, 42, 180, 0, 63, 28, 47, 42, 180, 0, 66, 28]
abbrev dktX9_isMeant_0 : List UInt8 := dkwX9_isMeant_0 ++ dktX9_isMeant_1
theorem dksX9_isMeant_0 : cX9_isMeant.data.toList.drop 0 = dktX9_isMeant_0 := by decide +kernel
theorem dksX9_isMeant_1 : cX9_isMeant.data.toList.drop 24 = dktX9_isMeant_1 := dk_seg dksX9_isMeant_0 24 rfl rfl
theorem dksX9_isMeant_2 : cX9_isMeant.data.toList.drop 48 = dktX9_isMeant_2 := dk_seg dksX9_isMeant_1 24 rfl rfl
theorem dX9_isMeant_0 : decode cX9_isMeant 0 = .ok (.iconst 1, 1) := dk_4 (dk_at dksX9_isMeant_0 0 rfl rfl)
theorem dX9_isMeant_1 : decode cX9_isMeant 1 = .ok (.istore_n 1, 1) := dk_60 (dk_at dksX9_isMeant_0 1 rfl rfl)
theorem dX9_isMeant_2 : decode cX9_isMeant 2 = .ok (.iconst 0, 1) := dk_3 (dk_at dksX9_isMeant_0 2 rfl rfl)
theorem dX9_isMeant_3 : decode cX9_isMeant 3 = .ok (.istore_n 2, 1) := dk_61 (dk_at dksX9_isMeant_0 3 rfl rfl)
theorem dX9_isMeant_4 : decode cX9_isMeant 4 = .ok (.iload_n 2, 1) := dk_28 (dk_at dksX9_isMeant_0 4 rfl rfl)
theorem dX9_isMeant_5 : decode cX9_isMeant 5 = .ok (.iconst 4, 1) := dk_7 (dk_at dksX9_isMeant_0 5 rfl rfl)
theorem dX9_isMeant_6 : decode cX9_isMeant 6 = .ok (.if_icmp .ge 41, 3) := dk_162 0 41 (dk_at dksX9_isMeant_0 6 rfl rfl)
theorem dX9_isMeant_9 : decode cX9_isMeant 9 = .ok (.iload_n 1, 1) := dk_27 (dk_at dksX9_isMeant_0 9 rfl rfl)
theorem dX9_isMeant_10 : decode cX9_isMeant 10 = .ok (.ifCond .eq 29, 3) := dk_153 0 29 (dk_at dksX9_isMeant_0 10 rfl rfl)
theorem dX9_isMeant_13 : decode cX9_isMeant 13 = .ok (.aload_n 0, 1) := dk_42 (dk_at dksX9_isMeant_0 13 rfl rfl)
theorem dX9_isMeant_14 : decode cX9_isMeant 14 = .ok (.getfield 63, 3) := dk_180 0 63 (dk_at dksX9_isMeant_0 14 rfl rfl)
theorem dX9_isMeant_17 : decode cX9_isMeant 17 = .ok (.iload_n 2, 1) := dk_28 (dk_at dksX9_isMeant_0 17 rfl rfl)
theorem dX9_isMeant_18 : decode cX9_isMeant 18 = .ok (.laload, 1) := dk_47 (dk_at dksX9_isMeant_0 18 rfl rfl)
theorem dX9_isMeant_19 : decode cX9_isMeant 19 = .ok (.aload_n 0, 1) := dk_42 (dk_at dksX9_isMeant_0 19 rfl rfl)
theorem dX9_isMeant_20 : decode cX9_isMeant 20 = .ok (.getfield 66, 3) := dk_180 0 66 (dk_at dksX9_isMeant_0 20 rfl rfl)
theorem dX9_isMeant_23 : decode cX9_isMeant 23 = .ok (.iload_n 2, 1) := dk_28 (dk_at dksX9_isMeant_0 23 rfl rfl)
theorem dX9_isMeant_24 : decode cX9_isMeant 24 = .ok (.laload, 1) := dk_47 (dk_at dksX9_isMeant_1 0 rfl rfl)
theorem dX9_isMeant_25 : decode cX9_isMeant 25 = .ok (.ldc2_w 124, 3) := dk_20 0 124 (dk_at dksX9_isMeant_1 1 rfl rfl)
theorem dX9_isMeant_28 : decode cX9_isMeant 28 = .ok (.lxor, 1) := dk_131 (dk_at dksX9_isMeant_1 4 rfl rfl)
theorem dX9_isMeant_29 : decode cX9_isMeant 29 = .ok (.land, 1) := dk_127 (dk_at dksX9_isMeant_1 5 rfl rfl)
theorem dX9_isMeant_30 : decode cX9_isMeant 30 = .ok (.lconst 0, 1) := dk_9 (dk_at dksX9_isMeant_1 6 rfl rfl)
theorem dX9_isMeant_31 : decode cX9_isMeant 31 = .ok (.lcmp, 1) := dk_148 (dk_at dksX9_isMeant_1 7 rfl rfl)
theorem dX9_isMeant_32 : decode cX9_isMeant 32 = .ok (.ifCond .ne 7, 3) := dk_154 0 7 (dk_at dksX9_isMeant_1 8 rfl rfl)
theorem dX9_isMeant_35 : decode cX9_isMeant 35 = .ok (.iconst 1, 1) := dk_4 (dk_at dksX9_isMeant_1 11 rfl rfl)
theorem dX9_isMeant_36 : decode cX9_isMeant 36 = .ok (.goto 4, 3) := dk_167 0 4 (dk_at dksX9_isMeant_1 12 rfl rfl)
theorem dX9_isMeant_39 : decode cX9_isMeant 39 = .ok (.iconst 0, 1) := dk_3 (dk_at dksX9_isMeant_1 15 rfl rfl)
theorem dX9_isMeant_40 : decode cX9_isMeant 40 = .ok (.istore_n 1, 1) := dk_60 (dk_at dksX9_isMeant_1 16 rfl rfl)
theorem dX9_isMeant_41 : decode cX9_isMeant 41 = .ok (.iinc 2 1, 3) := dk_132 2 1 (dk_at dksX9_isMeant_1 17 rfl rfl)
theorem dX9_isMeant_44 : decode cX9_isMeant 44 = .ok (.goto (-40), 3) := dk_167 255 216 (dk_at dksX9_isMeant_1 20 rfl rfl)
theorem dX9_isMeant_47 : decode cX9_isMeant 47 = .ok (.iload_n 1, 1) := dk_27 (dk_at dksX9_isMeant_1 23 rfl rfl)
theorem dX9_isMeant_48 : decode cX9_isMeant 48 = .ok (.ireturn, 1) := dk_172 (dk_at dksX9_isMeant_2 0 rfl rfl)
abbrev cX9_liesTo : ByteArray := prog_19_method_83_code
def yX9_liesTo : MethodName := ⟨RX9, "liesTo", "(I)I"⟩
def dkwX9_liesTo_4 : List UInt8 := [167, 255, 166, 28, 172]
abbrev dktX9_liesTo_4 : List UInt8 := dkwX9_liesTo_4 ++ []
def dkwX9_liesTo_3 : List UInt8 := [42, 180, 0, 66, 29, 47, 20, 0, 124, 131, 127, 9, 148, 153, 0, 7, 28, 7, 128, 61, 132, 3, 1]
abbrev dktX9_liesTo_3 : List UInt8 := dkwX9_liesTo_3 ++ dktX9_liesTo_4
def dkwX9_liesTo_2 : List UInt8 := [22, 4, 20, 0, 124, 131, 127, 9, 148, 153, 0, 7, 28, 5, 128, 61, 42, 180, 0, 13, 3, 29, 96, 47]
abbrev dktX9_liesTo_2 : List UInt8 := dkwX9_liesTo_2 ++ dktX9_liesTo_3
def dkwX9_liesTo_1 : List UInt8 := [180, 0, 66, 29, 47, 22, 4, 127, 9, 148, 153, 0, 7, 28, 4, 128, 61, 42, 180, 0, 66, 29, 47]
abbrev dktX9_liesTo_1 : List UInt8 := dkwX9_liesTo_1 ++ dktX9_liesTo_2
def dkwX9_liesTo_0 : List UInt8 := [3, 61, 3, 62, 29, 7, 162, 0, 91, 42, 180, 0, 13, 7, 7, 27, 104, 96, 29, 96, 47, 55, 4, 42]
abbrev dktX9_liesTo_0 : List UInt8 := dkwX9_liesTo_0 ++ dktX9_liesTo_1
theorem dksX9_liesTo_0 : cX9_liesTo.data.toList.drop 0 = dktX9_liesTo_0 := by decide +kernel
theorem dksX9_liesTo_1 : cX9_liesTo.data.toList.drop 24 = dktX9_liesTo_1 := dk_seg dksX9_liesTo_0 24 rfl rfl
theorem dksX9_liesTo_2 : cX9_liesTo.data.toList.drop 47 = dktX9_liesTo_2 := dk_seg dksX9_liesTo_1 23 rfl rfl
theorem dksX9_liesTo_3 : cX9_liesTo.data.toList.drop 71 = dktX9_liesTo_3 := dk_seg dksX9_liesTo_2 24 rfl rfl
theorem dksX9_liesTo_4 : cX9_liesTo.data.toList.drop 94 = dktX9_liesTo_4 := dk_seg dksX9_liesTo_3 23 rfl rfl
theorem dX9_liesTo_0 : decode cX9_liesTo 0 = .ok (.iconst 0, 1) := dk_3 (dk_at dksX9_liesTo_0 0 rfl rfl)
theorem dX9_liesTo_1 : decode cX9_liesTo 1 = .ok (.istore_n 2, 1) := dk_61 (dk_at dksX9_liesTo_0 1 rfl rfl)
theorem dX9_liesTo_2 : decode cX9_liesTo 2 = .ok (.iconst 0, 1) := dk_3 (dk_at dksX9_liesTo_0 2 rfl rfl)
theorem dX9_liesTo_3 : decode cX9_liesTo 3 = .ok (.istore_n 3, 1) := dk_62 (dk_at dksX9_liesTo_0 3 rfl rfl)
theorem dX9_liesTo_4 : decode cX9_liesTo 4 = .ok (.iload_n 3, 1) := dk_29 (dk_at dksX9_liesTo_0 4 rfl rfl)
theorem dX9_liesTo_5 : decode cX9_liesTo 5 = .ok (.iconst 4, 1) := dk_7 (dk_at dksX9_liesTo_0 5 rfl rfl)
theorem dX9_liesTo_6 : decode cX9_liesTo 6 = .ok (.if_icmp .ge 91, 3) := dk_162 0 91 (dk_at dksX9_liesTo_0 6 rfl rfl)
theorem dX9_liesTo_9 : decode cX9_liesTo 9 = .ok (.aload_n 0, 1) := dk_42 (dk_at dksX9_liesTo_0 9 rfl rfl)
theorem dX9_liesTo_10 : decode cX9_liesTo 10 = .ok (.getfield 13, 3) := dk_180 0 13 (dk_at dksX9_liesTo_0 10 rfl rfl)
theorem dX9_liesTo_13 : decode cX9_liesTo 13 = .ok (.iconst 4, 1) := dk_7 (dk_at dksX9_liesTo_0 13 rfl rfl)
theorem dX9_liesTo_14 : decode cX9_liesTo 14 = .ok (.iconst 4, 1) := dk_7 (dk_at dksX9_liesTo_0 14 rfl rfl)
theorem dX9_liesTo_15 : decode cX9_liesTo 15 = .ok (.iload_n 1, 1) := dk_27 (dk_at dksX9_liesTo_0 15 rfl rfl)
theorem dX9_liesTo_16 : decode cX9_liesTo 16 = .ok (.imul, 1) := dk_104 (dk_at dksX9_liesTo_0 16 rfl rfl)
theorem dX9_liesTo_17 : decode cX9_liesTo 17 = .ok (.iadd, 1) := dk_96 (dk_at dksX9_liesTo_0 17 rfl rfl)
theorem dX9_liesTo_18 : decode cX9_liesTo 18 = .ok (.iload_n 3, 1) := dk_29 (dk_at dksX9_liesTo_0 18 rfl rfl)
theorem dX9_liesTo_19 : decode cX9_liesTo 19 = .ok (.iadd, 1) := dk_96 (dk_at dksX9_liesTo_0 19 rfl rfl)
theorem dX9_liesTo_20 : decode cX9_liesTo 20 = .ok (.laload, 1) := dk_47 (dk_at dksX9_liesTo_0 20 rfl rfl)
theorem dX9_liesTo_21 : decode cX9_liesTo 21 = .ok (.lstore 4, 2) := dk_55 4 (dk_at dksX9_liesTo_0 21 rfl rfl)
theorem dX9_liesTo_23 : decode cX9_liesTo 23 = .ok (.aload_n 0, 1) := dk_42 (dk_at dksX9_liesTo_0 23 rfl rfl)
theorem dX9_liesTo_24 : decode cX9_liesTo 24 = .ok (.getfield 66, 3) := dk_180 0 66 (dk_at dksX9_liesTo_1 0 rfl rfl)
theorem dX9_liesTo_27 : decode cX9_liesTo 27 = .ok (.iload_n 3, 1) := dk_29 (dk_at dksX9_liesTo_1 3 rfl rfl)
theorem dX9_liesTo_28 : decode cX9_liesTo 28 = .ok (.laload, 1) := dk_47 (dk_at dksX9_liesTo_1 4 rfl rfl)
theorem dX9_liesTo_29 : decode cX9_liesTo 29 = .ok (.lload 4, 2) := dk_22 4 (dk_at dksX9_liesTo_1 5 rfl rfl)
theorem dX9_liesTo_31 : decode cX9_liesTo 31 = .ok (.land, 1) := dk_127 (dk_at dksX9_liesTo_1 7 rfl rfl)
theorem dX9_liesTo_32 : decode cX9_liesTo 32 = .ok (.lconst 0, 1) := dk_9 (dk_at dksX9_liesTo_1 8 rfl rfl)
theorem dX9_liesTo_33 : decode cX9_liesTo 33 = .ok (.lcmp, 1) := dk_148 (dk_at dksX9_liesTo_1 9 rfl rfl)
theorem dX9_liesTo_34 : decode cX9_liesTo 34 = .ok (.ifCond .eq 7, 3) := dk_153 0 7 (dk_at dksX9_liesTo_1 10 rfl rfl)
theorem dX9_liesTo_37 : decode cX9_liesTo 37 = .ok (.iload_n 2, 1) := dk_28 (dk_at dksX9_liesTo_1 13 rfl rfl)
theorem dX9_liesTo_38 : decode cX9_liesTo 38 = .ok (.iconst 1, 1) := dk_4 (dk_at dksX9_liesTo_1 14 rfl rfl)
theorem dX9_liesTo_39 : decode cX9_liesTo 39 = .ok (.ior, 1) := dk_128 (dk_at dksX9_liesTo_1 15 rfl rfl)
theorem dX9_liesTo_40 : decode cX9_liesTo 40 = .ok (.istore_n 2, 1) := dk_61 (dk_at dksX9_liesTo_1 16 rfl rfl)
theorem dX9_liesTo_41 : decode cX9_liesTo 41 = .ok (.aload_n 0, 1) := dk_42 (dk_at dksX9_liesTo_1 17 rfl rfl)
theorem dX9_liesTo_42 : decode cX9_liesTo 42 = .ok (.getfield 66, 3) := dk_180 0 66 (dk_at dksX9_liesTo_1 18 rfl rfl)
theorem dX9_liesTo_45 : decode cX9_liesTo 45 = .ok (.iload_n 3, 1) := dk_29 (dk_at dksX9_liesTo_1 21 rfl rfl)
theorem dX9_liesTo_46 : decode cX9_liesTo 46 = .ok (.laload, 1) := dk_47 (dk_at dksX9_liesTo_1 22 rfl rfl)
theorem dX9_liesTo_47 : decode cX9_liesTo 47 = .ok (.lload 4, 2) := dk_22 4 (dk_at dksX9_liesTo_2 0 rfl rfl)
theorem dX9_liesTo_49 : decode cX9_liesTo 49 = .ok (.ldc2_w 124, 3) := dk_20 0 124 (dk_at dksX9_liesTo_2 2 rfl rfl)
theorem dX9_liesTo_52 : decode cX9_liesTo 52 = .ok (.lxor, 1) := dk_131 (dk_at dksX9_liesTo_2 5 rfl rfl)
theorem dX9_liesTo_53 : decode cX9_liesTo 53 = .ok (.land, 1) := dk_127 (dk_at dksX9_liesTo_2 6 rfl rfl)
theorem dX9_liesTo_54 : decode cX9_liesTo 54 = .ok (.lconst 0, 1) := dk_9 (dk_at dksX9_liesTo_2 7 rfl rfl)
theorem dX9_liesTo_55 : decode cX9_liesTo 55 = .ok (.lcmp, 1) := dk_148 (dk_at dksX9_liesTo_2 8 rfl rfl)
theorem dX9_liesTo_56 : decode cX9_liesTo 56 = .ok (.ifCond .eq 7, 3) := dk_153 0 7 (dk_at dksX9_liesTo_2 9 rfl rfl)
theorem dX9_liesTo_59 : decode cX9_liesTo 59 = .ok (.iload_n 2, 1) := dk_28 (dk_at dksX9_liesTo_2 12 rfl rfl)
theorem dX9_liesTo_60 : decode cX9_liesTo 60 = .ok (.iconst 2, 1) := dk_5 (dk_at dksX9_liesTo_2 13 rfl rfl)
theorem dX9_liesTo_61 : decode cX9_liesTo 61 = .ok (.ior, 1) := dk_128 (dk_at dksX9_liesTo_2 14 rfl rfl)
theorem dX9_liesTo_62 : decode cX9_liesTo 62 = .ok (.istore_n 2, 1) := dk_61 (dk_at dksX9_liesTo_2 15 rfl rfl)
theorem dX9_liesTo_63 : decode cX9_liesTo 63 = .ok (.aload_n 0, 1) := dk_42 (dk_at dksX9_liesTo_2 16 rfl rfl)
theorem dX9_liesTo_64 : decode cX9_liesTo 64 = .ok (.getfield 13, 3) := dk_180 0 13 (dk_at dksX9_liesTo_2 17 rfl rfl)
theorem dX9_liesTo_67 : decode cX9_liesTo 67 = .ok (.iconst 0, 1) := dk_3 (dk_at dksX9_liesTo_2 20 rfl rfl)
theorem dX9_liesTo_68 : decode cX9_liesTo 68 = .ok (.iload_n 3, 1) := dk_29 (dk_at dksX9_liesTo_2 21 rfl rfl)
theorem dX9_liesTo_69 : decode cX9_liesTo 69 = .ok (.iadd, 1) := dk_96 (dk_at dksX9_liesTo_2 22 rfl rfl)
theorem dX9_liesTo_70 : decode cX9_liesTo 70 = .ok (.laload, 1) := dk_47 (dk_at dksX9_liesTo_2 23 rfl rfl)
theorem dX9_liesTo_71 : decode cX9_liesTo 71 = .ok (.aload_n 0, 1) := dk_42 (dk_at dksX9_liesTo_3 0 rfl rfl)
theorem dX9_liesTo_72 : decode cX9_liesTo 72 = .ok (.getfield 66, 3) := dk_180 0 66 (dk_at dksX9_liesTo_3 1 rfl rfl)
theorem dX9_liesTo_75 : decode cX9_liesTo 75 = .ok (.iload_n 3, 1) := dk_29 (dk_at dksX9_liesTo_3 4 rfl rfl)
theorem dX9_liesTo_76 : decode cX9_liesTo 76 = .ok (.laload, 1) := dk_47 (dk_at dksX9_liesTo_3 5 rfl rfl)
theorem dX9_liesTo_77 : decode cX9_liesTo 77 = .ok (.ldc2_w 124, 3) := dk_20 0 124 (dk_at dksX9_liesTo_3 6 rfl rfl)
theorem dX9_liesTo_80 : decode cX9_liesTo 80 = .ok (.lxor, 1) := dk_131 (dk_at dksX9_liesTo_3 9 rfl rfl)
theorem dX9_liesTo_81 : decode cX9_liesTo 81 = .ok (.land, 1) := dk_127 (dk_at dksX9_liesTo_3 10 rfl rfl)
theorem dX9_liesTo_82 : decode cX9_liesTo 82 = .ok (.lconst 0, 1) := dk_9 (dk_at dksX9_liesTo_3 11 rfl rfl)
theorem dX9_liesTo_83 : decode cX9_liesTo 83 = .ok (.lcmp, 1) := dk_148 (dk_at dksX9_liesTo_3 12 rfl rfl)
theorem dX9_liesTo_84 : decode cX9_liesTo 84 = .ok (.ifCond .eq 7, 3) := dk_153 0 7 (dk_at dksX9_liesTo_3 13 rfl rfl)
theorem dX9_liesTo_87 : decode cX9_liesTo 87 = .ok (.iload_n 2, 1) := dk_28 (dk_at dksX9_liesTo_3 16 rfl rfl)
theorem dX9_liesTo_88 : decode cX9_liesTo 88 = .ok (.iconst 4, 1) := dk_7 (dk_at dksX9_liesTo_3 17 rfl rfl)
theorem dX9_liesTo_89 : decode cX9_liesTo 89 = .ok (.ior, 1) := dk_128 (dk_at dksX9_liesTo_3 18 rfl rfl)
theorem dX9_liesTo_90 : decode cX9_liesTo 90 = .ok (.istore_n 2, 1) := dk_61 (dk_at dksX9_liesTo_3 19 rfl rfl)
theorem dX9_liesTo_91 : decode cX9_liesTo 91 = .ok (.iinc 3 1, 3) := dk_132 3 1 (dk_at dksX9_liesTo_3 20 rfl rfl)
theorem dX9_liesTo_94 : decode cX9_liesTo 94 = .ok (.goto (-90), 3) := dk_167 255 166 (dk_at dksX9_liesTo_4 0 rfl rfl)
theorem dX9_liesTo_97 : decode cX9_liesTo 97 = .ok (.iload_n 2, 1) := dk_28 (dk_at dksX9_liesTo_4 3 rfl rfl)
theorem dX9_liesTo_98 : decode cX9_liesTo 98 = .ok (.ireturn, 1) := dk_172 (dk_at dksX9_liesTo_4 4 rfl rfl)
abbrev cX9_otherwise : ByteArray := prog_19_method_85_code
def yX9_otherwise : MethodName := ⟨RX9, "otherwise", "(I)I"⟩
def dkwX9_otherwise_2 : List UInt8 := [132, 2, 1, 167, 255, 207, 5, 27, 104, 172]
abbrev dktX9_otherwise_2 : List UInt8 := dkwX9_otherwise_2 ++ []
def dkwX9_otherwise_1 : List UInt8 := [42, 28, 182, 1, 90, 42, 182, 1, 93, 153, 0, 15, 42, 27, 182, 1, 96, 16, 7, 160, 0, 5, 28, 172]
abbrev dktX9_otherwise_1 : List UInt8 := dkwX9_otherwise_1 ++ dktX9_otherwise_2
def dkwX9_otherwise_0 : List UInt8 := [3, 61, 28, 5, 42, 180, 0, 7, 6, 46, 104, 162, 0, 43, 28, 5, 108, 27, 160, 0, 6, 167, 0, 27]
abbrev dktX9_otherwise_0 : List UInt8 := dkwX9_otherwise_0 ++ dktX9_otherwise_1
theorem dksX9_otherwise_0 : cX9_otherwise.data.toList.drop 0 = dktX9_otherwise_0 := by decide +kernel
theorem dksX9_otherwise_1 : cX9_otherwise.data.toList.drop 24 = dktX9_otherwise_1 := dk_seg dksX9_otherwise_0 24 rfl rfl
theorem dksX9_otherwise_2 : cX9_otherwise.data.toList.drop 48 = dktX9_otherwise_2 := dk_seg dksX9_otherwise_1 24 rfl rfl
theorem dX9_otherwise_0 : decode cX9_otherwise 0 = .ok (.iconst 0, 1) := dk_3 (dk_at dksX9_otherwise_0 0 rfl rfl)
theorem dX9_otherwise_1 : decode cX9_otherwise 1 = .ok (.istore_n 2, 1) := dk_61 (dk_at dksX9_otherwise_0 1 rfl rfl)
theorem dX9_otherwise_2 : decode cX9_otherwise 2 = .ok (.iload_n 2, 1) := dk_28 (dk_at dksX9_otherwise_0 2 rfl rfl)
theorem dX9_otherwise_3 : decode cX9_otherwise 3 = .ok (.iconst 2, 1) := dk_5 (dk_at dksX9_otherwise_0 3 rfl rfl)
theorem dX9_otherwise_4 : decode cX9_otherwise 4 = .ok (.aload_n 0, 1) := dk_42 (dk_at dksX9_otherwise_0 4 rfl rfl)
theorem dX9_otherwise_5 : decode cX9_otherwise 5 = .ok (.getfield 7, 3) := dk_180 0 7 (dk_at dksX9_otherwise_0 5 rfl rfl)
theorem dX9_otherwise_8 : decode cX9_otherwise 8 = .ok (.iconst 3, 1) := dk_6 (dk_at dksX9_otherwise_0 8 rfl rfl)
theorem dX9_otherwise_9 : decode cX9_otherwise 9 = .ok (.iaload, 1) := dk_46 (dk_at dksX9_otherwise_0 9 rfl rfl)
theorem dX9_otherwise_10 : decode cX9_otherwise 10 = .ok (.imul, 1) := dk_104 (dk_at dksX9_otherwise_0 10 rfl rfl)
theorem dX9_otherwise_11 : decode cX9_otherwise 11 = .ok (.if_icmp .ge 43, 3) := dk_162 0 43 (dk_at dksX9_otherwise_0 11 rfl rfl)
theorem dX9_otherwise_14 : decode cX9_otherwise 14 = .ok (.iload_n 2, 1) := dk_28 (dk_at dksX9_otherwise_0 14 rfl rfl)
theorem dX9_otherwise_15 : decode cX9_otherwise 15 = .ok (.iconst 2, 1) := dk_5 (dk_at dksX9_otherwise_0 15 rfl rfl)
theorem dX9_otherwise_16 : decode cX9_otherwise 16 = .ok (.idiv, 1) := dk_108 (dk_at dksX9_otherwise_0 16 rfl rfl)
theorem dX9_otherwise_17 : decode cX9_otherwise 17 = .ok (.iload_n 1, 1) := dk_27 (dk_at dksX9_otherwise_0 17 rfl rfl)
theorem dX9_otherwise_18 : decode cX9_otherwise 18 = .ok (.if_icmp .ne 6, 3) := dk_160 0 6 (dk_at dksX9_otherwise_0 18 rfl rfl)
theorem dX9_otherwise_21 : decode cX9_otherwise 21 = .ok (.goto 27, 3) := dk_167 0 27 (dk_at dksX9_otherwise_0 21 rfl rfl)
theorem dX9_otherwise_24 : decode cX9_otherwise 24 = .ok (.aload_n 0, 1) := dk_42 (dk_at dksX9_otherwise_1 0 rfl rfl)
theorem dX9_otherwise_25 : decode cX9_otherwise 25 = .ok (.iload_n 2, 1) := dk_28 (dk_at dksX9_otherwise_1 1 rfl rfl)
theorem dX9_otherwise_26 : decode cX9_otherwise 26 = .ok (.invokevirtual 346, 3) := dk_182 1 90 (dk_at dksX9_otherwise_1 2 rfl rfl)
theorem dX9_otherwise_29 : decode cX9_otherwise 29 = .ok (.aload_n 0, 1) := dk_42 (dk_at dksX9_otherwise_1 5 rfl rfl)
theorem dX9_otherwise_30 : decode cX9_otherwise 30 = .ok (.invokevirtual 349, 3) := dk_182 1 93 (dk_at dksX9_otherwise_1 6 rfl rfl)
theorem dX9_otherwise_33 : decode cX9_otherwise 33 = .ok (.ifCond .eq 15, 3) := dk_153 0 15 (dk_at dksX9_otherwise_1 9 rfl rfl)
theorem dX9_otherwise_36 : decode cX9_otherwise 36 = .ok (.aload_n 0, 1) := dk_42 (dk_at dksX9_otherwise_1 12 rfl rfl)
theorem dX9_otherwise_37 : decode cX9_otherwise 37 = .ok (.iload_n 1, 1) := dk_27 (dk_at dksX9_otherwise_1 13 rfl rfl)
theorem dX9_otherwise_38 : decode cX9_otherwise 38 = .ok (.invokevirtual 352, 3) := dk_182 1 96 (dk_at dksX9_otherwise_1 14 rfl rfl)
theorem dX9_otherwise_41 : decode cX9_otherwise 41 = .ok (.bipush 7, 2) := dk_16 7 (dk_at dksX9_otherwise_1 17 rfl rfl)
theorem dX9_otherwise_43 : decode cX9_otherwise 43 = .ok (.if_icmp .ne 5, 3) := dk_160 0 5 (dk_at dksX9_otherwise_1 19 rfl rfl)
theorem dX9_otherwise_46 : decode cX9_otherwise 46 = .ok (.iload_n 2, 1) := dk_28 (dk_at dksX9_otherwise_1 22 rfl rfl)
theorem dX9_otherwise_47 : decode cX9_otherwise 47 = .ok (.ireturn, 1) := dk_172 (dk_at dksX9_otherwise_1 23 rfl rfl)
theorem dX9_otherwise_48 : decode cX9_otherwise 48 = .ok (.iinc 2 1, 3) := dk_132 2 1 (dk_at dksX9_otherwise_2 0 rfl rfl)
theorem dX9_otherwise_51 : decode cX9_otherwise 51 = .ok (.goto (-49), 3) := dk_167 255 207 (dk_at dksX9_otherwise_2 3 rfl rfl)
theorem dX9_otherwise_54 : decode cX9_otherwise 54 = .ok (.iconst 2, 1) := dk_5 (dk_at dksX9_otherwise_2 6 rfl rfl)
theorem dX9_otherwise_55 : decode cX9_otherwise 55 = .ok (.iload_n 1, 1) := dk_27 (dk_at dksX9_otherwise_2 7 rfl rfl)
theorem dX9_otherwise_56 : decode cX9_otherwise 56 = .ok (.imul, 1) := dk_104 (dk_at dksX9_otherwise_2 8 rfl rfl)
theorem dX9_otherwise_57 : decode cX9_otherwise 57 = .ok (.ireturn, 1) := dk_172 (dk_at dksX9_otherwise_2 9 rfl rfl)
abbrev cX9_status : ByteArray := prog_19_method_4_code
def yX9_status : MethodName := ⟨RX9, "status", "()I"⟩
theorem dX9_status_0 : decode cX9_status 0 = .ok (.aload_n 0, 1) := by decide +kernel
theorem dX9_status_1 : decode cX9_status 1 = .ok (.getfield 103, 3) := by decide +kernel
theorem dX9_status_4 : decode cX9_status 4 = .ok (.ireturn, 1) := by decide +kernel
abbrev cX9_top : ByteArray := prog_19_method_5_code
def yX9_top : MethodName := ⟨RX9, "top", "()J"⟩
theorem dX9_top_0 : decode cX9_top 0 = .ok (.aload_n 0, 1) := by decide +kernel
theorem dX9_top_1 : decode cX9_top 1 = .ok (.getfield 106, 3) := by decide +kernel
theorem dX9_top_4 : decode cX9_top 4 = .ok (.lreturn, 1) := by decide +kernel
abbrev cX9_bottom : ByteArray := prog_19_method_6_code
def yX9_bottom : MethodName := ⟨RX9, "bottom", "()J"⟩
theorem dX9_bottom_0 : decode cX9_bottom 0 = .ok (.aload_n 0, 1) := by decide +kernel
theorem dX9_bottom_1 : decode cX9_bottom 1 = .ok (.getfield 20, 3) := by decide +kernel
theorem dX9_bottom_4 : decode cX9_bottom 4 = .ok (.lreturn, 1) := by decide +kernel
abbrev cX9_tray : ByteArray := prog_19_method_13_code
def yX9_tray : MethodName := ⟨RX9, "tray", "(III)Z"⟩
def dkwX9_tray_3 : List UInt8 := [167, 255, 234, 42, 3, 182, 0, 109, 172]
abbrev dktX9_tray_3 : List UInt8 := dkwX9_tray_3 ++ []
def dkwX9_tray_2 : List UInt8 := [54, 4, 21, 4, 29, 162, 0, 22, 42, 180, 0, 30, 16, 60, 27, 104, 21, 4, 96, 9, 80, 132, 4, 1]
abbrev dktX9_tray_2 : List UInt8 := dkwX9_tray_2 ++ dktX9_tray_3
def dkwX9_tray_1 : List UInt8 := [164, 0, 9, 42, 4, 182, 0, 109, 172, 42, 180, 0, 24, 27, 28, 79, 42, 180, 0, 27, 27, 29, 79, 3]
abbrev dktX9_tray_1 : List UInt8 := dkwX9_tray_1 ++ dktX9_tray_2
def dkwX9_tray_0 : List UInt8 := [27, 184, 0, 113, 153, 0, 22, 28, 155, 0, 18, 28, 6, 163, 0, 13, 29, 155, 0, 9, 29, 16, 60]
abbrev dktX9_tray_0 : List UInt8 := dkwX9_tray_0 ++ dktX9_tray_1
theorem dksX9_tray_0 : cX9_tray.data.toList.drop 0 = dktX9_tray_0 := by decide +kernel
theorem dksX9_tray_1 : cX9_tray.data.toList.drop 23 = dktX9_tray_1 := dk_seg dksX9_tray_0 23 rfl rfl
theorem dksX9_tray_2 : cX9_tray.data.toList.drop 47 = dktX9_tray_2 := dk_seg dksX9_tray_1 24 rfl rfl
theorem dksX9_tray_3 : cX9_tray.data.toList.drop 71 = dktX9_tray_3 := dk_seg dksX9_tray_2 24 rfl rfl
theorem dX9_tray_0 : decode cX9_tray 0 = .ok (.iload_n 1, 1) := dk_27 (dk_at dksX9_tray_0 0 rfl rfl)
theorem dX9_tray_1 : decode cX9_tray 1 = .ok (.invokestatic 113, 3) := dk_184 0 113 (dk_at dksX9_tray_0 1 rfl rfl)
theorem dX9_tray_4 : decode cX9_tray 4 = .ok (.ifCond .eq 22, 3) := dk_153 0 22 (dk_at dksX9_tray_0 4 rfl rfl)
theorem dX9_tray_7 : decode cX9_tray 7 = .ok (.iload_n 2, 1) := dk_28 (dk_at dksX9_tray_0 7 rfl rfl)
theorem dX9_tray_8 : decode cX9_tray 8 = .ok (.ifCond .lt 18, 3) := dk_155 0 18 (dk_at dksX9_tray_0 8 rfl rfl)
theorem dX9_tray_11 : decode cX9_tray 11 = .ok (.iload_n 2, 1) := dk_28 (dk_at dksX9_tray_0 11 rfl rfl)
theorem dX9_tray_12 : decode cX9_tray 12 = .ok (.iconst 3, 1) := dk_6 (dk_at dksX9_tray_0 12 rfl rfl)
theorem dX9_tray_13 : decode cX9_tray 13 = .ok (.if_icmp .gt 13, 3) := dk_163 0 13 (dk_at dksX9_tray_0 13 rfl rfl)
theorem dX9_tray_16 : decode cX9_tray 16 = .ok (.iload_n 3, 1) := dk_29 (dk_at dksX9_tray_0 16 rfl rfl)
theorem dX9_tray_17 : decode cX9_tray 17 = .ok (.ifCond .lt 9, 3) := dk_155 0 9 (dk_at dksX9_tray_0 17 rfl rfl)
theorem dX9_tray_20 : decode cX9_tray 20 = .ok (.iload_n 3, 1) := dk_29 (dk_at dksX9_tray_0 20 rfl rfl)
theorem dX9_tray_21 : decode cX9_tray 21 = .ok (.bipush 60, 2) := dk_16 60 (dk_at dksX9_tray_0 21 rfl rfl)
theorem dX9_tray_23 : decode cX9_tray 23 = .ok (.if_icmp .le 9, 3) := dk_164 0 9 (dk_at dksX9_tray_1 0 rfl rfl)
theorem dX9_tray_26 : decode cX9_tray 26 = .ok (.aload_n 0, 1) := dk_42 (dk_at dksX9_tray_1 3 rfl rfl)
theorem dX9_tray_27 : decode cX9_tray 27 = .ok (.iconst 1, 1) := dk_4 (dk_at dksX9_tray_1 4 rfl rfl)
theorem dX9_tray_28 : decode cX9_tray 28 = .ok (.invokevirtual 109, 3) := dk_182 0 109 (dk_at dksX9_tray_1 5 rfl rfl)
theorem dX9_tray_31 : decode cX9_tray 31 = .ok (.ireturn, 1) := dk_172 (dk_at dksX9_tray_1 8 rfl rfl)
theorem dX9_tray_32 : decode cX9_tray 32 = .ok (.aload_n 0, 1) := dk_42 (dk_at dksX9_tray_1 9 rfl rfl)
theorem dX9_tray_33 : decode cX9_tray 33 = .ok (.getfield 24, 3) := dk_180 0 24 (dk_at dksX9_tray_1 10 rfl rfl)
theorem dX9_tray_36 : decode cX9_tray 36 = .ok (.iload_n 1, 1) := dk_27 (dk_at dksX9_tray_1 13 rfl rfl)
theorem dX9_tray_37 : decode cX9_tray 37 = .ok (.iload_n 2, 1) := dk_28 (dk_at dksX9_tray_1 14 rfl rfl)
theorem dX9_tray_38 : decode cX9_tray 38 = .ok (.iastore, 1) := dk_79 (dk_at dksX9_tray_1 15 rfl rfl)
theorem dX9_tray_39 : decode cX9_tray 39 = .ok (.aload_n 0, 1) := dk_42 (dk_at dksX9_tray_1 16 rfl rfl)
theorem dX9_tray_40 : decode cX9_tray 40 = .ok (.getfield 27, 3) := dk_180 0 27 (dk_at dksX9_tray_1 17 rfl rfl)
theorem dX9_tray_43 : decode cX9_tray 43 = .ok (.iload_n 1, 1) := dk_27 (dk_at dksX9_tray_1 20 rfl rfl)
theorem dX9_tray_44 : decode cX9_tray 44 = .ok (.iload_n 3, 1) := dk_29 (dk_at dksX9_tray_1 21 rfl rfl)
theorem dX9_tray_45 : decode cX9_tray 45 = .ok (.iastore, 1) := dk_79 (dk_at dksX9_tray_1 22 rfl rfl)
theorem dX9_tray_46 : decode cX9_tray 46 = .ok (.iconst 0, 1) := dk_3 (dk_at dksX9_tray_1 23 rfl rfl)
theorem dX9_tray_47 : decode cX9_tray 47 = .ok (.istore 4, 2) := dk_54 4 (dk_at dksX9_tray_2 0 rfl rfl)
theorem dX9_tray_49 : decode cX9_tray 49 = .ok (.iload 4, 2) := dk_21 4 (dk_at dksX9_tray_2 2 rfl rfl)
theorem dX9_tray_51 : decode cX9_tray 51 = .ok (.iload_n 3, 1) := dk_29 (dk_at dksX9_tray_2 4 rfl rfl)
theorem dX9_tray_52 : decode cX9_tray 52 = .ok (.if_icmp .ge 22, 3) := dk_162 0 22 (dk_at dksX9_tray_2 5 rfl rfl)
theorem dX9_tray_55 : decode cX9_tray 55 = .ok (.aload_n 0, 1) := dk_42 (dk_at dksX9_tray_2 8 rfl rfl)
theorem dX9_tray_56 : decode cX9_tray 56 = .ok (.getfield 30, 3) := dk_180 0 30 (dk_at dksX9_tray_2 9 rfl rfl)
theorem dX9_tray_59 : decode cX9_tray 59 = .ok (.bipush 60, 2) := dk_16 60 (dk_at dksX9_tray_2 12 rfl rfl)
theorem dX9_tray_61 : decode cX9_tray 61 = .ok (.iload_n 1, 1) := dk_27 (dk_at dksX9_tray_2 14 rfl rfl)
theorem dX9_tray_62 : decode cX9_tray 62 = .ok (.imul, 1) := dk_104 (dk_at dksX9_tray_2 15 rfl rfl)
theorem dX9_tray_63 : decode cX9_tray 63 = .ok (.iload 4, 2) := dk_21 4 (dk_at dksX9_tray_2 16 rfl rfl)
theorem dX9_tray_65 : decode cX9_tray 65 = .ok (.iadd, 1) := dk_96 (dk_at dksX9_tray_2 18 rfl rfl)
theorem dX9_tray_66 : decode cX9_tray 66 = .ok (.lconst 0, 1) := dk_9 (dk_at dksX9_tray_2 19 rfl rfl)
theorem dX9_tray_67 : decode cX9_tray 67 = .ok (.lastore, 1) := dk_80 (dk_at dksX9_tray_2 20 rfl rfl)
theorem dX9_tray_68 : decode cX9_tray 68 = .ok (.iinc 4 1, 3) := dk_132 4 1 (dk_at dksX9_tray_2 21 rfl rfl)
theorem dX9_tray_71 : decode cX9_tray 71 = .ok (.goto (-22), 3) := dk_167 255 234 (dk_at dksX9_tray_3 0 rfl rfl)
theorem dX9_tray_74 : decode cX9_tray 74 = .ok (.aload_n 0, 1) := dk_42 (dk_at dksX9_tray_3 3 rfl rfl)
theorem dX9_tray_75 : decode cX9_tray 75 = .ok (.iconst 0, 1) := dk_3 (dk_at dksX9_tray_3 4 rfl rfl)
theorem dX9_tray_76 : decode cX9_tray 76 = .ok (.invokevirtual 109, 3) := dk_182 0 109 (dk_at dksX9_tray_3 5 rfl rfl)
theorem dX9_tray_79 : decode cX9_tray 79 = .ok (.ireturn, 1) := dk_172 (dk_at dksX9_tray_3 8 rfl rfl)
abbrev cX9_isTray : ByteArray := prog_19_method_11_code
def yX9_isTray : MethodName := ⟨RX9, "isTray", "(I)Z"⟩
def dkwX9_isTray_0 : List UInt8 := [26, 155, 0, 12, 26, 7, 162, 0, 7, 4, 167, 0, 4, 3, 172]
abbrev dktX9_isTray_0 : List UInt8 := dkwX9_isTray_0 ++ []
theorem dksX9_isTray_0 : cX9_isTray.data.toList.drop 0 = dktX9_isTray_0 := by decide +kernel
theorem dX9_isTray_0 : decode cX9_isTray 0 = .ok (.iload_n 0, 1) := dk_26 (dk_at dksX9_isTray_0 0 rfl rfl)
theorem dX9_isTray_1 : decode cX9_isTray 1 = .ok (.ifCond .lt 12, 3) := dk_155 0 12 (dk_at dksX9_isTray_0 1 rfl rfl)
theorem dX9_isTray_4 : decode cX9_isTray 4 = .ok (.iload_n 0, 1) := dk_26 (dk_at dksX9_isTray_0 4 rfl rfl)
theorem dX9_isTray_5 : decode cX9_isTray 5 = .ok (.iconst 4, 1) := dk_7 (dk_at dksX9_isTray_0 5 rfl rfl)
theorem dX9_isTray_6 : decode cX9_isTray 6 = .ok (.if_icmp .ge 7, 3) := dk_162 0 7 (dk_at dksX9_isTray_0 6 rfl rfl)
theorem dX9_isTray_9 : decode cX9_isTray 9 = .ok (.iconst 1, 1) := dk_4 (dk_at dksX9_isTray_0 9 rfl rfl)
theorem dX9_isTray_10 : decode cX9_isTray 10 = .ok (.goto 4, 3) := dk_167 0 4 (dk_at dksX9_isTray_0 10 rfl rfl)
theorem dX9_isTray_13 : decode cX9_isTray 13 = .ok (.iconst 0, 1) := dk_3 (dk_at dksX9_isTray_0 13 rfl rfl)
theorem dX9_isTray_14 : decode cX9_isTray 14 = .ok (.ireturn, 1) := dk_172 (dk_at dksX9_isTray_0 14 rfl rfl)
abbrev cX9_is : ByteArray := prog_19_method_7_code
def yX9_is : MethodName := ⟨RX9, "is", "(I)Z"⟩
def dkwX9_is_0 : List UInt8 := [42, 27, 181, 0, 103, 27, 154, 0, 7, 4, 167, 0, 4, 3, 172]
abbrev dktX9_is_0 : List UInt8 := dkwX9_is_0 ++ []
theorem dksX9_is_0 : cX9_is.data.toList.drop 0 = dktX9_is_0 := by decide +kernel
theorem dX9_is_0 : decode cX9_is 0 = .ok (.aload_n 0, 1) := dk_42 (dk_at dksX9_is_0 0 rfl rfl)
theorem dX9_is_1 : decode cX9_is 1 = .ok (.iload_n 1, 1) := dk_27 (dk_at dksX9_is_0 1 rfl rfl)
theorem dX9_is_2 : decode cX9_is 2 = .ok (.putfield 103, 3) := dk_181 0 103 (dk_at dksX9_is_0 2 rfl rfl)
theorem dX9_is_5 : decode cX9_is 5 = .ok (.iload_n 1, 1) := dk_27 (dk_at dksX9_is_0 5 rfl rfl)
theorem dX9_is_6 : decode cX9_is 6 = .ok (.ifCond .ne 7, 3) := dk_154 0 7 (dk_at dksX9_is_0 6 rfl rfl)
theorem dX9_is_9 : decode cX9_is 9 = .ok (.iconst 1, 1) := dk_4 (dk_at dksX9_is_0 9 rfl rfl)
theorem dX9_is_10 : decode cX9_is 10 = .ok (.goto 4, 3) := dk_167 0 4 (dk_at dksX9_is_0 10 rfl rfl)
theorem dX9_is_13 : decode cX9_is 13 = .ok (.iconst 0, 1) := dk_3 (dk_at dksX9_is_0 13 rfl rfl)
theorem dX9_is_14 : decode cX9_is 14 = .ok (.ireturn, 1) := dk_172 (dk_at dksX9_is_0 14 rfl rfl)
abbrev cX9_write : ByteArray := prog_19_method_15_code
def yX9_write : MethodName := ⟨RX9, "write", "(IIJ)Z"⟩
def dkwX9_write_1 : List UInt8 := [42, 180, 0, 24, 27, 46, 184, 0, 120, 80, 42, 21, 5, 182, 0, 109, 172]
abbrev dktX9_write_1 : List UInt8 := dkwX9_write_1 ++ []
def dkwX9_write_0 : List UInt8 := [42, 27, 28, 182, 0, 116, 54, 5, 21, 5, 154, 0, 24, 42, 180, 0, 30, 16, 60, 27, 104, 28, 96, 33]
abbrev dktX9_write_0 : List UInt8 := dkwX9_write_0 ++ dktX9_write_1
theorem dksX9_write_0 : cX9_write.data.toList.drop 0 = dktX9_write_0 := by decide +kernel
theorem dksX9_write_1 : cX9_write.data.toList.drop 24 = dktX9_write_1 := dk_seg dksX9_write_0 24 rfl rfl
theorem dX9_write_0 : decode cX9_write 0 = .ok (.aload_n 0, 1) := dk_42 (dk_at dksX9_write_0 0 rfl rfl)
theorem dX9_write_1 : decode cX9_write 1 = .ok (.iload_n 1, 1) := dk_27 (dk_at dksX9_write_0 1 rfl rfl)
theorem dX9_write_2 : decode cX9_write 2 = .ok (.iload_n 2, 1) := dk_28 (dk_at dksX9_write_0 2 rfl rfl)
theorem dX9_write_3 : decode cX9_write 3 = .ok (.invokevirtual 116, 3) := dk_182 0 116 (dk_at dksX9_write_0 3 rfl rfl)
theorem dX9_write_6 : decode cX9_write 6 = .ok (.istore 5, 2) := dk_54 5 (dk_at dksX9_write_0 6 rfl rfl)
theorem dX9_write_8 : decode cX9_write 8 = .ok (.iload 5, 2) := dk_21 5 (dk_at dksX9_write_0 8 rfl rfl)
theorem dX9_write_10 : decode cX9_write 10 = .ok (.ifCond .ne 24, 3) := dk_154 0 24 (dk_at dksX9_write_0 10 rfl rfl)
theorem dX9_write_13 : decode cX9_write 13 = .ok (.aload_n 0, 1) := dk_42 (dk_at dksX9_write_0 13 rfl rfl)
theorem dX9_write_14 : decode cX9_write 14 = .ok (.getfield 30, 3) := dk_180 0 30 (dk_at dksX9_write_0 14 rfl rfl)
theorem dX9_write_17 : decode cX9_write 17 = .ok (.bipush 60, 2) := dk_16 60 (dk_at dksX9_write_0 17 rfl rfl)
theorem dX9_write_19 : decode cX9_write 19 = .ok (.iload_n 1, 1) := dk_27 (dk_at dksX9_write_0 19 rfl rfl)
theorem dX9_write_20 : decode cX9_write 20 = .ok (.imul, 1) := dk_104 (dk_at dksX9_write_0 20 rfl rfl)
theorem dX9_write_21 : decode cX9_write 21 = .ok (.iload_n 2, 1) := dk_28 (dk_at dksX9_write_0 21 rfl rfl)
theorem dX9_write_22 : decode cX9_write 22 = .ok (.iadd, 1) := dk_96 (dk_at dksX9_write_0 22 rfl rfl)
theorem dX9_write_23 : decode cX9_write 23 = .ok (.lload_n 3, 1) := dk_33 (dk_at dksX9_write_0 23 rfl rfl)
theorem dX9_write_24 : decode cX9_write 24 = .ok (.aload_n 0, 1) := dk_42 (dk_at dksX9_write_1 0 rfl rfl)
theorem dX9_write_25 : decode cX9_write 25 = .ok (.getfield 24, 3) := dk_180 0 24 (dk_at dksX9_write_1 1 rfl rfl)
theorem dX9_write_28 : decode cX9_write 28 = .ok (.iload_n 1, 1) := dk_27 (dk_at dksX9_write_1 4 rfl rfl)
theorem dX9_write_29 : decode cX9_write 29 = .ok (.iaload, 1) := dk_46 (dk_at dksX9_write_1 5 rfl rfl)
theorem dX9_write_30 : decode cX9_write 30 = .ok (.invokestatic 120, 3) := dk_184 0 120 (dk_at dksX9_write_1 6 rfl rfl)
theorem dX9_write_33 : decode cX9_write 33 = .ok (.lastore, 1) := dk_80 (dk_at dksX9_write_1 9 rfl rfl)
theorem dX9_write_34 : decode cX9_write 34 = .ok (.aload_n 0, 1) := dk_42 (dk_at dksX9_write_1 10 rfl rfl)
theorem dX9_write_35 : decode cX9_write 35 = .ok (.iload 5, 2) := dk_21 5 (dk_at dksX9_write_1 11 rfl rfl)
theorem dX9_write_37 : decode cX9_write 37 = .ok (.invokevirtual 109, 3) := dk_182 0 109 (dk_at dksX9_write_1 13 rfl rfl)
theorem dX9_write_40 : decode cX9_write 40 = .ok (.ireturn, 1) := dk_172 (dk_at dksX9_write_1 16 rfl rfl)
abbrev cX9_wrongPlace : ByteArray := prog_19_method_14_code
def yX9_wrongPlace : MethodName := ⟨RX9, "wrongPlace", "(II)I"⟩
def dkwX9_wrongPlace_1 : List UInt8 := [167, 0, 22, 28, 155, 0, 13, 28, 42, 180, 0, 27, 27, 46, 161, 0, 7, 6, 167, 0, 4, 3, 172]
abbrev dktX9_wrongPlace_1 : List UInt8 := dkwX9_wrongPlace_1 ++ []
def dkwX9_wrongPlace_0 : List UInt8 := [27, 184, 0, 113, 154, 0, 7, 4, 167, 0, 36, 42, 180, 0, 27, 27, 46, 2, 160, 0, 7, 5]
abbrev dktX9_wrongPlace_0 : List UInt8 := dkwX9_wrongPlace_0 ++ dktX9_wrongPlace_1
theorem dksX9_wrongPlace_0 : cX9_wrongPlace.data.toList.drop 0 = dktX9_wrongPlace_0 := by decide +kernel
theorem dksX9_wrongPlace_1 : cX9_wrongPlace.data.toList.drop 22 = dktX9_wrongPlace_1 := dk_seg dksX9_wrongPlace_0 22 rfl rfl
theorem dX9_wrongPlace_0 : decode cX9_wrongPlace 0 = .ok (.iload_n 1, 1) := dk_27 (dk_at dksX9_wrongPlace_0 0 rfl rfl)
theorem dX9_wrongPlace_1 : decode cX9_wrongPlace 1 = .ok (.invokestatic 113, 3) := dk_184 0 113 (dk_at dksX9_wrongPlace_0 1 rfl rfl)
theorem dX9_wrongPlace_4 : decode cX9_wrongPlace 4 = .ok (.ifCond .ne 7, 3) := dk_154 0 7 (dk_at dksX9_wrongPlace_0 4 rfl rfl)
theorem dX9_wrongPlace_7 : decode cX9_wrongPlace 7 = .ok (.iconst 1, 1) := dk_4 (dk_at dksX9_wrongPlace_0 7 rfl rfl)
theorem dX9_wrongPlace_8 : decode cX9_wrongPlace 8 = .ok (.goto 36, 3) := dk_167 0 36 (dk_at dksX9_wrongPlace_0 8 rfl rfl)
theorem dX9_wrongPlace_11 : decode cX9_wrongPlace 11 = .ok (.aload_n 0, 1) := dk_42 (dk_at dksX9_wrongPlace_0 11 rfl rfl)
theorem dX9_wrongPlace_12 : decode cX9_wrongPlace 12 = .ok (.getfield 27, 3) := dk_180 0 27 (dk_at dksX9_wrongPlace_0 12 rfl rfl)
theorem dX9_wrongPlace_15 : decode cX9_wrongPlace 15 = .ok (.iload_n 1, 1) := dk_27 (dk_at dksX9_wrongPlace_0 15 rfl rfl)
theorem dX9_wrongPlace_16 : decode cX9_wrongPlace 16 = .ok (.iaload, 1) := dk_46 (dk_at dksX9_wrongPlace_0 16 rfl rfl)
theorem dX9_wrongPlace_17 : decode cX9_wrongPlace 17 = .ok (.iconst (-1), 1) := dk_2 (dk_at dksX9_wrongPlace_0 17 rfl rfl)
theorem dX9_wrongPlace_18 : decode cX9_wrongPlace 18 = .ok (.if_icmp .ne 7, 3) := dk_160 0 7 (dk_at dksX9_wrongPlace_0 18 rfl rfl)
theorem dX9_wrongPlace_21 : decode cX9_wrongPlace 21 = .ok (.iconst 2, 1) := dk_5 (dk_at dksX9_wrongPlace_0 21 rfl rfl)
theorem dX9_wrongPlace_22 : decode cX9_wrongPlace 22 = .ok (.goto 22, 3) := dk_167 0 22 (dk_at dksX9_wrongPlace_1 0 rfl rfl)
theorem dX9_wrongPlace_25 : decode cX9_wrongPlace 25 = .ok (.iload_n 2, 1) := dk_28 (dk_at dksX9_wrongPlace_1 3 rfl rfl)
theorem dX9_wrongPlace_26 : decode cX9_wrongPlace 26 = .ok (.ifCond .lt 13, 3) := dk_155 0 13 (dk_at dksX9_wrongPlace_1 4 rfl rfl)
theorem dX9_wrongPlace_29 : decode cX9_wrongPlace 29 = .ok (.iload_n 2, 1) := dk_28 (dk_at dksX9_wrongPlace_1 7 rfl rfl)
theorem dX9_wrongPlace_30 : decode cX9_wrongPlace 30 = .ok (.aload_n 0, 1) := dk_42 (dk_at dksX9_wrongPlace_1 8 rfl rfl)
theorem dX9_wrongPlace_31 : decode cX9_wrongPlace 31 = .ok (.getfield 27, 3) := dk_180 0 27 (dk_at dksX9_wrongPlace_1 9 rfl rfl)
theorem dX9_wrongPlace_34 : decode cX9_wrongPlace 34 = .ok (.iload_n 1, 1) := dk_27 (dk_at dksX9_wrongPlace_1 12 rfl rfl)
theorem dX9_wrongPlace_35 : decode cX9_wrongPlace 35 = .ok (.iaload, 1) := dk_46 (dk_at dksX9_wrongPlace_1 13 rfl rfl)
theorem dX9_wrongPlace_36 : decode cX9_wrongPlace 36 = .ok (.if_icmp .lt 7, 3) := dk_161 0 7 (dk_at dksX9_wrongPlace_1 14 rfl rfl)
theorem dX9_wrongPlace_39 : decode cX9_wrongPlace 39 = .ok (.iconst 3, 1) := dk_6 (dk_at dksX9_wrongPlace_1 17 rfl rfl)
theorem dX9_wrongPlace_40 : decode cX9_wrongPlace 40 = .ok (.goto 4, 3) := dk_167 0 4 (dk_at dksX9_wrongPlace_1 18 rfl rfl)
theorem dX9_wrongPlace_43 : decode cX9_wrongPlace 43 = .ok (.iconst 0, 1) := dk_3 (dk_at dksX9_wrongPlace_1 21 rfl rfl)
theorem dX9_wrongPlace_44 : decode cX9_wrongPlace 44 = .ok (.ireturn, 1) := dk_172 (dk_at dksX9_wrongPlace_1 22 rfl rfl)
abbrev cX9_cut : ByteArray := prog_19_method_12_code
def yX9_cut : MethodName := ⟨RX9, "cut", "(JI)J"⟩
def dkwX9_cut_1 : List UInt8 := [5, 160, 0, 9, 30, 136, 133, 167, 0, 4, 30, 173]
abbrev dktX9_cut_1 : List UInt8 := dkwX9_cut_1 ++ []
def dkwX9_cut_0 : List UInt8 := [28, 154, 0, 10, 30, 136, 145, 133, 167, 0, 27, 28, 4, 160, 0, 10, 30, 136, 147, 133, 167, 0, 15, 28]
abbrev dktX9_cut_0 : List UInt8 := dkwX9_cut_0 ++ dktX9_cut_1
theorem dksX9_cut_0 : cX9_cut.data.toList.drop 0 = dktX9_cut_0 := by decide +kernel
theorem dksX9_cut_1 : cX9_cut.data.toList.drop 24 = dktX9_cut_1 := dk_seg dksX9_cut_0 24 rfl rfl
theorem dX9_cut_0 : decode cX9_cut 0 = .ok (.iload_n 2, 1) := dk_28 (dk_at dksX9_cut_0 0 rfl rfl)
theorem dX9_cut_1 : decode cX9_cut 1 = .ok (.ifCond .ne 10, 3) := dk_154 0 10 (dk_at dksX9_cut_0 1 rfl rfl)
theorem dX9_cut_4 : decode cX9_cut 4 = .ok (.lload_n 0, 1) := dk_30 (dk_at dksX9_cut_0 4 rfl rfl)
theorem dX9_cut_5 : decode cX9_cut 5 = .ok (.l2i, 1) := dk_136 (dk_at dksX9_cut_0 5 rfl rfl)
theorem dX9_cut_6 : decode cX9_cut 6 = .ok (.i2b, 1) := dk_145 (dk_at dksX9_cut_0 6 rfl rfl)
theorem dX9_cut_7 : decode cX9_cut 7 = .ok (.i2l, 1) := dk_133 (dk_at dksX9_cut_0 7 rfl rfl)
theorem dX9_cut_8 : decode cX9_cut 8 = .ok (.goto 27, 3) := dk_167 0 27 (dk_at dksX9_cut_0 8 rfl rfl)
theorem dX9_cut_11 : decode cX9_cut 11 = .ok (.iload_n 2, 1) := dk_28 (dk_at dksX9_cut_0 11 rfl rfl)
theorem dX9_cut_12 : decode cX9_cut 12 = .ok (.iconst 1, 1) := dk_4 (dk_at dksX9_cut_0 12 rfl rfl)
theorem dX9_cut_13 : decode cX9_cut 13 = .ok (.if_icmp .ne 10, 3) := dk_160 0 10 (dk_at dksX9_cut_0 13 rfl rfl)
theorem dX9_cut_16 : decode cX9_cut 16 = .ok (.lload_n 0, 1) := dk_30 (dk_at dksX9_cut_0 16 rfl rfl)
theorem dX9_cut_17 : decode cX9_cut 17 = .ok (.l2i, 1) := dk_136 (dk_at dksX9_cut_0 17 rfl rfl)
theorem dX9_cut_18 : decode cX9_cut 18 = .ok (.i2s, 1) := dk_147 (dk_at dksX9_cut_0 18 rfl rfl)
theorem dX9_cut_19 : decode cX9_cut 19 = .ok (.i2l, 1) := dk_133 (dk_at dksX9_cut_0 19 rfl rfl)
theorem dX9_cut_20 : decode cX9_cut 20 = .ok (.goto 15, 3) := dk_167 0 15 (dk_at dksX9_cut_0 20 rfl rfl)
theorem dX9_cut_23 : decode cX9_cut 23 = .ok (.iload_n 2, 1) := dk_28 (dk_at dksX9_cut_0 23 rfl rfl)
theorem dX9_cut_24 : decode cX9_cut 24 = .ok (.iconst 2, 1) := dk_5 (dk_at dksX9_cut_1 0 rfl rfl)
theorem dX9_cut_25 : decode cX9_cut 25 = .ok (.if_icmp .ne 9, 3) := dk_160 0 9 (dk_at dksX9_cut_1 1 rfl rfl)
theorem dX9_cut_28 : decode cX9_cut 28 = .ok (.lload_n 0, 1) := dk_30 (dk_at dksX9_cut_1 4 rfl rfl)
theorem dX9_cut_29 : decode cX9_cut 29 = .ok (.l2i, 1) := dk_136 (dk_at dksX9_cut_1 5 rfl rfl)
theorem dX9_cut_30 : decode cX9_cut 30 = .ok (.i2l, 1) := dk_133 (dk_at dksX9_cut_1 6 rfl rfl)
theorem dX9_cut_31 : decode cX9_cut 31 = .ok (.goto 4, 3) := dk_167 0 4 (dk_at dksX9_cut_1 7 rfl rfl)
theorem dX9_cut_34 : decode cX9_cut 34 = .ok (.lload_n 0, 1) := dk_30 (dk_at dksX9_cut_1 10 rfl rfl)
theorem dX9_cut_35 : decode cX9_cut 35 = .ok (.lreturn, 1) := dk_173 (dk_at dksX9_cut_1 11 rfl rfl)
abbrev cX9_read : ByteArray := prog_19_method_16_code
def yX9_read : MethodName := ⟨RX9, "read", "(II)J"⟩
def dkwX9_read_1 : List UInt8 := [180, 0, 30, 16, 60, 27, 104, 28, 96, 47, 173]
abbrev dktX9_read_1 : List UInt8 := dkwX9_read_1 ++ []
def dkwX9_read_0 : List UInt8 := [42, 42, 27, 28, 182, 0, 116, 181, 0, 103, 42, 180, 0, 103, 158, 0, 9, 20, 0, 124, 167, 0, 14, 42]
abbrev dktX9_read_0 : List UInt8 := dkwX9_read_0 ++ dktX9_read_1
theorem dksX9_read_0 : cX9_read.data.toList.drop 0 = dktX9_read_0 := by decide +kernel
theorem dksX9_read_1 : cX9_read.data.toList.drop 24 = dktX9_read_1 := dk_seg dksX9_read_0 24 rfl rfl
theorem dX9_read_0 : decode cX9_read 0 = .ok (.aload_n 0, 1) := dk_42 (dk_at dksX9_read_0 0 rfl rfl)
theorem dX9_read_1 : decode cX9_read 1 = .ok (.aload_n 0, 1) := dk_42 (dk_at dksX9_read_0 1 rfl rfl)
theorem dX9_read_2 : decode cX9_read 2 = .ok (.iload_n 1, 1) := dk_27 (dk_at dksX9_read_0 2 rfl rfl)
theorem dX9_read_3 : decode cX9_read 3 = .ok (.iload_n 2, 1) := dk_28 (dk_at dksX9_read_0 3 rfl rfl)
theorem dX9_read_4 : decode cX9_read 4 = .ok (.invokevirtual 116, 3) := dk_182 0 116 (dk_at dksX9_read_0 4 rfl rfl)
theorem dX9_read_7 : decode cX9_read 7 = .ok (.putfield 103, 3) := dk_181 0 103 (dk_at dksX9_read_0 7 rfl rfl)
theorem dX9_read_10 : decode cX9_read 10 = .ok (.aload_n 0, 1) := dk_42 (dk_at dksX9_read_0 10 rfl rfl)
theorem dX9_read_11 : decode cX9_read 11 = .ok (.getfield 103, 3) := dk_180 0 103 (dk_at dksX9_read_0 11 rfl rfl)
theorem dX9_read_14 : decode cX9_read 14 = .ok (.ifCond .le 9, 3) := dk_158 0 9 (dk_at dksX9_read_0 14 rfl rfl)
theorem dX9_read_17 : decode cX9_read 17 = .ok (.ldc2_w 124, 3) := dk_20 0 124 (dk_at dksX9_read_0 17 rfl rfl)
theorem dX9_read_20 : decode cX9_read 20 = .ok (.goto 14, 3) := dk_167 0 14 (dk_at dksX9_read_0 20 rfl rfl)
theorem dX9_read_23 : decode cX9_read 23 = .ok (.aload_n 0, 1) := dk_42 (dk_at dksX9_read_0 23 rfl rfl)
theorem dX9_read_24 : decode cX9_read 24 = .ok (.getfield 30, 3) := dk_180 0 30 (dk_at dksX9_read_1 0 rfl rfl)
theorem dX9_read_27 : decode cX9_read 27 = .ok (.bipush 60, 2) := dk_16 60 (dk_at dksX9_read_1 3 rfl rfl)
theorem dX9_read_29 : decode cX9_read 29 = .ok (.iload_n 1, 1) := dk_27 (dk_at dksX9_read_1 5 rfl rfl)
theorem dX9_read_30 : decode cX9_read 30 = .ok (.imul, 1) := dk_104 (dk_at dksX9_read_1 6 rfl rfl)
theorem dX9_read_31 : decode cX9_read 31 = .ok (.iload_n 2, 1) := dk_28 (dk_at dksX9_read_1 7 rfl rfl)
theorem dX9_read_32 : decode cX9_read 32 = .ok (.iadd, 1) := dk_96 (dk_at dksX9_read_1 8 rfl rfl)
theorem dX9_read_33 : decode cX9_read 33 = .ok (.laload, 1) := dk_47 (dk_at dksX9_read_1 9 rfl rfl)
theorem dX9_read_34 : decode cX9_read 34 = .ok (.lreturn, 1) := dk_173 (dk_at dksX9_read_1 10 rfl rfl)
abbrev cX9_pour : ByteArray := prog_19_method_17_code
def yX9_pour : MethodName := ⟨RX9, "pour", "(IIIII)Z"⟩
def dkwX9_pour_8 : List UInt8 := [182, 0, 109, 172]
abbrev dktX9_pour_8 : List UInt8 := dkwX9_pour_8 ++ []
def dkwX9_pour_7 : List UInt8 := [180, 0, 30, 16, 60, 27, 104, 28, 96, 21, 7, 96, 47, 80, 132, 6, 1, 167, 255, 197, 42, 3]
abbrev dktX9_pour_7 : List UInt8 := dkwX9_pour_7 ++ dktX9_pour_8
def dkwX9_pour_6 : List UInt8 := [167, 0, 5, 21, 6, 54, 7, 42, 180, 0, 30, 16, 60, 29, 104, 21, 4, 96, 21, 7, 96, 42]
abbrev dktX9_pour_6 : List UInt8 := dkwX9_pour_6 ++ dktX9_pour_7
def dkwX9_pour_5 : List UInt8 := [3, 54, 6, 21, 6, 21, 5, 162, 0, 58, 28, 21, 4, 162, 0, 13, 21, 5, 4, 100, 21, 6, 100]
abbrev dktX9_pour_5 : List UInt8 := dkwX9_pour_5 ++ dktX9_pour_6
def dkwX9_pour_4 : List UInt8 := [100, 163, 0, 17, 21, 5, 42, 180, 0, 27, 29, 46, 21, 4, 100, 164, 0, 9, 42, 6, 182, 0, 109, 172]
abbrev dktX9_pour_4 : List UInt8 := dkwX9_pour_4 ++ dktX9_pour_5
def dkwX9_pour_3 : List UInt8 := [180, 0, 24, 29, 46, 159, 0, 10, 42, 16, 8, 182, 0, 109, 172, 21, 5, 42, 180, 0, 27, 27, 46, 28]
abbrev dktX9_pour_3 : List UInt8 := dkwX9_pour_3 ++ dktX9_pour_4
def dkwX9_pour_2 : List UInt8 := [180, 0, 27, 29, 46, 2, 160, 0, 9, 42, 5, 182, 0, 109, 172, 42, 180, 0, 24, 27, 46, 42]
abbrev dktX9_pour_2 : List UInt8 := dkwX9_pour_2 ++ dktX9_pour_3
def dkwX9_pour_1 : List UInt8 := [21, 5, 156, 0, 9, 42, 4, 182, 0, 109, 172, 42, 180, 0, 27, 27, 46, 2, 159, 0, 13, 42]
abbrev dktX9_pour_1 : List UInt8 := dkwX9_pour_1 ++ dktX9_pour_2
def dkwX9_pour_0 : List UInt8 := [27, 184, 0, 113, 153, 0, 24, 29, 184, 0, 113, 153, 0, 17, 28, 155, 0, 13, 21, 4, 155, 0, 8]
abbrev dktX9_pour_0 : List UInt8 := dkwX9_pour_0 ++ dktX9_pour_1
theorem dksX9_pour_0 : cX9_pour.data.toList.drop 0 = dktX9_pour_0 := by decide +kernel
theorem dksX9_pour_1 : cX9_pour.data.toList.drop 23 = dktX9_pour_1 := dk_seg dksX9_pour_0 23 rfl rfl
theorem dksX9_pour_2 : cX9_pour.data.toList.drop 45 = dktX9_pour_2 := dk_seg dksX9_pour_1 22 rfl rfl
theorem dksX9_pour_3 : cX9_pour.data.toList.drop 67 = dktX9_pour_3 := dk_seg dksX9_pour_2 22 rfl rfl
theorem dksX9_pour_4 : cX9_pour.data.toList.drop 91 = dktX9_pour_4 := dk_seg dksX9_pour_3 24 rfl rfl
theorem dksX9_pour_5 : cX9_pour.data.toList.drop 115 = dktX9_pour_5 := dk_seg dksX9_pour_4 24 rfl rfl
theorem dksX9_pour_6 : cX9_pour.data.toList.drop 138 = dktX9_pour_6 := dk_seg dksX9_pour_5 23 rfl rfl
theorem dksX9_pour_7 : cX9_pour.data.toList.drop 160 = dktX9_pour_7 := dk_seg dksX9_pour_6 22 rfl rfl
theorem dksX9_pour_8 : cX9_pour.data.toList.drop 182 = dktX9_pour_8 := dk_seg dksX9_pour_7 22 rfl rfl
theorem dX9_pour_0 : decode cX9_pour 0 = .ok (.iload_n 1, 1) := dk_27 (dk_at dksX9_pour_0 0 rfl rfl)
theorem dX9_pour_1 : decode cX9_pour 1 = .ok (.invokestatic 113, 3) := dk_184 0 113 (dk_at dksX9_pour_0 1 rfl rfl)
theorem dX9_pour_4 : decode cX9_pour 4 = .ok (.ifCond .eq 24, 3) := dk_153 0 24 (dk_at dksX9_pour_0 4 rfl rfl)
theorem dX9_pour_7 : decode cX9_pour 7 = .ok (.iload_n 3, 1) := dk_29 (dk_at dksX9_pour_0 7 rfl rfl)
theorem dX9_pour_8 : decode cX9_pour 8 = .ok (.invokestatic 113, 3) := dk_184 0 113 (dk_at dksX9_pour_0 8 rfl rfl)
theorem dX9_pour_11 : decode cX9_pour 11 = .ok (.ifCond .eq 17, 3) := dk_153 0 17 (dk_at dksX9_pour_0 11 rfl rfl)
theorem dX9_pour_14 : decode cX9_pour 14 = .ok (.iload_n 2, 1) := dk_28 (dk_at dksX9_pour_0 14 rfl rfl)
theorem dX9_pour_15 : decode cX9_pour 15 = .ok (.ifCond .lt 13, 3) := dk_155 0 13 (dk_at dksX9_pour_0 15 rfl rfl)
theorem dX9_pour_18 : decode cX9_pour 18 = .ok (.iload 4, 2) := dk_21 4 (dk_at dksX9_pour_0 18 rfl rfl)
theorem dX9_pour_20 : decode cX9_pour 20 = .ok (.ifCond .lt 8, 3) := dk_155 0 8 (dk_at dksX9_pour_0 20 rfl rfl)
theorem dX9_pour_23 : decode cX9_pour 23 = .ok (.iload 5, 2) := dk_21 5 (dk_at dksX9_pour_1 0 rfl rfl)
theorem dX9_pour_25 : decode cX9_pour 25 = .ok (.ifCond .ge 9, 3) := dk_156 0 9 (dk_at dksX9_pour_1 2 rfl rfl)
theorem dX9_pour_28 : decode cX9_pour 28 = .ok (.aload_n 0, 1) := dk_42 (dk_at dksX9_pour_1 5 rfl rfl)
theorem dX9_pour_29 : decode cX9_pour 29 = .ok (.iconst 1, 1) := dk_4 (dk_at dksX9_pour_1 6 rfl rfl)
theorem dX9_pour_30 : decode cX9_pour 30 = .ok (.invokevirtual 109, 3) := dk_182 0 109 (dk_at dksX9_pour_1 7 rfl rfl)
theorem dX9_pour_33 : decode cX9_pour 33 = .ok (.ireturn, 1) := dk_172 (dk_at dksX9_pour_1 10 rfl rfl)
theorem dX9_pour_34 : decode cX9_pour 34 = .ok (.aload_n 0, 1) := dk_42 (dk_at dksX9_pour_1 11 rfl rfl)
theorem dX9_pour_35 : decode cX9_pour 35 = .ok (.getfield 27, 3) := dk_180 0 27 (dk_at dksX9_pour_1 12 rfl rfl)
theorem dX9_pour_38 : decode cX9_pour 38 = .ok (.iload_n 1, 1) := dk_27 (dk_at dksX9_pour_1 15 rfl rfl)
theorem dX9_pour_39 : decode cX9_pour 39 = .ok (.iaload, 1) := dk_46 (dk_at dksX9_pour_1 16 rfl rfl)
theorem dX9_pour_40 : decode cX9_pour 40 = .ok (.iconst (-1), 1) := dk_2 (dk_at dksX9_pour_1 17 rfl rfl)
theorem dX9_pour_41 : decode cX9_pour 41 = .ok (.if_icmp .eq 13, 3) := dk_159 0 13 (dk_at dksX9_pour_1 18 rfl rfl)
theorem dX9_pour_44 : decode cX9_pour 44 = .ok (.aload_n 0, 1) := dk_42 (dk_at dksX9_pour_1 21 rfl rfl)
theorem dX9_pour_45 : decode cX9_pour 45 = .ok (.getfield 27, 3) := dk_180 0 27 (dk_at dksX9_pour_2 0 rfl rfl)
theorem dX9_pour_48 : decode cX9_pour 48 = .ok (.iload_n 3, 1) := dk_29 (dk_at dksX9_pour_2 3 rfl rfl)
theorem dX9_pour_49 : decode cX9_pour 49 = .ok (.iaload, 1) := dk_46 (dk_at dksX9_pour_2 4 rfl rfl)
theorem dX9_pour_50 : decode cX9_pour 50 = .ok (.iconst (-1), 1) := dk_2 (dk_at dksX9_pour_2 5 rfl rfl)
theorem dX9_pour_51 : decode cX9_pour 51 = .ok (.if_icmp .ne 9, 3) := dk_160 0 9 (dk_at dksX9_pour_2 6 rfl rfl)
theorem dX9_pour_54 : decode cX9_pour 54 = .ok (.aload_n 0, 1) := dk_42 (dk_at dksX9_pour_2 9 rfl rfl)
theorem dX9_pour_55 : decode cX9_pour 55 = .ok (.iconst 2, 1) := dk_5 (dk_at dksX9_pour_2 10 rfl rfl)
theorem dX9_pour_56 : decode cX9_pour 56 = .ok (.invokevirtual 109, 3) := dk_182 0 109 (dk_at dksX9_pour_2 11 rfl rfl)
theorem dX9_pour_59 : decode cX9_pour 59 = .ok (.ireturn, 1) := dk_172 (dk_at dksX9_pour_2 14 rfl rfl)
theorem dX9_pour_60 : decode cX9_pour 60 = .ok (.aload_n 0, 1) := dk_42 (dk_at dksX9_pour_2 15 rfl rfl)
theorem dX9_pour_61 : decode cX9_pour 61 = .ok (.getfield 24, 3) := dk_180 0 24 (dk_at dksX9_pour_2 16 rfl rfl)
theorem dX9_pour_64 : decode cX9_pour 64 = .ok (.iload_n 1, 1) := dk_27 (dk_at dksX9_pour_2 19 rfl rfl)
theorem dX9_pour_65 : decode cX9_pour 65 = .ok (.iaload, 1) := dk_46 (dk_at dksX9_pour_2 20 rfl rfl)
theorem dX9_pour_66 : decode cX9_pour 66 = .ok (.aload_n 0, 1) := dk_42 (dk_at dksX9_pour_2 21 rfl rfl)
theorem dX9_pour_67 : decode cX9_pour 67 = .ok (.getfield 24, 3) := dk_180 0 24 (dk_at dksX9_pour_3 0 rfl rfl)
theorem dX9_pour_70 : decode cX9_pour 70 = .ok (.iload_n 3, 1) := dk_29 (dk_at dksX9_pour_3 3 rfl rfl)
theorem dX9_pour_71 : decode cX9_pour 71 = .ok (.iaload, 1) := dk_46 (dk_at dksX9_pour_3 4 rfl rfl)
theorem dX9_pour_72 : decode cX9_pour 72 = .ok (.if_icmp .eq 10, 3) := dk_159 0 10 (dk_at dksX9_pour_3 5 rfl rfl)
theorem dX9_pour_75 : decode cX9_pour 75 = .ok (.aload_n 0, 1) := dk_42 (dk_at dksX9_pour_3 8 rfl rfl)
theorem dX9_pour_76 : decode cX9_pour 76 = .ok (.bipush 8, 2) := dk_16 8 (dk_at dksX9_pour_3 9 rfl rfl)
theorem dX9_pour_78 : decode cX9_pour 78 = .ok (.invokevirtual 109, 3) := dk_182 0 109 (dk_at dksX9_pour_3 11 rfl rfl)
theorem dX9_pour_81 : decode cX9_pour 81 = .ok (.ireturn, 1) := dk_172 (dk_at dksX9_pour_3 14 rfl rfl)
theorem dX9_pour_82 : decode cX9_pour 82 = .ok (.iload 5, 2) := dk_21 5 (dk_at dksX9_pour_3 15 rfl rfl)
theorem dX9_pour_84 : decode cX9_pour 84 = .ok (.aload_n 0, 1) := dk_42 (dk_at dksX9_pour_3 17 rfl rfl)
theorem dX9_pour_85 : decode cX9_pour 85 = .ok (.getfield 27, 3) := dk_180 0 27 (dk_at dksX9_pour_3 18 rfl rfl)
theorem dX9_pour_88 : decode cX9_pour 88 = .ok (.iload_n 1, 1) := dk_27 (dk_at dksX9_pour_3 21 rfl rfl)
theorem dX9_pour_89 : decode cX9_pour 89 = .ok (.iaload, 1) := dk_46 (dk_at dksX9_pour_3 22 rfl rfl)
theorem dX9_pour_90 : decode cX9_pour 90 = .ok (.iload_n 2, 1) := dk_28 (dk_at dksX9_pour_3 23 rfl rfl)
theorem dX9_pour_91 : decode cX9_pour 91 = .ok (.isub, 1) := dk_100 (dk_at dksX9_pour_4 0 rfl rfl)
theorem dX9_pour_92 : decode cX9_pour 92 = .ok (.if_icmp .gt 17, 3) := dk_163 0 17 (dk_at dksX9_pour_4 1 rfl rfl)
theorem dX9_pour_95 : decode cX9_pour 95 = .ok (.iload 5, 2) := dk_21 5 (dk_at dksX9_pour_4 4 rfl rfl)
theorem dX9_pour_97 : decode cX9_pour 97 = .ok (.aload_n 0, 1) := dk_42 (dk_at dksX9_pour_4 6 rfl rfl)
theorem dX9_pour_98 : decode cX9_pour 98 = .ok (.getfield 27, 3) := dk_180 0 27 (dk_at dksX9_pour_4 7 rfl rfl)
theorem dX9_pour_101 : decode cX9_pour 101 = .ok (.iload_n 3, 1) := dk_29 (dk_at dksX9_pour_4 10 rfl rfl)
theorem dX9_pour_102 : decode cX9_pour 102 = .ok (.iaload, 1) := dk_46 (dk_at dksX9_pour_4 11 rfl rfl)
theorem dX9_pour_103 : decode cX9_pour 103 = .ok (.iload 4, 2) := dk_21 4 (dk_at dksX9_pour_4 12 rfl rfl)
theorem dX9_pour_105 : decode cX9_pour 105 = .ok (.isub, 1) := dk_100 (dk_at dksX9_pour_4 14 rfl rfl)
theorem dX9_pour_106 : decode cX9_pour 106 = .ok (.if_icmp .le 9, 3) := dk_164 0 9 (dk_at dksX9_pour_4 15 rfl rfl)
theorem dX9_pour_109 : decode cX9_pour 109 = .ok (.aload_n 0, 1) := dk_42 (dk_at dksX9_pour_4 18 rfl rfl)
theorem dX9_pour_110 : decode cX9_pour 110 = .ok (.iconst 3, 1) := dk_6 (dk_at dksX9_pour_4 19 rfl rfl)
theorem dX9_pour_111 : decode cX9_pour 111 = .ok (.invokevirtual 109, 3) := dk_182 0 109 (dk_at dksX9_pour_4 20 rfl rfl)
theorem dX9_pour_114 : decode cX9_pour 114 = .ok (.ireturn, 1) := dk_172 (dk_at dksX9_pour_4 23 rfl rfl)
theorem dX9_pour_115 : decode cX9_pour 115 = .ok (.iconst 0, 1) := dk_3 (dk_at dksX9_pour_5 0 rfl rfl)
theorem dX9_pour_116 : decode cX9_pour 116 = .ok (.istore 6, 2) := dk_54 6 (dk_at dksX9_pour_5 1 rfl rfl)
theorem dX9_pour_118 : decode cX9_pour 118 = .ok (.iload 6, 2) := dk_21 6 (dk_at dksX9_pour_5 3 rfl rfl)
theorem dX9_pour_120 : decode cX9_pour 120 = .ok (.iload 5, 2) := dk_21 5 (dk_at dksX9_pour_5 5 rfl rfl)
theorem dX9_pour_122 : decode cX9_pour 122 = .ok (.if_icmp .ge 58, 3) := dk_162 0 58 (dk_at dksX9_pour_5 7 rfl rfl)
theorem dX9_pour_125 : decode cX9_pour 125 = .ok (.iload_n 2, 1) := dk_28 (dk_at dksX9_pour_5 10 rfl rfl)
theorem dX9_pour_126 : decode cX9_pour 126 = .ok (.iload 4, 2) := dk_21 4 (dk_at dksX9_pour_5 11 rfl rfl)
theorem dX9_pour_128 : decode cX9_pour 128 = .ok (.if_icmp .ge 13, 3) := dk_162 0 13 (dk_at dksX9_pour_5 13 rfl rfl)
theorem dX9_pour_131 : decode cX9_pour 131 = .ok (.iload 5, 2) := dk_21 5 (dk_at dksX9_pour_5 16 rfl rfl)
theorem dX9_pour_133 : decode cX9_pour 133 = .ok (.iconst 1, 1) := dk_4 (dk_at dksX9_pour_5 18 rfl rfl)
theorem dX9_pour_134 : decode cX9_pour 134 = .ok (.isub, 1) := dk_100 (dk_at dksX9_pour_5 19 rfl rfl)
theorem dX9_pour_135 : decode cX9_pour 135 = .ok (.iload 6, 2) := dk_21 6 (dk_at dksX9_pour_5 20 rfl rfl)
theorem dX9_pour_137 : decode cX9_pour 137 = .ok (.isub, 1) := dk_100 (dk_at dksX9_pour_5 22 rfl rfl)
theorem dX9_pour_138 : decode cX9_pour 138 = .ok (.goto 5, 3) := dk_167 0 5 (dk_at dksX9_pour_6 0 rfl rfl)
theorem dX9_pour_141 : decode cX9_pour 141 = .ok (.iload 6, 2) := dk_21 6 (dk_at dksX9_pour_6 3 rfl rfl)
theorem dX9_pour_143 : decode cX9_pour 143 = .ok (.istore 7, 2) := dk_54 7 (dk_at dksX9_pour_6 5 rfl rfl)
theorem dX9_pour_145 : decode cX9_pour 145 = .ok (.aload_n 0, 1) := dk_42 (dk_at dksX9_pour_6 7 rfl rfl)
theorem dX9_pour_146 : decode cX9_pour 146 = .ok (.getfield 30, 3) := dk_180 0 30 (dk_at dksX9_pour_6 8 rfl rfl)
theorem dX9_pour_149 : decode cX9_pour 149 = .ok (.bipush 60, 2) := dk_16 60 (dk_at dksX9_pour_6 11 rfl rfl)
theorem dX9_pour_151 : decode cX9_pour 151 = .ok (.iload_n 3, 1) := dk_29 (dk_at dksX9_pour_6 13 rfl rfl)
theorem dX9_pour_152 : decode cX9_pour 152 = .ok (.imul, 1) := dk_104 (dk_at dksX9_pour_6 14 rfl rfl)
theorem dX9_pour_153 : decode cX9_pour 153 = .ok (.iload 4, 2) := dk_21 4 (dk_at dksX9_pour_6 15 rfl rfl)
theorem dX9_pour_155 : decode cX9_pour 155 = .ok (.iadd, 1) := dk_96 (dk_at dksX9_pour_6 17 rfl rfl)
theorem dX9_pour_156 : decode cX9_pour 156 = .ok (.iload 7, 2) := dk_21 7 (dk_at dksX9_pour_6 18 rfl rfl)
theorem dX9_pour_158 : decode cX9_pour 158 = .ok (.iadd, 1) := dk_96 (dk_at dksX9_pour_6 20 rfl rfl)
theorem dX9_pour_159 : decode cX9_pour 159 = .ok (.aload_n 0, 1) := dk_42 (dk_at dksX9_pour_6 21 rfl rfl)
theorem dX9_pour_160 : decode cX9_pour 160 = .ok (.getfield 30, 3) := dk_180 0 30 (dk_at dksX9_pour_7 0 rfl rfl)
theorem dX9_pour_163 : decode cX9_pour 163 = .ok (.bipush 60, 2) := dk_16 60 (dk_at dksX9_pour_7 3 rfl rfl)
theorem dX9_pour_165 : decode cX9_pour 165 = .ok (.iload_n 1, 1) := dk_27 (dk_at dksX9_pour_7 5 rfl rfl)
theorem dX9_pour_166 : decode cX9_pour 166 = .ok (.imul, 1) := dk_104 (dk_at dksX9_pour_7 6 rfl rfl)
theorem dX9_pour_167 : decode cX9_pour 167 = .ok (.iload_n 2, 1) := dk_28 (dk_at dksX9_pour_7 7 rfl rfl)
theorem dX9_pour_168 : decode cX9_pour 168 = .ok (.iadd, 1) := dk_96 (dk_at dksX9_pour_7 8 rfl rfl)
theorem dX9_pour_169 : decode cX9_pour 169 = .ok (.iload 7, 2) := dk_21 7 (dk_at dksX9_pour_7 9 rfl rfl)
theorem dX9_pour_171 : decode cX9_pour 171 = .ok (.iadd, 1) := dk_96 (dk_at dksX9_pour_7 11 rfl rfl)
theorem dX9_pour_172 : decode cX9_pour 172 = .ok (.laload, 1) := dk_47 (dk_at dksX9_pour_7 12 rfl rfl)
theorem dX9_pour_173 : decode cX9_pour 173 = .ok (.lastore, 1) := dk_80 (dk_at dksX9_pour_7 13 rfl rfl)
theorem dX9_pour_174 : decode cX9_pour 174 = .ok (.iinc 6 1, 3) := dk_132 6 1 (dk_at dksX9_pour_7 14 rfl rfl)
theorem dX9_pour_177 : decode cX9_pour 177 = .ok (.goto (-59), 3) := dk_167 255 197 (dk_at dksX9_pour_7 17 rfl rfl)
theorem dX9_pour_180 : decode cX9_pour 180 = .ok (.aload_n 0, 1) := dk_42 (dk_at dksX9_pour_7 20 rfl rfl)
theorem dX9_pour_181 : decode cX9_pour 181 = .ok (.iconst 0, 1) := dk_3 (dk_at dksX9_pour_7 21 rfl rfl)
theorem dX9_pour_182 : decode cX9_pour 182 = .ok (.invokevirtual 109, 3) := dk_182 0 109 (dk_at dksX9_pour_8 0 rfl rfl)
theorem dX9_pour_185 : decode cX9_pour 185 = .ok (.ireturn, 1) := dk_172 (dk_at dksX9_pour_8 3 rfl rfl)
abbrev cX9_feed : ByteArray := prog_19_method_19_code
def yX9_feed : MethodName := ⟨RX9, "feed", "(IIIII)I"⟩
def dkwX9_feed_2 : List UInt8 := [172]
abbrev dktX9_feed_2 : List UInt8 := dkwX9_feed_2 ++ []
def dkwX9_feed_1 : List UInt8 := [182, 0, 129, 42, 29, 182, 0, 129, 42, 21, 4, 182, 0, 129, 42, 21, 5, 182, 0, 129, 42, 180, 0, 126]
abbrev dktX9_feed_1 : List UInt8 := dkwX9_feed_1 ++ dktX9_feed_2
def dkwX9_feed_0 : List UInt8 := [42, 180, 0, 126, 16, 20, 96, 17, 3, 132, 164, 0, 5, 2, 172, 42, 27, 182, 0, 129, 42, 28]
abbrev dktX9_feed_0 : List UInt8 := dkwX9_feed_0 ++ dktX9_feed_1
theorem dksX9_feed_0 : cX9_feed.data.toList.drop 0 = dktX9_feed_0 := by decide +kernel
theorem dksX9_feed_1 : cX9_feed.data.toList.drop 22 = dktX9_feed_1 := dk_seg dksX9_feed_0 22 rfl rfl
theorem dksX9_feed_2 : cX9_feed.data.toList.drop 46 = dktX9_feed_2 := dk_seg dksX9_feed_1 24 rfl rfl
theorem dX9_feed_0 : decode cX9_feed 0 = .ok (.aload_n 0, 1) := dk_42 (dk_at dksX9_feed_0 0 rfl rfl)
theorem dX9_feed_1 : decode cX9_feed 1 = .ok (.getfield 126, 3) := dk_180 0 126 (dk_at dksX9_feed_0 1 rfl rfl)
theorem dX9_feed_4 : decode cX9_feed 4 = .ok (.bipush 20, 2) := dk_16 20 (dk_at dksX9_feed_0 4 rfl rfl)
theorem dX9_feed_6 : decode cX9_feed 6 = .ok (.iadd, 1) := dk_96 (dk_at dksX9_feed_0 6 rfl rfl)
theorem dX9_feed_7 : decode cX9_feed 7 = .ok (.sipush 900, 3) := dk_17 3 132 (dk_at dksX9_feed_0 7 rfl rfl)
theorem dX9_feed_10 : decode cX9_feed 10 = .ok (.if_icmp .le 5, 3) := dk_164 0 5 (dk_at dksX9_feed_0 10 rfl rfl)
theorem dX9_feed_13 : decode cX9_feed 13 = .ok (.iconst (-1), 1) := dk_2 (dk_at dksX9_feed_0 13 rfl rfl)
theorem dX9_feed_14 : decode cX9_feed 14 = .ok (.ireturn, 1) := dk_172 (dk_at dksX9_feed_0 14 rfl rfl)
theorem dX9_feed_15 : decode cX9_feed 15 = .ok (.aload_n 0, 1) := dk_42 (dk_at dksX9_feed_0 15 rfl rfl)
theorem dX9_feed_16 : decode cX9_feed 16 = .ok (.iload_n 1, 1) := dk_27 (dk_at dksX9_feed_0 16 rfl rfl)
theorem dX9_feed_17 : decode cX9_feed 17 = .ok (.invokevirtual 129, 3) := dk_182 0 129 (dk_at dksX9_feed_0 17 rfl rfl)
theorem dX9_feed_20 : decode cX9_feed 20 = .ok (.aload_n 0, 1) := dk_42 (dk_at dksX9_feed_0 20 rfl rfl)
theorem dX9_feed_21 : decode cX9_feed 21 = .ok (.iload_n 2, 1) := dk_28 (dk_at dksX9_feed_0 21 rfl rfl)
theorem dX9_feed_22 : decode cX9_feed 22 = .ok (.invokevirtual 129, 3) := dk_182 0 129 (dk_at dksX9_feed_1 0 rfl rfl)
theorem dX9_feed_25 : decode cX9_feed 25 = .ok (.aload_n 0, 1) := dk_42 (dk_at dksX9_feed_1 3 rfl rfl)
theorem dX9_feed_26 : decode cX9_feed 26 = .ok (.iload_n 3, 1) := dk_29 (dk_at dksX9_feed_1 4 rfl rfl)
theorem dX9_feed_27 : decode cX9_feed 27 = .ok (.invokevirtual 129, 3) := dk_182 0 129 (dk_at dksX9_feed_1 5 rfl rfl)
theorem dX9_feed_30 : decode cX9_feed 30 = .ok (.aload_n 0, 1) := dk_42 (dk_at dksX9_feed_1 8 rfl rfl)
theorem dX9_feed_31 : decode cX9_feed 31 = .ok (.iload 4, 2) := dk_21 4 (dk_at dksX9_feed_1 9 rfl rfl)
theorem dX9_feed_33 : decode cX9_feed 33 = .ok (.invokevirtual 129, 3) := dk_182 0 129 (dk_at dksX9_feed_1 11 rfl rfl)
theorem dX9_feed_36 : decode cX9_feed 36 = .ok (.aload_n 0, 1) := dk_42 (dk_at dksX9_feed_1 14 rfl rfl)
theorem dX9_feed_37 : decode cX9_feed 37 = .ok (.iload 5, 2) := dk_21 5 (dk_at dksX9_feed_1 15 rfl rfl)
theorem dX9_feed_39 : decode cX9_feed 39 = .ok (.invokevirtual 129, 3) := dk_182 0 129 (dk_at dksX9_feed_1 17 rfl rfl)
theorem dX9_feed_42 : decode cX9_feed 42 = .ok (.aload_n 0, 1) := dk_42 (dk_at dksX9_feed_1 20 rfl rfl)
theorem dX9_feed_43 : decode cX9_feed 43 = .ok (.getfield 126, 3) := dk_180 0 126 (dk_at dksX9_feed_1 21 rfl rfl)
theorem dX9_feed_46 : decode cX9_feed 46 = .ok (.ireturn, 1) := dk_172 (dk_at dksX9_feed_2 0 rfl rfl)
abbrev cX9_four : ByteArray := prog_19_method_20_code
def yX9_four : MethodName := ⟨RX9, "four", "(I)V"⟩
def dkwX9_four_1 : List UInt8 := [180, 0, 126, 4, 96, 181, 0, 126, 132, 2, 248, 167, 255, 226, 177]
abbrev dktX9_four_1 : List UInt8 := dkwX9_four_1 ++ []
def dkwX9_four_0 : List UInt8 := [16, 24, 61, 28, 155, 0, 32, 42, 180, 0, 33, 42, 180, 0, 126, 27, 28, 122, 145, 84, 42, 89]
abbrev dktX9_four_0 : List UInt8 := dkwX9_four_0 ++ dktX9_four_1
theorem dksX9_four_0 : cX9_four.data.toList.drop 0 = dktX9_four_0 := by decide +kernel
theorem dksX9_four_1 : cX9_four.data.toList.drop 22 = dktX9_four_1 := dk_seg dksX9_four_0 22 rfl rfl
theorem dX9_four_0 : decode cX9_four 0 = .ok (.bipush 24, 2) := dk_16 24 (dk_at dksX9_four_0 0 rfl rfl)
theorem dX9_four_2 : decode cX9_four 2 = .ok (.istore_n 2, 1) := dk_61 (dk_at dksX9_four_0 2 rfl rfl)
theorem dX9_four_3 : decode cX9_four 3 = .ok (.iload_n 2, 1) := dk_28 (dk_at dksX9_four_0 3 rfl rfl)
theorem dX9_four_4 : decode cX9_four 4 = .ok (.ifCond .lt 32, 3) := dk_155 0 32 (dk_at dksX9_four_0 4 rfl rfl)
theorem dX9_four_7 : decode cX9_four 7 = .ok (.aload_n 0, 1) := dk_42 (dk_at dksX9_four_0 7 rfl rfl)
theorem dX9_four_8 : decode cX9_four 8 = .ok (.getfield 33, 3) := dk_180 0 33 (dk_at dksX9_four_0 8 rfl rfl)
theorem dX9_four_11 : decode cX9_four 11 = .ok (.aload_n 0, 1) := dk_42 (dk_at dksX9_four_0 11 rfl rfl)
theorem dX9_four_12 : decode cX9_four 12 = .ok (.getfield 126, 3) := dk_180 0 126 (dk_at dksX9_four_0 12 rfl rfl)
theorem dX9_four_15 : decode cX9_four 15 = .ok (.iload_n 1, 1) := dk_27 (dk_at dksX9_four_0 15 rfl rfl)
theorem dX9_four_16 : decode cX9_four 16 = .ok (.iload_n 2, 1) := dk_28 (dk_at dksX9_four_0 16 rfl rfl)
theorem dX9_four_17 : decode cX9_four 17 = .ok (.ishr, 1) := dk_122 (dk_at dksX9_four_0 17 rfl rfl)
theorem dX9_four_18 : decode cX9_four 18 = .ok (.i2b, 1) := dk_145 (dk_at dksX9_four_0 18 rfl rfl)
theorem dX9_four_19 : decode cX9_four 19 = .ok (.bastore, 1) := dk_84 (dk_at dksX9_four_0 19 rfl rfl)
theorem dX9_four_20 : decode cX9_four 20 = .ok (.aload_n 0, 1) := dk_42 (dk_at dksX9_four_0 20 rfl rfl)
theorem dX9_four_21 : decode cX9_four 21 = .ok (.dup, 1) := dk_89 (dk_at dksX9_four_0 21 rfl rfl)
theorem dX9_four_22 : decode cX9_four 22 = .ok (.getfield 126, 3) := dk_180 0 126 (dk_at dksX9_four_1 0 rfl rfl)
theorem dX9_four_25 : decode cX9_four 25 = .ok (.iconst 1, 1) := dk_4 (dk_at dksX9_four_1 3 rfl rfl)
theorem dX9_four_26 : decode cX9_four 26 = .ok (.iadd, 1) := dk_96 (dk_at dksX9_four_1 4 rfl rfl)
theorem dX9_four_27 : decode cX9_four 27 = .ok (.putfield 126, 3) := dk_181 0 126 (dk_at dksX9_four_1 5 rfl rfl)
theorem dX9_four_30 : decode cX9_four 30 = .ok (.iinc 2 (-8), 3) := dk_132 2 248 (dk_at dksX9_four_1 8 rfl rfl)
theorem dX9_four_33 : decode cX9_four 33 = .ok (.goto (-30), 3) := dk_167 255 226 (dk_at dksX9_four_1 11 rfl rfl)
theorem dX9_four_36 : decode cX9_four 36 = .ok (.return_, 1) := dk_177 (dk_at dksX9_four_1 14 rfl rfl)
abbrev cX9_fault : ByteArray := prog_19_method_35_code
def yX9_fault : MethodName := ⟨RX9, "fault", "(I)I"⟩
def dkwX9_fault_1 : List UInt8 := [172]
abbrev dktX9_fault_1 : List UInt8 := dkwX9_fault_1 ++ []
def dkwX9_fault_0 : List UInt8 := [27, 154, 0, 10, 42, 180, 0, 40, 167, 0, 16, 27, 4, 160, 0, 10, 42, 180, 0, 44, 167, 0, 4, 2]
abbrev dktX9_fault_0 : List UInt8 := dkwX9_fault_0 ++ dktX9_fault_1
theorem dksX9_fault_0 : cX9_fault.data.toList.drop 0 = dktX9_fault_0 := by decide +kernel
theorem dksX9_fault_1 : cX9_fault.data.toList.drop 24 = dktX9_fault_1 := dk_seg dksX9_fault_0 24 rfl rfl
theorem dX9_fault_0 : decode cX9_fault 0 = .ok (.iload_n 1, 1) := dk_27 (dk_at dksX9_fault_0 0 rfl rfl)
theorem dX9_fault_1 : decode cX9_fault 1 = .ok (.ifCond .ne 10, 3) := dk_154 0 10 (dk_at dksX9_fault_0 1 rfl rfl)
theorem dX9_fault_4 : decode cX9_fault 4 = .ok (.aload_n 0, 1) := dk_42 (dk_at dksX9_fault_0 4 rfl rfl)
theorem dX9_fault_5 : decode cX9_fault 5 = .ok (.getfield 40, 3) := dk_180 0 40 (dk_at dksX9_fault_0 5 rfl rfl)
theorem dX9_fault_8 : decode cX9_fault 8 = .ok (.goto 16, 3) := dk_167 0 16 (dk_at dksX9_fault_0 8 rfl rfl)
theorem dX9_fault_11 : decode cX9_fault 11 = .ok (.iload_n 1, 1) := dk_27 (dk_at dksX9_fault_0 11 rfl rfl)
theorem dX9_fault_12 : decode cX9_fault 12 = .ok (.iconst 1, 1) := dk_4 (dk_at dksX9_fault_0 12 rfl rfl)
theorem dX9_fault_13 : decode cX9_fault 13 = .ok (.if_icmp .ne 10, 3) := dk_160 0 10 (dk_at dksX9_fault_0 13 rfl rfl)
theorem dX9_fault_16 : decode cX9_fault 16 = .ok (.aload_n 0, 1) := dk_42 (dk_at dksX9_fault_0 16 rfl rfl)
theorem dX9_fault_17 : decode cX9_fault 17 = .ok (.getfield 44, 3) := dk_180 0 44 (dk_at dksX9_fault_0 17 rfl rfl)
theorem dX9_fault_20 : decode cX9_fault 20 = .ok (.goto 4, 3) := dk_167 0 4 (dk_at dksX9_fault_0 20 rfl rfl)
theorem dX9_fault_23 : decode cX9_fault 23 = .ok (.iconst (-1), 1) := dk_2 (dk_at dksX9_fault_0 23 rfl rfl)
theorem dX9_fault_24 : decode cX9_fault 24 = .ok (.ireturn, 1) := dk_172 (dk_at dksX9_fault_1 0 rfl rfl)
abbrev cX9_court : ByteArray := prog_19_method_57_code
def yX9_court : MethodName := ⟨RX9, "court", "(I)I"⟩
def dkwX9_court_4 : List UInt8 := [182, 1, 44, 172]
abbrev dktX9_court_4 : List UInt8 := dkwX9_court_4 ++ []
def dkwX9_court_3 : List UInt8 := [180, 0, 7, 17, 6, 67, 46, 154, 0, 7, 42, 182, 1, 15, 42, 182, 0, 97, 42, 42, 3, 182, 1, 42]
abbrev dktX9_court_3 : List UInt8 := dkwX9_court_3 ++ dktX9_court_4
def dkwX9_court_2 : List UInt8 := [42, 180, 0, 149, 153, 0, 11, 42, 182, 1, 39, 61, 167, 255, 240, 42, 180, 0, 174, 154, 0, 22, 42]
abbrev dktX9_court_2 : List UInt8 := dkwX9_court_2 ++ dktX9_court_3
def dkwX9_court_1 : List UInt8 := [16, 24, 162, 0, 16, 42, 180, 0, 47, 28, 3, 79, 132, 2, 1, 167, 255, 240, 4, 61, 28, 153, 0, 18]
abbrev dktX9_court_1 : List UInt8 := dkwX9_court_1 ++ dktX9_court_2
def dkwX9_court_0 : List UInt8 := [42, 27, 17, 3, 132, 182, 1, 36, 154, 0, 9, 42, 4, 182, 0, 197, 172, 42, 182, 0, 94, 3, 61, 28]
abbrev dktX9_court_0 : List UInt8 := dkwX9_court_0 ++ dktX9_court_1
theorem dksX9_court_0 : cX9_court.data.toList.drop 0 = dktX9_court_0 := by decide +kernel
theorem dksX9_court_1 : cX9_court.data.toList.drop 24 = dktX9_court_1 := dk_seg dksX9_court_0 24 rfl rfl
theorem dksX9_court_2 : cX9_court.data.toList.drop 48 = dktX9_court_2 := dk_seg dksX9_court_1 24 rfl rfl
theorem dksX9_court_3 : cX9_court.data.toList.drop 71 = dktX9_court_3 := dk_seg dksX9_court_2 23 rfl rfl
theorem dksX9_court_4 : cX9_court.data.toList.drop 95 = dktX9_court_4 := dk_seg dksX9_court_3 24 rfl rfl
theorem dX9_court_0 : decode cX9_court 0 = .ok (.aload_n 0, 1) := dk_42 (dk_at dksX9_court_0 0 rfl rfl)
theorem dX9_court_1 : decode cX9_court 1 = .ok (.iload_n 1, 1) := dk_27 (dk_at dksX9_court_0 1 rfl rfl)
theorem dX9_court_2 : decode cX9_court 2 = .ok (.sipush 900, 3) := dk_17 3 132 (dk_at dksX9_court_0 2 rfl rfl)
theorem dX9_court_5 : decode cX9_court 5 = .ok (.invokevirtual 292, 3) := dk_182 1 36 (dk_at dksX9_court_0 5 rfl rfl)
theorem dX9_court_8 : decode cX9_court 8 = .ok (.ifCond .ne 9, 3) := dk_154 0 9 (dk_at dksX9_court_0 8 rfl rfl)
theorem dX9_court_11 : decode cX9_court 11 = .ok (.aload_n 0, 1) := dk_42 (dk_at dksX9_court_0 11 rfl rfl)
theorem dX9_court_12 : decode cX9_court 12 = .ok (.iconst 1, 1) := dk_4 (dk_at dksX9_court_0 12 rfl rfl)
theorem dX9_court_13 : decode cX9_court 13 = .ok (.invokevirtual 197, 3) := dk_182 0 197 (dk_at dksX9_court_0 13 rfl rfl)
theorem dX9_court_16 : decode cX9_court 16 = .ok (.ireturn, 1) := dk_172 (dk_at dksX9_court_0 16 rfl rfl)
theorem dX9_court_17 : decode cX9_court 17 = .ok (.aload_n 0, 1) := dk_42 (dk_at dksX9_court_0 17 rfl rfl)
theorem dX9_court_18 : decode cX9_court 18 = .ok (.invokevirtual 94, 3) := dk_182 0 94 (dk_at dksX9_court_0 18 rfl rfl)
theorem dX9_court_21 : decode cX9_court 21 = .ok (.iconst 0, 1) := dk_3 (dk_at dksX9_court_0 21 rfl rfl)
theorem dX9_court_22 : decode cX9_court 22 = .ok (.istore_n 2, 1) := dk_61 (dk_at dksX9_court_0 22 rfl rfl)
theorem dX9_court_23 : decode cX9_court 23 = .ok (.iload_n 2, 1) := dk_28 (dk_at dksX9_court_0 23 rfl rfl)
theorem dX9_court_24 : decode cX9_court 24 = .ok (.bipush 24, 2) := dk_16 24 (dk_at dksX9_court_1 0 rfl rfl)
theorem dX9_court_26 : decode cX9_court 26 = .ok (.if_icmp .ge 16, 3) := dk_162 0 16 (dk_at dksX9_court_1 2 rfl rfl)
theorem dX9_court_29 : decode cX9_court 29 = .ok (.aload_n 0, 1) := dk_42 (dk_at dksX9_court_1 5 rfl rfl)
theorem dX9_court_30 : decode cX9_court 30 = .ok (.getfield 47, 3) := dk_180 0 47 (dk_at dksX9_court_1 6 rfl rfl)
theorem dX9_court_33 : decode cX9_court 33 = .ok (.iload_n 2, 1) := dk_28 (dk_at dksX9_court_1 9 rfl rfl)
theorem dX9_court_34 : decode cX9_court 34 = .ok (.iconst 0, 1) := dk_3 (dk_at dksX9_court_1 10 rfl rfl)
theorem dX9_court_35 : decode cX9_court 35 = .ok (.iastore, 1) := dk_79 (dk_at dksX9_court_1 11 rfl rfl)
theorem dX9_court_36 : decode cX9_court 36 = .ok (.iinc 2 1, 3) := dk_132 2 1 (dk_at dksX9_court_1 12 rfl rfl)
theorem dX9_court_39 : decode cX9_court 39 = .ok (.goto (-16), 3) := dk_167 255 240 (dk_at dksX9_court_1 15 rfl rfl)
theorem dX9_court_42 : decode cX9_court 42 = .ok (.iconst 1, 1) := dk_4 (dk_at dksX9_court_1 18 rfl rfl)
theorem dX9_court_43 : decode cX9_court 43 = .ok (.istore_n 2, 1) := dk_61 (dk_at dksX9_court_1 19 rfl rfl)
theorem dX9_court_44 : decode cX9_court 44 = .ok (.iload_n 2, 1) := dk_28 (dk_at dksX9_court_1 20 rfl rfl)
theorem dX9_court_45 : decode cX9_court 45 = .ok (.ifCond .eq 18, 3) := dk_153 0 18 (dk_at dksX9_court_1 21 rfl rfl)
theorem dX9_court_48 : decode cX9_court 48 = .ok (.aload_n 0, 1) := dk_42 (dk_at dksX9_court_2 0 rfl rfl)
theorem dX9_court_49 : decode cX9_court 49 = .ok (.getfield 149, 3) := dk_180 0 149 (dk_at dksX9_court_2 1 rfl rfl)
theorem dX9_court_52 : decode cX9_court 52 = .ok (.ifCond .eq 11, 3) := dk_153 0 11 (dk_at dksX9_court_2 4 rfl rfl)
theorem dX9_court_55 : decode cX9_court 55 = .ok (.aload_n 0, 1) := dk_42 (dk_at dksX9_court_2 7 rfl rfl)
theorem dX9_court_56 : decode cX9_court 56 = .ok (.invokevirtual 295, 3) := dk_182 1 39 (dk_at dksX9_court_2 8 rfl rfl)
theorem dX9_court_59 : decode cX9_court 59 = .ok (.istore_n 2, 1) := dk_61 (dk_at dksX9_court_2 11 rfl rfl)
theorem dX9_court_60 : decode cX9_court 60 = .ok (.goto (-16), 3) := dk_167 255 240 (dk_at dksX9_court_2 12 rfl rfl)
theorem dX9_court_63 : decode cX9_court 63 = .ok (.aload_n 0, 1) := dk_42 (dk_at dksX9_court_2 15 rfl rfl)
theorem dX9_court_64 : decode cX9_court 64 = .ok (.getfield 174, 3) := dk_180 0 174 (dk_at dksX9_court_2 16 rfl rfl)
theorem dX9_court_67 : decode cX9_court 67 = .ok (.ifCond .ne 22, 3) := dk_154 0 22 (dk_at dksX9_court_2 19 rfl rfl)
theorem dX9_court_70 : decode cX9_court 70 = .ok (.aload_n 0, 1) := dk_42 (dk_at dksX9_court_2 22 rfl rfl)
theorem dX9_court_71 : decode cX9_court 71 = .ok (.getfield 7, 3) := dk_180 0 7 (dk_at dksX9_court_3 0 rfl rfl)
theorem dX9_court_74 : decode cX9_court 74 = .ok (.sipush 1603, 3) := dk_17 6 67 (dk_at dksX9_court_3 3 rfl rfl)
theorem dX9_court_77 : decode cX9_court 77 = .ok (.iaload, 1) := dk_46 (dk_at dksX9_court_3 6 rfl rfl)
theorem dX9_court_78 : decode cX9_court 78 = .ok (.ifCond .ne 7, 3) := dk_154 0 7 (dk_at dksX9_court_3 7 rfl rfl)
theorem dX9_court_81 : decode cX9_court 81 = .ok (.aload_n 0, 1) := dk_42 (dk_at dksX9_court_3 10 rfl rfl)
theorem dX9_court_82 : decode cX9_court 82 = .ok (.invokevirtual 271, 3) := dk_182 1 15 (dk_at dksX9_court_3 11 rfl rfl)
theorem dX9_court_85 : decode cX9_court 85 = .ok (.aload_n 0, 1) := dk_42 (dk_at dksX9_court_3 14 rfl rfl)
theorem dX9_court_86 : decode cX9_court 86 = .ok (.invokevirtual 97, 3) := dk_182 0 97 (dk_at dksX9_court_3 15 rfl rfl)
theorem dX9_court_89 : decode cX9_court 89 = .ok (.aload_n 0, 1) := dk_42 (dk_at dksX9_court_3 18 rfl rfl)
theorem dX9_court_90 : decode cX9_court 90 = .ok (.aload_n 0, 1) := dk_42 (dk_at dksX9_court_3 19 rfl rfl)
theorem dX9_court_91 : decode cX9_court 91 = .ok (.iconst 0, 1) := dk_3 (dk_at dksX9_court_3 20 rfl rfl)
theorem dX9_court_92 : decode cX9_court 92 = .ok (.invokevirtual 298, 3) := dk_182 1 42 (dk_at dksX9_court_3 21 rfl rfl)
theorem dX9_court_95 : decode cX9_court 95 = .ok (.invokevirtual 300, 3) := dk_182 1 44 (dk_at dksX9_court_4 0 rfl rfl)
theorem dX9_court_98 : decode cX9_court 98 = .ok (.ireturn, 1) := dk_172 (dk_at dksX9_court_4 3 rfl rfl)
abbrev cX9_begins : ByteArray := prog_19_method_28_code
def yX9_begins : MethodName := ⟨RX9, "begins", "(II)Z"⟩
def dkwX9_begins_3 : List UInt8 := [3, 181, 0, 177, 42, 182, 0, 180, 4, 172]
abbrev dktX9_begins_3 : List UInt8 := dkwX9_begins_3 ++ []
def dkwX9_begins_2 : List UInt8 := [167, 255, 236, 42, 3, 181, 0, 126, 42, 3, 181, 0, 174, 42, 2, 181, 0, 44, 42, 3, 181, 0, 136, 42]
abbrev dktX9_begins_2 : List UInt8 := dkwX9_begins_2 ++ dktX9_begins_3
def dkwX9_begins_1 : List UInt8 := [3, 62, 29, 27, 162, 0, 21, 42, 180, 0, 37, 29, 42, 180, 0, 33, 29, 51, 84, 132, 3, 1]
abbrev dktX9_begins_1 : List UInt8 := dkwX9_begins_1 ++ dktX9_begins_2
def dkwX9_begins_0 : List UInt8 := [27, 155, 0, 16, 27, 42, 180, 0, 126, 163, 0, 8, 27, 28, 164, 0, 5, 3, 172, 42, 27, 181, 0, 133]
abbrev dktX9_begins_0 : List UInt8 := dkwX9_begins_0 ++ dktX9_begins_1
theorem dksX9_begins_0 : cX9_begins.data.toList.drop 0 = dktX9_begins_0 := by decide +kernel
theorem dksX9_begins_1 : cX9_begins.data.toList.drop 24 = dktX9_begins_1 := dk_seg dksX9_begins_0 24 rfl rfl
theorem dksX9_begins_2 : cX9_begins.data.toList.drop 46 = dktX9_begins_2 := dk_seg dksX9_begins_1 22 rfl rfl
theorem dksX9_begins_3 : cX9_begins.data.toList.drop 70 = dktX9_begins_3 := dk_seg dksX9_begins_2 24 rfl rfl
theorem dX9_begins_0 : decode cX9_begins 0 = .ok (.iload_n 1, 1) := dk_27 (dk_at dksX9_begins_0 0 rfl rfl)
theorem dX9_begins_1 : decode cX9_begins 1 = .ok (.ifCond .lt 16, 3) := dk_155 0 16 (dk_at dksX9_begins_0 1 rfl rfl)
theorem dX9_begins_4 : decode cX9_begins 4 = .ok (.iload_n 1, 1) := dk_27 (dk_at dksX9_begins_0 4 rfl rfl)
theorem dX9_begins_5 : decode cX9_begins 5 = .ok (.aload_n 0, 1) := dk_42 (dk_at dksX9_begins_0 5 rfl rfl)
theorem dX9_begins_6 : decode cX9_begins 6 = .ok (.getfield 126, 3) := dk_180 0 126 (dk_at dksX9_begins_0 6 rfl rfl)
theorem dX9_begins_9 : decode cX9_begins 9 = .ok (.if_icmp .gt 8, 3) := dk_163 0 8 (dk_at dksX9_begins_0 9 rfl rfl)
theorem dX9_begins_12 : decode cX9_begins 12 = .ok (.iload_n 1, 1) := dk_27 (dk_at dksX9_begins_0 12 rfl rfl)
theorem dX9_begins_13 : decode cX9_begins 13 = .ok (.iload_n 2, 1) := dk_28 (dk_at dksX9_begins_0 13 rfl rfl)
theorem dX9_begins_14 : decode cX9_begins 14 = .ok (.if_icmp .le 5, 3) := dk_164 0 5 (dk_at dksX9_begins_0 14 rfl rfl)
theorem dX9_begins_17 : decode cX9_begins 17 = .ok (.iconst 0, 1) := dk_3 (dk_at dksX9_begins_0 17 rfl rfl)
theorem dX9_begins_18 : decode cX9_begins 18 = .ok (.ireturn, 1) := dk_172 (dk_at dksX9_begins_0 18 rfl rfl)
theorem dX9_begins_19 : decode cX9_begins 19 = .ok (.aload_n 0, 1) := dk_42 (dk_at dksX9_begins_0 19 rfl rfl)
theorem dX9_begins_20 : decode cX9_begins 20 = .ok (.iload_n 1, 1) := dk_27 (dk_at dksX9_begins_0 20 rfl rfl)
theorem dX9_begins_21 : decode cX9_begins 21 = .ok (.putfield 133, 3) := dk_181 0 133 (dk_at dksX9_begins_0 21 rfl rfl)
theorem dX9_begins_24 : decode cX9_begins 24 = .ok (.iconst 0, 1) := dk_3 (dk_at dksX9_begins_1 0 rfl rfl)
theorem dX9_begins_25 : decode cX9_begins 25 = .ok (.istore_n 3, 1) := dk_62 (dk_at dksX9_begins_1 1 rfl rfl)
theorem dX9_begins_26 : decode cX9_begins 26 = .ok (.iload_n 3, 1) := dk_29 (dk_at dksX9_begins_1 2 rfl rfl)
theorem dX9_begins_27 : decode cX9_begins 27 = .ok (.iload_n 1, 1) := dk_27 (dk_at dksX9_begins_1 3 rfl rfl)
theorem dX9_begins_28 : decode cX9_begins 28 = .ok (.if_icmp .ge 21, 3) := dk_162 0 21 (dk_at dksX9_begins_1 4 rfl rfl)
theorem dX9_begins_31 : decode cX9_begins 31 = .ok (.aload_n 0, 1) := dk_42 (dk_at dksX9_begins_1 7 rfl rfl)
theorem dX9_begins_32 : decode cX9_begins 32 = .ok (.getfield 37, 3) := dk_180 0 37 (dk_at dksX9_begins_1 8 rfl rfl)
theorem dX9_begins_35 : decode cX9_begins 35 = .ok (.iload_n 3, 1) := dk_29 (dk_at dksX9_begins_1 11 rfl rfl)
theorem dX9_begins_36 : decode cX9_begins 36 = .ok (.aload_n 0, 1) := dk_42 (dk_at dksX9_begins_1 12 rfl rfl)
theorem dX9_begins_37 : decode cX9_begins 37 = .ok (.getfield 33, 3) := dk_180 0 33 (dk_at dksX9_begins_1 13 rfl rfl)
theorem dX9_begins_40 : decode cX9_begins 40 = .ok (.iload_n 3, 1) := dk_29 (dk_at dksX9_begins_1 16 rfl rfl)
theorem dX9_begins_41 : decode cX9_begins 41 = .ok (.baload, 1) := dk_51 (dk_at dksX9_begins_1 17 rfl rfl)
theorem dX9_begins_42 : decode cX9_begins 42 = .ok (.bastore, 1) := dk_84 (dk_at dksX9_begins_1 18 rfl rfl)
theorem dX9_begins_43 : decode cX9_begins 43 = .ok (.iinc 3 1, 3) := dk_132 3 1 (dk_at dksX9_begins_1 19 rfl rfl)
theorem dX9_begins_46 : decode cX9_begins 46 = .ok (.goto (-20), 3) := dk_167 255 236 (dk_at dksX9_begins_2 0 rfl rfl)
theorem dX9_begins_49 : decode cX9_begins 49 = .ok (.aload_n 0, 1) := dk_42 (dk_at dksX9_begins_2 3 rfl rfl)
theorem dX9_begins_50 : decode cX9_begins 50 = .ok (.iconst 0, 1) := dk_3 (dk_at dksX9_begins_2 4 rfl rfl)
theorem dX9_begins_51 : decode cX9_begins 51 = .ok (.putfield 126, 3) := dk_181 0 126 (dk_at dksX9_begins_2 5 rfl rfl)
theorem dX9_begins_54 : decode cX9_begins 54 = .ok (.aload_n 0, 1) := dk_42 (dk_at dksX9_begins_2 8 rfl rfl)
theorem dX9_begins_55 : decode cX9_begins 55 = .ok (.iconst 0, 1) := dk_3 (dk_at dksX9_begins_2 9 rfl rfl)
theorem dX9_begins_56 : decode cX9_begins 56 = .ok (.putfield 174, 3) := dk_181 0 174 (dk_at dksX9_begins_2 10 rfl rfl)
theorem dX9_begins_59 : decode cX9_begins 59 = .ok (.aload_n 0, 1) := dk_42 (dk_at dksX9_begins_2 13 rfl rfl)
theorem dX9_begins_60 : decode cX9_begins 60 = .ok (.iconst (-1), 1) := dk_2 (dk_at dksX9_begins_2 14 rfl rfl)
theorem dX9_begins_61 : decode cX9_begins 61 = .ok (.putfield 44, 3) := dk_181 0 44 (dk_at dksX9_begins_2 15 rfl rfl)
theorem dX9_begins_64 : decode cX9_begins 64 = .ok (.aload_n 0, 1) := dk_42 (dk_at dksX9_begins_2 18 rfl rfl)
theorem dX9_begins_65 : decode cX9_begins 65 = .ok (.iconst 0, 1) := dk_3 (dk_at dksX9_begins_2 19 rfl rfl)
theorem dX9_begins_66 : decode cX9_begins 66 = .ok (.putfield 136, 3) := dk_181 0 136 (dk_at dksX9_begins_2 20 rfl rfl)
theorem dX9_begins_69 : decode cX9_begins 69 = .ok (.aload_n 0, 1) := dk_42 (dk_at dksX9_begins_2 23 rfl rfl)
theorem dX9_begins_70 : decode cX9_begins 70 = .ok (.iconst 0, 1) := dk_3 (dk_at dksX9_begins_3 0 rfl rfl)
theorem dX9_begins_71 : decode cX9_begins 71 = .ok (.putfield 177, 3) := dk_181 0 177 (dk_at dksX9_begins_3 1 rfl rfl)
theorem dX9_begins_74 : decode cX9_begins 74 = .ok (.aload_n 0, 1) := dk_42 (dk_at dksX9_begins_3 4 rfl rfl)
theorem dX9_begins_75 : decode cX9_begins 75 = .ok (.invokevirtual 180, 3) := dk_182 0 180 (dk_at dksX9_begins_3 5 rfl rfl)
theorem dX9_begins_78 : decode cX9_begins 78 = .ok (.iconst 1, 1) := dk_4 (dk_at dksX9_begins_3 8 rfl rfl)
theorem dX9_begins_79 : decode cX9_begins 79 = .ok (.ireturn, 1) := dk_172 (dk_at dksX9_begins_3 9 rfl rfl)
abbrev cX9_ahead : ByteArray := prog_19_method_24_code
def yX9_ahead : MethodName := ⟨RX9, "ahead", "()V"⟩
def dkwX9_ahead_10 : List UInt8 := [16, 41, 160, 0, 7, 7, 167, 0, 4, 4, 181, 0, 149, 177]
abbrev dktX9_ahead_10 : List UInt8 := dkwX9_ahead_10 ++ []
def dkwX9_ahead_9 : List UInt8 := [89, 180, 0, 136, 4, 96, 181, 0, 136, 42, 27, 16, 59, 159, 0, 15, 27, 16, 40, 159, 0, 9, 27]
abbrev dktX9_ahead_9 : List UInt8 := dkwX9_ahead_9 ++ dktX9_ahead_10
def dkwX9_ahead_8 : List UInt8 := [180, 0, 136, 42, 180, 0, 143, 100, 7, 164, 0, 7, 4, 167, 0, 4, 6, 181, 0, 149, 167, 0, 40, 42]
abbrev dktX9_ahead_8 : List UInt8 := dkwX9_ahead_8 ++ dktX9_ahead_9
def dkwX9_ahead_7 : List UInt8 := [100, 184, 0, 159, 181, 0, 146, 42, 89, 180, 0, 136, 4, 96, 181, 0, 136, 167, 255, 204, 42, 42]
abbrev dktX9_ahead_7 : List UInt8 := dkwX9_ahead_7 ++ dktX9_ahead_8
def dkwX9_ahead_6 : List UInt8 := [153, 0, 44, 42, 18, 158, 16, 10, 42, 180, 0, 146, 104, 42, 42, 180, 0, 136, 182, 0, 139, 96, 16, 48]
abbrev dktX9_ahead_6 : List UInt8 := dkwX9_ahead_6 ++ dktX9_ahead_7
def dkwX9_ahead_5 : List UInt8 := [184, 0, 155, 153, 0, 88, 42, 3, 181, 0, 146, 42, 42, 180, 0, 136, 182, 0, 139, 184, 0, 155]
abbrev dktX9_ahead_5 : List UInt8 := dkwX9_ahead_5 ++ dktX9_ahead_6
def dkwX9_ahead_4 : List UInt8 := [42, 89, 180, 0, 136, 4, 96, 181, 0, 136, 167, 255, 232, 42, 5, 181, 0, 149, 167, 0, 132, 27]
abbrev dktX9_ahead_4 : List UInt8 := dkwX9_ahead_4 ++ dktX9_ahead_5
def dkwX9_ahead_3 : List UInt8 := [167, 0, 174, 27, 184, 0, 152, 153, 0, 38, 42, 42, 180, 0, 136, 182, 0, 139, 184, 0, 152, 153, 0, 16]
abbrev dktX9_ahead_3 : List UInt8 := dkwX9_ahead_3 ++ dktX9_ahead_4
def dkwX9_ahead_2 : List UInt8 := [42, 42, 180, 0, 136, 182, 0, 139, 60, 42, 27, 181, 0, 146, 27, 2, 160, 0, 11, 42, 3, 181, 0, 149]
abbrev dktX9_ahead_2 : List UInt8 := dkwX9_ahead_2 ++ dktX9_ahead_3
def dkwX9_ahead_1 : List UInt8 := [160, 0, 16, 42, 89, 180, 0, 136, 4, 96, 181, 0, 136, 167, 255, 220, 42, 42, 180, 0, 136, 181, 0, 143]
abbrev dktX9_ahead_1 : List UInt8 := dkwX9_ahead_1 ++ dktX9_ahead_2
def dkwX9_ahead_0 : List UInt8 := [42, 42, 180, 0, 136, 182, 0, 139, 16, 32, 159, 0, 16, 42, 42, 180, 0, 136, 182, 0, 139, 16, 10]
abbrev dktX9_ahead_0 : List UInt8 := dkwX9_ahead_0 ++ dktX9_ahead_1
theorem dksX9_ahead_0 : cX9_ahead.data.toList.drop 0 = dktX9_ahead_0 := by decide +kernel
theorem dksX9_ahead_1 : cX9_ahead.data.toList.drop 23 = dktX9_ahead_1 := dk_seg dksX9_ahead_0 23 rfl rfl
theorem dksX9_ahead_2 : cX9_ahead.data.toList.drop 47 = dktX9_ahead_2 := dk_seg dksX9_ahead_1 24 rfl rfl
theorem dksX9_ahead_3 : cX9_ahead.data.toList.drop 71 = dktX9_ahead_3 := dk_seg dksX9_ahead_2 24 rfl rfl
theorem dksX9_ahead_4 : cX9_ahead.data.toList.drop 95 = dktX9_ahead_4 := dk_seg dksX9_ahead_3 24 rfl rfl
theorem dksX9_ahead_5 : cX9_ahead.data.toList.drop 117 = dktX9_ahead_5 := dk_seg dksX9_ahead_4 22 rfl rfl
theorem dksX9_ahead_6 : cX9_ahead.data.toList.drop 139 = dktX9_ahead_6 := dk_seg dksX9_ahead_5 22 rfl rfl
theorem dksX9_ahead_7 : cX9_ahead.data.toList.drop 163 = dktX9_ahead_7 := dk_seg dksX9_ahead_6 24 rfl rfl
theorem dksX9_ahead_8 : cX9_ahead.data.toList.drop 185 = dktX9_ahead_8 := dk_seg dksX9_ahead_7 22 rfl rfl
theorem dksX9_ahead_9 : cX9_ahead.data.toList.drop 209 = dktX9_ahead_9 := dk_seg dksX9_ahead_8 24 rfl rfl
theorem dksX9_ahead_10 : cX9_ahead.data.toList.drop 232 = dktX9_ahead_10 := dk_seg dksX9_ahead_9 23 rfl rfl
theorem dX9_ahead_0 : decode cX9_ahead 0 = .ok (.aload_n 0, 1) := dk_42 (dk_at dksX9_ahead_0 0 rfl rfl)
theorem dX9_ahead_1 : decode cX9_ahead 1 = .ok (.aload_n 0, 1) := dk_42 (dk_at dksX9_ahead_0 1 rfl rfl)
theorem dX9_ahead_2 : decode cX9_ahead 2 = .ok (.getfield 136, 3) := dk_180 0 136 (dk_at dksX9_ahead_0 2 rfl rfl)
theorem dX9_ahead_5 : decode cX9_ahead 5 = .ok (.invokevirtual 139, 3) := dk_182 0 139 (dk_at dksX9_ahead_0 5 rfl rfl)
theorem dX9_ahead_8 : decode cX9_ahead 8 = .ok (.bipush 32, 2) := dk_16 32 (dk_at dksX9_ahead_0 8 rfl rfl)
theorem dX9_ahead_10 : decode cX9_ahead 10 = .ok (.if_icmp .eq 16, 3) := dk_159 0 16 (dk_at dksX9_ahead_0 10 rfl rfl)
theorem dX9_ahead_13 : decode cX9_ahead 13 = .ok (.aload_n 0, 1) := dk_42 (dk_at dksX9_ahead_0 13 rfl rfl)
theorem dX9_ahead_14 : decode cX9_ahead 14 = .ok (.aload_n 0, 1) := dk_42 (dk_at dksX9_ahead_0 14 rfl rfl)
theorem dX9_ahead_15 : decode cX9_ahead 15 = .ok (.getfield 136, 3) := dk_180 0 136 (dk_at dksX9_ahead_0 15 rfl rfl)
theorem dX9_ahead_18 : decode cX9_ahead 18 = .ok (.invokevirtual 139, 3) := dk_182 0 139 (dk_at dksX9_ahead_0 18 rfl rfl)
theorem dX9_ahead_21 : decode cX9_ahead 21 = .ok (.bipush 10, 2) := dk_16 10 (dk_at dksX9_ahead_0 21 rfl rfl)
theorem dX9_ahead_23 : decode cX9_ahead 23 = .ok (.if_icmp .ne 16, 3) := dk_160 0 16 (dk_at dksX9_ahead_1 0 rfl rfl)
theorem dX9_ahead_26 : decode cX9_ahead 26 = .ok (.aload_n 0, 1) := dk_42 (dk_at dksX9_ahead_1 3 rfl rfl)
theorem dX9_ahead_27 : decode cX9_ahead 27 = .ok (.dup, 1) := dk_89 (dk_at dksX9_ahead_1 4 rfl rfl)
theorem dX9_ahead_28 : decode cX9_ahead 28 = .ok (.getfield 136, 3) := dk_180 0 136 (dk_at dksX9_ahead_1 5 rfl rfl)
theorem dX9_ahead_31 : decode cX9_ahead 31 = .ok (.iconst 1, 1) := dk_4 (dk_at dksX9_ahead_1 8 rfl rfl)
theorem dX9_ahead_32 : decode cX9_ahead 32 = .ok (.iadd, 1) := dk_96 (dk_at dksX9_ahead_1 9 rfl rfl)
theorem dX9_ahead_33 : decode cX9_ahead 33 = .ok (.putfield 136, 3) := dk_181 0 136 (dk_at dksX9_ahead_1 10 rfl rfl)
theorem dX9_ahead_36 : decode cX9_ahead 36 = .ok (.goto (-36), 3) := dk_167 255 220 (dk_at dksX9_ahead_1 13 rfl rfl)
theorem dX9_ahead_39 : decode cX9_ahead 39 = .ok (.aload_n 0, 1) := dk_42 (dk_at dksX9_ahead_1 16 rfl rfl)
theorem dX9_ahead_40 : decode cX9_ahead 40 = .ok (.aload_n 0, 1) := dk_42 (dk_at dksX9_ahead_1 17 rfl rfl)
theorem dX9_ahead_41 : decode cX9_ahead 41 = .ok (.getfield 136, 3) := dk_180 0 136 (dk_at dksX9_ahead_1 18 rfl rfl)
theorem dX9_ahead_44 : decode cX9_ahead 44 = .ok (.putfield 143, 3) := dk_181 0 143 (dk_at dksX9_ahead_1 21 rfl rfl)
theorem dX9_ahead_47 : decode cX9_ahead 47 = .ok (.aload_n 0, 1) := dk_42 (dk_at dksX9_ahead_2 0 rfl rfl)
theorem dX9_ahead_48 : decode cX9_ahead 48 = .ok (.aload_n 0, 1) := dk_42 (dk_at dksX9_ahead_2 1 rfl rfl)
theorem dX9_ahead_49 : decode cX9_ahead 49 = .ok (.getfield 136, 3) := dk_180 0 136 (dk_at dksX9_ahead_2 2 rfl rfl)
theorem dX9_ahead_52 : decode cX9_ahead 52 = .ok (.invokevirtual 139, 3) := dk_182 0 139 (dk_at dksX9_ahead_2 5 rfl rfl)
theorem dX9_ahead_55 : decode cX9_ahead 55 = .ok (.istore_n 1, 1) := dk_60 (dk_at dksX9_ahead_2 8 rfl rfl)
theorem dX9_ahead_56 : decode cX9_ahead 56 = .ok (.aload_n 0, 1) := dk_42 (dk_at dksX9_ahead_2 9 rfl rfl)
theorem dX9_ahead_57 : decode cX9_ahead 57 = .ok (.iload_n 1, 1) := dk_27 (dk_at dksX9_ahead_2 10 rfl rfl)
theorem dX9_ahead_58 : decode cX9_ahead 58 = .ok (.putfield 146, 3) := dk_181 0 146 (dk_at dksX9_ahead_2 11 rfl rfl)
theorem dX9_ahead_61 : decode cX9_ahead 61 = .ok (.iload_n 1, 1) := dk_27 (dk_at dksX9_ahead_2 14 rfl rfl)
theorem dX9_ahead_62 : decode cX9_ahead 62 = .ok (.iconst (-1), 1) := dk_2 (dk_at dksX9_ahead_2 15 rfl rfl)
theorem dX9_ahead_63 : decode cX9_ahead 63 = .ok (.if_icmp .ne 11, 3) := dk_160 0 11 (dk_at dksX9_ahead_2 16 rfl rfl)
theorem dX9_ahead_66 : decode cX9_ahead 66 = .ok (.aload_n 0, 1) := dk_42 (dk_at dksX9_ahead_2 19 rfl rfl)
theorem dX9_ahead_67 : decode cX9_ahead 67 = .ok (.iconst 0, 1) := dk_3 (dk_at dksX9_ahead_2 20 rfl rfl)
theorem dX9_ahead_68 : decode cX9_ahead 68 = .ok (.putfield 149, 3) := dk_181 0 149 (dk_at dksX9_ahead_2 21 rfl rfl)
theorem dX9_ahead_71 : decode cX9_ahead 71 = .ok (.goto 174, 3) := dk_167 0 174 (dk_at dksX9_ahead_3 0 rfl rfl)
theorem dX9_ahead_74 : decode cX9_ahead 74 = .ok (.iload_n 1, 1) := dk_27 (dk_at dksX9_ahead_3 3 rfl rfl)
theorem dX9_ahead_75 : decode cX9_ahead 75 = .ok (.invokestatic 152, 3) := dk_184 0 152 (dk_at dksX9_ahead_3 4 rfl rfl)
theorem dX9_ahead_78 : decode cX9_ahead 78 = .ok (.ifCond .eq 38, 3) := dk_153 0 38 (dk_at dksX9_ahead_3 7 rfl rfl)
theorem dX9_ahead_81 : decode cX9_ahead 81 = .ok (.aload_n 0, 1) := dk_42 (dk_at dksX9_ahead_3 10 rfl rfl)
theorem dX9_ahead_82 : decode cX9_ahead 82 = .ok (.aload_n 0, 1) := dk_42 (dk_at dksX9_ahead_3 11 rfl rfl)
theorem dX9_ahead_83 : decode cX9_ahead 83 = .ok (.getfield 136, 3) := dk_180 0 136 (dk_at dksX9_ahead_3 12 rfl rfl)
theorem dX9_ahead_86 : decode cX9_ahead 86 = .ok (.invokevirtual 139, 3) := dk_182 0 139 (dk_at dksX9_ahead_3 15 rfl rfl)
theorem dX9_ahead_89 : decode cX9_ahead 89 = .ok (.invokestatic 152, 3) := dk_184 0 152 (dk_at dksX9_ahead_3 18 rfl rfl)
theorem dX9_ahead_92 : decode cX9_ahead 92 = .ok (.ifCond .eq 16, 3) := dk_153 0 16 (dk_at dksX9_ahead_3 21 rfl rfl)
theorem dX9_ahead_95 : decode cX9_ahead 95 = .ok (.aload_n 0, 1) := dk_42 (dk_at dksX9_ahead_4 0 rfl rfl)
theorem dX9_ahead_96 : decode cX9_ahead 96 = .ok (.dup, 1) := dk_89 (dk_at dksX9_ahead_4 1 rfl rfl)
theorem dX9_ahead_97 : decode cX9_ahead 97 = .ok (.getfield 136, 3) := dk_180 0 136 (dk_at dksX9_ahead_4 2 rfl rfl)
theorem dX9_ahead_100 : decode cX9_ahead 100 = .ok (.iconst 1, 1) := dk_4 (dk_at dksX9_ahead_4 5 rfl rfl)
theorem dX9_ahead_101 : decode cX9_ahead 101 = .ok (.iadd, 1) := dk_96 (dk_at dksX9_ahead_4 6 rfl rfl)
theorem dX9_ahead_102 : decode cX9_ahead 102 = .ok (.putfield 136, 3) := dk_181 0 136 (dk_at dksX9_ahead_4 7 rfl rfl)
theorem dX9_ahead_105 : decode cX9_ahead 105 = .ok (.goto (-24), 3) := dk_167 255 232 (dk_at dksX9_ahead_4 10 rfl rfl)
theorem dX9_ahead_108 : decode cX9_ahead 108 = .ok (.aload_n 0, 1) := dk_42 (dk_at dksX9_ahead_4 13 rfl rfl)
theorem dX9_ahead_109 : decode cX9_ahead 109 = .ok (.iconst 2, 1) := dk_5 (dk_at dksX9_ahead_4 14 rfl rfl)
theorem dX9_ahead_110 : decode cX9_ahead 110 = .ok (.putfield 149, 3) := dk_181 0 149 (dk_at dksX9_ahead_4 15 rfl rfl)
theorem dX9_ahead_113 : decode cX9_ahead 113 = .ok (.goto 132, 3) := dk_167 0 132 (dk_at dksX9_ahead_4 18 rfl rfl)
theorem dX9_ahead_116 : decode cX9_ahead 116 = .ok (.iload_n 1, 1) := dk_27 (dk_at dksX9_ahead_4 21 rfl rfl)
theorem dX9_ahead_117 : decode cX9_ahead 117 = .ok (.invokestatic 155, 3) := dk_184 0 155 (dk_at dksX9_ahead_5 0 rfl rfl)
theorem dX9_ahead_120 : decode cX9_ahead 120 = .ok (.ifCond .eq 88, 3) := dk_153 0 88 (dk_at dksX9_ahead_5 3 rfl rfl)
theorem dX9_ahead_123 : decode cX9_ahead 123 = .ok (.aload_n 0, 1) := dk_42 (dk_at dksX9_ahead_5 6 rfl rfl)
theorem dX9_ahead_124 : decode cX9_ahead 124 = .ok (.iconst 0, 1) := dk_3 (dk_at dksX9_ahead_5 7 rfl rfl)
theorem dX9_ahead_125 : decode cX9_ahead 125 = .ok (.putfield 146, 3) := dk_181 0 146 (dk_at dksX9_ahead_5 8 rfl rfl)
theorem dX9_ahead_128 : decode cX9_ahead 128 = .ok (.aload_n 0, 1) := dk_42 (dk_at dksX9_ahead_5 11 rfl rfl)
theorem dX9_ahead_129 : decode cX9_ahead 129 = .ok (.aload_n 0, 1) := dk_42 (dk_at dksX9_ahead_5 12 rfl rfl)
theorem dX9_ahead_130 : decode cX9_ahead 130 = .ok (.getfield 136, 3) := dk_180 0 136 (dk_at dksX9_ahead_5 13 rfl rfl)
theorem dX9_ahead_133 : decode cX9_ahead 133 = .ok (.invokevirtual 139, 3) := dk_182 0 139 (dk_at dksX9_ahead_5 16 rfl rfl)
theorem dX9_ahead_136 : decode cX9_ahead 136 = .ok (.invokestatic 155, 3) := dk_184 0 155 (dk_at dksX9_ahead_5 19 rfl rfl)
theorem dX9_ahead_139 : decode cX9_ahead 139 = .ok (.ifCond .eq 44, 3) := dk_153 0 44 (dk_at dksX9_ahead_6 0 rfl rfl)
theorem dX9_ahead_142 : decode cX9_ahead 142 = .ok (.aload_n 0, 1) := dk_42 (dk_at dksX9_ahead_6 3 rfl rfl)
theorem dX9_ahead_143 : decode cX9_ahead 143 = .ok (.ldc 158, 2) := dk_18 158 (dk_at dksX9_ahead_6 4 rfl rfl)
theorem dX9_ahead_145 : decode cX9_ahead 145 = .ok (.bipush 10, 2) := dk_16 10 (dk_at dksX9_ahead_6 6 rfl rfl)
theorem dX9_ahead_147 : decode cX9_ahead 147 = .ok (.aload_n 0, 1) := dk_42 (dk_at dksX9_ahead_6 8 rfl rfl)
theorem dX9_ahead_148 : decode cX9_ahead 148 = .ok (.getfield 146, 3) := dk_180 0 146 (dk_at dksX9_ahead_6 9 rfl rfl)
theorem dX9_ahead_151 : decode cX9_ahead 151 = .ok (.imul, 1) := dk_104 (dk_at dksX9_ahead_6 12 rfl rfl)
theorem dX9_ahead_152 : decode cX9_ahead 152 = .ok (.aload_n 0, 1) := dk_42 (dk_at dksX9_ahead_6 13 rfl rfl)
theorem dX9_ahead_153 : decode cX9_ahead 153 = .ok (.aload_n 0, 1) := dk_42 (dk_at dksX9_ahead_6 14 rfl rfl)
theorem dX9_ahead_154 : decode cX9_ahead 154 = .ok (.getfield 136, 3) := dk_180 0 136 (dk_at dksX9_ahead_6 15 rfl rfl)
theorem dX9_ahead_157 : decode cX9_ahead 157 = .ok (.invokevirtual 139, 3) := dk_182 0 139 (dk_at dksX9_ahead_6 18 rfl rfl)
theorem dX9_ahead_160 : decode cX9_ahead 160 = .ok (.iadd, 1) := dk_96 (dk_at dksX9_ahead_6 21 rfl rfl)
theorem dX9_ahead_161 : decode cX9_ahead 161 = .ok (.bipush 48, 2) := dk_16 48 (dk_at dksX9_ahead_6 22 rfl rfl)
theorem dX9_ahead_163 : decode cX9_ahead 163 = .ok (.isub, 1) := dk_100 (dk_at dksX9_ahead_7 0 rfl rfl)
theorem dX9_ahead_164 : decode cX9_ahead 164 = .ok (.invokestatic 159, 3) := dk_184 0 159 (dk_at dksX9_ahead_7 1 rfl rfl)
theorem dX9_ahead_167 : decode cX9_ahead 167 = .ok (.putfield 146, 3) := dk_181 0 146 (dk_at dksX9_ahead_7 4 rfl rfl)
theorem dX9_ahead_170 : decode cX9_ahead 170 = .ok (.aload_n 0, 1) := dk_42 (dk_at dksX9_ahead_7 7 rfl rfl)
theorem dX9_ahead_171 : decode cX9_ahead 171 = .ok (.dup, 1) := dk_89 (dk_at dksX9_ahead_7 8 rfl rfl)
theorem dX9_ahead_172 : decode cX9_ahead 172 = .ok (.getfield 136, 3) := dk_180 0 136 (dk_at dksX9_ahead_7 9 rfl rfl)
theorem dX9_ahead_175 : decode cX9_ahead 175 = .ok (.iconst 1, 1) := dk_4 (dk_at dksX9_ahead_7 12 rfl rfl)
theorem dX9_ahead_176 : decode cX9_ahead 176 = .ok (.iadd, 1) := dk_96 (dk_at dksX9_ahead_7 13 rfl rfl)
theorem dX9_ahead_177 : decode cX9_ahead 177 = .ok (.putfield 136, 3) := dk_181 0 136 (dk_at dksX9_ahead_7 14 rfl rfl)
theorem dX9_ahead_180 : decode cX9_ahead 180 = .ok (.goto (-52), 3) := dk_167 255 204 (dk_at dksX9_ahead_7 17 rfl rfl)
theorem dX9_ahead_183 : decode cX9_ahead 183 = .ok (.aload_n 0, 1) := dk_42 (dk_at dksX9_ahead_7 20 rfl rfl)
theorem dX9_ahead_184 : decode cX9_ahead 184 = .ok (.aload_n 0, 1) := dk_42 (dk_at dksX9_ahead_7 21 rfl rfl)
theorem dX9_ahead_185 : decode cX9_ahead 185 = .ok (.getfield 136, 3) := dk_180 0 136 (dk_at dksX9_ahead_8 0 rfl rfl)
theorem dX9_ahead_188 : decode cX9_ahead 188 = .ok (.aload_n 0, 1) := dk_42 (dk_at dksX9_ahead_8 3 rfl rfl)
theorem dX9_ahead_189 : decode cX9_ahead 189 = .ok (.getfield 143, 3) := dk_180 0 143 (dk_at dksX9_ahead_8 4 rfl rfl)
theorem dX9_ahead_192 : decode cX9_ahead 192 = .ok (.isub, 1) := dk_100 (dk_at dksX9_ahead_8 7 rfl rfl)
theorem dX9_ahead_193 : decode cX9_ahead 193 = .ok (.iconst 4, 1) := dk_7 (dk_at dksX9_ahead_8 8 rfl rfl)
theorem dX9_ahead_194 : decode cX9_ahead 194 = .ok (.if_icmp .le 7, 3) := dk_164 0 7 (dk_at dksX9_ahead_8 9 rfl rfl)
theorem dX9_ahead_197 : decode cX9_ahead 197 = .ok (.iconst 1, 1) := dk_4 (dk_at dksX9_ahead_8 12 rfl rfl)
theorem dX9_ahead_198 : decode cX9_ahead 198 = .ok (.goto 4, 3) := dk_167 0 4 (dk_at dksX9_ahead_8 13 rfl rfl)
theorem dX9_ahead_201 : decode cX9_ahead 201 = .ok (.iconst 3, 1) := dk_6 (dk_at dksX9_ahead_8 16 rfl rfl)
theorem dX9_ahead_202 : decode cX9_ahead 202 = .ok (.putfield 149, 3) := dk_181 0 149 (dk_at dksX9_ahead_8 17 rfl rfl)
theorem dX9_ahead_205 : decode cX9_ahead 205 = .ok (.goto 40, 3) := dk_167 0 40 (dk_at dksX9_ahead_8 20 rfl rfl)
theorem dX9_ahead_208 : decode cX9_ahead 208 = .ok (.aload_n 0, 1) := dk_42 (dk_at dksX9_ahead_8 23 rfl rfl)
theorem dX9_ahead_209 : decode cX9_ahead 209 = .ok (.dup, 1) := dk_89 (dk_at dksX9_ahead_9 0 rfl rfl)
theorem dX9_ahead_210 : decode cX9_ahead 210 = .ok (.getfield 136, 3) := dk_180 0 136 (dk_at dksX9_ahead_9 1 rfl rfl)
theorem dX9_ahead_213 : decode cX9_ahead 213 = .ok (.iconst 1, 1) := dk_4 (dk_at dksX9_ahead_9 4 rfl rfl)
theorem dX9_ahead_214 : decode cX9_ahead 214 = .ok (.iadd, 1) := dk_96 (dk_at dksX9_ahead_9 5 rfl rfl)
theorem dX9_ahead_215 : decode cX9_ahead 215 = .ok (.putfield 136, 3) := dk_181 0 136 (dk_at dksX9_ahead_9 6 rfl rfl)
theorem dX9_ahead_218 : decode cX9_ahead 218 = .ok (.aload_n 0, 1) := dk_42 (dk_at dksX9_ahead_9 9 rfl rfl)
theorem dX9_ahead_219 : decode cX9_ahead 219 = .ok (.iload_n 1, 1) := dk_27 (dk_at dksX9_ahead_9 10 rfl rfl)
theorem dX9_ahead_220 : decode cX9_ahead 220 = .ok (.bipush 59, 2) := dk_16 59 (dk_at dksX9_ahead_9 11 rfl rfl)
theorem dX9_ahead_222 : decode cX9_ahead 222 = .ok (.if_icmp .eq 15, 3) := dk_159 0 15 (dk_at dksX9_ahead_9 13 rfl rfl)
theorem dX9_ahead_225 : decode cX9_ahead 225 = .ok (.iload_n 1, 1) := dk_27 (dk_at dksX9_ahead_9 16 rfl rfl)
theorem dX9_ahead_226 : decode cX9_ahead 226 = .ok (.bipush 40, 2) := dk_16 40 (dk_at dksX9_ahead_9 17 rfl rfl)
theorem dX9_ahead_228 : decode cX9_ahead 228 = .ok (.if_icmp .eq 9, 3) := dk_159 0 9 (dk_at dksX9_ahead_9 19 rfl rfl)
theorem dX9_ahead_231 : decode cX9_ahead 231 = .ok (.iload_n 1, 1) := dk_27 (dk_at dksX9_ahead_9 22 rfl rfl)
theorem dX9_ahead_232 : decode cX9_ahead 232 = .ok (.bipush 41, 2) := dk_16 41 (dk_at dksX9_ahead_10 0 rfl rfl)
theorem dX9_ahead_234 : decode cX9_ahead 234 = .ok (.if_icmp .ne 7, 3) := dk_160 0 7 (dk_at dksX9_ahead_10 2 rfl rfl)
theorem dX9_ahead_237 : decode cX9_ahead 237 = .ok (.iconst 4, 1) := dk_7 (dk_at dksX9_ahead_10 5 rfl rfl)
theorem dX9_ahead_238 : decode cX9_ahead 238 = .ok (.goto 4, 3) := dk_167 0 4 (dk_at dksX9_ahead_10 6 rfl rfl)
theorem dX9_ahead_241 : decode cX9_ahead 241 = .ok (.iconst 1, 1) := dk_4 (dk_at dksX9_ahead_10 9 rfl rfl)
theorem dX9_ahead_242 : decode cX9_ahead 242 = .ok (.putfield 149, 3) := dk_181 0 149 (dk_at dksX9_ahead_10 10 rfl rfl)
theorem dX9_ahead_245 : decode cX9_ahead 245 = .ok (.return_, 1) := dk_177 (dk_at dksX9_ahead_10 13 rfl rfl)
abbrev cX9_byteAt : ByteArray := prog_19_method_21_code
def yX9_byteAt : MethodName := ⟨RX9, "byteAt", "(I)I"⟩
def dkwX9_byteAt_0 : List UInt8 := [27, 42, 180, 0, 133, 162, 0, 16, 42, 180, 0, 37, 27, 51, 17, 0, 255, 126, 167, 0, 4, 2, 172]
abbrev dktX9_byteAt_0 : List UInt8 := dkwX9_byteAt_0 ++ []
theorem dksX9_byteAt_0 : cX9_byteAt.data.toList.drop 0 = dktX9_byteAt_0 := by decide +kernel
theorem dX9_byteAt_0 : decode cX9_byteAt 0 = .ok (.iload_n 1, 1) := dk_27 (dk_at dksX9_byteAt_0 0 rfl rfl)
theorem dX9_byteAt_1 : decode cX9_byteAt 1 = .ok (.aload_n 0, 1) := dk_42 (dk_at dksX9_byteAt_0 1 rfl rfl)
theorem dX9_byteAt_2 : decode cX9_byteAt 2 = .ok (.getfield 133, 3) := dk_180 0 133 (dk_at dksX9_byteAt_0 2 rfl rfl)
theorem dX9_byteAt_5 : decode cX9_byteAt 5 = .ok (.if_icmp .ge 16, 3) := dk_162 0 16 (dk_at dksX9_byteAt_0 5 rfl rfl)
theorem dX9_byteAt_8 : decode cX9_byteAt 8 = .ok (.aload_n 0, 1) := dk_42 (dk_at dksX9_byteAt_0 8 rfl rfl)
theorem dX9_byteAt_9 : decode cX9_byteAt 9 = .ok (.getfield 37, 3) := dk_180 0 37 (dk_at dksX9_byteAt_0 9 rfl rfl)
theorem dX9_byteAt_12 : decode cX9_byteAt 12 = .ok (.iload_n 1, 1) := dk_27 (dk_at dksX9_byteAt_0 12 rfl rfl)
theorem dX9_byteAt_13 : decode cX9_byteAt 13 = .ok (.baload, 1) := dk_51 (dk_at dksX9_byteAt_0 13 rfl rfl)
theorem dX9_byteAt_14 : decode cX9_byteAt 14 = .ok (.sipush 255, 3) := dk_17 0 255 (dk_at dksX9_byteAt_0 14 rfl rfl)
theorem dX9_byteAt_17 : decode cX9_byteAt 17 = .ok (.iand, 1) := dk_126 (dk_at dksX9_byteAt_0 17 rfl rfl)
theorem dX9_byteAt_18 : decode cX9_byteAt 18 = .ok (.goto 4, 3) := dk_167 0 4 (dk_at dksX9_byteAt_0 18 rfl rfl)
theorem dX9_byteAt_21 : decode cX9_byteAt 21 = .ok (.iconst (-1), 1) := dk_2 (dk_at dksX9_byteAt_0 21 rfl rfl)
theorem dX9_byteAt_22 : decode cX9_byteAt 22 = .ok (.ireturn, 1) := dk_172 (dk_at dksX9_byteAt_0 22 rfl rfl)
abbrev cX9_isSmall : ByteArray := prog_19_method_22_code
def yX9_isSmall : MethodName := ⟨RX9, "isSmall", "(I)Z"⟩
def dkwX9_isSmall_0 : List UInt8 := [26, 16, 97, 161, 0, 13, 26, 16, 122, 163, 0, 7, 4, 167, 0, 4, 3, 172]
abbrev dktX9_isSmall_0 : List UInt8 := dkwX9_isSmall_0 ++ []
theorem dksX9_isSmall_0 : cX9_isSmall.data.toList.drop 0 = dktX9_isSmall_0 := by decide +kernel
theorem dX9_isSmall_0 : decode cX9_isSmall 0 = .ok (.iload_n 0, 1) := dk_26 (dk_at dksX9_isSmall_0 0 rfl rfl)
theorem dX9_isSmall_1 : decode cX9_isSmall 1 = .ok (.bipush 97, 2) := dk_16 97 (dk_at dksX9_isSmall_0 1 rfl rfl)
theorem dX9_isSmall_3 : decode cX9_isSmall 3 = .ok (.if_icmp .lt 13, 3) := dk_161 0 13 (dk_at dksX9_isSmall_0 3 rfl rfl)
theorem dX9_isSmall_6 : decode cX9_isSmall 6 = .ok (.iload_n 0, 1) := dk_26 (dk_at dksX9_isSmall_0 6 rfl rfl)
theorem dX9_isSmall_7 : decode cX9_isSmall 7 = .ok (.bipush 122, 2) := dk_16 122 (dk_at dksX9_isSmall_0 7 rfl rfl)
theorem dX9_isSmall_9 : decode cX9_isSmall 9 = .ok (.if_icmp .gt 7, 3) := dk_163 0 7 (dk_at dksX9_isSmall_0 9 rfl rfl)
theorem dX9_isSmall_12 : decode cX9_isSmall 12 = .ok (.iconst 1, 1) := dk_4 (dk_at dksX9_isSmall_0 12 rfl rfl)
theorem dX9_isSmall_13 : decode cX9_isSmall 13 = .ok (.goto 4, 3) := dk_167 0 4 (dk_at dksX9_isSmall_0 13 rfl rfl)
theorem dX9_isSmall_16 : decode cX9_isSmall 16 = .ok (.iconst 0, 1) := dk_3 (dk_at dksX9_isSmall_0 16 rfl rfl)
theorem dX9_isSmall_17 : decode cX9_isSmall 17 = .ok (.ireturn, 1) := dk_172 (dk_at dksX9_isSmall_0 17 rfl rfl)
abbrev cX9_isDigit : ByteArray := prog_19_method_23_code
def yX9_isDigit : MethodName := ⟨RX9, "isDigit", "(I)Z"⟩
def dkwX9_isDigit_0 : List UInt8 := [26, 16, 48, 161, 0, 13, 26, 16, 57, 163, 0, 7, 4, 167, 0, 4, 3, 172]
abbrev dktX9_isDigit_0 : List UInt8 := dkwX9_isDigit_0 ++ []
theorem dksX9_isDigit_0 : cX9_isDigit.data.toList.drop 0 = dktX9_isDigit_0 := by decide +kernel
theorem dX9_isDigit_0 : decode cX9_isDigit 0 = .ok (.iload_n 0, 1) := dk_26 (dk_at dksX9_isDigit_0 0 rfl rfl)
theorem dX9_isDigit_1 : decode cX9_isDigit 1 = .ok (.bipush 48, 2) := dk_16 48 (dk_at dksX9_isDigit_0 1 rfl rfl)
theorem dX9_isDigit_3 : decode cX9_isDigit 3 = .ok (.if_icmp .lt 13, 3) := dk_161 0 13 (dk_at dksX9_isDigit_0 3 rfl rfl)
theorem dX9_isDigit_6 : decode cX9_isDigit 6 = .ok (.iload_n 0, 1) := dk_26 (dk_at dksX9_isDigit_0 6 rfl rfl)
theorem dX9_isDigit_7 : decode cX9_isDigit 7 = .ok (.bipush 57, 2) := dk_16 57 (dk_at dksX9_isDigit_0 7 rfl rfl)
theorem dX9_isDigit_9 : decode cX9_isDigit 9 = .ok (.if_icmp .gt 7, 3) := dk_163 0 7 (dk_at dksX9_isDigit_0 9 rfl rfl)
theorem dX9_isDigit_12 : decode cX9_isDigit 12 = .ok (.iconst 1, 1) := dk_4 (dk_at dksX9_isDigit_0 12 rfl rfl)
theorem dX9_isDigit_13 : decode cX9_isDigit 13 = .ok (.goto 4, 3) := dk_167 0 4 (dk_at dksX9_isDigit_0 13 rfl rfl)
theorem dX9_isDigit_16 : decode cX9_isDigit 16 = .ok (.iconst 0, 1) := dk_3 (dk_at dksX9_isDigit_0 16 rfl rfl)
theorem dX9_isDigit_17 : decode cX9_isDigit 17 = .ok (.ireturn, 1) := dk_172 (dk_at dksX9_isDigit_0 17 rfl rfl)
abbrev cX9_refuse : ByteArray := prog_19_method_8_code
def yX9_refuse : MethodName := ⟨RX9, "refuse", "(I)I"⟩
def dkwX9_refuse_0 : List UInt8 := [42, 27, 181, 0, 103, 2, 172]
abbrev dktX9_refuse_0 : List UInt8 := dkwX9_refuse_0 ++ []
theorem dksX9_refuse_0 : cX9_refuse.data.toList.drop 0 = dktX9_refuse_0 := by decide +kernel
theorem dX9_refuse_0 : decode cX9_refuse 0 = .ok (.aload_n 0, 1) := dk_42 (dk_at dksX9_refuse_0 0 rfl rfl)
theorem dX9_refuse_1 : decode cX9_refuse 1 = .ok (.iload_n 1, 1) := dk_27 (dk_at dksX9_refuse_0 1 rfl rfl)
theorem dX9_refuse_2 : decode cX9_refuse 2 = .ok (.putfield 103, 3) := dk_181 0 103 (dk_at dksX9_refuse_0 2 rfl rfl)
theorem dX9_refuse_5 : decode cX9_refuse 5 = .ok (.iconst (-1), 1) := dk_2 (dk_at dksX9_refuse_0 5 rfl rfl)
theorem dX9_refuse_6 : decode cX9_refuse 6 = .ok (.ireturn, 1) := dk_172 (dk_at dksX9_refuse_0 6 rfl rfl)
abbrev cX9_casePart : ByteArray := prog_19_method_56_code
def yX9_casePart : MethodName := ⟨RX9, "casePart", "()Z"⟩
def dkwX9_casePart_4 : List UInt8 := [153, 0, 7, 4, 167, 0, 4, 3, 172]
abbrev dktX9_casePart_4 : List UInt8 := dkwX9_casePart_4 ++ []
def dkwX9_casePart_3 : List UInt8 := [42, 182, 1, 30, 60, 167, 0, 9, 42, 5, 182, 0, 186, 172, 27, 153, 0, 16, 42, 16, 59, 182, 1, 33]
abbrev dktX9_casePart_3 : List UInt8 := dkwX9_casePart_3 ++ dktX9_casePart_4
def dkwX9_casePart_2 : List UInt8 := [42, 182, 1, 21, 60, 167, 0, 33, 42, 182, 1, 24, 60, 167, 0, 25, 42, 182, 1, 27, 60, 167, 0, 17]
abbrev dktX9_casePart_2 : List UInt8 := dkwX9_casePart_2 ++ dktX9_casePart_3
def dkwX9_casePart_1 : List UInt8 := [170, 0, 0, 0, 0, 62, 0, 0, 0, 0, 0, 0, 0, 3, 0, 0, 0, 30, 0, 0, 0, 38, 0, 0, 0, 46, 0, 0, 0, 54]
abbrev dktX9_casePart_1 : List UInt8 := dkwX9_casePart_1 ++ dktX9_casePart_2
def dkwX9_casePart_0 : List UInt8 := [42, 18, 206, 182, 0, 189]
abbrev dktX9_casePart_0 : List UInt8 := dkwX9_casePart_0 ++ dktX9_casePart_1
theorem dksX9_casePart_0 : cX9_casePart.data.toList.drop 0 = dktX9_casePart_0 := by decide +kernel
theorem dksX9_casePart_1 : cX9_casePart.data.toList.drop 6 = dktX9_casePart_1 := dk_seg dksX9_casePart_0 6 rfl rfl
theorem dksX9_casePart_2 : cX9_casePart.data.toList.drop 36 = dktX9_casePart_2 := dk_seg dksX9_casePart_1 30 rfl rfl
theorem dksX9_casePart_3 : cX9_casePart.data.toList.drop 60 = dktX9_casePart_3 := dk_seg dksX9_casePart_2 24 rfl rfl
theorem dksX9_casePart_4 : cX9_casePart.data.toList.drop 84 = dktX9_casePart_4 := dk_seg dksX9_casePart_3 24 rfl rfl
theorem dX9_casePart_0 : decode cX9_casePart 0 = .ok (.aload_n 0, 1) := dk_42 (dk_at dksX9_casePart_0 0 rfl rfl)
theorem dX9_casePart_1 : decode cX9_casePart 1 = .ok (.ldc 206, 2) := dk_18 206 (dk_at dksX9_casePart_0 1 rfl rfl)
theorem dX9_casePart_3 : decode cX9_casePart 3 = .ok (.invokevirtual 189, 3) := dk_182 0 189 (dk_at dksX9_casePart_0 3 rfl rfl)
theorem dX9_casePart_6 : decode cX9_casePart 6 = .ok (.tableswitch 62 0 3 #[30, 38, 46, 54], 30) := by decide +kernel
theorem dX9_casePart_36 : decode cX9_casePart 36 = .ok (.aload_n 0, 1) := dk_42 (dk_at dksX9_casePart_2 0 rfl rfl)
theorem dX9_casePart_37 : decode cX9_casePart 37 = .ok (.invokevirtual 277, 3) := dk_182 1 21 (dk_at dksX9_casePart_2 1 rfl rfl)
theorem dX9_casePart_40 : decode cX9_casePart 40 = .ok (.istore_n 1, 1) := dk_60 (dk_at dksX9_casePart_2 4 rfl rfl)
theorem dX9_casePart_41 : decode cX9_casePart 41 = .ok (.goto 33, 3) := dk_167 0 33 (dk_at dksX9_casePart_2 5 rfl rfl)
theorem dX9_casePart_44 : decode cX9_casePart 44 = .ok (.aload_n 0, 1) := dk_42 (dk_at dksX9_casePart_2 8 rfl rfl)
theorem dX9_casePart_45 : decode cX9_casePart 45 = .ok (.invokevirtual 280, 3) := dk_182 1 24 (dk_at dksX9_casePart_2 9 rfl rfl)
theorem dX9_casePart_48 : decode cX9_casePart 48 = .ok (.istore_n 1, 1) := dk_60 (dk_at dksX9_casePart_2 12 rfl rfl)
theorem dX9_casePart_49 : decode cX9_casePart 49 = .ok (.goto 25, 3) := dk_167 0 25 (dk_at dksX9_casePart_2 13 rfl rfl)
theorem dX9_casePart_52 : decode cX9_casePart 52 = .ok (.aload_n 0, 1) := dk_42 (dk_at dksX9_casePart_2 16 rfl rfl)
theorem dX9_casePart_53 : decode cX9_casePart 53 = .ok (.invokevirtual 283, 3) := dk_182 1 27 (dk_at dksX9_casePart_2 17 rfl rfl)
theorem dX9_casePart_56 : decode cX9_casePart 56 = .ok (.istore_n 1, 1) := dk_60 (dk_at dksX9_casePart_2 20 rfl rfl)
theorem dX9_casePart_57 : decode cX9_casePart 57 = .ok (.goto 17, 3) := dk_167 0 17 (dk_at dksX9_casePart_2 21 rfl rfl)
theorem dX9_casePart_60 : decode cX9_casePart 60 = .ok (.aload_n 0, 1) := dk_42 (dk_at dksX9_casePart_3 0 rfl rfl)
theorem dX9_casePart_61 : decode cX9_casePart 61 = .ok (.invokevirtual 286, 3) := dk_182 1 30 (dk_at dksX9_casePart_3 1 rfl rfl)
theorem dX9_casePart_64 : decode cX9_casePart 64 = .ok (.istore_n 1, 1) := dk_60 (dk_at dksX9_casePart_3 4 rfl rfl)
theorem dX9_casePart_65 : decode cX9_casePart 65 = .ok (.goto 9, 3) := dk_167 0 9 (dk_at dksX9_casePart_3 5 rfl rfl)
theorem dX9_casePart_68 : decode cX9_casePart 68 = .ok (.aload_n 0, 1) := dk_42 (dk_at dksX9_casePart_3 8 rfl rfl)
theorem dX9_casePart_69 : decode cX9_casePart 69 = .ok (.iconst 2, 1) := dk_5 (dk_at dksX9_casePart_3 9 rfl rfl)
theorem dX9_casePart_70 : decode cX9_casePart 70 = .ok (.invokevirtual 186, 3) := dk_182 0 186 (dk_at dksX9_casePart_3 10 rfl rfl)
theorem dX9_casePart_73 : decode cX9_casePart 73 = .ok (.ireturn, 1) := dk_172 (dk_at dksX9_casePart_3 13 rfl rfl)
theorem dX9_casePart_74 : decode cX9_casePart 74 = .ok (.iload_n 1, 1) := dk_27 (dk_at dksX9_casePart_3 14 rfl rfl)
theorem dX9_casePart_75 : decode cX9_casePart 75 = .ok (.ifCond .eq 16, 3) := dk_153 0 16 (dk_at dksX9_casePart_3 15 rfl rfl)
theorem dX9_casePart_78 : decode cX9_casePart 78 = .ok (.aload_n 0, 1) := dk_42 (dk_at dksX9_casePart_3 18 rfl rfl)
theorem dX9_casePart_79 : decode cX9_casePart 79 = .ok (.bipush 59, 2) := dk_16 59 (dk_at dksX9_casePart_3 19 rfl rfl)
theorem dX9_casePart_81 : decode cX9_casePart 81 = .ok (.invokevirtual 289, 3) := dk_182 1 33 (dk_at dksX9_casePart_3 21 rfl rfl)
theorem dX9_casePart_84 : decode cX9_casePart 84 = .ok (.ifCond .eq 7, 3) := dk_153 0 7 (dk_at dksX9_casePart_4 0 rfl rfl)
theorem dX9_casePart_87 : decode cX9_casePart 87 = .ok (.iconst 1, 1) := dk_4 (dk_at dksX9_casePart_4 3 rfl rfl)
theorem dX9_casePart_88 : decode cX9_casePart 88 = .ok (.goto 4, 3) := dk_167 0 4 (dk_at dksX9_casePart_4 4 rfl rfl)
theorem dX9_casePart_91 : decode cX9_casePart 91 = .ok (.iconst 0, 1) := dk_3 (dk_at dksX9_casePart_4 7 rfl rfl)
theorem dX9_casePart_92 : decode cX9_casePart 92 = .ok (.ireturn, 1) := dk_172 (dk_at dksX9_casePart_4 8 rfl rfl)
abbrev cX9_inWords : ByteArray := prog_19_method_26_code
def yX9_inWords : MethodName := ⟨RX9, "inWords", "(Ljava/lang/String;)I"⟩
def dkwX9_inWords_5 : List UInt8 := [153, 0, 5, 28, 172, 132, 2, 1, 21, 4, 4, 96, 62, 167, 255, 140, 2, 172]
abbrev dktX9_inWords_5 : List UInt8 := dkwX9_inWords_5 ++ []
def dkwX9_inWords_4 : List UInt8 := [29, 100, 182, 0, 139, 160, 0, 7, 4, 167, 0, 4, 3, 54, 5, 132, 6, 1, 167, 255, 212, 21, 5]
abbrev dktX9_inWords_4 : List UInt8 := dkwX9_inWords_4 ++ dktX9_inWords_5
def dkwX9_inWords_3 : List UInt8 := [21, 4, 162, 0, 43, 21, 5, 153, 0, 38, 43, 21, 6, 182, 0, 170, 42, 42, 180, 0, 143, 21, 6, 96]
abbrev dktX9_inWords_3 : List UInt8 := dkwX9_inWords_3 ++ dktX9_inWords_4
def dkwX9_inWords_2 : List UInt8 := [180, 0, 136, 42, 180, 0, 143, 100, 160, 0, 7, 4, 167, 0, 4, 3, 54, 5, 29, 54, 6, 21, 6]
abbrev dktX9_inWords_2 : List UInt8 := dkwX9_inWords_2 ++ dktX9_inWords_3
def dkwX9_inWords_1 : List UInt8 := [54, 4, 43, 21, 4, 182, 0, 170, 16, 32, 159, 0, 9, 132, 4, 1, 167, 255, 242, 21, 4, 29, 100, 42]
abbrev dktX9_inWords_1 : List UInt8 := dkwX9_inWords_1 ++ dktX9_inWords_2
def dkwX9_inWords_0 : List UInt8 := [42, 180, 0, 149, 5, 159, 0, 5, 2, 172, 3, 61, 4, 62, 29, 43, 182, 0, 164, 162, 0, 114, 29]
abbrev dktX9_inWords_0 : List UInt8 := dkwX9_inWords_0 ++ dktX9_inWords_1
theorem dksX9_inWords_0 : cX9_inWords.data.toList.drop 0 = dktX9_inWords_0 := by decide +kernel
theorem dksX9_inWords_1 : cX9_inWords.data.toList.drop 23 = dktX9_inWords_1 := dk_seg dksX9_inWords_0 23 rfl rfl
theorem dksX9_inWords_2 : cX9_inWords.data.toList.drop 47 = dktX9_inWords_2 := dk_seg dksX9_inWords_1 24 rfl rfl
theorem dksX9_inWords_3 : cX9_inWords.data.toList.drop 70 = dktX9_inWords_3 := dk_seg dksX9_inWords_2 23 rfl rfl
theorem dksX9_inWords_4 : cX9_inWords.data.toList.drop 94 = dktX9_inWords_4 := dk_seg dksX9_inWords_3 24 rfl rfl
theorem dksX9_inWords_5 : cX9_inWords.data.toList.drop 117 = dktX9_inWords_5 := dk_seg dksX9_inWords_4 23 rfl rfl
theorem dX9_inWords_0 : decode cX9_inWords 0 = .ok (.aload_n 0, 1) := dk_42 (dk_at dksX9_inWords_0 0 rfl rfl)
theorem dX9_inWords_1 : decode cX9_inWords 1 = .ok (.getfield 149, 3) := dk_180 0 149 (dk_at dksX9_inWords_0 1 rfl rfl)
theorem dX9_inWords_4 : decode cX9_inWords 4 = .ok (.iconst 2, 1) := dk_5 (dk_at dksX9_inWords_0 4 rfl rfl)
theorem dX9_inWords_5 : decode cX9_inWords 5 = .ok (.if_icmp .eq 5, 3) := dk_159 0 5 (dk_at dksX9_inWords_0 5 rfl rfl)
theorem dX9_inWords_8 : decode cX9_inWords 8 = .ok (.iconst (-1), 1) := dk_2 (dk_at dksX9_inWords_0 8 rfl rfl)
theorem dX9_inWords_9 : decode cX9_inWords 9 = .ok (.ireturn, 1) := dk_172 (dk_at dksX9_inWords_0 9 rfl rfl)
theorem dX9_inWords_10 : decode cX9_inWords 10 = .ok (.iconst 0, 1) := dk_3 (dk_at dksX9_inWords_0 10 rfl rfl)
theorem dX9_inWords_11 : decode cX9_inWords 11 = .ok (.istore_n 2, 1) := dk_61 (dk_at dksX9_inWords_0 11 rfl rfl)
theorem dX9_inWords_12 : decode cX9_inWords 12 = .ok (.iconst 1, 1) := dk_4 (dk_at dksX9_inWords_0 12 rfl rfl)
theorem dX9_inWords_13 : decode cX9_inWords 13 = .ok (.istore_n 3, 1) := dk_62 (dk_at dksX9_inWords_0 13 rfl rfl)
theorem dX9_inWords_14 : decode cX9_inWords 14 = .ok (.iload_n 3, 1) := dk_29 (dk_at dksX9_inWords_0 14 rfl rfl)
theorem dX9_inWords_15 : decode cX9_inWords 15 = .ok (.aload_n 1, 1) := dk_43 (dk_at dksX9_inWords_0 15 rfl rfl)
theorem dX9_inWords_16 : decode cX9_inWords 16 = .ok (.invokevirtual 164, 3) := dk_182 0 164 (dk_at dksX9_inWords_0 16 rfl rfl)
theorem dX9_inWords_19 : decode cX9_inWords 19 = .ok (.if_icmp .ge 114, 3) := dk_162 0 114 (dk_at dksX9_inWords_0 19 rfl rfl)
theorem dX9_inWords_22 : decode cX9_inWords 22 = .ok (.iload_n 3, 1) := dk_29 (dk_at dksX9_inWords_0 22 rfl rfl)
theorem dX9_inWords_23 : decode cX9_inWords 23 = .ok (.istore 4, 2) := dk_54 4 (dk_at dksX9_inWords_1 0 rfl rfl)
theorem dX9_inWords_25 : decode cX9_inWords 25 = .ok (.aload_n 1, 1) := dk_43 (dk_at dksX9_inWords_1 2 rfl rfl)
theorem dX9_inWords_26 : decode cX9_inWords 26 = .ok (.iload 4, 2) := dk_21 4 (dk_at dksX9_inWords_1 3 rfl rfl)
theorem dX9_inWords_28 : decode cX9_inWords 28 = .ok (.invokevirtual 170, 3) := dk_182 0 170 (dk_at dksX9_inWords_1 5 rfl rfl)
theorem dX9_inWords_31 : decode cX9_inWords 31 = .ok (.bipush 32, 2) := dk_16 32 (dk_at dksX9_inWords_1 8 rfl rfl)
theorem dX9_inWords_33 : decode cX9_inWords 33 = .ok (.if_icmp .eq 9, 3) := dk_159 0 9 (dk_at dksX9_inWords_1 10 rfl rfl)
theorem dX9_inWords_36 : decode cX9_inWords 36 = .ok (.iinc 4 1, 3) := dk_132 4 1 (dk_at dksX9_inWords_1 13 rfl rfl)
theorem dX9_inWords_39 : decode cX9_inWords 39 = .ok (.goto (-14), 3) := dk_167 255 242 (dk_at dksX9_inWords_1 16 rfl rfl)
theorem dX9_inWords_42 : decode cX9_inWords 42 = .ok (.iload 4, 2) := dk_21 4 (dk_at dksX9_inWords_1 19 rfl rfl)
theorem dX9_inWords_44 : decode cX9_inWords 44 = .ok (.iload_n 3, 1) := dk_29 (dk_at dksX9_inWords_1 21 rfl rfl)
theorem dX9_inWords_45 : decode cX9_inWords 45 = .ok (.isub, 1) := dk_100 (dk_at dksX9_inWords_1 22 rfl rfl)
theorem dX9_inWords_46 : decode cX9_inWords 46 = .ok (.aload_n 0, 1) := dk_42 (dk_at dksX9_inWords_1 23 rfl rfl)
theorem dX9_inWords_47 : decode cX9_inWords 47 = .ok (.getfield 136, 3) := dk_180 0 136 (dk_at dksX9_inWords_2 0 rfl rfl)
theorem dX9_inWords_50 : decode cX9_inWords 50 = .ok (.aload_n 0, 1) := dk_42 (dk_at dksX9_inWords_2 3 rfl rfl)
theorem dX9_inWords_51 : decode cX9_inWords 51 = .ok (.getfield 143, 3) := dk_180 0 143 (dk_at dksX9_inWords_2 4 rfl rfl)
theorem dX9_inWords_54 : decode cX9_inWords 54 = .ok (.isub, 1) := dk_100 (dk_at dksX9_inWords_2 7 rfl rfl)
theorem dX9_inWords_55 : decode cX9_inWords 55 = .ok (.if_icmp .ne 7, 3) := dk_160 0 7 (dk_at dksX9_inWords_2 8 rfl rfl)
theorem dX9_inWords_58 : decode cX9_inWords 58 = .ok (.iconst 1, 1) := dk_4 (dk_at dksX9_inWords_2 11 rfl rfl)
theorem dX9_inWords_59 : decode cX9_inWords 59 = .ok (.goto 4, 3) := dk_167 0 4 (dk_at dksX9_inWords_2 12 rfl rfl)
theorem dX9_inWords_62 : decode cX9_inWords 62 = .ok (.iconst 0, 1) := dk_3 (dk_at dksX9_inWords_2 15 rfl rfl)
theorem dX9_inWords_63 : decode cX9_inWords 63 = .ok (.istore 5, 2) := dk_54 5 (dk_at dksX9_inWords_2 16 rfl rfl)
theorem dX9_inWords_65 : decode cX9_inWords 65 = .ok (.iload_n 3, 1) := dk_29 (dk_at dksX9_inWords_2 18 rfl rfl)
theorem dX9_inWords_66 : decode cX9_inWords 66 = .ok (.istore 6, 2) := dk_54 6 (dk_at dksX9_inWords_2 19 rfl rfl)
theorem dX9_inWords_68 : decode cX9_inWords 68 = .ok (.iload 6, 2) := dk_21 6 (dk_at dksX9_inWords_2 21 rfl rfl)
theorem dX9_inWords_70 : decode cX9_inWords 70 = .ok (.iload 4, 2) := dk_21 4 (dk_at dksX9_inWords_3 0 rfl rfl)
theorem dX9_inWords_72 : decode cX9_inWords 72 = .ok (.if_icmp .ge 43, 3) := dk_162 0 43 (dk_at dksX9_inWords_3 2 rfl rfl)
theorem dX9_inWords_75 : decode cX9_inWords 75 = .ok (.iload 5, 2) := dk_21 5 (dk_at dksX9_inWords_3 5 rfl rfl)
theorem dX9_inWords_77 : decode cX9_inWords 77 = .ok (.ifCond .eq 38, 3) := dk_153 0 38 (dk_at dksX9_inWords_3 7 rfl rfl)
theorem dX9_inWords_80 : decode cX9_inWords 80 = .ok (.aload_n 1, 1) := dk_43 (dk_at dksX9_inWords_3 10 rfl rfl)
theorem dX9_inWords_81 : decode cX9_inWords 81 = .ok (.iload 6, 2) := dk_21 6 (dk_at dksX9_inWords_3 11 rfl rfl)
theorem dX9_inWords_83 : decode cX9_inWords 83 = .ok (.invokevirtual 170, 3) := dk_182 0 170 (dk_at dksX9_inWords_3 13 rfl rfl)
theorem dX9_inWords_86 : decode cX9_inWords 86 = .ok (.aload_n 0, 1) := dk_42 (dk_at dksX9_inWords_3 16 rfl rfl)
theorem dX9_inWords_87 : decode cX9_inWords 87 = .ok (.aload_n 0, 1) := dk_42 (dk_at dksX9_inWords_3 17 rfl rfl)
theorem dX9_inWords_88 : decode cX9_inWords 88 = .ok (.getfield 143, 3) := dk_180 0 143 (dk_at dksX9_inWords_3 18 rfl rfl)
theorem dX9_inWords_91 : decode cX9_inWords 91 = .ok (.iload 6, 2) := dk_21 6 (dk_at dksX9_inWords_3 21 rfl rfl)
theorem dX9_inWords_93 : decode cX9_inWords 93 = .ok (.iadd, 1) := dk_96 (dk_at dksX9_inWords_3 23 rfl rfl)
theorem dX9_inWords_94 : decode cX9_inWords 94 = .ok (.iload_n 3, 1) := dk_29 (dk_at dksX9_inWords_4 0 rfl rfl)
theorem dX9_inWords_95 : decode cX9_inWords 95 = .ok (.isub, 1) := dk_100 (dk_at dksX9_inWords_4 1 rfl rfl)
theorem dX9_inWords_96 : decode cX9_inWords 96 = .ok (.invokevirtual 139, 3) := dk_182 0 139 (dk_at dksX9_inWords_4 2 rfl rfl)
theorem dX9_inWords_99 : decode cX9_inWords 99 = .ok (.if_icmp .ne 7, 3) := dk_160 0 7 (dk_at dksX9_inWords_4 5 rfl rfl)
theorem dX9_inWords_102 : decode cX9_inWords 102 = .ok (.iconst 1, 1) := dk_4 (dk_at dksX9_inWords_4 8 rfl rfl)
theorem dX9_inWords_103 : decode cX9_inWords 103 = .ok (.goto 4, 3) := dk_167 0 4 (dk_at dksX9_inWords_4 9 rfl rfl)
theorem dX9_inWords_106 : decode cX9_inWords 106 = .ok (.iconst 0, 1) := dk_3 (dk_at dksX9_inWords_4 12 rfl rfl)
theorem dX9_inWords_107 : decode cX9_inWords 107 = .ok (.istore 5, 2) := dk_54 5 (dk_at dksX9_inWords_4 13 rfl rfl)
theorem dX9_inWords_109 : decode cX9_inWords 109 = .ok (.iinc 6 1, 3) := dk_132 6 1 (dk_at dksX9_inWords_4 15 rfl rfl)
theorem dX9_inWords_112 : decode cX9_inWords 112 = .ok (.goto (-44), 3) := dk_167 255 212 (dk_at dksX9_inWords_4 18 rfl rfl)
theorem dX9_inWords_115 : decode cX9_inWords 115 = .ok (.iload 5, 2) := dk_21 5 (dk_at dksX9_inWords_4 21 rfl rfl)
theorem dX9_inWords_117 : decode cX9_inWords 117 = .ok (.ifCond .eq 5, 3) := dk_153 0 5 (dk_at dksX9_inWords_5 0 rfl rfl)
theorem dX9_inWords_120 : decode cX9_inWords 120 = .ok (.iload_n 2, 1) := dk_28 (dk_at dksX9_inWords_5 3 rfl rfl)
theorem dX9_inWords_121 : decode cX9_inWords 121 = .ok (.ireturn, 1) := dk_172 (dk_at dksX9_inWords_5 4 rfl rfl)
theorem dX9_inWords_122 : decode cX9_inWords 122 = .ok (.iinc 2 1, 3) := dk_132 2 1 (dk_at dksX9_inWords_5 5 rfl rfl)
theorem dX9_inWords_125 : decode cX9_inWords 125 = .ok (.iload 4, 2) := dk_21 4 (dk_at dksX9_inWords_5 8 rfl rfl)
theorem dX9_inWords_127 : decode cX9_inWords 127 = .ok (.iconst 1, 1) := dk_4 (dk_at dksX9_inWords_5 10 rfl rfl)
theorem dX9_inWords_128 : decode cX9_inWords 128 = .ok (.iadd, 1) := dk_96 (dk_at dksX9_inWords_5 11 rfl rfl)
theorem dX9_inWords_129 : decode cX9_inWords 129 = .ok (.istore_n 3, 1) := dk_62 (dk_at dksX9_inWords_5 12 rfl rfl)
theorem dX9_inWords_130 : decode cX9_inWords 130 = .ok (.goto (-116), 3) := dk_167 255 140 (dk_at dksX9_inWords_5 13 rfl rfl)
theorem dX9_inWords_133 : decode cX9_inWords 133 = .ok (.iconst (-1), 1) := dk_2 (dk_at dksX9_inWords_5 16 rfl rfl)
theorem dX9_inWords_134 : decode cX9_inWords 134 = .ok (.ireturn, 1) := dk_172 (dk_at dksX9_inWords_5 17 rfl rfl)
abbrev cX9_aFact : ByteArray := prog_19_method_40_code
def yX9_aFact : MethodName := ⟨RX9, "aFact", "()Z"⟩
def dkwX9_aFact_13 : List UInt8 := [180, 0, 7, 17, 6, 66, 92, 46, 28, 104, 79, 4, 172]
abbrev dktX9_aFact_13 : List UInt8 := dkwX9_aFact_13 ++ []
def dkwX9_aFact_12 : List UInt8 := [164, 0, 10, 42, 16, 8, 182, 0, 186, 172, 42, 180, 0, 7, 17, 6, 124, 27, 96, 28, 79, 42]
abbrev dktX9_aFact_12 : List UInt8 := dkwX9_aFact_12 ++ dktX9_aFact_13
def dkwX9_aFact_11 : List UInt8 := [182, 0, 186, 172, 28, 5, 161, 0, 19, 42, 180, 0, 7, 17, 6, 66, 46, 28, 104, 17, 1, 0]
abbrev dktX9_aFact_11 : List UInt8 := dkwX9_aFact_11 ++ dktX9_aFact_12
def dkwX9_aFact_10 : List UInt8 := [182, 0, 227, 154, 0, 5, 3, 172, 167, 255, 132, 42, 16, 59, 182, 0, 183, 154, 0, 9, 42, 5]
abbrev dktX9_aFact_10 : List UInt8 := dkwX9_aFact_10 ++ dktX9_aFact_11
def dkwX9_aFact_9 : List UInt8 := [132, 2, 1, 42, 182, 0, 180, 42, 180, 0, 149, 6, 160, 0, 20, 42, 17, 6, 96, 29, 96, 4, 16, 9]
abbrev dktX9_aFact_9 : List UInt8 := dkwX9_aFact_9 ++ dktX9_aFact_10
def dkwX9_aFact_8 : List UInt8 := [180, 0, 7, 17, 6, 96, 29, 96, 4, 79, 42, 180, 0, 7, 17, 6, 65, 92, 46, 4, 96, 79]
abbrev dktX9_aFact_8 : List UInt8 := dkwX9_aFact_8 ++ dktX9_aFact_9
def dkwX9_aFact_7 : List UInt8 := [17, 0, 180, 29, 96, 42, 182, 0, 193, 80, 42, 180, 0, 7, 17, 6, 72, 29, 96, 27, 79, 42]
abbrev dktX9_aFact_7 : List UInt8 := dkwX9_aFact_7 ++ dktX9_aFact_8
def dkwX9_aFact_6 : List UInt8 := [160, 0, 10, 42, 16, 6, 182, 0, 186, 172, 42, 180, 0, 7, 17, 6, 65, 46, 62, 42, 180, 0, 17]
abbrev dktX9_aFact_6 : List UInt8 := dkwX9_aFact_6 ++ dktX9_aFact_7
def dkwX9_aFact_5 : List UInt8 := [182, 0, 208, 153, 0, 121, 42, 182, 0, 212, 154, 0, 9, 42, 6, 182, 0, 186, 172, 28, 16, 6]
abbrev dktX9_aFact_5 : List UInt8 := dkwX9_aFact_5 ++ dktX9_aFact_6
def dkwX9_aFact_4 : List UInt8 := [180, 0, 7, 17, 6, 120, 27, 96, 42, 180, 0, 7, 17, 6, 65, 46, 79, 3, 61, 42, 18, 206]
abbrev dktX9_aFact_4 : List UInt8 := dkwX9_aFact_4 ++ dktX9_aFact_5
def dkwX9_aFact_3 : List UInt8 := [182, 0, 223, 154, 0, 5, 3, 172, 42, 18, 206, 182, 0, 208, 154, 0, 9, 42, 5, 182, 0, 186, 172, 42]
abbrev dktX9_aFact_3 : List UInt8 := dkwX9_aFact_3 ++ dktX9_aFact_4
def dkwX9_aFact_2 : List UInt8 := [182, 0, 219, 154, 0, 5, 3, 172, 42, 180, 0, 7, 17, 6, 64, 92, 46, 4, 96, 79, 42, 18, 206, 7]
abbrev dktX9_aFact_2 : List UInt8 := dkwX9_aFact_2 ++ dktX9_aFact_3
def dkwX9_aFact_1 : List UInt8 := [180, 0, 7, 17, 6, 67, 46, 158, 0, 10, 42, 16, 7, 182, 0, 186, 172, 42, 182, 0, 180, 42, 3, 27]
abbrev dktX9_aFact_1 : List UInt8 := dkwX9_aFact_1 ++ dktX9_aFact_2
def dkwX9_aFact_0 : List UInt8 := [42, 180, 0, 7, 17, 6, 64, 46, 60, 27, 7, 160, 0, 10, 42, 16, 6, 182, 0, 186, 172, 42]
abbrev dktX9_aFact_0 : List UInt8 := dkwX9_aFact_0 ++ dktX9_aFact_1
theorem dksX9_aFact_0 : cX9_aFact.data.toList.drop 0 = dktX9_aFact_0 := by decide +kernel
theorem dksX9_aFact_1 : cX9_aFact.data.toList.drop 22 = dktX9_aFact_1 := dk_seg dksX9_aFact_0 22 rfl rfl
theorem dksX9_aFact_2 : cX9_aFact.data.toList.drop 46 = dktX9_aFact_2 := dk_seg dksX9_aFact_1 24 rfl rfl
theorem dksX9_aFact_3 : cX9_aFact.data.toList.drop 70 = dktX9_aFact_3 := dk_seg dksX9_aFact_2 24 rfl rfl
theorem dksX9_aFact_4 : cX9_aFact.data.toList.drop 94 = dktX9_aFact_4 := dk_seg dksX9_aFact_3 24 rfl rfl
theorem dksX9_aFact_5 : cX9_aFact.data.toList.drop 116 = dktX9_aFact_5 := dk_seg dksX9_aFact_4 22 rfl rfl
theorem dksX9_aFact_6 : cX9_aFact.data.toList.drop 138 = dktX9_aFact_6 := dk_seg dksX9_aFact_5 22 rfl rfl
theorem dksX9_aFact_7 : cX9_aFact.data.toList.drop 161 = dktX9_aFact_7 := dk_seg dksX9_aFact_6 23 rfl rfl
theorem dksX9_aFact_8 : cX9_aFact.data.toList.drop 183 = dktX9_aFact_8 := dk_seg dksX9_aFact_7 22 rfl rfl
theorem dksX9_aFact_9 : cX9_aFact.data.toList.drop 205 = dktX9_aFact_9 := dk_seg dksX9_aFact_8 22 rfl rfl
theorem dksX9_aFact_10 : cX9_aFact.data.toList.drop 229 = dktX9_aFact_10 := dk_seg dksX9_aFact_9 24 rfl rfl
theorem dksX9_aFact_11 : cX9_aFact.data.toList.drop 251 = dktX9_aFact_11 := dk_seg dksX9_aFact_10 22 rfl rfl
theorem dksX9_aFact_12 : cX9_aFact.data.toList.drop 273 = dktX9_aFact_12 := dk_seg dksX9_aFact_11 22 rfl rfl
theorem dksX9_aFact_13 : cX9_aFact.data.toList.drop 295 = dktX9_aFact_13 := dk_seg dksX9_aFact_12 22 rfl rfl
theorem dX9_aFact_0 : decode cX9_aFact 0 = .ok (.aload_n 0, 1) := dk_42 (dk_at dksX9_aFact_0 0 rfl rfl)
theorem dX9_aFact_1 : decode cX9_aFact 1 = .ok (.getfield 7, 3) := dk_180 0 7 (dk_at dksX9_aFact_0 1 rfl rfl)
theorem dX9_aFact_4 : decode cX9_aFact 4 = .ok (.sipush 1600, 3) := dk_17 6 64 (dk_at dksX9_aFact_0 4 rfl rfl)
theorem dX9_aFact_7 : decode cX9_aFact 7 = .ok (.iaload, 1) := dk_46 (dk_at dksX9_aFact_0 7 rfl rfl)
theorem dX9_aFact_8 : decode cX9_aFact 8 = .ok (.istore_n 1, 1) := dk_60 (dk_at dksX9_aFact_0 8 rfl rfl)
theorem dX9_aFact_9 : decode cX9_aFact 9 = .ok (.iload_n 1, 1) := dk_27 (dk_at dksX9_aFact_0 9 rfl rfl)
theorem dX9_aFact_10 : decode cX9_aFact 10 = .ok (.iconst 4, 1) := dk_7 (dk_at dksX9_aFact_0 10 rfl rfl)
theorem dX9_aFact_11 : decode cX9_aFact 11 = .ok (.if_icmp .ne 10, 3) := dk_160 0 10 (dk_at dksX9_aFact_0 11 rfl rfl)
theorem dX9_aFact_14 : decode cX9_aFact 14 = .ok (.aload_n 0, 1) := dk_42 (dk_at dksX9_aFact_0 14 rfl rfl)
theorem dX9_aFact_15 : decode cX9_aFact 15 = .ok (.bipush 6, 2) := dk_16 6 (dk_at dksX9_aFact_0 15 rfl rfl)
theorem dX9_aFact_17 : decode cX9_aFact 17 = .ok (.invokevirtual 186, 3) := dk_182 0 186 (dk_at dksX9_aFact_0 17 rfl rfl)
theorem dX9_aFact_20 : decode cX9_aFact 20 = .ok (.ireturn, 1) := dk_172 (dk_at dksX9_aFact_0 20 rfl rfl)
theorem dX9_aFact_21 : decode cX9_aFact 21 = .ok (.aload_n 0, 1) := dk_42 (dk_at dksX9_aFact_0 21 rfl rfl)
theorem dX9_aFact_22 : decode cX9_aFact 22 = .ok (.getfield 7, 3) := dk_180 0 7 (dk_at dksX9_aFact_1 0 rfl rfl)
theorem dX9_aFact_25 : decode cX9_aFact 25 = .ok (.sipush 1603, 3) := dk_17 6 67 (dk_at dksX9_aFact_1 3 rfl rfl)
theorem dX9_aFact_28 : decode cX9_aFact 28 = .ok (.iaload, 1) := dk_46 (dk_at dksX9_aFact_1 6 rfl rfl)
theorem dX9_aFact_29 : decode cX9_aFact 29 = .ok (.ifCond .le 10, 3) := dk_158 0 10 (dk_at dksX9_aFact_1 7 rfl rfl)
theorem dX9_aFact_32 : decode cX9_aFact 32 = .ok (.aload_n 0, 1) := dk_42 (dk_at dksX9_aFact_1 10 rfl rfl)
theorem dX9_aFact_33 : decode cX9_aFact 33 = .ok (.bipush 7, 2) := dk_16 7 (dk_at dksX9_aFact_1 11 rfl rfl)
theorem dX9_aFact_35 : decode cX9_aFact 35 = .ok (.invokevirtual 186, 3) := dk_182 0 186 (dk_at dksX9_aFact_1 13 rfl rfl)
theorem dX9_aFact_38 : decode cX9_aFact 38 = .ok (.ireturn, 1) := dk_172 (dk_at dksX9_aFact_1 16 rfl rfl)
theorem dX9_aFact_39 : decode cX9_aFact 39 = .ok (.aload_n 0, 1) := dk_42 (dk_at dksX9_aFact_1 17 rfl rfl)
theorem dX9_aFact_40 : decode cX9_aFact 40 = .ok (.invokevirtual 180, 3) := dk_182 0 180 (dk_at dksX9_aFact_1 18 rfl rfl)
theorem dX9_aFact_43 : decode cX9_aFact 43 = .ok (.aload_n 0, 1) := dk_42 (dk_at dksX9_aFact_1 21 rfl rfl)
theorem dX9_aFact_44 : decode cX9_aFact 44 = .ok (.iconst 0, 1) := dk_3 (dk_at dksX9_aFact_1 22 rfl rfl)
theorem dX9_aFact_45 : decode cX9_aFact 45 = .ok (.iload_n 1, 1) := dk_27 (dk_at dksX9_aFact_1 23 rfl rfl)
theorem dX9_aFact_46 : decode cX9_aFact 46 = .ok (.invokevirtual 219, 3) := dk_182 0 219 (dk_at dksX9_aFact_2 0 rfl rfl)
theorem dX9_aFact_49 : decode cX9_aFact 49 = .ok (.ifCond .ne 5, 3) := dk_154 0 5 (dk_at dksX9_aFact_2 3 rfl rfl)
theorem dX9_aFact_52 : decode cX9_aFact 52 = .ok (.iconst 0, 1) := dk_3 (dk_at dksX9_aFact_2 6 rfl rfl)
theorem dX9_aFact_53 : decode cX9_aFact 53 = .ok (.ireturn, 1) := dk_172 (dk_at dksX9_aFact_2 7 rfl rfl)
theorem dX9_aFact_54 : decode cX9_aFact 54 = .ok (.aload_n 0, 1) := dk_42 (dk_at dksX9_aFact_2 8 rfl rfl)
theorem dX9_aFact_55 : decode cX9_aFact 55 = .ok (.getfield 7, 3) := dk_180 0 7 (dk_at dksX9_aFact_2 9 rfl rfl)
theorem dX9_aFact_58 : decode cX9_aFact 58 = .ok (.sipush 1600, 3) := dk_17 6 64 (dk_at dksX9_aFact_2 12 rfl rfl)
theorem dX9_aFact_61 : decode cX9_aFact 61 = .ok (.dup2, 1) := dk_92 (dk_at dksX9_aFact_2 15 rfl rfl)
theorem dX9_aFact_62 : decode cX9_aFact 62 = .ok (.iaload, 1) := dk_46 (dk_at dksX9_aFact_2 16 rfl rfl)
theorem dX9_aFact_63 : decode cX9_aFact 63 = .ok (.iconst 1, 1) := dk_4 (dk_at dksX9_aFact_2 17 rfl rfl)
theorem dX9_aFact_64 : decode cX9_aFact 64 = .ok (.iadd, 1) := dk_96 (dk_at dksX9_aFact_2 18 rfl rfl)
theorem dX9_aFact_65 : decode cX9_aFact 65 = .ok (.iastore, 1) := dk_79 (dk_at dksX9_aFact_2 19 rfl rfl)
theorem dX9_aFact_66 : decode cX9_aFact 66 = .ok (.aload_n 0, 1) := dk_42 (dk_at dksX9_aFact_2 20 rfl rfl)
theorem dX9_aFact_67 : decode cX9_aFact 67 = .ok (.ldc 206, 2) := dk_18 206 (dk_at dksX9_aFact_2 21 rfl rfl)
theorem dX9_aFact_69 : decode cX9_aFact 69 = .ok (.iconst 4, 1) := dk_7 (dk_at dksX9_aFact_2 23 rfl rfl)
theorem dX9_aFact_70 : decode cX9_aFact 70 = .ok (.invokevirtual 223, 3) := dk_182 0 223 (dk_at dksX9_aFact_3 0 rfl rfl)
theorem dX9_aFact_73 : decode cX9_aFact 73 = .ok (.ifCond .ne 5, 3) := dk_154 0 5 (dk_at dksX9_aFact_3 3 rfl rfl)
theorem dX9_aFact_76 : decode cX9_aFact 76 = .ok (.iconst 0, 1) := dk_3 (dk_at dksX9_aFact_3 6 rfl rfl)
theorem dX9_aFact_77 : decode cX9_aFact 77 = .ok (.ireturn, 1) := dk_172 (dk_at dksX9_aFact_3 7 rfl rfl)
theorem dX9_aFact_78 : decode cX9_aFact 78 = .ok (.aload_n 0, 1) := dk_42 (dk_at dksX9_aFact_3 8 rfl rfl)
theorem dX9_aFact_79 : decode cX9_aFact 79 = .ok (.ldc 206, 2) := dk_18 206 (dk_at dksX9_aFact_3 9 rfl rfl)
theorem dX9_aFact_81 : decode cX9_aFact 81 = .ok (.invokevirtual 208, 3) := dk_182 0 208 (dk_at dksX9_aFact_3 11 rfl rfl)
theorem dX9_aFact_84 : decode cX9_aFact 84 = .ok (.ifCond .ne 9, 3) := dk_154 0 9 (dk_at dksX9_aFact_3 14 rfl rfl)
theorem dX9_aFact_87 : decode cX9_aFact 87 = .ok (.aload_n 0, 1) := dk_42 (dk_at dksX9_aFact_3 17 rfl rfl)
theorem dX9_aFact_88 : decode cX9_aFact 88 = .ok (.iconst 2, 1) := dk_5 (dk_at dksX9_aFact_3 18 rfl rfl)
theorem dX9_aFact_89 : decode cX9_aFact 89 = .ok (.invokevirtual 186, 3) := dk_182 0 186 (dk_at dksX9_aFact_3 19 rfl rfl)
theorem dX9_aFact_92 : decode cX9_aFact 92 = .ok (.ireturn, 1) := dk_172 (dk_at dksX9_aFact_3 22 rfl rfl)
theorem dX9_aFact_93 : decode cX9_aFact 93 = .ok (.aload_n 0, 1) := dk_42 (dk_at dksX9_aFact_3 23 rfl rfl)
theorem dX9_aFact_94 : decode cX9_aFact 94 = .ok (.getfield 7, 3) := dk_180 0 7 (dk_at dksX9_aFact_4 0 rfl rfl)
theorem dX9_aFact_97 : decode cX9_aFact 97 = .ok (.sipush 1656, 3) := dk_17 6 120 (dk_at dksX9_aFact_4 3 rfl rfl)
theorem dX9_aFact_100 : decode cX9_aFact 100 = .ok (.iload_n 1, 1) := dk_27 (dk_at dksX9_aFact_4 6 rfl rfl)
theorem dX9_aFact_101 : decode cX9_aFact 101 = .ok (.iadd, 1) := dk_96 (dk_at dksX9_aFact_4 7 rfl rfl)
theorem dX9_aFact_102 : decode cX9_aFact 102 = .ok (.aload_n 0, 1) := dk_42 (dk_at dksX9_aFact_4 8 rfl rfl)
theorem dX9_aFact_103 : decode cX9_aFact 103 = .ok (.getfield 7, 3) := dk_180 0 7 (dk_at dksX9_aFact_4 9 rfl rfl)
theorem dX9_aFact_106 : decode cX9_aFact 106 = .ok (.sipush 1601, 3) := dk_17 6 65 (dk_at dksX9_aFact_4 12 rfl rfl)
theorem dX9_aFact_109 : decode cX9_aFact 109 = .ok (.iaload, 1) := dk_46 (dk_at dksX9_aFact_4 15 rfl rfl)
theorem dX9_aFact_110 : decode cX9_aFact 110 = .ok (.iastore, 1) := dk_79 (dk_at dksX9_aFact_4 16 rfl rfl)
theorem dX9_aFact_111 : decode cX9_aFact 111 = .ok (.iconst 0, 1) := dk_3 (dk_at dksX9_aFact_4 17 rfl rfl)
theorem dX9_aFact_112 : decode cX9_aFact 112 = .ok (.istore_n 2, 1) := dk_61 (dk_at dksX9_aFact_4 18 rfl rfl)
theorem dX9_aFact_113 : decode cX9_aFact 113 = .ok (.aload_n 0, 1) := dk_42 (dk_at dksX9_aFact_4 19 rfl rfl)
theorem dX9_aFact_114 : decode cX9_aFact 114 = .ok (.ldc 206, 2) := dk_18 206 (dk_at dksX9_aFact_4 20 rfl rfl)
theorem dX9_aFact_116 : decode cX9_aFact 116 = .ok (.invokevirtual 208, 3) := dk_182 0 208 (dk_at dksX9_aFact_5 0 rfl rfl)
theorem dX9_aFact_119 : decode cX9_aFact 119 = .ok (.ifCond .eq 121, 3) := dk_153 0 121 (dk_at dksX9_aFact_5 3 rfl rfl)
theorem dX9_aFact_122 : decode cX9_aFact 122 = .ok (.aload_n 0, 1) := dk_42 (dk_at dksX9_aFact_5 6 rfl rfl)
theorem dX9_aFact_123 : decode cX9_aFact 123 = .ok (.invokevirtual 212, 3) := dk_182 0 212 (dk_at dksX9_aFact_5 7 rfl rfl)
theorem dX9_aFact_126 : decode cX9_aFact 126 = .ok (.ifCond .ne 9, 3) := dk_154 0 9 (dk_at dksX9_aFact_5 10 rfl rfl)
theorem dX9_aFact_129 : decode cX9_aFact 129 = .ok (.aload_n 0, 1) := dk_42 (dk_at dksX9_aFact_5 13 rfl rfl)
theorem dX9_aFact_130 : decode cX9_aFact 130 = .ok (.iconst 3, 1) := dk_6 (dk_at dksX9_aFact_5 14 rfl rfl)
theorem dX9_aFact_131 : decode cX9_aFact 131 = .ok (.invokevirtual 186, 3) := dk_182 0 186 (dk_at dksX9_aFact_5 15 rfl rfl)
theorem dX9_aFact_134 : decode cX9_aFact 134 = .ok (.ireturn, 1) := dk_172 (dk_at dksX9_aFact_5 18 rfl rfl)
theorem dX9_aFact_135 : decode cX9_aFact 135 = .ok (.iload_n 2, 1) := dk_28 (dk_at dksX9_aFact_5 19 rfl rfl)
theorem dX9_aFact_136 : decode cX9_aFact 136 = .ok (.bipush 6, 2) := dk_16 6 (dk_at dksX9_aFact_5 20 rfl rfl)
theorem dX9_aFact_138 : decode cX9_aFact 138 = .ok (.if_icmp .ne 10, 3) := dk_160 0 10 (dk_at dksX9_aFact_6 0 rfl rfl)
theorem dX9_aFact_141 : decode cX9_aFact 141 = .ok (.aload_n 0, 1) := dk_42 (dk_at dksX9_aFact_6 3 rfl rfl)
theorem dX9_aFact_142 : decode cX9_aFact 142 = .ok (.bipush 6, 2) := dk_16 6 (dk_at dksX9_aFact_6 4 rfl rfl)
theorem dX9_aFact_144 : decode cX9_aFact 144 = .ok (.invokevirtual 186, 3) := dk_182 0 186 (dk_at dksX9_aFact_6 6 rfl rfl)
theorem dX9_aFact_147 : decode cX9_aFact 147 = .ok (.ireturn, 1) := dk_172 (dk_at dksX9_aFact_6 9 rfl rfl)
theorem dX9_aFact_148 : decode cX9_aFact 148 = .ok (.aload_n 0, 1) := dk_42 (dk_at dksX9_aFact_6 10 rfl rfl)
theorem dX9_aFact_149 : decode cX9_aFact 149 = .ok (.getfield 7, 3) := dk_180 0 7 (dk_at dksX9_aFact_6 11 rfl rfl)
theorem dX9_aFact_152 : decode cX9_aFact 152 = .ok (.sipush 1601, 3) := dk_17 6 65 (dk_at dksX9_aFact_6 14 rfl rfl)
theorem dX9_aFact_155 : decode cX9_aFact 155 = .ok (.iaload, 1) := dk_46 (dk_at dksX9_aFact_6 17 rfl rfl)
theorem dX9_aFact_156 : decode cX9_aFact 156 = .ok (.istore_n 3, 1) := dk_62 (dk_at dksX9_aFact_6 18 rfl rfl)
theorem dX9_aFact_157 : decode cX9_aFact 157 = .ok (.aload_n 0, 1) := dk_42 (dk_at dksX9_aFact_6 19 rfl rfl)
theorem dX9_aFact_158 : decode cX9_aFact 158 = .ok (.getfield 17, 3) := dk_180 0 17 (dk_at dksX9_aFact_6 20 rfl rfl)
theorem dX9_aFact_161 : decode cX9_aFact 161 = .ok (.sipush 180, 3) := dk_17 0 180 (dk_at dksX9_aFact_7 0 rfl rfl)
theorem dX9_aFact_164 : decode cX9_aFact 164 = .ok (.iload_n 3, 1) := dk_29 (dk_at dksX9_aFact_7 3 rfl rfl)
theorem dX9_aFact_165 : decode cX9_aFact 165 = .ok (.iadd, 1) := dk_96 (dk_at dksX9_aFact_7 4 rfl rfl)
theorem dX9_aFact_166 : decode cX9_aFact 166 = .ok (.aload_n 0, 1) := dk_42 (dk_at dksX9_aFact_7 5 rfl rfl)
theorem dX9_aFact_167 : decode cX9_aFact 167 = .ok (.invokevirtual 193, 3) := dk_182 0 193 (dk_at dksX9_aFact_7 6 rfl rfl)
theorem dX9_aFact_170 : decode cX9_aFact 170 = .ok (.lastore, 1) := dk_80 (dk_at dksX9_aFact_7 9 rfl rfl)
theorem dX9_aFact_171 : decode cX9_aFact 171 = .ok (.aload_n 0, 1) := dk_42 (dk_at dksX9_aFact_7 10 rfl rfl)
theorem dX9_aFact_172 : decode cX9_aFact 172 = .ok (.getfield 7, 3) := dk_180 0 7 (dk_at dksX9_aFact_7 11 rfl rfl)
theorem dX9_aFact_175 : decode cX9_aFact 175 = .ok (.sipush 1608, 3) := dk_17 6 72 (dk_at dksX9_aFact_7 14 rfl rfl)
theorem dX9_aFact_178 : decode cX9_aFact 178 = .ok (.iload_n 3, 1) := dk_29 (dk_at dksX9_aFact_7 17 rfl rfl)
theorem dX9_aFact_179 : decode cX9_aFact 179 = .ok (.iadd, 1) := dk_96 (dk_at dksX9_aFact_7 18 rfl rfl)
theorem dX9_aFact_180 : decode cX9_aFact 180 = .ok (.iload_n 1, 1) := dk_27 (dk_at dksX9_aFact_7 19 rfl rfl)
theorem dX9_aFact_181 : decode cX9_aFact 181 = .ok (.iastore, 1) := dk_79 (dk_at dksX9_aFact_7 20 rfl rfl)
theorem dX9_aFact_182 : decode cX9_aFact 182 = .ok (.aload_n 0, 1) := dk_42 (dk_at dksX9_aFact_7 21 rfl rfl)
theorem dX9_aFact_183 : decode cX9_aFact 183 = .ok (.getfield 7, 3) := dk_180 0 7 (dk_at dksX9_aFact_8 0 rfl rfl)
theorem dX9_aFact_186 : decode cX9_aFact 186 = .ok (.sipush 1632, 3) := dk_17 6 96 (dk_at dksX9_aFact_8 3 rfl rfl)
theorem dX9_aFact_189 : decode cX9_aFact 189 = .ok (.iload_n 3, 1) := dk_29 (dk_at dksX9_aFact_8 6 rfl rfl)
theorem dX9_aFact_190 : decode cX9_aFact 190 = .ok (.iadd, 1) := dk_96 (dk_at dksX9_aFact_8 7 rfl rfl)
theorem dX9_aFact_191 : decode cX9_aFact 191 = .ok (.iconst 1, 1) := dk_4 (dk_at dksX9_aFact_8 8 rfl rfl)
theorem dX9_aFact_192 : decode cX9_aFact 192 = .ok (.iastore, 1) := dk_79 (dk_at dksX9_aFact_8 9 rfl rfl)
theorem dX9_aFact_193 : decode cX9_aFact 193 = .ok (.aload_n 0, 1) := dk_42 (dk_at dksX9_aFact_8 10 rfl rfl)
theorem dX9_aFact_194 : decode cX9_aFact 194 = .ok (.getfield 7, 3) := dk_180 0 7 (dk_at dksX9_aFact_8 11 rfl rfl)
theorem dX9_aFact_197 : decode cX9_aFact 197 = .ok (.sipush 1601, 3) := dk_17 6 65 (dk_at dksX9_aFact_8 14 rfl rfl)
theorem dX9_aFact_200 : decode cX9_aFact 200 = .ok (.dup2, 1) := dk_92 (dk_at dksX9_aFact_8 17 rfl rfl)
theorem dX9_aFact_201 : decode cX9_aFact 201 = .ok (.iaload, 1) := dk_46 (dk_at dksX9_aFact_8 18 rfl rfl)
theorem dX9_aFact_202 : decode cX9_aFact 202 = .ok (.iconst 1, 1) := dk_4 (dk_at dksX9_aFact_8 19 rfl rfl)
theorem dX9_aFact_203 : decode cX9_aFact 203 = .ok (.iadd, 1) := dk_96 (dk_at dksX9_aFact_8 20 rfl rfl)
theorem dX9_aFact_204 : decode cX9_aFact 204 = .ok (.iastore, 1) := dk_79 (dk_at dksX9_aFact_8 21 rfl rfl)
theorem dX9_aFact_205 : decode cX9_aFact 205 = .ok (.iinc 2 1, 3) := dk_132 2 1 (dk_at dksX9_aFact_9 0 rfl rfl)
theorem dX9_aFact_208 : decode cX9_aFact 208 = .ok (.aload_n 0, 1) := dk_42 (dk_at dksX9_aFact_9 3 rfl rfl)
theorem dX9_aFact_209 : decode cX9_aFact 209 = .ok (.invokevirtual 180, 3) := dk_182 0 180 (dk_at dksX9_aFact_9 4 rfl rfl)
theorem dX9_aFact_212 : decode cX9_aFact 212 = .ok (.aload_n 0, 1) := dk_42 (dk_at dksX9_aFact_9 7 rfl rfl)
theorem dX9_aFact_213 : decode cX9_aFact 213 = .ok (.getfield 149, 3) := dk_180 0 149 (dk_at dksX9_aFact_9 8 rfl rfl)
theorem dX9_aFact_216 : decode cX9_aFact 216 = .ok (.iconst 3, 1) := dk_6 (dk_at dksX9_aFact_9 11 rfl rfl)
theorem dX9_aFact_217 : decode cX9_aFact 217 = .ok (.if_icmp .ne 20, 3) := dk_160 0 20 (dk_at dksX9_aFact_9 12 rfl rfl)
theorem dX9_aFact_220 : decode cX9_aFact 220 = .ok (.aload_n 0, 1) := dk_42 (dk_at dksX9_aFact_9 15 rfl rfl)
theorem dX9_aFact_221 : decode cX9_aFact 221 = .ok (.sipush 1632, 3) := dk_17 6 96 (dk_at dksX9_aFact_9 16 rfl rfl)
theorem dX9_aFact_224 : decode cX9_aFact 224 = .ok (.iload_n 3, 1) := dk_29 (dk_at dksX9_aFact_9 19 rfl rfl)
theorem dX9_aFact_225 : decode cX9_aFact 225 = .ok (.iadd, 1) := dk_96 (dk_at dksX9_aFact_9 20 rfl rfl)
theorem dX9_aFact_226 : decode cX9_aFact 226 = .ok (.iconst 1, 1) := dk_4 (dk_at dksX9_aFact_9 21 rfl rfl)
theorem dX9_aFact_227 : decode cX9_aFact 227 = .ok (.bipush 9, 2) := dk_16 9 (dk_at dksX9_aFact_9 22 rfl rfl)
theorem dX9_aFact_229 : decode cX9_aFact 229 = .ok (.invokevirtual 227, 3) := dk_182 0 227 (dk_at dksX9_aFact_10 0 rfl rfl)
theorem dX9_aFact_232 : decode cX9_aFact 232 = .ok (.ifCond .ne 5, 3) := dk_154 0 5 (dk_at dksX9_aFact_10 3 rfl rfl)
theorem dX9_aFact_235 : decode cX9_aFact 235 = .ok (.iconst 0, 1) := dk_3 (dk_at dksX9_aFact_10 6 rfl rfl)
theorem dX9_aFact_236 : decode cX9_aFact 236 = .ok (.ireturn, 1) := dk_172 (dk_at dksX9_aFact_10 7 rfl rfl)
theorem dX9_aFact_237 : decode cX9_aFact 237 = .ok (.goto (-124), 3) := dk_167 255 132 (dk_at dksX9_aFact_10 8 rfl rfl)
theorem dX9_aFact_240 : decode cX9_aFact 240 = .ok (.aload_n 0, 1) := dk_42 (dk_at dksX9_aFact_10 11 rfl rfl)
theorem dX9_aFact_241 : decode cX9_aFact 241 = .ok (.bipush 59, 2) := dk_16 59 (dk_at dksX9_aFact_10 12 rfl rfl)
theorem dX9_aFact_243 : decode cX9_aFact 243 = .ok (.invokevirtual 183, 3) := dk_182 0 183 (dk_at dksX9_aFact_10 14 rfl rfl)
theorem dX9_aFact_246 : decode cX9_aFact 246 = .ok (.ifCond .ne 9, 3) := dk_154 0 9 (dk_at dksX9_aFact_10 17 rfl rfl)
theorem dX9_aFact_249 : decode cX9_aFact 249 = .ok (.aload_n 0, 1) := dk_42 (dk_at dksX9_aFact_10 20 rfl rfl)
theorem dX9_aFact_250 : decode cX9_aFact 250 = .ok (.iconst 2, 1) := dk_5 (dk_at dksX9_aFact_10 21 rfl rfl)
theorem dX9_aFact_251 : decode cX9_aFact 251 = .ok (.invokevirtual 186, 3) := dk_182 0 186 (dk_at dksX9_aFact_11 0 rfl rfl)
theorem dX9_aFact_254 : decode cX9_aFact 254 = .ok (.ireturn, 1) := dk_172 (dk_at dksX9_aFact_11 3 rfl rfl)
theorem dX9_aFact_255 : decode cX9_aFact 255 = .ok (.iload_n 2, 1) := dk_28 (dk_at dksX9_aFact_11 4 rfl rfl)
theorem dX9_aFact_256 : decode cX9_aFact 256 = .ok (.iconst 2, 1) := dk_5 (dk_at dksX9_aFact_11 5 rfl rfl)
theorem dX9_aFact_257 : decode cX9_aFact 257 = .ok (.if_icmp .lt 19, 3) := dk_161 0 19 (dk_at dksX9_aFact_11 6 rfl rfl)
theorem dX9_aFact_260 : decode cX9_aFact 260 = .ok (.aload_n 0, 1) := dk_42 (dk_at dksX9_aFact_11 9 rfl rfl)
theorem dX9_aFact_261 : decode cX9_aFact 261 = .ok (.getfield 7, 3) := dk_180 0 7 (dk_at dksX9_aFact_11 10 rfl rfl)
theorem dX9_aFact_264 : decode cX9_aFact 264 = .ok (.sipush 1602, 3) := dk_17 6 66 (dk_at dksX9_aFact_11 13 rfl rfl)
theorem dX9_aFact_267 : decode cX9_aFact 267 = .ok (.iaload, 1) := dk_46 (dk_at dksX9_aFact_11 16 rfl rfl)
theorem dX9_aFact_268 : decode cX9_aFact 268 = .ok (.iload_n 2, 1) := dk_28 (dk_at dksX9_aFact_11 17 rfl rfl)
theorem dX9_aFact_269 : decode cX9_aFact 269 = .ok (.imul, 1) := dk_104 (dk_at dksX9_aFact_11 18 rfl rfl)
theorem dX9_aFact_270 : decode cX9_aFact 270 = .ok (.sipush 256, 3) := dk_17 1 0 (dk_at dksX9_aFact_11 19 rfl rfl)
theorem dX9_aFact_273 : decode cX9_aFact 273 = .ok (.if_icmp .le 10, 3) := dk_164 0 10 (dk_at dksX9_aFact_12 0 rfl rfl)
theorem dX9_aFact_276 : decode cX9_aFact 276 = .ok (.aload_n 0, 1) := dk_42 (dk_at dksX9_aFact_12 3 rfl rfl)
theorem dX9_aFact_277 : decode cX9_aFact 277 = .ok (.bipush 8, 2) := dk_16 8 (dk_at dksX9_aFact_12 4 rfl rfl)
theorem dX9_aFact_279 : decode cX9_aFact 279 = .ok (.invokevirtual 186, 3) := dk_182 0 186 (dk_at dksX9_aFact_12 6 rfl rfl)
theorem dX9_aFact_282 : decode cX9_aFact 282 = .ok (.ireturn, 1) := dk_172 (dk_at dksX9_aFact_12 9 rfl rfl)
theorem dX9_aFact_283 : decode cX9_aFact 283 = .ok (.aload_n 0, 1) := dk_42 (dk_at dksX9_aFact_12 10 rfl rfl)
theorem dX9_aFact_284 : decode cX9_aFact 284 = .ok (.getfield 7, 3) := dk_180 0 7 (dk_at dksX9_aFact_12 11 rfl rfl)
theorem dX9_aFact_287 : decode cX9_aFact 287 = .ok (.sipush 1660, 3) := dk_17 6 124 (dk_at dksX9_aFact_12 14 rfl rfl)
theorem dX9_aFact_290 : decode cX9_aFact 290 = .ok (.iload_n 1, 1) := dk_27 (dk_at dksX9_aFact_12 17 rfl rfl)
theorem dX9_aFact_291 : decode cX9_aFact 291 = .ok (.iadd, 1) := dk_96 (dk_at dksX9_aFact_12 18 rfl rfl)
theorem dX9_aFact_292 : decode cX9_aFact 292 = .ok (.iload_n 2, 1) := dk_28 (dk_at dksX9_aFact_12 19 rfl rfl)
theorem dX9_aFact_293 : decode cX9_aFact 293 = .ok (.iastore, 1) := dk_79 (dk_at dksX9_aFact_12 20 rfl rfl)
theorem dX9_aFact_294 : decode cX9_aFact 294 = .ok (.aload_n 0, 1) := dk_42 (dk_at dksX9_aFact_12 21 rfl rfl)
theorem dX9_aFact_295 : decode cX9_aFact 295 = .ok (.getfield 7, 3) := dk_180 0 7 (dk_at dksX9_aFact_13 0 rfl rfl)
theorem dX9_aFact_298 : decode cX9_aFact 298 = .ok (.sipush 1602, 3) := dk_17 6 66 (dk_at dksX9_aFact_13 3 rfl rfl)
theorem dX9_aFact_301 : decode cX9_aFact 301 = .ok (.dup2, 1) := dk_92 (dk_at dksX9_aFact_13 6 rfl rfl)
theorem dX9_aFact_302 : decode cX9_aFact 302 = .ok (.iaload, 1) := dk_46 (dk_at dksX9_aFact_13 7 rfl rfl)
theorem dX9_aFact_303 : decode cX9_aFact 303 = .ok (.iload_n 2, 1) := dk_28 (dk_at dksX9_aFact_13 8 rfl rfl)
theorem dX9_aFact_304 : decode cX9_aFact 304 = .ok (.imul, 1) := dk_104 (dk_at dksX9_aFact_13 9 rfl rfl)
theorem dX9_aFact_305 : decode cX9_aFact 305 = .ok (.iastore, 1) := dk_79 (dk_at dksX9_aFact_13 10 rfl rfl)
theorem dX9_aFact_306 : decode cX9_aFact 306 = .ok (.iconst 1, 1) := dk_4 (dk_at dksX9_aFact_13 11 rfl rfl)
theorem dX9_aFact_307 : decode cX9_aFact 307 = .ok (.ireturn, 1) := dk_172 (dk_at dksX9_aFact_13 12 rfl rfl)
abbrev cX9_fails : ByteArray := prog_19_method_27_code
def yX9_fails : MethodName := ⟨RX9, "fails", "(I)Z"⟩
def dkwX9_fails_1 : List UInt8 := [42, 42, 180, 0, 143, 181, 0, 44, 3, 172]
abbrev dktX9_fails_1 : List UInt8 := dkwX9_fails_1 ++ []
def dkwX9_fails_0 : List UInt8 := [42, 180, 0, 174, 154, 0, 28, 42, 42, 180, 0, 149, 4, 160, 0, 7, 4, 167, 0, 4, 27, 181, 0, 174]
abbrev dktX9_fails_0 : List UInt8 := dkwX9_fails_0 ++ dktX9_fails_1
theorem dksX9_fails_0 : cX9_fails.data.toList.drop 0 = dktX9_fails_0 := by decide +kernel
theorem dksX9_fails_1 : cX9_fails.data.toList.drop 24 = dktX9_fails_1 := dk_seg dksX9_fails_0 24 rfl rfl
theorem dX9_fails_0 : decode cX9_fails 0 = .ok (.aload_n 0, 1) := dk_42 (dk_at dksX9_fails_0 0 rfl rfl)
theorem dX9_fails_1 : decode cX9_fails 1 = .ok (.getfield 174, 3) := dk_180 0 174 (dk_at dksX9_fails_0 1 rfl rfl)
theorem dX9_fails_4 : decode cX9_fails 4 = .ok (.ifCond .ne 28, 3) := dk_154 0 28 (dk_at dksX9_fails_0 4 rfl rfl)
theorem dX9_fails_7 : decode cX9_fails 7 = .ok (.aload_n 0, 1) := dk_42 (dk_at dksX9_fails_0 7 rfl rfl)
theorem dX9_fails_8 : decode cX9_fails 8 = .ok (.aload_n 0, 1) := dk_42 (dk_at dksX9_fails_0 8 rfl rfl)
theorem dX9_fails_9 : decode cX9_fails 9 = .ok (.getfield 149, 3) := dk_180 0 149 (dk_at dksX9_fails_0 9 rfl rfl)
theorem dX9_fails_12 : decode cX9_fails 12 = .ok (.iconst 1, 1) := dk_4 (dk_at dksX9_fails_0 12 rfl rfl)
theorem dX9_fails_13 : decode cX9_fails 13 = .ok (.if_icmp .ne 7, 3) := dk_160 0 7 (dk_at dksX9_fails_0 13 rfl rfl)
theorem dX9_fails_16 : decode cX9_fails 16 = .ok (.iconst 1, 1) := dk_4 (dk_at dksX9_fails_0 16 rfl rfl)
theorem dX9_fails_17 : decode cX9_fails 17 = .ok (.goto 4, 3) := dk_167 0 4 (dk_at dksX9_fails_0 17 rfl rfl)
theorem dX9_fails_20 : decode cX9_fails 20 = .ok (.iload_n 1, 1) := dk_27 (dk_at dksX9_fails_0 20 rfl rfl)
theorem dX9_fails_21 : decode cX9_fails 21 = .ok (.putfield 174, 3) := dk_181 0 174 (dk_at dksX9_fails_0 21 rfl rfl)
theorem dX9_fails_24 : decode cX9_fails 24 = .ok (.aload_n 0, 1) := dk_42 (dk_at dksX9_fails_1 0 rfl rfl)
theorem dX9_fails_25 : decode cX9_fails 25 = .ok (.aload_n 0, 1) := dk_42 (dk_at dksX9_fails_1 1 rfl rfl)
theorem dX9_fails_26 : decode cX9_fails 26 = .ok (.getfield 143, 3) := dk_180 0 143 (dk_at dksX9_fails_1 2 rfl rfl)
theorem dX9_fails_29 : decode cX9_fails 29 = .ok (.putfield 44, 3) := dk_181 0 44 (dk_at dksX9_fails_1 5 rfl rfl)
theorem dX9_fails_32 : decode cX9_fails 32 = .ok (.iconst 0, 1) := dk_3 (dk_at dksX9_fails_1 8 rfl rfl)
theorem dX9_fails_33 : decode cX9_fails 33 = .ok (.ireturn, 1) := dk_172 (dk_at dksX9_fails_1 9 rfl rfl)
abbrev cX9_newName : ByteArray := prog_19_method_38_code
def yX9_newName : MethodName := ⟨RX9, "newName", "(II)Z"⟩
def dkwX9_newName_2 : List UInt8 := [4, 172]
abbrev dktX9_newName_2 : List UInt8 := dkwX9_newName_2 ++ []
def dkwX9_newName_1 : List UInt8 := [182, 0, 186, 172, 42, 180, 0, 17, 17, 0, 176, 27, 96, 28, 96, 42, 182, 0, 193, 80, 42, 182, 0, 180]
abbrev dktX9_newName_1 : List UInt8 := dkwX9_newName_1 ++ dktX9_newName_2
def dkwX9_newName_0 : List UInt8 := [42, 18, 206, 182, 0, 208, 154, 0, 9, 42, 5, 182, 0, 186, 172, 42, 182, 0, 212, 154, 0, 9, 42, 6]
abbrev dktX9_newName_0 : List UInt8 := dkwX9_newName_0 ++ dktX9_newName_1
theorem dksX9_newName_0 : cX9_newName.data.toList.drop 0 = dktX9_newName_0 := by decide +kernel
theorem dksX9_newName_1 : cX9_newName.data.toList.drop 24 = dktX9_newName_1 := dk_seg dksX9_newName_0 24 rfl rfl
theorem dksX9_newName_2 : cX9_newName.data.toList.drop 48 = dktX9_newName_2 := dk_seg dksX9_newName_1 24 rfl rfl
theorem dX9_newName_0 : decode cX9_newName 0 = .ok (.aload_n 0, 1) := dk_42 (dk_at dksX9_newName_0 0 rfl rfl)
theorem dX9_newName_1 : decode cX9_newName 1 = .ok (.ldc 206, 2) := dk_18 206 (dk_at dksX9_newName_0 1 rfl rfl)
theorem dX9_newName_3 : decode cX9_newName 3 = .ok (.invokevirtual 208, 3) := dk_182 0 208 (dk_at dksX9_newName_0 3 rfl rfl)
theorem dX9_newName_6 : decode cX9_newName 6 = .ok (.ifCond .ne 9, 3) := dk_154 0 9 (dk_at dksX9_newName_0 6 rfl rfl)
theorem dX9_newName_9 : decode cX9_newName 9 = .ok (.aload_n 0, 1) := dk_42 (dk_at dksX9_newName_0 9 rfl rfl)
theorem dX9_newName_10 : decode cX9_newName 10 = .ok (.iconst 2, 1) := dk_5 (dk_at dksX9_newName_0 10 rfl rfl)
theorem dX9_newName_11 : decode cX9_newName 11 = .ok (.invokevirtual 186, 3) := dk_182 0 186 (dk_at dksX9_newName_0 11 rfl rfl)
theorem dX9_newName_14 : decode cX9_newName 14 = .ok (.ireturn, 1) := dk_172 (dk_at dksX9_newName_0 14 rfl rfl)
theorem dX9_newName_15 : decode cX9_newName 15 = .ok (.aload_n 0, 1) := dk_42 (dk_at dksX9_newName_0 15 rfl rfl)
theorem dX9_newName_16 : decode cX9_newName 16 = .ok (.invokevirtual 212, 3) := dk_182 0 212 (dk_at dksX9_newName_0 16 rfl rfl)
theorem dX9_newName_19 : decode cX9_newName 19 = .ok (.ifCond .ne 9, 3) := dk_154 0 9 (dk_at dksX9_newName_0 19 rfl rfl)
theorem dX9_newName_22 : decode cX9_newName 22 = .ok (.aload_n 0, 1) := dk_42 (dk_at dksX9_newName_0 22 rfl rfl)
theorem dX9_newName_23 : decode cX9_newName 23 = .ok (.iconst 3, 1) := dk_6 (dk_at dksX9_newName_0 23 rfl rfl)
theorem dX9_newName_24 : decode cX9_newName 24 = .ok (.invokevirtual 186, 3) := dk_182 0 186 (dk_at dksX9_newName_1 0 rfl rfl)
theorem dX9_newName_27 : decode cX9_newName 27 = .ok (.ireturn, 1) := dk_172 (dk_at dksX9_newName_1 3 rfl rfl)
theorem dX9_newName_28 : decode cX9_newName 28 = .ok (.aload_n 0, 1) := dk_42 (dk_at dksX9_newName_1 4 rfl rfl)
theorem dX9_newName_29 : decode cX9_newName 29 = .ok (.getfield 17, 3) := dk_180 0 17 (dk_at dksX9_newName_1 5 rfl rfl)
theorem dX9_newName_32 : decode cX9_newName 32 = .ok (.sipush 176, 3) := dk_17 0 176 (dk_at dksX9_newName_1 8 rfl rfl)
theorem dX9_newName_35 : decode cX9_newName 35 = .ok (.iload_n 1, 1) := dk_27 (dk_at dksX9_newName_1 11 rfl rfl)
theorem dX9_newName_36 : decode cX9_newName 36 = .ok (.iadd, 1) := dk_96 (dk_at dksX9_newName_1 12 rfl rfl)
theorem dX9_newName_37 : decode cX9_newName 37 = .ok (.iload_n 2, 1) := dk_28 (dk_at dksX9_newName_1 13 rfl rfl)
theorem dX9_newName_38 : decode cX9_newName 38 = .ok (.iadd, 1) := dk_96 (dk_at dksX9_newName_1 14 rfl rfl)
theorem dX9_newName_39 : decode cX9_newName 39 = .ok (.aload_n 0, 1) := dk_42 (dk_at dksX9_newName_1 15 rfl rfl)
theorem dX9_newName_40 : decode cX9_newName 40 = .ok (.invokevirtual 193, 3) := dk_182 0 193 (dk_at dksX9_newName_1 16 rfl rfl)
theorem dX9_newName_43 : decode cX9_newName 43 = .ok (.lastore, 1) := dk_80 (dk_at dksX9_newName_1 19 rfl rfl)
theorem dX9_newName_44 : decode cX9_newName 44 = .ok (.aload_n 0, 1) := dk_42 (dk_at dksX9_newName_1 20 rfl rfl)
theorem dX9_newName_45 : decode cX9_newName 45 = .ok (.invokevirtual 180, 3) := dk_182 0 180 (dk_at dksX9_newName_1 21 rfl rfl)
theorem dX9_newName_48 : decode cX9_newName 48 = .ok (.iconst 1, 1) := dk_4 (dk_at dksX9_newName_2 0 rfl rfl)
theorem dX9_newName_49 : decode cX9_newName 49 = .ok (.ireturn, 1) := dk_172 (dk_at dksX9_newName_2 1 rfl rfl)
abbrev cX9_isName : ByteArray := prog_19_method_32_code
def yX9_isName : MethodName := ⟨RX9, "isName", "(Ljava/lang/String;)Z"⟩
def dkwX9_isName_1 : List UInt8 := [182, 0, 189, 2, 160, 0, 7, 4, 167, 0, 4, 3, 172]
abbrev dktX9_isName_1 : List UInt8 := dkwX9_isName_1 ++ []
def dkwX9_isName_0 : List UInt8 := [42, 180, 0, 149, 5, 160, 0, 30, 42, 180, 0, 136, 42, 180, 0, 143, 100, 16, 8, 163, 0, 16, 42, 43]
abbrev dktX9_isName_0 : List UInt8 := dkwX9_isName_0 ++ dktX9_isName_1
theorem dksX9_isName_0 : cX9_isName.data.toList.drop 0 = dktX9_isName_0 := by decide +kernel
theorem dksX9_isName_1 : cX9_isName.data.toList.drop 24 = dktX9_isName_1 := dk_seg dksX9_isName_0 24 rfl rfl
theorem dX9_isName_0 : decode cX9_isName 0 = .ok (.aload_n 0, 1) := dk_42 (dk_at dksX9_isName_0 0 rfl rfl)
theorem dX9_isName_1 : decode cX9_isName 1 = .ok (.getfield 149, 3) := dk_180 0 149 (dk_at dksX9_isName_0 1 rfl rfl)
theorem dX9_isName_4 : decode cX9_isName 4 = .ok (.iconst 2, 1) := dk_5 (dk_at dksX9_isName_0 4 rfl rfl)
theorem dX9_isName_5 : decode cX9_isName 5 = .ok (.if_icmp .ne 30, 3) := dk_160 0 30 (dk_at dksX9_isName_0 5 rfl rfl)
theorem dX9_isName_8 : decode cX9_isName 8 = .ok (.aload_n 0, 1) := dk_42 (dk_at dksX9_isName_0 8 rfl rfl)
theorem dX9_isName_9 : decode cX9_isName 9 = .ok (.getfield 136, 3) := dk_180 0 136 (dk_at dksX9_isName_0 9 rfl rfl)
theorem dX9_isName_12 : decode cX9_isName 12 = .ok (.aload_n 0, 1) := dk_42 (dk_at dksX9_isName_0 12 rfl rfl)
theorem dX9_isName_13 : decode cX9_isName 13 = .ok (.getfield 143, 3) := dk_180 0 143 (dk_at dksX9_isName_0 13 rfl rfl)
theorem dX9_isName_16 : decode cX9_isName 16 = .ok (.isub, 1) := dk_100 (dk_at dksX9_isName_0 16 rfl rfl)
theorem dX9_isName_17 : decode cX9_isName 17 = .ok (.bipush 8, 2) := dk_16 8 (dk_at dksX9_isName_0 17 rfl rfl)
theorem dX9_isName_19 : decode cX9_isName 19 = .ok (.if_icmp .gt 16, 3) := dk_163 0 16 (dk_at dksX9_isName_0 19 rfl rfl)
theorem dX9_isName_22 : decode cX9_isName 22 = .ok (.aload_n 0, 1) := dk_42 (dk_at dksX9_isName_0 22 rfl rfl)
theorem dX9_isName_23 : decode cX9_isName 23 = .ok (.aload_n 1, 1) := dk_43 (dk_at dksX9_isName_0 23 rfl rfl)
theorem dX9_isName_24 : decode cX9_isName 24 = .ok (.invokevirtual 189, 3) := dk_182 0 189 (dk_at dksX9_isName_1 0 rfl rfl)
theorem dX9_isName_27 : decode cX9_isName 27 = .ok (.iconst (-1), 1) := dk_2 (dk_at dksX9_isName_1 3 rfl rfl)
theorem dX9_isName_28 : decode cX9_isName 28 = .ok (.if_icmp .ne 7, 3) := dk_160 0 7 (dk_at dksX9_isName_1 4 rfl rfl)
theorem dX9_isName_31 : decode cX9_isName 31 = .ok (.iconst 1, 1) := dk_4 (dk_at dksX9_isName_1 7 rfl rfl)
theorem dX9_isName_32 : decode cX9_isName 32 = .ok (.goto 4, 3) := dk_167 0 4 (dk_at dksX9_isName_1 8 rfl rfl)
theorem dX9_isName_35 : decode cX9_isName 35 = .ok (.iconst 0, 1) := dk_3 (dk_at dksX9_isName_1 11 rfl rfl)
theorem dX9_isName_36 : decode cX9_isName 36 = .ok (.ireturn, 1) := dk_172 (dk_at dksX9_isName_1 12 rfl rfl)
abbrev cX9_isFree : ByteArray := prog_19_method_37_code
def yX9_isFree : MethodName := ⟨RX9, "isFree", "()Z"⟩
def dkwX9_isFree_3 : List UInt8 := [182, 0, 203, 2, 160, 0, 7, 4, 167, 0, 4, 3, 172]
abbrev dktX9_isFree_3 : List UInt8 := dkwX9_isFree_3 ++ []
def dkwX9_isFree_2 : List UInt8 := [17, 6, 67, 46, 182, 0, 203, 2, 160, 0, 26, 42, 17, 0, 216, 42, 180, 0, 7, 17, 6, 68, 46]
abbrev dktX9_isFree_2 : List UInt8 := dkwX9_isFree_2 ++ dktX9_isFree_3
def dkwX9_isFree_1 : List UInt8 := [180, 0, 7, 17, 6, 65, 46, 182, 0, 203, 2, 160, 0, 45, 42, 17, 0, 204, 42, 180, 0, 7]
abbrev dktX9_isFree_1 : List UInt8 := dkwX9_isFree_1 ++ dktX9_isFree_2
def dkwX9_isFree_0 : List UInt8 := [42, 17, 0, 176, 42, 180, 0, 7, 17, 6, 64, 46, 182, 0, 203, 2, 160, 0, 64, 42, 17, 0, 180, 42]
abbrev dktX9_isFree_0 : List UInt8 := dkwX9_isFree_0 ++ dktX9_isFree_1
theorem dksX9_isFree_0 : cX9_isFree.data.toList.drop 0 = dktX9_isFree_0 := by decide +kernel
theorem dksX9_isFree_1 : cX9_isFree.data.toList.drop 24 = dktX9_isFree_1 := dk_seg dksX9_isFree_0 24 rfl rfl
theorem dksX9_isFree_2 : cX9_isFree.data.toList.drop 46 = dktX9_isFree_2 := dk_seg dksX9_isFree_1 22 rfl rfl
theorem dksX9_isFree_3 : cX9_isFree.data.toList.drop 69 = dktX9_isFree_3 := dk_seg dksX9_isFree_2 23 rfl rfl
theorem dX9_isFree_0 : decode cX9_isFree 0 = .ok (.aload_n 0, 1) := dk_42 (dk_at dksX9_isFree_0 0 rfl rfl)
theorem dX9_isFree_1 : decode cX9_isFree 1 = .ok (.sipush 176, 3) := dk_17 0 176 (dk_at dksX9_isFree_0 1 rfl rfl)
theorem dX9_isFree_4 : decode cX9_isFree 4 = .ok (.aload_n 0, 1) := dk_42 (dk_at dksX9_isFree_0 4 rfl rfl)
theorem dX9_isFree_5 : decode cX9_isFree 5 = .ok (.getfield 7, 3) := dk_180 0 7 (dk_at dksX9_isFree_0 5 rfl rfl)
theorem dX9_isFree_8 : decode cX9_isFree 8 = .ok (.sipush 1600, 3) := dk_17 6 64 (dk_at dksX9_isFree_0 8 rfl rfl)
theorem dX9_isFree_11 : decode cX9_isFree 11 = .ok (.iaload, 1) := dk_46 (dk_at dksX9_isFree_0 11 rfl rfl)
theorem dX9_isFree_12 : decode cX9_isFree 12 = .ok (.invokevirtual 203, 3) := dk_182 0 203 (dk_at dksX9_isFree_0 12 rfl rfl)
theorem dX9_isFree_15 : decode cX9_isFree 15 = .ok (.iconst (-1), 1) := dk_2 (dk_at dksX9_isFree_0 15 rfl rfl)
theorem dX9_isFree_16 : decode cX9_isFree 16 = .ok (.if_icmp .ne 64, 3) := dk_160 0 64 (dk_at dksX9_isFree_0 16 rfl rfl)
theorem dX9_isFree_19 : decode cX9_isFree 19 = .ok (.aload_n 0, 1) := dk_42 (dk_at dksX9_isFree_0 19 rfl rfl)
theorem dX9_isFree_20 : decode cX9_isFree 20 = .ok (.sipush 180, 3) := dk_17 0 180 (dk_at dksX9_isFree_0 20 rfl rfl)
theorem dX9_isFree_23 : decode cX9_isFree 23 = .ok (.aload_n 0, 1) := dk_42 (dk_at dksX9_isFree_0 23 rfl rfl)
theorem dX9_isFree_24 : decode cX9_isFree 24 = .ok (.getfield 7, 3) := dk_180 0 7 (dk_at dksX9_isFree_1 0 rfl rfl)
theorem dX9_isFree_27 : decode cX9_isFree 27 = .ok (.sipush 1601, 3) := dk_17 6 65 (dk_at dksX9_isFree_1 3 rfl rfl)
theorem dX9_isFree_30 : decode cX9_isFree 30 = .ok (.iaload, 1) := dk_46 (dk_at dksX9_isFree_1 6 rfl rfl)
theorem dX9_isFree_31 : decode cX9_isFree 31 = .ok (.invokevirtual 203, 3) := dk_182 0 203 (dk_at dksX9_isFree_1 7 rfl rfl)
theorem dX9_isFree_34 : decode cX9_isFree 34 = .ok (.iconst (-1), 1) := dk_2 (dk_at dksX9_isFree_1 10 rfl rfl)
theorem dX9_isFree_35 : decode cX9_isFree 35 = .ok (.if_icmp .ne 45, 3) := dk_160 0 45 (dk_at dksX9_isFree_1 11 rfl rfl)
theorem dX9_isFree_38 : decode cX9_isFree 38 = .ok (.aload_n 0, 1) := dk_42 (dk_at dksX9_isFree_1 14 rfl rfl)
theorem dX9_isFree_39 : decode cX9_isFree 39 = .ok (.sipush 204, 3) := dk_17 0 204 (dk_at dksX9_isFree_1 15 rfl rfl)
theorem dX9_isFree_42 : decode cX9_isFree 42 = .ok (.aload_n 0, 1) := dk_42 (dk_at dksX9_isFree_1 18 rfl rfl)
theorem dX9_isFree_43 : decode cX9_isFree 43 = .ok (.getfield 7, 3) := dk_180 0 7 (dk_at dksX9_isFree_1 19 rfl rfl)
theorem dX9_isFree_46 : decode cX9_isFree 46 = .ok (.sipush 1603, 3) := dk_17 6 67 (dk_at dksX9_isFree_2 0 rfl rfl)
theorem dX9_isFree_49 : decode cX9_isFree 49 = .ok (.iaload, 1) := dk_46 (dk_at dksX9_isFree_2 3 rfl rfl)
theorem dX9_isFree_50 : decode cX9_isFree 50 = .ok (.invokevirtual 203, 3) := dk_182 0 203 (dk_at dksX9_isFree_2 4 rfl rfl)
theorem dX9_isFree_53 : decode cX9_isFree 53 = .ok (.iconst (-1), 1) := dk_2 (dk_at dksX9_isFree_2 7 rfl rfl)
theorem dX9_isFree_54 : decode cX9_isFree 54 = .ok (.if_icmp .ne 26, 3) := dk_160 0 26 (dk_at dksX9_isFree_2 8 rfl rfl)
theorem dX9_isFree_57 : decode cX9_isFree 57 = .ok (.aload_n 0, 1) := dk_42 (dk_at dksX9_isFree_2 11 rfl rfl)
theorem dX9_isFree_58 : decode cX9_isFree 58 = .ok (.sipush 216, 3) := dk_17 0 216 (dk_at dksX9_isFree_2 12 rfl rfl)
theorem dX9_isFree_61 : decode cX9_isFree 61 = .ok (.aload_n 0, 1) := dk_42 (dk_at dksX9_isFree_2 15 rfl rfl)
theorem dX9_isFree_62 : decode cX9_isFree 62 = .ok (.getfield 7, 3) := dk_180 0 7 (dk_at dksX9_isFree_2 16 rfl rfl)
theorem dX9_isFree_65 : decode cX9_isFree 65 = .ok (.sipush 1604, 3) := dk_17 6 68 (dk_at dksX9_isFree_2 19 rfl rfl)
theorem dX9_isFree_68 : decode cX9_isFree 68 = .ok (.iaload, 1) := dk_46 (dk_at dksX9_isFree_2 22 rfl rfl)
theorem dX9_isFree_69 : decode cX9_isFree 69 = .ok (.invokevirtual 203, 3) := dk_182 0 203 (dk_at dksX9_isFree_3 0 rfl rfl)
theorem dX9_isFree_72 : decode cX9_isFree 72 = .ok (.iconst (-1), 1) := dk_2 (dk_at dksX9_isFree_3 3 rfl rfl)
theorem dX9_isFree_73 : decode cX9_isFree 73 = .ok (.if_icmp .ne 7, 3) := dk_160 0 7 (dk_at dksX9_isFree_3 4 rfl rfl)
theorem dX9_isFree_76 : decode cX9_isFree 76 = .ok (.iconst 1, 1) := dk_4 (dk_at dksX9_isFree_3 7 rfl rfl)
theorem dX9_isFree_77 : decode cX9_isFree 77 = .ok (.goto 4, 3) := dk_167 0 4 (dk_at dksX9_isFree_3 8 rfl rfl)
theorem dX9_isFree_80 : decode cX9_isFree 80 = .ok (.iconst 0, 1) := dk_3 (dk_at dksX9_isFree_3 11 rfl rfl)
theorem dX9_isFree_81 : decode cX9_isFree 81 = .ok (.ireturn, 1) := dk_172 (dk_at dksX9_isFree_3 12 rfl rfl)
abbrev cX9_findHere : ByteArray := prog_19_method_34_code
def yX9_findHere : MethodName := ⟨RX9, "findHere", "(II)I"⟩
def dkwX9_findHere_1 : List UInt8 := [172, 132, 3, 1, 167, 255, 230, 2, 172]
abbrev dktX9_findHere_1 : List UInt8 := dkwX9_findHere_1 ++ []
def dkwX9_findHere_0 : List UInt8 := [3, 62, 29, 28, 162, 0, 27, 42, 180, 0, 17, 27, 29, 96, 47, 42, 182, 0, 193, 148, 154, 0, 5, 29]
abbrev dktX9_findHere_0 : List UInt8 := dkwX9_findHere_0 ++ dktX9_findHere_1
theorem dksX9_findHere_0 : cX9_findHere.data.toList.drop 0 = dktX9_findHere_0 := by decide +kernel
theorem dksX9_findHere_1 : cX9_findHere.data.toList.drop 24 = dktX9_findHere_1 := dk_seg dksX9_findHere_0 24 rfl rfl
theorem dX9_findHere_0 : decode cX9_findHere 0 = .ok (.iconst 0, 1) := dk_3 (dk_at dksX9_findHere_0 0 rfl rfl)
theorem dX9_findHere_1 : decode cX9_findHere 1 = .ok (.istore_n 3, 1) := dk_62 (dk_at dksX9_findHere_0 1 rfl rfl)
theorem dX9_findHere_2 : decode cX9_findHere 2 = .ok (.iload_n 3, 1) := dk_29 (dk_at dksX9_findHere_0 2 rfl rfl)
theorem dX9_findHere_3 : decode cX9_findHere 3 = .ok (.iload_n 2, 1) := dk_28 (dk_at dksX9_findHere_0 3 rfl rfl)
theorem dX9_findHere_4 : decode cX9_findHere 4 = .ok (.if_icmp .ge 27, 3) := dk_162 0 27 (dk_at dksX9_findHere_0 4 rfl rfl)
theorem dX9_findHere_7 : decode cX9_findHere 7 = .ok (.aload_n 0, 1) := dk_42 (dk_at dksX9_findHere_0 7 rfl rfl)
theorem dX9_findHere_8 : decode cX9_findHere 8 = .ok (.getfield 17, 3) := dk_180 0 17 (dk_at dksX9_findHere_0 8 rfl rfl)
theorem dX9_findHere_11 : decode cX9_findHere 11 = .ok (.iload_n 1, 1) := dk_27 (dk_at dksX9_findHere_0 11 rfl rfl)
theorem dX9_findHere_12 : decode cX9_findHere 12 = .ok (.iload_n 3, 1) := dk_29 (dk_at dksX9_findHere_0 12 rfl rfl)
theorem dX9_findHere_13 : decode cX9_findHere 13 = .ok (.iadd, 1) := dk_96 (dk_at dksX9_findHere_0 13 rfl rfl)
theorem dX9_findHere_14 : decode cX9_findHere 14 = .ok (.laload, 1) := dk_47 (dk_at dksX9_findHere_0 14 rfl rfl)
theorem dX9_findHere_15 : decode cX9_findHere 15 = .ok (.aload_n 0, 1) := dk_42 (dk_at dksX9_findHere_0 15 rfl rfl)
theorem dX9_findHere_16 : decode cX9_findHere 16 = .ok (.invokevirtual 193, 3) := dk_182 0 193 (dk_at dksX9_findHere_0 16 rfl rfl)
theorem dX9_findHere_19 : decode cX9_findHere 19 = .ok (.lcmp, 1) := dk_148 (dk_at dksX9_findHere_0 19 rfl rfl)
theorem dX9_findHere_20 : decode cX9_findHere 20 = .ok (.ifCond .ne 5, 3) := dk_154 0 5 (dk_at dksX9_findHere_0 20 rfl rfl)
theorem dX9_findHere_23 : decode cX9_findHere 23 = .ok (.iload_n 3, 1) := dk_29 (dk_at dksX9_findHere_0 23 rfl rfl)
theorem dX9_findHere_24 : decode cX9_findHere 24 = .ok (.ireturn, 1) := dk_172 (dk_at dksX9_findHere_1 0 rfl rfl)
theorem dX9_findHere_25 : decode cX9_findHere 25 = .ok (.iinc 3 1, 3) := dk_132 3 1 (dk_at dksX9_findHere_1 1 rfl rfl)
theorem dX9_findHere_28 : decode cX9_findHere 28 = .ok (.goto (-26), 3) := dk_167 255 230 (dk_at dksX9_findHere_1 4 rfl rfl)
theorem dX9_findHere_31 : decode cX9_findHere 31 = .ok (.iconst (-1), 1) := dk_2 (dk_at dksX9_findHere_1 7 rfl rfl)
theorem dX9_findHere_32 : decode cX9_findHere 32 = .ok (.ireturn, 1) := dk_172 (dk_at dksX9_findHere_1 8 rfl rfl)
abbrev cX9_nameHere : ByteArray := prog_19_method_33_code
def yX9_nameHere : MethodName := ⟨RX9, "nameHere", "()J"⟩
def dkwX9_nameHere_1 : List UInt8 := [133, 129, 64, 132, 3, 1, 167, 255, 233, 31, 173]
abbrev dktX9_nameHere_1 : List UInt8 := dkwX9_nameHere_1 ++ []
def dkwX9_nameHere_0 : List UInt8 := [9, 64, 42, 180, 0, 143, 62, 29, 42, 180, 0, 136, 162, 0, 21, 31, 16, 8, 121, 42, 29, 182, 0, 139]
abbrev dktX9_nameHere_0 : List UInt8 := dkwX9_nameHere_0 ++ dktX9_nameHere_1
theorem dksX9_nameHere_0 : cX9_nameHere.data.toList.drop 0 = dktX9_nameHere_0 := by decide +kernel
theorem dksX9_nameHere_1 : cX9_nameHere.data.toList.drop 24 = dktX9_nameHere_1 := dk_seg dksX9_nameHere_0 24 rfl rfl
theorem dX9_nameHere_0 : decode cX9_nameHere 0 = .ok (.lconst 0, 1) := dk_9 (dk_at dksX9_nameHere_0 0 rfl rfl)
theorem dX9_nameHere_1 : decode cX9_nameHere 1 = .ok (.lstore_n 1, 1) := dk_64 (dk_at dksX9_nameHere_0 1 rfl rfl)
theorem dX9_nameHere_2 : decode cX9_nameHere 2 = .ok (.aload_n 0, 1) := dk_42 (dk_at dksX9_nameHere_0 2 rfl rfl)
theorem dX9_nameHere_3 : decode cX9_nameHere 3 = .ok (.getfield 143, 3) := dk_180 0 143 (dk_at dksX9_nameHere_0 3 rfl rfl)
theorem dX9_nameHere_6 : decode cX9_nameHere 6 = .ok (.istore_n 3, 1) := dk_62 (dk_at dksX9_nameHere_0 6 rfl rfl)
theorem dX9_nameHere_7 : decode cX9_nameHere 7 = .ok (.iload_n 3, 1) := dk_29 (dk_at dksX9_nameHere_0 7 rfl rfl)
theorem dX9_nameHere_8 : decode cX9_nameHere 8 = .ok (.aload_n 0, 1) := dk_42 (dk_at dksX9_nameHere_0 8 rfl rfl)
theorem dX9_nameHere_9 : decode cX9_nameHere 9 = .ok (.getfield 136, 3) := dk_180 0 136 (dk_at dksX9_nameHere_0 9 rfl rfl)
theorem dX9_nameHere_12 : decode cX9_nameHere 12 = .ok (.if_icmp .ge 21, 3) := dk_162 0 21 (dk_at dksX9_nameHere_0 12 rfl rfl)
theorem dX9_nameHere_15 : decode cX9_nameHere 15 = .ok (.lload_n 1, 1) := dk_31 (dk_at dksX9_nameHere_0 15 rfl rfl)
theorem dX9_nameHere_16 : decode cX9_nameHere 16 = .ok (.bipush 8, 2) := dk_16 8 (dk_at dksX9_nameHere_0 16 rfl rfl)
theorem dX9_nameHere_18 : decode cX9_nameHere 18 = .ok (.lshl, 1) := dk_121 (dk_at dksX9_nameHere_0 18 rfl rfl)
theorem dX9_nameHere_19 : decode cX9_nameHere 19 = .ok (.aload_n 0, 1) := dk_42 (dk_at dksX9_nameHere_0 19 rfl rfl)
theorem dX9_nameHere_20 : decode cX9_nameHere 20 = .ok (.iload_n 3, 1) := dk_29 (dk_at dksX9_nameHere_0 20 rfl rfl)
theorem dX9_nameHere_21 : decode cX9_nameHere 21 = .ok (.invokevirtual 139, 3) := dk_182 0 139 (dk_at dksX9_nameHere_0 21 rfl rfl)
theorem dX9_nameHere_24 : decode cX9_nameHere 24 = .ok (.i2l, 1) := dk_133 (dk_at dksX9_nameHere_1 0 rfl rfl)
theorem dX9_nameHere_25 : decode cX9_nameHere 25 = .ok (.lor, 1) := dk_129 (dk_at dksX9_nameHere_1 1 rfl rfl)
theorem dX9_nameHere_26 : decode cX9_nameHere 26 = .ok (.lstore_n 1, 1) := dk_64 (dk_at dksX9_nameHere_1 2 rfl rfl)
theorem dX9_nameHere_27 : decode cX9_nameHere 27 = .ok (.iinc 3 1, 3) := dk_132 3 1 (dk_at dksX9_nameHere_1 3 rfl rfl)
theorem dX9_nameHere_30 : decode cX9_nameHere 30 = .ok (.goto (-23), 3) := dk_167 255 233 (dk_at dksX9_nameHere_1 6 rfl rfl)
theorem dX9_nameHere_33 : decode cX9_nameHere 33 = .ok (.lload_n 1, 1) := dk_31 (dk_at dksX9_nameHere_1 9 rfl rfl)
theorem dX9_nameHere_34 : decode cX9_nameHere 34 = .ok (.lreturn, 1) := dk_173 (dk_at dksX9_nameHere_1 10 rfl rfl)
abbrev cX9_wantWord : ByteArray := prog_19_method_30_code
def yX9_wantWord : MethodName := ⟨RX9, "wantWord", "(Ljava/lang/String;I)Z"⟩
def dkwX9_wantWord_0 : List UInt8 := [42, 43, 182, 0, 189, 28, 159, 0, 9, 42, 5, 182, 0, 186, 172, 42, 182, 0, 180, 4, 172]
abbrev dktX9_wantWord_0 : List UInt8 := dkwX9_wantWord_0 ++ []
theorem dksX9_wantWord_0 : cX9_wantWord.data.toList.drop 0 = dktX9_wantWord_0 := by decide +kernel
theorem dX9_wantWord_0 : decode cX9_wantWord 0 = .ok (.aload_n 0, 1) := dk_42 (dk_at dksX9_wantWord_0 0 rfl rfl)
theorem dX9_wantWord_1 : decode cX9_wantWord 1 = .ok (.aload_n 1, 1) := dk_43 (dk_at dksX9_wantWord_0 1 rfl rfl)
theorem dX9_wantWord_2 : decode cX9_wantWord 2 = .ok (.invokevirtual 189, 3) := dk_182 0 189 (dk_at dksX9_wantWord_0 2 rfl rfl)
theorem dX9_wantWord_5 : decode cX9_wantWord 5 = .ok (.iload_n 2, 1) := dk_28 (dk_at dksX9_wantWord_0 5 rfl rfl)
theorem dX9_wantWord_6 : decode cX9_wantWord 6 = .ok (.if_icmp .eq 9, 3) := dk_159 0 9 (dk_at dksX9_wantWord_0 6 rfl rfl)
theorem dX9_wantWord_9 : decode cX9_wantWord 9 = .ok (.aload_n 0, 1) := dk_42 (dk_at dksX9_wantWord_0 9 rfl rfl)
theorem dX9_wantWord_10 : decode cX9_wantWord 10 = .ok (.iconst 2, 1) := dk_5 (dk_at dksX9_wantWord_0 10 rfl rfl)
theorem dX9_wantWord_11 : decode cX9_wantWord 11 = .ok (.invokevirtual 186, 3) := dk_182 0 186 (dk_at dksX9_wantWord_0 11 rfl rfl)
theorem dX9_wantWord_14 : decode cX9_wantWord 14 = .ok (.ireturn, 1) := dk_172 (dk_at dksX9_wantWord_0 14 rfl rfl)
theorem dX9_wantWord_15 : decode cX9_wantWord 15 = .ok (.aload_n 0, 1) := dk_42 (dk_at dksX9_wantWord_0 15 rfl rfl)
theorem dX9_wantWord_16 : decode cX9_wantWord 16 = .ok (.invokevirtual 180, 3) := dk_182 0 180 (dk_at dksX9_wantWord_0 16 rfl rfl)
theorem dX9_wantWord_19 : decode cX9_wantWord 19 = .ok (.iconst 1, 1) := dk_4 (dk_at dksX9_wantWord_0 19 rfl rfl)
theorem dX9_wantWord_20 : decode cX9_wantWord 20 = .ok (.ireturn, 1) := dk_172 (dk_at dksX9_wantWord_0 20 rfl rfl)
abbrev cX9_number : ByteArray := prog_19_method_31_code
def yX9_number : MethodName := ⟨RX9, "number", "(III)Z"⟩
def dkwX9_number_2 : List UInt8 := [182, 0, 180, 4, 172]
abbrev dktX9_number_2 : List UInt8 := dkwX9_number_2 ++ []
def dkwX9_number_1 : List UInt8 := [180, 0, 146, 29, 164, 0, 9, 42, 7, 182, 0, 186, 172, 42, 180, 0, 7, 27, 42, 180, 0, 146, 79, 42]
abbrev dktX9_number_1 : List UInt8 := dkwX9_number_1 ++ dktX9_number_2
def dkwX9_number_0 : List UInt8 := [42, 180, 0, 149, 6, 159, 0, 9, 42, 5, 182, 0, 186, 172, 42, 180, 0, 146, 28, 161, 0, 11, 42]
abbrev dktX9_number_0 : List UInt8 := dkwX9_number_0 ++ dktX9_number_1
theorem dksX9_number_0 : cX9_number.data.toList.drop 0 = dktX9_number_0 := by decide +kernel
theorem dksX9_number_1 : cX9_number.data.toList.drop 23 = dktX9_number_1 := dk_seg dksX9_number_0 23 rfl rfl
theorem dksX9_number_2 : cX9_number.data.toList.drop 47 = dktX9_number_2 := dk_seg dksX9_number_1 24 rfl rfl
theorem dX9_number_0 : decode cX9_number 0 = .ok (.aload_n 0, 1) := dk_42 (dk_at dksX9_number_0 0 rfl rfl)
theorem dX9_number_1 : decode cX9_number 1 = .ok (.getfield 149, 3) := dk_180 0 149 (dk_at dksX9_number_0 1 rfl rfl)
theorem dX9_number_4 : decode cX9_number 4 = .ok (.iconst 3, 1) := dk_6 (dk_at dksX9_number_0 4 rfl rfl)
theorem dX9_number_5 : decode cX9_number 5 = .ok (.if_icmp .eq 9, 3) := dk_159 0 9 (dk_at dksX9_number_0 5 rfl rfl)
theorem dX9_number_8 : decode cX9_number 8 = .ok (.aload_n 0, 1) := dk_42 (dk_at dksX9_number_0 8 rfl rfl)
theorem dX9_number_9 : decode cX9_number 9 = .ok (.iconst 2, 1) := dk_5 (dk_at dksX9_number_0 9 rfl rfl)
theorem dX9_number_10 : decode cX9_number 10 = .ok (.invokevirtual 186, 3) := dk_182 0 186 (dk_at dksX9_number_0 10 rfl rfl)
theorem dX9_number_13 : decode cX9_number 13 = .ok (.ireturn, 1) := dk_172 (dk_at dksX9_number_0 13 rfl rfl)
theorem dX9_number_14 : decode cX9_number 14 = .ok (.aload_n 0, 1) := dk_42 (dk_at dksX9_number_0 14 rfl rfl)
theorem dX9_number_15 : decode cX9_number 15 = .ok (.getfield 146, 3) := dk_180 0 146 (dk_at dksX9_number_0 15 rfl rfl)
theorem dX9_number_18 : decode cX9_number 18 = .ok (.iload_n 2, 1) := dk_28 (dk_at dksX9_number_0 18 rfl rfl)
theorem dX9_number_19 : decode cX9_number 19 = .ok (.if_icmp .lt 11, 3) := dk_161 0 11 (dk_at dksX9_number_0 19 rfl rfl)
theorem dX9_number_22 : decode cX9_number 22 = .ok (.aload_n 0, 1) := dk_42 (dk_at dksX9_number_0 22 rfl rfl)
theorem dX9_number_23 : decode cX9_number 23 = .ok (.getfield 146, 3) := dk_180 0 146 (dk_at dksX9_number_1 0 rfl rfl)
theorem dX9_number_26 : decode cX9_number 26 = .ok (.iload_n 3, 1) := dk_29 (dk_at dksX9_number_1 3 rfl rfl)
theorem dX9_number_27 : decode cX9_number 27 = .ok (.if_icmp .le 9, 3) := dk_164 0 9 (dk_at dksX9_number_1 4 rfl rfl)
theorem dX9_number_30 : decode cX9_number 30 = .ok (.aload_n 0, 1) := dk_42 (dk_at dksX9_number_1 7 rfl rfl)
theorem dX9_number_31 : decode cX9_number 31 = .ok (.iconst 4, 1) := dk_7 (dk_at dksX9_number_1 8 rfl rfl)
theorem dX9_number_32 : decode cX9_number 32 = .ok (.invokevirtual 186, 3) := dk_182 0 186 (dk_at dksX9_number_1 9 rfl rfl)
theorem dX9_number_35 : decode cX9_number 35 = .ok (.ireturn, 1) := dk_172 (dk_at dksX9_number_1 12 rfl rfl)
theorem dX9_number_36 : decode cX9_number 36 = .ok (.aload_n 0, 1) := dk_42 (dk_at dksX9_number_1 13 rfl rfl)
theorem dX9_number_37 : decode cX9_number 37 = .ok (.getfield 7, 3) := dk_180 0 7 (dk_at dksX9_number_1 14 rfl rfl)
theorem dX9_number_40 : decode cX9_number 40 = .ok (.iload_n 1, 1) := dk_27 (dk_at dksX9_number_1 17 rfl rfl)
theorem dX9_number_41 : decode cX9_number 41 = .ok (.aload_n 0, 1) := dk_42 (dk_at dksX9_number_1 18 rfl rfl)
theorem dX9_number_42 : decode cX9_number 42 = .ok (.getfield 146, 3) := dk_180 0 146 (dk_at dksX9_number_1 19 rfl rfl)
theorem dX9_number_45 : decode cX9_number 45 = .ok (.iastore, 1) := dk_79 (dk_at dksX9_number_1 22 rfl rfl)
theorem dX9_number_46 : decode cX9_number 46 = .ok (.aload_n 0, 1) := dk_42 (dk_at dksX9_number_1 23 rfl rfl)
theorem dX9_number_47 : decode cX9_number 47 = .ok (.invokevirtual 180, 3) := dk_182 0 180 (dk_at dksX9_number_2 0 rfl rfl)
theorem dX9_number_50 : decode cX9_number 50 = .ok (.iconst 1, 1) := dk_4 (dk_at dksX9_number_2 3 rfl rfl)
theorem dX9_number_51 : decode cX9_number 51 = .ok (.ireturn, 1) := dk_172 (dk_at dksX9_number_2 4 rfl rfl)
abbrev cX9_isSign : ByteArray := prog_19_method_25_code
def yX9_isSign : MethodName := ⟨RX9, "isSign", "(I)Z"⟩
def dkwX9_isSign_0 : List UInt8 := [42, 180, 0, 149, 7, 160, 0, 15, 42, 180, 0, 146, 27, 160, 0, 7, 4, 167, 0, 4, 3, 172]
abbrev dktX9_isSign_0 : List UInt8 := dkwX9_isSign_0 ++ []
theorem dksX9_isSign_0 : cX9_isSign.data.toList.drop 0 = dktX9_isSign_0 := by decide +kernel
theorem dX9_isSign_0 : decode cX9_isSign 0 = .ok (.aload_n 0, 1) := dk_42 (dk_at dksX9_isSign_0 0 rfl rfl)
theorem dX9_isSign_1 : decode cX9_isSign 1 = .ok (.getfield 149, 3) := dk_180 0 149 (dk_at dksX9_isSign_0 1 rfl rfl)
theorem dX9_isSign_4 : decode cX9_isSign 4 = .ok (.iconst 4, 1) := dk_7 (dk_at dksX9_isSign_0 4 rfl rfl)
theorem dX9_isSign_5 : decode cX9_isSign 5 = .ok (.if_icmp .ne 15, 3) := dk_160 0 15 (dk_at dksX9_isSign_0 5 rfl rfl)
theorem dX9_isSign_8 : decode cX9_isSign 8 = .ok (.aload_n 0, 1) := dk_42 (dk_at dksX9_isSign_0 8 rfl rfl)
theorem dX9_isSign_9 : decode cX9_isSign 9 = .ok (.getfield 146, 3) := dk_180 0 146 (dk_at dksX9_isSign_0 9 rfl rfl)
theorem dX9_isSign_12 : decode cX9_isSign 12 = .ok (.iload_n 1, 1) := dk_27 (dk_at dksX9_isSign_0 12 rfl rfl)
theorem dX9_isSign_13 : decode cX9_isSign 13 = .ok (.if_icmp .ne 7, 3) := dk_160 0 7 (dk_at dksX9_isSign_0 13 rfl rfl)
theorem dX9_isSign_16 : decode cX9_isSign 16 = .ok (.iconst 1, 1) := dk_4 (dk_at dksX9_isSign_0 16 rfl rfl)
theorem dX9_isSign_17 : decode cX9_isSign 17 = .ok (.goto 4, 3) := dk_167 0 4 (dk_at dksX9_isSign_0 17 rfl rfl)
theorem dX9_isSign_20 : decode cX9_isSign 20 = .ok (.iconst 0, 1) := dk_3 (dk_at dksX9_isSign_0 20 rfl rfl)
theorem dX9_isSign_21 : decode cX9_isSign 21 = .ok (.ireturn, 1) := dk_172 (dk_at dksX9_isSign_0 21 rfl rfl)
abbrev cX9_aNever : ByteArray := prog_19_method_41_code
def yX9_aNever : MethodName := ⟨RX9, "aNever", "()Z"⟩
def dkwX9_aNever_5 : List UInt8 := [79, 42, 180, 0, 47, 42, 180, 0, 216, 92, 46, 4, 27, 120, 128, 79, 42, 182, 0, 180, 4, 172]
abbrev dktX9_aNever_5 : List UInt8 := dkwX9_aNever_5 ++ []
def dkwX9_aNever_4 : List UInt8 := [46, 160, 0, 9, 42, 8, 182, 0, 186, 172, 42, 180, 0, 47, 27, 92, 46, 4, 42, 180, 0, 216, 120, 128]
abbrev dktX9_aNever_4 : List UInt8 := dkwX9_aNever_4 ++ dktX9_aNever_5
def dkwX9_aNever_3 : List UInt8 := [3, 172, 42, 180, 0, 7, 17, 6, 72, 27, 96, 46, 42, 180, 0, 7, 17, 6, 72, 42, 180, 0, 216, 96]
abbrev dktX9_aNever_3 : List UInt8 := dkwX9_aNever_3 ++ dktX9_aNever_4
def dkwX9_aNever_2 : List UInt8 := [60, 42, 182, 0, 180, 42, 17, 0, 176, 7, 42, 180, 0, 7, 17, 6, 65, 46, 182, 0, 231, 154, 0, 5]
abbrev dktX9_aNever_2 : List UInt8 := dkwX9_aNever_2 ++ dktX9_aNever_3
def dkwX9_aNever_1 : List UInt8 := [17, 0, 176, 7, 42, 180, 0, 7, 17, 6, 65, 46, 182, 0, 231, 154, 0, 5, 3, 172, 42, 180, 0, 216]
abbrev dktX9_aNever_1 : List UInt8 := dkwX9_aNever_1 ++ dktX9_aNever_2
def dkwX9_aNever_0 : List UInt8 := [42, 180, 0, 7, 17, 6, 67, 46, 158, 0, 10, 42, 16, 7, 182, 0, 186, 172, 42, 182, 0, 180, 42]
abbrev dktX9_aNever_0 : List UInt8 := dkwX9_aNever_0 ++ dktX9_aNever_1
theorem dksX9_aNever_0 : cX9_aNever.data.toList.drop 0 = dktX9_aNever_0 := by decide +kernel
theorem dksX9_aNever_1 : cX9_aNever.data.toList.drop 23 = dktX9_aNever_1 := dk_seg dksX9_aNever_0 23 rfl rfl
theorem dksX9_aNever_2 : cX9_aNever.data.toList.drop 47 = dktX9_aNever_2 := dk_seg dksX9_aNever_1 24 rfl rfl
theorem dksX9_aNever_3 : cX9_aNever.data.toList.drop 71 = dktX9_aNever_3 := dk_seg dksX9_aNever_2 24 rfl rfl
theorem dksX9_aNever_4 : cX9_aNever.data.toList.drop 95 = dktX9_aNever_4 := dk_seg dksX9_aNever_3 24 rfl rfl
theorem dksX9_aNever_5 : cX9_aNever.data.toList.drop 119 = dktX9_aNever_5 := dk_seg dksX9_aNever_4 24 rfl rfl
theorem dX9_aNever_0 : decode cX9_aNever 0 = .ok (.aload_n 0, 1) := dk_42 (dk_at dksX9_aNever_0 0 rfl rfl)
theorem dX9_aNever_1 : decode cX9_aNever 1 = .ok (.getfield 7, 3) := dk_180 0 7 (dk_at dksX9_aNever_0 1 rfl rfl)
theorem dX9_aNever_4 : decode cX9_aNever 4 = .ok (.sipush 1603, 3) := dk_17 6 67 (dk_at dksX9_aNever_0 4 rfl rfl)
theorem dX9_aNever_7 : decode cX9_aNever 7 = .ok (.iaload, 1) := dk_46 (dk_at dksX9_aNever_0 7 rfl rfl)
theorem dX9_aNever_8 : decode cX9_aNever 8 = .ok (.ifCond .le 10, 3) := dk_158 0 10 (dk_at dksX9_aNever_0 8 rfl rfl)
theorem dX9_aNever_11 : decode cX9_aNever 11 = .ok (.aload_n 0, 1) := dk_42 (dk_at dksX9_aNever_0 11 rfl rfl)
theorem dX9_aNever_12 : decode cX9_aNever 12 = .ok (.bipush 7, 2) := dk_16 7 (dk_at dksX9_aNever_0 12 rfl rfl)
theorem dX9_aNever_14 : decode cX9_aNever 14 = .ok (.invokevirtual 186, 3) := dk_182 0 186 (dk_at dksX9_aNever_0 14 rfl rfl)
theorem dX9_aNever_17 : decode cX9_aNever 17 = .ok (.ireturn, 1) := dk_172 (dk_at dksX9_aNever_0 17 rfl rfl)
theorem dX9_aNever_18 : decode cX9_aNever 18 = .ok (.aload_n 0, 1) := dk_42 (dk_at dksX9_aNever_0 18 rfl rfl)
theorem dX9_aNever_19 : decode cX9_aNever 19 = .ok (.invokevirtual 180, 3) := dk_182 0 180 (dk_at dksX9_aNever_0 19 rfl rfl)
theorem dX9_aNever_22 : decode cX9_aNever 22 = .ok (.aload_n 0, 1) := dk_42 (dk_at dksX9_aNever_0 22 rfl rfl)
theorem dX9_aNever_23 : decode cX9_aNever 23 = .ok (.sipush 176, 3) := dk_17 0 176 (dk_at dksX9_aNever_1 0 rfl rfl)
theorem dX9_aNever_26 : decode cX9_aNever 26 = .ok (.iconst 4, 1) := dk_7 (dk_at dksX9_aNever_1 3 rfl rfl)
theorem dX9_aNever_27 : decode cX9_aNever 27 = .ok (.aload_n 0, 1) := dk_42 (dk_at dksX9_aNever_1 4 rfl rfl)
theorem dX9_aNever_28 : decode cX9_aNever 28 = .ok (.getfield 7, 3) := dk_180 0 7 (dk_at dksX9_aNever_1 5 rfl rfl)
theorem dX9_aNever_31 : decode cX9_aNever 31 = .ok (.sipush 1601, 3) := dk_17 6 65 (dk_at dksX9_aNever_1 8 rfl rfl)
theorem dX9_aNever_34 : decode cX9_aNever 34 = .ok (.iaload, 1) := dk_46 (dk_at dksX9_aNever_1 11 rfl rfl)
theorem dX9_aNever_35 : decode cX9_aNever 35 = .ok (.invokevirtual 231, 3) := dk_182 0 231 (dk_at dksX9_aNever_1 12 rfl rfl)
theorem dX9_aNever_38 : decode cX9_aNever 38 = .ok (.ifCond .ne 5, 3) := dk_154 0 5 (dk_at dksX9_aNever_1 15 rfl rfl)
theorem dX9_aNever_41 : decode cX9_aNever 41 = .ok (.iconst 0, 1) := dk_3 (dk_at dksX9_aNever_1 18 rfl rfl)
theorem dX9_aNever_42 : decode cX9_aNever 42 = .ok (.ireturn, 1) := dk_172 (dk_at dksX9_aNever_1 19 rfl rfl)
theorem dX9_aNever_43 : decode cX9_aNever 43 = .ok (.aload_n 0, 1) := dk_42 (dk_at dksX9_aNever_1 20 rfl rfl)
theorem dX9_aNever_44 : decode cX9_aNever 44 = .ok (.getfield 216, 3) := dk_180 0 216 (dk_at dksX9_aNever_1 21 rfl rfl)
theorem dX9_aNever_47 : decode cX9_aNever 47 = .ok (.istore_n 1, 1) := dk_60 (dk_at dksX9_aNever_2 0 rfl rfl)
theorem dX9_aNever_48 : decode cX9_aNever 48 = .ok (.aload_n 0, 1) := dk_42 (dk_at dksX9_aNever_2 1 rfl rfl)
theorem dX9_aNever_49 : decode cX9_aNever 49 = .ok (.invokevirtual 180, 3) := dk_182 0 180 (dk_at dksX9_aNever_2 2 rfl rfl)
theorem dX9_aNever_52 : decode cX9_aNever 52 = .ok (.aload_n 0, 1) := dk_42 (dk_at dksX9_aNever_2 5 rfl rfl)
theorem dX9_aNever_53 : decode cX9_aNever 53 = .ok (.sipush 176, 3) := dk_17 0 176 (dk_at dksX9_aNever_2 6 rfl rfl)
theorem dX9_aNever_56 : decode cX9_aNever 56 = .ok (.iconst 4, 1) := dk_7 (dk_at dksX9_aNever_2 9 rfl rfl)
theorem dX9_aNever_57 : decode cX9_aNever 57 = .ok (.aload_n 0, 1) := dk_42 (dk_at dksX9_aNever_2 10 rfl rfl)
theorem dX9_aNever_58 : decode cX9_aNever 58 = .ok (.getfield 7, 3) := dk_180 0 7 (dk_at dksX9_aNever_2 11 rfl rfl)
theorem dX9_aNever_61 : decode cX9_aNever 61 = .ok (.sipush 1601, 3) := dk_17 6 65 (dk_at dksX9_aNever_2 14 rfl rfl)
theorem dX9_aNever_64 : decode cX9_aNever 64 = .ok (.iaload, 1) := dk_46 (dk_at dksX9_aNever_2 17 rfl rfl)
theorem dX9_aNever_65 : decode cX9_aNever 65 = .ok (.invokevirtual 231, 3) := dk_182 0 231 (dk_at dksX9_aNever_2 18 rfl rfl)
theorem dX9_aNever_68 : decode cX9_aNever 68 = .ok (.ifCond .ne 5, 3) := dk_154 0 5 (dk_at dksX9_aNever_2 21 rfl rfl)
theorem dX9_aNever_71 : decode cX9_aNever 71 = .ok (.iconst 0, 1) := dk_3 (dk_at dksX9_aNever_3 0 rfl rfl)
theorem dX9_aNever_72 : decode cX9_aNever 72 = .ok (.ireturn, 1) := dk_172 (dk_at dksX9_aNever_3 1 rfl rfl)
theorem dX9_aNever_73 : decode cX9_aNever 73 = .ok (.aload_n 0, 1) := dk_42 (dk_at dksX9_aNever_3 2 rfl rfl)
theorem dX9_aNever_74 : decode cX9_aNever 74 = .ok (.getfield 7, 3) := dk_180 0 7 (dk_at dksX9_aNever_3 3 rfl rfl)
theorem dX9_aNever_77 : decode cX9_aNever 77 = .ok (.sipush 1608, 3) := dk_17 6 72 (dk_at dksX9_aNever_3 6 rfl rfl)
theorem dX9_aNever_80 : decode cX9_aNever 80 = .ok (.iload_n 1, 1) := dk_27 (dk_at dksX9_aNever_3 9 rfl rfl)
theorem dX9_aNever_81 : decode cX9_aNever 81 = .ok (.iadd, 1) := dk_96 (dk_at dksX9_aNever_3 10 rfl rfl)
theorem dX9_aNever_82 : decode cX9_aNever 82 = .ok (.iaload, 1) := dk_46 (dk_at dksX9_aNever_3 11 rfl rfl)
theorem dX9_aNever_83 : decode cX9_aNever 83 = .ok (.aload_n 0, 1) := dk_42 (dk_at dksX9_aNever_3 12 rfl rfl)
theorem dX9_aNever_84 : decode cX9_aNever 84 = .ok (.getfield 7, 3) := dk_180 0 7 (dk_at dksX9_aNever_3 13 rfl rfl)
theorem dX9_aNever_87 : decode cX9_aNever 87 = .ok (.sipush 1608, 3) := dk_17 6 72 (dk_at dksX9_aNever_3 16 rfl rfl)
theorem dX9_aNever_90 : decode cX9_aNever 90 = .ok (.aload_n 0, 1) := dk_42 (dk_at dksX9_aNever_3 19 rfl rfl)
theorem dX9_aNever_91 : decode cX9_aNever 91 = .ok (.getfield 216, 3) := dk_180 0 216 (dk_at dksX9_aNever_3 20 rfl rfl)
theorem dX9_aNever_94 : decode cX9_aNever 94 = .ok (.iadd, 1) := dk_96 (dk_at dksX9_aNever_3 23 rfl rfl)
theorem dX9_aNever_95 : decode cX9_aNever 95 = .ok (.iaload, 1) := dk_46 (dk_at dksX9_aNever_4 0 rfl rfl)
theorem dX9_aNever_96 : decode cX9_aNever 96 = .ok (.if_icmp .ne 9, 3) := dk_160 0 9 (dk_at dksX9_aNever_4 1 rfl rfl)
theorem dX9_aNever_99 : decode cX9_aNever 99 = .ok (.aload_n 0, 1) := dk_42 (dk_at dksX9_aNever_4 4 rfl rfl)
theorem dX9_aNever_100 : decode cX9_aNever 100 = .ok (.iconst 5, 1) := dk_8 (dk_at dksX9_aNever_4 5 rfl rfl)
theorem dX9_aNever_101 : decode cX9_aNever 101 = .ok (.invokevirtual 186, 3) := dk_182 0 186 (dk_at dksX9_aNever_4 6 rfl rfl)
theorem dX9_aNever_104 : decode cX9_aNever 104 = .ok (.ireturn, 1) := dk_172 (dk_at dksX9_aNever_4 9 rfl rfl)
theorem dX9_aNever_105 : decode cX9_aNever 105 = .ok (.aload_n 0, 1) := dk_42 (dk_at dksX9_aNever_4 10 rfl rfl)
theorem dX9_aNever_106 : decode cX9_aNever 106 = .ok (.getfield 47, 3) := dk_180 0 47 (dk_at dksX9_aNever_4 11 rfl rfl)
theorem dX9_aNever_109 : decode cX9_aNever 109 = .ok (.iload_n 1, 1) := dk_27 (dk_at dksX9_aNever_4 14 rfl rfl)
theorem dX9_aNever_110 : decode cX9_aNever 110 = .ok (.dup2, 1) := dk_92 (dk_at dksX9_aNever_4 15 rfl rfl)
theorem dX9_aNever_111 : decode cX9_aNever 111 = .ok (.iaload, 1) := dk_46 (dk_at dksX9_aNever_4 16 rfl rfl)
theorem dX9_aNever_112 : decode cX9_aNever 112 = .ok (.iconst 1, 1) := dk_4 (dk_at dksX9_aNever_4 17 rfl rfl)
theorem dX9_aNever_113 : decode cX9_aNever 113 = .ok (.aload_n 0, 1) := dk_42 (dk_at dksX9_aNever_4 18 rfl rfl)
theorem dX9_aNever_114 : decode cX9_aNever 114 = .ok (.getfield 216, 3) := dk_180 0 216 (dk_at dksX9_aNever_4 19 rfl rfl)
theorem dX9_aNever_117 : decode cX9_aNever 117 = .ok (.ishl, 1) := dk_120 (dk_at dksX9_aNever_4 22 rfl rfl)
theorem dX9_aNever_118 : decode cX9_aNever 118 = .ok (.ior, 1) := dk_128 (dk_at dksX9_aNever_4 23 rfl rfl)
theorem dX9_aNever_119 : decode cX9_aNever 119 = .ok (.iastore, 1) := dk_79 (dk_at dksX9_aNever_5 0 rfl rfl)
theorem dX9_aNever_120 : decode cX9_aNever 120 = .ok (.aload_n 0, 1) := dk_42 (dk_at dksX9_aNever_5 1 rfl rfl)
theorem dX9_aNever_121 : decode cX9_aNever 121 = .ok (.getfield 47, 3) := dk_180 0 47 (dk_at dksX9_aNever_5 2 rfl rfl)
theorem dX9_aNever_124 : decode cX9_aNever 124 = .ok (.aload_n 0, 1) := dk_42 (dk_at dksX9_aNever_5 5 rfl rfl)
theorem dX9_aNever_125 : decode cX9_aNever 125 = .ok (.getfield 216, 3) := dk_180 0 216 (dk_at dksX9_aNever_5 6 rfl rfl)
theorem dX9_aNever_128 : decode cX9_aNever 128 = .ok (.dup2, 1) := dk_92 (dk_at dksX9_aNever_5 9 rfl rfl)
theorem dX9_aNever_129 : decode cX9_aNever 129 = .ok (.iaload, 1) := dk_46 (dk_at dksX9_aNever_5 10 rfl rfl)
theorem dX9_aNever_130 : decode cX9_aNever 130 = .ok (.iconst 1, 1) := dk_4 (dk_at dksX9_aNever_5 11 rfl rfl)
theorem dX9_aNever_131 : decode cX9_aNever 131 = .ok (.iload_n 1, 1) := dk_27 (dk_at dksX9_aNever_5 12 rfl rfl)
theorem dX9_aNever_132 : decode cX9_aNever 132 = .ok (.ishl, 1) := dk_120 (dk_at dksX9_aNever_5 13 rfl rfl)
theorem dX9_aNever_133 : decode cX9_aNever 133 = .ok (.ior, 1) := dk_128 (dk_at dksX9_aNever_5 14 rfl rfl)
theorem dX9_aNever_134 : decode cX9_aNever 134 = .ok (.iastore, 1) := dk_79 (dk_at dksX9_aNever_5 15 rfl rfl)
theorem dX9_aNever_135 : decode cX9_aNever 135 = .ok (.aload_n 0, 1) := dk_42 (dk_at dksX9_aNever_5 16 rfl rfl)
theorem dX9_aNever_136 : decode cX9_aNever 136 = .ok (.invokevirtual 180, 3) := dk_182 0 180 (dk_at dksX9_aNever_5 17 rfl rfl)
theorem dX9_aNever_139 : decode cX9_aNever 139 = .ok (.iconst 1, 1) := dk_4 (dk_at dksX9_aNever_5 20 rfl rfl)
theorem dX9_aNever_140 : decode cX9_aNever 140 = .ok (.ireturn, 1) := dk_172 (dk_at dksX9_aNever_5 21 rfl rfl)
abbrev cX9_oldName : ByteArray := prog_19_method_39_code
def yX9_oldName : MethodName := ⟨RX9, "oldName", "(III)Z"⟩
def dkwX9_oldName_1 : List UInt8 := [181, 0, 216, 42, 180, 0, 216, 2, 160, 0, 11, 42, 6, 182, 0, 186, 167, 0, 4, 4, 172]
abbrev dktX9_oldName_1 : List UInt8 := dkwX9_oldName_1 ++ []
def dkwX9_oldName_0 : List UInt8 := [42, 18, 206, 182, 0, 208, 154, 0, 9, 42, 5, 182, 0, 186, 172, 42, 42, 27, 28, 96, 29, 182, 0, 203]
abbrev dktX9_oldName_0 : List UInt8 := dkwX9_oldName_0 ++ dktX9_oldName_1
theorem dksX9_oldName_0 : cX9_oldName.data.toList.drop 0 = dktX9_oldName_0 := by decide +kernel
theorem dksX9_oldName_1 : cX9_oldName.data.toList.drop 24 = dktX9_oldName_1 := dk_seg dksX9_oldName_0 24 rfl rfl
theorem dX9_oldName_0 : decode cX9_oldName 0 = .ok (.aload_n 0, 1) := dk_42 (dk_at dksX9_oldName_0 0 rfl rfl)
theorem dX9_oldName_1 : decode cX9_oldName 1 = .ok (.ldc 206, 2) := dk_18 206 (dk_at dksX9_oldName_0 1 rfl rfl)
theorem dX9_oldName_3 : decode cX9_oldName 3 = .ok (.invokevirtual 208, 3) := dk_182 0 208 (dk_at dksX9_oldName_0 3 rfl rfl)
theorem dX9_oldName_6 : decode cX9_oldName 6 = .ok (.ifCond .ne 9, 3) := dk_154 0 9 (dk_at dksX9_oldName_0 6 rfl rfl)
theorem dX9_oldName_9 : decode cX9_oldName 9 = .ok (.aload_n 0, 1) := dk_42 (dk_at dksX9_oldName_0 9 rfl rfl)
theorem dX9_oldName_10 : decode cX9_oldName 10 = .ok (.iconst 2, 1) := dk_5 (dk_at dksX9_oldName_0 10 rfl rfl)
theorem dX9_oldName_11 : decode cX9_oldName 11 = .ok (.invokevirtual 186, 3) := dk_182 0 186 (dk_at dksX9_oldName_0 11 rfl rfl)
theorem dX9_oldName_14 : decode cX9_oldName 14 = .ok (.ireturn, 1) := dk_172 (dk_at dksX9_oldName_0 14 rfl rfl)
theorem dX9_oldName_15 : decode cX9_oldName 15 = .ok (.aload_n 0, 1) := dk_42 (dk_at dksX9_oldName_0 15 rfl rfl)
theorem dX9_oldName_16 : decode cX9_oldName 16 = .ok (.aload_n 0, 1) := dk_42 (dk_at dksX9_oldName_0 16 rfl rfl)
theorem dX9_oldName_17 : decode cX9_oldName 17 = .ok (.iload_n 1, 1) := dk_27 (dk_at dksX9_oldName_0 17 rfl rfl)
theorem dX9_oldName_18 : decode cX9_oldName 18 = .ok (.iload_n 2, 1) := dk_28 (dk_at dksX9_oldName_0 18 rfl rfl)
theorem dX9_oldName_19 : decode cX9_oldName 19 = .ok (.iadd, 1) := dk_96 (dk_at dksX9_oldName_0 19 rfl rfl)
theorem dX9_oldName_20 : decode cX9_oldName 20 = .ok (.iload_n 3, 1) := dk_29 (dk_at dksX9_oldName_0 20 rfl rfl)
theorem dX9_oldName_21 : decode cX9_oldName 21 = .ok (.invokevirtual 203, 3) := dk_182 0 203 (dk_at dksX9_oldName_0 21 rfl rfl)
theorem dX9_oldName_24 : decode cX9_oldName 24 = .ok (.putfield 216, 3) := dk_181 0 216 (dk_at dksX9_oldName_1 0 rfl rfl)
theorem dX9_oldName_27 : decode cX9_oldName 27 = .ok (.aload_n 0, 1) := dk_42 (dk_at dksX9_oldName_1 3 rfl rfl)
theorem dX9_oldName_28 : decode cX9_oldName 28 = .ok (.getfield 216, 3) := dk_180 0 216 (dk_at dksX9_oldName_1 4 rfl rfl)
theorem dX9_oldName_31 : decode cX9_oldName 31 = .ok (.iconst (-1), 1) := dk_2 (dk_at dksX9_oldName_1 7 rfl rfl)
theorem dX9_oldName_32 : decode cX9_oldName 32 = .ok (.if_icmp .ne 11, 3) := dk_160 0 11 (dk_at dksX9_oldName_1 8 rfl rfl)
theorem dX9_oldName_35 : decode cX9_oldName 35 = .ok (.aload_n 0, 1) := dk_42 (dk_at dksX9_oldName_1 11 rfl rfl)
theorem dX9_oldName_36 : decode cX9_oldName 36 = .ok (.iconst 3, 1) := dk_6 (dk_at dksX9_oldName_1 12 rfl rfl)
theorem dX9_oldName_37 : decode cX9_oldName 37 = .ok (.invokevirtual 186, 3) := dk_182 0 186 (dk_at dksX9_oldName_1 13 rfl rfl)
theorem dX9_oldName_40 : decode cX9_oldName 40 = .ok (.goto 4, 3) := dk_167 0 4 (dk_at dksX9_oldName_1 16 rfl rfl)
theorem dX9_oldName_43 : decode cX9_oldName 43 = .ok (.iconst 1, 1) := dk_4 (dk_at dksX9_oldName_1 19 rfl rfl)
theorem dX9_oldName_44 : decode cX9_oldName 44 = .ok (.ireturn, 1) := dk_172 (dk_at dksX9_oldName_1 20 rfl rfl)
abbrev cX9_aQuestion : ByteArray := prog_19_method_53_code
def yX9_aQuestion : MethodName := ⟨RX9, "aQuestion", "()Z"⟩
def dkwX9_aQuestion_6 : List UInt8 := [180, 0, 7, 17, 6, 67, 92, 46, 4, 96, 79, 4, 172]
abbrev dktX9_aQuestion_6 : List UInt8 := dkwX9_aQuestion_6 ++ []
def dkwX9_aQuestion_5 : List UInt8 := [180, 0, 50, 28, 47, 42, 180, 0, 13, 17, 0, 208, 28, 96, 47, 127, 80, 132, 2, 1, 167, 255, 217, 42]
abbrev dktX9_aQuestion_5 : List UInt8 := dkwX9_aQuestion_5 ++ dktX9_aQuestion_6
def dkwX9_aQuestion_4 : List UInt8 := [182, 1, 15, 3, 61, 28, 7, 162, 0, 40, 42, 180, 0, 13, 17, 0, 212, 7, 27, 104, 96, 28, 96, 42]
abbrev dktX9_aQuestion_4 : List UInt8 := dkwX9_aQuestion_4 ++ dktX9_aQuestion_5
def dkwX9_aQuestion_3 : List UInt8 := [182, 0, 223, 154, 0, 5, 3, 172, 42, 182, 1, 12, 154, 0, 5, 3, 172, 27, 154, 0, 7, 42]
abbrev dktX9_aQuestion_3 : List UInt8 := dkwX9_aQuestion_3 ++ dktX9_aQuestion_4
def dkwX9_aQuestion_2 : List UInt8 := [153, 0, 29, 42, 17, 6, 128, 27, 96, 3, 16, 99, 182, 0, 227, 153, 0, 14, 42, 18, 206, 16, 6]
abbrev dktX9_aQuestion_2 : List UInt8 := dkwX9_aQuestion_2 ++ dktX9_aQuestion_3
def dkwX9_aQuestion_1 : List UInt8 := [182, 0, 180, 42, 16, 28, 27, 182, 0, 219, 154, 0, 5, 3, 172, 42, 18, 206, 8, 182, 0, 223]
abbrev dktX9_aQuestion_1 : List UInt8 := dkwX9_aQuestion_1 ++ dktX9_aQuestion_2
def dkwX9_aQuestion_0 : List UInt8 := [42, 180, 0, 7, 17, 6, 67, 46, 60, 27, 16, 12, 160, 0, 10, 42, 16, 6, 182, 0, 186, 172, 42]
abbrev dktX9_aQuestion_0 : List UInt8 := dkwX9_aQuestion_0 ++ dktX9_aQuestion_1
theorem dksX9_aQuestion_0 : cX9_aQuestion.data.toList.drop 0 = dktX9_aQuestion_0 := by decide +kernel
theorem dksX9_aQuestion_1 : cX9_aQuestion.data.toList.drop 23 = dktX9_aQuestion_1 := dk_seg dksX9_aQuestion_0 23 rfl rfl
theorem dksX9_aQuestion_2 : cX9_aQuestion.data.toList.drop 45 = dktX9_aQuestion_2 := dk_seg dksX9_aQuestion_1 22 rfl rfl
theorem dksX9_aQuestion_3 : cX9_aQuestion.data.toList.drop 68 = dktX9_aQuestion_3 := dk_seg dksX9_aQuestion_2 23 rfl rfl
theorem dksX9_aQuestion_4 : cX9_aQuestion.data.toList.drop 90 = dktX9_aQuestion_4 := dk_seg dksX9_aQuestion_3 22 rfl rfl
theorem dksX9_aQuestion_5 : cX9_aQuestion.data.toList.drop 114 = dktX9_aQuestion_5 := dk_seg dksX9_aQuestion_4 24 rfl rfl
theorem dksX9_aQuestion_6 : cX9_aQuestion.data.toList.drop 138 = dktX9_aQuestion_6 := dk_seg dksX9_aQuestion_5 24 rfl rfl
theorem dX9_aQuestion_0 : decode cX9_aQuestion 0 = .ok (.aload_n 0, 1) := dk_42 (dk_at dksX9_aQuestion_0 0 rfl rfl)
theorem dX9_aQuestion_1 : decode cX9_aQuestion 1 = .ok (.getfield 7, 3) := dk_180 0 7 (dk_at dksX9_aQuestion_0 1 rfl rfl)
theorem dX9_aQuestion_4 : decode cX9_aQuestion 4 = .ok (.sipush 1603, 3) := dk_17 6 67 (dk_at dksX9_aQuestion_0 4 rfl rfl)
theorem dX9_aQuestion_7 : decode cX9_aQuestion 7 = .ok (.iaload, 1) := dk_46 (dk_at dksX9_aQuestion_0 7 rfl rfl)
theorem dX9_aQuestion_8 : decode cX9_aQuestion 8 = .ok (.istore_n 1, 1) := dk_60 (dk_at dksX9_aQuestion_0 8 rfl rfl)
theorem dX9_aQuestion_9 : decode cX9_aQuestion 9 = .ok (.iload_n 1, 1) := dk_27 (dk_at dksX9_aQuestion_0 9 rfl rfl)
theorem dX9_aQuestion_10 : decode cX9_aQuestion 10 = .ok (.bipush 12, 2) := dk_16 12 (dk_at dksX9_aQuestion_0 10 rfl rfl)
theorem dX9_aQuestion_12 : decode cX9_aQuestion 12 = .ok (.if_icmp .ne 10, 3) := dk_160 0 10 (dk_at dksX9_aQuestion_0 12 rfl rfl)
theorem dX9_aQuestion_15 : decode cX9_aQuestion 15 = .ok (.aload_n 0, 1) := dk_42 (dk_at dksX9_aQuestion_0 15 rfl rfl)
theorem dX9_aQuestion_16 : decode cX9_aQuestion 16 = .ok (.bipush 6, 2) := dk_16 6 (dk_at dksX9_aQuestion_0 16 rfl rfl)
theorem dX9_aQuestion_18 : decode cX9_aQuestion 18 = .ok (.invokevirtual 186, 3) := dk_182 0 186 (dk_at dksX9_aQuestion_0 18 rfl rfl)
theorem dX9_aQuestion_21 : decode cX9_aQuestion 21 = .ok (.ireturn, 1) := dk_172 (dk_at dksX9_aQuestion_0 21 rfl rfl)
theorem dX9_aQuestion_22 : decode cX9_aQuestion 22 = .ok (.aload_n 0, 1) := dk_42 (dk_at dksX9_aQuestion_0 22 rfl rfl)
theorem dX9_aQuestion_23 : decode cX9_aQuestion 23 = .ok (.invokevirtual 180, 3) := dk_182 0 180 (dk_at dksX9_aQuestion_1 0 rfl rfl)
theorem dX9_aQuestion_26 : decode cX9_aQuestion 26 = .ok (.aload_n 0, 1) := dk_42 (dk_at dksX9_aQuestion_1 3 rfl rfl)
theorem dX9_aQuestion_27 : decode cX9_aQuestion 27 = .ok (.bipush 28, 2) := dk_16 28 (dk_at dksX9_aQuestion_1 4 rfl rfl)
theorem dX9_aQuestion_29 : decode cX9_aQuestion 29 = .ok (.iload_n 1, 1) := dk_27 (dk_at dksX9_aQuestion_1 6 rfl rfl)
theorem dX9_aQuestion_30 : decode cX9_aQuestion 30 = .ok (.invokevirtual 219, 3) := dk_182 0 219 (dk_at dksX9_aQuestion_1 7 rfl rfl)
theorem dX9_aQuestion_33 : decode cX9_aQuestion 33 = .ok (.ifCond .ne 5, 3) := dk_154 0 5 (dk_at dksX9_aQuestion_1 10 rfl rfl)
theorem dX9_aQuestion_36 : decode cX9_aQuestion 36 = .ok (.iconst 0, 1) := dk_3 (dk_at dksX9_aQuestion_1 13 rfl rfl)
theorem dX9_aQuestion_37 : decode cX9_aQuestion 37 = .ok (.ireturn, 1) := dk_172 (dk_at dksX9_aQuestion_1 14 rfl rfl)
theorem dX9_aQuestion_38 : decode cX9_aQuestion 38 = .ok (.aload_n 0, 1) := dk_42 (dk_at dksX9_aQuestion_1 15 rfl rfl)
theorem dX9_aQuestion_39 : decode cX9_aQuestion 39 = .ok (.ldc 206, 2) := dk_18 206 (dk_at dksX9_aQuestion_1 16 rfl rfl)
theorem dX9_aQuestion_41 : decode cX9_aQuestion 41 = .ok (.iconst 5, 1) := dk_8 (dk_at dksX9_aQuestion_1 18 rfl rfl)
theorem dX9_aQuestion_42 : decode cX9_aQuestion 42 = .ok (.invokevirtual 223, 3) := dk_182 0 223 (dk_at dksX9_aQuestion_1 19 rfl rfl)
theorem dX9_aQuestion_45 : decode cX9_aQuestion 45 = .ok (.ifCond .eq 29, 3) := dk_153 0 29 (dk_at dksX9_aQuestion_2 0 rfl rfl)
theorem dX9_aQuestion_48 : decode cX9_aQuestion 48 = .ok (.aload_n 0, 1) := dk_42 (dk_at dksX9_aQuestion_2 3 rfl rfl)
theorem dX9_aQuestion_49 : decode cX9_aQuestion 49 = .ok (.sipush 1664, 3) := dk_17 6 128 (dk_at dksX9_aQuestion_2 4 rfl rfl)
theorem dX9_aQuestion_52 : decode cX9_aQuestion 52 = .ok (.iload_n 1, 1) := dk_27 (dk_at dksX9_aQuestion_2 7 rfl rfl)
theorem dX9_aQuestion_53 : decode cX9_aQuestion 53 = .ok (.iadd, 1) := dk_96 (dk_at dksX9_aQuestion_2 8 rfl rfl)
theorem dX9_aQuestion_54 : decode cX9_aQuestion 54 = .ok (.iconst 0, 1) := dk_3 (dk_at dksX9_aQuestion_2 9 rfl rfl)
theorem dX9_aQuestion_55 : decode cX9_aQuestion 55 = .ok (.bipush 99, 2) := dk_16 99 (dk_at dksX9_aQuestion_2 10 rfl rfl)
theorem dX9_aQuestion_57 : decode cX9_aQuestion 57 = .ok (.invokevirtual 227, 3) := dk_182 0 227 (dk_at dksX9_aQuestion_2 12 rfl rfl)
theorem dX9_aQuestion_60 : decode cX9_aQuestion 60 = .ok (.ifCond .eq 14, 3) := dk_153 0 14 (dk_at dksX9_aQuestion_2 15 rfl rfl)
theorem dX9_aQuestion_63 : decode cX9_aQuestion 63 = .ok (.aload_n 0, 1) := dk_42 (dk_at dksX9_aQuestion_2 18 rfl rfl)
theorem dX9_aQuestion_64 : decode cX9_aQuestion 64 = .ok (.ldc 206, 2) := dk_18 206 (dk_at dksX9_aQuestion_2 19 rfl rfl)
theorem dX9_aQuestion_66 : decode cX9_aQuestion 66 = .ok (.bipush 6, 2) := dk_16 6 (dk_at dksX9_aQuestion_2 21 rfl rfl)
theorem dX9_aQuestion_68 : decode cX9_aQuestion 68 = .ok (.invokevirtual 223, 3) := dk_182 0 223 (dk_at dksX9_aQuestion_3 0 rfl rfl)
theorem dX9_aQuestion_71 : decode cX9_aQuestion 71 = .ok (.ifCond .ne 5, 3) := dk_154 0 5 (dk_at dksX9_aQuestion_3 3 rfl rfl)
theorem dX9_aQuestion_74 : decode cX9_aQuestion 74 = .ok (.iconst 0, 1) := dk_3 (dk_at dksX9_aQuestion_3 6 rfl rfl)
theorem dX9_aQuestion_75 : decode cX9_aQuestion 75 = .ok (.ireturn, 1) := dk_172 (dk_at dksX9_aQuestion_3 7 rfl rfl)
theorem dX9_aQuestion_76 : decode cX9_aQuestion 76 = .ok (.aload_n 0, 1) := dk_42 (dk_at dksX9_aQuestion_3 8 rfl rfl)
theorem dX9_aQuestion_77 : decode cX9_aQuestion 77 = .ok (.invokevirtual 268, 3) := dk_182 1 12 (dk_at dksX9_aQuestion_3 9 rfl rfl)
theorem dX9_aQuestion_80 : decode cX9_aQuestion 80 = .ok (.ifCond .ne 5, 3) := dk_154 0 5 (dk_at dksX9_aQuestion_3 12 rfl rfl)
theorem dX9_aQuestion_83 : decode cX9_aQuestion 83 = .ok (.iconst 0, 1) := dk_3 (dk_at dksX9_aQuestion_3 15 rfl rfl)
theorem dX9_aQuestion_84 : decode cX9_aQuestion 84 = .ok (.ireturn, 1) := dk_172 (dk_at dksX9_aQuestion_3 16 rfl rfl)
theorem dX9_aQuestion_85 : decode cX9_aQuestion 85 = .ok (.iload_n 1, 1) := dk_27 (dk_at dksX9_aQuestion_3 17 rfl rfl)
theorem dX9_aQuestion_86 : decode cX9_aQuestion 86 = .ok (.ifCond .ne 7, 3) := dk_154 0 7 (dk_at dksX9_aQuestion_3 18 rfl rfl)
theorem dX9_aQuestion_89 : decode cX9_aQuestion 89 = .ok (.aload_n 0, 1) := dk_42 (dk_at dksX9_aQuestion_3 21 rfl rfl)
theorem dX9_aQuestion_90 : decode cX9_aQuestion 90 = .ok (.invokevirtual 271, 3) := dk_182 1 15 (dk_at dksX9_aQuestion_4 0 rfl rfl)
theorem dX9_aQuestion_93 : decode cX9_aQuestion 93 = .ok (.iconst 0, 1) := dk_3 (dk_at dksX9_aQuestion_4 3 rfl rfl)
theorem dX9_aQuestion_94 : decode cX9_aQuestion 94 = .ok (.istore_n 2, 1) := dk_61 (dk_at dksX9_aQuestion_4 4 rfl rfl)
theorem dX9_aQuestion_95 : decode cX9_aQuestion 95 = .ok (.iload_n 2, 1) := dk_28 (dk_at dksX9_aQuestion_4 5 rfl rfl)
theorem dX9_aQuestion_96 : decode cX9_aQuestion 96 = .ok (.iconst 4, 1) := dk_7 (dk_at dksX9_aQuestion_4 6 rfl rfl)
theorem dX9_aQuestion_97 : decode cX9_aQuestion 97 = .ok (.if_icmp .ge 40, 3) := dk_162 0 40 (dk_at dksX9_aQuestion_4 7 rfl rfl)
theorem dX9_aQuestion_100 : decode cX9_aQuestion 100 = .ok (.aload_n 0, 1) := dk_42 (dk_at dksX9_aQuestion_4 10 rfl rfl)
theorem dX9_aQuestion_101 : decode cX9_aQuestion 101 = .ok (.getfield 13, 3) := dk_180 0 13 (dk_at dksX9_aQuestion_4 11 rfl rfl)
theorem dX9_aQuestion_104 : decode cX9_aQuestion 104 = .ok (.sipush 212, 3) := dk_17 0 212 (dk_at dksX9_aQuestion_4 14 rfl rfl)
theorem dX9_aQuestion_107 : decode cX9_aQuestion 107 = .ok (.iconst 4, 1) := dk_7 (dk_at dksX9_aQuestion_4 17 rfl rfl)
theorem dX9_aQuestion_108 : decode cX9_aQuestion 108 = .ok (.iload_n 1, 1) := dk_27 (dk_at dksX9_aQuestion_4 18 rfl rfl)
theorem dX9_aQuestion_109 : decode cX9_aQuestion 109 = .ok (.imul, 1) := dk_104 (dk_at dksX9_aQuestion_4 19 rfl rfl)
theorem dX9_aQuestion_110 : decode cX9_aQuestion 110 = .ok (.iadd, 1) := dk_96 (dk_at dksX9_aQuestion_4 20 rfl rfl)
theorem dX9_aQuestion_111 : decode cX9_aQuestion 111 = .ok (.iload_n 2, 1) := dk_28 (dk_at dksX9_aQuestion_4 21 rfl rfl)
theorem dX9_aQuestion_112 : decode cX9_aQuestion 112 = .ok (.iadd, 1) := dk_96 (dk_at dksX9_aQuestion_4 22 rfl rfl)
theorem dX9_aQuestion_113 : decode cX9_aQuestion 113 = .ok (.aload_n 0, 1) := dk_42 (dk_at dksX9_aQuestion_4 23 rfl rfl)
theorem dX9_aQuestion_114 : decode cX9_aQuestion 114 = .ok (.getfield 50, 3) := dk_180 0 50 (dk_at dksX9_aQuestion_5 0 rfl rfl)
theorem dX9_aQuestion_117 : decode cX9_aQuestion 117 = .ok (.iload_n 2, 1) := dk_28 (dk_at dksX9_aQuestion_5 3 rfl rfl)
theorem dX9_aQuestion_118 : decode cX9_aQuestion 118 = .ok (.laload, 1) := dk_47 (dk_at dksX9_aQuestion_5 4 rfl rfl)
theorem dX9_aQuestion_119 : decode cX9_aQuestion 119 = .ok (.aload_n 0, 1) := dk_42 (dk_at dksX9_aQuestion_5 5 rfl rfl)
theorem dX9_aQuestion_120 : decode cX9_aQuestion 120 = .ok (.getfield 13, 3) := dk_180 0 13 (dk_at dksX9_aQuestion_5 6 rfl rfl)
theorem dX9_aQuestion_123 : decode cX9_aQuestion 123 = .ok (.sipush 208, 3) := dk_17 0 208 (dk_at dksX9_aQuestion_5 9 rfl rfl)
theorem dX9_aQuestion_126 : decode cX9_aQuestion 126 = .ok (.iload_n 2, 1) := dk_28 (dk_at dksX9_aQuestion_5 12 rfl rfl)
theorem dX9_aQuestion_127 : decode cX9_aQuestion 127 = .ok (.iadd, 1) := dk_96 (dk_at dksX9_aQuestion_5 13 rfl rfl)
theorem dX9_aQuestion_128 : decode cX9_aQuestion 128 = .ok (.laload, 1) := dk_47 (dk_at dksX9_aQuestion_5 14 rfl rfl)
theorem dX9_aQuestion_129 : decode cX9_aQuestion 129 = .ok (.land, 1) := dk_127 (dk_at dksX9_aQuestion_5 15 rfl rfl)
theorem dX9_aQuestion_130 : decode cX9_aQuestion 130 = .ok (.lastore, 1) := dk_80 (dk_at dksX9_aQuestion_5 16 rfl rfl)
theorem dX9_aQuestion_131 : decode cX9_aQuestion 131 = .ok (.iinc 2 1, 3) := dk_132 2 1 (dk_at dksX9_aQuestion_5 17 rfl rfl)
theorem dX9_aQuestion_134 : decode cX9_aQuestion 134 = .ok (.goto (-39), 3) := dk_167 255 217 (dk_at dksX9_aQuestion_5 20 rfl rfl)
theorem dX9_aQuestion_137 : decode cX9_aQuestion 137 = .ok (.aload_n 0, 1) := dk_42 (dk_at dksX9_aQuestion_5 23 rfl rfl)
theorem dX9_aQuestion_138 : decode cX9_aQuestion 138 = .ok (.getfield 7, 3) := dk_180 0 7 (dk_at dksX9_aQuestion_6 0 rfl rfl)
theorem dX9_aQuestion_141 : decode cX9_aQuestion 141 = .ok (.sipush 1603, 3) := dk_17 6 67 (dk_at dksX9_aQuestion_6 3 rfl rfl)
theorem dX9_aQuestion_144 : decode cX9_aQuestion 144 = .ok (.dup2, 1) := dk_92 (dk_at dksX9_aQuestion_6 6 rfl rfl)
theorem dX9_aQuestion_145 : decode cX9_aQuestion 145 = .ok (.iaload, 1) := dk_46 (dk_at dksX9_aQuestion_6 7 rfl rfl)
theorem dX9_aQuestion_146 : decode cX9_aQuestion 146 = .ok (.iconst 1, 1) := dk_4 (dk_at dksX9_aQuestion_6 8 rfl rfl)
theorem dX9_aQuestion_147 : decode cX9_aQuestion 147 = .ok (.iadd, 1) := dk_96 (dk_at dksX9_aQuestion_6 9 rfl rfl)
theorem dX9_aQuestion_148 : decode cX9_aQuestion 148 = .ok (.iastore, 1) := dk_79 (dk_at dksX9_aQuestion_6 10 rfl rfl)
theorem dX9_aQuestion_149 : decode cX9_aQuestion 149 = .ok (.iconst 1, 1) := dk_4 (dk_at dksX9_aQuestion_6 11 rfl rfl)
theorem dX9_aQuestion_150 : decode cX9_aQuestion 150 = .ok (.ireturn, 1) := dk_172 (dk_at dksX9_aQuestion_6 12 rfl rfl)
abbrev cX9_conditions : ByteArray := prog_19_method_52_code
def yX9_conditions : MethodName := ⟨RX9, "conditions", "()Z"⟩
def dkwX9_conditions_5 : List UInt8 := [180, 0, 238, 158, 0, 10, 42, 182, 1, 6, 167, 255, 245, 4, 172]
abbrev dktX9_conditions_5 : List UInt8 := dkwX9_conditions_5 ++ []
def dkwX9_conditions_4 : List UInt8 := [42, 18, 206, 182, 0, 189, 60, 167, 255, 188, 42, 182, 1, 3, 153, 0, 9, 42, 5, 182, 0, 186, 172, 42]
abbrev dktX9_conditions_4 : List UInt8 := dkwX9_conditions_4 ++ dktX9_conditions_5
def dkwX9_conditions_3 : List UInt8 := [182, 1, 6, 167, 255, 228, 42, 27, 182, 0, 250, 42, 182, 0, 180, 42, 182, 1, 9, 154, 0, 5, 3, 172]
abbrev dktX9_conditions_3 : List UInt8 := dkwX9_conditions_3 ++ dktX9_conditions_4
def dkwX9_conditions_2 : List UInt8 := [182, 0, 244, 154, 0, 18, 27, 16, 10, 160, 0, 19, 42, 16, 10, 182, 0, 244, 153, 0, 10, 42]
abbrev dktX9_conditions_2 : List UInt8 := dkwX9_conditions_2 ++ dktX9_conditions_3
def dkwX9_conditions_1 : List UInt8 := [42, 18, 206, 182, 0, 189, 60, 27, 16, 10, 159, 0, 9, 27, 16, 11, 160, 0, 62, 42, 16, 11]
abbrev dktX9_conditions_1 : List UInt8 := dkwX9_conditions_1 ++ dktX9_conditions_2
def dkwX9_conditions_0 : List UInt8 := [42, 3, 181, 0, 241, 42, 3, 181, 0, 238, 42, 3, 181, 0, 247, 42, 182, 1, 9, 154, 0, 5, 3, 172]
abbrev dktX9_conditions_0 : List UInt8 := dkwX9_conditions_0 ++ dktX9_conditions_1
theorem dksX9_conditions_0 : cX9_conditions.data.toList.drop 0 = dktX9_conditions_0 := by decide +kernel
theorem dksX9_conditions_1 : cX9_conditions.data.toList.drop 24 = dktX9_conditions_1 := dk_seg dksX9_conditions_0 24 rfl rfl
theorem dksX9_conditions_2 : cX9_conditions.data.toList.drop 46 = dktX9_conditions_2 := dk_seg dksX9_conditions_1 22 rfl rfl
theorem dksX9_conditions_3 : cX9_conditions.data.toList.drop 68 = dktX9_conditions_3 := dk_seg dksX9_conditions_2 22 rfl rfl
theorem dksX9_conditions_4 : cX9_conditions.data.toList.drop 92 = dktX9_conditions_4 := dk_seg dksX9_conditions_3 24 rfl rfl
theorem dksX9_conditions_5 : cX9_conditions.data.toList.drop 116 = dktX9_conditions_5 := dk_seg dksX9_conditions_4 24 rfl rfl
theorem dX9_conditions_0 : decode cX9_conditions 0 = .ok (.aload_n 0, 1) := dk_42 (dk_at dksX9_conditions_0 0 rfl rfl)
theorem dX9_conditions_1 : decode cX9_conditions 1 = .ok (.iconst 0, 1) := dk_3 (dk_at dksX9_conditions_0 1 rfl rfl)
theorem dX9_conditions_2 : decode cX9_conditions 2 = .ok (.putfield 241, 3) := dk_181 0 241 (dk_at dksX9_conditions_0 2 rfl rfl)
theorem dX9_conditions_5 : decode cX9_conditions 5 = .ok (.aload_n 0, 1) := dk_42 (dk_at dksX9_conditions_0 5 rfl rfl)
theorem dX9_conditions_6 : decode cX9_conditions 6 = .ok (.iconst 0, 1) := dk_3 (dk_at dksX9_conditions_0 6 rfl rfl)
theorem dX9_conditions_7 : decode cX9_conditions 7 = .ok (.putfield 238, 3) := dk_181 0 238 (dk_at dksX9_conditions_0 7 rfl rfl)
theorem dX9_conditions_10 : decode cX9_conditions 10 = .ok (.aload_n 0, 1) := dk_42 (dk_at dksX9_conditions_0 10 rfl rfl)
theorem dX9_conditions_11 : decode cX9_conditions 11 = .ok (.iconst 0, 1) := dk_3 (dk_at dksX9_conditions_0 11 rfl rfl)
theorem dX9_conditions_12 : decode cX9_conditions 12 = .ok (.putfield 247, 3) := dk_181 0 247 (dk_at dksX9_conditions_0 12 rfl rfl)
theorem dX9_conditions_15 : decode cX9_conditions 15 = .ok (.aload_n 0, 1) := dk_42 (dk_at dksX9_conditions_0 15 rfl rfl)
theorem dX9_conditions_16 : decode cX9_conditions 16 = .ok (.invokevirtual 265, 3) := dk_182 1 9 (dk_at dksX9_conditions_0 16 rfl rfl)
theorem dX9_conditions_19 : decode cX9_conditions 19 = .ok (.ifCond .ne 5, 3) := dk_154 0 5 (dk_at dksX9_conditions_0 19 rfl rfl)
theorem dX9_conditions_22 : decode cX9_conditions 22 = .ok (.iconst 0, 1) := dk_3 (dk_at dksX9_conditions_0 22 rfl rfl)
theorem dX9_conditions_23 : decode cX9_conditions 23 = .ok (.ireturn, 1) := dk_172 (dk_at dksX9_conditions_0 23 rfl rfl)
theorem dX9_conditions_24 : decode cX9_conditions 24 = .ok (.aload_n 0, 1) := dk_42 (dk_at dksX9_conditions_1 0 rfl rfl)
theorem dX9_conditions_25 : decode cX9_conditions 25 = .ok (.ldc 206, 2) := dk_18 206 (dk_at dksX9_conditions_1 1 rfl rfl)
theorem dX9_conditions_27 : decode cX9_conditions 27 = .ok (.invokevirtual 189, 3) := dk_182 0 189 (dk_at dksX9_conditions_1 3 rfl rfl)
theorem dX9_conditions_30 : decode cX9_conditions 30 = .ok (.istore_n 1, 1) := dk_60 (dk_at dksX9_conditions_1 6 rfl rfl)
theorem dX9_conditions_31 : decode cX9_conditions 31 = .ok (.iload_n 1, 1) := dk_27 (dk_at dksX9_conditions_1 7 rfl rfl)
theorem dX9_conditions_32 : decode cX9_conditions 32 = .ok (.bipush 10, 2) := dk_16 10 (dk_at dksX9_conditions_1 8 rfl rfl)
theorem dX9_conditions_34 : decode cX9_conditions 34 = .ok (.if_icmp .eq 9, 3) := dk_159 0 9 (dk_at dksX9_conditions_1 10 rfl rfl)
theorem dX9_conditions_37 : decode cX9_conditions 37 = .ok (.iload_n 1, 1) := dk_27 (dk_at dksX9_conditions_1 13 rfl rfl)
theorem dX9_conditions_38 : decode cX9_conditions 38 = .ok (.bipush 11, 2) := dk_16 11 (dk_at dksX9_conditions_1 14 rfl rfl)
theorem dX9_conditions_40 : decode cX9_conditions 40 = .ok (.if_icmp .ne 62, 3) := dk_160 0 62 (dk_at dksX9_conditions_1 16 rfl rfl)
theorem dX9_conditions_43 : decode cX9_conditions 43 = .ok (.aload_n 0, 1) := dk_42 (dk_at dksX9_conditions_1 19 rfl rfl)
theorem dX9_conditions_44 : decode cX9_conditions 44 = .ok (.bipush 11, 2) := dk_16 11 (dk_at dksX9_conditions_1 20 rfl rfl)
theorem dX9_conditions_46 : decode cX9_conditions 46 = .ok (.invokevirtual 244, 3) := dk_182 0 244 (dk_at dksX9_conditions_2 0 rfl rfl)
theorem dX9_conditions_49 : decode cX9_conditions 49 = .ok (.ifCond .ne 18, 3) := dk_154 0 18 (dk_at dksX9_conditions_2 3 rfl rfl)
theorem dX9_conditions_52 : decode cX9_conditions 52 = .ok (.iload_n 1, 1) := dk_27 (dk_at dksX9_conditions_2 6 rfl rfl)
theorem dX9_conditions_53 : decode cX9_conditions 53 = .ok (.bipush 10, 2) := dk_16 10 (dk_at dksX9_conditions_2 7 rfl rfl)
theorem dX9_conditions_55 : decode cX9_conditions 55 = .ok (.if_icmp .ne 19, 3) := dk_160 0 19 (dk_at dksX9_conditions_2 9 rfl rfl)
theorem dX9_conditions_58 : decode cX9_conditions 58 = .ok (.aload_n 0, 1) := dk_42 (dk_at dksX9_conditions_2 12 rfl rfl)
theorem dX9_conditions_59 : decode cX9_conditions 59 = .ok (.bipush 10, 2) := dk_16 10 (dk_at dksX9_conditions_2 13 rfl rfl)
theorem dX9_conditions_61 : decode cX9_conditions 61 = .ok (.invokevirtual 244, 3) := dk_182 0 244 (dk_at dksX9_conditions_2 15 rfl rfl)
theorem dX9_conditions_64 : decode cX9_conditions 64 = .ok (.ifCond .eq 10, 3) := dk_153 0 10 (dk_at dksX9_conditions_2 18 rfl rfl)
theorem dX9_conditions_67 : decode cX9_conditions 67 = .ok (.aload_n 0, 1) := dk_42 (dk_at dksX9_conditions_2 21 rfl rfl)
theorem dX9_conditions_68 : decode cX9_conditions 68 = .ok (.invokevirtual 262, 3) := dk_182 1 6 (dk_at dksX9_conditions_3 0 rfl rfl)
theorem dX9_conditions_71 : decode cX9_conditions 71 = .ok (.goto (-28), 3) := dk_167 255 228 (dk_at dksX9_conditions_3 3 rfl rfl)
theorem dX9_conditions_74 : decode cX9_conditions 74 = .ok (.aload_n 0, 1) := dk_42 (dk_at dksX9_conditions_3 6 rfl rfl)
theorem dX9_conditions_75 : decode cX9_conditions 75 = .ok (.iload_n 1, 1) := dk_27 (dk_at dksX9_conditions_3 7 rfl rfl)
theorem dX9_conditions_76 : decode cX9_conditions 76 = .ok (.invokevirtual 250, 3) := dk_182 0 250 (dk_at dksX9_conditions_3 8 rfl rfl)
theorem dX9_conditions_79 : decode cX9_conditions 79 = .ok (.aload_n 0, 1) := dk_42 (dk_at dksX9_conditions_3 11 rfl rfl)
theorem dX9_conditions_80 : decode cX9_conditions 80 = .ok (.invokevirtual 180, 3) := dk_182 0 180 (dk_at dksX9_conditions_3 12 rfl rfl)
theorem dX9_conditions_83 : decode cX9_conditions 83 = .ok (.aload_n 0, 1) := dk_42 (dk_at dksX9_conditions_3 15 rfl rfl)
theorem dX9_conditions_84 : decode cX9_conditions 84 = .ok (.invokevirtual 265, 3) := dk_182 1 9 (dk_at dksX9_conditions_3 16 rfl rfl)
theorem dX9_conditions_87 : decode cX9_conditions 87 = .ok (.ifCond .ne 5, 3) := dk_154 0 5 (dk_at dksX9_conditions_3 19 rfl rfl)
theorem dX9_conditions_90 : decode cX9_conditions 90 = .ok (.iconst 0, 1) := dk_3 (dk_at dksX9_conditions_3 22 rfl rfl)
theorem dX9_conditions_91 : decode cX9_conditions 91 = .ok (.ireturn, 1) := dk_172 (dk_at dksX9_conditions_3 23 rfl rfl)
theorem dX9_conditions_92 : decode cX9_conditions 92 = .ok (.aload_n 0, 1) := dk_42 (dk_at dksX9_conditions_4 0 rfl rfl)
theorem dX9_conditions_93 : decode cX9_conditions 93 = .ok (.ldc 206, 2) := dk_18 206 (dk_at dksX9_conditions_4 1 rfl rfl)
theorem dX9_conditions_95 : decode cX9_conditions 95 = .ok (.invokevirtual 189, 3) := dk_182 0 189 (dk_at dksX9_conditions_4 3 rfl rfl)
theorem dX9_conditions_98 : decode cX9_conditions 98 = .ok (.istore_n 1, 1) := dk_60 (dk_at dksX9_conditions_4 6 rfl rfl)
theorem dX9_conditions_99 : decode cX9_conditions 99 = .ok (.goto (-68), 3) := dk_167 255 188 (dk_at dksX9_conditions_4 7 rfl rfl)
theorem dX9_conditions_102 : decode cX9_conditions 102 = .ok (.aload_n 0, 1) := dk_42 (dk_at dksX9_conditions_4 10 rfl rfl)
theorem dX9_conditions_103 : decode cX9_conditions 103 = .ok (.invokevirtual 259, 3) := dk_182 1 3 (dk_at dksX9_conditions_4 11 rfl rfl)
theorem dX9_conditions_106 : decode cX9_conditions 106 = .ok (.ifCond .eq 9, 3) := dk_153 0 9 (dk_at dksX9_conditions_4 14 rfl rfl)
theorem dX9_conditions_109 : decode cX9_conditions 109 = .ok (.aload_n 0, 1) := dk_42 (dk_at dksX9_conditions_4 17 rfl rfl)
theorem dX9_conditions_110 : decode cX9_conditions 110 = .ok (.iconst 2, 1) := dk_5 (dk_at dksX9_conditions_4 18 rfl rfl)
theorem dX9_conditions_111 : decode cX9_conditions 111 = .ok (.invokevirtual 186, 3) := dk_182 0 186 (dk_at dksX9_conditions_4 19 rfl rfl)
theorem dX9_conditions_114 : decode cX9_conditions 114 = .ok (.ireturn, 1) := dk_172 (dk_at dksX9_conditions_4 22 rfl rfl)
theorem dX9_conditions_115 : decode cX9_conditions 115 = .ok (.aload_n 0, 1) := dk_42 (dk_at dksX9_conditions_4 23 rfl rfl)
theorem dX9_conditions_116 : decode cX9_conditions 116 = .ok (.getfield 238, 3) := dk_180 0 238 (dk_at dksX9_conditions_5 0 rfl rfl)
theorem dX9_conditions_119 : decode cX9_conditions 119 = .ok (.ifCond .le 10, 3) := dk_158 0 10 (dk_at dksX9_conditions_5 3 rfl rfl)
theorem dX9_conditions_122 : decode cX9_conditions 122 = .ok (.aload_n 0, 1) := dk_42 (dk_at dksX9_conditions_5 6 rfl rfl)
theorem dX9_conditions_123 : decode cX9_conditions 123 = .ok (.invokevirtual 262, 3) := dk_182 1 6 (dk_at dksX9_conditions_5 7 rfl rfl)
theorem dX9_conditions_126 : decode cX9_conditions 126 = .ok (.goto (-11), 3) := dk_167 255 245 (dk_at dksX9_conditions_5 10 rfl rfl)
theorem dX9_conditions_129 : decode cX9_conditions 129 = .ok (.iconst 1, 1) := dk_4 (dk_at dksX9_conditions_5 13 rfl rfl)
theorem dX9_conditions_130 : decode cX9_conditions 130 = .ok (.ireturn, 1) := dk_172 (dk_at dksX9_conditions_5 14 rfl rfl)
abbrev cX9_aOne : ByteArray := prog_19_method_50_code
def yX9_aOne : MethodName := ⟨RX9, "aOne", "()Z"⟩
def dkwX9_aOne_7 : List UInt8 := [182, 0, 180, 42, 182, 1, 0, 167, 255, 196, 4, 172]
abbrev dktX9_aOne_7 : List UInt8 := dkwX9_aOne_7 ++ []
def dkwX9_aOne_6 : List UInt8 := [167, 255, 243, 42, 89, 180, 0, 238, 4, 100, 181, 0, 238, 42, 89, 180, 0, 247, 4, 100, 181, 0, 247, 42]
abbrev dktX9_aOne_6 : List UInt8 := dkwX9_aOne_6 ++ dktX9_aOne_7
def dkwX9_aOne_5 : List UInt8 := [153, 0, 57, 42, 182, 1, 3, 153, 0, 50, 42, 16, 40, 182, 0, 244, 154, 0, 10, 42, 182, 1, 6]
abbrev dktX9_aOne_5 : List UInt8 := dkwX9_aOne_5 ++ dktX9_aOne_6
def dkwX9_aOne_4 : List UInt8 := [42, 42, 180, 0, 216, 182, 0, 253, 42, 182, 0, 180, 42, 182, 1, 0, 42, 16, 41, 182, 0, 183]
abbrev dktX9_aOne_4 : List UInt8 := dkwX9_aOne_4 ++ dktX9_aOne_5
def dkwX9_aOne_3 : List UInt8 := [167, 255, 186, 42, 17, 0, 176, 7, 42, 180, 0, 7, 17, 6, 65, 46, 182, 0, 231, 154, 0, 5, 3, 172]
abbrev dktX9_aOne_3 : List UInt8 := dkwX9_aOne_3 ++ dktX9_aOne_4
def dkwX9_aOne_2 : List UInt8 := [16, 40, 182, 0, 183, 153, 0, 8, 16, 40, 167, 0, 5, 16, 12, 182, 0, 250, 42, 182, 0, 180]
abbrev dktX9_aOne_2 : List UInt8 := dkwX9_aOne_2 ++ dktX9_aOne_3
def dkwX9_aOne_1 : List UInt8 := [16, 6, 160, 0, 10, 42, 16, 7, 182, 0, 186, 172, 42, 89, 180, 0, 247, 4, 96, 181, 0, 247, 42, 42]
abbrev dktX9_aOne_1 : List UInt8 := dkwX9_aOne_1 ++ dktX9_aOne_2
def dkwX9_aOne_0 : List UInt8 := [42, 18, 206, 182, 0, 189, 16, 12, 159, 0, 12, 42, 16, 40, 182, 0, 183, 153, 0, 56, 42, 180, 0, 247]
abbrev dktX9_aOne_0 : List UInt8 := dkwX9_aOne_0 ++ dktX9_aOne_1
theorem dksX9_aOne_0 : cX9_aOne.data.toList.drop 0 = dktX9_aOne_0 := by decide +kernel
theorem dksX9_aOne_1 : cX9_aOne.data.toList.drop 24 = dktX9_aOne_1 := dk_seg dksX9_aOne_0 24 rfl rfl
theorem dksX9_aOne_2 : cX9_aOne.data.toList.drop 48 = dktX9_aOne_2 := dk_seg dksX9_aOne_1 24 rfl rfl
theorem dksX9_aOne_3 : cX9_aOne.data.toList.drop 70 = dktX9_aOne_3 := dk_seg dksX9_aOne_2 22 rfl rfl
theorem dksX9_aOne_4 : cX9_aOne.data.toList.drop 94 = dktX9_aOne_4 := dk_seg dksX9_aOne_3 24 rfl rfl
theorem dksX9_aOne_5 : cX9_aOne.data.toList.drop 116 = dktX9_aOne_5 := dk_seg dksX9_aOne_4 22 rfl rfl
theorem dksX9_aOne_6 : cX9_aOne.data.toList.drop 139 = dktX9_aOne_6 := dk_seg dksX9_aOne_5 23 rfl rfl
theorem dksX9_aOne_7 : cX9_aOne.data.toList.drop 163 = dktX9_aOne_7 := dk_seg dksX9_aOne_6 24 rfl rfl
theorem dX9_aOne_0 : decode cX9_aOne 0 = .ok (.aload_n 0, 1) := dk_42 (dk_at dksX9_aOne_0 0 rfl rfl)
theorem dX9_aOne_1 : decode cX9_aOne 1 = .ok (.ldc 206, 2) := dk_18 206 (dk_at dksX9_aOne_0 1 rfl rfl)
theorem dX9_aOne_3 : decode cX9_aOne 3 = .ok (.invokevirtual 189, 3) := dk_182 0 189 (dk_at dksX9_aOne_0 3 rfl rfl)
theorem dX9_aOne_6 : decode cX9_aOne 6 = .ok (.bipush 12, 2) := dk_16 12 (dk_at dksX9_aOne_0 6 rfl rfl)
theorem dX9_aOne_8 : decode cX9_aOne 8 = .ok (.if_icmp .eq 12, 3) := dk_159 0 12 (dk_at dksX9_aOne_0 8 rfl rfl)
theorem dX9_aOne_11 : decode cX9_aOne 11 = .ok (.aload_n 0, 1) := dk_42 (dk_at dksX9_aOne_0 11 rfl rfl)
theorem dX9_aOne_12 : decode cX9_aOne 12 = .ok (.bipush 40, 2) := dk_16 40 (dk_at dksX9_aOne_0 12 rfl rfl)
theorem dX9_aOne_14 : decode cX9_aOne 14 = .ok (.invokevirtual 183, 3) := dk_182 0 183 (dk_at dksX9_aOne_0 14 rfl rfl)
theorem dX9_aOne_17 : decode cX9_aOne 17 = .ok (.ifCond .eq 56, 3) := dk_153 0 56 (dk_at dksX9_aOne_0 17 rfl rfl)
theorem dX9_aOne_20 : decode cX9_aOne 20 = .ok (.aload_n 0, 1) := dk_42 (dk_at dksX9_aOne_0 20 rfl rfl)
theorem dX9_aOne_21 : decode cX9_aOne 21 = .ok (.getfield 247, 3) := dk_180 0 247 (dk_at dksX9_aOne_0 21 rfl rfl)
theorem dX9_aOne_24 : decode cX9_aOne 24 = .ok (.bipush 6, 2) := dk_16 6 (dk_at dksX9_aOne_1 0 rfl rfl)
theorem dX9_aOne_26 : decode cX9_aOne 26 = .ok (.if_icmp .ne 10, 3) := dk_160 0 10 (dk_at dksX9_aOne_1 2 rfl rfl)
theorem dX9_aOne_29 : decode cX9_aOne 29 = .ok (.aload_n 0, 1) := dk_42 (dk_at dksX9_aOne_1 5 rfl rfl)
theorem dX9_aOne_30 : decode cX9_aOne 30 = .ok (.bipush 7, 2) := dk_16 7 (dk_at dksX9_aOne_1 6 rfl rfl)
theorem dX9_aOne_32 : decode cX9_aOne 32 = .ok (.invokevirtual 186, 3) := dk_182 0 186 (dk_at dksX9_aOne_1 8 rfl rfl)
theorem dX9_aOne_35 : decode cX9_aOne 35 = .ok (.ireturn, 1) := dk_172 (dk_at dksX9_aOne_1 11 rfl rfl)
theorem dX9_aOne_36 : decode cX9_aOne 36 = .ok (.aload_n 0, 1) := dk_42 (dk_at dksX9_aOne_1 12 rfl rfl)
theorem dX9_aOne_37 : decode cX9_aOne 37 = .ok (.dup, 1) := dk_89 (dk_at dksX9_aOne_1 13 rfl rfl)
theorem dX9_aOne_38 : decode cX9_aOne 38 = .ok (.getfield 247, 3) := dk_180 0 247 (dk_at dksX9_aOne_1 14 rfl rfl)
theorem dX9_aOne_41 : decode cX9_aOne 41 = .ok (.iconst 1, 1) := dk_4 (dk_at dksX9_aOne_1 17 rfl rfl)
theorem dX9_aOne_42 : decode cX9_aOne 42 = .ok (.iadd, 1) := dk_96 (dk_at dksX9_aOne_1 18 rfl rfl)
theorem dX9_aOne_43 : decode cX9_aOne 43 = .ok (.putfield 247, 3) := dk_181 0 247 (dk_at dksX9_aOne_1 19 rfl rfl)
theorem dX9_aOne_46 : decode cX9_aOne 46 = .ok (.aload_n 0, 1) := dk_42 (dk_at dksX9_aOne_1 22 rfl rfl)
theorem dX9_aOne_47 : decode cX9_aOne 47 = .ok (.aload_n 0, 1) := dk_42 (dk_at dksX9_aOne_1 23 rfl rfl)
theorem dX9_aOne_48 : decode cX9_aOne 48 = .ok (.bipush 40, 2) := dk_16 40 (dk_at dksX9_aOne_2 0 rfl rfl)
theorem dX9_aOne_50 : decode cX9_aOne 50 = .ok (.invokevirtual 183, 3) := dk_182 0 183 (dk_at dksX9_aOne_2 2 rfl rfl)
theorem dX9_aOne_53 : decode cX9_aOne 53 = .ok (.ifCond .eq 8, 3) := dk_153 0 8 (dk_at dksX9_aOne_2 5 rfl rfl)
theorem dX9_aOne_56 : decode cX9_aOne 56 = .ok (.bipush 40, 2) := dk_16 40 (dk_at dksX9_aOne_2 8 rfl rfl)
theorem dX9_aOne_58 : decode cX9_aOne 58 = .ok (.goto 5, 3) := dk_167 0 5 (dk_at dksX9_aOne_2 10 rfl rfl)
theorem dX9_aOne_61 : decode cX9_aOne 61 = .ok (.bipush 12, 2) := dk_16 12 (dk_at dksX9_aOne_2 13 rfl rfl)
theorem dX9_aOne_63 : decode cX9_aOne 63 = .ok (.invokevirtual 250, 3) := dk_182 0 250 (dk_at dksX9_aOne_2 15 rfl rfl)
theorem dX9_aOne_66 : decode cX9_aOne 66 = .ok (.aload_n 0, 1) := dk_42 (dk_at dksX9_aOne_2 18 rfl rfl)
theorem dX9_aOne_67 : decode cX9_aOne 67 = .ok (.invokevirtual 180, 3) := dk_182 0 180 (dk_at dksX9_aOne_2 19 rfl rfl)
theorem dX9_aOne_70 : decode cX9_aOne 70 = .ok (.goto (-70), 3) := dk_167 255 186 (dk_at dksX9_aOne_3 0 rfl rfl)
theorem dX9_aOne_73 : decode cX9_aOne 73 = .ok (.aload_n 0, 1) := dk_42 (dk_at dksX9_aOne_3 3 rfl rfl)
theorem dX9_aOne_74 : decode cX9_aOne 74 = .ok (.sipush 176, 3) := dk_17 0 176 (dk_at dksX9_aOne_3 4 rfl rfl)
theorem dX9_aOne_77 : decode cX9_aOne 77 = .ok (.iconst 4, 1) := dk_7 (dk_at dksX9_aOne_3 7 rfl rfl)
theorem dX9_aOne_78 : decode cX9_aOne 78 = .ok (.aload_n 0, 1) := dk_42 (dk_at dksX9_aOne_3 8 rfl rfl)
theorem dX9_aOne_79 : decode cX9_aOne 79 = .ok (.getfield 7, 3) := dk_180 0 7 (dk_at dksX9_aOne_3 9 rfl rfl)
theorem dX9_aOne_82 : decode cX9_aOne 82 = .ok (.sipush 1601, 3) := dk_17 6 65 (dk_at dksX9_aOne_3 12 rfl rfl)
theorem dX9_aOne_85 : decode cX9_aOne 85 = .ok (.iaload, 1) := dk_46 (dk_at dksX9_aOne_3 15 rfl rfl)
theorem dX9_aOne_86 : decode cX9_aOne 86 = .ok (.invokevirtual 231, 3) := dk_182 0 231 (dk_at dksX9_aOne_3 16 rfl rfl)
theorem dX9_aOne_89 : decode cX9_aOne 89 = .ok (.ifCond .ne 5, 3) := dk_154 0 5 (dk_at dksX9_aOne_3 19 rfl rfl)
theorem dX9_aOne_92 : decode cX9_aOne 92 = .ok (.iconst 0, 1) := dk_3 (dk_at dksX9_aOne_3 22 rfl rfl)
theorem dX9_aOne_93 : decode cX9_aOne 93 = .ok (.ireturn, 1) := dk_172 (dk_at dksX9_aOne_3 23 rfl rfl)
theorem dX9_aOne_94 : decode cX9_aOne 94 = .ok (.aload_n 0, 1) := dk_42 (dk_at dksX9_aOne_4 0 rfl rfl)
theorem dX9_aOne_95 : decode cX9_aOne 95 = .ok (.aload_n 0, 1) := dk_42 (dk_at dksX9_aOne_4 1 rfl rfl)
theorem dX9_aOne_96 : decode cX9_aOne 96 = .ok (.getfield 216, 3) := dk_180 0 216 (dk_at dksX9_aOne_4 2 rfl rfl)
theorem dX9_aOne_99 : decode cX9_aOne 99 = .ok (.invokevirtual 253, 3) := dk_182 0 253 (dk_at dksX9_aOne_4 5 rfl rfl)
theorem dX9_aOne_102 : decode cX9_aOne 102 = .ok (.aload_n 0, 1) := dk_42 (dk_at dksX9_aOne_4 8 rfl rfl)
theorem dX9_aOne_103 : decode cX9_aOne 103 = .ok (.invokevirtual 180, 3) := dk_182 0 180 (dk_at dksX9_aOne_4 9 rfl rfl)
theorem dX9_aOne_106 : decode cX9_aOne 106 = .ok (.aload_n 0, 1) := dk_42 (dk_at dksX9_aOne_4 12 rfl rfl)
theorem dX9_aOne_107 : decode cX9_aOne 107 = .ok (.invokevirtual 256, 3) := dk_182 1 0 (dk_at dksX9_aOne_4 13 rfl rfl)
theorem dX9_aOne_110 : decode cX9_aOne 110 = .ok (.aload_n 0, 1) := dk_42 (dk_at dksX9_aOne_4 16 rfl rfl)
theorem dX9_aOne_111 : decode cX9_aOne 111 = .ok (.bipush 41, 2) := dk_16 41 (dk_at dksX9_aOne_4 17 rfl rfl)
theorem dX9_aOne_113 : decode cX9_aOne 113 = .ok (.invokevirtual 183, 3) := dk_182 0 183 (dk_at dksX9_aOne_4 19 rfl rfl)
theorem dX9_aOne_116 : decode cX9_aOne 116 = .ok (.ifCond .eq 57, 3) := dk_153 0 57 (dk_at dksX9_aOne_5 0 rfl rfl)
theorem dX9_aOne_119 : decode cX9_aOne 119 = .ok (.aload_n 0, 1) := dk_42 (dk_at dksX9_aOne_5 3 rfl rfl)
theorem dX9_aOne_120 : decode cX9_aOne 120 = .ok (.invokevirtual 259, 3) := dk_182 1 3 (dk_at dksX9_aOne_5 4 rfl rfl)
theorem dX9_aOne_123 : decode cX9_aOne 123 = .ok (.ifCond .eq 50, 3) := dk_153 0 50 (dk_at dksX9_aOne_5 7 rfl rfl)
theorem dX9_aOne_126 : decode cX9_aOne 126 = .ok (.aload_n 0, 1) := dk_42 (dk_at dksX9_aOne_5 10 rfl rfl)
theorem dX9_aOne_127 : decode cX9_aOne 127 = .ok (.bipush 40, 2) := dk_16 40 (dk_at dksX9_aOne_5 11 rfl rfl)
theorem dX9_aOne_129 : decode cX9_aOne 129 = .ok (.invokevirtual 244, 3) := dk_182 0 244 (dk_at dksX9_aOne_5 13 rfl rfl)
theorem dX9_aOne_132 : decode cX9_aOne 132 = .ok (.ifCond .ne 10, 3) := dk_154 0 10 (dk_at dksX9_aOne_5 16 rfl rfl)
theorem dX9_aOne_135 : decode cX9_aOne 135 = .ok (.aload_n 0, 1) := dk_42 (dk_at dksX9_aOne_5 19 rfl rfl)
theorem dX9_aOne_136 : decode cX9_aOne 136 = .ok (.invokevirtual 262, 3) := dk_182 1 6 (dk_at dksX9_aOne_5 20 rfl rfl)
theorem dX9_aOne_139 : decode cX9_aOne 139 = .ok (.goto (-13), 3) := dk_167 255 243 (dk_at dksX9_aOne_6 0 rfl rfl)
theorem dX9_aOne_142 : decode cX9_aOne 142 = .ok (.aload_n 0, 1) := dk_42 (dk_at dksX9_aOne_6 3 rfl rfl)
theorem dX9_aOne_143 : decode cX9_aOne 143 = .ok (.dup, 1) := dk_89 (dk_at dksX9_aOne_6 4 rfl rfl)
theorem dX9_aOne_144 : decode cX9_aOne 144 = .ok (.getfield 238, 3) := dk_180 0 238 (dk_at dksX9_aOne_6 5 rfl rfl)
theorem dX9_aOne_147 : decode cX9_aOne 147 = .ok (.iconst 1, 1) := dk_4 (dk_at dksX9_aOne_6 8 rfl rfl)
theorem dX9_aOne_148 : decode cX9_aOne 148 = .ok (.isub, 1) := dk_100 (dk_at dksX9_aOne_6 9 rfl rfl)
theorem dX9_aOne_149 : decode cX9_aOne 149 = .ok (.putfield 238, 3) := dk_181 0 238 (dk_at dksX9_aOne_6 10 rfl rfl)
theorem dX9_aOne_152 : decode cX9_aOne 152 = .ok (.aload_n 0, 1) := dk_42 (dk_at dksX9_aOne_6 13 rfl rfl)
theorem dX9_aOne_153 : decode cX9_aOne 153 = .ok (.dup, 1) := dk_89 (dk_at dksX9_aOne_6 14 rfl rfl)
theorem dX9_aOne_154 : decode cX9_aOne 154 = .ok (.getfield 247, 3) := dk_180 0 247 (dk_at dksX9_aOne_6 15 rfl rfl)
theorem dX9_aOne_157 : decode cX9_aOne 157 = .ok (.iconst 1, 1) := dk_4 (dk_at dksX9_aOne_6 18 rfl rfl)
theorem dX9_aOne_158 : decode cX9_aOne 158 = .ok (.isub, 1) := dk_100 (dk_at dksX9_aOne_6 19 rfl rfl)
theorem dX9_aOne_159 : decode cX9_aOne 159 = .ok (.putfield 247, 3) := dk_181 0 247 (dk_at dksX9_aOne_6 20 rfl rfl)
theorem dX9_aOne_162 : decode cX9_aOne 162 = .ok (.aload_n 0, 1) := dk_42 (dk_at dksX9_aOne_6 23 rfl rfl)
theorem dX9_aOne_163 : decode cX9_aOne 163 = .ok (.invokevirtual 180, 3) := dk_182 0 180 (dk_at dksX9_aOne_7 0 rfl rfl)
theorem dX9_aOne_166 : decode cX9_aOne 166 = .ok (.aload_n 0, 1) := dk_42 (dk_at dksX9_aOne_7 3 rfl rfl)
theorem dX9_aOne_167 : decode cX9_aOne 167 = .ok (.invokevirtual 256, 3) := dk_182 1 0 (dk_at dksX9_aOne_7 4 rfl rfl)
theorem dX9_aOne_170 : decode cX9_aOne 170 = .ok (.goto (-60), 3) := dk_167 255 196 (dk_at dksX9_aOne_7 7 rfl rfl)
theorem dX9_aOne_173 : decode cX9_aOne 173 = .ok (.iconst 1, 1) := dk_4 (dk_at dksX9_aOne_7 10 rfl rfl)
theorem dX9_aOne_174 : decode cX9_aOne 174 = .ok (.ireturn, 1) := dk_172 (dk_at dksX9_aOne_7 11 rfl rfl)
abbrev cX9_does : ByteArray := prog_19_method_46_code
def yX9_does : MethodName := ⟨RX9, "does", "(I)V"⟩
def dkwX9_does_0 : List UInt8 := [42, 180, 0, 53, 42, 180, 0, 238, 27, 79, 42, 89, 180, 0, 238, 4, 96, 181, 0, 238, 177]
abbrev dktX9_does_0 : List UInt8 := dkwX9_does_0 ++ []
theorem dksX9_does_0 : cX9_does.data.toList.drop 0 = dktX9_does_0 := by decide +kernel
theorem dX9_does_0 : decode cX9_does 0 = .ok (.aload_n 0, 1) := dk_42 (dk_at dksX9_does_0 0 rfl rfl)
theorem dX9_does_1 : decode cX9_does 1 = .ok (.getfield 53, 3) := dk_180 0 53 (dk_at dksX9_does_0 1 rfl rfl)
theorem dX9_does_4 : decode cX9_does 4 = .ok (.aload_n 0, 1) := dk_42 (dk_at dksX9_does_0 4 rfl rfl)
theorem dX9_does_5 : decode cX9_does 5 = .ok (.getfield 238, 3) := dk_180 0 238 (dk_at dksX9_does_0 5 rfl rfl)
theorem dX9_does_8 : decode cX9_does 8 = .ok (.iload_n 1, 1) := dk_27 (dk_at dksX9_does_0 8 rfl rfl)
theorem dX9_does_9 : decode cX9_does 9 = .ok (.iastore, 1) := dk_79 (dk_at dksX9_does_0 9 rfl rfl)
theorem dX9_does_10 : decode cX9_does 10 = .ok (.aload_n 0, 1) := dk_42 (dk_at dksX9_does_0 10 rfl rfl)
theorem dX9_does_11 : decode cX9_does 11 = .ok (.dup, 1) := dk_89 (dk_at dksX9_does_0 11 rfl rfl)
theorem dX9_does_12 : decode cX9_does 12 = .ok (.getfield 238, 3) := dk_180 0 238 (dk_at dksX9_does_0 12 rfl rfl)
theorem dX9_does_15 : decode cX9_does 15 = .ok (.iconst 1, 1) := dk_4 (dk_at dksX9_does_0 15 rfl rfl)
theorem dX9_does_16 : decode cX9_does 16 = .ok (.iadd, 1) := dk_96 (dk_at dksX9_does_0 16 rfl rfl)
theorem dX9_does_17 : decode cX9_does 17 = .ok (.putfield 238, 3) := dk_181 0 238 (dk_at dksX9_does_0 17 rfl rfl)
theorem dX9_does_20 : decode cX9_does 20 = .ok (.return_, 1) := dk_177 (dk_at dksX9_does_0 20 rfl rfl)
abbrev cX9_pushes : ByteArray := prog_19_method_49_code
def yX9_pushes : MethodName := ⟨RX9, "pushes", "(I)V"⟩
def dkwX9_pushes_4 : List UInt8 := [167, 255, 194, 42, 89, 180, 0, 241, 4, 96, 181, 0, 241, 177]
abbrev dktX9_pushes_4 : List UInt8 := dkwX9_pushes_4 ++ []
def dkwX9_pushes_3 : List UInt8 := [180, 0, 241, 104, 28, 16, 64, 108, 96, 92, 47, 10, 28, 16, 64, 112, 121, 129, 80, 132, 2, 1]
abbrev dktX9_pushes_3 : List UInt8 := dkwX9_pushes_3 ++ dktX9_pushes_4
def dkwX9_pushes_2 : List UInt8 := [180, 0, 7, 17, 6, 72, 27, 96, 46, 182, 0, 234, 27, 160, 0, 28, 42, 180, 0, 50, 7, 42]
abbrev dktX9_pushes_2 : List UInt8 := dkwX9_pushes_2 ++ dktX9_pushes_3
def dkwX9_pushes_1 : List UInt8 := [167, 255, 234, 3, 61, 28, 42, 180, 0, 7, 17, 6, 66, 46, 162, 0, 56, 42, 17, 6, 64, 28, 42]
abbrev dktX9_pushes_1 : List UInt8 := dkwX9_pushes_1 ++ dktX9_pushes_2
def dkwX9_pushes_0 : List UInt8 := [3, 61, 28, 7, 162, 0, 23, 42, 180, 0, 50, 7, 42, 180, 0, 241, 104, 28, 96, 9, 80, 132, 2, 1]
abbrev dktX9_pushes_0 : List UInt8 := dkwX9_pushes_0 ++ dktX9_pushes_1
theorem dksX9_pushes_0 : cX9_pushes.data.toList.drop 0 = dktX9_pushes_0 := by decide +kernel
theorem dksX9_pushes_1 : cX9_pushes.data.toList.drop 24 = dktX9_pushes_1 := dk_seg dksX9_pushes_0 24 rfl rfl
theorem dksX9_pushes_2 : cX9_pushes.data.toList.drop 47 = dktX9_pushes_2 := dk_seg dksX9_pushes_1 23 rfl rfl
theorem dksX9_pushes_3 : cX9_pushes.data.toList.drop 69 = dktX9_pushes_3 := dk_seg dksX9_pushes_2 22 rfl rfl
theorem dksX9_pushes_4 : cX9_pushes.data.toList.drop 91 = dktX9_pushes_4 := dk_seg dksX9_pushes_3 22 rfl rfl
theorem dX9_pushes_0 : decode cX9_pushes 0 = .ok (.iconst 0, 1) := dk_3 (dk_at dksX9_pushes_0 0 rfl rfl)
theorem dX9_pushes_1 : decode cX9_pushes 1 = .ok (.istore_n 2, 1) := dk_61 (dk_at dksX9_pushes_0 1 rfl rfl)
theorem dX9_pushes_2 : decode cX9_pushes 2 = .ok (.iload_n 2, 1) := dk_28 (dk_at dksX9_pushes_0 2 rfl rfl)
theorem dX9_pushes_3 : decode cX9_pushes 3 = .ok (.iconst 4, 1) := dk_7 (dk_at dksX9_pushes_0 3 rfl rfl)
theorem dX9_pushes_4 : decode cX9_pushes 4 = .ok (.if_icmp .ge 23, 3) := dk_162 0 23 (dk_at dksX9_pushes_0 4 rfl rfl)
theorem dX9_pushes_7 : decode cX9_pushes 7 = .ok (.aload_n 0, 1) := dk_42 (dk_at dksX9_pushes_0 7 rfl rfl)
theorem dX9_pushes_8 : decode cX9_pushes 8 = .ok (.getfield 50, 3) := dk_180 0 50 (dk_at dksX9_pushes_0 8 rfl rfl)
theorem dX9_pushes_11 : decode cX9_pushes 11 = .ok (.iconst 4, 1) := dk_7 (dk_at dksX9_pushes_0 11 rfl rfl)
theorem dX9_pushes_12 : decode cX9_pushes 12 = .ok (.aload_n 0, 1) := dk_42 (dk_at dksX9_pushes_0 12 rfl rfl)
theorem dX9_pushes_13 : decode cX9_pushes 13 = .ok (.getfield 241, 3) := dk_180 0 241 (dk_at dksX9_pushes_0 13 rfl rfl)
theorem dX9_pushes_16 : decode cX9_pushes 16 = .ok (.imul, 1) := dk_104 (dk_at dksX9_pushes_0 16 rfl rfl)
theorem dX9_pushes_17 : decode cX9_pushes 17 = .ok (.iload_n 2, 1) := dk_28 (dk_at dksX9_pushes_0 17 rfl rfl)
theorem dX9_pushes_18 : decode cX9_pushes 18 = .ok (.iadd, 1) := dk_96 (dk_at dksX9_pushes_0 18 rfl rfl)
theorem dX9_pushes_19 : decode cX9_pushes 19 = .ok (.lconst 0, 1) := dk_9 (dk_at dksX9_pushes_0 19 rfl rfl)
theorem dX9_pushes_20 : decode cX9_pushes 20 = .ok (.lastore, 1) := dk_80 (dk_at dksX9_pushes_0 20 rfl rfl)
theorem dX9_pushes_21 : decode cX9_pushes 21 = .ok (.iinc 2 1, 3) := dk_132 2 1 (dk_at dksX9_pushes_0 21 rfl rfl)
theorem dX9_pushes_24 : decode cX9_pushes 24 = .ok (.goto (-22), 3) := dk_167 255 234 (dk_at dksX9_pushes_1 0 rfl rfl)
theorem dX9_pushes_27 : decode cX9_pushes 27 = .ok (.iconst 0, 1) := dk_3 (dk_at dksX9_pushes_1 3 rfl rfl)
theorem dX9_pushes_28 : decode cX9_pushes 28 = .ok (.istore_n 2, 1) := dk_61 (dk_at dksX9_pushes_1 4 rfl rfl)
theorem dX9_pushes_29 : decode cX9_pushes 29 = .ok (.iload_n 2, 1) := dk_28 (dk_at dksX9_pushes_1 5 rfl rfl)
theorem dX9_pushes_30 : decode cX9_pushes 30 = .ok (.aload_n 0, 1) := dk_42 (dk_at dksX9_pushes_1 6 rfl rfl)
theorem dX9_pushes_31 : decode cX9_pushes 31 = .ok (.getfield 7, 3) := dk_180 0 7 (dk_at dksX9_pushes_1 7 rfl rfl)
theorem dX9_pushes_34 : decode cX9_pushes 34 = .ok (.sipush 1602, 3) := dk_17 6 66 (dk_at dksX9_pushes_1 10 rfl rfl)
theorem dX9_pushes_37 : decode cX9_pushes 37 = .ok (.iaload, 1) := dk_46 (dk_at dksX9_pushes_1 13 rfl rfl)
theorem dX9_pushes_38 : decode cX9_pushes 38 = .ok (.if_icmp .ge 56, 3) := dk_162 0 56 (dk_at dksX9_pushes_1 14 rfl rfl)
theorem dX9_pushes_41 : decode cX9_pushes 41 = .ok (.aload_n 0, 1) := dk_42 (dk_at dksX9_pushes_1 17 rfl rfl)
theorem dX9_pushes_42 : decode cX9_pushes 42 = .ok (.sipush 1600, 3) := dk_17 6 64 (dk_at dksX9_pushes_1 18 rfl rfl)
theorem dX9_pushes_45 : decode cX9_pushes 45 = .ok (.iload_n 2, 1) := dk_28 (dk_at dksX9_pushes_1 21 rfl rfl)
theorem dX9_pushes_46 : decode cX9_pushes 46 = .ok (.aload_n 0, 1) := dk_42 (dk_at dksX9_pushes_1 22 rfl rfl)
theorem dX9_pushes_47 : decode cX9_pushes 47 = .ok (.getfield 7, 3) := dk_180 0 7 (dk_at dksX9_pushes_2 0 rfl rfl)
theorem dX9_pushes_50 : decode cX9_pushes 50 = .ok (.sipush 1608, 3) := dk_17 6 72 (dk_at dksX9_pushes_2 3 rfl rfl)
theorem dX9_pushes_53 : decode cX9_pushes 53 = .ok (.iload_n 1, 1) := dk_27 (dk_at dksX9_pushes_2 6 rfl rfl)
theorem dX9_pushes_54 : decode cX9_pushes 54 = .ok (.iadd, 1) := dk_96 (dk_at dksX9_pushes_2 7 rfl rfl)
theorem dX9_pushes_55 : decode cX9_pushes 55 = .ok (.iaload, 1) := dk_46 (dk_at dksX9_pushes_2 8 rfl rfl)
theorem dX9_pushes_56 : decode cX9_pushes 56 = .ok (.invokevirtual 234, 3) := dk_182 0 234 (dk_at dksX9_pushes_2 9 rfl rfl)
theorem dX9_pushes_59 : decode cX9_pushes 59 = .ok (.iload_n 1, 1) := dk_27 (dk_at dksX9_pushes_2 12 rfl rfl)
theorem dX9_pushes_60 : decode cX9_pushes 60 = .ok (.if_icmp .ne 28, 3) := dk_160 0 28 (dk_at dksX9_pushes_2 13 rfl rfl)
theorem dX9_pushes_63 : decode cX9_pushes 63 = .ok (.aload_n 0, 1) := dk_42 (dk_at dksX9_pushes_2 16 rfl rfl)
theorem dX9_pushes_64 : decode cX9_pushes 64 = .ok (.getfield 50, 3) := dk_180 0 50 (dk_at dksX9_pushes_2 17 rfl rfl)
theorem dX9_pushes_67 : decode cX9_pushes 67 = .ok (.iconst 4, 1) := dk_7 (dk_at dksX9_pushes_2 20 rfl rfl)
theorem dX9_pushes_68 : decode cX9_pushes 68 = .ok (.aload_n 0, 1) := dk_42 (dk_at dksX9_pushes_2 21 rfl rfl)
theorem dX9_pushes_69 : decode cX9_pushes 69 = .ok (.getfield 241, 3) := dk_180 0 241 (dk_at dksX9_pushes_3 0 rfl rfl)
theorem dX9_pushes_72 : decode cX9_pushes 72 = .ok (.imul, 1) := dk_104 (dk_at dksX9_pushes_3 3 rfl rfl)
theorem dX9_pushes_73 : decode cX9_pushes 73 = .ok (.iload_n 2, 1) := dk_28 (dk_at dksX9_pushes_3 4 rfl rfl)
theorem dX9_pushes_74 : decode cX9_pushes 74 = .ok (.bipush 64, 2) := dk_16 64 (dk_at dksX9_pushes_3 5 rfl rfl)
theorem dX9_pushes_76 : decode cX9_pushes 76 = .ok (.idiv, 1) := dk_108 (dk_at dksX9_pushes_3 7 rfl rfl)
theorem dX9_pushes_77 : decode cX9_pushes 77 = .ok (.iadd, 1) := dk_96 (dk_at dksX9_pushes_3 8 rfl rfl)
theorem dX9_pushes_78 : decode cX9_pushes 78 = .ok (.dup2, 1) := dk_92 (dk_at dksX9_pushes_3 9 rfl rfl)
theorem dX9_pushes_79 : decode cX9_pushes 79 = .ok (.laload, 1) := dk_47 (dk_at dksX9_pushes_3 10 rfl rfl)
theorem dX9_pushes_80 : decode cX9_pushes 80 = .ok (.lconst 1, 1) := dk_10 (dk_at dksX9_pushes_3 11 rfl rfl)
theorem dX9_pushes_81 : decode cX9_pushes 81 = .ok (.iload_n 2, 1) := dk_28 (dk_at dksX9_pushes_3 12 rfl rfl)
theorem dX9_pushes_82 : decode cX9_pushes 82 = .ok (.bipush 64, 2) := dk_16 64 (dk_at dksX9_pushes_3 13 rfl rfl)
theorem dX9_pushes_84 : decode cX9_pushes 84 = .ok (.irem, 1) := dk_112 (dk_at dksX9_pushes_3 15 rfl rfl)
theorem dX9_pushes_85 : decode cX9_pushes 85 = .ok (.lshl, 1) := dk_121 (dk_at dksX9_pushes_3 16 rfl rfl)
theorem dX9_pushes_86 : decode cX9_pushes 86 = .ok (.lor, 1) := dk_129 (dk_at dksX9_pushes_3 17 rfl rfl)
theorem dX9_pushes_87 : decode cX9_pushes 87 = .ok (.lastore, 1) := dk_80 (dk_at dksX9_pushes_3 18 rfl rfl)
theorem dX9_pushes_88 : decode cX9_pushes 88 = .ok (.iinc 2 1, 3) := dk_132 2 1 (dk_at dksX9_pushes_3 19 rfl rfl)
theorem dX9_pushes_91 : decode cX9_pushes 91 = .ok (.goto (-62), 3) := dk_167 255 194 (dk_at dksX9_pushes_4 0 rfl rfl)
theorem dX9_pushes_94 : decode cX9_pushes 94 = .ok (.aload_n 0, 1) := dk_42 (dk_at dksX9_pushes_4 3 rfl rfl)
theorem dX9_pushes_95 : decode cX9_pushes 95 = .ok (.dup, 1) := dk_89 (dk_at dksX9_pushes_4 4 rfl rfl)
theorem dX9_pushes_96 : decode cX9_pushes 96 = .ok (.getfield 241, 3) := dk_180 0 241 (dk_at dksX9_pushes_4 5 rfl rfl)
theorem dX9_pushes_99 : decode cX9_pushes 99 = .ok (.iconst 1, 1) := dk_4 (dk_at dksX9_pushes_4 8 rfl rfl)
theorem dX9_pushes_100 : decode cX9_pushes 100 = .ok (.iadd, 1) := dk_96 (dk_at dksX9_pushes_4 9 rfl rfl)
theorem dX9_pushes_101 : decode cX9_pushes 101 = .ok (.putfield 241, 3) := dk_181 0 241 (dk_at dksX9_pushes_4 10 rfl rfl)
theorem dX9_pushes_104 : decode cX9_pushes 104 = .ok (.return_, 1) := dk_177 (dk_at dksX9_pushes_4 13 rfl rfl)
abbrev cX9_turnsRound : ByteArray := prog_19_method_48_code
def yX9_turnsRound : MethodName := ⟨RX9, "turnsRound", "()V"⟩
def dkwX9_turnsRound_3 : List UInt8 := [132, 1, 1, 167, 255, 214, 167, 255, 180, 177]
abbrev dktX9_turnsRound_3 : List UInt8 := dkwX9_turnsRound_3 ++ []
def dkwX9_turnsRound_2 : List UInt8 := [27, 96, 42, 180, 0, 50, 7, 42, 180, 0, 241, 104, 7, 100, 27, 96, 47, 20, 0, 124, 131, 80]
abbrev dktX9_turnsRound_2 : List UInt8 := dkwX9_turnsRound_2 ++ dktX9_turnsRound_3
def dkwX9_turnsRound_1 : List UInt8 := [4, 100, 181, 0, 247, 3, 60, 27, 7, 162, 0, 43, 42, 180, 0, 50, 7, 42, 180, 0, 241, 104, 7, 100]
abbrev dktX9_turnsRound_1 : List UInt8 := dkwX9_turnsRound_1 ++ dktX9_turnsRound_2
def dkwX9_turnsRound_0 : List UInt8 := [42, 16, 12, 182, 0, 244, 153, 0, 73, 42, 89, 180, 0, 238, 4, 100, 181, 0, 238, 42, 89, 180, 0, 247]
abbrev dktX9_turnsRound_0 : List UInt8 := dkwX9_turnsRound_0 ++ dktX9_turnsRound_1
theorem dksX9_turnsRound_0 : cX9_turnsRound.data.toList.drop 0 = dktX9_turnsRound_0 := by decide +kernel
theorem dksX9_turnsRound_1 : cX9_turnsRound.data.toList.drop 24 = dktX9_turnsRound_1 := dk_seg dksX9_turnsRound_0 24 rfl rfl
theorem dksX9_turnsRound_2 : cX9_turnsRound.data.toList.drop 48 = dktX9_turnsRound_2 := dk_seg dksX9_turnsRound_1 24 rfl rfl
theorem dksX9_turnsRound_3 : cX9_turnsRound.data.toList.drop 70 = dktX9_turnsRound_3 := dk_seg dksX9_turnsRound_2 22 rfl rfl
theorem dX9_turnsRound_0 : decode cX9_turnsRound 0 = .ok (.aload_n 0, 1) := dk_42 (dk_at dksX9_turnsRound_0 0 rfl rfl)
theorem dX9_turnsRound_1 : decode cX9_turnsRound 1 = .ok (.bipush 12, 2) := dk_16 12 (dk_at dksX9_turnsRound_0 1 rfl rfl)
theorem dX9_turnsRound_3 : decode cX9_turnsRound 3 = .ok (.invokevirtual 244, 3) := dk_182 0 244 (dk_at dksX9_turnsRound_0 3 rfl rfl)
theorem dX9_turnsRound_6 : decode cX9_turnsRound 6 = .ok (.ifCond .eq 73, 3) := dk_153 0 73 (dk_at dksX9_turnsRound_0 6 rfl rfl)
theorem dX9_turnsRound_9 : decode cX9_turnsRound 9 = .ok (.aload_n 0, 1) := dk_42 (dk_at dksX9_turnsRound_0 9 rfl rfl)
theorem dX9_turnsRound_10 : decode cX9_turnsRound 10 = .ok (.dup, 1) := dk_89 (dk_at dksX9_turnsRound_0 10 rfl rfl)
theorem dX9_turnsRound_11 : decode cX9_turnsRound 11 = .ok (.getfield 238, 3) := dk_180 0 238 (dk_at dksX9_turnsRound_0 11 rfl rfl)
theorem dX9_turnsRound_14 : decode cX9_turnsRound 14 = .ok (.iconst 1, 1) := dk_4 (dk_at dksX9_turnsRound_0 14 rfl rfl)
theorem dX9_turnsRound_15 : decode cX9_turnsRound 15 = .ok (.isub, 1) := dk_100 (dk_at dksX9_turnsRound_0 15 rfl rfl)
theorem dX9_turnsRound_16 : decode cX9_turnsRound 16 = .ok (.putfield 238, 3) := dk_181 0 238 (dk_at dksX9_turnsRound_0 16 rfl rfl)
theorem dX9_turnsRound_19 : decode cX9_turnsRound 19 = .ok (.aload_n 0, 1) := dk_42 (dk_at dksX9_turnsRound_0 19 rfl rfl)
theorem dX9_turnsRound_20 : decode cX9_turnsRound 20 = .ok (.dup, 1) := dk_89 (dk_at dksX9_turnsRound_0 20 rfl rfl)
theorem dX9_turnsRound_21 : decode cX9_turnsRound 21 = .ok (.getfield 247, 3) := dk_180 0 247 (dk_at dksX9_turnsRound_0 21 rfl rfl)
theorem dX9_turnsRound_24 : decode cX9_turnsRound 24 = .ok (.iconst 1, 1) := dk_4 (dk_at dksX9_turnsRound_1 0 rfl rfl)
theorem dX9_turnsRound_25 : decode cX9_turnsRound 25 = .ok (.isub, 1) := dk_100 (dk_at dksX9_turnsRound_1 1 rfl rfl)
theorem dX9_turnsRound_26 : decode cX9_turnsRound 26 = .ok (.putfield 247, 3) := dk_181 0 247 (dk_at dksX9_turnsRound_1 2 rfl rfl)
theorem dX9_turnsRound_29 : decode cX9_turnsRound 29 = .ok (.iconst 0, 1) := dk_3 (dk_at dksX9_turnsRound_1 5 rfl rfl)
theorem dX9_turnsRound_30 : decode cX9_turnsRound 30 = .ok (.istore_n 1, 1) := dk_60 (dk_at dksX9_turnsRound_1 6 rfl rfl)
theorem dX9_turnsRound_31 : decode cX9_turnsRound 31 = .ok (.iload_n 1, 1) := dk_27 (dk_at dksX9_turnsRound_1 7 rfl rfl)
theorem dX9_turnsRound_32 : decode cX9_turnsRound 32 = .ok (.iconst 4, 1) := dk_7 (dk_at dksX9_turnsRound_1 8 rfl rfl)
theorem dX9_turnsRound_33 : decode cX9_turnsRound 33 = .ok (.if_icmp .ge 43, 3) := dk_162 0 43 (dk_at dksX9_turnsRound_1 9 rfl rfl)
theorem dX9_turnsRound_36 : decode cX9_turnsRound 36 = .ok (.aload_n 0, 1) := dk_42 (dk_at dksX9_turnsRound_1 12 rfl rfl)
theorem dX9_turnsRound_37 : decode cX9_turnsRound 37 = .ok (.getfield 50, 3) := dk_180 0 50 (dk_at dksX9_turnsRound_1 13 rfl rfl)
theorem dX9_turnsRound_40 : decode cX9_turnsRound 40 = .ok (.iconst 4, 1) := dk_7 (dk_at dksX9_turnsRound_1 16 rfl rfl)
theorem dX9_turnsRound_41 : decode cX9_turnsRound 41 = .ok (.aload_n 0, 1) := dk_42 (dk_at dksX9_turnsRound_1 17 rfl rfl)
theorem dX9_turnsRound_42 : decode cX9_turnsRound 42 = .ok (.getfield 241, 3) := dk_180 0 241 (dk_at dksX9_turnsRound_1 18 rfl rfl)
theorem dX9_turnsRound_45 : decode cX9_turnsRound 45 = .ok (.imul, 1) := dk_104 (dk_at dksX9_turnsRound_1 21 rfl rfl)
theorem dX9_turnsRound_46 : decode cX9_turnsRound 46 = .ok (.iconst 4, 1) := dk_7 (dk_at dksX9_turnsRound_1 22 rfl rfl)
theorem dX9_turnsRound_47 : decode cX9_turnsRound 47 = .ok (.isub, 1) := dk_100 (dk_at dksX9_turnsRound_1 23 rfl rfl)
theorem dX9_turnsRound_48 : decode cX9_turnsRound 48 = .ok (.iload_n 1, 1) := dk_27 (dk_at dksX9_turnsRound_2 0 rfl rfl)
theorem dX9_turnsRound_49 : decode cX9_turnsRound 49 = .ok (.iadd, 1) := dk_96 (dk_at dksX9_turnsRound_2 1 rfl rfl)
theorem dX9_turnsRound_50 : decode cX9_turnsRound 50 = .ok (.aload_n 0, 1) := dk_42 (dk_at dksX9_turnsRound_2 2 rfl rfl)
theorem dX9_turnsRound_51 : decode cX9_turnsRound 51 = .ok (.getfield 50, 3) := dk_180 0 50 (dk_at dksX9_turnsRound_2 3 rfl rfl)
theorem dX9_turnsRound_54 : decode cX9_turnsRound 54 = .ok (.iconst 4, 1) := dk_7 (dk_at dksX9_turnsRound_2 6 rfl rfl)
theorem dX9_turnsRound_55 : decode cX9_turnsRound 55 = .ok (.aload_n 0, 1) := dk_42 (dk_at dksX9_turnsRound_2 7 rfl rfl)
theorem dX9_turnsRound_56 : decode cX9_turnsRound 56 = .ok (.getfield 241, 3) := dk_180 0 241 (dk_at dksX9_turnsRound_2 8 rfl rfl)
theorem dX9_turnsRound_59 : decode cX9_turnsRound 59 = .ok (.imul, 1) := dk_104 (dk_at dksX9_turnsRound_2 11 rfl rfl)
theorem dX9_turnsRound_60 : decode cX9_turnsRound 60 = .ok (.iconst 4, 1) := dk_7 (dk_at dksX9_turnsRound_2 12 rfl rfl)
theorem dX9_turnsRound_61 : decode cX9_turnsRound 61 = .ok (.isub, 1) := dk_100 (dk_at dksX9_turnsRound_2 13 rfl rfl)
theorem dX9_turnsRound_62 : decode cX9_turnsRound 62 = .ok (.iload_n 1, 1) := dk_27 (dk_at dksX9_turnsRound_2 14 rfl rfl)
theorem dX9_turnsRound_63 : decode cX9_turnsRound 63 = .ok (.iadd, 1) := dk_96 (dk_at dksX9_turnsRound_2 15 rfl rfl)
theorem dX9_turnsRound_64 : decode cX9_turnsRound 64 = .ok (.laload, 1) := dk_47 (dk_at dksX9_turnsRound_2 16 rfl rfl)
theorem dX9_turnsRound_65 : decode cX9_turnsRound 65 = .ok (.ldc2_w 124, 3) := dk_20 0 124 (dk_at dksX9_turnsRound_2 17 rfl rfl)
theorem dX9_turnsRound_68 : decode cX9_turnsRound 68 = .ok (.lxor, 1) := dk_131 (dk_at dksX9_turnsRound_2 20 rfl rfl)
theorem dX9_turnsRound_69 : decode cX9_turnsRound 69 = .ok (.lastore, 1) := dk_80 (dk_at dksX9_turnsRound_2 21 rfl rfl)
theorem dX9_turnsRound_70 : decode cX9_turnsRound 70 = .ok (.iinc 1 1, 3) := dk_132 1 1 (dk_at dksX9_turnsRound_3 0 rfl rfl)
theorem dX9_turnsRound_73 : decode cX9_turnsRound 73 = .ok (.goto (-42), 3) := dk_167 255 214 (dk_at dksX9_turnsRound_3 3 rfl rfl)
theorem dX9_turnsRound_76 : decode cX9_turnsRound 76 = .ok (.goto (-76), 3) := dk_167 255 180 (dk_at dksX9_turnsRound_3 6 rfl rfl)
theorem dX9_turnsRound_79 : decode cX9_turnsRound 79 = .ok (.return_, 1) := dk_177 (dk_at dksX9_turnsRound_3 9 rfl rfl)
abbrev cX9_isDoing : ByteArray := prog_19_method_45_code
def yX9_isDoing : MethodName := ⟨RX9, "isDoing", "(I)Z"⟩
def dkwX9_isDoing_1 : List UInt8 := [167, 0, 4, 3, 172]
abbrev dktX9_isDoing_1 : List UInt8 := dkwX9_isDoing_1 ++ []
def dkwX9_isDoing_0 : List UInt8 := [42, 180, 0, 238, 158, 0, 22, 42, 180, 0, 53, 42, 180, 0, 238, 4, 100, 46, 27, 160, 0, 7, 4]
abbrev dktX9_isDoing_0 : List UInt8 := dkwX9_isDoing_0 ++ dktX9_isDoing_1
theorem dksX9_isDoing_0 : cX9_isDoing.data.toList.drop 0 = dktX9_isDoing_0 := by decide +kernel
theorem dksX9_isDoing_1 : cX9_isDoing.data.toList.drop 23 = dktX9_isDoing_1 := dk_seg dksX9_isDoing_0 23 rfl rfl
theorem dX9_isDoing_0 : decode cX9_isDoing 0 = .ok (.aload_n 0, 1) := dk_42 (dk_at dksX9_isDoing_0 0 rfl rfl)
theorem dX9_isDoing_1 : decode cX9_isDoing 1 = .ok (.getfield 238, 3) := dk_180 0 238 (dk_at dksX9_isDoing_0 1 rfl rfl)
theorem dX9_isDoing_4 : decode cX9_isDoing 4 = .ok (.ifCond .le 22, 3) := dk_158 0 22 (dk_at dksX9_isDoing_0 4 rfl rfl)
theorem dX9_isDoing_7 : decode cX9_isDoing 7 = .ok (.aload_n 0, 1) := dk_42 (dk_at dksX9_isDoing_0 7 rfl rfl)
theorem dX9_isDoing_8 : decode cX9_isDoing 8 = .ok (.getfield 53, 3) := dk_180 0 53 (dk_at dksX9_isDoing_0 8 rfl rfl)
theorem dX9_isDoing_11 : decode cX9_isDoing 11 = .ok (.aload_n 0, 1) := dk_42 (dk_at dksX9_isDoing_0 11 rfl rfl)
theorem dX9_isDoing_12 : decode cX9_isDoing 12 = .ok (.getfield 238, 3) := dk_180 0 238 (dk_at dksX9_isDoing_0 12 rfl rfl)
theorem dX9_isDoing_15 : decode cX9_isDoing 15 = .ok (.iconst 1, 1) := dk_4 (dk_at dksX9_isDoing_0 15 rfl rfl)
theorem dX9_isDoing_16 : decode cX9_isDoing 16 = .ok (.isub, 1) := dk_100 (dk_at dksX9_isDoing_0 16 rfl rfl)
theorem dX9_isDoing_17 : decode cX9_isDoing 17 = .ok (.iaload, 1) := dk_46 (dk_at dksX9_isDoing_0 17 rfl rfl)
theorem dX9_isDoing_18 : decode cX9_isDoing 18 = .ok (.iload_n 1, 1) := dk_27 (dk_at dksX9_isDoing_0 18 rfl rfl)
theorem dX9_isDoing_19 : decode cX9_isDoing 19 = .ok (.if_icmp .ne 7, 3) := dk_160 0 7 (dk_at dksX9_isDoing_0 19 rfl rfl)
theorem dX9_isDoing_22 : decode cX9_isDoing 22 = .ok (.iconst 1, 1) := dk_4 (dk_at dksX9_isDoing_0 22 rfl rfl)
theorem dX9_isDoing_23 : decode cX9_isDoing 23 = .ok (.goto 4, 3) := dk_167 0 4 (dk_at dksX9_isDoing_1 0 rfl rfl)
theorem dX9_isDoing_26 : decode cX9_isDoing 26 = .ok (.iconst 0, 1) := dk_3 (dk_at dksX9_isDoing_1 3 rfl rfl)
theorem dX9_isDoing_27 : decode cX9_isDoing 27 = .ok (.ireturn, 1) := dk_172 (dk_at dksX9_isDoing_1 4 rfl rfl)
abbrev cX9_isOpen : ByteArray := prog_19_method_51_code
def yX9_isOpen : MethodName := ⟨RX9, "isOpen", "()Z"⟩
def dkwX9_isOpen_1 : List UInt8 := [132, 1, 1, 167, 255, 232, 3, 172]
abbrev dktX9_isOpen_1 : List UInt8 := dkwX9_isOpen_1 ++ []
def dkwX9_isOpen_0 : List UInt8 := [3, 60, 27, 42, 180, 0, 238, 162, 0, 22, 42, 180, 0, 53, 27, 46, 16, 40, 160, 0, 5, 4, 172]
abbrev dktX9_isOpen_0 : List UInt8 := dkwX9_isOpen_0 ++ dktX9_isOpen_1
theorem dksX9_isOpen_0 : cX9_isOpen.data.toList.drop 0 = dktX9_isOpen_0 := by decide +kernel
theorem dksX9_isOpen_1 : cX9_isOpen.data.toList.drop 23 = dktX9_isOpen_1 := dk_seg dksX9_isOpen_0 23 rfl rfl
theorem dX9_isOpen_0 : decode cX9_isOpen 0 = .ok (.iconst 0, 1) := dk_3 (dk_at dksX9_isOpen_0 0 rfl rfl)
theorem dX9_isOpen_1 : decode cX9_isOpen 1 = .ok (.istore_n 1, 1) := dk_60 (dk_at dksX9_isOpen_0 1 rfl rfl)
theorem dX9_isOpen_2 : decode cX9_isOpen 2 = .ok (.iload_n 1, 1) := dk_27 (dk_at dksX9_isOpen_0 2 rfl rfl)
theorem dX9_isOpen_3 : decode cX9_isOpen 3 = .ok (.aload_n 0, 1) := dk_42 (dk_at dksX9_isOpen_0 3 rfl rfl)
theorem dX9_isOpen_4 : decode cX9_isOpen 4 = .ok (.getfield 238, 3) := dk_180 0 238 (dk_at dksX9_isOpen_0 4 rfl rfl)
theorem dX9_isOpen_7 : decode cX9_isOpen 7 = .ok (.if_icmp .ge 22, 3) := dk_162 0 22 (dk_at dksX9_isOpen_0 7 rfl rfl)
theorem dX9_isOpen_10 : decode cX9_isOpen 10 = .ok (.aload_n 0, 1) := dk_42 (dk_at dksX9_isOpen_0 10 rfl rfl)
theorem dX9_isOpen_11 : decode cX9_isOpen 11 = .ok (.getfield 53, 3) := dk_180 0 53 (dk_at dksX9_isOpen_0 11 rfl rfl)
theorem dX9_isOpen_14 : decode cX9_isOpen 14 = .ok (.iload_n 1, 1) := dk_27 (dk_at dksX9_isOpen_0 14 rfl rfl)
theorem dX9_isOpen_15 : decode cX9_isOpen 15 = .ok (.iaload, 1) := dk_46 (dk_at dksX9_isOpen_0 15 rfl rfl)
theorem dX9_isOpen_16 : decode cX9_isOpen 16 = .ok (.bipush 40, 2) := dk_16 40 (dk_at dksX9_isOpen_0 16 rfl rfl)
theorem dX9_isOpen_18 : decode cX9_isOpen 18 = .ok (.if_icmp .ne 5, 3) := dk_160 0 5 (dk_at dksX9_isOpen_0 18 rfl rfl)
theorem dX9_isOpen_21 : decode cX9_isOpen 21 = .ok (.iconst 1, 1) := dk_4 (dk_at dksX9_isOpen_0 21 rfl rfl)
theorem dX9_isOpen_22 : decode cX9_isOpen 22 = .ok (.ireturn, 1) := dk_172 (dk_at dksX9_isOpen_0 22 rfl rfl)
theorem dX9_isOpen_23 : decode cX9_isOpen 23 = .ok (.iinc 1 1, 3) := dk_132 1 1 (dk_at dksX9_isOpen_1 0 rfl rfl)
theorem dX9_isOpen_26 : decode cX9_isOpen 26 = .ok (.goto (-24), 3) := dk_167 255 232 (dk_at dksX9_isOpen_1 3 rfl rfl)
theorem dX9_isOpen_29 : decode cX9_isOpen 29 = .ok (.iconst 0, 1) := dk_3 (dk_at dksX9_isOpen_1 6 rfl rfl)
theorem dX9_isOpen_30 : decode cX9_isOpen 30 = .ok (.ireturn, 1) := dk_172 (dk_at dksX9_isOpen_1 7 rfl rfl)
abbrev cX9_joins : ByteArray := prog_19_method_47_code
def yX9_joins : MethodName := ⟨RX9, "joins", "()V"⟩
def dkwX9_joins_4 : List UInt8 := [129, 80, 132, 1, 1, 167, 255, 177, 177]
abbrev dktX9_joins_4 : List UInt8 := dkwX9_joins_4 ++ []
def dkwX9_joins_3 : List UInt8 := [42, 180, 0, 53, 42, 180, 0, 238, 46, 16, 11, 160, 0, 10, 32, 22, 4, 127, 167, 0, 7, 32, 22, 4]
abbrev dktX9_joins_3 : List UInt8 := dkwX9_joins_3 ++ dktX9_joins_4
def dkwX9_joins_2 : List UInt8 := [42, 180, 0, 241, 104, 27, 96, 47, 55, 4, 42, 180, 0, 50, 7, 42, 180, 0, 241, 104, 7, 100, 27, 96]
abbrev dktX9_joins_2 : List UInt8 := dkwX9_joins_2 ++ dktX9_joins_3
def dkwX9_joins_1 : List UInt8 := [162, 0, 80, 42, 180, 0, 50, 7, 42, 180, 0, 241, 104, 7, 100, 27, 96, 47, 65, 42, 180, 0, 50, 7]
abbrev dktX9_joins_1 : List UInt8 := dkwX9_joins_1 ++ dktX9_joins_2
def dkwX9_joins_0 : List UInt8 := [42, 89, 180, 0, 238, 4, 100, 181, 0, 238, 42, 89, 180, 0, 241, 4, 100, 181, 0, 241, 3, 60, 27, 7]
abbrev dktX9_joins_0 : List UInt8 := dkwX9_joins_0 ++ dktX9_joins_1
theorem dksX9_joins_0 : cX9_joins.data.toList.drop 0 = dktX9_joins_0 := by decide +kernel
theorem dksX9_joins_1 : cX9_joins.data.toList.drop 24 = dktX9_joins_1 := dk_seg dksX9_joins_0 24 rfl rfl
theorem dksX9_joins_2 : cX9_joins.data.toList.drop 48 = dktX9_joins_2 := dk_seg dksX9_joins_1 24 rfl rfl
theorem dksX9_joins_3 : cX9_joins.data.toList.drop 72 = dktX9_joins_3 := dk_seg dksX9_joins_2 24 rfl rfl
theorem dksX9_joins_4 : cX9_joins.data.toList.drop 96 = dktX9_joins_4 := dk_seg dksX9_joins_3 24 rfl rfl
theorem dX9_joins_0 : decode cX9_joins 0 = .ok (.aload_n 0, 1) := dk_42 (dk_at dksX9_joins_0 0 rfl rfl)
theorem dX9_joins_1 : decode cX9_joins 1 = .ok (.dup, 1) := dk_89 (dk_at dksX9_joins_0 1 rfl rfl)
theorem dX9_joins_2 : decode cX9_joins 2 = .ok (.getfield 238, 3) := dk_180 0 238 (dk_at dksX9_joins_0 2 rfl rfl)
theorem dX9_joins_5 : decode cX9_joins 5 = .ok (.iconst 1, 1) := dk_4 (dk_at dksX9_joins_0 5 rfl rfl)
theorem dX9_joins_6 : decode cX9_joins 6 = .ok (.isub, 1) := dk_100 (dk_at dksX9_joins_0 6 rfl rfl)
theorem dX9_joins_7 : decode cX9_joins 7 = .ok (.putfield 238, 3) := dk_181 0 238 (dk_at dksX9_joins_0 7 rfl rfl)
theorem dX9_joins_10 : decode cX9_joins 10 = .ok (.aload_n 0, 1) := dk_42 (dk_at dksX9_joins_0 10 rfl rfl)
theorem dX9_joins_11 : decode cX9_joins 11 = .ok (.dup, 1) := dk_89 (dk_at dksX9_joins_0 11 rfl rfl)
theorem dX9_joins_12 : decode cX9_joins 12 = .ok (.getfield 241, 3) := dk_180 0 241 (dk_at dksX9_joins_0 12 rfl rfl)
theorem dX9_joins_15 : decode cX9_joins 15 = .ok (.iconst 1, 1) := dk_4 (dk_at dksX9_joins_0 15 rfl rfl)
theorem dX9_joins_16 : decode cX9_joins 16 = .ok (.isub, 1) := dk_100 (dk_at dksX9_joins_0 16 rfl rfl)
theorem dX9_joins_17 : decode cX9_joins 17 = .ok (.putfield 241, 3) := dk_181 0 241 (dk_at dksX9_joins_0 17 rfl rfl)
theorem dX9_joins_20 : decode cX9_joins 20 = .ok (.iconst 0, 1) := dk_3 (dk_at dksX9_joins_0 20 rfl rfl)
theorem dX9_joins_21 : decode cX9_joins 21 = .ok (.istore_n 1, 1) := dk_60 (dk_at dksX9_joins_0 21 rfl rfl)
theorem dX9_joins_22 : decode cX9_joins 22 = .ok (.iload_n 1, 1) := dk_27 (dk_at dksX9_joins_0 22 rfl rfl)
theorem dX9_joins_23 : decode cX9_joins 23 = .ok (.iconst 4, 1) := dk_7 (dk_at dksX9_joins_0 23 rfl rfl)
theorem dX9_joins_24 : decode cX9_joins 24 = .ok (.if_icmp .ge 80, 3) := dk_162 0 80 (dk_at dksX9_joins_1 0 rfl rfl)
theorem dX9_joins_27 : decode cX9_joins 27 = .ok (.aload_n 0, 1) := dk_42 (dk_at dksX9_joins_1 3 rfl rfl)
theorem dX9_joins_28 : decode cX9_joins 28 = .ok (.getfield 50, 3) := dk_180 0 50 (dk_at dksX9_joins_1 4 rfl rfl)
theorem dX9_joins_31 : decode cX9_joins 31 = .ok (.iconst 4, 1) := dk_7 (dk_at dksX9_joins_1 7 rfl rfl)
theorem dX9_joins_32 : decode cX9_joins 32 = .ok (.aload_n 0, 1) := dk_42 (dk_at dksX9_joins_1 8 rfl rfl)
theorem dX9_joins_33 : decode cX9_joins 33 = .ok (.getfield 241, 3) := dk_180 0 241 (dk_at dksX9_joins_1 9 rfl rfl)
theorem dX9_joins_36 : decode cX9_joins 36 = .ok (.imul, 1) := dk_104 (dk_at dksX9_joins_1 12 rfl rfl)
theorem dX9_joins_37 : decode cX9_joins 37 = .ok (.iconst 4, 1) := dk_7 (dk_at dksX9_joins_1 13 rfl rfl)
theorem dX9_joins_38 : decode cX9_joins 38 = .ok (.isub, 1) := dk_100 (dk_at dksX9_joins_1 14 rfl rfl)
theorem dX9_joins_39 : decode cX9_joins 39 = .ok (.iload_n 1, 1) := dk_27 (dk_at dksX9_joins_1 15 rfl rfl)
theorem dX9_joins_40 : decode cX9_joins 40 = .ok (.iadd, 1) := dk_96 (dk_at dksX9_joins_1 16 rfl rfl)
theorem dX9_joins_41 : decode cX9_joins 41 = .ok (.laload, 1) := dk_47 (dk_at dksX9_joins_1 17 rfl rfl)
theorem dX9_joins_42 : decode cX9_joins 42 = .ok (.lstore_n 2, 1) := dk_65 (dk_at dksX9_joins_1 18 rfl rfl)
theorem dX9_joins_43 : decode cX9_joins 43 = .ok (.aload_n 0, 1) := dk_42 (dk_at dksX9_joins_1 19 rfl rfl)
theorem dX9_joins_44 : decode cX9_joins 44 = .ok (.getfield 50, 3) := dk_180 0 50 (dk_at dksX9_joins_1 20 rfl rfl)
theorem dX9_joins_47 : decode cX9_joins 47 = .ok (.iconst 4, 1) := dk_7 (dk_at dksX9_joins_1 23 rfl rfl)
theorem dX9_joins_48 : decode cX9_joins 48 = .ok (.aload_n 0, 1) := dk_42 (dk_at dksX9_joins_2 0 rfl rfl)
theorem dX9_joins_49 : decode cX9_joins 49 = .ok (.getfield 241, 3) := dk_180 0 241 (dk_at dksX9_joins_2 1 rfl rfl)
theorem dX9_joins_52 : decode cX9_joins 52 = .ok (.imul, 1) := dk_104 (dk_at dksX9_joins_2 4 rfl rfl)
theorem dX9_joins_53 : decode cX9_joins 53 = .ok (.iload_n 1, 1) := dk_27 (dk_at dksX9_joins_2 5 rfl rfl)
theorem dX9_joins_54 : decode cX9_joins 54 = .ok (.iadd, 1) := dk_96 (dk_at dksX9_joins_2 6 rfl rfl)
theorem dX9_joins_55 : decode cX9_joins 55 = .ok (.laload, 1) := dk_47 (dk_at dksX9_joins_2 7 rfl rfl)
theorem dX9_joins_56 : decode cX9_joins 56 = .ok (.lstore 4, 2) := dk_55 4 (dk_at dksX9_joins_2 8 rfl rfl)
theorem dX9_joins_58 : decode cX9_joins 58 = .ok (.aload_n 0, 1) := dk_42 (dk_at dksX9_joins_2 10 rfl rfl)
theorem dX9_joins_59 : decode cX9_joins 59 = .ok (.getfield 50, 3) := dk_180 0 50 (dk_at dksX9_joins_2 11 rfl rfl)
theorem dX9_joins_62 : decode cX9_joins 62 = .ok (.iconst 4, 1) := dk_7 (dk_at dksX9_joins_2 14 rfl rfl)
theorem dX9_joins_63 : decode cX9_joins 63 = .ok (.aload_n 0, 1) := dk_42 (dk_at dksX9_joins_2 15 rfl rfl)
theorem dX9_joins_64 : decode cX9_joins 64 = .ok (.getfield 241, 3) := dk_180 0 241 (dk_at dksX9_joins_2 16 rfl rfl)
theorem dX9_joins_67 : decode cX9_joins 67 = .ok (.imul, 1) := dk_104 (dk_at dksX9_joins_2 19 rfl rfl)
theorem dX9_joins_68 : decode cX9_joins 68 = .ok (.iconst 4, 1) := dk_7 (dk_at dksX9_joins_2 20 rfl rfl)
theorem dX9_joins_69 : decode cX9_joins 69 = .ok (.isub, 1) := dk_100 (dk_at dksX9_joins_2 21 rfl rfl)
theorem dX9_joins_70 : decode cX9_joins 70 = .ok (.iload_n 1, 1) := dk_27 (dk_at dksX9_joins_2 22 rfl rfl)
theorem dX9_joins_71 : decode cX9_joins 71 = .ok (.iadd, 1) := dk_96 (dk_at dksX9_joins_2 23 rfl rfl)
theorem dX9_joins_72 : decode cX9_joins 72 = .ok (.aload_n 0, 1) := dk_42 (dk_at dksX9_joins_3 0 rfl rfl)
theorem dX9_joins_73 : decode cX9_joins 73 = .ok (.getfield 53, 3) := dk_180 0 53 (dk_at dksX9_joins_3 1 rfl rfl)
theorem dX9_joins_76 : decode cX9_joins 76 = .ok (.aload_n 0, 1) := dk_42 (dk_at dksX9_joins_3 4 rfl rfl)
theorem dX9_joins_77 : decode cX9_joins 77 = .ok (.getfield 238, 3) := dk_180 0 238 (dk_at dksX9_joins_3 5 rfl rfl)
theorem dX9_joins_80 : decode cX9_joins 80 = .ok (.iaload, 1) := dk_46 (dk_at dksX9_joins_3 8 rfl rfl)
theorem dX9_joins_81 : decode cX9_joins 81 = .ok (.bipush 11, 2) := dk_16 11 (dk_at dksX9_joins_3 9 rfl rfl)
theorem dX9_joins_83 : decode cX9_joins 83 = .ok (.if_icmp .ne 10, 3) := dk_160 0 10 (dk_at dksX9_joins_3 11 rfl rfl)
theorem dX9_joins_86 : decode cX9_joins 86 = .ok (.lload_n 2, 1) := dk_32 (dk_at dksX9_joins_3 14 rfl rfl)
theorem dX9_joins_87 : decode cX9_joins 87 = .ok (.lload 4, 2) := dk_22 4 (dk_at dksX9_joins_3 15 rfl rfl)
theorem dX9_joins_89 : decode cX9_joins 89 = .ok (.land, 1) := dk_127 (dk_at dksX9_joins_3 17 rfl rfl)
theorem dX9_joins_90 : decode cX9_joins 90 = .ok (.goto 7, 3) := dk_167 0 7 (dk_at dksX9_joins_3 18 rfl rfl)
theorem dX9_joins_93 : decode cX9_joins 93 = .ok (.lload_n 2, 1) := dk_32 (dk_at dksX9_joins_3 21 rfl rfl)
theorem dX9_joins_94 : decode cX9_joins 94 = .ok (.lload 4, 2) := dk_22 4 (dk_at dksX9_joins_3 22 rfl rfl)
theorem dX9_joins_96 : decode cX9_joins 96 = .ok (.lor, 1) := dk_129 (dk_at dksX9_joins_4 0 rfl rfl)
theorem dX9_joins_97 : decode cX9_joins 97 = .ok (.lastore, 1) := dk_80 (dk_at dksX9_joins_4 1 rfl rfl)
theorem dX9_joins_98 : decode cX9_joins 98 = .ok (.iinc 1 1, 3) := dk_132 1 1 (dk_at dksX9_joins_4 2 rfl rfl)
theorem dX9_joins_101 : decode cX9_joins 101 = .ok (.goto (-79), 3) := dk_167 255 177 (dk_at dksX9_joins_4 5 rfl rfl)
theorem dX9_joins_104 : decode cX9_joins 104 = .ok (.return_, 1) := dk_177 (dk_at dksX9_joins_4 8 rfl rfl)
abbrev cX9_finds : ByteArray := prog_19_method_44_code
def yX9_finds : MethodName := ⟨RX9, "finds", "()V"⟩
def dkwX9_finds_6 : List UInt8 := [80, 132, 1, 1, 167, 255, 138, 177]
abbrev dktX9_finds_6 : List UInt8 := dkwX9_finds_6 ++ []
def dkwX9_finds_5 : List UInt8 := [153, 0, 25, 42, 180, 0, 13, 17, 0, 208, 27, 16, 64, 108, 96, 92, 47, 10, 27, 16, 64, 112, 121, 129]
abbrev dktX9_finds_5 : List UInt8 := dkwX9_finds_5 ++ dktX9_finds_6
def dkwX9_finds_4 : List UInt8 := [154, 0, 7, 4, 167, 0, 4, 3, 61, 132, 4, 1, 167, 255, 207, 132, 3, 1, 167, 255, 186, 28]
abbrev dktX9_finds_4 : List UInt8 := dkwX9_finds_4 ++ dktX9_finds_5
def dkwX9_finds_3 : List UInt8 := [42, 17, 6, 64, 27, 29, 182, 0, 234, 46, 42, 17, 6, 64, 27, 21, 4, 182, 0, 234, 122, 4, 126]
abbrev dktX9_finds_3 : List UInt8 := dkwX9_finds_3 ++ dktX9_finds_4
def dkwX9_finds_2 : List UInt8 := [17, 6, 64, 46, 162, 0, 64, 3, 54, 4, 21, 4, 29, 162, 0, 49, 28, 153, 0, 37, 42, 180, 0, 47]
abbrev dktX9_finds_2 : List UInt8 := dkwX9_finds_2 ++ dktX9_finds_3
def dkwX9_finds_1 : List UInt8 := [3, 60, 27, 42, 180, 0, 7, 17, 6, 66, 46, 162, 0, 112, 4, 61, 3, 62, 29, 42, 180, 0, 7]
abbrev dktX9_finds_1 : List UInt8 := dkwX9_finds_1 ++ dktX9_finds_2
def dkwX9_finds_0 : List UInt8 := [3, 60, 27, 7, 162, 0, 20, 42, 180, 0, 13, 17, 0, 208, 27, 96, 9, 80, 132, 1, 1, 167, 255, 237]
abbrev dktX9_finds_0 : List UInt8 := dkwX9_finds_0 ++ dktX9_finds_1
theorem dksX9_finds_0 : cX9_finds.data.toList.drop 0 = dktX9_finds_0 := by decide +kernel
theorem dksX9_finds_1 : cX9_finds.data.toList.drop 24 = dktX9_finds_1 := dk_seg dksX9_finds_0 24 rfl rfl
theorem dksX9_finds_2 : cX9_finds.data.toList.drop 47 = dktX9_finds_2 := dk_seg dksX9_finds_1 23 rfl rfl
theorem dksX9_finds_3 : cX9_finds.data.toList.drop 71 = dktX9_finds_3 := dk_seg dksX9_finds_2 24 rfl rfl
theorem dksX9_finds_4 : cX9_finds.data.toList.drop 94 = dktX9_finds_4 := dk_seg dksX9_finds_3 23 rfl rfl
theorem dksX9_finds_5 : cX9_finds.data.toList.drop 116 = dktX9_finds_5 := dk_seg dksX9_finds_4 22 rfl rfl
theorem dksX9_finds_6 : cX9_finds.data.toList.drop 140 = dktX9_finds_6 := dk_seg dksX9_finds_5 24 rfl rfl
theorem dX9_finds_0 : decode cX9_finds 0 = .ok (.iconst 0, 1) := dk_3 (dk_at dksX9_finds_0 0 rfl rfl)
theorem dX9_finds_1 : decode cX9_finds 1 = .ok (.istore_n 1, 1) := dk_60 (dk_at dksX9_finds_0 1 rfl rfl)
theorem dX9_finds_2 : decode cX9_finds 2 = .ok (.iload_n 1, 1) := dk_27 (dk_at dksX9_finds_0 2 rfl rfl)
theorem dX9_finds_3 : decode cX9_finds 3 = .ok (.iconst 4, 1) := dk_7 (dk_at dksX9_finds_0 3 rfl rfl)
theorem dX9_finds_4 : decode cX9_finds 4 = .ok (.if_icmp .ge 20, 3) := dk_162 0 20 (dk_at dksX9_finds_0 4 rfl rfl)
theorem dX9_finds_7 : decode cX9_finds 7 = .ok (.aload_n 0, 1) := dk_42 (dk_at dksX9_finds_0 7 rfl rfl)
theorem dX9_finds_8 : decode cX9_finds 8 = .ok (.getfield 13, 3) := dk_180 0 13 (dk_at dksX9_finds_0 8 rfl rfl)
theorem dX9_finds_11 : decode cX9_finds 11 = .ok (.sipush 208, 3) := dk_17 0 208 (dk_at dksX9_finds_0 11 rfl rfl)
theorem dX9_finds_14 : decode cX9_finds 14 = .ok (.iload_n 1, 1) := dk_27 (dk_at dksX9_finds_0 14 rfl rfl)
theorem dX9_finds_15 : decode cX9_finds 15 = .ok (.iadd, 1) := dk_96 (dk_at dksX9_finds_0 15 rfl rfl)
theorem dX9_finds_16 : decode cX9_finds 16 = .ok (.lconst 0, 1) := dk_9 (dk_at dksX9_finds_0 16 rfl rfl)
theorem dX9_finds_17 : decode cX9_finds 17 = .ok (.lastore, 1) := dk_80 (dk_at dksX9_finds_0 17 rfl rfl)
theorem dX9_finds_18 : decode cX9_finds 18 = .ok (.iinc 1 1, 3) := dk_132 1 1 (dk_at dksX9_finds_0 18 rfl rfl)
theorem dX9_finds_21 : decode cX9_finds 21 = .ok (.goto (-19), 3) := dk_167 255 237 (dk_at dksX9_finds_0 21 rfl rfl)
theorem dX9_finds_24 : decode cX9_finds 24 = .ok (.iconst 0, 1) := dk_3 (dk_at dksX9_finds_1 0 rfl rfl)
theorem dX9_finds_25 : decode cX9_finds 25 = .ok (.istore_n 1, 1) := dk_60 (dk_at dksX9_finds_1 1 rfl rfl)
theorem dX9_finds_26 : decode cX9_finds 26 = .ok (.iload_n 1, 1) := dk_27 (dk_at dksX9_finds_1 2 rfl rfl)
theorem dX9_finds_27 : decode cX9_finds 27 = .ok (.aload_n 0, 1) := dk_42 (dk_at dksX9_finds_1 3 rfl rfl)
theorem dX9_finds_28 : decode cX9_finds 28 = .ok (.getfield 7, 3) := dk_180 0 7 (dk_at dksX9_finds_1 4 rfl rfl)
theorem dX9_finds_31 : decode cX9_finds 31 = .ok (.sipush 1602, 3) := dk_17 6 66 (dk_at dksX9_finds_1 7 rfl rfl)
theorem dX9_finds_34 : decode cX9_finds 34 = .ok (.iaload, 1) := dk_46 (dk_at dksX9_finds_1 10 rfl rfl)
theorem dX9_finds_35 : decode cX9_finds 35 = .ok (.if_icmp .ge 112, 3) := dk_162 0 112 (dk_at dksX9_finds_1 11 rfl rfl)
theorem dX9_finds_38 : decode cX9_finds 38 = .ok (.iconst 1, 1) := dk_4 (dk_at dksX9_finds_1 14 rfl rfl)
theorem dX9_finds_39 : decode cX9_finds 39 = .ok (.istore_n 2, 1) := dk_61 (dk_at dksX9_finds_1 15 rfl rfl)
theorem dX9_finds_40 : decode cX9_finds 40 = .ok (.iconst 0, 1) := dk_3 (dk_at dksX9_finds_1 16 rfl rfl)
theorem dX9_finds_41 : decode cX9_finds 41 = .ok (.istore_n 3, 1) := dk_62 (dk_at dksX9_finds_1 17 rfl rfl)
theorem dX9_finds_42 : decode cX9_finds 42 = .ok (.iload_n 3, 1) := dk_29 (dk_at dksX9_finds_1 18 rfl rfl)
theorem dX9_finds_43 : decode cX9_finds 43 = .ok (.aload_n 0, 1) := dk_42 (dk_at dksX9_finds_1 19 rfl rfl)
theorem dX9_finds_44 : decode cX9_finds 44 = .ok (.getfield 7, 3) := dk_180 0 7 (dk_at dksX9_finds_1 20 rfl rfl)
theorem dX9_finds_47 : decode cX9_finds 47 = .ok (.sipush 1600, 3) := dk_17 6 64 (dk_at dksX9_finds_2 0 rfl rfl)
theorem dX9_finds_50 : decode cX9_finds 50 = .ok (.iaload, 1) := dk_46 (dk_at dksX9_finds_2 3 rfl rfl)
theorem dX9_finds_51 : decode cX9_finds 51 = .ok (.if_icmp .ge 64, 3) := dk_162 0 64 (dk_at dksX9_finds_2 4 rfl rfl)
theorem dX9_finds_54 : decode cX9_finds 54 = .ok (.iconst 0, 1) := dk_3 (dk_at dksX9_finds_2 7 rfl rfl)
theorem dX9_finds_55 : decode cX9_finds 55 = .ok (.istore 4, 2) := dk_54 4 (dk_at dksX9_finds_2 8 rfl rfl)
theorem dX9_finds_57 : decode cX9_finds 57 = .ok (.iload 4, 2) := dk_21 4 (dk_at dksX9_finds_2 10 rfl rfl)
theorem dX9_finds_59 : decode cX9_finds 59 = .ok (.iload_n 3, 1) := dk_29 (dk_at dksX9_finds_2 12 rfl rfl)
theorem dX9_finds_60 : decode cX9_finds 60 = .ok (.if_icmp .ge 49, 3) := dk_162 0 49 (dk_at dksX9_finds_2 13 rfl rfl)
theorem dX9_finds_63 : decode cX9_finds 63 = .ok (.iload_n 2, 1) := dk_28 (dk_at dksX9_finds_2 16 rfl rfl)
theorem dX9_finds_64 : decode cX9_finds 64 = .ok (.ifCond .eq 37, 3) := dk_153 0 37 (dk_at dksX9_finds_2 17 rfl rfl)
theorem dX9_finds_67 : decode cX9_finds 67 = .ok (.aload_n 0, 1) := dk_42 (dk_at dksX9_finds_2 20 rfl rfl)
theorem dX9_finds_68 : decode cX9_finds 68 = .ok (.getfield 47, 3) := dk_180 0 47 (dk_at dksX9_finds_2 21 rfl rfl)
theorem dX9_finds_71 : decode cX9_finds 71 = .ok (.aload_n 0, 1) := dk_42 (dk_at dksX9_finds_3 0 rfl rfl)
theorem dX9_finds_72 : decode cX9_finds 72 = .ok (.sipush 1600, 3) := dk_17 6 64 (dk_at dksX9_finds_3 1 rfl rfl)
theorem dX9_finds_75 : decode cX9_finds 75 = .ok (.iload_n 1, 1) := dk_27 (dk_at dksX9_finds_3 4 rfl rfl)
theorem dX9_finds_76 : decode cX9_finds 76 = .ok (.iload_n 3, 1) := dk_29 (dk_at dksX9_finds_3 5 rfl rfl)
theorem dX9_finds_77 : decode cX9_finds 77 = .ok (.invokevirtual 234, 3) := dk_182 0 234 (dk_at dksX9_finds_3 6 rfl rfl)
theorem dX9_finds_80 : decode cX9_finds 80 = .ok (.iaload, 1) := dk_46 (dk_at dksX9_finds_3 9 rfl rfl)
theorem dX9_finds_81 : decode cX9_finds 81 = .ok (.aload_n 0, 1) := dk_42 (dk_at dksX9_finds_3 10 rfl rfl)
theorem dX9_finds_82 : decode cX9_finds 82 = .ok (.sipush 1600, 3) := dk_17 6 64 (dk_at dksX9_finds_3 11 rfl rfl)
theorem dX9_finds_85 : decode cX9_finds 85 = .ok (.iload_n 1, 1) := dk_27 (dk_at dksX9_finds_3 14 rfl rfl)
theorem dX9_finds_86 : decode cX9_finds 86 = .ok (.iload 4, 2) := dk_21 4 (dk_at dksX9_finds_3 15 rfl rfl)
theorem dX9_finds_88 : decode cX9_finds 88 = .ok (.invokevirtual 234, 3) := dk_182 0 234 (dk_at dksX9_finds_3 17 rfl rfl)
theorem dX9_finds_91 : decode cX9_finds 91 = .ok (.ishr, 1) := dk_122 (dk_at dksX9_finds_3 20 rfl rfl)
theorem dX9_finds_92 : decode cX9_finds 92 = .ok (.iconst 1, 1) := dk_4 (dk_at dksX9_finds_3 21 rfl rfl)
theorem dX9_finds_93 : decode cX9_finds 93 = .ok (.iand, 1) := dk_126 (dk_at dksX9_finds_3 22 rfl rfl)
theorem dX9_finds_94 : decode cX9_finds 94 = .ok (.ifCond .ne 7, 3) := dk_154 0 7 (dk_at dksX9_finds_4 0 rfl rfl)
theorem dX9_finds_97 : decode cX9_finds 97 = .ok (.iconst 1, 1) := dk_4 (dk_at dksX9_finds_4 3 rfl rfl)
theorem dX9_finds_98 : decode cX9_finds 98 = .ok (.goto 4, 3) := dk_167 0 4 (dk_at dksX9_finds_4 4 rfl rfl)
theorem dX9_finds_101 : decode cX9_finds 101 = .ok (.iconst 0, 1) := dk_3 (dk_at dksX9_finds_4 7 rfl rfl)
theorem dX9_finds_102 : decode cX9_finds 102 = .ok (.istore_n 2, 1) := dk_61 (dk_at dksX9_finds_4 8 rfl rfl)
theorem dX9_finds_103 : decode cX9_finds 103 = .ok (.iinc 4 1, 3) := dk_132 4 1 (dk_at dksX9_finds_4 9 rfl rfl)
theorem dX9_finds_106 : decode cX9_finds 106 = .ok (.goto (-49), 3) := dk_167 255 207 (dk_at dksX9_finds_4 12 rfl rfl)
theorem dX9_finds_109 : decode cX9_finds 109 = .ok (.iinc 3 1, 3) := dk_132 3 1 (dk_at dksX9_finds_4 15 rfl rfl)
theorem dX9_finds_112 : decode cX9_finds 112 = .ok (.goto (-70), 3) := dk_167 255 186 (dk_at dksX9_finds_4 18 rfl rfl)
theorem dX9_finds_115 : decode cX9_finds 115 = .ok (.iload_n 2, 1) := dk_28 (dk_at dksX9_finds_4 21 rfl rfl)
theorem dX9_finds_116 : decode cX9_finds 116 = .ok (.ifCond .eq 25, 3) := dk_153 0 25 (dk_at dksX9_finds_5 0 rfl rfl)
theorem dX9_finds_119 : decode cX9_finds 119 = .ok (.aload_n 0, 1) := dk_42 (dk_at dksX9_finds_5 3 rfl rfl)
theorem dX9_finds_120 : decode cX9_finds 120 = .ok (.getfield 13, 3) := dk_180 0 13 (dk_at dksX9_finds_5 4 rfl rfl)
theorem dX9_finds_123 : decode cX9_finds 123 = .ok (.sipush 208, 3) := dk_17 0 208 (dk_at dksX9_finds_5 7 rfl rfl)
theorem dX9_finds_126 : decode cX9_finds 126 = .ok (.iload_n 1, 1) := dk_27 (dk_at dksX9_finds_5 10 rfl rfl)
theorem dX9_finds_127 : decode cX9_finds 127 = .ok (.bipush 64, 2) := dk_16 64 (dk_at dksX9_finds_5 11 rfl rfl)
theorem dX9_finds_129 : decode cX9_finds 129 = .ok (.idiv, 1) := dk_108 (dk_at dksX9_finds_5 13 rfl rfl)
theorem dX9_finds_130 : decode cX9_finds 130 = .ok (.iadd, 1) := dk_96 (dk_at dksX9_finds_5 14 rfl rfl)
theorem dX9_finds_131 : decode cX9_finds 131 = .ok (.dup2, 1) := dk_92 (dk_at dksX9_finds_5 15 rfl rfl)
theorem dX9_finds_132 : decode cX9_finds 132 = .ok (.laload, 1) := dk_47 (dk_at dksX9_finds_5 16 rfl rfl)
theorem dX9_finds_133 : decode cX9_finds 133 = .ok (.lconst 1, 1) := dk_10 (dk_at dksX9_finds_5 17 rfl rfl)
theorem dX9_finds_134 : decode cX9_finds 134 = .ok (.iload_n 1, 1) := dk_27 (dk_at dksX9_finds_5 18 rfl rfl)
theorem dX9_finds_135 : decode cX9_finds 135 = .ok (.bipush 64, 2) := dk_16 64 (dk_at dksX9_finds_5 19 rfl rfl)
theorem dX9_finds_137 : decode cX9_finds 137 = .ok (.irem, 1) := dk_112 (dk_at dksX9_finds_5 21 rfl rfl)
theorem dX9_finds_138 : decode cX9_finds 138 = .ok (.lshl, 1) := dk_121 (dk_at dksX9_finds_5 22 rfl rfl)
theorem dX9_finds_139 : decode cX9_finds 139 = .ok (.lor, 1) := dk_129 (dk_at dksX9_finds_5 23 rfl rfl)
theorem dX9_finds_140 : decode cX9_finds 140 = .ok (.lastore, 1) := dk_80 (dk_at dksX9_finds_6 0 rfl rfl)
theorem dX9_finds_141 : decode cX9_finds 141 = .ok (.iinc 1 1, 3) := dk_132 1 1 (dk_at dksX9_finds_6 1 rfl rfl)
theorem dX9_finds_144 : decode cX9_finds 144 = .ok (.goto (-118), 3) := dk_167 255 138 (dk_at dksX9_finds_6 4 rfl rfl)
theorem dX9_finds_147 : decode cX9_finds 147 = .ok (.return_, 1) := dk_177 (dk_at dksX9_finds_6 7 rfl rfl)
abbrev cX9_aWitness : ByteArray := prog_19_method_55_code
def yX9_aWitness : MethodName := ⟨RX9, "aWitness", "()Z"⟩
def dkwX9_aWitness_11 : List UInt8 := [172, 42, 180, 0, 7, 17, 6, 68, 92, 46, 4, 96, 79, 4, 172]
abbrev dktX9_aWitness_11 : List UInt8 := dkwX9_aWitness_11 ++ []
def dkwX9_aWitness_10 : List UInt8 := [160, 0, 25, 42, 28, 8, 96, 16, 28, 42, 180, 0, 7, 17, 6, 67, 46, 182, 1, 18, 154, 0, 5, 3]
abbrev dktX9_aWitness_10 : List UInt8 := dkwX9_aWitness_10 ++ dktX9_aWitness_11
def dkwX9_aWitness_9 : List UInt8 := [21, 4, 16, 16, 159, 0, 10, 42, 16, 8, 182, 0, 186, 172, 42, 18, 206, 182, 0, 189, 16, 9]
abbrev dktX9_aWitness_9 : List UInt8 := dkwX9_aWitness_9 ++ dktX9_aWitness_10
def dkwX9_aWitness_8 : List UInt8 := [167, 255, 188, 42, 16, 59, 182, 0, 183, 154, 0, 14, 42, 18, 206, 182, 0, 189, 16, 9, 160, 0, 17]
abbrev dktX9_aWitness_8 : List UInt8 := dkwX9_aWitness_8 ++ dktX9_aWitness_9
def dkwX9_aWitness_7 : List UInt8 := [21, 4, 42, 180, 0, 7, 28, 29, 96, 46, 96, 54, 4, 42, 18, 206, 182, 0, 189, 16, 13, 100, 62]
abbrev dktX9_aWitness_7 : List UInt8 := dkwX9_aWitness_7 ++ dktX9_aWitness_8
def dkwX9_aWitness_6 : List UInt8 := [182, 0, 186, 172, 42, 182, 0, 180, 42, 28, 29, 96, 4, 16, 16, 182, 0, 227, 154, 0, 5, 3, 172]
abbrev dktX9_aWitness_6 : List UInt8 := dkwX9_aWitness_6 ++ dktX9_aWitness_7
def dkwX9_aWitness_5 : List UInt8 := [54, 4, 29, 155, 0, 70, 29, 7, 162, 0, 65, 42, 180, 0, 7, 28, 29, 96, 46, 158, 0, 9, 42, 8]
abbrev dktX9_aWitness_5 : List UInt8 := dkwX9_aWitness_5 ++ dktX9_aWitness_6
def dkwX9_aWitness_4 : List UInt8 := [182, 0, 189, 16, 13, 100, 62, 29, 155, 0, 8, 29, 6, 164, 0, 9, 42, 5, 182, 0, 186, 172, 3]
abbrev dktX9_aWitness_4 : List UInt8 := dkwX9_aWitness_4 ++ dktX9_aWitness_5
def dkwX9_aWitness_3 : List UInt8 := [182, 1, 18, 154, 0, 5, 3, 172, 42, 18, 206, 16, 8, 182, 0, 223, 154, 0, 5, 3, 172, 42, 18, 206]
abbrev dktX9_aWitness_3 : List UInt8 := dkwX9_aWitness_3 ++ dktX9_aWitness_4
def dkwX9_aWitness_2 : List UInt8 := [18, 206, 182, 0, 189, 16, 7, 160, 0, 24, 42, 28, 7, 96, 3, 42, 180, 0, 7, 17, 6, 64, 46]
abbrev dktX9_aWitness_2 : List UInt8 := dkwX9_aWitness_2 ++ dktX9_aWitness_3
def dkwX9_aWitness_1 : List UInt8 := [16, 6, 182, 0, 186, 172, 42, 182, 0, 180, 42, 16, 40, 27, 182, 0, 219, 154, 0, 5, 3, 172, 42]
abbrev dktX9_aWitness_1 : List UInt8 := dkwX9_aWitness_1 ++ dktX9_aWitness_2
def dkwX9_aWitness_0 : List UInt8 := [42, 180, 0, 7, 17, 6, 68, 46, 60, 17, 6, 140, 16, 6, 27, 104, 96, 61, 27, 7, 160, 0, 10, 42]
abbrev dktX9_aWitness_0 : List UInt8 := dkwX9_aWitness_0 ++ dktX9_aWitness_1
theorem dksX9_aWitness_0 : cX9_aWitness.data.toList.drop 0 = dktX9_aWitness_0 := by decide +kernel
theorem dksX9_aWitness_1 : cX9_aWitness.data.toList.drop 24 = dktX9_aWitness_1 := dk_seg dksX9_aWitness_0 24 rfl rfl
theorem dksX9_aWitness_2 : cX9_aWitness.data.toList.drop 47 = dktX9_aWitness_2 := dk_seg dksX9_aWitness_1 23 rfl rfl
theorem dksX9_aWitness_3 : cX9_aWitness.data.toList.drop 70 = dktX9_aWitness_3 := dk_seg dksX9_aWitness_2 23 rfl rfl
theorem dksX9_aWitness_4 : cX9_aWitness.data.toList.drop 94 = dktX9_aWitness_4 := dk_seg dksX9_aWitness_3 24 rfl rfl
theorem dksX9_aWitness_5 : cX9_aWitness.data.toList.drop 117 = dktX9_aWitness_5 := dk_seg dksX9_aWitness_4 23 rfl rfl
theorem dksX9_aWitness_6 : cX9_aWitness.data.toList.drop 141 = dktX9_aWitness_6 := dk_seg dksX9_aWitness_5 24 rfl rfl
theorem dksX9_aWitness_7 : cX9_aWitness.data.toList.drop 164 = dktX9_aWitness_7 := dk_seg dksX9_aWitness_6 23 rfl rfl
theorem dksX9_aWitness_8 : cX9_aWitness.data.toList.drop 187 = dktX9_aWitness_8 := dk_seg dksX9_aWitness_7 23 rfl rfl
theorem dksX9_aWitness_9 : cX9_aWitness.data.toList.drop 210 = dktX9_aWitness_9 := dk_seg dksX9_aWitness_8 23 rfl rfl
theorem dksX9_aWitness_10 : cX9_aWitness.data.toList.drop 232 = dktX9_aWitness_10 := dk_seg dksX9_aWitness_9 22 rfl rfl
theorem dksX9_aWitness_11 : cX9_aWitness.data.toList.drop 256 = dktX9_aWitness_11 := dk_seg dksX9_aWitness_10 24 rfl rfl
theorem dX9_aWitness_0 : decode cX9_aWitness 0 = .ok (.aload_n 0, 1) := dk_42 (dk_at dksX9_aWitness_0 0 rfl rfl)
theorem dX9_aWitness_1 : decode cX9_aWitness 1 = .ok (.getfield 7, 3) := dk_180 0 7 (dk_at dksX9_aWitness_0 1 rfl rfl)
theorem dX9_aWitness_4 : decode cX9_aWitness 4 = .ok (.sipush 1604, 3) := dk_17 6 68 (dk_at dksX9_aWitness_0 4 rfl rfl)
theorem dX9_aWitness_7 : decode cX9_aWitness 7 = .ok (.iaload, 1) := dk_46 (dk_at dksX9_aWitness_0 7 rfl rfl)
theorem dX9_aWitness_8 : decode cX9_aWitness 8 = .ok (.istore_n 1, 1) := dk_60 (dk_at dksX9_aWitness_0 8 rfl rfl)
theorem dX9_aWitness_9 : decode cX9_aWitness 9 = .ok (.sipush 1676, 3) := dk_17 6 140 (dk_at dksX9_aWitness_0 9 rfl rfl)
theorem dX9_aWitness_12 : decode cX9_aWitness 12 = .ok (.bipush 6, 2) := dk_16 6 (dk_at dksX9_aWitness_0 12 rfl rfl)
theorem dX9_aWitness_14 : decode cX9_aWitness 14 = .ok (.iload_n 1, 1) := dk_27 (dk_at dksX9_aWitness_0 14 rfl rfl)
theorem dX9_aWitness_15 : decode cX9_aWitness 15 = .ok (.imul, 1) := dk_104 (dk_at dksX9_aWitness_0 15 rfl rfl)
theorem dX9_aWitness_16 : decode cX9_aWitness 16 = .ok (.iadd, 1) := dk_96 (dk_at dksX9_aWitness_0 16 rfl rfl)
theorem dX9_aWitness_17 : decode cX9_aWitness 17 = .ok (.istore_n 2, 1) := dk_61 (dk_at dksX9_aWitness_0 17 rfl rfl)
theorem dX9_aWitness_18 : decode cX9_aWitness 18 = .ok (.iload_n 1, 1) := dk_27 (dk_at dksX9_aWitness_0 18 rfl rfl)
theorem dX9_aWitness_19 : decode cX9_aWitness 19 = .ok (.iconst 4, 1) := dk_7 (dk_at dksX9_aWitness_0 19 rfl rfl)
theorem dX9_aWitness_20 : decode cX9_aWitness 20 = .ok (.if_icmp .ne 10, 3) := dk_160 0 10 (dk_at dksX9_aWitness_0 20 rfl rfl)
theorem dX9_aWitness_23 : decode cX9_aWitness 23 = .ok (.aload_n 0, 1) := dk_42 (dk_at dksX9_aWitness_0 23 rfl rfl)
theorem dX9_aWitness_24 : decode cX9_aWitness 24 = .ok (.bipush 6, 2) := dk_16 6 (dk_at dksX9_aWitness_1 0 rfl rfl)
theorem dX9_aWitness_26 : decode cX9_aWitness 26 = .ok (.invokevirtual 186, 3) := dk_182 0 186 (dk_at dksX9_aWitness_1 2 rfl rfl)
theorem dX9_aWitness_29 : decode cX9_aWitness 29 = .ok (.ireturn, 1) := dk_172 (dk_at dksX9_aWitness_1 5 rfl rfl)
theorem dX9_aWitness_30 : decode cX9_aWitness 30 = .ok (.aload_n 0, 1) := dk_42 (dk_at dksX9_aWitness_1 6 rfl rfl)
theorem dX9_aWitness_31 : decode cX9_aWitness 31 = .ok (.invokevirtual 180, 3) := dk_182 0 180 (dk_at dksX9_aWitness_1 7 rfl rfl)
theorem dX9_aWitness_34 : decode cX9_aWitness 34 = .ok (.aload_n 0, 1) := dk_42 (dk_at dksX9_aWitness_1 10 rfl rfl)
theorem dX9_aWitness_35 : decode cX9_aWitness 35 = .ok (.bipush 40, 2) := dk_16 40 (dk_at dksX9_aWitness_1 11 rfl rfl)
theorem dX9_aWitness_37 : decode cX9_aWitness 37 = .ok (.iload_n 1, 1) := dk_27 (dk_at dksX9_aWitness_1 13 rfl rfl)
theorem dX9_aWitness_38 : decode cX9_aWitness 38 = .ok (.invokevirtual 219, 3) := dk_182 0 219 (dk_at dksX9_aWitness_1 14 rfl rfl)
theorem dX9_aWitness_41 : decode cX9_aWitness 41 = .ok (.ifCond .ne 5, 3) := dk_154 0 5 (dk_at dksX9_aWitness_1 17 rfl rfl)
theorem dX9_aWitness_44 : decode cX9_aWitness 44 = .ok (.iconst 0, 1) := dk_3 (dk_at dksX9_aWitness_1 20 rfl rfl)
theorem dX9_aWitness_45 : decode cX9_aWitness 45 = .ok (.ireturn, 1) := dk_172 (dk_at dksX9_aWitness_1 21 rfl rfl)
theorem dX9_aWitness_46 : decode cX9_aWitness 46 = .ok (.aload_n 0, 1) := dk_42 (dk_at dksX9_aWitness_1 22 rfl rfl)
theorem dX9_aWitness_47 : decode cX9_aWitness 47 = .ok (.ldc 206, 2) := dk_18 206 (dk_at dksX9_aWitness_2 0 rfl rfl)
theorem dX9_aWitness_49 : decode cX9_aWitness 49 = .ok (.invokevirtual 189, 3) := dk_182 0 189 (dk_at dksX9_aWitness_2 2 rfl rfl)
theorem dX9_aWitness_52 : decode cX9_aWitness 52 = .ok (.bipush 7, 2) := dk_16 7 (dk_at dksX9_aWitness_2 5 rfl rfl)
theorem dX9_aWitness_54 : decode cX9_aWitness 54 = .ok (.if_icmp .ne 24, 3) := dk_160 0 24 (dk_at dksX9_aWitness_2 7 rfl rfl)
theorem dX9_aWitness_57 : decode cX9_aWitness 57 = .ok (.aload_n 0, 1) := dk_42 (dk_at dksX9_aWitness_2 10 rfl rfl)
theorem dX9_aWitness_58 : decode cX9_aWitness 58 = .ok (.iload_n 2, 1) := dk_28 (dk_at dksX9_aWitness_2 11 rfl rfl)
theorem dX9_aWitness_59 : decode cX9_aWitness 59 = .ok (.iconst 4, 1) := dk_7 (dk_at dksX9_aWitness_2 12 rfl rfl)
theorem dX9_aWitness_60 : decode cX9_aWitness 60 = .ok (.iadd, 1) := dk_96 (dk_at dksX9_aWitness_2 13 rfl rfl)
theorem dX9_aWitness_61 : decode cX9_aWitness 61 = .ok (.iconst 0, 1) := dk_3 (dk_at dksX9_aWitness_2 14 rfl rfl)
theorem dX9_aWitness_62 : decode cX9_aWitness 62 = .ok (.aload_n 0, 1) := dk_42 (dk_at dksX9_aWitness_2 15 rfl rfl)
theorem dX9_aWitness_63 : decode cX9_aWitness 63 = .ok (.getfield 7, 3) := dk_180 0 7 (dk_at dksX9_aWitness_2 16 rfl rfl)
theorem dX9_aWitness_66 : decode cX9_aWitness 66 = .ok (.sipush 1600, 3) := dk_17 6 64 (dk_at dksX9_aWitness_2 19 rfl rfl)
theorem dX9_aWitness_69 : decode cX9_aWitness 69 = .ok (.iaload, 1) := dk_46 (dk_at dksX9_aWitness_2 22 rfl rfl)
theorem dX9_aWitness_70 : decode cX9_aWitness 70 = .ok (.invokevirtual 274, 3) := dk_182 1 18 (dk_at dksX9_aWitness_3 0 rfl rfl)
theorem dX9_aWitness_73 : decode cX9_aWitness 73 = .ok (.ifCond .ne 5, 3) := dk_154 0 5 (dk_at dksX9_aWitness_3 3 rfl rfl)
theorem dX9_aWitness_76 : decode cX9_aWitness 76 = .ok (.iconst 0, 1) := dk_3 (dk_at dksX9_aWitness_3 6 rfl rfl)
theorem dX9_aWitness_77 : decode cX9_aWitness 77 = .ok (.ireturn, 1) := dk_172 (dk_at dksX9_aWitness_3 7 rfl rfl)
theorem dX9_aWitness_78 : decode cX9_aWitness 78 = .ok (.aload_n 0, 1) := dk_42 (dk_at dksX9_aWitness_3 8 rfl rfl)
theorem dX9_aWitness_79 : decode cX9_aWitness 79 = .ok (.ldc 206, 2) := dk_18 206 (dk_at dksX9_aWitness_3 9 rfl rfl)
theorem dX9_aWitness_81 : decode cX9_aWitness 81 = .ok (.bipush 8, 2) := dk_16 8 (dk_at dksX9_aWitness_3 11 rfl rfl)
theorem dX9_aWitness_83 : decode cX9_aWitness 83 = .ok (.invokevirtual 223, 3) := dk_182 0 223 (dk_at dksX9_aWitness_3 13 rfl rfl)
theorem dX9_aWitness_86 : decode cX9_aWitness 86 = .ok (.ifCond .ne 5, 3) := dk_154 0 5 (dk_at dksX9_aWitness_3 16 rfl rfl)
theorem dX9_aWitness_89 : decode cX9_aWitness 89 = .ok (.iconst 0, 1) := dk_3 (dk_at dksX9_aWitness_3 19 rfl rfl)
theorem dX9_aWitness_90 : decode cX9_aWitness 90 = .ok (.ireturn, 1) := dk_172 (dk_at dksX9_aWitness_3 20 rfl rfl)
theorem dX9_aWitness_91 : decode cX9_aWitness 91 = .ok (.aload_n 0, 1) := dk_42 (dk_at dksX9_aWitness_3 21 rfl rfl)
theorem dX9_aWitness_92 : decode cX9_aWitness 92 = .ok (.ldc 206, 2) := dk_18 206 (dk_at dksX9_aWitness_3 22 rfl rfl)
theorem dX9_aWitness_94 : decode cX9_aWitness 94 = .ok (.invokevirtual 189, 3) := dk_182 0 189 (dk_at dksX9_aWitness_4 0 rfl rfl)
theorem dX9_aWitness_97 : decode cX9_aWitness 97 = .ok (.bipush 13, 2) := dk_16 13 (dk_at dksX9_aWitness_4 3 rfl rfl)
theorem dX9_aWitness_99 : decode cX9_aWitness 99 = .ok (.isub, 1) := dk_100 (dk_at dksX9_aWitness_4 5 rfl rfl)
theorem dX9_aWitness_100 : decode cX9_aWitness 100 = .ok (.istore_n 3, 1) := dk_62 (dk_at dksX9_aWitness_4 6 rfl rfl)
theorem dX9_aWitness_101 : decode cX9_aWitness 101 = .ok (.iload_n 3, 1) := dk_29 (dk_at dksX9_aWitness_4 7 rfl rfl)
theorem dX9_aWitness_102 : decode cX9_aWitness 102 = .ok (.ifCond .lt 8, 3) := dk_155 0 8 (dk_at dksX9_aWitness_4 8 rfl rfl)
theorem dX9_aWitness_105 : decode cX9_aWitness 105 = .ok (.iload_n 3, 1) := dk_29 (dk_at dksX9_aWitness_4 11 rfl rfl)
theorem dX9_aWitness_106 : decode cX9_aWitness 106 = .ok (.iconst 3, 1) := dk_6 (dk_at dksX9_aWitness_4 12 rfl rfl)
theorem dX9_aWitness_107 : decode cX9_aWitness 107 = .ok (.if_icmp .le 9, 3) := dk_164 0 9 (dk_at dksX9_aWitness_4 13 rfl rfl)
theorem dX9_aWitness_110 : decode cX9_aWitness 110 = .ok (.aload_n 0, 1) := dk_42 (dk_at dksX9_aWitness_4 16 rfl rfl)
theorem dX9_aWitness_111 : decode cX9_aWitness 111 = .ok (.iconst 2, 1) := dk_5 (dk_at dksX9_aWitness_4 17 rfl rfl)
theorem dX9_aWitness_112 : decode cX9_aWitness 112 = .ok (.invokevirtual 186, 3) := dk_182 0 186 (dk_at dksX9_aWitness_4 18 rfl rfl)
theorem dX9_aWitness_115 : decode cX9_aWitness 115 = .ok (.ireturn, 1) := dk_172 (dk_at dksX9_aWitness_4 21 rfl rfl)
theorem dX9_aWitness_116 : decode cX9_aWitness 116 = .ok (.iconst 0, 1) := dk_3 (dk_at dksX9_aWitness_4 22 rfl rfl)
theorem dX9_aWitness_117 : decode cX9_aWitness 117 = .ok (.istore 4, 2) := dk_54 4 (dk_at dksX9_aWitness_5 0 rfl rfl)
theorem dX9_aWitness_119 : decode cX9_aWitness 119 = .ok (.iload_n 3, 1) := dk_29 (dk_at dksX9_aWitness_5 2 rfl rfl)
theorem dX9_aWitness_120 : decode cX9_aWitness 120 = .ok (.ifCond .lt 70, 3) := dk_155 0 70 (dk_at dksX9_aWitness_5 3 rfl rfl)
theorem dX9_aWitness_123 : decode cX9_aWitness 123 = .ok (.iload_n 3, 1) := dk_29 (dk_at dksX9_aWitness_5 6 rfl rfl)
theorem dX9_aWitness_124 : decode cX9_aWitness 124 = .ok (.iconst 4, 1) := dk_7 (dk_at dksX9_aWitness_5 7 rfl rfl)
theorem dX9_aWitness_125 : decode cX9_aWitness 125 = .ok (.if_icmp .ge 65, 3) := dk_162 0 65 (dk_at dksX9_aWitness_5 8 rfl rfl)
theorem dX9_aWitness_128 : decode cX9_aWitness 128 = .ok (.aload_n 0, 1) := dk_42 (dk_at dksX9_aWitness_5 11 rfl rfl)
theorem dX9_aWitness_129 : decode cX9_aWitness 129 = .ok (.getfield 7, 3) := dk_180 0 7 (dk_at dksX9_aWitness_5 12 rfl rfl)
theorem dX9_aWitness_132 : decode cX9_aWitness 132 = .ok (.iload_n 2, 1) := dk_28 (dk_at dksX9_aWitness_5 15 rfl rfl)
theorem dX9_aWitness_133 : decode cX9_aWitness 133 = .ok (.iload_n 3, 1) := dk_29 (dk_at dksX9_aWitness_5 16 rfl rfl)
theorem dX9_aWitness_134 : decode cX9_aWitness 134 = .ok (.iadd, 1) := dk_96 (dk_at dksX9_aWitness_5 17 rfl rfl)
theorem dX9_aWitness_135 : decode cX9_aWitness 135 = .ok (.iaload, 1) := dk_46 (dk_at dksX9_aWitness_5 18 rfl rfl)
theorem dX9_aWitness_136 : decode cX9_aWitness 136 = .ok (.ifCond .le 9, 3) := dk_158 0 9 (dk_at dksX9_aWitness_5 19 rfl rfl)
theorem dX9_aWitness_139 : decode cX9_aWitness 139 = .ok (.aload_n 0, 1) := dk_42 (dk_at dksX9_aWitness_5 22 rfl rfl)
theorem dX9_aWitness_140 : decode cX9_aWitness 140 = .ok (.iconst 5, 1) := dk_8 (dk_at dksX9_aWitness_5 23 rfl rfl)
theorem dX9_aWitness_141 : decode cX9_aWitness 141 = .ok (.invokevirtual 186, 3) := dk_182 0 186 (dk_at dksX9_aWitness_6 0 rfl rfl)
theorem dX9_aWitness_144 : decode cX9_aWitness 144 = .ok (.ireturn, 1) := dk_172 (dk_at dksX9_aWitness_6 3 rfl rfl)
theorem dX9_aWitness_145 : decode cX9_aWitness 145 = .ok (.aload_n 0, 1) := dk_42 (dk_at dksX9_aWitness_6 4 rfl rfl)
theorem dX9_aWitness_146 : decode cX9_aWitness 146 = .ok (.invokevirtual 180, 3) := dk_182 0 180 (dk_at dksX9_aWitness_6 5 rfl rfl)
theorem dX9_aWitness_149 : decode cX9_aWitness 149 = .ok (.aload_n 0, 1) := dk_42 (dk_at dksX9_aWitness_6 8 rfl rfl)
theorem dX9_aWitness_150 : decode cX9_aWitness 150 = .ok (.iload_n 2, 1) := dk_28 (dk_at dksX9_aWitness_6 9 rfl rfl)
theorem dX9_aWitness_151 : decode cX9_aWitness 151 = .ok (.iload_n 3, 1) := dk_29 (dk_at dksX9_aWitness_6 10 rfl rfl)
theorem dX9_aWitness_152 : decode cX9_aWitness 152 = .ok (.iadd, 1) := dk_96 (dk_at dksX9_aWitness_6 11 rfl rfl)
theorem dX9_aWitness_153 : decode cX9_aWitness 153 = .ok (.iconst 1, 1) := dk_4 (dk_at dksX9_aWitness_6 12 rfl rfl)
theorem dX9_aWitness_154 : decode cX9_aWitness 154 = .ok (.bipush 16, 2) := dk_16 16 (dk_at dksX9_aWitness_6 13 rfl rfl)
theorem dX9_aWitness_156 : decode cX9_aWitness 156 = .ok (.invokevirtual 227, 3) := dk_182 0 227 (dk_at dksX9_aWitness_6 15 rfl rfl)
theorem dX9_aWitness_159 : decode cX9_aWitness 159 = .ok (.ifCond .ne 5, 3) := dk_154 0 5 (dk_at dksX9_aWitness_6 18 rfl rfl)
theorem dX9_aWitness_162 : decode cX9_aWitness 162 = .ok (.iconst 0, 1) := dk_3 (dk_at dksX9_aWitness_6 21 rfl rfl)
theorem dX9_aWitness_163 : decode cX9_aWitness 163 = .ok (.ireturn, 1) := dk_172 (dk_at dksX9_aWitness_6 22 rfl rfl)
theorem dX9_aWitness_164 : decode cX9_aWitness 164 = .ok (.iload 4, 2) := dk_21 4 (dk_at dksX9_aWitness_7 0 rfl rfl)
theorem dX9_aWitness_166 : decode cX9_aWitness 166 = .ok (.aload_n 0, 1) := dk_42 (dk_at dksX9_aWitness_7 2 rfl rfl)
theorem dX9_aWitness_167 : decode cX9_aWitness 167 = .ok (.getfield 7, 3) := dk_180 0 7 (dk_at dksX9_aWitness_7 3 rfl rfl)
theorem dX9_aWitness_170 : decode cX9_aWitness 170 = .ok (.iload_n 2, 1) := dk_28 (dk_at dksX9_aWitness_7 6 rfl rfl)
theorem dX9_aWitness_171 : decode cX9_aWitness 171 = .ok (.iload_n 3, 1) := dk_29 (dk_at dksX9_aWitness_7 7 rfl rfl)
theorem dX9_aWitness_172 : decode cX9_aWitness 172 = .ok (.iadd, 1) := dk_96 (dk_at dksX9_aWitness_7 8 rfl rfl)
theorem dX9_aWitness_173 : decode cX9_aWitness 173 = .ok (.iaload, 1) := dk_46 (dk_at dksX9_aWitness_7 9 rfl rfl)
theorem dX9_aWitness_174 : decode cX9_aWitness 174 = .ok (.iadd, 1) := dk_96 (dk_at dksX9_aWitness_7 10 rfl rfl)
theorem dX9_aWitness_175 : decode cX9_aWitness 175 = .ok (.istore 4, 2) := dk_54 4 (dk_at dksX9_aWitness_7 11 rfl rfl)
theorem dX9_aWitness_177 : decode cX9_aWitness 177 = .ok (.aload_n 0, 1) := dk_42 (dk_at dksX9_aWitness_7 13 rfl rfl)
theorem dX9_aWitness_178 : decode cX9_aWitness 178 = .ok (.ldc 206, 2) := dk_18 206 (dk_at dksX9_aWitness_7 14 rfl rfl)
theorem dX9_aWitness_180 : decode cX9_aWitness 180 = .ok (.invokevirtual 189, 3) := dk_182 0 189 (dk_at dksX9_aWitness_7 16 rfl rfl)
theorem dX9_aWitness_183 : decode cX9_aWitness 183 = .ok (.bipush 13, 2) := dk_16 13 (dk_at dksX9_aWitness_7 19 rfl rfl)
theorem dX9_aWitness_185 : decode cX9_aWitness 185 = .ok (.isub, 1) := dk_100 (dk_at dksX9_aWitness_7 21 rfl rfl)
theorem dX9_aWitness_186 : decode cX9_aWitness 186 = .ok (.istore_n 3, 1) := dk_62 (dk_at dksX9_aWitness_7 22 rfl rfl)
theorem dX9_aWitness_187 : decode cX9_aWitness 187 = .ok (.goto (-68), 3) := dk_167 255 188 (dk_at dksX9_aWitness_8 0 rfl rfl)
theorem dX9_aWitness_190 : decode cX9_aWitness 190 = .ok (.aload_n 0, 1) := dk_42 (dk_at dksX9_aWitness_8 3 rfl rfl)
theorem dX9_aWitness_191 : decode cX9_aWitness 191 = .ok (.bipush 59, 2) := dk_16 59 (dk_at dksX9_aWitness_8 4 rfl rfl)
theorem dX9_aWitness_193 : decode cX9_aWitness 193 = .ok (.invokevirtual 183, 3) := dk_182 0 183 (dk_at dksX9_aWitness_8 6 rfl rfl)
theorem dX9_aWitness_196 : decode cX9_aWitness 196 = .ok (.ifCond .ne 14, 3) := dk_154 0 14 (dk_at dksX9_aWitness_8 9 rfl rfl)
theorem dX9_aWitness_199 : decode cX9_aWitness 199 = .ok (.aload_n 0, 1) := dk_42 (dk_at dksX9_aWitness_8 12 rfl rfl)
theorem dX9_aWitness_200 : decode cX9_aWitness 200 = .ok (.ldc 206, 2) := dk_18 206 (dk_at dksX9_aWitness_8 13 rfl rfl)
theorem dX9_aWitness_202 : decode cX9_aWitness 202 = .ok (.invokevirtual 189, 3) := dk_182 0 189 (dk_at dksX9_aWitness_8 15 rfl rfl)
theorem dX9_aWitness_205 : decode cX9_aWitness 205 = .ok (.bipush 9, 2) := dk_16 9 (dk_at dksX9_aWitness_8 18 rfl rfl)
theorem dX9_aWitness_207 : decode cX9_aWitness 207 = .ok (.if_icmp .ne 17, 3) := dk_160 0 17 (dk_at dksX9_aWitness_8 20 rfl rfl)
theorem dX9_aWitness_210 : decode cX9_aWitness 210 = .ok (.iload 4, 2) := dk_21 4 (dk_at dksX9_aWitness_9 0 rfl rfl)
theorem dX9_aWitness_212 : decode cX9_aWitness 212 = .ok (.bipush 16, 2) := dk_16 16 (dk_at dksX9_aWitness_9 2 rfl rfl)
theorem dX9_aWitness_214 : decode cX9_aWitness 214 = .ok (.if_icmp .eq 10, 3) := dk_159 0 10 (dk_at dksX9_aWitness_9 4 rfl rfl)
theorem dX9_aWitness_217 : decode cX9_aWitness 217 = .ok (.aload_n 0, 1) := dk_42 (dk_at dksX9_aWitness_9 7 rfl rfl)
theorem dX9_aWitness_218 : decode cX9_aWitness 218 = .ok (.bipush 8, 2) := dk_16 8 (dk_at dksX9_aWitness_9 8 rfl rfl)
theorem dX9_aWitness_220 : decode cX9_aWitness 220 = .ok (.invokevirtual 186, 3) := dk_182 0 186 (dk_at dksX9_aWitness_9 10 rfl rfl)
theorem dX9_aWitness_223 : decode cX9_aWitness 223 = .ok (.ireturn, 1) := dk_172 (dk_at dksX9_aWitness_9 13 rfl rfl)
theorem dX9_aWitness_224 : decode cX9_aWitness 224 = .ok (.aload_n 0, 1) := dk_42 (dk_at dksX9_aWitness_9 14 rfl rfl)
theorem dX9_aWitness_225 : decode cX9_aWitness 225 = .ok (.ldc 206, 2) := dk_18 206 (dk_at dksX9_aWitness_9 15 rfl rfl)
theorem dX9_aWitness_227 : decode cX9_aWitness 227 = .ok (.invokevirtual 189, 3) := dk_182 0 189 (dk_at dksX9_aWitness_9 17 rfl rfl)
theorem dX9_aWitness_230 : decode cX9_aWitness 230 = .ok (.bipush 9, 2) := dk_16 9 (dk_at dksX9_aWitness_9 20 rfl rfl)
theorem dX9_aWitness_232 : decode cX9_aWitness 232 = .ok (.if_icmp .ne 25, 3) := dk_160 0 25 (dk_at dksX9_aWitness_10 0 rfl rfl)
theorem dX9_aWitness_235 : decode cX9_aWitness 235 = .ok (.aload_n 0, 1) := dk_42 (dk_at dksX9_aWitness_10 3 rfl rfl)
theorem dX9_aWitness_236 : decode cX9_aWitness 236 = .ok (.iload_n 2, 1) := dk_28 (dk_at dksX9_aWitness_10 4 rfl rfl)
theorem dX9_aWitness_237 : decode cX9_aWitness 237 = .ok (.iconst 5, 1) := dk_8 (dk_at dksX9_aWitness_10 5 rfl rfl)
theorem dX9_aWitness_238 : decode cX9_aWitness 238 = .ok (.iadd, 1) := dk_96 (dk_at dksX9_aWitness_10 6 rfl rfl)
theorem dX9_aWitness_239 : decode cX9_aWitness 239 = .ok (.bipush 28, 2) := dk_16 28 (dk_at dksX9_aWitness_10 7 rfl rfl)
theorem dX9_aWitness_241 : decode cX9_aWitness 241 = .ok (.aload_n 0, 1) := dk_42 (dk_at dksX9_aWitness_10 9 rfl rfl)
theorem dX9_aWitness_242 : decode cX9_aWitness 242 = .ok (.getfield 7, 3) := dk_180 0 7 (dk_at dksX9_aWitness_10 10 rfl rfl)
theorem dX9_aWitness_245 : decode cX9_aWitness 245 = .ok (.sipush 1603, 3) := dk_17 6 67 (dk_at dksX9_aWitness_10 13 rfl rfl)
theorem dX9_aWitness_248 : decode cX9_aWitness 248 = .ok (.iaload, 1) := dk_46 (dk_at dksX9_aWitness_10 16 rfl rfl)
theorem dX9_aWitness_249 : decode cX9_aWitness 249 = .ok (.invokevirtual 274, 3) := dk_182 1 18 (dk_at dksX9_aWitness_10 17 rfl rfl)
theorem dX9_aWitness_252 : decode cX9_aWitness 252 = .ok (.ifCond .ne 5, 3) := dk_154 0 5 (dk_at dksX9_aWitness_10 20 rfl rfl)
theorem dX9_aWitness_255 : decode cX9_aWitness 255 = .ok (.iconst 0, 1) := dk_3 (dk_at dksX9_aWitness_10 23 rfl rfl)
theorem dX9_aWitness_256 : decode cX9_aWitness 256 = .ok (.ireturn, 1) := dk_172 (dk_at dksX9_aWitness_11 0 rfl rfl)
theorem dX9_aWitness_257 : decode cX9_aWitness 257 = .ok (.aload_n 0, 1) := dk_42 (dk_at dksX9_aWitness_11 1 rfl rfl)
theorem dX9_aWitness_258 : decode cX9_aWitness 258 = .ok (.getfield 7, 3) := dk_180 0 7 (dk_at dksX9_aWitness_11 2 rfl rfl)
theorem dX9_aWitness_261 : decode cX9_aWitness 261 = .ok (.sipush 1604, 3) := dk_17 6 68 (dk_at dksX9_aWitness_11 5 rfl rfl)
theorem dX9_aWitness_264 : decode cX9_aWitness 264 = .ok (.dup2, 1) := dk_92 (dk_at dksX9_aWitness_11 8 rfl rfl)
theorem dX9_aWitness_265 : decode cX9_aWitness 265 = .ok (.iaload, 1) := dk_46 (dk_at dksX9_aWitness_11 9 rfl rfl)
theorem dX9_aWitness_266 : decode cX9_aWitness 266 = .ok (.iconst 1, 1) := dk_4 (dk_at dksX9_aWitness_11 10 rfl rfl)
theorem dX9_aWitness_267 : decode cX9_aWitness 267 = .ok (.iadd, 1) := dk_96 (dk_at dksX9_aWitness_11 11 rfl rfl)
theorem dX9_aWitness_268 : decode cX9_aWitness 268 = .ok (.iastore, 1) := dk_79 (dk_at dksX9_aWitness_11 12 rfl rfl)
theorem dX9_aWitness_269 : decode cX9_aWitness 269 = .ok (.iconst 1, 1) := dk_4 (dk_at dksX9_aWitness_11 13 rfl rfl)
theorem dX9_aWitness_270 : decode cX9_aWitness 270 = .ok (.ireturn, 1) := dk_172 (dk_at dksX9_aWitness_11 14 rfl rfl)
abbrev cX9_several : ByteArray := prog_19_method_54_code
def yX9_several : MethodName := ⟨RX9, "several", "(III)Z"⟩
def dkwX9_several_3 : List UInt8 := [92, 46, 4, 42, 180, 0, 216, 120, 128, 79, 42, 182, 0, 180, 167, 255, 191, 4, 172]
abbrev dktX9_several_3 : List UInt8 := dkwX9_several_3 ++ []
def dkwX9_several_2 : List UInt8 := [27, 46, 42, 180, 0, 216, 122, 4, 126, 4, 160, 0, 9, 42, 8, 182, 0, 186, 172, 42, 180, 0, 7, 27]
abbrev dktX9_several_2 : List UInt8 := dkwX9_several_2 ++ dktX9_several_3
def dkwX9_several_1 : List UInt8 := [182, 0, 208, 153, 0, 62, 42, 17, 0, 176, 28, 29, 182, 0, 231, 154, 0, 5, 3, 172, 42, 180, 0, 7]
abbrev dktX9_several_1 : List UInt8 := dkwX9_several_1 ++ dktX9_several_2
def dkwX9_several_0 : List UInt8 := [42, 182, 0, 180, 42, 18, 206, 182, 0, 208, 154, 0, 9, 42, 5, 182, 0, 186, 172, 42, 18, 206]
abbrev dktX9_several_0 : List UInt8 := dkwX9_several_0 ++ dktX9_several_1
theorem dksX9_several_0 : cX9_several.data.toList.drop 0 = dktX9_several_0 := by decide +kernel
theorem dksX9_several_1 : cX9_several.data.toList.drop 22 = dktX9_several_1 := dk_seg dksX9_several_0 22 rfl rfl
theorem dksX9_several_2 : cX9_several.data.toList.drop 46 = dktX9_several_2 := dk_seg dksX9_several_1 24 rfl rfl
theorem dksX9_several_3 : cX9_several.data.toList.drop 70 = dktX9_several_3 := dk_seg dksX9_several_2 24 rfl rfl
theorem dX9_several_0 : decode cX9_several 0 = .ok (.aload_n 0, 1) := dk_42 (dk_at dksX9_several_0 0 rfl rfl)
theorem dX9_several_1 : decode cX9_several 1 = .ok (.invokevirtual 180, 3) := dk_182 0 180 (dk_at dksX9_several_0 1 rfl rfl)
theorem dX9_several_4 : decode cX9_several 4 = .ok (.aload_n 0, 1) := dk_42 (dk_at dksX9_several_0 4 rfl rfl)
theorem dX9_several_5 : decode cX9_several 5 = .ok (.ldc 206, 2) := dk_18 206 (dk_at dksX9_several_0 5 rfl rfl)
theorem dX9_several_7 : decode cX9_several 7 = .ok (.invokevirtual 208, 3) := dk_182 0 208 (dk_at dksX9_several_0 7 rfl rfl)
theorem dX9_several_10 : decode cX9_several 10 = .ok (.ifCond .ne 9, 3) := dk_154 0 9 (dk_at dksX9_several_0 10 rfl rfl)
theorem dX9_several_13 : decode cX9_several 13 = .ok (.aload_n 0, 1) := dk_42 (dk_at dksX9_several_0 13 rfl rfl)
theorem dX9_several_14 : decode cX9_several 14 = .ok (.iconst 2, 1) := dk_5 (dk_at dksX9_several_0 14 rfl rfl)
theorem dX9_several_15 : decode cX9_several 15 = .ok (.invokevirtual 186, 3) := dk_182 0 186 (dk_at dksX9_several_0 15 rfl rfl)
theorem dX9_several_18 : decode cX9_several 18 = .ok (.ireturn, 1) := dk_172 (dk_at dksX9_several_0 18 rfl rfl)
theorem dX9_several_19 : decode cX9_several 19 = .ok (.aload_n 0, 1) := dk_42 (dk_at dksX9_several_0 19 rfl rfl)
theorem dX9_several_20 : decode cX9_several 20 = .ok (.ldc 206, 2) := dk_18 206 (dk_at dksX9_several_0 20 rfl rfl)
theorem dX9_several_22 : decode cX9_several 22 = .ok (.invokevirtual 208, 3) := dk_182 0 208 (dk_at dksX9_several_1 0 rfl rfl)
theorem dX9_several_25 : decode cX9_several 25 = .ok (.ifCond .eq 62, 3) := dk_153 0 62 (dk_at dksX9_several_1 3 rfl rfl)
theorem dX9_several_28 : decode cX9_several 28 = .ok (.aload_n 0, 1) := dk_42 (dk_at dksX9_several_1 6 rfl rfl)
theorem dX9_several_29 : decode cX9_several 29 = .ok (.sipush 176, 3) := dk_17 0 176 (dk_at dksX9_several_1 7 rfl rfl)
theorem dX9_several_32 : decode cX9_several 32 = .ok (.iload_n 2, 1) := dk_28 (dk_at dksX9_several_1 10 rfl rfl)
theorem dX9_several_33 : decode cX9_several 33 = .ok (.iload_n 3, 1) := dk_29 (dk_at dksX9_several_1 11 rfl rfl)
theorem dX9_several_34 : decode cX9_several 34 = .ok (.invokevirtual 231, 3) := dk_182 0 231 (dk_at dksX9_several_1 12 rfl rfl)
theorem dX9_several_37 : decode cX9_several 37 = .ok (.ifCond .ne 5, 3) := dk_154 0 5 (dk_at dksX9_several_1 15 rfl rfl)
theorem dX9_several_40 : decode cX9_several 40 = .ok (.iconst 0, 1) := dk_3 (dk_at dksX9_several_1 18 rfl rfl)
theorem dX9_several_41 : decode cX9_several 41 = .ok (.ireturn, 1) := dk_172 (dk_at dksX9_several_1 19 rfl rfl)
theorem dX9_several_42 : decode cX9_several 42 = .ok (.aload_n 0, 1) := dk_42 (dk_at dksX9_several_1 20 rfl rfl)
theorem dX9_several_43 : decode cX9_several 43 = .ok (.getfield 7, 3) := dk_180 0 7 (dk_at dksX9_several_1 21 rfl rfl)
theorem dX9_several_46 : decode cX9_several 46 = .ok (.iload_n 1, 1) := dk_27 (dk_at dksX9_several_2 0 rfl rfl)
theorem dX9_several_47 : decode cX9_several 47 = .ok (.iaload, 1) := dk_46 (dk_at dksX9_several_2 1 rfl rfl)
theorem dX9_several_48 : decode cX9_several 48 = .ok (.aload_n 0, 1) := dk_42 (dk_at dksX9_several_2 2 rfl rfl)
theorem dX9_several_49 : decode cX9_several 49 = .ok (.getfield 216, 3) := dk_180 0 216 (dk_at dksX9_several_2 3 rfl rfl)
theorem dX9_several_52 : decode cX9_several 52 = .ok (.ishr, 1) := dk_122 (dk_at dksX9_several_2 6 rfl rfl)
theorem dX9_several_53 : decode cX9_several 53 = .ok (.iconst 1, 1) := dk_4 (dk_at dksX9_several_2 7 rfl rfl)
theorem dX9_several_54 : decode cX9_several 54 = .ok (.iand, 1) := dk_126 (dk_at dksX9_several_2 8 rfl rfl)
theorem dX9_several_55 : decode cX9_several 55 = .ok (.iconst 1, 1) := dk_4 (dk_at dksX9_several_2 9 rfl rfl)
theorem dX9_several_56 : decode cX9_several 56 = .ok (.if_icmp .ne 9, 3) := dk_160 0 9 (dk_at dksX9_several_2 10 rfl rfl)
theorem dX9_several_59 : decode cX9_several 59 = .ok (.aload_n 0, 1) := dk_42 (dk_at dksX9_several_2 13 rfl rfl)
theorem dX9_several_60 : decode cX9_several 60 = .ok (.iconst 5, 1) := dk_8 (dk_at dksX9_several_2 14 rfl rfl)
theorem dX9_several_61 : decode cX9_several 61 = .ok (.invokevirtual 186, 3) := dk_182 0 186 (dk_at dksX9_several_2 15 rfl rfl)
theorem dX9_several_64 : decode cX9_several 64 = .ok (.ireturn, 1) := dk_172 (dk_at dksX9_several_2 18 rfl rfl)
theorem dX9_several_65 : decode cX9_several 65 = .ok (.aload_n 0, 1) := dk_42 (dk_at dksX9_several_2 19 rfl rfl)
theorem dX9_several_66 : decode cX9_several 66 = .ok (.getfield 7, 3) := dk_180 0 7 (dk_at dksX9_several_2 20 rfl rfl)
theorem dX9_several_69 : decode cX9_several 69 = .ok (.iload_n 1, 1) := dk_27 (dk_at dksX9_several_2 23 rfl rfl)
theorem dX9_several_70 : decode cX9_several 70 = .ok (.dup2, 1) := dk_92 (dk_at dksX9_several_3 0 rfl rfl)
theorem dX9_several_71 : decode cX9_several 71 = .ok (.iaload, 1) := dk_46 (dk_at dksX9_several_3 1 rfl rfl)
theorem dX9_several_72 : decode cX9_several 72 = .ok (.iconst 1, 1) := dk_4 (dk_at dksX9_several_3 2 rfl rfl)
theorem dX9_several_73 : decode cX9_several 73 = .ok (.aload_n 0, 1) := dk_42 (dk_at dksX9_several_3 3 rfl rfl)
theorem dX9_several_74 : decode cX9_several 74 = .ok (.getfield 216, 3) := dk_180 0 216 (dk_at dksX9_several_3 4 rfl rfl)
theorem dX9_several_77 : decode cX9_several 77 = .ok (.ishl, 1) := dk_120 (dk_at dksX9_several_3 7 rfl rfl)
theorem dX9_several_78 : decode cX9_several 78 = .ok (.ior, 1) := dk_128 (dk_at dksX9_several_3 8 rfl rfl)
theorem dX9_several_79 : decode cX9_several 79 = .ok (.iastore, 1) := dk_79 (dk_at dksX9_several_3 9 rfl rfl)
theorem dX9_several_80 : decode cX9_several 80 = .ok (.aload_n 0, 1) := dk_42 (dk_at dksX9_several_3 10 rfl rfl)
theorem dX9_several_81 : decode cX9_several 81 = .ok (.invokevirtual 180, 3) := dk_182 0 180 (dk_at dksX9_several_3 11 rfl rfl)
theorem dX9_several_84 : decode cX9_several 84 = .ok (.goto (-65), 3) := dk_167 255 191 (dk_at dksX9_several_3 14 rfl rfl)
theorem dX9_several_87 : decode cX9_several 87 = .ok (.iconst 1, 1) := dk_4 (dk_at dksX9_several_3 17 rfl rfl)
theorem dX9_several_88 : decode cX9_several 88 = .ok (.ireturn, 1) := dk_172 (dk_at dksX9_several_3 18 rfl rfl)
abbrev cX9_wantSign : ByteArray := prog_19_method_29_code
def yX9_wantSign : MethodName := ⟨RX9, "wantSign", "(I)Z"⟩
def dkwX9_wantSign_0 : List UInt8 := [42, 27, 182, 0, 183, 154, 0, 9, 42, 5, 182, 0, 186, 172, 42, 182, 0, 180, 4, 172]
abbrev dktX9_wantSign_0 : List UInt8 := dkwX9_wantSign_0 ++ []
theorem dksX9_wantSign_0 : cX9_wantSign.data.toList.drop 0 = dktX9_wantSign_0 := by decide +kernel
theorem dX9_wantSign_0 : decode cX9_wantSign 0 = .ok (.aload_n 0, 1) := dk_42 (dk_at dksX9_wantSign_0 0 rfl rfl)
theorem dX9_wantSign_1 : decode cX9_wantSign 1 = .ok (.iload_n 1, 1) := dk_27 (dk_at dksX9_wantSign_0 1 rfl rfl)
theorem dX9_wantSign_2 : decode cX9_wantSign 2 = .ok (.invokevirtual 183, 3) := dk_182 0 183 (dk_at dksX9_wantSign_0 2 rfl rfl)
theorem dX9_wantSign_5 : decode cX9_wantSign 5 = .ok (.ifCond .ne 9, 3) := dk_154 0 9 (dk_at dksX9_wantSign_0 5 rfl rfl)
theorem dX9_wantSign_8 : decode cX9_wantSign 8 = .ok (.aload_n 0, 1) := dk_42 (dk_at dksX9_wantSign_0 8 rfl rfl)
theorem dX9_wantSign_9 : decode cX9_wantSign 9 = .ok (.iconst 2, 1) := dk_5 (dk_at dksX9_wantSign_0 9 rfl rfl)
theorem dX9_wantSign_10 : decode cX9_wantSign 10 = .ok (.invokevirtual 186, 3) := dk_182 0 186 (dk_at dksX9_wantSign_0 10 rfl rfl)
theorem dX9_wantSign_13 : decode cX9_wantSign 13 = .ok (.ireturn, 1) := dk_172 (dk_at dksX9_wantSign_0 13 rfl rfl)
theorem dX9_wantSign_14 : decode cX9_wantSign 14 = .ok (.aload_n 0, 1) := dk_42 (dk_at dksX9_wantSign_0 14 rfl rfl)
theorem dX9_wantSign_15 : decode cX9_wantSign 15 = .ok (.invokevirtual 180, 3) := dk_182 0 180 (dk_at dksX9_wantSign_0 15 rfl rfl)
theorem dX9_wantSign_18 : decode cX9_wantSign 18 = .ok (.iconst 1, 1) := dk_4 (dk_at dksX9_wantSign_0 18 rfl rfl)
theorem dX9_wantSign_19 : decode cX9_wantSign 19 = .ok (.ireturn, 1) := dk_172 (dk_at dksX9_wantSign_0 19 rfl rfl)
abbrev cX9_size : ByteArray := prog_19_method_58_code
def yX9_size : MethodName := ⟨RX9, "size", "(I)I"⟩
def dkwX9_size_1 : List UInt8 := [153, 0, 7, 4, 167, 0, 4, 3, 96, 61, 132, 3, 1, 167, 255, 223, 28, 172]
abbrev dktX9_size_1 : List UInt8 := dkwX9_size_1 ++ []
def dkwX9_size_0 : List UInt8 := [3, 61, 3, 62, 29, 42, 180, 0, 7, 5, 46, 162, 0, 29, 28, 42, 180, 0, 13, 27, 29, 184, 1, 47]
abbrev dktX9_size_0 : List UInt8 := dkwX9_size_0 ++ dktX9_size_1
theorem dksX9_size_0 : cX9_size.data.toList.drop 0 = dktX9_size_0 := by decide +kernel
theorem dksX9_size_1 : cX9_size.data.toList.drop 24 = dktX9_size_1 := dk_seg dksX9_size_0 24 rfl rfl
theorem dX9_size_0 : decode cX9_size 0 = .ok (.iconst 0, 1) := dk_3 (dk_at dksX9_size_0 0 rfl rfl)
theorem dX9_size_1 : decode cX9_size 1 = .ok (.istore_n 2, 1) := dk_61 (dk_at dksX9_size_0 1 rfl rfl)
theorem dX9_size_2 : decode cX9_size 2 = .ok (.iconst 0, 1) := dk_3 (dk_at dksX9_size_0 2 rfl rfl)
theorem dX9_size_3 : decode cX9_size 3 = .ok (.istore_n 3, 1) := dk_62 (dk_at dksX9_size_0 3 rfl rfl)
theorem dX9_size_4 : decode cX9_size 4 = .ok (.iload_n 3, 1) := dk_29 (dk_at dksX9_size_0 4 rfl rfl)
theorem dX9_size_5 : decode cX9_size 5 = .ok (.aload_n 0, 1) := dk_42 (dk_at dksX9_size_0 5 rfl rfl)
theorem dX9_size_6 : decode cX9_size 6 = .ok (.getfield 7, 3) := dk_180 0 7 (dk_at dksX9_size_0 6 rfl rfl)
theorem dX9_size_9 : decode cX9_size 9 = .ok (.iconst 2, 1) := dk_5 (dk_at dksX9_size_0 9 rfl rfl)
theorem dX9_size_10 : decode cX9_size 10 = .ok (.iaload, 1) := dk_46 (dk_at dksX9_size_0 10 rfl rfl)
theorem dX9_size_11 : decode cX9_size 11 = .ok (.if_icmp .ge 29, 3) := dk_162 0 29 (dk_at dksX9_size_0 11 rfl rfl)
theorem dX9_size_14 : decode cX9_size 14 = .ok (.iload_n 2, 1) := dk_28 (dk_at dksX9_size_0 14 rfl rfl)
theorem dX9_size_15 : decode cX9_size 15 = .ok (.aload_n 0, 1) := dk_42 (dk_at dksX9_size_0 15 rfl rfl)
theorem dX9_size_16 : decode cX9_size 16 = .ok (.getfield 13, 3) := dk_180 0 13 (dk_at dksX9_size_0 16 rfl rfl)
theorem dX9_size_19 : decode cX9_size 19 = .ok (.iload_n 1, 1) := dk_27 (dk_at dksX9_size_0 19 rfl rfl)
theorem dX9_size_20 : decode cX9_size 20 = .ok (.iload_n 3, 1) := dk_29 (dk_at dksX9_size_0 20 rfl rfl)
theorem dX9_size_21 : decode cX9_size 21 = .ok (.invokestatic 303, 3) := dk_184 1 47 (dk_at dksX9_size_0 21 rfl rfl)
theorem dX9_size_24 : decode cX9_size 24 = .ok (.ifCond .eq 7, 3) := dk_153 0 7 (dk_at dksX9_size_1 0 rfl rfl)
theorem dX9_size_27 : decode cX9_size 27 = .ok (.iconst 1, 1) := dk_4 (dk_at dksX9_size_1 3 rfl rfl)
theorem dX9_size_28 : decode cX9_size 28 = .ok (.goto 4, 3) := dk_167 0 4 (dk_at dksX9_size_1 4 rfl rfl)
theorem dX9_size_31 : decode cX9_size 31 = .ok (.iconst 0, 1) := dk_3 (dk_at dksX9_size_1 7 rfl rfl)
theorem dX9_size_32 : decode cX9_size 32 = .ok (.iadd, 1) := dk_96 (dk_at dksX9_size_1 8 rfl rfl)
theorem dX9_size_33 : decode cX9_size 33 = .ok (.istore_n 2, 1) := dk_61 (dk_at dksX9_size_1 9 rfl rfl)
theorem dX9_size_34 : decode cX9_size 34 = .ok (.iinc 3 1, 3) := dk_132 3 1 (dk_at dksX9_size_1 10 rfl rfl)
theorem dX9_size_37 : decode cX9_size 37 = .ok (.goto (-33), 3) := dk_167 255 223 (dk_at dksX9_size_1 13 rfl rfl)
theorem dX9_size_40 : decode cX9_size 40 = .ok (.iload_n 2, 1) := dk_28 (dk_at dksX9_size_1 16 rfl rfl)
theorem dX9_size_41 : decode cX9_size 41 = .ok (.ireturn, 1) := dk_172 (dk_at dksX9_size_1 17 rfl rfl)
abbrev cX9_taken : ByteArray := prog_19_method_36_code
def yX9_taken : MethodName := ⟨RX9, "taken", "(I)I"⟩
def dkwX9_taken_1 : List UInt8 := [42, 27, 182, 0, 200, 172]
abbrev dktX9_taken_1 : List UInt8 := dkwX9_taken_1 ++ []
def dkwX9_taken_0 : List UInt8 := [42, 42, 180, 0, 174, 181, 0, 40, 42, 180, 0, 174, 158, 0, 12, 42, 16, 9, 182, 0, 197, 167, 0, 8]
abbrev dktX9_taken_0 : List UInt8 := dkwX9_taken_0 ++ dktX9_taken_1
theorem dksX9_taken_0 : cX9_taken.data.toList.drop 0 = dktX9_taken_0 := by decide +kernel
theorem dksX9_taken_1 : cX9_taken.data.toList.drop 24 = dktX9_taken_1 := dk_seg dksX9_taken_0 24 rfl rfl
theorem dX9_taken_0 : decode cX9_taken 0 = .ok (.aload_n 0, 1) := dk_42 (dk_at dksX9_taken_0 0 rfl rfl)
theorem dX9_taken_1 : decode cX9_taken 1 = .ok (.aload_n 0, 1) := dk_42 (dk_at dksX9_taken_0 1 rfl rfl)
theorem dX9_taken_2 : decode cX9_taken 2 = .ok (.getfield 174, 3) := dk_180 0 174 (dk_at dksX9_taken_0 2 rfl rfl)
theorem dX9_taken_5 : decode cX9_taken 5 = .ok (.putfield 40, 3) := dk_181 0 40 (dk_at dksX9_taken_0 5 rfl rfl)
theorem dX9_taken_8 : decode cX9_taken 8 = .ok (.aload_n 0, 1) := dk_42 (dk_at dksX9_taken_0 8 rfl rfl)
theorem dX9_taken_9 : decode cX9_taken 9 = .ok (.getfield 174, 3) := dk_180 0 174 (dk_at dksX9_taken_0 9 rfl rfl)
theorem dX9_taken_12 : decode cX9_taken 12 = .ok (.ifCond .le 12, 3) := dk_158 0 12 (dk_at dksX9_taken_0 12 rfl rfl)
theorem dX9_taken_15 : decode cX9_taken 15 = .ok (.aload_n 0, 1) := dk_42 (dk_at dksX9_taken_0 15 rfl rfl)
theorem dX9_taken_16 : decode cX9_taken 16 = .ok (.bipush 9, 2) := dk_16 9 (dk_at dksX9_taken_0 16 rfl rfl)
theorem dX9_taken_18 : decode cX9_taken 18 = .ok (.invokevirtual 197, 3) := dk_182 0 197 (dk_at dksX9_taken_0 18 rfl rfl)
theorem dX9_taken_21 : decode cX9_taken 21 = .ok (.goto 8, 3) := dk_167 0 8 (dk_at dksX9_taken_0 21 rfl rfl)
theorem dX9_taken_24 : decode cX9_taken 24 = .ok (.aload_n 0, 1) := dk_42 (dk_at dksX9_taken_1 0 rfl rfl)
theorem dX9_taken_25 : decode cX9_taken 25 = .ok (.iload_n 1, 1) := dk_27 (dk_at dksX9_taken_1 1 rfl rfl)
theorem dX9_taken_26 : decode cX9_taken 26 = .ok (.invokevirtual 200, 3) := dk_182 0 200 (dk_at dksX9_taken_1 2 rfl rfl)
theorem dX9_taken_29 : decode cX9_taken 29 = .ok (.ireturn, 1) := dk_172 (dk_at dksX9_taken_1 5 rfl rfl)
abbrev cX9_gives : ByteArray := prog_19_method_9_code
def yX9_gives : MethodName := ⟨RX9, "gives", "(I)I"⟩
def dkwX9_gives_0 : List UInt8 := [42, 3, 181, 0, 103, 27, 172]
abbrev dktX9_gives_0 : List UInt8 := dkwX9_gives_0 ++ []
theorem dksX9_gives_0 : cX9_gives.data.toList.drop 0 = dktX9_gives_0 := by decide +kernel
theorem dX9_gives_0 : decode cX9_gives 0 = .ok (.aload_n 0, 1) := dk_42 (dk_at dksX9_gives_0 0 rfl rfl)
theorem dX9_gives_1 : decode cX9_gives 1 = .ok (.iconst 0, 1) := dk_3 (dk_at dksX9_gives_0 1 rfl rfl)
theorem dX9_gives_2 : decode cX9_gives 2 = .ok (.putfield 103, 3) := dk_181 0 103 (dk_at dksX9_gives_0 2 rfl rfl)
theorem dX9_gives_5 : decode cX9_gives 5 = .ok (.iload_n 1, 1) := dk_27 (dk_at dksX9_gives_0 5 rfl rfl)
theorem dX9_gives_6 : decode cX9_gives 6 = .ok (.ireturn, 1) := dk_172 (dk_at dksX9_gives_0 6 rfl rfl)
abbrev cX9_plan : ByteArray := prog_19_method_62_code
def yX9_plan : MethodName := ⟨RX9, "plan", "(I)I"⟩
def dkwX9_plan_6 : List UInt8 := [182, 1, 44, 172]
abbrev dktX9_plan_6 : List UInt8 := dkwX9_plan_6 ++ []
def dkwX9_plan_5 : List UInt8 := [42, 180, 0, 7, 17, 6, 64, 29, 96, 46, 79, 132, 3, 1, 167, 255, 230, 42, 42, 180, 1, 57]
abbrev dktX9_plan_5 : List UInt8 := dkwX9_plan_5 ++ dktX9_plan_6
def dkwX9_plan_4 : List UInt8 := [180, 0, 7, 17, 6, 71, 46, 79, 17, 0, 148, 62, 29, 17, 1, 144, 162, 0, 25, 42, 180, 0, 7, 29]
abbrev dktX9_plan_4 : List UInt8 := dkwX9_plan_4 ++ dktX9_plan_5
def dkwX9_plan_3 : List UInt8 := [158, 0, 9, 42, 5, 182, 0, 186, 87, 42, 180, 0, 174, 154, 0, 51, 42, 180, 0, 7, 16, 7, 42]
abbrev dktX9_plan_3 : List UInt8 := dkwX9_plan_3 ++ dktX9_plan_4
def dkwX9_plan_2 : List UInt8 := [153, 0, 11, 42, 182, 1, 63, 61, 167, 255, 240, 42, 180, 0, 174, 154, 0, 16, 42, 180, 1, 54]
abbrev dktX9_plan_2 : List UInt8 := dkwX9_plan_2 ++ dktX9_plan_3
def dkwX9_plan_1 : List UInt8 := [3, 79, 42, 3, 181, 1, 54, 42, 3, 181, 1, 57, 4, 61, 28, 153, 0, 18, 42, 180, 0, 149]
abbrev dktX9_plan_1 : List UInt8 := dkwX9_plan_1 ++ dktX9_plan_2
def dkwX9_plan_0 : List UInt8 := [42, 27, 17, 1, 44, 182, 1, 36, 154, 0, 9, 42, 4, 182, 0, 197, 172, 42, 180, 0, 7, 17, 6, 71]
abbrev dktX9_plan_0 : List UInt8 := dkwX9_plan_0 ++ dktX9_plan_1
theorem dksX9_plan_0 : cX9_plan.data.toList.drop 0 = dktX9_plan_0 := by decide +kernel
theorem dksX9_plan_1 : cX9_plan.data.toList.drop 24 = dktX9_plan_1 := dk_seg dksX9_plan_0 24 rfl rfl
theorem dksX9_plan_2 : cX9_plan.data.toList.drop 46 = dktX9_plan_2 := dk_seg dksX9_plan_1 22 rfl rfl
theorem dksX9_plan_3 : cX9_plan.data.toList.drop 68 = dktX9_plan_3 := dk_seg dksX9_plan_2 22 rfl rfl
theorem dksX9_plan_4 : cX9_plan.data.toList.drop 91 = dktX9_plan_4 := dk_seg dksX9_plan_3 23 rfl rfl
theorem dksX9_plan_5 : cX9_plan.data.toList.drop 115 = dktX9_plan_5 := dk_seg dksX9_plan_4 24 rfl rfl
theorem dksX9_plan_6 : cX9_plan.data.toList.drop 137 = dktX9_plan_6 := dk_seg dksX9_plan_5 22 rfl rfl
theorem dX9_plan_0 : decode cX9_plan 0 = .ok (.aload_n 0, 1) := dk_42 (dk_at dksX9_plan_0 0 rfl rfl)
theorem dX9_plan_1 : decode cX9_plan 1 = .ok (.iload_n 1, 1) := dk_27 (dk_at dksX9_plan_0 1 rfl rfl)
theorem dX9_plan_2 : decode cX9_plan 2 = .ok (.sipush 300, 3) := dk_17 1 44 (dk_at dksX9_plan_0 2 rfl rfl)
theorem dX9_plan_5 : decode cX9_plan 5 = .ok (.invokevirtual 292, 3) := dk_182 1 36 (dk_at dksX9_plan_0 5 rfl rfl)
theorem dX9_plan_8 : decode cX9_plan 8 = .ok (.ifCond .ne 9, 3) := dk_154 0 9 (dk_at dksX9_plan_0 8 rfl rfl)
theorem dX9_plan_11 : decode cX9_plan 11 = .ok (.aload_n 0, 1) := dk_42 (dk_at dksX9_plan_0 11 rfl rfl)
theorem dX9_plan_12 : decode cX9_plan 12 = .ok (.iconst 1, 1) := dk_4 (dk_at dksX9_plan_0 12 rfl rfl)
theorem dX9_plan_13 : decode cX9_plan 13 = .ok (.invokevirtual 197, 3) := dk_182 0 197 (dk_at dksX9_plan_0 13 rfl rfl)
theorem dX9_plan_16 : decode cX9_plan 16 = .ok (.ireturn, 1) := dk_172 (dk_at dksX9_plan_0 16 rfl rfl)
theorem dX9_plan_17 : decode cX9_plan 17 = .ok (.aload_n 0, 1) := dk_42 (dk_at dksX9_plan_0 17 rfl rfl)
theorem dX9_plan_18 : decode cX9_plan 18 = .ok (.getfield 7, 3) := dk_180 0 7 (dk_at dksX9_plan_0 18 rfl rfl)
theorem dX9_plan_21 : decode cX9_plan 21 = .ok (.sipush 1607, 3) := dk_17 6 71 (dk_at dksX9_plan_0 21 rfl rfl)
theorem dX9_plan_24 : decode cX9_plan 24 = .ok (.iconst 0, 1) := dk_3 (dk_at dksX9_plan_1 0 rfl rfl)
theorem dX9_plan_25 : decode cX9_plan 25 = .ok (.iastore, 1) := dk_79 (dk_at dksX9_plan_1 1 rfl rfl)
theorem dX9_plan_26 : decode cX9_plan 26 = .ok (.aload_n 0, 1) := dk_42 (dk_at dksX9_plan_1 2 rfl rfl)
theorem dX9_plan_27 : decode cX9_plan 27 = .ok (.iconst 0, 1) := dk_3 (dk_at dksX9_plan_1 3 rfl rfl)
theorem dX9_plan_28 : decode cX9_plan 28 = .ok (.putfield 310, 3) := dk_181 1 54 (dk_at dksX9_plan_1 4 rfl rfl)
theorem dX9_plan_31 : decode cX9_plan 31 = .ok (.aload_n 0, 1) := dk_42 (dk_at dksX9_plan_1 7 rfl rfl)
theorem dX9_plan_32 : decode cX9_plan 32 = .ok (.iconst 0, 1) := dk_3 (dk_at dksX9_plan_1 8 rfl rfl)
theorem dX9_plan_33 : decode cX9_plan 33 = .ok (.putfield 313, 3) := dk_181 1 57 (dk_at dksX9_plan_1 9 rfl rfl)
theorem dX9_plan_36 : decode cX9_plan 36 = .ok (.iconst 1, 1) := dk_4 (dk_at dksX9_plan_1 12 rfl rfl)
theorem dX9_plan_37 : decode cX9_plan 37 = .ok (.istore_n 2, 1) := dk_61 (dk_at dksX9_plan_1 13 rfl rfl)
theorem dX9_plan_38 : decode cX9_plan 38 = .ok (.iload_n 2, 1) := dk_28 (dk_at dksX9_plan_1 14 rfl rfl)
theorem dX9_plan_39 : decode cX9_plan 39 = .ok (.ifCond .eq 18, 3) := dk_153 0 18 (dk_at dksX9_plan_1 15 rfl rfl)
theorem dX9_plan_42 : decode cX9_plan 42 = .ok (.aload_n 0, 1) := dk_42 (dk_at dksX9_plan_1 18 rfl rfl)
theorem dX9_plan_43 : decode cX9_plan 43 = .ok (.getfield 149, 3) := dk_180 0 149 (dk_at dksX9_plan_1 19 rfl rfl)
theorem dX9_plan_46 : decode cX9_plan 46 = .ok (.ifCond .eq 11, 3) := dk_153 0 11 (dk_at dksX9_plan_2 0 rfl rfl)
theorem dX9_plan_49 : decode cX9_plan 49 = .ok (.aload_n 0, 1) := dk_42 (dk_at dksX9_plan_2 3 rfl rfl)
theorem dX9_plan_50 : decode cX9_plan 50 = .ok (.invokevirtual 319, 3) := dk_182 1 63 (dk_at dksX9_plan_2 4 rfl rfl)
theorem dX9_plan_53 : decode cX9_plan 53 = .ok (.istore_n 2, 1) := dk_61 (dk_at dksX9_plan_2 7 rfl rfl)
theorem dX9_plan_54 : decode cX9_plan 54 = .ok (.goto (-16), 3) := dk_167 255 240 (dk_at dksX9_plan_2 8 rfl rfl)
theorem dX9_plan_57 : decode cX9_plan 57 = .ok (.aload_n 0, 1) := dk_42 (dk_at dksX9_plan_2 11 rfl rfl)
theorem dX9_plan_58 : decode cX9_plan 58 = .ok (.getfield 174, 3) := dk_180 0 174 (dk_at dksX9_plan_2 12 rfl rfl)
theorem dX9_plan_61 : decode cX9_plan 61 = .ok (.ifCond .ne 16, 3) := dk_154 0 16 (dk_at dksX9_plan_2 15 rfl rfl)
theorem dX9_plan_64 : decode cX9_plan 64 = .ok (.aload_n 0, 1) := dk_42 (dk_at dksX9_plan_2 18 rfl rfl)
theorem dX9_plan_65 : decode cX9_plan 65 = .ok (.getfield 310, 3) := dk_180 1 54 (dk_at dksX9_plan_2 19 rfl rfl)
theorem dX9_plan_68 : decode cX9_plan 68 = .ok (.ifCond .le 9, 3) := dk_158 0 9 (dk_at dksX9_plan_3 0 rfl rfl)
theorem dX9_plan_71 : decode cX9_plan 71 = .ok (.aload_n 0, 1) := dk_42 (dk_at dksX9_plan_3 3 rfl rfl)
theorem dX9_plan_72 : decode cX9_plan 72 = .ok (.iconst 2, 1) := dk_5 (dk_at dksX9_plan_3 4 rfl rfl)
theorem dX9_plan_73 : decode cX9_plan 73 = .ok (.invokevirtual 186, 3) := dk_182 0 186 (dk_at dksX9_plan_3 5 rfl rfl)
theorem dX9_plan_76 : decode cX9_plan 76 = .ok (.pop, 1) := dk_87 (dk_at dksX9_plan_3 8 rfl rfl)
theorem dX9_plan_77 : decode cX9_plan 77 = .ok (.aload_n 0, 1) := dk_42 (dk_at dksX9_plan_3 9 rfl rfl)
theorem dX9_plan_78 : decode cX9_plan 78 = .ok (.getfield 174, 3) := dk_180 0 174 (dk_at dksX9_plan_3 10 rfl rfl)
theorem dX9_plan_81 : decode cX9_plan 81 = .ok (.ifCond .ne 51, 3) := dk_154 0 51 (dk_at dksX9_plan_3 13 rfl rfl)
theorem dX9_plan_84 : decode cX9_plan 84 = .ok (.aload_n 0, 1) := dk_42 (dk_at dksX9_plan_3 16 rfl rfl)
theorem dX9_plan_85 : decode cX9_plan 85 = .ok (.getfield 7, 3) := dk_180 0 7 (dk_at dksX9_plan_3 17 rfl rfl)
theorem dX9_plan_88 : decode cX9_plan 88 = .ok (.bipush 7, 2) := dk_16 7 (dk_at dksX9_plan_3 20 rfl rfl)
theorem dX9_plan_90 : decode cX9_plan 90 = .ok (.aload_n 0, 1) := dk_42 (dk_at dksX9_plan_3 22 rfl rfl)
theorem dX9_plan_91 : decode cX9_plan 91 = .ok (.getfield 7, 3) := dk_180 0 7 (dk_at dksX9_plan_4 0 rfl rfl)
theorem dX9_plan_94 : decode cX9_plan 94 = .ok (.sipush 1607, 3) := dk_17 6 71 (dk_at dksX9_plan_4 3 rfl rfl)
theorem dX9_plan_97 : decode cX9_plan 97 = .ok (.iaload, 1) := dk_46 (dk_at dksX9_plan_4 6 rfl rfl)
theorem dX9_plan_98 : decode cX9_plan 98 = .ok (.iastore, 1) := dk_79 (dk_at dksX9_plan_4 7 rfl rfl)
theorem dX9_plan_99 : decode cX9_plan 99 = .ok (.sipush 148, 3) := dk_17 0 148 (dk_at dksX9_plan_4 8 rfl rfl)
theorem dX9_plan_102 : decode cX9_plan 102 = .ok (.istore_n 3, 1) := dk_62 (dk_at dksX9_plan_4 11 rfl rfl)
theorem dX9_plan_103 : decode cX9_plan 103 = .ok (.iload_n 3, 1) := dk_29 (dk_at dksX9_plan_4 12 rfl rfl)
theorem dX9_plan_104 : decode cX9_plan 104 = .ok (.sipush 400, 3) := dk_17 1 144 (dk_at dksX9_plan_4 13 rfl rfl)
theorem dX9_plan_107 : decode cX9_plan 107 = .ok (.if_icmp .ge 25, 3) := dk_162 0 25 (dk_at dksX9_plan_4 16 rfl rfl)
theorem dX9_plan_110 : decode cX9_plan 110 = .ok (.aload_n 0, 1) := dk_42 (dk_at dksX9_plan_4 19 rfl rfl)
theorem dX9_plan_111 : decode cX9_plan 111 = .ok (.getfield 7, 3) := dk_180 0 7 (dk_at dksX9_plan_4 20 rfl rfl)
theorem dX9_plan_114 : decode cX9_plan 114 = .ok (.iload_n 3, 1) := dk_29 (dk_at dksX9_plan_4 23 rfl rfl)
theorem dX9_plan_115 : decode cX9_plan 115 = .ok (.aload_n 0, 1) := dk_42 (dk_at dksX9_plan_5 0 rfl rfl)
theorem dX9_plan_116 : decode cX9_plan 116 = .ok (.getfield 7, 3) := dk_180 0 7 (dk_at dksX9_plan_5 1 rfl rfl)
theorem dX9_plan_119 : decode cX9_plan 119 = .ok (.sipush 1600, 3) := dk_17 6 64 (dk_at dksX9_plan_5 4 rfl rfl)
theorem dX9_plan_122 : decode cX9_plan 122 = .ok (.iload_n 3, 1) := dk_29 (dk_at dksX9_plan_5 7 rfl rfl)
theorem dX9_plan_123 : decode cX9_plan 123 = .ok (.iadd, 1) := dk_96 (dk_at dksX9_plan_5 8 rfl rfl)
theorem dX9_plan_124 : decode cX9_plan 124 = .ok (.iaload, 1) := dk_46 (dk_at dksX9_plan_5 9 rfl rfl)
theorem dX9_plan_125 : decode cX9_plan 125 = .ok (.iastore, 1) := dk_79 (dk_at dksX9_plan_5 10 rfl rfl)
theorem dX9_plan_126 : decode cX9_plan 126 = .ok (.iinc 3 1, 3) := dk_132 3 1 (dk_at dksX9_plan_5 11 rfl rfl)
theorem dX9_plan_129 : decode cX9_plan 129 = .ok (.goto (-26), 3) := dk_167 255 230 (dk_at dksX9_plan_5 14 rfl rfl)
theorem dX9_plan_132 : decode cX9_plan 132 = .ok (.aload_n 0, 1) := dk_42 (dk_at dksX9_plan_5 17 rfl rfl)
theorem dX9_plan_133 : decode cX9_plan 133 = .ok (.aload_n 0, 1) := dk_42 (dk_at dksX9_plan_5 18 rfl rfl)
theorem dX9_plan_134 : decode cX9_plan 134 = .ok (.getfield 313, 3) := dk_180 1 57 (dk_at dksX9_plan_5 19 rfl rfl)
theorem dX9_plan_137 : decode cX9_plan 137 = .ok (.invokevirtual 300, 3) := dk_182 1 44 (dk_at dksX9_plan_6 0 rfl rfl)
theorem dX9_plan_140 : decode cX9_plan 140 = .ok (.ireturn, 1) := dk_172 (dk_at dksX9_plan_6 3 rfl rfl)
abbrev cX9_step : ByteArray := prog_19_method_61_code
def yX9_step : MethodName := ⟨RX9, "step", "()Z"⟩
def dkwX9_step_13 : List UInt8 := [180, 0, 56, 42, 180, 1, 54, 46, 104, 96, 6, 96, 28, 79, 42, 16, 59, 182, 1, 33, 172]
abbrev dktX9_step_13 : List UInt8 := dkwX9_step_13 ++ []
def dkwX9_step_12 : List UInt8 := [160, 0, 36, 42, 89, 180, 1, 54, 4, 100, 181, 1, 54, 42, 180, 0, 7, 17, 6, 212, 7, 42]
abbrev dktX9_step_12 : List UInt8 := dkwX9_step_12 ++ dktX9_step_13
def dkwX9_step_11 : List UInt8 := [180, 0, 56, 42, 180, 1, 54, 28, 79, 42, 89, 180, 1, 54, 4, 96, 181, 1, 54, 27, 16, 26]
abbrev dktX9_step_11 : List UInt8 := dkwX9_step_11 ++ dktX9_step_12
def dkwX9_step_10 : List UInt8 := [16, 21, 160, 0, 13, 42, 29, 182, 1, 60, 154, 0, 5, 3, 172, 27, 16, 21, 160, 0, 23, 42]
abbrev dktX9_step_10 : List UInt8 := dkwX9_step_10 ++ dktX9_step_11
def dkwX9_step_9 : List UInt8 := [160, 0, 23, 42, 29, 5, 96, 16, 28, 42, 180, 0, 7, 6, 46, 182, 1, 51, 154, 0, 5, 3, 172, 27]
abbrev dktX9_step_9 : List UInt8 := dkwX9_step_9 ++ dktX9_step_10
def dkwX9_step_8 : List UInt8 := [180, 0, 7, 7, 46, 182, 1, 51, 154, 0, 5, 3, 172, 27, 16, 17, 159, 0, 9, 27, 16, 20]
abbrev dktX9_step_8 : List UInt8 := dkwX9_step_8 ++ dktX9_step_9
def dkwX9_step_7 : List UInt8 := [182, 0, 180, 27, 16, 17, 159, 0, 9, 27, 16, 18, 160, 0, 23, 42, 29, 4, 96, 16, 40, 42]
abbrev dktX9_step_7 : List UInt8 := dkwX9_step_7 ++ dktX9_step_8
def dkwX9_step_6 : List UInt8 := [167, 255, 237, 42, 180, 0, 7, 29, 27, 79, 42, 180, 0, 7, 17, 6, 71, 92, 46, 4, 96, 79, 42]
abbrev dktX9_step_6 : List UInt8 := dkwX9_step_6 ++ dktX9_step_7
def dkwX9_step_5 : List UInt8 := [4, 54, 4, 21, 4, 7, 162, 0, 19, 42, 180, 0, 7, 29, 21, 4, 96, 3, 79, 132, 4, 1]
abbrev dktX9_step_5 : List UInt8 := dkwX9_step_5 ++ dktX9_step_6
def dkwX9_step_4 : List UInt8 := [182, 0, 186, 172, 42, 89, 180, 1, 57, 27, 16, 26, 160, 0, 7, 3, 167, 0, 4, 4, 96, 181, 1, 57]
abbrev dktX9_step_4 : List UInt8 := dkwX9_step_4 ++ dktX9_step_5
def dkwX9_step_3 : List UInt8 := [42, 16, 6, 182, 0, 186, 172, 27, 16, 21, 160, 0, 18, 42, 180, 1, 54, 6, 160, 0, 10, 42, 16, 7]
abbrev dktX9_step_3 : List UInt8 := dkwX9_step_3 ++ dktX9_step_4
def dkwX9_step_2 : List UInt8 := [154, 0, 9, 42, 5, 182, 0, 186, 172, 27, 16, 26, 159, 0, 19, 42, 180, 1, 57, 16, 30, 160, 0, 10]
abbrev dktX9_step_2 : List UInt8 := dkwX9_step_2 ++ dktX9_step_3
def dkwX9_step_1 : List UInt8 := [27, 16, 17, 161, 0, 9, 27, 16, 21, 164, 0, 22, 27, 16, 26, 160, 0, 10, 42, 180, 1, 54]
abbrev dktX9_step_1 : List UInt8 := dkwX9_step_1 ++ dktX9_step_2
def dkwX9_step_0 : List UInt8 := [42, 18, 206, 182, 0, 189, 60, 42, 180, 0, 7, 17, 6, 71, 46, 61, 17, 6, 212, 7, 28, 104, 96, 62]
abbrev dktX9_step_0 : List UInt8 := dkwX9_step_0 ++ dktX9_step_1
theorem dksX9_step_0 : cX9_step.data.toList.drop 0 = dktX9_step_0 := by decide +kernel
theorem dksX9_step_1 : cX9_step.data.toList.drop 24 = dktX9_step_1 := dk_seg dksX9_step_0 24 rfl rfl
theorem dksX9_step_2 : cX9_step.data.toList.drop 46 = dktX9_step_2 := dk_seg dksX9_step_1 22 rfl rfl
theorem dksX9_step_3 : cX9_step.data.toList.drop 70 = dktX9_step_3 := dk_seg dksX9_step_2 24 rfl rfl
theorem dksX9_step_4 : cX9_step.data.toList.drop 94 = dktX9_step_4 := dk_seg dksX9_step_3 24 rfl rfl
theorem dksX9_step_5 : cX9_step.data.toList.drop 118 = dktX9_step_5 := dk_seg dksX9_step_4 24 rfl rfl
theorem dksX9_step_6 : cX9_step.data.toList.drop 140 = dktX9_step_6 := dk_seg dksX9_step_5 22 rfl rfl
theorem dksX9_step_7 : cX9_step.data.toList.drop 163 = dktX9_step_7 := dk_seg dksX9_step_6 23 rfl rfl
theorem dksX9_step_8 : cX9_step.data.toList.drop 185 = dktX9_step_8 := dk_seg dksX9_step_7 22 rfl rfl
theorem dksX9_step_9 : cX9_step.data.toList.drop 207 = dktX9_step_9 := dk_seg dksX9_step_8 22 rfl rfl
theorem dksX9_step_10 : cX9_step.data.toList.drop 231 = dktX9_step_10 := dk_seg dksX9_step_9 24 rfl rfl
theorem dksX9_step_11 : cX9_step.data.toList.drop 253 = dktX9_step_11 := dk_seg dksX9_step_10 22 rfl rfl
theorem dksX9_step_12 : cX9_step.data.toList.drop 275 = dktX9_step_12 := dk_seg dksX9_step_11 22 rfl rfl
theorem dksX9_step_13 : cX9_step.data.toList.drop 297 = dktX9_step_13 := dk_seg dksX9_step_12 22 rfl rfl
theorem dX9_step_0 : decode cX9_step 0 = .ok (.aload_n 0, 1) := dk_42 (dk_at dksX9_step_0 0 rfl rfl)
theorem dX9_step_1 : decode cX9_step 1 = .ok (.ldc 206, 2) := dk_18 206 (dk_at dksX9_step_0 1 rfl rfl)
theorem dX9_step_3 : decode cX9_step 3 = .ok (.invokevirtual 189, 3) := dk_182 0 189 (dk_at dksX9_step_0 3 rfl rfl)
theorem dX9_step_6 : decode cX9_step 6 = .ok (.istore_n 1, 1) := dk_60 (dk_at dksX9_step_0 6 rfl rfl)
theorem dX9_step_7 : decode cX9_step 7 = .ok (.aload_n 0, 1) := dk_42 (dk_at dksX9_step_0 7 rfl rfl)
theorem dX9_step_8 : decode cX9_step 8 = .ok (.getfield 7, 3) := dk_180 0 7 (dk_at dksX9_step_0 8 rfl rfl)
theorem dX9_step_11 : decode cX9_step 11 = .ok (.sipush 1607, 3) := dk_17 6 71 (dk_at dksX9_step_0 11 rfl rfl)
theorem dX9_step_14 : decode cX9_step 14 = .ok (.iaload, 1) := dk_46 (dk_at dksX9_step_0 14 rfl rfl)
theorem dX9_step_15 : decode cX9_step 15 = .ok (.istore_n 2, 1) := dk_61 (dk_at dksX9_step_0 15 rfl rfl)
theorem dX9_step_16 : decode cX9_step 16 = .ok (.sipush 1748, 3) := dk_17 6 212 (dk_at dksX9_step_0 16 rfl rfl)
theorem dX9_step_19 : decode cX9_step 19 = .ok (.iconst 4, 1) := dk_7 (dk_at dksX9_step_0 19 rfl rfl)
theorem dX9_step_20 : decode cX9_step 20 = .ok (.iload_n 2, 1) := dk_28 (dk_at dksX9_step_0 20 rfl rfl)
theorem dX9_step_21 : decode cX9_step 21 = .ok (.imul, 1) := dk_104 (dk_at dksX9_step_0 21 rfl rfl)
theorem dX9_step_22 : decode cX9_step 22 = .ok (.iadd, 1) := dk_96 (dk_at dksX9_step_0 22 rfl rfl)
theorem dX9_step_23 : decode cX9_step 23 = .ok (.istore_n 3, 1) := dk_62 (dk_at dksX9_step_0 23 rfl rfl)
theorem dX9_step_24 : decode cX9_step 24 = .ok (.iload_n 1, 1) := dk_27 (dk_at dksX9_step_1 0 rfl rfl)
theorem dX9_step_25 : decode cX9_step 25 = .ok (.bipush 17, 2) := dk_16 17 (dk_at dksX9_step_1 1 rfl rfl)
theorem dX9_step_27 : decode cX9_step 27 = .ok (.if_icmp .lt 9, 3) := dk_161 0 9 (dk_at dksX9_step_1 3 rfl rfl)
theorem dX9_step_30 : decode cX9_step 30 = .ok (.iload_n 1, 1) := dk_27 (dk_at dksX9_step_1 6 rfl rfl)
theorem dX9_step_31 : decode cX9_step 31 = .ok (.bipush 21, 2) := dk_16 21 (dk_at dksX9_step_1 7 rfl rfl)
theorem dX9_step_33 : decode cX9_step 33 = .ok (.if_icmp .le 22, 3) := dk_164 0 22 (dk_at dksX9_step_1 9 rfl rfl)
theorem dX9_step_36 : decode cX9_step 36 = .ok (.iload_n 1, 1) := dk_27 (dk_at dksX9_step_1 12 rfl rfl)
theorem dX9_step_37 : decode cX9_step 37 = .ok (.bipush 26, 2) := dk_16 26 (dk_at dksX9_step_1 13 rfl rfl)
theorem dX9_step_39 : decode cX9_step 39 = .ok (.if_icmp .ne 10, 3) := dk_160 0 10 (dk_at dksX9_step_1 15 rfl rfl)
theorem dX9_step_42 : decode cX9_step 42 = .ok (.aload_n 0, 1) := dk_42 (dk_at dksX9_step_1 18 rfl rfl)
theorem dX9_step_43 : decode cX9_step 43 = .ok (.getfield 310, 3) := dk_180 1 54 (dk_at dksX9_step_1 19 rfl rfl)
theorem dX9_step_46 : decode cX9_step 46 = .ok (.ifCond .ne 9, 3) := dk_154 0 9 (dk_at dksX9_step_2 0 rfl rfl)
theorem dX9_step_49 : decode cX9_step 49 = .ok (.aload_n 0, 1) := dk_42 (dk_at dksX9_step_2 3 rfl rfl)
theorem dX9_step_50 : decode cX9_step 50 = .ok (.iconst 2, 1) := dk_5 (dk_at dksX9_step_2 4 rfl rfl)
theorem dX9_step_51 : decode cX9_step 51 = .ok (.invokevirtual 186, 3) := dk_182 0 186 (dk_at dksX9_step_2 5 rfl rfl)
theorem dX9_step_54 : decode cX9_step 54 = .ok (.ireturn, 1) := dk_172 (dk_at dksX9_step_2 8 rfl rfl)
theorem dX9_step_55 : decode cX9_step 55 = .ok (.iload_n 1, 1) := dk_27 (dk_at dksX9_step_2 9 rfl rfl)
theorem dX9_step_56 : decode cX9_step 56 = .ok (.bipush 26, 2) := dk_16 26 (dk_at dksX9_step_2 10 rfl rfl)
theorem dX9_step_58 : decode cX9_step 58 = .ok (.if_icmp .eq 19, 3) := dk_159 0 19 (dk_at dksX9_step_2 12 rfl rfl)
theorem dX9_step_61 : decode cX9_step 61 = .ok (.aload_n 0, 1) := dk_42 (dk_at dksX9_step_2 15 rfl rfl)
theorem dX9_step_62 : decode cX9_step 62 = .ok (.getfield 313, 3) := dk_180 1 57 (dk_at dksX9_step_2 16 rfl rfl)
theorem dX9_step_65 : decode cX9_step 65 = .ok (.bipush 30, 2) := dk_16 30 (dk_at dksX9_step_2 19 rfl rfl)
theorem dX9_step_67 : decode cX9_step 67 = .ok (.if_icmp .ne 10, 3) := dk_160 0 10 (dk_at dksX9_step_2 21 rfl rfl)
theorem dX9_step_70 : decode cX9_step 70 = .ok (.aload_n 0, 1) := dk_42 (dk_at dksX9_step_3 0 rfl rfl)
theorem dX9_step_71 : decode cX9_step 71 = .ok (.bipush 6, 2) := dk_16 6 (dk_at dksX9_step_3 1 rfl rfl)
theorem dX9_step_73 : decode cX9_step 73 = .ok (.invokevirtual 186, 3) := dk_182 0 186 (dk_at dksX9_step_3 3 rfl rfl)
theorem dX9_step_76 : decode cX9_step 76 = .ok (.ireturn, 1) := dk_172 (dk_at dksX9_step_3 6 rfl rfl)
theorem dX9_step_77 : decode cX9_step 77 = .ok (.iload_n 1, 1) := dk_27 (dk_at dksX9_step_3 7 rfl rfl)
theorem dX9_step_78 : decode cX9_step 78 = .ok (.bipush 21, 2) := dk_16 21 (dk_at dksX9_step_3 8 rfl rfl)
theorem dX9_step_80 : decode cX9_step 80 = .ok (.if_icmp .ne 18, 3) := dk_160 0 18 (dk_at dksX9_step_3 10 rfl rfl)
theorem dX9_step_83 : decode cX9_step 83 = .ok (.aload_n 0, 1) := dk_42 (dk_at dksX9_step_3 13 rfl rfl)
theorem dX9_step_84 : decode cX9_step 84 = .ok (.getfield 310, 3) := dk_180 1 54 (dk_at dksX9_step_3 14 rfl rfl)
theorem dX9_step_87 : decode cX9_step 87 = .ok (.iconst 3, 1) := dk_6 (dk_at dksX9_step_3 17 rfl rfl)
theorem dX9_step_88 : decode cX9_step 88 = .ok (.if_icmp .ne 10, 3) := dk_160 0 10 (dk_at dksX9_step_3 18 rfl rfl)
theorem dX9_step_91 : decode cX9_step 91 = .ok (.aload_n 0, 1) := dk_42 (dk_at dksX9_step_3 21 rfl rfl)
theorem dX9_step_92 : decode cX9_step 92 = .ok (.bipush 7, 2) := dk_16 7 (dk_at dksX9_step_3 22 rfl rfl)
theorem dX9_step_94 : decode cX9_step 94 = .ok (.invokevirtual 186, 3) := dk_182 0 186 (dk_at dksX9_step_4 0 rfl rfl)
theorem dX9_step_97 : decode cX9_step 97 = .ok (.ireturn, 1) := dk_172 (dk_at dksX9_step_4 3 rfl rfl)
theorem dX9_step_98 : decode cX9_step 98 = .ok (.aload_n 0, 1) := dk_42 (dk_at dksX9_step_4 4 rfl rfl)
theorem dX9_step_99 : decode cX9_step 99 = .ok (.dup, 1) := dk_89 (dk_at dksX9_step_4 5 rfl rfl)
theorem dX9_step_100 : decode cX9_step 100 = .ok (.getfield 313, 3) := dk_180 1 57 (dk_at dksX9_step_4 6 rfl rfl)
theorem dX9_step_103 : decode cX9_step 103 = .ok (.iload_n 1, 1) := dk_27 (dk_at dksX9_step_4 9 rfl rfl)
theorem dX9_step_104 : decode cX9_step 104 = .ok (.bipush 26, 2) := dk_16 26 (dk_at dksX9_step_4 10 rfl rfl)
theorem dX9_step_106 : decode cX9_step 106 = .ok (.if_icmp .ne 7, 3) := dk_160 0 7 (dk_at dksX9_step_4 12 rfl rfl)
theorem dX9_step_109 : decode cX9_step 109 = .ok (.iconst 0, 1) := dk_3 (dk_at dksX9_step_4 15 rfl rfl)
theorem dX9_step_110 : decode cX9_step 110 = .ok (.goto 4, 3) := dk_167 0 4 (dk_at dksX9_step_4 16 rfl rfl)
theorem dX9_step_113 : decode cX9_step 113 = .ok (.iconst 1, 1) := dk_4 (dk_at dksX9_step_4 19 rfl rfl)
theorem dX9_step_114 : decode cX9_step 114 = .ok (.iadd, 1) := dk_96 (dk_at dksX9_step_4 20 rfl rfl)
theorem dX9_step_115 : decode cX9_step 115 = .ok (.putfield 313, 3) := dk_181 1 57 (dk_at dksX9_step_4 21 rfl rfl)
theorem dX9_step_118 : decode cX9_step 118 = .ok (.iconst 1, 1) := dk_4 (dk_at dksX9_step_5 0 rfl rfl)
theorem dX9_step_119 : decode cX9_step 119 = .ok (.istore 4, 2) := dk_54 4 (dk_at dksX9_step_5 1 rfl rfl)
theorem dX9_step_121 : decode cX9_step 121 = .ok (.iload 4, 2) := dk_21 4 (dk_at dksX9_step_5 3 rfl rfl)
theorem dX9_step_123 : decode cX9_step 123 = .ok (.iconst 4, 1) := dk_7 (dk_at dksX9_step_5 5 rfl rfl)
theorem dX9_step_124 : decode cX9_step 124 = .ok (.if_icmp .ge 19, 3) := dk_162 0 19 (dk_at dksX9_step_5 6 rfl rfl)
theorem dX9_step_127 : decode cX9_step 127 = .ok (.aload_n 0, 1) := dk_42 (dk_at dksX9_step_5 9 rfl rfl)
theorem dX9_step_128 : decode cX9_step 128 = .ok (.getfield 7, 3) := dk_180 0 7 (dk_at dksX9_step_5 10 rfl rfl)
theorem dX9_step_131 : decode cX9_step 131 = .ok (.iload_n 3, 1) := dk_29 (dk_at dksX9_step_5 13 rfl rfl)
theorem dX9_step_132 : decode cX9_step 132 = .ok (.iload 4, 2) := dk_21 4 (dk_at dksX9_step_5 14 rfl rfl)
theorem dX9_step_134 : decode cX9_step 134 = .ok (.iadd, 1) := dk_96 (dk_at dksX9_step_5 16 rfl rfl)
theorem dX9_step_135 : decode cX9_step 135 = .ok (.iconst 0, 1) := dk_3 (dk_at dksX9_step_5 17 rfl rfl)
theorem dX9_step_136 : decode cX9_step 136 = .ok (.iastore, 1) := dk_79 (dk_at dksX9_step_5 18 rfl rfl)
theorem dX9_step_137 : decode cX9_step 137 = .ok (.iinc 4 1, 3) := dk_132 4 1 (dk_at dksX9_step_5 19 rfl rfl)
theorem dX9_step_140 : decode cX9_step 140 = .ok (.goto (-19), 3) := dk_167 255 237 (dk_at dksX9_step_6 0 rfl rfl)
theorem dX9_step_143 : decode cX9_step 143 = .ok (.aload_n 0, 1) := dk_42 (dk_at dksX9_step_6 3 rfl rfl)
theorem dX9_step_144 : decode cX9_step 144 = .ok (.getfield 7, 3) := dk_180 0 7 (dk_at dksX9_step_6 4 rfl rfl)
theorem dX9_step_147 : decode cX9_step 147 = .ok (.iload_n 3, 1) := dk_29 (dk_at dksX9_step_6 7 rfl rfl)
theorem dX9_step_148 : decode cX9_step 148 = .ok (.iload_n 1, 1) := dk_27 (dk_at dksX9_step_6 8 rfl rfl)
theorem dX9_step_149 : decode cX9_step 149 = .ok (.iastore, 1) := dk_79 (dk_at dksX9_step_6 9 rfl rfl)
theorem dX9_step_150 : decode cX9_step 150 = .ok (.aload_n 0, 1) := dk_42 (dk_at dksX9_step_6 10 rfl rfl)
theorem dX9_step_151 : decode cX9_step 151 = .ok (.getfield 7, 3) := dk_180 0 7 (dk_at dksX9_step_6 11 rfl rfl)
theorem dX9_step_154 : decode cX9_step 154 = .ok (.sipush 1607, 3) := dk_17 6 71 (dk_at dksX9_step_6 14 rfl rfl)
theorem dX9_step_157 : decode cX9_step 157 = .ok (.dup2, 1) := dk_92 (dk_at dksX9_step_6 17 rfl rfl)
theorem dX9_step_158 : decode cX9_step 158 = .ok (.iaload, 1) := dk_46 (dk_at dksX9_step_6 18 rfl rfl)
theorem dX9_step_159 : decode cX9_step 159 = .ok (.iconst 1, 1) := dk_4 (dk_at dksX9_step_6 19 rfl rfl)
theorem dX9_step_160 : decode cX9_step 160 = .ok (.iadd, 1) := dk_96 (dk_at dksX9_step_6 20 rfl rfl)
theorem dX9_step_161 : decode cX9_step 161 = .ok (.iastore, 1) := dk_79 (dk_at dksX9_step_6 21 rfl rfl)
theorem dX9_step_162 : decode cX9_step 162 = .ok (.aload_n 0, 1) := dk_42 (dk_at dksX9_step_6 22 rfl rfl)
theorem dX9_step_163 : decode cX9_step 163 = .ok (.invokevirtual 180, 3) := dk_182 0 180 (dk_at dksX9_step_7 0 rfl rfl)
theorem dX9_step_166 : decode cX9_step 166 = .ok (.iload_n 1, 1) := dk_27 (dk_at dksX9_step_7 3 rfl rfl)
theorem dX9_step_167 : decode cX9_step 167 = .ok (.bipush 17, 2) := dk_16 17 (dk_at dksX9_step_7 4 rfl rfl)
theorem dX9_step_169 : decode cX9_step 169 = .ok (.if_icmp .eq 9, 3) := dk_159 0 9 (dk_at dksX9_step_7 6 rfl rfl)
theorem dX9_step_172 : decode cX9_step 172 = .ok (.iload_n 1, 1) := dk_27 (dk_at dksX9_step_7 9 rfl rfl)
theorem dX9_step_173 : decode cX9_step 173 = .ok (.bipush 18, 2) := dk_16 18 (dk_at dksX9_step_7 10 rfl rfl)
theorem dX9_step_175 : decode cX9_step 175 = .ok (.if_icmp .ne 23, 3) := dk_160 0 23 (dk_at dksX9_step_7 12 rfl rfl)
theorem dX9_step_178 : decode cX9_step 178 = .ok (.aload_n 0, 1) := dk_42 (dk_at dksX9_step_7 15 rfl rfl)
theorem dX9_step_179 : decode cX9_step 179 = .ok (.iload_n 3, 1) := dk_29 (dk_at dksX9_step_7 16 rfl rfl)
theorem dX9_step_180 : decode cX9_step 180 = .ok (.iconst 1, 1) := dk_4 (dk_at dksX9_step_7 17 rfl rfl)
theorem dX9_step_181 : decode cX9_step 181 = .ok (.iadd, 1) := dk_96 (dk_at dksX9_step_7 18 rfl rfl)
theorem dX9_step_182 : decode cX9_step 182 = .ok (.bipush 40, 2) := dk_16 40 (dk_at dksX9_step_7 19 rfl rfl)
theorem dX9_step_184 : decode cX9_step 184 = .ok (.aload_n 0, 1) := dk_42 (dk_at dksX9_step_7 21 rfl rfl)
theorem dX9_step_185 : decode cX9_step 185 = .ok (.getfield 7, 3) := dk_180 0 7 (dk_at dksX9_step_8 0 rfl rfl)
theorem dX9_step_188 : decode cX9_step 188 = .ok (.iconst 4, 1) := dk_7 (dk_at dksX9_step_8 3 rfl rfl)
theorem dX9_step_189 : decode cX9_step 189 = .ok (.iaload, 1) := dk_46 (dk_at dksX9_step_8 4 rfl rfl)
theorem dX9_step_190 : decode cX9_step 190 = .ok (.invokevirtual 307, 3) := dk_182 1 51 (dk_at dksX9_step_8 5 rfl rfl)
theorem dX9_step_193 : decode cX9_step 193 = .ok (.ifCond .ne 5, 3) := dk_154 0 5 (dk_at dksX9_step_8 8 rfl rfl)
theorem dX9_step_196 : decode cX9_step 196 = .ok (.iconst 0, 1) := dk_3 (dk_at dksX9_step_8 11 rfl rfl)
theorem dX9_step_197 : decode cX9_step 197 = .ok (.ireturn, 1) := dk_172 (dk_at dksX9_step_8 12 rfl rfl)
theorem dX9_step_198 : decode cX9_step 198 = .ok (.iload_n 1, 1) := dk_27 (dk_at dksX9_step_8 13 rfl rfl)
theorem dX9_step_199 : decode cX9_step 199 = .ok (.bipush 17, 2) := dk_16 17 (dk_at dksX9_step_8 14 rfl rfl)
theorem dX9_step_201 : decode cX9_step 201 = .ok (.if_icmp .eq 9, 3) := dk_159 0 9 (dk_at dksX9_step_8 16 rfl rfl)
theorem dX9_step_204 : decode cX9_step 204 = .ok (.iload_n 1, 1) := dk_27 (dk_at dksX9_step_8 19 rfl rfl)
theorem dX9_step_205 : decode cX9_step 205 = .ok (.bipush 20, 2) := dk_16 20 (dk_at dksX9_step_8 20 rfl rfl)
theorem dX9_step_207 : decode cX9_step 207 = .ok (.if_icmp .ne 23, 3) := dk_160 0 23 (dk_at dksX9_step_9 0 rfl rfl)
theorem dX9_step_210 : decode cX9_step 210 = .ok (.aload_n 0, 1) := dk_42 (dk_at dksX9_step_9 3 rfl rfl)
theorem dX9_step_211 : decode cX9_step 211 = .ok (.iload_n 3, 1) := dk_29 (dk_at dksX9_step_9 4 rfl rfl)
theorem dX9_step_212 : decode cX9_step 212 = .ok (.iconst 2, 1) := dk_5 (dk_at dksX9_step_9 5 rfl rfl)
theorem dX9_step_213 : decode cX9_step 213 = .ok (.iadd, 1) := dk_96 (dk_at dksX9_step_9 6 rfl rfl)
theorem dX9_step_214 : decode cX9_step 214 = .ok (.bipush 28, 2) := dk_16 28 (dk_at dksX9_step_9 7 rfl rfl)
theorem dX9_step_216 : decode cX9_step 216 = .ok (.aload_n 0, 1) := dk_42 (dk_at dksX9_step_9 9 rfl rfl)
theorem dX9_step_217 : decode cX9_step 217 = .ok (.getfield 7, 3) := dk_180 0 7 (dk_at dksX9_step_9 10 rfl rfl)
theorem dX9_step_220 : decode cX9_step 220 = .ok (.iconst 3, 1) := dk_6 (dk_at dksX9_step_9 13 rfl rfl)
theorem dX9_step_221 : decode cX9_step 221 = .ok (.iaload, 1) := dk_46 (dk_at dksX9_step_9 14 rfl rfl)
theorem dX9_step_222 : decode cX9_step 222 = .ok (.invokevirtual 307, 3) := dk_182 1 51 (dk_at dksX9_step_9 15 rfl rfl)
theorem dX9_step_225 : decode cX9_step 225 = .ok (.ifCond .ne 5, 3) := dk_154 0 5 (dk_at dksX9_step_9 18 rfl rfl)
theorem dX9_step_228 : decode cX9_step 228 = .ok (.iconst 0, 1) := dk_3 (dk_at dksX9_step_9 21 rfl rfl)
theorem dX9_step_229 : decode cX9_step 229 = .ok (.ireturn, 1) := dk_172 (dk_at dksX9_step_9 22 rfl rfl)
theorem dX9_step_230 : decode cX9_step 230 = .ok (.iload_n 1, 1) := dk_27 (dk_at dksX9_step_9 23 rfl rfl)
theorem dX9_step_231 : decode cX9_step 231 = .ok (.bipush 21, 2) := dk_16 21 (dk_at dksX9_step_10 0 rfl rfl)
theorem dX9_step_233 : decode cX9_step 233 = .ok (.if_icmp .ne 13, 3) := dk_160 0 13 (dk_at dksX9_step_10 2 rfl rfl)
theorem dX9_step_236 : decode cX9_step 236 = .ok (.aload_n 0, 1) := dk_42 (dk_at dksX9_step_10 5 rfl rfl)
theorem dX9_step_237 : decode cX9_step 237 = .ok (.iload_n 3, 1) := dk_29 (dk_at dksX9_step_10 6 rfl rfl)
theorem dX9_step_238 : decode cX9_step 238 = .ok (.invokevirtual 316, 3) := dk_182 1 60 (dk_at dksX9_step_10 7 rfl rfl)
theorem dX9_step_241 : decode cX9_step 241 = .ok (.ifCond .ne 5, 3) := dk_154 0 5 (dk_at dksX9_step_10 10 rfl rfl)
theorem dX9_step_244 : decode cX9_step 244 = .ok (.iconst 0, 1) := dk_3 (dk_at dksX9_step_10 13 rfl rfl)
theorem dX9_step_245 : decode cX9_step 245 = .ok (.ireturn, 1) := dk_172 (dk_at dksX9_step_10 14 rfl rfl)
theorem dX9_step_246 : decode cX9_step 246 = .ok (.iload_n 1, 1) := dk_27 (dk_at dksX9_step_10 15 rfl rfl)
theorem dX9_step_247 : decode cX9_step 247 = .ok (.bipush 21, 2) := dk_16 21 (dk_at dksX9_step_10 16 rfl rfl)
theorem dX9_step_249 : decode cX9_step 249 = .ok (.if_icmp .ne 23, 3) := dk_160 0 23 (dk_at dksX9_step_10 18 rfl rfl)
theorem dX9_step_252 : decode cX9_step 252 = .ok (.aload_n 0, 1) := dk_42 (dk_at dksX9_step_10 21 rfl rfl)
theorem dX9_step_253 : decode cX9_step 253 = .ok (.getfield 56, 3) := dk_180 0 56 (dk_at dksX9_step_11 0 rfl rfl)
theorem dX9_step_256 : decode cX9_step 256 = .ok (.aload_n 0, 1) := dk_42 (dk_at dksX9_step_11 3 rfl rfl)
theorem dX9_step_257 : decode cX9_step 257 = .ok (.getfield 310, 3) := dk_180 1 54 (dk_at dksX9_step_11 4 rfl rfl)
theorem dX9_step_260 : decode cX9_step 260 = .ok (.iload_n 2, 1) := dk_28 (dk_at dksX9_step_11 7 rfl rfl)
theorem dX9_step_261 : decode cX9_step 261 = .ok (.iastore, 1) := dk_79 (dk_at dksX9_step_11 8 rfl rfl)
theorem dX9_step_262 : decode cX9_step 262 = .ok (.aload_n 0, 1) := dk_42 (dk_at dksX9_step_11 9 rfl rfl)
theorem dX9_step_263 : decode cX9_step 263 = .ok (.dup, 1) := dk_89 (dk_at dksX9_step_11 10 rfl rfl)
theorem dX9_step_264 : decode cX9_step 264 = .ok (.getfield 310, 3) := dk_180 1 54 (dk_at dksX9_step_11 11 rfl rfl)
theorem dX9_step_267 : decode cX9_step 267 = .ok (.iconst 1, 1) := dk_4 (dk_at dksX9_step_11 14 rfl rfl)
theorem dX9_step_268 : decode cX9_step 268 = .ok (.iadd, 1) := dk_96 (dk_at dksX9_step_11 15 rfl rfl)
theorem dX9_step_269 : decode cX9_step 269 = .ok (.putfield 310, 3) := dk_181 1 54 (dk_at dksX9_step_11 16 rfl rfl)
theorem dX9_step_272 : decode cX9_step 272 = .ok (.iload_n 1, 1) := dk_27 (dk_at dksX9_step_11 19 rfl rfl)
theorem dX9_step_273 : decode cX9_step 273 = .ok (.bipush 26, 2) := dk_16 26 (dk_at dksX9_step_11 20 rfl rfl)
theorem dX9_step_275 : decode cX9_step 275 = .ok (.if_icmp .ne 36, 3) := dk_160 0 36 (dk_at dksX9_step_12 0 rfl rfl)
theorem dX9_step_278 : decode cX9_step 278 = .ok (.aload_n 0, 1) := dk_42 (dk_at dksX9_step_12 3 rfl rfl)
theorem dX9_step_279 : decode cX9_step 279 = .ok (.dup, 1) := dk_89 (dk_at dksX9_step_12 4 rfl rfl)
theorem dX9_step_280 : decode cX9_step 280 = .ok (.getfield 310, 3) := dk_180 1 54 (dk_at dksX9_step_12 5 rfl rfl)
theorem dX9_step_283 : decode cX9_step 283 = .ok (.iconst 1, 1) := dk_4 (dk_at dksX9_step_12 8 rfl rfl)
theorem dX9_step_284 : decode cX9_step 284 = .ok (.isub, 1) := dk_100 (dk_at dksX9_step_12 9 rfl rfl)
theorem dX9_step_285 : decode cX9_step 285 = .ok (.putfield 310, 3) := dk_181 1 54 (dk_at dksX9_step_12 10 rfl rfl)
theorem dX9_step_288 : decode cX9_step 288 = .ok (.aload_n 0, 1) := dk_42 (dk_at dksX9_step_12 13 rfl rfl)
theorem dX9_step_289 : decode cX9_step 289 = .ok (.getfield 7, 3) := dk_180 0 7 (dk_at dksX9_step_12 14 rfl rfl)
theorem dX9_step_292 : decode cX9_step 292 = .ok (.sipush 1748, 3) := dk_17 6 212 (dk_at dksX9_step_12 17 rfl rfl)
theorem dX9_step_295 : decode cX9_step 295 = .ok (.iconst 4, 1) := dk_7 (dk_at dksX9_step_12 20 rfl rfl)
theorem dX9_step_296 : decode cX9_step 296 = .ok (.aload_n 0, 1) := dk_42 (dk_at dksX9_step_12 21 rfl rfl)
theorem dX9_step_297 : decode cX9_step 297 = .ok (.getfield 56, 3) := dk_180 0 56 (dk_at dksX9_step_13 0 rfl rfl)
theorem dX9_step_300 : decode cX9_step 300 = .ok (.aload_n 0, 1) := dk_42 (dk_at dksX9_step_13 3 rfl rfl)
theorem dX9_step_301 : decode cX9_step 301 = .ok (.getfield 310, 3) := dk_180 1 54 (dk_at dksX9_step_13 4 rfl rfl)
theorem dX9_step_304 : decode cX9_step 304 = .ok (.iaload, 1) := dk_46 (dk_at dksX9_step_13 7 rfl rfl)
theorem dX9_step_305 : decode cX9_step 305 = .ok (.imul, 1) := dk_104 (dk_at dksX9_step_13 8 rfl rfl)
theorem dX9_step_306 : decode cX9_step 306 = .ok (.iadd, 1) := dk_96 (dk_at dksX9_step_13 9 rfl rfl)
theorem dX9_step_307 : decode cX9_step 307 = .ok (.iconst 3, 1) := dk_6 (dk_at dksX9_step_13 10 rfl rfl)
theorem dX9_step_308 : decode cX9_step 308 = .ok (.iadd, 1) := dk_96 (dk_at dksX9_step_13 11 rfl rfl)
theorem dX9_step_309 : decode cX9_step 309 = .ok (.iload_n 2, 1) := dk_28 (dk_at dksX9_step_13 12 rfl rfl)
theorem dX9_step_310 : decode cX9_step 310 = .ok (.iastore, 1) := dk_79 (dk_at dksX9_step_13 13 rfl rfl)
theorem dX9_step_311 : decode cX9_step 311 = .ok (.aload_n 0, 1) := dk_42 (dk_at dksX9_step_13 14 rfl rfl)
theorem dX9_step_312 : decode cX9_step 312 = .ok (.bipush 59, 2) := dk_16 59 (dk_at dksX9_step_13 15 rfl rfl)
theorem dX9_step_314 : decode cX9_step 314 = .ok (.invokevirtual 289, 3) := dk_182 1 33 (dk_at dksX9_step_13 17 rfl rfl)
theorem dX9_step_317 : decode cX9_step 317 = .ok (.ireturn, 1) := dk_172 (dk_at dksX9_step_13 20 rfl rfl)
abbrev cX9_name : ByteArray := prog_19_method_59_code
def yX9_name : MethodName := ⟨RX9, "name", "(III)Z"⟩
def dkwX9_name_1 : List UInt8 := [182, 0, 180, 4, 172]
abbrev dktX9_name_1 : List UInt8 := dkwX9_name_1 ++ []
def dkwX9_name_0 : List UInt8 := [42, 3, 28, 29, 182, 0, 231, 154, 0, 5, 3, 172, 42, 180, 0, 7, 27, 42, 180, 0, 216, 79, 42]
abbrev dktX9_name_0 : List UInt8 := dkwX9_name_0 ++ dktX9_name_1
theorem dksX9_name_0 : cX9_name.data.toList.drop 0 = dktX9_name_0 := by decide +kernel
theorem dksX9_name_1 : cX9_name.data.toList.drop 23 = dktX9_name_1 := dk_seg dksX9_name_0 23 rfl rfl
theorem dX9_name_0 : decode cX9_name 0 = .ok (.aload_n 0, 1) := dk_42 (dk_at dksX9_name_0 0 rfl rfl)
theorem dX9_name_1 : decode cX9_name 1 = .ok (.iconst 0, 1) := dk_3 (dk_at dksX9_name_0 1 rfl rfl)
theorem dX9_name_2 : decode cX9_name 2 = .ok (.iload_n 2, 1) := dk_28 (dk_at dksX9_name_0 2 rfl rfl)
theorem dX9_name_3 : decode cX9_name 3 = .ok (.iload_n 3, 1) := dk_29 (dk_at dksX9_name_0 3 rfl rfl)
theorem dX9_name_4 : decode cX9_name 4 = .ok (.invokevirtual 231, 3) := dk_182 0 231 (dk_at dksX9_name_0 4 rfl rfl)
theorem dX9_name_7 : decode cX9_name 7 = .ok (.ifCond .ne 5, 3) := dk_154 0 5 (dk_at dksX9_name_0 7 rfl rfl)
theorem dX9_name_10 : decode cX9_name 10 = .ok (.iconst 0, 1) := dk_3 (dk_at dksX9_name_0 10 rfl rfl)
theorem dX9_name_11 : decode cX9_name 11 = .ok (.ireturn, 1) := dk_172 (dk_at dksX9_name_0 11 rfl rfl)
theorem dX9_name_12 : decode cX9_name 12 = .ok (.aload_n 0, 1) := dk_42 (dk_at dksX9_name_0 12 rfl rfl)
theorem dX9_name_13 : decode cX9_name 13 = .ok (.getfield 7, 3) := dk_180 0 7 (dk_at dksX9_name_0 13 rfl rfl)
theorem dX9_name_16 : decode cX9_name 16 = .ok (.iload_n 1, 1) := dk_27 (dk_at dksX9_name_0 16 rfl rfl)
theorem dX9_name_17 : decode cX9_name 17 = .ok (.aload_n 0, 1) := dk_42 (dk_at dksX9_name_0 17 rfl rfl)
theorem dX9_name_18 : decode cX9_name 18 = .ok (.getfield 216, 3) := dk_180 0 216 (dk_at dksX9_name_0 18 rfl rfl)
theorem dX9_name_21 : decode cX9_name 21 = .ok (.iastore, 1) := dk_79 (dk_at dksX9_name_0 21 rfl rfl)
theorem dX9_name_22 : decode cX9_name 22 = .ok (.aload_n 0, 1) := dk_42 (dk_at dksX9_name_0 22 rfl rfl)
theorem dX9_name_23 : decode cX9_name 23 = .ok (.invokevirtual 180, 3) := dk_182 0 180 (dk_at dksX9_name_1 0 rfl rfl)
theorem dX9_name_26 : decode cX9_name 26 = .ok (.iconst 1, 1) := dk_4 (dk_at dksX9_name_1 3 rfl rfl)
theorem dX9_name_27 : decode cX9_name 27 = .ok (.ireturn, 1) := dk_172 (dk_at dksX9_name_1 4 rfl rfl)
abbrev cX9_aTest : ByteArray := prog_19_method_60_code
def yX9_aTest : MethodName := ⟨RX9, "aTest", "(I)Z"⟩
def dkwX9_aTest_3 : List UInt8 := [182, 1, 51, 172]
abbrev dktX9_aTest_3 : List UInt8 := dkwX9_aTest_3 ++ []
def dkwX9_aTest_2 : List UInt8 := [4, 96, 3, 17, 1, 0, 182, 0, 227, 167, 0, 18, 42, 27, 4, 96, 16, 28, 42, 180, 0, 7, 6, 46]
abbrev dktX9_aTest_2 : List UInt8 := dkwX9_aTest_2 ++ dktX9_aTest_3
def dkwX9_aTest_1 : List UInt8 := [172, 42, 180, 0, 7, 27, 17, 8, 52, 28, 96, 79, 42, 182, 0, 180, 28, 16, 25, 160, 0, 17, 42, 27]
abbrev dktX9_aTest_1 : List UInt8 := dkwX9_aTest_1 ++ dktX9_aTest_2
def dkwX9_aTest_0 : List UInt8 := [42, 18, 206, 182, 0, 189, 61, 28, 16, 22, 161, 0, 9, 28, 16, 25, 164, 0, 9, 42, 5, 182, 0, 186]
abbrev dktX9_aTest_0 : List UInt8 := dkwX9_aTest_0 ++ dktX9_aTest_1
theorem dksX9_aTest_0 : cX9_aTest.data.toList.drop 0 = dktX9_aTest_0 := by decide +kernel
theorem dksX9_aTest_1 : cX9_aTest.data.toList.drop 24 = dktX9_aTest_1 := dk_seg dksX9_aTest_0 24 rfl rfl
theorem dksX9_aTest_2 : cX9_aTest.data.toList.drop 48 = dktX9_aTest_2 := dk_seg dksX9_aTest_1 24 rfl rfl
theorem dksX9_aTest_3 : cX9_aTest.data.toList.drop 72 = dktX9_aTest_3 := dk_seg dksX9_aTest_2 24 rfl rfl
theorem dX9_aTest_0 : decode cX9_aTest 0 = .ok (.aload_n 0, 1) := dk_42 (dk_at dksX9_aTest_0 0 rfl rfl)
theorem dX9_aTest_1 : decode cX9_aTest 1 = .ok (.ldc 206, 2) := dk_18 206 (dk_at dksX9_aTest_0 1 rfl rfl)
theorem dX9_aTest_3 : decode cX9_aTest 3 = .ok (.invokevirtual 189, 3) := dk_182 0 189 (dk_at dksX9_aTest_0 3 rfl rfl)
theorem dX9_aTest_6 : decode cX9_aTest 6 = .ok (.istore_n 2, 1) := dk_61 (dk_at dksX9_aTest_0 6 rfl rfl)
theorem dX9_aTest_7 : decode cX9_aTest 7 = .ok (.iload_n 2, 1) := dk_28 (dk_at dksX9_aTest_0 7 rfl rfl)
theorem dX9_aTest_8 : decode cX9_aTest 8 = .ok (.bipush 22, 2) := dk_16 22 (dk_at dksX9_aTest_0 8 rfl rfl)
theorem dX9_aTest_10 : decode cX9_aTest 10 = .ok (.if_icmp .lt 9, 3) := dk_161 0 9 (dk_at dksX9_aTest_0 10 rfl rfl)
theorem dX9_aTest_13 : decode cX9_aTest 13 = .ok (.iload_n 2, 1) := dk_28 (dk_at dksX9_aTest_0 13 rfl rfl)
theorem dX9_aTest_14 : decode cX9_aTest 14 = .ok (.bipush 25, 2) := dk_16 25 (dk_at dksX9_aTest_0 14 rfl rfl)
theorem dX9_aTest_16 : decode cX9_aTest 16 = .ok (.if_icmp .le 9, 3) := dk_164 0 9 (dk_at dksX9_aTest_0 16 rfl rfl)
theorem dX9_aTest_19 : decode cX9_aTest 19 = .ok (.aload_n 0, 1) := dk_42 (dk_at dksX9_aTest_0 19 rfl rfl)
theorem dX9_aTest_20 : decode cX9_aTest 20 = .ok (.iconst 2, 1) := dk_5 (dk_at dksX9_aTest_0 20 rfl rfl)
theorem dX9_aTest_21 : decode cX9_aTest 21 = .ok (.invokevirtual 186, 3) := dk_182 0 186 (dk_at dksX9_aTest_0 21 rfl rfl)
theorem dX9_aTest_24 : decode cX9_aTest 24 = .ok (.ireturn, 1) := dk_172 (dk_at dksX9_aTest_1 0 rfl rfl)
theorem dX9_aTest_25 : decode cX9_aTest 25 = .ok (.aload_n 0, 1) := dk_42 (dk_at dksX9_aTest_1 1 rfl rfl)
theorem dX9_aTest_26 : decode cX9_aTest 26 = .ok (.getfield 7, 3) := dk_180 0 7 (dk_at dksX9_aTest_1 2 rfl rfl)
theorem dX9_aTest_29 : decode cX9_aTest 29 = .ok (.iload_n 1, 1) := dk_27 (dk_at dksX9_aTest_1 5 rfl rfl)
theorem dX9_aTest_30 : decode cX9_aTest 30 = .ok (.sipush 2100, 3) := dk_17 8 52 (dk_at dksX9_aTest_1 6 rfl rfl)
theorem dX9_aTest_33 : decode cX9_aTest 33 = .ok (.iload_n 2, 1) := dk_28 (dk_at dksX9_aTest_1 9 rfl rfl)
theorem dX9_aTest_34 : decode cX9_aTest 34 = .ok (.iadd, 1) := dk_96 (dk_at dksX9_aTest_1 10 rfl rfl)
theorem dX9_aTest_35 : decode cX9_aTest 35 = .ok (.iastore, 1) := dk_79 (dk_at dksX9_aTest_1 11 rfl rfl)
theorem dX9_aTest_36 : decode cX9_aTest 36 = .ok (.aload_n 0, 1) := dk_42 (dk_at dksX9_aTest_1 12 rfl rfl)
theorem dX9_aTest_37 : decode cX9_aTest 37 = .ok (.invokevirtual 180, 3) := dk_182 0 180 (dk_at dksX9_aTest_1 13 rfl rfl)
theorem dX9_aTest_40 : decode cX9_aTest 40 = .ok (.iload_n 2, 1) := dk_28 (dk_at dksX9_aTest_1 16 rfl rfl)
theorem dX9_aTest_41 : decode cX9_aTest 41 = .ok (.bipush 25, 2) := dk_16 25 (dk_at dksX9_aTest_1 17 rfl rfl)
theorem dX9_aTest_43 : decode cX9_aTest 43 = .ok (.if_icmp .ne 17, 3) := dk_160 0 17 (dk_at dksX9_aTest_1 19 rfl rfl)
theorem dX9_aTest_46 : decode cX9_aTest 46 = .ok (.aload_n 0, 1) := dk_42 (dk_at dksX9_aTest_1 22 rfl rfl)
theorem dX9_aTest_47 : decode cX9_aTest 47 = .ok (.iload_n 1, 1) := dk_27 (dk_at dksX9_aTest_1 23 rfl rfl)
theorem dX9_aTest_48 : decode cX9_aTest 48 = .ok (.iconst 1, 1) := dk_4 (dk_at dksX9_aTest_2 0 rfl rfl)
theorem dX9_aTest_49 : decode cX9_aTest 49 = .ok (.iadd, 1) := dk_96 (dk_at dksX9_aTest_2 1 rfl rfl)
theorem dX9_aTest_50 : decode cX9_aTest 50 = .ok (.iconst 0, 1) := dk_3 (dk_at dksX9_aTest_2 2 rfl rfl)
theorem dX9_aTest_51 : decode cX9_aTest 51 = .ok (.sipush 256, 3) := dk_17 1 0 (dk_at dksX9_aTest_2 3 rfl rfl)
theorem dX9_aTest_54 : decode cX9_aTest 54 = .ok (.invokevirtual 227, 3) := dk_182 0 227 (dk_at dksX9_aTest_2 6 rfl rfl)
theorem dX9_aTest_57 : decode cX9_aTest 57 = .ok (.goto 18, 3) := dk_167 0 18 (dk_at dksX9_aTest_2 9 rfl rfl)
theorem dX9_aTest_60 : decode cX9_aTest 60 = .ok (.aload_n 0, 1) := dk_42 (dk_at dksX9_aTest_2 12 rfl rfl)
theorem dX9_aTest_61 : decode cX9_aTest 61 = .ok (.iload_n 1, 1) := dk_27 (dk_at dksX9_aTest_2 13 rfl rfl)
theorem dX9_aTest_62 : decode cX9_aTest 62 = .ok (.iconst 1, 1) := dk_4 (dk_at dksX9_aTest_2 14 rfl rfl)
theorem dX9_aTest_63 : decode cX9_aTest 63 = .ok (.iadd, 1) := dk_96 (dk_at dksX9_aTest_2 15 rfl rfl)
theorem dX9_aTest_64 : decode cX9_aTest 64 = .ok (.bipush 28, 2) := dk_16 28 (dk_at dksX9_aTest_2 16 rfl rfl)
theorem dX9_aTest_66 : decode cX9_aTest 66 = .ok (.aload_n 0, 1) := dk_42 (dk_at dksX9_aTest_2 18 rfl rfl)
theorem dX9_aTest_67 : decode cX9_aTest 67 = .ok (.getfield 7, 3) := dk_180 0 7 (dk_at dksX9_aTest_2 19 rfl rfl)
theorem dX9_aTest_70 : decode cX9_aTest 70 = .ok (.iconst 3, 1) := dk_6 (dk_at dksX9_aTest_2 22 rfl rfl)
theorem dX9_aTest_71 : decode cX9_aTest 71 = .ok (.iaload, 1) := dk_46 (dk_at dksX9_aTest_2 23 rfl rfl)
theorem dX9_aTest_72 : decode cX9_aTest 72 = .ok (.invokevirtual 307, 3) := dk_182 1 51 (dk_at dksX9_aTest_3 0 rfl rfl)
theorem dX9_aTest_75 : decode cX9_aTest 75 = .ok (.ireturn, 1) := dk_172 (dk_at dksX9_aTest_3 3 rfl rfl)
abbrev cX9_told : ByteArray := prog_19_method_72_code
def yX9_told : MethodName := ⟨RX9, "told", "(I)I"⟩
def dkwX9_told_1 : List UInt8 := [160, 0, 10, 42, 182, 1, 69, 167, 0, 9, 42, 180, 0, 7, 27, 46, 182, 0, 200, 172]
abbrev dktX9_told_1 : List UInt8 := dkwX9_told_1 ++ []
def dkwX9_told_0 : List UInt8 := [27, 155, 0, 9, 27, 16, 7, 164, 0, 11, 42, 4, 182, 0, 197, 167, 0, 26, 42, 27, 16, 7]
abbrev dktX9_told_0 : List UInt8 := dkwX9_told_0 ++ dktX9_told_1
theorem dksX9_told_0 : cX9_told.data.toList.drop 0 = dktX9_told_0 := by decide +kernel
theorem dksX9_told_1 : cX9_told.data.toList.drop 22 = dktX9_told_1 := dk_seg dksX9_told_0 22 rfl rfl
theorem dX9_told_0 : decode cX9_told 0 = .ok (.iload_n 1, 1) := dk_27 (dk_at dksX9_told_0 0 rfl rfl)
theorem dX9_told_1 : decode cX9_told 1 = .ok (.ifCond .lt 9, 3) := dk_155 0 9 (dk_at dksX9_told_0 1 rfl rfl)
theorem dX9_told_4 : decode cX9_told 4 = .ok (.iload_n 1, 1) := dk_27 (dk_at dksX9_told_0 4 rfl rfl)
theorem dX9_told_5 : decode cX9_told 5 = .ok (.bipush 7, 2) := dk_16 7 (dk_at dksX9_told_0 5 rfl rfl)
theorem dX9_told_7 : decode cX9_told 7 = .ok (.if_icmp .le 11, 3) := dk_164 0 11 (dk_at dksX9_told_0 7 rfl rfl)
theorem dX9_told_10 : decode cX9_told 10 = .ok (.aload_n 0, 1) := dk_42 (dk_at dksX9_told_0 10 rfl rfl)
theorem dX9_told_11 : decode cX9_told 11 = .ok (.iconst 1, 1) := dk_4 (dk_at dksX9_told_0 11 rfl rfl)
theorem dX9_told_12 : decode cX9_told 12 = .ok (.invokevirtual 197, 3) := dk_182 0 197 (dk_at dksX9_told_0 12 rfl rfl)
theorem dX9_told_15 : decode cX9_told 15 = .ok (.goto 26, 3) := dk_167 0 26 (dk_at dksX9_told_0 15 rfl rfl)
theorem dX9_told_18 : decode cX9_told 18 = .ok (.aload_n 0, 1) := dk_42 (dk_at dksX9_told_0 18 rfl rfl)
theorem dX9_told_19 : decode cX9_told 19 = .ok (.iload_n 1, 1) := dk_27 (dk_at dksX9_told_0 19 rfl rfl)
theorem dX9_told_20 : decode cX9_told 20 = .ok (.bipush 7, 2) := dk_16 7 (dk_at dksX9_told_0 20 rfl rfl)
theorem dX9_told_22 : decode cX9_told 22 = .ok (.if_icmp .ne 10, 3) := dk_160 0 10 (dk_at dksX9_told_1 0 rfl rfl)
theorem dX9_told_25 : decode cX9_told 25 = .ok (.aload_n 0, 1) := dk_42 (dk_at dksX9_told_1 3 rfl rfl)
theorem dX9_told_26 : decode cX9_told 26 = .ok (.invokevirtual 325, 3) := dk_182 1 69 (dk_at dksX9_told_1 4 rfl rfl)
theorem dX9_told_29 : decode cX9_told 29 = .ok (.goto 9, 3) := dk_167 0 9 (dk_at dksX9_told_1 7 rfl rfl)
theorem dX9_told_32 : decode cX9_told 32 = .ok (.aload_n 0, 1) := dk_42 (dk_at dksX9_told_1 10 rfl rfl)
theorem dX9_told_33 : decode cX9_told 33 = .ok (.getfield 7, 3) := dk_180 0 7 (dk_at dksX9_told_1 11 rfl rfl)
theorem dX9_told_36 : decode cX9_told 36 = .ok (.iload_n 1, 1) := dk_27 (dk_at dksX9_told_1 14 rfl rfl)
theorem dX9_told_37 : decode cX9_told 37 = .ok (.iaload, 1) := dk_46 (dk_at dksX9_told_1 15 rfl rfl)
theorem dX9_told_38 : decode cX9_told 38 = .ok (.invokevirtual 200, 3) := dk_182 0 200 (dk_at dksX9_told_1 16 rfl rfl)
theorem dX9_told_41 : decode cX9_told 41 = .ok (.ireturn, 1) := dk_172 (dk_at dksX9_told_1 19 rfl rfl)
abbrev cX9_putToday : ByteArray := prog_19_method_71_code
def yX9_putToday : MethodName := ⟨RX9, "putToday", "()I"⟩
def dkwX9_putToday_1 : List UInt8 := [180, 0, 7, 8, 46, 160, 0, 7, 4, 167, 0, 4, 3, 96, 60, 132, 2, 1, 167, 255, 219, 27, 172]
abbrev dktX9_putToday_1 : List UInt8 := dkwX9_putToday_1 ++ []
def dkwX9_putToday_0 : List UInt8 := [3, 60, 3, 61, 28, 42, 180, 0, 7, 16, 6, 46, 162, 0, 32, 27, 42, 28, 6, 182, 1, 66, 42]
abbrev dktX9_putToday_0 : List UInt8 := dkwX9_putToday_0 ++ dktX9_putToday_1
theorem dksX9_putToday_0 : cX9_putToday.data.toList.drop 0 = dktX9_putToday_0 := by decide +kernel
theorem dksX9_putToday_1 : cX9_putToday.data.toList.drop 23 = dktX9_putToday_1 := dk_seg dksX9_putToday_0 23 rfl rfl
theorem dX9_putToday_0 : decode cX9_putToday 0 = .ok (.iconst 0, 1) := dk_3 (dk_at dksX9_putToday_0 0 rfl rfl)
theorem dX9_putToday_1 : decode cX9_putToday 1 = .ok (.istore_n 1, 1) := dk_60 (dk_at dksX9_putToday_0 1 rfl rfl)
theorem dX9_putToday_2 : decode cX9_putToday 2 = .ok (.iconst 0, 1) := dk_3 (dk_at dksX9_putToday_0 2 rfl rfl)
theorem dX9_putToday_3 : decode cX9_putToday 3 = .ok (.istore_n 2, 1) := dk_61 (dk_at dksX9_putToday_0 3 rfl rfl)
theorem dX9_putToday_4 : decode cX9_putToday 4 = .ok (.iload_n 2, 1) := dk_28 (dk_at dksX9_putToday_0 4 rfl rfl)
theorem dX9_putToday_5 : decode cX9_putToday 5 = .ok (.aload_n 0, 1) := dk_42 (dk_at dksX9_putToday_0 5 rfl rfl)
theorem dX9_putToday_6 : decode cX9_putToday 6 = .ok (.getfield 7, 3) := dk_180 0 7 (dk_at dksX9_putToday_0 6 rfl rfl)
theorem dX9_putToday_9 : decode cX9_putToday 9 = .ok (.bipush 6, 2) := dk_16 6 (dk_at dksX9_putToday_0 9 rfl rfl)
theorem dX9_putToday_11 : decode cX9_putToday 11 = .ok (.iaload, 1) := dk_46 (dk_at dksX9_putToday_0 11 rfl rfl)
theorem dX9_putToday_12 : decode cX9_putToday 12 = .ok (.if_icmp .ge 32, 3) := dk_162 0 32 (dk_at dksX9_putToday_0 12 rfl rfl)
theorem dX9_putToday_15 : decode cX9_putToday 15 = .ok (.iload_n 1, 1) := dk_27 (dk_at dksX9_putToday_0 15 rfl rfl)
theorem dX9_putToday_16 : decode cX9_putToday 16 = .ok (.aload_n 0, 1) := dk_42 (dk_at dksX9_putToday_0 16 rfl rfl)
theorem dX9_putToday_17 : decode cX9_putToday 17 = .ok (.iload_n 2, 1) := dk_28 (dk_at dksX9_putToday_0 17 rfl rfl)
theorem dX9_putToday_18 : decode cX9_putToday 18 = .ok (.iconst 3, 1) := dk_6 (dk_at dksX9_putToday_0 18 rfl rfl)
theorem dX9_putToday_19 : decode cX9_putToday 19 = .ok (.invokevirtual 322, 3) := dk_182 1 66 (dk_at dksX9_putToday_0 19 rfl rfl)
theorem dX9_putToday_22 : decode cX9_putToday 22 = .ok (.aload_n 0, 1) := dk_42 (dk_at dksX9_putToday_0 22 rfl rfl)
theorem dX9_putToday_23 : decode cX9_putToday 23 = .ok (.getfield 7, 3) := dk_180 0 7 (dk_at dksX9_putToday_1 0 rfl rfl)
theorem dX9_putToday_26 : decode cX9_putToday 26 = .ok (.iconst 5, 1) := dk_8 (dk_at dksX9_putToday_1 3 rfl rfl)
theorem dX9_putToday_27 : decode cX9_putToday 27 = .ok (.iaload, 1) := dk_46 (dk_at dksX9_putToday_1 4 rfl rfl)
theorem dX9_putToday_28 : decode cX9_putToday 28 = .ok (.if_icmp .ne 7, 3) := dk_160 0 7 (dk_at dksX9_putToday_1 5 rfl rfl)
theorem dX9_putToday_31 : decode cX9_putToday 31 = .ok (.iconst 1, 1) := dk_4 (dk_at dksX9_putToday_1 8 rfl rfl)
theorem dX9_putToday_32 : decode cX9_putToday 32 = .ok (.goto 4, 3) := dk_167 0 4 (dk_at dksX9_putToday_1 9 rfl rfl)
theorem dX9_putToday_35 : decode cX9_putToday 35 = .ok (.iconst 0, 1) := dk_3 (dk_at dksX9_putToday_1 12 rfl rfl)
theorem dX9_putToday_36 : decode cX9_putToday 36 = .ok (.iadd, 1) := dk_96 (dk_at dksX9_putToday_1 13 rfl rfl)
theorem dX9_putToday_37 : decode cX9_putToday 37 = .ok (.istore_n 1, 1) := dk_60 (dk_at dksX9_putToday_1 14 rfl rfl)
theorem dX9_putToday_38 : decode cX9_putToday 38 = .ok (.iinc 2 1, 3) := dk_132 2 1 (dk_at dksX9_putToday_1 15 rfl rfl)
theorem dX9_putToday_41 : decode cX9_putToday 41 = .ok (.goto (-37), 3) := dk_167 255 219 (dk_at dksX9_putToday_1 18 rfl rfl)
theorem dX9_putToday_44 : decode cX9_putToday 44 = .ok (.iload_n 1, 1) := dk_27 (dk_at dksX9_putToday_1 21 rfl rfl)
theorem dX9_putToday_45 : decode cX9_putToday 45 = .ok (.ireturn, 1) := dk_172 (dk_at dksX9_putToday_1 22 rfl rfl)
abbrev cX9_ofHeard : ByteArray := prog_19_method_70_code
def yX9_ofHeard : MethodName := ⟨RX9, "ofHeard", "(II)I"⟩
def dkwX9_ofHeard_0 : List UInt8 := [42, 180, 0, 7, 16, 100, 7, 27, 104, 96, 28, 96, 46, 172]
abbrev dktX9_ofHeard_0 : List UInt8 := dkwX9_ofHeard_0 ++ []
theorem dksX9_ofHeard_0 : cX9_ofHeard.data.toList.drop 0 = dktX9_ofHeard_0 := by decide +kernel
theorem dX9_ofHeard_0 : decode cX9_ofHeard 0 = .ok (.aload_n 0, 1) := dk_42 (dk_at dksX9_ofHeard_0 0 rfl rfl)
theorem dX9_ofHeard_1 : decode cX9_ofHeard 1 = .ok (.getfield 7, 3) := dk_180 0 7 (dk_at dksX9_ofHeard_0 1 rfl rfl)
theorem dX9_ofHeard_4 : decode cX9_ofHeard 4 = .ok (.bipush 100, 2) := dk_16 100 (dk_at dksX9_ofHeard_0 4 rfl rfl)
theorem dX9_ofHeard_6 : decode cX9_ofHeard 6 = .ok (.iconst 4, 1) := dk_7 (dk_at dksX9_ofHeard_0 6 rfl rfl)
theorem dX9_ofHeard_7 : decode cX9_ofHeard 7 = .ok (.iload_n 1, 1) := dk_27 (dk_at dksX9_ofHeard_0 7 rfl rfl)
theorem dX9_ofHeard_8 : decode cX9_ofHeard 8 = .ok (.imul, 1) := dk_104 (dk_at dksX9_ofHeard_0 8 rfl rfl)
theorem dX9_ofHeard_9 : decode cX9_ofHeard 9 = .ok (.iadd, 1) := dk_96 (dk_at dksX9_ofHeard_0 9 rfl rfl)
theorem dX9_ofHeard_10 : decode cX9_ofHeard 10 = .ok (.iload_n 2, 1) := dk_28 (dk_at dksX9_ofHeard_0 10 rfl rfl)
theorem dX9_ofHeard_11 : decode cX9_ofHeard 11 = .ok (.iadd, 1) := dk_96 (dk_at dksX9_ofHeard_0 11 rfl rfl)
theorem dX9_ofHeard_12 : decode cX9_ofHeard 12 = .ok (.iaload, 1) := dk_46 (dk_at dksX9_ofHeard_0 12 rfl rfl)
theorem dX9_ofHeard_13 : decode cX9_ofHeard 13 = .ok (.ireturn, 1) := dk_172 (dk_at dksX9_ofHeard_0 13 rfl rfl)
abbrev cX9_value : ByteArray := prog_19_method_73_code
def yX9_value : MethodName := ⟨RX9, "value", "(II)I"⟩
def dkwX9_value_2 : List UInt8 := [182, 0, 200, 172]
abbrev dktX9_value_2 : List UInt8 := dkwX9_value_2 ++ []
def dkwX9_value_1 : List UInt8 := [4, 182, 0, 197, 172, 42, 42, 180, 0, 7, 28, 154, 0, 8, 16, 8, 167, 0, 5, 16, 32, 27, 96, 46]
abbrev dktX9_value_1 : List UInt8 := dkwX9_value_1 ++ dktX9_value_2
def dkwX9_value_0 : List UInt8 := [27, 155, 0, 22, 27, 42, 180, 0, 7, 4, 46, 162, 0, 12, 28, 155, 0, 8, 28, 4, 164, 0, 9, 42]
abbrev dktX9_value_0 : List UInt8 := dkwX9_value_0 ++ dktX9_value_1
theorem dksX9_value_0 : cX9_value.data.toList.drop 0 = dktX9_value_0 := by decide +kernel
theorem dksX9_value_1 : cX9_value.data.toList.drop 24 = dktX9_value_1 := dk_seg dksX9_value_0 24 rfl rfl
theorem dksX9_value_2 : cX9_value.data.toList.drop 48 = dktX9_value_2 := dk_seg dksX9_value_1 24 rfl rfl
theorem dX9_value_0 : decode cX9_value 0 = .ok (.iload_n 1, 1) := dk_27 (dk_at dksX9_value_0 0 rfl rfl)
theorem dX9_value_1 : decode cX9_value 1 = .ok (.ifCond .lt 22, 3) := dk_155 0 22 (dk_at dksX9_value_0 1 rfl rfl)
theorem dX9_value_4 : decode cX9_value 4 = .ok (.iload_n 1, 1) := dk_27 (dk_at dksX9_value_0 4 rfl rfl)
theorem dX9_value_5 : decode cX9_value 5 = .ok (.aload_n 0, 1) := dk_42 (dk_at dksX9_value_0 5 rfl rfl)
theorem dX9_value_6 : decode cX9_value 6 = .ok (.getfield 7, 3) := dk_180 0 7 (dk_at dksX9_value_0 6 rfl rfl)
theorem dX9_value_9 : decode cX9_value 9 = .ok (.iconst 1, 1) := dk_4 (dk_at dksX9_value_0 9 rfl rfl)
theorem dX9_value_10 : decode cX9_value 10 = .ok (.iaload, 1) := dk_46 (dk_at dksX9_value_0 10 rfl rfl)
theorem dX9_value_11 : decode cX9_value 11 = .ok (.if_icmp .ge 12, 3) := dk_162 0 12 (dk_at dksX9_value_0 11 rfl rfl)
theorem dX9_value_14 : decode cX9_value 14 = .ok (.iload_n 2, 1) := dk_28 (dk_at dksX9_value_0 14 rfl rfl)
theorem dX9_value_15 : decode cX9_value 15 = .ok (.ifCond .lt 8, 3) := dk_155 0 8 (dk_at dksX9_value_0 15 rfl rfl)
theorem dX9_value_18 : decode cX9_value 18 = .ok (.iload_n 2, 1) := dk_28 (dk_at dksX9_value_0 18 rfl rfl)
theorem dX9_value_19 : decode cX9_value 19 = .ok (.iconst 1, 1) := dk_4 (dk_at dksX9_value_0 19 rfl rfl)
theorem dX9_value_20 : decode cX9_value 20 = .ok (.if_icmp .le 9, 3) := dk_164 0 9 (dk_at dksX9_value_0 20 rfl rfl)
theorem dX9_value_23 : decode cX9_value 23 = .ok (.aload_n 0, 1) := dk_42 (dk_at dksX9_value_0 23 rfl rfl)
theorem dX9_value_24 : decode cX9_value 24 = .ok (.iconst 1, 1) := dk_4 (dk_at dksX9_value_1 0 rfl rfl)
theorem dX9_value_25 : decode cX9_value 25 = .ok (.invokevirtual 197, 3) := dk_182 0 197 (dk_at dksX9_value_1 1 rfl rfl)
theorem dX9_value_28 : decode cX9_value 28 = .ok (.ireturn, 1) := dk_172 (dk_at dksX9_value_1 4 rfl rfl)
theorem dX9_value_29 : decode cX9_value 29 = .ok (.aload_n 0, 1) := dk_42 (dk_at dksX9_value_1 5 rfl rfl)
theorem dX9_value_30 : decode cX9_value 30 = .ok (.aload_n 0, 1) := dk_42 (dk_at dksX9_value_1 6 rfl rfl)
theorem dX9_value_31 : decode cX9_value 31 = .ok (.getfield 7, 3) := dk_180 0 7 (dk_at dksX9_value_1 7 rfl rfl)
theorem dX9_value_34 : decode cX9_value 34 = .ok (.iload_n 2, 1) := dk_28 (dk_at dksX9_value_1 10 rfl rfl)
theorem dX9_value_35 : decode cX9_value 35 = .ok (.ifCond .ne 8, 3) := dk_154 0 8 (dk_at dksX9_value_1 11 rfl rfl)
theorem dX9_value_38 : decode cX9_value 38 = .ok (.bipush 8, 2) := dk_16 8 (dk_at dksX9_value_1 14 rfl rfl)
theorem dX9_value_40 : decode cX9_value 40 = .ok (.goto 5, 3) := dk_167 0 5 (dk_at dksX9_value_1 16 rfl rfl)
theorem dX9_value_43 : decode cX9_value 43 = .ok (.bipush 32, 2) := dk_16 32 (dk_at dksX9_value_1 19 rfl rfl)
theorem dX9_value_45 : decode cX9_value 45 = .ok (.iload_n 1, 1) := dk_27 (dk_at dksX9_value_1 21 rfl rfl)
theorem dX9_value_46 : decode cX9_value 46 = .ok (.iadd, 1) := dk_96 (dk_at dksX9_value_1 22 rfl rfl)
theorem dX9_value_47 : decode cX9_value 47 = .ok (.iaload, 1) := dk_46 (dk_at dksX9_value_1 23 rfl rfl)
theorem dX9_value_48 : decode cX9_value 48 = .ok (.invokevirtual 200, 3) := dk_182 0 200 (dk_at dksX9_value_2 0 rfl rfl)
theorem dX9_value_51 : decode cX9_value 51 = .ok (.ireturn, 1) := dk_172 (dk_at dksX9_value_2 3 rfl rfl)
abbrev cX9_world : ByteArray := prog_19_method_74_code
def yX9_world : MethodName := ⟨RX9, "world", "(II)I"⟩
def dkwX9_world_1 : List UInt8 := [3, 27, 28, 182, 0, 234, 182, 0, 200, 167, 0, 8, 42, 4, 182, 0, 197, 172]
abbrev dktX9_world_1 : List UInt8 := dkwX9_world_1 ++ []
def dkwX9_world_0 : List UInt8 := [42, 27, 182, 1, 72, 153, 0, 31, 28, 155, 0, 27, 28, 42, 180, 0, 7, 3, 46, 162, 0, 17, 42, 42]
abbrev dktX9_world_0 : List UInt8 := dkwX9_world_0 ++ dktX9_world_1
theorem dksX9_world_0 : cX9_world.data.toList.drop 0 = dktX9_world_0 := by decide +kernel
theorem dksX9_world_1 : cX9_world.data.toList.drop 24 = dktX9_world_1 := dk_seg dksX9_world_0 24 rfl rfl
theorem dX9_world_0 : decode cX9_world 0 = .ok (.aload_n 0, 1) := dk_42 (dk_at dksX9_world_0 0 rfl rfl)
theorem dX9_world_1 : decode cX9_world 1 = .ok (.iload_n 1, 1) := dk_27 (dk_at dksX9_world_0 1 rfl rfl)
theorem dX9_world_2 : decode cX9_world 2 = .ok (.invokevirtual 328, 3) := dk_182 1 72 (dk_at dksX9_world_0 2 rfl rfl)
theorem dX9_world_5 : decode cX9_world 5 = .ok (.ifCond .eq 31, 3) := dk_153 0 31 (dk_at dksX9_world_0 5 rfl rfl)
theorem dX9_world_8 : decode cX9_world 8 = .ok (.iload_n 2, 1) := dk_28 (dk_at dksX9_world_0 8 rfl rfl)
theorem dX9_world_9 : decode cX9_world 9 = .ok (.ifCond .lt 27, 3) := dk_155 0 27 (dk_at dksX9_world_0 9 rfl rfl)
theorem dX9_world_12 : decode cX9_world 12 = .ok (.iload_n 2, 1) := dk_28 (dk_at dksX9_world_0 12 rfl rfl)
theorem dX9_world_13 : decode cX9_world 13 = .ok (.aload_n 0, 1) := dk_42 (dk_at dksX9_world_0 13 rfl rfl)
theorem dX9_world_14 : decode cX9_world 14 = .ok (.getfield 7, 3) := dk_180 0 7 (dk_at dksX9_world_0 14 rfl rfl)
theorem dX9_world_17 : decode cX9_world 17 = .ok (.iconst 0, 1) := dk_3 (dk_at dksX9_world_0 17 rfl rfl)
theorem dX9_world_18 : decode cX9_world 18 = .ok (.iaload, 1) := dk_46 (dk_at dksX9_world_0 18 rfl rfl)
theorem dX9_world_19 : decode cX9_world 19 = .ok (.if_icmp .ge 17, 3) := dk_162 0 17 (dk_at dksX9_world_0 19 rfl rfl)
theorem dX9_world_22 : decode cX9_world 22 = .ok (.aload_n 0, 1) := dk_42 (dk_at dksX9_world_0 22 rfl rfl)
theorem dX9_world_23 : decode cX9_world 23 = .ok (.aload_n 0, 1) := dk_42 (dk_at dksX9_world_0 23 rfl rfl)
theorem dX9_world_24 : decode cX9_world 24 = .ok (.iconst 0, 1) := dk_3 (dk_at dksX9_world_1 0 rfl rfl)
theorem dX9_world_25 : decode cX9_world 25 = .ok (.iload_n 1, 1) := dk_27 (dk_at dksX9_world_1 1 rfl rfl)
theorem dX9_world_26 : decode cX9_world 26 = .ok (.iload_n 2, 1) := dk_28 (dk_at dksX9_world_1 2 rfl rfl)
theorem dX9_world_27 : decode cX9_world 27 = .ok (.invokevirtual 234, 3) := dk_182 0 234 (dk_at dksX9_world_1 3 rfl rfl)
theorem dX9_world_30 : decode cX9_world 30 = .ok (.invokevirtual 200, 3) := dk_182 0 200 (dk_at dksX9_world_1 6 rfl rfl)
theorem dX9_world_33 : decode cX9_world 33 = .ok (.goto 8, 3) := dk_167 0 8 (dk_at dksX9_world_1 9 rfl rfl)
theorem dX9_world_36 : decode cX9_world 36 = .ok (.aload_n 0, 1) := dk_42 (dk_at dksX9_world_1 12 rfl rfl)
theorem dX9_world_37 : decode cX9_world 37 = .ok (.iconst 1, 1) := dk_4 (dk_at dksX9_world_1 13 rfl rfl)
theorem dX9_world_38 : decode cX9_world 38 = .ok (.invokevirtual 197, 3) := dk_182 0 197 (dk_at dksX9_world_1 14 rfl rfl)
theorem dX9_world_41 : decode cX9_world 41 = .ok (.ireturn, 1) := dk_172 (dk_at dksX9_world_1 17 rfl rfl)
abbrev cX9_isWorld : ByteArray := prog_19_method_63_code
def yX9_isWorld : MethodName := ⟨RX9, "isWorld", "(I)Z"⟩
def dkwX9_isWorld_0 : List UInt8 := [27, 155, 0, 17, 27, 42, 180, 0, 7, 5, 46, 162, 0, 7, 4, 167, 0, 4, 3, 172]
abbrev dktX9_isWorld_0 : List UInt8 := dkwX9_isWorld_0 ++ []
theorem dksX9_isWorld_0 : cX9_isWorld.data.toList.drop 0 = dktX9_isWorld_0 := by decide +kernel
theorem dX9_isWorld_0 : decode cX9_isWorld 0 = .ok (.iload_n 1, 1) := dk_27 (dk_at dksX9_isWorld_0 0 rfl rfl)
theorem dX9_isWorld_1 : decode cX9_isWorld 1 = .ok (.ifCond .lt 17, 3) := dk_155 0 17 (dk_at dksX9_isWorld_0 1 rfl rfl)
theorem dX9_isWorld_4 : decode cX9_isWorld 4 = .ok (.iload_n 1, 1) := dk_27 (dk_at dksX9_isWorld_0 4 rfl rfl)
theorem dX9_isWorld_5 : decode cX9_isWorld 5 = .ok (.aload_n 0, 1) := dk_42 (dk_at dksX9_isWorld_0 5 rfl rfl)
theorem dX9_isWorld_6 : decode cX9_isWorld 6 = .ok (.getfield 7, 3) := dk_180 0 7 (dk_at dksX9_isWorld_0 6 rfl rfl)
theorem dX9_isWorld_9 : decode cX9_isWorld 9 = .ok (.iconst 2, 1) := dk_5 (dk_at dksX9_isWorld_0 9 rfl rfl)
theorem dX9_isWorld_10 : decode cX9_isWorld 10 = .ok (.iaload, 1) := dk_46 (dk_at dksX9_isWorld_0 10 rfl rfl)
theorem dX9_isWorld_11 : decode cX9_isWorld 11 = .ok (.if_icmp .ge 7, 3) := dk_162 0 7 (dk_at dksX9_isWorld_0 11 rfl rfl)
theorem dX9_isWorld_14 : decode cX9_isWorld 14 = .ok (.iconst 1, 1) := dk_4 (dk_at dksX9_isWorld_0 14 rfl rfl)
theorem dX9_isWorld_15 : decode cX9_isWorld 15 = .ok (.goto 4, 3) := dk_167 0 4 (dk_at dksX9_isWorld_0 15 rfl rfl)
theorem dX9_isWorld_18 : decode cX9_isWorld 18 = .ok (.iconst 0, 1) := dk_3 (dk_at dksX9_isWorld_0 18 rfl rfl)
theorem dX9_isWorld_19 : decode cX9_isWorld 19 = .ok (.ireturn, 1) := dk_172 (dk_at dksX9_isWorld_0 19 rfl rfl)
abbrev cX9_possible : ByteArray := prog_19_method_75_code
def yX9_possible : MethodName := ⟨RX9, "possible", "(I)I"⟩
def dkwX9_possible_1 : List UInt8 := [182, 0, 200, 167, 0, 8, 42, 4, 182, 0, 197, 172]
abbrev dktX9_possible_1 : List UInt8 := dkwX9_possible_1 ++ []
def dkwX9_possible_0 : List UInt8 := [42, 27, 182, 1, 72, 153, 0, 23, 42, 42, 27, 182, 1, 75, 153, 0, 7, 4, 167, 0, 4, 3]
abbrev dktX9_possible_0 : List UInt8 := dkwX9_possible_0 ++ dktX9_possible_1
theorem dksX9_possible_0 : cX9_possible.data.toList.drop 0 = dktX9_possible_0 := by decide +kernel
theorem dksX9_possible_1 : cX9_possible.data.toList.drop 22 = dktX9_possible_1 := dk_seg dksX9_possible_0 22 rfl rfl
theorem dX9_possible_0 : decode cX9_possible 0 = .ok (.aload_n 0, 1) := dk_42 (dk_at dksX9_possible_0 0 rfl rfl)
theorem dX9_possible_1 : decode cX9_possible 1 = .ok (.iload_n 1, 1) := dk_27 (dk_at dksX9_possible_0 1 rfl rfl)
theorem dX9_possible_2 : decode cX9_possible 2 = .ok (.invokevirtual 328, 3) := dk_182 1 72 (dk_at dksX9_possible_0 2 rfl rfl)
theorem dX9_possible_5 : decode cX9_possible 5 = .ok (.ifCond .eq 23, 3) := dk_153 0 23 (dk_at dksX9_possible_0 5 rfl rfl)
theorem dX9_possible_8 : decode cX9_possible 8 = .ok (.aload_n 0, 1) := dk_42 (dk_at dksX9_possible_0 8 rfl rfl)
theorem dX9_possible_9 : decode cX9_possible 9 = .ok (.aload_n 0, 1) := dk_42 (dk_at dksX9_possible_0 9 rfl rfl)
theorem dX9_possible_10 : decode cX9_possible 10 = .ok (.iload_n 1, 1) := dk_27 (dk_at dksX9_possible_0 10 rfl rfl)
theorem dX9_possible_11 : decode cX9_possible 11 = .ok (.invokevirtual 331, 3) := dk_182 1 75 (dk_at dksX9_possible_0 11 rfl rfl)
theorem dX9_possible_14 : decode cX9_possible 14 = .ok (.ifCond .eq 7, 3) := dk_153 0 7 (dk_at dksX9_possible_0 14 rfl rfl)
theorem dX9_possible_17 : decode cX9_possible 17 = .ok (.iconst 1, 1) := dk_4 (dk_at dksX9_possible_0 17 rfl rfl)
theorem dX9_possible_18 : decode cX9_possible 18 = .ok (.goto 4, 3) := dk_167 0 4 (dk_at dksX9_possible_0 18 rfl rfl)
theorem dX9_possible_21 : decode cX9_possible 21 = .ok (.iconst 0, 1) := dk_3 (dk_at dksX9_possible_0 21 rfl rfl)
theorem dX9_possible_22 : decode cX9_possible 22 = .ok (.invokevirtual 200, 3) := dk_182 0 200 (dk_at dksX9_possible_1 0 rfl rfl)
theorem dX9_possible_25 : decode cX9_possible 25 = .ok (.goto 8, 3) := dk_167 0 8 (dk_at dksX9_possible_1 3 rfl rfl)
theorem dX9_possible_28 : decode cX9_possible 28 = .ok (.aload_n 0, 1) := dk_42 (dk_at dksX9_possible_1 6 rfl rfl)
theorem dX9_possible_29 : decode cX9_possible 29 = .ok (.iconst 1, 1) := dk_4 (dk_at dksX9_possible_1 7 rfl rfl)
theorem dX9_possible_30 : decode cX9_possible 30 = .ok (.invokevirtual 197, 3) := dk_182 0 197 (dk_at dksX9_possible_1 8 rfl rfl)
theorem dX9_possible_33 : decode cX9_possible 33 = .ok (.ireturn, 1) := dk_172 (dk_at dksX9_possible_1 11 rfl rfl)
abbrev cX9_holds : ByteArray := prog_19_method_76_code
def yX9_holds : MethodName := ⟨RX9, "holds", "(II)I"⟩
def dkwX9_holds_1 : List UInt8 := [153, 0, 7, 4, 167, 0, 4, 3, 182, 0, 200, 167, 0, 8, 42, 4, 182, 0, 197, 172]
abbrev dktX9_holds_1 : List UInt8 := dkwX9_holds_1 ++ []
def dkwX9_holds_0 : List UInt8 := [42, 27, 182, 1, 78, 153, 0, 32, 42, 28, 182, 1, 72, 153, 0, 24, 42, 42, 27, 28, 182, 1, 81]
abbrev dktX9_holds_0 : List UInt8 := dkwX9_holds_0 ++ dktX9_holds_1
theorem dksX9_holds_0 : cX9_holds.data.toList.drop 0 = dktX9_holds_0 := by decide +kernel
theorem dksX9_holds_1 : cX9_holds.data.toList.drop 23 = dktX9_holds_1 := dk_seg dksX9_holds_0 23 rfl rfl
theorem dX9_holds_0 : decode cX9_holds 0 = .ok (.aload_n 0, 1) := dk_42 (dk_at dksX9_holds_0 0 rfl rfl)
theorem dX9_holds_1 : decode cX9_holds 1 = .ok (.iload_n 1, 1) := dk_27 (dk_at dksX9_holds_0 1 rfl rfl)
theorem dX9_holds_2 : decode cX9_holds 2 = .ok (.invokevirtual 334, 3) := dk_182 1 78 (dk_at dksX9_holds_0 2 rfl rfl)
theorem dX9_holds_5 : decode cX9_holds 5 = .ok (.ifCond .eq 32, 3) := dk_153 0 32 (dk_at dksX9_holds_0 5 rfl rfl)
theorem dX9_holds_8 : decode cX9_holds 8 = .ok (.aload_n 0, 1) := dk_42 (dk_at dksX9_holds_0 8 rfl rfl)
theorem dX9_holds_9 : decode cX9_holds 9 = .ok (.iload_n 2, 1) := dk_28 (dk_at dksX9_holds_0 9 rfl rfl)
theorem dX9_holds_10 : decode cX9_holds 10 = .ok (.invokevirtual 328, 3) := dk_182 1 72 (dk_at dksX9_holds_0 10 rfl rfl)
theorem dX9_holds_13 : decode cX9_holds 13 = .ok (.ifCond .eq 24, 3) := dk_153 0 24 (dk_at dksX9_holds_0 13 rfl rfl)
theorem dX9_holds_16 : decode cX9_holds 16 = .ok (.aload_n 0, 1) := dk_42 (dk_at dksX9_holds_0 16 rfl rfl)
theorem dX9_holds_17 : decode cX9_holds 17 = .ok (.aload_n 0, 1) := dk_42 (dk_at dksX9_holds_0 17 rfl rfl)
theorem dX9_holds_18 : decode cX9_holds 18 = .ok (.iload_n 1, 1) := dk_27 (dk_at dksX9_holds_0 18 rfl rfl)
theorem dX9_holds_19 : decode cX9_holds 19 = .ok (.iload_n 2, 1) := dk_28 (dk_at dksX9_holds_0 19 rfl rfl)
theorem dX9_holds_20 : decode cX9_holds 20 = .ok (.invokevirtual 337, 3) := dk_182 1 81 (dk_at dksX9_holds_0 20 rfl rfl)
theorem dX9_holds_23 : decode cX9_holds 23 = .ok (.ifCond .eq 7, 3) := dk_153 0 7 (dk_at dksX9_holds_1 0 rfl rfl)
theorem dX9_holds_26 : decode cX9_holds 26 = .ok (.iconst 1, 1) := dk_4 (dk_at dksX9_holds_1 3 rfl rfl)
theorem dX9_holds_27 : decode cX9_holds 27 = .ok (.goto 4, 3) := dk_167 0 4 (dk_at dksX9_holds_1 4 rfl rfl)
theorem dX9_holds_30 : decode cX9_holds 30 = .ok (.iconst 0, 1) := dk_3 (dk_at dksX9_holds_1 7 rfl rfl)
theorem dX9_holds_31 : decode cX9_holds 31 = .ok (.invokevirtual 200, 3) := dk_182 0 200 (dk_at dksX9_holds_1 8 rfl rfl)
theorem dX9_holds_34 : decode cX9_holds 34 = .ok (.goto 8, 3) := dk_167 0 8 (dk_at dksX9_holds_1 11 rfl rfl)
theorem dX9_holds_37 : decode cX9_holds 37 = .ok (.aload_n 0, 1) := dk_42 (dk_at dksX9_holds_1 14 rfl rfl)
theorem dX9_holds_38 : decode cX9_holds 38 = .ok (.iconst 1, 1) := dk_4 (dk_at dksX9_holds_1 15 rfl rfl)
theorem dX9_holds_39 : decode cX9_holds 39 = .ok (.invokevirtual 197, 3) := dk_182 0 197 (dk_at dksX9_holds_1 16 rfl rfl)
theorem dX9_holds_42 : decode cX9_holds 42 = .ok (.ireturn, 1) := dk_172 (dk_at dksX9_holds_1 19 rfl rfl)
