set_option maxRecDepth 100000
abbrev cX9_isQuestion : ByteArray := prog_19_method_64_code
def yX9_isQuestion : MethodName := ⟨RX9, "isQuestion", "(I)Z"⟩
def dkwX9_isQuestion_0 : List UInt8 := [27, 155, 0, 17, 27, 42, 180, 0, 7, 6, 46, 162, 0, 7, 4, 167, 0, 4, 3, 172]
abbrev dktX9_isQuestion_0 : List UInt8 := dkwX9_isQuestion_0 ++ []
theorem dksX9_isQuestion_0 : cX9_isQuestion.data.toList.drop 0 = dktX9_isQuestion_0 := by decide +kernel
theorem dX9_isQuestion_0 : decode cX9_isQuestion 0 = .ok (.iload_n 1, 1) := dk_27 (dk_at dksX9_isQuestion_0 0 rfl rfl)
theorem dX9_isQuestion_1 : decode cX9_isQuestion 1 = .ok (.ifCond .lt 17, 3) := dk_155 0 17 (dk_at dksX9_isQuestion_0 1 rfl rfl)
theorem dX9_isQuestion_4 : decode cX9_isQuestion 4 = .ok (.iload_n 1, 1) := dk_27 (dk_at dksX9_isQuestion_0 4 rfl rfl)
theorem dX9_isQuestion_5 : decode cX9_isQuestion 5 = .ok (.aload_n 0, 1) := dk_42 (dk_at dksX9_isQuestion_0 5 rfl rfl)
theorem dX9_isQuestion_6 : decode cX9_isQuestion 6 = .ok (.getfield 7, 3) := dk_180 0 7 (dk_at dksX9_isQuestion_0 6 rfl rfl)
theorem dX9_isQuestion_9 : decode cX9_isQuestion 9 = .ok (.iconst 3, 1) := dk_6 (dk_at dksX9_isQuestion_0 9 rfl rfl)
theorem dX9_isQuestion_10 : decode cX9_isQuestion 10 = .ok (.iaload, 1) := dk_46 (dk_at dksX9_isQuestion_0 10 rfl rfl)
theorem dX9_isQuestion_11 : decode cX9_isQuestion 11 = .ok (.if_icmp .ge 7, 3) := dk_162 0 7 (dk_at dksX9_isQuestion_0 11 rfl rfl)
theorem dX9_isQuestion_14 : decode cX9_isQuestion 14 = .ok (.iconst 1, 1) := dk_4 (dk_at dksX9_isQuestion_0 14 rfl rfl)
theorem dX9_isQuestion_15 : decode cX9_isQuestion 15 = .ok (.goto 4, 3) := dk_167 0 4 (dk_at dksX9_isQuestion_0 15 rfl rfl)
theorem dX9_isQuestion_18 : decode cX9_isQuestion 18 = .ok (.iconst 0, 1) := dk_3 (dk_at dksX9_isQuestion_0 18 rfl rfl)
theorem dX9_isQuestion_19 : decode cX9_isQuestion 19 = .ok (.ireturn, 1) := dk_172 (dk_at dksX9_isQuestion_0 19 rfl rfl)
abbrev cX9_isIn : ByteArray := prog_19_method_68_code
def yX9_isIn : MethodName := ⟨RX9, "isIn", "(II)Z"⟩
def dkwX9_isIn_0 : List UInt8 := [42, 180, 0, 13, 7, 7, 27, 104, 96, 28, 184, 1, 47, 172]
abbrev dktX9_isIn_0 : List UInt8 := dkwX9_isIn_0 ++ []
theorem dksX9_isIn_0 : cX9_isIn.data.toList.drop 0 = dktX9_isIn_0 := by decide +kernel
theorem dX9_isIn_0 : decode cX9_isIn 0 = .ok (.aload_n 0, 1) := dk_42 (dk_at dksX9_isIn_0 0 rfl rfl)
theorem dX9_isIn_1 : decode cX9_isIn 1 = .ok (.getfield 13, 3) := dk_180 0 13 (dk_at dksX9_isIn_0 1 rfl rfl)
theorem dX9_isIn_4 : decode cX9_isIn 4 = .ok (.iconst 4, 1) := dk_7 (dk_at dksX9_isIn_0 4 rfl rfl)
theorem dX9_isIn_5 : decode cX9_isIn 5 = .ok (.iconst 4, 1) := dk_7 (dk_at dksX9_isIn_0 5 rfl rfl)
theorem dX9_isIn_6 : decode cX9_isIn 6 = .ok (.iload_n 1, 1) := dk_27 (dk_at dksX9_isIn_0 6 rfl rfl)
theorem dX9_isIn_7 : decode cX9_isIn 7 = .ok (.imul, 1) := dk_104 (dk_at dksX9_isIn_0 7 rfl rfl)
theorem dX9_isIn_8 : decode cX9_isIn 8 = .ok (.iadd, 1) := dk_96 (dk_at dksX9_isIn_0 8 rfl rfl)
theorem dX9_isIn_9 : decode cX9_isIn 9 = .ok (.iload_n 2, 1) := dk_28 (dk_at dksX9_isIn_0 9 rfl rfl)
theorem dX9_isIn_10 : decode cX9_isIn 10 = .ok (.invokestatic 303, 3) := dk_184 1 47 (dk_at dksX9_isIn_0 10 rfl rfl)
theorem dX9_isIn_13 : decode cX9_isIn 13 = .ok (.ireturn, 1) := dk_172 (dk_at dksX9_isIn_0 13 rfl rfl)
abbrev cX9_fee : ByteArray := prog_19_method_77_code
def yX9_fee : MethodName := ⟨RX9, "fee", "(I)I"⟩
def dkwX9_fee_1 : List UInt8 := [42, 4, 182, 0, 197, 172]
abbrev dktX9_fee_1 : List UInt8 := dkwX9_fee_1 ++ []
def dkwX9_fee_0 : List UInt8 := [42, 27, 182, 1, 78, 153, 0, 19, 42, 42, 180, 0, 7, 16, 64, 27, 96, 46, 182, 0, 200, 167, 0, 8]
abbrev dktX9_fee_0 : List UInt8 := dkwX9_fee_0 ++ dktX9_fee_1
theorem dksX9_fee_0 : cX9_fee.data.toList.drop 0 = dktX9_fee_0 := by decide +kernel
theorem dksX9_fee_1 : cX9_fee.data.toList.drop 24 = dktX9_fee_1 := dk_seg dksX9_fee_0 24 rfl rfl
theorem dX9_fee_0 : decode cX9_fee 0 = .ok (.aload_n 0, 1) := dk_42 (dk_at dksX9_fee_0 0 rfl rfl)
theorem dX9_fee_1 : decode cX9_fee 1 = .ok (.iload_n 1, 1) := dk_27 (dk_at dksX9_fee_0 1 rfl rfl)
theorem dX9_fee_2 : decode cX9_fee 2 = .ok (.invokevirtual 334, 3) := dk_182 1 78 (dk_at dksX9_fee_0 2 rfl rfl)
theorem dX9_fee_5 : decode cX9_fee 5 = .ok (.ifCond .eq 19, 3) := dk_153 0 19 (dk_at dksX9_fee_0 5 rfl rfl)
theorem dX9_fee_8 : decode cX9_fee 8 = .ok (.aload_n 0, 1) := dk_42 (dk_at dksX9_fee_0 8 rfl rfl)
theorem dX9_fee_9 : decode cX9_fee 9 = .ok (.aload_n 0, 1) := dk_42 (dk_at dksX9_fee_0 9 rfl rfl)
theorem dX9_fee_10 : decode cX9_fee 10 = .ok (.getfield 7, 3) := dk_180 0 7 (dk_at dksX9_fee_0 10 rfl rfl)
theorem dX9_fee_13 : decode cX9_fee 13 = .ok (.bipush 64, 2) := dk_16 64 (dk_at dksX9_fee_0 13 rfl rfl)
theorem dX9_fee_15 : decode cX9_fee 15 = .ok (.iload_n 1, 1) := dk_27 (dk_at dksX9_fee_0 15 rfl rfl)
theorem dX9_fee_16 : decode cX9_fee 16 = .ok (.iadd, 1) := dk_96 (dk_at dksX9_fee_0 16 rfl rfl)
theorem dX9_fee_17 : decode cX9_fee 17 = .ok (.iaload, 1) := dk_46 (dk_at dksX9_fee_0 17 rfl rfl)
theorem dX9_fee_18 : decode cX9_fee 18 = .ok (.invokevirtual 200, 3) := dk_182 0 200 (dk_at dksX9_fee_0 18 rfl rfl)
theorem dX9_fee_21 : decode cX9_fee 21 = .ok (.goto 8, 3) := dk_167 0 8 (dk_at dksX9_fee_0 21 rfl rfl)
theorem dX9_fee_24 : decode cX9_fee 24 = .ok (.aload_n 0, 1) := dk_42 (dk_at dksX9_fee_1 0 rfl rfl)
theorem dX9_fee_25 : decode cX9_fee 25 = .ok (.iconst 1, 1) := dk_4 (dk_at dksX9_fee_1 1 rfl rfl)
theorem dX9_fee_26 : decode cX9_fee 26 = .ok (.invokevirtual 197, 3) := dk_182 0 197 (dk_at dksX9_fee_1 2 rfl rfl)
theorem dX9_fee_29 : decode cX9_fee 29 = .ok (.ireturn, 1) := dk_172 (dk_at dksX9_fee_1 5 rfl rfl)
abbrev cX9_witness : ByteArray := prog_19_method_78_code
def yX9_witness : MethodName := ⟨RX9, "witness", "(II)I"⟩
def dkwX9_witness_1 : List UInt8 := [182, 0, 200, 167, 0, 8, 42, 4, 182, 0, 197, 172]
abbrev dktX9_witness_1 : List UInt8 := dkwX9_witness_1 ++ []
def dkwX9_witness_0 : List UInt8 := [42, 27, 182, 1, 84, 153, 0, 25, 28, 155, 0, 21, 28, 8, 163, 0, 16, 42, 42, 27, 28, 182, 1, 87]
abbrev dktX9_witness_0 : List UInt8 := dkwX9_witness_0 ++ dktX9_witness_1
theorem dksX9_witness_0 : cX9_witness.data.toList.drop 0 = dktX9_witness_0 := by decide +kernel
theorem dksX9_witness_1 : cX9_witness.data.toList.drop 24 = dktX9_witness_1 := dk_seg dksX9_witness_0 24 rfl rfl
theorem dX9_witness_0 : decode cX9_witness 0 = .ok (.aload_n 0, 1) := dk_42 (dk_at dksX9_witness_0 0 rfl rfl)
theorem dX9_witness_1 : decode cX9_witness 1 = .ok (.iload_n 1, 1) := dk_27 (dk_at dksX9_witness_0 1 rfl rfl)
theorem dX9_witness_2 : decode cX9_witness 2 = .ok (.invokevirtual 340, 3) := dk_182 1 84 (dk_at dksX9_witness_0 2 rfl rfl)
theorem dX9_witness_5 : decode cX9_witness 5 = .ok (.ifCond .eq 25, 3) := dk_153 0 25 (dk_at dksX9_witness_0 5 rfl rfl)
theorem dX9_witness_8 : decode cX9_witness 8 = .ok (.iload_n 2, 1) := dk_28 (dk_at dksX9_witness_0 8 rfl rfl)
theorem dX9_witness_9 : decode cX9_witness 9 = .ok (.ifCond .lt 21, 3) := dk_155 0 21 (dk_at dksX9_witness_0 9 rfl rfl)
theorem dX9_witness_12 : decode cX9_witness 12 = .ok (.iload_n 2, 1) := dk_28 (dk_at dksX9_witness_0 12 rfl rfl)
theorem dX9_witness_13 : decode cX9_witness 13 = .ok (.iconst 5, 1) := dk_8 (dk_at dksX9_witness_0 13 rfl rfl)
theorem dX9_witness_14 : decode cX9_witness 14 = .ok (.if_icmp .gt 16, 3) := dk_163 0 16 (dk_at dksX9_witness_0 14 rfl rfl)
theorem dX9_witness_17 : decode cX9_witness 17 = .ok (.aload_n 0, 1) := dk_42 (dk_at dksX9_witness_0 17 rfl rfl)
theorem dX9_witness_18 : decode cX9_witness 18 = .ok (.aload_n 0, 1) := dk_42 (dk_at dksX9_witness_0 18 rfl rfl)
theorem dX9_witness_19 : decode cX9_witness 19 = .ok (.iload_n 1, 1) := dk_27 (dk_at dksX9_witness_0 19 rfl rfl)
theorem dX9_witness_20 : decode cX9_witness 20 = .ok (.iload_n 2, 1) := dk_28 (dk_at dksX9_witness_0 20 rfl rfl)
theorem dX9_witness_21 : decode cX9_witness 21 = .ok (.invokevirtual 343, 3) := dk_182 1 87 (dk_at dksX9_witness_0 21 rfl rfl)
theorem dX9_witness_24 : decode cX9_witness 24 = .ok (.invokevirtual 200, 3) := dk_182 0 200 (dk_at dksX9_witness_1 0 rfl rfl)
theorem dX9_witness_27 : decode cX9_witness 27 = .ok (.goto 8, 3) := dk_167 0 8 (dk_at dksX9_witness_1 3 rfl rfl)
theorem dX9_witness_30 : decode cX9_witness 30 = .ok (.aload_n 0, 1) := dk_42 (dk_at dksX9_witness_1 6 rfl rfl)
theorem dX9_witness_31 : decode cX9_witness 31 = .ok (.iconst 1, 1) := dk_4 (dk_at dksX9_witness_1 7 rfl rfl)
theorem dX9_witness_32 : decode cX9_witness 32 = .ok (.invokevirtual 197, 3) := dk_182 0 197 (dk_at dksX9_witness_1 8 rfl rfl)
theorem dX9_witness_35 : decode cX9_witness 35 = .ok (.ireturn, 1) := dk_172 (dk_at dksX9_witness_1 11 rfl rfl)
abbrev cX9_isWitness : ByteArray := prog_19_method_65_code
def yX9_isWitness : MethodName := ⟨RX9, "isWitness", "(I)Z"⟩
def dkwX9_isWitness_0 : List UInt8 := [27, 155, 0, 17, 27, 42, 180, 0, 7, 7, 46, 162, 0, 7, 4, 167, 0, 4, 3, 172]
abbrev dktX9_isWitness_0 : List UInt8 := dkwX9_isWitness_0 ++ []
theorem dksX9_isWitness_0 : cX9_isWitness.data.toList.drop 0 = dktX9_isWitness_0 := by decide +kernel
theorem dX9_isWitness_0 : decode cX9_isWitness 0 = .ok (.iload_n 1, 1) := dk_27 (dk_at dksX9_isWitness_0 0 rfl rfl)
theorem dX9_isWitness_1 : decode cX9_isWitness 1 = .ok (.ifCond .lt 17, 3) := dk_155 0 17 (dk_at dksX9_isWitness_0 1 rfl rfl)
theorem dX9_isWitness_4 : decode cX9_isWitness 4 = .ok (.iload_n 1, 1) := dk_27 (dk_at dksX9_isWitness_0 4 rfl rfl)
theorem dX9_isWitness_5 : decode cX9_isWitness 5 = .ok (.aload_n 0, 1) := dk_42 (dk_at dksX9_isWitness_0 5 rfl rfl)
theorem dX9_isWitness_6 : decode cX9_isWitness 6 = .ok (.getfield 7, 3) := dk_180 0 7 (dk_at dksX9_isWitness_0 6 rfl rfl)
theorem dX9_isWitness_9 : decode cX9_isWitness 9 = .ok (.iconst 4, 1) := dk_7 (dk_at dksX9_isWitness_0 9 rfl rfl)
theorem dX9_isWitness_10 : decode cX9_isWitness 10 = .ok (.iaload, 1) := dk_46 (dk_at dksX9_isWitness_0 10 rfl rfl)
theorem dX9_isWitness_11 : decode cX9_isWitness 11 = .ok (.if_icmp .ge 7, 3) := dk_162 0 7 (dk_at dksX9_isWitness_0 11 rfl rfl)
theorem dX9_isWitness_14 : decode cX9_isWitness 14 = .ok (.iconst 1, 1) := dk_4 (dk_at dksX9_isWitness_0 14 rfl rfl)
theorem dX9_isWitness_15 : decode cX9_isWitness 15 = .ok (.goto 4, 3) := dk_167 0 4 (dk_at dksX9_isWitness_0 15 rfl rfl)
theorem dX9_isWitness_18 : decode cX9_isWitness 18 = .ok (.iconst 0, 1) := dk_3 (dk_at dksX9_isWitness_0 18 rfl rfl)
theorem dX9_isWitness_19 : decode cX9_isWitness 19 = .ok (.ireturn, 1) := dk_172 (dk_at dksX9_isWitness_0 19 rfl rfl)
abbrev cX9_answer : ByteArray := prog_19_method_87_code
def yX9_answer : MethodName := ⟨RX9, "answer", "(IIII)I"⟩
def dkwX9_answer_2 : List UInt8 := [27, 28, 29, 21, 4, 182, 1, 112, 182, 0, 200, 167, 0, 9, 42, 16, 7, 182, 0, 197, 172]
abbrev dktX9_answer_2 : List UInt8 := dkwX9_answer_2 ++ []
def dkwX9_answer_1 : List UInt8 := [21, 4, 184, 1, 109, 154, 0, 9, 42, 4, 182, 0, 197, 172, 42, 29, 182, 1, 75, 153, 0, 19, 42, 42]
abbrev dktX9_answer_1 : List UInt8 := dkwX9_answer_1 ++ dktX9_answer_2
def dkwX9_answer_0 : List UInt8 := [42, 27, 182, 1, 84, 153, 0, 27, 42, 28, 182, 1, 78, 153, 0, 19, 42, 29, 182, 1, 72, 153, 0, 11]
abbrev dktX9_answer_0 : List UInt8 := dkwX9_answer_0 ++ dktX9_answer_1
theorem dksX9_answer_0 : cX9_answer.data.toList.drop 0 = dktX9_answer_0 := by decide +kernel
theorem dksX9_answer_1 : cX9_answer.data.toList.drop 24 = dktX9_answer_1 := dk_seg dksX9_answer_0 24 rfl rfl
theorem dksX9_answer_2 : cX9_answer.data.toList.drop 48 = dktX9_answer_2 := dk_seg dksX9_answer_1 24 rfl rfl
theorem dX9_answer_0 : decode cX9_answer 0 = .ok (.aload_n 0, 1) := dk_42 (dk_at dksX9_answer_0 0 rfl rfl)
theorem dX9_answer_1 : decode cX9_answer 1 = .ok (.iload_n 1, 1) := dk_27 (dk_at dksX9_answer_0 1 rfl rfl)
theorem dX9_answer_2 : decode cX9_answer 2 = .ok (.invokevirtual 340, 3) := dk_182 1 84 (dk_at dksX9_answer_0 2 rfl rfl)
theorem dX9_answer_5 : decode cX9_answer 5 = .ok (.ifCond .eq 27, 3) := dk_153 0 27 (dk_at dksX9_answer_0 5 rfl rfl)
theorem dX9_answer_8 : decode cX9_answer 8 = .ok (.aload_n 0, 1) := dk_42 (dk_at dksX9_answer_0 8 rfl rfl)
theorem dX9_answer_9 : decode cX9_answer 9 = .ok (.iload_n 2, 1) := dk_28 (dk_at dksX9_answer_0 9 rfl rfl)
theorem dX9_answer_10 : decode cX9_answer 10 = .ok (.invokevirtual 334, 3) := dk_182 1 78 (dk_at dksX9_answer_0 10 rfl rfl)
theorem dX9_answer_13 : decode cX9_answer 13 = .ok (.ifCond .eq 19, 3) := dk_153 0 19 (dk_at dksX9_answer_0 13 rfl rfl)
theorem dX9_answer_16 : decode cX9_answer 16 = .ok (.aload_n 0, 1) := dk_42 (dk_at dksX9_answer_0 16 rfl rfl)
theorem dX9_answer_17 : decode cX9_answer 17 = .ok (.iload_n 3, 1) := dk_29 (dk_at dksX9_answer_0 17 rfl rfl)
theorem dX9_answer_18 : decode cX9_answer 18 = .ok (.invokevirtual 328, 3) := dk_182 1 72 (dk_at dksX9_answer_0 18 rfl rfl)
theorem dX9_answer_21 : decode cX9_answer 21 = .ok (.ifCond .eq 11, 3) := dk_153 0 11 (dk_at dksX9_answer_0 21 rfl rfl)
theorem dX9_answer_24 : decode cX9_answer 24 = .ok (.iload 4, 2) := dk_21 4 (dk_at dksX9_answer_1 0 rfl rfl)
theorem dX9_answer_26 : decode cX9_answer 26 = .ok (.invokestatic 365, 3) := dk_184 1 109 (dk_at dksX9_answer_1 2 rfl rfl)
theorem dX9_answer_29 : decode cX9_answer 29 = .ok (.ifCond .ne 9, 3) := dk_154 0 9 (dk_at dksX9_answer_1 5 rfl rfl)
theorem dX9_answer_32 : decode cX9_answer 32 = .ok (.aload_n 0, 1) := dk_42 (dk_at dksX9_answer_1 8 rfl rfl)
theorem dX9_answer_33 : decode cX9_answer 33 = .ok (.iconst 1, 1) := dk_4 (dk_at dksX9_answer_1 9 rfl rfl)
theorem dX9_answer_34 : decode cX9_answer 34 = .ok (.invokevirtual 197, 3) := dk_182 0 197 (dk_at dksX9_answer_1 10 rfl rfl)
theorem dX9_answer_37 : decode cX9_answer 37 = .ok (.ireturn, 1) := dk_172 (dk_at dksX9_answer_1 13 rfl rfl)
theorem dX9_answer_38 : decode cX9_answer 38 = .ok (.aload_n 0, 1) := dk_42 (dk_at dksX9_answer_1 14 rfl rfl)
theorem dX9_answer_39 : decode cX9_answer 39 = .ok (.iload_n 3, 1) := dk_29 (dk_at dksX9_answer_1 15 rfl rfl)
theorem dX9_answer_40 : decode cX9_answer 40 = .ok (.invokevirtual 331, 3) := dk_182 1 75 (dk_at dksX9_answer_1 16 rfl rfl)
theorem dX9_answer_43 : decode cX9_answer 43 = .ok (.ifCond .eq 19, 3) := dk_153 0 19 (dk_at dksX9_answer_1 19 rfl rfl)
theorem dX9_answer_46 : decode cX9_answer 46 = .ok (.aload_n 0, 1) := dk_42 (dk_at dksX9_answer_1 22 rfl rfl)
theorem dX9_answer_47 : decode cX9_answer 47 = .ok (.aload_n 0, 1) := dk_42 (dk_at dksX9_answer_1 23 rfl rfl)
theorem dX9_answer_48 : decode cX9_answer 48 = .ok (.iload_n 1, 1) := dk_27 (dk_at dksX9_answer_2 0 rfl rfl)
theorem dX9_answer_49 : decode cX9_answer 49 = .ok (.iload_n 2, 1) := dk_28 (dk_at dksX9_answer_2 1 rfl rfl)
theorem dX9_answer_50 : decode cX9_answer 50 = .ok (.iload_n 3, 1) := dk_29 (dk_at dksX9_answer_2 2 rfl rfl)
theorem dX9_answer_51 : decode cX9_answer 51 = .ok (.iload 4, 2) := dk_21 4 (dk_at dksX9_answer_2 3 rfl rfl)
theorem dX9_answer_53 : decode cX9_answer 53 = .ok (.invokevirtual 368, 3) := dk_182 1 112 (dk_at dksX9_answer_2 5 rfl rfl)
theorem dX9_answer_56 : decode cX9_answer 56 = .ok (.invokevirtual 200, 3) := dk_182 0 200 (dk_at dksX9_answer_2 8 rfl rfl)
theorem dX9_answer_59 : decode cX9_answer 59 = .ok (.goto 9, 3) := dk_167 0 9 (dk_at dksX9_answer_2 11 rfl rfl)
theorem dX9_answer_62 : decode cX9_answer 62 = .ok (.aload_n 0, 1) := dk_42 (dk_at dksX9_answer_2 14 rfl rfl)
theorem dX9_answer_63 : decode cX9_answer 63 = .ok (.bipush 7, 2) := dk_16 7 (dk_at dksX9_answer_2 15 rfl rfl)
theorem dX9_answer_65 : decode cX9_answer 65 = .ok (.invokevirtual 197, 3) := dk_182 0 197 (dk_at dksX9_answer_2 17 rfl rfl)
theorem dX9_answer_68 : decode cX9_answer 68 = .ok (.ireturn, 1) := dk_172 (dk_at dksX9_answer_2 20 rfl rfl)
abbrev cX9_isKind : ByteArray := prog_19_method_66_code
def yX9_isKind : MethodName := ⟨RX9, "isKind", "(I)Z"⟩
def dkwX9_isKind_0 : List UInt8 := [26, 155, 0, 12, 26, 7, 162, 0, 7, 4, 167, 0, 4, 3, 172]
abbrev dktX9_isKind_0 : List UInt8 := dkwX9_isKind_0 ++ []
theorem dksX9_isKind_0 : cX9_isKind.data.toList.drop 0 = dktX9_isKind_0 := by decide +kernel
theorem dX9_isKind_0 : decode cX9_isKind 0 = .ok (.iload_n 0, 1) := dk_26 (dk_at dksX9_isKind_0 0 rfl rfl)
theorem dX9_isKind_1 : decode cX9_isKind 1 = .ok (.ifCond .lt 12, 3) := dk_155 0 12 (dk_at dksX9_isKind_0 1 rfl rfl)
theorem dX9_isKind_4 : decode cX9_isKind 4 = .ok (.iload_n 0, 1) := dk_26 (dk_at dksX9_isKind_0 4 rfl rfl)
theorem dX9_isKind_5 : decode cX9_isKind 5 = .ok (.iconst 4, 1) := dk_7 (dk_at dksX9_isKind_0 5 rfl rfl)
theorem dX9_isKind_6 : decode cX9_isKind 6 = .ok (.if_icmp .ge 7, 3) := dk_162 0 7 (dk_at dksX9_isKind_0 6 rfl rfl)
theorem dX9_isKind_9 : decode cX9_isKind 9 = .ok (.iconst 1, 1) := dk_4 (dk_at dksX9_isKind_0 9 rfl rfl)
theorem dX9_isKind_10 : decode cX9_isKind 10 = .ok (.goto 4, 3) := dk_167 0 4 (dk_at dksX9_isKind_0 10 rfl rfl)
theorem dX9_isKind_13 : decode cX9_isKind 13 = .ok (.iconst 0, 1) := dk_3 (dk_at dksX9_isKind_0 13 rfl rfl)
theorem dX9_isKind_14 : decode cX9_isKind 14 = .ok (.ireturn, 1) := dk_172 (dk_at dksX9_isKind_0 14 rfl rfl)
abbrev cX9_saysAs : ByteArray := prog_19_method_79_code
def yX9_saysAs : MethodName := ⟨RX9, "saysAs", "(IIII)I"⟩
def dkwX9_saysAs_0 : List UInt8 := [42, 180, 0, 60, 7, 17, 1, 0, 16, 12, 27, 104, 28, 96, 104, 29, 96, 104, 21, 4, 96, 46, 172]
abbrev dktX9_saysAs_0 : List UInt8 := dkwX9_saysAs_0 ++ []
theorem dksX9_saysAs_0 : cX9_saysAs.data.toList.drop 0 = dktX9_saysAs_0 := by decide +kernel
theorem dX9_saysAs_0 : decode cX9_saysAs 0 = .ok (.aload_n 0, 1) := dk_42 (dk_at dksX9_saysAs_0 0 rfl rfl)
theorem dX9_saysAs_1 : decode cX9_saysAs 1 = .ok (.getfield 60, 3) := dk_180 0 60 (dk_at dksX9_saysAs_0 1 rfl rfl)
theorem dX9_saysAs_4 : decode cX9_saysAs 4 = .ok (.iconst 4, 1) := dk_7 (dk_at dksX9_saysAs_0 4 rfl rfl)
theorem dX9_saysAs_5 : decode cX9_saysAs 5 = .ok (.sipush 256, 3) := dk_17 1 0 (dk_at dksX9_saysAs_0 5 rfl rfl)
theorem dX9_saysAs_8 : decode cX9_saysAs 8 = .ok (.bipush 12, 2) := dk_16 12 (dk_at dksX9_saysAs_0 8 rfl rfl)
theorem dX9_saysAs_10 : decode cX9_saysAs 10 = .ok (.iload_n 1, 1) := dk_27 (dk_at dksX9_saysAs_0 10 rfl rfl)
theorem dX9_saysAs_11 : decode cX9_saysAs 11 = .ok (.imul, 1) := dk_104 (dk_at dksX9_saysAs_0 11 rfl rfl)
theorem dX9_saysAs_12 : decode cX9_saysAs 12 = .ok (.iload_n 2, 1) := dk_28 (dk_at dksX9_saysAs_0 12 rfl rfl)
theorem dX9_saysAs_13 : decode cX9_saysAs 13 = .ok (.iadd, 1) := dk_96 (dk_at dksX9_saysAs_0 13 rfl rfl)
theorem dX9_saysAs_14 : decode cX9_saysAs 14 = .ok (.imul, 1) := dk_104 (dk_at dksX9_saysAs_0 14 rfl rfl)
theorem dX9_saysAs_15 : decode cX9_saysAs 15 = .ok (.iload_n 3, 1) := dk_29 (dk_at dksX9_saysAs_0 15 rfl rfl)
theorem dX9_saysAs_16 : decode cX9_saysAs 16 = .ok (.iadd, 1) := dk_96 (dk_at dksX9_saysAs_0 16 rfl rfl)
theorem dX9_saysAs_17 : decode cX9_saysAs 17 = .ok (.imul, 1) := dk_104 (dk_at dksX9_saysAs_0 17 rfl rfl)
theorem dX9_saysAs_18 : decode cX9_saysAs 18 = .ok (.iload 4, 2) := dk_21 4 (dk_at dksX9_saysAs_0 18 rfl rfl)
theorem dX9_saysAs_20 : decode cX9_saysAs 20 = .ok (.iadd, 1) := dk_96 (dk_at dksX9_saysAs_0 20 rfl rfl)
theorem dX9_saysAs_21 : decode cX9_saysAs 21 = .ok (.iaload, 1) := dk_46 (dk_at dksX9_saysAs_0 21 rfl rfl)
theorem dX9_saysAs_22 : decode cX9_saysAs 22 = .ok (.ireturn, 1) := dk_172 (dk_at dksX9_saysAs_0 22 rfl rfl)
abbrev cX9_hear : ByteArray := prog_19_method_95_code
def yX9_hear : MethodName := ⟨RX9, "hear", "(III)Z"⟩
def dkwX9_hear_4 : List UInt8 := [29, 182, 1, 128, 42, 3, 182, 0, 109, 172]
abbrev dktX9_hear_4 : List UInt8 := dkwX9_hear_4 ++ []
def dkwX9_hear_3 : List UInt8 := [4, 182, 1, 66, 28, 160, 0, 10, 42, 16, 7, 182, 0, 109, 172, 132, 4, 1, 167, 255, 223, 42, 27, 28]
abbrev dktX9_hear_3 : List UInt8 := dkwX9_hear_3 ++ dktX9_hear_4
def dkwX9_hear_2 : List UInt8 := [42, 7, 182, 0, 109, 172, 3, 54, 4, 21, 4, 42, 180, 0, 7, 16, 6, 46, 162, 0, 27, 42, 21, 4]
abbrev dktX9_hear_2 : List UInt8 := dkwX9_hear_2 ++ dktX9_hear_3
def dkwX9_hear_1 : List UInt8 := [180, 0, 7, 6, 46, 104, 161, 0, 9, 42, 4, 182, 0, 109, 172, 42, 182, 1, 69, 16, 9, 160, 0, 9]
abbrev dktX9_hear_1 : List UInt8 := dkwX9_hear_1 ++ dktX9_hear_2
def dkwX9_hear_0 : List UInt8 := [42, 27, 182, 1, 84, 153, 0, 27, 42, 28, 182, 1, 78, 153, 0, 19, 29, 155, 0, 15, 29, 5, 42]
abbrev dktX9_hear_0 : List UInt8 := dkwX9_hear_0 ++ dktX9_hear_1
theorem dksX9_hear_0 : cX9_hear.data.toList.drop 0 = dktX9_hear_0 := by decide +kernel
theorem dksX9_hear_1 : cX9_hear.data.toList.drop 23 = dktX9_hear_1 := dk_seg dksX9_hear_0 23 rfl rfl
theorem dksX9_hear_2 : cX9_hear.data.toList.drop 47 = dktX9_hear_2 := dk_seg dksX9_hear_1 24 rfl rfl
theorem dksX9_hear_3 : cX9_hear.data.toList.drop 71 = dktX9_hear_3 := dk_seg dksX9_hear_2 24 rfl rfl
theorem dksX9_hear_4 : cX9_hear.data.toList.drop 95 = dktX9_hear_4 := dk_seg dksX9_hear_3 24 rfl rfl
theorem dX9_hear_0 : decode cX9_hear 0 = .ok (.aload_n 0, 1) := dk_42 (dk_at dksX9_hear_0 0 rfl rfl)
theorem dX9_hear_1 : decode cX9_hear 1 = .ok (.iload_n 1, 1) := dk_27 (dk_at dksX9_hear_0 1 rfl rfl)
theorem dX9_hear_2 : decode cX9_hear 2 = .ok (.invokevirtual 340, 3) := dk_182 1 84 (dk_at dksX9_hear_0 2 rfl rfl)
theorem dX9_hear_5 : decode cX9_hear 5 = .ok (.ifCond .eq 27, 3) := dk_153 0 27 (dk_at dksX9_hear_0 5 rfl rfl)
theorem dX9_hear_8 : decode cX9_hear 8 = .ok (.aload_n 0, 1) := dk_42 (dk_at dksX9_hear_0 8 rfl rfl)
theorem dX9_hear_9 : decode cX9_hear 9 = .ok (.iload_n 2, 1) := dk_28 (dk_at dksX9_hear_0 9 rfl rfl)
theorem dX9_hear_10 : decode cX9_hear 10 = .ok (.invokevirtual 334, 3) := dk_182 1 78 (dk_at dksX9_hear_0 10 rfl rfl)
theorem dX9_hear_13 : decode cX9_hear 13 = .ok (.ifCond .eq 19, 3) := dk_153 0 19 (dk_at dksX9_hear_0 13 rfl rfl)
theorem dX9_hear_16 : decode cX9_hear 16 = .ok (.iload_n 3, 1) := dk_29 (dk_at dksX9_hear_0 16 rfl rfl)
theorem dX9_hear_17 : decode cX9_hear 17 = .ok (.ifCond .lt 15, 3) := dk_155 0 15 (dk_at dksX9_hear_0 17 rfl rfl)
theorem dX9_hear_20 : decode cX9_hear 20 = .ok (.iload_n 3, 1) := dk_29 (dk_at dksX9_hear_0 20 rfl rfl)
theorem dX9_hear_21 : decode cX9_hear 21 = .ok (.iconst 2, 1) := dk_5 (dk_at dksX9_hear_0 21 rfl rfl)
theorem dX9_hear_22 : decode cX9_hear 22 = .ok (.aload_n 0, 1) := dk_42 (dk_at dksX9_hear_0 22 rfl rfl)
theorem dX9_hear_23 : decode cX9_hear 23 = .ok (.getfield 7, 3) := dk_180 0 7 (dk_at dksX9_hear_1 0 rfl rfl)
theorem dX9_hear_26 : decode cX9_hear 26 = .ok (.iconst 3, 1) := dk_6 (dk_at dksX9_hear_1 3 rfl rfl)
theorem dX9_hear_27 : decode cX9_hear 27 = .ok (.iaload, 1) := dk_46 (dk_at dksX9_hear_1 4 rfl rfl)
theorem dX9_hear_28 : decode cX9_hear 28 = .ok (.imul, 1) := dk_104 (dk_at dksX9_hear_1 5 rfl rfl)
theorem dX9_hear_29 : decode cX9_hear 29 = .ok (.if_icmp .lt 9, 3) := dk_161 0 9 (dk_at dksX9_hear_1 6 rfl rfl)
theorem dX9_hear_32 : decode cX9_hear 32 = .ok (.aload_n 0, 1) := dk_42 (dk_at dksX9_hear_1 9 rfl rfl)
theorem dX9_hear_33 : decode cX9_hear 33 = .ok (.iconst 1, 1) := dk_4 (dk_at dksX9_hear_1 10 rfl rfl)
theorem dX9_hear_34 : decode cX9_hear 34 = .ok (.invokevirtual 109, 3) := dk_182 0 109 (dk_at dksX9_hear_1 11 rfl rfl)
theorem dX9_hear_37 : decode cX9_hear 37 = .ok (.ireturn, 1) := dk_172 (dk_at dksX9_hear_1 14 rfl rfl)
theorem dX9_hear_38 : decode cX9_hear 38 = .ok (.aload_n 0, 1) := dk_42 (dk_at dksX9_hear_1 15 rfl rfl)
theorem dX9_hear_39 : decode cX9_hear 39 = .ok (.invokevirtual 325, 3) := dk_182 1 69 (dk_at dksX9_hear_1 16 rfl rfl)
theorem dX9_hear_42 : decode cX9_hear 42 = .ok (.bipush 9, 2) := dk_16 9 (dk_at dksX9_hear_1 19 rfl rfl)
theorem dX9_hear_44 : decode cX9_hear 44 = .ok (.if_icmp .ne 9, 3) := dk_160 0 9 (dk_at dksX9_hear_1 21 rfl rfl)
theorem dX9_hear_47 : decode cX9_hear 47 = .ok (.aload_n 0, 1) := dk_42 (dk_at dksX9_hear_2 0 rfl rfl)
theorem dX9_hear_48 : decode cX9_hear 48 = .ok (.iconst 4, 1) := dk_7 (dk_at dksX9_hear_2 1 rfl rfl)
theorem dX9_hear_49 : decode cX9_hear 49 = .ok (.invokevirtual 109, 3) := dk_182 0 109 (dk_at dksX9_hear_2 2 rfl rfl)
theorem dX9_hear_52 : decode cX9_hear 52 = .ok (.ireturn, 1) := dk_172 (dk_at dksX9_hear_2 5 rfl rfl)
theorem dX9_hear_53 : decode cX9_hear 53 = .ok (.iconst 0, 1) := dk_3 (dk_at dksX9_hear_2 6 rfl rfl)
theorem dX9_hear_54 : decode cX9_hear 54 = .ok (.istore 4, 2) := dk_54 4 (dk_at dksX9_hear_2 7 rfl rfl)
theorem dX9_hear_56 : decode cX9_hear 56 = .ok (.iload 4, 2) := dk_21 4 (dk_at dksX9_hear_2 9 rfl rfl)
theorem dX9_hear_58 : decode cX9_hear 58 = .ok (.aload_n 0, 1) := dk_42 (dk_at dksX9_hear_2 11 rfl rfl)
theorem dX9_hear_59 : decode cX9_hear 59 = .ok (.getfield 7, 3) := dk_180 0 7 (dk_at dksX9_hear_2 12 rfl rfl)
theorem dX9_hear_62 : decode cX9_hear 62 = .ok (.bipush 6, 2) := dk_16 6 (dk_at dksX9_hear_2 15 rfl rfl)
theorem dX9_hear_64 : decode cX9_hear 64 = .ok (.iaload, 1) := dk_46 (dk_at dksX9_hear_2 17 rfl rfl)
theorem dX9_hear_65 : decode cX9_hear 65 = .ok (.if_icmp .ge 27, 3) := dk_162 0 27 (dk_at dksX9_hear_2 18 rfl rfl)
theorem dX9_hear_68 : decode cX9_hear 68 = .ok (.aload_n 0, 1) := dk_42 (dk_at dksX9_hear_2 21 rfl rfl)
theorem dX9_hear_69 : decode cX9_hear 69 = .ok (.iload 4, 2) := dk_21 4 (dk_at dksX9_hear_2 22 rfl rfl)
theorem dX9_hear_71 : decode cX9_hear 71 = .ok (.iconst 1, 1) := dk_4 (dk_at dksX9_hear_3 0 rfl rfl)
theorem dX9_hear_72 : decode cX9_hear 72 = .ok (.invokevirtual 322, 3) := dk_182 1 66 (dk_at dksX9_hear_3 1 rfl rfl)
theorem dX9_hear_75 : decode cX9_hear 75 = .ok (.iload_n 2, 1) := dk_28 (dk_at dksX9_hear_3 4 rfl rfl)
theorem dX9_hear_76 : decode cX9_hear 76 = .ok (.if_icmp .ne 10, 3) := dk_160 0 10 (dk_at dksX9_hear_3 5 rfl rfl)
theorem dX9_hear_79 : decode cX9_hear 79 = .ok (.aload_n 0, 1) := dk_42 (dk_at dksX9_hear_3 8 rfl rfl)
theorem dX9_hear_80 : decode cX9_hear 80 = .ok (.bipush 7, 2) := dk_16 7 (dk_at dksX9_hear_3 9 rfl rfl)
theorem dX9_hear_82 : decode cX9_hear 82 = .ok (.invokevirtual 109, 3) := dk_182 0 109 (dk_at dksX9_hear_3 11 rfl rfl)
theorem dX9_hear_85 : decode cX9_hear 85 = .ok (.ireturn, 1) := dk_172 (dk_at dksX9_hear_3 14 rfl rfl)
theorem dX9_hear_86 : decode cX9_hear 86 = .ok (.iinc 4 1, 3) := dk_132 4 1 (dk_at dksX9_hear_3 15 rfl rfl)
theorem dX9_hear_89 : decode cX9_hear 89 = .ok (.goto (-33), 3) := dk_167 255 223 (dk_at dksX9_hear_3 18 rfl rfl)
theorem dX9_hear_92 : decode cX9_hear 92 = .ok (.aload_n 0, 1) := dk_42 (dk_at dksX9_hear_3 21 rfl rfl)
theorem dX9_hear_93 : decode cX9_hear 93 = .ok (.iload_n 1, 1) := dk_27 (dk_at dksX9_hear_3 22 rfl rfl)
theorem dX9_hear_94 : decode cX9_hear 94 = .ok (.iload_n 2, 1) := dk_28 (dk_at dksX9_hear_3 23 rfl rfl)
theorem dX9_hear_95 : decode cX9_hear 95 = .ok (.iload_n 3, 1) := dk_29 (dk_at dksX9_hear_4 0 rfl rfl)
theorem dX9_hear_96 : decode cX9_hear 96 = .ok (.invokevirtual 384, 3) := dk_182 1 128 (dk_at dksX9_hear_4 1 rfl rfl)
theorem dX9_hear_99 : decode cX9_hear 99 = .ok (.aload_n 0, 1) := dk_42 (dk_at dksX9_hear_4 4 rfl rfl)
theorem dX9_hear_100 : decode cX9_hear 100 = .ok (.iconst 0, 1) := dk_3 (dk_at dksX9_hear_4 5 rfl rfl)
theorem dX9_hear_101 : decode cX9_hear 101 = .ok (.invokevirtual 109, 3) := dk_182 0 109 (dk_at dksX9_hear_4 6 rfl rfl)
theorem dX9_hear_104 : decode cX9_hear 104 = .ok (.ireturn, 1) := dk_172 (dk_at dksX9_hear_4 9 rfl rfl)
abbrev cX9_hears : ByteArray := prog_19_method_96_code
def yX9_hears : MethodName := ⟨RX9, "hears", "(III)V"⟩
def dkwX9_hears_2 : List UInt8 := [21, 4, 6, 96, 42, 180, 0, 7, 8, 46, 79, 42, 180, 0, 7, 16, 6, 92, 46, 4, 96, 79, 177]
abbrev dktX9_hears_2 : List UInt8 := dkwX9_hears_2 ++ []
def dkwX9_hears_1 : List UInt8 := [180, 0, 7, 21, 4, 4, 96, 28, 79, 42, 180, 0, 7, 21, 4, 5, 96, 29, 79, 42, 180, 0, 7]
abbrev dktX9_hears_1 : List UInt8 := dkwX9_hears_1 ++ dktX9_hears_2
def dkwX9_hears_0 : List UInt8 := [16, 100, 7, 42, 180, 0, 7, 16, 6, 46, 104, 96, 54, 4, 42, 180, 0, 7, 21, 4, 27, 79, 42]
abbrev dktX9_hears_0 : List UInt8 := dkwX9_hears_0 ++ dktX9_hears_1
theorem dksX9_hears_0 : cX9_hears.data.toList.drop 0 = dktX9_hears_0 := by decide +kernel
theorem dksX9_hears_1 : cX9_hears.data.toList.drop 23 = dktX9_hears_1 := dk_seg dksX9_hears_0 23 rfl rfl
theorem dksX9_hears_2 : cX9_hears.data.toList.drop 46 = dktX9_hears_2 := dk_seg dksX9_hears_1 23 rfl rfl
theorem dX9_hears_0 : decode cX9_hears 0 = .ok (.bipush 100, 2) := dk_16 100 (dk_at dksX9_hears_0 0 rfl rfl)
theorem dX9_hears_2 : decode cX9_hears 2 = .ok (.iconst 4, 1) := dk_7 (dk_at dksX9_hears_0 2 rfl rfl)
theorem dX9_hears_3 : decode cX9_hears 3 = .ok (.aload_n 0, 1) := dk_42 (dk_at dksX9_hears_0 3 rfl rfl)
theorem dX9_hears_4 : decode cX9_hears 4 = .ok (.getfield 7, 3) := dk_180 0 7 (dk_at dksX9_hears_0 4 rfl rfl)
theorem dX9_hears_7 : decode cX9_hears 7 = .ok (.bipush 6, 2) := dk_16 6 (dk_at dksX9_hears_0 7 rfl rfl)
theorem dX9_hears_9 : decode cX9_hears 9 = .ok (.iaload, 1) := dk_46 (dk_at dksX9_hears_0 9 rfl rfl)
theorem dX9_hears_10 : decode cX9_hears 10 = .ok (.imul, 1) := dk_104 (dk_at dksX9_hears_0 10 rfl rfl)
theorem dX9_hears_11 : decode cX9_hears 11 = .ok (.iadd, 1) := dk_96 (dk_at dksX9_hears_0 11 rfl rfl)
theorem dX9_hears_12 : decode cX9_hears 12 = .ok (.istore 4, 2) := dk_54 4 (dk_at dksX9_hears_0 12 rfl rfl)
theorem dX9_hears_14 : decode cX9_hears 14 = .ok (.aload_n 0, 1) := dk_42 (dk_at dksX9_hears_0 14 rfl rfl)
theorem dX9_hears_15 : decode cX9_hears 15 = .ok (.getfield 7, 3) := dk_180 0 7 (dk_at dksX9_hears_0 15 rfl rfl)
theorem dX9_hears_18 : decode cX9_hears 18 = .ok (.iload 4, 2) := dk_21 4 (dk_at dksX9_hears_0 18 rfl rfl)
theorem dX9_hears_20 : decode cX9_hears 20 = .ok (.iload_n 1, 1) := dk_27 (dk_at dksX9_hears_0 20 rfl rfl)
theorem dX9_hears_21 : decode cX9_hears 21 = .ok (.iastore, 1) := dk_79 (dk_at dksX9_hears_0 21 rfl rfl)
theorem dX9_hears_22 : decode cX9_hears 22 = .ok (.aload_n 0, 1) := dk_42 (dk_at dksX9_hears_0 22 rfl rfl)
theorem dX9_hears_23 : decode cX9_hears 23 = .ok (.getfield 7, 3) := dk_180 0 7 (dk_at dksX9_hears_1 0 rfl rfl)
theorem dX9_hears_26 : decode cX9_hears 26 = .ok (.iload 4, 2) := dk_21 4 (dk_at dksX9_hears_1 3 rfl rfl)
theorem dX9_hears_28 : decode cX9_hears 28 = .ok (.iconst 1, 1) := dk_4 (dk_at dksX9_hears_1 5 rfl rfl)
theorem dX9_hears_29 : decode cX9_hears 29 = .ok (.iadd, 1) := dk_96 (dk_at dksX9_hears_1 6 rfl rfl)
theorem dX9_hears_30 : decode cX9_hears 30 = .ok (.iload_n 2, 1) := dk_28 (dk_at dksX9_hears_1 7 rfl rfl)
theorem dX9_hears_31 : decode cX9_hears 31 = .ok (.iastore, 1) := dk_79 (dk_at dksX9_hears_1 8 rfl rfl)
theorem dX9_hears_32 : decode cX9_hears 32 = .ok (.aload_n 0, 1) := dk_42 (dk_at dksX9_hears_1 9 rfl rfl)
theorem dX9_hears_33 : decode cX9_hears 33 = .ok (.getfield 7, 3) := dk_180 0 7 (dk_at dksX9_hears_1 10 rfl rfl)
theorem dX9_hears_36 : decode cX9_hears 36 = .ok (.iload 4, 2) := dk_21 4 (dk_at dksX9_hears_1 13 rfl rfl)
theorem dX9_hears_38 : decode cX9_hears 38 = .ok (.iconst 2, 1) := dk_5 (dk_at dksX9_hears_1 15 rfl rfl)
theorem dX9_hears_39 : decode cX9_hears 39 = .ok (.iadd, 1) := dk_96 (dk_at dksX9_hears_1 16 rfl rfl)
theorem dX9_hears_40 : decode cX9_hears 40 = .ok (.iload_n 3, 1) := dk_29 (dk_at dksX9_hears_1 17 rfl rfl)
theorem dX9_hears_41 : decode cX9_hears 41 = .ok (.iastore, 1) := dk_79 (dk_at dksX9_hears_1 18 rfl rfl)
theorem dX9_hears_42 : decode cX9_hears 42 = .ok (.aload_n 0, 1) := dk_42 (dk_at dksX9_hears_1 19 rfl rfl)
theorem dX9_hears_43 : decode cX9_hears 43 = .ok (.getfield 7, 3) := dk_180 0 7 (dk_at dksX9_hears_1 20 rfl rfl)
theorem dX9_hears_46 : decode cX9_hears 46 = .ok (.iload 4, 2) := dk_21 4 (dk_at dksX9_hears_2 0 rfl rfl)
theorem dX9_hears_48 : decode cX9_hears 48 = .ok (.iconst 3, 1) := dk_6 (dk_at dksX9_hears_2 2 rfl rfl)
theorem dX9_hears_49 : decode cX9_hears 49 = .ok (.iadd, 1) := dk_96 (dk_at dksX9_hears_2 3 rfl rfl)
theorem dX9_hears_50 : decode cX9_hears 50 = .ok (.aload_n 0, 1) := dk_42 (dk_at dksX9_hears_2 4 rfl rfl)
theorem dX9_hears_51 : decode cX9_hears 51 = .ok (.getfield 7, 3) := dk_180 0 7 (dk_at dksX9_hears_2 5 rfl rfl)
theorem dX9_hears_54 : decode cX9_hears 54 = .ok (.iconst 5, 1) := dk_8 (dk_at dksX9_hears_2 8 rfl rfl)
theorem dX9_hears_55 : decode cX9_hears 55 = .ok (.iaload, 1) := dk_46 (dk_at dksX9_hears_2 9 rfl rfl)
theorem dX9_hears_56 : decode cX9_hears 56 = .ok (.iastore, 1) := dk_79 (dk_at dksX9_hears_2 10 rfl rfl)
theorem dX9_hears_57 : decode cX9_hears 57 = .ok (.aload_n 0, 1) := dk_42 (dk_at dksX9_hears_2 11 rfl rfl)
theorem dX9_hears_58 : decode cX9_hears 58 = .ok (.getfield 7, 3) := dk_180 0 7 (dk_at dksX9_hears_2 12 rfl rfl)
theorem dX9_hears_61 : decode cX9_hears 61 = .ok (.bipush 6, 2) := dk_16 6 (dk_at dksX9_hears_2 15 rfl rfl)
theorem dX9_hears_63 : decode cX9_hears 63 = .ok (.dup2, 1) := dk_92 (dk_at dksX9_hears_2 17 rfl rfl)
theorem dX9_hears_64 : decode cX9_hears 64 = .ok (.iaload, 1) := dk_46 (dk_at dksX9_hears_2 18 rfl rfl)
theorem dX9_hears_65 : decode cX9_hears 65 = .ok (.iconst 1, 1) := dk_4 (dk_at dksX9_hears_2 19 rfl rfl)
theorem dX9_hears_66 : decode cX9_hears 66 = .ok (.iadd, 1) := dk_96 (dk_at dksX9_hears_2 20 rfl rfl)
theorem dX9_hears_67 : decode cX9_hears 67 = .ok (.iastore, 1) := dk_79 (dk_at dksX9_hears_2 21 rfl rfl)
theorem dX9_hears_68 : decode cX9_hears 68 = .ok (.return_, 1) := dk_177 (dk_at dksX9_hears_2 22 rfl rfl)
abbrev cX9_unsay : ByteArray := prog_19_method_97_code
def yX9_unsay : MethodName := ⟨RX9, "unsay", "()I"⟩
def dkwX9_unsay_1 : List UInt8 := [46, 4, 100, 79, 42, 42, 180, 0, 7, 16, 6, 46, 182, 0, 200, 172]
abbrev dktX9_unsay_1 : List UInt8 := dkwX9_unsay_1 ++ []
def dkwX9_unsay_0 : List UInt8 := [42, 180, 0, 7, 16, 6, 46, 154, 0, 10, 42, 16, 6, 182, 0, 197, 172, 42, 180, 0, 7, 16, 6, 92]
abbrev dktX9_unsay_0 : List UInt8 := dkwX9_unsay_0 ++ dktX9_unsay_1
theorem dksX9_unsay_0 : cX9_unsay.data.toList.drop 0 = dktX9_unsay_0 := by decide +kernel
theorem dksX9_unsay_1 : cX9_unsay.data.toList.drop 24 = dktX9_unsay_1 := dk_seg dksX9_unsay_0 24 rfl rfl
theorem dX9_unsay_0 : decode cX9_unsay 0 = .ok (.aload_n 0, 1) := dk_42 (dk_at dksX9_unsay_0 0 rfl rfl)
theorem dX9_unsay_1 : decode cX9_unsay 1 = .ok (.getfield 7, 3) := dk_180 0 7 (dk_at dksX9_unsay_0 1 rfl rfl)
theorem dX9_unsay_4 : decode cX9_unsay 4 = .ok (.bipush 6, 2) := dk_16 6 (dk_at dksX9_unsay_0 4 rfl rfl)
theorem dX9_unsay_6 : decode cX9_unsay 6 = .ok (.iaload, 1) := dk_46 (dk_at dksX9_unsay_0 6 rfl rfl)
theorem dX9_unsay_7 : decode cX9_unsay 7 = .ok (.ifCond .ne 10, 3) := dk_154 0 10 (dk_at dksX9_unsay_0 7 rfl rfl)
theorem dX9_unsay_10 : decode cX9_unsay 10 = .ok (.aload_n 0, 1) := dk_42 (dk_at dksX9_unsay_0 10 rfl rfl)
theorem dX9_unsay_11 : decode cX9_unsay 11 = .ok (.bipush 6, 2) := dk_16 6 (dk_at dksX9_unsay_0 11 rfl rfl)
theorem dX9_unsay_13 : decode cX9_unsay 13 = .ok (.invokevirtual 197, 3) := dk_182 0 197 (dk_at dksX9_unsay_0 13 rfl rfl)
theorem dX9_unsay_16 : decode cX9_unsay 16 = .ok (.ireturn, 1) := dk_172 (dk_at dksX9_unsay_0 16 rfl rfl)
theorem dX9_unsay_17 : decode cX9_unsay 17 = .ok (.aload_n 0, 1) := dk_42 (dk_at dksX9_unsay_0 17 rfl rfl)
theorem dX9_unsay_18 : decode cX9_unsay 18 = .ok (.getfield 7, 3) := dk_180 0 7 (dk_at dksX9_unsay_0 18 rfl rfl)
theorem dX9_unsay_21 : decode cX9_unsay 21 = .ok (.bipush 6, 2) := dk_16 6 (dk_at dksX9_unsay_0 21 rfl rfl)
theorem dX9_unsay_23 : decode cX9_unsay 23 = .ok (.dup2, 1) := dk_92 (dk_at dksX9_unsay_0 23 rfl rfl)
theorem dX9_unsay_24 : decode cX9_unsay 24 = .ok (.iaload, 1) := dk_46 (dk_at dksX9_unsay_1 0 rfl rfl)
theorem dX9_unsay_25 : decode cX9_unsay 25 = .ok (.iconst 1, 1) := dk_4 (dk_at dksX9_unsay_1 1 rfl rfl)
theorem dX9_unsay_26 : decode cX9_unsay 26 = .ok (.isub, 1) := dk_100 (dk_at dksX9_unsay_1 2 rfl rfl)
theorem dX9_unsay_27 : decode cX9_unsay 27 = .ok (.iastore, 1) := dk_79 (dk_at dksX9_unsay_1 3 rfl rfl)
theorem dX9_unsay_28 : decode cX9_unsay 28 = .ok (.aload_n 0, 1) := dk_42 (dk_at dksX9_unsay_1 4 rfl rfl)
theorem dX9_unsay_29 : decode cX9_unsay 29 = .ok (.aload_n 0, 1) := dk_42 (dk_at dksX9_unsay_1 5 rfl rfl)
theorem dX9_unsay_30 : decode cX9_unsay 30 = .ok (.getfield 7, 3) := dk_180 0 7 (dk_at dksX9_unsay_1 6 rfl rfl)
theorem dX9_unsay_33 : decode cX9_unsay 33 = .ok (.bipush 6, 2) := dk_16 6 (dk_at dksX9_unsay_1 9 rfl rfl)
theorem dX9_unsay_35 : decode cX9_unsay 35 = .ok (.iaload, 1) := dk_46 (dk_at dksX9_unsay_1 11 rfl rfl)
theorem dX9_unsay_36 : decode cX9_unsay 36 = .ok (.invokevirtual 200, 3) := dk_182 0 200 (dk_at dksX9_unsay_1 12 rfl rfl)
theorem dX9_unsay_39 : decode cX9_unsay 39 = .ok (.ireturn, 1) := dk_172 (dk_at dksX9_unsay_1 15 rfl rfl)
abbrev cX9_nextDay : ByteArray := prog_19_method_98_code
def yX9_nextDay : MethodName := ⟨RX9, "nextDay", "()I"⟩
def dkwX9_nextDay_1 : List UInt8 := [4, 96, 79, 42, 42, 180, 0, 7, 8, 46, 182, 0, 200, 172]
abbrev dktX9_nextDay_1 : List UInt8 := dkwX9_nextDay_1 ++ []
def dkwX9_nextDay_0 : List UInt8 := [42, 180, 0, 7, 8, 46, 16, 99, 160, 0, 9, 42, 7, 182, 0, 197, 172, 42, 180, 0, 7, 8, 92, 46]
abbrev dktX9_nextDay_0 : List UInt8 := dkwX9_nextDay_0 ++ dktX9_nextDay_1
theorem dksX9_nextDay_0 : cX9_nextDay.data.toList.drop 0 = dktX9_nextDay_0 := by decide +kernel
theorem dksX9_nextDay_1 : cX9_nextDay.data.toList.drop 24 = dktX9_nextDay_1 := dk_seg dksX9_nextDay_0 24 rfl rfl
theorem dX9_nextDay_0 : decode cX9_nextDay 0 = .ok (.aload_n 0, 1) := dk_42 (dk_at dksX9_nextDay_0 0 rfl rfl)
theorem dX9_nextDay_1 : decode cX9_nextDay 1 = .ok (.getfield 7, 3) := dk_180 0 7 (dk_at dksX9_nextDay_0 1 rfl rfl)
theorem dX9_nextDay_4 : decode cX9_nextDay 4 = .ok (.iconst 5, 1) := dk_8 (dk_at dksX9_nextDay_0 4 rfl rfl)
theorem dX9_nextDay_5 : decode cX9_nextDay 5 = .ok (.iaload, 1) := dk_46 (dk_at dksX9_nextDay_0 5 rfl rfl)
theorem dX9_nextDay_6 : decode cX9_nextDay 6 = .ok (.bipush 99, 2) := dk_16 99 (dk_at dksX9_nextDay_0 6 rfl rfl)
theorem dX9_nextDay_8 : decode cX9_nextDay 8 = .ok (.if_icmp .ne 9, 3) := dk_160 0 9 (dk_at dksX9_nextDay_0 8 rfl rfl)
theorem dX9_nextDay_11 : decode cX9_nextDay 11 = .ok (.aload_n 0, 1) := dk_42 (dk_at dksX9_nextDay_0 11 rfl rfl)
theorem dX9_nextDay_12 : decode cX9_nextDay 12 = .ok (.iconst 4, 1) := dk_7 (dk_at dksX9_nextDay_0 12 rfl rfl)
theorem dX9_nextDay_13 : decode cX9_nextDay 13 = .ok (.invokevirtual 197, 3) := dk_182 0 197 (dk_at dksX9_nextDay_0 13 rfl rfl)
theorem dX9_nextDay_16 : decode cX9_nextDay 16 = .ok (.ireturn, 1) := dk_172 (dk_at dksX9_nextDay_0 16 rfl rfl)
theorem dX9_nextDay_17 : decode cX9_nextDay 17 = .ok (.aload_n 0, 1) := dk_42 (dk_at dksX9_nextDay_0 17 rfl rfl)
theorem dX9_nextDay_18 : decode cX9_nextDay 18 = .ok (.getfield 7, 3) := dk_180 0 7 (dk_at dksX9_nextDay_0 18 rfl rfl)
theorem dX9_nextDay_21 : decode cX9_nextDay 21 = .ok (.iconst 5, 1) := dk_8 (dk_at dksX9_nextDay_0 21 rfl rfl)
theorem dX9_nextDay_22 : decode cX9_nextDay 22 = .ok (.dup2, 1) := dk_92 (dk_at dksX9_nextDay_0 22 rfl rfl)
theorem dX9_nextDay_23 : decode cX9_nextDay 23 = .ok (.iaload, 1) := dk_46 (dk_at dksX9_nextDay_0 23 rfl rfl)
theorem dX9_nextDay_24 : decode cX9_nextDay 24 = .ok (.iconst 1, 1) := dk_4 (dk_at dksX9_nextDay_1 0 rfl rfl)
theorem dX9_nextDay_25 : decode cX9_nextDay 25 = .ok (.iadd, 1) := dk_96 (dk_at dksX9_nextDay_1 1 rfl rfl)
theorem dX9_nextDay_26 : decode cX9_nextDay 26 = .ok (.iastore, 1) := dk_79 (dk_at dksX9_nextDay_1 2 rfl rfl)
theorem dX9_nextDay_27 : decode cX9_nextDay 27 = .ok (.aload_n 0, 1) := dk_42 (dk_at dksX9_nextDay_1 3 rfl rfl)
theorem dX9_nextDay_28 : decode cX9_nextDay 28 = .ok (.aload_n 0, 1) := dk_42 (dk_at dksX9_nextDay_1 4 rfl rfl)
theorem dX9_nextDay_29 : decode cX9_nextDay 29 = .ok (.getfield 7, 3) := dk_180 0 7 (dk_at dksX9_nextDay_1 5 rfl rfl)
theorem dX9_nextDay_32 : decode cX9_nextDay 32 = .ok (.iconst 5, 1) := dk_8 (dk_at dksX9_nextDay_1 8 rfl rfl)
theorem dX9_nextDay_33 : decode cX9_nextDay 33 = .ok (.iaload, 1) := dk_46 (dk_at dksX9_nextDay_1 9 rfl rfl)
theorem dX9_nextDay_34 : decode cX9_nextDay 34 = .ok (.invokevirtual 200, 3) := dk_182 0 200 (dk_at dksX9_nextDay_1 10 rfl rfl)
theorem dX9_nextDay_37 : decode cX9_nextDay 37 = .ok (.ireturn, 1) := dk_172 (dk_at dksX9_nextDay_1 13 rfl rfl)
abbrev cX9_heard : ByteArray := prog_19_method_99_code
def yX9_heard : MethodName := ⟨RX9, "heard", "(II)I"⟩
def dkwX9_heard_2 : List UInt8 := [182, 1, 66, 182, 0, 200, 172]
abbrev dktX9_heard_2 : List UInt8 := dkwX9_heard_2 ++ []
def dkwX9_heard_1 : List UInt8 := [180, 0, 7, 16, 6, 46, 161, 0, 12, 42, 16, 6, 182, 0, 197, 167, 0, 13, 42, 42, 27, 28]
abbrev dktX9_heard_1 : List UInt8 := dkwX9_heard_1 ++ dktX9_heard_2
def dkwX9_heard_0 : List UInt8 := [28, 155, 0, 8, 28, 6, 164, 0, 11, 42, 4, 182, 0, 197, 167, 0, 37, 27, 155, 0, 14, 27, 42]
abbrev dktX9_heard_0 : List UInt8 := dkwX9_heard_0 ++ dktX9_heard_1
theorem dksX9_heard_0 : cX9_heard.data.toList.drop 0 = dktX9_heard_0 := by decide +kernel
theorem dksX9_heard_1 : cX9_heard.data.toList.drop 23 = dktX9_heard_1 := dk_seg dksX9_heard_0 23 rfl rfl
theorem dksX9_heard_2 : cX9_heard.data.toList.drop 45 = dktX9_heard_2 := dk_seg dksX9_heard_1 22 rfl rfl
theorem dX9_heard_0 : decode cX9_heard 0 = .ok (.iload_n 2, 1) := dk_28 (dk_at dksX9_heard_0 0 rfl rfl)
theorem dX9_heard_1 : decode cX9_heard 1 = .ok (.ifCond .lt 8, 3) := dk_155 0 8 (dk_at dksX9_heard_0 1 rfl rfl)
theorem dX9_heard_4 : decode cX9_heard 4 = .ok (.iload_n 2, 1) := dk_28 (dk_at dksX9_heard_0 4 rfl rfl)
theorem dX9_heard_5 : decode cX9_heard 5 = .ok (.iconst 3, 1) := dk_6 (dk_at dksX9_heard_0 5 rfl rfl)
theorem dX9_heard_6 : decode cX9_heard 6 = .ok (.if_icmp .le 11, 3) := dk_164 0 11 (dk_at dksX9_heard_0 6 rfl rfl)
theorem dX9_heard_9 : decode cX9_heard 9 = .ok (.aload_n 0, 1) := dk_42 (dk_at dksX9_heard_0 9 rfl rfl)
theorem dX9_heard_10 : decode cX9_heard 10 = .ok (.iconst 1, 1) := dk_4 (dk_at dksX9_heard_0 10 rfl rfl)
theorem dX9_heard_11 : decode cX9_heard 11 = .ok (.invokevirtual 197, 3) := dk_182 0 197 (dk_at dksX9_heard_0 11 rfl rfl)
theorem dX9_heard_14 : decode cX9_heard 14 = .ok (.goto 37, 3) := dk_167 0 37 (dk_at dksX9_heard_0 14 rfl rfl)
theorem dX9_heard_17 : decode cX9_heard 17 = .ok (.iload_n 1, 1) := dk_27 (dk_at dksX9_heard_0 17 rfl rfl)
theorem dX9_heard_18 : decode cX9_heard 18 = .ok (.ifCond .lt 14, 3) := dk_155 0 14 (dk_at dksX9_heard_0 18 rfl rfl)
theorem dX9_heard_21 : decode cX9_heard 21 = .ok (.iload_n 1, 1) := dk_27 (dk_at dksX9_heard_0 21 rfl rfl)
theorem dX9_heard_22 : decode cX9_heard 22 = .ok (.aload_n 0, 1) := dk_42 (dk_at dksX9_heard_0 22 rfl rfl)
theorem dX9_heard_23 : decode cX9_heard 23 = .ok (.getfield 7, 3) := dk_180 0 7 (dk_at dksX9_heard_1 0 rfl rfl)
theorem dX9_heard_26 : decode cX9_heard 26 = .ok (.bipush 6, 2) := dk_16 6 (dk_at dksX9_heard_1 3 rfl rfl)
theorem dX9_heard_28 : decode cX9_heard 28 = .ok (.iaload, 1) := dk_46 (dk_at dksX9_heard_1 5 rfl rfl)
theorem dX9_heard_29 : decode cX9_heard 29 = .ok (.if_icmp .lt 12, 3) := dk_161 0 12 (dk_at dksX9_heard_1 6 rfl rfl)
theorem dX9_heard_32 : decode cX9_heard 32 = .ok (.aload_n 0, 1) := dk_42 (dk_at dksX9_heard_1 9 rfl rfl)
theorem dX9_heard_33 : decode cX9_heard 33 = .ok (.bipush 6, 2) := dk_16 6 (dk_at dksX9_heard_1 10 rfl rfl)
theorem dX9_heard_35 : decode cX9_heard 35 = .ok (.invokevirtual 197, 3) := dk_182 0 197 (dk_at dksX9_heard_1 12 rfl rfl)
theorem dX9_heard_38 : decode cX9_heard 38 = .ok (.goto 13, 3) := dk_167 0 13 (dk_at dksX9_heard_1 15 rfl rfl)
theorem dX9_heard_41 : decode cX9_heard 41 = .ok (.aload_n 0, 1) := dk_42 (dk_at dksX9_heard_1 18 rfl rfl)
theorem dX9_heard_42 : decode cX9_heard 42 = .ok (.aload_n 0, 1) := dk_42 (dk_at dksX9_heard_1 19 rfl rfl)
theorem dX9_heard_43 : decode cX9_heard 43 = .ok (.iload_n 1, 1) := dk_27 (dk_at dksX9_heard_1 20 rfl rfl)
theorem dX9_heard_44 : decode cX9_heard 44 = .ok (.iload_n 2, 1) := dk_28 (dk_at dksX9_heard_1 21 rfl rfl)
theorem dX9_heard_45 : decode cX9_heard 45 = .ok (.invokevirtual 322, 3) := dk_182 1 66 (dk_at dksX9_heard_2 0 rfl rfl)
theorem dX9_heard_48 : decode cX9_heard 48 = .ok (.invokevirtual 200, 3) := dk_182 0 200 (dk_at dksX9_heard_2 3 rfl rfl)
theorem dX9_heard_51 : decode cX9_heard 51 = .ok (.ireturn, 1) := dk_172 (dk_at dksX9_heard_2 6 rfl rfl)
abbrev cX9_left : ByteArray := prog_19_method_100_code
def yX9_left : MethodName := ⟨RX9, "left", "()I"⟩
def dkwX9_left_0 : List UInt8 := [42, 182, 1, 132, 42, 42, 3, 182, 1, 135, 182, 0, 200, 172]
abbrev dktX9_left_0 : List UInt8 := dkwX9_left_0 ++ []
theorem dksX9_left_0 : cX9_left.data.toList.drop 0 = dktX9_left_0 := by decide +kernel
theorem dX9_left_0 : decode cX9_left 0 = .ok (.aload_n 0, 1) := dk_42 (dk_at dksX9_left_0 0 rfl rfl)
theorem dX9_left_1 : decode cX9_left 1 = .ok (.invokevirtual 388, 3) := dk_182 1 132 (dk_at dksX9_left_0 1 rfl rfl)
theorem dX9_left_4 : decode cX9_left 4 = .ok (.aload_n 0, 1) := dk_42 (dk_at dksX9_left_0 4 rfl rfl)
theorem dX9_left_5 : decode cX9_left 5 = .ok (.aload_n 0, 1) := dk_42 (dk_at dksX9_left_0 5 rfl rfl)
theorem dX9_left_6 : decode cX9_left 6 = .ok (.iconst 0, 1) := dk_3 (dk_at dksX9_left_0 6 rfl rfl)
theorem dX9_left_7 : decode cX9_left 7 = .ok (.invokevirtual 391, 3) := dk_182 1 135 (dk_at dksX9_left_0 7 rfl rfl)
theorem dX9_left_10 : decode cX9_left 10 = .ok (.invokevirtual 200, 3) := dk_182 0 200 (dk_at dksX9_left_0 10 rfl rfl)
theorem dX9_left_13 : decode cX9_left 13 = .ok (.ireturn, 1) := dk_172 (dk_at dksX9_left_0 13 rfl rfl)
abbrev cX9_fitsAll : ByteArray := prog_19_method_91_code
def yX9_fitsAll : MethodName := ⟨RX9, "fitsAll", "()V"⟩
def dkwX9_fitsAll_0 : List UInt8 := [42, 4, 42, 180, 0, 7, 16, 6, 46, 120, 4, 100, 182, 1, 122, 177]
abbrev dktX9_fitsAll_0 : List UInt8 := dkwX9_fitsAll_0 ++ []
theorem dksX9_fitsAll_0 : cX9_fitsAll.data.toList.drop 0 = dktX9_fitsAll_0 := by decide +kernel
theorem dX9_fitsAll_0 : decode cX9_fitsAll 0 = .ok (.aload_n 0, 1) := dk_42 (dk_at dksX9_fitsAll_0 0 rfl rfl)
theorem dX9_fitsAll_1 : decode cX9_fitsAll 1 = .ok (.iconst 1, 1) := dk_4 (dk_at dksX9_fitsAll_0 1 rfl rfl)
theorem dX9_fitsAll_2 : decode cX9_fitsAll 2 = .ok (.aload_n 0, 1) := dk_42 (dk_at dksX9_fitsAll_0 2 rfl rfl)
theorem dX9_fitsAll_3 : decode cX9_fitsAll 3 = .ok (.getfield 7, 3) := dk_180 0 7 (dk_at dksX9_fitsAll_0 3 rfl rfl)
theorem dX9_fitsAll_6 : decode cX9_fitsAll 6 = .ok (.bipush 6, 2) := dk_16 6 (dk_at dksX9_fitsAll_0 6 rfl rfl)
theorem dX9_fitsAll_8 : decode cX9_fitsAll 8 = .ok (.iaload, 1) := dk_46 (dk_at dksX9_fitsAll_0 8 rfl rfl)
theorem dX9_fitsAll_9 : decode cX9_fitsAll 9 = .ok (.ishl, 1) := dk_120 (dk_at dksX9_fitsAll_0 9 rfl rfl)
theorem dX9_fitsAll_10 : decode cX9_fitsAll 10 = .ok (.iconst 1, 1) := dk_4 (dk_at dksX9_fitsAll_0 10 rfl rfl)
theorem dX9_fitsAll_11 : decode cX9_fitsAll 11 = .ok (.isub, 1) := dk_100 (dk_at dksX9_fitsAll_0 11 rfl rfl)
theorem dX9_fitsAll_12 : decode cX9_fitsAll 12 = .ok (.invokevirtual 378, 3) := dk_182 1 122 (dk_at dksX9_fitsAll_0 12 rfl rfl)
theorem dX9_fitsAll_15 : decode cX9_fitsAll 15 = .ok (.return_, 1) := dk_177 (dk_at dksX9_fitsAll_0 15 rfl rfl)
abbrev cX9_fitsBy : ByteArray := prog_19_method_90_code
def yX9_fitsBy : MethodName := ⟨RX9, "fitsBy", "(I)V"⟩
def dkwX9_fitsBy_8 : List UInt8 := [84, 132, 2, 1, 167, 255, 230, 177]
abbrev dktX9_fitsBy_8 : List UInt8 := dkwX9_fitsBy_8 ++ []
def dkwX9_fitsBy_7 : List UInt8 := [3, 61, 28, 42, 180, 0, 7, 16, 6, 46, 162, 0, 21, 42, 180, 0, 72, 42, 28, 4, 182, 1, 66, 4]
abbrev dktX9_fitsBy_7 : List UInt8 := dkwX9_fitsBy_7 ++ dktX9_fitsBy_8
def dkwX9_fitsBy_6 : List UInt8 := [167, 255, 120, 3, 61, 28, 16, 12, 162, 0, 16, 42, 180, 0, 72, 28, 3, 84, 132, 2, 1, 167, 255, 240]
abbrev dktX9_fitsBy_6 : List UInt8 := dkwX9_fitsBy_6 ++ dktX9_fitsBy_7
def dkwX9_fitsBy_5 : List UInt8 := [180, 0, 69, 17, 1, 0, 28, 104, 29, 96, 21, 4, 79, 132, 3, 1, 167, 255, 138, 132, 2, 1]
abbrev dktX9_fitsBy_5 : List UInt8 := dkwX9_fitsBy_5 ++ dktX9_fitsBy_6
def dkwX9_fitsBy_4 : List UInt8 := [182, 1, 66, 29, 42, 21, 5, 5, 182, 1, 66, 182, 1, 119, 126, 54, 4, 132, 5, 1, 167, 255, 190, 42]
abbrev dktX9_fitsBy_4 : List UInt8 := dkwX9_fitsBy_4 ++ dktX9_fitsBy_5
def dkwX9_fitsBy_3 : List UInt8 := [160, 0, 39, 42, 21, 5, 3, 182, 1, 66, 28, 160, 0, 28, 21, 4, 42, 28, 42, 21, 5, 4]
abbrev dktX9_fitsBy_3 : List UInt8 := dkwX9_fitsBy_3 ++ dktX9_fitsBy_4
def dkwX9_fitsBy_2 : List UInt8 := [42, 180, 0, 7, 16, 6, 46, 162, 0, 60, 21, 4, 153, 0, 55, 27, 21, 5, 122, 4, 126, 4]
abbrev dktX9_fitsBy_2 : List UInt8 := dkwX9_fitsBy_2 ++ dktX9_fitsBy_3
def dkwX9_fitsBy_1 : List UInt8 := [42, 29, 182, 1, 75, 153, 0, 11, 42, 28, 182, 1, 116, 167, 0, 4, 3, 54, 4, 3, 54, 5, 21, 5]
abbrev dktX9_fitsBy_1 : List UInt8 := dkwX9_fitsBy_1 ++ dktX9_fitsBy_2
def dkwX9_fitsBy_0 : List UInt8 := [3, 61, 28, 42, 180, 0, 7, 7, 46, 162, 0, 132, 3, 62, 29, 42, 180, 0, 7, 5, 46, 162, 0, 114]
abbrev dktX9_fitsBy_0 : List UInt8 := dkwX9_fitsBy_0 ++ dktX9_fitsBy_1
theorem dksX9_fitsBy_0 : cX9_fitsBy.data.toList.drop 0 = dktX9_fitsBy_0 := by decide +kernel
theorem dksX9_fitsBy_1 : cX9_fitsBy.data.toList.drop 24 = dktX9_fitsBy_1 := dk_seg dksX9_fitsBy_0 24 rfl rfl
theorem dksX9_fitsBy_2 : cX9_fitsBy.data.toList.drop 48 = dktX9_fitsBy_2 := dk_seg dksX9_fitsBy_1 24 rfl rfl
theorem dksX9_fitsBy_3 : cX9_fitsBy.data.toList.drop 70 = dktX9_fitsBy_3 := dk_seg dksX9_fitsBy_2 22 rfl rfl
theorem dksX9_fitsBy_4 : cX9_fitsBy.data.toList.drop 92 = dktX9_fitsBy_4 := dk_seg dksX9_fitsBy_3 22 rfl rfl
theorem dksX9_fitsBy_5 : cX9_fitsBy.data.toList.drop 116 = dktX9_fitsBy_5 := dk_seg dksX9_fitsBy_4 24 rfl rfl
theorem dksX9_fitsBy_6 : cX9_fitsBy.data.toList.drop 138 = dktX9_fitsBy_6 := dk_seg dksX9_fitsBy_5 22 rfl rfl
theorem dksX9_fitsBy_7 : cX9_fitsBy.data.toList.drop 162 = dktX9_fitsBy_7 := dk_seg dksX9_fitsBy_6 24 rfl rfl
theorem dksX9_fitsBy_8 : cX9_fitsBy.data.toList.drop 186 = dktX9_fitsBy_8 := dk_seg dksX9_fitsBy_7 24 rfl rfl
theorem dX9_fitsBy_0 : decode cX9_fitsBy 0 = .ok (.iconst 0, 1) := dk_3 (dk_at dksX9_fitsBy_0 0 rfl rfl)
theorem dX9_fitsBy_1 : decode cX9_fitsBy 1 = .ok (.istore_n 2, 1) := dk_61 (dk_at dksX9_fitsBy_0 1 rfl rfl)
theorem dX9_fitsBy_2 : decode cX9_fitsBy 2 = .ok (.iload_n 2, 1) := dk_28 (dk_at dksX9_fitsBy_0 2 rfl rfl)
theorem dX9_fitsBy_3 : decode cX9_fitsBy 3 = .ok (.aload_n 0, 1) := dk_42 (dk_at dksX9_fitsBy_0 3 rfl rfl)
theorem dX9_fitsBy_4 : decode cX9_fitsBy 4 = .ok (.getfield 7, 3) := dk_180 0 7 (dk_at dksX9_fitsBy_0 4 rfl rfl)
theorem dX9_fitsBy_7 : decode cX9_fitsBy 7 = .ok (.iconst 4, 1) := dk_7 (dk_at dksX9_fitsBy_0 7 rfl rfl)
theorem dX9_fitsBy_8 : decode cX9_fitsBy 8 = .ok (.iaload, 1) := dk_46 (dk_at dksX9_fitsBy_0 8 rfl rfl)
theorem dX9_fitsBy_9 : decode cX9_fitsBy 9 = .ok (.if_icmp .ge 132, 3) := dk_162 0 132 (dk_at dksX9_fitsBy_0 9 rfl rfl)
theorem dX9_fitsBy_12 : decode cX9_fitsBy 12 = .ok (.iconst 0, 1) := dk_3 (dk_at dksX9_fitsBy_0 12 rfl rfl)
theorem dX9_fitsBy_13 : decode cX9_fitsBy 13 = .ok (.istore_n 3, 1) := dk_62 (dk_at dksX9_fitsBy_0 13 rfl rfl)
theorem dX9_fitsBy_14 : decode cX9_fitsBy 14 = .ok (.iload_n 3, 1) := dk_29 (dk_at dksX9_fitsBy_0 14 rfl rfl)
theorem dX9_fitsBy_15 : decode cX9_fitsBy 15 = .ok (.aload_n 0, 1) := dk_42 (dk_at dksX9_fitsBy_0 15 rfl rfl)
theorem dX9_fitsBy_16 : decode cX9_fitsBy 16 = .ok (.getfield 7, 3) := dk_180 0 7 (dk_at dksX9_fitsBy_0 16 rfl rfl)
theorem dX9_fitsBy_19 : decode cX9_fitsBy 19 = .ok (.iconst 2, 1) := dk_5 (dk_at dksX9_fitsBy_0 19 rfl rfl)
theorem dX9_fitsBy_20 : decode cX9_fitsBy 20 = .ok (.iaload, 1) := dk_46 (dk_at dksX9_fitsBy_0 20 rfl rfl)
theorem dX9_fitsBy_21 : decode cX9_fitsBy 21 = .ok (.if_icmp .ge 114, 3) := dk_162 0 114 (dk_at dksX9_fitsBy_0 21 rfl rfl)
theorem dX9_fitsBy_24 : decode cX9_fitsBy 24 = .ok (.aload_n 0, 1) := dk_42 (dk_at dksX9_fitsBy_1 0 rfl rfl)
theorem dX9_fitsBy_25 : decode cX9_fitsBy 25 = .ok (.iload_n 3, 1) := dk_29 (dk_at dksX9_fitsBy_1 1 rfl rfl)
theorem dX9_fitsBy_26 : decode cX9_fitsBy 26 = .ok (.invokevirtual 331, 3) := dk_182 1 75 (dk_at dksX9_fitsBy_1 2 rfl rfl)
theorem dX9_fitsBy_29 : decode cX9_fitsBy 29 = .ok (.ifCond .eq 11, 3) := dk_153 0 11 (dk_at dksX9_fitsBy_1 5 rfl rfl)
theorem dX9_fitsBy_32 : decode cX9_fitsBy 32 = .ok (.aload_n 0, 1) := dk_42 (dk_at dksX9_fitsBy_1 8 rfl rfl)
theorem dX9_fitsBy_33 : decode cX9_fitsBy 33 = .ok (.iload_n 2, 1) := dk_28 (dk_at dksX9_fitsBy_1 9 rfl rfl)
theorem dX9_fitsBy_34 : decode cX9_fitsBy 34 = .ok (.invokevirtual 372, 3) := dk_182 1 116 (dk_at dksX9_fitsBy_1 10 rfl rfl)
theorem dX9_fitsBy_37 : decode cX9_fitsBy 37 = .ok (.goto 4, 3) := dk_167 0 4 (dk_at dksX9_fitsBy_1 13 rfl rfl)
theorem dX9_fitsBy_40 : decode cX9_fitsBy 40 = .ok (.iconst 0, 1) := dk_3 (dk_at dksX9_fitsBy_1 16 rfl rfl)
theorem dX9_fitsBy_41 : decode cX9_fitsBy 41 = .ok (.istore 4, 2) := dk_54 4 (dk_at dksX9_fitsBy_1 17 rfl rfl)
theorem dX9_fitsBy_43 : decode cX9_fitsBy 43 = .ok (.iconst 0, 1) := dk_3 (dk_at dksX9_fitsBy_1 19 rfl rfl)
theorem dX9_fitsBy_44 : decode cX9_fitsBy 44 = .ok (.istore 5, 2) := dk_54 5 (dk_at dksX9_fitsBy_1 20 rfl rfl)
theorem dX9_fitsBy_46 : decode cX9_fitsBy 46 = .ok (.iload 5, 2) := dk_21 5 (dk_at dksX9_fitsBy_1 22 rfl rfl)
theorem dX9_fitsBy_48 : decode cX9_fitsBy 48 = .ok (.aload_n 0, 1) := dk_42 (dk_at dksX9_fitsBy_2 0 rfl rfl)
theorem dX9_fitsBy_49 : decode cX9_fitsBy 49 = .ok (.getfield 7, 3) := dk_180 0 7 (dk_at dksX9_fitsBy_2 1 rfl rfl)
theorem dX9_fitsBy_52 : decode cX9_fitsBy 52 = .ok (.bipush 6, 2) := dk_16 6 (dk_at dksX9_fitsBy_2 4 rfl rfl)
theorem dX9_fitsBy_54 : decode cX9_fitsBy 54 = .ok (.iaload, 1) := dk_46 (dk_at dksX9_fitsBy_2 6 rfl rfl)
theorem dX9_fitsBy_55 : decode cX9_fitsBy 55 = .ok (.if_icmp .ge 60, 3) := dk_162 0 60 (dk_at dksX9_fitsBy_2 7 rfl rfl)
theorem dX9_fitsBy_58 : decode cX9_fitsBy 58 = .ok (.iload 4, 2) := dk_21 4 (dk_at dksX9_fitsBy_2 10 rfl rfl)
theorem dX9_fitsBy_60 : decode cX9_fitsBy 60 = .ok (.ifCond .eq 55, 3) := dk_153 0 55 (dk_at dksX9_fitsBy_2 12 rfl rfl)
theorem dX9_fitsBy_63 : decode cX9_fitsBy 63 = .ok (.iload_n 1, 1) := dk_27 (dk_at dksX9_fitsBy_2 15 rfl rfl)
theorem dX9_fitsBy_64 : decode cX9_fitsBy 64 = .ok (.iload 5, 2) := dk_21 5 (dk_at dksX9_fitsBy_2 16 rfl rfl)
theorem dX9_fitsBy_66 : decode cX9_fitsBy 66 = .ok (.ishr, 1) := dk_122 (dk_at dksX9_fitsBy_2 18 rfl rfl)
theorem dX9_fitsBy_67 : decode cX9_fitsBy 67 = .ok (.iconst 1, 1) := dk_4 (dk_at dksX9_fitsBy_2 19 rfl rfl)
theorem dX9_fitsBy_68 : decode cX9_fitsBy 68 = .ok (.iand, 1) := dk_126 (dk_at dksX9_fitsBy_2 20 rfl rfl)
theorem dX9_fitsBy_69 : decode cX9_fitsBy 69 = .ok (.iconst 1, 1) := dk_4 (dk_at dksX9_fitsBy_2 21 rfl rfl)
theorem dX9_fitsBy_70 : decode cX9_fitsBy 70 = .ok (.if_icmp .ne 39, 3) := dk_160 0 39 (dk_at dksX9_fitsBy_3 0 rfl rfl)
theorem dX9_fitsBy_73 : decode cX9_fitsBy 73 = .ok (.aload_n 0, 1) := dk_42 (dk_at dksX9_fitsBy_3 3 rfl rfl)
theorem dX9_fitsBy_74 : decode cX9_fitsBy 74 = .ok (.iload 5, 2) := dk_21 5 (dk_at dksX9_fitsBy_3 4 rfl rfl)
theorem dX9_fitsBy_76 : decode cX9_fitsBy 76 = .ok (.iconst 0, 1) := dk_3 (dk_at dksX9_fitsBy_3 6 rfl rfl)
theorem dX9_fitsBy_77 : decode cX9_fitsBy 77 = .ok (.invokevirtual 322, 3) := dk_182 1 66 (dk_at dksX9_fitsBy_3 7 rfl rfl)
theorem dX9_fitsBy_80 : decode cX9_fitsBy 80 = .ok (.iload_n 2, 1) := dk_28 (dk_at dksX9_fitsBy_3 10 rfl rfl)
theorem dX9_fitsBy_81 : decode cX9_fitsBy 81 = .ok (.if_icmp .ne 28, 3) := dk_160 0 28 (dk_at dksX9_fitsBy_3 11 rfl rfl)
theorem dX9_fitsBy_84 : decode cX9_fitsBy 84 = .ok (.iload 4, 2) := dk_21 4 (dk_at dksX9_fitsBy_3 14 rfl rfl)
theorem dX9_fitsBy_86 : decode cX9_fitsBy 86 = .ok (.aload_n 0, 1) := dk_42 (dk_at dksX9_fitsBy_3 16 rfl rfl)
theorem dX9_fitsBy_87 : decode cX9_fitsBy 87 = .ok (.iload_n 2, 1) := dk_28 (dk_at dksX9_fitsBy_3 17 rfl rfl)
theorem dX9_fitsBy_88 : decode cX9_fitsBy 88 = .ok (.aload_n 0, 1) := dk_42 (dk_at dksX9_fitsBy_3 18 rfl rfl)
theorem dX9_fitsBy_89 : decode cX9_fitsBy 89 = .ok (.iload 5, 2) := dk_21 5 (dk_at dksX9_fitsBy_3 19 rfl rfl)
theorem dX9_fitsBy_91 : decode cX9_fitsBy 91 = .ok (.iconst 1, 1) := dk_4 (dk_at dksX9_fitsBy_3 21 rfl rfl)
theorem dX9_fitsBy_92 : decode cX9_fitsBy 92 = .ok (.invokevirtual 322, 3) := dk_182 1 66 (dk_at dksX9_fitsBy_4 0 rfl rfl)
theorem dX9_fitsBy_95 : decode cX9_fitsBy 95 = .ok (.iload_n 3, 1) := dk_29 (dk_at dksX9_fitsBy_4 3 rfl rfl)
theorem dX9_fitsBy_96 : decode cX9_fitsBy 96 = .ok (.aload_n 0, 1) := dk_42 (dk_at dksX9_fitsBy_4 4 rfl rfl)
theorem dX9_fitsBy_97 : decode cX9_fitsBy 97 = .ok (.iload 5, 2) := dk_21 5 (dk_at dksX9_fitsBy_4 5 rfl rfl)
theorem dX9_fitsBy_99 : decode cX9_fitsBy 99 = .ok (.iconst 2, 1) := dk_5 (dk_at dksX9_fitsBy_4 7 rfl rfl)
theorem dX9_fitsBy_100 : decode cX9_fitsBy 100 = .ok (.invokevirtual 322, 3) := dk_182 1 66 (dk_at dksX9_fitsBy_4 8 rfl rfl)
theorem dX9_fitsBy_103 : decode cX9_fitsBy 103 = .ok (.invokevirtual 375, 3) := dk_182 1 119 (dk_at dksX9_fitsBy_4 11 rfl rfl)
theorem dX9_fitsBy_106 : decode cX9_fitsBy 106 = .ok (.iand, 1) := dk_126 (dk_at dksX9_fitsBy_4 14 rfl rfl)
theorem dX9_fitsBy_107 : decode cX9_fitsBy 107 = .ok (.istore 4, 2) := dk_54 4 (dk_at dksX9_fitsBy_4 15 rfl rfl)
theorem dX9_fitsBy_109 : decode cX9_fitsBy 109 = .ok (.iinc 5 1, 3) := dk_132 5 1 (dk_at dksX9_fitsBy_4 17 rfl rfl)
theorem dX9_fitsBy_112 : decode cX9_fitsBy 112 = .ok (.goto (-66), 3) := dk_167 255 190 (dk_at dksX9_fitsBy_4 20 rfl rfl)
theorem dX9_fitsBy_115 : decode cX9_fitsBy 115 = .ok (.aload_n 0, 1) := dk_42 (dk_at dksX9_fitsBy_4 23 rfl rfl)
theorem dX9_fitsBy_116 : decode cX9_fitsBy 116 = .ok (.getfield 69, 3) := dk_180 0 69 (dk_at dksX9_fitsBy_5 0 rfl rfl)
theorem dX9_fitsBy_119 : decode cX9_fitsBy 119 = .ok (.sipush 256, 3) := dk_17 1 0 (dk_at dksX9_fitsBy_5 3 rfl rfl)
theorem dX9_fitsBy_122 : decode cX9_fitsBy 122 = .ok (.iload_n 2, 1) := dk_28 (dk_at dksX9_fitsBy_5 6 rfl rfl)
theorem dX9_fitsBy_123 : decode cX9_fitsBy 123 = .ok (.imul, 1) := dk_104 (dk_at dksX9_fitsBy_5 7 rfl rfl)
theorem dX9_fitsBy_124 : decode cX9_fitsBy 124 = .ok (.iload_n 3, 1) := dk_29 (dk_at dksX9_fitsBy_5 8 rfl rfl)
theorem dX9_fitsBy_125 : decode cX9_fitsBy 125 = .ok (.iadd, 1) := dk_96 (dk_at dksX9_fitsBy_5 9 rfl rfl)
theorem dX9_fitsBy_126 : decode cX9_fitsBy 126 = .ok (.iload 4, 2) := dk_21 4 (dk_at dksX9_fitsBy_5 10 rfl rfl)
theorem dX9_fitsBy_128 : decode cX9_fitsBy 128 = .ok (.iastore, 1) := dk_79 (dk_at dksX9_fitsBy_5 12 rfl rfl)
theorem dX9_fitsBy_129 : decode cX9_fitsBy 129 = .ok (.iinc 3 1, 3) := dk_132 3 1 (dk_at dksX9_fitsBy_5 13 rfl rfl)
theorem dX9_fitsBy_132 : decode cX9_fitsBy 132 = .ok (.goto (-118), 3) := dk_167 255 138 (dk_at dksX9_fitsBy_5 16 rfl rfl)
theorem dX9_fitsBy_135 : decode cX9_fitsBy 135 = .ok (.iinc 2 1, 3) := dk_132 2 1 (dk_at dksX9_fitsBy_5 19 rfl rfl)
theorem dX9_fitsBy_138 : decode cX9_fitsBy 138 = .ok (.goto (-136), 3) := dk_167 255 120 (dk_at dksX9_fitsBy_6 0 rfl rfl)
theorem dX9_fitsBy_141 : decode cX9_fitsBy 141 = .ok (.iconst 0, 1) := dk_3 (dk_at dksX9_fitsBy_6 3 rfl rfl)
theorem dX9_fitsBy_142 : decode cX9_fitsBy 142 = .ok (.istore_n 2, 1) := dk_61 (dk_at dksX9_fitsBy_6 4 rfl rfl)
theorem dX9_fitsBy_143 : decode cX9_fitsBy 143 = .ok (.iload_n 2, 1) := dk_28 (dk_at dksX9_fitsBy_6 5 rfl rfl)
theorem dX9_fitsBy_144 : decode cX9_fitsBy 144 = .ok (.bipush 12, 2) := dk_16 12 (dk_at dksX9_fitsBy_6 6 rfl rfl)
theorem dX9_fitsBy_146 : decode cX9_fitsBy 146 = .ok (.if_icmp .ge 16, 3) := dk_162 0 16 (dk_at dksX9_fitsBy_6 8 rfl rfl)
theorem dX9_fitsBy_149 : decode cX9_fitsBy 149 = .ok (.aload_n 0, 1) := dk_42 (dk_at dksX9_fitsBy_6 11 rfl rfl)
theorem dX9_fitsBy_150 : decode cX9_fitsBy 150 = .ok (.getfield 72, 3) := dk_180 0 72 (dk_at dksX9_fitsBy_6 12 rfl rfl)
theorem dX9_fitsBy_153 : decode cX9_fitsBy 153 = .ok (.iload_n 2, 1) := dk_28 (dk_at dksX9_fitsBy_6 15 rfl rfl)
theorem dX9_fitsBy_154 : decode cX9_fitsBy 154 = .ok (.iconst 0, 1) := dk_3 (dk_at dksX9_fitsBy_6 16 rfl rfl)
theorem dX9_fitsBy_155 : decode cX9_fitsBy 155 = .ok (.bastore, 1) := dk_84 (dk_at dksX9_fitsBy_6 17 rfl rfl)
theorem dX9_fitsBy_156 : decode cX9_fitsBy 156 = .ok (.iinc 2 1, 3) := dk_132 2 1 (dk_at dksX9_fitsBy_6 18 rfl rfl)
theorem dX9_fitsBy_159 : decode cX9_fitsBy 159 = .ok (.goto (-16), 3) := dk_167 255 240 (dk_at dksX9_fitsBy_6 21 rfl rfl)
theorem dX9_fitsBy_162 : decode cX9_fitsBy 162 = .ok (.iconst 0, 1) := dk_3 (dk_at dksX9_fitsBy_7 0 rfl rfl)
theorem dX9_fitsBy_163 : decode cX9_fitsBy 163 = .ok (.istore_n 2, 1) := dk_61 (dk_at dksX9_fitsBy_7 1 rfl rfl)
theorem dX9_fitsBy_164 : decode cX9_fitsBy 164 = .ok (.iload_n 2, 1) := dk_28 (dk_at dksX9_fitsBy_7 2 rfl rfl)
theorem dX9_fitsBy_165 : decode cX9_fitsBy 165 = .ok (.aload_n 0, 1) := dk_42 (dk_at dksX9_fitsBy_7 3 rfl rfl)
theorem dX9_fitsBy_166 : decode cX9_fitsBy 166 = .ok (.getfield 7, 3) := dk_180 0 7 (dk_at dksX9_fitsBy_7 4 rfl rfl)
theorem dX9_fitsBy_169 : decode cX9_fitsBy 169 = .ok (.bipush 6, 2) := dk_16 6 (dk_at dksX9_fitsBy_7 7 rfl rfl)
theorem dX9_fitsBy_171 : decode cX9_fitsBy 171 = .ok (.iaload, 1) := dk_46 (dk_at dksX9_fitsBy_7 9 rfl rfl)
theorem dX9_fitsBy_172 : decode cX9_fitsBy 172 = .ok (.if_icmp .ge 21, 3) := dk_162 0 21 (dk_at dksX9_fitsBy_7 10 rfl rfl)
theorem dX9_fitsBy_175 : decode cX9_fitsBy 175 = .ok (.aload_n 0, 1) := dk_42 (dk_at dksX9_fitsBy_7 13 rfl rfl)
theorem dX9_fitsBy_176 : decode cX9_fitsBy 176 = .ok (.getfield 72, 3) := dk_180 0 72 (dk_at dksX9_fitsBy_7 14 rfl rfl)
theorem dX9_fitsBy_179 : decode cX9_fitsBy 179 = .ok (.aload_n 0, 1) := dk_42 (dk_at dksX9_fitsBy_7 17 rfl rfl)
theorem dX9_fitsBy_180 : decode cX9_fitsBy 180 = .ok (.iload_n 2, 1) := dk_28 (dk_at dksX9_fitsBy_7 18 rfl rfl)
theorem dX9_fitsBy_181 : decode cX9_fitsBy 181 = .ok (.iconst 1, 1) := dk_4 (dk_at dksX9_fitsBy_7 19 rfl rfl)
theorem dX9_fitsBy_182 : decode cX9_fitsBy 182 = .ok (.invokevirtual 322, 3) := dk_182 1 66 (dk_at dksX9_fitsBy_7 20 rfl rfl)
theorem dX9_fitsBy_185 : decode cX9_fitsBy 185 = .ok (.iconst 1, 1) := dk_4 (dk_at dksX9_fitsBy_7 23 rfl rfl)
theorem dX9_fitsBy_186 : decode cX9_fitsBy 186 = .ok (.bastore, 1) := dk_84 (dk_at dksX9_fitsBy_8 0 rfl rfl)
theorem dX9_fitsBy_187 : decode cX9_fitsBy 187 = .ok (.iinc 2 1, 3) := dk_132 2 1 (dk_at dksX9_fitsBy_8 1 rfl rfl)
theorem dX9_fitsBy_190 : decode cX9_fitsBy 190 = .ok (.goto (-26), 3) := dk_167 255 230 (dk_at dksX9_fitsBy_8 4 rfl rfl)
theorem dX9_fitsBy_193 : decode cX9_fitsBy 193 = .ok (.return_, 1) := dk_177 (dk_at dksX9_fitsBy_8 7 rfl rfl)
abbrev cX9_mayBe : ByteArray := prog_19_method_88_code
def yX9_mayBe : MethodName := ⟨RX9, "mayBe", "(I)I"⟩
def dkwX9_mayBe_1 : List UInt8 := [167, 0, 4, 3, 128, 61, 132, 3, 1, 167, 255, 229, 28, 172]
abbrev dktX9_mayBe_1 : List UInt8 := dkwX9_mayBe_1 ++ []
def dkwX9_mayBe_0 : List UInt8 := [3, 61, 3, 62, 29, 7, 162, 0, 28, 28, 42, 27, 29, 182, 1, 87, 158, 0, 9, 4, 29, 120]
abbrev dktX9_mayBe_0 : List UInt8 := dkwX9_mayBe_0 ++ dktX9_mayBe_1
theorem dksX9_mayBe_0 : cX9_mayBe.data.toList.drop 0 = dktX9_mayBe_0 := by decide +kernel
theorem dksX9_mayBe_1 : cX9_mayBe.data.toList.drop 22 = dktX9_mayBe_1 := dk_seg dksX9_mayBe_0 22 rfl rfl
theorem dX9_mayBe_0 : decode cX9_mayBe 0 = .ok (.iconst 0, 1) := dk_3 (dk_at dksX9_mayBe_0 0 rfl rfl)
theorem dX9_mayBe_1 : decode cX9_mayBe 1 = .ok (.istore_n 2, 1) := dk_61 (dk_at dksX9_mayBe_0 1 rfl rfl)
theorem dX9_mayBe_2 : decode cX9_mayBe 2 = .ok (.iconst 0, 1) := dk_3 (dk_at dksX9_mayBe_0 2 rfl rfl)
theorem dX9_mayBe_3 : decode cX9_mayBe 3 = .ok (.istore_n 3, 1) := dk_62 (dk_at dksX9_mayBe_0 3 rfl rfl)
theorem dX9_mayBe_4 : decode cX9_mayBe 4 = .ok (.iload_n 3, 1) := dk_29 (dk_at dksX9_mayBe_0 4 rfl rfl)
theorem dX9_mayBe_5 : decode cX9_mayBe 5 = .ok (.iconst 4, 1) := dk_7 (dk_at dksX9_mayBe_0 5 rfl rfl)
theorem dX9_mayBe_6 : decode cX9_mayBe 6 = .ok (.if_icmp .ge 28, 3) := dk_162 0 28 (dk_at dksX9_mayBe_0 6 rfl rfl)
theorem dX9_mayBe_9 : decode cX9_mayBe 9 = .ok (.iload_n 2, 1) := dk_28 (dk_at dksX9_mayBe_0 9 rfl rfl)
theorem dX9_mayBe_10 : decode cX9_mayBe 10 = .ok (.aload_n 0, 1) := dk_42 (dk_at dksX9_mayBe_0 10 rfl rfl)
theorem dX9_mayBe_11 : decode cX9_mayBe 11 = .ok (.iload_n 1, 1) := dk_27 (dk_at dksX9_mayBe_0 11 rfl rfl)
theorem dX9_mayBe_12 : decode cX9_mayBe 12 = .ok (.iload_n 3, 1) := dk_29 (dk_at dksX9_mayBe_0 12 rfl rfl)
theorem dX9_mayBe_13 : decode cX9_mayBe 13 = .ok (.invokevirtual 343, 3) := dk_182 1 87 (dk_at dksX9_mayBe_0 13 rfl rfl)
theorem dX9_mayBe_16 : decode cX9_mayBe 16 = .ok (.ifCond .le 9, 3) := dk_158 0 9 (dk_at dksX9_mayBe_0 16 rfl rfl)
theorem dX9_mayBe_19 : decode cX9_mayBe 19 = .ok (.iconst 1, 1) := dk_4 (dk_at dksX9_mayBe_0 19 rfl rfl)
theorem dX9_mayBe_20 : decode cX9_mayBe 20 = .ok (.iload_n 3, 1) := dk_29 (dk_at dksX9_mayBe_0 20 rfl rfl)
theorem dX9_mayBe_21 : decode cX9_mayBe 21 = .ok (.ishl, 1) := dk_120 (dk_at dksX9_mayBe_0 21 rfl rfl)
theorem dX9_mayBe_22 : decode cX9_mayBe 22 = .ok (.goto 4, 3) := dk_167 0 4 (dk_at dksX9_mayBe_1 0 rfl rfl)
theorem dX9_mayBe_25 : decode cX9_mayBe 25 = .ok (.iconst 0, 1) := dk_3 (dk_at dksX9_mayBe_1 3 rfl rfl)
theorem dX9_mayBe_26 : decode cX9_mayBe 26 = .ok (.ior, 1) := dk_128 (dk_at dksX9_mayBe_1 4 rfl rfl)
theorem dX9_mayBe_27 : decode cX9_mayBe 27 = .ok (.istore_n 2, 1) := dk_61 (dk_at dksX9_mayBe_1 5 rfl rfl)
theorem dX9_mayBe_28 : decode cX9_mayBe 28 = .ok (.iinc 3 1, 3) := dk_132 3 1 (dk_at dksX9_mayBe_1 6 rfl rfl)
theorem dX9_mayBe_31 : decode cX9_mayBe 31 = .ok (.goto (-27), 3) := dk_167 255 229 (dk_at dksX9_mayBe_1 9 rfl rfl)
theorem dX9_mayBe_34 : decode cX9_mayBe 34 = .ok (.iload_n 2, 1) := dk_28 (dk_at dksX9_mayBe_1 12 rfl rfl)
theorem dX9_mayBe_35 : decode cX9_mayBe 35 = .ok (.ireturn, 1) := dk_172 (dk_at dksX9_mayBe_1 13 rfl rfl)
abbrev cX9_kindsFor : ByteArray := prog_19_method_89_code
def yX9_kindsFor : MethodName := ⟨RX9, "kindsFor", "(IIII)I"⟩
def dkwX9_kindsFor_2 : List UInt8 := [172]
abbrev dktX9_kindsFor_2 : List UInt8 := dkwX9_kindsFor_2 ++ []
def dkwX9_kindsFor_1 : List UInt8 := [21, 4, 160, 0, 10, 4, 21, 6, 120, 167, 0, 4, 3, 128, 54, 5, 132, 6, 1, 167, 255, 220, 21, 5]
abbrev dktX9_kindsFor_1 : List UInt8 := dkwX9_kindsFor_1 ++ dktX9_kindsFor_2
def dkwX9_kindsFor_0 : List UInt8 := [3, 54, 5, 3, 54, 6, 21, 6, 7, 162, 0, 36, 21, 5, 42, 27, 28, 29, 21, 6, 182, 1, 112]
abbrev dktX9_kindsFor_0 : List UInt8 := dkwX9_kindsFor_0 ++ dktX9_kindsFor_1
theorem dksX9_kindsFor_0 : cX9_kindsFor.data.toList.drop 0 = dktX9_kindsFor_0 := by decide +kernel
theorem dksX9_kindsFor_1 : cX9_kindsFor.data.toList.drop 23 = dktX9_kindsFor_1 := dk_seg dksX9_kindsFor_0 23 rfl rfl
theorem dksX9_kindsFor_2 : cX9_kindsFor.data.toList.drop 47 = dktX9_kindsFor_2 := dk_seg dksX9_kindsFor_1 24 rfl rfl
theorem dX9_kindsFor_0 : decode cX9_kindsFor 0 = .ok (.iconst 0, 1) := dk_3 (dk_at dksX9_kindsFor_0 0 rfl rfl)
theorem dX9_kindsFor_1 : decode cX9_kindsFor 1 = .ok (.istore 5, 2) := dk_54 5 (dk_at dksX9_kindsFor_0 1 rfl rfl)
theorem dX9_kindsFor_3 : decode cX9_kindsFor 3 = .ok (.iconst 0, 1) := dk_3 (dk_at dksX9_kindsFor_0 3 rfl rfl)
theorem dX9_kindsFor_4 : decode cX9_kindsFor 4 = .ok (.istore 6, 2) := dk_54 6 (dk_at dksX9_kindsFor_0 4 rfl rfl)
theorem dX9_kindsFor_6 : decode cX9_kindsFor 6 = .ok (.iload 6, 2) := dk_21 6 (dk_at dksX9_kindsFor_0 6 rfl rfl)
theorem dX9_kindsFor_8 : decode cX9_kindsFor 8 = .ok (.iconst 4, 1) := dk_7 (dk_at dksX9_kindsFor_0 8 rfl rfl)
theorem dX9_kindsFor_9 : decode cX9_kindsFor 9 = .ok (.if_icmp .ge 36, 3) := dk_162 0 36 (dk_at dksX9_kindsFor_0 9 rfl rfl)
theorem dX9_kindsFor_12 : decode cX9_kindsFor 12 = .ok (.iload 5, 2) := dk_21 5 (dk_at dksX9_kindsFor_0 12 rfl rfl)
theorem dX9_kindsFor_14 : decode cX9_kindsFor 14 = .ok (.aload_n 0, 1) := dk_42 (dk_at dksX9_kindsFor_0 14 rfl rfl)
theorem dX9_kindsFor_15 : decode cX9_kindsFor 15 = .ok (.iload_n 1, 1) := dk_27 (dk_at dksX9_kindsFor_0 15 rfl rfl)
theorem dX9_kindsFor_16 : decode cX9_kindsFor 16 = .ok (.iload_n 2, 1) := dk_28 (dk_at dksX9_kindsFor_0 16 rfl rfl)
theorem dX9_kindsFor_17 : decode cX9_kindsFor 17 = .ok (.iload_n 3, 1) := dk_29 (dk_at dksX9_kindsFor_0 17 rfl rfl)
theorem dX9_kindsFor_18 : decode cX9_kindsFor 18 = .ok (.iload 6, 2) := dk_21 6 (dk_at dksX9_kindsFor_0 18 rfl rfl)
theorem dX9_kindsFor_20 : decode cX9_kindsFor 20 = .ok (.invokevirtual 368, 3) := dk_182 1 112 (dk_at dksX9_kindsFor_0 20 rfl rfl)
theorem dX9_kindsFor_23 : decode cX9_kindsFor 23 = .ok (.iload 4, 2) := dk_21 4 (dk_at dksX9_kindsFor_1 0 rfl rfl)
theorem dX9_kindsFor_25 : decode cX9_kindsFor 25 = .ok (.if_icmp .ne 10, 3) := dk_160 0 10 (dk_at dksX9_kindsFor_1 2 rfl rfl)
theorem dX9_kindsFor_28 : decode cX9_kindsFor 28 = .ok (.iconst 1, 1) := dk_4 (dk_at dksX9_kindsFor_1 5 rfl rfl)
theorem dX9_kindsFor_29 : decode cX9_kindsFor 29 = .ok (.iload 6, 2) := dk_21 6 (dk_at dksX9_kindsFor_1 6 rfl rfl)
theorem dX9_kindsFor_31 : decode cX9_kindsFor 31 = .ok (.ishl, 1) := dk_120 (dk_at dksX9_kindsFor_1 8 rfl rfl)
theorem dX9_kindsFor_32 : decode cX9_kindsFor 32 = .ok (.goto 4, 3) := dk_167 0 4 (dk_at dksX9_kindsFor_1 9 rfl rfl)
theorem dX9_kindsFor_35 : decode cX9_kindsFor 35 = .ok (.iconst 0, 1) := dk_3 (dk_at dksX9_kindsFor_1 12 rfl rfl)
theorem dX9_kindsFor_36 : decode cX9_kindsFor 36 = .ok (.ior, 1) := dk_128 (dk_at dksX9_kindsFor_1 13 rfl rfl)
theorem dX9_kindsFor_37 : decode cX9_kindsFor 37 = .ok (.istore 5, 2) := dk_54 5 (dk_at dksX9_kindsFor_1 14 rfl rfl)
theorem dX9_kindsFor_39 : decode cX9_kindsFor 39 = .ok (.iinc 6 1, 3) := dk_132 6 1 (dk_at dksX9_kindsFor_1 16 rfl rfl)
theorem dX9_kindsFor_42 : decode cX9_kindsFor 42 = .ok (.goto (-36), 3) := dk_167 255 220 (dk_at dksX9_kindsFor_1 19 rfl rfl)
theorem dX9_kindsFor_45 : decode cX9_kindsFor 45 = .ok (.iload 5, 2) := dk_21 5 (dk_at dksX9_kindsFor_1 22 rfl rfl)
theorem dX9_kindsFor_47 : decode cX9_kindsFor 47 = .ok (.ireturn, 1) := dk_172 (dk_at dksX9_kindsFor_2 0 rfl rfl)
abbrev cX9_leftAt : ByteArray := prog_19_method_93_code
def yX9_leftAt : MethodName := ⟨RX9, "leftAt", "(I)I"⟩
def dkwX9_leftAt_1 : List UInt8 := [4, 167, 0, 4, 3, 96, 61, 132, 3, 1, 167, 255, 226, 28, 172]
abbrev dktX9_leftAt_1 : List UInt8 := dkwX9_leftAt_1 ++ []
def dkwX9_leftAt_0 : List UInt8 := [3, 61, 3, 62, 29, 42, 180, 0, 7, 5, 46, 162, 0, 26, 28, 42, 27, 29, 182, 1, 125, 153, 0, 7]
abbrev dktX9_leftAt_0 : List UInt8 := dkwX9_leftAt_0 ++ dktX9_leftAt_1
theorem dksX9_leftAt_0 : cX9_leftAt.data.toList.drop 0 = dktX9_leftAt_0 := by decide +kernel
theorem dksX9_leftAt_1 : cX9_leftAt.data.toList.drop 24 = dktX9_leftAt_1 := dk_seg dksX9_leftAt_0 24 rfl rfl
theorem dX9_leftAt_0 : decode cX9_leftAt 0 = .ok (.iconst 0, 1) := dk_3 (dk_at dksX9_leftAt_0 0 rfl rfl)
theorem dX9_leftAt_1 : decode cX9_leftAt 1 = .ok (.istore_n 2, 1) := dk_61 (dk_at dksX9_leftAt_0 1 rfl rfl)
theorem dX9_leftAt_2 : decode cX9_leftAt 2 = .ok (.iconst 0, 1) := dk_3 (dk_at dksX9_leftAt_0 2 rfl rfl)
theorem dX9_leftAt_3 : decode cX9_leftAt 3 = .ok (.istore_n 3, 1) := dk_62 (dk_at dksX9_leftAt_0 3 rfl rfl)
theorem dX9_leftAt_4 : decode cX9_leftAt 4 = .ok (.iload_n 3, 1) := dk_29 (dk_at dksX9_leftAt_0 4 rfl rfl)
theorem dX9_leftAt_5 : decode cX9_leftAt 5 = .ok (.aload_n 0, 1) := dk_42 (dk_at dksX9_leftAt_0 5 rfl rfl)
theorem dX9_leftAt_6 : decode cX9_leftAt 6 = .ok (.getfield 7, 3) := dk_180 0 7 (dk_at dksX9_leftAt_0 6 rfl rfl)
theorem dX9_leftAt_9 : decode cX9_leftAt 9 = .ok (.iconst 2, 1) := dk_5 (dk_at dksX9_leftAt_0 9 rfl rfl)
theorem dX9_leftAt_10 : decode cX9_leftAt 10 = .ok (.iaload, 1) := dk_46 (dk_at dksX9_leftAt_0 10 rfl rfl)
theorem dX9_leftAt_11 : decode cX9_leftAt 11 = .ok (.if_icmp .ge 26, 3) := dk_162 0 26 (dk_at dksX9_leftAt_0 11 rfl rfl)
theorem dX9_leftAt_14 : decode cX9_leftAt 14 = .ok (.iload_n 2, 1) := dk_28 (dk_at dksX9_leftAt_0 14 rfl rfl)
theorem dX9_leftAt_15 : decode cX9_leftAt 15 = .ok (.aload_n 0, 1) := dk_42 (dk_at dksX9_leftAt_0 15 rfl rfl)
theorem dX9_leftAt_16 : decode cX9_leftAt 16 = .ok (.iload_n 1, 1) := dk_27 (dk_at dksX9_leftAt_0 16 rfl rfl)
theorem dX9_leftAt_17 : decode cX9_leftAt 17 = .ok (.iload_n 3, 1) := dk_29 (dk_at dksX9_leftAt_0 17 rfl rfl)
theorem dX9_leftAt_18 : decode cX9_leftAt 18 = .ok (.invokevirtual 381, 3) := dk_182 1 125 (dk_at dksX9_leftAt_0 18 rfl rfl)
theorem dX9_leftAt_21 : decode cX9_leftAt 21 = .ok (.ifCond .eq 7, 3) := dk_153 0 7 (dk_at dksX9_leftAt_0 21 rfl rfl)
theorem dX9_leftAt_24 : decode cX9_leftAt 24 = .ok (.iconst 1, 1) := dk_4 (dk_at dksX9_leftAt_1 0 rfl rfl)
theorem dX9_leftAt_25 : decode cX9_leftAt 25 = .ok (.goto 4, 3) := dk_167 0 4 (dk_at dksX9_leftAt_1 1 rfl rfl)
theorem dX9_leftAt_28 : decode cX9_leftAt 28 = .ok (.iconst 0, 1) := dk_3 (dk_at dksX9_leftAt_1 4 rfl rfl)
theorem dX9_leftAt_29 : decode cX9_leftAt 29 = .ok (.iadd, 1) := dk_96 (dk_at dksX9_leftAt_1 5 rfl rfl)
theorem dX9_leftAt_30 : decode cX9_leftAt 30 = .ok (.istore_n 2, 1) := dk_61 (dk_at dksX9_leftAt_1 6 rfl rfl)
theorem dX9_leftAt_31 : decode cX9_leftAt 31 = .ok (.iinc 3 1, 3) := dk_132 3 1 (dk_at dksX9_leftAt_1 7 rfl rfl)
theorem dX9_leftAt_34 : decode cX9_leftAt 34 = .ok (.goto (-30), 3) := dk_167 255 226 (dk_at dksX9_leftAt_1 10 rfl rfl)
theorem dX9_leftAt_37 : decode cX9_leftAt 37 = .ok (.iload_n 2, 1) := dk_28 (dk_at dksX9_leftAt_1 13 rfl rfl)
theorem dX9_leftAt_38 : decode cX9_leftAt 38 = .ok (.ireturn, 1) := dk_172 (dk_at dksX9_leftAt_1 14 rfl rfl)
abbrev cX9_isLeftAt : ByteArray := prog_19_method_92_code
def yX9_isLeftAt : MethodName := ⟨RX9, "isLeftAt", "(II)Z"⟩
def dkwX9_isLeftAt_2 : List UInt8 := [167, 0, 4, 3, 62, 132, 4, 1, 167, 255, 210, 29, 172]
abbrev dktX9_isLeftAt_2 : List UInt8 := dkwX9_isLeftAt_2 ++ []
def dkwX9_isLeftAt_1 : List UInt8 := [42, 180, 0, 69, 17, 4, 0, 27, 104, 17, 1, 0, 21, 4, 104, 96, 28, 96, 46, 153, 0, 7, 4]
abbrev dktX9_isLeftAt_1 : List UInt8 := dkwX9_isLeftAt_1 ++ dktX9_isLeftAt_2
def dkwX9_isLeftAt_0 : List UInt8 := [42, 28, 182, 1, 75, 62, 3, 54, 4, 21, 4, 42, 180, 0, 7, 7, 46, 162, 0, 41, 29, 153, 0, 29]
abbrev dktX9_isLeftAt_0 : List UInt8 := dkwX9_isLeftAt_0 ++ dktX9_isLeftAt_1
theorem dksX9_isLeftAt_0 : cX9_isLeftAt.data.toList.drop 0 = dktX9_isLeftAt_0 := by decide +kernel
theorem dksX9_isLeftAt_1 : cX9_isLeftAt.data.toList.drop 24 = dktX9_isLeftAt_1 := dk_seg dksX9_isLeftAt_0 24 rfl rfl
theorem dksX9_isLeftAt_2 : cX9_isLeftAt.data.toList.drop 47 = dktX9_isLeftAt_2 := dk_seg dksX9_isLeftAt_1 23 rfl rfl
theorem dX9_isLeftAt_0 : decode cX9_isLeftAt 0 = .ok (.aload_n 0, 1) := dk_42 (dk_at dksX9_isLeftAt_0 0 rfl rfl)
theorem dX9_isLeftAt_1 : decode cX9_isLeftAt 1 = .ok (.iload_n 2, 1) := dk_28 (dk_at dksX9_isLeftAt_0 1 rfl rfl)
theorem dX9_isLeftAt_2 : decode cX9_isLeftAt 2 = .ok (.invokevirtual 331, 3) := dk_182 1 75 (dk_at dksX9_isLeftAt_0 2 rfl rfl)
theorem dX9_isLeftAt_5 : decode cX9_isLeftAt 5 = .ok (.istore_n 3, 1) := dk_62 (dk_at dksX9_isLeftAt_0 5 rfl rfl)
theorem dX9_isLeftAt_6 : decode cX9_isLeftAt 6 = .ok (.iconst 0, 1) := dk_3 (dk_at dksX9_isLeftAt_0 6 rfl rfl)
theorem dX9_isLeftAt_7 : decode cX9_isLeftAt 7 = .ok (.istore 4, 2) := dk_54 4 (dk_at dksX9_isLeftAt_0 7 rfl rfl)
theorem dX9_isLeftAt_9 : decode cX9_isLeftAt 9 = .ok (.iload 4, 2) := dk_21 4 (dk_at dksX9_isLeftAt_0 9 rfl rfl)
theorem dX9_isLeftAt_11 : decode cX9_isLeftAt 11 = .ok (.aload_n 0, 1) := dk_42 (dk_at dksX9_isLeftAt_0 11 rfl rfl)
theorem dX9_isLeftAt_12 : decode cX9_isLeftAt 12 = .ok (.getfield 7, 3) := dk_180 0 7 (dk_at dksX9_isLeftAt_0 12 rfl rfl)
theorem dX9_isLeftAt_15 : decode cX9_isLeftAt 15 = .ok (.iconst 4, 1) := dk_7 (dk_at dksX9_isLeftAt_0 15 rfl rfl)
theorem dX9_isLeftAt_16 : decode cX9_isLeftAt 16 = .ok (.iaload, 1) := dk_46 (dk_at dksX9_isLeftAt_0 16 rfl rfl)
theorem dX9_isLeftAt_17 : decode cX9_isLeftAt 17 = .ok (.if_icmp .ge 41, 3) := dk_162 0 41 (dk_at dksX9_isLeftAt_0 17 rfl rfl)
theorem dX9_isLeftAt_20 : decode cX9_isLeftAt 20 = .ok (.iload_n 3, 1) := dk_29 (dk_at dksX9_isLeftAt_0 20 rfl rfl)
theorem dX9_isLeftAt_21 : decode cX9_isLeftAt 21 = .ok (.ifCond .eq 29, 3) := dk_153 0 29 (dk_at dksX9_isLeftAt_0 21 rfl rfl)
theorem dX9_isLeftAt_24 : decode cX9_isLeftAt 24 = .ok (.aload_n 0, 1) := dk_42 (dk_at dksX9_isLeftAt_1 0 rfl rfl)
theorem dX9_isLeftAt_25 : decode cX9_isLeftAt 25 = .ok (.getfield 69, 3) := dk_180 0 69 (dk_at dksX9_isLeftAt_1 1 rfl rfl)
theorem dX9_isLeftAt_28 : decode cX9_isLeftAt 28 = .ok (.sipush 1024, 3) := dk_17 4 0 (dk_at dksX9_isLeftAt_1 4 rfl rfl)
theorem dX9_isLeftAt_31 : decode cX9_isLeftAt 31 = .ok (.iload_n 1, 1) := dk_27 (dk_at dksX9_isLeftAt_1 7 rfl rfl)
theorem dX9_isLeftAt_32 : decode cX9_isLeftAt 32 = .ok (.imul, 1) := dk_104 (dk_at dksX9_isLeftAt_1 8 rfl rfl)
theorem dX9_isLeftAt_33 : decode cX9_isLeftAt 33 = .ok (.sipush 256, 3) := dk_17 1 0 (dk_at dksX9_isLeftAt_1 9 rfl rfl)
theorem dX9_isLeftAt_36 : decode cX9_isLeftAt 36 = .ok (.iload 4, 2) := dk_21 4 (dk_at dksX9_isLeftAt_1 12 rfl rfl)
theorem dX9_isLeftAt_38 : decode cX9_isLeftAt 38 = .ok (.imul, 1) := dk_104 (dk_at dksX9_isLeftAt_1 14 rfl rfl)
theorem dX9_isLeftAt_39 : decode cX9_isLeftAt 39 = .ok (.iadd, 1) := dk_96 (dk_at dksX9_isLeftAt_1 15 rfl rfl)
theorem dX9_isLeftAt_40 : decode cX9_isLeftAt 40 = .ok (.iload_n 2, 1) := dk_28 (dk_at dksX9_isLeftAt_1 16 rfl rfl)
theorem dX9_isLeftAt_41 : decode cX9_isLeftAt 41 = .ok (.iadd, 1) := dk_96 (dk_at dksX9_isLeftAt_1 17 rfl rfl)
theorem dX9_isLeftAt_42 : decode cX9_isLeftAt 42 = .ok (.iaload, 1) := dk_46 (dk_at dksX9_isLeftAt_1 18 rfl rfl)
theorem dX9_isLeftAt_43 : decode cX9_isLeftAt 43 = .ok (.ifCond .eq 7, 3) := dk_153 0 7 (dk_at dksX9_isLeftAt_1 19 rfl rfl)
theorem dX9_isLeftAt_46 : decode cX9_isLeftAt 46 = .ok (.iconst 1, 1) := dk_4 (dk_at dksX9_isLeftAt_1 22 rfl rfl)
theorem dX9_isLeftAt_47 : decode cX9_isLeftAt 47 = .ok (.goto 4, 3) := dk_167 0 4 (dk_at dksX9_isLeftAt_2 0 rfl rfl)
theorem dX9_isLeftAt_50 : decode cX9_isLeftAt 50 = .ok (.iconst 0, 1) := dk_3 (dk_at dksX9_isLeftAt_2 3 rfl rfl)
theorem dX9_isLeftAt_51 : decode cX9_isLeftAt 51 = .ok (.istore_n 3, 1) := dk_62 (dk_at dksX9_isLeftAt_2 4 rfl rfl)
theorem dX9_isLeftAt_52 : decode cX9_isLeftAt 52 = .ok (.iinc 4 1, 3) := dk_132 4 1 (dk_at dksX9_isLeftAt_2 5 rfl rfl)
theorem dX9_isLeftAt_55 : decode cX9_isLeftAt 55 = .ok (.goto (-46), 3) := dk_167 255 210 (dk_at dksX9_isLeftAt_2 8 rfl rfl)
theorem dX9_isLeftAt_58 : decode cX9_isLeftAt 58 = .ok (.iload_n 3, 1) := dk_29 (dk_at dksX9_isLeftAt_2 11 rfl rfl)
theorem dX9_isLeftAt_59 : decode cX9_isLeftAt 59 = .ok (.ireturn, 1) := dk_172 (dk_at dksX9_isLeftAt_2 12 rfl rfl)
abbrev cX9_isLeft : ByteArray := prog_19_method_101_code
def yX9_isLeft : MethodName := ⟨RX9, "isLeft", "(I)I"⟩
def dkwX9_isLeft_1 : List UInt8 := [182, 1, 125, 153, 0, 7, 4, 167, 0, 4, 3, 182, 0, 200, 172]
abbrev dktX9_isLeft_1 : List UInt8 := dkwX9_isLeft_1 ++ []
def dkwX9_isLeft_0 : List UInt8 := [42, 27, 182, 1, 72, 154, 0, 9, 42, 4, 182, 0, 197, 172, 42, 182, 1, 132, 42, 42, 3, 27]
abbrev dktX9_isLeft_0 : List UInt8 := dkwX9_isLeft_0 ++ dktX9_isLeft_1
theorem dksX9_isLeft_0 : cX9_isLeft.data.toList.drop 0 = dktX9_isLeft_0 := by decide +kernel
theorem dksX9_isLeft_1 : cX9_isLeft.data.toList.drop 22 = dktX9_isLeft_1 := dk_seg dksX9_isLeft_0 22 rfl rfl
theorem dX9_isLeft_0 : decode cX9_isLeft 0 = .ok (.aload_n 0, 1) := dk_42 (dk_at dksX9_isLeft_0 0 rfl rfl)
theorem dX9_isLeft_1 : decode cX9_isLeft 1 = .ok (.iload_n 1, 1) := dk_27 (dk_at dksX9_isLeft_0 1 rfl rfl)
theorem dX9_isLeft_2 : decode cX9_isLeft 2 = .ok (.invokevirtual 328, 3) := dk_182 1 72 (dk_at dksX9_isLeft_0 2 rfl rfl)
theorem dX9_isLeft_5 : decode cX9_isLeft 5 = .ok (.ifCond .ne 9, 3) := dk_154 0 9 (dk_at dksX9_isLeft_0 5 rfl rfl)
theorem dX9_isLeft_8 : decode cX9_isLeft 8 = .ok (.aload_n 0, 1) := dk_42 (dk_at dksX9_isLeft_0 8 rfl rfl)
theorem dX9_isLeft_9 : decode cX9_isLeft 9 = .ok (.iconst 1, 1) := dk_4 (dk_at dksX9_isLeft_0 9 rfl rfl)
theorem dX9_isLeft_10 : decode cX9_isLeft 10 = .ok (.invokevirtual 197, 3) := dk_182 0 197 (dk_at dksX9_isLeft_0 10 rfl rfl)
theorem dX9_isLeft_13 : decode cX9_isLeft 13 = .ok (.ireturn, 1) := dk_172 (dk_at dksX9_isLeft_0 13 rfl rfl)
theorem dX9_isLeft_14 : decode cX9_isLeft 14 = .ok (.aload_n 0, 1) := dk_42 (dk_at dksX9_isLeft_0 14 rfl rfl)
theorem dX9_isLeft_15 : decode cX9_isLeft 15 = .ok (.invokevirtual 388, 3) := dk_182 1 132 (dk_at dksX9_isLeft_0 15 rfl rfl)
theorem dX9_isLeft_18 : decode cX9_isLeft 18 = .ok (.aload_n 0, 1) := dk_42 (dk_at dksX9_isLeft_0 18 rfl rfl)
theorem dX9_isLeft_19 : decode cX9_isLeft 19 = .ok (.aload_n 0, 1) := dk_42 (dk_at dksX9_isLeft_0 19 rfl rfl)
theorem dX9_isLeft_20 : decode cX9_isLeft 20 = .ok (.iconst 0, 1) := dk_3 (dk_at dksX9_isLeft_0 20 rfl rfl)
theorem dX9_isLeft_21 : decode cX9_isLeft 21 = .ok (.iload_n 1, 1) := dk_27 (dk_at dksX9_isLeft_0 21 rfl rfl)
theorem dX9_isLeft_22 : decode cX9_isLeft 22 = .ok (.invokevirtual 381, 3) := dk_182 1 125 (dk_at dksX9_isLeft_1 0 rfl rfl)
theorem dX9_isLeft_25 : decode cX9_isLeft 25 = .ok (.ifCond .eq 7, 3) := dk_153 0 7 (dk_at dksX9_isLeft_1 3 rfl rfl)
theorem dX9_isLeft_28 : decode cX9_isLeft 28 = .ok (.iconst 1, 1) := dk_4 (dk_at dksX9_isLeft_1 6 rfl rfl)
theorem dX9_isLeft_29 : decode cX9_isLeft 29 = .ok (.goto 4, 3) := dk_167 0 4 (dk_at dksX9_isLeft_1 7 rfl rfl)
theorem dX9_isLeft_32 : decode cX9_isLeft 32 = .ok (.iconst 0, 1) := dk_3 (dk_at dksX9_isLeft_1 10 rfl rfl)
theorem dX9_isLeft_33 : decode cX9_isLeft 33 = .ok (.invokevirtual 200, 3) := dk_182 0 200 (dk_at dksX9_isLeft_1 11 rfl rfl)
theorem dX9_isLeft_36 : decode cX9_isLeft 36 = .ok (.ireturn, 1) := dk_172 (dk_at dksX9_isLeft_1 14 rfl rfl)
abbrev cX9_fits : ByteArray := prog_19_method_102_code
def yX9_fits : MethodName := ⟨RX9, "fits", "(III)I"⟩
def dkwX9_fits_2 : List UInt8 := [42, 42, 180, 0, 69, 17, 1, 0, 27, 104, 29, 96, 46, 28, 122, 4, 126, 182, 0, 200, 172]
abbrev dktX9_fits_2 : List UInt8 := dkwX9_fits_2 ++ []
def dkwX9_fits_1 : List UInt8 := [4, 182, 0, 197, 172, 42, 29, 182, 1, 75, 154, 0, 10, 42, 16, 7, 182, 0, 197, 172, 42, 182, 1, 132]
abbrev dktX9_fits_1 : List UInt8 := dkwX9_fits_1 ++ dktX9_fits_2
def dkwX9_fits_0 : List UInt8 := [42, 27, 182, 1, 84, 153, 0, 18, 28, 184, 1, 109, 153, 0, 11, 42, 29, 182, 1, 72, 154, 0, 9, 42]
abbrev dktX9_fits_0 : List UInt8 := dkwX9_fits_0 ++ dktX9_fits_1
theorem dksX9_fits_0 : cX9_fits.data.toList.drop 0 = dktX9_fits_0 := by decide +kernel
theorem dksX9_fits_1 : cX9_fits.data.toList.drop 24 = dktX9_fits_1 := dk_seg dksX9_fits_0 24 rfl rfl
theorem dksX9_fits_2 : cX9_fits.data.toList.drop 48 = dktX9_fits_2 := dk_seg dksX9_fits_1 24 rfl rfl
theorem dX9_fits_0 : decode cX9_fits 0 = .ok (.aload_n 0, 1) := dk_42 (dk_at dksX9_fits_0 0 rfl rfl)
theorem dX9_fits_1 : decode cX9_fits 1 = .ok (.iload_n 1, 1) := dk_27 (dk_at dksX9_fits_0 1 rfl rfl)
theorem dX9_fits_2 : decode cX9_fits 2 = .ok (.invokevirtual 340, 3) := dk_182 1 84 (dk_at dksX9_fits_0 2 rfl rfl)
theorem dX9_fits_5 : decode cX9_fits 5 = .ok (.ifCond .eq 18, 3) := dk_153 0 18 (dk_at dksX9_fits_0 5 rfl rfl)
theorem dX9_fits_8 : decode cX9_fits 8 = .ok (.iload_n 2, 1) := dk_28 (dk_at dksX9_fits_0 8 rfl rfl)
theorem dX9_fits_9 : decode cX9_fits 9 = .ok (.invokestatic 365, 3) := dk_184 1 109 (dk_at dksX9_fits_0 9 rfl rfl)
theorem dX9_fits_12 : decode cX9_fits 12 = .ok (.ifCond .eq 11, 3) := dk_153 0 11 (dk_at dksX9_fits_0 12 rfl rfl)
theorem dX9_fits_15 : decode cX9_fits 15 = .ok (.aload_n 0, 1) := dk_42 (dk_at dksX9_fits_0 15 rfl rfl)
theorem dX9_fits_16 : decode cX9_fits 16 = .ok (.iload_n 3, 1) := dk_29 (dk_at dksX9_fits_0 16 rfl rfl)
theorem dX9_fits_17 : decode cX9_fits 17 = .ok (.invokevirtual 328, 3) := dk_182 1 72 (dk_at dksX9_fits_0 17 rfl rfl)
theorem dX9_fits_20 : decode cX9_fits 20 = .ok (.ifCond .ne 9, 3) := dk_154 0 9 (dk_at dksX9_fits_0 20 rfl rfl)
theorem dX9_fits_23 : decode cX9_fits 23 = .ok (.aload_n 0, 1) := dk_42 (dk_at dksX9_fits_0 23 rfl rfl)
theorem dX9_fits_24 : decode cX9_fits 24 = .ok (.iconst 1, 1) := dk_4 (dk_at dksX9_fits_1 0 rfl rfl)
theorem dX9_fits_25 : decode cX9_fits 25 = .ok (.invokevirtual 197, 3) := dk_182 0 197 (dk_at dksX9_fits_1 1 rfl rfl)
theorem dX9_fits_28 : decode cX9_fits 28 = .ok (.ireturn, 1) := dk_172 (dk_at dksX9_fits_1 4 rfl rfl)
theorem dX9_fits_29 : decode cX9_fits 29 = .ok (.aload_n 0, 1) := dk_42 (dk_at dksX9_fits_1 5 rfl rfl)
theorem dX9_fits_30 : decode cX9_fits 30 = .ok (.iload_n 3, 1) := dk_29 (dk_at dksX9_fits_1 6 rfl rfl)
theorem dX9_fits_31 : decode cX9_fits 31 = .ok (.invokevirtual 331, 3) := dk_182 1 75 (dk_at dksX9_fits_1 7 rfl rfl)
theorem dX9_fits_34 : decode cX9_fits 34 = .ok (.ifCond .ne 10, 3) := dk_154 0 10 (dk_at dksX9_fits_1 10 rfl rfl)
theorem dX9_fits_37 : decode cX9_fits 37 = .ok (.aload_n 0, 1) := dk_42 (dk_at dksX9_fits_1 13 rfl rfl)
theorem dX9_fits_38 : decode cX9_fits 38 = .ok (.bipush 7, 2) := dk_16 7 (dk_at dksX9_fits_1 14 rfl rfl)
theorem dX9_fits_40 : decode cX9_fits 40 = .ok (.invokevirtual 197, 3) := dk_182 0 197 (dk_at dksX9_fits_1 16 rfl rfl)
theorem dX9_fits_43 : decode cX9_fits 43 = .ok (.ireturn, 1) := dk_172 (dk_at dksX9_fits_1 19 rfl rfl)
theorem dX9_fits_44 : decode cX9_fits 44 = .ok (.aload_n 0, 1) := dk_42 (dk_at dksX9_fits_1 20 rfl rfl)
theorem dX9_fits_45 : decode cX9_fits 45 = .ok (.invokevirtual 388, 3) := dk_182 1 132 (dk_at dksX9_fits_1 21 rfl rfl)
theorem dX9_fits_48 : decode cX9_fits 48 = .ok (.aload_n 0, 1) := dk_42 (dk_at dksX9_fits_2 0 rfl rfl)
theorem dX9_fits_49 : decode cX9_fits 49 = .ok (.aload_n 0, 1) := dk_42 (dk_at dksX9_fits_2 1 rfl rfl)
theorem dX9_fits_50 : decode cX9_fits 50 = .ok (.getfield 69, 3) := dk_180 0 69 (dk_at dksX9_fits_2 2 rfl rfl)
theorem dX9_fits_53 : decode cX9_fits 53 = .ok (.sipush 256, 3) := dk_17 1 0 (dk_at dksX9_fits_2 5 rfl rfl)
theorem dX9_fits_56 : decode cX9_fits 56 = .ok (.iload_n 1, 1) := dk_27 (dk_at dksX9_fits_2 8 rfl rfl)
theorem dX9_fits_57 : decode cX9_fits 57 = .ok (.imul, 1) := dk_104 (dk_at dksX9_fits_2 9 rfl rfl)
theorem dX9_fits_58 : decode cX9_fits 58 = .ok (.iload_n 3, 1) := dk_29 (dk_at dksX9_fits_2 10 rfl rfl)
theorem dX9_fits_59 : decode cX9_fits 59 = .ok (.iadd, 1) := dk_96 (dk_at dksX9_fits_2 11 rfl rfl)
theorem dX9_fits_60 : decode cX9_fits 60 = .ok (.iaload, 1) := dk_46 (dk_at dksX9_fits_2 12 rfl rfl)
theorem dX9_fits_61 : decode cX9_fits 61 = .ok (.iload_n 2, 1) := dk_28 (dk_at dksX9_fits_2 13 rfl rfl)
theorem dX9_fits_62 : decode cX9_fits 62 = .ok (.ishr, 1) := dk_122 (dk_at dksX9_fits_2 14 rfl rfl)
theorem dX9_fits_63 : decode cX9_fits 63 = .ok (.iconst 1, 1) := dk_4 (dk_at dksX9_fits_2 15 rfl rfl)
theorem dX9_fits_64 : decode cX9_fits 64 = .ok (.iand, 1) := dk_126 (dk_at dksX9_fits_2 16 rfl rfl)
theorem dX9_fits_65 : decode cX9_fits 65 = .ok (.invokevirtual 200, 3) := dk_182 0 200 (dk_at dksX9_fits_2 17 rfl rfl)
theorem dX9_fits_68 : decode cX9_fits 68 = .ok (.ireturn, 1) := dk_172 (dk_at dksX9_fits_2 20 rfl rfl)
abbrev cX9_sure : ByteArray := prog_19_method_103_code
def yX9_sure : MethodName := ⟨RX9, "sure", "(I)I"⟩
def dkwX9_sure_1 : List UInt8 := [61, 28, 2, 160, 0, 12, 42, 16, 6, 182, 0, 197, 167, 0, 8, 42, 28, 182, 0, 200, 172]
abbrev dktX9_sure_1 : List UInt8 := dkwX9_sure_1 ++ []
def dkwX9_sure_0 : List UInt8 := [42, 27, 182, 1, 78, 154, 0, 9, 42, 4, 182, 0, 197, 172, 42, 182, 1, 132, 42, 3, 27, 182, 1, 138]
abbrev dktX9_sure_0 : List UInt8 := dkwX9_sure_0 ++ dktX9_sure_1
theorem dksX9_sure_0 : cX9_sure.data.toList.drop 0 = dktX9_sure_0 := by decide +kernel
theorem dksX9_sure_1 : cX9_sure.data.toList.drop 24 = dktX9_sure_1 := dk_seg dksX9_sure_0 24 rfl rfl
theorem dX9_sure_0 : decode cX9_sure 0 = .ok (.aload_n 0, 1) := dk_42 (dk_at dksX9_sure_0 0 rfl rfl)
theorem dX9_sure_1 : decode cX9_sure 1 = .ok (.iload_n 1, 1) := dk_27 (dk_at dksX9_sure_0 1 rfl rfl)
theorem dX9_sure_2 : decode cX9_sure 2 = .ok (.invokevirtual 334, 3) := dk_182 1 78 (dk_at dksX9_sure_0 2 rfl rfl)
theorem dX9_sure_5 : decode cX9_sure 5 = .ok (.ifCond .ne 9, 3) := dk_154 0 9 (dk_at dksX9_sure_0 5 rfl rfl)
theorem dX9_sure_8 : decode cX9_sure 8 = .ok (.aload_n 0, 1) := dk_42 (dk_at dksX9_sure_0 8 rfl rfl)
theorem dX9_sure_9 : decode cX9_sure 9 = .ok (.iconst 1, 1) := dk_4 (dk_at dksX9_sure_0 9 rfl rfl)
theorem dX9_sure_10 : decode cX9_sure 10 = .ok (.invokevirtual 197, 3) := dk_182 0 197 (dk_at dksX9_sure_0 10 rfl rfl)
theorem dX9_sure_13 : decode cX9_sure 13 = .ok (.ireturn, 1) := dk_172 (dk_at dksX9_sure_0 13 rfl rfl)
theorem dX9_sure_14 : decode cX9_sure 14 = .ok (.aload_n 0, 1) := dk_42 (dk_at dksX9_sure_0 14 rfl rfl)
theorem dX9_sure_15 : decode cX9_sure 15 = .ok (.invokevirtual 388, 3) := dk_182 1 132 (dk_at dksX9_sure_0 15 rfl rfl)
theorem dX9_sure_18 : decode cX9_sure 18 = .ok (.aload_n 0, 1) := dk_42 (dk_at dksX9_sure_0 18 rfl rfl)
theorem dX9_sure_19 : decode cX9_sure 19 = .ok (.iconst 0, 1) := dk_3 (dk_at dksX9_sure_0 19 rfl rfl)
theorem dX9_sure_20 : decode cX9_sure 20 = .ok (.iload_n 1, 1) := dk_27 (dk_at dksX9_sure_0 20 rfl rfl)
theorem dX9_sure_21 : decode cX9_sure 21 = .ok (.invokevirtual 394, 3) := dk_182 1 138 (dk_at dksX9_sure_0 21 rfl rfl)
theorem dX9_sure_24 : decode cX9_sure 24 = .ok (.istore_n 2, 1) := dk_61 (dk_at dksX9_sure_1 0 rfl rfl)
theorem dX9_sure_25 : decode cX9_sure 25 = .ok (.iload_n 2, 1) := dk_28 (dk_at dksX9_sure_1 1 rfl rfl)
theorem dX9_sure_26 : decode cX9_sure 26 = .ok (.iconst (-1), 1) := dk_2 (dk_at dksX9_sure_1 2 rfl rfl)
theorem dX9_sure_27 : decode cX9_sure 27 = .ok (.if_icmp .ne 12, 3) := dk_160 0 12 (dk_at dksX9_sure_1 3 rfl rfl)
theorem dX9_sure_30 : decode cX9_sure 30 = .ok (.aload_n 0, 1) := dk_42 (dk_at dksX9_sure_1 6 rfl rfl)
theorem dX9_sure_31 : decode cX9_sure 31 = .ok (.bipush 6, 2) := dk_16 6 (dk_at dksX9_sure_1 7 rfl rfl)
theorem dX9_sure_33 : decode cX9_sure 33 = .ok (.invokevirtual 197, 3) := dk_182 0 197 (dk_at dksX9_sure_1 9 rfl rfl)
theorem dX9_sure_36 : decode cX9_sure 36 = .ok (.goto 8, 3) := dk_167 0 8 (dk_at dksX9_sure_1 12 rfl rfl)
theorem dX9_sure_39 : decode cX9_sure 39 = .ok (.aload_n 0, 1) := dk_42 (dk_at dksX9_sure_1 15 rfl rfl)
theorem dX9_sure_40 : decode cX9_sure 40 = .ok (.iload_n 2, 1) := dk_28 (dk_at dksX9_sure_1 16 rfl rfl)
theorem dX9_sure_41 : decode cX9_sure 41 = .ok (.invokevirtual 200, 3) := dk_182 0 200 (dk_at dksX9_sure_1 17 rfl rfl)
theorem dX9_sure_44 : decode cX9_sure 44 = .ok (.ireturn, 1) := dk_172 (dk_at dksX9_sure_1 20 rfl rfl)
abbrev cX9_sureAt : ByteArray := prog_19_method_94_code
def yX9_sureAt : MethodName := ⟨RX9, "sureAt", "(II)I"⟩
def dkwX9_sureAt_4 : List UInt8 := [167, 0, 4, 3, 172]
abbrev dktX9_sureAt_4 : List UInt8 := dkwX9_sureAt_4 ++ []
def dkwX9_sureAt_3 : List UInt8 := [3, 54, 4, 132, 5, 1, 167, 255, 187, 29, 21, 4, 160, 0, 7, 2, 167, 0, 12, 29, 153, 0, 7, 4]
abbrev dktX9_sureAt_3 : List UInt8 := dkwX9_sureAt_3 ++ dktX9_sureAt_4
def dkwX9_sureAt_2 : List UInt8 := [167, 0, 4, 3, 62, 21, 4, 154, 0, 13, 42, 28, 21, 5, 182, 1, 81, 154, 0, 7, 4, 167, 0, 4]
abbrev dktX9_sureAt_2 : List UInt8 := dkwX9_sureAt_2 ++ dktX9_sureAt_3
def dkwX9_sureAt_1 : List UInt8 := [182, 1, 125, 154, 0, 6, 167, 0, 45, 29, 154, 0, 13, 42, 28, 21, 5, 182, 1, 81, 153, 0, 7, 4]
abbrev dktX9_sureAt_1 : List UInt8 := dkwX9_sureAt_1 ++ dktX9_sureAt_2
def dkwX9_sureAt_0 : List UInt8 := [3, 62, 3, 54, 4, 3, 54, 5, 21, 5, 42, 180, 0, 7, 5, 46, 162, 0, 64, 42, 27, 21, 5]
abbrev dktX9_sureAt_0 : List UInt8 := dkwX9_sureAt_0 ++ dktX9_sureAt_1
theorem dksX9_sureAt_0 : cX9_sureAt.data.toList.drop 0 = dktX9_sureAt_0 := by decide +kernel
theorem dksX9_sureAt_1 : cX9_sureAt.data.toList.drop 23 = dktX9_sureAt_1 := dk_seg dksX9_sureAt_0 23 rfl rfl
theorem dksX9_sureAt_2 : cX9_sureAt.data.toList.drop 47 = dktX9_sureAt_2 := dk_seg dksX9_sureAt_1 24 rfl rfl
theorem dksX9_sureAt_3 : cX9_sureAt.data.toList.drop 71 = dktX9_sureAt_3 := dk_seg dksX9_sureAt_2 24 rfl rfl
theorem dksX9_sureAt_4 : cX9_sureAt.data.toList.drop 95 = dktX9_sureAt_4 := dk_seg dksX9_sureAt_3 24 rfl rfl
theorem dX9_sureAt_0 : decode cX9_sureAt 0 = .ok (.iconst 0, 1) := dk_3 (dk_at dksX9_sureAt_0 0 rfl rfl)
theorem dX9_sureAt_1 : decode cX9_sureAt 1 = .ok (.istore_n 3, 1) := dk_62 (dk_at dksX9_sureAt_0 1 rfl rfl)
theorem dX9_sureAt_2 : decode cX9_sureAt 2 = .ok (.iconst 0, 1) := dk_3 (dk_at dksX9_sureAt_0 2 rfl rfl)
theorem dX9_sureAt_3 : decode cX9_sureAt 3 = .ok (.istore 4, 2) := dk_54 4 (dk_at dksX9_sureAt_0 3 rfl rfl)
theorem dX9_sureAt_5 : decode cX9_sureAt 5 = .ok (.iconst 0, 1) := dk_3 (dk_at dksX9_sureAt_0 5 rfl rfl)
theorem dX9_sureAt_6 : decode cX9_sureAt 6 = .ok (.istore 5, 2) := dk_54 5 (dk_at dksX9_sureAt_0 6 rfl rfl)
theorem dX9_sureAt_8 : decode cX9_sureAt 8 = .ok (.iload 5, 2) := dk_21 5 (dk_at dksX9_sureAt_0 8 rfl rfl)
theorem dX9_sureAt_10 : decode cX9_sureAt 10 = .ok (.aload_n 0, 1) := dk_42 (dk_at dksX9_sureAt_0 10 rfl rfl)
theorem dX9_sureAt_11 : decode cX9_sureAt 11 = .ok (.getfield 7, 3) := dk_180 0 7 (dk_at dksX9_sureAt_0 11 rfl rfl)
theorem dX9_sureAt_14 : decode cX9_sureAt 14 = .ok (.iconst 2, 1) := dk_5 (dk_at dksX9_sureAt_0 14 rfl rfl)
theorem dX9_sureAt_15 : decode cX9_sureAt 15 = .ok (.iaload, 1) := dk_46 (dk_at dksX9_sureAt_0 15 rfl rfl)
theorem dX9_sureAt_16 : decode cX9_sureAt 16 = .ok (.if_icmp .ge 64, 3) := dk_162 0 64 (dk_at dksX9_sureAt_0 16 rfl rfl)
theorem dX9_sureAt_19 : decode cX9_sureAt 19 = .ok (.aload_n 0, 1) := dk_42 (dk_at dksX9_sureAt_0 19 rfl rfl)
theorem dX9_sureAt_20 : decode cX9_sureAt 20 = .ok (.iload_n 1, 1) := dk_27 (dk_at dksX9_sureAt_0 20 rfl rfl)
theorem dX9_sureAt_21 : decode cX9_sureAt 21 = .ok (.iload 5, 2) := dk_21 5 (dk_at dksX9_sureAt_0 21 rfl rfl)
theorem dX9_sureAt_23 : decode cX9_sureAt 23 = .ok (.invokevirtual 381, 3) := dk_182 1 125 (dk_at dksX9_sureAt_1 0 rfl rfl)
theorem dX9_sureAt_26 : decode cX9_sureAt 26 = .ok (.ifCond .ne 6, 3) := dk_154 0 6 (dk_at dksX9_sureAt_1 3 rfl rfl)
theorem dX9_sureAt_29 : decode cX9_sureAt 29 = .ok (.goto 45, 3) := dk_167 0 45 (dk_at dksX9_sureAt_1 6 rfl rfl)
theorem dX9_sureAt_32 : decode cX9_sureAt 32 = .ok (.iload_n 3, 1) := dk_29 (dk_at dksX9_sureAt_1 9 rfl rfl)
theorem dX9_sureAt_33 : decode cX9_sureAt 33 = .ok (.ifCond .ne 13, 3) := dk_154 0 13 (dk_at dksX9_sureAt_1 10 rfl rfl)
theorem dX9_sureAt_36 : decode cX9_sureAt 36 = .ok (.aload_n 0, 1) := dk_42 (dk_at dksX9_sureAt_1 13 rfl rfl)
theorem dX9_sureAt_37 : decode cX9_sureAt 37 = .ok (.iload_n 2, 1) := dk_28 (dk_at dksX9_sureAt_1 14 rfl rfl)
theorem dX9_sureAt_38 : decode cX9_sureAt 38 = .ok (.iload 5, 2) := dk_21 5 (dk_at dksX9_sureAt_1 15 rfl rfl)
theorem dX9_sureAt_40 : decode cX9_sureAt 40 = .ok (.invokevirtual 337, 3) := dk_182 1 81 (dk_at dksX9_sureAt_1 17 rfl rfl)
theorem dX9_sureAt_43 : decode cX9_sureAt 43 = .ok (.ifCond .eq 7, 3) := dk_153 0 7 (dk_at dksX9_sureAt_1 20 rfl rfl)
theorem dX9_sureAt_46 : decode cX9_sureAt 46 = .ok (.iconst 1, 1) := dk_4 (dk_at dksX9_sureAt_1 23 rfl rfl)
theorem dX9_sureAt_47 : decode cX9_sureAt 47 = .ok (.goto 4, 3) := dk_167 0 4 (dk_at dksX9_sureAt_2 0 rfl rfl)
theorem dX9_sureAt_50 : decode cX9_sureAt 50 = .ok (.iconst 0, 1) := dk_3 (dk_at dksX9_sureAt_2 3 rfl rfl)
theorem dX9_sureAt_51 : decode cX9_sureAt 51 = .ok (.istore_n 3, 1) := dk_62 (dk_at dksX9_sureAt_2 4 rfl rfl)
theorem dX9_sureAt_52 : decode cX9_sureAt 52 = .ok (.iload 4, 2) := dk_21 4 (dk_at dksX9_sureAt_2 5 rfl rfl)
theorem dX9_sureAt_54 : decode cX9_sureAt 54 = .ok (.ifCond .ne 13, 3) := dk_154 0 13 (dk_at dksX9_sureAt_2 7 rfl rfl)
theorem dX9_sureAt_57 : decode cX9_sureAt 57 = .ok (.aload_n 0, 1) := dk_42 (dk_at dksX9_sureAt_2 10 rfl rfl)
theorem dX9_sureAt_58 : decode cX9_sureAt 58 = .ok (.iload_n 2, 1) := dk_28 (dk_at dksX9_sureAt_2 11 rfl rfl)
theorem dX9_sureAt_59 : decode cX9_sureAt 59 = .ok (.iload 5, 2) := dk_21 5 (dk_at dksX9_sureAt_2 12 rfl rfl)
theorem dX9_sureAt_61 : decode cX9_sureAt 61 = .ok (.invokevirtual 337, 3) := dk_182 1 81 (dk_at dksX9_sureAt_2 14 rfl rfl)
theorem dX9_sureAt_64 : decode cX9_sureAt 64 = .ok (.ifCond .ne 7, 3) := dk_154 0 7 (dk_at dksX9_sureAt_2 17 rfl rfl)
theorem dX9_sureAt_67 : decode cX9_sureAt 67 = .ok (.iconst 1, 1) := dk_4 (dk_at dksX9_sureAt_2 20 rfl rfl)
theorem dX9_sureAt_68 : decode cX9_sureAt 68 = .ok (.goto 4, 3) := dk_167 0 4 (dk_at dksX9_sureAt_2 21 rfl rfl)
theorem dX9_sureAt_71 : decode cX9_sureAt 71 = .ok (.iconst 0, 1) := dk_3 (dk_at dksX9_sureAt_3 0 rfl rfl)
theorem dX9_sureAt_72 : decode cX9_sureAt 72 = .ok (.istore 4, 2) := dk_54 4 (dk_at dksX9_sureAt_3 1 rfl rfl)
theorem dX9_sureAt_74 : decode cX9_sureAt 74 = .ok (.iinc 5 1, 3) := dk_132 5 1 (dk_at dksX9_sureAt_3 3 rfl rfl)
theorem dX9_sureAt_77 : decode cX9_sureAt 77 = .ok (.goto (-69), 3) := dk_167 255 187 (dk_at dksX9_sureAt_3 6 rfl rfl)
theorem dX9_sureAt_80 : decode cX9_sureAt 80 = .ok (.iload_n 3, 1) := dk_29 (dk_at dksX9_sureAt_3 9 rfl rfl)
theorem dX9_sureAt_81 : decode cX9_sureAt 81 = .ok (.iload 4, 2) := dk_21 4 (dk_at dksX9_sureAt_3 10 rfl rfl)
theorem dX9_sureAt_83 : decode cX9_sureAt 83 = .ok (.if_icmp .ne 7, 3) := dk_160 0 7 (dk_at dksX9_sureAt_3 12 rfl rfl)
theorem dX9_sureAt_86 : decode cX9_sureAt 86 = .ok (.iconst (-1), 1) := dk_2 (dk_at dksX9_sureAt_3 15 rfl rfl)
theorem dX9_sureAt_87 : decode cX9_sureAt 87 = .ok (.goto 12, 3) := dk_167 0 12 (dk_at dksX9_sureAt_3 16 rfl rfl)
theorem dX9_sureAt_90 : decode cX9_sureAt 90 = .ok (.iload_n 3, 1) := dk_29 (dk_at dksX9_sureAt_3 19 rfl rfl)
theorem dX9_sureAt_91 : decode cX9_sureAt 91 = .ok (.ifCond .eq 7, 3) := dk_153 0 7 (dk_at dksX9_sureAt_3 20 rfl rfl)
theorem dX9_sureAt_94 : decode cX9_sureAt 94 = .ok (.iconst 1, 1) := dk_4 (dk_at dksX9_sureAt_3 23 rfl rfl)
theorem dX9_sureAt_95 : decode cX9_sureAt 95 = .ok (.goto 4, 3) := dk_167 0 4 (dk_at dksX9_sureAt_4 0 rfl rfl)
theorem dX9_sureAt_98 : decode cX9_sureAt 98 = .ok (.iconst 0, 1) := dk_3 (dk_at dksX9_sureAt_4 3 rfl rfl)
theorem dX9_sureAt_99 : decode cX9_sureAt 99 = .ok (.ireturn, 1) := dk_172 (dk_at dksX9_sureAt_4 4 rfl rfl)
abbrev cX9_chance : ByteArray := prog_19_method_107_code
def yX9_chance : MethodName := ⟨RX9, "chance", "(I)Z"⟩
def dkwX9_chance_2 : List UInt8 := [182, 1, 149, 32, 182, 1, 152, 172]
abbrev dktX9_chance_2 : List UInt8 := dkwX9_chance_2 ++ []
def dkwX9_chance_1 : List UInt8 := [182, 1, 149, 65, 32, 9, 148, 154, 0, 12, 42, 16, 6, 182, 0, 109, 167, 0, 15, 42, 42, 2, 3, 27]
abbrev dktX9_chance_1 : List UInt8 := dkwX9_chance_1 ++ dktX9_chance_2
def dkwX9_chance_0 : List UInt8 := [42, 27, 182, 1, 78, 154, 0, 9, 42, 4, 182, 0, 109, 172, 42, 182, 1, 132, 42, 2, 3, 2]
abbrev dktX9_chance_0 : List UInt8 := dkwX9_chance_0 ++ dktX9_chance_1
theorem dksX9_chance_0 : cX9_chance.data.toList.drop 0 = dktX9_chance_0 := by decide +kernel
theorem dksX9_chance_1 : cX9_chance.data.toList.drop 22 = dktX9_chance_1 := dk_seg dksX9_chance_0 22 rfl rfl
theorem dksX9_chance_2 : cX9_chance.data.toList.drop 46 = dktX9_chance_2 := dk_seg dksX9_chance_1 24 rfl rfl
theorem dX9_chance_0 : decode cX9_chance 0 = .ok (.aload_n 0, 1) := dk_42 (dk_at dksX9_chance_0 0 rfl rfl)
theorem dX9_chance_1 : decode cX9_chance 1 = .ok (.iload_n 1, 1) := dk_27 (dk_at dksX9_chance_0 1 rfl rfl)
theorem dX9_chance_2 : decode cX9_chance 2 = .ok (.invokevirtual 334, 3) := dk_182 1 78 (dk_at dksX9_chance_0 2 rfl rfl)
theorem dX9_chance_5 : decode cX9_chance 5 = .ok (.ifCond .ne 9, 3) := dk_154 0 9 (dk_at dksX9_chance_0 5 rfl rfl)
theorem dX9_chance_8 : decode cX9_chance 8 = .ok (.aload_n 0, 1) := dk_42 (dk_at dksX9_chance_0 8 rfl rfl)
theorem dX9_chance_9 : decode cX9_chance 9 = .ok (.iconst 1, 1) := dk_4 (dk_at dksX9_chance_0 9 rfl rfl)
theorem dX9_chance_10 : decode cX9_chance 10 = .ok (.invokevirtual 109, 3) := dk_182 0 109 (dk_at dksX9_chance_0 10 rfl rfl)
theorem dX9_chance_13 : decode cX9_chance 13 = .ok (.ireturn, 1) := dk_172 (dk_at dksX9_chance_0 13 rfl rfl)
theorem dX9_chance_14 : decode cX9_chance 14 = .ok (.aload_n 0, 1) := dk_42 (dk_at dksX9_chance_0 14 rfl rfl)
theorem dX9_chance_15 : decode cX9_chance 15 = .ok (.invokevirtual 388, 3) := dk_182 1 132 (dk_at dksX9_chance_0 15 rfl rfl)
theorem dX9_chance_18 : decode cX9_chance 18 = .ok (.aload_n 0, 1) := dk_42 (dk_at dksX9_chance_0 18 rfl rfl)
theorem dX9_chance_19 : decode cX9_chance 19 = .ok (.iconst (-1), 1) := dk_2 (dk_at dksX9_chance_0 19 rfl rfl)
theorem dX9_chance_20 : decode cX9_chance 20 = .ok (.iconst 0, 1) := dk_3 (dk_at dksX9_chance_0 20 rfl rfl)
theorem dX9_chance_21 : decode cX9_chance 21 = .ok (.iconst (-1), 1) := dk_2 (dk_at dksX9_chance_0 21 rfl rfl)
theorem dX9_chance_22 : decode cX9_chance 22 = .ok (.invokevirtual 405, 3) := dk_182 1 149 (dk_at dksX9_chance_1 0 rfl rfl)
theorem dX9_chance_25 : decode cX9_chance 25 = .ok (.lstore_n 2, 1) := dk_65 (dk_at dksX9_chance_1 3 rfl rfl)
theorem dX9_chance_26 : decode cX9_chance 26 = .ok (.lload_n 2, 1) := dk_32 (dk_at dksX9_chance_1 4 rfl rfl)
theorem dX9_chance_27 : decode cX9_chance 27 = .ok (.lconst 0, 1) := dk_9 (dk_at dksX9_chance_1 5 rfl rfl)
theorem dX9_chance_28 : decode cX9_chance 28 = .ok (.lcmp, 1) := dk_148 (dk_at dksX9_chance_1 6 rfl rfl)
theorem dX9_chance_29 : decode cX9_chance 29 = .ok (.ifCond .ne 12, 3) := dk_154 0 12 (dk_at dksX9_chance_1 7 rfl rfl)
theorem dX9_chance_32 : decode cX9_chance 32 = .ok (.aload_n 0, 1) := dk_42 (dk_at dksX9_chance_1 10 rfl rfl)
theorem dX9_chance_33 : decode cX9_chance 33 = .ok (.bipush 6, 2) := dk_16 6 (dk_at dksX9_chance_1 11 rfl rfl)
theorem dX9_chance_35 : decode cX9_chance 35 = .ok (.invokevirtual 109, 3) := dk_182 0 109 (dk_at dksX9_chance_1 13 rfl rfl)
theorem dX9_chance_38 : decode cX9_chance 38 = .ok (.goto 15, 3) := dk_167 0 15 (dk_at dksX9_chance_1 16 rfl rfl)
theorem dX9_chance_41 : decode cX9_chance 41 = .ok (.aload_n 0, 1) := dk_42 (dk_at dksX9_chance_1 19 rfl rfl)
theorem dX9_chance_42 : decode cX9_chance 42 = .ok (.aload_n 0, 1) := dk_42 (dk_at dksX9_chance_1 20 rfl rfl)
theorem dX9_chance_43 : decode cX9_chance 43 = .ok (.iconst (-1), 1) := dk_2 (dk_at dksX9_chance_1 21 rfl rfl)
theorem dX9_chance_44 : decode cX9_chance 44 = .ok (.iconst 0, 1) := dk_3 (dk_at dksX9_chance_1 22 rfl rfl)
theorem dX9_chance_45 : decode cX9_chance 45 = .ok (.iload_n 1, 1) := dk_27 (dk_at dksX9_chance_1 23 rfl rfl)
theorem dX9_chance_46 : decode cX9_chance 46 = .ok (.invokevirtual 405, 3) := dk_182 1 149 (dk_at dksX9_chance_2 0 rfl rfl)
theorem dX9_chance_49 : decode cX9_chance 49 = .ok (.lload_n 2, 1) := dk_32 (dk_at dksX9_chance_2 3 rfl rfl)
theorem dX9_chance_50 : decode cX9_chance 50 = .ok (.invokevirtual 408, 3) := dk_182 1 152 (dk_at dksX9_chance_2 4 rfl rfl)
theorem dX9_chance_53 : decode cX9_chance 53 = .ok (.ireturn, 1) := dk_172 (dk_at dksX9_chance_2 7 rfl rfl)
abbrev cX9_weightAll : ByteArray := prog_19_method_106_code
def yX9_weightAll : MethodName := ⟨RX9, "weightAll", "(III)J"⟩
def dkwX9_weightAll_2 : List UInt8 := [28, 182, 1, 145, 97, 55, 4, 132, 6, 1, 167, 255, 204, 22, 4, 173]
abbrev dktX9_weightAll_2 : List UInt8 := dkwX9_weightAll_2 ++ []
def dkwX9_weightAll_1 : List UInt8 := [153, 0, 31, 29, 2, 159, 0, 13, 42, 29, 21, 6, 182, 1, 81, 153, 0, 16, 22, 4, 42, 21, 6, 27]
abbrev dktX9_weightAll_1 : List UInt8 := dkwX9_weightAll_1 ++ dktX9_weightAll_2
def dkwX9_weightAll_0 : List UInt8 := [9, 55, 4, 3, 54, 6, 21, 6, 42, 180, 0, 7, 5, 46, 162, 0, 47, 42, 3, 21, 6, 182, 1, 125]
abbrev dktX9_weightAll_0 : List UInt8 := dkwX9_weightAll_0 ++ dktX9_weightAll_1
theorem dksX9_weightAll_0 : cX9_weightAll.data.toList.drop 0 = dktX9_weightAll_0 := by decide +kernel
theorem dksX9_weightAll_1 : cX9_weightAll.data.toList.drop 24 = dktX9_weightAll_1 := dk_seg dksX9_weightAll_0 24 rfl rfl
theorem dksX9_weightAll_2 : cX9_weightAll.data.toList.drop 48 = dktX9_weightAll_2 := dk_seg dksX9_weightAll_1 24 rfl rfl
theorem dX9_weightAll_0 : decode cX9_weightAll 0 = .ok (.lconst 0, 1) := dk_9 (dk_at dksX9_weightAll_0 0 rfl rfl)
theorem dX9_weightAll_1 : decode cX9_weightAll 1 = .ok (.lstore 4, 2) := dk_55 4 (dk_at dksX9_weightAll_0 1 rfl rfl)
theorem dX9_weightAll_3 : decode cX9_weightAll 3 = .ok (.iconst 0, 1) := dk_3 (dk_at dksX9_weightAll_0 3 rfl rfl)
theorem dX9_weightAll_4 : decode cX9_weightAll 4 = .ok (.istore 6, 2) := dk_54 6 (dk_at dksX9_weightAll_0 4 rfl rfl)
theorem dX9_weightAll_6 : decode cX9_weightAll 6 = .ok (.iload 6, 2) := dk_21 6 (dk_at dksX9_weightAll_0 6 rfl rfl)
theorem dX9_weightAll_8 : decode cX9_weightAll 8 = .ok (.aload_n 0, 1) := dk_42 (dk_at dksX9_weightAll_0 8 rfl rfl)
theorem dX9_weightAll_9 : decode cX9_weightAll 9 = .ok (.getfield 7, 3) := dk_180 0 7 (dk_at dksX9_weightAll_0 9 rfl rfl)
theorem dX9_weightAll_12 : decode cX9_weightAll 12 = .ok (.iconst 2, 1) := dk_5 (dk_at dksX9_weightAll_0 12 rfl rfl)
theorem dX9_weightAll_13 : decode cX9_weightAll 13 = .ok (.iaload, 1) := dk_46 (dk_at dksX9_weightAll_0 13 rfl rfl)
theorem dX9_weightAll_14 : decode cX9_weightAll 14 = .ok (.if_icmp .ge 47, 3) := dk_162 0 47 (dk_at dksX9_weightAll_0 14 rfl rfl)
theorem dX9_weightAll_17 : decode cX9_weightAll 17 = .ok (.aload_n 0, 1) := dk_42 (dk_at dksX9_weightAll_0 17 rfl rfl)
theorem dX9_weightAll_18 : decode cX9_weightAll 18 = .ok (.iconst 0, 1) := dk_3 (dk_at dksX9_weightAll_0 18 rfl rfl)
theorem dX9_weightAll_19 : decode cX9_weightAll 19 = .ok (.iload 6, 2) := dk_21 6 (dk_at dksX9_weightAll_0 19 rfl rfl)
theorem dX9_weightAll_21 : decode cX9_weightAll 21 = .ok (.invokevirtual 381, 3) := dk_182 1 125 (dk_at dksX9_weightAll_0 21 rfl rfl)
theorem dX9_weightAll_24 : decode cX9_weightAll 24 = .ok (.ifCond .eq 31, 3) := dk_153 0 31 (dk_at dksX9_weightAll_1 0 rfl rfl)
theorem dX9_weightAll_27 : decode cX9_weightAll 27 = .ok (.iload_n 3, 1) := dk_29 (dk_at dksX9_weightAll_1 3 rfl rfl)
theorem dX9_weightAll_28 : decode cX9_weightAll 28 = .ok (.iconst (-1), 1) := dk_2 (dk_at dksX9_weightAll_1 4 rfl rfl)
theorem dX9_weightAll_29 : decode cX9_weightAll 29 = .ok (.if_icmp .eq 13, 3) := dk_159 0 13 (dk_at dksX9_weightAll_1 5 rfl rfl)
theorem dX9_weightAll_32 : decode cX9_weightAll 32 = .ok (.aload_n 0, 1) := dk_42 (dk_at dksX9_weightAll_1 8 rfl rfl)
theorem dX9_weightAll_33 : decode cX9_weightAll 33 = .ok (.iload_n 3, 1) := dk_29 (dk_at dksX9_weightAll_1 9 rfl rfl)
theorem dX9_weightAll_34 : decode cX9_weightAll 34 = .ok (.iload 6, 2) := dk_21 6 (dk_at dksX9_weightAll_1 10 rfl rfl)
theorem dX9_weightAll_36 : decode cX9_weightAll 36 = .ok (.invokevirtual 337, 3) := dk_182 1 81 (dk_at dksX9_weightAll_1 12 rfl rfl)
theorem dX9_weightAll_39 : decode cX9_weightAll 39 = .ok (.ifCond .eq 16, 3) := dk_153 0 16 (dk_at dksX9_weightAll_1 15 rfl rfl)
theorem dX9_weightAll_42 : decode cX9_weightAll 42 = .ok (.lload 4, 2) := dk_22 4 (dk_at dksX9_weightAll_1 18 rfl rfl)
theorem dX9_weightAll_44 : decode cX9_weightAll 44 = .ok (.aload_n 0, 1) := dk_42 (dk_at dksX9_weightAll_1 20 rfl rfl)
theorem dX9_weightAll_45 : decode cX9_weightAll 45 = .ok (.iload 6, 2) := dk_21 6 (dk_at dksX9_weightAll_1 21 rfl rfl)
theorem dX9_weightAll_47 : decode cX9_weightAll 47 = .ok (.iload_n 1, 1) := dk_27 (dk_at dksX9_weightAll_1 23 rfl rfl)
theorem dX9_weightAll_48 : decode cX9_weightAll 48 = .ok (.iload_n 2, 1) := dk_28 (dk_at dksX9_weightAll_2 0 rfl rfl)
theorem dX9_weightAll_49 : decode cX9_weightAll 49 = .ok (.invokevirtual 401, 3) := dk_182 1 145 (dk_at dksX9_weightAll_2 1 rfl rfl)
theorem dX9_weightAll_52 : decode cX9_weightAll 52 = .ok (.ladd, 1) := dk_97 (dk_at dksX9_weightAll_2 4 rfl rfl)
theorem dX9_weightAll_53 : decode cX9_weightAll 53 = .ok (.lstore 4, 2) := dk_55 4 (dk_at dksX9_weightAll_2 5 rfl rfl)
theorem dX9_weightAll_55 : decode cX9_weightAll 55 = .ok (.iinc 6 1, 3) := dk_132 6 1 (dk_at dksX9_weightAll_2 7 rfl rfl)
theorem dX9_weightAll_58 : decode cX9_weightAll 58 = .ok (.goto (-52), 3) := dk_167 255 204 (dk_at dksX9_weightAll_2 10 rfl rfl)
theorem dX9_weightAll_61 : decode cX9_weightAll 61 = .ok (.lload 4, 2) := dk_22 4 (dk_at dksX9_weightAll_2 13 rfl rfl)
theorem dX9_weightAll_63 : decode cX9_weightAll 63 = .ok (.lreturn, 1) := dk_173 (dk_at dksX9_weightAll_2 15 rfl rfl)
abbrev cX9_weightBy : ByteArray := prog_19_method_105_code
def yX9_weightBy : MethodName := ⟨RX9, "weightBy", "(III)J"⟩
def dkwX9_weightBy_4 : List UInt8 := [55, 4, 132, 6, 1, 167, 255, 165, 22, 4, 173]
abbrev dktX9_weightBy_4 : List UInt8 := dkwX9_weightBy_4 ++ []
def dkwX9_weightBy_3 : List UInt8 := [21, 8, 182, 1, 87, 167, 0, 4, 3, 96, 54, 7, 132, 8, 1, 167, 255, 196, 22, 4, 21, 7, 133, 105]
abbrev dktX9_weightBy_3 : List UInt8 := dkwX9_weightBy_3 ++ dktX9_weightBy_4
def dkwX9_weightBy_2 : List UInt8 := [21, 8, 122, 4, 126, 4, 160, 0, 26, 21, 6, 28, 160, 0, 9, 21, 8, 29, 160, 0, 14, 42, 21, 6]
abbrev dktX9_weightBy_2 : List UInt8 := dkwX9_weightBy_2 ++ dktX9_weightBy_3
def dkwX9_weightBy_1 : List UInt8 := [3, 54, 8, 21, 8, 7, 162, 0, 60, 21, 7, 42, 180, 0, 69, 17, 1, 0, 21, 6, 104, 27, 96, 46]
abbrev dktX9_weightBy_1 : List UInt8 := dkwX9_weightBy_1 ++ dktX9_weightBy_2
def dkwX9_weightBy_0 : List UInt8 := [42, 27, 182, 1, 141, 55, 4, 3, 54, 6, 21, 6, 42, 180, 0, 7, 7, 46, 162, 0, 86, 3, 54, 7]
abbrev dktX9_weightBy_0 : List UInt8 := dkwX9_weightBy_0 ++ dktX9_weightBy_1
theorem dksX9_weightBy_0 : cX9_weightBy.data.toList.drop 0 = dktX9_weightBy_0 := by decide +kernel
theorem dksX9_weightBy_1 : cX9_weightBy.data.toList.drop 24 = dktX9_weightBy_1 := dk_seg dksX9_weightBy_0 24 rfl rfl
theorem dksX9_weightBy_2 : cX9_weightBy.data.toList.drop 48 = dktX9_weightBy_2 := dk_seg dksX9_weightBy_1 24 rfl rfl
theorem dksX9_weightBy_3 : cX9_weightBy.data.toList.drop 72 = dktX9_weightBy_3 := dk_seg dksX9_weightBy_2 24 rfl rfl
theorem dksX9_weightBy_4 : cX9_weightBy.data.toList.drop 96 = dktX9_weightBy_4 := dk_seg dksX9_weightBy_3 24 rfl rfl
theorem dX9_weightBy_0 : decode cX9_weightBy 0 = .ok (.aload_n 0, 1) := dk_42 (dk_at dksX9_weightBy_0 0 rfl rfl)
theorem dX9_weightBy_1 : decode cX9_weightBy 1 = .ok (.iload_n 1, 1) := dk_27 (dk_at dksX9_weightBy_0 1 rfl rfl)
theorem dX9_weightBy_2 : decode cX9_weightBy 2 = .ok (.invokevirtual 397, 3) := dk_182 1 141 (dk_at dksX9_weightBy_0 2 rfl rfl)
theorem dX9_weightBy_5 : decode cX9_weightBy 5 = .ok (.lstore 4, 2) := dk_55 4 (dk_at dksX9_weightBy_0 5 rfl rfl)
theorem dX9_weightBy_7 : decode cX9_weightBy 7 = .ok (.iconst 0, 1) := dk_3 (dk_at dksX9_weightBy_0 7 rfl rfl)
theorem dX9_weightBy_8 : decode cX9_weightBy 8 = .ok (.istore 6, 2) := dk_54 6 (dk_at dksX9_weightBy_0 8 rfl rfl)
theorem dX9_weightBy_10 : decode cX9_weightBy 10 = .ok (.iload 6, 2) := dk_21 6 (dk_at dksX9_weightBy_0 10 rfl rfl)
theorem dX9_weightBy_12 : decode cX9_weightBy 12 = .ok (.aload_n 0, 1) := dk_42 (dk_at dksX9_weightBy_0 12 rfl rfl)
theorem dX9_weightBy_13 : decode cX9_weightBy 13 = .ok (.getfield 7, 3) := dk_180 0 7 (dk_at dksX9_weightBy_0 13 rfl rfl)
theorem dX9_weightBy_16 : decode cX9_weightBy 16 = .ok (.iconst 4, 1) := dk_7 (dk_at dksX9_weightBy_0 16 rfl rfl)
theorem dX9_weightBy_17 : decode cX9_weightBy 17 = .ok (.iaload, 1) := dk_46 (dk_at dksX9_weightBy_0 17 rfl rfl)
theorem dX9_weightBy_18 : decode cX9_weightBy 18 = .ok (.if_icmp .ge 86, 3) := dk_162 0 86 (dk_at dksX9_weightBy_0 18 rfl rfl)
theorem dX9_weightBy_21 : decode cX9_weightBy 21 = .ok (.iconst 0, 1) := dk_3 (dk_at dksX9_weightBy_0 21 rfl rfl)
theorem dX9_weightBy_22 : decode cX9_weightBy 22 = .ok (.istore 7, 2) := dk_54 7 (dk_at dksX9_weightBy_0 22 rfl rfl)
theorem dX9_weightBy_24 : decode cX9_weightBy 24 = .ok (.iconst 0, 1) := dk_3 (dk_at dksX9_weightBy_1 0 rfl rfl)
theorem dX9_weightBy_25 : decode cX9_weightBy 25 = .ok (.istore 8, 2) := dk_54 8 (dk_at dksX9_weightBy_1 1 rfl rfl)
theorem dX9_weightBy_27 : decode cX9_weightBy 27 = .ok (.iload 8, 2) := dk_21 8 (dk_at dksX9_weightBy_1 3 rfl rfl)
theorem dX9_weightBy_29 : decode cX9_weightBy 29 = .ok (.iconst 4, 1) := dk_7 (dk_at dksX9_weightBy_1 5 rfl rfl)
theorem dX9_weightBy_30 : decode cX9_weightBy 30 = .ok (.if_icmp .ge 60, 3) := dk_162 0 60 (dk_at dksX9_weightBy_1 6 rfl rfl)
theorem dX9_weightBy_33 : decode cX9_weightBy 33 = .ok (.iload 7, 2) := dk_21 7 (dk_at dksX9_weightBy_1 9 rfl rfl)
theorem dX9_weightBy_35 : decode cX9_weightBy 35 = .ok (.aload_n 0, 1) := dk_42 (dk_at dksX9_weightBy_1 11 rfl rfl)
theorem dX9_weightBy_36 : decode cX9_weightBy 36 = .ok (.getfield 69, 3) := dk_180 0 69 (dk_at dksX9_weightBy_1 12 rfl rfl)
theorem dX9_weightBy_39 : decode cX9_weightBy 39 = .ok (.sipush 256, 3) := dk_17 1 0 (dk_at dksX9_weightBy_1 15 rfl rfl)
theorem dX9_weightBy_42 : decode cX9_weightBy 42 = .ok (.iload 6, 2) := dk_21 6 (dk_at dksX9_weightBy_1 18 rfl rfl)
theorem dX9_weightBy_44 : decode cX9_weightBy 44 = .ok (.imul, 1) := dk_104 (dk_at dksX9_weightBy_1 20 rfl rfl)
theorem dX9_weightBy_45 : decode cX9_weightBy 45 = .ok (.iload_n 1, 1) := dk_27 (dk_at dksX9_weightBy_1 21 rfl rfl)
theorem dX9_weightBy_46 : decode cX9_weightBy 46 = .ok (.iadd, 1) := dk_96 (dk_at dksX9_weightBy_1 22 rfl rfl)
theorem dX9_weightBy_47 : decode cX9_weightBy 47 = .ok (.iaload, 1) := dk_46 (dk_at dksX9_weightBy_1 23 rfl rfl)
theorem dX9_weightBy_48 : decode cX9_weightBy 48 = .ok (.iload 8, 2) := dk_21 8 (dk_at dksX9_weightBy_2 0 rfl rfl)
theorem dX9_weightBy_50 : decode cX9_weightBy 50 = .ok (.ishr, 1) := dk_122 (dk_at dksX9_weightBy_2 2 rfl rfl)
theorem dX9_weightBy_51 : decode cX9_weightBy 51 = .ok (.iconst 1, 1) := dk_4 (dk_at dksX9_weightBy_2 3 rfl rfl)
theorem dX9_weightBy_52 : decode cX9_weightBy 52 = .ok (.iand, 1) := dk_126 (dk_at dksX9_weightBy_2 4 rfl rfl)
theorem dX9_weightBy_53 : decode cX9_weightBy 53 = .ok (.iconst 1, 1) := dk_4 (dk_at dksX9_weightBy_2 5 rfl rfl)
theorem dX9_weightBy_54 : decode cX9_weightBy 54 = .ok (.if_icmp .ne 26, 3) := dk_160 0 26 (dk_at dksX9_weightBy_2 6 rfl rfl)
theorem dX9_weightBy_57 : decode cX9_weightBy 57 = .ok (.iload 6, 2) := dk_21 6 (dk_at dksX9_weightBy_2 9 rfl rfl)
theorem dX9_weightBy_59 : decode cX9_weightBy 59 = .ok (.iload_n 2, 1) := dk_28 (dk_at dksX9_weightBy_2 11 rfl rfl)
theorem dX9_weightBy_60 : decode cX9_weightBy 60 = .ok (.if_icmp .ne 9, 3) := dk_160 0 9 (dk_at dksX9_weightBy_2 12 rfl rfl)
theorem dX9_weightBy_63 : decode cX9_weightBy 63 = .ok (.iload 8, 2) := dk_21 8 (dk_at dksX9_weightBy_2 15 rfl rfl)
theorem dX9_weightBy_65 : decode cX9_weightBy 65 = .ok (.iload_n 3, 1) := dk_29 (dk_at dksX9_weightBy_2 17 rfl rfl)
theorem dX9_weightBy_66 : decode cX9_weightBy 66 = .ok (.if_icmp .ne 14, 3) := dk_160 0 14 (dk_at dksX9_weightBy_2 18 rfl rfl)
theorem dX9_weightBy_69 : decode cX9_weightBy 69 = .ok (.aload_n 0, 1) := dk_42 (dk_at dksX9_weightBy_2 21 rfl rfl)
theorem dX9_weightBy_70 : decode cX9_weightBy 70 = .ok (.iload 6, 2) := dk_21 6 (dk_at dksX9_weightBy_2 22 rfl rfl)
theorem dX9_weightBy_72 : decode cX9_weightBy 72 = .ok (.iload 8, 2) := dk_21 8 (dk_at dksX9_weightBy_3 0 rfl rfl)
theorem dX9_weightBy_74 : decode cX9_weightBy 74 = .ok (.invokevirtual 343, 3) := dk_182 1 87 (dk_at dksX9_weightBy_3 2 rfl rfl)
theorem dX9_weightBy_77 : decode cX9_weightBy 77 = .ok (.goto 4, 3) := dk_167 0 4 (dk_at dksX9_weightBy_3 5 rfl rfl)
theorem dX9_weightBy_80 : decode cX9_weightBy 80 = .ok (.iconst 0, 1) := dk_3 (dk_at dksX9_weightBy_3 8 rfl rfl)
theorem dX9_weightBy_81 : decode cX9_weightBy 81 = .ok (.iadd, 1) := dk_96 (dk_at dksX9_weightBy_3 9 rfl rfl)
theorem dX9_weightBy_82 : decode cX9_weightBy 82 = .ok (.istore 7, 2) := dk_54 7 (dk_at dksX9_weightBy_3 10 rfl rfl)
theorem dX9_weightBy_84 : decode cX9_weightBy 84 = .ok (.iinc 8 1, 3) := dk_132 8 1 (dk_at dksX9_weightBy_3 12 rfl rfl)
theorem dX9_weightBy_87 : decode cX9_weightBy 87 = .ok (.goto (-60), 3) := dk_167 255 196 (dk_at dksX9_weightBy_3 15 rfl rfl)
theorem dX9_weightBy_90 : decode cX9_weightBy 90 = .ok (.lload 4, 2) := dk_22 4 (dk_at dksX9_weightBy_3 18 rfl rfl)
theorem dX9_weightBy_92 : decode cX9_weightBy 92 = .ok (.iload 7, 2) := dk_21 7 (dk_at dksX9_weightBy_3 20 rfl rfl)
theorem dX9_weightBy_94 : decode cX9_weightBy 94 = .ok (.i2l, 1) := dk_133 (dk_at dksX9_weightBy_3 22 rfl rfl)
theorem dX9_weightBy_95 : decode cX9_weightBy 95 = .ok (.lmul, 1) := dk_105 (dk_at dksX9_weightBy_3 23 rfl rfl)
theorem dX9_weightBy_96 : decode cX9_weightBy 96 = .ok (.lstore 4, 2) := dk_55 4 (dk_at dksX9_weightBy_4 0 rfl rfl)
theorem dX9_weightBy_98 : decode cX9_weightBy 98 = .ok (.iinc 6 1, 3) := dk_132 6 1 (dk_at dksX9_weightBy_4 2 rfl rfl)
theorem dX9_weightBy_101 : decode cX9_weightBy 101 = .ok (.goto (-91), 3) := dk_167 255 165 (dk_at dksX9_weightBy_4 5 rfl rfl)
theorem dX9_weightBy_104 : decode cX9_weightBy 104 = .ok (.lload 4, 2) := dk_22 4 (dk_at dksX9_weightBy_4 8 rfl rfl)
theorem dX9_weightBy_106 : decode cX9_weightBy 106 = .ok (.lreturn, 1) := dk_173 (dk_at dksX9_weightBy_4 10 rfl rfl)
abbrev cX9_weightOf : ByteArray := prog_19_method_104_code
def yX9_weightOf : MethodName := ⟨RX9, "weightOf", "(I)J"⟩
def dkwX9_weightOf_1 : List UInt8 := [3, 27, 21, 4, 182, 0, 234, 96, 46, 133, 105, 65, 132, 4, 1, 167, 255, 222, 32, 173]
abbrev dktX9_weightOf_1 : List UInt8 := dkwX9_weightOf_1 ++ []
def dkwX9_weightOf_0 : List UInt8 := [10, 65, 3, 54, 4, 21, 4, 42, 180, 0, 7, 3, 46, 162, 0, 29, 32, 42, 180, 0, 7, 16, 32, 42]
abbrev dktX9_weightOf_0 : List UInt8 := dkwX9_weightOf_0 ++ dktX9_weightOf_1
theorem dksX9_weightOf_0 : cX9_weightOf.data.toList.drop 0 = dktX9_weightOf_0 := by decide +kernel
theorem dksX9_weightOf_1 : cX9_weightOf.data.toList.drop 24 = dktX9_weightOf_1 := dk_seg dksX9_weightOf_0 24 rfl rfl
theorem dX9_weightOf_0 : decode cX9_weightOf 0 = .ok (.lconst 1, 1) := dk_10 (dk_at dksX9_weightOf_0 0 rfl rfl)
theorem dX9_weightOf_1 : decode cX9_weightOf 1 = .ok (.lstore_n 2, 1) := dk_65 (dk_at dksX9_weightOf_0 1 rfl rfl)
theorem dX9_weightOf_2 : decode cX9_weightOf 2 = .ok (.iconst 0, 1) := dk_3 (dk_at dksX9_weightOf_0 2 rfl rfl)
theorem dX9_weightOf_3 : decode cX9_weightOf 3 = .ok (.istore 4, 2) := dk_54 4 (dk_at dksX9_weightOf_0 3 rfl rfl)
theorem dX9_weightOf_5 : decode cX9_weightOf 5 = .ok (.iload 4, 2) := dk_21 4 (dk_at dksX9_weightOf_0 5 rfl rfl)
theorem dX9_weightOf_7 : decode cX9_weightOf 7 = .ok (.aload_n 0, 1) := dk_42 (dk_at dksX9_weightOf_0 7 rfl rfl)
theorem dX9_weightOf_8 : decode cX9_weightOf 8 = .ok (.getfield 7, 3) := dk_180 0 7 (dk_at dksX9_weightOf_0 8 rfl rfl)
theorem dX9_weightOf_11 : decode cX9_weightOf 11 = .ok (.iconst 0, 1) := dk_3 (dk_at dksX9_weightOf_0 11 rfl rfl)
theorem dX9_weightOf_12 : decode cX9_weightOf 12 = .ok (.iaload, 1) := dk_46 (dk_at dksX9_weightOf_0 12 rfl rfl)
theorem dX9_weightOf_13 : decode cX9_weightOf 13 = .ok (.if_icmp .ge 29, 3) := dk_162 0 29 (dk_at dksX9_weightOf_0 13 rfl rfl)
theorem dX9_weightOf_16 : decode cX9_weightOf 16 = .ok (.lload_n 2, 1) := dk_32 (dk_at dksX9_weightOf_0 16 rfl rfl)
theorem dX9_weightOf_17 : decode cX9_weightOf 17 = .ok (.aload_n 0, 1) := dk_42 (dk_at dksX9_weightOf_0 17 rfl rfl)
theorem dX9_weightOf_18 : decode cX9_weightOf 18 = .ok (.getfield 7, 3) := dk_180 0 7 (dk_at dksX9_weightOf_0 18 rfl rfl)
theorem dX9_weightOf_21 : decode cX9_weightOf 21 = .ok (.bipush 32, 2) := dk_16 32 (dk_at dksX9_weightOf_0 21 rfl rfl)
theorem dX9_weightOf_23 : decode cX9_weightOf 23 = .ok (.aload_n 0, 1) := dk_42 (dk_at dksX9_weightOf_0 23 rfl rfl)
theorem dX9_weightOf_24 : decode cX9_weightOf 24 = .ok (.iconst 0, 1) := dk_3 (dk_at dksX9_weightOf_1 0 rfl rfl)
theorem dX9_weightOf_25 : decode cX9_weightOf 25 = .ok (.iload_n 1, 1) := dk_27 (dk_at dksX9_weightOf_1 1 rfl rfl)
theorem dX9_weightOf_26 : decode cX9_weightOf 26 = .ok (.iload 4, 2) := dk_21 4 (dk_at dksX9_weightOf_1 2 rfl rfl)
theorem dX9_weightOf_28 : decode cX9_weightOf 28 = .ok (.invokevirtual 234, 3) := dk_182 0 234 (dk_at dksX9_weightOf_1 4 rfl rfl)
theorem dX9_weightOf_31 : decode cX9_weightOf 31 = .ok (.iadd, 1) := dk_96 (dk_at dksX9_weightOf_1 7 rfl rfl)
theorem dX9_weightOf_32 : decode cX9_weightOf 32 = .ok (.iaload, 1) := dk_46 (dk_at dksX9_weightOf_1 8 rfl rfl)
theorem dX9_weightOf_33 : decode cX9_weightOf 33 = .ok (.i2l, 1) := dk_133 (dk_at dksX9_weightOf_1 9 rfl rfl)
theorem dX9_weightOf_34 : decode cX9_weightOf 34 = .ok (.lmul, 1) := dk_105 (dk_at dksX9_weightOf_1 10 rfl rfl)
theorem dX9_weightOf_35 : decode cX9_weightOf 35 = .ok (.lstore_n 2, 1) := dk_65 (dk_at dksX9_weightOf_1 11 rfl rfl)
theorem dX9_weightOf_36 : decode cX9_weightOf 36 = .ok (.iinc 4 1, 3) := dk_132 4 1 (dk_at dksX9_weightOf_1 12 rfl rfl)
theorem dX9_weightOf_39 : decode cX9_weightOf 39 = .ok (.goto (-34), 3) := dk_167 255 222 (dk_at dksX9_weightOf_1 15 rfl rfl)
theorem dX9_weightOf_42 : decode cX9_weightOf 42 = .ok (.lload_n 2, 1) := dk_32 (dk_at dksX9_weightOf_1 18 rfl rfl)
theorem dX9_weightOf_43 : decode cX9_weightOf 43 = .ok (.lreturn, 1) := dk_173 (dk_at dksX9_weightOf_1 19 rfl rfl)
abbrev cX9_tellsBy : ByteArray := prog_19_method_10_code
def yX9_tellsBy : MethodName := ⟨RX9, "tellsBy", "(JJ)Z"⟩
def dkwX9_tellsBy_2 : List UInt8 := [3, 182, 0, 109, 172]
abbrev dktX9_tellsBy_2 : List UInt8 := dkwX9_tellsBy_2 ++ []
def dkwX9_tellsBy_1 : List UInt8 := [22, 9, 55, 7, 167, 255, 234, 42, 31, 22, 5, 109, 181, 0, 106, 42, 33, 22, 5, 109, 181, 0, 20, 42]
abbrev dktX9_tellsBy_1 : List UInt8 := dkwX9_tellsBy_1 ++ dktX9_tellsBy_2
def dkwX9_tellsBy_0 : List UInt8 := [31, 55, 5, 33, 55, 7, 22, 7, 9, 148, 153, 0, 21, 22, 5, 22, 7, 113, 55, 9, 22, 7, 55, 5]
abbrev dktX9_tellsBy_0 : List UInt8 := dkwX9_tellsBy_0 ++ dktX9_tellsBy_1
theorem dksX9_tellsBy_0 : cX9_tellsBy.data.toList.drop 0 = dktX9_tellsBy_0 := by decide +kernel
theorem dksX9_tellsBy_1 : cX9_tellsBy.data.toList.drop 24 = dktX9_tellsBy_1 := dk_seg dksX9_tellsBy_0 24 rfl rfl
theorem dksX9_tellsBy_2 : cX9_tellsBy.data.toList.drop 48 = dktX9_tellsBy_2 := dk_seg dksX9_tellsBy_1 24 rfl rfl
theorem dX9_tellsBy_0 : decode cX9_tellsBy 0 = .ok (.lload_n 1, 1) := dk_31 (dk_at dksX9_tellsBy_0 0 rfl rfl)
theorem dX9_tellsBy_1 : decode cX9_tellsBy 1 = .ok (.lstore 5, 2) := dk_55 5 (dk_at dksX9_tellsBy_0 1 rfl rfl)
theorem dX9_tellsBy_3 : decode cX9_tellsBy 3 = .ok (.lload_n 3, 1) := dk_33 (dk_at dksX9_tellsBy_0 3 rfl rfl)
theorem dX9_tellsBy_4 : decode cX9_tellsBy 4 = .ok (.lstore 7, 2) := dk_55 7 (dk_at dksX9_tellsBy_0 4 rfl rfl)
theorem dX9_tellsBy_6 : decode cX9_tellsBy 6 = .ok (.lload 7, 2) := dk_22 7 (dk_at dksX9_tellsBy_0 6 rfl rfl)
theorem dX9_tellsBy_8 : decode cX9_tellsBy 8 = .ok (.lconst 0, 1) := dk_9 (dk_at dksX9_tellsBy_0 8 rfl rfl)
theorem dX9_tellsBy_9 : decode cX9_tellsBy 9 = .ok (.lcmp, 1) := dk_148 (dk_at dksX9_tellsBy_0 9 rfl rfl)
theorem dX9_tellsBy_10 : decode cX9_tellsBy 10 = .ok (.ifCond .eq 21, 3) := dk_153 0 21 (dk_at dksX9_tellsBy_0 10 rfl rfl)
theorem dX9_tellsBy_13 : decode cX9_tellsBy 13 = .ok (.lload 5, 2) := dk_22 5 (dk_at dksX9_tellsBy_0 13 rfl rfl)
theorem dX9_tellsBy_15 : decode cX9_tellsBy 15 = .ok (.lload 7, 2) := dk_22 7 (dk_at dksX9_tellsBy_0 15 rfl rfl)
theorem dX9_tellsBy_17 : decode cX9_tellsBy 17 = .ok (.lrem, 1) := dk_113 (dk_at dksX9_tellsBy_0 17 rfl rfl)
theorem dX9_tellsBy_18 : decode cX9_tellsBy 18 = .ok (.lstore 9, 2) := dk_55 9 (dk_at dksX9_tellsBy_0 18 rfl rfl)
theorem dX9_tellsBy_20 : decode cX9_tellsBy 20 = .ok (.lload 7, 2) := dk_22 7 (dk_at dksX9_tellsBy_0 20 rfl rfl)
theorem dX9_tellsBy_22 : decode cX9_tellsBy 22 = .ok (.lstore 5, 2) := dk_55 5 (dk_at dksX9_tellsBy_0 22 rfl rfl)
theorem dX9_tellsBy_24 : decode cX9_tellsBy 24 = .ok (.lload 9, 2) := dk_22 9 (dk_at dksX9_tellsBy_1 0 rfl rfl)
theorem dX9_tellsBy_26 : decode cX9_tellsBy 26 = .ok (.lstore 7, 2) := dk_55 7 (dk_at dksX9_tellsBy_1 2 rfl rfl)
theorem dX9_tellsBy_28 : decode cX9_tellsBy 28 = .ok (.goto (-22), 3) := dk_167 255 234 (dk_at dksX9_tellsBy_1 4 rfl rfl)
theorem dX9_tellsBy_31 : decode cX9_tellsBy 31 = .ok (.aload_n 0, 1) := dk_42 (dk_at dksX9_tellsBy_1 7 rfl rfl)
theorem dX9_tellsBy_32 : decode cX9_tellsBy 32 = .ok (.lload_n 1, 1) := dk_31 (dk_at dksX9_tellsBy_1 8 rfl rfl)
theorem dX9_tellsBy_33 : decode cX9_tellsBy 33 = .ok (.lload 5, 2) := dk_22 5 (dk_at dksX9_tellsBy_1 9 rfl rfl)
theorem dX9_tellsBy_35 : decode cX9_tellsBy 35 = .ok (.ldiv, 1) := dk_109 (dk_at dksX9_tellsBy_1 11 rfl rfl)
theorem dX9_tellsBy_36 : decode cX9_tellsBy 36 = .ok (.putfield 106, 3) := dk_181 0 106 (dk_at dksX9_tellsBy_1 12 rfl rfl)
theorem dX9_tellsBy_39 : decode cX9_tellsBy 39 = .ok (.aload_n 0, 1) := dk_42 (dk_at dksX9_tellsBy_1 15 rfl rfl)
theorem dX9_tellsBy_40 : decode cX9_tellsBy 40 = .ok (.lload_n 3, 1) := dk_33 (dk_at dksX9_tellsBy_1 16 rfl rfl)
theorem dX9_tellsBy_41 : decode cX9_tellsBy 41 = .ok (.lload 5, 2) := dk_22 5 (dk_at dksX9_tellsBy_1 17 rfl rfl)
theorem dX9_tellsBy_43 : decode cX9_tellsBy 43 = .ok (.ldiv, 1) := dk_109 (dk_at dksX9_tellsBy_1 19 rfl rfl)
theorem dX9_tellsBy_44 : decode cX9_tellsBy 44 = .ok (.putfield 20, 3) := dk_181 0 20 (dk_at dksX9_tellsBy_1 20 rfl rfl)
theorem dX9_tellsBy_47 : decode cX9_tellsBy 47 = .ok (.aload_n 0, 1) := dk_42 (dk_at dksX9_tellsBy_1 23 rfl rfl)
theorem dX9_tellsBy_48 : decode cX9_tellsBy 48 = .ok (.iconst 0, 1) := dk_3 (dk_at dksX9_tellsBy_2 0 rfl rfl)
theorem dX9_tellsBy_49 : decode cX9_tellsBy 49 = .ok (.invokevirtual 109, 3) := dk_182 0 109 (dk_at dksX9_tellsBy_2 1 rfl rfl)
theorem dX9_tellsBy_52 : decode cX9_tellsBy 52 = .ok (.ireturn, 1) := dk_172 (dk_at dksX9_tellsBy_2 4 rfl rfl)
abbrev cX9_trust : ByteArray := prog_19_method_108_code
def yX9_trust : MethodName := ⟨RX9, "trust", "(II)Z"⟩
def dkwX9_trust_2 : List UInt8 := [167, 0, 15, 42, 42, 27, 28, 2, 182, 1, 149, 33, 182, 1, 152, 172]
abbrev dktX9_trust_2 : List UInt8 := dkwX9_trust_2 ++ []
def dkwX9_trust_1 : List UInt8 := [182, 1, 132, 42, 2, 3, 2, 182, 1, 149, 66, 33, 9, 148, 154, 0, 12, 42, 16, 6, 182, 0, 109]
abbrev dktX9_trust_1 : List UInt8 := dkwX9_trust_1 ++ dktX9_trust_2
def dkwX9_trust_0 : List UInt8 := [42, 27, 182, 1, 84, 153, 0, 10, 28, 184, 1, 109, 154, 0, 9, 42, 4, 182, 0, 109, 172, 42]
abbrev dktX9_trust_0 : List UInt8 := dkwX9_trust_0 ++ dktX9_trust_1
theorem dksX9_trust_0 : cX9_trust.data.toList.drop 0 = dktX9_trust_0 := by decide +kernel
theorem dksX9_trust_1 : cX9_trust.data.toList.drop 22 = dktX9_trust_1 := dk_seg dksX9_trust_0 22 rfl rfl
theorem dksX9_trust_2 : cX9_trust.data.toList.drop 45 = dktX9_trust_2 := dk_seg dksX9_trust_1 23 rfl rfl
theorem dX9_trust_0 : decode cX9_trust 0 = .ok (.aload_n 0, 1) := dk_42 (dk_at dksX9_trust_0 0 rfl rfl)
theorem dX9_trust_1 : decode cX9_trust 1 = .ok (.iload_n 1, 1) := dk_27 (dk_at dksX9_trust_0 1 rfl rfl)
theorem dX9_trust_2 : decode cX9_trust 2 = .ok (.invokevirtual 340, 3) := dk_182 1 84 (dk_at dksX9_trust_0 2 rfl rfl)
theorem dX9_trust_5 : decode cX9_trust 5 = .ok (.ifCond .eq 10, 3) := dk_153 0 10 (dk_at dksX9_trust_0 5 rfl rfl)
theorem dX9_trust_8 : decode cX9_trust 8 = .ok (.iload_n 2, 1) := dk_28 (dk_at dksX9_trust_0 8 rfl rfl)
theorem dX9_trust_9 : decode cX9_trust 9 = .ok (.invokestatic 365, 3) := dk_184 1 109 (dk_at dksX9_trust_0 9 rfl rfl)
theorem dX9_trust_12 : decode cX9_trust 12 = .ok (.ifCond .ne 9, 3) := dk_154 0 9 (dk_at dksX9_trust_0 12 rfl rfl)
theorem dX9_trust_15 : decode cX9_trust 15 = .ok (.aload_n 0, 1) := dk_42 (dk_at dksX9_trust_0 15 rfl rfl)
theorem dX9_trust_16 : decode cX9_trust 16 = .ok (.iconst 1, 1) := dk_4 (dk_at dksX9_trust_0 16 rfl rfl)
theorem dX9_trust_17 : decode cX9_trust 17 = .ok (.invokevirtual 109, 3) := dk_182 0 109 (dk_at dksX9_trust_0 17 rfl rfl)
theorem dX9_trust_20 : decode cX9_trust 20 = .ok (.ireturn, 1) := dk_172 (dk_at dksX9_trust_0 20 rfl rfl)
theorem dX9_trust_21 : decode cX9_trust 21 = .ok (.aload_n 0, 1) := dk_42 (dk_at dksX9_trust_0 21 rfl rfl)
theorem dX9_trust_22 : decode cX9_trust 22 = .ok (.invokevirtual 388, 3) := dk_182 1 132 (dk_at dksX9_trust_1 0 rfl rfl)
theorem dX9_trust_25 : decode cX9_trust 25 = .ok (.aload_n 0, 1) := dk_42 (dk_at dksX9_trust_1 3 rfl rfl)
theorem dX9_trust_26 : decode cX9_trust 26 = .ok (.iconst (-1), 1) := dk_2 (dk_at dksX9_trust_1 4 rfl rfl)
theorem dX9_trust_27 : decode cX9_trust 27 = .ok (.iconst 0, 1) := dk_3 (dk_at dksX9_trust_1 5 rfl rfl)
theorem dX9_trust_28 : decode cX9_trust 28 = .ok (.iconst (-1), 1) := dk_2 (dk_at dksX9_trust_1 6 rfl rfl)
theorem dX9_trust_29 : decode cX9_trust 29 = .ok (.invokevirtual 405, 3) := dk_182 1 149 (dk_at dksX9_trust_1 7 rfl rfl)
theorem dX9_trust_32 : decode cX9_trust 32 = .ok (.lstore_n 3, 1) := dk_66 (dk_at dksX9_trust_1 10 rfl rfl)
theorem dX9_trust_33 : decode cX9_trust 33 = .ok (.lload_n 3, 1) := dk_33 (dk_at dksX9_trust_1 11 rfl rfl)
theorem dX9_trust_34 : decode cX9_trust 34 = .ok (.lconst 0, 1) := dk_9 (dk_at dksX9_trust_1 12 rfl rfl)
theorem dX9_trust_35 : decode cX9_trust 35 = .ok (.lcmp, 1) := dk_148 (dk_at dksX9_trust_1 13 rfl rfl)
theorem dX9_trust_36 : decode cX9_trust 36 = .ok (.ifCond .ne 12, 3) := dk_154 0 12 (dk_at dksX9_trust_1 14 rfl rfl)
theorem dX9_trust_39 : decode cX9_trust 39 = .ok (.aload_n 0, 1) := dk_42 (dk_at dksX9_trust_1 17 rfl rfl)
theorem dX9_trust_40 : decode cX9_trust 40 = .ok (.bipush 6, 2) := dk_16 6 (dk_at dksX9_trust_1 18 rfl rfl)
theorem dX9_trust_42 : decode cX9_trust 42 = .ok (.invokevirtual 109, 3) := dk_182 0 109 (dk_at dksX9_trust_1 20 rfl rfl)
theorem dX9_trust_45 : decode cX9_trust 45 = .ok (.goto 15, 3) := dk_167 0 15 (dk_at dksX9_trust_2 0 rfl rfl)
theorem dX9_trust_48 : decode cX9_trust 48 = .ok (.aload_n 0, 1) := dk_42 (dk_at dksX9_trust_2 3 rfl rfl)
theorem dX9_trust_49 : decode cX9_trust 49 = .ok (.aload_n 0, 1) := dk_42 (dk_at dksX9_trust_2 4 rfl rfl)
theorem dX9_trust_50 : decode cX9_trust 50 = .ok (.iload_n 1, 1) := dk_27 (dk_at dksX9_trust_2 5 rfl rfl)
theorem dX9_trust_51 : decode cX9_trust 51 = .ok (.iload_n 2, 1) := dk_28 (dk_at dksX9_trust_2 6 rfl rfl)
theorem dX9_trust_52 : decode cX9_trust 52 = .ok (.iconst (-1), 1) := dk_2 (dk_at dksX9_trust_2 7 rfl rfl)
theorem dX9_trust_53 : decode cX9_trust 53 = .ok (.invokevirtual 405, 3) := dk_182 1 149 (dk_at dksX9_trust_2 8 rfl rfl)
theorem dX9_trust_56 : decode cX9_trust 56 = .ok (.lload_n 3, 1) := dk_33 (dk_at dksX9_trust_2 11 rfl rfl)
theorem dX9_trust_57 : decode cX9_trust 57 = .ok (.invokevirtual 408, 3) := dk_182 1 152 (dk_at dksX9_trust_2 12 rfl rfl)
theorem dX9_trust_60 : decode cX9_trust 60 = .ok (.ireturn, 1) := dk_172 (dk_at dksX9_trust_2 15 rfl rfl)
abbrev cX9_because : ByteArray := prog_19_method_111_code
def yX9_because : MethodName := ⟨RX9, "because", "(I)I"⟩
def dkwX9_because_9 : List UInt8 := [132, 4, 1, 167, 255, 217, 42, 29, 182, 0, 200, 172]
abbrev dktX9_because_9 : List UInt8 := dkwX9_because_9 ++ []
def dkwX9_because_8 : List UInt8 := [184, 1, 156, 160, 0, 21, 42, 21, 4, 27, 28, 182, 1, 159, 153, 0, 10, 42, 21, 4, 182, 0, 200, 172]
abbrev dktX9_because_8 : List UInt8 := dkwX9_because_8 ++ dktX9_because_9
def dkwX9_because_7 : List UInt8 := [21, 4, 62, 132, 4, 1, 167, 255, 213, 3, 54, 4, 21, 4, 29, 162, 0, 39, 21, 4, 184, 1, 156, 29]
abbrev dktX9_because_7 : List UInt8 := dkwX9_because_7 ++ dktX9_because_8
def dkwX9_because_6 : List UInt8 := [21, 4, 184, 1, 156, 29, 184, 1, 156, 162, 0, 17, 42, 21, 4, 27, 28, 182, 1, 159, 153, 0, 6]
abbrev dktX9_because_6 : List UInt8 := dkwX9_because_6 ++ dktX9_because_7
def dkwX9_because_5 : List UInt8 := [16, 6, 46, 120, 4, 100, 62, 3, 54, 4, 21, 4, 4, 42, 180, 0, 7, 16, 6, 46, 120, 162, 0, 35]
abbrev dktX9_because_5 : List UInt8 := dkwX9_because_5 ++ dktX9_because_6
def dkwX9_because_4 : List UInt8 := [182, 1, 66, 182, 1, 119, 79, 132, 4, 1, 167, 255, 205, 132, 3, 1, 167, 255, 185, 4, 42, 180, 0, 7]
abbrev dktX9_because_4 : List UInt8 := dkwX9_because_4 ++ dktX9_because_5
def dkwX9_because_3 : List UInt8 := [29, 104, 21, 4, 96, 42, 42, 29, 3, 182, 1, 66, 42, 29, 4, 182, 1, 66, 21, 4, 42, 29, 5]
abbrev dktX9_because_3 : List UInt8 := dkwX9_because_3 ++ dktX9_because_4
def dkwX9_because_2 : List UInt8 := [162, 0, 66, 3, 54, 4, 21, 4, 42, 180, 0, 7, 5, 46, 162, 0, 46, 42, 180, 0, 76, 17, 1, 0]
abbrev dktX9_because_2 : List UInt8 := dkwX9_because_2 ++ dktX9_because_3
def dkwX9_because_1 : List UInt8 := [61, 28, 2, 160, 0, 10, 42, 16, 6, 182, 0, 197, 172, 3, 62, 29, 42, 180, 0, 7, 16, 6, 46]
abbrev dktX9_because_1 : List UInt8 := dkwX9_because_1 ++ dktX9_because_2
def dkwX9_because_0 : List UInt8 := [42, 27, 182, 1, 78, 154, 0, 9, 42, 4, 182, 0, 197, 172, 42, 182, 1, 132, 42, 3, 27, 182, 1, 138]
abbrev dktX9_because_0 : List UInt8 := dkwX9_because_0 ++ dktX9_because_1
theorem dksX9_because_0 : cX9_because.data.toList.drop 0 = dktX9_because_0 := by decide +kernel
theorem dksX9_because_1 : cX9_because.data.toList.drop 24 = dktX9_because_1 := dk_seg dksX9_because_0 24 rfl rfl
theorem dksX9_because_2 : cX9_because.data.toList.drop 47 = dktX9_because_2 := dk_seg dksX9_because_1 23 rfl rfl
theorem dksX9_because_3 : cX9_because.data.toList.drop 71 = dktX9_because_3 := dk_seg dksX9_because_2 24 rfl rfl
theorem dksX9_because_4 : cX9_because.data.toList.drop 94 = dktX9_because_4 := dk_seg dksX9_because_3 23 rfl rfl
theorem dksX9_because_5 : cX9_because.data.toList.drop 118 = dktX9_because_5 := dk_seg dksX9_because_4 24 rfl rfl
theorem dksX9_because_6 : cX9_because.data.toList.drop 142 = dktX9_because_6 := dk_seg dksX9_because_5 24 rfl rfl
theorem dksX9_because_7 : cX9_because.data.toList.drop 165 = dktX9_because_7 := dk_seg dksX9_because_6 23 rfl rfl
theorem dksX9_because_8 : cX9_because.data.toList.drop 189 = dktX9_because_8 := dk_seg dksX9_because_7 24 rfl rfl
theorem dksX9_because_9 : cX9_because.data.toList.drop 213 = dktX9_because_9 := dk_seg dksX9_because_8 24 rfl rfl
theorem dX9_because_0 : decode cX9_because 0 = .ok (.aload_n 0, 1) := dk_42 (dk_at dksX9_because_0 0 rfl rfl)
theorem dX9_because_1 : decode cX9_because 1 = .ok (.iload_n 1, 1) := dk_27 (dk_at dksX9_because_0 1 rfl rfl)
theorem dX9_because_2 : decode cX9_because 2 = .ok (.invokevirtual 334, 3) := dk_182 1 78 (dk_at dksX9_because_0 2 rfl rfl)
theorem dX9_because_5 : decode cX9_because 5 = .ok (.ifCond .ne 9, 3) := dk_154 0 9 (dk_at dksX9_because_0 5 rfl rfl)
theorem dX9_because_8 : decode cX9_because 8 = .ok (.aload_n 0, 1) := dk_42 (dk_at dksX9_because_0 8 rfl rfl)
theorem dX9_because_9 : decode cX9_because 9 = .ok (.iconst 1, 1) := dk_4 (dk_at dksX9_because_0 9 rfl rfl)
theorem dX9_because_10 : decode cX9_because 10 = .ok (.invokevirtual 197, 3) := dk_182 0 197 (dk_at dksX9_because_0 10 rfl rfl)
theorem dX9_because_13 : decode cX9_because 13 = .ok (.ireturn, 1) := dk_172 (dk_at dksX9_because_0 13 rfl rfl)
theorem dX9_because_14 : decode cX9_because 14 = .ok (.aload_n 0, 1) := dk_42 (dk_at dksX9_because_0 14 rfl rfl)
theorem dX9_because_15 : decode cX9_because 15 = .ok (.invokevirtual 388, 3) := dk_182 1 132 (dk_at dksX9_because_0 15 rfl rfl)
theorem dX9_because_18 : decode cX9_because 18 = .ok (.aload_n 0, 1) := dk_42 (dk_at dksX9_because_0 18 rfl rfl)
theorem dX9_because_19 : decode cX9_because 19 = .ok (.iconst 0, 1) := dk_3 (dk_at dksX9_because_0 19 rfl rfl)
theorem dX9_because_20 : decode cX9_because 20 = .ok (.iload_n 1, 1) := dk_27 (dk_at dksX9_because_0 20 rfl rfl)
theorem dX9_because_21 : decode cX9_because 21 = .ok (.invokevirtual 394, 3) := dk_182 1 138 (dk_at dksX9_because_0 21 rfl rfl)
theorem dX9_because_24 : decode cX9_because 24 = .ok (.istore_n 2, 1) := dk_61 (dk_at dksX9_because_1 0 rfl rfl)
theorem dX9_because_25 : decode cX9_because 25 = .ok (.iload_n 2, 1) := dk_28 (dk_at dksX9_because_1 1 rfl rfl)
theorem dX9_because_26 : decode cX9_because 26 = .ok (.iconst (-1), 1) := dk_2 (dk_at dksX9_because_1 2 rfl rfl)
theorem dX9_because_27 : decode cX9_because 27 = .ok (.if_icmp .ne 10, 3) := dk_160 0 10 (dk_at dksX9_because_1 3 rfl rfl)
theorem dX9_because_30 : decode cX9_because 30 = .ok (.aload_n 0, 1) := dk_42 (dk_at dksX9_because_1 6 rfl rfl)
theorem dX9_because_31 : decode cX9_because 31 = .ok (.bipush 6, 2) := dk_16 6 (dk_at dksX9_because_1 7 rfl rfl)
theorem dX9_because_33 : decode cX9_because 33 = .ok (.invokevirtual 197, 3) := dk_182 0 197 (dk_at dksX9_because_1 9 rfl rfl)
theorem dX9_because_36 : decode cX9_because 36 = .ok (.ireturn, 1) := dk_172 (dk_at dksX9_because_1 12 rfl rfl)
theorem dX9_because_37 : decode cX9_because 37 = .ok (.iconst 0, 1) := dk_3 (dk_at dksX9_because_1 13 rfl rfl)
theorem dX9_because_38 : decode cX9_because 38 = .ok (.istore_n 3, 1) := dk_62 (dk_at dksX9_because_1 14 rfl rfl)
theorem dX9_because_39 : decode cX9_because 39 = .ok (.iload_n 3, 1) := dk_29 (dk_at dksX9_because_1 15 rfl rfl)
theorem dX9_because_40 : decode cX9_because 40 = .ok (.aload_n 0, 1) := dk_42 (dk_at dksX9_because_1 16 rfl rfl)
theorem dX9_because_41 : decode cX9_because 41 = .ok (.getfield 7, 3) := dk_180 0 7 (dk_at dksX9_because_1 17 rfl rfl)
theorem dX9_because_44 : decode cX9_because 44 = .ok (.bipush 6, 2) := dk_16 6 (dk_at dksX9_because_1 20 rfl rfl)
theorem dX9_because_46 : decode cX9_because 46 = .ok (.iaload, 1) := dk_46 (dk_at dksX9_because_1 22 rfl rfl)
theorem dX9_because_47 : decode cX9_because 47 = .ok (.if_icmp .ge 66, 3) := dk_162 0 66 (dk_at dksX9_because_2 0 rfl rfl)
theorem dX9_because_50 : decode cX9_because 50 = .ok (.iconst 0, 1) := dk_3 (dk_at dksX9_because_2 3 rfl rfl)
theorem dX9_because_51 : decode cX9_because 51 = .ok (.istore 4, 2) := dk_54 4 (dk_at dksX9_because_2 4 rfl rfl)
theorem dX9_because_53 : decode cX9_because 53 = .ok (.iload 4, 2) := dk_21 4 (dk_at dksX9_because_2 6 rfl rfl)
theorem dX9_because_55 : decode cX9_because 55 = .ok (.aload_n 0, 1) := dk_42 (dk_at dksX9_because_2 8 rfl rfl)
theorem dX9_because_56 : decode cX9_because 56 = .ok (.getfield 7, 3) := dk_180 0 7 (dk_at dksX9_because_2 9 rfl rfl)
theorem dX9_because_59 : decode cX9_because 59 = .ok (.iconst 2, 1) := dk_5 (dk_at dksX9_because_2 12 rfl rfl)
theorem dX9_because_60 : decode cX9_because 60 = .ok (.iaload, 1) := dk_46 (dk_at dksX9_because_2 13 rfl rfl)
theorem dX9_because_61 : decode cX9_because 61 = .ok (.if_icmp .ge 46, 3) := dk_162 0 46 (dk_at dksX9_because_2 14 rfl rfl)
theorem dX9_because_64 : decode cX9_because 64 = .ok (.aload_n 0, 1) := dk_42 (dk_at dksX9_because_2 17 rfl rfl)
theorem dX9_because_65 : decode cX9_because 65 = .ok (.getfield 76, 3) := dk_180 0 76 (dk_at dksX9_because_2 18 rfl rfl)
theorem dX9_because_68 : decode cX9_because 68 = .ok (.sipush 256, 3) := dk_17 1 0 (dk_at dksX9_because_2 21 rfl rfl)
theorem dX9_because_71 : decode cX9_because 71 = .ok (.iload_n 3, 1) := dk_29 (dk_at dksX9_because_3 0 rfl rfl)
theorem dX9_because_72 : decode cX9_because 72 = .ok (.imul, 1) := dk_104 (dk_at dksX9_because_3 1 rfl rfl)
theorem dX9_because_73 : decode cX9_because 73 = .ok (.iload 4, 2) := dk_21 4 (dk_at dksX9_because_3 2 rfl rfl)
theorem dX9_because_75 : decode cX9_because 75 = .ok (.iadd, 1) := dk_96 (dk_at dksX9_because_3 4 rfl rfl)
theorem dX9_because_76 : decode cX9_because 76 = .ok (.aload_n 0, 1) := dk_42 (dk_at dksX9_because_3 5 rfl rfl)
theorem dX9_because_77 : decode cX9_because 77 = .ok (.aload_n 0, 1) := dk_42 (dk_at dksX9_because_3 6 rfl rfl)
theorem dX9_because_78 : decode cX9_because 78 = .ok (.iload_n 3, 1) := dk_29 (dk_at dksX9_because_3 7 rfl rfl)
theorem dX9_because_79 : decode cX9_because 79 = .ok (.iconst 0, 1) := dk_3 (dk_at dksX9_because_3 8 rfl rfl)
theorem dX9_because_80 : decode cX9_because 80 = .ok (.invokevirtual 322, 3) := dk_182 1 66 (dk_at dksX9_because_3 9 rfl rfl)
theorem dX9_because_83 : decode cX9_because 83 = .ok (.aload_n 0, 1) := dk_42 (dk_at dksX9_because_3 12 rfl rfl)
theorem dX9_because_84 : decode cX9_because 84 = .ok (.iload_n 3, 1) := dk_29 (dk_at dksX9_because_3 13 rfl rfl)
theorem dX9_because_85 : decode cX9_because 85 = .ok (.iconst 1, 1) := dk_4 (dk_at dksX9_because_3 14 rfl rfl)
theorem dX9_because_86 : decode cX9_because 86 = .ok (.invokevirtual 322, 3) := dk_182 1 66 (dk_at dksX9_because_3 15 rfl rfl)
theorem dX9_because_89 : decode cX9_because 89 = .ok (.iload 4, 2) := dk_21 4 (dk_at dksX9_because_3 18 rfl rfl)
theorem dX9_because_91 : decode cX9_because 91 = .ok (.aload_n 0, 1) := dk_42 (dk_at dksX9_because_3 20 rfl rfl)
theorem dX9_because_92 : decode cX9_because 92 = .ok (.iload_n 3, 1) := dk_29 (dk_at dksX9_because_3 21 rfl rfl)
theorem dX9_because_93 : decode cX9_because 93 = .ok (.iconst 2, 1) := dk_5 (dk_at dksX9_because_3 22 rfl rfl)
theorem dX9_because_94 : decode cX9_because 94 = .ok (.invokevirtual 322, 3) := dk_182 1 66 (dk_at dksX9_because_4 0 rfl rfl)
theorem dX9_because_97 : decode cX9_because 97 = .ok (.invokevirtual 375, 3) := dk_182 1 119 (dk_at dksX9_because_4 3 rfl rfl)
theorem dX9_because_100 : decode cX9_because 100 = .ok (.iastore, 1) := dk_79 (dk_at dksX9_because_4 6 rfl rfl)
theorem dX9_because_101 : decode cX9_because 101 = .ok (.iinc 4 1, 3) := dk_132 4 1 (dk_at dksX9_because_4 7 rfl rfl)
theorem dX9_because_104 : decode cX9_because 104 = .ok (.goto (-51), 3) := dk_167 255 205 (dk_at dksX9_because_4 10 rfl rfl)
theorem dX9_because_107 : decode cX9_because 107 = .ok (.iinc 3 1, 3) := dk_132 3 1 (dk_at dksX9_because_4 13 rfl rfl)
theorem dX9_because_110 : decode cX9_because 110 = .ok (.goto (-71), 3) := dk_167 255 185 (dk_at dksX9_because_4 16 rfl rfl)
theorem dX9_because_113 : decode cX9_because 113 = .ok (.iconst 1, 1) := dk_4 (dk_at dksX9_because_4 19 rfl rfl)
theorem dX9_because_114 : decode cX9_because 114 = .ok (.aload_n 0, 1) := dk_42 (dk_at dksX9_because_4 20 rfl rfl)
theorem dX9_because_115 : decode cX9_because 115 = .ok (.getfield 7, 3) := dk_180 0 7 (dk_at dksX9_because_4 21 rfl rfl)
theorem dX9_because_118 : decode cX9_because 118 = .ok (.bipush 6, 2) := dk_16 6 (dk_at dksX9_because_5 0 rfl rfl)
theorem dX9_because_120 : decode cX9_because 120 = .ok (.iaload, 1) := dk_46 (dk_at dksX9_because_5 2 rfl rfl)
theorem dX9_because_121 : decode cX9_because 121 = .ok (.ishl, 1) := dk_120 (dk_at dksX9_because_5 3 rfl rfl)
theorem dX9_because_122 : decode cX9_because 122 = .ok (.iconst 1, 1) := dk_4 (dk_at dksX9_because_5 4 rfl rfl)
theorem dX9_because_123 : decode cX9_because 123 = .ok (.isub, 1) := dk_100 (dk_at dksX9_because_5 5 rfl rfl)
theorem dX9_because_124 : decode cX9_because 124 = .ok (.istore_n 3, 1) := dk_62 (dk_at dksX9_because_5 6 rfl rfl)
theorem dX9_because_125 : decode cX9_because 125 = .ok (.iconst 0, 1) := dk_3 (dk_at dksX9_because_5 7 rfl rfl)
theorem dX9_because_126 : decode cX9_because 126 = .ok (.istore 4, 2) := dk_54 4 (dk_at dksX9_because_5 8 rfl rfl)
theorem dX9_because_128 : decode cX9_because 128 = .ok (.iload 4, 2) := dk_21 4 (dk_at dksX9_because_5 10 rfl rfl)
theorem dX9_because_130 : decode cX9_because 130 = .ok (.iconst 1, 1) := dk_4 (dk_at dksX9_because_5 12 rfl rfl)
theorem dX9_because_131 : decode cX9_because 131 = .ok (.aload_n 0, 1) := dk_42 (dk_at dksX9_because_5 13 rfl rfl)
theorem dX9_because_132 : decode cX9_because 132 = .ok (.getfield 7, 3) := dk_180 0 7 (dk_at dksX9_because_5 14 rfl rfl)
theorem dX9_because_135 : decode cX9_because 135 = .ok (.bipush 6, 2) := dk_16 6 (dk_at dksX9_because_5 17 rfl rfl)
theorem dX9_because_137 : decode cX9_because 137 = .ok (.iaload, 1) := dk_46 (dk_at dksX9_because_5 19 rfl rfl)
theorem dX9_because_138 : decode cX9_because 138 = .ok (.ishl, 1) := dk_120 (dk_at dksX9_because_5 20 rfl rfl)
theorem dX9_because_139 : decode cX9_because 139 = .ok (.if_icmp .ge 35, 3) := dk_162 0 35 (dk_at dksX9_because_5 21 rfl rfl)
theorem dX9_because_142 : decode cX9_because 142 = .ok (.iload 4, 2) := dk_21 4 (dk_at dksX9_because_6 0 rfl rfl)
theorem dX9_because_144 : decode cX9_because 144 = .ok (.invokestatic 412, 3) := dk_184 1 156 (dk_at dksX9_because_6 2 rfl rfl)
theorem dX9_because_147 : decode cX9_because 147 = .ok (.iload_n 3, 1) := dk_29 (dk_at dksX9_because_6 5 rfl rfl)
theorem dX9_because_148 : decode cX9_because 148 = .ok (.invokestatic 412, 3) := dk_184 1 156 (dk_at dksX9_because_6 6 rfl rfl)
theorem dX9_because_151 : decode cX9_because 151 = .ok (.if_icmp .ge 17, 3) := dk_162 0 17 (dk_at dksX9_because_6 9 rfl rfl)
theorem dX9_because_154 : decode cX9_because 154 = .ok (.aload_n 0, 1) := dk_42 (dk_at dksX9_because_6 12 rfl rfl)
theorem dX9_because_155 : decode cX9_because 155 = .ok (.iload 4, 2) := dk_21 4 (dk_at dksX9_because_6 13 rfl rfl)
theorem dX9_because_157 : decode cX9_because 157 = .ok (.iload_n 1, 1) := dk_27 (dk_at dksX9_because_6 15 rfl rfl)
theorem dX9_because_158 : decode cX9_because 158 = .ok (.iload_n 2, 1) := dk_28 (dk_at dksX9_because_6 16 rfl rfl)
theorem dX9_because_159 : decode cX9_because 159 = .ok (.invokevirtual 415, 3) := dk_182 1 159 (dk_at dksX9_because_6 17 rfl rfl)
theorem dX9_because_162 : decode cX9_because 162 = .ok (.ifCond .eq 6, 3) := dk_153 0 6 (dk_at dksX9_because_6 20 rfl rfl)
theorem dX9_because_165 : decode cX9_because 165 = .ok (.iload 4, 2) := dk_21 4 (dk_at dksX9_because_7 0 rfl rfl)
theorem dX9_because_167 : decode cX9_because 167 = .ok (.istore_n 3, 1) := dk_62 (dk_at dksX9_because_7 2 rfl rfl)
theorem dX9_because_168 : decode cX9_because 168 = .ok (.iinc 4 1, 3) := dk_132 4 1 (dk_at dksX9_because_7 3 rfl rfl)
theorem dX9_because_171 : decode cX9_because 171 = .ok (.goto (-43), 3) := dk_167 255 213 (dk_at dksX9_because_7 6 rfl rfl)
theorem dX9_because_174 : decode cX9_because 174 = .ok (.iconst 0, 1) := dk_3 (dk_at dksX9_because_7 9 rfl rfl)
theorem dX9_because_175 : decode cX9_because 175 = .ok (.istore 4, 2) := dk_54 4 (dk_at dksX9_because_7 10 rfl rfl)
theorem dX9_because_177 : decode cX9_because 177 = .ok (.iload 4, 2) := dk_21 4 (dk_at dksX9_because_7 12 rfl rfl)
theorem dX9_because_179 : decode cX9_because 179 = .ok (.iload_n 3, 1) := dk_29 (dk_at dksX9_because_7 14 rfl rfl)
theorem dX9_because_180 : decode cX9_because 180 = .ok (.if_icmp .ge 39, 3) := dk_162 0 39 (dk_at dksX9_because_7 15 rfl rfl)
theorem dX9_because_183 : decode cX9_because 183 = .ok (.iload 4, 2) := dk_21 4 (dk_at dksX9_because_7 18 rfl rfl)
theorem dX9_because_185 : decode cX9_because 185 = .ok (.invokestatic 412, 3) := dk_184 1 156 (dk_at dksX9_because_7 20 rfl rfl)
theorem dX9_because_188 : decode cX9_because 188 = .ok (.iload_n 3, 1) := dk_29 (dk_at dksX9_because_7 23 rfl rfl)
theorem dX9_because_189 : decode cX9_because 189 = .ok (.invokestatic 412, 3) := dk_184 1 156 (dk_at dksX9_because_8 0 rfl rfl)
theorem dX9_because_192 : decode cX9_because 192 = .ok (.if_icmp .ne 21, 3) := dk_160 0 21 (dk_at dksX9_because_8 3 rfl rfl)
theorem dX9_because_195 : decode cX9_because 195 = .ok (.aload_n 0, 1) := dk_42 (dk_at dksX9_because_8 6 rfl rfl)
theorem dX9_because_196 : decode cX9_because 196 = .ok (.iload 4, 2) := dk_21 4 (dk_at dksX9_because_8 7 rfl rfl)
theorem dX9_because_198 : decode cX9_because 198 = .ok (.iload_n 1, 1) := dk_27 (dk_at dksX9_because_8 9 rfl rfl)
theorem dX9_because_199 : decode cX9_because 199 = .ok (.iload_n 2, 1) := dk_28 (dk_at dksX9_because_8 10 rfl rfl)
theorem dX9_because_200 : decode cX9_because 200 = .ok (.invokevirtual 415, 3) := dk_182 1 159 (dk_at dksX9_because_8 11 rfl rfl)
theorem dX9_because_203 : decode cX9_because 203 = .ok (.ifCond .eq 10, 3) := dk_153 0 10 (dk_at dksX9_because_8 14 rfl rfl)
theorem dX9_because_206 : decode cX9_because 206 = .ok (.aload_n 0, 1) := dk_42 (dk_at dksX9_because_8 17 rfl rfl)
theorem dX9_because_207 : decode cX9_because 207 = .ok (.iload 4, 2) := dk_21 4 (dk_at dksX9_because_8 18 rfl rfl)
theorem dX9_because_209 : decode cX9_because 209 = .ok (.invokevirtual 200, 3) := dk_182 0 200 (dk_at dksX9_because_8 20 rfl rfl)
theorem dX9_because_212 : decode cX9_because 212 = .ok (.ireturn, 1) := dk_172 (dk_at dksX9_because_8 23 rfl rfl)
theorem dX9_because_213 : decode cX9_because 213 = .ok (.iinc 4 1, 3) := dk_132 4 1 (dk_at dksX9_because_9 0 rfl rfl)
theorem dX9_because_216 : decode cX9_because 216 = .ok (.goto (-39), 3) := dk_167 255 217 (dk_at dksX9_because_9 3 rfl rfl)
theorem dX9_because_219 : decode cX9_because 219 = .ok (.aload_n 0, 1) := dk_42 (dk_at dksX9_because_9 6 rfl rfl)
theorem dX9_because_220 : decode cX9_because 220 = .ok (.iload_n 3, 1) := dk_29 (dk_at dksX9_because_9 7 rfl rfl)
theorem dX9_because_221 : decode cX9_because 221 = .ok (.invokevirtual 200, 3) := dk_182 0 200 (dk_at dksX9_because_9 8 rfl rfl)
theorem dX9_because_224 : decode cX9_because 224 = .ok (.ireturn, 1) := dk_172 (dk_at dksX9_because_9 11 rfl rfl)
abbrev cX9_bits : ByteArray := prog_19_method_109_code
def yX9_bits : MethodName := ⟨RX9, "bits", "(I)I"⟩
def dkwX9_bits_0 : List UInt8 := [3, 60, 26, 61, 28, 153, 0, 15, 132, 1, 1, 28, 28, 4, 100, 126, 61, 167, 255, 243, 27, 172]
abbrev dktX9_bits_0 : List UInt8 := dkwX9_bits_0 ++ []
theorem dksX9_bits_0 : cX9_bits.data.toList.drop 0 = dktX9_bits_0 := by decide +kernel
theorem dX9_bits_0 : decode cX9_bits 0 = .ok (.iconst 0, 1) := dk_3 (dk_at dksX9_bits_0 0 rfl rfl)
theorem dX9_bits_1 : decode cX9_bits 1 = .ok (.istore_n 1, 1) := dk_60 (dk_at dksX9_bits_0 1 rfl rfl)
theorem dX9_bits_2 : decode cX9_bits 2 = .ok (.iload_n 0, 1) := dk_26 (dk_at dksX9_bits_0 2 rfl rfl)
theorem dX9_bits_3 : decode cX9_bits 3 = .ok (.istore_n 2, 1) := dk_61 (dk_at dksX9_bits_0 3 rfl rfl)
theorem dX9_bits_4 : decode cX9_bits 4 = .ok (.iload_n 2, 1) := dk_28 (dk_at dksX9_bits_0 4 rfl rfl)
theorem dX9_bits_5 : decode cX9_bits 5 = .ok (.ifCond .eq 15, 3) := dk_153 0 15 (dk_at dksX9_bits_0 5 rfl rfl)
theorem dX9_bits_8 : decode cX9_bits 8 = .ok (.iinc 1 1, 3) := dk_132 1 1 (dk_at dksX9_bits_0 8 rfl rfl)
theorem dX9_bits_11 : decode cX9_bits 11 = .ok (.iload_n 2, 1) := dk_28 (dk_at dksX9_bits_0 11 rfl rfl)
theorem dX9_bits_12 : decode cX9_bits 12 = .ok (.iload_n 2, 1) := dk_28 (dk_at dksX9_bits_0 12 rfl rfl)
theorem dX9_bits_13 : decode cX9_bits 13 = .ok (.iconst 1, 1) := dk_4 (dk_at dksX9_bits_0 13 rfl rfl)
theorem dX9_bits_14 : decode cX9_bits 14 = .ok (.isub, 1) := dk_100 (dk_at dksX9_bits_0 14 rfl rfl)
theorem dX9_bits_15 : decode cX9_bits 15 = .ok (.iand, 1) := dk_126 (dk_at dksX9_bits_0 15 rfl rfl)
theorem dX9_bits_16 : decode cX9_bits 16 = .ok (.istore_n 2, 1) := dk_61 (dk_at dksX9_bits_0 16 rfl rfl)
theorem dX9_bits_17 : decode cX9_bits 17 = .ok (.goto (-13), 3) := dk_167 255 243 (dk_at dksX9_bits_0 17 rfl rfl)
theorem dX9_bits_20 : decode cX9_bits 20 = .ok (.iload_n 1, 1) := dk_27 (dk_at dksX9_bits_0 20 rfl rfl)
theorem dX9_bits_21 : decode cX9_bits 21 = .ok (.ireturn, 1) := dk_172 (dk_at dksX9_bits_0 21 rfl rfl)
abbrev cX9_isSureBy : ByteArray := prog_19_method_110_code
def yX9_isSureBy : MethodName := ⟨RX9, "isSureBy", "(III)Z"⟩
def dkwX9_isSureBy_7 : List UInt8 := [167, 255, 93, 4, 172]
abbrev dktX9_isSureBy_7 : List UInt8 := dkwX9_isSureBy_7 ++ []
def dkwX9_isSureBy_6 : List UInt8 := [4, 167, 0, 4, 3, 54, 5, 132, 6, 1, 167, 255, 155, 21, 5, 153, 0, 5, 3, 172, 132, 4, 1]
abbrev dktX9_isSureBy_6 : List UInt8 := dkwX9_isSureBy_6 ++ dktX9_isSureBy_7
def dkwX9_isSureBy_5 : List UInt8 := [17, 1, 0, 21, 8, 104, 21, 4, 96, 46, 126, 54, 7, 132, 8, 1, 167, 255, 200, 21, 7, 153, 0, 7]
abbrev dktX9_isSureBy_5 : List UInt8 := dkwX9_isSureBy_5 ++ dktX9_isSureBy_6
def dkwX9_isSureBy_4 : List UInt8 := [4, 126, 4, 160, 0, 34, 42, 21, 8, 3, 182, 1, 66, 21, 6, 160, 0, 22, 21, 7, 42, 180, 0, 76]
abbrev dktX9_isSureBy_4 : List UInt8 := dkwX9_isSureBy_4 ++ dktX9_isSureBy_5
def dkwX9_isSureBy_3 : List UInt8 := [182, 1, 116, 54, 7, 3, 54, 8, 21, 8, 42, 180, 0, 7, 16, 6, 46, 162, 0, 50, 27, 21, 8, 122]
abbrev dktX9_isSureBy_3 : List UInt8 := dkwX9_isSureBy_3 ++ dktX9_isSureBy_4
def dkwX9_isSureBy_2 : List UInt8 := [54, 5, 3, 54, 6, 21, 6, 42, 180, 0, 7, 7, 46, 162, 0, 96, 21, 5, 153, 0, 91, 42, 21, 6]
abbrev dktX9_isSureBy_2 : List UInt8 := dkwX9_isSureBy_2 ++ dktX9_isSureBy_3
def dkwX9_isSureBy_1 : List UInt8 := [28, 21, 4, 182, 1, 81, 29, 4, 160, 0, 7, 4, 167, 0, 4, 3, 160, 0, 6, 167, 0, 120, 4]
abbrev dktX9_isSureBy_1 : List UInt8 := dkwX9_isSureBy_1 ++ dktX9_isSureBy_2
def dkwX9_isSureBy_0 : List UInt8 := [3, 54, 4, 21, 4, 42, 180, 0, 7, 5, 46, 162, 0, 158, 42, 21, 4, 182, 1, 75, 153, 0, 143, 42]
abbrev dktX9_isSureBy_0 : List UInt8 := dkwX9_isSureBy_0 ++ dktX9_isSureBy_1
theorem dksX9_isSureBy_0 : cX9_isSureBy.data.toList.drop 0 = dktX9_isSureBy_0 := by decide +kernel
theorem dksX9_isSureBy_1 : cX9_isSureBy.data.toList.drop 24 = dktX9_isSureBy_1 := dk_seg dksX9_isSureBy_0 24 rfl rfl
theorem dksX9_isSureBy_2 : cX9_isSureBy.data.toList.drop 47 = dktX9_isSureBy_2 := dk_seg dksX9_isSureBy_1 23 rfl rfl
theorem dksX9_isSureBy_3 : cX9_isSureBy.data.toList.drop 71 = dktX9_isSureBy_3 := dk_seg dksX9_isSureBy_2 24 rfl rfl
theorem dksX9_isSureBy_4 : cX9_isSureBy.data.toList.drop 95 = dktX9_isSureBy_4 := dk_seg dksX9_isSureBy_3 24 rfl rfl
theorem dksX9_isSureBy_5 : cX9_isSureBy.data.toList.drop 119 = dktX9_isSureBy_5 := dk_seg dksX9_isSureBy_4 24 rfl rfl
theorem dksX9_isSureBy_6 : cX9_isSureBy.data.toList.drop 143 = dktX9_isSureBy_6 := dk_seg dksX9_isSureBy_5 24 rfl rfl
theorem dksX9_isSureBy_7 : cX9_isSureBy.data.toList.drop 166 = dktX9_isSureBy_7 := dk_seg dksX9_isSureBy_6 23 rfl rfl
theorem dX9_isSureBy_0 : decode cX9_isSureBy 0 = .ok (.iconst 0, 1) := dk_3 (dk_at dksX9_isSureBy_0 0 rfl rfl)
theorem dX9_isSureBy_1 : decode cX9_isSureBy 1 = .ok (.istore 4, 2) := dk_54 4 (dk_at dksX9_isSureBy_0 1 rfl rfl)
theorem dX9_isSureBy_3 : decode cX9_isSureBy 3 = .ok (.iload 4, 2) := dk_21 4 (dk_at dksX9_isSureBy_0 3 rfl rfl)
theorem dX9_isSureBy_5 : decode cX9_isSureBy 5 = .ok (.aload_n 0, 1) := dk_42 (dk_at dksX9_isSureBy_0 5 rfl rfl)
theorem dX9_isSureBy_6 : decode cX9_isSureBy 6 = .ok (.getfield 7, 3) := dk_180 0 7 (dk_at dksX9_isSureBy_0 6 rfl rfl)
theorem dX9_isSureBy_9 : decode cX9_isSureBy 9 = .ok (.iconst 2, 1) := dk_5 (dk_at dksX9_isSureBy_0 9 rfl rfl)
theorem dX9_isSureBy_10 : decode cX9_isSureBy 10 = .ok (.iaload, 1) := dk_46 (dk_at dksX9_isSureBy_0 10 rfl rfl)
theorem dX9_isSureBy_11 : decode cX9_isSureBy 11 = .ok (.if_icmp .ge 158, 3) := dk_162 0 158 (dk_at dksX9_isSureBy_0 11 rfl rfl)
theorem dX9_isSureBy_14 : decode cX9_isSureBy 14 = .ok (.aload_n 0, 1) := dk_42 (dk_at dksX9_isSureBy_0 14 rfl rfl)
theorem dX9_isSureBy_15 : decode cX9_isSureBy 15 = .ok (.iload 4, 2) := dk_21 4 (dk_at dksX9_isSureBy_0 15 rfl rfl)
theorem dX9_isSureBy_17 : decode cX9_isSureBy 17 = .ok (.invokevirtual 331, 3) := dk_182 1 75 (dk_at dksX9_isSureBy_0 17 rfl rfl)
theorem dX9_isSureBy_20 : decode cX9_isSureBy 20 = .ok (.ifCond .eq 143, 3) := dk_153 0 143 (dk_at dksX9_isSureBy_0 20 rfl rfl)
theorem dX9_isSureBy_23 : decode cX9_isSureBy 23 = .ok (.aload_n 0, 1) := dk_42 (dk_at dksX9_isSureBy_0 23 rfl rfl)
theorem dX9_isSureBy_24 : decode cX9_isSureBy 24 = .ok (.iload_n 2, 1) := dk_28 (dk_at dksX9_isSureBy_1 0 rfl rfl)
theorem dX9_isSureBy_25 : decode cX9_isSureBy 25 = .ok (.iload 4, 2) := dk_21 4 (dk_at dksX9_isSureBy_1 1 rfl rfl)
theorem dX9_isSureBy_27 : decode cX9_isSureBy 27 = .ok (.invokevirtual 337, 3) := dk_182 1 81 (dk_at dksX9_isSureBy_1 3 rfl rfl)
theorem dX9_isSureBy_30 : decode cX9_isSureBy 30 = .ok (.iload_n 3, 1) := dk_29 (dk_at dksX9_isSureBy_1 6 rfl rfl)
theorem dX9_isSureBy_31 : decode cX9_isSureBy 31 = .ok (.iconst 1, 1) := dk_4 (dk_at dksX9_isSureBy_1 7 rfl rfl)
theorem dX9_isSureBy_32 : decode cX9_isSureBy 32 = .ok (.if_icmp .ne 7, 3) := dk_160 0 7 (dk_at dksX9_isSureBy_1 8 rfl rfl)
theorem dX9_isSureBy_35 : decode cX9_isSureBy 35 = .ok (.iconst 1, 1) := dk_4 (dk_at dksX9_isSureBy_1 11 rfl rfl)
theorem dX9_isSureBy_36 : decode cX9_isSureBy 36 = .ok (.goto 4, 3) := dk_167 0 4 (dk_at dksX9_isSureBy_1 12 rfl rfl)
theorem dX9_isSureBy_39 : decode cX9_isSureBy 39 = .ok (.iconst 0, 1) := dk_3 (dk_at dksX9_isSureBy_1 15 rfl rfl)
theorem dX9_isSureBy_40 : decode cX9_isSureBy 40 = .ok (.if_icmp .ne 6, 3) := dk_160 0 6 (dk_at dksX9_isSureBy_1 16 rfl rfl)
theorem dX9_isSureBy_43 : decode cX9_isSureBy 43 = .ok (.goto 120, 3) := dk_167 0 120 (dk_at dksX9_isSureBy_1 19 rfl rfl)
theorem dX9_isSureBy_46 : decode cX9_isSureBy 46 = .ok (.iconst 1, 1) := dk_4 (dk_at dksX9_isSureBy_1 22 rfl rfl)
theorem dX9_isSureBy_47 : decode cX9_isSureBy 47 = .ok (.istore 5, 2) := dk_54 5 (dk_at dksX9_isSureBy_2 0 rfl rfl)
theorem dX9_isSureBy_49 : decode cX9_isSureBy 49 = .ok (.iconst 0, 1) := dk_3 (dk_at dksX9_isSureBy_2 2 rfl rfl)
theorem dX9_isSureBy_50 : decode cX9_isSureBy 50 = .ok (.istore 6, 2) := dk_54 6 (dk_at dksX9_isSureBy_2 3 rfl rfl)
theorem dX9_isSureBy_52 : decode cX9_isSureBy 52 = .ok (.iload 6, 2) := dk_21 6 (dk_at dksX9_isSureBy_2 5 rfl rfl)
theorem dX9_isSureBy_54 : decode cX9_isSureBy 54 = .ok (.aload_n 0, 1) := dk_42 (dk_at dksX9_isSureBy_2 7 rfl rfl)
theorem dX9_isSureBy_55 : decode cX9_isSureBy 55 = .ok (.getfield 7, 3) := dk_180 0 7 (dk_at dksX9_isSureBy_2 8 rfl rfl)
theorem dX9_isSureBy_58 : decode cX9_isSureBy 58 = .ok (.iconst 4, 1) := dk_7 (dk_at dksX9_isSureBy_2 11 rfl rfl)
theorem dX9_isSureBy_59 : decode cX9_isSureBy 59 = .ok (.iaload, 1) := dk_46 (dk_at dksX9_isSureBy_2 12 rfl rfl)
theorem dX9_isSureBy_60 : decode cX9_isSureBy 60 = .ok (.if_icmp .ge 96, 3) := dk_162 0 96 (dk_at dksX9_isSureBy_2 13 rfl rfl)
theorem dX9_isSureBy_63 : decode cX9_isSureBy 63 = .ok (.iload 5, 2) := dk_21 5 (dk_at dksX9_isSureBy_2 16 rfl rfl)
theorem dX9_isSureBy_65 : decode cX9_isSureBy 65 = .ok (.ifCond .eq 91, 3) := dk_153 0 91 (dk_at dksX9_isSureBy_2 18 rfl rfl)
theorem dX9_isSureBy_68 : decode cX9_isSureBy 68 = .ok (.aload_n 0, 1) := dk_42 (dk_at dksX9_isSureBy_2 21 rfl rfl)
theorem dX9_isSureBy_69 : decode cX9_isSureBy 69 = .ok (.iload 6, 2) := dk_21 6 (dk_at dksX9_isSureBy_2 22 rfl rfl)
theorem dX9_isSureBy_71 : decode cX9_isSureBy 71 = .ok (.invokevirtual 372, 3) := dk_182 1 116 (dk_at dksX9_isSureBy_3 0 rfl rfl)
theorem dX9_isSureBy_74 : decode cX9_isSureBy 74 = .ok (.istore 7, 2) := dk_54 7 (dk_at dksX9_isSureBy_3 3 rfl rfl)
theorem dX9_isSureBy_76 : decode cX9_isSureBy 76 = .ok (.iconst 0, 1) := dk_3 (dk_at dksX9_isSureBy_3 5 rfl rfl)
theorem dX9_isSureBy_77 : decode cX9_isSureBy 77 = .ok (.istore 8, 2) := dk_54 8 (dk_at dksX9_isSureBy_3 6 rfl rfl)
theorem dX9_isSureBy_79 : decode cX9_isSureBy 79 = .ok (.iload 8, 2) := dk_21 8 (dk_at dksX9_isSureBy_3 8 rfl rfl)
theorem dX9_isSureBy_81 : decode cX9_isSureBy 81 = .ok (.aload_n 0, 1) := dk_42 (dk_at dksX9_isSureBy_3 10 rfl rfl)
theorem dX9_isSureBy_82 : decode cX9_isSureBy 82 = .ok (.getfield 7, 3) := dk_180 0 7 (dk_at dksX9_isSureBy_3 11 rfl rfl)
theorem dX9_isSureBy_85 : decode cX9_isSureBy 85 = .ok (.bipush 6, 2) := dk_16 6 (dk_at dksX9_isSureBy_3 14 rfl rfl)
theorem dX9_isSureBy_87 : decode cX9_isSureBy 87 = .ok (.iaload, 1) := dk_46 (dk_at dksX9_isSureBy_3 16 rfl rfl)
theorem dX9_isSureBy_88 : decode cX9_isSureBy 88 = .ok (.if_icmp .ge 50, 3) := dk_162 0 50 (dk_at dksX9_isSureBy_3 17 rfl rfl)
theorem dX9_isSureBy_91 : decode cX9_isSureBy 91 = .ok (.iload_n 1, 1) := dk_27 (dk_at dksX9_isSureBy_3 20 rfl rfl)
theorem dX9_isSureBy_92 : decode cX9_isSureBy 92 = .ok (.iload 8, 2) := dk_21 8 (dk_at dksX9_isSureBy_3 21 rfl rfl)
theorem dX9_isSureBy_94 : decode cX9_isSureBy 94 = .ok (.ishr, 1) := dk_122 (dk_at dksX9_isSureBy_3 23 rfl rfl)
theorem dX9_isSureBy_95 : decode cX9_isSureBy 95 = .ok (.iconst 1, 1) := dk_4 (dk_at dksX9_isSureBy_4 0 rfl rfl)
theorem dX9_isSureBy_96 : decode cX9_isSureBy 96 = .ok (.iand, 1) := dk_126 (dk_at dksX9_isSureBy_4 1 rfl rfl)
theorem dX9_isSureBy_97 : decode cX9_isSureBy 97 = .ok (.iconst 1, 1) := dk_4 (dk_at dksX9_isSureBy_4 2 rfl rfl)
theorem dX9_isSureBy_98 : decode cX9_isSureBy 98 = .ok (.if_icmp .ne 34, 3) := dk_160 0 34 (dk_at dksX9_isSureBy_4 3 rfl rfl)
theorem dX9_isSureBy_101 : decode cX9_isSureBy 101 = .ok (.aload_n 0, 1) := dk_42 (dk_at dksX9_isSureBy_4 6 rfl rfl)
theorem dX9_isSureBy_102 : decode cX9_isSureBy 102 = .ok (.iload 8, 2) := dk_21 8 (dk_at dksX9_isSureBy_4 7 rfl rfl)
theorem dX9_isSureBy_104 : decode cX9_isSureBy 104 = .ok (.iconst 0, 1) := dk_3 (dk_at dksX9_isSureBy_4 9 rfl rfl)
theorem dX9_isSureBy_105 : decode cX9_isSureBy 105 = .ok (.invokevirtual 322, 3) := dk_182 1 66 (dk_at dksX9_isSureBy_4 10 rfl rfl)
theorem dX9_isSureBy_108 : decode cX9_isSureBy 108 = .ok (.iload 6, 2) := dk_21 6 (dk_at dksX9_isSureBy_4 13 rfl rfl)
theorem dX9_isSureBy_110 : decode cX9_isSureBy 110 = .ok (.if_icmp .ne 22, 3) := dk_160 0 22 (dk_at dksX9_isSureBy_4 15 rfl rfl)
theorem dX9_isSureBy_113 : decode cX9_isSureBy 113 = .ok (.iload 7, 2) := dk_21 7 (dk_at dksX9_isSureBy_4 18 rfl rfl)
theorem dX9_isSureBy_115 : decode cX9_isSureBy 115 = .ok (.aload_n 0, 1) := dk_42 (dk_at dksX9_isSureBy_4 20 rfl rfl)
theorem dX9_isSureBy_116 : decode cX9_isSureBy 116 = .ok (.getfield 76, 3) := dk_180 0 76 (dk_at dksX9_isSureBy_4 21 rfl rfl)
theorem dX9_isSureBy_119 : decode cX9_isSureBy 119 = .ok (.sipush 256, 3) := dk_17 1 0 (dk_at dksX9_isSureBy_5 0 rfl rfl)
theorem dX9_isSureBy_122 : decode cX9_isSureBy 122 = .ok (.iload 8, 2) := dk_21 8 (dk_at dksX9_isSureBy_5 3 rfl rfl)
theorem dX9_isSureBy_124 : decode cX9_isSureBy 124 = .ok (.imul, 1) := dk_104 (dk_at dksX9_isSureBy_5 5 rfl rfl)
theorem dX9_isSureBy_125 : decode cX9_isSureBy 125 = .ok (.iload 4, 2) := dk_21 4 (dk_at dksX9_isSureBy_5 6 rfl rfl)
theorem dX9_isSureBy_127 : decode cX9_isSureBy 127 = .ok (.iadd, 1) := dk_96 (dk_at dksX9_isSureBy_5 8 rfl rfl)
theorem dX9_isSureBy_128 : decode cX9_isSureBy 128 = .ok (.iaload, 1) := dk_46 (dk_at dksX9_isSureBy_5 9 rfl rfl)
theorem dX9_isSureBy_129 : decode cX9_isSureBy 129 = .ok (.iand, 1) := dk_126 (dk_at dksX9_isSureBy_5 10 rfl rfl)
theorem dX9_isSureBy_130 : decode cX9_isSureBy 130 = .ok (.istore 7, 2) := dk_54 7 (dk_at dksX9_isSureBy_5 11 rfl rfl)
theorem dX9_isSureBy_132 : decode cX9_isSureBy 132 = .ok (.iinc 8 1, 3) := dk_132 8 1 (dk_at dksX9_isSureBy_5 13 rfl rfl)
theorem dX9_isSureBy_135 : decode cX9_isSureBy 135 = .ok (.goto (-56), 3) := dk_167 255 200 (dk_at dksX9_isSureBy_5 16 rfl rfl)
theorem dX9_isSureBy_138 : decode cX9_isSureBy 138 = .ok (.iload 7, 2) := dk_21 7 (dk_at dksX9_isSureBy_5 19 rfl rfl)
theorem dX9_isSureBy_140 : decode cX9_isSureBy 140 = .ok (.ifCond .eq 7, 3) := dk_153 0 7 (dk_at dksX9_isSureBy_5 21 rfl rfl)
theorem dX9_isSureBy_143 : decode cX9_isSureBy 143 = .ok (.iconst 1, 1) := dk_4 (dk_at dksX9_isSureBy_6 0 rfl rfl)
theorem dX9_isSureBy_144 : decode cX9_isSureBy 144 = .ok (.goto 4, 3) := dk_167 0 4 (dk_at dksX9_isSureBy_6 1 rfl rfl)
theorem dX9_isSureBy_147 : decode cX9_isSureBy 147 = .ok (.iconst 0, 1) := dk_3 (dk_at dksX9_isSureBy_6 4 rfl rfl)
theorem dX9_isSureBy_148 : decode cX9_isSureBy 148 = .ok (.istore 5, 2) := dk_54 5 (dk_at dksX9_isSureBy_6 5 rfl rfl)
theorem dX9_isSureBy_150 : decode cX9_isSureBy 150 = .ok (.iinc 6 1, 3) := dk_132 6 1 (dk_at dksX9_isSureBy_6 7 rfl rfl)
theorem dX9_isSureBy_153 : decode cX9_isSureBy 153 = .ok (.goto (-101), 3) := dk_167 255 155 (dk_at dksX9_isSureBy_6 10 rfl rfl)
theorem dX9_isSureBy_156 : decode cX9_isSureBy 156 = .ok (.iload 5, 2) := dk_21 5 (dk_at dksX9_isSureBy_6 13 rfl rfl)
theorem dX9_isSureBy_158 : decode cX9_isSureBy 158 = .ok (.ifCond .eq 5, 3) := dk_153 0 5 (dk_at dksX9_isSureBy_6 15 rfl rfl)
theorem dX9_isSureBy_161 : decode cX9_isSureBy 161 = .ok (.iconst 0, 1) := dk_3 (dk_at dksX9_isSureBy_6 18 rfl rfl)
theorem dX9_isSureBy_162 : decode cX9_isSureBy 162 = .ok (.ireturn, 1) := dk_172 (dk_at dksX9_isSureBy_6 19 rfl rfl)
theorem dX9_isSureBy_163 : decode cX9_isSureBy 163 = .ok (.iinc 4 1, 3) := dk_132 4 1 (dk_at dksX9_isSureBy_6 20 rfl rfl)
theorem dX9_isSureBy_166 : decode cX9_isSureBy 166 = .ok (.goto (-163), 3) := dk_167 255 93 (dk_at dksX9_isSureBy_7 0 rfl rfl)
theorem dX9_isSureBy_169 : decode cX9_isSureBy 169 = .ok (.iconst 1, 1) := dk_4 (dk_at dksX9_isSureBy_7 3 rfl rfl)
theorem dX9_isSureBy_170 : decode cX9_isSureBy 170 = .ok (.ireturn, 1) := dk_172 (dk_at dksX9_isSureBy_7 4 rfl rfl)
abbrev cX9_gave : ByteArray := prog_19_method_112_code
def yX9_gave : MethodName := ⟨RX9, "gave", "(I)I"⟩
def dkwX9_gave_1 : List UInt8 := [27, 120, 182, 1, 122, 42, 42, 3, 182, 1, 42, 42, 3, 182, 1, 135, 100, 182, 0, 200, 172]
abbrev dktX9_gave_1 : List UInt8 := dkwX9_gave_1 ++ []
def dkwX9_gave_0 : List UInt8 := [27, 155, 0, 14, 27, 42, 180, 0, 7, 16, 6, 46, 161, 0, 10, 42, 16, 6, 182, 0, 197, 172, 42, 4]
abbrev dktX9_gave_0 : List UInt8 := dkwX9_gave_0 ++ dktX9_gave_1
theorem dksX9_gave_0 : cX9_gave.data.toList.drop 0 = dktX9_gave_0 := by decide +kernel
theorem dksX9_gave_1 : cX9_gave.data.toList.drop 24 = dktX9_gave_1 := dk_seg dksX9_gave_0 24 rfl rfl
theorem dX9_gave_0 : decode cX9_gave 0 = .ok (.iload_n 1, 1) := dk_27 (dk_at dksX9_gave_0 0 rfl rfl)
theorem dX9_gave_1 : decode cX9_gave 1 = .ok (.ifCond .lt 14, 3) := dk_155 0 14 (dk_at dksX9_gave_0 1 rfl rfl)
theorem dX9_gave_4 : decode cX9_gave 4 = .ok (.iload_n 1, 1) := dk_27 (dk_at dksX9_gave_0 4 rfl rfl)
theorem dX9_gave_5 : decode cX9_gave 5 = .ok (.aload_n 0, 1) := dk_42 (dk_at dksX9_gave_0 5 rfl rfl)
theorem dX9_gave_6 : decode cX9_gave 6 = .ok (.getfield 7, 3) := dk_180 0 7 (dk_at dksX9_gave_0 6 rfl rfl)
theorem dX9_gave_9 : decode cX9_gave 9 = .ok (.bipush 6, 2) := dk_16 6 (dk_at dksX9_gave_0 9 rfl rfl)
theorem dX9_gave_11 : decode cX9_gave 11 = .ok (.iaload, 1) := dk_46 (dk_at dksX9_gave_0 11 rfl rfl)
theorem dX9_gave_12 : decode cX9_gave 12 = .ok (.if_icmp .lt 10, 3) := dk_161 0 10 (dk_at dksX9_gave_0 12 rfl rfl)
theorem dX9_gave_15 : decode cX9_gave 15 = .ok (.aload_n 0, 1) := dk_42 (dk_at dksX9_gave_0 15 rfl rfl)
theorem dX9_gave_16 : decode cX9_gave 16 = .ok (.bipush 6, 2) := dk_16 6 (dk_at dksX9_gave_0 16 rfl rfl)
theorem dX9_gave_18 : decode cX9_gave 18 = .ok (.invokevirtual 197, 3) := dk_182 0 197 (dk_at dksX9_gave_0 18 rfl rfl)
theorem dX9_gave_21 : decode cX9_gave 21 = .ok (.ireturn, 1) := dk_172 (dk_at dksX9_gave_0 21 rfl rfl)
theorem dX9_gave_22 : decode cX9_gave 22 = .ok (.aload_n 0, 1) := dk_42 (dk_at dksX9_gave_0 22 rfl rfl)
theorem dX9_gave_23 : decode cX9_gave 23 = .ok (.iconst 1, 1) := dk_4 (dk_at dksX9_gave_0 23 rfl rfl)
theorem dX9_gave_24 : decode cX9_gave 24 = .ok (.iload_n 1, 1) := dk_27 (dk_at dksX9_gave_1 0 rfl rfl)
theorem dX9_gave_25 : decode cX9_gave 25 = .ok (.ishl, 1) := dk_120 (dk_at dksX9_gave_1 1 rfl rfl)
theorem dX9_gave_26 : decode cX9_gave 26 = .ok (.invokevirtual 378, 3) := dk_182 1 122 (dk_at dksX9_gave_1 2 rfl rfl)
theorem dX9_gave_29 : decode cX9_gave 29 = .ok (.aload_n 0, 1) := dk_42 (dk_at dksX9_gave_1 5 rfl rfl)
theorem dX9_gave_30 : decode cX9_gave 30 = .ok (.aload_n 0, 1) := dk_42 (dk_at dksX9_gave_1 6 rfl rfl)
theorem dX9_gave_31 : decode cX9_gave 31 = .ok (.iconst 0, 1) := dk_3 (dk_at dksX9_gave_1 7 rfl rfl)
theorem dX9_gave_32 : decode cX9_gave 32 = .ok (.invokevirtual 298, 3) := dk_182 1 42 (dk_at dksX9_gave_1 8 rfl rfl)
theorem dX9_gave_35 : decode cX9_gave 35 = .ok (.aload_n 0, 1) := dk_42 (dk_at dksX9_gave_1 11 rfl rfl)
theorem dX9_gave_36 : decode cX9_gave 36 = .ok (.iconst 0, 1) := dk_3 (dk_at dksX9_gave_1 12 rfl rfl)
theorem dX9_gave_37 : decode cX9_gave 37 = .ok (.invokevirtual 391, 3) := dk_182 1 135 (dk_at dksX9_gave_1 13 rfl rfl)
theorem dX9_gave_40 : decode cX9_gave 40 = .ok (.isub, 1) := dk_100 (dk_at dksX9_gave_1 16 rfl rfl)
theorem dX9_gave_41 : decode cX9_gave 41 = .ok (.invokevirtual 200, 3) := dk_182 0 200 (dk_at dksX9_gave_1 17 rfl rfl)
theorem dX9_gave_44 : decode cX9_gave 44 = .ok (.ireturn, 1) := dk_172 (dk_at dksX9_gave_1 20 rfl rfl)
abbrev cX9_fees : ByteArray := prog_19_method_114_code
def yX9_fees : MethodName := ⟨RX9, "fees", "()I"⟩
def dkwX9_fees_0 : List UInt8 := [42, 42, 182, 1, 162, 182, 0, 200, 172]
abbrev dktX9_fees_0 : List UInt8 := dkwX9_fees_0 ++ []
theorem dksX9_fees_0 : cX9_fees.data.toList.drop 0 = dktX9_fees_0 := by decide +kernel
theorem dX9_fees_0 : decode cX9_fees 0 = .ok (.aload_n 0, 1) := dk_42 (dk_at dksX9_fees_0 0 rfl rfl)
theorem dX9_fees_1 : decode cX9_fees 1 = .ok (.aload_n 0, 1) := dk_42 (dk_at dksX9_fees_0 1 rfl rfl)
theorem dX9_fees_2 : decode cX9_fees 2 = .ok (.invokevirtual 418, 3) := dk_182 1 162 (dk_at dksX9_fees_0 2 rfl rfl)
theorem dX9_fees_5 : decode cX9_fees 5 = .ok (.invokevirtual 200, 3) := dk_182 0 200 (dk_at dksX9_fees_0 5 rfl rfl)
theorem dX9_fees_8 : decode cX9_fees 8 = .ok (.ireturn, 1) := dk_172 (dk_at dksX9_fees_0 8 rfl rfl)
abbrev cX9_feesOf : ByteArray := prog_19_method_113_code
def yX9_feesOf : MethodName := ⟨RX9, "feesOf", "()I"⟩
def dkwX9_feesOf_2 : List UInt8 := [5, 108, 96, 46, 4, 21, 4, 5, 112, 96, 104, 96, 96, 60, 132, 2, 1, 167, 255, 195, 27, 172]
abbrev dktX9_feesOf_2 : List UInt8 := dkwX9_feesOf_2 ++ []
def dkwX9_feesOf_1 : List UInt8 := [5, 182, 1, 66, 54, 4, 27, 42, 180, 0, 7, 16, 64, 29, 96, 46, 42, 180, 0, 7, 16, 64, 21, 4]
abbrev dktX9_feesOf_1 : List UInt8 := dkwX9_feesOf_1 ++ dktX9_feesOf_2
def dkwX9_feesOf_0 : List UInt8 := [3, 60, 3, 61, 28, 42, 180, 0, 7, 16, 6, 46, 162, 0, 56, 42, 28, 4, 182, 1, 66, 62, 42, 28]
abbrev dktX9_feesOf_0 : List UInt8 := dkwX9_feesOf_0 ++ dktX9_feesOf_1
theorem dksX9_feesOf_0 : cX9_feesOf.data.toList.drop 0 = dktX9_feesOf_0 := by decide +kernel
theorem dksX9_feesOf_1 : cX9_feesOf.data.toList.drop 24 = dktX9_feesOf_1 := dk_seg dksX9_feesOf_0 24 rfl rfl
theorem dksX9_feesOf_2 : cX9_feesOf.data.toList.drop 48 = dktX9_feesOf_2 := dk_seg dksX9_feesOf_1 24 rfl rfl
theorem dX9_feesOf_0 : decode cX9_feesOf 0 = .ok (.iconst 0, 1) := dk_3 (dk_at dksX9_feesOf_0 0 rfl rfl)
theorem dX9_feesOf_1 : decode cX9_feesOf 1 = .ok (.istore_n 1, 1) := dk_60 (dk_at dksX9_feesOf_0 1 rfl rfl)
theorem dX9_feesOf_2 : decode cX9_feesOf 2 = .ok (.iconst 0, 1) := dk_3 (dk_at dksX9_feesOf_0 2 rfl rfl)
theorem dX9_feesOf_3 : decode cX9_feesOf 3 = .ok (.istore_n 2, 1) := dk_61 (dk_at dksX9_feesOf_0 3 rfl rfl)
theorem dX9_feesOf_4 : decode cX9_feesOf 4 = .ok (.iload_n 2, 1) := dk_28 (dk_at dksX9_feesOf_0 4 rfl rfl)
theorem dX9_feesOf_5 : decode cX9_feesOf 5 = .ok (.aload_n 0, 1) := dk_42 (dk_at dksX9_feesOf_0 5 rfl rfl)
theorem dX9_feesOf_6 : decode cX9_feesOf 6 = .ok (.getfield 7, 3) := dk_180 0 7 (dk_at dksX9_feesOf_0 6 rfl rfl)
theorem dX9_feesOf_9 : decode cX9_feesOf 9 = .ok (.bipush 6, 2) := dk_16 6 (dk_at dksX9_feesOf_0 9 rfl rfl)
theorem dX9_feesOf_11 : decode cX9_feesOf 11 = .ok (.iaload, 1) := dk_46 (dk_at dksX9_feesOf_0 11 rfl rfl)
theorem dX9_feesOf_12 : decode cX9_feesOf 12 = .ok (.if_icmp .ge 56, 3) := dk_162 0 56 (dk_at dksX9_feesOf_0 12 rfl rfl)
theorem dX9_feesOf_15 : decode cX9_feesOf 15 = .ok (.aload_n 0, 1) := dk_42 (dk_at dksX9_feesOf_0 15 rfl rfl)
theorem dX9_feesOf_16 : decode cX9_feesOf 16 = .ok (.iload_n 2, 1) := dk_28 (dk_at dksX9_feesOf_0 16 rfl rfl)
theorem dX9_feesOf_17 : decode cX9_feesOf 17 = .ok (.iconst 1, 1) := dk_4 (dk_at dksX9_feesOf_0 17 rfl rfl)
theorem dX9_feesOf_18 : decode cX9_feesOf 18 = .ok (.invokevirtual 322, 3) := dk_182 1 66 (dk_at dksX9_feesOf_0 18 rfl rfl)
theorem dX9_feesOf_21 : decode cX9_feesOf 21 = .ok (.istore_n 3, 1) := dk_62 (dk_at dksX9_feesOf_0 21 rfl rfl)
theorem dX9_feesOf_22 : decode cX9_feesOf 22 = .ok (.aload_n 0, 1) := dk_42 (dk_at dksX9_feesOf_0 22 rfl rfl)
theorem dX9_feesOf_23 : decode cX9_feesOf 23 = .ok (.iload_n 2, 1) := dk_28 (dk_at dksX9_feesOf_0 23 rfl rfl)
theorem dX9_feesOf_24 : decode cX9_feesOf 24 = .ok (.iconst 2, 1) := dk_5 (dk_at dksX9_feesOf_1 0 rfl rfl)
theorem dX9_feesOf_25 : decode cX9_feesOf 25 = .ok (.invokevirtual 322, 3) := dk_182 1 66 (dk_at dksX9_feesOf_1 1 rfl rfl)
theorem dX9_feesOf_28 : decode cX9_feesOf 28 = .ok (.istore 4, 2) := dk_54 4 (dk_at dksX9_feesOf_1 4 rfl rfl)
theorem dX9_feesOf_30 : decode cX9_feesOf 30 = .ok (.iload_n 1, 1) := dk_27 (dk_at dksX9_feesOf_1 6 rfl rfl)
theorem dX9_feesOf_31 : decode cX9_feesOf 31 = .ok (.aload_n 0, 1) := dk_42 (dk_at dksX9_feesOf_1 7 rfl rfl)
theorem dX9_feesOf_32 : decode cX9_feesOf 32 = .ok (.getfield 7, 3) := dk_180 0 7 (dk_at dksX9_feesOf_1 8 rfl rfl)
theorem dX9_feesOf_35 : decode cX9_feesOf 35 = .ok (.bipush 64, 2) := dk_16 64 (dk_at dksX9_feesOf_1 11 rfl rfl)
theorem dX9_feesOf_37 : decode cX9_feesOf 37 = .ok (.iload_n 3, 1) := dk_29 (dk_at dksX9_feesOf_1 13 rfl rfl)
theorem dX9_feesOf_38 : decode cX9_feesOf 38 = .ok (.iadd, 1) := dk_96 (dk_at dksX9_feesOf_1 14 rfl rfl)
theorem dX9_feesOf_39 : decode cX9_feesOf 39 = .ok (.iaload, 1) := dk_46 (dk_at dksX9_feesOf_1 15 rfl rfl)
theorem dX9_feesOf_40 : decode cX9_feesOf 40 = .ok (.aload_n 0, 1) := dk_42 (dk_at dksX9_feesOf_1 16 rfl rfl)
theorem dX9_feesOf_41 : decode cX9_feesOf 41 = .ok (.getfield 7, 3) := dk_180 0 7 (dk_at dksX9_feesOf_1 17 rfl rfl)
theorem dX9_feesOf_44 : decode cX9_feesOf 44 = .ok (.bipush 64, 2) := dk_16 64 (dk_at dksX9_feesOf_1 20 rfl rfl)
theorem dX9_feesOf_46 : decode cX9_feesOf 46 = .ok (.iload 4, 2) := dk_21 4 (dk_at dksX9_feesOf_1 22 rfl rfl)
theorem dX9_feesOf_48 : decode cX9_feesOf 48 = .ok (.iconst 2, 1) := dk_5 (dk_at dksX9_feesOf_2 0 rfl rfl)
theorem dX9_feesOf_49 : decode cX9_feesOf 49 = .ok (.idiv, 1) := dk_108 (dk_at dksX9_feesOf_2 1 rfl rfl)
theorem dX9_feesOf_50 : decode cX9_feesOf 50 = .ok (.iadd, 1) := dk_96 (dk_at dksX9_feesOf_2 2 rfl rfl)
theorem dX9_feesOf_51 : decode cX9_feesOf 51 = .ok (.iaload, 1) := dk_46 (dk_at dksX9_feesOf_2 3 rfl rfl)
theorem dX9_feesOf_52 : decode cX9_feesOf 52 = .ok (.iconst 1, 1) := dk_4 (dk_at dksX9_feesOf_2 4 rfl rfl)
theorem dX9_feesOf_53 : decode cX9_feesOf 53 = .ok (.iload 4, 2) := dk_21 4 (dk_at dksX9_feesOf_2 5 rfl rfl)
theorem dX9_feesOf_55 : decode cX9_feesOf 55 = .ok (.iconst 2, 1) := dk_5 (dk_at dksX9_feesOf_2 7 rfl rfl)
theorem dX9_feesOf_56 : decode cX9_feesOf 56 = .ok (.irem, 1) := dk_112 (dk_at dksX9_feesOf_2 8 rfl rfl)
theorem dX9_feesOf_57 : decode cX9_feesOf 57 = .ok (.iadd, 1) := dk_96 (dk_at dksX9_feesOf_2 9 rfl rfl)
theorem dX9_feesOf_58 : decode cX9_feesOf 58 = .ok (.imul, 1) := dk_104 (dk_at dksX9_feesOf_2 10 rfl rfl)
theorem dX9_feesOf_59 : decode cX9_feesOf 59 = .ok (.iadd, 1) := dk_96 (dk_at dksX9_feesOf_2 11 rfl rfl)
theorem dX9_feesOf_60 : decode cX9_feesOf 60 = .ok (.iadd, 1) := dk_96 (dk_at dksX9_feesOf_2 12 rfl rfl)
theorem dX9_feesOf_61 : decode cX9_feesOf 61 = .ok (.istore_n 1, 1) := dk_60 (dk_at dksX9_feesOf_2 13 rfl rfl)
theorem dX9_feesOf_62 : decode cX9_feesOf 62 = .ok (.iinc 2 1, 3) := dk_132 2 1 (dk_at dksX9_feesOf_2 14 rfl rfl)
theorem dX9_feesOf_65 : decode cX9_feesOf 65 = .ok (.goto (-61), 3) := dk_167 255 195 (dk_at dksX9_feesOf_2 17 rfl rfl)
theorem dX9_feesOf_68 : decode cX9_feesOf 68 = .ok (.iload_n 1, 1) := dk_27 (dk_at dksX9_feesOf_2 20 rfl rfl)
theorem dX9_feesOf_69 : decode cX9_feesOf 69 = .ok (.ireturn, 1) := dk_172 (dk_at dksX9_feesOf_2 21 rfl rfl)
abbrev cX9_worst : ByteArray := prog_19_method_117_code
def yX9_worst : MethodName := ⟨RX9, "worst", "(II)I"⟩
def dkwX9_worst_2 : List UInt8 := [153, 0, 12, 42, 16, 7, 182, 0, 197, 167, 0, 13, 42, 42, 27, 28, 182, 1, 171, 182, 0, 200, 172]
abbrev dktX9_worst_2 : List UInt8 := dkwX9_worst_2 ++ []
def dkwX9_worst_1 : List UInt8 := [182, 1, 132, 42, 3, 182, 1, 135, 154, 0, 10, 42, 16, 6, 182, 0, 197, 172, 42, 180, 0, 72, 28, 51]
abbrev dktX9_worst_1 : List UInt8 := dkwX9_worst_1 ++ dktX9_worst_2
def dkwX9_worst_0 : List UInt8 := [42, 27, 182, 1, 84, 153, 0, 11, 42, 28, 182, 1, 78, 154, 0, 9, 42, 4, 182, 0, 197, 172, 42]
abbrev dktX9_worst_0 : List UInt8 := dkwX9_worst_0 ++ dktX9_worst_1
theorem dksX9_worst_0 : cX9_worst.data.toList.drop 0 = dktX9_worst_0 := by decide +kernel
theorem dksX9_worst_1 : cX9_worst.data.toList.drop 23 = dktX9_worst_1 := dk_seg dksX9_worst_0 23 rfl rfl
theorem dksX9_worst_2 : cX9_worst.data.toList.drop 47 = dktX9_worst_2 := dk_seg dksX9_worst_1 24 rfl rfl
theorem dX9_worst_0 : decode cX9_worst 0 = .ok (.aload_n 0, 1) := dk_42 (dk_at dksX9_worst_0 0 rfl rfl)
theorem dX9_worst_1 : decode cX9_worst 1 = .ok (.iload_n 1, 1) := dk_27 (dk_at dksX9_worst_0 1 rfl rfl)
theorem dX9_worst_2 : decode cX9_worst 2 = .ok (.invokevirtual 340, 3) := dk_182 1 84 (dk_at dksX9_worst_0 2 rfl rfl)
theorem dX9_worst_5 : decode cX9_worst 5 = .ok (.ifCond .eq 11, 3) := dk_153 0 11 (dk_at dksX9_worst_0 5 rfl rfl)
theorem dX9_worst_8 : decode cX9_worst 8 = .ok (.aload_n 0, 1) := dk_42 (dk_at dksX9_worst_0 8 rfl rfl)
theorem dX9_worst_9 : decode cX9_worst 9 = .ok (.iload_n 2, 1) := dk_28 (dk_at dksX9_worst_0 9 rfl rfl)
theorem dX9_worst_10 : decode cX9_worst 10 = .ok (.invokevirtual 334, 3) := dk_182 1 78 (dk_at dksX9_worst_0 10 rfl rfl)
theorem dX9_worst_13 : decode cX9_worst 13 = .ok (.ifCond .ne 9, 3) := dk_154 0 9 (dk_at dksX9_worst_0 13 rfl rfl)
theorem dX9_worst_16 : decode cX9_worst 16 = .ok (.aload_n 0, 1) := dk_42 (dk_at dksX9_worst_0 16 rfl rfl)
theorem dX9_worst_17 : decode cX9_worst 17 = .ok (.iconst 1, 1) := dk_4 (dk_at dksX9_worst_0 17 rfl rfl)
theorem dX9_worst_18 : decode cX9_worst 18 = .ok (.invokevirtual 197, 3) := dk_182 0 197 (dk_at dksX9_worst_0 18 rfl rfl)
theorem dX9_worst_21 : decode cX9_worst 21 = .ok (.ireturn, 1) := dk_172 (dk_at dksX9_worst_0 21 rfl rfl)
theorem dX9_worst_22 : decode cX9_worst 22 = .ok (.aload_n 0, 1) := dk_42 (dk_at dksX9_worst_0 22 rfl rfl)
theorem dX9_worst_23 : decode cX9_worst 23 = .ok (.invokevirtual 388, 3) := dk_182 1 132 (dk_at dksX9_worst_1 0 rfl rfl)
theorem dX9_worst_26 : decode cX9_worst 26 = .ok (.aload_n 0, 1) := dk_42 (dk_at dksX9_worst_1 3 rfl rfl)
theorem dX9_worst_27 : decode cX9_worst 27 = .ok (.iconst 0, 1) := dk_3 (dk_at dksX9_worst_1 4 rfl rfl)
theorem dX9_worst_28 : decode cX9_worst 28 = .ok (.invokevirtual 391, 3) := dk_182 1 135 (dk_at dksX9_worst_1 5 rfl rfl)
theorem dX9_worst_31 : decode cX9_worst 31 = .ok (.ifCond .ne 10, 3) := dk_154 0 10 (dk_at dksX9_worst_1 8 rfl rfl)
theorem dX9_worst_34 : decode cX9_worst 34 = .ok (.aload_n 0, 1) := dk_42 (dk_at dksX9_worst_1 11 rfl rfl)
theorem dX9_worst_35 : decode cX9_worst 35 = .ok (.bipush 6, 2) := dk_16 6 (dk_at dksX9_worst_1 12 rfl rfl)
theorem dX9_worst_37 : decode cX9_worst 37 = .ok (.invokevirtual 197, 3) := dk_182 0 197 (dk_at dksX9_worst_1 14 rfl rfl)
theorem dX9_worst_40 : decode cX9_worst 40 = .ok (.ireturn, 1) := dk_172 (dk_at dksX9_worst_1 17 rfl rfl)
theorem dX9_worst_41 : decode cX9_worst 41 = .ok (.aload_n 0, 1) := dk_42 (dk_at dksX9_worst_1 18 rfl rfl)
theorem dX9_worst_42 : decode cX9_worst 42 = .ok (.getfield 72, 3) := dk_180 0 72 (dk_at dksX9_worst_1 19 rfl rfl)
theorem dX9_worst_45 : decode cX9_worst 45 = .ok (.iload_n 2, 1) := dk_28 (dk_at dksX9_worst_1 22 rfl rfl)
theorem dX9_worst_46 : decode cX9_worst 46 = .ok (.baload, 1) := dk_51 (dk_at dksX9_worst_1 23 rfl rfl)
theorem dX9_worst_47 : decode cX9_worst 47 = .ok (.ifCond .eq 12, 3) := dk_153 0 12 (dk_at dksX9_worst_2 0 rfl rfl)
theorem dX9_worst_50 : decode cX9_worst 50 = .ok (.aload_n 0, 1) := dk_42 (dk_at dksX9_worst_2 3 rfl rfl)
theorem dX9_worst_51 : decode cX9_worst 51 = .ok (.bipush 7, 2) := dk_16 7 (dk_at dksX9_worst_2 4 rfl rfl)
theorem dX9_worst_53 : decode cX9_worst 53 = .ok (.invokevirtual 197, 3) := dk_182 0 197 (dk_at dksX9_worst_2 6 rfl rfl)
theorem dX9_worst_56 : decode cX9_worst 56 = .ok (.goto 13, 3) := dk_167 0 13 (dk_at dksX9_worst_2 9 rfl rfl)
theorem dX9_worst_59 : decode cX9_worst 59 = .ok (.aload_n 0, 1) := dk_42 (dk_at dksX9_worst_2 12 rfl rfl)
theorem dX9_worst_60 : decode cX9_worst 60 = .ok (.aload_n 0, 1) := dk_42 (dk_at dksX9_worst_2 13 rfl rfl)
theorem dX9_worst_61 : decode cX9_worst 61 = .ok (.iload_n 1, 1) := dk_27 (dk_at dksX9_worst_2 14 rfl rfl)
theorem dX9_worst_62 : decode cX9_worst 62 = .ok (.iload_n 2, 1) := dk_28 (dk_at dksX9_worst_2 15 rfl rfl)
theorem dX9_worst_63 : decode cX9_worst 63 = .ok (.invokevirtual 427, 3) := dk_182 1 171 (dk_at dksX9_worst_2 16 rfl rfl)
theorem dX9_worst_66 : decode cX9_worst 66 = .ok (.invokevirtual 200, 3) := dk_182 0 200 (dk_at dksX9_worst_2 19 rfl rfl)
theorem dX9_worst_69 : decode cX9_worst 69 = .ok (.ireturn, 1) := dk_172 (dk_at dksX9_worst_2 22 rfl rfl)
abbrev cX9_worstOf : ByteArray := prog_19_method_116_code
def yX9_worstOf : MethodName := ⟨RX9, "worstOf", "(II)I"⟩
def dkwX9_worstOf_1 : List UInt8 := [21, 4, 182, 1, 165, 184, 1, 168, 62, 132, 4, 1, 167, 255, 226, 29, 172]
abbrev dktX9_worstOf_1 : List UInt8 := dkwX9_worstOf_1 ++ []
def dkwX9_worstOf_0 : List UInt8 := [3, 62, 3, 54, 4, 21, 4, 5, 42, 180, 0, 7, 6, 46, 104, 162, 0, 23, 29, 42, 3, 27, 28]
abbrev dktX9_worstOf_0 : List UInt8 := dkwX9_worstOf_0 ++ dktX9_worstOf_1
theorem dksX9_worstOf_0 : cX9_worstOf.data.toList.drop 0 = dktX9_worstOf_0 := by decide +kernel
theorem dksX9_worstOf_1 : cX9_worstOf.data.toList.drop 23 = dktX9_worstOf_1 := dk_seg dksX9_worstOf_0 23 rfl rfl
theorem dX9_worstOf_0 : decode cX9_worstOf 0 = .ok (.iconst 0, 1) := dk_3 (dk_at dksX9_worstOf_0 0 rfl rfl)
theorem dX9_worstOf_1 : decode cX9_worstOf 1 = .ok (.istore_n 3, 1) := dk_62 (dk_at dksX9_worstOf_0 1 rfl rfl)
theorem dX9_worstOf_2 : decode cX9_worstOf 2 = .ok (.iconst 0, 1) := dk_3 (dk_at dksX9_worstOf_0 2 rfl rfl)
theorem dX9_worstOf_3 : decode cX9_worstOf 3 = .ok (.istore 4, 2) := dk_54 4 (dk_at dksX9_worstOf_0 3 rfl rfl)
theorem dX9_worstOf_5 : decode cX9_worstOf 5 = .ok (.iload 4, 2) := dk_21 4 (dk_at dksX9_worstOf_0 5 rfl rfl)
theorem dX9_worstOf_7 : decode cX9_worstOf 7 = .ok (.iconst 2, 1) := dk_5 (dk_at dksX9_worstOf_0 7 rfl rfl)
theorem dX9_worstOf_8 : decode cX9_worstOf 8 = .ok (.aload_n 0, 1) := dk_42 (dk_at dksX9_worstOf_0 8 rfl rfl)
theorem dX9_worstOf_9 : decode cX9_worstOf 9 = .ok (.getfield 7, 3) := dk_180 0 7 (dk_at dksX9_worstOf_0 9 rfl rfl)
theorem dX9_worstOf_12 : decode cX9_worstOf 12 = .ok (.iconst 3, 1) := dk_6 (dk_at dksX9_worstOf_0 12 rfl rfl)
theorem dX9_worstOf_13 : decode cX9_worstOf 13 = .ok (.iaload, 1) := dk_46 (dk_at dksX9_worstOf_0 13 rfl rfl)
theorem dX9_worstOf_14 : decode cX9_worstOf 14 = .ok (.imul, 1) := dk_104 (dk_at dksX9_worstOf_0 14 rfl rfl)
theorem dX9_worstOf_15 : decode cX9_worstOf 15 = .ok (.if_icmp .ge 23, 3) := dk_162 0 23 (dk_at dksX9_worstOf_0 15 rfl rfl)
theorem dX9_worstOf_18 : decode cX9_worstOf 18 = .ok (.iload_n 3, 1) := dk_29 (dk_at dksX9_worstOf_0 18 rfl rfl)
theorem dX9_worstOf_19 : decode cX9_worstOf 19 = .ok (.aload_n 0, 1) := dk_42 (dk_at dksX9_worstOf_0 19 rfl rfl)
theorem dX9_worstOf_20 : decode cX9_worstOf 20 = .ok (.iconst 0, 1) := dk_3 (dk_at dksX9_worstOf_0 20 rfl rfl)
theorem dX9_worstOf_21 : decode cX9_worstOf 21 = .ok (.iload_n 1, 1) := dk_27 (dk_at dksX9_worstOf_0 21 rfl rfl)
theorem dX9_worstOf_22 : decode cX9_worstOf 22 = .ok (.iload_n 2, 1) := dk_28 (dk_at dksX9_worstOf_0 22 rfl rfl)
theorem dX9_worstOf_23 : decode cX9_worstOf 23 = .ok (.iload 4, 2) := dk_21 4 (dk_at dksX9_worstOf_1 0 rfl rfl)
theorem dX9_worstOf_25 : decode cX9_worstOf 25 = .ok (.invokevirtual 421, 3) := dk_182 1 165 (dk_at dksX9_worstOf_1 2 rfl rfl)
theorem dX9_worstOf_28 : decode cX9_worstOf 28 = .ok (.invokestatic 424, 3) := dk_184 1 168 (dk_at dksX9_worstOf_1 5 rfl rfl)
theorem dX9_worstOf_31 : decode cX9_worstOf 31 = .ok (.istore_n 3, 1) := dk_62 (dk_at dksX9_worstOf_1 8 rfl rfl)
theorem dX9_worstOf_32 : decode cX9_worstOf 32 = .ok (.iinc 4 1, 3) := dk_132 4 1 (dk_at dksX9_worstOf_1 9 rfl rfl)
theorem dX9_worstOf_35 : decode cX9_worstOf 35 = .ok (.goto (-30), 3) := dk_167 255 226 (dk_at dksX9_worstOf_1 12 rfl rfl)
theorem dX9_worstOf_38 : decode cX9_worstOf 38 = .ok (.iload_n 3, 1) := dk_29 (dk_at dksX9_worstOf_1 15 rfl rfl)
theorem dX9_worstOf_39 : decode cX9_worstOf 39 = .ok (.ireturn, 1) := dk_172 (dk_at dksX9_worstOf_1 16 rfl rfl)
abbrev cX9_answered : ByteArray := prog_19_method_115_code
def yX9_answered : MethodName := ⟨RX9, "answered", "(IIII)I"⟩
def dkwX9_answered_5 : List UInt8 := [42, 27, 4, 96, 182, 1, 135, 172]
abbrev dktX9_answered_5 : List UInt8 := dkwX9_answered_5 ++ []
def dkwX9_answered_4 : List UInt8 := [21, 4, 182, 1, 119, 126, 167, 0, 5, 21, 8, 79, 132, 7, 1, 167, 255, 174, 132, 6, 1, 167, 255, 154]
abbrev dktX9_answered_4 : List UInt8 := dkwX9_answered_4 ++ dktX9_answered_5
def dkwX9_answered_3 : List UInt8 := [104, 96, 21, 7, 96, 21, 6, 28, 160, 0, 24, 21, 8, 153, 0, 19, 21, 8, 42, 28, 29, 21, 7]
abbrev dktX9_answered_3 : List UInt8 := dkwX9_answered_3 ++ dktX9_answered_4
def dkwX9_answered_2 : List UInt8 := [17, 1, 0, 21, 6, 104, 96, 21, 7, 96, 46, 54, 8, 42, 180, 0, 69, 21, 5, 17, 1, 0, 21, 6]
abbrev dktX9_answered_2 : List UInt8 := dkwX9_answered_2 ++ dktX9_answered_3
def dkwX9_answered_1 : List UInt8 := [54, 7, 21, 7, 42, 180, 0, 7, 5, 46, 162, 0, 77, 42, 180, 0, 69, 17, 4, 0, 27, 104]
abbrev dktX9_answered_1 : List UInt8 := dkwX9_answered_1 ++ dktX9_answered_2
def dkwX9_answered_0 : List UInt8 := [17, 4, 0, 27, 4, 96, 104, 54, 5, 3, 54, 6, 21, 6, 42, 180, 0, 7, 7, 46, 162, 0, 97, 3]
abbrev dktX9_answered_0 : List UInt8 := dkwX9_answered_0 ++ dktX9_answered_1
theorem dksX9_answered_0 : cX9_answered.data.toList.drop 0 = dktX9_answered_0 := by decide +kernel
theorem dksX9_answered_1 : cX9_answered.data.toList.drop 24 = dktX9_answered_1 := dk_seg dksX9_answered_0 24 rfl rfl
theorem dksX9_answered_2 : cX9_answered.data.toList.drop 46 = dktX9_answered_2 := dk_seg dksX9_answered_1 22 rfl rfl
theorem dksX9_answered_3 : cX9_answered.data.toList.drop 70 = dktX9_answered_3 := dk_seg dksX9_answered_2 24 rfl rfl
theorem dksX9_answered_4 : cX9_answered.data.toList.drop 93 = dktX9_answered_4 := dk_seg dksX9_answered_3 23 rfl rfl
theorem dksX9_answered_5 : cX9_answered.data.toList.drop 117 = dktX9_answered_5 := dk_seg dksX9_answered_4 24 rfl rfl
theorem dX9_answered_0 : decode cX9_answered 0 = .ok (.sipush 1024, 3) := dk_17 4 0 (dk_at dksX9_answered_0 0 rfl rfl)
theorem dX9_answered_3 : decode cX9_answered 3 = .ok (.iload_n 1, 1) := dk_27 (dk_at dksX9_answered_0 3 rfl rfl)
theorem dX9_answered_4 : decode cX9_answered 4 = .ok (.iconst 1, 1) := dk_4 (dk_at dksX9_answered_0 4 rfl rfl)
theorem dX9_answered_5 : decode cX9_answered 5 = .ok (.iadd, 1) := dk_96 (dk_at dksX9_answered_0 5 rfl rfl)
theorem dX9_answered_6 : decode cX9_answered 6 = .ok (.imul, 1) := dk_104 (dk_at dksX9_answered_0 6 rfl rfl)
theorem dX9_answered_7 : decode cX9_answered 7 = .ok (.istore 5, 2) := dk_54 5 (dk_at dksX9_answered_0 7 rfl rfl)
theorem dX9_answered_9 : decode cX9_answered 9 = .ok (.iconst 0, 1) := dk_3 (dk_at dksX9_answered_0 9 rfl rfl)
theorem dX9_answered_10 : decode cX9_answered 10 = .ok (.istore 6, 2) := dk_54 6 (dk_at dksX9_answered_0 10 rfl rfl)
theorem dX9_answered_12 : decode cX9_answered 12 = .ok (.iload 6, 2) := dk_21 6 (dk_at dksX9_answered_0 12 rfl rfl)
theorem dX9_answered_14 : decode cX9_answered 14 = .ok (.aload_n 0, 1) := dk_42 (dk_at dksX9_answered_0 14 rfl rfl)
theorem dX9_answered_15 : decode cX9_answered 15 = .ok (.getfield 7, 3) := dk_180 0 7 (dk_at dksX9_answered_0 15 rfl rfl)
theorem dX9_answered_18 : decode cX9_answered 18 = .ok (.iconst 4, 1) := dk_7 (dk_at dksX9_answered_0 18 rfl rfl)
theorem dX9_answered_19 : decode cX9_answered 19 = .ok (.iaload, 1) := dk_46 (dk_at dksX9_answered_0 19 rfl rfl)
theorem dX9_answered_20 : decode cX9_answered 20 = .ok (.if_icmp .ge 97, 3) := dk_162 0 97 (dk_at dksX9_answered_0 20 rfl rfl)
theorem dX9_answered_23 : decode cX9_answered 23 = .ok (.iconst 0, 1) := dk_3 (dk_at dksX9_answered_0 23 rfl rfl)
theorem dX9_answered_24 : decode cX9_answered 24 = .ok (.istore 7, 2) := dk_54 7 (dk_at dksX9_answered_1 0 rfl rfl)
theorem dX9_answered_26 : decode cX9_answered 26 = .ok (.iload 7, 2) := dk_21 7 (dk_at dksX9_answered_1 2 rfl rfl)
theorem dX9_answered_28 : decode cX9_answered 28 = .ok (.aload_n 0, 1) := dk_42 (dk_at dksX9_answered_1 4 rfl rfl)
theorem dX9_answered_29 : decode cX9_answered 29 = .ok (.getfield 7, 3) := dk_180 0 7 (dk_at dksX9_answered_1 5 rfl rfl)
theorem dX9_answered_32 : decode cX9_answered 32 = .ok (.iconst 2, 1) := dk_5 (dk_at dksX9_answered_1 8 rfl rfl)
theorem dX9_answered_33 : decode cX9_answered 33 = .ok (.iaload, 1) := dk_46 (dk_at dksX9_answered_1 9 rfl rfl)
theorem dX9_answered_34 : decode cX9_answered 34 = .ok (.if_icmp .ge 77, 3) := dk_162 0 77 (dk_at dksX9_answered_1 10 rfl rfl)
theorem dX9_answered_37 : decode cX9_answered 37 = .ok (.aload_n 0, 1) := dk_42 (dk_at dksX9_answered_1 13 rfl rfl)
theorem dX9_answered_38 : decode cX9_answered 38 = .ok (.getfield 69, 3) := dk_180 0 69 (dk_at dksX9_answered_1 14 rfl rfl)
theorem dX9_answered_41 : decode cX9_answered 41 = .ok (.sipush 1024, 3) := dk_17 4 0 (dk_at dksX9_answered_1 17 rfl rfl)
theorem dX9_answered_44 : decode cX9_answered 44 = .ok (.iload_n 1, 1) := dk_27 (dk_at dksX9_answered_1 20 rfl rfl)
theorem dX9_answered_45 : decode cX9_answered 45 = .ok (.imul, 1) := dk_104 (dk_at dksX9_answered_1 21 rfl rfl)
theorem dX9_answered_46 : decode cX9_answered 46 = .ok (.sipush 256, 3) := dk_17 1 0 (dk_at dksX9_answered_2 0 rfl rfl)
theorem dX9_answered_49 : decode cX9_answered 49 = .ok (.iload 6, 2) := dk_21 6 (dk_at dksX9_answered_2 3 rfl rfl)
theorem dX9_answered_51 : decode cX9_answered 51 = .ok (.imul, 1) := dk_104 (dk_at dksX9_answered_2 5 rfl rfl)
theorem dX9_answered_52 : decode cX9_answered 52 = .ok (.iadd, 1) := dk_96 (dk_at dksX9_answered_2 6 rfl rfl)
theorem dX9_answered_53 : decode cX9_answered 53 = .ok (.iload 7, 2) := dk_21 7 (dk_at dksX9_answered_2 7 rfl rfl)
theorem dX9_answered_55 : decode cX9_answered 55 = .ok (.iadd, 1) := dk_96 (dk_at dksX9_answered_2 9 rfl rfl)
theorem dX9_answered_56 : decode cX9_answered 56 = .ok (.iaload, 1) := dk_46 (dk_at dksX9_answered_2 10 rfl rfl)
theorem dX9_answered_57 : decode cX9_answered 57 = .ok (.istore 8, 2) := dk_54 8 (dk_at dksX9_answered_2 11 rfl rfl)
theorem dX9_answered_59 : decode cX9_answered 59 = .ok (.aload_n 0, 1) := dk_42 (dk_at dksX9_answered_2 13 rfl rfl)
theorem dX9_answered_60 : decode cX9_answered 60 = .ok (.getfield 69, 3) := dk_180 0 69 (dk_at dksX9_answered_2 14 rfl rfl)
theorem dX9_answered_63 : decode cX9_answered 63 = .ok (.iload 5, 2) := dk_21 5 (dk_at dksX9_answered_2 17 rfl rfl)
theorem dX9_answered_65 : decode cX9_answered 65 = .ok (.sipush 256, 3) := dk_17 1 0 (dk_at dksX9_answered_2 19 rfl rfl)
theorem dX9_answered_68 : decode cX9_answered 68 = .ok (.iload 6, 2) := dk_21 6 (dk_at dksX9_answered_2 22 rfl rfl)
theorem dX9_answered_70 : decode cX9_answered 70 = .ok (.imul, 1) := dk_104 (dk_at dksX9_answered_3 0 rfl rfl)
theorem dX9_answered_71 : decode cX9_answered 71 = .ok (.iadd, 1) := dk_96 (dk_at dksX9_answered_3 1 rfl rfl)
theorem dX9_answered_72 : decode cX9_answered 72 = .ok (.iload 7, 2) := dk_21 7 (dk_at dksX9_answered_3 2 rfl rfl)
theorem dX9_answered_74 : decode cX9_answered 74 = .ok (.iadd, 1) := dk_96 (dk_at dksX9_answered_3 4 rfl rfl)
theorem dX9_answered_75 : decode cX9_answered 75 = .ok (.iload 6, 2) := dk_21 6 (dk_at dksX9_answered_3 5 rfl rfl)
theorem dX9_answered_77 : decode cX9_answered 77 = .ok (.iload_n 2, 1) := dk_28 (dk_at dksX9_answered_3 7 rfl rfl)
theorem dX9_answered_78 : decode cX9_answered 78 = .ok (.if_icmp .ne 24, 3) := dk_160 0 24 (dk_at dksX9_answered_3 8 rfl rfl)
theorem dX9_answered_81 : decode cX9_answered 81 = .ok (.iload 8, 2) := dk_21 8 (dk_at dksX9_answered_3 11 rfl rfl)
theorem dX9_answered_83 : decode cX9_answered 83 = .ok (.ifCond .eq 19, 3) := dk_153 0 19 (dk_at dksX9_answered_3 13 rfl rfl)
theorem dX9_answered_86 : decode cX9_answered 86 = .ok (.iload 8, 2) := dk_21 8 (dk_at dksX9_answered_3 16 rfl rfl)
theorem dX9_answered_88 : decode cX9_answered 88 = .ok (.aload_n 0, 1) := dk_42 (dk_at dksX9_answered_3 18 rfl rfl)
theorem dX9_answered_89 : decode cX9_answered 89 = .ok (.iload_n 2, 1) := dk_28 (dk_at dksX9_answered_3 19 rfl rfl)
theorem dX9_answered_90 : decode cX9_answered 90 = .ok (.iload_n 3, 1) := dk_29 (dk_at dksX9_answered_3 20 rfl rfl)
theorem dX9_answered_91 : decode cX9_answered 91 = .ok (.iload 7, 2) := dk_21 7 (dk_at dksX9_answered_3 21 rfl rfl)
theorem dX9_answered_93 : decode cX9_answered 93 = .ok (.iload 4, 2) := dk_21 4 (dk_at dksX9_answered_4 0 rfl rfl)
theorem dX9_answered_95 : decode cX9_answered 95 = .ok (.invokevirtual 375, 3) := dk_182 1 119 (dk_at dksX9_answered_4 2 rfl rfl)
theorem dX9_answered_98 : decode cX9_answered 98 = .ok (.iand, 1) := dk_126 (dk_at dksX9_answered_4 5 rfl rfl)
theorem dX9_answered_99 : decode cX9_answered 99 = .ok (.goto 5, 3) := dk_167 0 5 (dk_at dksX9_answered_4 6 rfl rfl)
theorem dX9_answered_102 : decode cX9_answered 102 = .ok (.iload 8, 2) := dk_21 8 (dk_at dksX9_answered_4 9 rfl rfl)
theorem dX9_answered_104 : decode cX9_answered 104 = .ok (.iastore, 1) := dk_79 (dk_at dksX9_answered_4 11 rfl rfl)
theorem dX9_answered_105 : decode cX9_answered 105 = .ok (.iinc 7 1, 3) := dk_132 7 1 (dk_at dksX9_answered_4 12 rfl rfl)
theorem dX9_answered_108 : decode cX9_answered 108 = .ok (.goto (-82), 3) := dk_167 255 174 (dk_at dksX9_answered_4 15 rfl rfl)
theorem dX9_answered_111 : decode cX9_answered 111 = .ok (.iinc 6 1, 3) := dk_132 6 1 (dk_at dksX9_answered_4 18 rfl rfl)
theorem dX9_answered_114 : decode cX9_answered 114 = .ok (.goto (-102), 3) := dk_167 255 154 (dk_at dksX9_answered_4 21 rfl rfl)
theorem dX9_answered_117 : decode cX9_answered 117 = .ok (.aload_n 0, 1) := dk_42 (dk_at dksX9_answered_5 0 rfl rfl)
theorem dX9_answered_118 : decode cX9_answered 118 = .ok (.iload_n 1, 1) := dk_27 (dk_at dksX9_answered_5 1 rfl rfl)
theorem dX9_answered_119 : decode cX9_answered 119 = .ok (.iconst 1, 1) := dk_4 (dk_at dksX9_answered_5 2 rfl rfl)
theorem dX9_answered_120 : decode cX9_answered 120 = .ok (.iadd, 1) := dk_96 (dk_at dksX9_answered_5 3 rfl rfl)
theorem dX9_answered_121 : decode cX9_answered 121 = .ok (.invokevirtual 391, 3) := dk_182 1 135 (dk_at dksX9_answered_5 4 rfl rfl)
theorem dX9_answered_124 : decode cX9_answered 124 = .ok (.ireturn, 1) := dk_172 (dk_at dksX9_answered_5 7 rfl rfl)
abbrev cX9_best : ByteArray := prog_19_method_119_code
def yX9_best : MethodName := ⟨RX9, "best", "(I)I"⟩
def dkwX9_best_1 : List UInt8 := [28, 2, 160, 0, 12, 42, 16, 6, 182, 0, 197, 167, 0, 8, 42, 28, 182, 0, 200, 172]
abbrev dktX9_best_1 : List UInt8 := dkwX9_best_1 ++ []
def dkwX9_best_0 : List UInt8 := [42, 27, 182, 1, 84, 154, 0, 9, 42, 4, 182, 0, 197, 172, 42, 182, 1, 132, 42, 27, 182, 1, 174, 61]
abbrev dktX9_best_0 : List UInt8 := dkwX9_best_0 ++ dktX9_best_1
theorem dksX9_best_0 : cX9_best.data.toList.drop 0 = dktX9_best_0 := by decide +kernel
theorem dksX9_best_1 : cX9_best.data.toList.drop 24 = dktX9_best_1 := dk_seg dksX9_best_0 24 rfl rfl
theorem dX9_best_0 : decode cX9_best 0 = .ok (.aload_n 0, 1) := dk_42 (dk_at dksX9_best_0 0 rfl rfl)
theorem dX9_best_1 : decode cX9_best 1 = .ok (.iload_n 1, 1) := dk_27 (dk_at dksX9_best_0 1 rfl rfl)
theorem dX9_best_2 : decode cX9_best 2 = .ok (.invokevirtual 340, 3) := dk_182 1 84 (dk_at dksX9_best_0 2 rfl rfl)
theorem dX9_best_5 : decode cX9_best 5 = .ok (.ifCond .ne 9, 3) := dk_154 0 9 (dk_at dksX9_best_0 5 rfl rfl)
theorem dX9_best_8 : decode cX9_best 8 = .ok (.aload_n 0, 1) := dk_42 (dk_at dksX9_best_0 8 rfl rfl)
theorem dX9_best_9 : decode cX9_best 9 = .ok (.iconst 1, 1) := dk_4 (dk_at dksX9_best_0 9 rfl rfl)
theorem dX9_best_10 : decode cX9_best 10 = .ok (.invokevirtual 197, 3) := dk_182 0 197 (dk_at dksX9_best_0 10 rfl rfl)
theorem dX9_best_13 : decode cX9_best 13 = .ok (.ireturn, 1) := dk_172 (dk_at dksX9_best_0 13 rfl rfl)
theorem dX9_best_14 : decode cX9_best 14 = .ok (.aload_n 0, 1) := dk_42 (dk_at dksX9_best_0 14 rfl rfl)
theorem dX9_best_15 : decode cX9_best 15 = .ok (.invokevirtual 388, 3) := dk_182 1 132 (dk_at dksX9_best_0 15 rfl rfl)
theorem dX9_best_18 : decode cX9_best 18 = .ok (.aload_n 0, 1) := dk_42 (dk_at dksX9_best_0 18 rfl rfl)
theorem dX9_best_19 : decode cX9_best 19 = .ok (.iload_n 1, 1) := dk_27 (dk_at dksX9_best_0 19 rfl rfl)
theorem dX9_best_20 : decode cX9_best 20 = .ok (.invokevirtual 430, 3) := dk_182 1 174 (dk_at dksX9_best_0 20 rfl rfl)
theorem dX9_best_23 : decode cX9_best 23 = .ok (.istore_n 2, 1) := dk_61 (dk_at dksX9_best_0 23 rfl rfl)
theorem dX9_best_24 : decode cX9_best 24 = .ok (.iload_n 2, 1) := dk_28 (dk_at dksX9_best_1 0 rfl rfl)
theorem dX9_best_25 : decode cX9_best 25 = .ok (.iconst (-1), 1) := dk_2 (dk_at dksX9_best_1 1 rfl rfl)
theorem dX9_best_26 : decode cX9_best 26 = .ok (.if_icmp .ne 12, 3) := dk_160 0 12 (dk_at dksX9_best_1 2 rfl rfl)
theorem dX9_best_29 : decode cX9_best 29 = .ok (.aload_n 0, 1) := dk_42 (dk_at dksX9_best_1 5 rfl rfl)
theorem dX9_best_30 : decode cX9_best 30 = .ok (.bipush 6, 2) := dk_16 6 (dk_at dksX9_best_1 6 rfl rfl)
theorem dX9_best_32 : decode cX9_best 32 = .ok (.invokevirtual 197, 3) := dk_182 0 197 (dk_at dksX9_best_1 8 rfl rfl)
theorem dX9_best_35 : decode cX9_best 35 = .ok (.goto 8, 3) := dk_167 0 8 (dk_at dksX9_best_1 11 rfl rfl)
theorem dX9_best_38 : decode cX9_best 38 = .ok (.aload_n 0, 1) := dk_42 (dk_at dksX9_best_1 14 rfl rfl)
theorem dX9_best_39 : decode cX9_best 39 = .ok (.iload_n 2, 1) := dk_28 (dk_at dksX9_best_1 15 rfl rfl)
theorem dX9_best_40 : decode cX9_best 40 = .ok (.invokevirtual 200, 3) := dk_182 0 200 (dk_at dksX9_best_1 16 rfl rfl)
theorem dX9_best_43 : decode cX9_best 43 = .ok (.ireturn, 1) := dk_172 (dk_at dksX9_best_1 19 rfl rfl)
abbrev cX9_bestOf : ByteArray := prog_19_method_118_code
def yX9_bestOf : MethodName := ⟨RX9, "bestOf", "(I)I"⟩
def dkwX9_bestOf_3 : List UInt8 := [132, 4, 1, 167, 255, 192, 28, 172]
abbrev dktX9_bestOf_3 : List UInt8 := dkwX9_bestOf_3 ++ []
def dkwX9_bestOf_2 : List UInt8 := [54, 5, 28, 2, 159, 0, 12, 21, 5, 29, 161, 0, 6, 167, 0, 9, 21, 4, 61, 21, 5, 62]
abbrev dktX9_bestOf_2 : List UInt8 := dkwX9_bestOf_2 ++ dktX9_bestOf_3
def dkwX9_bestOf_1 : List UInt8 := [158, 0, 51, 42, 180, 0, 72, 21, 4, 51, 153, 0, 6, 167, 0, 32, 42, 27, 21, 4, 182, 1, 171]
abbrev dktX9_bestOf_1 : List UInt8 := dkwX9_bestOf_1 ++ dktX9_bestOf_2
def dkwX9_bestOf_0 : List UInt8 := [2, 61, 3, 62, 3, 54, 4, 21, 4, 42, 180, 0, 7, 6, 46, 162, 0, 59, 42, 3, 182, 1, 135]
abbrev dktX9_bestOf_0 : List UInt8 := dkwX9_bestOf_0 ++ dktX9_bestOf_1
theorem dksX9_bestOf_0 : cX9_bestOf.data.toList.drop 0 = dktX9_bestOf_0 := by decide +kernel
theorem dksX9_bestOf_1 : cX9_bestOf.data.toList.drop 23 = dktX9_bestOf_1 := dk_seg dksX9_bestOf_0 23 rfl rfl
theorem dksX9_bestOf_2 : cX9_bestOf.data.toList.drop 46 = dktX9_bestOf_2 := dk_seg dksX9_bestOf_1 23 rfl rfl
theorem dksX9_bestOf_3 : cX9_bestOf.data.toList.drop 68 = dktX9_bestOf_3 := dk_seg dksX9_bestOf_2 22 rfl rfl
theorem dX9_bestOf_0 : decode cX9_bestOf 0 = .ok (.iconst (-1), 1) := dk_2 (dk_at dksX9_bestOf_0 0 rfl rfl)
theorem dX9_bestOf_1 : decode cX9_bestOf 1 = .ok (.istore_n 2, 1) := dk_61 (dk_at dksX9_bestOf_0 1 rfl rfl)
theorem dX9_bestOf_2 : decode cX9_bestOf 2 = .ok (.iconst 0, 1) := dk_3 (dk_at dksX9_bestOf_0 2 rfl rfl)
theorem dX9_bestOf_3 : decode cX9_bestOf 3 = .ok (.istore_n 3, 1) := dk_62 (dk_at dksX9_bestOf_0 3 rfl rfl)
theorem dX9_bestOf_4 : decode cX9_bestOf 4 = .ok (.iconst 0, 1) := dk_3 (dk_at dksX9_bestOf_0 4 rfl rfl)
theorem dX9_bestOf_5 : decode cX9_bestOf 5 = .ok (.istore 4, 2) := dk_54 4 (dk_at dksX9_bestOf_0 5 rfl rfl)
theorem dX9_bestOf_7 : decode cX9_bestOf 7 = .ok (.iload 4, 2) := dk_21 4 (dk_at dksX9_bestOf_0 7 rfl rfl)
theorem dX9_bestOf_9 : decode cX9_bestOf 9 = .ok (.aload_n 0, 1) := dk_42 (dk_at dksX9_bestOf_0 9 rfl rfl)
theorem dX9_bestOf_10 : decode cX9_bestOf 10 = .ok (.getfield 7, 3) := dk_180 0 7 (dk_at dksX9_bestOf_0 10 rfl rfl)
theorem dX9_bestOf_13 : decode cX9_bestOf 13 = .ok (.iconst 3, 1) := dk_6 (dk_at dksX9_bestOf_0 13 rfl rfl)
theorem dX9_bestOf_14 : decode cX9_bestOf 14 = .ok (.iaload, 1) := dk_46 (dk_at dksX9_bestOf_0 14 rfl rfl)
theorem dX9_bestOf_15 : decode cX9_bestOf 15 = .ok (.if_icmp .ge 59, 3) := dk_162 0 59 (dk_at dksX9_bestOf_0 15 rfl rfl)
theorem dX9_bestOf_18 : decode cX9_bestOf 18 = .ok (.aload_n 0, 1) := dk_42 (dk_at dksX9_bestOf_0 18 rfl rfl)
theorem dX9_bestOf_19 : decode cX9_bestOf 19 = .ok (.iconst 0, 1) := dk_3 (dk_at dksX9_bestOf_0 19 rfl rfl)
theorem dX9_bestOf_20 : decode cX9_bestOf 20 = .ok (.invokevirtual 391, 3) := dk_182 1 135 (dk_at dksX9_bestOf_0 20 rfl rfl)
theorem dX9_bestOf_23 : decode cX9_bestOf 23 = .ok (.ifCond .le 51, 3) := dk_158 0 51 (dk_at dksX9_bestOf_1 0 rfl rfl)
theorem dX9_bestOf_26 : decode cX9_bestOf 26 = .ok (.aload_n 0, 1) := dk_42 (dk_at dksX9_bestOf_1 3 rfl rfl)
theorem dX9_bestOf_27 : decode cX9_bestOf 27 = .ok (.getfield 72, 3) := dk_180 0 72 (dk_at dksX9_bestOf_1 4 rfl rfl)
theorem dX9_bestOf_30 : decode cX9_bestOf 30 = .ok (.iload 4, 2) := dk_21 4 (dk_at dksX9_bestOf_1 7 rfl rfl)
theorem dX9_bestOf_32 : decode cX9_bestOf 32 = .ok (.baload, 1) := dk_51 (dk_at dksX9_bestOf_1 9 rfl rfl)
theorem dX9_bestOf_33 : decode cX9_bestOf 33 = .ok (.ifCond .eq 6, 3) := dk_153 0 6 (dk_at dksX9_bestOf_1 10 rfl rfl)
theorem dX9_bestOf_36 : decode cX9_bestOf 36 = .ok (.goto 32, 3) := dk_167 0 32 (dk_at dksX9_bestOf_1 13 rfl rfl)
theorem dX9_bestOf_39 : decode cX9_bestOf 39 = .ok (.aload_n 0, 1) := dk_42 (dk_at dksX9_bestOf_1 16 rfl rfl)
theorem dX9_bestOf_40 : decode cX9_bestOf 40 = .ok (.iload_n 1, 1) := dk_27 (dk_at dksX9_bestOf_1 17 rfl rfl)
theorem dX9_bestOf_41 : decode cX9_bestOf 41 = .ok (.iload 4, 2) := dk_21 4 (dk_at dksX9_bestOf_1 18 rfl rfl)
theorem dX9_bestOf_43 : decode cX9_bestOf 43 = .ok (.invokevirtual 427, 3) := dk_182 1 171 (dk_at dksX9_bestOf_1 20 rfl rfl)
theorem dX9_bestOf_46 : decode cX9_bestOf 46 = .ok (.istore 5, 2) := dk_54 5 (dk_at dksX9_bestOf_2 0 rfl rfl)
theorem dX9_bestOf_48 : decode cX9_bestOf 48 = .ok (.iload_n 2, 1) := dk_28 (dk_at dksX9_bestOf_2 2 rfl rfl)
theorem dX9_bestOf_49 : decode cX9_bestOf 49 = .ok (.iconst (-1), 1) := dk_2 (dk_at dksX9_bestOf_2 3 rfl rfl)
theorem dX9_bestOf_50 : decode cX9_bestOf 50 = .ok (.if_icmp .eq 12, 3) := dk_159 0 12 (dk_at dksX9_bestOf_2 4 rfl rfl)
theorem dX9_bestOf_53 : decode cX9_bestOf 53 = .ok (.iload 5, 2) := dk_21 5 (dk_at dksX9_bestOf_2 7 rfl rfl)
theorem dX9_bestOf_55 : decode cX9_bestOf 55 = .ok (.iload_n 3, 1) := dk_29 (dk_at dksX9_bestOf_2 9 rfl rfl)
theorem dX9_bestOf_56 : decode cX9_bestOf 56 = .ok (.if_icmp .lt 6, 3) := dk_161 0 6 (dk_at dksX9_bestOf_2 10 rfl rfl)
theorem dX9_bestOf_59 : decode cX9_bestOf 59 = .ok (.goto 9, 3) := dk_167 0 9 (dk_at dksX9_bestOf_2 13 rfl rfl)
theorem dX9_bestOf_62 : decode cX9_bestOf 62 = .ok (.iload 4, 2) := dk_21 4 (dk_at dksX9_bestOf_2 16 rfl rfl)
theorem dX9_bestOf_64 : decode cX9_bestOf 64 = .ok (.istore_n 2, 1) := dk_61 (dk_at dksX9_bestOf_2 18 rfl rfl)
theorem dX9_bestOf_65 : decode cX9_bestOf 65 = .ok (.iload 5, 2) := dk_21 5 (dk_at dksX9_bestOf_2 19 rfl rfl)
theorem dX9_bestOf_67 : decode cX9_bestOf 67 = .ok (.istore_n 3, 1) := dk_62 (dk_at dksX9_bestOf_2 21 rfl rfl)
theorem dX9_bestOf_68 : decode cX9_bestOf 68 = .ok (.iinc 4 1, 3) := dk_132 4 1 (dk_at dksX9_bestOf_3 0 rfl rfl)
theorem dX9_bestOf_71 : decode cX9_bestOf 71 = .ok (.goto (-64), 3) := dk_167 255 192 (dk_at dksX9_bestOf_3 3 rfl rfl)
theorem dX9_bestOf_74 : decode cX9_bestOf 74 = .ok (.iload_n 2, 1) := dk_28 (dk_at dksX9_bestOf_3 6 rfl rfl)
theorem dX9_bestOf_75 : decode cX9_bestOf 75 = .ok (.ireturn, 1) := dk_172 (dk_at dksX9_bestOf_3 7 rfl rfl)
abbrev cX9_shortest : ByteArray := prog_19_method_127_code
def yX9_shortest : MethodName := ⟨RX9, "shortest", "(II)I"⟩
def dkwX9_shortest_4 : List UInt8 := [182, 0, 200, 172, 132, 3, 1, 167, 255, 223, 42, 16, 6, 182, 0, 197, 172]
abbrev dktX9_shortest_4 : List UInt8 := dkwX9_shortest_4 ++ []
def dkwX9_shortest_3 : List UInt8 := [2, 160, 0, 7, 5, 167, 0, 4, 6, 163, 0, 25, 42, 29, 27, 28, 182, 1, 200, 153, 0, 9, 42, 29]
abbrev dktX9_shortest_3 : List UInt8 := dkwX9_shortest_3 ++ dktX9_shortest_4
def dkwX9_shortest_2 : List UInt8 := [3, 27, 182, 1, 138, 2, 159, 0, 14, 42, 2, 181, 0, 79, 42, 3, 182, 0, 200, 172, 4, 62, 29, 28]
abbrev dktX9_shortest_2 : List UInt8 := dkwX9_shortest_2 ++ dktX9_shortest_3
def dkwX9_shortest_1 : List UInt8 := [182, 0, 197, 172, 42, 182, 1, 132, 42, 3, 182, 1, 135, 154, 0, 10, 42, 16, 6, 182, 0, 197, 172, 42]
abbrev dktX9_shortest_1 : List UInt8 := dkwX9_shortest_1 ++ dktX9_shortest_2
def dkwX9_shortest_0 : List UInt8 := [42, 27, 182, 1, 78, 153, 0, 16, 28, 2, 159, 0, 17, 42, 28, 182, 1, 84, 154, 0, 9, 42, 4]
abbrev dktX9_shortest_0 : List UInt8 := dkwX9_shortest_0 ++ dktX9_shortest_1
theorem dksX9_shortest_0 : cX9_shortest.data.toList.drop 0 = dktX9_shortest_0 := by decide +kernel
theorem dksX9_shortest_1 : cX9_shortest.data.toList.drop 23 = dktX9_shortest_1 := dk_seg dksX9_shortest_0 23 rfl rfl
theorem dksX9_shortest_2 : cX9_shortest.data.toList.drop 47 = dktX9_shortest_2 := dk_seg dksX9_shortest_1 24 rfl rfl
theorem dksX9_shortest_3 : cX9_shortest.data.toList.drop 71 = dktX9_shortest_3 := dk_seg dksX9_shortest_2 24 rfl rfl
theorem dksX9_shortest_4 : cX9_shortest.data.toList.drop 95 = dktX9_shortest_4 := dk_seg dksX9_shortest_3 24 rfl rfl
theorem dX9_shortest_0 : decode cX9_shortest 0 = .ok (.aload_n 0, 1) := dk_42 (dk_at dksX9_shortest_0 0 rfl rfl)
theorem dX9_shortest_1 : decode cX9_shortest 1 = .ok (.iload_n 1, 1) := dk_27 (dk_at dksX9_shortest_0 1 rfl rfl)
theorem dX9_shortest_2 : decode cX9_shortest 2 = .ok (.invokevirtual 334, 3) := dk_182 1 78 (dk_at dksX9_shortest_0 2 rfl rfl)
theorem dX9_shortest_5 : decode cX9_shortest 5 = .ok (.ifCond .eq 16, 3) := dk_153 0 16 (dk_at dksX9_shortest_0 5 rfl rfl)
theorem dX9_shortest_8 : decode cX9_shortest 8 = .ok (.iload_n 2, 1) := dk_28 (dk_at dksX9_shortest_0 8 rfl rfl)
theorem dX9_shortest_9 : decode cX9_shortest 9 = .ok (.iconst (-1), 1) := dk_2 (dk_at dksX9_shortest_0 9 rfl rfl)
theorem dX9_shortest_10 : decode cX9_shortest 10 = .ok (.if_icmp .eq 17, 3) := dk_159 0 17 (dk_at dksX9_shortest_0 10 rfl rfl)
theorem dX9_shortest_13 : decode cX9_shortest 13 = .ok (.aload_n 0, 1) := dk_42 (dk_at dksX9_shortest_0 13 rfl rfl)
theorem dX9_shortest_14 : decode cX9_shortest 14 = .ok (.iload_n 2, 1) := dk_28 (dk_at dksX9_shortest_0 14 rfl rfl)
theorem dX9_shortest_15 : decode cX9_shortest 15 = .ok (.invokevirtual 340, 3) := dk_182 1 84 (dk_at dksX9_shortest_0 15 rfl rfl)
theorem dX9_shortest_18 : decode cX9_shortest 18 = .ok (.ifCond .ne 9, 3) := dk_154 0 9 (dk_at dksX9_shortest_0 18 rfl rfl)
theorem dX9_shortest_21 : decode cX9_shortest 21 = .ok (.aload_n 0, 1) := dk_42 (dk_at dksX9_shortest_0 21 rfl rfl)
theorem dX9_shortest_22 : decode cX9_shortest 22 = .ok (.iconst 1, 1) := dk_4 (dk_at dksX9_shortest_0 22 rfl rfl)
theorem dX9_shortest_23 : decode cX9_shortest 23 = .ok (.invokevirtual 197, 3) := dk_182 0 197 (dk_at dksX9_shortest_1 0 rfl rfl)
theorem dX9_shortest_26 : decode cX9_shortest 26 = .ok (.ireturn, 1) := dk_172 (dk_at dksX9_shortest_1 3 rfl rfl)
theorem dX9_shortest_27 : decode cX9_shortest 27 = .ok (.aload_n 0, 1) := dk_42 (dk_at dksX9_shortest_1 4 rfl rfl)
theorem dX9_shortest_28 : decode cX9_shortest 28 = .ok (.invokevirtual 388, 3) := dk_182 1 132 (dk_at dksX9_shortest_1 5 rfl rfl)
theorem dX9_shortest_31 : decode cX9_shortest 31 = .ok (.aload_n 0, 1) := dk_42 (dk_at dksX9_shortest_1 8 rfl rfl)
theorem dX9_shortest_32 : decode cX9_shortest 32 = .ok (.iconst 0, 1) := dk_3 (dk_at dksX9_shortest_1 9 rfl rfl)
theorem dX9_shortest_33 : decode cX9_shortest 33 = .ok (.invokevirtual 391, 3) := dk_182 1 135 (dk_at dksX9_shortest_1 10 rfl rfl)
theorem dX9_shortest_36 : decode cX9_shortest 36 = .ok (.ifCond .ne 10, 3) := dk_154 0 10 (dk_at dksX9_shortest_1 13 rfl rfl)
theorem dX9_shortest_39 : decode cX9_shortest 39 = .ok (.aload_n 0, 1) := dk_42 (dk_at dksX9_shortest_1 16 rfl rfl)
theorem dX9_shortest_40 : decode cX9_shortest 40 = .ok (.bipush 6, 2) := dk_16 6 (dk_at dksX9_shortest_1 17 rfl rfl)
theorem dX9_shortest_42 : decode cX9_shortest 42 = .ok (.invokevirtual 197, 3) := dk_182 0 197 (dk_at dksX9_shortest_1 19 rfl rfl)
theorem dX9_shortest_45 : decode cX9_shortest 45 = .ok (.ireturn, 1) := dk_172 (dk_at dksX9_shortest_1 22 rfl rfl)
theorem dX9_shortest_46 : decode cX9_shortest 46 = .ok (.aload_n 0, 1) := dk_42 (dk_at dksX9_shortest_1 23 rfl rfl)
theorem dX9_shortest_47 : decode cX9_shortest 47 = .ok (.iconst 0, 1) := dk_3 (dk_at dksX9_shortest_2 0 rfl rfl)
theorem dX9_shortest_48 : decode cX9_shortest 48 = .ok (.iload_n 1, 1) := dk_27 (dk_at dksX9_shortest_2 1 rfl rfl)
theorem dX9_shortest_49 : decode cX9_shortest 49 = .ok (.invokevirtual 394, 3) := dk_182 1 138 (dk_at dksX9_shortest_2 2 rfl rfl)
theorem dX9_shortest_52 : decode cX9_shortest 52 = .ok (.iconst (-1), 1) := dk_2 (dk_at dksX9_shortest_2 5 rfl rfl)
theorem dX9_shortest_53 : decode cX9_shortest 53 = .ok (.if_icmp .eq 14, 3) := dk_159 0 14 (dk_at dksX9_shortest_2 6 rfl rfl)
theorem dX9_shortest_56 : decode cX9_shortest 56 = .ok (.aload_n 0, 1) := dk_42 (dk_at dksX9_shortest_2 9 rfl rfl)
theorem dX9_shortest_57 : decode cX9_shortest 57 = .ok (.iconst (-1), 1) := dk_2 (dk_at dksX9_shortest_2 10 rfl rfl)
theorem dX9_shortest_58 : decode cX9_shortest 58 = .ok (.putfield 79, 3) := dk_181 0 79 (dk_at dksX9_shortest_2 11 rfl rfl)
theorem dX9_shortest_61 : decode cX9_shortest 61 = .ok (.aload_n 0, 1) := dk_42 (dk_at dksX9_shortest_2 14 rfl rfl)
theorem dX9_shortest_62 : decode cX9_shortest 62 = .ok (.iconst 0, 1) := dk_3 (dk_at dksX9_shortest_2 15 rfl rfl)
theorem dX9_shortest_63 : decode cX9_shortest 63 = .ok (.invokevirtual 200, 3) := dk_182 0 200 (dk_at dksX9_shortest_2 16 rfl rfl)
theorem dX9_shortest_66 : decode cX9_shortest 66 = .ok (.ireturn, 1) := dk_172 (dk_at dksX9_shortest_2 19 rfl rfl)
theorem dX9_shortest_67 : decode cX9_shortest 67 = .ok (.iconst 1, 1) := dk_4 (dk_at dksX9_shortest_2 20 rfl rfl)
theorem dX9_shortest_68 : decode cX9_shortest 68 = .ok (.istore_n 3, 1) := dk_62 (dk_at dksX9_shortest_2 21 rfl rfl)
theorem dX9_shortest_69 : decode cX9_shortest 69 = .ok (.iload_n 3, 1) := dk_29 (dk_at dksX9_shortest_2 22 rfl rfl)
theorem dX9_shortest_70 : decode cX9_shortest 70 = .ok (.iload_n 2, 1) := dk_28 (dk_at dksX9_shortest_2 23 rfl rfl)
theorem dX9_shortest_71 : decode cX9_shortest 71 = .ok (.iconst (-1), 1) := dk_2 (dk_at dksX9_shortest_3 0 rfl rfl)
theorem dX9_shortest_72 : decode cX9_shortest 72 = .ok (.if_icmp .ne 7, 3) := dk_160 0 7 (dk_at dksX9_shortest_3 1 rfl rfl)
theorem dX9_shortest_75 : decode cX9_shortest 75 = .ok (.iconst 2, 1) := dk_5 (dk_at dksX9_shortest_3 4 rfl rfl)
theorem dX9_shortest_76 : decode cX9_shortest 76 = .ok (.goto 4, 3) := dk_167 0 4 (dk_at dksX9_shortest_3 5 rfl rfl)
theorem dX9_shortest_79 : decode cX9_shortest 79 = .ok (.iconst 3, 1) := dk_6 (dk_at dksX9_shortest_3 8 rfl rfl)
theorem dX9_shortest_80 : decode cX9_shortest 80 = .ok (.if_icmp .gt 25, 3) := dk_163 0 25 (dk_at dksX9_shortest_3 9 rfl rfl)
theorem dX9_shortest_83 : decode cX9_shortest 83 = .ok (.aload_n 0, 1) := dk_42 (dk_at dksX9_shortest_3 12 rfl rfl)
theorem dX9_shortest_84 : decode cX9_shortest 84 = .ok (.iload_n 3, 1) := dk_29 (dk_at dksX9_shortest_3 13 rfl rfl)
theorem dX9_shortest_85 : decode cX9_shortest 85 = .ok (.iload_n 1, 1) := dk_27 (dk_at dksX9_shortest_3 14 rfl rfl)
theorem dX9_shortest_86 : decode cX9_shortest 86 = .ok (.iload_n 2, 1) := dk_28 (dk_at dksX9_shortest_3 15 rfl rfl)
theorem dX9_shortest_87 : decode cX9_shortest 87 = .ok (.invokevirtual 456, 3) := dk_182 1 200 (dk_at dksX9_shortest_3 16 rfl rfl)
theorem dX9_shortest_90 : decode cX9_shortest 90 = .ok (.ifCond .eq 9, 3) := dk_153 0 9 (dk_at dksX9_shortest_3 19 rfl rfl)
theorem dX9_shortest_93 : decode cX9_shortest 93 = .ok (.aload_n 0, 1) := dk_42 (dk_at dksX9_shortest_3 22 rfl rfl)
theorem dX9_shortest_94 : decode cX9_shortest 94 = .ok (.iload_n 3, 1) := dk_29 (dk_at dksX9_shortest_3 23 rfl rfl)
theorem dX9_shortest_95 : decode cX9_shortest 95 = .ok (.invokevirtual 200, 3) := dk_182 0 200 (dk_at dksX9_shortest_4 0 rfl rfl)
theorem dX9_shortest_98 : decode cX9_shortest 98 = .ok (.ireturn, 1) := dk_172 (dk_at dksX9_shortest_4 3 rfl rfl)
theorem dX9_shortest_99 : decode cX9_shortest 99 = .ok (.iinc 3 1, 3) := dk_132 3 1 (dk_at dksX9_shortest_4 4 rfl rfl)
theorem dX9_shortest_102 : decode cX9_shortest 102 = .ok (.goto (-33), 3) := dk_167 255 223 (dk_at dksX9_shortest_4 7 rfl rfl)
theorem dX9_shortest_105 : decode cX9_shortest 105 = .ok (.aload_n 0, 1) := dk_42 (dk_at dksX9_shortest_4 10 rfl rfl)
theorem dX9_shortest_106 : decode cX9_shortest 106 = .ok (.bipush 6, 2) := dk_16 6 (dk_at dksX9_shortest_4 11 rfl rfl)
theorem dX9_shortest_108 : decode cX9_shortest 108 = .ok (.invokevirtual 197, 3) := dk_182 0 197 (dk_at dksX9_shortest_4 13 rfl rfl)
theorem dX9_shortest_111 : decode cX9_shortest 111 = .ok (.ireturn, 1) := dk_172 (dk_at dksX9_shortest_4 16 rfl rfl)
abbrev cX9_areEnough : ByteArray := prog_19_method_126_code
def yX9_areEnough : MethodName := ⟨RX9, "areEnough", "(III)Z"⟩
def dkwX9_areEnough_5 : List UInt8 := [181, 1, 197, 4, 172, 132, 5, 1, 167, 255, 146, 132, 4, 1, 167, 255, 126, 3, 172]
abbrev dktX9_areEnough_5 : List UInt8 := dkwX9_areEnough_5 ++ []
def dkwX9_areEnough_4 : List UInt8 := [21, 4, 21, 5, 29, 182, 1, 194, 154, 0, 6, 167, 0, 17, 42, 21, 4, 181, 0, 79, 42, 21, 5]
abbrev dktX9_areEnough_4 : List UInt8 := dkwX9_areEnough_4 ++ dktX9_areEnough_5
def dkwX9_areEnough_3 : List UInt8 := [27, 5, 160, 0, 20, 42, 3, 28, 21, 4, 21, 5, 29, 182, 1, 184, 154, 0, 22, 167, 0, 33, 42, 28]
abbrev dktX9_areEnough_3 : List UInt8 := dkwX9_areEnough_3 ++ dktX9_areEnough_4
def dkwX9_areEnough_2 : List UInt8 := [167, 0, 76, 27, 4, 160, 0, 19, 42, 3, 28, 21, 4, 21, 5, 182, 1, 180, 154, 0, 44, 167, 0, 55]
abbrev dktX9_areEnough_2 : List UInt8 := dkwX9_areEnough_2 ++ dktX9_areEnough_3
def dkwX9_areEnough_1 : List UInt8 := [46, 162, 0, 105, 42, 21, 4, 29, 182, 1, 177, 153, 0, 89, 42, 180, 0, 72, 21, 5, 51, 153, 0, 6]
abbrev dktX9_areEnough_1 : List UInt8 := dkwX9_areEnough_1 ++ dktX9_areEnough_2
def dkwX9_areEnough_0 : List UInt8 := [3, 54, 4, 21, 4, 42, 180, 0, 7, 7, 46, 162, 0, 125, 3, 54, 5, 21, 5, 42, 180, 0, 7, 6]
abbrev dktX9_areEnough_0 : List UInt8 := dkwX9_areEnough_0 ++ dktX9_areEnough_1
theorem dksX9_areEnough_0 : cX9_areEnough.data.toList.drop 0 = dktX9_areEnough_0 := by decide +kernel
theorem dksX9_areEnough_1 : cX9_areEnough.data.toList.drop 24 = dktX9_areEnough_1 := dk_seg dksX9_areEnough_0 24 rfl rfl
theorem dksX9_areEnough_2 : cX9_areEnough.data.toList.drop 48 = dktX9_areEnough_2 := dk_seg dksX9_areEnough_1 24 rfl rfl
theorem dksX9_areEnough_3 : cX9_areEnough.data.toList.drop 72 = dktX9_areEnough_3 := dk_seg dksX9_areEnough_2 24 rfl rfl
theorem dksX9_areEnough_4 : cX9_areEnough.data.toList.drop 96 = dktX9_areEnough_4 := dk_seg dksX9_areEnough_3 24 rfl rfl
theorem dksX9_areEnough_5 : cX9_areEnough.data.toList.drop 119 = dktX9_areEnough_5 := dk_seg dksX9_areEnough_4 23 rfl rfl
theorem dX9_areEnough_0 : decode cX9_areEnough 0 = .ok (.iconst 0, 1) := dk_3 (dk_at dksX9_areEnough_0 0 rfl rfl)
theorem dX9_areEnough_1 : decode cX9_areEnough 1 = .ok (.istore 4, 2) := dk_54 4 (dk_at dksX9_areEnough_0 1 rfl rfl)
theorem dX9_areEnough_3 : decode cX9_areEnough 3 = .ok (.iload 4, 2) := dk_21 4 (dk_at dksX9_areEnough_0 3 rfl rfl)
theorem dX9_areEnough_5 : decode cX9_areEnough 5 = .ok (.aload_n 0, 1) := dk_42 (dk_at dksX9_areEnough_0 5 rfl rfl)
theorem dX9_areEnough_6 : decode cX9_areEnough 6 = .ok (.getfield 7, 3) := dk_180 0 7 (dk_at dksX9_areEnough_0 6 rfl rfl)
theorem dX9_areEnough_9 : decode cX9_areEnough 9 = .ok (.iconst 4, 1) := dk_7 (dk_at dksX9_areEnough_0 9 rfl rfl)
theorem dX9_areEnough_10 : decode cX9_areEnough 10 = .ok (.iaload, 1) := dk_46 (dk_at dksX9_areEnough_0 10 rfl rfl)
theorem dX9_areEnough_11 : decode cX9_areEnough 11 = .ok (.if_icmp .ge 125, 3) := dk_162 0 125 (dk_at dksX9_areEnough_0 11 rfl rfl)
theorem dX9_areEnough_14 : decode cX9_areEnough 14 = .ok (.iconst 0, 1) := dk_3 (dk_at dksX9_areEnough_0 14 rfl rfl)
theorem dX9_areEnough_15 : decode cX9_areEnough 15 = .ok (.istore 5, 2) := dk_54 5 (dk_at dksX9_areEnough_0 15 rfl rfl)
theorem dX9_areEnough_17 : decode cX9_areEnough 17 = .ok (.iload 5, 2) := dk_21 5 (dk_at dksX9_areEnough_0 17 rfl rfl)
theorem dX9_areEnough_19 : decode cX9_areEnough 19 = .ok (.aload_n 0, 1) := dk_42 (dk_at dksX9_areEnough_0 19 rfl rfl)
theorem dX9_areEnough_20 : decode cX9_areEnough 20 = .ok (.getfield 7, 3) := dk_180 0 7 (dk_at dksX9_areEnough_0 20 rfl rfl)
theorem dX9_areEnough_23 : decode cX9_areEnough 23 = .ok (.iconst 3, 1) := dk_6 (dk_at dksX9_areEnough_0 23 rfl rfl)
theorem dX9_areEnough_24 : decode cX9_areEnough 24 = .ok (.iaload, 1) := dk_46 (dk_at dksX9_areEnough_1 0 rfl rfl)
theorem dX9_areEnough_25 : decode cX9_areEnough 25 = .ok (.if_icmp .ge 105, 3) := dk_162 0 105 (dk_at dksX9_areEnough_1 1 rfl rfl)
theorem dX9_areEnough_28 : decode cX9_areEnough 28 = .ok (.aload_n 0, 1) := dk_42 (dk_at dksX9_areEnough_1 4 rfl rfl)
theorem dX9_areEnough_29 : decode cX9_areEnough 29 = .ok (.iload 4, 2) := dk_21 4 (dk_at dksX9_areEnough_1 5 rfl rfl)
theorem dX9_areEnough_31 : decode cX9_areEnough 31 = .ok (.iload_n 3, 1) := dk_29 (dk_at dksX9_areEnough_1 7 rfl rfl)
theorem dX9_areEnough_32 : decode cX9_areEnough 32 = .ok (.invokevirtual 433, 3) := dk_182 1 177 (dk_at dksX9_areEnough_1 8 rfl rfl)
theorem dX9_areEnough_35 : decode cX9_areEnough 35 = .ok (.ifCond .eq 89, 3) := dk_153 0 89 (dk_at dksX9_areEnough_1 11 rfl rfl)
theorem dX9_areEnough_38 : decode cX9_areEnough 38 = .ok (.aload_n 0, 1) := dk_42 (dk_at dksX9_areEnough_1 14 rfl rfl)
theorem dX9_areEnough_39 : decode cX9_areEnough 39 = .ok (.getfield 72, 3) := dk_180 0 72 (dk_at dksX9_areEnough_1 15 rfl rfl)
theorem dX9_areEnough_42 : decode cX9_areEnough 42 = .ok (.iload 5, 2) := dk_21 5 (dk_at dksX9_areEnough_1 18 rfl rfl)
theorem dX9_areEnough_44 : decode cX9_areEnough 44 = .ok (.baload, 1) := dk_51 (dk_at dksX9_areEnough_1 20 rfl rfl)
theorem dX9_areEnough_45 : decode cX9_areEnough 45 = .ok (.ifCond .eq 6, 3) := dk_153 0 6 (dk_at dksX9_areEnough_1 21 rfl rfl)
theorem dX9_areEnough_48 : decode cX9_areEnough 48 = .ok (.goto 76, 3) := dk_167 0 76 (dk_at dksX9_areEnough_2 0 rfl rfl)
theorem dX9_areEnough_51 : decode cX9_areEnough 51 = .ok (.iload_n 1, 1) := dk_27 (dk_at dksX9_areEnough_2 3 rfl rfl)
theorem dX9_areEnough_52 : decode cX9_areEnough 52 = .ok (.iconst 1, 1) := dk_4 (dk_at dksX9_areEnough_2 4 rfl rfl)
theorem dX9_areEnough_53 : decode cX9_areEnough 53 = .ok (.if_icmp .ne 19, 3) := dk_160 0 19 (dk_at dksX9_areEnough_2 5 rfl rfl)
theorem dX9_areEnough_56 : decode cX9_areEnough 56 = .ok (.aload_n 0, 1) := dk_42 (dk_at dksX9_areEnough_2 8 rfl rfl)
theorem dX9_areEnough_57 : decode cX9_areEnough 57 = .ok (.iconst 0, 1) := dk_3 (dk_at dksX9_areEnough_2 9 rfl rfl)
theorem dX9_areEnough_58 : decode cX9_areEnough 58 = .ok (.iload_n 2, 1) := dk_28 (dk_at dksX9_areEnough_2 10 rfl rfl)
theorem dX9_areEnough_59 : decode cX9_areEnough 59 = .ok (.iload 4, 2) := dk_21 4 (dk_at dksX9_areEnough_2 11 rfl rfl)
theorem dX9_areEnough_61 : decode cX9_areEnough 61 = .ok (.iload 5, 2) := dk_21 5 (dk_at dksX9_areEnough_2 13 rfl rfl)
theorem dX9_areEnough_63 : decode cX9_areEnough 63 = .ok (.invokevirtual 436, 3) := dk_182 1 180 (dk_at dksX9_areEnough_2 15 rfl rfl)
theorem dX9_areEnough_66 : decode cX9_areEnough 66 = .ok (.ifCond .ne 44, 3) := dk_154 0 44 (dk_at dksX9_areEnough_2 18 rfl rfl)
theorem dX9_areEnough_69 : decode cX9_areEnough 69 = .ok (.goto 55, 3) := dk_167 0 55 (dk_at dksX9_areEnough_2 21 rfl rfl)
theorem dX9_areEnough_72 : decode cX9_areEnough 72 = .ok (.iload_n 1, 1) := dk_27 (dk_at dksX9_areEnough_3 0 rfl rfl)
theorem dX9_areEnough_73 : decode cX9_areEnough 73 = .ok (.iconst 2, 1) := dk_5 (dk_at dksX9_areEnough_3 1 rfl rfl)
theorem dX9_areEnough_74 : decode cX9_areEnough 74 = .ok (.if_icmp .ne 20, 3) := dk_160 0 20 (dk_at dksX9_areEnough_3 2 rfl rfl)
theorem dX9_areEnough_77 : decode cX9_areEnough 77 = .ok (.aload_n 0, 1) := dk_42 (dk_at dksX9_areEnough_3 5 rfl rfl)
theorem dX9_areEnough_78 : decode cX9_areEnough 78 = .ok (.iconst 0, 1) := dk_3 (dk_at dksX9_areEnough_3 6 rfl rfl)
theorem dX9_areEnough_79 : decode cX9_areEnough 79 = .ok (.iload_n 2, 1) := dk_28 (dk_at dksX9_areEnough_3 7 rfl rfl)
theorem dX9_areEnough_80 : decode cX9_areEnough 80 = .ok (.iload 4, 2) := dk_21 4 (dk_at dksX9_areEnough_3 8 rfl rfl)
theorem dX9_areEnough_82 : decode cX9_areEnough 82 = .ok (.iload 5, 2) := dk_21 5 (dk_at dksX9_areEnough_3 10 rfl rfl)
theorem dX9_areEnough_84 : decode cX9_areEnough 84 = .ok (.iload_n 3, 1) := dk_29 (dk_at dksX9_areEnough_3 12 rfl rfl)
theorem dX9_areEnough_85 : decode cX9_areEnough 85 = .ok (.invokevirtual 440, 3) := dk_182 1 184 (dk_at dksX9_areEnough_3 13 rfl rfl)
theorem dX9_areEnough_88 : decode cX9_areEnough 88 = .ok (.ifCond .ne 22, 3) := dk_154 0 22 (dk_at dksX9_areEnough_3 16 rfl rfl)
theorem dX9_areEnough_91 : decode cX9_areEnough 91 = .ok (.goto 33, 3) := dk_167 0 33 (dk_at dksX9_areEnough_3 19 rfl rfl)
theorem dX9_areEnough_94 : decode cX9_areEnough 94 = .ok (.aload_n 0, 1) := dk_42 (dk_at dksX9_areEnough_3 22 rfl rfl)
theorem dX9_areEnough_95 : decode cX9_areEnough 95 = .ok (.iload_n 2, 1) := dk_28 (dk_at dksX9_areEnough_3 23 rfl rfl)
theorem dX9_areEnough_96 : decode cX9_areEnough 96 = .ok (.iload 4, 2) := dk_21 4 (dk_at dksX9_areEnough_4 0 rfl rfl)
theorem dX9_areEnough_98 : decode cX9_areEnough 98 = .ok (.iload 5, 2) := dk_21 5 (dk_at dksX9_areEnough_4 2 rfl rfl)
theorem dX9_areEnough_100 : decode cX9_areEnough 100 = .ok (.iload_n 3, 1) := dk_29 (dk_at dksX9_areEnough_4 4 rfl rfl)
theorem dX9_areEnough_101 : decode cX9_areEnough 101 = .ok (.invokevirtual 450, 3) := dk_182 1 194 (dk_at dksX9_areEnough_4 5 rfl rfl)
theorem dX9_areEnough_104 : decode cX9_areEnough 104 = .ok (.ifCond .ne 6, 3) := dk_154 0 6 (dk_at dksX9_areEnough_4 8 rfl rfl)
theorem dX9_areEnough_107 : decode cX9_areEnough 107 = .ok (.goto 17, 3) := dk_167 0 17 (dk_at dksX9_areEnough_4 11 rfl rfl)
theorem dX9_areEnough_110 : decode cX9_areEnough 110 = .ok (.aload_n 0, 1) := dk_42 (dk_at dksX9_areEnough_4 14 rfl rfl)
theorem dX9_areEnough_111 : decode cX9_areEnough 111 = .ok (.iload 4, 2) := dk_21 4 (dk_at dksX9_areEnough_4 15 rfl rfl)
theorem dX9_areEnough_113 : decode cX9_areEnough 113 = .ok (.putfield 79, 3) := dk_181 0 79 (dk_at dksX9_areEnough_4 17 rfl rfl)
theorem dX9_areEnough_116 : decode cX9_areEnough 116 = .ok (.aload_n 0, 1) := dk_42 (dk_at dksX9_areEnough_4 20 rfl rfl)
theorem dX9_areEnough_117 : decode cX9_areEnough 117 = .ok (.iload 5, 2) := dk_21 5 (dk_at dksX9_areEnough_4 21 rfl rfl)
theorem dX9_areEnough_119 : decode cX9_areEnough 119 = .ok (.putfield 453, 3) := dk_181 1 197 (dk_at dksX9_areEnough_5 0 rfl rfl)
theorem dX9_areEnough_122 : decode cX9_areEnough 122 = .ok (.iconst 1, 1) := dk_4 (dk_at dksX9_areEnough_5 3 rfl rfl)
theorem dX9_areEnough_123 : decode cX9_areEnough 123 = .ok (.ireturn, 1) := dk_172 (dk_at dksX9_areEnough_5 4 rfl rfl)
theorem dX9_areEnough_124 : decode cX9_areEnough 124 = .ok (.iinc 5 1, 3) := dk_132 5 1 (dk_at dksX9_areEnough_5 5 rfl rfl)
theorem dX9_areEnough_127 : decode cX9_areEnough 127 = .ok (.goto (-110), 3) := dk_167 255 146 (dk_at dksX9_areEnough_5 8 rfl rfl)
theorem dX9_areEnough_130 : decode cX9_areEnough 130 = .ok (.iinc 4 1, 3) := dk_132 4 1 (dk_at dksX9_areEnough_5 11 rfl rfl)
theorem dX9_areEnough_133 : decode cX9_areEnough 133 = .ok (.goto (-130), 3) := dk_167 255 126 (dk_at dksX9_areEnough_5 14 rfl rfl)
theorem dX9_areEnough_136 : decode cX9_areEnough 136 = .ok (.iconst 0, 1) := dk_3 (dk_at dksX9_areEnough_5 17 rfl rfl)
theorem dX9_areEnough_137 : decode cX9_areEnough 137 = .ok (.ireturn, 1) := dk_172 (dk_at dksX9_areEnough_5 18 rfl rfl)
abbrev cX9_isAsked : ByteArray := prog_19_method_120_code
def yX9_isAsked : MethodName := ⟨RX9, "isAsked", "(II)Z"⟩
def dkwX9_isAsked_0 : List UInt8 := [28, 2, 159, 0, 8, 28, 27, 160, 0, 7, 4, 167, 0, 4, 3, 172]
abbrev dktX9_isAsked_0 : List UInt8 := dkwX9_isAsked_0 ++ []
theorem dksX9_isAsked_0 : cX9_isAsked.data.toList.drop 0 = dktX9_isAsked_0 := by decide +kernel
theorem dX9_isAsked_0 : decode cX9_isAsked 0 = .ok (.iload_n 2, 1) := dk_28 (dk_at dksX9_isAsked_0 0 rfl rfl)
theorem dX9_isAsked_1 : decode cX9_isAsked 1 = .ok (.iconst (-1), 1) := dk_2 (dk_at dksX9_isAsked_0 1 rfl rfl)
theorem dX9_isAsked_2 : decode cX9_isAsked 2 = .ok (.if_icmp .eq 8, 3) := dk_159 0 8 (dk_at dksX9_isAsked_0 2 rfl rfl)
theorem dX9_isAsked_5 : decode cX9_isAsked 5 = .ok (.iload_n 2, 1) := dk_28 (dk_at dksX9_isAsked_0 5 rfl rfl)
theorem dX9_isAsked_6 : decode cX9_isAsked 6 = .ok (.iload_n 1, 1) := dk_27 (dk_at dksX9_isAsked_0 6 rfl rfl)
theorem dX9_isAsked_7 : decode cX9_isAsked 7 = .ok (.if_icmp .ne 7, 3) := dk_160 0 7 (dk_at dksX9_isAsked_0 7 rfl rfl)
theorem dX9_isAsked_10 : decode cX9_isAsked 10 = .ok (.iconst 1, 1) := dk_4 (dk_at dksX9_isAsked_0 10 rfl rfl)
theorem dX9_isAsked_11 : decode cX9_isAsked 11 = .ok (.goto 4, 3) := dk_167 0 4 (dk_at dksX9_isAsked_0 11 rfl rfl)
theorem dX9_isAsked_14 : decode cX9_isAsked 14 = .ok (.iconst 0, 1) := dk_3 (dk_at dksX9_isAsked_0 14 rfl rfl)
theorem dX9_isAsked_15 : decode cX9_isAsked 15 = .ok (.ireturn, 1) := dk_172 (dk_at dksX9_isAsked_0 15 rfl rfl)
abbrev cX9_oneIs : ByteArray := prog_19_method_122_code
def yX9_oneIs : MethodName := ⟨RX9, "oneIs", "(IIII)Z"⟩
def dkwX9_oneIs_2 : List UInt8 := [167, 255, 213, 4, 172]
abbrev dktX9_oneIs_2 : List UInt8 := dkwX9_oneIs_2 ++ []
def dkwX9_oneIs_1 : List UInt8 := [182, 1, 165, 158, 0, 17, 42, 27, 4, 96, 28, 182, 1, 138, 2, 160, 0, 5, 3, 172, 132, 5, 1]
abbrev dktX9_oneIs_1 : List UInt8 := dkwX9_oneIs_1 ++ dktX9_oneIs_2
def dkwX9_oneIs_0 : List UInt8 := [3, 54, 5, 21, 5, 5, 42, 180, 0, 7, 6, 46, 104, 162, 0, 36, 42, 27, 29, 21, 4, 21, 5]
abbrev dktX9_oneIs_0 : List UInt8 := dkwX9_oneIs_0 ++ dktX9_oneIs_1
theorem dksX9_oneIs_0 : cX9_oneIs.data.toList.drop 0 = dktX9_oneIs_0 := by decide +kernel
theorem dksX9_oneIs_1 : cX9_oneIs.data.toList.drop 23 = dktX9_oneIs_1 := dk_seg dksX9_oneIs_0 23 rfl rfl
theorem dksX9_oneIs_2 : cX9_oneIs.data.toList.drop 46 = dktX9_oneIs_2 := dk_seg dksX9_oneIs_1 23 rfl rfl
theorem dX9_oneIs_0 : decode cX9_oneIs 0 = .ok (.iconst 0, 1) := dk_3 (dk_at dksX9_oneIs_0 0 rfl rfl)
theorem dX9_oneIs_1 : decode cX9_oneIs 1 = .ok (.istore 5, 2) := dk_54 5 (dk_at dksX9_oneIs_0 1 rfl rfl)
theorem dX9_oneIs_3 : decode cX9_oneIs 3 = .ok (.iload 5, 2) := dk_21 5 (dk_at dksX9_oneIs_0 3 rfl rfl)
theorem dX9_oneIs_5 : decode cX9_oneIs 5 = .ok (.iconst 2, 1) := dk_5 (dk_at dksX9_oneIs_0 5 rfl rfl)
theorem dX9_oneIs_6 : decode cX9_oneIs 6 = .ok (.aload_n 0, 1) := dk_42 (dk_at dksX9_oneIs_0 6 rfl rfl)
theorem dX9_oneIs_7 : decode cX9_oneIs 7 = .ok (.getfield 7, 3) := dk_180 0 7 (dk_at dksX9_oneIs_0 7 rfl rfl)
theorem dX9_oneIs_10 : decode cX9_oneIs 10 = .ok (.iconst 3, 1) := dk_6 (dk_at dksX9_oneIs_0 10 rfl rfl)
theorem dX9_oneIs_11 : decode cX9_oneIs 11 = .ok (.iaload, 1) := dk_46 (dk_at dksX9_oneIs_0 11 rfl rfl)
theorem dX9_oneIs_12 : decode cX9_oneIs 12 = .ok (.imul, 1) := dk_104 (dk_at dksX9_oneIs_0 12 rfl rfl)
theorem dX9_oneIs_13 : decode cX9_oneIs 13 = .ok (.if_icmp .ge 36, 3) := dk_162 0 36 (dk_at dksX9_oneIs_0 13 rfl rfl)
theorem dX9_oneIs_16 : decode cX9_oneIs 16 = .ok (.aload_n 0, 1) := dk_42 (dk_at dksX9_oneIs_0 16 rfl rfl)
theorem dX9_oneIs_17 : decode cX9_oneIs 17 = .ok (.iload_n 1, 1) := dk_27 (dk_at dksX9_oneIs_0 17 rfl rfl)
theorem dX9_oneIs_18 : decode cX9_oneIs 18 = .ok (.iload_n 3, 1) := dk_29 (dk_at dksX9_oneIs_0 18 rfl rfl)
theorem dX9_oneIs_19 : decode cX9_oneIs 19 = .ok (.iload 4, 2) := dk_21 4 (dk_at dksX9_oneIs_0 19 rfl rfl)
theorem dX9_oneIs_21 : decode cX9_oneIs 21 = .ok (.iload 5, 2) := dk_21 5 (dk_at dksX9_oneIs_0 21 rfl rfl)
theorem dX9_oneIs_23 : decode cX9_oneIs 23 = .ok (.invokevirtual 421, 3) := dk_182 1 165 (dk_at dksX9_oneIs_1 0 rfl rfl)
theorem dX9_oneIs_26 : decode cX9_oneIs 26 = .ok (.ifCond .le 17, 3) := dk_158 0 17 (dk_at dksX9_oneIs_1 3 rfl rfl)
theorem dX9_oneIs_29 : decode cX9_oneIs 29 = .ok (.aload_n 0, 1) := dk_42 (dk_at dksX9_oneIs_1 6 rfl rfl)
theorem dX9_oneIs_30 : decode cX9_oneIs 30 = .ok (.iload_n 1, 1) := dk_27 (dk_at dksX9_oneIs_1 7 rfl rfl)
theorem dX9_oneIs_31 : decode cX9_oneIs 31 = .ok (.iconst 1, 1) := dk_4 (dk_at dksX9_oneIs_1 8 rfl rfl)
theorem dX9_oneIs_32 : decode cX9_oneIs 32 = .ok (.iadd, 1) := dk_96 (dk_at dksX9_oneIs_1 9 rfl rfl)
theorem dX9_oneIs_33 : decode cX9_oneIs 33 = .ok (.iload_n 2, 1) := dk_28 (dk_at dksX9_oneIs_1 10 rfl rfl)
theorem dX9_oneIs_34 : decode cX9_oneIs 34 = .ok (.invokevirtual 394, 3) := dk_182 1 138 (dk_at dksX9_oneIs_1 11 rfl rfl)
theorem dX9_oneIs_37 : decode cX9_oneIs 37 = .ok (.iconst (-1), 1) := dk_2 (dk_at dksX9_oneIs_1 14 rfl rfl)
theorem dX9_oneIs_38 : decode cX9_oneIs 38 = .ok (.if_icmp .ne 5, 3) := dk_160 0 5 (dk_at dksX9_oneIs_1 15 rfl rfl)
theorem dX9_oneIs_41 : decode cX9_oneIs 41 = .ok (.iconst 0, 1) := dk_3 (dk_at dksX9_oneIs_1 18 rfl rfl)
theorem dX9_oneIs_42 : decode cX9_oneIs 42 = .ok (.ireturn, 1) := dk_172 (dk_at dksX9_oneIs_1 19 rfl rfl)
theorem dX9_oneIs_43 : decode cX9_oneIs 43 = .ok (.iinc 5 1, 3) := dk_132 5 1 (dk_at dksX9_oneIs_1 20 rfl rfl)
theorem dX9_oneIs_46 : decode cX9_oneIs 46 = .ok (.goto (-43), 3) := dk_167 255 213 (dk_at dksX9_oneIs_2 0 rfl rfl)
theorem dX9_oneIs_49 : decode cX9_oneIs 49 = .ok (.iconst 1, 1) := dk_4 (dk_at dksX9_oneIs_2 3 rfl rfl)
theorem dX9_oneIs_50 : decode cX9_oneIs 50 = .ok (.ireturn, 1) := dk_172 (dk_at dksX9_oneIs_2 4 rfl rfl)
abbrev cX9_twoAre : ByteArray := prog_19_method_124_code
def yX9_twoAre : MethodName := ⟨RX9, "twoAre", "(IIIII)Z"⟩
def dkwX9_twoAre_3 : List UInt8 := [167, 0, 4, 3, 54, 6, 132, 7, 1, 167, 255, 190, 42, 180, 0, 72, 21, 4, 3, 84, 21, 6, 172]
abbrev dktX9_twoAre_3 : List UInt8 := dkwX9_twoAre_3 ++ []
def dkwX9_twoAre_2 : List UInt8 := [96, 28, 182, 1, 138, 2, 160, 0, 16, 42, 27, 4, 96, 28, 21, 5, 182, 1, 188, 153, 0, 7, 4]
abbrev dktX9_twoAre_2 : List UInt8 := dkwX9_twoAre_2 ++ dktX9_twoAre_3
def dkwX9_twoAre_1 : List UInt8 := [162, 0, 59, 21, 6, 153, 0, 54, 42, 27, 29, 21, 4, 21, 7, 182, 1, 165, 158, 0, 35, 42, 27, 4]
abbrev dktX9_twoAre_1 : List UInt8 := dkwX9_twoAre_1 ++ dktX9_twoAre_2
def dkwX9_twoAre_0 : List UInt8 := [42, 180, 0, 72, 21, 4, 4, 84, 4, 54, 6, 3, 54, 7, 21, 7, 5, 42, 180, 0, 7, 6, 46, 104]
abbrev dktX9_twoAre_0 : List UInt8 := dkwX9_twoAre_0 ++ dktX9_twoAre_1
theorem dksX9_twoAre_0 : cX9_twoAre.data.toList.drop 0 = dktX9_twoAre_0 := by decide +kernel
theorem dksX9_twoAre_1 : cX9_twoAre.data.toList.drop 24 = dktX9_twoAre_1 := dk_seg dksX9_twoAre_0 24 rfl rfl
theorem dksX9_twoAre_2 : cX9_twoAre.data.toList.drop 48 = dktX9_twoAre_2 := dk_seg dksX9_twoAre_1 24 rfl rfl
theorem dksX9_twoAre_3 : cX9_twoAre.data.toList.drop 71 = dktX9_twoAre_3 := dk_seg dksX9_twoAre_2 23 rfl rfl
theorem dX9_twoAre_0 : decode cX9_twoAre 0 = .ok (.aload_n 0, 1) := dk_42 (dk_at dksX9_twoAre_0 0 rfl rfl)
theorem dX9_twoAre_1 : decode cX9_twoAre 1 = .ok (.getfield 72, 3) := dk_180 0 72 (dk_at dksX9_twoAre_0 1 rfl rfl)
theorem dX9_twoAre_4 : decode cX9_twoAre 4 = .ok (.iload 4, 2) := dk_21 4 (dk_at dksX9_twoAre_0 4 rfl rfl)
theorem dX9_twoAre_6 : decode cX9_twoAre 6 = .ok (.iconst 1, 1) := dk_4 (dk_at dksX9_twoAre_0 6 rfl rfl)
theorem dX9_twoAre_7 : decode cX9_twoAre 7 = .ok (.bastore, 1) := dk_84 (dk_at dksX9_twoAre_0 7 rfl rfl)
theorem dX9_twoAre_8 : decode cX9_twoAre 8 = .ok (.iconst 1, 1) := dk_4 (dk_at dksX9_twoAre_0 8 rfl rfl)
theorem dX9_twoAre_9 : decode cX9_twoAre 9 = .ok (.istore 6, 2) := dk_54 6 (dk_at dksX9_twoAre_0 9 rfl rfl)
theorem dX9_twoAre_11 : decode cX9_twoAre 11 = .ok (.iconst 0, 1) := dk_3 (dk_at dksX9_twoAre_0 11 rfl rfl)
theorem dX9_twoAre_12 : decode cX9_twoAre 12 = .ok (.istore 7, 2) := dk_54 7 (dk_at dksX9_twoAre_0 12 rfl rfl)
theorem dX9_twoAre_14 : decode cX9_twoAre 14 = .ok (.iload 7, 2) := dk_21 7 (dk_at dksX9_twoAre_0 14 rfl rfl)
theorem dX9_twoAre_16 : decode cX9_twoAre 16 = .ok (.iconst 2, 1) := dk_5 (dk_at dksX9_twoAre_0 16 rfl rfl)
theorem dX9_twoAre_17 : decode cX9_twoAre 17 = .ok (.aload_n 0, 1) := dk_42 (dk_at dksX9_twoAre_0 17 rfl rfl)
theorem dX9_twoAre_18 : decode cX9_twoAre 18 = .ok (.getfield 7, 3) := dk_180 0 7 (dk_at dksX9_twoAre_0 18 rfl rfl)
theorem dX9_twoAre_21 : decode cX9_twoAre 21 = .ok (.iconst 3, 1) := dk_6 (dk_at dksX9_twoAre_0 21 rfl rfl)
theorem dX9_twoAre_22 : decode cX9_twoAre 22 = .ok (.iaload, 1) := dk_46 (dk_at dksX9_twoAre_0 22 rfl rfl)
theorem dX9_twoAre_23 : decode cX9_twoAre 23 = .ok (.imul, 1) := dk_104 (dk_at dksX9_twoAre_0 23 rfl rfl)
theorem dX9_twoAre_24 : decode cX9_twoAre 24 = .ok (.if_icmp .ge 59, 3) := dk_162 0 59 (dk_at dksX9_twoAre_1 0 rfl rfl)
theorem dX9_twoAre_27 : decode cX9_twoAre 27 = .ok (.iload 6, 2) := dk_21 6 (dk_at dksX9_twoAre_1 3 rfl rfl)
theorem dX9_twoAre_29 : decode cX9_twoAre 29 = .ok (.ifCond .eq 54, 3) := dk_153 0 54 (dk_at dksX9_twoAre_1 5 rfl rfl)
theorem dX9_twoAre_32 : decode cX9_twoAre 32 = .ok (.aload_n 0, 1) := dk_42 (dk_at dksX9_twoAre_1 8 rfl rfl)
theorem dX9_twoAre_33 : decode cX9_twoAre 33 = .ok (.iload_n 1, 1) := dk_27 (dk_at dksX9_twoAre_1 9 rfl rfl)
theorem dX9_twoAre_34 : decode cX9_twoAre 34 = .ok (.iload_n 3, 1) := dk_29 (dk_at dksX9_twoAre_1 10 rfl rfl)
theorem dX9_twoAre_35 : decode cX9_twoAre 35 = .ok (.iload 4, 2) := dk_21 4 (dk_at dksX9_twoAre_1 11 rfl rfl)
theorem dX9_twoAre_37 : decode cX9_twoAre 37 = .ok (.iload 7, 2) := dk_21 7 (dk_at dksX9_twoAre_1 13 rfl rfl)
theorem dX9_twoAre_39 : decode cX9_twoAre 39 = .ok (.invokevirtual 421, 3) := dk_182 1 165 (dk_at dksX9_twoAre_1 15 rfl rfl)
theorem dX9_twoAre_42 : decode cX9_twoAre 42 = .ok (.ifCond .le 35, 3) := dk_158 0 35 (dk_at dksX9_twoAre_1 18 rfl rfl)
theorem dX9_twoAre_45 : decode cX9_twoAre 45 = .ok (.aload_n 0, 1) := dk_42 (dk_at dksX9_twoAre_1 21 rfl rfl)
theorem dX9_twoAre_46 : decode cX9_twoAre 46 = .ok (.iload_n 1, 1) := dk_27 (dk_at dksX9_twoAre_1 22 rfl rfl)
theorem dX9_twoAre_47 : decode cX9_twoAre 47 = .ok (.iconst 1, 1) := dk_4 (dk_at dksX9_twoAre_1 23 rfl rfl)
theorem dX9_twoAre_48 : decode cX9_twoAre 48 = .ok (.iadd, 1) := dk_96 (dk_at dksX9_twoAre_2 0 rfl rfl)
theorem dX9_twoAre_49 : decode cX9_twoAre 49 = .ok (.iload_n 2, 1) := dk_28 (dk_at dksX9_twoAre_2 1 rfl rfl)
theorem dX9_twoAre_50 : decode cX9_twoAre 50 = .ok (.invokevirtual 394, 3) := dk_182 1 138 (dk_at dksX9_twoAre_2 2 rfl rfl)
theorem dX9_twoAre_53 : decode cX9_twoAre 53 = .ok (.iconst (-1), 1) := dk_2 (dk_at dksX9_twoAre_2 5 rfl rfl)
theorem dX9_twoAre_54 : decode cX9_twoAre 54 = .ok (.if_icmp .ne 16, 3) := dk_160 0 16 (dk_at dksX9_twoAre_2 6 rfl rfl)
theorem dX9_twoAre_57 : decode cX9_twoAre 57 = .ok (.aload_n 0, 1) := dk_42 (dk_at dksX9_twoAre_2 9 rfl rfl)
theorem dX9_twoAre_58 : decode cX9_twoAre 58 = .ok (.iload_n 1, 1) := dk_27 (dk_at dksX9_twoAre_2 10 rfl rfl)
theorem dX9_twoAre_59 : decode cX9_twoAre 59 = .ok (.iconst 1, 1) := dk_4 (dk_at dksX9_twoAre_2 11 rfl rfl)
theorem dX9_twoAre_60 : decode cX9_twoAre 60 = .ok (.iadd, 1) := dk_96 (dk_at dksX9_twoAre_2 12 rfl rfl)
theorem dX9_twoAre_61 : decode cX9_twoAre 61 = .ok (.iload_n 2, 1) := dk_28 (dk_at dksX9_twoAre_2 13 rfl rfl)
theorem dX9_twoAre_62 : decode cX9_twoAre 62 = .ok (.iload 5, 2) := dk_21 5 (dk_at dksX9_twoAre_2 14 rfl rfl)
theorem dX9_twoAre_64 : decode cX9_twoAre 64 = .ok (.invokevirtual 444, 3) := dk_182 1 188 (dk_at dksX9_twoAre_2 16 rfl rfl)
theorem dX9_twoAre_67 : decode cX9_twoAre 67 = .ok (.ifCond .eq 7, 3) := dk_153 0 7 (dk_at dksX9_twoAre_2 19 rfl rfl)
theorem dX9_twoAre_70 : decode cX9_twoAre 70 = .ok (.iconst 1, 1) := dk_4 (dk_at dksX9_twoAre_2 22 rfl rfl)
theorem dX9_twoAre_71 : decode cX9_twoAre 71 = .ok (.goto 4, 3) := dk_167 0 4 (dk_at dksX9_twoAre_3 0 rfl rfl)
theorem dX9_twoAre_74 : decode cX9_twoAre 74 = .ok (.iconst 0, 1) := dk_3 (dk_at dksX9_twoAre_3 3 rfl rfl)
theorem dX9_twoAre_75 : decode cX9_twoAre 75 = .ok (.istore 6, 2) := dk_54 6 (dk_at dksX9_twoAre_3 4 rfl rfl)
theorem dX9_twoAre_77 : decode cX9_twoAre 77 = .ok (.iinc 7 1, 3) := dk_132 7 1 (dk_at dksX9_twoAre_3 6 rfl rfl)
theorem dX9_twoAre_80 : decode cX9_twoAre 80 = .ok (.goto (-66), 3) := dk_167 255 190 (dk_at dksX9_twoAre_3 9 rfl rfl)
theorem dX9_twoAre_83 : decode cX9_twoAre 83 = .ok (.aload_n 0, 1) := dk_42 (dk_at dksX9_twoAre_3 12 rfl rfl)
theorem dX9_twoAre_84 : decode cX9_twoAre 84 = .ok (.getfield 72, 3) := dk_180 0 72 (dk_at dksX9_twoAre_3 13 rfl rfl)
theorem dX9_twoAre_87 : decode cX9_twoAre 87 = .ok (.iload 4, 2) := dk_21 4 (dk_at dksX9_twoAre_3 16 rfl rfl)
theorem dX9_twoAre_89 : decode cX9_twoAre 89 = .ok (.iconst 0, 1) := dk_3 (dk_at dksX9_twoAre_3 18 rfl rfl)
theorem dX9_twoAre_90 : decode cX9_twoAre 90 = .ok (.bastore, 1) := dk_84 (dk_at dksX9_twoAre_3 19 rfl rfl)
theorem dX9_twoAre_91 : decode cX9_twoAre 91 = .ok (.iload 6, 2) := dk_21 6 (dk_at dksX9_twoAre_3 20 rfl rfl)
theorem dX9_twoAre_93 : decode cX9_twoAre 93 = .ok (.ireturn, 1) := dk_172 (dk_at dksX9_twoAre_3 22 rfl rfl)
abbrev cX9_byOne : ByteArray := prog_19_method_121_code
def yX9_byOne : MethodName := ⟨RX9, "byOne", "(III)Z"⟩
def dkwX9_byOne_3 : List UInt8 := [167, 255, 187, 3, 172]
abbrev dktX9_byOne_3 : List UInt8 := dkwX9_byOne_3 ++ []
def dkwX9_byOne_2 : List UInt8 := [42, 27, 28, 21, 4, 21, 5, 182, 1, 180, 153, 0, 5, 4, 172, 132, 5, 1, 167, 255, 207, 132, 4, 1]
abbrev dktX9_byOne_2 : List UInt8 := dkwX9_byOne_2 ++ dktX9_byOne_3
def dkwX9_byOne_1 : List UInt8 := [46, 162, 0, 44, 42, 21, 4, 29, 182, 1, 177, 153, 0, 28, 42, 180, 0, 72, 21, 5, 51, 154, 0, 18]
abbrev dktX9_byOne_1 : List UInt8 := dkwX9_byOne_1 ++ dktX9_byOne_2
def dkwX9_byOne_0 : List UInt8 := [3, 54, 4, 21, 4, 42, 180, 0, 7, 7, 46, 162, 0, 64, 3, 54, 5, 21, 5, 42, 180, 0, 7, 6]
abbrev dktX9_byOne_0 : List UInt8 := dkwX9_byOne_0 ++ dktX9_byOne_1
theorem dksX9_byOne_0 : cX9_byOne.data.toList.drop 0 = dktX9_byOne_0 := by decide +kernel
theorem dksX9_byOne_1 : cX9_byOne.data.toList.drop 24 = dktX9_byOne_1 := dk_seg dksX9_byOne_0 24 rfl rfl
theorem dksX9_byOne_2 : cX9_byOne.data.toList.drop 48 = dktX9_byOne_2 := dk_seg dksX9_byOne_1 24 rfl rfl
theorem dksX9_byOne_3 : cX9_byOne.data.toList.drop 72 = dktX9_byOne_3 := dk_seg dksX9_byOne_2 24 rfl rfl
theorem dX9_byOne_0 : decode cX9_byOne 0 = .ok (.iconst 0, 1) := dk_3 (dk_at dksX9_byOne_0 0 rfl rfl)
theorem dX9_byOne_1 : decode cX9_byOne 1 = .ok (.istore 4, 2) := dk_54 4 (dk_at dksX9_byOne_0 1 rfl rfl)
theorem dX9_byOne_3 : decode cX9_byOne 3 = .ok (.iload 4, 2) := dk_21 4 (dk_at dksX9_byOne_0 3 rfl rfl)
theorem dX9_byOne_5 : decode cX9_byOne 5 = .ok (.aload_n 0, 1) := dk_42 (dk_at dksX9_byOne_0 5 rfl rfl)
theorem dX9_byOne_6 : decode cX9_byOne 6 = .ok (.getfield 7, 3) := dk_180 0 7 (dk_at dksX9_byOne_0 6 rfl rfl)
theorem dX9_byOne_9 : decode cX9_byOne 9 = .ok (.iconst 4, 1) := dk_7 (dk_at dksX9_byOne_0 9 rfl rfl)
theorem dX9_byOne_10 : decode cX9_byOne 10 = .ok (.iaload, 1) := dk_46 (dk_at dksX9_byOne_0 10 rfl rfl)
theorem dX9_byOne_11 : decode cX9_byOne 11 = .ok (.if_icmp .ge 64, 3) := dk_162 0 64 (dk_at dksX9_byOne_0 11 rfl rfl)
theorem dX9_byOne_14 : decode cX9_byOne 14 = .ok (.iconst 0, 1) := dk_3 (dk_at dksX9_byOne_0 14 rfl rfl)
theorem dX9_byOne_15 : decode cX9_byOne 15 = .ok (.istore 5, 2) := dk_54 5 (dk_at dksX9_byOne_0 15 rfl rfl)
theorem dX9_byOne_17 : decode cX9_byOne 17 = .ok (.iload 5, 2) := dk_21 5 (dk_at dksX9_byOne_0 17 rfl rfl)
theorem dX9_byOne_19 : decode cX9_byOne 19 = .ok (.aload_n 0, 1) := dk_42 (dk_at dksX9_byOne_0 19 rfl rfl)
theorem dX9_byOne_20 : decode cX9_byOne 20 = .ok (.getfield 7, 3) := dk_180 0 7 (dk_at dksX9_byOne_0 20 rfl rfl)
theorem dX9_byOne_23 : decode cX9_byOne 23 = .ok (.iconst 3, 1) := dk_6 (dk_at dksX9_byOne_0 23 rfl rfl)
theorem dX9_byOne_24 : decode cX9_byOne 24 = .ok (.iaload, 1) := dk_46 (dk_at dksX9_byOne_1 0 rfl rfl)
theorem dX9_byOne_25 : decode cX9_byOne 25 = .ok (.if_icmp .ge 44, 3) := dk_162 0 44 (dk_at dksX9_byOne_1 1 rfl rfl)
theorem dX9_byOne_28 : decode cX9_byOne 28 = .ok (.aload_n 0, 1) := dk_42 (dk_at dksX9_byOne_1 4 rfl rfl)
theorem dX9_byOne_29 : decode cX9_byOne 29 = .ok (.iload 4, 2) := dk_21 4 (dk_at dksX9_byOne_1 5 rfl rfl)
theorem dX9_byOne_31 : decode cX9_byOne 31 = .ok (.iload_n 3, 1) := dk_29 (dk_at dksX9_byOne_1 7 rfl rfl)
theorem dX9_byOne_32 : decode cX9_byOne 32 = .ok (.invokevirtual 433, 3) := dk_182 1 177 (dk_at dksX9_byOne_1 8 rfl rfl)
theorem dX9_byOne_35 : decode cX9_byOne 35 = .ok (.ifCond .eq 28, 3) := dk_153 0 28 (dk_at dksX9_byOne_1 11 rfl rfl)
theorem dX9_byOne_38 : decode cX9_byOne 38 = .ok (.aload_n 0, 1) := dk_42 (dk_at dksX9_byOne_1 14 rfl rfl)
theorem dX9_byOne_39 : decode cX9_byOne 39 = .ok (.getfield 72, 3) := dk_180 0 72 (dk_at dksX9_byOne_1 15 rfl rfl)
theorem dX9_byOne_42 : decode cX9_byOne 42 = .ok (.iload 5, 2) := dk_21 5 (dk_at dksX9_byOne_1 18 rfl rfl)
theorem dX9_byOne_44 : decode cX9_byOne 44 = .ok (.baload, 1) := dk_51 (dk_at dksX9_byOne_1 20 rfl rfl)
theorem dX9_byOne_45 : decode cX9_byOne 45 = .ok (.ifCond .ne 18, 3) := dk_154 0 18 (dk_at dksX9_byOne_1 21 rfl rfl)
theorem dX9_byOne_48 : decode cX9_byOne 48 = .ok (.aload_n 0, 1) := dk_42 (dk_at dksX9_byOne_2 0 rfl rfl)
theorem dX9_byOne_49 : decode cX9_byOne 49 = .ok (.iload_n 1, 1) := dk_27 (dk_at dksX9_byOne_2 1 rfl rfl)
theorem dX9_byOne_50 : decode cX9_byOne 50 = .ok (.iload_n 2, 1) := dk_28 (dk_at dksX9_byOne_2 2 rfl rfl)
theorem dX9_byOne_51 : decode cX9_byOne 51 = .ok (.iload 4, 2) := dk_21 4 (dk_at dksX9_byOne_2 3 rfl rfl)
theorem dX9_byOne_53 : decode cX9_byOne 53 = .ok (.iload 5, 2) := dk_21 5 (dk_at dksX9_byOne_2 5 rfl rfl)
theorem dX9_byOne_55 : decode cX9_byOne 55 = .ok (.invokevirtual 436, 3) := dk_182 1 180 (dk_at dksX9_byOne_2 7 rfl rfl)
theorem dX9_byOne_58 : decode cX9_byOne 58 = .ok (.ifCond .eq 5, 3) := dk_153 0 5 (dk_at dksX9_byOne_2 10 rfl rfl)
theorem dX9_byOne_61 : decode cX9_byOne 61 = .ok (.iconst 1, 1) := dk_4 (dk_at dksX9_byOne_2 13 rfl rfl)
theorem dX9_byOne_62 : decode cX9_byOne 62 = .ok (.ireturn, 1) := dk_172 (dk_at dksX9_byOne_2 14 rfl rfl)
theorem dX9_byOne_63 : decode cX9_byOne 63 = .ok (.iinc 5 1, 3) := dk_132 5 1 (dk_at dksX9_byOne_2 15 rfl rfl)
theorem dX9_byOne_66 : decode cX9_byOne 66 = .ok (.goto (-49), 3) := dk_167 255 207 (dk_at dksX9_byOne_2 18 rfl rfl)
theorem dX9_byOne_69 : decode cX9_byOne 69 = .ok (.iinc 4 1, 3) := dk_132 4 1 (dk_at dksX9_byOne_2 21 rfl rfl)
theorem dX9_byOne_72 : decode cX9_byOne 72 = .ok (.goto (-69), 3) := dk_167 255 187 (dk_at dksX9_byOne_3 0 rfl rfl)
theorem dX9_byOne_75 : decode cX9_byOne 75 = .ok (.iconst 0, 1) := dk_3 (dk_at dksX9_byOne_3 3 rfl rfl)
theorem dX9_byOne_76 : decode cX9_byOne 76 = .ok (.ireturn, 1) := dk_172 (dk_at dksX9_byOne_3 4 rfl rfl)
abbrev cX9_threeAre : ByteArray := prog_19_method_125_code
def yX9_threeAre : MethodName := ⟨RX9, "threeAre", "(IIII)Z"⟩
def dkwX9_threeAre_3 : List UInt8 := [54, 5, 132, 6, 1, 167, 255, 195, 42, 180, 0, 72, 29, 3, 84, 21, 5, 172]
abbrev dktX9_threeAre_3 : List UInt8 := dkwX9_threeAre_3 ++ []
def dkwX9_threeAre_2 : List UInt8 := [182, 1, 138, 2, 160, 0, 14, 42, 4, 27, 21, 4, 182, 1, 191, 153, 0, 7, 4, 167, 0, 4, 3]
abbrev dktX9_threeAre_2 : List UInt8 := dkwX9_threeAre_2 ++ dktX9_threeAre_3
def dkwX9_threeAre_1 : List UInt8 := [162, 0, 54, 21, 5, 153, 0, 49, 42, 3, 28, 29, 21, 6, 182, 1, 165, 158, 0, 31, 42, 4, 27]
abbrev dktX9_threeAre_1 : List UInt8 := dkwX9_threeAre_1 ++ dktX9_threeAre_2
def dkwX9_threeAre_0 : List UInt8 := [42, 180, 0, 72, 29, 4, 84, 4, 54, 5, 3, 54, 6, 21, 6, 5, 42, 180, 0, 7, 6, 46, 104]
abbrev dktX9_threeAre_0 : List UInt8 := dkwX9_threeAre_0 ++ dktX9_threeAre_1
theorem dksX9_threeAre_0 : cX9_threeAre.data.toList.drop 0 = dktX9_threeAre_0 := by decide +kernel
theorem dksX9_threeAre_1 : cX9_threeAre.data.toList.drop 23 = dktX9_threeAre_1 := dk_seg dksX9_threeAre_0 23 rfl rfl
theorem dksX9_threeAre_2 : cX9_threeAre.data.toList.drop 46 = dktX9_threeAre_2 := dk_seg dksX9_threeAre_1 23 rfl rfl
theorem dksX9_threeAre_3 : cX9_threeAre.data.toList.drop 69 = dktX9_threeAre_3 := dk_seg dksX9_threeAre_2 23 rfl rfl
theorem dX9_threeAre_0 : decode cX9_threeAre 0 = .ok (.aload_n 0, 1) := dk_42 (dk_at dksX9_threeAre_0 0 rfl rfl)
theorem dX9_threeAre_1 : decode cX9_threeAre 1 = .ok (.getfield 72, 3) := dk_180 0 72 (dk_at dksX9_threeAre_0 1 rfl rfl)
theorem dX9_threeAre_4 : decode cX9_threeAre 4 = .ok (.iload_n 3, 1) := dk_29 (dk_at dksX9_threeAre_0 4 rfl rfl)
theorem dX9_threeAre_5 : decode cX9_threeAre 5 = .ok (.iconst 1, 1) := dk_4 (dk_at dksX9_threeAre_0 5 rfl rfl)
theorem dX9_threeAre_6 : decode cX9_threeAre 6 = .ok (.bastore, 1) := dk_84 (dk_at dksX9_threeAre_0 6 rfl rfl)
theorem dX9_threeAre_7 : decode cX9_threeAre 7 = .ok (.iconst 1, 1) := dk_4 (dk_at dksX9_threeAre_0 7 rfl rfl)
theorem dX9_threeAre_8 : decode cX9_threeAre 8 = .ok (.istore 5, 2) := dk_54 5 (dk_at dksX9_threeAre_0 8 rfl rfl)
theorem dX9_threeAre_10 : decode cX9_threeAre 10 = .ok (.iconst 0, 1) := dk_3 (dk_at dksX9_threeAre_0 10 rfl rfl)
theorem dX9_threeAre_11 : decode cX9_threeAre 11 = .ok (.istore 6, 2) := dk_54 6 (dk_at dksX9_threeAre_0 11 rfl rfl)
theorem dX9_threeAre_13 : decode cX9_threeAre 13 = .ok (.iload 6, 2) := dk_21 6 (dk_at dksX9_threeAre_0 13 rfl rfl)
theorem dX9_threeAre_15 : decode cX9_threeAre 15 = .ok (.iconst 2, 1) := dk_5 (dk_at dksX9_threeAre_0 15 rfl rfl)
theorem dX9_threeAre_16 : decode cX9_threeAre 16 = .ok (.aload_n 0, 1) := dk_42 (dk_at dksX9_threeAre_0 16 rfl rfl)
theorem dX9_threeAre_17 : decode cX9_threeAre 17 = .ok (.getfield 7, 3) := dk_180 0 7 (dk_at dksX9_threeAre_0 17 rfl rfl)
theorem dX9_threeAre_20 : decode cX9_threeAre 20 = .ok (.iconst 3, 1) := dk_6 (dk_at dksX9_threeAre_0 20 rfl rfl)
theorem dX9_threeAre_21 : decode cX9_threeAre 21 = .ok (.iaload, 1) := dk_46 (dk_at dksX9_threeAre_0 21 rfl rfl)
theorem dX9_threeAre_22 : decode cX9_threeAre 22 = .ok (.imul, 1) := dk_104 (dk_at dksX9_threeAre_0 22 rfl rfl)
theorem dX9_threeAre_23 : decode cX9_threeAre 23 = .ok (.if_icmp .ge 54, 3) := dk_162 0 54 (dk_at dksX9_threeAre_1 0 rfl rfl)
theorem dX9_threeAre_26 : decode cX9_threeAre 26 = .ok (.iload 5, 2) := dk_21 5 (dk_at dksX9_threeAre_1 3 rfl rfl)
theorem dX9_threeAre_28 : decode cX9_threeAre 28 = .ok (.ifCond .eq 49, 3) := dk_153 0 49 (dk_at dksX9_threeAre_1 5 rfl rfl)
theorem dX9_threeAre_31 : decode cX9_threeAre 31 = .ok (.aload_n 0, 1) := dk_42 (dk_at dksX9_threeAre_1 8 rfl rfl)
theorem dX9_threeAre_32 : decode cX9_threeAre 32 = .ok (.iconst 0, 1) := dk_3 (dk_at dksX9_threeAre_1 9 rfl rfl)
theorem dX9_threeAre_33 : decode cX9_threeAre 33 = .ok (.iload_n 2, 1) := dk_28 (dk_at dksX9_threeAre_1 10 rfl rfl)
theorem dX9_threeAre_34 : decode cX9_threeAre 34 = .ok (.iload_n 3, 1) := dk_29 (dk_at dksX9_threeAre_1 11 rfl rfl)
theorem dX9_threeAre_35 : decode cX9_threeAre 35 = .ok (.iload 6, 2) := dk_21 6 (dk_at dksX9_threeAre_1 12 rfl rfl)
theorem dX9_threeAre_37 : decode cX9_threeAre 37 = .ok (.invokevirtual 421, 3) := dk_182 1 165 (dk_at dksX9_threeAre_1 14 rfl rfl)
theorem dX9_threeAre_40 : decode cX9_threeAre 40 = .ok (.ifCond .le 31, 3) := dk_158 0 31 (dk_at dksX9_threeAre_1 17 rfl rfl)
theorem dX9_threeAre_43 : decode cX9_threeAre 43 = .ok (.aload_n 0, 1) := dk_42 (dk_at dksX9_threeAre_1 20 rfl rfl)
theorem dX9_threeAre_44 : decode cX9_threeAre 44 = .ok (.iconst 1, 1) := dk_4 (dk_at dksX9_threeAre_1 21 rfl rfl)
theorem dX9_threeAre_45 : decode cX9_threeAre 45 = .ok (.iload_n 1, 1) := dk_27 (dk_at dksX9_threeAre_1 22 rfl rfl)
theorem dX9_threeAre_46 : decode cX9_threeAre 46 = .ok (.invokevirtual 394, 3) := dk_182 1 138 (dk_at dksX9_threeAre_2 0 rfl rfl)
theorem dX9_threeAre_49 : decode cX9_threeAre 49 = .ok (.iconst (-1), 1) := dk_2 (dk_at dksX9_threeAre_2 3 rfl rfl)
theorem dX9_threeAre_50 : decode cX9_threeAre 50 = .ok (.if_icmp .ne 14, 3) := dk_160 0 14 (dk_at dksX9_threeAre_2 4 rfl rfl)
theorem dX9_threeAre_53 : decode cX9_threeAre 53 = .ok (.aload_n 0, 1) := dk_42 (dk_at dksX9_threeAre_2 7 rfl rfl)
theorem dX9_threeAre_54 : decode cX9_threeAre 54 = .ok (.iconst 1, 1) := dk_4 (dk_at dksX9_threeAre_2 8 rfl rfl)
theorem dX9_threeAre_55 : decode cX9_threeAre 55 = .ok (.iload_n 1, 1) := dk_27 (dk_at dksX9_threeAre_2 9 rfl rfl)
theorem dX9_threeAre_56 : decode cX9_threeAre 56 = .ok (.iload 4, 2) := dk_21 4 (dk_at dksX9_threeAre_2 10 rfl rfl)
theorem dX9_threeAre_58 : decode cX9_threeAre 58 = .ok (.invokevirtual 447, 3) := dk_182 1 191 (dk_at dksX9_threeAre_2 12 rfl rfl)
theorem dX9_threeAre_61 : decode cX9_threeAre 61 = .ok (.ifCond .eq 7, 3) := dk_153 0 7 (dk_at dksX9_threeAre_2 15 rfl rfl)
theorem dX9_threeAre_64 : decode cX9_threeAre 64 = .ok (.iconst 1, 1) := dk_4 (dk_at dksX9_threeAre_2 18 rfl rfl)
theorem dX9_threeAre_65 : decode cX9_threeAre 65 = .ok (.goto 4, 3) := dk_167 0 4 (dk_at dksX9_threeAre_2 19 rfl rfl)
theorem dX9_threeAre_68 : decode cX9_threeAre 68 = .ok (.iconst 0, 1) := dk_3 (dk_at dksX9_threeAre_2 22 rfl rfl)
theorem dX9_threeAre_69 : decode cX9_threeAre 69 = .ok (.istore 5, 2) := dk_54 5 (dk_at dksX9_threeAre_3 0 rfl rfl)
theorem dX9_threeAre_71 : decode cX9_threeAre 71 = .ok (.iinc 6 1, 3) := dk_132 6 1 (dk_at dksX9_threeAre_3 2 rfl rfl)
theorem dX9_threeAre_74 : decode cX9_threeAre 74 = .ok (.goto (-61), 3) := dk_167 255 195 (dk_at dksX9_threeAre_3 5 rfl rfl)
theorem dX9_threeAre_77 : decode cX9_threeAre 77 = .ok (.aload_n 0, 1) := dk_42 (dk_at dksX9_threeAre_3 8 rfl rfl)
theorem dX9_threeAre_78 : decode cX9_threeAre 78 = .ok (.getfield 72, 3) := dk_180 0 72 (dk_at dksX9_threeAre_3 9 rfl rfl)
theorem dX9_threeAre_81 : decode cX9_threeAre 81 = .ok (.iload_n 3, 1) := dk_29 (dk_at dksX9_threeAre_3 12 rfl rfl)
theorem dX9_threeAre_82 : decode cX9_threeAre 82 = .ok (.iconst 0, 1) := dk_3 (dk_at dksX9_threeAre_3 13 rfl rfl)
theorem dX9_threeAre_83 : decode cX9_threeAre 83 = .ok (.bastore, 1) := dk_84 (dk_at dksX9_threeAre_3 14 rfl rfl)
theorem dX9_threeAre_84 : decode cX9_threeAre 84 = .ok (.iload 5, 2) := dk_21 5 (dk_at dksX9_threeAre_3 15 rfl rfl)
theorem dX9_threeAre_86 : decode cX9_threeAre 86 = .ok (.ireturn, 1) := dk_172 (dk_at dksX9_threeAre_3 17 rfl rfl)
abbrev cX9_byTwo : ByteArray := prog_19_method_123_code
def yX9_byTwo : MethodName := ⟨RX9, "byTwo", "(III)Z"⟩
def dkwX9_byTwo_3 : List UInt8 := [132, 4, 1, 167, 255, 186, 3, 172]
abbrev dktX9_byTwo_3 : List UInt8 := dkwX9_byTwo_3 ++ []
def dkwX9_byTwo_2 : List UInt8 := [42, 27, 28, 21, 4, 21, 5, 29, 182, 1, 184, 153, 0, 5, 4, 172, 132, 5, 1, 167, 255, 206]
abbrev dktX9_byTwo_2 : List UInt8 := dkwX9_byTwo_2 ++ dktX9_byTwo_3
def dkwX9_byTwo_1 : List UInt8 := [46, 162, 0, 45, 42, 21, 4, 29, 182, 1, 177, 153, 0, 29, 42, 180, 0, 72, 21, 5, 51, 154, 0, 19]
abbrev dktX9_byTwo_1 : List UInt8 := dkwX9_byTwo_1 ++ dktX9_byTwo_2
def dkwX9_byTwo_0 : List UInt8 := [3, 54, 4, 21, 4, 42, 180, 0, 7, 7, 46, 162, 0, 65, 3, 54, 5, 21, 5, 42, 180, 0, 7, 6]
abbrev dktX9_byTwo_0 : List UInt8 := dkwX9_byTwo_0 ++ dktX9_byTwo_1
theorem dksX9_byTwo_0 : cX9_byTwo.data.toList.drop 0 = dktX9_byTwo_0 := by decide +kernel
theorem dksX9_byTwo_1 : cX9_byTwo.data.toList.drop 24 = dktX9_byTwo_1 := dk_seg dksX9_byTwo_0 24 rfl rfl
theorem dksX9_byTwo_2 : cX9_byTwo.data.toList.drop 48 = dktX9_byTwo_2 := dk_seg dksX9_byTwo_1 24 rfl rfl
theorem dksX9_byTwo_3 : cX9_byTwo.data.toList.drop 70 = dktX9_byTwo_3 := dk_seg dksX9_byTwo_2 22 rfl rfl
theorem dX9_byTwo_0 : decode cX9_byTwo 0 = .ok (.iconst 0, 1) := dk_3 (dk_at dksX9_byTwo_0 0 rfl rfl)
theorem dX9_byTwo_1 : decode cX9_byTwo 1 = .ok (.istore 4, 2) := dk_54 4 (dk_at dksX9_byTwo_0 1 rfl rfl)
theorem dX9_byTwo_3 : decode cX9_byTwo 3 = .ok (.iload 4, 2) := dk_21 4 (dk_at dksX9_byTwo_0 3 rfl rfl)
theorem dX9_byTwo_5 : decode cX9_byTwo 5 = .ok (.aload_n 0, 1) := dk_42 (dk_at dksX9_byTwo_0 5 rfl rfl)
theorem dX9_byTwo_6 : decode cX9_byTwo 6 = .ok (.getfield 7, 3) := dk_180 0 7 (dk_at dksX9_byTwo_0 6 rfl rfl)
theorem dX9_byTwo_9 : decode cX9_byTwo 9 = .ok (.iconst 4, 1) := dk_7 (dk_at dksX9_byTwo_0 9 rfl rfl)
theorem dX9_byTwo_10 : decode cX9_byTwo 10 = .ok (.iaload, 1) := dk_46 (dk_at dksX9_byTwo_0 10 rfl rfl)
theorem dX9_byTwo_11 : decode cX9_byTwo 11 = .ok (.if_icmp .ge 65, 3) := dk_162 0 65 (dk_at dksX9_byTwo_0 11 rfl rfl)
theorem dX9_byTwo_14 : decode cX9_byTwo 14 = .ok (.iconst 0, 1) := dk_3 (dk_at dksX9_byTwo_0 14 rfl rfl)
theorem dX9_byTwo_15 : decode cX9_byTwo 15 = .ok (.istore 5, 2) := dk_54 5 (dk_at dksX9_byTwo_0 15 rfl rfl)
theorem dX9_byTwo_17 : decode cX9_byTwo 17 = .ok (.iload 5, 2) := dk_21 5 (dk_at dksX9_byTwo_0 17 rfl rfl)
theorem dX9_byTwo_19 : decode cX9_byTwo 19 = .ok (.aload_n 0, 1) := dk_42 (dk_at dksX9_byTwo_0 19 rfl rfl)
theorem dX9_byTwo_20 : decode cX9_byTwo 20 = .ok (.getfield 7, 3) := dk_180 0 7 (dk_at dksX9_byTwo_0 20 rfl rfl)
theorem dX9_byTwo_23 : decode cX9_byTwo 23 = .ok (.iconst 3, 1) := dk_6 (dk_at dksX9_byTwo_0 23 rfl rfl)
theorem dX9_byTwo_24 : decode cX9_byTwo 24 = .ok (.iaload, 1) := dk_46 (dk_at dksX9_byTwo_1 0 rfl rfl)
theorem dX9_byTwo_25 : decode cX9_byTwo 25 = .ok (.if_icmp .ge 45, 3) := dk_162 0 45 (dk_at dksX9_byTwo_1 1 rfl rfl)
theorem dX9_byTwo_28 : decode cX9_byTwo 28 = .ok (.aload_n 0, 1) := dk_42 (dk_at dksX9_byTwo_1 4 rfl rfl)
theorem dX9_byTwo_29 : decode cX9_byTwo 29 = .ok (.iload 4, 2) := dk_21 4 (dk_at dksX9_byTwo_1 5 rfl rfl)
theorem dX9_byTwo_31 : decode cX9_byTwo 31 = .ok (.iload_n 3, 1) := dk_29 (dk_at dksX9_byTwo_1 7 rfl rfl)
theorem dX9_byTwo_32 : decode cX9_byTwo 32 = .ok (.invokevirtual 433, 3) := dk_182 1 177 (dk_at dksX9_byTwo_1 8 rfl rfl)
theorem dX9_byTwo_35 : decode cX9_byTwo 35 = .ok (.ifCond .eq 29, 3) := dk_153 0 29 (dk_at dksX9_byTwo_1 11 rfl rfl)
theorem dX9_byTwo_38 : decode cX9_byTwo 38 = .ok (.aload_n 0, 1) := dk_42 (dk_at dksX9_byTwo_1 14 rfl rfl)
theorem dX9_byTwo_39 : decode cX9_byTwo 39 = .ok (.getfield 72, 3) := dk_180 0 72 (dk_at dksX9_byTwo_1 15 rfl rfl)
theorem dX9_byTwo_42 : decode cX9_byTwo 42 = .ok (.iload 5, 2) := dk_21 5 (dk_at dksX9_byTwo_1 18 rfl rfl)
theorem dX9_byTwo_44 : decode cX9_byTwo 44 = .ok (.baload, 1) := dk_51 (dk_at dksX9_byTwo_1 20 rfl rfl)
theorem dX9_byTwo_45 : decode cX9_byTwo 45 = .ok (.ifCond .ne 19, 3) := dk_154 0 19 (dk_at dksX9_byTwo_1 21 rfl rfl)
theorem dX9_byTwo_48 : decode cX9_byTwo 48 = .ok (.aload_n 0, 1) := dk_42 (dk_at dksX9_byTwo_2 0 rfl rfl)
theorem dX9_byTwo_49 : decode cX9_byTwo 49 = .ok (.iload_n 1, 1) := dk_27 (dk_at dksX9_byTwo_2 1 rfl rfl)
theorem dX9_byTwo_50 : decode cX9_byTwo 50 = .ok (.iload_n 2, 1) := dk_28 (dk_at dksX9_byTwo_2 2 rfl rfl)
theorem dX9_byTwo_51 : decode cX9_byTwo 51 = .ok (.iload 4, 2) := dk_21 4 (dk_at dksX9_byTwo_2 3 rfl rfl)
theorem dX9_byTwo_53 : decode cX9_byTwo 53 = .ok (.iload 5, 2) := dk_21 5 (dk_at dksX9_byTwo_2 5 rfl rfl)
theorem dX9_byTwo_55 : decode cX9_byTwo 55 = .ok (.iload_n 3, 1) := dk_29 (dk_at dksX9_byTwo_2 7 rfl rfl)
theorem dX9_byTwo_56 : decode cX9_byTwo 56 = .ok (.invokevirtual 440, 3) := dk_182 1 184 (dk_at dksX9_byTwo_2 8 rfl rfl)
theorem dX9_byTwo_59 : decode cX9_byTwo 59 = .ok (.ifCond .eq 5, 3) := dk_153 0 5 (dk_at dksX9_byTwo_2 11 rfl rfl)
theorem dX9_byTwo_62 : decode cX9_byTwo 62 = .ok (.iconst 1, 1) := dk_4 (dk_at dksX9_byTwo_2 14 rfl rfl)
theorem dX9_byTwo_63 : decode cX9_byTwo 63 = .ok (.ireturn, 1) := dk_172 (dk_at dksX9_byTwo_2 15 rfl rfl)
theorem dX9_byTwo_64 : decode cX9_byTwo 64 = .ok (.iinc 5 1, 3) := dk_132 5 1 (dk_at dksX9_byTwo_2 16 rfl rfl)
theorem dX9_byTwo_67 : decode cX9_byTwo 67 = .ok (.goto (-50), 3) := dk_167 255 206 (dk_at dksX9_byTwo_2 19 rfl rfl)
theorem dX9_byTwo_70 : decode cX9_byTwo 70 = .ok (.iinc 4 1, 3) := dk_132 4 1 (dk_at dksX9_byTwo_3 0 rfl rfl)
theorem dX9_byTwo_73 : decode cX9_byTwo 73 = .ok (.goto (-70), 3) := dk_167 255 186 (dk_at dksX9_byTwo_3 3 rfl rfl)
theorem dX9_byTwo_76 : decode cX9_byTwo 76 = .ok (.iconst 0, 1) := dk_3 (dk_at dksX9_byTwo_3 6 rfl rfl)
theorem dX9_byTwo_77 : decode cX9_byTwo 77 = .ok (.ireturn, 1) := dk_172 (dk_at dksX9_byTwo_3 7 rfl rfl)
abbrev cX9_shortestFirst : ByteArray := prog_19_method_128_code
def yX9_shortestFirst : MethodName := ⟨RX9, "shortestFirst", "(I)I"⟩
def dkwX9_shortestFirst_2 : List UInt8 := [42, 180, 1, 197, 182, 0, 200, 172]
abbrev dktX9_shortestFirst_2 : List UInt8 := dkwX9_shortestFirst_2 ++ []
def dkwX9_shortestFirst_1 : List UInt8 := [160, 0, 12, 42, 16, 6, 182, 0, 197, 167, 0, 22, 42, 27, 154, 0, 10, 42, 180, 0, 79, 167, 0, 7]
abbrev dktX9_shortestFirst_1 : List UInt8 := dkwX9_shortestFirst_1 ++ dktX9_shortestFirst_2
def dkwX9_shortestFirst_0 : List UInt8 := [27, 155, 0, 8, 27, 4, 164, 0, 11, 42, 4, 182, 0, 197, 167, 0, 39, 42, 180, 0, 79, 2]
abbrev dktX9_shortestFirst_0 : List UInt8 := dkwX9_shortestFirst_0 ++ dktX9_shortestFirst_1
theorem dksX9_shortestFirst_0 : cX9_shortestFirst.data.toList.drop 0 = dktX9_shortestFirst_0 := by decide +kernel
theorem dksX9_shortestFirst_1 : cX9_shortestFirst.data.toList.drop 22 = dktX9_shortestFirst_1 := dk_seg dksX9_shortestFirst_0 22 rfl rfl
theorem dksX9_shortestFirst_2 : cX9_shortestFirst.data.toList.drop 46 = dktX9_shortestFirst_2 := dk_seg dksX9_shortestFirst_1 24 rfl rfl
theorem dX9_shortestFirst_0 : decode cX9_shortestFirst 0 = .ok (.iload_n 1, 1) := dk_27 (dk_at dksX9_shortestFirst_0 0 rfl rfl)
theorem dX9_shortestFirst_1 : decode cX9_shortestFirst 1 = .ok (.ifCond .lt 8, 3) := dk_155 0 8 (dk_at dksX9_shortestFirst_0 1 rfl rfl)
theorem dX9_shortestFirst_4 : decode cX9_shortestFirst 4 = .ok (.iload_n 1, 1) := dk_27 (dk_at dksX9_shortestFirst_0 4 rfl rfl)
theorem dX9_shortestFirst_5 : decode cX9_shortestFirst 5 = .ok (.iconst 1, 1) := dk_4 (dk_at dksX9_shortestFirst_0 5 rfl rfl)
theorem dX9_shortestFirst_6 : decode cX9_shortestFirst 6 = .ok (.if_icmp .le 11, 3) := dk_164 0 11 (dk_at dksX9_shortestFirst_0 6 rfl rfl)
theorem dX9_shortestFirst_9 : decode cX9_shortestFirst 9 = .ok (.aload_n 0, 1) := dk_42 (dk_at dksX9_shortestFirst_0 9 rfl rfl)
theorem dX9_shortestFirst_10 : decode cX9_shortestFirst 10 = .ok (.iconst 1, 1) := dk_4 (dk_at dksX9_shortestFirst_0 10 rfl rfl)
theorem dX9_shortestFirst_11 : decode cX9_shortestFirst 11 = .ok (.invokevirtual 197, 3) := dk_182 0 197 (dk_at dksX9_shortestFirst_0 11 rfl rfl)
theorem dX9_shortestFirst_14 : decode cX9_shortestFirst 14 = .ok (.goto 39, 3) := dk_167 0 39 (dk_at dksX9_shortestFirst_0 14 rfl rfl)
theorem dX9_shortestFirst_17 : decode cX9_shortestFirst 17 = .ok (.aload_n 0, 1) := dk_42 (dk_at dksX9_shortestFirst_0 17 rfl rfl)
theorem dX9_shortestFirst_18 : decode cX9_shortestFirst 18 = .ok (.getfield 79, 3) := dk_180 0 79 (dk_at dksX9_shortestFirst_0 18 rfl rfl)
theorem dX9_shortestFirst_21 : decode cX9_shortestFirst 21 = .ok (.iconst (-1), 1) := dk_2 (dk_at dksX9_shortestFirst_0 21 rfl rfl)
theorem dX9_shortestFirst_22 : decode cX9_shortestFirst 22 = .ok (.if_icmp .ne 12, 3) := dk_160 0 12 (dk_at dksX9_shortestFirst_1 0 rfl rfl)
theorem dX9_shortestFirst_25 : decode cX9_shortestFirst 25 = .ok (.aload_n 0, 1) := dk_42 (dk_at dksX9_shortestFirst_1 3 rfl rfl)
theorem dX9_shortestFirst_26 : decode cX9_shortestFirst 26 = .ok (.bipush 6, 2) := dk_16 6 (dk_at dksX9_shortestFirst_1 4 rfl rfl)
theorem dX9_shortestFirst_28 : decode cX9_shortestFirst 28 = .ok (.invokevirtual 197, 3) := dk_182 0 197 (dk_at dksX9_shortestFirst_1 6 rfl rfl)
theorem dX9_shortestFirst_31 : decode cX9_shortestFirst 31 = .ok (.goto 22, 3) := dk_167 0 22 (dk_at dksX9_shortestFirst_1 9 rfl rfl)
theorem dX9_shortestFirst_34 : decode cX9_shortestFirst 34 = .ok (.aload_n 0, 1) := dk_42 (dk_at dksX9_shortestFirst_1 12 rfl rfl)
theorem dX9_shortestFirst_35 : decode cX9_shortestFirst 35 = .ok (.iload_n 1, 1) := dk_27 (dk_at dksX9_shortestFirst_1 13 rfl rfl)
theorem dX9_shortestFirst_36 : decode cX9_shortestFirst 36 = .ok (.ifCond .ne 10, 3) := dk_154 0 10 (dk_at dksX9_shortestFirst_1 14 rfl rfl)
theorem dX9_shortestFirst_39 : decode cX9_shortestFirst 39 = .ok (.aload_n 0, 1) := dk_42 (dk_at dksX9_shortestFirst_1 17 rfl rfl)
theorem dX9_shortestFirst_40 : decode cX9_shortestFirst 40 = .ok (.getfield 79, 3) := dk_180 0 79 (dk_at dksX9_shortestFirst_1 18 rfl rfl)
theorem dX9_shortestFirst_43 : decode cX9_shortestFirst 43 = .ok (.goto 7, 3) := dk_167 0 7 (dk_at dksX9_shortestFirst_1 21 rfl rfl)
theorem dX9_shortestFirst_46 : decode cX9_shortestFirst 46 = .ok (.aload_n 0, 1) := dk_42 (dk_at dksX9_shortestFirst_2 0 rfl rfl)
theorem dX9_shortestFirst_47 : decode cX9_shortestFirst 47 = .ok (.getfield 453, 3) := dk_180 1 197 (dk_at dksX9_shortestFirst_2 1 rfl rfl)
theorem dX9_shortestFirst_50 : decode cX9_shortestFirst 50 = .ok (.invokevirtual 200, 3) := dk_182 0 200 (dk_at dksX9_shortestFirst_2 4 rfl rfl)
theorem dX9_shortestFirst_53 : decode cX9_shortestFirst 53 = .ok (.ireturn, 1) := dk_172 (dk_at dksX9_shortestFirst_2 7 rfl rfl)
abbrev cX9_settled : ByteArray := prog_19_method_129_code
def yX9_settled : MethodName := ⟨RX9, "settled", "()I"⟩
def dkwX9_settled_2 : List UInt8 := [167, 255, 216, 42, 27, 182, 0, 200, 172]
abbrev dktX9_settled_2 : List UInt8 := dkwX9_settled_2 ++ []
def dkwX9_settled_1 : List UInt8 := [51, 154, 0, 17, 42, 3, 28, 182, 1, 138, 2, 159, 0, 7, 4, 167, 0, 4, 3, 96, 60, 132, 2, 1]
abbrev dktX9_settled_1 : List UInt8 := dkwX9_settled_1 ++ dktX9_settled_2
def dkwX9_settled_0 : List UInt8 := [42, 182, 1, 132, 3, 60, 3, 61, 28, 42, 180, 0, 7, 6, 46, 162, 0, 36, 27, 42, 180, 0, 72, 28]
abbrev dktX9_settled_0 : List UInt8 := dkwX9_settled_0 ++ dktX9_settled_1
theorem dksX9_settled_0 : cX9_settled.data.toList.drop 0 = dktX9_settled_0 := by decide +kernel
theorem dksX9_settled_1 : cX9_settled.data.toList.drop 24 = dktX9_settled_1 := dk_seg dksX9_settled_0 24 rfl rfl
theorem dksX9_settled_2 : cX9_settled.data.toList.drop 48 = dktX9_settled_2 := dk_seg dksX9_settled_1 24 rfl rfl
theorem dX9_settled_0 : decode cX9_settled 0 = .ok (.aload_n 0, 1) := dk_42 (dk_at dksX9_settled_0 0 rfl rfl)
theorem dX9_settled_1 : decode cX9_settled 1 = .ok (.invokevirtual 388, 3) := dk_182 1 132 (dk_at dksX9_settled_0 1 rfl rfl)
theorem dX9_settled_4 : decode cX9_settled 4 = .ok (.iconst 0, 1) := dk_3 (dk_at dksX9_settled_0 4 rfl rfl)
theorem dX9_settled_5 : decode cX9_settled 5 = .ok (.istore_n 1, 1) := dk_60 (dk_at dksX9_settled_0 5 rfl rfl)
theorem dX9_settled_6 : decode cX9_settled 6 = .ok (.iconst 0, 1) := dk_3 (dk_at dksX9_settled_0 6 rfl rfl)
theorem dX9_settled_7 : decode cX9_settled 7 = .ok (.istore_n 2, 1) := dk_61 (dk_at dksX9_settled_0 7 rfl rfl)
theorem dX9_settled_8 : decode cX9_settled 8 = .ok (.iload_n 2, 1) := dk_28 (dk_at dksX9_settled_0 8 rfl rfl)
theorem dX9_settled_9 : decode cX9_settled 9 = .ok (.aload_n 0, 1) := dk_42 (dk_at dksX9_settled_0 9 rfl rfl)
theorem dX9_settled_10 : decode cX9_settled 10 = .ok (.getfield 7, 3) := dk_180 0 7 (dk_at dksX9_settled_0 10 rfl rfl)
theorem dX9_settled_13 : decode cX9_settled 13 = .ok (.iconst 3, 1) := dk_6 (dk_at dksX9_settled_0 13 rfl rfl)
theorem dX9_settled_14 : decode cX9_settled 14 = .ok (.iaload, 1) := dk_46 (dk_at dksX9_settled_0 14 rfl rfl)
theorem dX9_settled_15 : decode cX9_settled 15 = .ok (.if_icmp .ge 36, 3) := dk_162 0 36 (dk_at dksX9_settled_0 15 rfl rfl)
theorem dX9_settled_18 : decode cX9_settled 18 = .ok (.iload_n 1, 1) := dk_27 (dk_at dksX9_settled_0 18 rfl rfl)
theorem dX9_settled_19 : decode cX9_settled 19 = .ok (.aload_n 0, 1) := dk_42 (dk_at dksX9_settled_0 19 rfl rfl)
theorem dX9_settled_20 : decode cX9_settled 20 = .ok (.getfield 72, 3) := dk_180 0 72 (dk_at dksX9_settled_0 20 rfl rfl)
theorem dX9_settled_23 : decode cX9_settled 23 = .ok (.iload_n 2, 1) := dk_28 (dk_at dksX9_settled_0 23 rfl rfl)
theorem dX9_settled_24 : decode cX9_settled 24 = .ok (.baload, 1) := dk_51 (dk_at dksX9_settled_1 0 rfl rfl)
theorem dX9_settled_25 : decode cX9_settled 25 = .ok (.ifCond .ne 17, 3) := dk_154 0 17 (dk_at dksX9_settled_1 1 rfl rfl)
theorem dX9_settled_28 : decode cX9_settled 28 = .ok (.aload_n 0, 1) := dk_42 (dk_at dksX9_settled_1 4 rfl rfl)
theorem dX9_settled_29 : decode cX9_settled 29 = .ok (.iconst 0, 1) := dk_3 (dk_at dksX9_settled_1 5 rfl rfl)
theorem dX9_settled_30 : decode cX9_settled 30 = .ok (.iload_n 2, 1) := dk_28 (dk_at dksX9_settled_1 6 rfl rfl)
theorem dX9_settled_31 : decode cX9_settled 31 = .ok (.invokevirtual 394, 3) := dk_182 1 138 (dk_at dksX9_settled_1 7 rfl rfl)
theorem dX9_settled_34 : decode cX9_settled 34 = .ok (.iconst (-1), 1) := dk_2 (dk_at dksX9_settled_1 10 rfl rfl)
theorem dX9_settled_35 : decode cX9_settled 35 = .ok (.if_icmp .eq 7, 3) := dk_159 0 7 (dk_at dksX9_settled_1 11 rfl rfl)
theorem dX9_settled_38 : decode cX9_settled 38 = .ok (.iconst 1, 1) := dk_4 (dk_at dksX9_settled_1 14 rfl rfl)
theorem dX9_settled_39 : decode cX9_settled 39 = .ok (.goto 4, 3) := dk_167 0 4 (dk_at dksX9_settled_1 15 rfl rfl)
theorem dX9_settled_42 : decode cX9_settled 42 = .ok (.iconst 0, 1) := dk_3 (dk_at dksX9_settled_1 18 rfl rfl)
theorem dX9_settled_43 : decode cX9_settled 43 = .ok (.iadd, 1) := dk_96 (dk_at dksX9_settled_1 19 rfl rfl)
theorem dX9_settled_44 : decode cX9_settled 44 = .ok (.istore_n 1, 1) := dk_60 (dk_at dksX9_settled_1 20 rfl rfl)
theorem dX9_settled_45 : decode cX9_settled 45 = .ok (.iinc 2 1, 3) := dk_132 2 1 (dk_at dksX9_settled_1 21 rfl rfl)
theorem dX9_settled_48 : decode cX9_settled 48 = .ok (.goto (-40), 3) := dk_167 255 216 (dk_at dksX9_settled_2 0 rfl rfl)
theorem dX9_settled_51 : decode cX9_settled 51 = .ok (.aload_n 0, 1) := dk_42 (dk_at dksX9_settled_2 3 rfl rfl)
theorem dX9_settled_52 : decode cX9_settled 52 = .ok (.iload_n 1, 1) := dk_27 (dk_at dksX9_settled_2 4 rfl rfl)
theorem dX9_settled_53 : decode cX9_settled 53 = .ok (.invokevirtual 200, 3) := dk_182 0 200 (dk_at dksX9_settled_2 5 rfl rfl)
theorem dX9_settled_56 : decode cX9_settled 56 = .ok (.ireturn, 1) := dk_172 (dk_at dksX9_settled_2 8 rfl rfl)
abbrev cX9_bench : ByteArray := prog_19_method_131_code
def yX9_bench : MethodName := ⟨RX9, "bench", "()I"⟩
def dkwX9_bench_0 : List UInt8 := [42, 42, 42, 180, 0, 7, 16, 6, 46, 182, 1, 203, 182, 0, 200, 172]
abbrev dktX9_bench_0 : List UInt8 := dkwX9_bench_0 ++ []
theorem dksX9_bench_0 : cX9_bench.data.toList.drop 0 = dktX9_bench_0 := by decide +kernel
theorem dX9_bench_0 : decode cX9_bench 0 = .ok (.aload_n 0, 1) := dk_42 (dk_at dksX9_bench_0 0 rfl rfl)
theorem dX9_bench_1 : decode cX9_bench 1 = .ok (.aload_n 0, 1) := dk_42 (dk_at dksX9_bench_0 1 rfl rfl)
theorem dX9_bench_2 : decode cX9_bench 2 = .ok (.aload_n 0, 1) := dk_42 (dk_at dksX9_bench_0 2 rfl rfl)
theorem dX9_bench_3 : decode cX9_bench 3 = .ok (.getfield 7, 3) := dk_180 0 7 (dk_at dksX9_bench_0 3 rfl rfl)
theorem dX9_bench_6 : decode cX9_bench 6 = .ok (.bipush 6, 2) := dk_16 6 (dk_at dksX9_bench_0 6 rfl rfl)
theorem dX9_bench_8 : decode cX9_bench 8 = .ok (.iaload, 1) := dk_46 (dk_at dksX9_bench_0 8 rfl rfl)
theorem dX9_bench_9 : decode cX9_bench 9 = .ok (.invokevirtual 459, 3) := dk_182 1 203 (dk_at dksX9_bench_0 9 rfl rfl)
theorem dX9_bench_12 : decode cX9_bench 12 = .ok (.invokevirtual 200, 3) := dk_182 0 200 (dk_at dksX9_bench_0 12 rfl rfl)
theorem dX9_bench_15 : decode cX9_bench 15 = .ok (.ireturn, 1) := dk_172 (dk_at dksX9_bench_0 15 rfl rfl)
abbrev cX9_benchBy : ByteArray := prog_19_method_130_code
def yX9_benchBy : MethodName := ⟨RX9, "benchBy", "(I)I"⟩
def dkwX9_benchBy_4 : List UInt8 := [167, 255, 166, 28, 172]
abbrev dktX9_benchBy_4 : List UInt8 := dkwX9_benchBy_4 ++ []
def dkwX9_benchBy_3 : List UInt8 := [54, 4, 132, 5, 1, 167, 255, 205, 28, 21, 4, 153, 0, 7, 4, 167, 0, 4, 3, 96, 61, 132, 3, 1]
abbrev dktX9_benchBy_3 : List UInt8 := dkwX9_benchBy_3 ++ dktX9_benchBy_4
def dkwX9_benchBy_2 : List UInt8 := [182, 1, 66, 29, 3, 182, 1, 112, 42, 21, 5, 5, 182, 1, 66, 160, 0, 7, 4, 167, 0, 4, 3]
abbrev dktX9_benchBy_2 : List UInt8 := dkwX9_benchBy_2 ++ dktX9_benchBy_3
def dkwX9_benchBy_1 : List UInt8 := [21, 5, 27, 162, 0, 51, 21, 4, 153, 0, 46, 42, 42, 21, 5, 3, 182, 1, 66, 42, 21, 5, 4]
abbrev dktX9_benchBy_1 : List UInt8 := dkwX9_benchBy_1 ++ dktX9_benchBy_2
def dkwX9_benchBy_0 : List UInt8 := [3, 61, 3, 62, 29, 42, 180, 0, 7, 5, 46, 162, 0, 86, 42, 29, 182, 1, 75, 54, 4, 3, 54, 5]
abbrev dktX9_benchBy_0 : List UInt8 := dkwX9_benchBy_0 ++ dktX9_benchBy_1
theorem dksX9_benchBy_0 : cX9_benchBy.data.toList.drop 0 = dktX9_benchBy_0 := by decide +kernel
theorem dksX9_benchBy_1 : cX9_benchBy.data.toList.drop 24 = dktX9_benchBy_1 := dk_seg dksX9_benchBy_0 24 rfl rfl
theorem dksX9_benchBy_2 : cX9_benchBy.data.toList.drop 47 = dktX9_benchBy_2 := dk_seg dksX9_benchBy_1 23 rfl rfl
theorem dksX9_benchBy_3 : cX9_benchBy.data.toList.drop 70 = dktX9_benchBy_3 := dk_seg dksX9_benchBy_2 23 rfl rfl
theorem dksX9_benchBy_4 : cX9_benchBy.data.toList.drop 94 = dktX9_benchBy_4 := dk_seg dksX9_benchBy_3 24 rfl rfl
theorem dX9_benchBy_0 : decode cX9_benchBy 0 = .ok (.iconst 0, 1) := dk_3 (dk_at dksX9_benchBy_0 0 rfl rfl)
theorem dX9_benchBy_1 : decode cX9_benchBy 1 = .ok (.istore_n 2, 1) := dk_61 (dk_at dksX9_benchBy_0 1 rfl rfl)
theorem dX9_benchBy_2 : decode cX9_benchBy 2 = .ok (.iconst 0, 1) := dk_3 (dk_at dksX9_benchBy_0 2 rfl rfl)
theorem dX9_benchBy_3 : decode cX9_benchBy 3 = .ok (.istore_n 3, 1) := dk_62 (dk_at dksX9_benchBy_0 3 rfl rfl)
theorem dX9_benchBy_4 : decode cX9_benchBy 4 = .ok (.iload_n 3, 1) := dk_29 (dk_at dksX9_benchBy_0 4 rfl rfl)
theorem dX9_benchBy_5 : decode cX9_benchBy 5 = .ok (.aload_n 0, 1) := dk_42 (dk_at dksX9_benchBy_0 5 rfl rfl)
theorem dX9_benchBy_6 : decode cX9_benchBy 6 = .ok (.getfield 7, 3) := dk_180 0 7 (dk_at dksX9_benchBy_0 6 rfl rfl)
theorem dX9_benchBy_9 : decode cX9_benchBy 9 = .ok (.iconst 2, 1) := dk_5 (dk_at dksX9_benchBy_0 9 rfl rfl)
theorem dX9_benchBy_10 : decode cX9_benchBy 10 = .ok (.iaload, 1) := dk_46 (dk_at dksX9_benchBy_0 10 rfl rfl)
theorem dX9_benchBy_11 : decode cX9_benchBy 11 = .ok (.if_icmp .ge 86, 3) := dk_162 0 86 (dk_at dksX9_benchBy_0 11 rfl rfl)
theorem dX9_benchBy_14 : decode cX9_benchBy 14 = .ok (.aload_n 0, 1) := dk_42 (dk_at dksX9_benchBy_0 14 rfl rfl)
theorem dX9_benchBy_15 : decode cX9_benchBy 15 = .ok (.iload_n 3, 1) := dk_29 (dk_at dksX9_benchBy_0 15 rfl rfl)
theorem dX9_benchBy_16 : decode cX9_benchBy 16 = .ok (.invokevirtual 331, 3) := dk_182 1 75 (dk_at dksX9_benchBy_0 16 rfl rfl)
theorem dX9_benchBy_19 : decode cX9_benchBy 19 = .ok (.istore 4, 2) := dk_54 4 (dk_at dksX9_benchBy_0 19 rfl rfl)
theorem dX9_benchBy_21 : decode cX9_benchBy 21 = .ok (.iconst 0, 1) := dk_3 (dk_at dksX9_benchBy_0 21 rfl rfl)
theorem dX9_benchBy_22 : decode cX9_benchBy 22 = .ok (.istore 5, 2) := dk_54 5 (dk_at dksX9_benchBy_0 22 rfl rfl)
theorem dX9_benchBy_24 : decode cX9_benchBy 24 = .ok (.iload 5, 2) := dk_21 5 (dk_at dksX9_benchBy_1 0 rfl rfl)
theorem dX9_benchBy_26 : decode cX9_benchBy 26 = .ok (.iload_n 1, 1) := dk_27 (dk_at dksX9_benchBy_1 2 rfl rfl)
theorem dX9_benchBy_27 : decode cX9_benchBy 27 = .ok (.if_icmp .ge 51, 3) := dk_162 0 51 (dk_at dksX9_benchBy_1 3 rfl rfl)
theorem dX9_benchBy_30 : decode cX9_benchBy 30 = .ok (.iload 4, 2) := dk_21 4 (dk_at dksX9_benchBy_1 6 rfl rfl)
theorem dX9_benchBy_32 : decode cX9_benchBy 32 = .ok (.ifCond .eq 46, 3) := dk_153 0 46 (dk_at dksX9_benchBy_1 8 rfl rfl)
theorem dX9_benchBy_35 : decode cX9_benchBy 35 = .ok (.aload_n 0, 1) := dk_42 (dk_at dksX9_benchBy_1 11 rfl rfl)
theorem dX9_benchBy_36 : decode cX9_benchBy 36 = .ok (.aload_n 0, 1) := dk_42 (dk_at dksX9_benchBy_1 12 rfl rfl)
theorem dX9_benchBy_37 : decode cX9_benchBy 37 = .ok (.iload 5, 2) := dk_21 5 (dk_at dksX9_benchBy_1 13 rfl rfl)
theorem dX9_benchBy_39 : decode cX9_benchBy 39 = .ok (.iconst 0, 1) := dk_3 (dk_at dksX9_benchBy_1 15 rfl rfl)
theorem dX9_benchBy_40 : decode cX9_benchBy 40 = .ok (.invokevirtual 322, 3) := dk_182 1 66 (dk_at dksX9_benchBy_1 16 rfl rfl)
theorem dX9_benchBy_43 : decode cX9_benchBy 43 = .ok (.aload_n 0, 1) := dk_42 (dk_at dksX9_benchBy_1 19 rfl rfl)
theorem dX9_benchBy_44 : decode cX9_benchBy 44 = .ok (.iload 5, 2) := dk_21 5 (dk_at dksX9_benchBy_1 20 rfl rfl)
theorem dX9_benchBy_46 : decode cX9_benchBy 46 = .ok (.iconst 1, 1) := dk_4 (dk_at dksX9_benchBy_1 22 rfl rfl)
theorem dX9_benchBy_47 : decode cX9_benchBy 47 = .ok (.invokevirtual 322, 3) := dk_182 1 66 (dk_at dksX9_benchBy_2 0 rfl rfl)
theorem dX9_benchBy_50 : decode cX9_benchBy 50 = .ok (.iload_n 3, 1) := dk_29 (dk_at dksX9_benchBy_2 3 rfl rfl)
theorem dX9_benchBy_51 : decode cX9_benchBy 51 = .ok (.iconst 0, 1) := dk_3 (dk_at dksX9_benchBy_2 4 rfl rfl)
theorem dX9_benchBy_52 : decode cX9_benchBy 52 = .ok (.invokevirtual 368, 3) := dk_182 1 112 (dk_at dksX9_benchBy_2 5 rfl rfl)
theorem dX9_benchBy_55 : decode cX9_benchBy 55 = .ok (.aload_n 0, 1) := dk_42 (dk_at dksX9_benchBy_2 8 rfl rfl)
theorem dX9_benchBy_56 : decode cX9_benchBy 56 = .ok (.iload 5, 2) := dk_21 5 (dk_at dksX9_benchBy_2 9 rfl rfl)
theorem dX9_benchBy_58 : decode cX9_benchBy 58 = .ok (.iconst 2, 1) := dk_5 (dk_at dksX9_benchBy_2 11 rfl rfl)
theorem dX9_benchBy_59 : decode cX9_benchBy 59 = .ok (.invokevirtual 322, 3) := dk_182 1 66 (dk_at dksX9_benchBy_2 12 rfl rfl)
theorem dX9_benchBy_62 : decode cX9_benchBy 62 = .ok (.if_icmp .ne 7, 3) := dk_160 0 7 (dk_at dksX9_benchBy_2 15 rfl rfl)
theorem dX9_benchBy_65 : decode cX9_benchBy 65 = .ok (.iconst 1, 1) := dk_4 (dk_at dksX9_benchBy_2 18 rfl rfl)
theorem dX9_benchBy_66 : decode cX9_benchBy 66 = .ok (.goto 4, 3) := dk_167 0 4 (dk_at dksX9_benchBy_2 19 rfl rfl)
theorem dX9_benchBy_69 : decode cX9_benchBy 69 = .ok (.iconst 0, 1) := dk_3 (dk_at dksX9_benchBy_2 22 rfl rfl)
theorem dX9_benchBy_70 : decode cX9_benchBy 70 = .ok (.istore 4, 2) := dk_54 4 (dk_at dksX9_benchBy_3 0 rfl rfl)
theorem dX9_benchBy_72 : decode cX9_benchBy 72 = .ok (.iinc 5 1, 3) := dk_132 5 1 (dk_at dksX9_benchBy_3 2 rfl rfl)
theorem dX9_benchBy_75 : decode cX9_benchBy 75 = .ok (.goto (-51), 3) := dk_167 255 205 (dk_at dksX9_benchBy_3 5 rfl rfl)
theorem dX9_benchBy_78 : decode cX9_benchBy 78 = .ok (.iload_n 2, 1) := dk_28 (dk_at dksX9_benchBy_3 8 rfl rfl)
theorem dX9_benchBy_79 : decode cX9_benchBy 79 = .ok (.iload 4, 2) := dk_21 4 (dk_at dksX9_benchBy_3 9 rfl rfl)
theorem dX9_benchBy_81 : decode cX9_benchBy 81 = .ok (.ifCond .eq 7, 3) := dk_153 0 7 (dk_at dksX9_benchBy_3 11 rfl rfl)
theorem dX9_benchBy_84 : decode cX9_benchBy 84 = .ok (.iconst 1, 1) := dk_4 (dk_at dksX9_benchBy_3 14 rfl rfl)
theorem dX9_benchBy_85 : decode cX9_benchBy 85 = .ok (.goto 4, 3) := dk_167 0 4 (dk_at dksX9_benchBy_3 15 rfl rfl)
theorem dX9_benchBy_88 : decode cX9_benchBy 88 = .ok (.iconst 0, 1) := dk_3 (dk_at dksX9_benchBy_3 18 rfl rfl)
theorem dX9_benchBy_89 : decode cX9_benchBy 89 = .ok (.iadd, 1) := dk_96 (dk_at dksX9_benchBy_3 19 rfl rfl)
theorem dX9_benchBy_90 : decode cX9_benchBy 90 = .ok (.istore_n 2, 1) := dk_61 (dk_at dksX9_benchBy_3 20 rfl rfl)
theorem dX9_benchBy_91 : decode cX9_benchBy 91 = .ok (.iinc 3 1, 3) := dk_132 3 1 (dk_at dksX9_benchBy_3 21 rfl rfl)
theorem dX9_benchBy_94 : decode cX9_benchBy 94 = .ok (.goto (-90), 3) := dk_167 255 166 (dk_at dksX9_benchBy_4 0 rfl rfl)
theorem dX9_benchBy_97 : decode cX9_benchBy 97 = .ok (.iload_n 2, 1) := dk_28 (dk_at dksX9_benchBy_4 3 rfl rfl)
theorem dX9_benchBy_98 : decode cX9_benchBy 98 = .ok (.ireturn, 1) := dk_172 (dk_at dksX9_benchBy_4 4 rfl rfl)
abbrev cX9_clash : ByteArray := prog_19_method_132_code
def yX9_clash : MethodName := ⟨RX9, "clash", "()I"⟩
def dkwX9_clash_1 : List UInt8 := [27, 182, 0, 200, 172, 132, 1, 1, 167, 255, 226, 42, 16, 6, 182, 0, 197, 172]
abbrev dktX9_clash_1 : List UInt8 := dkwX9_clash_1 ++ []
def dkwX9_clash_0 : List UInt8 := [3, 60, 27, 42, 180, 0, 7, 16, 6, 46, 162, 0, 25, 42, 27, 4, 96, 182, 1, 203, 154, 0, 9, 42]
abbrev dktX9_clash_0 : List UInt8 := dkwX9_clash_0 ++ dktX9_clash_1
theorem dksX9_clash_0 : cX9_clash.data.toList.drop 0 = dktX9_clash_0 := by decide +kernel
theorem dksX9_clash_1 : cX9_clash.data.toList.drop 24 = dktX9_clash_1 := dk_seg dksX9_clash_0 24 rfl rfl
theorem dX9_clash_0 : decode cX9_clash 0 = .ok (.iconst 0, 1) := dk_3 (dk_at dksX9_clash_0 0 rfl rfl)
theorem dX9_clash_1 : decode cX9_clash 1 = .ok (.istore_n 1, 1) := dk_60 (dk_at dksX9_clash_0 1 rfl rfl)
theorem dX9_clash_2 : decode cX9_clash 2 = .ok (.iload_n 1, 1) := dk_27 (dk_at dksX9_clash_0 2 rfl rfl)
theorem dX9_clash_3 : decode cX9_clash 3 = .ok (.aload_n 0, 1) := dk_42 (dk_at dksX9_clash_0 3 rfl rfl)
theorem dX9_clash_4 : decode cX9_clash 4 = .ok (.getfield 7, 3) := dk_180 0 7 (dk_at dksX9_clash_0 4 rfl rfl)
theorem dX9_clash_7 : decode cX9_clash 7 = .ok (.bipush 6, 2) := dk_16 6 (dk_at dksX9_clash_0 7 rfl rfl)
theorem dX9_clash_9 : decode cX9_clash 9 = .ok (.iaload, 1) := dk_46 (dk_at dksX9_clash_0 9 rfl rfl)
theorem dX9_clash_10 : decode cX9_clash 10 = .ok (.if_icmp .ge 25, 3) := dk_162 0 25 (dk_at dksX9_clash_0 10 rfl rfl)
theorem dX9_clash_13 : decode cX9_clash 13 = .ok (.aload_n 0, 1) := dk_42 (dk_at dksX9_clash_0 13 rfl rfl)
theorem dX9_clash_14 : decode cX9_clash 14 = .ok (.iload_n 1, 1) := dk_27 (dk_at dksX9_clash_0 14 rfl rfl)
theorem dX9_clash_15 : decode cX9_clash 15 = .ok (.iconst 1, 1) := dk_4 (dk_at dksX9_clash_0 15 rfl rfl)
theorem dX9_clash_16 : decode cX9_clash 16 = .ok (.iadd, 1) := dk_96 (dk_at dksX9_clash_0 16 rfl rfl)
theorem dX9_clash_17 : decode cX9_clash 17 = .ok (.invokevirtual 459, 3) := dk_182 1 203 (dk_at dksX9_clash_0 17 rfl rfl)
theorem dX9_clash_20 : decode cX9_clash 20 = .ok (.ifCond .ne 9, 3) := dk_154 0 9 (dk_at dksX9_clash_0 20 rfl rfl)
theorem dX9_clash_23 : decode cX9_clash 23 = .ok (.aload_n 0, 1) := dk_42 (dk_at dksX9_clash_0 23 rfl rfl)
theorem dX9_clash_24 : decode cX9_clash 24 = .ok (.iload_n 1, 1) := dk_27 (dk_at dksX9_clash_1 0 rfl rfl)
theorem dX9_clash_25 : decode cX9_clash 25 = .ok (.invokevirtual 200, 3) := dk_182 0 200 (dk_at dksX9_clash_1 1 rfl rfl)
theorem dX9_clash_28 : decode cX9_clash 28 = .ok (.ireturn, 1) := dk_172 (dk_at dksX9_clash_1 4 rfl rfl)
theorem dX9_clash_29 : decode cX9_clash 29 = .ok (.iinc 1 1, 3) := dk_132 1 1 (dk_at dksX9_clash_1 5 rfl rfl)
theorem dX9_clash_32 : decode cX9_clash 32 = .ok (.goto (-30), 3) := dk_167 255 226 (dk_at dksX9_clash_1 8 rfl rfl)
theorem dX9_clash_35 : decode cX9_clash 35 = .ok (.aload_n 0, 1) := dk_42 (dk_at dksX9_clash_1 11 rfl rfl)
theorem dX9_clash_36 : decode cX9_clash 36 = .ok (.bipush 6, 2) := dk_16 6 (dk_at dksX9_clash_1 12 rfl rfl)
theorem dX9_clash_38 : decode cX9_clash 38 = .ok (.invokevirtual 197, 3) := dk_182 0 197 (dk_at dksX9_clash_1 14 rfl rfl)
theorem dX9_clash_41 : decode cX9_clash 41 = .ok (.ireturn, 1) := dk_172 (dk_at dksX9_clash_1 17 rfl rfl)
abbrev cX9_liars : ByteArray := prog_19_method_134_code
def yX9_liars : MethodName := ⟨RX9, "liars", "()I"⟩
def dkwX9_liars_4 : List UInt8 := [4, 28, 120, 128, 60, 132, 2, 1, 167, 255, 177, 42, 27, 182, 0, 200, 172]
abbrev dktX9_liars_4 : List UInt8 := dkwX9_liars_4 ++ []
def dkwX9_liars_3 : List UInt8 := [153, 0, 7, 4, 167, 0, 4, 3, 62, 132, 4, 1, 167, 255, 212, 27, 29, 153, 0, 7, 3, 167, 0, 6]
abbrev dktX9_liars_3 : List UInt8 := dkwX9_liars_3 ++ dktX9_liars_4
def dkwX9_liars_2 : List UInt8 := [162, 0, 39, 29, 154, 0, 23, 42, 3, 21, 4, 182, 1, 125, 153, 0, 17, 42, 28, 21, 4, 182, 1, 206]
abbrev dktX9_liars_2 : List UInt8 := dkwX9_liars_2 ++ dktX9_liars_3
def dkwX9_liars_1 : List UInt8 := [42, 180, 0, 7, 7, 46, 162, 0, 75, 3, 62, 3, 54, 4, 21, 4, 42, 180, 0, 7, 5, 46]
abbrev dktX9_liars_1 : List UInt8 := dkwX9_liars_1 ++ dktX9_liars_2
def dkwX9_liars_0 : List UInt8 := [42, 182, 1, 132, 42, 3, 182, 1, 135, 154, 0, 10, 42, 16, 6, 182, 0, 197, 172, 3, 60, 3, 61, 28]
abbrev dktX9_liars_0 : List UInt8 := dkwX9_liars_0 ++ dktX9_liars_1
theorem dksX9_liars_0 : cX9_liars.data.toList.drop 0 = dktX9_liars_0 := by decide +kernel
theorem dksX9_liars_1 : cX9_liars.data.toList.drop 24 = dktX9_liars_1 := dk_seg dksX9_liars_0 24 rfl rfl
theorem dksX9_liars_2 : cX9_liars.data.toList.drop 46 = dktX9_liars_2 := dk_seg dksX9_liars_1 22 rfl rfl
theorem dksX9_liars_3 : cX9_liars.data.toList.drop 70 = dktX9_liars_3 := dk_seg dksX9_liars_2 24 rfl rfl
theorem dksX9_liars_4 : cX9_liars.data.toList.drop 94 = dktX9_liars_4 := dk_seg dksX9_liars_3 24 rfl rfl
theorem dX9_liars_0 : decode cX9_liars 0 = .ok (.aload_n 0, 1) := dk_42 (dk_at dksX9_liars_0 0 rfl rfl)
theorem dX9_liars_1 : decode cX9_liars 1 = .ok (.invokevirtual 388, 3) := dk_182 1 132 (dk_at dksX9_liars_0 1 rfl rfl)
theorem dX9_liars_4 : decode cX9_liars 4 = .ok (.aload_n 0, 1) := dk_42 (dk_at dksX9_liars_0 4 rfl rfl)
theorem dX9_liars_5 : decode cX9_liars 5 = .ok (.iconst 0, 1) := dk_3 (dk_at dksX9_liars_0 5 rfl rfl)
theorem dX9_liars_6 : decode cX9_liars 6 = .ok (.invokevirtual 391, 3) := dk_182 1 135 (dk_at dksX9_liars_0 6 rfl rfl)
theorem dX9_liars_9 : decode cX9_liars 9 = .ok (.ifCond .ne 10, 3) := dk_154 0 10 (dk_at dksX9_liars_0 9 rfl rfl)
theorem dX9_liars_12 : decode cX9_liars 12 = .ok (.aload_n 0, 1) := dk_42 (dk_at dksX9_liars_0 12 rfl rfl)
theorem dX9_liars_13 : decode cX9_liars 13 = .ok (.bipush 6, 2) := dk_16 6 (dk_at dksX9_liars_0 13 rfl rfl)
theorem dX9_liars_15 : decode cX9_liars 15 = .ok (.invokevirtual 197, 3) := dk_182 0 197 (dk_at dksX9_liars_0 15 rfl rfl)
theorem dX9_liars_18 : decode cX9_liars 18 = .ok (.ireturn, 1) := dk_172 (dk_at dksX9_liars_0 18 rfl rfl)
theorem dX9_liars_19 : decode cX9_liars 19 = .ok (.iconst 0, 1) := dk_3 (dk_at dksX9_liars_0 19 rfl rfl)
theorem dX9_liars_20 : decode cX9_liars 20 = .ok (.istore_n 1, 1) := dk_60 (dk_at dksX9_liars_0 20 rfl rfl)
theorem dX9_liars_21 : decode cX9_liars 21 = .ok (.iconst 0, 1) := dk_3 (dk_at dksX9_liars_0 21 rfl rfl)
theorem dX9_liars_22 : decode cX9_liars 22 = .ok (.istore_n 2, 1) := dk_61 (dk_at dksX9_liars_0 22 rfl rfl)
theorem dX9_liars_23 : decode cX9_liars 23 = .ok (.iload_n 2, 1) := dk_28 (dk_at dksX9_liars_0 23 rfl rfl)
theorem dX9_liars_24 : decode cX9_liars 24 = .ok (.aload_n 0, 1) := dk_42 (dk_at dksX9_liars_1 0 rfl rfl)
theorem dX9_liars_25 : decode cX9_liars 25 = .ok (.getfield 7, 3) := dk_180 0 7 (dk_at dksX9_liars_1 1 rfl rfl)
theorem dX9_liars_28 : decode cX9_liars 28 = .ok (.iconst 4, 1) := dk_7 (dk_at dksX9_liars_1 4 rfl rfl)
theorem dX9_liars_29 : decode cX9_liars 29 = .ok (.iaload, 1) := dk_46 (dk_at dksX9_liars_1 5 rfl rfl)
theorem dX9_liars_30 : decode cX9_liars 30 = .ok (.if_icmp .ge 75, 3) := dk_162 0 75 (dk_at dksX9_liars_1 6 rfl rfl)
theorem dX9_liars_33 : decode cX9_liars 33 = .ok (.iconst 0, 1) := dk_3 (dk_at dksX9_liars_1 9 rfl rfl)
theorem dX9_liars_34 : decode cX9_liars 34 = .ok (.istore_n 3, 1) := dk_62 (dk_at dksX9_liars_1 10 rfl rfl)
theorem dX9_liars_35 : decode cX9_liars 35 = .ok (.iconst 0, 1) := dk_3 (dk_at dksX9_liars_1 11 rfl rfl)
theorem dX9_liars_36 : decode cX9_liars 36 = .ok (.istore 4, 2) := dk_54 4 (dk_at dksX9_liars_1 12 rfl rfl)
theorem dX9_liars_38 : decode cX9_liars 38 = .ok (.iload 4, 2) := dk_21 4 (dk_at dksX9_liars_1 14 rfl rfl)
theorem dX9_liars_40 : decode cX9_liars 40 = .ok (.aload_n 0, 1) := dk_42 (dk_at dksX9_liars_1 16 rfl rfl)
theorem dX9_liars_41 : decode cX9_liars 41 = .ok (.getfield 7, 3) := dk_180 0 7 (dk_at dksX9_liars_1 17 rfl rfl)
theorem dX9_liars_44 : decode cX9_liars 44 = .ok (.iconst 2, 1) := dk_5 (dk_at dksX9_liars_1 20 rfl rfl)
theorem dX9_liars_45 : decode cX9_liars 45 = .ok (.iaload, 1) := dk_46 (dk_at dksX9_liars_1 21 rfl rfl)
theorem dX9_liars_46 : decode cX9_liars 46 = .ok (.if_icmp .ge 39, 3) := dk_162 0 39 (dk_at dksX9_liars_2 0 rfl rfl)
theorem dX9_liars_49 : decode cX9_liars 49 = .ok (.iload_n 3, 1) := dk_29 (dk_at dksX9_liars_2 3 rfl rfl)
theorem dX9_liars_50 : decode cX9_liars 50 = .ok (.ifCond .ne 23, 3) := dk_154 0 23 (dk_at dksX9_liars_2 4 rfl rfl)
theorem dX9_liars_53 : decode cX9_liars 53 = .ok (.aload_n 0, 1) := dk_42 (dk_at dksX9_liars_2 7 rfl rfl)
theorem dX9_liars_54 : decode cX9_liars 54 = .ok (.iconst 0, 1) := dk_3 (dk_at dksX9_liars_2 8 rfl rfl)
theorem dX9_liars_55 : decode cX9_liars 55 = .ok (.iload 4, 2) := dk_21 4 (dk_at dksX9_liars_2 9 rfl rfl)
theorem dX9_liars_57 : decode cX9_liars 57 = .ok (.invokevirtual 381, 3) := dk_182 1 125 (dk_at dksX9_liars_2 11 rfl rfl)
theorem dX9_liars_60 : decode cX9_liars 60 = .ok (.ifCond .eq 17, 3) := dk_153 0 17 (dk_at dksX9_liars_2 14 rfl rfl)
theorem dX9_liars_63 : decode cX9_liars 63 = .ok (.aload_n 0, 1) := dk_42 (dk_at dksX9_liars_2 17 rfl rfl)
theorem dX9_liars_64 : decode cX9_liars 64 = .ok (.iload_n 2, 1) := dk_28 (dk_at dksX9_liars_2 18 rfl rfl)
theorem dX9_liars_65 : decode cX9_liars 65 = .ok (.iload 4, 2) := dk_21 4 (dk_at dksX9_liars_2 19 rfl rfl)
theorem dX9_liars_67 : decode cX9_liars 67 = .ok (.invokevirtual 462, 3) := dk_182 1 206 (dk_at dksX9_liars_2 21 rfl rfl)
theorem dX9_liars_70 : decode cX9_liars 70 = .ok (.ifCond .eq 7, 3) := dk_153 0 7 (dk_at dksX9_liars_3 0 rfl rfl)
theorem dX9_liars_73 : decode cX9_liars 73 = .ok (.iconst 1, 1) := dk_4 (dk_at dksX9_liars_3 3 rfl rfl)
theorem dX9_liars_74 : decode cX9_liars 74 = .ok (.goto 4, 3) := dk_167 0 4 (dk_at dksX9_liars_3 4 rfl rfl)
theorem dX9_liars_77 : decode cX9_liars 77 = .ok (.iconst 0, 1) := dk_3 (dk_at dksX9_liars_3 7 rfl rfl)
theorem dX9_liars_78 : decode cX9_liars 78 = .ok (.istore_n 3, 1) := dk_62 (dk_at dksX9_liars_3 8 rfl rfl)
theorem dX9_liars_79 : decode cX9_liars 79 = .ok (.iinc 4 1, 3) := dk_132 4 1 (dk_at dksX9_liars_3 9 rfl rfl)
theorem dX9_liars_82 : decode cX9_liars 82 = .ok (.goto (-44), 3) := dk_167 255 212 (dk_at dksX9_liars_3 12 rfl rfl)
theorem dX9_liars_85 : decode cX9_liars 85 = .ok (.iload_n 1, 1) := dk_27 (dk_at dksX9_liars_3 15 rfl rfl)
theorem dX9_liars_86 : decode cX9_liars 86 = .ok (.iload_n 3, 1) := dk_29 (dk_at dksX9_liars_3 16 rfl rfl)
theorem dX9_liars_87 : decode cX9_liars 87 = .ok (.ifCond .eq 7, 3) := dk_153 0 7 (dk_at dksX9_liars_3 17 rfl rfl)
theorem dX9_liars_90 : decode cX9_liars 90 = .ok (.iconst 0, 1) := dk_3 (dk_at dksX9_liars_3 20 rfl rfl)
theorem dX9_liars_91 : decode cX9_liars 91 = .ok (.goto 6, 3) := dk_167 0 6 (dk_at dksX9_liars_3 21 rfl rfl)
theorem dX9_liars_94 : decode cX9_liars 94 = .ok (.iconst 1, 1) := dk_4 (dk_at dksX9_liars_4 0 rfl rfl)
theorem dX9_liars_95 : decode cX9_liars 95 = .ok (.iload_n 2, 1) := dk_28 (dk_at dksX9_liars_4 1 rfl rfl)
theorem dX9_liars_96 : decode cX9_liars 96 = .ok (.ishl, 1) := dk_120 (dk_at dksX9_liars_4 2 rfl rfl)
theorem dX9_liars_97 : decode cX9_liars 97 = .ok (.ior, 1) := dk_128 (dk_at dksX9_liars_4 3 rfl rfl)
theorem dX9_liars_98 : decode cX9_liars 98 = .ok (.istore_n 1, 1) := dk_60 (dk_at dksX9_liars_4 4 rfl rfl)
theorem dX9_liars_99 : decode cX9_liars 99 = .ok (.iinc 2 1, 3) := dk_132 2 1 (dk_at dksX9_liars_4 5 rfl rfl)
theorem dX9_liars_102 : decode cX9_liars 102 = .ok (.goto (-79), 3) := dk_167 255 177 (dk_at dksX9_liars_4 8 rfl rfl)
theorem dX9_liars_105 : decode cX9_liars 105 = .ok (.aload_n 0, 1) := dk_42 (dk_at dksX9_liars_4 11 rfl rfl)
theorem dX9_liars_106 : decode cX9_liars 106 = .ok (.iload_n 1, 1) := dk_27 (dk_at dksX9_liars_4 12 rfl rfl)
theorem dX9_liars_107 : decode cX9_liars 107 = .ok (.invokevirtual 200, 3) := dk_182 0 200 (dk_at dksX9_liars_4 13 rfl rfl)
theorem dX9_liars_110 : decode cX9_liars 110 = .ok (.ireturn, 1) := dk_172 (dk_at dksX9_liars_4 16 rfl rfl)
abbrev cX9_answersHonestly : ByteArray := prog_19_method_133_code
def yX9_answersHonestly : MethodName := ⟨RX9, "answersHonestly", "(II)Z"⟩
def dkwX9_answersHonestly_2 : List UInt8 := [132, 3, 1, 167, 255, 208, 4, 172]
abbrev dktX9_answersHonestly_2 : List UInt8 := dkwX9_answersHonestly_2 ++ []
def dkwX9_answersHonestly_1 : List UInt8 := [27, 42, 29, 4, 182, 1, 66, 28, 3, 182, 1, 112, 42, 29, 5, 182, 1, 66, 159, 0, 5, 3, 172]
abbrev dktX9_answersHonestly_1 : List UInt8 := dkwX9_answersHonestly_1 ++ dktX9_answersHonestly_2
def dkwX9_answersHonestly_0 : List UInt8 := [3, 62, 29, 42, 180, 0, 7, 16, 6, 46, 162, 0, 43, 42, 29, 3, 182, 1, 66, 27, 160, 0, 27, 42]
abbrev dktX9_answersHonestly_0 : List UInt8 := dkwX9_answersHonestly_0 ++ dktX9_answersHonestly_1
theorem dksX9_answersHonestly_0 : cX9_answersHonestly.data.toList.drop 0 = dktX9_answersHonestly_0 := by decide +kernel
theorem dksX9_answersHonestly_1 : cX9_answersHonestly.data.toList.drop 24 = dktX9_answersHonestly_1 := dk_seg dksX9_answersHonestly_0 24 rfl rfl
theorem dksX9_answersHonestly_2 : cX9_answersHonestly.data.toList.drop 47 = dktX9_answersHonestly_2 := dk_seg dksX9_answersHonestly_1 23 rfl rfl
theorem dX9_answersHonestly_0 : decode cX9_answersHonestly 0 = .ok (.iconst 0, 1) := dk_3 (dk_at dksX9_answersHonestly_0 0 rfl rfl)
theorem dX9_answersHonestly_1 : decode cX9_answersHonestly 1 = .ok (.istore_n 3, 1) := dk_62 (dk_at dksX9_answersHonestly_0 1 rfl rfl)
theorem dX9_answersHonestly_2 : decode cX9_answersHonestly 2 = .ok (.iload_n 3, 1) := dk_29 (dk_at dksX9_answersHonestly_0 2 rfl rfl)
theorem dX9_answersHonestly_3 : decode cX9_answersHonestly 3 = .ok (.aload_n 0, 1) := dk_42 (dk_at dksX9_answersHonestly_0 3 rfl rfl)
theorem dX9_answersHonestly_4 : decode cX9_answersHonestly 4 = .ok (.getfield 7, 3) := dk_180 0 7 (dk_at dksX9_answersHonestly_0 4 rfl rfl)
theorem dX9_answersHonestly_7 : decode cX9_answersHonestly 7 = .ok (.bipush 6, 2) := dk_16 6 (dk_at dksX9_answersHonestly_0 7 rfl rfl)
theorem dX9_answersHonestly_9 : decode cX9_answersHonestly 9 = .ok (.iaload, 1) := dk_46 (dk_at dksX9_answersHonestly_0 9 rfl rfl)
theorem dX9_answersHonestly_10 : decode cX9_answersHonestly 10 = .ok (.if_icmp .ge 43, 3) := dk_162 0 43 (dk_at dksX9_answersHonestly_0 10 rfl rfl)
theorem dX9_answersHonestly_13 : decode cX9_answersHonestly 13 = .ok (.aload_n 0, 1) := dk_42 (dk_at dksX9_answersHonestly_0 13 rfl rfl)
theorem dX9_answersHonestly_14 : decode cX9_answersHonestly 14 = .ok (.iload_n 3, 1) := dk_29 (dk_at dksX9_answersHonestly_0 14 rfl rfl)
theorem dX9_answersHonestly_15 : decode cX9_answersHonestly 15 = .ok (.iconst 0, 1) := dk_3 (dk_at dksX9_answersHonestly_0 15 rfl rfl)
theorem dX9_answersHonestly_16 : decode cX9_answersHonestly 16 = .ok (.invokevirtual 322, 3) := dk_182 1 66 (dk_at dksX9_answersHonestly_0 16 rfl rfl)
theorem dX9_answersHonestly_19 : decode cX9_answersHonestly 19 = .ok (.iload_n 1, 1) := dk_27 (dk_at dksX9_answersHonestly_0 19 rfl rfl)
theorem dX9_answersHonestly_20 : decode cX9_answersHonestly 20 = .ok (.if_icmp .ne 27, 3) := dk_160 0 27 (dk_at dksX9_answersHonestly_0 20 rfl rfl)
theorem dX9_answersHonestly_23 : decode cX9_answersHonestly 23 = .ok (.aload_n 0, 1) := dk_42 (dk_at dksX9_answersHonestly_0 23 rfl rfl)
theorem dX9_answersHonestly_24 : decode cX9_answersHonestly 24 = .ok (.iload_n 1, 1) := dk_27 (dk_at dksX9_answersHonestly_1 0 rfl rfl)
theorem dX9_answersHonestly_25 : decode cX9_answersHonestly 25 = .ok (.aload_n 0, 1) := dk_42 (dk_at dksX9_answersHonestly_1 1 rfl rfl)
theorem dX9_answersHonestly_26 : decode cX9_answersHonestly 26 = .ok (.iload_n 3, 1) := dk_29 (dk_at dksX9_answersHonestly_1 2 rfl rfl)
theorem dX9_answersHonestly_27 : decode cX9_answersHonestly 27 = .ok (.iconst 1, 1) := dk_4 (dk_at dksX9_answersHonestly_1 3 rfl rfl)
theorem dX9_answersHonestly_28 : decode cX9_answersHonestly 28 = .ok (.invokevirtual 322, 3) := dk_182 1 66 (dk_at dksX9_answersHonestly_1 4 rfl rfl)
theorem dX9_answersHonestly_31 : decode cX9_answersHonestly 31 = .ok (.iload_n 2, 1) := dk_28 (dk_at dksX9_answersHonestly_1 7 rfl rfl)
theorem dX9_answersHonestly_32 : decode cX9_answersHonestly 32 = .ok (.iconst 0, 1) := dk_3 (dk_at dksX9_answersHonestly_1 8 rfl rfl)
theorem dX9_answersHonestly_33 : decode cX9_answersHonestly 33 = .ok (.invokevirtual 368, 3) := dk_182 1 112 (dk_at dksX9_answersHonestly_1 9 rfl rfl)
theorem dX9_answersHonestly_36 : decode cX9_answersHonestly 36 = .ok (.aload_n 0, 1) := dk_42 (dk_at dksX9_answersHonestly_1 12 rfl rfl)
theorem dX9_answersHonestly_37 : decode cX9_answersHonestly 37 = .ok (.iload_n 3, 1) := dk_29 (dk_at dksX9_answersHonestly_1 13 rfl rfl)
theorem dX9_answersHonestly_38 : decode cX9_answersHonestly 38 = .ok (.iconst 2, 1) := dk_5 (dk_at dksX9_answersHonestly_1 14 rfl rfl)
theorem dX9_answersHonestly_39 : decode cX9_answersHonestly 39 = .ok (.invokevirtual 322, 3) := dk_182 1 66 (dk_at dksX9_answersHonestly_1 15 rfl rfl)
theorem dX9_answersHonestly_42 : decode cX9_answersHonestly 42 = .ok (.if_icmp .eq 5, 3) := dk_159 0 5 (dk_at dksX9_answersHonestly_1 18 rfl rfl)
theorem dX9_answersHonestly_45 : decode cX9_answersHonestly 45 = .ok (.iconst 0, 1) := dk_3 (dk_at dksX9_answersHonestly_1 21 rfl rfl)
theorem dX9_answersHonestly_46 : decode cX9_answersHonestly 46 = .ok (.ireturn, 1) := dk_172 (dk_at dksX9_answersHonestly_1 22 rfl rfl)
theorem dX9_answersHonestly_47 : decode cX9_answersHonestly 47 = .ok (.iinc 3 1, 3) := dk_132 3 1 (dk_at dksX9_answersHonestly_2 0 rfl rfl)
theorem dX9_answersHonestly_50 : decode cX9_answersHonestly 50 = .ok (.goto (-48), 3) := dk_167 255 208 (dk_at dksX9_answersHonestly_2 3 rfl rfl)
theorem dX9_answersHonestly_53 : decode cX9_answersHonestly 53 = .ok (.iconst 1, 1) := dk_4 (dk_at dksX9_answersHonestly_2 6 rfl rfl)
theorem dX9_answersHonestly_54 : decode cX9_answersHonestly 54 = .ok (.ireturn, 1) := dk_172 (dk_at dksX9_answersHonestly_2 7 rfl rfl)
abbrev cX9_sit : ByteArray := prog_19_method_143_code
def yX9_sit : MethodName := ⟨RX9, "sit", "(I)I"⟩
def dkwX9_sit_3 : List UInt8 := [180, 1, 224, 182, 0, 200, 172]
abbrev dktX9_sit_3 : List UInt8 := dkwX9_sit_3 ++ []
def dkwX9_sit_2 : List UInt8 := [180, 0, 91, 28, 42, 180, 0, 88, 28, 46, 79, 132, 2, 1, 167, 255, 235, 42, 4, 181, 1, 254, 42, 42]
abbrev dktX9_sit_2 : List UInt8 := dkwX9_sit_2 ++ dktX9_sit_3
def dkwX9_sit_1 : List UInt8 := [154, 0, 10, 42, 16, 6, 182, 0, 197, 172, 42, 27, 182, 1, 251, 3, 61, 28, 16, 6, 162, 0, 21, 42]
abbrev dktX9_sit_1 : List UInt8 := dkwX9_sit_1 ++ dktX9_sit_2
def dkwX9_sit_0 : List UInt8 := [27, 133, 9, 20, 1, 242, 184, 1, 244, 154, 0, 9, 42, 4, 182, 0, 197, 172, 42, 182, 1, 248]
abbrev dktX9_sit_0 : List UInt8 := dkwX9_sit_0 ++ dktX9_sit_1
theorem dksX9_sit_0 : cX9_sit.data.toList.drop 0 = dktX9_sit_0 := by decide +kernel
theorem dksX9_sit_1 : cX9_sit.data.toList.drop 22 = dktX9_sit_1 := dk_seg dksX9_sit_0 22 rfl rfl
theorem dksX9_sit_2 : cX9_sit.data.toList.drop 46 = dktX9_sit_2 := dk_seg dksX9_sit_1 24 rfl rfl
theorem dksX9_sit_3 : cX9_sit.data.toList.drop 70 = dktX9_sit_3 := dk_seg dksX9_sit_2 24 rfl rfl
theorem dX9_sit_0 : decode cX9_sit 0 = .ok (.iload_n 1, 1) := dk_27 (dk_at dksX9_sit_0 0 rfl rfl)
theorem dX9_sit_1 : decode cX9_sit 1 = .ok (.i2l, 1) := dk_133 (dk_at dksX9_sit_0 1 rfl rfl)
theorem dX9_sit_2 : decode cX9_sit 2 = .ok (.lconst 0, 1) := dk_9 (dk_at dksX9_sit_0 2 rfl rfl)
theorem dX9_sit_3 : decode cX9_sit 3 = .ok (.ldc2_w 498, 3) := dk_20 1 242 (dk_at dksX9_sit_0 3 rfl rfl)
theorem dX9_sit_6 : decode cX9_sit 6 = .ok (.invokestatic 500, 3) := dk_184 1 244 (dk_at dksX9_sit_0 6 rfl rfl)
theorem dX9_sit_9 : decode cX9_sit 9 = .ok (.ifCond .ne 9, 3) := dk_154 0 9 (dk_at dksX9_sit_0 9 rfl rfl)
theorem dX9_sit_12 : decode cX9_sit 12 = .ok (.aload_n 0, 1) := dk_42 (dk_at dksX9_sit_0 12 rfl rfl)
theorem dX9_sit_13 : decode cX9_sit 13 = .ok (.iconst 1, 1) := dk_4 (dk_at dksX9_sit_0 13 rfl rfl)
theorem dX9_sit_14 : decode cX9_sit 14 = .ok (.invokevirtual 197, 3) := dk_182 0 197 (dk_at dksX9_sit_0 14 rfl rfl)
theorem dX9_sit_17 : decode cX9_sit 17 = .ok (.ireturn, 1) := dk_172 (dk_at dksX9_sit_0 17 rfl rfl)
theorem dX9_sit_18 : decode cX9_sit 18 = .ok (.aload_n 0, 1) := dk_42 (dk_at dksX9_sit_0 18 rfl rfl)
theorem dX9_sit_19 : decode cX9_sit 19 = .ok (.invokevirtual 504, 3) := dk_182 1 248 (dk_at dksX9_sit_0 19 rfl rfl)
theorem dX9_sit_22 : decode cX9_sit 22 = .ok (.ifCond .ne 10, 3) := dk_154 0 10 (dk_at dksX9_sit_1 0 rfl rfl)
theorem dX9_sit_25 : decode cX9_sit 25 = .ok (.aload_n 0, 1) := dk_42 (dk_at dksX9_sit_1 3 rfl rfl)
theorem dX9_sit_26 : decode cX9_sit 26 = .ok (.bipush 6, 2) := dk_16 6 (dk_at dksX9_sit_1 4 rfl rfl)
theorem dX9_sit_28 : decode cX9_sit 28 = .ok (.invokevirtual 197, 3) := dk_182 0 197 (dk_at dksX9_sit_1 6 rfl rfl)
theorem dX9_sit_31 : decode cX9_sit 31 = .ok (.ireturn, 1) := dk_172 (dk_at dksX9_sit_1 9 rfl rfl)
theorem dX9_sit_32 : decode cX9_sit 32 = .ok (.aload_n 0, 1) := dk_42 (dk_at dksX9_sit_1 10 rfl rfl)
theorem dX9_sit_33 : decode cX9_sit 33 = .ok (.iload_n 1, 1) := dk_27 (dk_at dksX9_sit_1 11 rfl rfl)
theorem dX9_sit_34 : decode cX9_sit 34 = .ok (.invokevirtual 507, 3) := dk_182 1 251 (dk_at dksX9_sit_1 12 rfl rfl)
theorem dX9_sit_37 : decode cX9_sit 37 = .ok (.iconst 0, 1) := dk_3 (dk_at dksX9_sit_1 15 rfl rfl)
theorem dX9_sit_38 : decode cX9_sit 38 = .ok (.istore_n 2, 1) := dk_61 (dk_at dksX9_sit_1 16 rfl rfl)
theorem dX9_sit_39 : decode cX9_sit 39 = .ok (.iload_n 2, 1) := dk_28 (dk_at dksX9_sit_1 17 rfl rfl)
theorem dX9_sit_40 : decode cX9_sit 40 = .ok (.bipush 6, 2) := dk_16 6 (dk_at dksX9_sit_1 18 rfl rfl)
theorem dX9_sit_42 : decode cX9_sit 42 = .ok (.if_icmp .ge 21, 3) := dk_162 0 21 (dk_at dksX9_sit_1 20 rfl rfl)
theorem dX9_sit_45 : decode cX9_sit 45 = .ok (.aload_n 0, 1) := dk_42 (dk_at dksX9_sit_1 23 rfl rfl)
theorem dX9_sit_46 : decode cX9_sit 46 = .ok (.getfield 91, 3) := dk_180 0 91 (dk_at dksX9_sit_2 0 rfl rfl)
theorem dX9_sit_49 : decode cX9_sit 49 = .ok (.iload_n 2, 1) := dk_28 (dk_at dksX9_sit_2 3 rfl rfl)
theorem dX9_sit_50 : decode cX9_sit 50 = .ok (.aload_n 0, 1) := dk_42 (dk_at dksX9_sit_2 4 rfl rfl)
theorem dX9_sit_51 : decode cX9_sit 51 = .ok (.getfield 88, 3) := dk_180 0 88 (dk_at dksX9_sit_2 5 rfl rfl)
theorem dX9_sit_54 : decode cX9_sit 54 = .ok (.iload_n 2, 1) := dk_28 (dk_at dksX9_sit_2 8 rfl rfl)
theorem dX9_sit_55 : decode cX9_sit 55 = .ok (.iaload, 1) := dk_46 (dk_at dksX9_sit_2 9 rfl rfl)
theorem dX9_sit_56 : decode cX9_sit 56 = .ok (.iastore, 1) := dk_79 (dk_at dksX9_sit_2 10 rfl rfl)
theorem dX9_sit_57 : decode cX9_sit 57 = .ok (.iinc 2 1, 3) := dk_132 2 1 (dk_at dksX9_sit_2 11 rfl rfl)
theorem dX9_sit_60 : decode cX9_sit 60 = .ok (.goto (-21), 3) := dk_167 255 235 (dk_at dksX9_sit_2 14 rfl rfl)
theorem dX9_sit_63 : decode cX9_sit 63 = .ok (.aload_n 0, 1) := dk_42 (dk_at dksX9_sit_2 17 rfl rfl)
theorem dX9_sit_64 : decode cX9_sit 64 = .ok (.iconst 1, 1) := dk_4 (dk_at dksX9_sit_2 18 rfl rfl)
theorem dX9_sit_65 : decode cX9_sit 65 = .ok (.putfield 510, 3) := dk_181 1 254 (dk_at dksX9_sit_2 19 rfl rfl)
theorem dX9_sit_68 : decode cX9_sit 68 = .ok (.aload_n 0, 1) := dk_42 (dk_at dksX9_sit_2 22 rfl rfl)
theorem dX9_sit_69 : decode cX9_sit 69 = .ok (.aload_n 0, 1) := dk_42 (dk_at dksX9_sit_2 23 rfl rfl)
theorem dX9_sit_70 : decode cX9_sit 70 = .ok (.getfield 480, 3) := dk_180 1 224 (dk_at dksX9_sit_3 0 rfl rfl)
theorem dX9_sit_73 : decode cX9_sit 73 = .ok (.invokevirtual 200, 3) := dk_182 0 200 (dk_at dksX9_sit_3 3 rfl rfl)
theorem dX9_sit_76 : decode cX9_sit 76 = .ok (.ireturn, 1) := dk_172 (dk_at dksX9_sit_3 6 rfl rfl)
abbrev cX9_isFrom : ByteArray := prog_19_method_18_code
def yX9_isFrom : MethodName := ⟨RX9, "isFrom", "(JJJ)Z"⟩
def dkwX9_isFrom_0 : List UInt8 := [30, 32, 148, 155, 0, 14, 30, 22, 4, 148, 157, 0, 7, 4, 167, 0, 4, 3, 172]
abbrev dktX9_isFrom_0 : List UInt8 := dkwX9_isFrom_0 ++ []
theorem dksX9_isFrom_0 : cX9_isFrom.data.toList.drop 0 = dktX9_isFrom_0 := by decide +kernel
theorem dX9_isFrom_0 : decode cX9_isFrom 0 = .ok (.lload_n 0, 1) := dk_30 (dk_at dksX9_isFrom_0 0 rfl rfl)
theorem dX9_isFrom_1 : decode cX9_isFrom 1 = .ok (.lload_n 2, 1) := dk_32 (dk_at dksX9_isFrom_0 1 rfl rfl)
theorem dX9_isFrom_2 : decode cX9_isFrom 2 = .ok (.lcmp, 1) := dk_148 (dk_at dksX9_isFrom_0 2 rfl rfl)
theorem dX9_isFrom_3 : decode cX9_isFrom 3 = .ok (.ifCond .lt 14, 3) := dk_155 0 14 (dk_at dksX9_isFrom_0 3 rfl rfl)
theorem dX9_isFrom_6 : decode cX9_isFrom 6 = .ok (.lload_n 0, 1) := dk_30 (dk_at dksX9_isFrom_0 6 rfl rfl)
theorem dX9_isFrom_7 : decode cX9_isFrom 7 = .ok (.lload 4, 2) := dk_22 4 (dk_at dksX9_isFrom_0 7 rfl rfl)
theorem dX9_isFrom_9 : decode cX9_isFrom 9 = .ok (.lcmp, 1) := dk_148 (dk_at dksX9_isFrom_0 9 rfl rfl)
theorem dX9_isFrom_10 : decode cX9_isFrom 10 = .ok (.ifCond .gt 7, 3) := dk_157 0 7 (dk_at dksX9_isFrom_0 10 rfl rfl)
theorem dX9_isFrom_13 : decode cX9_isFrom 13 = .ok (.iconst 1, 1) := dk_4 (dk_at dksX9_isFrom_0 13 rfl rfl)
theorem dX9_isFrom_14 : decode cX9_isFrom 14 = .ok (.goto 4, 3) := dk_167 0 4 (dk_at dksX9_isFrom_0 14 rfl rfl)
theorem dX9_isFrom_17 : decode cX9_isFrom 17 = .ok (.iconst 0, 1) := dk_3 (dk_at dksX9_isFrom_0 17 rfl rfl)
theorem dX9_isFrom_18 : decode cX9_isFrom 18 = .ok (.ireturn, 1) := dk_172 (dk_at dksX9_isFrom_0 18 rfl rfl)
abbrev cX9_canSit : ByteArray := prog_19_method_142_code
def yX9_canSit : MethodName := ⟨RX9, "canSit", "()Z"⟩
def dkwX9_canSit_1 : List UInt8 := [172]
abbrev dktX9_canSit_1 : List UInt8 := dkwX9_canSit_1 ++ []
def dkwX9_canSit_0 : List UInt8 := [42, 180, 0, 7, 16, 7, 46, 2, 159, 0, 15, 42, 3, 182, 1, 42, 158, 0, 7, 4, 167, 0, 4, 3]
abbrev dktX9_canSit_0 : List UInt8 := dkwX9_canSit_0 ++ dktX9_canSit_1
theorem dksX9_canSit_0 : cX9_canSit.data.toList.drop 0 = dktX9_canSit_0 := by decide +kernel
theorem dksX9_canSit_1 : cX9_canSit.data.toList.drop 24 = dktX9_canSit_1 := dk_seg dksX9_canSit_0 24 rfl rfl
theorem dX9_canSit_0 : decode cX9_canSit 0 = .ok (.aload_n 0, 1) := dk_42 (dk_at dksX9_canSit_0 0 rfl rfl)
theorem dX9_canSit_1 : decode cX9_canSit 1 = .ok (.getfield 7, 3) := dk_180 0 7 (dk_at dksX9_canSit_0 1 rfl rfl)
theorem dX9_canSit_4 : decode cX9_canSit 4 = .ok (.bipush 7, 2) := dk_16 7 (dk_at dksX9_canSit_0 4 rfl rfl)
theorem dX9_canSit_6 : decode cX9_canSit 6 = .ok (.iaload, 1) := dk_46 (dk_at dksX9_canSit_0 6 rfl rfl)
theorem dX9_canSit_7 : decode cX9_canSit 7 = .ok (.iconst (-1), 1) := dk_2 (dk_at dksX9_canSit_0 7 rfl rfl)
theorem dX9_canSit_8 : decode cX9_canSit 8 = .ok (.if_icmp .eq 15, 3) := dk_159 0 15 (dk_at dksX9_canSit_0 8 rfl rfl)
theorem dX9_canSit_11 : decode cX9_canSit 11 = .ok (.aload_n 0, 1) := dk_42 (dk_at dksX9_canSit_0 11 rfl rfl)
theorem dX9_canSit_12 : decode cX9_canSit 12 = .ok (.iconst 0, 1) := dk_3 (dk_at dksX9_canSit_0 12 rfl rfl)
theorem dX9_canSit_13 : decode cX9_canSit 13 = .ok (.invokevirtual 298, 3) := dk_182 1 42 (dk_at dksX9_canSit_0 13 rfl rfl)
theorem dX9_canSit_16 : decode cX9_canSit 16 = .ok (.ifCond .le 7, 3) := dk_158 0 7 (dk_at dksX9_canSit_0 16 rfl rfl)
theorem dX9_canSit_19 : decode cX9_canSit 19 = .ok (.iconst 1, 1) := dk_4 (dk_at dksX9_canSit_0 19 rfl rfl)
theorem dX9_canSit_20 : decode cX9_canSit 20 = .ok (.goto 4, 3) := dk_167 0 4 (dk_at dksX9_canSit_0 20 rfl rfl)
theorem dX9_canSit_23 : decode cX9_canSit 23 = .ok (.iconst 0, 1) := dk_3 (dk_at dksX9_canSit_0 23 rfl rfl)
theorem dX9_canSit_24 : decode cX9_canSit 24 = .ok (.ireturn, 1) := dk_172 (dk_at dksX9_canSit_1 0 rfl rfl)
abbrev cX9_sits : ByteArray := prog_19_method_141_code
def yX9_sits : MethodName := ⟨RX9, "sits", "(I)V"⟩
def dkwX9_sits_11 : List UInt8 := [21, 5, 96, 42, 180, 0, 85, 21, 5, 46, 79, 132, 5, 1, 167, 255, 229, 177]
abbrev dktX9_sits_11 : List UInt8 := dkwX9_sits_11 ++ []
def dkwX9_sits_10 : List UInt8 := [180, 0, 7, 16, 6, 29, 79, 3, 54, 5, 21, 5, 16, 48, 162, 0, 26, 42, 180, 0, 7, 16, 100]
abbrev dktX9_sits_10 : List UInt8 := dkwX9_sits_10 ++ dktX9_sits_11
def dkwX9_sits_9 : List UInt8 := [167, 0, 7, 4, 21, 5, 120, 128, 79, 132, 5, 1, 167, 255, 215, 42, 180, 0, 7, 8, 28, 79, 42]
abbrev dktX9_sits_9 : List UInt8 := dkwX9_sits_9 ++ dktX9_sits_10
def dkwX9_sits_8 : List UInt8 := [46, 162, 0, 36, 42, 180, 0, 88, 8, 92, 46, 42, 180, 0, 82, 21, 5, 46, 154, 0, 7, 3]
abbrev dktX9_sits_8 : List UInt8 := dkwX9_sits_8 ++ dktX9_sits_9
def dkwX9_sits_7 : List UInt8 := [7, 42, 3, 182, 1, 135, 79, 42, 180, 0, 88, 8, 3, 79, 3, 54, 5, 21, 5, 42, 180, 0, 7, 7]
abbrev dktX9_sits_7 : List UInt8 := dkwX9_sits_7 ++ dktX9_sits_8
def dkwX9_sits_6 : List UInt8 := [180, 0, 7, 8, 46, 79, 42, 180, 0, 88, 6, 42, 180, 1, 217, 79, 42, 182, 1, 132, 42, 180, 0, 88]
abbrev dktX9_sits_6 : List UInt8 := dkwX9_sits_6 ++ dktX9_sits_7
def dkwX9_sits_5 : List UInt8 := [180, 0, 7, 16, 6, 46, 79, 42, 180, 0, 88, 4, 42, 182, 1, 162, 79, 42, 180, 0, 88, 5, 42]
abbrev dktX9_sits_5 : List UInt8 := dkwX9_sits_5 ++ dktX9_sits_6
def dkwX9_sits_4 : List UInt8 := [16, 7, 46, 162, 0, 14, 42, 21, 4, 182, 1, 239, 54, 4, 167, 255, 230, 42, 180, 0, 88, 3, 42]
abbrev dktX9_sits_4 : List UInt8 := dkwX9_sits_4 ++ dktX9_sits_5
def dkwX9_sits_3 : List UInt8 := [182, 1, 236, 42, 5, 181, 1, 224, 3, 54, 4, 21, 4, 2, 159, 0, 26, 21, 4, 42, 180, 0, 7]
abbrev dktX9_sits_3 : List UInt8 := dkwX9_sits_3 ++ dktX9_sits_4
def dkwX9_sits_2 : List UInt8 := [167, 255, 229, 42, 180, 0, 7, 8, 3, 79, 42, 180, 0, 7, 16, 6, 3, 79, 42, 27, 181, 1, 209, 42]
abbrev dktX9_sits_2 : List UInt8 := dkwX9_sits_2 ++ dktX9_sits_3
def dkwX9_sits_1 : List UInt8 := [162, 0, 26, 42, 180, 0, 85, 21, 4, 42, 180, 0, 7, 16, 100, 21, 4, 96, 46, 79, 132, 4, 1]
abbrev dktX9_sits_1 : List UInt8 := dkwX9_sits_1 ++ dktX9_sits_2
def dkwX9_sits_0 : List UInt8 := [42, 180, 0, 7, 8, 46, 61, 42, 180, 0, 7, 16, 6, 46, 62, 3, 54, 4, 21, 4, 16, 48]
abbrev dktX9_sits_0 : List UInt8 := dkwX9_sits_0 ++ dktX9_sits_1
theorem dksX9_sits_0 : cX9_sits.data.toList.drop 0 = dktX9_sits_0 := by decide +kernel
theorem dksX9_sits_1 : cX9_sits.data.toList.drop 22 = dktX9_sits_1 := dk_seg dksX9_sits_0 22 rfl rfl
theorem dksX9_sits_2 : cX9_sits.data.toList.drop 45 = dktX9_sits_2 := dk_seg dksX9_sits_1 23 rfl rfl
theorem dksX9_sits_3 : cX9_sits.data.toList.drop 69 = dktX9_sits_3 := dk_seg dksX9_sits_2 24 rfl rfl
theorem dksX9_sits_4 : cX9_sits.data.toList.drop 92 = dktX9_sits_4 := dk_seg dksX9_sits_3 23 rfl rfl
theorem dksX9_sits_5 : cX9_sits.data.toList.drop 115 = dktX9_sits_5 := dk_seg dksX9_sits_4 23 rfl rfl
theorem dksX9_sits_6 : cX9_sits.data.toList.drop 138 = dktX9_sits_6 := dk_seg dksX9_sits_5 23 rfl rfl
theorem dksX9_sits_7 : cX9_sits.data.toList.drop 162 = dktX9_sits_7 := dk_seg dksX9_sits_6 24 rfl rfl
theorem dksX9_sits_8 : cX9_sits.data.toList.drop 186 = dktX9_sits_8 := dk_seg dksX9_sits_7 24 rfl rfl
theorem dksX9_sits_9 : cX9_sits.data.toList.drop 208 = dktX9_sits_9 := dk_seg dksX9_sits_8 22 rfl rfl
theorem dksX9_sits_10 : cX9_sits.data.toList.drop 231 = dktX9_sits_10 := dk_seg dksX9_sits_9 23 rfl rfl
theorem dksX9_sits_11 : cX9_sits.data.toList.drop 254 = dktX9_sits_11 := dk_seg dksX9_sits_10 23 rfl rfl
theorem dX9_sits_0 : decode cX9_sits 0 = .ok (.aload_n 0, 1) := dk_42 (dk_at dksX9_sits_0 0 rfl rfl)
theorem dX9_sits_1 : decode cX9_sits 1 = .ok (.getfield 7, 3) := dk_180 0 7 (dk_at dksX9_sits_0 1 rfl rfl)
theorem dX9_sits_4 : decode cX9_sits 4 = .ok (.iconst 5, 1) := dk_8 (dk_at dksX9_sits_0 4 rfl rfl)
theorem dX9_sits_5 : decode cX9_sits 5 = .ok (.iaload, 1) := dk_46 (dk_at dksX9_sits_0 5 rfl rfl)
theorem dX9_sits_6 : decode cX9_sits 6 = .ok (.istore_n 2, 1) := dk_61 (dk_at dksX9_sits_0 6 rfl rfl)
theorem dX9_sits_7 : decode cX9_sits 7 = .ok (.aload_n 0, 1) := dk_42 (dk_at dksX9_sits_0 7 rfl rfl)
theorem dX9_sits_8 : decode cX9_sits 8 = .ok (.getfield 7, 3) := dk_180 0 7 (dk_at dksX9_sits_0 8 rfl rfl)
theorem dX9_sits_11 : decode cX9_sits 11 = .ok (.bipush 6, 2) := dk_16 6 (dk_at dksX9_sits_0 11 rfl rfl)
theorem dX9_sits_13 : decode cX9_sits 13 = .ok (.iaload, 1) := dk_46 (dk_at dksX9_sits_0 13 rfl rfl)
theorem dX9_sits_14 : decode cX9_sits 14 = .ok (.istore_n 3, 1) := dk_62 (dk_at dksX9_sits_0 14 rfl rfl)
theorem dX9_sits_15 : decode cX9_sits 15 = .ok (.iconst 0, 1) := dk_3 (dk_at dksX9_sits_0 15 rfl rfl)
theorem dX9_sits_16 : decode cX9_sits 16 = .ok (.istore 4, 2) := dk_54 4 (dk_at dksX9_sits_0 16 rfl rfl)
theorem dX9_sits_18 : decode cX9_sits 18 = .ok (.iload 4, 2) := dk_21 4 (dk_at dksX9_sits_0 18 rfl rfl)
theorem dX9_sits_20 : decode cX9_sits 20 = .ok (.bipush 48, 2) := dk_16 48 (dk_at dksX9_sits_0 20 rfl rfl)
theorem dX9_sits_22 : decode cX9_sits 22 = .ok (.if_icmp .ge 26, 3) := dk_162 0 26 (dk_at dksX9_sits_1 0 rfl rfl)
theorem dX9_sits_25 : decode cX9_sits 25 = .ok (.aload_n 0, 1) := dk_42 (dk_at dksX9_sits_1 3 rfl rfl)
theorem dX9_sits_26 : decode cX9_sits 26 = .ok (.getfield 85, 3) := dk_180 0 85 (dk_at dksX9_sits_1 4 rfl rfl)
theorem dX9_sits_29 : decode cX9_sits 29 = .ok (.iload 4, 2) := dk_21 4 (dk_at dksX9_sits_1 7 rfl rfl)
theorem dX9_sits_31 : decode cX9_sits 31 = .ok (.aload_n 0, 1) := dk_42 (dk_at dksX9_sits_1 9 rfl rfl)
theorem dX9_sits_32 : decode cX9_sits 32 = .ok (.getfield 7, 3) := dk_180 0 7 (dk_at dksX9_sits_1 10 rfl rfl)
theorem dX9_sits_35 : decode cX9_sits 35 = .ok (.bipush 100, 2) := dk_16 100 (dk_at dksX9_sits_1 13 rfl rfl)
theorem dX9_sits_37 : decode cX9_sits 37 = .ok (.iload 4, 2) := dk_21 4 (dk_at dksX9_sits_1 15 rfl rfl)
theorem dX9_sits_39 : decode cX9_sits 39 = .ok (.iadd, 1) := dk_96 (dk_at dksX9_sits_1 17 rfl rfl)
theorem dX9_sits_40 : decode cX9_sits 40 = .ok (.iaload, 1) := dk_46 (dk_at dksX9_sits_1 18 rfl rfl)
theorem dX9_sits_41 : decode cX9_sits 41 = .ok (.iastore, 1) := dk_79 (dk_at dksX9_sits_1 19 rfl rfl)
theorem dX9_sits_42 : decode cX9_sits 42 = .ok (.iinc 4 1, 3) := dk_132 4 1 (dk_at dksX9_sits_1 20 rfl rfl)
theorem dX9_sits_45 : decode cX9_sits 45 = .ok (.goto (-27), 3) := dk_167 255 229 (dk_at dksX9_sits_2 0 rfl rfl)
theorem dX9_sits_48 : decode cX9_sits 48 = .ok (.aload_n 0, 1) := dk_42 (dk_at dksX9_sits_2 3 rfl rfl)
theorem dX9_sits_49 : decode cX9_sits 49 = .ok (.getfield 7, 3) := dk_180 0 7 (dk_at dksX9_sits_2 4 rfl rfl)
theorem dX9_sits_52 : decode cX9_sits 52 = .ok (.iconst 5, 1) := dk_8 (dk_at dksX9_sits_2 7 rfl rfl)
theorem dX9_sits_53 : decode cX9_sits 53 = .ok (.iconst 0, 1) := dk_3 (dk_at dksX9_sits_2 8 rfl rfl)
theorem dX9_sits_54 : decode cX9_sits 54 = .ok (.iastore, 1) := dk_79 (dk_at dksX9_sits_2 9 rfl rfl)
theorem dX9_sits_55 : decode cX9_sits 55 = .ok (.aload_n 0, 1) := dk_42 (dk_at dksX9_sits_2 10 rfl rfl)
theorem dX9_sits_56 : decode cX9_sits 56 = .ok (.getfield 7, 3) := dk_180 0 7 (dk_at dksX9_sits_2 11 rfl rfl)
theorem dX9_sits_59 : decode cX9_sits 59 = .ok (.bipush 6, 2) := dk_16 6 (dk_at dksX9_sits_2 14 rfl rfl)
theorem dX9_sits_61 : decode cX9_sits 61 = .ok (.iconst 0, 1) := dk_3 (dk_at dksX9_sits_2 16 rfl rfl)
theorem dX9_sits_62 : decode cX9_sits 62 = .ok (.iastore, 1) := dk_79 (dk_at dksX9_sits_2 17 rfl rfl)
theorem dX9_sits_63 : decode cX9_sits 63 = .ok (.aload_n 0, 1) := dk_42 (dk_at dksX9_sits_2 18 rfl rfl)
theorem dX9_sits_64 : decode cX9_sits 64 = .ok (.iload_n 1, 1) := dk_27 (dk_at dksX9_sits_2 19 rfl rfl)
theorem dX9_sits_65 : decode cX9_sits 65 = .ok (.putfield 465, 3) := dk_181 1 209 (dk_at dksX9_sits_2 20 rfl rfl)
theorem dX9_sits_68 : decode cX9_sits 68 = .ok (.aload_n 0, 1) := dk_42 (dk_at dksX9_sits_2 23 rfl rfl)
theorem dX9_sits_69 : decode cX9_sits 69 = .ok (.invokevirtual 492, 3) := dk_182 1 236 (dk_at dksX9_sits_3 0 rfl rfl)
theorem dX9_sits_72 : decode cX9_sits 72 = .ok (.aload_n 0, 1) := dk_42 (dk_at dksX9_sits_3 3 rfl rfl)
theorem dX9_sits_73 : decode cX9_sits 73 = .ok (.iconst 2, 1) := dk_5 (dk_at dksX9_sits_3 4 rfl rfl)
theorem dX9_sits_74 : decode cX9_sits 74 = .ok (.putfield 480, 3) := dk_181 1 224 (dk_at dksX9_sits_3 5 rfl rfl)
theorem dX9_sits_77 : decode cX9_sits 77 = .ok (.iconst 0, 1) := dk_3 (dk_at dksX9_sits_3 8 rfl rfl)
theorem dX9_sits_78 : decode cX9_sits 78 = .ok (.istore 4, 2) := dk_54 4 (dk_at dksX9_sits_3 9 rfl rfl)
theorem dX9_sits_80 : decode cX9_sits 80 = .ok (.iload 4, 2) := dk_21 4 (dk_at dksX9_sits_3 11 rfl rfl)
theorem dX9_sits_82 : decode cX9_sits 82 = .ok (.iconst (-1), 1) := dk_2 (dk_at dksX9_sits_3 13 rfl rfl)
theorem dX9_sits_83 : decode cX9_sits 83 = .ok (.if_icmp .eq 26, 3) := dk_159 0 26 (dk_at dksX9_sits_3 14 rfl rfl)
theorem dX9_sits_86 : decode cX9_sits 86 = .ok (.iload 4, 2) := dk_21 4 (dk_at dksX9_sits_3 17 rfl rfl)
theorem dX9_sits_88 : decode cX9_sits 88 = .ok (.aload_n 0, 1) := dk_42 (dk_at dksX9_sits_3 19 rfl rfl)
theorem dX9_sits_89 : decode cX9_sits 89 = .ok (.getfield 7, 3) := dk_180 0 7 (dk_at dksX9_sits_3 20 rfl rfl)
theorem dX9_sits_92 : decode cX9_sits 92 = .ok (.bipush 7, 2) := dk_16 7 (dk_at dksX9_sits_4 0 rfl rfl)
theorem dX9_sits_94 : decode cX9_sits 94 = .ok (.iaload, 1) := dk_46 (dk_at dksX9_sits_4 2 rfl rfl)
theorem dX9_sits_95 : decode cX9_sits 95 = .ok (.if_icmp .ge 14, 3) := dk_162 0 14 (dk_at dksX9_sits_4 3 rfl rfl)
theorem dX9_sits_98 : decode cX9_sits 98 = .ok (.aload_n 0, 1) := dk_42 (dk_at dksX9_sits_4 6 rfl rfl)
theorem dX9_sits_99 : decode cX9_sits 99 = .ok (.iload 4, 2) := dk_21 4 (dk_at dksX9_sits_4 7 rfl rfl)
theorem dX9_sits_101 : decode cX9_sits 101 = .ok (.invokevirtual 495, 3) := dk_182 1 239 (dk_at dksX9_sits_4 9 rfl rfl)
theorem dX9_sits_104 : decode cX9_sits 104 = .ok (.istore 4, 2) := dk_54 4 (dk_at dksX9_sits_4 12 rfl rfl)
theorem dX9_sits_106 : decode cX9_sits 106 = .ok (.goto (-26), 3) := dk_167 255 230 (dk_at dksX9_sits_4 14 rfl rfl)
theorem dX9_sits_109 : decode cX9_sits 109 = .ok (.aload_n 0, 1) := dk_42 (dk_at dksX9_sits_4 17 rfl rfl)
theorem dX9_sits_110 : decode cX9_sits 110 = .ok (.getfield 88, 3) := dk_180 0 88 (dk_at dksX9_sits_4 18 rfl rfl)
theorem dX9_sits_113 : decode cX9_sits 113 = .ok (.iconst 0, 1) := dk_3 (dk_at dksX9_sits_4 21 rfl rfl)
theorem dX9_sits_114 : decode cX9_sits 114 = .ok (.aload_n 0, 1) := dk_42 (dk_at dksX9_sits_4 22 rfl rfl)
theorem dX9_sits_115 : decode cX9_sits 115 = .ok (.getfield 7, 3) := dk_180 0 7 (dk_at dksX9_sits_5 0 rfl rfl)
theorem dX9_sits_118 : decode cX9_sits 118 = .ok (.bipush 6, 2) := dk_16 6 (dk_at dksX9_sits_5 3 rfl rfl)
theorem dX9_sits_120 : decode cX9_sits 120 = .ok (.iaload, 1) := dk_46 (dk_at dksX9_sits_5 5 rfl rfl)
theorem dX9_sits_121 : decode cX9_sits 121 = .ok (.iastore, 1) := dk_79 (dk_at dksX9_sits_5 6 rfl rfl)
theorem dX9_sits_122 : decode cX9_sits 122 = .ok (.aload_n 0, 1) := dk_42 (dk_at dksX9_sits_5 7 rfl rfl)
theorem dX9_sits_123 : decode cX9_sits 123 = .ok (.getfield 88, 3) := dk_180 0 88 (dk_at dksX9_sits_5 8 rfl rfl)
theorem dX9_sits_126 : decode cX9_sits 126 = .ok (.iconst 1, 1) := dk_4 (dk_at dksX9_sits_5 11 rfl rfl)
theorem dX9_sits_127 : decode cX9_sits 127 = .ok (.aload_n 0, 1) := dk_42 (dk_at dksX9_sits_5 12 rfl rfl)
theorem dX9_sits_128 : decode cX9_sits 128 = .ok (.invokevirtual 418, 3) := dk_182 1 162 (dk_at dksX9_sits_5 13 rfl rfl)
theorem dX9_sits_131 : decode cX9_sits 131 = .ok (.iastore, 1) := dk_79 (dk_at dksX9_sits_5 16 rfl rfl)
theorem dX9_sits_132 : decode cX9_sits 132 = .ok (.aload_n 0, 1) := dk_42 (dk_at dksX9_sits_5 17 rfl rfl)
theorem dX9_sits_133 : decode cX9_sits 133 = .ok (.getfield 88, 3) := dk_180 0 88 (dk_at dksX9_sits_5 18 rfl rfl)
theorem dX9_sits_136 : decode cX9_sits 136 = .ok (.iconst 2, 1) := dk_5 (dk_at dksX9_sits_5 21 rfl rfl)
theorem dX9_sits_137 : decode cX9_sits 137 = .ok (.aload_n 0, 1) := dk_42 (dk_at dksX9_sits_5 22 rfl rfl)
theorem dX9_sits_138 : decode cX9_sits 138 = .ok (.getfield 7, 3) := dk_180 0 7 (dk_at dksX9_sits_6 0 rfl rfl)
theorem dX9_sits_141 : decode cX9_sits 141 = .ok (.iconst 5, 1) := dk_8 (dk_at dksX9_sits_6 3 rfl rfl)
theorem dX9_sits_142 : decode cX9_sits 142 = .ok (.iaload, 1) := dk_46 (dk_at dksX9_sits_6 4 rfl rfl)
theorem dX9_sits_143 : decode cX9_sits 143 = .ok (.iastore, 1) := dk_79 (dk_at dksX9_sits_6 5 rfl rfl)
theorem dX9_sits_144 : decode cX9_sits 144 = .ok (.aload_n 0, 1) := dk_42 (dk_at dksX9_sits_6 6 rfl rfl)
theorem dX9_sits_145 : decode cX9_sits 145 = .ok (.getfield 88, 3) := dk_180 0 88 (dk_at dksX9_sits_6 7 rfl rfl)
theorem dX9_sits_148 : decode cX9_sits 148 = .ok (.iconst 3, 1) := dk_6 (dk_at dksX9_sits_6 10 rfl rfl)
theorem dX9_sits_149 : decode cX9_sits 149 = .ok (.aload_n 0, 1) := dk_42 (dk_at dksX9_sits_6 11 rfl rfl)
theorem dX9_sits_150 : decode cX9_sits 150 = .ok (.getfield 473, 3) := dk_180 1 217 (dk_at dksX9_sits_6 12 rfl rfl)
theorem dX9_sits_153 : decode cX9_sits 153 = .ok (.iastore, 1) := dk_79 (dk_at dksX9_sits_6 15 rfl rfl)
theorem dX9_sits_154 : decode cX9_sits 154 = .ok (.aload_n 0, 1) := dk_42 (dk_at dksX9_sits_6 16 rfl rfl)
theorem dX9_sits_155 : decode cX9_sits 155 = .ok (.invokevirtual 388, 3) := dk_182 1 132 (dk_at dksX9_sits_6 17 rfl rfl)
theorem dX9_sits_158 : decode cX9_sits 158 = .ok (.aload_n 0, 1) := dk_42 (dk_at dksX9_sits_6 20 rfl rfl)
theorem dX9_sits_159 : decode cX9_sits 159 = .ok (.getfield 88, 3) := dk_180 0 88 (dk_at dksX9_sits_6 21 rfl rfl)
theorem dX9_sits_162 : decode cX9_sits 162 = .ok (.iconst 4, 1) := dk_7 (dk_at dksX9_sits_7 0 rfl rfl)
theorem dX9_sits_163 : decode cX9_sits 163 = .ok (.aload_n 0, 1) := dk_42 (dk_at dksX9_sits_7 1 rfl rfl)
theorem dX9_sits_164 : decode cX9_sits 164 = .ok (.iconst 0, 1) := dk_3 (dk_at dksX9_sits_7 2 rfl rfl)
theorem dX9_sits_165 : decode cX9_sits 165 = .ok (.invokevirtual 391, 3) := dk_182 1 135 (dk_at dksX9_sits_7 3 rfl rfl)
theorem dX9_sits_168 : decode cX9_sits 168 = .ok (.iastore, 1) := dk_79 (dk_at dksX9_sits_7 6 rfl rfl)
theorem dX9_sits_169 : decode cX9_sits 169 = .ok (.aload_n 0, 1) := dk_42 (dk_at dksX9_sits_7 7 rfl rfl)
theorem dX9_sits_170 : decode cX9_sits 170 = .ok (.getfield 88, 3) := dk_180 0 88 (dk_at dksX9_sits_7 8 rfl rfl)
theorem dX9_sits_173 : decode cX9_sits 173 = .ok (.iconst 5, 1) := dk_8 (dk_at dksX9_sits_7 11 rfl rfl)
theorem dX9_sits_174 : decode cX9_sits 174 = .ok (.iconst 0, 1) := dk_3 (dk_at dksX9_sits_7 12 rfl rfl)
theorem dX9_sits_175 : decode cX9_sits 175 = .ok (.iastore, 1) := dk_79 (dk_at dksX9_sits_7 13 rfl rfl)
theorem dX9_sits_176 : decode cX9_sits 176 = .ok (.iconst 0, 1) := dk_3 (dk_at dksX9_sits_7 14 rfl rfl)
theorem dX9_sits_177 : decode cX9_sits 177 = .ok (.istore 5, 2) := dk_54 5 (dk_at dksX9_sits_7 15 rfl rfl)
theorem dX9_sits_179 : decode cX9_sits 179 = .ok (.iload 5, 2) := dk_21 5 (dk_at dksX9_sits_7 17 rfl rfl)
theorem dX9_sits_181 : decode cX9_sits 181 = .ok (.aload_n 0, 1) := dk_42 (dk_at dksX9_sits_7 19 rfl rfl)
theorem dX9_sits_182 : decode cX9_sits 182 = .ok (.getfield 7, 3) := dk_180 0 7 (dk_at dksX9_sits_7 20 rfl rfl)
theorem dX9_sits_185 : decode cX9_sits 185 = .ok (.iconst 4, 1) := dk_7 (dk_at dksX9_sits_7 23 rfl rfl)
theorem dX9_sits_186 : decode cX9_sits 186 = .ok (.iaload, 1) := dk_46 (dk_at dksX9_sits_8 0 rfl rfl)
theorem dX9_sits_187 : decode cX9_sits 187 = .ok (.if_icmp .ge 36, 3) := dk_162 0 36 (dk_at dksX9_sits_8 1 rfl rfl)
theorem dX9_sits_190 : decode cX9_sits 190 = .ok (.aload_n 0, 1) := dk_42 (dk_at dksX9_sits_8 4 rfl rfl)
theorem dX9_sits_191 : decode cX9_sits 191 = .ok (.getfield 88, 3) := dk_180 0 88 (dk_at dksX9_sits_8 5 rfl rfl)
theorem dX9_sits_194 : decode cX9_sits 194 = .ok (.iconst 5, 1) := dk_8 (dk_at dksX9_sits_8 8 rfl rfl)
theorem dX9_sits_195 : decode cX9_sits 195 = .ok (.dup2, 1) := dk_92 (dk_at dksX9_sits_8 9 rfl rfl)
theorem dX9_sits_196 : decode cX9_sits 196 = .ok (.iaload, 1) := dk_46 (dk_at dksX9_sits_8 10 rfl rfl)
theorem dX9_sits_197 : decode cX9_sits 197 = .ok (.aload_n 0, 1) := dk_42 (dk_at dksX9_sits_8 11 rfl rfl)
theorem dX9_sits_198 : decode cX9_sits 198 = .ok (.getfield 82, 3) := dk_180 0 82 (dk_at dksX9_sits_8 12 rfl rfl)
theorem dX9_sits_201 : decode cX9_sits 201 = .ok (.iload 5, 2) := dk_21 5 (dk_at dksX9_sits_8 15 rfl rfl)
theorem dX9_sits_203 : decode cX9_sits 203 = .ok (.iaload, 1) := dk_46 (dk_at dksX9_sits_8 17 rfl rfl)
theorem dX9_sits_204 : decode cX9_sits 204 = .ok (.ifCond .ne 7, 3) := dk_154 0 7 (dk_at dksX9_sits_8 18 rfl rfl)
theorem dX9_sits_207 : decode cX9_sits 207 = .ok (.iconst 0, 1) := dk_3 (dk_at dksX9_sits_8 21 rfl rfl)
theorem dX9_sits_208 : decode cX9_sits 208 = .ok (.goto 7, 3) := dk_167 0 7 (dk_at dksX9_sits_9 0 rfl rfl)
theorem dX9_sits_211 : decode cX9_sits 211 = .ok (.iconst 1, 1) := dk_4 (dk_at dksX9_sits_9 3 rfl rfl)
theorem dX9_sits_212 : decode cX9_sits 212 = .ok (.iload 5, 2) := dk_21 5 (dk_at dksX9_sits_9 4 rfl rfl)
theorem dX9_sits_214 : decode cX9_sits 214 = .ok (.ishl, 1) := dk_120 (dk_at dksX9_sits_9 6 rfl rfl)
theorem dX9_sits_215 : decode cX9_sits 215 = .ok (.ior, 1) := dk_128 (dk_at dksX9_sits_9 7 rfl rfl)
theorem dX9_sits_216 : decode cX9_sits 216 = .ok (.iastore, 1) := dk_79 (dk_at dksX9_sits_9 8 rfl rfl)
theorem dX9_sits_217 : decode cX9_sits 217 = .ok (.iinc 5 1, 3) := dk_132 5 1 (dk_at dksX9_sits_9 9 rfl rfl)
theorem dX9_sits_220 : decode cX9_sits 220 = .ok (.goto (-41), 3) := dk_167 255 215 (dk_at dksX9_sits_9 12 rfl rfl)
theorem dX9_sits_223 : decode cX9_sits 223 = .ok (.aload_n 0, 1) := dk_42 (dk_at dksX9_sits_9 15 rfl rfl)
theorem dX9_sits_224 : decode cX9_sits 224 = .ok (.getfield 7, 3) := dk_180 0 7 (dk_at dksX9_sits_9 16 rfl rfl)
theorem dX9_sits_227 : decode cX9_sits 227 = .ok (.iconst 5, 1) := dk_8 (dk_at dksX9_sits_9 19 rfl rfl)
theorem dX9_sits_228 : decode cX9_sits 228 = .ok (.iload_n 2, 1) := dk_28 (dk_at dksX9_sits_9 20 rfl rfl)
theorem dX9_sits_229 : decode cX9_sits 229 = .ok (.iastore, 1) := dk_79 (dk_at dksX9_sits_9 21 rfl rfl)
theorem dX9_sits_230 : decode cX9_sits 230 = .ok (.aload_n 0, 1) := dk_42 (dk_at dksX9_sits_9 22 rfl rfl)
theorem dX9_sits_231 : decode cX9_sits 231 = .ok (.getfield 7, 3) := dk_180 0 7 (dk_at dksX9_sits_10 0 rfl rfl)
theorem dX9_sits_234 : decode cX9_sits 234 = .ok (.bipush 6, 2) := dk_16 6 (dk_at dksX9_sits_10 3 rfl rfl)
theorem dX9_sits_236 : decode cX9_sits 236 = .ok (.iload_n 3, 1) := dk_29 (dk_at dksX9_sits_10 5 rfl rfl)
theorem dX9_sits_237 : decode cX9_sits 237 = .ok (.iastore, 1) := dk_79 (dk_at dksX9_sits_10 6 rfl rfl)
theorem dX9_sits_238 : decode cX9_sits 238 = .ok (.iconst 0, 1) := dk_3 (dk_at dksX9_sits_10 7 rfl rfl)
theorem dX9_sits_239 : decode cX9_sits 239 = .ok (.istore 5, 2) := dk_54 5 (dk_at dksX9_sits_10 8 rfl rfl)
theorem dX9_sits_241 : decode cX9_sits 241 = .ok (.iload 5, 2) := dk_21 5 (dk_at dksX9_sits_10 10 rfl rfl)
theorem dX9_sits_243 : decode cX9_sits 243 = .ok (.bipush 48, 2) := dk_16 48 (dk_at dksX9_sits_10 12 rfl rfl)
theorem dX9_sits_245 : decode cX9_sits 245 = .ok (.if_icmp .ge 26, 3) := dk_162 0 26 (dk_at dksX9_sits_10 14 rfl rfl)
theorem dX9_sits_248 : decode cX9_sits 248 = .ok (.aload_n 0, 1) := dk_42 (dk_at dksX9_sits_10 17 rfl rfl)
theorem dX9_sits_249 : decode cX9_sits 249 = .ok (.getfield 7, 3) := dk_180 0 7 (dk_at dksX9_sits_10 18 rfl rfl)
theorem dX9_sits_252 : decode cX9_sits 252 = .ok (.bipush 100, 2) := dk_16 100 (dk_at dksX9_sits_10 21 rfl rfl)
theorem dX9_sits_254 : decode cX9_sits 254 = .ok (.iload 5, 2) := dk_21 5 (dk_at dksX9_sits_11 0 rfl rfl)
theorem dX9_sits_256 : decode cX9_sits 256 = .ok (.iadd, 1) := dk_96 (dk_at dksX9_sits_11 2 rfl rfl)
theorem dX9_sits_257 : decode cX9_sits 257 = .ok (.aload_n 0, 1) := dk_42 (dk_at dksX9_sits_11 3 rfl rfl)
theorem dX9_sits_258 : decode cX9_sits 258 = .ok (.getfield 85, 3) := dk_180 0 85 (dk_at dksX9_sits_11 4 rfl rfl)
theorem dX9_sits_261 : decode cX9_sits 261 = .ok (.iload 5, 2) := dk_21 5 (dk_at dksX9_sits_11 7 rfl rfl)
theorem dX9_sits_263 : decode cX9_sits 263 = .ok (.iaload, 1) := dk_46 (dk_at dksX9_sits_11 9 rfl rfl)
theorem dX9_sits_264 : decode cX9_sits 264 = .ok (.iastore, 1) := dk_79 (dk_at dksX9_sits_11 10 rfl rfl)
theorem dX9_sits_265 : decode cX9_sits 265 = .ok (.iinc 5 1, 3) := dk_132 5 1 (dk_at dksX9_sits_11 11 rfl rfl)
theorem dX9_sits_268 : decode cX9_sits 268 = .ok (.goto (-27), 3) := dk_167 255 229 (dk_at dksX9_sits_11 14 rfl rfl)
theorem dX9_sits_271 : decode cX9_sits 271 = .ok (.return_, 1) := dk_177 (dk_at dksX9_sits_11 17 rfl rfl)
abbrev cX9_drawsTruth : ByteArray := prog_19_method_136_code
def yX9_drawsTruth : MethodName := ⟨RX9, "drawsTruth", "()V"⟩
def dkwX9_drawsTruth_7 : List UInt8 := [132, 6, 1, 167, 255, 189, 177]
abbrev dktX9_drawsTruth_7 : List UInt8 := dkwX9_drawsTruth_7 ++ []
def dkwX9_drawsTruth_6 : List UInt8 := [21, 8, 182, 1, 87, 100, 54, 7, 132, 8, 1, 167, 255, 227, 42, 180, 0, 82, 21, 6, 21, 8, 79]
abbrev dktX9_drawsTruth_6 : List UInt8 := dkwX9_drawsTruth_6 ++ dktX9_drawsTruth_7
def dkwX9_drawsTruth_5 : List UInt8 := [54, 7, 3, 54, 8, 21, 7, 42, 21, 6, 21, 8, 182, 1, 87, 161, 0, 22, 21, 7, 42, 21, 6]
abbrev dktX9_drawsTruth_5 : List UInt8 := dkwX9_drawsTruth_5 ++ dktX9_drawsTruth_6
def dkwX9_drawsTruth_4 : List UInt8 := [167, 255, 215, 3, 54, 6, 21, 6, 42, 180, 0, 7, 7, 46, 162, 0, 62, 42, 20, 1, 220, 182, 1, 213]
abbrev dktX9_drawsTruth_4 : List UInt8 := dkwX9_drawsTruth_4 ++ dktX9_drawsTruth_5
def dkwX9_drawsTruth_3 : List UInt8 := [182, 1, 75, 153, 0, 12, 42, 21, 6, 182, 1, 141, 167, 0, 4, 9, 97, 55, 4, 132, 6, 1]
abbrev dktX9_drawsTruth_3 : List UInt8 := dkwX9_drawsTruth_3 ++ dktX9_drawsTruth_4
def dkwX9_drawsTruth_2 : List UInt8 := [55, 4, 3, 54, 6, 22, 4, 29, 133, 148, 157, 0, 39, 42, 21, 6, 181, 1, 217, 22, 4, 42, 21, 6]
abbrev dktX9_drawsTruth_2 : List UInt8 := dkwX9_drawsTruth_2 ++ dktX9_drawsTruth_3
def dkwX9_drawsTruth_1 : List UInt8 := [29, 182, 1, 141, 167, 0, 4, 9, 97, 64, 132, 3, 1, 167, 255, 223, 42, 31, 182, 1, 213, 62, 9]
abbrev dktX9_drawsTruth_1 : List UInt8 := dkwX9_drawsTruth_1 ++ dktX9_drawsTruth_2
def dkwX9_drawsTruth_0 : List UInt8 := [9, 64, 3, 62, 29, 42, 180, 0, 7, 5, 46, 162, 0, 29, 31, 42, 29, 182, 1, 75, 153, 0, 11, 42]
abbrev dktX9_drawsTruth_0 : List UInt8 := dkwX9_drawsTruth_0 ++ dktX9_drawsTruth_1
theorem dksX9_drawsTruth_0 : cX9_drawsTruth.data.toList.drop 0 = dktX9_drawsTruth_0 := by decide +kernel
theorem dksX9_drawsTruth_1 : cX9_drawsTruth.data.toList.drop 24 = dktX9_drawsTruth_1 := dk_seg dksX9_drawsTruth_0 24 rfl rfl
theorem dksX9_drawsTruth_2 : cX9_drawsTruth.data.toList.drop 47 = dktX9_drawsTruth_2 := dk_seg dksX9_drawsTruth_1 23 rfl rfl
theorem dksX9_drawsTruth_3 : cX9_drawsTruth.data.toList.drop 71 = dktX9_drawsTruth_3 := dk_seg dksX9_drawsTruth_2 24 rfl rfl
theorem dksX9_drawsTruth_4 : cX9_drawsTruth.data.toList.drop 93 = dktX9_drawsTruth_4 := dk_seg dksX9_drawsTruth_3 22 rfl rfl
theorem dksX9_drawsTruth_5 : cX9_drawsTruth.data.toList.drop 117 = dktX9_drawsTruth_5 := dk_seg dksX9_drawsTruth_4 24 rfl rfl
theorem dksX9_drawsTruth_6 : cX9_drawsTruth.data.toList.drop 140 = dktX9_drawsTruth_6 := dk_seg dksX9_drawsTruth_5 23 rfl rfl
theorem dksX9_drawsTruth_7 : cX9_drawsTruth.data.toList.drop 163 = dktX9_drawsTruth_7 := dk_seg dksX9_drawsTruth_6 23 rfl rfl
theorem dX9_drawsTruth_0 : decode cX9_drawsTruth 0 = .ok (.lconst 0, 1) := dk_9 (dk_at dksX9_drawsTruth_0 0 rfl rfl)
theorem dX9_drawsTruth_1 : decode cX9_drawsTruth 1 = .ok (.lstore_n 1, 1) := dk_64 (dk_at dksX9_drawsTruth_0 1 rfl rfl)
theorem dX9_drawsTruth_2 : decode cX9_drawsTruth 2 = .ok (.iconst 0, 1) := dk_3 (dk_at dksX9_drawsTruth_0 2 rfl rfl)
theorem dX9_drawsTruth_3 : decode cX9_drawsTruth 3 = .ok (.istore_n 3, 1) := dk_62 (dk_at dksX9_drawsTruth_0 3 rfl rfl)
theorem dX9_drawsTruth_4 : decode cX9_drawsTruth 4 = .ok (.iload_n 3, 1) := dk_29 (dk_at dksX9_drawsTruth_0 4 rfl rfl)
theorem dX9_drawsTruth_5 : decode cX9_drawsTruth 5 = .ok (.aload_n 0, 1) := dk_42 (dk_at dksX9_drawsTruth_0 5 rfl rfl)
theorem dX9_drawsTruth_6 : decode cX9_drawsTruth 6 = .ok (.getfield 7, 3) := dk_180 0 7 (dk_at dksX9_drawsTruth_0 6 rfl rfl)
theorem dX9_drawsTruth_9 : decode cX9_drawsTruth 9 = .ok (.iconst 2, 1) := dk_5 (dk_at dksX9_drawsTruth_0 9 rfl rfl)
theorem dX9_drawsTruth_10 : decode cX9_drawsTruth 10 = .ok (.iaload, 1) := dk_46 (dk_at dksX9_drawsTruth_0 10 rfl rfl)
theorem dX9_drawsTruth_11 : decode cX9_drawsTruth 11 = .ok (.if_icmp .ge 29, 3) := dk_162 0 29 (dk_at dksX9_drawsTruth_0 11 rfl rfl)
theorem dX9_drawsTruth_14 : decode cX9_drawsTruth 14 = .ok (.lload_n 1, 1) := dk_31 (dk_at dksX9_drawsTruth_0 14 rfl rfl)
theorem dX9_drawsTruth_15 : decode cX9_drawsTruth 15 = .ok (.aload_n 0, 1) := dk_42 (dk_at dksX9_drawsTruth_0 15 rfl rfl)
theorem dX9_drawsTruth_16 : decode cX9_drawsTruth 16 = .ok (.iload_n 3, 1) := dk_29 (dk_at dksX9_drawsTruth_0 16 rfl rfl)
theorem dX9_drawsTruth_17 : decode cX9_drawsTruth 17 = .ok (.invokevirtual 331, 3) := dk_182 1 75 (dk_at dksX9_drawsTruth_0 17 rfl rfl)
theorem dX9_drawsTruth_20 : decode cX9_drawsTruth 20 = .ok (.ifCond .eq 11, 3) := dk_153 0 11 (dk_at dksX9_drawsTruth_0 20 rfl rfl)
theorem dX9_drawsTruth_23 : decode cX9_drawsTruth 23 = .ok (.aload_n 0, 1) := dk_42 (dk_at dksX9_drawsTruth_0 23 rfl rfl)
theorem dX9_drawsTruth_24 : decode cX9_drawsTruth 24 = .ok (.iload_n 3, 1) := dk_29 (dk_at dksX9_drawsTruth_1 0 rfl rfl)
theorem dX9_drawsTruth_25 : decode cX9_drawsTruth 25 = .ok (.invokevirtual 397, 3) := dk_182 1 141 (dk_at dksX9_drawsTruth_1 1 rfl rfl)
theorem dX9_drawsTruth_28 : decode cX9_drawsTruth 28 = .ok (.goto 4, 3) := dk_167 0 4 (dk_at dksX9_drawsTruth_1 4 rfl rfl)
theorem dX9_drawsTruth_31 : decode cX9_drawsTruth 31 = .ok (.lconst 0, 1) := dk_9 (dk_at dksX9_drawsTruth_1 7 rfl rfl)
theorem dX9_drawsTruth_32 : decode cX9_drawsTruth 32 = .ok (.ladd, 1) := dk_97 (dk_at dksX9_drawsTruth_1 8 rfl rfl)
theorem dX9_drawsTruth_33 : decode cX9_drawsTruth 33 = .ok (.lstore_n 1, 1) := dk_64 (dk_at dksX9_drawsTruth_1 9 rfl rfl)
theorem dX9_drawsTruth_34 : decode cX9_drawsTruth 34 = .ok (.iinc 3 1, 3) := dk_132 3 1 (dk_at dksX9_drawsTruth_1 10 rfl rfl)
theorem dX9_drawsTruth_37 : decode cX9_drawsTruth 37 = .ok (.goto (-33), 3) := dk_167 255 223 (dk_at dksX9_drawsTruth_1 13 rfl rfl)
theorem dX9_drawsTruth_40 : decode cX9_drawsTruth 40 = .ok (.aload_n 0, 1) := dk_42 (dk_at dksX9_drawsTruth_1 16 rfl rfl)
theorem dX9_drawsTruth_41 : decode cX9_drawsTruth 41 = .ok (.lload_n 1, 1) := dk_31 (dk_at dksX9_drawsTruth_1 17 rfl rfl)
theorem dX9_drawsTruth_42 : decode cX9_drawsTruth 42 = .ok (.invokevirtual 469, 3) := dk_182 1 213 (dk_at dksX9_drawsTruth_1 18 rfl rfl)
theorem dX9_drawsTruth_45 : decode cX9_drawsTruth 45 = .ok (.istore_n 3, 1) := dk_62 (dk_at dksX9_drawsTruth_1 21 rfl rfl)
theorem dX9_drawsTruth_46 : decode cX9_drawsTruth 46 = .ok (.lconst 0, 1) := dk_9 (dk_at dksX9_drawsTruth_1 22 rfl rfl)
theorem dX9_drawsTruth_47 : decode cX9_drawsTruth 47 = .ok (.lstore 4, 2) := dk_55 4 (dk_at dksX9_drawsTruth_2 0 rfl rfl)
theorem dX9_drawsTruth_49 : decode cX9_drawsTruth 49 = .ok (.iconst 0, 1) := dk_3 (dk_at dksX9_drawsTruth_2 2 rfl rfl)
theorem dX9_drawsTruth_50 : decode cX9_drawsTruth 50 = .ok (.istore 6, 2) := dk_54 6 (dk_at dksX9_drawsTruth_2 3 rfl rfl)
theorem dX9_drawsTruth_52 : decode cX9_drawsTruth 52 = .ok (.lload 4, 2) := dk_22 4 (dk_at dksX9_drawsTruth_2 5 rfl rfl)
theorem dX9_drawsTruth_54 : decode cX9_drawsTruth 54 = .ok (.iload_n 3, 1) := dk_29 (dk_at dksX9_drawsTruth_2 7 rfl rfl)
theorem dX9_drawsTruth_55 : decode cX9_drawsTruth 55 = .ok (.i2l, 1) := dk_133 (dk_at dksX9_drawsTruth_2 8 rfl rfl)
theorem dX9_drawsTruth_56 : decode cX9_drawsTruth 56 = .ok (.lcmp, 1) := dk_148 (dk_at dksX9_drawsTruth_2 9 rfl rfl)
theorem dX9_drawsTruth_57 : decode cX9_drawsTruth 57 = .ok (.ifCond .gt 39, 3) := dk_157 0 39 (dk_at dksX9_drawsTruth_2 10 rfl rfl)
theorem dX9_drawsTruth_60 : decode cX9_drawsTruth 60 = .ok (.aload_n 0, 1) := dk_42 (dk_at dksX9_drawsTruth_2 13 rfl rfl)
theorem dX9_drawsTruth_61 : decode cX9_drawsTruth 61 = .ok (.iload 6, 2) := dk_21 6 (dk_at dksX9_drawsTruth_2 14 rfl rfl)
theorem dX9_drawsTruth_63 : decode cX9_drawsTruth 63 = .ok (.putfield 473, 3) := dk_181 1 217 (dk_at dksX9_drawsTruth_2 16 rfl rfl)
theorem dX9_drawsTruth_66 : decode cX9_drawsTruth 66 = .ok (.lload 4, 2) := dk_22 4 (dk_at dksX9_drawsTruth_2 19 rfl rfl)
theorem dX9_drawsTruth_68 : decode cX9_drawsTruth 68 = .ok (.aload_n 0, 1) := dk_42 (dk_at dksX9_drawsTruth_2 21 rfl rfl)
theorem dX9_drawsTruth_69 : decode cX9_drawsTruth 69 = .ok (.iload 6, 2) := dk_21 6 (dk_at dksX9_drawsTruth_2 22 rfl rfl)
theorem dX9_drawsTruth_71 : decode cX9_drawsTruth 71 = .ok (.invokevirtual 331, 3) := dk_182 1 75 (dk_at dksX9_drawsTruth_3 0 rfl rfl)
theorem dX9_drawsTruth_74 : decode cX9_drawsTruth 74 = .ok (.ifCond .eq 12, 3) := dk_153 0 12 (dk_at dksX9_drawsTruth_3 3 rfl rfl)
theorem dX9_drawsTruth_77 : decode cX9_drawsTruth 77 = .ok (.aload_n 0, 1) := dk_42 (dk_at dksX9_drawsTruth_3 6 rfl rfl)
theorem dX9_drawsTruth_78 : decode cX9_drawsTruth 78 = .ok (.iload 6, 2) := dk_21 6 (dk_at dksX9_drawsTruth_3 7 rfl rfl)
theorem dX9_drawsTruth_80 : decode cX9_drawsTruth 80 = .ok (.invokevirtual 397, 3) := dk_182 1 141 (dk_at dksX9_drawsTruth_3 9 rfl rfl)
theorem dX9_drawsTruth_83 : decode cX9_drawsTruth 83 = .ok (.goto 4, 3) := dk_167 0 4 (dk_at dksX9_drawsTruth_3 12 rfl rfl)
theorem dX9_drawsTruth_86 : decode cX9_drawsTruth 86 = .ok (.lconst 0, 1) := dk_9 (dk_at dksX9_drawsTruth_3 15 rfl rfl)
theorem dX9_drawsTruth_87 : decode cX9_drawsTruth 87 = .ok (.ladd, 1) := dk_97 (dk_at dksX9_drawsTruth_3 16 rfl rfl)
theorem dX9_drawsTruth_88 : decode cX9_drawsTruth 88 = .ok (.lstore 4, 2) := dk_55 4 (dk_at dksX9_drawsTruth_3 17 rfl rfl)
theorem dX9_drawsTruth_90 : decode cX9_drawsTruth 90 = .ok (.iinc 6 1, 3) := dk_132 6 1 (dk_at dksX9_drawsTruth_3 19 rfl rfl)
theorem dX9_drawsTruth_93 : decode cX9_drawsTruth 93 = .ok (.goto (-41), 3) := dk_167 255 215 (dk_at dksX9_drawsTruth_4 0 rfl rfl)
theorem dX9_drawsTruth_96 : decode cX9_drawsTruth 96 = .ok (.iconst 0, 1) := dk_3 (dk_at dksX9_drawsTruth_4 3 rfl rfl)
theorem dX9_drawsTruth_97 : decode cX9_drawsTruth 97 = .ok (.istore 6, 2) := dk_54 6 (dk_at dksX9_drawsTruth_4 4 rfl rfl)
theorem dX9_drawsTruth_99 : decode cX9_drawsTruth 99 = .ok (.iload 6, 2) := dk_21 6 (dk_at dksX9_drawsTruth_4 6 rfl rfl)
theorem dX9_drawsTruth_101 : decode cX9_drawsTruth 101 = .ok (.aload_n 0, 1) := dk_42 (dk_at dksX9_drawsTruth_4 8 rfl rfl)
theorem dX9_drawsTruth_102 : decode cX9_drawsTruth 102 = .ok (.getfield 7, 3) := dk_180 0 7 (dk_at dksX9_drawsTruth_4 9 rfl rfl)
theorem dX9_drawsTruth_105 : decode cX9_drawsTruth 105 = .ok (.iconst 4, 1) := dk_7 (dk_at dksX9_drawsTruth_4 12 rfl rfl)
theorem dX9_drawsTruth_106 : decode cX9_drawsTruth 106 = .ok (.iaload, 1) := dk_46 (dk_at dksX9_drawsTruth_4 13 rfl rfl)
theorem dX9_drawsTruth_107 : decode cX9_drawsTruth 107 = .ok (.if_icmp .ge 62, 3) := dk_162 0 62 (dk_at dksX9_drawsTruth_4 14 rfl rfl)
theorem dX9_drawsTruth_110 : decode cX9_drawsTruth 110 = .ok (.aload_n 0, 1) := dk_42 (dk_at dksX9_drawsTruth_4 17 rfl rfl)
theorem dX9_drawsTruth_111 : decode cX9_drawsTruth 111 = .ok (.ldc2_w 476, 3) := dk_20 1 220 (dk_at dksX9_drawsTruth_4 18 rfl rfl)
theorem dX9_drawsTruth_114 : decode cX9_drawsTruth 114 = .ok (.invokevirtual 469, 3) := dk_182 1 213 (dk_at dksX9_drawsTruth_4 21 rfl rfl)
theorem dX9_drawsTruth_117 : decode cX9_drawsTruth 117 = .ok (.istore 7, 2) := dk_54 7 (dk_at dksX9_drawsTruth_5 0 rfl rfl)
theorem dX9_drawsTruth_119 : decode cX9_drawsTruth 119 = .ok (.iconst 0, 1) := dk_3 (dk_at dksX9_drawsTruth_5 2 rfl rfl)
theorem dX9_drawsTruth_120 : decode cX9_drawsTruth 120 = .ok (.istore 8, 2) := dk_54 8 (dk_at dksX9_drawsTruth_5 3 rfl rfl)
theorem dX9_drawsTruth_122 : decode cX9_drawsTruth 122 = .ok (.iload 7, 2) := dk_21 7 (dk_at dksX9_drawsTruth_5 5 rfl rfl)
theorem dX9_drawsTruth_124 : decode cX9_drawsTruth 124 = .ok (.aload_n 0, 1) := dk_42 (dk_at dksX9_drawsTruth_5 7 rfl rfl)
theorem dX9_drawsTruth_125 : decode cX9_drawsTruth 125 = .ok (.iload 6, 2) := dk_21 6 (dk_at dksX9_drawsTruth_5 8 rfl rfl)
theorem dX9_drawsTruth_127 : decode cX9_drawsTruth 127 = .ok (.iload 8, 2) := dk_21 8 (dk_at dksX9_drawsTruth_5 10 rfl rfl)
theorem dX9_drawsTruth_129 : decode cX9_drawsTruth 129 = .ok (.invokevirtual 343, 3) := dk_182 1 87 (dk_at dksX9_drawsTruth_5 12 rfl rfl)
theorem dX9_drawsTruth_132 : decode cX9_drawsTruth 132 = .ok (.if_icmp .lt 22, 3) := dk_161 0 22 (dk_at dksX9_drawsTruth_5 15 rfl rfl)
theorem dX9_drawsTruth_135 : decode cX9_drawsTruth 135 = .ok (.iload 7, 2) := dk_21 7 (dk_at dksX9_drawsTruth_5 18 rfl rfl)
theorem dX9_drawsTruth_137 : decode cX9_drawsTruth 137 = .ok (.aload_n 0, 1) := dk_42 (dk_at dksX9_drawsTruth_5 20 rfl rfl)
theorem dX9_drawsTruth_138 : decode cX9_drawsTruth 138 = .ok (.iload 6, 2) := dk_21 6 (dk_at dksX9_drawsTruth_5 21 rfl rfl)
theorem dX9_drawsTruth_140 : decode cX9_drawsTruth 140 = .ok (.iload 8, 2) := dk_21 8 (dk_at dksX9_drawsTruth_6 0 rfl rfl)
theorem dX9_drawsTruth_142 : decode cX9_drawsTruth 142 = .ok (.invokevirtual 343, 3) := dk_182 1 87 (dk_at dksX9_drawsTruth_6 2 rfl rfl)
theorem dX9_drawsTruth_145 : decode cX9_drawsTruth 145 = .ok (.isub, 1) := dk_100 (dk_at dksX9_drawsTruth_6 5 rfl rfl)
theorem dX9_drawsTruth_146 : decode cX9_drawsTruth 146 = .ok (.istore 7, 2) := dk_54 7 (dk_at dksX9_drawsTruth_6 6 rfl rfl)
theorem dX9_drawsTruth_148 : decode cX9_drawsTruth 148 = .ok (.iinc 8 1, 3) := dk_132 8 1 (dk_at dksX9_drawsTruth_6 8 rfl rfl)
theorem dX9_drawsTruth_151 : decode cX9_drawsTruth 151 = .ok (.goto (-29), 3) := dk_167 255 227 (dk_at dksX9_drawsTruth_6 11 rfl rfl)
theorem dX9_drawsTruth_154 : decode cX9_drawsTruth 154 = .ok (.aload_n 0, 1) := dk_42 (dk_at dksX9_drawsTruth_6 14 rfl rfl)
theorem dX9_drawsTruth_155 : decode cX9_drawsTruth 155 = .ok (.getfield 82, 3) := dk_180 0 82 (dk_at dksX9_drawsTruth_6 15 rfl rfl)
theorem dX9_drawsTruth_158 : decode cX9_drawsTruth 158 = .ok (.iload 6, 2) := dk_21 6 (dk_at dksX9_drawsTruth_6 18 rfl rfl)
theorem dX9_drawsTruth_160 : decode cX9_drawsTruth 160 = .ok (.iload 8, 2) := dk_21 8 (dk_at dksX9_drawsTruth_6 20 rfl rfl)
theorem dX9_drawsTruth_162 : decode cX9_drawsTruth 162 = .ok (.iastore, 1) := dk_79 (dk_at dksX9_drawsTruth_6 22 rfl rfl)
theorem dX9_drawsTruth_163 : decode cX9_drawsTruth 163 = .ok (.iinc 6 1, 3) := dk_132 6 1 (dk_at dksX9_drawsTruth_7 0 rfl rfl)
theorem dX9_drawsTruth_166 : decode cX9_drawsTruth 166 = .ok (.goto (-67), 3) := dk_167 255 189 (dk_at dksX9_drawsTruth_7 3 rfl rfl)
theorem dX9_drawsTruth_169 : decode cX9_drawsTruth 169 = .ok (.return_, 1) := dk_177 (dk_at dksX9_drawsTruth_7 6 rfl rfl)
abbrev cX9_draw : ByteArray := prog_19_method_135_code
def yX9_draw : MethodName := ⟨RX9, "draw", "(J)I"⟩
def dkwX9_draw_1 : List UInt8 := [16, 8, 108, 133, 31, 113, 136, 172]
abbrev dktX9_draw_1 : List UInt8 := dkwX9_draw_1 ++ []
def dkwX9_draw_0 : List UInt8 := [42, 42, 180, 1, 209, 17, 9, 113, 104, 17, 41, 117, 96, 19, 1, 212, 112, 181, 1, 209, 42, 180, 1, 209]
abbrev dktX9_draw_0 : List UInt8 := dkwX9_draw_0 ++ dktX9_draw_1
theorem dksX9_draw_0 : cX9_draw.data.toList.drop 0 = dktX9_draw_0 := by decide +kernel
theorem dksX9_draw_1 : cX9_draw.data.toList.drop 24 = dktX9_draw_1 := dk_seg dksX9_draw_0 24 rfl rfl
theorem dX9_draw_0 : decode cX9_draw 0 = .ok (.aload_n 0, 1) := dk_42 (dk_at dksX9_draw_0 0 rfl rfl)
theorem dX9_draw_1 : decode cX9_draw 1 = .ok (.aload_n 0, 1) := dk_42 (dk_at dksX9_draw_0 1 rfl rfl)
theorem dX9_draw_2 : decode cX9_draw 2 = .ok (.getfield 465, 3) := dk_180 1 209 (dk_at dksX9_draw_0 2 rfl rfl)
theorem dX9_draw_5 : decode cX9_draw 5 = .ok (.sipush 2417, 3) := dk_17 9 113 (dk_at dksX9_draw_0 5 rfl rfl)
theorem dX9_draw_8 : decode cX9_draw 8 = .ok (.imul, 1) := dk_104 (dk_at dksX9_draw_0 8 rfl rfl)
theorem dX9_draw_9 : decode cX9_draw 9 = .ok (.sipush 10613, 3) := dk_17 41 117 (dk_at dksX9_draw_0 9 rfl rfl)
theorem dX9_draw_12 : decode cX9_draw 12 = .ok (.iadd, 1) := dk_96 (dk_at dksX9_draw_0 12 rfl rfl)
theorem dX9_draw_13 : decode cX9_draw 13 = .ok (.ldc_w 468, 3) := dk_19 1 212 (dk_at dksX9_draw_0 13 rfl rfl)
theorem dX9_draw_16 : decode cX9_draw 16 = .ok (.irem, 1) := dk_112 (dk_at dksX9_draw_0 16 rfl rfl)
theorem dX9_draw_17 : decode cX9_draw 17 = .ok (.putfield 465, 3) := dk_181 1 209 (dk_at dksX9_draw_0 17 rfl rfl)
theorem dX9_draw_20 : decode cX9_draw 20 = .ok (.aload_n 0, 1) := dk_42 (dk_at dksX9_draw_0 20 rfl rfl)
theorem dX9_draw_21 : decode cX9_draw 21 = .ok (.getfield 465, 3) := dk_180 1 209 (dk_at dksX9_draw_0 21 rfl rfl)
theorem dX9_draw_24 : decode cX9_draw 24 = .ok (.bipush 8, 2) := dk_16 8 (dk_at dksX9_draw_1 0 rfl rfl)
theorem dX9_draw_26 : decode cX9_draw 26 = .ok (.idiv, 1) := dk_108 (dk_at dksX9_draw_1 2 rfl rfl)
theorem dX9_draw_27 : decode cX9_draw 27 = .ok (.i2l, 1) := dk_133 (dk_at dksX9_draw_1 3 rfl rfl)
theorem dX9_draw_28 : decode cX9_draw 28 = .ok (.lload_n 1, 1) := dk_31 (dk_at dksX9_draw_1 4 rfl rfl)
theorem dX9_draw_29 : decode cX9_draw 29 = .ok (.lrem, 1) := dk_113 (dk_at dksX9_draw_1 5 rfl rfl)
theorem dX9_draw_30 : decode cX9_draw 30 = .ok (.l2i, 1) := dk_136 (dk_at dksX9_draw_1 6 rfl rfl)
theorem dX9_draw_31 : decode cX9_draw 31 = .ok (.ireturn, 1) := dk_172 (dk_at dksX9_draw_1 7 rfl rfl)
abbrev cX9_doesStep : ByteArray := prog_19_method_140_code
def yX9_doesStep : MethodName := ⟨RX9, "doesStep", "(I)I"⟩
def dkwX9_doesStep_7 : List UInt8 := [167, 0, 6, 27, 4, 96, 172]
abbrev dktX9_doesStep_7 : List UInt8 := dkwX9_doesStep_7 ++ []
def dkwX9_doesStep_6 : List UInt8 := [17, 8, 52, 161, 0, 24, 42, 28, 182, 1, 233, 154, 0, 16, 42, 180, 0, 7, 28, 6, 96, 46, 4, 96]
abbrev dktX9_doesStep_6 : List UInt8 := dkwX9_doesStep_6 ++ dktX9_doesStep_7
def dkwX9_doesStep_5 : List UInt8 := [16, 20, 160, 0, 20, 42, 21, 5, 182, 1, 78, 153, 0, 11, 42, 21, 5, 182, 1, 230, 2, 172, 29]
abbrev dktX9_doesStep_5 : List UInt8 := dkwX9_doesStep_5 ++ dktX9_doesStep_6
def dkwX9_doesStep_4 : List UInt8 := [182, 1, 174, 182, 1, 227, 29, 16, 19, 160, 0, 13, 42, 180, 0, 7, 8, 92, 46, 4, 96, 79, 29]
abbrev dktX9_doesStep_4 : List UInt8 := dkwX9_doesStep_4 ++ dktX9_doesStep_5
def dkwX9_doesStep_3 : List UInt8 := [160, 0, 28, 42, 21, 4, 182, 1, 84, 153, 0, 19, 42, 182, 1, 132, 42, 21, 4, 42, 21, 4]
abbrev dktX9_doesStep_3 : List UInt8 := dkwX9_doesStep_3 ++ dktX9_doesStep_4
def dkwX9_doesStep_2 : List UInt8 := [153, 0, 20, 42, 21, 5, 182, 1, 78, 153, 0, 11, 42, 21, 4, 21, 5, 182, 1, 227, 29, 16, 18]
abbrev dktX9_doesStep_2 : List UInt8 := dkwX9_doesStep_2 ++ dktX9_doesStep_3
def dkwX9_doesStep_1 : List UInt8 := [54, 4, 42, 180, 0, 7, 28, 5, 96, 46, 54, 5, 29, 16, 17, 160, 0, 29, 42, 21, 4, 182, 1, 84]
abbrev dktX9_doesStep_1 : List UInt8 := dkwX9_doesStep_1 ++ dktX9_doesStep_2
def dkwX9_doesStep_0 : List UInt8 := [17, 0, 148, 7, 27, 104, 96, 61, 42, 180, 0, 7, 28, 46, 62, 42, 180, 0, 7, 28, 4, 96, 46]
abbrev dktX9_doesStep_0 : List UInt8 := dkwX9_doesStep_0 ++ dktX9_doesStep_1
theorem dksX9_doesStep_0 : cX9_doesStep.data.toList.drop 0 = dktX9_doesStep_0 := by decide +kernel
theorem dksX9_doesStep_1 : cX9_doesStep.data.toList.drop 23 = dktX9_doesStep_1 := dk_seg dksX9_doesStep_0 23 rfl rfl
theorem dksX9_doesStep_2 : cX9_doesStep.data.toList.drop 47 = dktX9_doesStep_2 := dk_seg dksX9_doesStep_1 24 rfl rfl
theorem dksX9_doesStep_3 : cX9_doesStep.data.toList.drop 70 = dktX9_doesStep_3 := dk_seg dksX9_doesStep_2 23 rfl rfl
theorem dksX9_doesStep_4 : cX9_doesStep.data.toList.drop 92 = dktX9_doesStep_4 := dk_seg dksX9_doesStep_3 22 rfl rfl
theorem dksX9_doesStep_5 : cX9_doesStep.data.toList.drop 115 = dktX9_doesStep_5 := dk_seg dksX9_doesStep_4 23 rfl rfl
theorem dksX9_doesStep_6 : cX9_doesStep.data.toList.drop 138 = dktX9_doesStep_6 := dk_seg dksX9_doesStep_5 23 rfl rfl
theorem dksX9_doesStep_7 : cX9_doesStep.data.toList.drop 162 = dktX9_doesStep_7 := dk_seg dksX9_doesStep_6 24 rfl rfl
theorem dX9_doesStep_0 : decode cX9_doesStep 0 = .ok (.sipush 148, 3) := dk_17 0 148 (dk_at dksX9_doesStep_0 0 rfl rfl)
theorem dX9_doesStep_3 : decode cX9_doesStep 3 = .ok (.iconst 4, 1) := dk_7 (dk_at dksX9_doesStep_0 3 rfl rfl)
theorem dX9_doesStep_4 : decode cX9_doesStep 4 = .ok (.iload_n 1, 1) := dk_27 (dk_at dksX9_doesStep_0 4 rfl rfl)
theorem dX9_doesStep_5 : decode cX9_doesStep 5 = .ok (.imul, 1) := dk_104 (dk_at dksX9_doesStep_0 5 rfl rfl)
theorem dX9_doesStep_6 : decode cX9_doesStep 6 = .ok (.iadd, 1) := dk_96 (dk_at dksX9_doesStep_0 6 rfl rfl)
theorem dX9_doesStep_7 : decode cX9_doesStep 7 = .ok (.istore_n 2, 1) := dk_61 (dk_at dksX9_doesStep_0 7 rfl rfl)
theorem dX9_doesStep_8 : decode cX9_doesStep 8 = .ok (.aload_n 0, 1) := dk_42 (dk_at dksX9_doesStep_0 8 rfl rfl)
theorem dX9_doesStep_9 : decode cX9_doesStep 9 = .ok (.getfield 7, 3) := dk_180 0 7 (dk_at dksX9_doesStep_0 9 rfl rfl)
theorem dX9_doesStep_12 : decode cX9_doesStep 12 = .ok (.iload_n 2, 1) := dk_28 (dk_at dksX9_doesStep_0 12 rfl rfl)
theorem dX9_doesStep_13 : decode cX9_doesStep 13 = .ok (.iaload, 1) := dk_46 (dk_at dksX9_doesStep_0 13 rfl rfl)
theorem dX9_doesStep_14 : decode cX9_doesStep 14 = .ok (.istore_n 3, 1) := dk_62 (dk_at dksX9_doesStep_0 14 rfl rfl)
theorem dX9_doesStep_15 : decode cX9_doesStep 15 = .ok (.aload_n 0, 1) := dk_42 (dk_at dksX9_doesStep_0 15 rfl rfl)
theorem dX9_doesStep_16 : decode cX9_doesStep 16 = .ok (.getfield 7, 3) := dk_180 0 7 (dk_at dksX9_doesStep_0 16 rfl rfl)
theorem dX9_doesStep_19 : decode cX9_doesStep 19 = .ok (.iload_n 2, 1) := dk_28 (dk_at dksX9_doesStep_0 19 rfl rfl)
theorem dX9_doesStep_20 : decode cX9_doesStep 20 = .ok (.iconst 1, 1) := dk_4 (dk_at dksX9_doesStep_0 20 rfl rfl)
theorem dX9_doesStep_21 : decode cX9_doesStep 21 = .ok (.iadd, 1) := dk_96 (dk_at dksX9_doesStep_0 21 rfl rfl)
theorem dX9_doesStep_22 : decode cX9_doesStep 22 = .ok (.iaload, 1) := dk_46 (dk_at dksX9_doesStep_0 22 rfl rfl)
theorem dX9_doesStep_23 : decode cX9_doesStep 23 = .ok (.istore 4, 2) := dk_54 4 (dk_at dksX9_doesStep_1 0 rfl rfl)
theorem dX9_doesStep_25 : decode cX9_doesStep 25 = .ok (.aload_n 0, 1) := dk_42 (dk_at dksX9_doesStep_1 2 rfl rfl)
theorem dX9_doesStep_26 : decode cX9_doesStep 26 = .ok (.getfield 7, 3) := dk_180 0 7 (dk_at dksX9_doesStep_1 3 rfl rfl)
theorem dX9_doesStep_29 : decode cX9_doesStep 29 = .ok (.iload_n 2, 1) := dk_28 (dk_at dksX9_doesStep_1 6 rfl rfl)
theorem dX9_doesStep_30 : decode cX9_doesStep 30 = .ok (.iconst 2, 1) := dk_5 (dk_at dksX9_doesStep_1 7 rfl rfl)
theorem dX9_doesStep_31 : decode cX9_doesStep 31 = .ok (.iadd, 1) := dk_96 (dk_at dksX9_doesStep_1 8 rfl rfl)
theorem dX9_doesStep_32 : decode cX9_doesStep 32 = .ok (.iaload, 1) := dk_46 (dk_at dksX9_doesStep_1 9 rfl rfl)
theorem dX9_doesStep_33 : decode cX9_doesStep 33 = .ok (.istore 5, 2) := dk_54 5 (dk_at dksX9_doesStep_1 10 rfl rfl)
theorem dX9_doesStep_35 : decode cX9_doesStep 35 = .ok (.iload_n 3, 1) := dk_29 (dk_at dksX9_doesStep_1 12 rfl rfl)
theorem dX9_doesStep_36 : decode cX9_doesStep 36 = .ok (.bipush 17, 2) := dk_16 17 (dk_at dksX9_doesStep_1 13 rfl rfl)
theorem dX9_doesStep_38 : decode cX9_doesStep 38 = .ok (.if_icmp .ne 29, 3) := dk_160 0 29 (dk_at dksX9_doesStep_1 15 rfl rfl)
theorem dX9_doesStep_41 : decode cX9_doesStep 41 = .ok (.aload_n 0, 1) := dk_42 (dk_at dksX9_doesStep_1 18 rfl rfl)
theorem dX9_doesStep_42 : decode cX9_doesStep 42 = .ok (.iload 4, 2) := dk_21 4 (dk_at dksX9_doesStep_1 19 rfl rfl)
theorem dX9_doesStep_44 : decode cX9_doesStep 44 = .ok (.invokevirtual 340, 3) := dk_182 1 84 (dk_at dksX9_doesStep_1 21 rfl rfl)
theorem dX9_doesStep_47 : decode cX9_doesStep 47 = .ok (.ifCond .eq 20, 3) := dk_153 0 20 (dk_at dksX9_doesStep_2 0 rfl rfl)
theorem dX9_doesStep_50 : decode cX9_doesStep 50 = .ok (.aload_n 0, 1) := dk_42 (dk_at dksX9_doesStep_2 3 rfl rfl)
theorem dX9_doesStep_51 : decode cX9_doesStep 51 = .ok (.iload 5, 2) := dk_21 5 (dk_at dksX9_doesStep_2 4 rfl rfl)
theorem dX9_doesStep_53 : decode cX9_doesStep 53 = .ok (.invokevirtual 334, 3) := dk_182 1 78 (dk_at dksX9_doesStep_2 6 rfl rfl)
theorem dX9_doesStep_56 : decode cX9_doesStep 56 = .ok (.ifCond .eq 11, 3) := dk_153 0 11 (dk_at dksX9_doesStep_2 9 rfl rfl)
theorem dX9_doesStep_59 : decode cX9_doesStep 59 = .ok (.aload_n 0, 1) := dk_42 (dk_at dksX9_doesStep_2 12 rfl rfl)
theorem dX9_doesStep_60 : decode cX9_doesStep 60 = .ok (.iload 4, 2) := dk_21 4 (dk_at dksX9_doesStep_2 13 rfl rfl)
theorem dX9_doesStep_62 : decode cX9_doesStep 62 = .ok (.iload 5, 2) := dk_21 5 (dk_at dksX9_doesStep_2 15 rfl rfl)
theorem dX9_doesStep_64 : decode cX9_doesStep 64 = .ok (.invokevirtual 483, 3) := dk_182 1 227 (dk_at dksX9_doesStep_2 17 rfl rfl)
theorem dX9_doesStep_67 : decode cX9_doesStep 67 = .ok (.iload_n 3, 1) := dk_29 (dk_at dksX9_doesStep_2 20 rfl rfl)
theorem dX9_doesStep_68 : decode cX9_doesStep 68 = .ok (.bipush 18, 2) := dk_16 18 (dk_at dksX9_doesStep_2 21 rfl rfl)
theorem dX9_doesStep_70 : decode cX9_doesStep 70 = .ok (.if_icmp .ne 28, 3) := dk_160 0 28 (dk_at dksX9_doesStep_3 0 rfl rfl)
theorem dX9_doesStep_73 : decode cX9_doesStep 73 = .ok (.aload_n 0, 1) := dk_42 (dk_at dksX9_doesStep_3 3 rfl rfl)
theorem dX9_doesStep_74 : decode cX9_doesStep 74 = .ok (.iload 4, 2) := dk_21 4 (dk_at dksX9_doesStep_3 4 rfl rfl)
theorem dX9_doesStep_76 : decode cX9_doesStep 76 = .ok (.invokevirtual 340, 3) := dk_182 1 84 (dk_at dksX9_doesStep_3 6 rfl rfl)
theorem dX9_doesStep_79 : decode cX9_doesStep 79 = .ok (.ifCond .eq 19, 3) := dk_153 0 19 (dk_at dksX9_doesStep_3 9 rfl rfl)
theorem dX9_doesStep_82 : decode cX9_doesStep 82 = .ok (.aload_n 0, 1) := dk_42 (dk_at dksX9_doesStep_3 12 rfl rfl)
theorem dX9_doesStep_83 : decode cX9_doesStep 83 = .ok (.invokevirtual 388, 3) := dk_182 1 132 (dk_at dksX9_doesStep_3 13 rfl rfl)
theorem dX9_doesStep_86 : decode cX9_doesStep 86 = .ok (.aload_n 0, 1) := dk_42 (dk_at dksX9_doesStep_3 16 rfl rfl)
theorem dX9_doesStep_87 : decode cX9_doesStep 87 = .ok (.iload 4, 2) := dk_21 4 (dk_at dksX9_doesStep_3 17 rfl rfl)
theorem dX9_doesStep_89 : decode cX9_doesStep 89 = .ok (.aload_n 0, 1) := dk_42 (dk_at dksX9_doesStep_3 19 rfl rfl)
theorem dX9_doesStep_90 : decode cX9_doesStep 90 = .ok (.iload 4, 2) := dk_21 4 (dk_at dksX9_doesStep_3 20 rfl rfl)
theorem dX9_doesStep_92 : decode cX9_doesStep 92 = .ok (.invokevirtual 430, 3) := dk_182 1 174 (dk_at dksX9_doesStep_4 0 rfl rfl)
theorem dX9_doesStep_95 : decode cX9_doesStep 95 = .ok (.invokevirtual 483, 3) := dk_182 1 227 (dk_at dksX9_doesStep_4 3 rfl rfl)
theorem dX9_doesStep_98 : decode cX9_doesStep 98 = .ok (.iload_n 3, 1) := dk_29 (dk_at dksX9_doesStep_4 6 rfl rfl)
theorem dX9_doesStep_99 : decode cX9_doesStep 99 = .ok (.bipush 19, 2) := dk_16 19 (dk_at dksX9_doesStep_4 7 rfl rfl)
theorem dX9_doesStep_101 : decode cX9_doesStep 101 = .ok (.if_icmp .ne 13, 3) := dk_160 0 13 (dk_at dksX9_doesStep_4 9 rfl rfl)
theorem dX9_doesStep_104 : decode cX9_doesStep 104 = .ok (.aload_n 0, 1) := dk_42 (dk_at dksX9_doesStep_4 12 rfl rfl)
theorem dX9_doesStep_105 : decode cX9_doesStep 105 = .ok (.getfield 7, 3) := dk_180 0 7 (dk_at dksX9_doesStep_4 13 rfl rfl)
theorem dX9_doesStep_108 : decode cX9_doesStep 108 = .ok (.iconst 5, 1) := dk_8 (dk_at dksX9_doesStep_4 16 rfl rfl)
theorem dX9_doesStep_109 : decode cX9_doesStep 109 = .ok (.dup2, 1) := dk_92 (dk_at dksX9_doesStep_4 17 rfl rfl)
theorem dX9_doesStep_110 : decode cX9_doesStep 110 = .ok (.iaload, 1) := dk_46 (dk_at dksX9_doesStep_4 18 rfl rfl)
theorem dX9_doesStep_111 : decode cX9_doesStep 111 = .ok (.iconst 1, 1) := dk_4 (dk_at dksX9_doesStep_4 19 rfl rfl)
theorem dX9_doesStep_112 : decode cX9_doesStep 112 = .ok (.iadd, 1) := dk_96 (dk_at dksX9_doesStep_4 20 rfl rfl)
theorem dX9_doesStep_113 : decode cX9_doesStep 113 = .ok (.iastore, 1) := dk_79 (dk_at dksX9_doesStep_4 21 rfl rfl)
theorem dX9_doesStep_114 : decode cX9_doesStep 114 = .ok (.iload_n 3, 1) := dk_29 (dk_at dksX9_doesStep_4 22 rfl rfl)
theorem dX9_doesStep_115 : decode cX9_doesStep 115 = .ok (.bipush 20, 2) := dk_16 20 (dk_at dksX9_doesStep_5 0 rfl rfl)
theorem dX9_doesStep_117 : decode cX9_doesStep 117 = .ok (.if_icmp .ne 20, 3) := dk_160 0 20 (dk_at dksX9_doesStep_5 2 rfl rfl)
theorem dX9_doesStep_120 : decode cX9_doesStep 120 = .ok (.aload_n 0, 1) := dk_42 (dk_at dksX9_doesStep_5 5 rfl rfl)
theorem dX9_doesStep_121 : decode cX9_doesStep 121 = .ok (.iload 5, 2) := dk_21 5 (dk_at dksX9_doesStep_5 6 rfl rfl)
theorem dX9_doesStep_123 : decode cX9_doesStep 123 = .ok (.invokevirtual 334, 3) := dk_182 1 78 (dk_at dksX9_doesStep_5 8 rfl rfl)
theorem dX9_doesStep_126 : decode cX9_doesStep 126 = .ok (.ifCond .eq 11, 3) := dk_153 0 11 (dk_at dksX9_doesStep_5 11 rfl rfl)
theorem dX9_doesStep_129 : decode cX9_doesStep 129 = .ok (.aload_n 0, 1) := dk_42 (dk_at dksX9_doesStep_5 14 rfl rfl)
theorem dX9_doesStep_130 : decode cX9_doesStep 130 = .ok (.iload 5, 2) := dk_21 5 (dk_at dksX9_doesStep_5 15 rfl rfl)
theorem dX9_doesStep_132 : decode cX9_doesStep 132 = .ok (.invokevirtual 486, 3) := dk_182 1 230 (dk_at dksX9_doesStep_5 17 rfl rfl)
theorem dX9_doesStep_135 : decode cX9_doesStep 135 = .ok (.iconst (-1), 1) := dk_2 (dk_at dksX9_doesStep_5 20 rfl rfl)
theorem dX9_doesStep_136 : decode cX9_doesStep 136 = .ok (.ireturn, 1) := dk_172 (dk_at dksX9_doesStep_5 21 rfl rfl)
theorem dX9_doesStep_137 : decode cX9_doesStep 137 = .ok (.iload_n 3, 1) := dk_29 (dk_at dksX9_doesStep_5 22 rfl rfl)
theorem dX9_doesStep_138 : decode cX9_doesStep 138 = .ok (.sipush 2100, 3) := dk_17 8 52 (dk_at dksX9_doesStep_6 0 rfl rfl)
theorem dX9_doesStep_141 : decode cX9_doesStep 141 = .ok (.if_icmp .lt 24, 3) := dk_161 0 24 (dk_at dksX9_doesStep_6 3 rfl rfl)
theorem dX9_doesStep_144 : decode cX9_doesStep 144 = .ok (.aload_n 0, 1) := dk_42 (dk_at dksX9_doesStep_6 6 rfl rfl)
theorem dX9_doesStep_145 : decode cX9_doesStep 145 = .ok (.iload_n 2, 1) := dk_28 (dk_at dksX9_doesStep_6 7 rfl rfl)
theorem dX9_doesStep_146 : decode cX9_doesStep 146 = .ok (.invokevirtual 489, 3) := dk_182 1 233 (dk_at dksX9_doesStep_6 8 rfl rfl)
theorem dX9_doesStep_149 : decode cX9_doesStep 149 = .ok (.ifCond .ne 16, 3) := dk_154 0 16 (dk_at dksX9_doesStep_6 11 rfl rfl)
theorem dX9_doesStep_152 : decode cX9_doesStep 152 = .ok (.aload_n 0, 1) := dk_42 (dk_at dksX9_doesStep_6 14 rfl rfl)
theorem dX9_doesStep_153 : decode cX9_doesStep 153 = .ok (.getfield 7, 3) := dk_180 0 7 (dk_at dksX9_doesStep_6 15 rfl rfl)
theorem dX9_doesStep_156 : decode cX9_doesStep 156 = .ok (.iload_n 2, 1) := dk_28 (dk_at dksX9_doesStep_6 18 rfl rfl)
theorem dX9_doesStep_157 : decode cX9_doesStep 157 = .ok (.iconst 3, 1) := dk_6 (dk_at dksX9_doesStep_6 19 rfl rfl)
theorem dX9_doesStep_158 : decode cX9_doesStep 158 = .ok (.iadd, 1) := dk_96 (dk_at dksX9_doesStep_6 20 rfl rfl)
theorem dX9_doesStep_159 : decode cX9_doesStep 159 = .ok (.iaload, 1) := dk_46 (dk_at dksX9_doesStep_6 21 rfl rfl)
theorem dX9_doesStep_160 : decode cX9_doesStep 160 = .ok (.iconst 1, 1) := dk_4 (dk_at dksX9_doesStep_6 22 rfl rfl)
theorem dX9_doesStep_161 : decode cX9_doesStep 161 = .ok (.iadd, 1) := dk_96 (dk_at dksX9_doesStep_6 23 rfl rfl)
theorem dX9_doesStep_162 : decode cX9_doesStep 162 = .ok (.goto 6, 3) := dk_167 0 6 (dk_at dksX9_doesStep_7 0 rfl rfl)
theorem dX9_doesStep_165 : decode cX9_doesStep 165 = .ok (.iload_n 1, 1) := dk_27 (dk_at dksX9_doesStep_7 3 rfl rfl)
theorem dX9_doesStep_166 : decode cX9_doesStep 166 = .ok (.iconst 1, 1) := dk_4 (dk_at dksX9_doesStep_7 4 rfl rfl)
theorem dX9_doesStep_167 : decode cX9_doesStep 167 = .ok (.iadd, 1) := dk_96 (dk_at dksX9_doesStep_7 5 rfl rfl)
theorem dX9_doesStep_168 : decode cX9_doesStep 168 = .ok (.ireturn, 1) := dk_172 (dk_at dksX9_doesStep_7 6 rfl rfl)
abbrev cX9_puts : ByteArray := prog_19_method_137_code
def yX9_puts : MethodName := ⟨RX9, "puts", "(II)V"⟩
def dkwX9_puts_2 : List UInt8 := [182, 1, 128, 177]
abbrev dktX9_puts_2 : List UInt8 := dkwX9_puts_2 ++ []
def dkwX9_puts_1 : List UInt8 := [160, 0, 4, 177, 42, 27, 28, 42, 27, 28, 42, 180, 1, 217, 42, 180, 0, 82, 27, 46, 182, 1, 112]
abbrev dktX9_puts_1 : List UInt8 := dkwX9_puts_1 ++ dktX9_puts_2
def dkwX9_puts_0 : List UInt8 := [42, 182, 1, 132, 28, 2, 159, 0, 21, 42, 180, 0, 72, 28, 51, 154, 0, 12, 42, 182, 1, 69, 16, 9]
abbrev dktX9_puts_0 : List UInt8 := dkwX9_puts_0 ++ dktX9_puts_1
theorem dksX9_puts_0 : cX9_puts.data.toList.drop 0 = dktX9_puts_0 := by decide +kernel
theorem dksX9_puts_1 : cX9_puts.data.toList.drop 24 = dktX9_puts_1 := dk_seg dksX9_puts_0 24 rfl rfl
theorem dksX9_puts_2 : cX9_puts.data.toList.drop 47 = dktX9_puts_2 := dk_seg dksX9_puts_1 23 rfl rfl
theorem dX9_puts_0 : decode cX9_puts 0 = .ok (.aload_n 0, 1) := dk_42 (dk_at dksX9_puts_0 0 rfl rfl)
theorem dX9_puts_1 : decode cX9_puts 1 = .ok (.invokevirtual 388, 3) := dk_182 1 132 (dk_at dksX9_puts_0 1 rfl rfl)
theorem dX9_puts_4 : decode cX9_puts 4 = .ok (.iload_n 2, 1) := dk_28 (dk_at dksX9_puts_0 4 rfl rfl)
theorem dX9_puts_5 : decode cX9_puts 5 = .ok (.iconst (-1), 1) := dk_2 (dk_at dksX9_puts_0 5 rfl rfl)
theorem dX9_puts_6 : decode cX9_puts 6 = .ok (.if_icmp .eq 21, 3) := dk_159 0 21 (dk_at dksX9_puts_0 6 rfl rfl)
theorem dX9_puts_9 : decode cX9_puts 9 = .ok (.aload_n 0, 1) := dk_42 (dk_at dksX9_puts_0 9 rfl rfl)
theorem dX9_puts_10 : decode cX9_puts 10 = .ok (.getfield 72, 3) := dk_180 0 72 (dk_at dksX9_puts_0 10 rfl rfl)
theorem dX9_puts_13 : decode cX9_puts 13 = .ok (.iload_n 2, 1) := dk_28 (dk_at dksX9_puts_0 13 rfl rfl)
theorem dX9_puts_14 : decode cX9_puts 14 = .ok (.baload, 1) := dk_51 (dk_at dksX9_puts_0 14 rfl rfl)
theorem dX9_puts_15 : decode cX9_puts 15 = .ok (.ifCond .ne 12, 3) := dk_154 0 12 (dk_at dksX9_puts_0 15 rfl rfl)
theorem dX9_puts_18 : decode cX9_puts 18 = .ok (.aload_n 0, 1) := dk_42 (dk_at dksX9_puts_0 18 rfl rfl)
theorem dX9_puts_19 : decode cX9_puts 19 = .ok (.invokevirtual 325, 3) := dk_182 1 69 (dk_at dksX9_puts_0 19 rfl rfl)
theorem dX9_puts_22 : decode cX9_puts 22 = .ok (.bipush 9, 2) := dk_16 9 (dk_at dksX9_puts_0 22 rfl rfl)
theorem dX9_puts_24 : decode cX9_puts 24 = .ok (.if_icmp .ne 4, 3) := dk_160 0 4 (dk_at dksX9_puts_1 0 rfl rfl)
theorem dX9_puts_27 : decode cX9_puts 27 = .ok (.return_, 1) := dk_177 (dk_at dksX9_puts_1 3 rfl rfl)
theorem dX9_puts_28 : decode cX9_puts 28 = .ok (.aload_n 0, 1) := dk_42 (dk_at dksX9_puts_1 4 rfl rfl)
theorem dX9_puts_29 : decode cX9_puts 29 = .ok (.iload_n 1, 1) := dk_27 (dk_at dksX9_puts_1 5 rfl rfl)
theorem dX9_puts_30 : decode cX9_puts 30 = .ok (.iload_n 2, 1) := dk_28 (dk_at dksX9_puts_1 6 rfl rfl)
theorem dX9_puts_31 : decode cX9_puts 31 = .ok (.aload_n 0, 1) := dk_42 (dk_at dksX9_puts_1 7 rfl rfl)
theorem dX9_puts_32 : decode cX9_puts 32 = .ok (.iload_n 1, 1) := dk_27 (dk_at dksX9_puts_1 8 rfl rfl)
theorem dX9_puts_33 : decode cX9_puts 33 = .ok (.iload_n 2, 1) := dk_28 (dk_at dksX9_puts_1 9 rfl rfl)
theorem dX9_puts_34 : decode cX9_puts 34 = .ok (.aload_n 0, 1) := dk_42 (dk_at dksX9_puts_1 10 rfl rfl)
theorem dX9_puts_35 : decode cX9_puts 35 = .ok (.getfield 473, 3) := dk_180 1 217 (dk_at dksX9_puts_1 11 rfl rfl)
theorem dX9_puts_38 : decode cX9_puts 38 = .ok (.aload_n 0, 1) := dk_42 (dk_at dksX9_puts_1 14 rfl rfl)
theorem dX9_puts_39 : decode cX9_puts 39 = .ok (.getfield 82, 3) := dk_180 0 82 (dk_at dksX9_puts_1 15 rfl rfl)
theorem dX9_puts_42 : decode cX9_puts 42 = .ok (.iload_n 1, 1) := dk_27 (dk_at dksX9_puts_1 18 rfl rfl)
theorem dX9_puts_43 : decode cX9_puts 43 = .ok (.iaload, 1) := dk_46 (dk_at dksX9_puts_1 19 rfl rfl)
theorem dX9_puts_44 : decode cX9_puts 44 = .ok (.invokevirtual 368, 3) := dk_182 1 112 (dk_at dksX9_puts_1 20 rfl rfl)
theorem dX9_puts_47 : decode cX9_puts 47 = .ok (.invokevirtual 384, 3) := dk_182 1 128 (dk_at dksX9_puts_2 0 rfl rfl)
theorem dX9_puts_50 : decode cX9_puts 50 = .ok (.return_, 1) := dk_177 (dk_at dksX9_puts_2 3 rfl rfl)
abbrev cX9_rules : ByteArray := prog_19_method_139_code
def yX9_rules : MethodName := ⟨RX9, "rules", "(I)V"⟩
def dkwX9_rules_2 : List UInt8 := [62, 42, 29, 42, 27, 42, 180, 1, 217, 182, 1, 81, 160, 0, 7, 3, 167, 0, 4, 4, 181, 1, 224, 177]
abbrev dktX9_rules_2 : List UInt8 := dkwX9_rules_2 ++ []
def dkwX9_rules_1 : List UInt8 := [42, 2, 3, 27, 182, 1, 149, 105, 42, 2, 3, 2, 182, 1, 149, 148, 155, 0, 7, 4, 167, 0, 4, 3]
abbrev dktX9_rules_1 : List UInt8 := dkwX9_rules_1 ++ dktX9_rules_2
def dkwX9_rules_0 : List UInt8 := [42, 182, 1, 132, 42, 3, 27, 182, 1, 138, 61, 28, 4, 159, 0, 30, 28, 2, 160, 0, 29, 20, 1, 222]
abbrev dktX9_rules_0 : List UInt8 := dkwX9_rules_0 ++ dktX9_rules_1
theorem dksX9_rules_0 : cX9_rules.data.toList.drop 0 = dktX9_rules_0 := by decide +kernel
theorem dksX9_rules_1 : cX9_rules.data.toList.drop 24 = dktX9_rules_1 := dk_seg dksX9_rules_0 24 rfl rfl
theorem dksX9_rules_2 : cX9_rules.data.toList.drop 48 = dktX9_rules_2 := dk_seg dksX9_rules_1 24 rfl rfl
theorem dX9_rules_0 : decode cX9_rules 0 = .ok (.aload_n 0, 1) := dk_42 (dk_at dksX9_rules_0 0 rfl rfl)
theorem dX9_rules_1 : decode cX9_rules 1 = .ok (.invokevirtual 388, 3) := dk_182 1 132 (dk_at dksX9_rules_0 1 rfl rfl)
theorem dX9_rules_4 : decode cX9_rules 4 = .ok (.aload_n 0, 1) := dk_42 (dk_at dksX9_rules_0 4 rfl rfl)
theorem dX9_rules_5 : decode cX9_rules 5 = .ok (.iconst 0, 1) := dk_3 (dk_at dksX9_rules_0 5 rfl rfl)
theorem dX9_rules_6 : decode cX9_rules 6 = .ok (.iload_n 1, 1) := dk_27 (dk_at dksX9_rules_0 6 rfl rfl)
theorem dX9_rules_7 : decode cX9_rules 7 = .ok (.invokevirtual 394, 3) := dk_182 1 138 (dk_at dksX9_rules_0 7 rfl rfl)
theorem dX9_rules_10 : decode cX9_rules 10 = .ok (.istore_n 2, 1) := dk_61 (dk_at dksX9_rules_0 10 rfl rfl)
theorem dX9_rules_11 : decode cX9_rules 11 = .ok (.iload_n 2, 1) := dk_28 (dk_at dksX9_rules_0 11 rfl rfl)
theorem dX9_rules_12 : decode cX9_rules 12 = .ok (.iconst 1, 1) := dk_4 (dk_at dksX9_rules_0 12 rfl rfl)
theorem dX9_rules_13 : decode cX9_rules 13 = .ok (.if_icmp .eq 30, 3) := dk_159 0 30 (dk_at dksX9_rules_0 13 rfl rfl)
theorem dX9_rules_16 : decode cX9_rules 16 = .ok (.iload_n 2, 1) := dk_28 (dk_at dksX9_rules_0 16 rfl rfl)
theorem dX9_rules_17 : decode cX9_rules 17 = .ok (.iconst (-1), 1) := dk_2 (dk_at dksX9_rules_0 17 rfl rfl)
theorem dX9_rules_18 : decode cX9_rules 18 = .ok (.if_icmp .ne 29, 3) := dk_160 0 29 (dk_at dksX9_rules_0 18 rfl rfl)
theorem dX9_rules_21 : decode cX9_rules 21 = .ok (.ldc2_w 478, 3) := dk_20 1 222 (dk_at dksX9_rules_0 21 rfl rfl)
theorem dX9_rules_24 : decode cX9_rules 24 = .ok (.aload_n 0, 1) := dk_42 (dk_at dksX9_rules_1 0 rfl rfl)
theorem dX9_rules_25 : decode cX9_rules 25 = .ok (.iconst (-1), 1) := dk_2 (dk_at dksX9_rules_1 1 rfl rfl)
theorem dX9_rules_26 : decode cX9_rules 26 = .ok (.iconst 0, 1) := dk_3 (dk_at dksX9_rules_1 2 rfl rfl)
theorem dX9_rules_27 : decode cX9_rules 27 = .ok (.iload_n 1, 1) := dk_27 (dk_at dksX9_rules_1 3 rfl rfl)
theorem dX9_rules_28 : decode cX9_rules 28 = .ok (.invokevirtual 405, 3) := dk_182 1 149 (dk_at dksX9_rules_1 4 rfl rfl)
theorem dX9_rules_31 : decode cX9_rules 31 = .ok (.lmul, 1) := dk_105 (dk_at dksX9_rules_1 7 rfl rfl)
theorem dX9_rules_32 : decode cX9_rules 32 = .ok (.aload_n 0, 1) := dk_42 (dk_at dksX9_rules_1 8 rfl rfl)
theorem dX9_rules_33 : decode cX9_rules 33 = .ok (.iconst (-1), 1) := dk_2 (dk_at dksX9_rules_1 9 rfl rfl)
theorem dX9_rules_34 : decode cX9_rules 34 = .ok (.iconst 0, 1) := dk_3 (dk_at dksX9_rules_1 10 rfl rfl)
theorem dX9_rules_35 : decode cX9_rules 35 = .ok (.iconst (-1), 1) := dk_2 (dk_at dksX9_rules_1 11 rfl rfl)
theorem dX9_rules_36 : decode cX9_rules 36 = .ok (.invokevirtual 405, 3) := dk_182 1 149 (dk_at dksX9_rules_1 12 rfl rfl)
theorem dX9_rules_39 : decode cX9_rules 39 = .ok (.lcmp, 1) := dk_148 (dk_at dksX9_rules_1 15 rfl rfl)
theorem dX9_rules_40 : decode cX9_rules 40 = .ok (.ifCond .lt 7, 3) := dk_155 0 7 (dk_at dksX9_rules_1 16 rfl rfl)
theorem dX9_rules_43 : decode cX9_rules 43 = .ok (.iconst 1, 1) := dk_4 (dk_at dksX9_rules_1 19 rfl rfl)
theorem dX9_rules_44 : decode cX9_rules 44 = .ok (.goto 4, 3) := dk_167 0 4 (dk_at dksX9_rules_1 20 rfl rfl)
theorem dX9_rules_47 : decode cX9_rules 47 = .ok (.iconst 0, 1) := dk_3 (dk_at dksX9_rules_1 23 rfl rfl)
theorem dX9_rules_48 : decode cX9_rules 48 = .ok (.istore_n 3, 1) := dk_62 (dk_at dksX9_rules_2 0 rfl rfl)
theorem dX9_rules_49 : decode cX9_rules 49 = .ok (.aload_n 0, 1) := dk_42 (dk_at dksX9_rules_2 1 rfl rfl)
theorem dX9_rules_50 : decode cX9_rules 50 = .ok (.iload_n 3, 1) := dk_29 (dk_at dksX9_rules_2 2 rfl rfl)
theorem dX9_rules_51 : decode cX9_rules 51 = .ok (.aload_n 0, 1) := dk_42 (dk_at dksX9_rules_2 3 rfl rfl)
theorem dX9_rules_52 : decode cX9_rules 52 = .ok (.iload_n 1, 1) := dk_27 (dk_at dksX9_rules_2 4 rfl rfl)
theorem dX9_rules_53 : decode cX9_rules 53 = .ok (.aload_n 0, 1) := dk_42 (dk_at dksX9_rules_2 5 rfl rfl)
theorem dX9_rules_54 : decode cX9_rules 54 = .ok (.getfield 473, 3) := dk_180 1 217 (dk_at dksX9_rules_2 6 rfl rfl)
theorem dX9_rules_57 : decode cX9_rules 57 = .ok (.invokevirtual 337, 3) := dk_182 1 81 (dk_at dksX9_rules_2 9 rfl rfl)
theorem dX9_rules_60 : decode cX9_rules 60 = .ok (.if_icmp .ne 7, 3) := dk_160 0 7 (dk_at dksX9_rules_2 12 rfl rfl)
theorem dX9_rules_63 : decode cX9_rules 63 = .ok (.iconst 0, 1) := dk_3 (dk_at dksX9_rules_2 15 rfl rfl)
theorem dX9_rules_64 : decode cX9_rules 64 = .ok (.goto 4, 3) := dk_167 0 4 (dk_at dksX9_rules_2 16 rfl rfl)
theorem dX9_rules_67 : decode cX9_rules 67 = .ok (.iconst 1, 1) := dk_4 (dk_at dksX9_rules_2 19 rfl rfl)
theorem dX9_rules_68 : decode cX9_rules 68 = .ok (.putfield 480, 3) := dk_181 1 224 (dk_at dksX9_rules_2 20 rfl rfl)
theorem dX9_rules_71 : decode cX9_rules 71 = .ok (.return_, 1) := dk_177 (dk_at dksX9_rules_2 23 rfl rfl)
abbrev cX9_holdsNow : ByteArray := prog_19_method_138_code
def yX9_holdsNow : MethodName := ⟨RX9, "holdsNow", "(I)Z"⟩
def dkwX9_holdsNow_4 : List UInt8 := [160, 0, 7, 4, 167, 0, 17, 3, 167, 0, 13, 21, 4, 154, 0, 7, 4, 167, 0, 4, 3, 172]
abbrev dktX9_holdsNow_4 : List UInt8 := dkwX9_holdsNow_4 ++ []
def dkwX9_holdsNow_3 : List UInt8 := [21, 4, 2, 159, 0, 7, 4, 167, 0, 37, 3, 167, 0, 33, 28, 16, 23, 160, 0, 17, 21, 4, 4]
abbrev dktX9_holdsNow_3 : List UInt8 := dkwX9_holdsNow_3 ++ dktX9_holdsNow_4
def dkwX9_holdsNow_2 : List UInt8 := [182, 1, 78, 153, 0, 12, 42, 3, 29, 182, 1, 138, 167, 0, 4, 2, 54, 4, 28, 16, 22, 160, 0, 17]
abbrev dktX9_holdsNow_2 : List UInt8 := dkwX9_holdsNow_2 ++ dktX9_holdsNow_3
def dkwX9_holdsNow_1 : List UInt8 := [28, 16, 25, 160, 0, 18, 42, 3, 182, 1, 135, 29, 163, 0, 7, 4, 167, 0, 4, 3, 172, 42, 29]
abbrev dktX9_holdsNow_1 : List UInt8 := dkwX9_holdsNow_1 ++ dktX9_holdsNow_2
def dkwX9_holdsNow_0 : List UInt8 := [42, 182, 1, 132, 42, 180, 0, 7, 27, 46, 17, 8, 52, 100, 61, 42, 180, 0, 7, 27, 4, 96, 46, 62]
abbrev dktX9_holdsNow_0 : List UInt8 := dkwX9_holdsNow_0 ++ dktX9_holdsNow_1
theorem dksX9_holdsNow_0 : cX9_holdsNow.data.toList.drop 0 = dktX9_holdsNow_0 := by decide +kernel
theorem dksX9_holdsNow_1 : cX9_holdsNow.data.toList.drop 24 = dktX9_holdsNow_1 := dk_seg dksX9_holdsNow_0 24 rfl rfl
theorem dksX9_holdsNow_2 : cX9_holdsNow.data.toList.drop 47 = dktX9_holdsNow_2 := dk_seg dksX9_holdsNow_1 23 rfl rfl
theorem dksX9_holdsNow_3 : cX9_holdsNow.data.toList.drop 71 = dktX9_holdsNow_3 := dk_seg dksX9_holdsNow_2 24 rfl rfl
theorem dksX9_holdsNow_4 : cX9_holdsNow.data.toList.drop 94 = dktX9_holdsNow_4 := dk_seg dksX9_holdsNow_3 23 rfl rfl
theorem dX9_holdsNow_0 : decode cX9_holdsNow 0 = .ok (.aload_n 0, 1) := dk_42 (dk_at dksX9_holdsNow_0 0 rfl rfl)
theorem dX9_holdsNow_1 : decode cX9_holdsNow 1 = .ok (.invokevirtual 388, 3) := dk_182 1 132 (dk_at dksX9_holdsNow_0 1 rfl rfl)
theorem dX9_holdsNow_4 : decode cX9_holdsNow 4 = .ok (.aload_n 0, 1) := dk_42 (dk_at dksX9_holdsNow_0 4 rfl rfl)
theorem dX9_holdsNow_5 : decode cX9_holdsNow 5 = .ok (.getfield 7, 3) := dk_180 0 7 (dk_at dksX9_holdsNow_0 5 rfl rfl)
theorem dX9_holdsNow_8 : decode cX9_holdsNow 8 = .ok (.iload_n 1, 1) := dk_27 (dk_at dksX9_holdsNow_0 8 rfl rfl)
theorem dX9_holdsNow_9 : decode cX9_holdsNow 9 = .ok (.iaload, 1) := dk_46 (dk_at dksX9_holdsNow_0 9 rfl rfl)
theorem dX9_holdsNow_10 : decode cX9_holdsNow 10 = .ok (.sipush 2100, 3) := dk_17 8 52 (dk_at dksX9_holdsNow_0 10 rfl rfl)
theorem dX9_holdsNow_13 : decode cX9_holdsNow 13 = .ok (.isub, 1) := dk_100 (dk_at dksX9_holdsNow_0 13 rfl rfl)
theorem dX9_holdsNow_14 : decode cX9_holdsNow 14 = .ok (.istore_n 2, 1) := dk_61 (dk_at dksX9_holdsNow_0 14 rfl rfl)
theorem dX9_holdsNow_15 : decode cX9_holdsNow 15 = .ok (.aload_n 0, 1) := dk_42 (dk_at dksX9_holdsNow_0 15 rfl rfl)
theorem dX9_holdsNow_16 : decode cX9_holdsNow 16 = .ok (.getfield 7, 3) := dk_180 0 7 (dk_at dksX9_holdsNow_0 16 rfl rfl)
theorem dX9_holdsNow_19 : decode cX9_holdsNow 19 = .ok (.iload_n 1, 1) := dk_27 (dk_at dksX9_holdsNow_0 19 rfl rfl)
theorem dX9_holdsNow_20 : decode cX9_holdsNow 20 = .ok (.iconst 1, 1) := dk_4 (dk_at dksX9_holdsNow_0 20 rfl rfl)
theorem dX9_holdsNow_21 : decode cX9_holdsNow 21 = .ok (.iadd, 1) := dk_96 (dk_at dksX9_holdsNow_0 21 rfl rfl)
theorem dX9_holdsNow_22 : decode cX9_holdsNow 22 = .ok (.iaload, 1) := dk_46 (dk_at dksX9_holdsNow_0 22 rfl rfl)
theorem dX9_holdsNow_23 : decode cX9_holdsNow 23 = .ok (.istore_n 3, 1) := dk_62 (dk_at dksX9_holdsNow_0 23 rfl rfl)
theorem dX9_holdsNow_24 : decode cX9_holdsNow 24 = .ok (.iload_n 2, 1) := dk_28 (dk_at dksX9_holdsNow_1 0 rfl rfl)
theorem dX9_holdsNow_25 : decode cX9_holdsNow 25 = .ok (.bipush 25, 2) := dk_16 25 (dk_at dksX9_holdsNow_1 1 rfl rfl)
theorem dX9_holdsNow_27 : decode cX9_holdsNow 27 = .ok (.if_icmp .ne 18, 3) := dk_160 0 18 (dk_at dksX9_holdsNow_1 3 rfl rfl)
theorem dX9_holdsNow_30 : decode cX9_holdsNow 30 = .ok (.aload_n 0, 1) := dk_42 (dk_at dksX9_holdsNow_1 6 rfl rfl)
theorem dX9_holdsNow_31 : decode cX9_holdsNow 31 = .ok (.iconst 0, 1) := dk_3 (dk_at dksX9_holdsNow_1 7 rfl rfl)
theorem dX9_holdsNow_32 : decode cX9_holdsNow 32 = .ok (.invokevirtual 391, 3) := dk_182 1 135 (dk_at dksX9_holdsNow_1 8 rfl rfl)
theorem dX9_holdsNow_35 : decode cX9_holdsNow 35 = .ok (.iload_n 3, 1) := dk_29 (dk_at dksX9_holdsNow_1 11 rfl rfl)
theorem dX9_holdsNow_36 : decode cX9_holdsNow 36 = .ok (.if_icmp .gt 7, 3) := dk_163 0 7 (dk_at dksX9_holdsNow_1 12 rfl rfl)
theorem dX9_holdsNow_39 : decode cX9_holdsNow 39 = .ok (.iconst 1, 1) := dk_4 (dk_at dksX9_holdsNow_1 15 rfl rfl)
theorem dX9_holdsNow_40 : decode cX9_holdsNow 40 = .ok (.goto 4, 3) := dk_167 0 4 (dk_at dksX9_holdsNow_1 16 rfl rfl)
theorem dX9_holdsNow_43 : decode cX9_holdsNow 43 = .ok (.iconst 0, 1) := dk_3 (dk_at dksX9_holdsNow_1 19 rfl rfl)
theorem dX9_holdsNow_44 : decode cX9_holdsNow 44 = .ok (.ireturn, 1) := dk_172 (dk_at dksX9_holdsNow_1 20 rfl rfl)
theorem dX9_holdsNow_45 : decode cX9_holdsNow 45 = .ok (.aload_n 0, 1) := dk_42 (dk_at dksX9_holdsNow_1 21 rfl rfl)
theorem dX9_holdsNow_46 : decode cX9_holdsNow 46 = .ok (.iload_n 3, 1) := dk_29 (dk_at dksX9_holdsNow_1 22 rfl rfl)
theorem dX9_holdsNow_47 : decode cX9_holdsNow 47 = .ok (.invokevirtual 334, 3) := dk_182 1 78 (dk_at dksX9_holdsNow_2 0 rfl rfl)
theorem dX9_holdsNow_50 : decode cX9_holdsNow 50 = .ok (.ifCond .eq 12, 3) := dk_153 0 12 (dk_at dksX9_holdsNow_2 3 rfl rfl)
theorem dX9_holdsNow_53 : decode cX9_holdsNow 53 = .ok (.aload_n 0, 1) := dk_42 (dk_at dksX9_holdsNow_2 6 rfl rfl)
theorem dX9_holdsNow_54 : decode cX9_holdsNow 54 = .ok (.iconst 0, 1) := dk_3 (dk_at dksX9_holdsNow_2 7 rfl rfl)
theorem dX9_holdsNow_55 : decode cX9_holdsNow 55 = .ok (.iload_n 3, 1) := dk_29 (dk_at dksX9_holdsNow_2 8 rfl rfl)
theorem dX9_holdsNow_56 : decode cX9_holdsNow 56 = .ok (.invokevirtual 394, 3) := dk_182 1 138 (dk_at dksX9_holdsNow_2 9 rfl rfl)
theorem dX9_holdsNow_59 : decode cX9_holdsNow 59 = .ok (.goto 4, 3) := dk_167 0 4 (dk_at dksX9_holdsNow_2 12 rfl rfl)
theorem dX9_holdsNow_62 : decode cX9_holdsNow 62 = .ok (.iconst (-1), 1) := dk_2 (dk_at dksX9_holdsNow_2 15 rfl rfl)
theorem dX9_holdsNow_63 : decode cX9_holdsNow 63 = .ok (.istore 4, 2) := dk_54 4 (dk_at dksX9_holdsNow_2 16 rfl rfl)
theorem dX9_holdsNow_65 : decode cX9_holdsNow 65 = .ok (.iload_n 2, 1) := dk_28 (dk_at dksX9_holdsNow_2 18 rfl rfl)
theorem dX9_holdsNow_66 : decode cX9_holdsNow 66 = .ok (.bipush 22, 2) := dk_16 22 (dk_at dksX9_holdsNow_2 19 rfl rfl)
theorem dX9_holdsNow_68 : decode cX9_holdsNow 68 = .ok (.if_icmp .ne 17, 3) := dk_160 0 17 (dk_at dksX9_holdsNow_2 21 rfl rfl)
theorem dX9_holdsNow_71 : decode cX9_holdsNow 71 = .ok (.iload 4, 2) := dk_21 4 (dk_at dksX9_holdsNow_3 0 rfl rfl)
theorem dX9_holdsNow_73 : decode cX9_holdsNow 73 = .ok (.iconst (-1), 1) := dk_2 (dk_at dksX9_holdsNow_3 2 rfl rfl)
theorem dX9_holdsNow_74 : decode cX9_holdsNow 74 = .ok (.if_icmp .eq 7, 3) := dk_159 0 7 (dk_at dksX9_holdsNow_3 3 rfl rfl)
theorem dX9_holdsNow_77 : decode cX9_holdsNow 77 = .ok (.iconst 1, 1) := dk_4 (dk_at dksX9_holdsNow_3 6 rfl rfl)
theorem dX9_holdsNow_78 : decode cX9_holdsNow 78 = .ok (.goto 37, 3) := dk_167 0 37 (dk_at dksX9_holdsNow_3 7 rfl rfl)
theorem dX9_holdsNow_81 : decode cX9_holdsNow 81 = .ok (.iconst 0, 1) := dk_3 (dk_at dksX9_holdsNow_3 10 rfl rfl)
theorem dX9_holdsNow_82 : decode cX9_holdsNow 82 = .ok (.goto 33, 3) := dk_167 0 33 (dk_at dksX9_holdsNow_3 11 rfl rfl)
theorem dX9_holdsNow_85 : decode cX9_holdsNow 85 = .ok (.iload_n 2, 1) := dk_28 (dk_at dksX9_holdsNow_3 14 rfl rfl)
theorem dX9_holdsNow_86 : decode cX9_holdsNow 86 = .ok (.bipush 23, 2) := dk_16 23 (dk_at dksX9_holdsNow_3 15 rfl rfl)
theorem dX9_holdsNow_88 : decode cX9_holdsNow 88 = .ok (.if_icmp .ne 17, 3) := dk_160 0 17 (dk_at dksX9_holdsNow_3 17 rfl rfl)
theorem dX9_holdsNow_91 : decode cX9_holdsNow 91 = .ok (.iload 4, 2) := dk_21 4 (dk_at dksX9_holdsNow_3 20 rfl rfl)
theorem dX9_holdsNow_93 : decode cX9_holdsNow 93 = .ok (.iconst 1, 1) := dk_4 (dk_at dksX9_holdsNow_3 22 rfl rfl)
theorem dX9_holdsNow_94 : decode cX9_holdsNow 94 = .ok (.if_icmp .ne 7, 3) := dk_160 0 7 (dk_at dksX9_holdsNow_4 0 rfl rfl)
theorem dX9_holdsNow_97 : decode cX9_holdsNow 97 = .ok (.iconst 1, 1) := dk_4 (dk_at dksX9_holdsNow_4 3 rfl rfl)
theorem dX9_holdsNow_98 : decode cX9_holdsNow 98 = .ok (.goto 17, 3) := dk_167 0 17 (dk_at dksX9_holdsNow_4 4 rfl rfl)
theorem dX9_holdsNow_101 : decode cX9_holdsNow 101 = .ok (.iconst 0, 1) := dk_3 (dk_at dksX9_holdsNow_4 7 rfl rfl)
theorem dX9_holdsNow_102 : decode cX9_holdsNow 102 = .ok (.goto 13, 3) := dk_167 0 13 (dk_at dksX9_holdsNow_4 8 rfl rfl)
theorem dX9_holdsNow_105 : decode cX9_holdsNow 105 = .ok (.iload 4, 2) := dk_21 4 (dk_at dksX9_holdsNow_4 11 rfl rfl)
theorem dX9_holdsNow_107 : decode cX9_holdsNow 107 = .ok (.ifCond .ne 7, 3) := dk_154 0 7 (dk_at dksX9_holdsNow_4 13 rfl rfl)
theorem dX9_holdsNow_110 : decode cX9_holdsNow 110 = .ok (.iconst 1, 1) := dk_4 (dk_at dksX9_holdsNow_4 16 rfl rfl)
theorem dX9_holdsNow_111 : decode cX9_holdsNow 111 = .ok (.goto 4, 3) := dk_167 0 4 (dk_at dksX9_holdsNow_4 17 rfl rfl)
theorem dX9_holdsNow_114 : decode cX9_holdsNow 114 = .ok (.iconst 0, 1) := dk_3 (dk_at dksX9_holdsNow_4 20 rfl rfl)
theorem dX9_holdsNow_115 : decode cX9_holdsNow 115 = .ok (.ireturn, 1) := dk_172 (dk_at dksX9_holdsNow_4 21 rfl rfl)
abbrev cX9_sat : ByteArray := prog_19_method_144_code
def yX9_sat : MethodName := ⟨RX9, "sat", "(I)I"⟩
def dkwX9_sat_1 : List UInt8 := [42, 16, 6, 182, 0, 197, 167, 0, 13, 42, 42, 180, 0, 91, 27, 46, 182, 0, 200, 172]
abbrev dktX9_sat_1 : List UInt8 := dkwX9_sat_1 ++ []
def dkwX9_sat_0 : List UInt8 := [27, 155, 0, 8, 27, 8, 164, 0, 11, 42, 4, 182, 0, 197, 167, 0, 29, 42, 180, 1, 254, 154, 0, 12]
abbrev dktX9_sat_0 : List UInt8 := dkwX9_sat_0 ++ dktX9_sat_1
theorem dksX9_sat_0 : cX9_sat.data.toList.drop 0 = dktX9_sat_0 := by decide +kernel
theorem dksX9_sat_1 : cX9_sat.data.toList.drop 24 = dktX9_sat_1 := dk_seg dksX9_sat_0 24 rfl rfl
theorem dX9_sat_0 : decode cX9_sat 0 = .ok (.iload_n 1, 1) := dk_27 (dk_at dksX9_sat_0 0 rfl rfl)
theorem dX9_sat_1 : decode cX9_sat 1 = .ok (.ifCond .lt 8, 3) := dk_155 0 8 (dk_at dksX9_sat_0 1 rfl rfl)
theorem dX9_sat_4 : decode cX9_sat 4 = .ok (.iload_n 1, 1) := dk_27 (dk_at dksX9_sat_0 4 rfl rfl)
theorem dX9_sat_5 : decode cX9_sat 5 = .ok (.iconst 5, 1) := dk_8 (dk_at dksX9_sat_0 5 rfl rfl)
theorem dX9_sat_6 : decode cX9_sat 6 = .ok (.if_icmp .le 11, 3) := dk_164 0 11 (dk_at dksX9_sat_0 6 rfl rfl)
theorem dX9_sat_9 : decode cX9_sat 9 = .ok (.aload_n 0, 1) := dk_42 (dk_at dksX9_sat_0 9 rfl rfl)
theorem dX9_sat_10 : decode cX9_sat 10 = .ok (.iconst 1, 1) := dk_4 (dk_at dksX9_sat_0 10 rfl rfl)
theorem dX9_sat_11 : decode cX9_sat 11 = .ok (.invokevirtual 197, 3) := dk_182 0 197 (dk_at dksX9_sat_0 11 rfl rfl)
theorem dX9_sat_14 : decode cX9_sat 14 = .ok (.goto 29, 3) := dk_167 0 29 (dk_at dksX9_sat_0 14 rfl rfl)
theorem dX9_sat_17 : decode cX9_sat 17 = .ok (.aload_n 0, 1) := dk_42 (dk_at dksX9_sat_0 17 rfl rfl)
theorem dX9_sat_18 : decode cX9_sat 18 = .ok (.getfield 510, 3) := dk_180 1 254 (dk_at dksX9_sat_0 18 rfl rfl)
theorem dX9_sat_21 : decode cX9_sat 21 = .ok (.ifCond .ne 12, 3) := dk_154 0 12 (dk_at dksX9_sat_0 21 rfl rfl)
theorem dX9_sat_24 : decode cX9_sat 24 = .ok (.aload_n 0, 1) := dk_42 (dk_at dksX9_sat_1 0 rfl rfl)
theorem dX9_sat_25 : decode cX9_sat 25 = .ok (.bipush 6, 2) := dk_16 6 (dk_at dksX9_sat_1 1 rfl rfl)
theorem dX9_sat_27 : decode cX9_sat 27 = .ok (.invokevirtual 197, 3) := dk_182 0 197 (dk_at dksX9_sat_1 3 rfl rfl)
theorem dX9_sat_30 : decode cX9_sat 30 = .ok (.goto 13, 3) := dk_167 0 13 (dk_at dksX9_sat_1 6 rfl rfl)
theorem dX9_sat_33 : decode cX9_sat 33 = .ok (.aload_n 0, 1) := dk_42 (dk_at dksX9_sat_1 9 rfl rfl)
theorem dX9_sat_34 : decode cX9_sat 34 = .ok (.aload_n 0, 1) := dk_42 (dk_at dksX9_sat_1 10 rfl rfl)
theorem dX9_sat_35 : decode cX9_sat 35 = .ok (.getfield 91, 3) := dk_180 0 91 (dk_at dksX9_sat_1 11 rfl rfl)
theorem dX9_sat_38 : decode cX9_sat 38 = .ok (.iload_n 1, 1) := dk_27 (dk_at dksX9_sat_1 14 rfl rfl)
theorem dX9_sat_39 : decode cX9_sat 39 = .ok (.iaload, 1) := dk_46 (dk_at dksX9_sat_1 15 rfl rfl)
theorem dX9_sat_40 : decode cX9_sat 40 = .ok (.invokevirtual 200, 3) := dk_182 0 200 (dk_at dksX9_sat_1 16 rfl rfl)
theorem dX9_sat_43 : decode cX9_sat 43 = .ok (.ireturn, 1) := dk_172 (dk_at dksX9_sat_1 19 rfl rfl)
abbrev cX9_tally : ByteArray := prog_19_method_145_code
def yX9_tally : MethodName := ⟨RX9, "tally", "(III)I"⟩
def dkwX9_tally_4 : List UInt8 := [4, 167, 0, 4, 3, 96, 54, 4, 132, 5, 1, 167, 255, 221, 42, 21, 4, 182, 0, 200, 172]
abbrev dktX9_tally_4 : List UInt8 := dkwX9_tally_4 ++ []
def dkwX9_tally_3 : List UInt8 := [21, 5, 28, 162, 0, 35, 42, 27, 21, 5, 96, 182, 1, 251, 21, 4, 42, 180, 1, 224, 29, 160, 0, 7]
abbrev dktX9_tally_3 : List UInt8 := dkwX9_tally_3 ++ dktX9_tally_4
def dkwX9_tally_2 : List UInt8 := [182, 0, 197, 172, 42, 182, 1, 248, 154, 0, 10, 42, 16, 6, 182, 0, 197, 172, 3, 54, 4, 3, 54, 5]
abbrev dktX9_tally_2 : List UInt8 := dkwX9_tally_2 ++ dktX9_tally_3
def dkwX9_tally_1 : List UInt8 := [27, 28, 96, 4, 100, 17, 39, 15, 163, 0, 12, 29, 155, 0, 8, 29, 5, 164, 0, 9, 42, 4]
abbrev dktX9_tally_1 : List UInt8 := dkwX9_tally_1 ++ dktX9_tally_2
def dkwX9_tally_0 : List UInt8 := [27, 133, 9, 20, 1, 242, 184, 1, 244, 153, 0, 35, 28, 133, 10, 20, 2, 2, 184, 1, 244, 153, 0, 23]
abbrev dktX9_tally_0 : List UInt8 := dkwX9_tally_0 ++ dktX9_tally_1
theorem dksX9_tally_0 : cX9_tally.data.toList.drop 0 = dktX9_tally_0 := by decide +kernel
theorem dksX9_tally_1 : cX9_tally.data.toList.drop 24 = dktX9_tally_1 := dk_seg dksX9_tally_0 24 rfl rfl
theorem dksX9_tally_2 : cX9_tally.data.toList.drop 46 = dktX9_tally_2 := dk_seg dksX9_tally_1 22 rfl rfl
theorem dksX9_tally_3 : cX9_tally.data.toList.drop 70 = dktX9_tally_3 := dk_seg dksX9_tally_2 24 rfl rfl
theorem dksX9_tally_4 : cX9_tally.data.toList.drop 94 = dktX9_tally_4 := dk_seg dksX9_tally_3 24 rfl rfl
theorem dX9_tally_0 : decode cX9_tally 0 = .ok (.iload_n 1, 1) := dk_27 (dk_at dksX9_tally_0 0 rfl rfl)
theorem dX9_tally_1 : decode cX9_tally 1 = .ok (.i2l, 1) := dk_133 (dk_at dksX9_tally_0 1 rfl rfl)
theorem dX9_tally_2 : decode cX9_tally 2 = .ok (.lconst 0, 1) := dk_9 (dk_at dksX9_tally_0 2 rfl rfl)
theorem dX9_tally_3 : decode cX9_tally 3 = .ok (.ldc2_w 498, 3) := dk_20 1 242 (dk_at dksX9_tally_0 3 rfl rfl)
theorem dX9_tally_6 : decode cX9_tally 6 = .ok (.invokestatic 500, 3) := dk_184 1 244 (dk_at dksX9_tally_0 6 rfl rfl)
theorem dX9_tally_9 : decode cX9_tally 9 = .ok (.ifCond .eq 35, 3) := dk_153 0 35 (dk_at dksX9_tally_0 9 rfl rfl)
theorem dX9_tally_12 : decode cX9_tally 12 = .ok (.iload_n 2, 1) := dk_28 (dk_at dksX9_tally_0 12 rfl rfl)
theorem dX9_tally_13 : decode cX9_tally 13 = .ok (.i2l, 1) := dk_133 (dk_at dksX9_tally_0 13 rfl rfl)
theorem dX9_tally_14 : decode cX9_tally 14 = .ok (.lconst 1, 1) := dk_10 (dk_at dksX9_tally_0 14 rfl rfl)
theorem dX9_tally_15 : decode cX9_tally 15 = .ok (.ldc2_w 514, 3) := dk_20 2 2 (dk_at dksX9_tally_0 15 rfl rfl)
theorem dX9_tally_18 : decode cX9_tally 18 = .ok (.invokestatic 500, 3) := dk_184 1 244 (dk_at dksX9_tally_0 18 rfl rfl)
theorem dX9_tally_21 : decode cX9_tally 21 = .ok (.ifCond .eq 23, 3) := dk_153 0 23 (dk_at dksX9_tally_0 21 rfl rfl)
theorem dX9_tally_24 : decode cX9_tally 24 = .ok (.iload_n 1, 1) := dk_27 (dk_at dksX9_tally_1 0 rfl rfl)
theorem dX9_tally_25 : decode cX9_tally 25 = .ok (.iload_n 2, 1) := dk_28 (dk_at dksX9_tally_1 1 rfl rfl)
theorem dX9_tally_26 : decode cX9_tally 26 = .ok (.iadd, 1) := dk_96 (dk_at dksX9_tally_1 2 rfl rfl)
theorem dX9_tally_27 : decode cX9_tally 27 = .ok (.iconst 1, 1) := dk_4 (dk_at dksX9_tally_1 3 rfl rfl)
theorem dX9_tally_28 : decode cX9_tally 28 = .ok (.isub, 1) := dk_100 (dk_at dksX9_tally_1 4 rfl rfl)
theorem dX9_tally_29 : decode cX9_tally 29 = .ok (.sipush 9999, 3) := dk_17 39 15 (dk_at dksX9_tally_1 5 rfl rfl)
theorem dX9_tally_32 : decode cX9_tally 32 = .ok (.if_icmp .gt 12, 3) := dk_163 0 12 (dk_at dksX9_tally_1 8 rfl rfl)
theorem dX9_tally_35 : decode cX9_tally 35 = .ok (.iload_n 3, 1) := dk_29 (dk_at dksX9_tally_1 11 rfl rfl)
theorem dX9_tally_36 : decode cX9_tally 36 = .ok (.ifCond .lt 8, 3) := dk_155 0 8 (dk_at dksX9_tally_1 12 rfl rfl)
theorem dX9_tally_39 : decode cX9_tally 39 = .ok (.iload_n 3, 1) := dk_29 (dk_at dksX9_tally_1 15 rfl rfl)
theorem dX9_tally_40 : decode cX9_tally 40 = .ok (.iconst 2, 1) := dk_5 (dk_at dksX9_tally_1 16 rfl rfl)
theorem dX9_tally_41 : decode cX9_tally 41 = .ok (.if_icmp .le 9, 3) := dk_164 0 9 (dk_at dksX9_tally_1 17 rfl rfl)
theorem dX9_tally_44 : decode cX9_tally 44 = .ok (.aload_n 0, 1) := dk_42 (dk_at dksX9_tally_1 20 rfl rfl)
theorem dX9_tally_45 : decode cX9_tally 45 = .ok (.iconst 1, 1) := dk_4 (dk_at dksX9_tally_1 21 rfl rfl)
theorem dX9_tally_46 : decode cX9_tally 46 = .ok (.invokevirtual 197, 3) := dk_182 0 197 (dk_at dksX9_tally_2 0 rfl rfl)
theorem dX9_tally_49 : decode cX9_tally 49 = .ok (.ireturn, 1) := dk_172 (dk_at dksX9_tally_2 3 rfl rfl)
theorem dX9_tally_50 : decode cX9_tally 50 = .ok (.aload_n 0, 1) := dk_42 (dk_at dksX9_tally_2 4 rfl rfl)
theorem dX9_tally_51 : decode cX9_tally 51 = .ok (.invokevirtual 504, 3) := dk_182 1 248 (dk_at dksX9_tally_2 5 rfl rfl)
theorem dX9_tally_54 : decode cX9_tally 54 = .ok (.ifCond .ne 10, 3) := dk_154 0 10 (dk_at dksX9_tally_2 8 rfl rfl)
theorem dX9_tally_57 : decode cX9_tally 57 = .ok (.aload_n 0, 1) := dk_42 (dk_at dksX9_tally_2 11 rfl rfl)
theorem dX9_tally_58 : decode cX9_tally 58 = .ok (.bipush 6, 2) := dk_16 6 (dk_at dksX9_tally_2 12 rfl rfl)
theorem dX9_tally_60 : decode cX9_tally 60 = .ok (.invokevirtual 197, 3) := dk_182 0 197 (dk_at dksX9_tally_2 14 rfl rfl)
theorem dX9_tally_63 : decode cX9_tally 63 = .ok (.ireturn, 1) := dk_172 (dk_at dksX9_tally_2 17 rfl rfl)
theorem dX9_tally_64 : decode cX9_tally 64 = .ok (.iconst 0, 1) := dk_3 (dk_at dksX9_tally_2 18 rfl rfl)
theorem dX9_tally_65 : decode cX9_tally 65 = .ok (.istore 4, 2) := dk_54 4 (dk_at dksX9_tally_2 19 rfl rfl)
theorem dX9_tally_67 : decode cX9_tally 67 = .ok (.iconst 0, 1) := dk_3 (dk_at dksX9_tally_2 21 rfl rfl)
theorem dX9_tally_68 : decode cX9_tally 68 = .ok (.istore 5, 2) := dk_54 5 (dk_at dksX9_tally_2 22 rfl rfl)
theorem dX9_tally_70 : decode cX9_tally 70 = .ok (.iload 5, 2) := dk_21 5 (dk_at dksX9_tally_3 0 rfl rfl)
theorem dX9_tally_72 : decode cX9_tally 72 = .ok (.iload_n 2, 1) := dk_28 (dk_at dksX9_tally_3 2 rfl rfl)
theorem dX9_tally_73 : decode cX9_tally 73 = .ok (.if_icmp .ge 35, 3) := dk_162 0 35 (dk_at dksX9_tally_3 3 rfl rfl)
theorem dX9_tally_76 : decode cX9_tally 76 = .ok (.aload_n 0, 1) := dk_42 (dk_at dksX9_tally_3 6 rfl rfl)
theorem dX9_tally_77 : decode cX9_tally 77 = .ok (.iload_n 1, 1) := dk_27 (dk_at dksX9_tally_3 7 rfl rfl)
theorem dX9_tally_78 : decode cX9_tally 78 = .ok (.iload 5, 2) := dk_21 5 (dk_at dksX9_tally_3 8 rfl rfl)
theorem dX9_tally_80 : decode cX9_tally 80 = .ok (.iadd, 1) := dk_96 (dk_at dksX9_tally_3 10 rfl rfl)
theorem dX9_tally_81 : decode cX9_tally 81 = .ok (.invokevirtual 507, 3) := dk_182 1 251 (dk_at dksX9_tally_3 11 rfl rfl)
theorem dX9_tally_84 : decode cX9_tally 84 = .ok (.iload 4, 2) := dk_21 4 (dk_at dksX9_tally_3 14 rfl rfl)
theorem dX9_tally_86 : decode cX9_tally 86 = .ok (.aload_n 0, 1) := dk_42 (dk_at dksX9_tally_3 16 rfl rfl)
theorem dX9_tally_87 : decode cX9_tally 87 = .ok (.getfield 480, 3) := dk_180 1 224 (dk_at dksX9_tally_3 17 rfl rfl)
theorem dX9_tally_90 : decode cX9_tally 90 = .ok (.iload_n 3, 1) := dk_29 (dk_at dksX9_tally_3 20 rfl rfl)
theorem dX9_tally_91 : decode cX9_tally 91 = .ok (.if_icmp .ne 7, 3) := dk_160 0 7 (dk_at dksX9_tally_3 21 rfl rfl)
theorem dX9_tally_94 : decode cX9_tally 94 = .ok (.iconst 1, 1) := dk_4 (dk_at dksX9_tally_4 0 rfl rfl)
theorem dX9_tally_95 : decode cX9_tally 95 = .ok (.goto 4, 3) := dk_167 0 4 (dk_at dksX9_tally_4 1 rfl rfl)
theorem dX9_tally_98 : decode cX9_tally 98 = .ok (.iconst 0, 1) := dk_3 (dk_at dksX9_tally_4 4 rfl rfl)
theorem dX9_tally_99 : decode cX9_tally 99 = .ok (.iadd, 1) := dk_96 (dk_at dksX9_tally_4 5 rfl rfl)
theorem dX9_tally_100 : decode cX9_tally 100 = .ok (.istore 4, 2) := dk_54 4 (dk_at dksX9_tally_4 6 rfl rfl)
theorem dX9_tally_102 : decode cX9_tally 102 = .ok (.iinc 5 1, 3) := dk_132 5 1 (dk_at dksX9_tally_4 8 rfl rfl)
theorem dX9_tally_105 : decode cX9_tally 105 = .ok (.goto (-35), 3) := dk_167 255 221 (dk_at dksX9_tally_4 11 rfl rfl)
theorem dX9_tally_108 : decode cX9_tally 108 = .ok (.aload_n 0, 1) := dk_42 (dk_at dksX9_tally_4 14 rfl rfl)
theorem dX9_tally_109 : decode cX9_tally 109 = .ok (.iload 4, 2) := dk_21 4 (dk_at dksX9_tally_4 15 rfl rfl)
theorem dX9_tally_111 : decode cX9_tally 111 = .ok (.invokevirtual 200, 3) := dk_182 0 200 (dk_at dksX9_tally_4 17 rfl rfl)
theorem dX9_tally_114 : decode cX9_tally 114 = .ok (.ireturn, 1) := dk_172 (dk_at dksX9_tally_4 20 rfl rfl)
abbrev cX9_mark : ByteArray := prog_19_method_147_code
def yX9_mark : MethodName := ⟨RX9, "mark", "()I"⟩
def dkwX9_mark_1 : List UInt8 := [42, 3, 42, 180, 2, 4, 182, 2, 7, 42, 42, 180, 2, 4, 182, 0, 200, 172]
abbrev dktX9_mark_1 : List UInt8 := dkwX9_mark_1 ++ []
def dkwX9_mark_0 : List UInt8 := [42, 180, 2, 4, 6, 160, 0, 9, 42, 7, 182, 0, 197, 172, 42, 89, 180, 2, 4, 4, 96, 181, 2, 4]
abbrev dktX9_mark_0 : List UInt8 := dkwX9_mark_0 ++ dktX9_mark_1
theorem dksX9_mark_0 : cX9_mark.data.toList.drop 0 = dktX9_mark_0 := by decide +kernel
theorem dksX9_mark_1 : cX9_mark.data.toList.drop 24 = dktX9_mark_1 := dk_seg dksX9_mark_0 24 rfl rfl
theorem dX9_mark_0 : decode cX9_mark 0 = .ok (.aload_n 0, 1) := dk_42 (dk_at dksX9_mark_0 0 rfl rfl)
theorem dX9_mark_1 : decode cX9_mark 1 = .ok (.getfield 516, 3) := dk_180 2 4 (dk_at dksX9_mark_0 1 rfl rfl)
theorem dX9_mark_4 : decode cX9_mark 4 = .ok (.iconst 3, 1) := dk_6 (dk_at dksX9_mark_0 4 rfl rfl)
theorem dX9_mark_5 : decode cX9_mark 5 = .ok (.if_icmp .ne 9, 3) := dk_160 0 9 (dk_at dksX9_mark_0 5 rfl rfl)
theorem dX9_mark_8 : decode cX9_mark 8 = .ok (.aload_n 0, 1) := dk_42 (dk_at dksX9_mark_0 8 rfl rfl)
theorem dX9_mark_9 : decode cX9_mark 9 = .ok (.iconst 4, 1) := dk_7 (dk_at dksX9_mark_0 9 rfl rfl)
theorem dX9_mark_10 : decode cX9_mark 10 = .ok (.invokevirtual 197, 3) := dk_182 0 197 (dk_at dksX9_mark_0 10 rfl rfl)
theorem dX9_mark_13 : decode cX9_mark 13 = .ok (.ireturn, 1) := dk_172 (dk_at dksX9_mark_0 13 rfl rfl)
theorem dX9_mark_14 : decode cX9_mark 14 = .ok (.aload_n 0, 1) := dk_42 (dk_at dksX9_mark_0 14 rfl rfl)
theorem dX9_mark_15 : decode cX9_mark 15 = .ok (.dup, 1) := dk_89 (dk_at dksX9_mark_0 15 rfl rfl)
theorem dX9_mark_16 : decode cX9_mark 16 = .ok (.getfield 516, 3) := dk_180 2 4 (dk_at dksX9_mark_0 16 rfl rfl)
theorem dX9_mark_19 : decode cX9_mark 19 = .ok (.iconst 1, 1) := dk_4 (dk_at dksX9_mark_0 19 rfl rfl)
theorem dX9_mark_20 : decode cX9_mark 20 = .ok (.iadd, 1) := dk_96 (dk_at dksX9_mark_0 20 rfl rfl)
theorem dX9_mark_21 : decode cX9_mark 21 = .ok (.putfield 516, 3) := dk_181 2 4 (dk_at dksX9_mark_0 21 rfl rfl)
theorem dX9_mark_24 : decode cX9_mark 24 = .ok (.aload_n 0, 1) := dk_42 (dk_at dksX9_mark_1 0 rfl rfl)
theorem dX9_mark_25 : decode cX9_mark 25 = .ok (.iconst 0, 1) := dk_3 (dk_at dksX9_mark_1 1 rfl rfl)
theorem dX9_mark_26 : decode cX9_mark 26 = .ok (.aload_n 0, 1) := dk_42 (dk_at dksX9_mark_1 2 rfl rfl)
theorem dX9_mark_27 : decode cX9_mark 27 = .ok (.getfield 516, 3) := dk_180 2 4 (dk_at dksX9_mark_1 3 rfl rfl)
theorem dX9_mark_30 : decode cX9_mark 30 = .ok (.invokevirtual 519, 3) := dk_182 2 7 (dk_at dksX9_mark_1 6 rfl rfl)
theorem dX9_mark_33 : decode cX9_mark 33 = .ok (.aload_n 0, 1) := dk_42 (dk_at dksX9_mark_1 9 rfl rfl)
theorem dX9_mark_34 : decode cX9_mark 34 = .ok (.aload_n 0, 1) := dk_42 (dk_at dksX9_mark_1 10 rfl rfl)
theorem dX9_mark_35 : decode cX9_mark 35 = .ok (.getfield 516, 3) := dk_180 2 4 (dk_at dksX9_mark_1 11 rfl rfl)
theorem dX9_mark_38 : decode cX9_mark 38 = .ok (.invokevirtual 200, 3) := dk_182 0 200 (dk_at dksX9_mark_1 14 rfl rfl)
theorem dX9_mark_41 : decode cX9_mark 41 = .ok (.ireturn, 1) := dk_172 (dk_at dksX9_mark_1 17 rfl rfl)
abbrev cX9_copies : ByteArray := prog_19_method_146_code
def yX9_copies : MethodName := ⟨RX9, "copies", "(II)V"⟩
def dkwX9_copies_4 : List UInt8 := [180, 0, 17, 16, 44, 27, 104, 29, 96, 47, 80, 132, 3, 1, 167, 255, 225, 177]
abbrev dktX9_copies_4 : List UInt8 := dkwX9_copies_4 ++ []
def dkwX9_copies_3 : List UInt8 := [167, 255, 225, 3, 62, 29, 16, 44, 162, 0, 31, 42, 180, 0, 17, 16, 44, 28, 104, 29, 96, 42]
abbrev dktX9_copies_3 : List UInt8 := dkwX9_copies_3 ++ dktX9_copies_4
def dkwX9_copies_2 : List UInt8 := [180, 0, 13, 16, 52, 28, 104, 29, 96, 42, 180, 0, 13, 16, 52, 27, 104, 29, 96, 47, 80, 132, 3, 1]
abbrev dktX9_copies_2 : List UInt8 := dkwX9_copies_2 ++ dktX9_copies_3
def dkwX9_copies_1 : List UInt8 := [17, 1, 144, 27, 104, 29, 96, 46, 79, 132, 3, 1, 167, 255, 222, 3, 62, 29, 16, 52, 162, 0, 31, 42]
abbrev dktX9_copies_1 : List UInt8 := dkwX9_copies_1 ++ dktX9_copies_2
def dkwX9_copies_0 : List UInt8 := [3, 62, 29, 17, 1, 144, 162, 0, 33, 42, 180, 0, 7, 17, 1, 144, 28, 104, 29, 96, 42, 180, 0, 7]
abbrev dktX9_copies_0 : List UInt8 := dkwX9_copies_0 ++ dktX9_copies_1
theorem dksX9_copies_0 : cX9_copies.data.toList.drop 0 = dktX9_copies_0 := by decide +kernel
theorem dksX9_copies_1 : cX9_copies.data.toList.drop 24 = dktX9_copies_1 := dk_seg dksX9_copies_0 24 rfl rfl
theorem dksX9_copies_2 : cX9_copies.data.toList.drop 48 = dktX9_copies_2 := dk_seg dksX9_copies_1 24 rfl rfl
theorem dksX9_copies_3 : cX9_copies.data.toList.drop 72 = dktX9_copies_3 := dk_seg dksX9_copies_2 24 rfl rfl
theorem dksX9_copies_4 : cX9_copies.data.toList.drop 94 = dktX9_copies_4 := dk_seg dksX9_copies_3 22 rfl rfl
theorem dX9_copies_0 : decode cX9_copies 0 = .ok (.iconst 0, 1) := dk_3 (dk_at dksX9_copies_0 0 rfl rfl)
theorem dX9_copies_1 : decode cX9_copies 1 = .ok (.istore_n 3, 1) := dk_62 (dk_at dksX9_copies_0 1 rfl rfl)
theorem dX9_copies_2 : decode cX9_copies 2 = .ok (.iload_n 3, 1) := dk_29 (dk_at dksX9_copies_0 2 rfl rfl)
theorem dX9_copies_3 : decode cX9_copies 3 = .ok (.sipush 400, 3) := dk_17 1 144 (dk_at dksX9_copies_0 3 rfl rfl)
theorem dX9_copies_6 : decode cX9_copies 6 = .ok (.if_icmp .ge 33, 3) := dk_162 0 33 (dk_at dksX9_copies_0 6 rfl rfl)
theorem dX9_copies_9 : decode cX9_copies 9 = .ok (.aload_n 0, 1) := dk_42 (dk_at dksX9_copies_0 9 rfl rfl)
theorem dX9_copies_10 : decode cX9_copies 10 = .ok (.getfield 7, 3) := dk_180 0 7 (dk_at dksX9_copies_0 10 rfl rfl)
theorem dX9_copies_13 : decode cX9_copies 13 = .ok (.sipush 400, 3) := dk_17 1 144 (dk_at dksX9_copies_0 13 rfl rfl)
theorem dX9_copies_16 : decode cX9_copies 16 = .ok (.iload_n 2, 1) := dk_28 (dk_at dksX9_copies_0 16 rfl rfl)
theorem dX9_copies_17 : decode cX9_copies 17 = .ok (.imul, 1) := dk_104 (dk_at dksX9_copies_0 17 rfl rfl)
theorem dX9_copies_18 : decode cX9_copies 18 = .ok (.iload_n 3, 1) := dk_29 (dk_at dksX9_copies_0 18 rfl rfl)
theorem dX9_copies_19 : decode cX9_copies 19 = .ok (.iadd, 1) := dk_96 (dk_at dksX9_copies_0 19 rfl rfl)
theorem dX9_copies_20 : decode cX9_copies 20 = .ok (.aload_n 0, 1) := dk_42 (dk_at dksX9_copies_0 20 rfl rfl)
theorem dX9_copies_21 : decode cX9_copies 21 = .ok (.getfield 7, 3) := dk_180 0 7 (dk_at dksX9_copies_0 21 rfl rfl)
theorem dX9_copies_24 : decode cX9_copies 24 = .ok (.sipush 400, 3) := dk_17 1 144 (dk_at dksX9_copies_1 0 rfl rfl)
theorem dX9_copies_27 : decode cX9_copies 27 = .ok (.iload_n 1, 1) := dk_27 (dk_at dksX9_copies_1 3 rfl rfl)
theorem dX9_copies_28 : decode cX9_copies 28 = .ok (.imul, 1) := dk_104 (dk_at dksX9_copies_1 4 rfl rfl)
theorem dX9_copies_29 : decode cX9_copies 29 = .ok (.iload_n 3, 1) := dk_29 (dk_at dksX9_copies_1 5 rfl rfl)
theorem dX9_copies_30 : decode cX9_copies 30 = .ok (.iadd, 1) := dk_96 (dk_at dksX9_copies_1 6 rfl rfl)
theorem dX9_copies_31 : decode cX9_copies 31 = .ok (.iaload, 1) := dk_46 (dk_at dksX9_copies_1 7 rfl rfl)
theorem dX9_copies_32 : decode cX9_copies 32 = .ok (.iastore, 1) := dk_79 (dk_at dksX9_copies_1 8 rfl rfl)
theorem dX9_copies_33 : decode cX9_copies 33 = .ok (.iinc 3 1, 3) := dk_132 3 1 (dk_at dksX9_copies_1 9 rfl rfl)
theorem dX9_copies_36 : decode cX9_copies 36 = .ok (.goto (-34), 3) := dk_167 255 222 (dk_at dksX9_copies_1 12 rfl rfl)
theorem dX9_copies_39 : decode cX9_copies 39 = .ok (.iconst 0, 1) := dk_3 (dk_at dksX9_copies_1 15 rfl rfl)
theorem dX9_copies_40 : decode cX9_copies 40 = .ok (.istore_n 3, 1) := dk_62 (dk_at dksX9_copies_1 16 rfl rfl)
theorem dX9_copies_41 : decode cX9_copies 41 = .ok (.iload_n 3, 1) := dk_29 (dk_at dksX9_copies_1 17 rfl rfl)
theorem dX9_copies_42 : decode cX9_copies 42 = .ok (.bipush 52, 2) := dk_16 52 (dk_at dksX9_copies_1 18 rfl rfl)
theorem dX9_copies_44 : decode cX9_copies 44 = .ok (.if_icmp .ge 31, 3) := dk_162 0 31 (dk_at dksX9_copies_1 20 rfl rfl)
theorem dX9_copies_47 : decode cX9_copies 47 = .ok (.aload_n 0, 1) := dk_42 (dk_at dksX9_copies_1 23 rfl rfl)
theorem dX9_copies_48 : decode cX9_copies 48 = .ok (.getfield 13, 3) := dk_180 0 13 (dk_at dksX9_copies_2 0 rfl rfl)
theorem dX9_copies_51 : decode cX9_copies 51 = .ok (.bipush 52, 2) := dk_16 52 (dk_at dksX9_copies_2 3 rfl rfl)
theorem dX9_copies_53 : decode cX9_copies 53 = .ok (.iload_n 2, 1) := dk_28 (dk_at dksX9_copies_2 5 rfl rfl)
theorem dX9_copies_54 : decode cX9_copies 54 = .ok (.imul, 1) := dk_104 (dk_at dksX9_copies_2 6 rfl rfl)
theorem dX9_copies_55 : decode cX9_copies 55 = .ok (.iload_n 3, 1) := dk_29 (dk_at dksX9_copies_2 7 rfl rfl)
theorem dX9_copies_56 : decode cX9_copies 56 = .ok (.iadd, 1) := dk_96 (dk_at dksX9_copies_2 8 rfl rfl)
theorem dX9_copies_57 : decode cX9_copies 57 = .ok (.aload_n 0, 1) := dk_42 (dk_at dksX9_copies_2 9 rfl rfl)
theorem dX9_copies_58 : decode cX9_copies 58 = .ok (.getfield 13, 3) := dk_180 0 13 (dk_at dksX9_copies_2 10 rfl rfl)
theorem dX9_copies_61 : decode cX9_copies 61 = .ok (.bipush 52, 2) := dk_16 52 (dk_at dksX9_copies_2 13 rfl rfl)
theorem dX9_copies_63 : decode cX9_copies 63 = .ok (.iload_n 1, 1) := dk_27 (dk_at dksX9_copies_2 15 rfl rfl)
theorem dX9_copies_64 : decode cX9_copies 64 = .ok (.imul, 1) := dk_104 (dk_at dksX9_copies_2 16 rfl rfl)
theorem dX9_copies_65 : decode cX9_copies 65 = .ok (.iload_n 3, 1) := dk_29 (dk_at dksX9_copies_2 17 rfl rfl)
theorem dX9_copies_66 : decode cX9_copies 66 = .ok (.iadd, 1) := dk_96 (dk_at dksX9_copies_2 18 rfl rfl)
theorem dX9_copies_67 : decode cX9_copies 67 = .ok (.laload, 1) := dk_47 (dk_at dksX9_copies_2 19 rfl rfl)
theorem dX9_copies_68 : decode cX9_copies 68 = .ok (.lastore, 1) := dk_80 (dk_at dksX9_copies_2 20 rfl rfl)
theorem dX9_copies_69 : decode cX9_copies 69 = .ok (.iinc 3 1, 3) := dk_132 3 1 (dk_at dksX9_copies_2 21 rfl rfl)
theorem dX9_copies_72 : decode cX9_copies 72 = .ok (.goto (-31), 3) := dk_167 255 225 (dk_at dksX9_copies_3 0 rfl rfl)
theorem dX9_copies_75 : decode cX9_copies 75 = .ok (.iconst 0, 1) := dk_3 (dk_at dksX9_copies_3 3 rfl rfl)
theorem dX9_copies_76 : decode cX9_copies 76 = .ok (.istore_n 3, 1) := dk_62 (dk_at dksX9_copies_3 4 rfl rfl)
theorem dX9_copies_77 : decode cX9_copies 77 = .ok (.iload_n 3, 1) := dk_29 (dk_at dksX9_copies_3 5 rfl rfl)
theorem dX9_copies_78 : decode cX9_copies 78 = .ok (.bipush 44, 2) := dk_16 44 (dk_at dksX9_copies_3 6 rfl rfl)
theorem dX9_copies_80 : decode cX9_copies 80 = .ok (.if_icmp .ge 31, 3) := dk_162 0 31 (dk_at dksX9_copies_3 8 rfl rfl)
theorem dX9_copies_83 : decode cX9_copies 83 = .ok (.aload_n 0, 1) := dk_42 (dk_at dksX9_copies_3 11 rfl rfl)
theorem dX9_copies_84 : decode cX9_copies 84 = .ok (.getfield 17, 3) := dk_180 0 17 (dk_at dksX9_copies_3 12 rfl rfl)
theorem dX9_copies_87 : decode cX9_copies 87 = .ok (.bipush 44, 2) := dk_16 44 (dk_at dksX9_copies_3 15 rfl rfl)
theorem dX9_copies_89 : decode cX9_copies 89 = .ok (.iload_n 2, 1) := dk_28 (dk_at dksX9_copies_3 17 rfl rfl)
theorem dX9_copies_90 : decode cX9_copies 90 = .ok (.imul, 1) := dk_104 (dk_at dksX9_copies_3 18 rfl rfl)
theorem dX9_copies_91 : decode cX9_copies 91 = .ok (.iload_n 3, 1) := dk_29 (dk_at dksX9_copies_3 19 rfl rfl)
theorem dX9_copies_92 : decode cX9_copies 92 = .ok (.iadd, 1) := dk_96 (dk_at dksX9_copies_3 20 rfl rfl)
theorem dX9_copies_93 : decode cX9_copies 93 = .ok (.aload_n 0, 1) := dk_42 (dk_at dksX9_copies_3 21 rfl rfl)
theorem dX9_copies_94 : decode cX9_copies 94 = .ok (.getfield 17, 3) := dk_180 0 17 (dk_at dksX9_copies_4 0 rfl rfl)
theorem dX9_copies_97 : decode cX9_copies 97 = .ok (.bipush 44, 2) := dk_16 44 (dk_at dksX9_copies_4 3 rfl rfl)
theorem dX9_copies_99 : decode cX9_copies 99 = .ok (.iload_n 1, 1) := dk_27 (dk_at dksX9_copies_4 5 rfl rfl)
theorem dX9_copies_100 : decode cX9_copies 100 = .ok (.imul, 1) := dk_104 (dk_at dksX9_copies_4 6 rfl rfl)
theorem dX9_copies_101 : decode cX9_copies 101 = .ok (.iload_n 3, 1) := dk_29 (dk_at dksX9_copies_4 7 rfl rfl)
theorem dX9_copies_102 : decode cX9_copies 102 = .ok (.iadd, 1) := dk_96 (dk_at dksX9_copies_4 8 rfl rfl)
theorem dX9_copies_103 : decode cX9_copies 103 = .ok (.laload, 1) := dk_47 (dk_at dksX9_copies_4 9 rfl rfl)
theorem dX9_copies_104 : decode cX9_copies 104 = .ok (.lastore, 1) := dk_80 (dk_at dksX9_copies_4 10 rfl rfl)
theorem dX9_copies_105 : decode cX9_copies 105 = .ok (.iinc 3 1, 3) := dk_132 3 1 (dk_at dksX9_copies_4 11 rfl rfl)
theorem dX9_copies_108 : decode cX9_copies 108 = .ok (.goto (-31), 3) := dk_167 255 225 (dk_at dksX9_copies_4 14 rfl rfl)
theorem dX9_copies_111 : decode cX9_copies 111 = .ok (.return_, 1) := dk_177 (dk_at dksX9_copies_4 17 rfl rfl)
abbrev cX9_back : ByteArray := prog_19_method_148_code
def yX9_back : MethodName := ⟨RX9, "back", "()I"⟩
def dkwX9_back_1 : List UInt8 := [89, 180, 2, 4, 4, 100, 181, 2, 4, 42, 182, 0, 100, 42, 42, 180, 2, 4, 182, 0, 200, 172]
abbrev dktX9_back_1 : List UInt8 := dkwX9_back_1 ++ []
def dkwX9_back_0 : List UInt8 := [42, 180, 2, 4, 154, 0, 10, 42, 16, 6, 182, 0, 197, 172, 42, 42, 180, 2, 4, 3, 182, 2, 7, 42]
abbrev dktX9_back_0 : List UInt8 := dkwX9_back_0 ++ dktX9_back_1
theorem dksX9_back_0 : cX9_back.data.toList.drop 0 = dktX9_back_0 := by decide +kernel
theorem dksX9_back_1 : cX9_back.data.toList.drop 24 = dktX9_back_1 := dk_seg dksX9_back_0 24 rfl rfl
theorem dX9_back_0 : decode cX9_back 0 = .ok (.aload_n 0, 1) := dk_42 (dk_at dksX9_back_0 0 rfl rfl)
theorem dX9_back_1 : decode cX9_back 1 = .ok (.getfield 516, 3) := dk_180 2 4 (dk_at dksX9_back_0 1 rfl rfl)
theorem dX9_back_4 : decode cX9_back 4 = .ok (.ifCond .ne 10, 3) := dk_154 0 10 (dk_at dksX9_back_0 4 rfl rfl)
theorem dX9_back_7 : decode cX9_back 7 = .ok (.aload_n 0, 1) := dk_42 (dk_at dksX9_back_0 7 rfl rfl)
theorem dX9_back_8 : decode cX9_back 8 = .ok (.bipush 6, 2) := dk_16 6 (dk_at dksX9_back_0 8 rfl rfl)
theorem dX9_back_10 : decode cX9_back 10 = .ok (.invokevirtual 197, 3) := dk_182 0 197 (dk_at dksX9_back_0 10 rfl rfl)
theorem dX9_back_13 : decode cX9_back 13 = .ok (.ireturn, 1) := dk_172 (dk_at dksX9_back_0 13 rfl rfl)
theorem dX9_back_14 : decode cX9_back 14 = .ok (.aload_n 0, 1) := dk_42 (dk_at dksX9_back_0 14 rfl rfl)
theorem dX9_back_15 : decode cX9_back 15 = .ok (.aload_n 0, 1) := dk_42 (dk_at dksX9_back_0 15 rfl rfl)
theorem dX9_back_16 : decode cX9_back 16 = .ok (.getfield 516, 3) := dk_180 2 4 (dk_at dksX9_back_0 16 rfl rfl)
theorem dX9_back_19 : decode cX9_back 19 = .ok (.iconst 0, 1) := dk_3 (dk_at dksX9_back_0 19 rfl rfl)
theorem dX9_back_20 : decode cX9_back 20 = .ok (.invokevirtual 519, 3) := dk_182 2 7 (dk_at dksX9_back_0 20 rfl rfl)
theorem dX9_back_23 : decode cX9_back 23 = .ok (.aload_n 0, 1) := dk_42 (dk_at dksX9_back_0 23 rfl rfl)
theorem dX9_back_24 : decode cX9_back 24 = .ok (.dup, 1) := dk_89 (dk_at dksX9_back_1 0 rfl rfl)
theorem dX9_back_25 : decode cX9_back 25 = .ok (.getfield 516, 3) := dk_180 2 4 (dk_at dksX9_back_1 1 rfl rfl)
theorem dX9_back_28 : decode cX9_back 28 = .ok (.iconst 1, 1) := dk_4 (dk_at dksX9_back_1 4 rfl rfl)
theorem dX9_back_29 : decode cX9_back 29 = .ok (.isub, 1) := dk_100 (dk_at dksX9_back_1 5 rfl rfl)
theorem dX9_back_30 : decode cX9_back 30 = .ok (.putfield 516, 3) := dk_181 2 4 (dk_at dksX9_back_1 6 rfl rfl)
theorem dX9_back_33 : decode cX9_back 33 = .ok (.aload_n 0, 1) := dk_42 (dk_at dksX9_back_1 9 rfl rfl)
theorem dX9_back_34 : decode cX9_back 34 = .ok (.invokevirtual 100, 3) := dk_182 0 100 (dk_at dksX9_back_1 10 rfl rfl)
theorem dX9_back_37 : decode cX9_back 37 = .ok (.aload_n 0, 1) := dk_42 (dk_at dksX9_back_1 13 rfl rfl)
theorem dX9_back_38 : decode cX9_back 38 = .ok (.aload_n 0, 1) := dk_42 (dk_at dksX9_back_1 14 rfl rfl)
theorem dX9_back_39 : decode cX9_back 39 = .ok (.getfield 516, 3) := dk_180 2 4 (dk_at dksX9_back_1 15 rfl rfl)
theorem dX9_back_42 : decode cX9_back 42 = .ok (.invokevirtual 200, 3) := dk_182 0 200 (dk_at dksX9_back_1 18 rfl rfl)
theorem dX9_back_45 : decode cX9_back 45 = .ok (.ireturn, 1) := dk_172 (dk_at dksX9_back_1 21 rfl rfl)
theorem q175 : (Jvm.Cond.initialized "AskingCourtModel") ∈ lw_all := lw_g (lw_at lw_m1 12 rfl) rfl
theorem q1588 : (Jvm.Cond.instantiable "AskingCourtModel" (48 : Nat)) ∈ lw_all := lw_g (lw_at lw_m6 225 rfl) rfl
theorem q1590 : (Jvm.Cond.instanceMethod ({ cls := "AskingCourtModel", name := "<init>", desc := "()V" } : Jvm.MethodName)) ∈ lw_all := lw_g (lw_at lw_m6 227 rfl) rfl
theorem q1591 : (Jvm.Cond.code ({ cls := "AskingCourtModel", name := "<init>", desc := "()V" } : Jvm.MethodName) prog_19_method_1_code (1 : Nat) (Option.none : Option Jvm.ClassFile.FieldType)) ∈ lw_all := lw_g (lw_at lw_m6 228 rfl) rfl
theorem q1592 : (Jvm.Cond.methodLink "AskingCourtModel" (1 : Nat) ({ cls := "java/lang/Object", name := "<init>", desc := "()V" } : Jvm.MethodName)) ∈ lw_all := lw_g (lw_at lw_m6 229 rfl) rfl
theorem q1593 : (Jvm.Cond.constant "AskingCourtModel" (59 : Nat) (49152 : Int32)) ∈ lw_all := lw_g (lw_at lw_m6 230 rfl) rfl
theorem q1594 : (Jvm.Cond.methodLink "AskingCourtModel" (94 : Nat) ({ cls := "AskingCourtModel", name := "asNew", desc := "()V" } : Jvm.MethodName)) ∈ lw_all := lw_g (lw_at lw_m6 231 rfl) rfl
theorem q1595 : (Jvm.Cond.privateMethod ({ cls := "AskingCourtModel", name := "asNew", desc := "()V" } : Jvm.MethodName)) ∈ lw_tbl := lw_at lw_m6 232 rfl
theorem q1596 : (Jvm.Cond.instanceMethod ({ cls := "AskingCourtModel", name := "asNew", desc := "()V" } : Jvm.MethodName)) ∈ lw_all := lw_g (lw_at lw_m6 233 rfl) rfl
theorem q1597 : (Jvm.Cond.code ({ cls := "AskingCourtModel", name := "asNew", desc := "()V" } : Jvm.MethodName) prog_19_method_2_code (2 : Nat) (Option.none : Option Jvm.ClassFile.FieldType)) ∈ lw_all := lw_g (lw_at lw_m6 234 rfl) rfl
theorem q1598 : (Jvm.Cond.methodLink "AskingCourtModel" (97 : Nat) ({ cls := "AskingCourtModel", name := "takes", desc := "()V" } : Jvm.MethodName)) ∈ lw_all := lw_g (lw_at lw_m6 235 rfl) rfl
theorem q1599 : (Jvm.Cond.privateMethod ({ cls := "AskingCourtModel", name := "takes", desc := "()V" } : Jvm.MethodName)) ∈ lw_tbl := lw_at lw_m6 236 rfl
theorem q1600 : (Jvm.Cond.instanceMethod ({ cls := "AskingCourtModel", name := "takes", desc := "()V" } : Jvm.MethodName)) ∈ lw_all := lw_g (lw_at lw_m6 237 rfl) rfl
theorem q1601 : (Jvm.Cond.code ({ cls := "AskingCourtModel", name := "takes", desc := "()V" } : Jvm.MethodName) prog_19_method_3_code (2 : Nat) (Option.none : Option Jvm.ClassFile.FieldType)) ∈ lw_all := lw_g (lw_at lw_m6 238 rfl) rfl
theorem q1602 : (Jvm.Cond.methodLink "AskingCourtModel" (100 : Nat) ({ cls := "AskingCourtModel", name := "laysAnswers", desc := "()V" } : Jvm.MethodName)) ∈ lw_all := lw_g (lw_at lw_m6 239 rfl) rfl
theorem q1603 : (Jvm.Cond.privateMethod ({ cls := "AskingCourtModel", name := "laysAnswers", desc := "()V" } : Jvm.MethodName)) ∈ lw_tbl := lw_at lw_m7 0 rfl
theorem q1604 : (Jvm.Cond.instanceMethod ({ cls := "AskingCourtModel", name := "laysAnswers", desc := "()V" } : Jvm.MethodName)) ∈ lw_all := lw_g (lw_at lw_m7 1 rfl) rfl
theorem q1605 : (Jvm.Cond.code ({ cls := "AskingCourtModel", name := "laysAnswers", desc := "()V" } : Jvm.MethodName) prog_19_method_86_code (7 : Nat) (Option.none : Option Jvm.ClassFile.FieldType)) ∈ lw_all := lw_g (lw_at lw_m7 2 rfl) rfl
theorem q1606 : (Jvm.Cond.methodLink "AskingCourtModel" (331 : Nat) ({ cls := "AskingCourtModel", name := "isPossible", desc := "(I)Z" } : Jvm.MethodName)) ∈ lw_all := lw_g (lw_at lw_m7 3 rfl) rfl
theorem q1607 : (Jvm.Cond.privateMethod ({ cls := "AskingCourtModel", name := "isPossible", desc := "(I)Z" } : Jvm.MethodName)) ∈ lw_tbl := lw_at lw_m7 4 rfl
theorem q1608 : (Jvm.Cond.instanceMethod ({ cls := "AskingCourtModel", name := "isPossible", desc := "(I)Z" } : Jvm.MethodName)) ∈ lw_all := lw_g (lw_at lw_m7 5 rfl) rfl
theorem q1609 : (Jvm.Cond.code ({ cls := "AskingCourtModel", name := "isPossible", desc := "(I)Z" } : Jvm.MethodName) prog_19_method_67_code (2 : Nat) (Option.some Jvm.ClassFile.FieldType.boolean)) ∈ lw_all := lw_g (lw_at lw_m7 6 rfl) rfl
theorem q1610 : (Jvm.Cond.methodLink "AskingCourtModel" (303 : Nat) ({ cls := "AskingCourtModel", name := "inSet", desc := "([JII)Z" } : Jvm.MethodName)) ∈ lw_all := lw_g (lw_at lw_m7 7 rfl) rfl
theorem q1611 : (Jvm.Cond.static ({ cls := "AskingCourtModel", name := "inSet", desc := "([JII)Z" } : Jvm.MethodName)) ∈ lw_all := lw_g (lw_at lw_m7 8 rfl) rfl
theorem q1612 : (Jvm.Cond.code ({ cls := "AskingCourtModel", name := "inSet", desc := "([JII)Z" } : Jvm.MethodName) prog_19_method_43_code (3 : Nat) (Option.some Jvm.ClassFile.FieldType.boolean)) ∈ lw_all := lw_g (lw_at lw_m7 9 rfl) rfl
theorem q1613 : (Jvm.Cond.methodLink "AskingCourtModel" (355 : Nat) ({ cls := "AskingCourtModel", name := "knowsIn", desc := "(II)V" } : Jvm.MethodName)) ∈ lw_all := lw_g (lw_at lw_m7 10 rfl) rfl
theorem q1614 : (Jvm.Cond.privateMethod ({ cls := "AskingCourtModel", name := "knowsIn", desc := "(II)V" } : Jvm.MethodName)) ∈ lw_tbl := lw_at lw_m7 11 rfl
theorem q1615 : (Jvm.Cond.instanceMethod ({ cls := "AskingCourtModel", name := "knowsIn", desc := "(II)V" } : Jvm.MethodName)) ∈ lw_all := lw_g (lw_at lw_m7 12 rfl) rfl
theorem q1616 : (Jvm.Cond.code ({ cls := "AskingCourtModel", name := "knowsIn", desc := "(II)V" } : Jvm.MethodName) prog_19_method_80_code (6 : Nat) (Option.none : Option Jvm.ClassFile.FieldType)) ∈ lw_all := lw_g (lw_at lw_m7 13 rfl) rfl
theorem q1617 : (Jvm.Cond.methodLink "AskingCourtModel" (343 : Nat) ({ cls := "AskingCourtModel", name := "ofWitness", desc := "(II)I" } : Jvm.MethodName)) ∈ lw_all := lw_g (lw_at lw_m7 14 rfl) rfl
theorem q1618 : (Jvm.Cond.privateMethod ({ cls := "AskingCourtModel", name := "ofWitness", desc := "(II)I" } : Jvm.MethodName)) ∈ lw_tbl := lw_at lw_m7 15 rfl
theorem q1619 : (Jvm.Cond.instanceMethod ({ cls := "AskingCourtModel", name := "ofWitness", desc := "(II)I" } : Jvm.MethodName)) ∈ lw_all := lw_g (lw_at lw_m7 16 rfl) rfl
theorem q1620 : (Jvm.Cond.code ({ cls := "AskingCourtModel", name := "ofWitness", desc := "(II)I" } : Jvm.MethodName) prog_19_method_69_code (3 : Nat) (Option.some Jvm.ClassFile.FieldType.int)) ∈ lw_all := lw_g (lw_at lw_m7 17 rfl) rfl
theorem q1621 : (Jvm.Cond.methodLink "AskingCourtModel" (234 : Nat) ({ cls := "AskingCourtModel", name := "valueIn", desc := "(III)I" } : Jvm.MethodName)) ∈ lw_all := lw_g (lw_at lw_m7 18 rfl) rfl
theorem q1622 : (Jvm.Cond.privateMethod ({ cls := "AskingCourtModel", name := "valueIn", desc := "(III)I" } : Jvm.MethodName)) ∈ lw_tbl := lw_at lw_m7 19 rfl
theorem q1623 : (Jvm.Cond.instanceMethod ({ cls := "AskingCourtModel", name := "valueIn", desc := "(III)I" } : Jvm.MethodName)) ∈ lw_all := lw_g (lw_at lw_m7 20 rfl) rfl
theorem q1624 : (Jvm.Cond.code ({ cls := "AskingCourtModel", name := "valueIn", desc := "(III)I" } : Jvm.MethodName) prog_19_method_42_code (6 : Nat) (Option.some Jvm.ClassFile.FieldType.int)) ∈ lw_all := lw_g (lw_at lw_m7 21 rfl) rfl
theorem q1625 : (Jvm.Cond.methodLink "AskingCourtModel" (359 : Nat) ({ cls := "AskingCourtModel", name := "honestly", desc := "(I)I" } : Jvm.MethodName)) ∈ lw_all := lw_g (lw_at lw_m7 22 rfl) rfl
theorem q1626 : (Jvm.Cond.privateMethod ({ cls := "AskingCourtModel", name := "honestly", desc := "(I)I" } : Jvm.MethodName)) ∈ lw_tbl := lw_at lw_m7 23 rfl
theorem q1627 : (Jvm.Cond.instanceMethod ({ cls := "AskingCourtModel", name := "honestly", desc := "(I)I" } : Jvm.MethodName)) ∈ lw_all := lw_g (lw_at lw_m7 24 rfl) rfl
theorem q1628 : (Jvm.Cond.code ({ cls := "AskingCourtModel", name := "honestly", desc := "(I)I" } : Jvm.MethodName) prog_19_method_84_code (5 : Nat) (Option.some Jvm.ClassFile.FieldType.int)) ∈ lw_all := lw_g (lw_at lw_m7 25 rfl) rfl
theorem q1629 : (Jvm.Cond.constantLong "AskingCourtModel" (124 : Nat) (-1 : Int64)) ∈ lw_all := lw_g (lw_at lw_m7 26 rfl) rfl
theorem q1630 : (Jvm.Cond.methodLink "AskingCourtModel" (346 : Nat) ({ cls := "AskingCourtModel", name := "meansBy", desc := "(I)V" } : Jvm.MethodName)) ∈ lw_all := lw_g (lw_at lw_m7 27 rfl) rfl
theorem q1631 : (Jvm.Cond.privateMethod ({ cls := "AskingCourtModel", name := "meansBy", desc := "(I)V" } : Jvm.MethodName)) ∈ lw_tbl := lw_at lw_m7 28 rfl
theorem q1632 : (Jvm.Cond.instanceMethod ({ cls := "AskingCourtModel", name := "meansBy", desc := "(I)V" } : Jvm.MethodName)) ∈ lw_all := lw_g (lw_at lw_m7 29 rfl) rfl
theorem q1633 : (Jvm.Cond.code ({ cls := "AskingCourtModel", name := "meansBy", desc := "(I)V" } : Jvm.MethodName) prog_19_method_81_code (5 : Nat) (Option.none : Option Jvm.ClassFile.FieldType)) ∈ lw_all := lw_g (lw_at lw_m7 30 rfl) rfl
theorem q1634 : (Jvm.Cond.methodLink "AskingCourtModel" (349 : Nat) ({ cls := "AskingCourtModel", name := "isMeant", desc := "()Z" } : Jvm.MethodName)) ∈ lw_all := lw_g (lw_at lw_m7 31 rfl) rfl
theorem q1635 : (Jvm.Cond.privateMethod ({ cls := "AskingCourtModel", name := "isMeant", desc := "()Z" } : Jvm.MethodName)) ∈ lw_tbl := lw_at lw_m7 32 rfl
theorem q1636 : (Jvm.Cond.instanceMethod ({ cls := "AskingCourtModel", name := "isMeant", desc := "()Z" } : Jvm.MethodName)) ∈ lw_all := lw_g (lw_at lw_m7 33 rfl) rfl
theorem q1637 : (Jvm.Cond.code ({ cls := "AskingCourtModel", name := "isMeant", desc := "()Z" } : Jvm.MethodName) prog_19_method_82_code (3 : Nat) (Option.some Jvm.ClassFile.FieldType.boolean)) ∈ lw_all := lw_g (lw_at lw_m7 34 rfl) rfl
theorem q1638 : (Jvm.Cond.methodLink "AskingCourtModel" (352 : Nat) ({ cls := "AskingCourtModel", name := "liesTo", desc := "(I)I" } : Jvm.MethodName)) ∈ lw_all := lw_g (lw_at lw_m7 35 rfl) rfl
theorem q1639 : (Jvm.Cond.privateMethod ({ cls := "AskingCourtModel", name := "liesTo", desc := "(I)I" } : Jvm.MethodName)) ∈ lw_tbl := lw_at lw_m7 36 rfl
theorem q1640 : (Jvm.Cond.instanceMethod ({ cls := "AskingCourtModel", name := "liesTo", desc := "(I)I" } : Jvm.MethodName)) ∈ lw_all := lw_g (lw_at lw_m7 37 rfl) rfl
theorem q1641 : (Jvm.Cond.code ({ cls := "AskingCourtModel", name := "liesTo", desc := "(I)I" } : Jvm.MethodName) prog_19_method_83_code (6 : Nat) (Option.some Jvm.ClassFile.FieldType.int)) ∈ lw_all := lw_g (lw_at lw_m7 38 rfl) rfl
theorem q1642 : (Jvm.Cond.methodLink "AskingCourtModel" (362 : Nat) ({ cls := "AskingCourtModel", name := "otherwise", desc := "(I)I" } : Jvm.MethodName)) ∈ lw_all := lw_g (lw_at lw_m7 39 rfl) rfl
theorem q1643 : (Jvm.Cond.privateMethod ({ cls := "AskingCourtModel", name := "otherwise", desc := "(I)I" } : Jvm.MethodName)) ∈ lw_tbl := lw_at lw_m7 40 rfl
theorem q1644 : (Jvm.Cond.instanceMethod ({ cls := "AskingCourtModel", name := "otherwise", desc := "(I)I" } : Jvm.MethodName)) ∈ lw_all := lw_g (lw_at lw_m7 41 rfl) rfl
theorem q1645 : (Jvm.Cond.code ({ cls := "AskingCourtModel", name := "otherwise", desc := "(I)I" } : Jvm.MethodName) prog_19_method_85_code (3 : Nat) (Option.some Jvm.ClassFile.FieldType.int)) ∈ lw_all := lw_g (lw_at lw_m7 42 rfl) rfl
theorem q1646 : (Jvm.Cond.fieldLink "AskingCourtModel" (7 : Nat) "AskingCourtModel" "at" "[I") ∈ lw_all := lw_g (lw_at lw_m7 43 rfl) rfl
theorem q1647 : (Jvm.Cond.fieldLink "AskingCourtModel" (13 : Nat) "AskingCourtModel" "sets" "[J") ∈ lw_all := lw_g (lw_at lw_m7 44 rfl) rfl
theorem q1648 : (Jvm.Cond.fieldLink "AskingCourtModel" (17 : Nat) "AskingCourtModel" "names" "[J") ∈ lw_all := lw_g (lw_at lw_m7 45 rfl) rfl
theorem q1649 : (Jvm.Cond.fieldLink "AskingCourtModel" (103 : Nat) "AskingCourtModel" "status" "I") ∈ lw_all := lw_g (lw_at lw_m7 46 rfl) rfl
theorem q1650 : (Jvm.Cond.fieldLink "AskingCourtModel" (106 : Nat) "AskingCourtModel" "top" "J") ∈ lw_all := lw_g (lw_at lw_m7 47 rfl) rfl
theorem q1651 : (Jvm.Cond.fieldLink "AskingCourtModel" (20 : Nat) "AskingCourtModel" "bottom" "J") ∈ lw_all := lw_g (lw_at lw_m7 48 rfl) rfl
theorem q1652 : (Jvm.Cond.fieldLink "AskingCourtModel" (24 : Nat) "AskingCourtModel" "sort" "[I") ∈ lw_all := lw_g (lw_at lw_m7 49 rfl) rfl
theorem q1653 : (Jvm.Cond.fieldLink "AskingCourtModel" (27 : Nat) "AskingCourtModel" "trayMany" "[I") ∈ lw_all := lw_g (lw_at lw_m7 50 rfl) rfl
theorem q1654 : (Jvm.Cond.fieldLink "AskingCourtModel" (30 : Nat) "AskingCourtModel" "trays" "[J") ∈ lw_all := lw_g (lw_at lw_m7 51 rfl) rfl
theorem q1655 : (Jvm.Cond.fieldLink "AskingCourtModel" (33 : Nat) "AskingCourtModel" "tape" "[B") ∈ lw_all := lw_g (lw_at lw_m7 52 rfl) rfl
theorem q1656 : (Jvm.Cond.fieldLink "AskingCourtModel" (37 : Nat) "AskingCourtModel" "text" "[B") ∈ lw_all := lw_g (lw_at lw_m7 53 rfl) rfl
theorem q1657 : (Jvm.Cond.fieldLink "AskingCourtModel" (126 : Nat) "AskingCourtModel" "taped" "I") ∈ lw_all := lw_g (lw_at lw_m7 54 rfl) rfl
theorem q1658 : (Jvm.Cond.fieldLink "AskingCourtModel" (133 : Nat) "AskingCourtModel" "size" "I") ∈ lw_all := lw_g (lw_at lw_m7 55 rfl) rfl
theorem q1659 : (Jvm.Cond.fieldLink "AskingCourtModel" (149 : Nat) "AskingCourtModel" "token" "I") ∈ lw_all := lw_g (lw_at lw_m7 56 rfl) rfl
theorem q1660 : (Jvm.Cond.fieldLink "AskingCourtModel" (143 : Nat) "AskingCourtModel" "from" "I") ∈ lw_all := lw_g (lw_at lw_m7 57 rfl) rfl
theorem q1661 : (Jvm.Cond.fieldLink "AskingCourtModel" (136 : Nat) "AskingCourtModel" "end" "I") ∈ lw_all := lw_g (lw_at lw_m7 58 rfl) rfl
theorem q1662 : (Jvm.Cond.fieldLink "AskingCourtModel" (146 : Nat) "AskingCourtModel" "value" "I") ∈ lw_all := lw_g (lw_at lw_m7 59 rfl) rfl
theorem q1663 : (Jvm.Cond.fieldLink "AskingCourtModel" (40 : Nat) "AskingCourtModel" "faultKind" "I") ∈ lw_all := lw_g (lw_at lw_m7 60 rfl) rfl
theorem q1664 : (Jvm.Cond.fieldLink "AskingCourtModel" (44 : Nat) "AskingCourtModel" "faultPlace" "I") ∈ lw_all := lw_g (lw_at lw_m7 61 rfl) rfl
theorem q1665 : (Jvm.Cond.fieldLink "AskingCourtModel" (174 : Nat) "AskingCourtModel" "faults" "I") ∈ lw_all := lw_g (lw_at lw_m7 62 rfl) rfl
theorem q1666 : (Jvm.Cond.fieldLink "AskingCourtModel" (177 : Nat) "AskingCourtModel" "seen" "I") ∈ lw_all := lw_g (lw_at lw_m7 63 rfl) rfl
theorem q1667 : (Jvm.Cond.fieldLink "AskingCourtModel" (216 : Nat) "AskingCourtModel" "found" "I") ∈ lw_all := lw_g (lw_at lw_m7 64 rfl) rfl
theorem q1668 : (Jvm.Cond.fieldLink "AskingCourtModel" (47 : Nat) "AskingCourtModel" "bars" "[I") ∈ lw_all := lw_g (lw_at lw_m7 65 rfl) rfl
theorem q1669 : (Jvm.Cond.fieldLink "AskingCourtModel" (50 : Nat) "AskingCourtModel" "stack" "[J") ∈ lw_all := lw_g (lw_at lw_m7 66 rfl) rfl
theorem q1670 : (Jvm.Cond.fieldLink "AskingCourtModel" (53 : Nat) "AskingCourtModel" "doing" "[I") ∈ lw_all := lw_g (lw_at lw_m7 67 rfl) rfl
theorem q1671 : (Jvm.Cond.fieldLink "AskingCourtModel" (241 : Nat) "AskingCourtModel" "stacked" "I") ∈ lw_all := lw_g (lw_at lw_m7 68 rfl) rfl
theorem q1672 : (Jvm.Cond.fieldLink "AskingCourtModel" (238 : Nat) "AskingCourtModel" "toDo" "I") ∈ lw_all := lw_g (lw_at lw_m7 69 rfl) rfl
theorem q1673 : (Jvm.Cond.fieldLink "AskingCourtModel" (247 : Nat) "AskingCourtModel" "within" "I") ∈ lw_all := lw_g (lw_at lw_m7 70 rfl) rfl
theorem q1674 : (Jvm.Cond.fieldLink "AskingCourtModel" (56 : Nat) "AskingCourtModel" "opened" "[I") ∈ lw_all := lw_g (lw_at lw_m7 71 rfl) rfl
theorem q1675 : (Jvm.Cond.fieldLink "AskingCourtModel" (310 : Nat) "AskingCourtModel" "depth" "I") ∈ lw_all := lw_g (lw_at lw_m7 72 rfl) rfl
theorem q1676 : (Jvm.Cond.fieldLink "AskingCourtModel" (313 : Nat) "AskingCourtModel" "steps" "I") ∈ lw_all := lw_g (lw_at lw_m7 73 rfl) rfl
theorem q1677 : (Jvm.Cond.fieldLink "AskingCourtModel" (60 : Nat) "AskingCourtModel" "says" "[I") ∈ lw_all := lw_g (lw_at lw_m7 74 rfl) rfl
theorem q1678 : (Jvm.Cond.fieldLink "AskingCourtModel" (63 : Nat) "AskingCourtModel" "known" "[J") ∈ lw_all := lw_g (lw_at lw_m7 75 rfl) rfl
theorem q1679 : (Jvm.Cond.fieldLink "AskingCourtModel" (66 : Nat) "AskingCourtModel" "means" "[J") ∈ lw_all := lw_g (lw_at lw_m7 76 rfl) rfl
theorem q1680 : (Jvm.Cond.fieldLink "AskingCourtModel" (69 : Nat) "AskingCourtModel" "fit" "[I") ∈ lw_all := lw_g (lw_at lw_m7 77 rfl) rfl
theorem q1681 : (Jvm.Cond.fieldLink "AskingCourtModel" (72 : Nat) "AskingCourtModel" "put" "[Z") ∈ lw_all := lw_g (lw_at lw_m7 78 rfl) rfl
theorem q1682 : (Jvm.Cond.fieldLink "AskingCourtModel" (76 : Nat) "AskingCourtModel" "kindsBy" "[I") ∈ lw_all := lw_g (lw_at lw_m7 79 rfl) rfl
theorem q1683 : (Jvm.Cond.fieldLink "AskingCourtModel" (79 : Nat) "AskingCourtModel" "firstWho" "I") ∈ lw_all := lw_g (lw_at lw_m7 80 rfl) rfl
theorem q1684 : (Jvm.Cond.fieldLink "AskingCourtModel" (453 : Nat) "AskingCourtModel" "firstWhat" "I") ∈ lw_all := lw_g (lw_at lw_m7 81 rfl) rfl
theorem q1685 : (Jvm.Cond.fieldLink "AskingCourtModel" (465 : Nat) "AskingCourtModel" "drawn" "I") ∈ lw_all := lw_g (lw_at lw_m7 82 rfl) rfl
theorem q1686 : (Jvm.Cond.fieldLink "AskingCourtModel" (473 : Nat) "AskingCourtModel" "truth" "I") ∈ lw_all := lw_g (lw_at lw_m7 83 rfl) rfl
theorem q1687 : (Jvm.Cond.fieldLink "AskingCourtModel" (480 : Nat) "AskingCourtModel" "verdict" "I") ∈ lw_all := lw_g (lw_at lw_m7 84 rfl) rfl
theorem q1688 : (Jvm.Cond.fieldLink "AskingCourtModel" (82 : Nat) "AskingCourtModel" "trueKind" "[I") ∈ lw_all := lw_g (lw_at lw_m7 85 rfl) rfl
theorem q1689 : (Jvm.Cond.fieldLink "AskingCourtModel" (85 : Nat) "AskingCourtModel" "keptHeard" "[I") ∈ lw_all := lw_g (lw_at lw_m7 86 rfl) rfl
theorem q1690 : (Jvm.Cond.fieldLink "AskingCourtModel" (88 : Nat) "AskingCourtModel" "told" "[I") ∈ lw_all := lw_g (lw_at lw_m7 87 rfl) rfl
theorem q1691 : (Jvm.Cond.fieldLink "AskingCourtModel" (510 : Nat) "AskingCourtModel" "isTold" "Z") ∈ lw_all := lw_g (lw_at lw_m7 88 rfl) rfl
theorem q1692 : (Jvm.Cond.fieldLink "AskingCourtModel" (91 : Nat) "AskingCourtModel" "lastTold" "[I") ∈ lw_all := lw_g (lw_at lw_m7 89 rfl) rfl
theorem q1693 : (Jvm.Cond.fieldLink "AskingCourtModel" (516 : Nat) "AskingCourtModel" "marks" "I") ∈ lw_all := lw_g (lw_at lw_m7 90 rfl) rfl
theorem q1694 : (Jvm.Cond.laysFinal "AskingCourtModel" "AskingCourtModel" "at" "[I") ∈ lw_all := lw_g (lw_at lw_m7 91 rfl) rfl
theorem q1695 : (Jvm.Cond.soleField "AskingCourtModel" "at") ∈ lw_all := lw_g (lw_at lw_m7 92 rfl) rfl
theorem q1696 : (Jvm.Cond.laysFinal "AskingCourtModel" "AskingCourtModel" "sets" "[J") ∈ lw_all := lw_g (lw_at lw_m7 93 rfl) rfl
theorem q1697 : (Jvm.Cond.soleField "AskingCourtModel" "sets") ∈ lw_all := lw_g (lw_at lw_m7 94 rfl) rfl
theorem q1698 : (Jvm.Cond.laysFinal "AskingCourtModel" "AskingCourtModel" "names" "[J") ∈ lw_all := lw_g (lw_at lw_m7 95 rfl) rfl
theorem q1699 : (Jvm.Cond.soleField "AskingCourtModel" "names") ∈ lw_all := lw_g (lw_at lw_m7 96 rfl) rfl
theorem q1700 : (Jvm.Cond.lays "AskingCourtModel" "AskingCourtModel" "status" "I") ∈ lw_all := lw_g (lw_at lw_m7 97 rfl) rfl
theorem q1701 : (Jvm.Cond.soleField "AskingCourtModel" "status") ∈ lw_all := lw_g (lw_at lw_m7 98 rfl) rfl
theorem q1702 : (Jvm.Cond.lays "AskingCourtModel" "AskingCourtModel" "top" "J") ∈ lw_all := lw_g (lw_at lw_m7 99 rfl) rfl
theorem q1703 : (Jvm.Cond.soleField "AskingCourtModel" "top") ∈ lw_all := lw_g (lw_at lw_m7 100 rfl) rfl
theorem q1704 : (Jvm.Cond.lays "AskingCourtModel" "AskingCourtModel" "bottom" "J") ∈ lw_all := lw_g (lw_at lw_m7 101 rfl) rfl
theorem q1705 : (Jvm.Cond.soleField "AskingCourtModel" "bottom") ∈ lw_all := lw_g (lw_at lw_m7 102 rfl) rfl
theorem q1706 : (Jvm.Cond.laysFinal "AskingCourtModel" "AskingCourtModel" "sort" "[I") ∈ lw_all := lw_g (lw_at lw_m7 103 rfl) rfl
theorem q1707 : (Jvm.Cond.soleField "AskingCourtModel" "sort") ∈ lw_all := lw_g (lw_at lw_m7 104 rfl) rfl
theorem q1708 : (Jvm.Cond.laysFinal "AskingCourtModel" "AskingCourtModel" "trayMany" "[I") ∈ lw_all := lw_g (lw_at lw_m7 105 rfl) rfl
theorem q1709 : (Jvm.Cond.soleField "AskingCourtModel" "trayMany") ∈ lw_all := lw_g (lw_at lw_m7 106 rfl) rfl
theorem q1710 : (Jvm.Cond.laysFinal "AskingCourtModel" "AskingCourtModel" "trays" "[J") ∈ lw_all := lw_g (lw_at lw_m7 107 rfl) rfl
theorem q1711 : (Jvm.Cond.soleField "AskingCourtModel" "trays") ∈ lw_all := lw_g (lw_at lw_m7 108 rfl) rfl
theorem q1712 : (Jvm.Cond.laysFinal "AskingCourtModel" "AskingCourtModel" "tape" "[B") ∈ lw_all := lw_g (lw_at lw_m7 109 rfl) rfl
theorem q1713 : (Jvm.Cond.soleField "AskingCourtModel" "tape") ∈ lw_all := lw_g (lw_at lw_m7 110 rfl) rfl
theorem q1714 : (Jvm.Cond.laysFinal "AskingCourtModel" "AskingCourtModel" "text" "[B") ∈ lw_all := lw_g (lw_at lw_m7 111 rfl) rfl
theorem q1715 : (Jvm.Cond.soleField "AskingCourtModel" "text") ∈ lw_all := lw_g (lw_at lw_m7 112 rfl) rfl
theorem q1716 : (Jvm.Cond.lays "AskingCourtModel" "AskingCourtModel" "taped" "I") ∈ lw_all := lw_g (lw_at lw_m7 113 rfl) rfl
theorem q1717 : (Jvm.Cond.soleField "AskingCourtModel" "taped") ∈ lw_all := lw_g (lw_at lw_m7 114 rfl) rfl
theorem q1718 : (Jvm.Cond.lays "AskingCourtModel" "AskingCourtModel" "size" "I") ∈ lw_all := lw_g (lw_at lw_m7 115 rfl) rfl
theorem q1719 : (Jvm.Cond.soleField "AskingCourtModel" "size") ∈ lw_all := lw_g (lw_at lw_m7 116 rfl) rfl
theorem q1720 : (Jvm.Cond.lays "AskingCourtModel" "AskingCourtModel" "token" "I") ∈ lw_all := lw_g (lw_at lw_m7 117 rfl) rfl
theorem q1721 : (Jvm.Cond.soleField "AskingCourtModel" "token") ∈ lw_all := lw_g (lw_at lw_m7 118 rfl) rfl
theorem q1722 : (Jvm.Cond.lays "AskingCourtModel" "AskingCourtModel" "from" "I") ∈ lw_all := lw_g (lw_at lw_m7 119 rfl) rfl
theorem q1723 : (Jvm.Cond.soleField "AskingCourtModel" "from") ∈ lw_all := lw_g (lw_at lw_m7 120 rfl) rfl
theorem q1724 : (Jvm.Cond.lays "AskingCourtModel" "AskingCourtModel" "end" "I") ∈ lw_all := lw_g (lw_at lw_m7 121 rfl) rfl
theorem q1725 : (Jvm.Cond.soleField "AskingCourtModel" "end") ∈ lw_all := lw_g (lw_at lw_m7 122 rfl) rfl
theorem q1726 : (Jvm.Cond.lays "AskingCourtModel" "AskingCourtModel" "value" "I") ∈ lw_all := lw_g (lw_at lw_m7 123 rfl) rfl
theorem q1727 : (Jvm.Cond.soleField "AskingCourtModel" "value") ∈ lw_all := lw_g (lw_at lw_m7 124 rfl) rfl
theorem q1728 : (Jvm.Cond.lays "AskingCourtModel" "AskingCourtModel" "faultKind" "I") ∈ lw_all := lw_g (lw_at lw_m7 125 rfl) rfl
theorem q1729 : (Jvm.Cond.soleField "AskingCourtModel" "faultKind") ∈ lw_all := lw_g (lw_at lw_m7 126 rfl) rfl
theorem q1730 : (Jvm.Cond.lays "AskingCourtModel" "AskingCourtModel" "faultPlace" "I") ∈ lw_all := lw_g (lw_at lw_m7 127 rfl) rfl
theorem q1731 : (Jvm.Cond.soleField "AskingCourtModel" "faultPlace") ∈ lw_all := lw_g (lw_at lw_m7 128 rfl) rfl
theorem q1732 : (Jvm.Cond.lays "AskingCourtModel" "AskingCourtModel" "faults" "I") ∈ lw_all := lw_g (lw_at lw_m7 129 rfl) rfl
theorem q1733 : (Jvm.Cond.soleField "AskingCourtModel" "faults") ∈ lw_all := lw_g (lw_at lw_m7 130 rfl) rfl
theorem q1734 : (Jvm.Cond.lays "AskingCourtModel" "AskingCourtModel" "seen" "I") ∈ lw_all := lw_g (lw_at lw_m7 131 rfl) rfl
theorem q1735 : (Jvm.Cond.soleField "AskingCourtModel" "seen") ∈ lw_all := lw_g (lw_at lw_m7 132 rfl) rfl
theorem q1736 : (Jvm.Cond.lays "AskingCourtModel" "AskingCourtModel" "found" "I") ∈ lw_all := lw_g (lw_at lw_m7 133 rfl) rfl
theorem q1737 : (Jvm.Cond.soleField "AskingCourtModel" "found") ∈ lw_all := lw_g (lw_at lw_m7 134 rfl) rfl
theorem q1738 : (Jvm.Cond.laysFinal "AskingCourtModel" "AskingCourtModel" "bars" "[I") ∈ lw_all := lw_g (lw_at lw_m7 135 rfl) rfl
theorem q1739 : (Jvm.Cond.soleField "AskingCourtModel" "bars") ∈ lw_all := lw_g (lw_at lw_m7 136 rfl) rfl
theorem q1740 : (Jvm.Cond.laysFinal "AskingCourtModel" "AskingCourtModel" "stack" "[J") ∈ lw_all := lw_g (lw_at lw_m7 137 rfl) rfl
theorem q1741 : (Jvm.Cond.soleField "AskingCourtModel" "stack") ∈ lw_all := lw_g (lw_at lw_m7 138 rfl) rfl
theorem q1742 : (Jvm.Cond.laysFinal "AskingCourtModel" "AskingCourtModel" "doing" "[I") ∈ lw_all := lw_g (lw_at lw_m7 139 rfl) rfl
theorem q1743 : (Jvm.Cond.soleField "AskingCourtModel" "doing") ∈ lw_all := lw_g (lw_at lw_m7 140 rfl) rfl
theorem q1744 : (Jvm.Cond.lays "AskingCourtModel" "AskingCourtModel" "stacked" "I") ∈ lw_all := lw_g (lw_at lw_m7 141 rfl) rfl
theorem q1745 : (Jvm.Cond.soleField "AskingCourtModel" "stacked") ∈ lw_all := lw_g (lw_at lw_m7 142 rfl) rfl
theorem q1746 : (Jvm.Cond.lays "AskingCourtModel" "AskingCourtModel" "toDo" "I") ∈ lw_all := lw_g (lw_at lw_m7 143 rfl) rfl
theorem q1747 : (Jvm.Cond.soleField "AskingCourtModel" "toDo") ∈ lw_all := lw_g (lw_at lw_m7 144 rfl) rfl
theorem q1748 : (Jvm.Cond.lays "AskingCourtModel" "AskingCourtModel" "within" "I") ∈ lw_all := lw_g (lw_at lw_m7 145 rfl) rfl
theorem q1749 : (Jvm.Cond.soleField "AskingCourtModel" "within") ∈ lw_all := lw_g (lw_at lw_m7 146 rfl) rfl
theorem q1750 : (Jvm.Cond.laysFinal "AskingCourtModel" "AskingCourtModel" "opened" "[I") ∈ lw_all := lw_g (lw_at lw_m7 147 rfl) rfl
theorem q1751 : (Jvm.Cond.soleField "AskingCourtModel" "opened") ∈ lw_all := lw_g (lw_at lw_m7 148 rfl) rfl
theorem q1752 : (Jvm.Cond.lays "AskingCourtModel" "AskingCourtModel" "depth" "I") ∈ lw_all := lw_g (lw_at lw_m7 149 rfl) rfl
theorem q1753 : (Jvm.Cond.soleField "AskingCourtModel" "depth") ∈ lw_all := lw_g (lw_at lw_m7 150 rfl) rfl
theorem q1754 : (Jvm.Cond.lays "AskingCourtModel" "AskingCourtModel" "steps" "I") ∈ lw_all := lw_g (lw_at lw_m7 151 rfl) rfl
theorem q1755 : (Jvm.Cond.soleField "AskingCourtModel" "steps") ∈ lw_all := lw_g (lw_at lw_m7 152 rfl) rfl
theorem q1756 : (Jvm.Cond.laysFinal "AskingCourtModel" "AskingCourtModel" "says" "[I") ∈ lw_all := lw_g (lw_at lw_m7 153 rfl) rfl
theorem q1757 : (Jvm.Cond.soleField "AskingCourtModel" "says") ∈ lw_all := lw_g (lw_at lw_m7 154 rfl) rfl
theorem q1758 : (Jvm.Cond.laysFinal "AskingCourtModel" "AskingCourtModel" "known" "[J") ∈ lw_all := lw_g (lw_at lw_m7 155 rfl) rfl
theorem q1759 : (Jvm.Cond.soleField "AskingCourtModel" "known") ∈ lw_all := lw_g (lw_at lw_m7 156 rfl) rfl
theorem q1760 : (Jvm.Cond.laysFinal "AskingCourtModel" "AskingCourtModel" "means" "[J") ∈ lw_all := lw_g (lw_at lw_m7 157 rfl) rfl
theorem q1761 : (Jvm.Cond.soleField "AskingCourtModel" "means") ∈ lw_all := lw_g (lw_at lw_m7 158 rfl) rfl
theorem q1762 : (Jvm.Cond.laysFinal "AskingCourtModel" "AskingCourtModel" "fit" "[I") ∈ lw_all := lw_g (lw_at lw_m7 159 rfl) rfl
theorem q1763 : (Jvm.Cond.soleField "AskingCourtModel" "fit") ∈ lw_all := lw_g (lw_at lw_m7 160 rfl) rfl
theorem q1764 : (Jvm.Cond.laysFinal "AskingCourtModel" "AskingCourtModel" "put" "[Z") ∈ lw_all := lw_g (lw_at lw_m7 161 rfl) rfl
theorem q1765 : (Jvm.Cond.soleField "AskingCourtModel" "put") ∈ lw_all := lw_g (lw_at lw_m7 162 rfl) rfl
theorem q1766 : (Jvm.Cond.laysFinal "AskingCourtModel" "AskingCourtModel" "kindsBy" "[I") ∈ lw_all := lw_g (lw_at lw_m7 163 rfl) rfl
theorem q1767 : (Jvm.Cond.soleField "AskingCourtModel" "kindsBy") ∈ lw_all := lw_g (lw_at lw_m7 164 rfl) rfl
theorem q1768 : (Jvm.Cond.lays "AskingCourtModel" "AskingCourtModel" "firstWho" "I") ∈ lw_all := lw_g (lw_at lw_m7 165 rfl) rfl
theorem q1769 : (Jvm.Cond.soleField "AskingCourtModel" "firstWho") ∈ lw_all := lw_g (lw_at lw_m7 166 rfl) rfl
theorem q1770 : (Jvm.Cond.lays "AskingCourtModel" "AskingCourtModel" "firstWhat" "I") ∈ lw_all := lw_g (lw_at lw_m7 167 rfl) rfl
theorem q1771 : (Jvm.Cond.soleField "AskingCourtModel" "firstWhat") ∈ lw_all := lw_g (lw_at lw_m7 168 rfl) rfl
theorem q1772 : (Jvm.Cond.lays "AskingCourtModel" "AskingCourtModel" "drawn" "I") ∈ lw_all := lw_g (lw_at lw_m7 169 rfl) rfl
theorem q1773 : (Jvm.Cond.soleField "AskingCourtModel" "drawn") ∈ lw_all := lw_g (lw_at lw_m7 170 rfl) rfl
theorem q1774 : (Jvm.Cond.lays "AskingCourtModel" "AskingCourtModel" "truth" "I") ∈ lw_all := lw_g (lw_at lw_m7 171 rfl) rfl
theorem q1775 : (Jvm.Cond.soleField "AskingCourtModel" "truth") ∈ lw_all := lw_g (lw_at lw_m7 172 rfl) rfl
theorem q1776 : (Jvm.Cond.lays "AskingCourtModel" "AskingCourtModel" "verdict" "I") ∈ lw_all := lw_g (lw_at lw_m7 173 rfl) rfl
theorem q1777 : (Jvm.Cond.soleField "AskingCourtModel" "verdict") ∈ lw_all := lw_g (lw_at lw_m7 174 rfl) rfl
theorem q1778 : (Jvm.Cond.laysFinal "AskingCourtModel" "AskingCourtModel" "trueKind" "[I") ∈ lw_all := lw_g (lw_at lw_m7 175 rfl) rfl
theorem q1779 : (Jvm.Cond.soleField "AskingCourtModel" "trueKind") ∈ lw_all := lw_g (lw_at lw_m7 176 rfl) rfl
theorem q1780 : (Jvm.Cond.laysFinal "AskingCourtModel" "AskingCourtModel" "keptHeard" "[I") ∈ lw_all := lw_g (lw_at lw_m7 177 rfl) rfl
theorem q1781 : (Jvm.Cond.soleField "AskingCourtModel" "keptHeard") ∈ lw_all := lw_g (lw_at lw_m7 178 rfl) rfl
theorem q1782 : (Jvm.Cond.laysFinal "AskingCourtModel" "AskingCourtModel" "told" "[I") ∈ lw_all := lw_g (lw_at lw_m7 179 rfl) rfl
theorem q1783 : (Jvm.Cond.soleField "AskingCourtModel" "told") ∈ lw_all := lw_g (lw_at lw_m7 180 rfl) rfl
theorem q1784 : (Jvm.Cond.lays "AskingCourtModel" "AskingCourtModel" "isTold" "Z") ∈ lw_all := lw_g (lw_at lw_m7 181 rfl) rfl
theorem q1785 : (Jvm.Cond.soleField "AskingCourtModel" "isTold") ∈ lw_all := lw_g (lw_at lw_m7 182 rfl) rfl
theorem q1786 : (Jvm.Cond.laysFinal "AskingCourtModel" "AskingCourtModel" "lastTold" "[I") ∈ lw_all := lw_g (lw_at lw_m7 183 rfl) rfl
theorem q1787 : (Jvm.Cond.soleField "AskingCourtModel" "lastTold") ∈ lw_all := lw_g (lw_at lw_m7 184 rfl) rfl
theorem q1788 : (Jvm.Cond.lays "AskingCourtModel" "AskingCourtModel" "marks" "I") ∈ lw_all := lw_g (lw_at lw_m7 185 rfl) rfl
theorem q1789 : (Jvm.Cond.soleField "AskingCourtModel" "marks") ∈ lw_all := lw_g (lw_at lw_m7 186 rfl) rfl
theorem q1790 : (Jvm.Cond.superclass "AskingCourtModel" "java/lang/Object") ∈ lw_all := lw_g (lw_at lw_m7 187 rfl) rfl
theorem q1793 : (Jvm.Cond.instanceMethod ({ cls := "AskingCourtModel", name := "status", desc := "()I" } : Jvm.MethodName)) ∈ lw_all := lw_g (lw_at lw_m7 190 rfl) rfl
theorem q1794 : (Jvm.Cond.selects "AskingCourtModel" ({ cls := "AskingCourtModel", name := "status", desc := "()I" } : Jvm.MethodName) ({ cls := "AskingCourtModel", name := "status", desc := "()I" } : Jvm.MethodName)) ∈ lw_all := lw_g (lw_at lw_m7 191 rfl) rfl
theorem q1795 : (Jvm.Cond.code ({ cls := "AskingCourtModel", name := "status", desc := "()I" } : Jvm.MethodName) prog_19_method_4_code (1 : Nat) (Option.some Jvm.ClassFile.FieldType.int)) ∈ lw_all := lw_g (lw_at lw_m7 192 rfl) rfl
theorem q1797 : (Jvm.Cond.instanceMethod ({ cls := "AskingCourtModel", name := "top", desc := "()J" } : Jvm.MethodName)) ∈ lw_all := lw_g (lw_at lw_m7 194 rfl) rfl
theorem q1798 : (Jvm.Cond.selects "AskingCourtModel" ({ cls := "AskingCourtModel", name := "top", desc := "()J" } : Jvm.MethodName) ({ cls := "AskingCourtModel", name := "top", desc := "()J" } : Jvm.MethodName)) ∈ lw_all := lw_g (lw_at lw_m7 195 rfl) rfl
theorem q1799 : (Jvm.Cond.code ({ cls := "AskingCourtModel", name := "top", desc := "()J" } : Jvm.MethodName) prog_19_method_5_code (1 : Nat) (Option.some Jvm.ClassFile.FieldType.long)) ∈ lw_all := lw_g (lw_at lw_m7 196 rfl) rfl
theorem q1801 : (Jvm.Cond.instanceMethod ({ cls := "AskingCourtModel", name := "bottom", desc := "()J" } : Jvm.MethodName)) ∈ lw_all := lw_g (lw_at lw_m7 198 rfl) rfl
theorem q1802 : (Jvm.Cond.selects "AskingCourtModel" ({ cls := "AskingCourtModel", name := "bottom", desc := "()J" } : Jvm.MethodName) ({ cls := "AskingCourtModel", name := "bottom", desc := "()J" } : Jvm.MethodName)) ∈ lw_all := lw_g (lw_at lw_m7 199 rfl) rfl
theorem q1803 : (Jvm.Cond.code ({ cls := "AskingCourtModel", name := "bottom", desc := "()J" } : Jvm.MethodName) prog_19_method_6_code (1 : Nat) (Option.some Jvm.ClassFile.FieldType.long)) ∈ lw_all := lw_g (lw_at lw_m7 200 rfl) rfl
theorem q1805 : (Jvm.Cond.instanceMethod ({ cls := "AskingCourtModel", name := "tray", desc := "(III)Z" } : Jvm.MethodName)) ∈ lw_all := lw_g (lw_at lw_m7 202 rfl) rfl
theorem q1806 : (Jvm.Cond.selects "AskingCourtModel" ({ cls := "AskingCourtModel", name := "tray", desc := "(III)Z" } : Jvm.MethodName) ({ cls := "AskingCourtModel", name := "tray", desc := "(III)Z" } : Jvm.MethodName)) ∈ lw_all := lw_g (lw_at lw_m7 203 rfl) rfl
theorem q1807 : (Jvm.Cond.code ({ cls := "AskingCourtModel", name := "tray", desc := "(III)Z" } : Jvm.MethodName) prog_19_method_13_code (5 : Nat) (Option.some Jvm.ClassFile.FieldType.boolean)) ∈ lw_all := lw_g (lw_at lw_m7 204 rfl) rfl
theorem q1808 : (Jvm.Cond.methodLink "AskingCourtModel" (113 : Nat) ({ cls := "AskingCourtModel", name := "isTray", desc := "(I)Z" } : Jvm.MethodName)) ∈ lw_all := lw_g (lw_at lw_m7 205 rfl) rfl
theorem q1809 : (Jvm.Cond.static ({ cls := "AskingCourtModel", name := "isTray", desc := "(I)Z" } : Jvm.MethodName)) ∈ lw_all := lw_g (lw_at lw_m7 206 rfl) rfl
theorem q1810 : (Jvm.Cond.code ({ cls := "AskingCourtModel", name := "isTray", desc := "(I)Z" } : Jvm.MethodName) prog_19_method_11_code (1 : Nat) (Option.some Jvm.ClassFile.FieldType.boolean)) ∈ lw_all := lw_g (lw_at lw_m7 207 rfl) rfl
theorem q1811 : (Jvm.Cond.methodLink "AskingCourtModel" (109 : Nat) ({ cls := "AskingCourtModel", name := "is", desc := "(I)Z" } : Jvm.MethodName)) ∈ lw_all := lw_g (lw_at lw_m7 208 rfl) rfl
theorem q1812 : (Jvm.Cond.privateMethod ({ cls := "AskingCourtModel", name := "is", desc := "(I)Z" } : Jvm.MethodName)) ∈ lw_tbl := lw_at lw_m7 209 rfl
theorem q1813 : (Jvm.Cond.instanceMethod ({ cls := "AskingCourtModel", name := "is", desc := "(I)Z" } : Jvm.MethodName)) ∈ lw_all := lw_g (lw_at lw_m7 210 rfl) rfl
theorem q1814 : (Jvm.Cond.code ({ cls := "AskingCourtModel", name := "is", desc := "(I)Z" } : Jvm.MethodName) prog_19_method_7_code (2 : Nat) (Option.some Jvm.ClassFile.FieldType.boolean)) ∈ lw_all := lw_g (lw_at lw_m7 211 rfl) rfl
theorem q1816 : (Jvm.Cond.instanceMethod ({ cls := "AskingCourtModel", name := "write", desc := "(IIJ)Z" } : Jvm.MethodName)) ∈ lw_all := lw_g (lw_at lw_m7 213 rfl) rfl
theorem q1817 : (Jvm.Cond.selects "AskingCourtModel" ({ cls := "AskingCourtModel", name := "write", desc := "(IIJ)Z" } : Jvm.MethodName) ({ cls := "AskingCourtModel", name := "write", desc := "(IIJ)Z" } : Jvm.MethodName)) ∈ lw_all := lw_g (lw_at lw_m7 214 rfl) rfl
theorem q1818 : (Jvm.Cond.code ({ cls := "AskingCourtModel", name := "write", desc := "(IIJ)Z" } : Jvm.MethodName) prog_19_method_15_code (6 : Nat) (Option.some Jvm.ClassFile.FieldType.boolean)) ∈ lw_all := lw_g (lw_at lw_m7 215 rfl) rfl
theorem q1819 : (Jvm.Cond.methodLink "AskingCourtModel" (116 : Nat) ({ cls := "AskingCourtModel", name := "wrongPlace", desc := "(II)I" } : Jvm.MethodName)) ∈ lw_all := lw_g (lw_at lw_m7 216 rfl) rfl
theorem q1820 : (Jvm.Cond.privateMethod ({ cls := "AskingCourtModel", name := "wrongPlace", desc := "(II)I" } : Jvm.MethodName)) ∈ lw_tbl := lw_at lw_m7 217 rfl
theorem q1821 : (Jvm.Cond.instanceMethod ({ cls := "AskingCourtModel", name := "wrongPlace", desc := "(II)I" } : Jvm.MethodName)) ∈ lw_all := lw_g (lw_at lw_m7 218 rfl) rfl
theorem q1822 : (Jvm.Cond.code ({ cls := "AskingCourtModel", name := "wrongPlace", desc := "(II)I" } : Jvm.MethodName) prog_19_method_14_code (3 : Nat) (Option.some Jvm.ClassFile.FieldType.int)) ∈ lw_all := lw_g (lw_at lw_m7 219 rfl) rfl
theorem q1823 : (Jvm.Cond.methodLink "AskingCourtModel" (120 : Nat) ({ cls := "AskingCourtModel", name := "cut", desc := "(JI)J" } : Jvm.MethodName)) ∈ lw_all := lw_g (lw_at lw_m7 220 rfl) rfl
theorem q1824 : (Jvm.Cond.static ({ cls := "AskingCourtModel", name := "cut", desc := "(JI)J" } : Jvm.MethodName)) ∈ lw_all := lw_g (lw_at lw_m7 221 rfl) rfl
theorem q1825 : (Jvm.Cond.code ({ cls := "AskingCourtModel", name := "cut", desc := "(JI)J" } : Jvm.MethodName) prog_19_method_12_code (3 : Nat) (Option.some Jvm.ClassFile.FieldType.long)) ∈ lw_all := lw_g (lw_at lw_m7 222 rfl) rfl
theorem q1827 : (Jvm.Cond.instanceMethod ({ cls := "AskingCourtModel", name := "read", desc := "(II)J" } : Jvm.MethodName)) ∈ lw_all := lw_g (lw_at lw_m7 224 rfl) rfl
theorem q1828 : (Jvm.Cond.selects "AskingCourtModel" ({ cls := "AskingCourtModel", name := "read", desc := "(II)J" } : Jvm.MethodName) ({ cls := "AskingCourtModel", name := "read", desc := "(II)J" } : Jvm.MethodName)) ∈ lw_all := lw_g (lw_at lw_m7 225 rfl) rfl
theorem q1829 : (Jvm.Cond.code ({ cls := "AskingCourtModel", name := "read", desc := "(II)J" } : Jvm.MethodName) prog_19_method_16_code (3 : Nat) (Option.some Jvm.ClassFile.FieldType.long)) ∈ lw_all := lw_g (lw_at lw_m7 226 rfl) rfl
theorem q1831 : (Jvm.Cond.instanceMethod ({ cls := "AskingCourtModel", name := "pour", desc := "(IIIII)Z" } : Jvm.MethodName)) ∈ lw_all := lw_g (lw_at lw_m7 228 rfl) rfl
theorem q1832 : (Jvm.Cond.selects "AskingCourtModel" ({ cls := "AskingCourtModel", name := "pour", desc := "(IIIII)Z" } : Jvm.MethodName) ({ cls := "AskingCourtModel", name := "pour", desc := "(IIIII)Z" } : Jvm.MethodName)) ∈ lw_all := lw_g (lw_at lw_m7 229 rfl) rfl
theorem q1833 : (Jvm.Cond.code ({ cls := "AskingCourtModel", name := "pour", desc := "(IIIII)Z" } : Jvm.MethodName) prog_19_method_17_code (8 : Nat) (Option.some Jvm.ClassFile.FieldType.boolean)) ∈ lw_all := lw_g (lw_at lw_m7 230 rfl) rfl
theorem q1835 : (Jvm.Cond.instanceMethod ({ cls := "AskingCourtModel", name := "feed", desc := "(IIIII)I" } : Jvm.MethodName)) ∈ lw_all := lw_g (lw_at lw_m7 232 rfl) rfl
theorem q1836 : (Jvm.Cond.selects "AskingCourtModel" ({ cls := "AskingCourtModel", name := "feed", desc := "(IIIII)I" } : Jvm.MethodName) ({ cls := "AskingCourtModel", name := "feed", desc := "(IIIII)I" } : Jvm.MethodName)) ∈ lw_all := lw_g (lw_at lw_m7 233 rfl) rfl
theorem q1837 : (Jvm.Cond.code ({ cls := "AskingCourtModel", name := "feed", desc := "(IIIII)I" } : Jvm.MethodName) prog_19_method_19_code (6 : Nat) (Option.some Jvm.ClassFile.FieldType.int)) ∈ lw_all := lw_g (lw_at lw_m7 234 rfl) rfl
theorem q1838 : (Jvm.Cond.methodLink "AskingCourtModel" (129 : Nat) ({ cls := "AskingCourtModel", name := "four", desc := "(I)V" } : Jvm.MethodName)) ∈ lw_all := lw_g (lw_at lw_m7 235 rfl) rfl
theorem q1839 : (Jvm.Cond.privateMethod ({ cls := "AskingCourtModel", name := "four", desc := "(I)V" } : Jvm.MethodName)) ∈ lw_tbl := lw_at lw_m7 236 rfl
theorem q1840 : (Jvm.Cond.instanceMethod ({ cls := "AskingCourtModel", name := "four", desc := "(I)V" } : Jvm.MethodName)) ∈ lw_all := lw_g (lw_at lw_m7 237 rfl) rfl
theorem q1841 : (Jvm.Cond.code ({ cls := "AskingCourtModel", name := "four", desc := "(I)V" } : Jvm.MethodName) prog_19_method_20_code (3 : Nat) (Option.none : Option Jvm.ClassFile.FieldType)) ∈ lw_all := lw_g (lw_at lw_m7 238 rfl) rfl
theorem q1843 : (Jvm.Cond.instanceMethod ({ cls := "AskingCourtModel", name := "fault", desc := "(I)I" } : Jvm.MethodName)) ∈ lw_all := lw_g (lw_at lw_m8 0 rfl) rfl
theorem q1844 : (Jvm.Cond.selects "AskingCourtModel" ({ cls := "AskingCourtModel", name := "fault", desc := "(I)I" } : Jvm.MethodName) ({ cls := "AskingCourtModel", name := "fault", desc := "(I)I" } : Jvm.MethodName)) ∈ lw_all := lw_g (lw_at lw_m8 1 rfl) rfl
theorem q1845 : (Jvm.Cond.code ({ cls := "AskingCourtModel", name := "fault", desc := "(I)I" } : Jvm.MethodName) prog_19_method_35_code (2 : Nat) (Option.some Jvm.ClassFile.FieldType.int)) ∈ lw_all := lw_g (lw_at lw_m8 2 rfl) rfl
theorem q1847 : (Jvm.Cond.instanceMethod ({ cls := "AskingCourtModel", name := "court", desc := "(I)I" } : Jvm.MethodName)) ∈ lw_all := lw_g (lw_at lw_m8 4 rfl) rfl
theorem q1848 : (Jvm.Cond.selects "AskingCourtModel" ({ cls := "AskingCourtModel", name := "court", desc := "(I)I" } : Jvm.MethodName) ({ cls := "AskingCourtModel", name := "court", desc := "(I)I" } : Jvm.MethodName)) ∈ lw_all := lw_g (lw_at lw_m8 5 rfl) rfl
theorem q1849 : (Jvm.Cond.code ({ cls := "AskingCourtModel", name := "court", desc := "(I)I" } : Jvm.MethodName) prog_19_method_57_code (3 : Nat) (Option.some Jvm.ClassFile.FieldType.int)) ∈ lw_all := lw_g (lw_at lw_m8 6 rfl) rfl
theorem q1850 : (Jvm.Cond.methodLink "AskingCourtModel" (292 : Nat) ({ cls := "AskingCourtModel", name := "begins", desc := "(II)Z" } : Jvm.MethodName)) ∈ lw_all := lw_g (lw_at lw_m8 7 rfl) rfl
theorem q1851 : (Jvm.Cond.privateMethod ({ cls := "AskingCourtModel", name := "begins", desc := "(II)Z" } : Jvm.MethodName)) ∈ lw_tbl := lw_at lw_m8 8 rfl
theorem q1852 : (Jvm.Cond.instanceMethod ({ cls := "AskingCourtModel", name := "begins", desc := "(II)Z" } : Jvm.MethodName)) ∈ lw_all := lw_g (lw_at lw_m8 9 rfl) rfl
theorem q1853 : (Jvm.Cond.code ({ cls := "AskingCourtModel", name := "begins", desc := "(II)Z" } : Jvm.MethodName) prog_19_method_28_code (4 : Nat) (Option.some Jvm.ClassFile.FieldType.boolean)) ∈ lw_all := lw_g (lw_at lw_m8 10 rfl) rfl
theorem q1854 : (Jvm.Cond.methodLink "AskingCourtModel" (180 : Nat) ({ cls := "AskingCourtModel", name := "ahead", desc := "()V" } : Jvm.MethodName)) ∈ lw_all := lw_g (lw_at lw_m8 11 rfl) rfl
theorem q1855 : (Jvm.Cond.privateMethod ({ cls := "AskingCourtModel", name := "ahead", desc := "()V" } : Jvm.MethodName)) ∈ lw_tbl := lw_at lw_m8 12 rfl
theorem q1856 : (Jvm.Cond.instanceMethod ({ cls := "AskingCourtModel", name := "ahead", desc := "()V" } : Jvm.MethodName)) ∈ lw_all := lw_g (lw_at lw_m8 13 rfl) rfl
theorem q1857 : (Jvm.Cond.code ({ cls := "AskingCourtModel", name := "ahead", desc := "()V" } : Jvm.MethodName) prog_19_method_24_code (2 : Nat) (Option.none : Option Jvm.ClassFile.FieldType)) ∈ lw_all := lw_g (lw_at lw_m8 14 rfl) rfl
theorem q1858 : (Jvm.Cond.methodLink "AskingCourtModel" (139 : Nat) ({ cls := "AskingCourtModel", name := "byteAt", desc := "(I)I" } : Jvm.MethodName)) ∈ lw_all := lw_g (lw_at lw_m8 15 rfl) rfl
theorem q1859 : (Jvm.Cond.privateMethod ({ cls := "AskingCourtModel", name := "byteAt", desc := "(I)I" } : Jvm.MethodName)) ∈ lw_tbl := lw_at lw_m8 16 rfl
theorem q1860 : (Jvm.Cond.instanceMethod ({ cls := "AskingCourtModel", name := "byteAt", desc := "(I)I" } : Jvm.MethodName)) ∈ lw_all := lw_g (lw_at lw_m8 17 rfl) rfl
theorem q1861 : (Jvm.Cond.code ({ cls := "AskingCourtModel", name := "byteAt", desc := "(I)I" } : Jvm.MethodName) prog_19_method_21_code (2 : Nat) (Option.some Jvm.ClassFile.FieldType.int)) ∈ lw_all := lw_g (lw_at lw_m8 18 rfl) rfl
theorem q1862 : (Jvm.Cond.methodLink "AskingCourtModel" (152 : Nat) ({ cls := "AskingCourtModel", name := "isSmall", desc := "(I)Z" } : Jvm.MethodName)) ∈ lw_all := lw_g (lw_at lw_m8 19 rfl) rfl
theorem q1863 : (Jvm.Cond.static ({ cls := "AskingCourtModel", name := "isSmall", desc := "(I)Z" } : Jvm.MethodName)) ∈ lw_all := lw_g (lw_at lw_m8 20 rfl) rfl
theorem q1864 : (Jvm.Cond.code ({ cls := "AskingCourtModel", name := "isSmall", desc := "(I)Z" } : Jvm.MethodName) prog_19_method_22_code (1 : Nat) (Option.some Jvm.ClassFile.FieldType.boolean)) ∈ lw_all := lw_g (lw_at lw_m8 21 rfl) rfl
theorem q1865 : (Jvm.Cond.methodLink "AskingCourtModel" (155 : Nat) ({ cls := "AskingCourtModel", name := "isDigit", desc := "(I)Z" } : Jvm.MethodName)) ∈ lw_all := lw_g (lw_at lw_m8 22 rfl) rfl
theorem q1866 : (Jvm.Cond.static ({ cls := "AskingCourtModel", name := "isDigit", desc := "(I)Z" } : Jvm.MethodName)) ∈ lw_all := lw_g (lw_at lw_m8 23 rfl) rfl
theorem q1867 : (Jvm.Cond.code ({ cls := "AskingCourtModel", name := "isDigit", desc := "(I)Z" } : Jvm.MethodName) prog_19_method_23_code (1 : Nat) (Option.some Jvm.ClassFile.FieldType.boolean)) ∈ lw_all := lw_g (lw_at lw_m8 24 rfl) rfl
theorem q1868 : (Jvm.Cond.constant "AskingCourtModel" (158 : Nat) (100000 : Int32)) ∈ lw_all := lw_g (lw_at lw_m8 25 rfl) rfl
theorem q1869 : (Jvm.Cond.methodLink "AskingCourtModel" (159 : Nat) ({ cls := "java/lang/Math", name := "min", desc := "(II)I" } : Jvm.MethodName)) ∈ lw_all := lw_g (lw_at lw_m8 26 rfl) rfl
theorem q1870 : (Jvm.Cond.methodLink "AskingCourtModel" (197 : Nat) ({ cls := "AskingCourtModel", name := "refuse", desc := "(I)I" } : Jvm.MethodName)) ∈ lw_all := lw_g (lw_at lw_m8 27 rfl) rfl
theorem q1871 : (Jvm.Cond.privateMethod ({ cls := "AskingCourtModel", name := "refuse", desc := "(I)I" } : Jvm.MethodName)) ∈ lw_tbl := lw_at lw_m8 28 rfl
theorem q1872 : (Jvm.Cond.instanceMethod ({ cls := "AskingCourtModel", name := "refuse", desc := "(I)I" } : Jvm.MethodName)) ∈ lw_all := lw_g (lw_at lw_m8 29 rfl) rfl
theorem q1873 : (Jvm.Cond.code ({ cls := "AskingCourtModel", name := "refuse", desc := "(I)I" } : Jvm.MethodName) prog_19_method_8_code (2 : Nat) (Option.some Jvm.ClassFile.FieldType.int)) ∈ lw_all := lw_g (lw_at lw_m8 30 rfl) rfl
theorem q1874 : (Jvm.Cond.methodLink "AskingCourtModel" (295 : Nat) ({ cls := "AskingCourtModel", name := "casePart", desc := "()Z" } : Jvm.MethodName)) ∈ lw_all := lw_g (lw_at lw_m8 31 rfl) rfl
theorem q1875 : (Jvm.Cond.privateMethod ({ cls := "AskingCourtModel", name := "casePart", desc := "()Z" } : Jvm.MethodName)) ∈ lw_tbl := lw_at lw_m8 32 rfl
theorem q1876 : (Jvm.Cond.instanceMethod ({ cls := "AskingCourtModel", name := "casePart", desc := "()Z" } : Jvm.MethodName)) ∈ lw_all := lw_g (lw_at lw_m8 33 rfl) rfl
theorem q1877 : (Jvm.Cond.code ({ cls := "AskingCourtModel", name := "casePart", desc := "()Z" } : Jvm.MethodName) prog_19_method_56_code (2 : Nat) (Option.some Jvm.ClassFile.FieldType.boolean)) ∈ lw_all := lw_g (lw_at lw_m8 34 rfl) rfl
theorem q1878 : (Jvm.Cond.stringRef "AskingCourtModel" (206 : Nat) " fact never question witness has fee asks knows may hides or and not honest turns other silent ask best next rule when sure yes no left end ") ∈ lw_tbl := lw_at lw_m8 35 rfl
theorem q1879 : (Jvm.Cond.methodLink "AskingCourtModel" (189 : Nat) ({ cls := "AskingCourtModel", name := "inWords", desc := "(Ljava/lang/String;)I" } : Jvm.MethodName)) ∈ lw_all := lw_g (lw_at lw_m8 36 rfl) rfl
theorem q1880 : (Jvm.Cond.privateMethod ({ cls := "AskingCourtModel", name := "inWords", desc := "(Ljava/lang/String;)I" } : Jvm.MethodName)) ∈ lw_tbl := lw_at lw_m8 37 rfl
theorem q1881 : (Jvm.Cond.instanceMethod ({ cls := "AskingCourtModel", name := "inWords", desc := "(Ljava/lang/String;)I" } : Jvm.MethodName)) ∈ lw_all := lw_g (lw_at lw_m8 38 rfl) rfl
theorem q1882 : (Jvm.Cond.code ({ cls := "AskingCourtModel", name := "inWords", desc := "(Ljava/lang/String;)I" } : Jvm.MethodName) prog_19_method_26_code (7 : Nat) (Option.some Jvm.ClassFile.FieldType.int)) ∈ lw_all := lw_g (lw_at lw_m8 39 rfl) rfl
theorem q1883 : (Jvm.Cond.methodLink "AskingCourtModel" (164 : Nat) ({ cls := "java/lang/String", name := "length", desc := "()I" } : Jvm.MethodName)) ∈ lw_all := lw_g (lw_at lw_m8 40 rfl) rfl
theorem q1884 : (Jvm.Cond.methodLink "AskingCourtModel" (170 : Nat) ({ cls := "java/lang/String", name := "charAt", desc := "(I)C" } : Jvm.MethodName)) ∈ lw_all := lw_g (lw_at lw_m8 41 rfl) rfl
theorem q1885 : (Jvm.Cond.methodLink "AskingCourtModel" (277 : Nat) ({ cls := "AskingCourtModel", name := "aFact", desc := "()Z" } : Jvm.MethodName)) ∈ lw_all := lw_g (lw_at lw_m8 42 rfl) rfl
theorem q1886 : (Jvm.Cond.privateMethod ({ cls := "AskingCourtModel", name := "aFact", desc := "()Z" } : Jvm.MethodName)) ∈ lw_tbl := lw_at lw_m8 43 rfl
theorem q1887 : (Jvm.Cond.instanceMethod ({ cls := "AskingCourtModel", name := "aFact", desc := "()Z" } : Jvm.MethodName)) ∈ lw_all := lw_g (lw_at lw_m8 44 rfl) rfl
theorem q1888 : (Jvm.Cond.code ({ cls := "AskingCourtModel", name := "aFact", desc := "()Z" } : Jvm.MethodName) prog_19_method_40_code (4 : Nat) (Option.some Jvm.ClassFile.FieldType.boolean)) ∈ lw_all := lw_g (lw_at lw_m8 45 rfl) rfl
theorem q1889 : (Jvm.Cond.methodLink "AskingCourtModel" (186 : Nat) ({ cls := "AskingCourtModel", name := "fails", desc := "(I)Z" } : Jvm.MethodName)) ∈ lw_all := lw_g (lw_at lw_m8 46 rfl) rfl
theorem q1890 : (Jvm.Cond.privateMethod ({ cls := "AskingCourtModel", name := "fails", desc := "(I)Z" } : Jvm.MethodName)) ∈ lw_tbl := lw_at lw_m8 47 rfl
theorem q1891 : (Jvm.Cond.instanceMethod ({ cls := "AskingCourtModel", name := "fails", desc := "(I)Z" } : Jvm.MethodName)) ∈ lw_all := lw_g (lw_at lw_m8 48 rfl) rfl
theorem q1892 : (Jvm.Cond.code ({ cls := "AskingCourtModel", name := "fails", desc := "(I)Z" } : Jvm.MethodName) prog_19_method_27_code (2 : Nat) (Option.some Jvm.ClassFile.FieldType.boolean)) ∈ lw_all := lw_g (lw_at lw_m8 49 rfl) rfl
theorem q1893 : (Jvm.Cond.methodLink "AskingCourtModel" (219 : Nat) ({ cls := "AskingCourtModel", name := "newName", desc := "(II)Z" } : Jvm.MethodName)) ∈ lw_all := lw_g (lw_at lw_m8 50 rfl) rfl
theorem q1894 : (Jvm.Cond.privateMethod ({ cls := "AskingCourtModel", name := "newName", desc := "(II)Z" } : Jvm.MethodName)) ∈ lw_tbl := lw_at lw_m8 51 rfl
theorem q1895 : (Jvm.Cond.instanceMethod ({ cls := "AskingCourtModel", name := "newName", desc := "(II)Z" } : Jvm.MethodName)) ∈ lw_all := lw_g (lw_at lw_m8 52 rfl) rfl
theorem q1896 : (Jvm.Cond.code ({ cls := "AskingCourtModel", name := "newName", desc := "(II)Z" } : Jvm.MethodName) prog_19_method_38_code (3 : Nat) (Option.some Jvm.ClassFile.FieldType.boolean)) ∈ lw_all := lw_g (lw_at lw_m8 53 rfl) rfl
theorem q1897 : (Jvm.Cond.methodLink "AskingCourtModel" (208 : Nat) ({ cls := "AskingCourtModel", name := "isName", desc := "(Ljava/lang/String;)Z" } : Jvm.MethodName)) ∈ lw_all := lw_g (lw_at lw_m8 54 rfl) rfl
theorem q1898 : (Jvm.Cond.privateMethod ({ cls := "AskingCourtModel", name := "isName", desc := "(Ljava/lang/String;)Z" } : Jvm.MethodName)) ∈ lw_tbl := lw_at lw_m8 55 rfl
theorem q1899 : (Jvm.Cond.instanceMethod ({ cls := "AskingCourtModel", name := "isName", desc := "(Ljava/lang/String;)Z" } : Jvm.MethodName)) ∈ lw_all := lw_g (lw_at lw_m8 56 rfl) rfl
theorem q1900 : (Jvm.Cond.code ({ cls := "AskingCourtModel", name := "isName", desc := "(Ljava/lang/String;)Z" } : Jvm.MethodName) prog_19_method_32_code (2 : Nat) (Option.some Jvm.ClassFile.FieldType.boolean)) ∈ lw_all := lw_g (lw_at lw_m8 57 rfl) rfl
theorem q1901 : (Jvm.Cond.methodLink "AskingCourtModel" (212 : Nat) ({ cls := "AskingCourtModel", name := "isFree", desc := "()Z" } : Jvm.MethodName)) ∈ lw_all := lw_g (lw_at lw_m8 58 rfl) rfl
theorem q1902 : (Jvm.Cond.privateMethod ({ cls := "AskingCourtModel", name := "isFree", desc := "()Z" } : Jvm.MethodName)) ∈ lw_tbl := lw_at lw_m8 59 rfl
theorem q1903 : (Jvm.Cond.instanceMethod ({ cls := "AskingCourtModel", name := "isFree", desc := "()Z" } : Jvm.MethodName)) ∈ lw_all := lw_g (lw_at lw_m8 60 rfl) rfl
theorem q1904 : (Jvm.Cond.code ({ cls := "AskingCourtModel", name := "isFree", desc := "()Z" } : Jvm.MethodName) prog_19_method_37_code (1 : Nat) (Option.some Jvm.ClassFile.FieldType.boolean)) ∈ lw_all := lw_g (lw_at lw_m8 61 rfl) rfl
theorem q1905 : (Jvm.Cond.methodLink "AskingCourtModel" (203 : Nat) ({ cls := "AskingCourtModel", name := "findHere", desc := "(II)I" } : Jvm.MethodName)) ∈ lw_all := lw_g (lw_at lw_m8 62 rfl) rfl
theorem q1906 : (Jvm.Cond.privateMethod ({ cls := "AskingCourtModel", name := "findHere", desc := "(II)I" } : Jvm.MethodName)) ∈ lw_tbl := lw_at lw_m8 63 rfl
theorem q1907 : (Jvm.Cond.instanceMethod ({ cls := "AskingCourtModel", name := "findHere", desc := "(II)I" } : Jvm.MethodName)) ∈ lw_all := lw_g (lw_at lw_m8 64 rfl) rfl
theorem q1908 : (Jvm.Cond.code ({ cls := "AskingCourtModel", name := "findHere", desc := "(II)I" } : Jvm.MethodName) prog_19_method_34_code (4 : Nat) (Option.some Jvm.ClassFile.FieldType.int)) ∈ lw_all := lw_g (lw_at lw_m8 65 rfl) rfl
theorem q1909 : (Jvm.Cond.methodLink "AskingCourtModel" (193 : Nat) ({ cls := "AskingCourtModel", name := "nameHere", desc := "()J" } : Jvm.MethodName)) ∈ lw_all := lw_g (lw_at lw_m8 66 rfl) rfl
theorem q1910 : (Jvm.Cond.privateMethod ({ cls := "AskingCourtModel", name := "nameHere", desc := "()J" } : Jvm.MethodName)) ∈ lw_tbl := lw_at lw_m8 67 rfl
theorem q1911 : (Jvm.Cond.instanceMethod ({ cls := "AskingCourtModel", name := "nameHere", desc := "()J" } : Jvm.MethodName)) ∈ lw_all := lw_g (lw_at lw_m8 68 rfl) rfl
theorem q1912 : (Jvm.Cond.code ({ cls := "AskingCourtModel", name := "nameHere", desc := "()J" } : Jvm.MethodName) prog_19_method_33_code (4 : Nat) (Option.some Jvm.ClassFile.FieldType.long)) ∈ lw_all := lw_g (lw_at lw_m8 69 rfl) rfl
theorem q1913 : (Jvm.Cond.methodLink "AskingCourtModel" (223 : Nat) ({ cls := "AskingCourtModel", name := "wantWord", desc := "(Ljava/lang/String;I)Z" } : Jvm.MethodName)) ∈ lw_all := lw_g (lw_at lw_m8 70 rfl) rfl
theorem q1914 : (Jvm.Cond.privateMethod ({ cls := "AskingCourtModel", name := "wantWord", desc := "(Ljava/lang/String;I)Z" } : Jvm.MethodName)) ∈ lw_tbl := lw_at lw_m8 71 rfl
theorem q1915 : (Jvm.Cond.instanceMethod ({ cls := "AskingCourtModel", name := "wantWord", desc := "(Ljava/lang/String;I)Z" } : Jvm.MethodName)) ∈ lw_all := lw_g (lw_at lw_m8 72 rfl) rfl
theorem q1916 : (Jvm.Cond.code ({ cls := "AskingCourtModel", name := "wantWord", desc := "(Ljava/lang/String;I)Z" } : Jvm.MethodName) prog_19_method_30_code (3 : Nat) (Option.some Jvm.ClassFile.FieldType.boolean)) ∈ lw_all := lw_g (lw_at lw_m8 73 rfl) rfl
theorem q1917 : (Jvm.Cond.methodLink "AskingCourtModel" (227 : Nat) ({ cls := "AskingCourtModel", name := "number", desc := "(III)Z" } : Jvm.MethodName)) ∈ lw_all := lw_g (lw_at lw_m8 74 rfl) rfl
theorem q1918 : (Jvm.Cond.privateMethod ({ cls := "AskingCourtModel", name := "number", desc := "(III)Z" } : Jvm.MethodName)) ∈ lw_tbl := lw_at lw_m8 75 rfl
theorem q1919 : (Jvm.Cond.instanceMethod ({ cls := "AskingCourtModel", name := "number", desc := "(III)Z" } : Jvm.MethodName)) ∈ lw_all := lw_g (lw_at lw_m8 76 rfl) rfl
theorem q1920 : (Jvm.Cond.code ({ cls := "AskingCourtModel", name := "number", desc := "(III)Z" } : Jvm.MethodName) prog_19_method_31_code (4 : Nat) (Option.some Jvm.ClassFile.FieldType.boolean)) ∈ lw_all := lw_g (lw_at lw_m8 77 rfl) rfl
theorem q1921 : (Jvm.Cond.methodLink "AskingCourtModel" (183 : Nat) ({ cls := "AskingCourtModel", name := "isSign", desc := "(I)Z" } : Jvm.MethodName)) ∈ lw_all := lw_g (lw_at lw_m8 78 rfl) rfl
theorem q1922 : (Jvm.Cond.privateMethod ({ cls := "AskingCourtModel", name := "isSign", desc := "(I)Z" } : Jvm.MethodName)) ∈ lw_tbl := lw_at lw_m8 79 rfl
theorem q1923 : (Jvm.Cond.instanceMethod ({ cls := "AskingCourtModel", name := "isSign", desc := "(I)Z" } : Jvm.MethodName)) ∈ lw_all := lw_g (lw_at lw_m8 80 rfl) rfl
theorem q1924 : (Jvm.Cond.code ({ cls := "AskingCourtModel", name := "isSign", desc := "(I)Z" } : Jvm.MethodName) prog_19_method_25_code (2 : Nat) (Option.some Jvm.ClassFile.FieldType.boolean)) ∈ lw_all := lw_g (lw_at lw_m8 81 rfl) rfl
theorem q1925 : (Jvm.Cond.methodLink "AskingCourtModel" (280 : Nat) ({ cls := "AskingCourtModel", name := "aNever", desc := "()Z" } : Jvm.MethodName)) ∈ lw_all := lw_g (lw_at lw_m8 82 rfl) rfl
theorem q1926 : (Jvm.Cond.privateMethod ({ cls := "AskingCourtModel", name := "aNever", desc := "()Z" } : Jvm.MethodName)) ∈ lw_tbl := lw_at lw_m8 83 rfl
theorem q1927 : (Jvm.Cond.instanceMethod ({ cls := "AskingCourtModel", name := "aNever", desc := "()Z" } : Jvm.MethodName)) ∈ lw_all := lw_g (lw_at lw_m8 84 rfl) rfl
theorem q1928 : (Jvm.Cond.code ({ cls := "AskingCourtModel", name := "aNever", desc := "()Z" } : Jvm.MethodName) prog_19_method_41_code (2 : Nat) (Option.some Jvm.ClassFile.FieldType.boolean)) ∈ lw_all := lw_g (lw_at lw_m8 85 rfl) rfl
theorem q1929 : (Jvm.Cond.methodLink "AskingCourtModel" (231 : Nat) ({ cls := "AskingCourtModel", name := "oldName", desc := "(III)Z" } : Jvm.MethodName)) ∈ lw_all := lw_g (lw_at lw_m8 86 rfl) rfl
theorem q1930 : (Jvm.Cond.privateMethod ({ cls := "AskingCourtModel", name := "oldName", desc := "(III)Z" } : Jvm.MethodName)) ∈ lw_tbl := lw_at lw_m8 87 rfl
theorem q1931 : (Jvm.Cond.instanceMethod ({ cls := "AskingCourtModel", name := "oldName", desc := "(III)Z" } : Jvm.MethodName)) ∈ lw_all := lw_g (lw_at lw_m8 88 rfl) rfl
theorem q1932 : (Jvm.Cond.code ({ cls := "AskingCourtModel", name := "oldName", desc := "(III)Z" } : Jvm.MethodName) prog_19_method_39_code (4 : Nat) (Option.some Jvm.ClassFile.FieldType.boolean)) ∈ lw_all := lw_g (lw_at lw_m8 89 rfl) rfl
theorem q1933 : (Jvm.Cond.methodLink "AskingCourtModel" (283 : Nat) ({ cls := "AskingCourtModel", name := "aQuestion", desc := "()Z" } : Jvm.MethodName)) ∈ lw_all := lw_g (lw_at lw_m8 90 rfl) rfl
theorem q1934 : (Jvm.Cond.privateMethod ({ cls := "AskingCourtModel", name := "aQuestion", desc := "()Z" } : Jvm.MethodName)) ∈ lw_tbl := lw_at lw_m8 91 rfl
theorem q1935 : (Jvm.Cond.instanceMethod ({ cls := "AskingCourtModel", name := "aQuestion", desc := "()Z" } : Jvm.MethodName)) ∈ lw_all := lw_g (lw_at lw_m8 92 rfl) rfl
theorem q1936 : (Jvm.Cond.code ({ cls := "AskingCourtModel", name := "aQuestion", desc := "()Z" } : Jvm.MethodName) prog_19_method_53_code (3 : Nat) (Option.some Jvm.ClassFile.FieldType.boolean)) ∈ lw_all := lw_g (lw_at lw_m8 93 rfl) rfl
theorem q1937 : (Jvm.Cond.methodLink "AskingCourtModel" (268 : Nat) ({ cls := "AskingCourtModel", name := "conditions", desc := "()Z" } : Jvm.MethodName)) ∈ lw_all := lw_g (lw_at lw_m8 94 rfl) rfl
theorem q1938 : (Jvm.Cond.privateMethod ({ cls := "AskingCourtModel", name := "conditions", desc := "()Z" } : Jvm.MethodName)) ∈ lw_tbl := lw_at lw_m8 95 rfl
theorem q1939 : (Jvm.Cond.instanceMethod ({ cls := "AskingCourtModel", name := "conditions", desc := "()Z" } : Jvm.MethodName)) ∈ lw_all := lw_g (lw_at lw_m8 96 rfl) rfl
theorem q1940 : (Jvm.Cond.code ({ cls := "AskingCourtModel", name := "conditions", desc := "()Z" } : Jvm.MethodName) prog_19_method_52_code (2 : Nat) (Option.some Jvm.ClassFile.FieldType.boolean)) ∈ lw_all := lw_g (lw_at lw_m8 97 rfl) rfl
theorem q1941 : (Jvm.Cond.methodLink "AskingCourtModel" (265 : Nat) ({ cls := "AskingCourtModel", name := "aOne", desc := "()Z" } : Jvm.MethodName)) ∈ lw_all := lw_g (lw_at lw_m8 98 rfl) rfl
theorem q1942 : (Jvm.Cond.privateMethod ({ cls := "AskingCourtModel", name := "aOne", desc := "()Z" } : Jvm.MethodName)) ∈ lw_tbl := lw_at lw_m8 99 rfl
theorem q1943 : (Jvm.Cond.instanceMethod ({ cls := "AskingCourtModel", name := "aOne", desc := "()Z" } : Jvm.MethodName)) ∈ lw_all := lw_g (lw_at lw_m8 100 rfl) rfl
theorem q1944 : (Jvm.Cond.code ({ cls := "AskingCourtModel", name := "aOne", desc := "()Z" } : Jvm.MethodName) prog_19_method_50_code (1 : Nat) (Option.some Jvm.ClassFile.FieldType.boolean)) ∈ lw_all := lw_g (lw_at lw_m8 101 rfl) rfl
theorem q1945 : (Jvm.Cond.methodLink "AskingCourtModel" (250 : Nat) ({ cls := "AskingCourtModel", name := "does", desc := "(I)V" } : Jvm.MethodName)) ∈ lw_all := lw_g (lw_at lw_m8 102 rfl) rfl
theorem q1946 : (Jvm.Cond.privateMethod ({ cls := "AskingCourtModel", name := "does", desc := "(I)V" } : Jvm.MethodName)) ∈ lw_tbl := lw_at lw_m8 103 rfl
theorem q1947 : (Jvm.Cond.instanceMethod ({ cls := "AskingCourtModel", name := "does", desc := "(I)V" } : Jvm.MethodName)) ∈ lw_all := lw_g (lw_at lw_m8 104 rfl) rfl
theorem q1948 : (Jvm.Cond.code ({ cls := "AskingCourtModel", name := "does", desc := "(I)V" } : Jvm.MethodName) prog_19_method_46_code (2 : Nat) (Option.none : Option Jvm.ClassFile.FieldType)) ∈ lw_all := lw_g (lw_at lw_m8 105 rfl) rfl
theorem q1949 : (Jvm.Cond.methodLink "AskingCourtModel" (253 : Nat) ({ cls := "AskingCourtModel", name := "pushes", desc := "(I)V" } : Jvm.MethodName)) ∈ lw_all := lw_g (lw_at lw_m8 106 rfl) rfl
theorem q1950 : (Jvm.Cond.privateMethod ({ cls := "AskingCourtModel", name := "pushes", desc := "(I)V" } : Jvm.MethodName)) ∈ lw_tbl := lw_at lw_m8 107 rfl
theorem q1951 : (Jvm.Cond.instanceMethod ({ cls := "AskingCourtModel", name := "pushes", desc := "(I)V" } : Jvm.MethodName)) ∈ lw_all := lw_g (lw_at lw_m8 108 rfl) rfl
theorem q1952 : (Jvm.Cond.code ({ cls := "AskingCourtModel", name := "pushes", desc := "(I)V" } : Jvm.MethodName) prog_19_method_49_code (3 : Nat) (Option.none : Option Jvm.ClassFile.FieldType)) ∈ lw_all := lw_g (lw_at lw_m8 109 rfl) rfl
theorem q1953 : (Jvm.Cond.methodLink "AskingCourtModel" (256 : Nat) ({ cls := "AskingCourtModel", name := "turnsRound", desc := "()V" } : Jvm.MethodName)) ∈ lw_all := lw_g (lw_at lw_m8 110 rfl) rfl
theorem q1954 : (Jvm.Cond.privateMethod ({ cls := "AskingCourtModel", name := "turnsRound", desc := "()V" } : Jvm.MethodName)) ∈ lw_tbl := lw_at lw_m8 111 rfl
theorem q1955 : (Jvm.Cond.instanceMethod ({ cls := "AskingCourtModel", name := "turnsRound", desc := "()V" } : Jvm.MethodName)) ∈ lw_all := lw_g (lw_at lw_m8 112 rfl) rfl
theorem q1956 : (Jvm.Cond.code ({ cls := "AskingCourtModel", name := "turnsRound", desc := "()V" } : Jvm.MethodName) prog_19_method_48_code (2 : Nat) (Option.none : Option Jvm.ClassFile.FieldType)) ∈ lw_all := lw_g (lw_at lw_m8 113 rfl) rfl
theorem q1957 : (Jvm.Cond.methodLink "AskingCourtModel" (244 : Nat) ({ cls := "AskingCourtModel", name := "isDoing", desc := "(I)Z" } : Jvm.MethodName)) ∈ lw_all := lw_g (lw_at lw_m8 114 rfl) rfl
theorem q1958 : (Jvm.Cond.privateMethod ({ cls := "AskingCourtModel", name := "isDoing", desc := "(I)Z" } : Jvm.MethodName)) ∈ lw_tbl := lw_at lw_m8 115 rfl
theorem q1959 : (Jvm.Cond.instanceMethod ({ cls := "AskingCourtModel", name := "isDoing", desc := "(I)Z" } : Jvm.MethodName)) ∈ lw_all := lw_g (lw_at lw_m8 116 rfl) rfl
theorem q1960 : (Jvm.Cond.code ({ cls := "AskingCourtModel", name := "isDoing", desc := "(I)Z" } : Jvm.MethodName) prog_19_method_45_code (2 : Nat) (Option.some Jvm.ClassFile.FieldType.boolean)) ∈ lw_all := lw_g (lw_at lw_m8 117 rfl) rfl
theorem q1961 : (Jvm.Cond.methodLink "AskingCourtModel" (259 : Nat) ({ cls := "AskingCourtModel", name := "isOpen", desc := "()Z" } : Jvm.MethodName)) ∈ lw_all := lw_g (lw_at lw_m8 118 rfl) rfl
theorem q1962 : (Jvm.Cond.privateMethod ({ cls := "AskingCourtModel", name := "isOpen", desc := "()Z" } : Jvm.MethodName)) ∈ lw_tbl := lw_at lw_m8 119 rfl
theorem q1963 : (Jvm.Cond.instanceMethod ({ cls := "AskingCourtModel", name := "isOpen", desc := "()Z" } : Jvm.MethodName)) ∈ lw_all := lw_g (lw_at lw_m8 120 rfl) rfl
theorem q1964 : (Jvm.Cond.code ({ cls := "AskingCourtModel", name := "isOpen", desc := "()Z" } : Jvm.MethodName) prog_19_method_51_code (2 : Nat) (Option.some Jvm.ClassFile.FieldType.boolean)) ∈ lw_all := lw_g (lw_at lw_m8 121 rfl) rfl
theorem q1965 : (Jvm.Cond.methodLink "AskingCourtModel" (262 : Nat) ({ cls := "AskingCourtModel", name := "joins", desc := "()V" } : Jvm.MethodName)) ∈ lw_all := lw_g (lw_at lw_m8 122 rfl) rfl
theorem q1966 : (Jvm.Cond.privateMethod ({ cls := "AskingCourtModel", name := "joins", desc := "()V" } : Jvm.MethodName)) ∈ lw_tbl := lw_at lw_m8 123 rfl
theorem q1967 : (Jvm.Cond.instanceMethod ({ cls := "AskingCourtModel", name := "joins", desc := "()V" } : Jvm.MethodName)) ∈ lw_all := lw_g (lw_at lw_m8 124 rfl) rfl
theorem q1968 : (Jvm.Cond.code ({ cls := "AskingCourtModel", name := "joins", desc := "()V" } : Jvm.MethodName) prog_19_method_47_code (6 : Nat) (Option.none : Option Jvm.ClassFile.FieldType)) ∈ lw_all := lw_g (lw_at lw_m8 125 rfl) rfl
theorem q1969 : (Jvm.Cond.methodLink "AskingCourtModel" (271 : Nat) ({ cls := "AskingCourtModel", name := "finds", desc := "()V" } : Jvm.MethodName)) ∈ lw_all := lw_g (lw_at lw_m8 126 rfl) rfl
theorem q1970 : (Jvm.Cond.privateMethod ({ cls := "AskingCourtModel", name := "finds", desc := "()V" } : Jvm.MethodName)) ∈ lw_tbl := lw_at lw_m8 127 rfl
theorem q1971 : (Jvm.Cond.instanceMethod ({ cls := "AskingCourtModel", name := "finds", desc := "()V" } : Jvm.MethodName)) ∈ lw_all := lw_g (lw_at lw_m8 128 rfl) rfl
theorem q1972 : (Jvm.Cond.code ({ cls := "AskingCourtModel", name := "finds", desc := "()V" } : Jvm.MethodName) prog_19_method_44_code (5 : Nat) (Option.none : Option Jvm.ClassFile.FieldType)) ∈ lw_all := lw_g (lw_at lw_m8 129 rfl) rfl
theorem q1973 : (Jvm.Cond.methodLink "AskingCourtModel" (286 : Nat) ({ cls := "AskingCourtModel", name := "aWitness", desc := "()Z" } : Jvm.MethodName)) ∈ lw_all := lw_g (lw_at lw_m8 130 rfl) rfl
theorem q1974 : (Jvm.Cond.privateMethod ({ cls := "AskingCourtModel", name := "aWitness", desc := "()Z" } : Jvm.MethodName)) ∈ lw_tbl := lw_at lw_m8 131 rfl
theorem q1975 : (Jvm.Cond.instanceMethod ({ cls := "AskingCourtModel", name := "aWitness", desc := "()Z" } : Jvm.MethodName)) ∈ lw_all := lw_g (lw_at lw_m8 132 rfl) rfl
theorem q1976 : (Jvm.Cond.code ({ cls := "AskingCourtModel", name := "aWitness", desc := "()Z" } : Jvm.MethodName) prog_19_method_55_code (5 : Nat) (Option.some Jvm.ClassFile.FieldType.boolean)) ∈ lw_all := lw_g (lw_at lw_m8 133 rfl) rfl
theorem q1977 : (Jvm.Cond.methodLink "AskingCourtModel" (274 : Nat) ({ cls := "AskingCourtModel", name := "several", desc := "(III)Z" } : Jvm.MethodName)) ∈ lw_all := lw_g (lw_at lw_m8 134 rfl) rfl
theorem q1978 : (Jvm.Cond.privateMethod ({ cls := "AskingCourtModel", name := "several", desc := "(III)Z" } : Jvm.MethodName)) ∈ lw_tbl := lw_at lw_m8 135 rfl
theorem q1979 : (Jvm.Cond.instanceMethod ({ cls := "AskingCourtModel", name := "several", desc := "(III)Z" } : Jvm.MethodName)) ∈ lw_all := lw_g (lw_at lw_m8 136 rfl) rfl
theorem q1980 : (Jvm.Cond.code ({ cls := "AskingCourtModel", name := "several", desc := "(III)Z" } : Jvm.MethodName) prog_19_method_54_code (4 : Nat) (Option.some Jvm.ClassFile.FieldType.boolean)) ∈ lw_all := lw_g (lw_at lw_m8 137 rfl) rfl
theorem q1981 : (Jvm.Cond.methodLink "AskingCourtModel" (289 : Nat) ({ cls := "AskingCourtModel", name := "wantSign", desc := "(I)Z" } : Jvm.MethodName)) ∈ lw_all := lw_g (lw_at lw_m8 138 rfl) rfl
theorem q1982 : (Jvm.Cond.privateMethod ({ cls := "AskingCourtModel", name := "wantSign", desc := "(I)Z" } : Jvm.MethodName)) ∈ lw_tbl := lw_at lw_m8 139 rfl
theorem q1983 : (Jvm.Cond.instanceMethod ({ cls := "AskingCourtModel", name := "wantSign", desc := "(I)Z" } : Jvm.MethodName)) ∈ lw_all := lw_g (lw_at lw_m8 140 rfl) rfl
theorem q1984 : (Jvm.Cond.code ({ cls := "AskingCourtModel", name := "wantSign", desc := "(I)Z" } : Jvm.MethodName) prog_19_method_29_code (2 : Nat) (Option.some Jvm.ClassFile.FieldType.boolean)) ∈ lw_all := lw_g (lw_at lw_m8 141 rfl) rfl
theorem q1985 : (Jvm.Cond.methodLink "AskingCourtModel" (298 : Nat) ({ cls := "AskingCourtModel", name := "size", desc := "(I)I" } : Jvm.MethodName)) ∈ lw_all := lw_g (lw_at lw_m8 142 rfl) rfl
theorem q1986 : (Jvm.Cond.privateMethod ({ cls := "AskingCourtModel", name := "size", desc := "(I)I" } : Jvm.MethodName)) ∈ lw_tbl := lw_at lw_m8 143 rfl
theorem q1987 : (Jvm.Cond.instanceMethod ({ cls := "AskingCourtModel", name := "size", desc := "(I)I" } : Jvm.MethodName)) ∈ lw_all := lw_g (lw_at lw_m8 144 rfl) rfl
theorem q1988 : (Jvm.Cond.code ({ cls := "AskingCourtModel", name := "size", desc := "(I)I" } : Jvm.MethodName) prog_19_method_58_code (4 : Nat) (Option.some Jvm.ClassFile.FieldType.int)) ∈ lw_all := lw_g (lw_at lw_m8 145 rfl) rfl
theorem q1989 : (Jvm.Cond.methodLink "AskingCourtModel" (300 : Nat) ({ cls := "AskingCourtModel", name := "taken", desc := "(I)I" } : Jvm.MethodName)) ∈ lw_all := lw_g (lw_at lw_m8 146 rfl) rfl
theorem q1990 : (Jvm.Cond.privateMethod ({ cls := "AskingCourtModel", name := "taken", desc := "(I)I" } : Jvm.MethodName)) ∈ lw_tbl := lw_at lw_m8 147 rfl
theorem q1991 : (Jvm.Cond.instanceMethod ({ cls := "AskingCourtModel", name := "taken", desc := "(I)I" } : Jvm.MethodName)) ∈ lw_all := lw_g (lw_at lw_m8 148 rfl) rfl
theorem q1992 : (Jvm.Cond.code ({ cls := "AskingCourtModel", name := "taken", desc := "(I)I" } : Jvm.MethodName) prog_19_method_36_code (2 : Nat) (Option.some Jvm.ClassFile.FieldType.int)) ∈ lw_all := lw_g (lw_at lw_m8 149 rfl) rfl
theorem q1993 : (Jvm.Cond.methodLink "AskingCourtModel" (200 : Nat) ({ cls := "AskingCourtModel", name := "gives", desc := "(I)I" } : Jvm.MethodName)) ∈ lw_all := lw_g (lw_at lw_m8 150 rfl) rfl
theorem q1994 : (Jvm.Cond.privateMethod ({ cls := "AskingCourtModel", name := "gives", desc := "(I)I" } : Jvm.MethodName)) ∈ lw_tbl := lw_at lw_m8 151 rfl
theorem q1995 : (Jvm.Cond.instanceMethod ({ cls := "AskingCourtModel", name := "gives", desc := "(I)I" } : Jvm.MethodName)) ∈ lw_all := lw_g (lw_at lw_m8 152 rfl) rfl
theorem q1996 : (Jvm.Cond.code ({ cls := "AskingCourtModel", name := "gives", desc := "(I)I" } : Jvm.MethodName) prog_19_method_9_code (2 : Nat) (Option.some Jvm.ClassFile.FieldType.int)) ∈ lw_all := lw_g (lw_at lw_m8 153 rfl) rfl
theorem q1998 : (Jvm.Cond.instanceMethod ({ cls := "AskingCourtModel", name := "plan", desc := "(I)I" } : Jvm.MethodName)) ∈ lw_all := lw_g (lw_at lw_m8 155 rfl) rfl
theorem q1999 : (Jvm.Cond.selects "AskingCourtModel" ({ cls := "AskingCourtModel", name := "plan", desc := "(I)I" } : Jvm.MethodName) ({ cls := "AskingCourtModel", name := "plan", desc := "(I)I" } : Jvm.MethodName)) ∈ lw_all := lw_g (lw_at lw_m8 156 rfl) rfl
theorem q2000 : (Jvm.Cond.code ({ cls := "AskingCourtModel", name := "plan", desc := "(I)I" } : Jvm.MethodName) prog_19_method_62_code (4 : Nat) (Option.some Jvm.ClassFile.FieldType.int)) ∈ lw_all := lw_g (lw_at lw_m8 157 rfl) rfl
theorem q2001 : (Jvm.Cond.methodLink "AskingCourtModel" (319 : Nat) ({ cls := "AskingCourtModel", name := "step", desc := "()Z" } : Jvm.MethodName)) ∈ lw_all := lw_g (lw_at lw_m8 158 rfl) rfl
theorem q2002 : (Jvm.Cond.privateMethod ({ cls := "AskingCourtModel", name := "step", desc := "()Z" } : Jvm.MethodName)) ∈ lw_tbl := lw_at lw_m8 159 rfl
theorem q2003 : (Jvm.Cond.instanceMethod ({ cls := "AskingCourtModel", name := "step", desc := "()Z" } : Jvm.MethodName)) ∈ lw_all := lw_g (lw_at lw_m8 160 rfl) rfl
theorem q2004 : (Jvm.Cond.code ({ cls := "AskingCourtModel", name := "step", desc := "()Z" } : Jvm.MethodName) prog_19_method_61_code (5 : Nat) (Option.some Jvm.ClassFile.FieldType.boolean)) ∈ lw_all := lw_g (lw_at lw_m8 161 rfl) rfl
theorem q2005 : (Jvm.Cond.methodLink "AskingCourtModel" (307 : Nat) ({ cls := "AskingCourtModel", name := "name", desc := "(III)Z" } : Jvm.MethodName)) ∈ lw_all := lw_g (lw_at lw_m8 162 rfl) rfl
theorem q2006 : (Jvm.Cond.privateMethod ({ cls := "AskingCourtModel", name := "name", desc := "(III)Z" } : Jvm.MethodName)) ∈ lw_tbl := lw_at lw_m8 163 rfl
theorem q2007 : (Jvm.Cond.instanceMethod ({ cls := "AskingCourtModel", name := "name", desc := "(III)Z" } : Jvm.MethodName)) ∈ lw_all := lw_g (lw_at lw_m8 164 rfl) rfl
theorem q2008 : (Jvm.Cond.code ({ cls := "AskingCourtModel", name := "name", desc := "(III)Z" } : Jvm.MethodName) prog_19_method_59_code (4 : Nat) (Option.some Jvm.ClassFile.FieldType.boolean)) ∈ lw_all := lw_g (lw_at lw_m8 165 rfl) rfl
theorem q2009 : (Jvm.Cond.methodLink "AskingCourtModel" (316 : Nat) ({ cls := "AskingCourtModel", name := "aTest", desc := "(I)Z" } : Jvm.MethodName)) ∈ lw_all := lw_g (lw_at lw_m8 166 rfl) rfl
theorem q2010 : (Jvm.Cond.privateMethod ({ cls := "AskingCourtModel", name := "aTest", desc := "(I)Z" } : Jvm.MethodName)) ∈ lw_tbl := lw_at lw_m8 167 rfl
theorem q2011 : (Jvm.Cond.instanceMethod ({ cls := "AskingCourtModel", name := "aTest", desc := "(I)Z" } : Jvm.MethodName)) ∈ lw_all := lw_g (lw_at lw_m8 168 rfl) rfl
theorem q2012 : (Jvm.Cond.code ({ cls := "AskingCourtModel", name := "aTest", desc := "(I)Z" } : Jvm.MethodName) prog_19_method_60_code (3 : Nat) (Option.some Jvm.ClassFile.FieldType.boolean)) ∈ lw_all := lw_g (lw_at lw_m8 169 rfl) rfl
theorem q2014 : (Jvm.Cond.instanceMethod ({ cls := "AskingCourtModel", name := "told", desc := "(I)I" } : Jvm.MethodName)) ∈ lw_all := lw_g (lw_at lw_m8 171 rfl) rfl
theorem q2015 : (Jvm.Cond.selects "AskingCourtModel" ({ cls := "AskingCourtModel", name := "told", desc := "(I)I" } : Jvm.MethodName) ({ cls := "AskingCourtModel", name := "told", desc := "(I)I" } : Jvm.MethodName)) ∈ lw_all := lw_g (lw_at lw_m8 172 rfl) rfl
theorem q2016 : (Jvm.Cond.code ({ cls := "AskingCourtModel", name := "told", desc := "(I)I" } : Jvm.MethodName) prog_19_method_72_code (2 : Nat) (Option.some Jvm.ClassFile.FieldType.int)) ∈ lw_all := lw_g (lw_at lw_m8 173 rfl) rfl
theorem q2017 : (Jvm.Cond.methodLink "AskingCourtModel" (325 : Nat) ({ cls := "AskingCourtModel", name := "putToday", desc := "()I" } : Jvm.MethodName)) ∈ lw_all := lw_g (lw_at lw_m8 174 rfl) rfl
theorem q2018 : (Jvm.Cond.privateMethod ({ cls := "AskingCourtModel", name := "putToday", desc := "()I" } : Jvm.MethodName)) ∈ lw_tbl := lw_at lw_m8 175 rfl
theorem q2019 : (Jvm.Cond.instanceMethod ({ cls := "AskingCourtModel", name := "putToday", desc := "()I" } : Jvm.MethodName)) ∈ lw_all := lw_g (lw_at lw_m8 176 rfl) rfl
theorem q2020 : (Jvm.Cond.code ({ cls := "AskingCourtModel", name := "putToday", desc := "()I" } : Jvm.MethodName) prog_19_method_71_code (3 : Nat) (Option.some Jvm.ClassFile.FieldType.int)) ∈ lw_all := lw_g (lw_at lw_m8 177 rfl) rfl
theorem q2021 : (Jvm.Cond.methodLink "AskingCourtModel" (322 : Nat) ({ cls := "AskingCourtModel", name := "ofHeard", desc := "(II)I" } : Jvm.MethodName)) ∈ lw_all := lw_g (lw_at lw_m8 178 rfl) rfl
theorem q2022 : (Jvm.Cond.privateMethod ({ cls := "AskingCourtModel", name := "ofHeard", desc := "(II)I" } : Jvm.MethodName)) ∈ lw_tbl := lw_at lw_m8 179 rfl
theorem q2023 : (Jvm.Cond.instanceMethod ({ cls := "AskingCourtModel", name := "ofHeard", desc := "(II)I" } : Jvm.MethodName)) ∈ lw_all := lw_g (lw_at lw_m8 180 rfl) rfl
theorem q2024 : (Jvm.Cond.code ({ cls := "AskingCourtModel", name := "ofHeard", desc := "(II)I" } : Jvm.MethodName) prog_19_method_70_code (3 : Nat) (Option.some Jvm.ClassFile.FieldType.int)) ∈ lw_all := lw_g (lw_at lw_m8 181 rfl) rfl
theorem q2026 : (Jvm.Cond.instanceMethod ({ cls := "AskingCourtModel", name := "value", desc := "(II)I" } : Jvm.MethodName)) ∈ lw_all := lw_g (lw_at lw_m8 183 rfl) rfl
theorem q2027 : (Jvm.Cond.selects "AskingCourtModel" ({ cls := "AskingCourtModel", name := "value", desc := "(II)I" } : Jvm.MethodName) ({ cls := "AskingCourtModel", name := "value", desc := "(II)I" } : Jvm.MethodName)) ∈ lw_all := lw_g (lw_at lw_m8 184 rfl) rfl
theorem q2028 : (Jvm.Cond.code ({ cls := "AskingCourtModel", name := "value", desc := "(II)I" } : Jvm.MethodName) prog_19_method_73_code (3 : Nat) (Option.some Jvm.ClassFile.FieldType.int)) ∈ lw_all := lw_g (lw_at lw_m8 185 rfl) rfl
theorem q2030 : (Jvm.Cond.instanceMethod ({ cls := "AskingCourtModel", name := "world", desc := "(II)I" } : Jvm.MethodName)) ∈ lw_all := lw_g (lw_at lw_m8 187 rfl) rfl
theorem q2031 : (Jvm.Cond.selects "AskingCourtModel" ({ cls := "AskingCourtModel", name := "world", desc := "(II)I" } : Jvm.MethodName) ({ cls := "AskingCourtModel", name := "world", desc := "(II)I" } : Jvm.MethodName)) ∈ lw_all := lw_g (lw_at lw_m8 188 rfl) rfl
theorem q2032 : (Jvm.Cond.code ({ cls := "AskingCourtModel", name := "world", desc := "(II)I" } : Jvm.MethodName) prog_19_method_74_code (3 : Nat) (Option.some Jvm.ClassFile.FieldType.int)) ∈ lw_all := lw_g (lw_at lw_m8 189 rfl) rfl
theorem q2033 : (Jvm.Cond.methodLink "AskingCourtModel" (328 : Nat) ({ cls := "AskingCourtModel", name := "isWorld", desc := "(I)Z" } : Jvm.MethodName)) ∈ lw_all := lw_g (lw_at lw_m8 190 rfl) rfl
theorem q2034 : (Jvm.Cond.privateMethod ({ cls := "AskingCourtModel", name := "isWorld", desc := "(I)Z" } : Jvm.MethodName)) ∈ lw_tbl := lw_at lw_m8 191 rfl
theorem q2035 : (Jvm.Cond.instanceMethod ({ cls := "AskingCourtModel", name := "isWorld", desc := "(I)Z" } : Jvm.MethodName)) ∈ lw_all := lw_g (lw_at lw_m8 192 rfl) rfl
theorem q2036 : (Jvm.Cond.code ({ cls := "AskingCourtModel", name := "isWorld", desc := "(I)Z" } : Jvm.MethodName) prog_19_method_63_code (2 : Nat) (Option.some Jvm.ClassFile.FieldType.boolean)) ∈ lw_all := lw_g (lw_at lw_m8 193 rfl) rfl
theorem q2038 : (Jvm.Cond.instanceMethod ({ cls := "AskingCourtModel", name := "possible", desc := "(I)I" } : Jvm.MethodName)) ∈ lw_all := lw_g (lw_at lw_m8 195 rfl) rfl
theorem q2039 : (Jvm.Cond.selects "AskingCourtModel" ({ cls := "AskingCourtModel", name := "possible", desc := "(I)I" } : Jvm.MethodName) ({ cls := "AskingCourtModel", name := "possible", desc := "(I)I" } : Jvm.MethodName)) ∈ lw_all := lw_g (lw_at lw_m8 196 rfl) rfl
theorem q2040 : (Jvm.Cond.code ({ cls := "AskingCourtModel", name := "possible", desc := "(I)I" } : Jvm.MethodName) prog_19_method_75_code (2 : Nat) (Option.some Jvm.ClassFile.FieldType.int)) ∈ lw_all := lw_g (lw_at lw_m8 197 rfl) rfl
theorem q2042 : (Jvm.Cond.instanceMethod ({ cls := "AskingCourtModel", name := "holds", desc := "(II)I" } : Jvm.MethodName)) ∈ lw_all := lw_g (lw_at lw_m8 199 rfl) rfl
theorem q2043 : (Jvm.Cond.selects "AskingCourtModel" ({ cls := "AskingCourtModel", name := "holds", desc := "(II)I" } : Jvm.MethodName) ({ cls := "AskingCourtModel", name := "holds", desc := "(II)I" } : Jvm.MethodName)) ∈ lw_all := lw_g (lw_at lw_m8 200 rfl) rfl
theorem q2044 : (Jvm.Cond.code ({ cls := "AskingCourtModel", name := "holds", desc := "(II)I" } : Jvm.MethodName) prog_19_method_76_code (3 : Nat) (Option.some Jvm.ClassFile.FieldType.int)) ∈ lw_all := lw_g (lw_at lw_m8 201 rfl) rfl
theorem q2045 : (Jvm.Cond.methodLink "AskingCourtModel" (334 : Nat) ({ cls := "AskingCourtModel", name := "isQuestion", desc := "(I)Z" } : Jvm.MethodName)) ∈ lw_all := lw_g (lw_at lw_m8 202 rfl) rfl
theorem q2046 : (Jvm.Cond.privateMethod ({ cls := "AskingCourtModel", name := "isQuestion", desc := "(I)Z" } : Jvm.MethodName)) ∈ lw_tbl := lw_at lw_m8 203 rfl
theorem q2047 : (Jvm.Cond.instanceMethod ({ cls := "AskingCourtModel", name := "isQuestion", desc := "(I)Z" } : Jvm.MethodName)) ∈ lw_all := lw_g (lw_at lw_m8 204 rfl) rfl
theorem q2048 : (Jvm.Cond.code ({ cls := "AskingCourtModel", name := "isQuestion", desc := "(I)Z" } : Jvm.MethodName) prog_19_method_64_code (2 : Nat) (Option.some Jvm.ClassFile.FieldType.boolean)) ∈ lw_all := lw_g (lw_at lw_m8 205 rfl) rfl
theorem q2049 : (Jvm.Cond.methodLink "AskingCourtModel" (337 : Nat) ({ cls := "AskingCourtModel", name := "isIn", desc := "(II)Z" } : Jvm.MethodName)) ∈ lw_all := lw_g (lw_at lw_m8 206 rfl) rfl
theorem q2050 : (Jvm.Cond.privateMethod ({ cls := "AskingCourtModel", name := "isIn", desc := "(II)Z" } : Jvm.MethodName)) ∈ lw_tbl := lw_at lw_m8 207 rfl
theorem q2051 : (Jvm.Cond.instanceMethod ({ cls := "AskingCourtModel", name := "isIn", desc := "(II)Z" } : Jvm.MethodName)) ∈ lw_all := lw_g (lw_at lw_m8 208 rfl) rfl
theorem q2052 : (Jvm.Cond.code ({ cls := "AskingCourtModel", name := "isIn", desc := "(II)Z" } : Jvm.MethodName) prog_19_method_68_code (3 : Nat) (Option.some Jvm.ClassFile.FieldType.boolean)) ∈ lw_all := lw_g (lw_at lw_m8 209 rfl) rfl
theorem q2054 : (Jvm.Cond.instanceMethod ({ cls := "AskingCourtModel", name := "fee", desc := "(I)I" } : Jvm.MethodName)) ∈ lw_all := lw_g (lw_at lw_m8 211 rfl) rfl
theorem q2055 : (Jvm.Cond.selects "AskingCourtModel" ({ cls := "AskingCourtModel", name := "fee", desc := "(I)I" } : Jvm.MethodName) ({ cls := "AskingCourtModel", name := "fee", desc := "(I)I" } : Jvm.MethodName)) ∈ lw_all := lw_g (lw_at lw_m8 212 rfl) rfl
theorem q2056 : (Jvm.Cond.code ({ cls := "AskingCourtModel", name := "fee", desc := "(I)I" } : Jvm.MethodName) prog_19_method_77_code (2 : Nat) (Option.some Jvm.ClassFile.FieldType.int)) ∈ lw_all := lw_g (lw_at lw_m8 213 rfl) rfl
theorem q2058 : (Jvm.Cond.instanceMethod ({ cls := "AskingCourtModel", name := "witness", desc := "(II)I" } : Jvm.MethodName)) ∈ lw_all := lw_g (lw_at lw_m8 215 rfl) rfl
theorem q2059 : (Jvm.Cond.selects "AskingCourtModel" ({ cls := "AskingCourtModel", name := "witness", desc := "(II)I" } : Jvm.MethodName) ({ cls := "AskingCourtModel", name := "witness", desc := "(II)I" } : Jvm.MethodName)) ∈ lw_all := lw_g (lw_at lw_m8 216 rfl) rfl
theorem q2060 : (Jvm.Cond.code ({ cls := "AskingCourtModel", name := "witness", desc := "(II)I" } : Jvm.MethodName) prog_19_method_78_code (3 : Nat) (Option.some Jvm.ClassFile.FieldType.int)) ∈ lw_all := lw_g (lw_at lw_m8 217 rfl) rfl
theorem q2061 : (Jvm.Cond.methodLink "AskingCourtModel" (340 : Nat) ({ cls := "AskingCourtModel", name := "isWitness", desc := "(I)Z" } : Jvm.MethodName)) ∈ lw_all := lw_g (lw_at lw_m8 218 rfl) rfl
theorem q2062 : (Jvm.Cond.privateMethod ({ cls := "AskingCourtModel", name := "isWitness", desc := "(I)Z" } : Jvm.MethodName)) ∈ lw_tbl := lw_at lw_m8 219 rfl
theorem q2063 : (Jvm.Cond.instanceMethod ({ cls := "AskingCourtModel", name := "isWitness", desc := "(I)Z" } : Jvm.MethodName)) ∈ lw_all := lw_g (lw_at lw_m8 220 rfl) rfl
theorem q2064 : (Jvm.Cond.code ({ cls := "AskingCourtModel", name := "isWitness", desc := "(I)Z" } : Jvm.MethodName) prog_19_method_65_code (2 : Nat) (Option.some Jvm.ClassFile.FieldType.boolean)) ∈ lw_all := lw_g (lw_at lw_m8 221 rfl) rfl
theorem q2066 : (Jvm.Cond.instanceMethod ({ cls := "AskingCourtModel", name := "answer", desc := "(IIII)I" } : Jvm.MethodName)) ∈ lw_all := lw_g (lw_at lw_m8 223 rfl) rfl
theorem q2067 : (Jvm.Cond.selects "AskingCourtModel" ({ cls := "AskingCourtModel", name := "answer", desc := "(IIII)I" } : Jvm.MethodName) ({ cls := "AskingCourtModel", name := "answer", desc := "(IIII)I" } : Jvm.MethodName)) ∈ lw_all := lw_g (lw_at lw_m8 224 rfl) rfl
theorem q2068 : (Jvm.Cond.code ({ cls := "AskingCourtModel", name := "answer", desc := "(IIII)I" } : Jvm.MethodName) prog_19_method_87_code (5 : Nat) (Option.some Jvm.ClassFile.FieldType.int)) ∈ lw_all := lw_g (lw_at lw_m8 225 rfl) rfl
theorem q2069 : (Jvm.Cond.methodLink "AskingCourtModel" (365 : Nat) ({ cls := "AskingCourtModel", name := "isKind", desc := "(I)Z" } : Jvm.MethodName)) ∈ lw_all := lw_g (lw_at lw_m8 226 rfl) rfl
theorem q2070 : (Jvm.Cond.static ({ cls := "AskingCourtModel", name := "isKind", desc := "(I)Z" } : Jvm.MethodName)) ∈ lw_all := lw_g (lw_at lw_m8 227 rfl) rfl
theorem q2071 : (Jvm.Cond.code ({ cls := "AskingCourtModel", name := "isKind", desc := "(I)Z" } : Jvm.MethodName) prog_19_method_66_code (1 : Nat) (Option.some Jvm.ClassFile.FieldType.boolean)) ∈ lw_all := lw_g (lw_at lw_m8 228 rfl) rfl
theorem q2072 : (Jvm.Cond.methodLink "AskingCourtModel" (368 : Nat) ({ cls := "AskingCourtModel", name := "saysAs", desc := "(IIII)I" } : Jvm.MethodName)) ∈ lw_all := lw_g (lw_at lw_m8 229 rfl) rfl
theorem q2073 : (Jvm.Cond.privateMethod ({ cls := "AskingCourtModel", name := "saysAs", desc := "(IIII)I" } : Jvm.MethodName)) ∈ lw_tbl := lw_at lw_m8 230 rfl
theorem q2074 : (Jvm.Cond.instanceMethod ({ cls := "AskingCourtModel", name := "saysAs", desc := "(IIII)I" } : Jvm.MethodName)) ∈ lw_all := lw_g (lw_at lw_m8 231 rfl) rfl
theorem q2075 : (Jvm.Cond.code ({ cls := "AskingCourtModel", name := "saysAs", desc := "(IIII)I" } : Jvm.MethodName) prog_19_method_79_code (5 : Nat) (Option.some Jvm.ClassFile.FieldType.int)) ∈ lw_all := lw_g (lw_at lw_m8 232 rfl) rfl
theorem q2077 : (Jvm.Cond.instanceMethod ({ cls := "AskingCourtModel", name := "hear", desc := "(III)Z" } : Jvm.MethodName)) ∈ lw_all := lw_g (lw_at lw_m8 234 rfl) rfl
theorem q2078 : (Jvm.Cond.selects "AskingCourtModel" ({ cls := "AskingCourtModel", name := "hear", desc := "(III)Z" } : Jvm.MethodName) ({ cls := "AskingCourtModel", name := "hear", desc := "(III)Z" } : Jvm.MethodName)) ∈ lw_all := lw_g (lw_at lw_m8 235 rfl) rfl
theorem q2079 : (Jvm.Cond.code ({ cls := "AskingCourtModel", name := "hear", desc := "(III)Z" } : Jvm.MethodName) prog_19_method_95_code (5 : Nat) (Option.some Jvm.ClassFile.FieldType.boolean)) ∈ lw_all := lw_g (lw_at lw_m8 236 rfl) rfl
theorem q2080 : (Jvm.Cond.methodLink "AskingCourtModel" (384 : Nat) ({ cls := "AskingCourtModel", name := "hears", desc := "(III)V" } : Jvm.MethodName)) ∈ lw_all := lw_g (lw_at lw_m8 237 rfl) rfl
theorem q2081 : (Jvm.Cond.privateMethod ({ cls := "AskingCourtModel", name := "hears", desc := "(III)V" } : Jvm.MethodName)) ∈ lw_tbl := lw_at lw_m8 238 rfl
theorem q2082 : (Jvm.Cond.instanceMethod ({ cls := "AskingCourtModel", name := "hears", desc := "(III)V" } : Jvm.MethodName)) ∈ lw_all := lw_g (lw_at lw_m8 239 rfl) rfl
theorem q2083 : (Jvm.Cond.code ({ cls := "AskingCourtModel", name := "hears", desc := "(III)V" } : Jvm.MethodName) prog_19_method_96_code (5 : Nat) (Option.none : Option Jvm.ClassFile.FieldType)) ∈ lw_all := lw_g (lw_at lw_m9 0 rfl) rfl
theorem q2085 : (Jvm.Cond.instanceMethod ({ cls := "AskingCourtModel", name := "unsay", desc := "()I" } : Jvm.MethodName)) ∈ lw_all := lw_g (lw_at lw_m9 2 rfl) rfl
theorem q2086 : (Jvm.Cond.selects "AskingCourtModel" ({ cls := "AskingCourtModel", name := "unsay", desc := "()I" } : Jvm.MethodName) ({ cls := "AskingCourtModel", name := "unsay", desc := "()I" } : Jvm.MethodName)) ∈ lw_all := lw_g (lw_at lw_m9 3 rfl) rfl
theorem q2087 : (Jvm.Cond.code ({ cls := "AskingCourtModel", name := "unsay", desc := "()I" } : Jvm.MethodName) prog_19_method_97_code (1 : Nat) (Option.some Jvm.ClassFile.FieldType.int)) ∈ lw_all := lw_g (lw_at lw_m9 4 rfl) rfl
theorem q2089 : (Jvm.Cond.instanceMethod ({ cls := "AskingCourtModel", name := "nextDay", desc := "()I" } : Jvm.MethodName)) ∈ lw_all := lw_g (lw_at lw_m9 6 rfl) rfl
theorem q2090 : (Jvm.Cond.selects "AskingCourtModel" ({ cls := "AskingCourtModel", name := "nextDay", desc := "()I" } : Jvm.MethodName) ({ cls := "AskingCourtModel", name := "nextDay", desc := "()I" } : Jvm.MethodName)) ∈ lw_all := lw_g (lw_at lw_m9 7 rfl) rfl
theorem q2091 : (Jvm.Cond.code ({ cls := "AskingCourtModel", name := "nextDay", desc := "()I" } : Jvm.MethodName) prog_19_method_98_code (1 : Nat) (Option.some Jvm.ClassFile.FieldType.int)) ∈ lw_all := lw_g (lw_at lw_m9 8 rfl) rfl
theorem q2093 : (Jvm.Cond.instanceMethod ({ cls := "AskingCourtModel", name := "heard", desc := "(II)I" } : Jvm.MethodName)) ∈ lw_all := lw_g (lw_at lw_m9 10 rfl) rfl
theorem q2094 : (Jvm.Cond.selects "AskingCourtModel" ({ cls := "AskingCourtModel", name := "heard", desc := "(II)I" } : Jvm.MethodName) ({ cls := "AskingCourtModel", name := "heard", desc := "(II)I" } : Jvm.MethodName)) ∈ lw_all := lw_g (lw_at lw_m9 11 rfl) rfl
theorem q2095 : (Jvm.Cond.code ({ cls := "AskingCourtModel", name := "heard", desc := "(II)I" } : Jvm.MethodName) prog_19_method_99_code (3 : Nat) (Option.some Jvm.ClassFile.FieldType.int)) ∈ lw_all := lw_g (lw_at lw_m9 12 rfl) rfl
theorem q2097 : (Jvm.Cond.instanceMethod ({ cls := "AskingCourtModel", name := "left", desc := "()I" } : Jvm.MethodName)) ∈ lw_all := lw_g (lw_at lw_m9 14 rfl) rfl
theorem q2098 : (Jvm.Cond.selects "AskingCourtModel" ({ cls := "AskingCourtModel", name := "left", desc := "()I" } : Jvm.MethodName) ({ cls := "AskingCourtModel", name := "left", desc := "()I" } : Jvm.MethodName)) ∈ lw_all := lw_g (lw_at lw_m9 15 rfl) rfl
theorem q2099 : (Jvm.Cond.code ({ cls := "AskingCourtModel", name := "left", desc := "()I" } : Jvm.MethodName) prog_19_method_100_code (1 : Nat) (Option.some Jvm.ClassFile.FieldType.int)) ∈ lw_all := lw_g (lw_at lw_m9 16 rfl) rfl
theorem q2100 : (Jvm.Cond.methodLink "AskingCourtModel" (388 : Nat) ({ cls := "AskingCourtModel", name := "fitsAll", desc := "()V" } : Jvm.MethodName)) ∈ lw_all := lw_g (lw_at lw_m9 17 rfl) rfl
theorem q2101 : (Jvm.Cond.privateMethod ({ cls := "AskingCourtModel", name := "fitsAll", desc := "()V" } : Jvm.MethodName)) ∈ lw_tbl := lw_at lw_m9 18 rfl
theorem q2102 : (Jvm.Cond.instanceMethod ({ cls := "AskingCourtModel", name := "fitsAll", desc := "()V" } : Jvm.MethodName)) ∈ lw_all := lw_g (lw_at lw_m9 19 rfl) rfl
theorem q2103 : (Jvm.Cond.code ({ cls := "AskingCourtModel", name := "fitsAll", desc := "()V" } : Jvm.MethodName) prog_19_method_91_code (1 : Nat) (Option.none : Option Jvm.ClassFile.FieldType)) ∈ lw_all := lw_g (lw_at lw_m9 20 rfl) rfl
theorem q2104 : (Jvm.Cond.methodLink "AskingCourtModel" (378 : Nat) ({ cls := "AskingCourtModel", name := "fitsBy", desc := "(I)V" } : Jvm.MethodName)) ∈ lw_all := lw_g (lw_at lw_m9 21 rfl) rfl
theorem q2105 : (Jvm.Cond.privateMethod ({ cls := "AskingCourtModel", name := "fitsBy", desc := "(I)V" } : Jvm.MethodName)) ∈ lw_tbl := lw_at lw_m9 22 rfl
theorem q2106 : (Jvm.Cond.instanceMethod ({ cls := "AskingCourtModel", name := "fitsBy", desc := "(I)V" } : Jvm.MethodName)) ∈ lw_all := lw_g (lw_at lw_m9 23 rfl) rfl
theorem q2107 : (Jvm.Cond.code ({ cls := "AskingCourtModel", name := "fitsBy", desc := "(I)V" } : Jvm.MethodName) prog_19_method_90_code (6 : Nat) (Option.none : Option Jvm.ClassFile.FieldType)) ∈ lw_all := lw_g (lw_at lw_m9 24 rfl) rfl
theorem q2108 : (Jvm.Cond.methodLink "AskingCourtModel" (372 : Nat) ({ cls := "AskingCourtModel", name := "mayBe", desc := "(I)I" } : Jvm.MethodName)) ∈ lw_all := lw_g (lw_at lw_m9 25 rfl) rfl
theorem q2109 : (Jvm.Cond.privateMethod ({ cls := "AskingCourtModel", name := "mayBe", desc := "(I)I" } : Jvm.MethodName)) ∈ lw_tbl := lw_at lw_m9 26 rfl
theorem q2110 : (Jvm.Cond.instanceMethod ({ cls := "AskingCourtModel", name := "mayBe", desc := "(I)I" } : Jvm.MethodName)) ∈ lw_all := lw_g (lw_at lw_m9 27 rfl) rfl
theorem q2111 : (Jvm.Cond.code ({ cls := "AskingCourtModel", name := "mayBe", desc := "(I)I" } : Jvm.MethodName) prog_19_method_88_code (4 : Nat) (Option.some Jvm.ClassFile.FieldType.int)) ∈ lw_all := lw_g (lw_at lw_m9 28 rfl) rfl
theorem q2112 : (Jvm.Cond.methodLink "AskingCourtModel" (375 : Nat) ({ cls := "AskingCourtModel", name := "kindsFor", desc := "(IIII)I" } : Jvm.MethodName)) ∈ lw_all := lw_g (lw_at lw_m9 29 rfl) rfl
theorem q2113 : (Jvm.Cond.privateMethod ({ cls := "AskingCourtModel", name := "kindsFor", desc := "(IIII)I" } : Jvm.MethodName)) ∈ lw_tbl := lw_at lw_m9 30 rfl
theorem q2114 : (Jvm.Cond.instanceMethod ({ cls := "AskingCourtModel", name := "kindsFor", desc := "(IIII)I" } : Jvm.MethodName)) ∈ lw_all := lw_g (lw_at lw_m9 31 rfl) rfl
theorem q2115 : (Jvm.Cond.code ({ cls := "AskingCourtModel", name := "kindsFor", desc := "(IIII)I" } : Jvm.MethodName) prog_19_method_89_code (7 : Nat) (Option.some Jvm.ClassFile.FieldType.int)) ∈ lw_all := lw_g (lw_at lw_m9 32 rfl) rfl
theorem q2116 : (Jvm.Cond.methodLink "AskingCourtModel" (391 : Nat) ({ cls := "AskingCourtModel", name := "leftAt", desc := "(I)I" } : Jvm.MethodName)) ∈ lw_all := lw_g (lw_at lw_m9 33 rfl) rfl
theorem q2117 : (Jvm.Cond.privateMethod ({ cls := "AskingCourtModel", name := "leftAt", desc := "(I)I" } : Jvm.MethodName)) ∈ lw_tbl := lw_at lw_m9 34 rfl
theorem q2118 : (Jvm.Cond.instanceMethod ({ cls := "AskingCourtModel", name := "leftAt", desc := "(I)I" } : Jvm.MethodName)) ∈ lw_all := lw_g (lw_at lw_m9 35 rfl) rfl
theorem q2119 : (Jvm.Cond.code ({ cls := "AskingCourtModel", name := "leftAt", desc := "(I)I" } : Jvm.MethodName) prog_19_method_93_code (4 : Nat) (Option.some Jvm.ClassFile.FieldType.int)) ∈ lw_all := lw_g (lw_at lw_m9 36 rfl) rfl
theorem q2120 : (Jvm.Cond.methodLink "AskingCourtModel" (381 : Nat) ({ cls := "AskingCourtModel", name := "isLeftAt", desc := "(II)Z" } : Jvm.MethodName)) ∈ lw_all := lw_g (lw_at lw_m9 37 rfl) rfl
theorem q2121 : (Jvm.Cond.privateMethod ({ cls := "AskingCourtModel", name := "isLeftAt", desc := "(II)Z" } : Jvm.MethodName)) ∈ lw_tbl := lw_at lw_m9 38 rfl
theorem q2122 : (Jvm.Cond.instanceMethod ({ cls := "AskingCourtModel", name := "isLeftAt", desc := "(II)Z" } : Jvm.MethodName)) ∈ lw_all := lw_g (lw_at lw_m9 39 rfl) rfl
theorem q2123 : (Jvm.Cond.code ({ cls := "AskingCourtModel", name := "isLeftAt", desc := "(II)Z" } : Jvm.MethodName) prog_19_method_92_code (5 : Nat) (Option.some Jvm.ClassFile.FieldType.boolean)) ∈ lw_all := lw_g (lw_at lw_m9 40 rfl) rfl
theorem q2125 : (Jvm.Cond.instanceMethod ({ cls := "AskingCourtModel", name := "isLeft", desc := "(I)I" } : Jvm.MethodName)) ∈ lw_all := lw_g (lw_at lw_m9 42 rfl) rfl
theorem q2126 : (Jvm.Cond.selects "AskingCourtModel" ({ cls := "AskingCourtModel", name := "isLeft", desc := "(I)I" } : Jvm.MethodName) ({ cls := "AskingCourtModel", name := "isLeft", desc := "(I)I" } : Jvm.MethodName)) ∈ lw_all := lw_g (lw_at lw_m9 43 rfl) rfl
theorem q2127 : (Jvm.Cond.code ({ cls := "AskingCourtModel", name := "isLeft", desc := "(I)I" } : Jvm.MethodName) prog_19_method_101_code (2 : Nat) (Option.some Jvm.ClassFile.FieldType.int)) ∈ lw_all := lw_g (lw_at lw_m9 44 rfl) rfl
theorem q2129 : (Jvm.Cond.instanceMethod ({ cls := "AskingCourtModel", name := "fits", desc := "(III)I" } : Jvm.MethodName)) ∈ lw_all := lw_g (lw_at lw_m9 46 rfl) rfl
theorem q2130 : (Jvm.Cond.selects "AskingCourtModel" ({ cls := "AskingCourtModel", name := "fits", desc := "(III)I" } : Jvm.MethodName) ({ cls := "AskingCourtModel", name := "fits", desc := "(III)I" } : Jvm.MethodName)) ∈ lw_all := lw_g (lw_at lw_m9 47 rfl) rfl
theorem q2131 : (Jvm.Cond.code ({ cls := "AskingCourtModel", name := "fits", desc := "(III)I" } : Jvm.MethodName) prog_19_method_102_code (4 : Nat) (Option.some Jvm.ClassFile.FieldType.int)) ∈ lw_all := lw_g (lw_at lw_m9 48 rfl) rfl
theorem q2133 : (Jvm.Cond.instanceMethod ({ cls := "AskingCourtModel", name := "sure", desc := "(I)I" } : Jvm.MethodName)) ∈ lw_all := lw_g (lw_at lw_m9 50 rfl) rfl
theorem q2134 : (Jvm.Cond.selects "AskingCourtModel" ({ cls := "AskingCourtModel", name := "sure", desc := "(I)I" } : Jvm.MethodName) ({ cls := "AskingCourtModel", name := "sure", desc := "(I)I" } : Jvm.MethodName)) ∈ lw_all := lw_g (lw_at lw_m9 51 rfl) rfl
theorem q2135 : (Jvm.Cond.code ({ cls := "AskingCourtModel", name := "sure", desc := "(I)I" } : Jvm.MethodName) prog_19_method_103_code (3 : Nat) (Option.some Jvm.ClassFile.FieldType.int)) ∈ lw_all := lw_g (lw_at lw_m9 52 rfl) rfl
theorem q2136 : (Jvm.Cond.methodLink "AskingCourtModel" (394 : Nat) ({ cls := "AskingCourtModel", name := "sureAt", desc := "(II)I" } : Jvm.MethodName)) ∈ lw_all := lw_g (lw_at lw_m9 53 rfl) rfl
theorem q2137 : (Jvm.Cond.privateMethod ({ cls := "AskingCourtModel", name := "sureAt", desc := "(II)I" } : Jvm.MethodName)) ∈ lw_tbl := lw_at lw_m9 54 rfl
theorem q2138 : (Jvm.Cond.instanceMethod ({ cls := "AskingCourtModel", name := "sureAt", desc := "(II)I" } : Jvm.MethodName)) ∈ lw_all := lw_g (lw_at lw_m9 55 rfl) rfl
theorem q2139 : (Jvm.Cond.code ({ cls := "AskingCourtModel", name := "sureAt", desc := "(II)I" } : Jvm.MethodName) prog_19_method_94_code (6 : Nat) (Option.some Jvm.ClassFile.FieldType.int)) ∈ lw_all := lw_g (lw_at lw_m9 56 rfl) rfl
theorem q2141 : (Jvm.Cond.instanceMethod ({ cls := "AskingCourtModel", name := "chance", desc := "(I)Z" } : Jvm.MethodName)) ∈ lw_all := lw_g (lw_at lw_m9 58 rfl) rfl
theorem q2142 : (Jvm.Cond.selects "AskingCourtModel" ({ cls := "AskingCourtModel", name := "chance", desc := "(I)Z" } : Jvm.MethodName) ({ cls := "AskingCourtModel", name := "chance", desc := "(I)Z" } : Jvm.MethodName)) ∈ lw_all := lw_g (lw_at lw_m9 59 rfl) rfl
theorem q2143 : (Jvm.Cond.code ({ cls := "AskingCourtModel", name := "chance", desc := "(I)Z" } : Jvm.MethodName) prog_19_method_107_code (4 : Nat) (Option.some Jvm.ClassFile.FieldType.boolean)) ∈ lw_all := lw_g (lw_at lw_m9 60 rfl) rfl
theorem q2144 : (Jvm.Cond.methodLink "AskingCourtModel" (405 : Nat) ({ cls := "AskingCourtModel", name := "weightAll", desc := "(III)J" } : Jvm.MethodName)) ∈ lw_all := lw_g (lw_at lw_m9 61 rfl) rfl
theorem q2145 : (Jvm.Cond.privateMethod ({ cls := "AskingCourtModel", name := "weightAll", desc := "(III)J" } : Jvm.MethodName)) ∈ lw_tbl := lw_at lw_m9 62 rfl
theorem q2146 : (Jvm.Cond.instanceMethod ({ cls := "AskingCourtModel", name := "weightAll", desc := "(III)J" } : Jvm.MethodName)) ∈ lw_all := lw_g (lw_at lw_m9 63 rfl) rfl
theorem q2147 : (Jvm.Cond.code ({ cls := "AskingCourtModel", name := "weightAll", desc := "(III)J" } : Jvm.MethodName) prog_19_method_106_code (7 : Nat) (Option.some Jvm.ClassFile.FieldType.long)) ∈ lw_all := lw_g (lw_at lw_m9 64 rfl) rfl
theorem q2148 : (Jvm.Cond.methodLink "AskingCourtModel" (401 : Nat) ({ cls := "AskingCourtModel", name := "weightBy", desc := "(III)J" } : Jvm.MethodName)) ∈ lw_all := lw_g (lw_at lw_m9 65 rfl) rfl
theorem q2149 : (Jvm.Cond.privateMethod ({ cls := "AskingCourtModel", name := "weightBy", desc := "(III)J" } : Jvm.MethodName)) ∈ lw_tbl := lw_at lw_m9 66 rfl
theorem q2150 : (Jvm.Cond.instanceMethod ({ cls := "AskingCourtModel", name := "weightBy", desc := "(III)J" } : Jvm.MethodName)) ∈ lw_all := lw_g (lw_at lw_m9 67 rfl) rfl
theorem q2151 : (Jvm.Cond.code ({ cls := "AskingCourtModel", name := "weightBy", desc := "(III)J" } : Jvm.MethodName) prog_19_method_105_code (9 : Nat) (Option.some Jvm.ClassFile.FieldType.long)) ∈ lw_all := lw_g (lw_at lw_m9 68 rfl) rfl
theorem q2152 : (Jvm.Cond.methodLink "AskingCourtModel" (397 : Nat) ({ cls := "AskingCourtModel", name := "weightOf", desc := "(I)J" } : Jvm.MethodName)) ∈ lw_all := lw_g (lw_at lw_m9 69 rfl) rfl
theorem q2153 : (Jvm.Cond.privateMethod ({ cls := "AskingCourtModel", name := "weightOf", desc := "(I)J" } : Jvm.MethodName)) ∈ lw_tbl := lw_at lw_m9 70 rfl
theorem q2154 : (Jvm.Cond.instanceMethod ({ cls := "AskingCourtModel", name := "weightOf", desc := "(I)J" } : Jvm.MethodName)) ∈ lw_all := lw_g (lw_at lw_m9 71 rfl) rfl
theorem q2155 : (Jvm.Cond.code ({ cls := "AskingCourtModel", name := "weightOf", desc := "(I)J" } : Jvm.MethodName) prog_19_method_104_code (5 : Nat) (Option.some Jvm.ClassFile.FieldType.long)) ∈ lw_all := lw_g (lw_at lw_m9 72 rfl) rfl
theorem q2156 : (Jvm.Cond.methodLink "AskingCourtModel" (408 : Nat) ({ cls := "AskingCourtModel", name := "tellsBy", desc := "(JJ)Z" } : Jvm.MethodName)) ∈ lw_all := lw_g (lw_at lw_m9 73 rfl) rfl
theorem q2157 : (Jvm.Cond.privateMethod ({ cls := "AskingCourtModel", name := "tellsBy", desc := "(JJ)Z" } : Jvm.MethodName)) ∈ lw_tbl := lw_at lw_m9 74 rfl
theorem q2158 : (Jvm.Cond.instanceMethod ({ cls := "AskingCourtModel", name := "tellsBy", desc := "(JJ)Z" } : Jvm.MethodName)) ∈ lw_all := lw_g (lw_at lw_m9 75 rfl) rfl
theorem q2159 : (Jvm.Cond.code ({ cls := "AskingCourtModel", name := "tellsBy", desc := "(JJ)Z" } : Jvm.MethodName) prog_19_method_10_code (11 : Nat) (Option.some Jvm.ClassFile.FieldType.boolean)) ∈ lw_all := lw_g (lw_at lw_m9 76 rfl) rfl
theorem q2161 : (Jvm.Cond.instanceMethod ({ cls := "AskingCourtModel", name := "trust", desc := "(II)Z" } : Jvm.MethodName)) ∈ lw_all := lw_g (lw_at lw_m9 78 rfl) rfl
theorem q2162 : (Jvm.Cond.selects "AskingCourtModel" ({ cls := "AskingCourtModel", name := "trust", desc := "(II)Z" } : Jvm.MethodName) ({ cls := "AskingCourtModel", name := "trust", desc := "(II)Z" } : Jvm.MethodName)) ∈ lw_all := lw_g (lw_at lw_m9 79 rfl) rfl
theorem q2163 : (Jvm.Cond.code ({ cls := "AskingCourtModel", name := "trust", desc := "(II)Z" } : Jvm.MethodName) prog_19_method_108_code (5 : Nat) (Option.some Jvm.ClassFile.FieldType.boolean)) ∈ lw_all := lw_g (lw_at lw_m9 80 rfl) rfl
theorem q2165 : (Jvm.Cond.instanceMethod ({ cls := "AskingCourtModel", name := "because", desc := "(I)I" } : Jvm.MethodName)) ∈ lw_all := lw_g (lw_at lw_m9 82 rfl) rfl
theorem q2166 : (Jvm.Cond.selects "AskingCourtModel" ({ cls := "AskingCourtModel", name := "because", desc := "(I)I" } : Jvm.MethodName) ({ cls := "AskingCourtModel", name := "because", desc := "(I)I" } : Jvm.MethodName)) ∈ lw_all := lw_g (lw_at lw_m9 83 rfl) rfl
theorem q2167 : (Jvm.Cond.code ({ cls := "AskingCourtModel", name := "because", desc := "(I)I" } : Jvm.MethodName) prog_19_method_111_code (5 : Nat) (Option.some Jvm.ClassFile.FieldType.int)) ∈ lw_all := lw_g (lw_at lw_m9 84 rfl) rfl
theorem q2168 : (Jvm.Cond.methodLink "AskingCourtModel" (412 : Nat) ({ cls := "AskingCourtModel", name := "bits", desc := "(I)I" } : Jvm.MethodName)) ∈ lw_all := lw_g (lw_at lw_m9 85 rfl) rfl
theorem q2169 : (Jvm.Cond.static ({ cls := "AskingCourtModel", name := "bits", desc := "(I)I" } : Jvm.MethodName)) ∈ lw_all := lw_g (lw_at lw_m9 86 rfl) rfl
theorem q2170 : (Jvm.Cond.code ({ cls := "AskingCourtModel", name := "bits", desc := "(I)I" } : Jvm.MethodName) prog_19_method_109_code (3 : Nat) (Option.some Jvm.ClassFile.FieldType.int)) ∈ lw_all := lw_g (lw_at lw_m9 87 rfl) rfl
theorem q2171 : (Jvm.Cond.methodLink "AskingCourtModel" (415 : Nat) ({ cls := "AskingCourtModel", name := "isSureBy", desc := "(III)Z" } : Jvm.MethodName)) ∈ lw_all := lw_g (lw_at lw_m9 88 rfl) rfl
theorem q2172 : (Jvm.Cond.privateMethod ({ cls := "AskingCourtModel", name := "isSureBy", desc := "(III)Z" } : Jvm.MethodName)) ∈ lw_tbl := lw_at lw_m9 89 rfl
theorem q2173 : (Jvm.Cond.instanceMethod ({ cls := "AskingCourtModel", name := "isSureBy", desc := "(III)Z" } : Jvm.MethodName)) ∈ lw_all := lw_g (lw_at lw_m9 90 rfl) rfl
theorem q2174 : (Jvm.Cond.code ({ cls := "AskingCourtModel", name := "isSureBy", desc := "(III)Z" } : Jvm.MethodName) prog_19_method_110_code (9 : Nat) (Option.some Jvm.ClassFile.FieldType.boolean)) ∈ lw_all := lw_g (lw_at lw_m9 91 rfl) rfl
theorem q2176 : (Jvm.Cond.instanceMethod ({ cls := "AskingCourtModel", name := "gave", desc := "(I)I" } : Jvm.MethodName)) ∈ lw_all := lw_g (lw_at lw_m9 93 rfl) rfl
theorem q2177 : (Jvm.Cond.selects "AskingCourtModel" ({ cls := "AskingCourtModel", name := "gave", desc := "(I)I" } : Jvm.MethodName) ({ cls := "AskingCourtModel", name := "gave", desc := "(I)I" } : Jvm.MethodName)) ∈ lw_all := lw_g (lw_at lw_m9 94 rfl) rfl
theorem q2178 : (Jvm.Cond.code ({ cls := "AskingCourtModel", name := "gave", desc := "(I)I" } : Jvm.MethodName) prog_19_method_112_code (2 : Nat) (Option.some Jvm.ClassFile.FieldType.int)) ∈ lw_all := lw_g (lw_at lw_m9 95 rfl) rfl
theorem q2180 : (Jvm.Cond.instanceMethod ({ cls := "AskingCourtModel", name := "fees", desc := "()I" } : Jvm.MethodName)) ∈ lw_all := lw_g (lw_at lw_m9 97 rfl) rfl
theorem q2181 : (Jvm.Cond.selects "AskingCourtModel" ({ cls := "AskingCourtModel", name := "fees", desc := "()I" } : Jvm.MethodName) ({ cls := "AskingCourtModel", name := "fees", desc := "()I" } : Jvm.MethodName)) ∈ lw_all := lw_g (lw_at lw_m9 98 rfl) rfl
theorem q2182 : (Jvm.Cond.code ({ cls := "AskingCourtModel", name := "fees", desc := "()I" } : Jvm.MethodName) prog_19_method_114_code (1 : Nat) (Option.some Jvm.ClassFile.FieldType.int)) ∈ lw_all := lw_g (lw_at lw_m9 99 rfl) rfl
theorem q2183 : (Jvm.Cond.methodLink "AskingCourtModel" (418 : Nat) ({ cls := "AskingCourtModel", name := "feesOf", desc := "()I" } : Jvm.MethodName)) ∈ lw_all := lw_g (lw_at lw_m9 100 rfl) rfl
theorem q2184 : (Jvm.Cond.privateMethod ({ cls := "AskingCourtModel", name := "feesOf", desc := "()I" } : Jvm.MethodName)) ∈ lw_tbl := lw_at lw_m9 101 rfl
theorem q2185 : (Jvm.Cond.instanceMethod ({ cls := "AskingCourtModel", name := "feesOf", desc := "()I" } : Jvm.MethodName)) ∈ lw_all := lw_g (lw_at lw_m9 102 rfl) rfl
theorem q2186 : (Jvm.Cond.code ({ cls := "AskingCourtModel", name := "feesOf", desc := "()I" } : Jvm.MethodName) prog_19_method_113_code (5 : Nat) (Option.some Jvm.ClassFile.FieldType.int)) ∈ lw_all := lw_g (lw_at lw_m9 103 rfl) rfl
theorem q2188 : (Jvm.Cond.instanceMethod ({ cls := "AskingCourtModel", name := "worst", desc := "(II)I" } : Jvm.MethodName)) ∈ lw_all := lw_g (lw_at lw_m9 105 rfl) rfl
theorem q2189 : (Jvm.Cond.selects "AskingCourtModel" ({ cls := "AskingCourtModel", name := "worst", desc := "(II)I" } : Jvm.MethodName) ({ cls := "AskingCourtModel", name := "worst", desc := "(II)I" } : Jvm.MethodName)) ∈ lw_all := lw_g (lw_at lw_m9 106 rfl) rfl
theorem q2190 : (Jvm.Cond.code ({ cls := "AskingCourtModel", name := "worst", desc := "(II)I" } : Jvm.MethodName) prog_19_method_117_code (3 : Nat) (Option.some Jvm.ClassFile.FieldType.int)) ∈ lw_all := lw_g (lw_at lw_m9 107 rfl) rfl
theorem q2191 : (Jvm.Cond.methodLink "AskingCourtModel" (427 : Nat) ({ cls := "AskingCourtModel", name := "worstOf", desc := "(II)I" } : Jvm.MethodName)) ∈ lw_all := lw_g (lw_at lw_m9 108 rfl) rfl
theorem q2192 : (Jvm.Cond.privateMethod ({ cls := "AskingCourtModel", name := "worstOf", desc := "(II)I" } : Jvm.MethodName)) ∈ lw_tbl := lw_at lw_m9 109 rfl
theorem q2193 : (Jvm.Cond.instanceMethod ({ cls := "AskingCourtModel", name := "worstOf", desc := "(II)I" } : Jvm.MethodName)) ∈ lw_all := lw_g (lw_at lw_m9 110 rfl) rfl
theorem q2194 : (Jvm.Cond.code ({ cls := "AskingCourtModel", name := "worstOf", desc := "(II)I" } : Jvm.MethodName) prog_19_method_116_code (5 : Nat) (Option.some Jvm.ClassFile.FieldType.int)) ∈ lw_all := lw_g (lw_at lw_m9 111 rfl) rfl
theorem q2195 : (Jvm.Cond.methodLink "AskingCourtModel" (421 : Nat) ({ cls := "AskingCourtModel", name := "answered", desc := "(IIII)I" } : Jvm.MethodName)) ∈ lw_all := lw_g (lw_at lw_m9 112 rfl) rfl
theorem q2196 : (Jvm.Cond.privateMethod ({ cls := "AskingCourtModel", name := "answered", desc := "(IIII)I" } : Jvm.MethodName)) ∈ lw_tbl := lw_at lw_m9 113 rfl
theorem q2197 : (Jvm.Cond.instanceMethod ({ cls := "AskingCourtModel", name := "answered", desc := "(IIII)I" } : Jvm.MethodName)) ∈ lw_all := lw_g (lw_at lw_m9 114 rfl) rfl
theorem q2198 : (Jvm.Cond.code ({ cls := "AskingCourtModel", name := "answered", desc := "(IIII)I" } : Jvm.MethodName) prog_19_method_115_code (9 : Nat) (Option.some Jvm.ClassFile.FieldType.int)) ∈ lw_all := lw_g (lw_at lw_m9 115 rfl) rfl
theorem q2199 : (Jvm.Cond.methodLink "AskingCourtModel" (424 : Nat) ({ cls := "java/lang/Math", name := "max", desc := "(II)I" } : Jvm.MethodName)) ∈ lw_all := lw_g (lw_at lw_m9 116 rfl) rfl
theorem q2201 : (Jvm.Cond.instanceMethod ({ cls := "AskingCourtModel", name := "best", desc := "(I)I" } : Jvm.MethodName)) ∈ lw_all := lw_g (lw_at lw_m9 118 rfl) rfl
theorem q2202 : (Jvm.Cond.selects "AskingCourtModel" ({ cls := "AskingCourtModel", name := "best", desc := "(I)I" } : Jvm.MethodName) ({ cls := "AskingCourtModel", name := "best", desc := "(I)I" } : Jvm.MethodName)) ∈ lw_all := lw_g (lw_at lw_m9 119 rfl) rfl
theorem q2203 : (Jvm.Cond.code ({ cls := "AskingCourtModel", name := "best", desc := "(I)I" } : Jvm.MethodName) prog_19_method_119_code (3 : Nat) (Option.some Jvm.ClassFile.FieldType.int)) ∈ lw_all := lw_g (lw_at lw_m9 120 rfl) rfl
theorem q2204 : (Jvm.Cond.methodLink "AskingCourtModel" (430 : Nat) ({ cls := "AskingCourtModel", name := "bestOf", desc := "(I)I" } : Jvm.MethodName)) ∈ lw_all := lw_g (lw_at lw_m9 121 rfl) rfl
theorem q2205 : (Jvm.Cond.privateMethod ({ cls := "AskingCourtModel", name := "bestOf", desc := "(I)I" } : Jvm.MethodName)) ∈ lw_tbl := lw_at lw_m9 122 rfl
theorem q2206 : (Jvm.Cond.instanceMethod ({ cls := "AskingCourtModel", name := "bestOf", desc := "(I)I" } : Jvm.MethodName)) ∈ lw_all := lw_g (lw_at lw_m9 123 rfl) rfl
theorem q2207 : (Jvm.Cond.code ({ cls := "AskingCourtModel", name := "bestOf", desc := "(I)I" } : Jvm.MethodName) prog_19_method_118_code (6 : Nat) (Option.some Jvm.ClassFile.FieldType.int)) ∈ lw_all := lw_g (lw_at lw_m9 124 rfl) rfl
theorem q2209 : (Jvm.Cond.instanceMethod ({ cls := "AskingCourtModel", name := "shortest", desc := "(II)I" } : Jvm.MethodName)) ∈ lw_all := lw_g (lw_at lw_m9 126 rfl) rfl
theorem q2210 : (Jvm.Cond.selects "AskingCourtModel" ({ cls := "AskingCourtModel", name := "shortest", desc := "(II)I" } : Jvm.MethodName) ({ cls := "AskingCourtModel", name := "shortest", desc := "(II)I" } : Jvm.MethodName)) ∈ lw_all := lw_g (lw_at lw_m9 127 rfl) rfl
theorem q2211 : (Jvm.Cond.code ({ cls := "AskingCourtModel", name := "shortest", desc := "(II)I" } : Jvm.MethodName) prog_19_method_127_code (4 : Nat) (Option.some Jvm.ClassFile.FieldType.int)) ∈ lw_all := lw_g (lw_at lw_m9 128 rfl) rfl
theorem q2212 : (Jvm.Cond.methodLink "AskingCourtModel" (456 : Nat) ({ cls := "AskingCourtModel", name := "areEnough", desc := "(III)Z" } : Jvm.MethodName)) ∈ lw_all := lw_g (lw_at lw_m9 129 rfl) rfl
theorem q2213 : (Jvm.Cond.privateMethod ({ cls := "AskingCourtModel", name := "areEnough", desc := "(III)Z" } : Jvm.MethodName)) ∈ lw_tbl := lw_at lw_m9 130 rfl
theorem q2214 : (Jvm.Cond.instanceMethod ({ cls := "AskingCourtModel", name := "areEnough", desc := "(III)Z" } : Jvm.MethodName)) ∈ lw_all := lw_g (lw_at lw_m9 131 rfl) rfl
theorem q2215 : (Jvm.Cond.code ({ cls := "AskingCourtModel", name := "areEnough", desc := "(III)Z" } : Jvm.MethodName) prog_19_method_126_code (6 : Nat) (Option.some Jvm.ClassFile.FieldType.boolean)) ∈ lw_all := lw_g (lw_at lw_m9 132 rfl) rfl
theorem q2216 : (Jvm.Cond.methodLink "AskingCourtModel" (433 : Nat) ({ cls := "AskingCourtModel", name := "isAsked", desc := "(II)Z" } : Jvm.MethodName)) ∈ lw_all := lw_g (lw_at lw_m9 133 rfl) rfl
theorem q2217 : (Jvm.Cond.privateMethod ({ cls := "AskingCourtModel", name := "isAsked", desc := "(II)Z" } : Jvm.MethodName)) ∈ lw_tbl := lw_at lw_m9 134 rfl
theorem q2218 : (Jvm.Cond.instanceMethod ({ cls := "AskingCourtModel", name := "isAsked", desc := "(II)Z" } : Jvm.MethodName)) ∈ lw_all := lw_g (lw_at lw_m9 135 rfl) rfl
theorem q2219 : (Jvm.Cond.code ({ cls := "AskingCourtModel", name := "isAsked", desc := "(II)Z" } : Jvm.MethodName) prog_19_method_120_code (3 : Nat) (Option.some Jvm.ClassFile.FieldType.boolean)) ∈ lw_all := lw_g (lw_at lw_m9 136 rfl) rfl
theorem q2220 : (Jvm.Cond.methodLink "AskingCourtModel" (436 : Nat) ({ cls := "AskingCourtModel", name := "oneIs", desc := "(IIII)Z" } : Jvm.MethodName)) ∈ lw_all := lw_g (lw_at lw_m9 137 rfl) rfl
theorem q2221 : (Jvm.Cond.privateMethod ({ cls := "AskingCourtModel", name := "oneIs", desc := "(IIII)Z" } : Jvm.MethodName)) ∈ lw_tbl := lw_at lw_m9 138 rfl
theorem q2222 : (Jvm.Cond.instanceMethod ({ cls := "AskingCourtModel", name := "oneIs", desc := "(IIII)Z" } : Jvm.MethodName)) ∈ lw_all := lw_g (lw_at lw_m9 139 rfl) rfl
theorem q2223 : (Jvm.Cond.code ({ cls := "AskingCourtModel", name := "oneIs", desc := "(IIII)Z" } : Jvm.MethodName) prog_19_method_122_code (6 : Nat) (Option.some Jvm.ClassFile.FieldType.boolean)) ∈ lw_all := lw_g (lw_at lw_m9 140 rfl) rfl
theorem q2224 : (Jvm.Cond.methodLink "AskingCourtModel" (440 : Nat) ({ cls := "AskingCourtModel", name := "twoAre", desc := "(IIIII)Z" } : Jvm.MethodName)) ∈ lw_all := lw_g (lw_at lw_m9 141 rfl) rfl
theorem q2225 : (Jvm.Cond.privateMethod ({ cls := "AskingCourtModel", name := "twoAre", desc := "(IIIII)Z" } : Jvm.MethodName)) ∈ lw_tbl := lw_at lw_m9 142 rfl
theorem q2226 : (Jvm.Cond.instanceMethod ({ cls := "AskingCourtModel", name := "twoAre", desc := "(IIIII)Z" } : Jvm.MethodName)) ∈ lw_all := lw_g (lw_at lw_m9 143 rfl) rfl
theorem q2227 : (Jvm.Cond.code ({ cls := "AskingCourtModel", name := "twoAre", desc := "(IIIII)Z" } : Jvm.MethodName) prog_19_method_124_code (8 : Nat) (Option.some Jvm.ClassFile.FieldType.boolean)) ∈ lw_all := lw_g (lw_at lw_m9 144 rfl) rfl
theorem q2228 : (Jvm.Cond.methodLink "AskingCourtModel" (444 : Nat) ({ cls := "AskingCourtModel", name := "byOne", desc := "(III)Z" } : Jvm.MethodName)) ∈ lw_all := lw_g (lw_at lw_m9 145 rfl) rfl
theorem q2229 : (Jvm.Cond.privateMethod ({ cls := "AskingCourtModel", name := "byOne", desc := "(III)Z" } : Jvm.MethodName)) ∈ lw_tbl := lw_at lw_m9 146 rfl
theorem q2230 : (Jvm.Cond.instanceMethod ({ cls := "AskingCourtModel", name := "byOne", desc := "(III)Z" } : Jvm.MethodName)) ∈ lw_all := lw_g (lw_at lw_m9 147 rfl) rfl
theorem q2231 : (Jvm.Cond.code ({ cls := "AskingCourtModel", name := "byOne", desc := "(III)Z" } : Jvm.MethodName) prog_19_method_121_code (6 : Nat) (Option.some Jvm.ClassFile.FieldType.boolean)) ∈ lw_all := lw_g (lw_at lw_m9 148 rfl) rfl
theorem q2232 : (Jvm.Cond.methodLink "AskingCourtModel" (450 : Nat) ({ cls := "AskingCourtModel", name := "threeAre", desc := "(IIII)Z" } : Jvm.MethodName)) ∈ lw_all := lw_g (lw_at lw_m9 149 rfl) rfl
theorem q2233 : (Jvm.Cond.privateMethod ({ cls := "AskingCourtModel", name := "threeAre", desc := "(IIII)Z" } : Jvm.MethodName)) ∈ lw_tbl := lw_at lw_m9 150 rfl
theorem q2234 : (Jvm.Cond.instanceMethod ({ cls := "AskingCourtModel", name := "threeAre", desc := "(IIII)Z" } : Jvm.MethodName)) ∈ lw_all := lw_g (lw_at lw_m9 151 rfl) rfl
theorem q2235 : (Jvm.Cond.code ({ cls := "AskingCourtModel", name := "threeAre", desc := "(IIII)Z" } : Jvm.MethodName) prog_19_method_125_code (7 : Nat) (Option.some Jvm.ClassFile.FieldType.boolean)) ∈ lw_all := lw_g (lw_at lw_m9 152 rfl) rfl
theorem q2236 : (Jvm.Cond.methodLink "AskingCourtModel" (447 : Nat) ({ cls := "AskingCourtModel", name := "byTwo", desc := "(III)Z" } : Jvm.MethodName)) ∈ lw_all := lw_g (lw_at lw_m9 153 rfl) rfl
theorem q2237 : (Jvm.Cond.privateMethod ({ cls := "AskingCourtModel", name := "byTwo", desc := "(III)Z" } : Jvm.MethodName)) ∈ lw_tbl := lw_at lw_m9 154 rfl
theorem q2238 : (Jvm.Cond.instanceMethod ({ cls := "AskingCourtModel", name := "byTwo", desc := "(III)Z" } : Jvm.MethodName)) ∈ lw_all := lw_g (lw_at lw_m9 155 rfl) rfl
theorem q2239 : (Jvm.Cond.code ({ cls := "AskingCourtModel", name := "byTwo", desc := "(III)Z" } : Jvm.MethodName) prog_19_method_123_code (6 : Nat) (Option.some Jvm.ClassFile.FieldType.boolean)) ∈ lw_all := lw_g (lw_at lw_m9 156 rfl) rfl
theorem q2241 : (Jvm.Cond.instanceMethod ({ cls := "AskingCourtModel", name := "shortestFirst", desc := "(I)I" } : Jvm.MethodName)) ∈ lw_all := lw_g (lw_at lw_m9 158 rfl) rfl
theorem q2242 : (Jvm.Cond.selects "AskingCourtModel" ({ cls := "AskingCourtModel", name := "shortestFirst", desc := "(I)I" } : Jvm.MethodName) ({ cls := "AskingCourtModel", name := "shortestFirst", desc := "(I)I" } : Jvm.MethodName)) ∈ lw_all := lw_g (lw_at lw_m9 159 rfl) rfl
theorem q2243 : (Jvm.Cond.code ({ cls := "AskingCourtModel", name := "shortestFirst", desc := "(I)I" } : Jvm.MethodName) prog_19_method_128_code (2 : Nat) (Option.some Jvm.ClassFile.FieldType.int)) ∈ lw_all := lw_g (lw_at lw_m9 160 rfl) rfl
theorem q2245 : (Jvm.Cond.instanceMethod ({ cls := "AskingCourtModel", name := "settled", desc := "()I" } : Jvm.MethodName)) ∈ lw_all := lw_g (lw_at lw_m9 162 rfl) rfl
theorem q2246 : (Jvm.Cond.selects "AskingCourtModel" ({ cls := "AskingCourtModel", name := "settled", desc := "()I" } : Jvm.MethodName) ({ cls := "AskingCourtModel", name := "settled", desc := "()I" } : Jvm.MethodName)) ∈ lw_all := lw_g (lw_at lw_m9 163 rfl) rfl
theorem q2247 : (Jvm.Cond.code ({ cls := "AskingCourtModel", name := "settled", desc := "()I" } : Jvm.MethodName) prog_19_method_129_code (3 : Nat) (Option.some Jvm.ClassFile.FieldType.int)) ∈ lw_all := lw_g (lw_at lw_m9 164 rfl) rfl
theorem q2249 : (Jvm.Cond.instanceMethod ({ cls := "AskingCourtModel", name := "bench", desc := "()I" } : Jvm.MethodName)) ∈ lw_all := lw_g (lw_at lw_m9 166 rfl) rfl
theorem q2250 : (Jvm.Cond.selects "AskingCourtModel" ({ cls := "AskingCourtModel", name := "bench", desc := "()I" } : Jvm.MethodName) ({ cls := "AskingCourtModel", name := "bench", desc := "()I" } : Jvm.MethodName)) ∈ lw_all := lw_g (lw_at lw_m9 167 rfl) rfl
theorem q2251 : (Jvm.Cond.code ({ cls := "AskingCourtModel", name := "bench", desc := "()I" } : Jvm.MethodName) prog_19_method_131_code (1 : Nat) (Option.some Jvm.ClassFile.FieldType.int)) ∈ lw_all := lw_g (lw_at lw_m9 168 rfl) rfl
theorem q2252 : (Jvm.Cond.methodLink "AskingCourtModel" (459 : Nat) ({ cls := "AskingCourtModel", name := "benchBy", desc := "(I)I" } : Jvm.MethodName)) ∈ lw_all := lw_g (lw_at lw_m9 169 rfl) rfl
theorem q2253 : (Jvm.Cond.privateMethod ({ cls := "AskingCourtModel", name := "benchBy", desc := "(I)I" } : Jvm.MethodName)) ∈ lw_tbl := lw_at lw_m9 170 rfl
theorem q2254 : (Jvm.Cond.instanceMethod ({ cls := "AskingCourtModel", name := "benchBy", desc := "(I)I" } : Jvm.MethodName)) ∈ lw_all := lw_g (lw_at lw_m9 171 rfl) rfl
theorem q2255 : (Jvm.Cond.code ({ cls := "AskingCourtModel", name := "benchBy", desc := "(I)I" } : Jvm.MethodName) prog_19_method_130_code (6 : Nat) (Option.some Jvm.ClassFile.FieldType.int)) ∈ lw_all := lw_g (lw_at lw_m9 172 rfl) rfl
theorem q2257 : (Jvm.Cond.instanceMethod ({ cls := "AskingCourtModel", name := "clash", desc := "()I" } : Jvm.MethodName)) ∈ lw_all := lw_g (lw_at lw_m9 174 rfl) rfl
theorem q2258 : (Jvm.Cond.selects "AskingCourtModel" ({ cls := "AskingCourtModel", name := "clash", desc := "()I" } : Jvm.MethodName) ({ cls := "AskingCourtModel", name := "clash", desc := "()I" } : Jvm.MethodName)) ∈ lw_all := lw_g (lw_at lw_m9 175 rfl) rfl
theorem q2259 : (Jvm.Cond.code ({ cls := "AskingCourtModel", name := "clash", desc := "()I" } : Jvm.MethodName) prog_19_method_132_code (2 : Nat) (Option.some Jvm.ClassFile.FieldType.int)) ∈ lw_all := lw_g (lw_at lw_m9 176 rfl) rfl
theorem q2261 : (Jvm.Cond.instanceMethod ({ cls := "AskingCourtModel", name := "liars", desc := "()I" } : Jvm.MethodName)) ∈ lw_all := lw_g (lw_at lw_m9 178 rfl) rfl
theorem q2262 : (Jvm.Cond.selects "AskingCourtModel" ({ cls := "AskingCourtModel", name := "liars", desc := "()I" } : Jvm.MethodName) ({ cls := "AskingCourtModel", name := "liars", desc := "()I" } : Jvm.MethodName)) ∈ lw_all := lw_g (lw_at lw_m9 179 rfl) rfl
theorem q2263 : (Jvm.Cond.code ({ cls := "AskingCourtModel", name := "liars", desc := "()I" } : Jvm.MethodName) prog_19_method_134_code (5 : Nat) (Option.some Jvm.ClassFile.FieldType.int)) ∈ lw_all := lw_g (lw_at lw_m9 180 rfl) rfl
theorem q2264 : (Jvm.Cond.methodLink "AskingCourtModel" (462 : Nat) ({ cls := "AskingCourtModel", name := "answersHonestly", desc := "(II)Z" } : Jvm.MethodName)) ∈ lw_all := lw_g (lw_at lw_m9 181 rfl) rfl
theorem q2265 : (Jvm.Cond.privateMethod ({ cls := "AskingCourtModel", name := "answersHonestly", desc := "(II)Z" } : Jvm.MethodName)) ∈ lw_tbl := lw_at lw_m9 182 rfl
theorem q2266 : (Jvm.Cond.instanceMethod ({ cls := "AskingCourtModel", name := "answersHonestly", desc := "(II)Z" } : Jvm.MethodName)) ∈ lw_all := lw_g (lw_at lw_m9 183 rfl) rfl
theorem q2267 : (Jvm.Cond.code ({ cls := "AskingCourtModel", name := "answersHonestly", desc := "(II)Z" } : Jvm.MethodName) prog_19_method_133_code (4 : Nat) (Option.some Jvm.ClassFile.FieldType.boolean)) ∈ lw_all := lw_g (lw_at lw_m9 184 rfl) rfl
theorem q2269 : (Jvm.Cond.instanceMethod ({ cls := "AskingCourtModel", name := "sit", desc := "(I)I" } : Jvm.MethodName)) ∈ lw_all := lw_g (lw_at lw_m9 186 rfl) rfl
theorem q2270 : (Jvm.Cond.selects "AskingCourtModel" ({ cls := "AskingCourtModel", name := "sit", desc := "(I)I" } : Jvm.MethodName) ({ cls := "AskingCourtModel", name := "sit", desc := "(I)I" } : Jvm.MethodName)) ∈ lw_all := lw_g (lw_at lw_m9 187 rfl) rfl
theorem q2271 : (Jvm.Cond.code ({ cls := "AskingCourtModel", name := "sit", desc := "(I)I" } : Jvm.MethodName) prog_19_method_143_code (3 : Nat) (Option.some Jvm.ClassFile.FieldType.int)) ∈ lw_all := lw_g (lw_at lw_m9 188 rfl) rfl
theorem q2272 : (Jvm.Cond.constantLong "AskingCourtModel" (498 : Nat) (9999 : Int64)) ∈ lw_all := lw_g (lw_at lw_m9 189 rfl) rfl
theorem q2273 : (Jvm.Cond.methodLink "AskingCourtModel" (500 : Nat) ({ cls := "AskingCourtModel", name := "isFrom", desc := "(JJJ)Z" } : Jvm.MethodName)) ∈ lw_all := lw_g (lw_at lw_m9 190 rfl) rfl
theorem q2274 : (Jvm.Cond.static ({ cls := "AskingCourtModel", name := "isFrom", desc := "(JJJ)Z" } : Jvm.MethodName)) ∈ lw_all := lw_g (lw_at lw_m9 191 rfl) rfl
theorem q2275 : (Jvm.Cond.code ({ cls := "AskingCourtModel", name := "isFrom", desc := "(JJJ)Z" } : Jvm.MethodName) prog_19_method_18_code (6 : Nat) (Option.some Jvm.ClassFile.FieldType.boolean)) ∈ lw_all := lw_g (lw_at lw_m9 192 rfl) rfl
theorem q2276 : (Jvm.Cond.methodLink "AskingCourtModel" (504 : Nat) ({ cls := "AskingCourtModel", name := "canSit", desc := "()Z" } : Jvm.MethodName)) ∈ lw_all := lw_g (lw_at lw_m9 193 rfl) rfl
theorem q2277 : (Jvm.Cond.privateMethod ({ cls := "AskingCourtModel", name := "canSit", desc := "()Z" } : Jvm.MethodName)) ∈ lw_tbl := lw_at lw_m9 194 rfl
theorem q2278 : (Jvm.Cond.instanceMethod ({ cls := "AskingCourtModel", name := "canSit", desc := "()Z" } : Jvm.MethodName)) ∈ lw_all := lw_g (lw_at lw_m9 195 rfl) rfl
theorem q2279 : (Jvm.Cond.code ({ cls := "AskingCourtModel", name := "canSit", desc := "()Z" } : Jvm.MethodName) prog_19_method_142_code (1 : Nat) (Option.some Jvm.ClassFile.FieldType.boolean)) ∈ lw_all := lw_g (lw_at lw_m9 196 rfl) rfl
theorem q2280 : (Jvm.Cond.methodLink "AskingCourtModel" (507 : Nat) ({ cls := "AskingCourtModel", name := "sits", desc := "(I)V" } : Jvm.MethodName)) ∈ lw_all := lw_g (lw_at lw_m9 197 rfl) rfl
theorem q2281 : (Jvm.Cond.privateMethod ({ cls := "AskingCourtModel", name := "sits", desc := "(I)V" } : Jvm.MethodName)) ∈ lw_tbl := lw_at lw_m9 198 rfl
theorem q2282 : (Jvm.Cond.instanceMethod ({ cls := "AskingCourtModel", name := "sits", desc := "(I)V" } : Jvm.MethodName)) ∈ lw_all := lw_g (lw_at lw_m9 199 rfl) rfl
theorem q2283 : (Jvm.Cond.code ({ cls := "AskingCourtModel", name := "sits", desc := "(I)V" } : Jvm.MethodName) prog_19_method_141_code (6 : Nat) (Option.none : Option Jvm.ClassFile.FieldType)) ∈ lw_all := lw_g (lw_at lw_m9 200 rfl) rfl
theorem q2284 : (Jvm.Cond.methodLink "AskingCourtModel" (492 : Nat) ({ cls := "AskingCourtModel", name := "drawsTruth", desc := "()V" } : Jvm.MethodName)) ∈ lw_all := lw_g (lw_at lw_m9 201 rfl) rfl
theorem q2285 : (Jvm.Cond.privateMethod ({ cls := "AskingCourtModel", name := "drawsTruth", desc := "()V" } : Jvm.MethodName)) ∈ lw_tbl := lw_at lw_m9 202 rfl
theorem q2286 : (Jvm.Cond.instanceMethod ({ cls := "AskingCourtModel", name := "drawsTruth", desc := "()V" } : Jvm.MethodName)) ∈ lw_all := lw_g (lw_at lw_m9 203 rfl) rfl
theorem q2287 : (Jvm.Cond.code ({ cls := "AskingCourtModel", name := "drawsTruth", desc := "()V" } : Jvm.MethodName) prog_19_method_136_code (9 : Nat) (Option.none : Option Jvm.ClassFile.FieldType)) ∈ lw_all := lw_g (lw_at lw_m9 204 rfl) rfl
theorem q2288 : (Jvm.Cond.methodLink "AskingCourtModel" (469 : Nat) ({ cls := "AskingCourtModel", name := "draw", desc := "(J)I" } : Jvm.MethodName)) ∈ lw_all := lw_g (lw_at lw_m9 205 rfl) rfl
theorem q2289 : (Jvm.Cond.privateMethod ({ cls := "AskingCourtModel", name := "draw", desc := "(J)I" } : Jvm.MethodName)) ∈ lw_tbl := lw_at lw_m9 206 rfl
theorem q2290 : (Jvm.Cond.instanceMethod ({ cls := "AskingCourtModel", name := "draw", desc := "(J)I" } : Jvm.MethodName)) ∈ lw_all := lw_g (lw_at lw_m9 207 rfl) rfl
theorem q2291 : (Jvm.Cond.code ({ cls := "AskingCourtModel", name := "draw", desc := "(J)I" } : Jvm.MethodName) prog_19_method_135_code (3 : Nat) (Option.some Jvm.ClassFile.FieldType.int)) ∈ lw_all := lw_g (lw_at lw_m9 208 rfl) rfl
theorem q2292 : (Jvm.Cond.constant "AskingCourtModel" (468 : Nat) (65536 : Int32)) ∈ lw_all := lw_g (lw_at lw_m9 209 rfl) rfl
theorem q2293 : (Jvm.Cond.constantLong "AskingCourtModel" (476 : Nat) (16 : Int64)) ∈ lw_all := lw_g (lw_at lw_m9 210 rfl) rfl
theorem q2294 : (Jvm.Cond.methodLink "AskingCourtModel" (495 : Nat) ({ cls := "AskingCourtModel", name := "doesStep", desc := "(I)I" } : Jvm.MethodName)) ∈ lw_all := lw_g (lw_at lw_m9 211 rfl) rfl
theorem q2295 : (Jvm.Cond.privateMethod ({ cls := "AskingCourtModel", name := "doesStep", desc := "(I)I" } : Jvm.MethodName)) ∈ lw_tbl := lw_at lw_m9 212 rfl
theorem q2296 : (Jvm.Cond.instanceMethod ({ cls := "AskingCourtModel", name := "doesStep", desc := "(I)I" } : Jvm.MethodName)) ∈ lw_all := lw_g (lw_at lw_m9 213 rfl) rfl
theorem q2297 : (Jvm.Cond.code ({ cls := "AskingCourtModel", name := "doesStep", desc := "(I)I" } : Jvm.MethodName) prog_19_method_140_code (6 : Nat) (Option.some Jvm.ClassFile.FieldType.int)) ∈ lw_all := lw_g (lw_at lw_m9 214 rfl) rfl
theorem q2298 : (Jvm.Cond.methodLink "AskingCourtModel" (483 : Nat) ({ cls := "AskingCourtModel", name := "puts", desc := "(II)V" } : Jvm.MethodName)) ∈ lw_all := lw_g (lw_at lw_m9 215 rfl) rfl
theorem q2299 : (Jvm.Cond.privateMethod ({ cls := "AskingCourtModel", name := "puts", desc := "(II)V" } : Jvm.MethodName)) ∈ lw_tbl := lw_at lw_m9 216 rfl
theorem q2300 : (Jvm.Cond.instanceMethod ({ cls := "AskingCourtModel", name := "puts", desc := "(II)V" } : Jvm.MethodName)) ∈ lw_all := lw_g (lw_at lw_m9 217 rfl) rfl
theorem q2301 : (Jvm.Cond.code ({ cls := "AskingCourtModel", name := "puts", desc := "(II)V" } : Jvm.MethodName) prog_19_method_137_code (3 : Nat) (Option.none : Option Jvm.ClassFile.FieldType)) ∈ lw_all := lw_g (lw_at lw_m9 218 rfl) rfl
theorem q2302 : (Jvm.Cond.methodLink "AskingCourtModel" (486 : Nat) ({ cls := "AskingCourtModel", name := "rules", desc := "(I)V" } : Jvm.MethodName)) ∈ lw_all := lw_g (lw_at lw_m9 219 rfl) rfl
theorem q2303 : (Jvm.Cond.privateMethod ({ cls := "AskingCourtModel", name := "rules", desc := "(I)V" } : Jvm.MethodName)) ∈ lw_tbl := lw_at lw_m9 220 rfl
theorem q2304 : (Jvm.Cond.instanceMethod ({ cls := "AskingCourtModel", name := "rules", desc := "(I)V" } : Jvm.MethodName)) ∈ lw_all := lw_g (lw_at lw_m9 221 rfl) rfl
theorem q2305 : (Jvm.Cond.code ({ cls := "AskingCourtModel", name := "rules", desc := "(I)V" } : Jvm.MethodName) prog_19_method_139_code (4 : Nat) (Option.none : Option Jvm.ClassFile.FieldType)) ∈ lw_all := lw_g (lw_at lw_m9 222 rfl) rfl
theorem q2306 : (Jvm.Cond.constantLong "AskingCourtModel" (478 : Nat) (2 : Int64)) ∈ lw_all := lw_g (lw_at lw_m9 223 rfl) rfl
theorem q2307 : (Jvm.Cond.methodLink "AskingCourtModel" (489 : Nat) ({ cls := "AskingCourtModel", name := "holdsNow", desc := "(I)Z" } : Jvm.MethodName)) ∈ lw_all := lw_g (lw_at lw_m9 224 rfl) rfl
theorem q2308 : (Jvm.Cond.privateMethod ({ cls := "AskingCourtModel", name := "holdsNow", desc := "(I)Z" } : Jvm.MethodName)) ∈ lw_tbl := lw_at lw_m9 225 rfl
theorem q2309 : (Jvm.Cond.instanceMethod ({ cls := "AskingCourtModel", name := "holdsNow", desc := "(I)Z" } : Jvm.MethodName)) ∈ lw_all := lw_g (lw_at lw_m9 226 rfl) rfl
theorem q2310 : (Jvm.Cond.code ({ cls := "AskingCourtModel", name := "holdsNow", desc := "(I)Z" } : Jvm.MethodName) prog_19_method_138_code (5 : Nat) (Option.some Jvm.ClassFile.FieldType.boolean)) ∈ lw_all := lw_g (lw_at lw_m9 227 rfl) rfl
theorem q2312 : (Jvm.Cond.instanceMethod ({ cls := "AskingCourtModel", name := "sat", desc := "(I)I" } : Jvm.MethodName)) ∈ lw_all := lw_g (lw_at lw_m9 229 rfl) rfl
theorem q2313 : (Jvm.Cond.selects "AskingCourtModel" ({ cls := "AskingCourtModel", name := "sat", desc := "(I)I" } : Jvm.MethodName) ({ cls := "AskingCourtModel", name := "sat", desc := "(I)I" } : Jvm.MethodName)) ∈ lw_all := lw_g (lw_at lw_m9 230 rfl) rfl
theorem q2314 : (Jvm.Cond.code ({ cls := "AskingCourtModel", name := "sat", desc := "(I)I" } : Jvm.MethodName) prog_19_method_144_code (2 : Nat) (Option.some Jvm.ClassFile.FieldType.int)) ∈ lw_all := lw_g (lw_at lw_m9 231 rfl) rfl
theorem q2316 : (Jvm.Cond.instanceMethod ({ cls := "AskingCourtModel", name := "tally", desc := "(III)I" } : Jvm.MethodName)) ∈ lw_all := lw_g (lw_at lw_m9 233 rfl) rfl
theorem q2317 : (Jvm.Cond.selects "AskingCourtModel" ({ cls := "AskingCourtModel", name := "tally", desc := "(III)I" } : Jvm.MethodName) ({ cls := "AskingCourtModel", name := "tally", desc := "(III)I" } : Jvm.MethodName)) ∈ lw_all := lw_g (lw_at lw_m9 234 rfl) rfl
theorem q2318 : (Jvm.Cond.code ({ cls := "AskingCourtModel", name := "tally", desc := "(III)I" } : Jvm.MethodName) prog_19_method_145_code (6 : Nat) (Option.some Jvm.ClassFile.FieldType.int)) ∈ lw_all := lw_g (lw_at lw_m9 235 rfl) rfl
theorem q2319 : (Jvm.Cond.constantLong "AskingCourtModel" (514 : Nat) (30 : Int64)) ∈ lw_all := lw_g (lw_at lw_m9 236 rfl) rfl
theorem q2321 : (Jvm.Cond.instanceMethod ({ cls := "AskingCourtModel", name := "mark", desc := "()I" } : Jvm.MethodName)) ∈ lw_all := lw_g (lw_at lw_m9 238 rfl) rfl
theorem q2322 : (Jvm.Cond.selects "AskingCourtModel" ({ cls := "AskingCourtModel", name := "mark", desc := "()I" } : Jvm.MethodName) ({ cls := "AskingCourtModel", name := "mark", desc := "()I" } : Jvm.MethodName)) ∈ lw_all := lw_g (lw_at lw_m9 239 rfl) rfl
theorem q2323 : (Jvm.Cond.code ({ cls := "AskingCourtModel", name := "mark", desc := "()I" } : Jvm.MethodName) prog_19_method_147_code (1 : Nat) (Option.some Jvm.ClassFile.FieldType.int)) ∈ lw_all := lw_g (lw_at lw_m10 0 rfl) rfl
theorem q2324 : (Jvm.Cond.methodLink "AskingCourtModel" (519 : Nat) ({ cls := "AskingCourtModel", name := "copies", desc := "(II)V" } : Jvm.MethodName)) ∈ lw_all := lw_g (lw_at lw_m10 1 rfl) rfl
theorem q2325 : (Jvm.Cond.privateMethod ({ cls := "AskingCourtModel", name := "copies", desc := "(II)V" } : Jvm.MethodName)) ∈ lw_tbl := lw_at lw_m10 2 rfl
theorem q2326 : (Jvm.Cond.instanceMethod ({ cls := "AskingCourtModel", name := "copies", desc := "(II)V" } : Jvm.MethodName)) ∈ lw_all := lw_g (lw_at lw_m10 3 rfl) rfl
theorem q2327 : (Jvm.Cond.code ({ cls := "AskingCourtModel", name := "copies", desc := "(II)V" } : Jvm.MethodName) prog_19_method_146_code (4 : Nat) (Option.none : Option Jvm.ClassFile.FieldType)) ∈ lw_all := lw_g (lw_at lw_m10 4 rfl) rfl
theorem q2329 : (Jvm.Cond.instanceMethod ({ cls := "AskingCourtModel", name := "back", desc := "()I" } : Jvm.MethodName)) ∈ lw_all := lw_g (lw_at lw_m10 6 rfl) rfl
theorem q2330 : (Jvm.Cond.selects "AskingCourtModel" ({ cls := "AskingCourtModel", name := "back", desc := "()I" } : Jvm.MethodName) ({ cls := "AskingCourtModel", name := "back", desc := "()I" } : Jvm.MethodName)) ∈ lw_all := lw_g (lw_at lw_m10 7 rfl) rfl
theorem q2331 : (Jvm.Cond.code ({ cls := "AskingCourtModel", name := "back", desc := "()I" } : Jvm.MethodName) prog_19_method_148_code (1 : Nat) (Option.some Jvm.ClassFile.FieldType.int)) ∈ lw_all := lw_g (lw_at lw_m10 8 rfl) rfl
theorem in_X9 : ∀ w ∈ wsX90, w ∈ lw_all := lw_in wsX90 [1694, 1696, 1698, 1700, 1702, 1704, 1706, 1708, 1710, 1712, 1714, 1716, 1718, 1720, 1722, 1724, 1726, 1728, 1730, 1732, 1734, 1736, 1738, 1740, 1742, 1744, 1746, 1748, 1750, 1752, 1754, 1756, 1758, 1760, 1762, 1764, 1766, 1768, 1770, 1772, 1774, 1776, 1778, 1780, 1782, 1784, 1786, 1788] (by decide +kernel) (by decide +kernel)
