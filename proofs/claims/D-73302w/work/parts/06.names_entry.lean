/-! RankEntry -/
set_option maxRecDepth 100000
def RX1 : String := "RankEntry"
def TX1 : u_T := fun k => match k with
  | 0 => ("RankEntry", "code", "LRankEntry$Code;", true)
  | 1 => ("RankEntry", "core", "LRankEntry$Core;", true)
  | 2 => ("RankEntry", "spare", "LRankEntry$Core;", true)
  | _ => ("RankEntry", "ways", "LRankEntry$Ways;", true)
def tyX1 : Nat → FieldType := fun k => match k with
  | 0 => .object "RankEntry$Code"
  | 1 => .object "RankEntry$Core"
  | 2 => .object "RankEntry$Core"
  | _ => .object "RankEntry$Ways"
abbrev wsX10 : List Cond := u_ws RX1 TX1 4
theorem nmX1 : ∀ a, a < 4 → ∀ b, b < 4 → a ≠ b → (TX1 a).2.1 ≠ (TX1 b).2.1 := by decide +kernel
theorem tyX1_ok : ∀ k, k < 4 → parseFieldDescriptor (TX1 k).2.2.1 = some (tyX1 k) := by decide +kernel
abbrev cX1_init : ByteArray := prog_1_method_5_code
def yX1_init : MethodName := ⟨RX1, "<init>", "()V"⟩
def dkwX1_init_2 : List UInt8 := [187, 0, 58, 89, 42, 180, 0, 42, 183, 0, 60, 181, 0, 61, 42, 180, 0, 51, 3, 181, 0, 65, 177]
abbrev dktX1_init_2 : List UInt8 := dkwX1_init_2 ++ []
def dkwX1_init_1 : List UInt8 := [183, 0, 48, 181, 0, 51, 42, 187, 0, 46, 89, 42, 180, 0, 42, 183, 0, 48, 181, 0, 55, 42]
abbrev dktX1_init_1 : List UInt8 := dkwX1_init_1 ++ dktX1_init_2
def dkwX1_init_0 : List UInt8 := [42, 183, 0, 34, 42, 187, 0, 39, 89, 183, 0, 41, 181, 0, 42, 42, 187, 0, 46, 89, 42, 180, 0, 42]
abbrev dktX1_init_0 : List UInt8 := dkwX1_init_0 ++ dktX1_init_1
theorem dksX1_init_0 : cX1_init.data.toList.drop 0 = dktX1_init_0 := by decide +kernel
theorem dksX1_init_1 : cX1_init.data.toList.drop 24 = dktX1_init_1 := dk_seg dksX1_init_0 24 rfl rfl
theorem dksX1_init_2 : cX1_init.data.toList.drop 46 = dktX1_init_2 := dk_seg dksX1_init_1 22 rfl rfl
theorem dX1_init_0 : decode cX1_init 0 = .ok (.aload_n 0, 1) := dk_42 (dk_at dksX1_init_0 0 rfl rfl)
theorem dX1_init_1 : decode cX1_init 1 = .ok (.invokespecial 34, 3) := dk_183 0 34 (dk_at dksX1_init_0 1 rfl rfl)
theorem dX1_init_4 : decode cX1_init 4 = .ok (.aload_n 0, 1) := dk_42 (dk_at dksX1_init_0 4 rfl rfl)
theorem dX1_init_5 : decode cX1_init 5 = .ok (.new 39, 3) := dk_187 0 39 (dk_at dksX1_init_0 5 rfl rfl)
theorem dX1_init_8 : decode cX1_init 8 = .ok (.dup, 1) := dk_89 (dk_at dksX1_init_0 8 rfl rfl)
theorem dX1_init_9 : decode cX1_init 9 = .ok (.invokespecial 41, 3) := dk_183 0 41 (dk_at dksX1_init_0 9 rfl rfl)
theorem dX1_init_12 : decode cX1_init 12 = .ok (.putfield 42, 3) := dk_181 0 42 (dk_at dksX1_init_0 12 rfl rfl)
theorem dX1_init_15 : decode cX1_init 15 = .ok (.aload_n 0, 1) := dk_42 (dk_at dksX1_init_0 15 rfl rfl)
theorem dX1_init_16 : decode cX1_init 16 = .ok (.new 46, 3) := dk_187 0 46 (dk_at dksX1_init_0 16 rfl rfl)
theorem dX1_init_19 : decode cX1_init 19 = .ok (.dup, 1) := dk_89 (dk_at dksX1_init_0 19 rfl rfl)
theorem dX1_init_20 : decode cX1_init 20 = .ok (.aload_n 0, 1) := dk_42 (dk_at dksX1_init_0 20 rfl rfl)
theorem dX1_init_21 : decode cX1_init 21 = .ok (.getfield 42, 3) := dk_180 0 42 (dk_at dksX1_init_0 21 rfl rfl)
theorem dX1_init_24 : decode cX1_init 24 = .ok (.invokespecial 48, 3) := dk_183 0 48 (dk_at dksX1_init_1 0 rfl rfl)
theorem dX1_init_27 : decode cX1_init 27 = .ok (.putfield 51, 3) := dk_181 0 51 (dk_at dksX1_init_1 3 rfl rfl)
theorem dX1_init_30 : decode cX1_init 30 = .ok (.aload_n 0, 1) := dk_42 (dk_at dksX1_init_1 6 rfl rfl)
theorem dX1_init_31 : decode cX1_init 31 = .ok (.new 46, 3) := dk_187 0 46 (dk_at dksX1_init_1 7 rfl rfl)
theorem dX1_init_34 : decode cX1_init 34 = .ok (.dup, 1) := dk_89 (dk_at dksX1_init_1 10 rfl rfl)
theorem dX1_init_35 : decode cX1_init 35 = .ok (.aload_n 0, 1) := dk_42 (dk_at dksX1_init_1 11 rfl rfl)
theorem dX1_init_36 : decode cX1_init 36 = .ok (.getfield 42, 3) := dk_180 0 42 (dk_at dksX1_init_1 12 rfl rfl)
theorem dX1_init_39 : decode cX1_init 39 = .ok (.invokespecial 48, 3) := dk_183 0 48 (dk_at dksX1_init_1 15 rfl rfl)
theorem dX1_init_42 : decode cX1_init 42 = .ok (.putfield 55, 3) := dk_181 0 55 (dk_at dksX1_init_1 18 rfl rfl)
theorem dX1_init_45 : decode cX1_init 45 = .ok (.aload_n 0, 1) := dk_42 (dk_at dksX1_init_1 21 rfl rfl)
theorem dX1_init_46 : decode cX1_init 46 = .ok (.new 58, 3) := dk_187 0 58 (dk_at dksX1_init_2 0 rfl rfl)
theorem dX1_init_49 : decode cX1_init 49 = .ok (.dup, 1) := dk_89 (dk_at dksX1_init_2 3 rfl rfl)
theorem dX1_init_50 : decode cX1_init 50 = .ok (.aload_n 0, 1) := dk_42 (dk_at dksX1_init_2 4 rfl rfl)
theorem dX1_init_51 : decode cX1_init 51 = .ok (.getfield 42, 3) := dk_180 0 42 (dk_at dksX1_init_2 5 rfl rfl)
theorem dX1_init_54 : decode cX1_init 54 = .ok (.invokespecial 60, 3) := dk_183 0 60 (dk_at dksX1_init_2 8 rfl rfl)
theorem dX1_init_57 : decode cX1_init 57 = .ok (.putfield 61, 3) := dk_181 0 61 (dk_at dksX1_init_2 11 rfl rfl)
theorem dX1_init_60 : decode cX1_init 60 = .ok (.aload_n 0, 1) := dk_42 (dk_at dksX1_init_2 14 rfl rfl)
theorem dX1_init_61 : decode cX1_init 61 = .ok (.getfield 51, 3) := dk_180 0 51 (dk_at dksX1_init_2 15 rfl rfl)
theorem dX1_init_64 : decode cX1_init 64 = .ok (.iconst 0, 1) := dk_3 (dk_at dksX1_init_2 18 rfl rfl)
theorem dX1_init_65 : decode cX1_init 65 = .ok (.putfield 65, 3) := dk_181 0 65 (dk_at dksX1_init_2 19 rfl rfl)
theorem dX1_init_68 : decode cX1_init 68 = .ok (.return_, 1) := dk_177 (dk_at dksX1_init_2 22 rfl rfl)
abbrev cX1_within : ByteArray := prog_1_method_1_code
def yX1_within : MethodName := ⟨RX1, "within", "(III)Z"⟩
def dkwX1_within_0 : List UInt8 := [26, 27, 161, 0, 12, 26, 28, 163, 0, 7, 4, 167, 0, 4, 3, 172]
abbrev dktX1_within_0 : List UInt8 := dkwX1_within_0 ++ []
theorem dksX1_within_0 : cX1_within.data.toList.drop 0 = dktX1_within_0 := by decide +kernel
theorem dX1_within_0 : decode cX1_within 0 = .ok (.iload_n 0, 1) := dk_26 (dk_at dksX1_within_0 0 rfl rfl)
theorem dX1_within_1 : decode cX1_within 1 = .ok (.iload_n 1, 1) := dk_27 (dk_at dksX1_within_0 1 rfl rfl)
theorem dX1_within_2 : decode cX1_within 2 = .ok (.if_icmp .lt 12, 3) := dk_161 0 12 (dk_at dksX1_within_0 2 rfl rfl)
theorem dX1_within_5 : decode cX1_within 5 = .ok (.iload_n 0, 1) := dk_26 (dk_at dksX1_within_0 5 rfl rfl)
theorem dX1_within_6 : decode cX1_within 6 = .ok (.iload_n 2, 1) := dk_28 (dk_at dksX1_within_0 6 rfl rfl)
theorem dX1_within_7 : decode cX1_within 7 = .ok (.if_icmp .gt 7, 3) := dk_163 0 7 (dk_at dksX1_within_0 7 rfl rfl)
theorem dX1_within_10 : decode cX1_within 10 = .ok (.iconst 1, 1) := dk_4 (dk_at dksX1_within_0 10 rfl rfl)
theorem dX1_within_11 : decode cX1_within 11 = .ok (.goto 4, 3) := dk_167 0 4 (dk_at dksX1_within_0 11 rfl rfl)
theorem dX1_within_14 : decode cX1_within 14 = .ok (.iconst 0, 1) := dk_3 (dk_at dksX1_within_0 14 rfl rfl)
theorem dX1_within_15 : decode cX1_within 15 = .ok (.ireturn, 1) := dk_172 (dk_at dksX1_within_0 15 rfl rfl)
abbrev cX1_by : ByteArray := prog_1_method_2_code
def yX1_by : MethodName := ⟨RX1, "by", "(I)LRankEntry$Ahead;"⟩
theorem dX1_by_0 : decode cX1_by 0 = .ok (.iload_n 0, 1) := by decide +kernel
theorem dX1_by_1 : decode cX1_by 1 = .ok (.invokedynamic 1, 5) := by decide +kernel
theorem dX1_by_6 : decode cX1_by 6 = .ok (.areturn, 1) := by decide +kernel
abbrev cX1_lambda_by_0 : ByteArray := prog_1_method_43_code
def yX1_lambda_by_0 : MethodName := ⟨RX1, "lambda$by$0", "(ILRankEntry$Source;LRankEntry$Source;)Z"⟩
def dkwX1_lambda_by_0_2 : List UInt8 := [44, 180, 1, 62, 162, 0, 7, 4, 167, 0, 4, 3, 172]
abbrev dktX1_lambda_by_0_2 : List UInt8 := dkwX1_lambda_by_0_2 ++ []
def dkwX1_lambda_by_0_1 : List UInt8 := [54, 4, 29, 155, 0, 28, 29, 154, 0, 28, 21, 4, 155, 0, 19, 21, 4, 154, 0, 18, 43, 180, 1, 62]
abbrev dktX1_lambda_by_0_1 : List UInt8 := dkwX1_lambda_by_0_1 ++ dktX1_lambda_by_0_2
def dkwX1_lambda_by_0_0 : List UInt8 := [43, 26, 182, 0, 201, 44, 26, 182, 0, 201, 100, 62, 43, 26, 182, 0, 204, 44, 26, 182, 0, 204, 100]
abbrev dktX1_lambda_by_0_0 : List UInt8 := dkwX1_lambda_by_0_0 ++ dktX1_lambda_by_0_1
theorem dksX1_lambda_by_0_0 : cX1_lambda_by_0.data.toList.drop 0 = dktX1_lambda_by_0_0 := by decide +kernel
theorem dksX1_lambda_by_0_1 : cX1_lambda_by_0.data.toList.drop 23 = dktX1_lambda_by_0_1 := dk_seg dksX1_lambda_by_0_0 23 rfl rfl
theorem dksX1_lambda_by_0_2 : cX1_lambda_by_0.data.toList.drop 47 = dktX1_lambda_by_0_2 := dk_seg dksX1_lambda_by_0_1 24 rfl rfl
theorem dX1_lambda_by_0_0 : decode cX1_lambda_by_0 0 = .ok (.aload_n 1, 1) := dk_43 (dk_at dksX1_lambda_by_0_0 0 rfl rfl)
theorem dX1_lambda_by_0_1 : decode cX1_lambda_by_0 1 = .ok (.iload_n 0, 1) := dk_26 (dk_at dksX1_lambda_by_0_0 1 rfl rfl)
theorem dX1_lambda_by_0_2 : decode cX1_lambda_by_0 2 = .ok (.invokevirtual 201, 3) := dk_182 0 201 (dk_at dksX1_lambda_by_0_0 2 rfl rfl)
theorem dX1_lambda_by_0_5 : decode cX1_lambda_by_0 5 = .ok (.aload_n 2, 1) := dk_44 (dk_at dksX1_lambda_by_0_0 5 rfl rfl)
theorem dX1_lambda_by_0_6 : decode cX1_lambda_by_0 6 = .ok (.iload_n 0, 1) := dk_26 (dk_at dksX1_lambda_by_0_0 6 rfl rfl)
theorem dX1_lambda_by_0_7 : decode cX1_lambda_by_0 7 = .ok (.invokevirtual 201, 3) := dk_182 0 201 (dk_at dksX1_lambda_by_0_0 7 rfl rfl)
theorem dX1_lambda_by_0_10 : decode cX1_lambda_by_0 10 = .ok (.isub, 1) := dk_100 (dk_at dksX1_lambda_by_0_0 10 rfl rfl)
theorem dX1_lambda_by_0_11 : decode cX1_lambda_by_0 11 = .ok (.istore_n 3, 1) := dk_62 (dk_at dksX1_lambda_by_0_0 11 rfl rfl)
theorem dX1_lambda_by_0_12 : decode cX1_lambda_by_0 12 = .ok (.aload_n 1, 1) := dk_43 (dk_at dksX1_lambda_by_0_0 12 rfl rfl)
theorem dX1_lambda_by_0_13 : decode cX1_lambda_by_0 13 = .ok (.iload_n 0, 1) := dk_26 (dk_at dksX1_lambda_by_0_0 13 rfl rfl)
theorem dX1_lambda_by_0_14 : decode cX1_lambda_by_0 14 = .ok (.invokevirtual 204, 3) := dk_182 0 204 (dk_at dksX1_lambda_by_0_0 14 rfl rfl)
theorem dX1_lambda_by_0_17 : decode cX1_lambda_by_0 17 = .ok (.aload_n 2, 1) := dk_44 (dk_at dksX1_lambda_by_0_0 17 rfl rfl)
theorem dX1_lambda_by_0_18 : decode cX1_lambda_by_0 18 = .ok (.iload_n 0, 1) := dk_26 (dk_at dksX1_lambda_by_0_0 18 rfl rfl)
theorem dX1_lambda_by_0_19 : decode cX1_lambda_by_0 19 = .ok (.invokevirtual 204, 3) := dk_182 0 204 (dk_at dksX1_lambda_by_0_0 19 rfl rfl)
theorem dX1_lambda_by_0_22 : decode cX1_lambda_by_0 22 = .ok (.isub, 1) := dk_100 (dk_at dksX1_lambda_by_0_0 22 rfl rfl)
theorem dX1_lambda_by_0_23 : decode cX1_lambda_by_0 23 = .ok (.istore 4, 2) := dk_54 4 (dk_at dksX1_lambda_by_0_1 0 rfl rfl)
theorem dX1_lambda_by_0_25 : decode cX1_lambda_by_0 25 = .ok (.iload_n 3, 1) := dk_29 (dk_at dksX1_lambda_by_0_1 2 rfl rfl)
theorem dX1_lambda_by_0_26 : decode cX1_lambda_by_0 26 = .ok (.ifCond .lt 28, 3) := dk_155 0 28 (dk_at dksX1_lambda_by_0_1 3 rfl rfl)
theorem dX1_lambda_by_0_29 : decode cX1_lambda_by_0 29 = .ok (.iload_n 3, 1) := dk_29 (dk_at dksX1_lambda_by_0_1 6 rfl rfl)
theorem dX1_lambda_by_0_30 : decode cX1_lambda_by_0 30 = .ok (.ifCond .ne 28, 3) := dk_154 0 28 (dk_at dksX1_lambda_by_0_1 7 rfl rfl)
theorem dX1_lambda_by_0_33 : decode cX1_lambda_by_0 33 = .ok (.iload 4, 2) := dk_21 4 (dk_at dksX1_lambda_by_0_1 10 rfl rfl)
theorem dX1_lambda_by_0_35 : decode cX1_lambda_by_0 35 = .ok (.ifCond .lt 19, 3) := dk_155 0 19 (dk_at dksX1_lambda_by_0_1 12 rfl rfl)
theorem dX1_lambda_by_0_38 : decode cX1_lambda_by_0 38 = .ok (.iload 4, 2) := dk_21 4 (dk_at dksX1_lambda_by_0_1 15 rfl rfl)
theorem dX1_lambda_by_0_40 : decode cX1_lambda_by_0 40 = .ok (.ifCond .ne 18, 3) := dk_154 0 18 (dk_at dksX1_lambda_by_0_1 17 rfl rfl)
theorem dX1_lambda_by_0_43 : decode cX1_lambda_by_0 43 = .ok (.aload_n 1, 1) := dk_43 (dk_at dksX1_lambda_by_0_1 20 rfl rfl)
theorem dX1_lambda_by_0_44 : decode cX1_lambda_by_0 44 = .ok (.getfield 318, 3) := dk_180 1 62 (dk_at dksX1_lambda_by_0_1 21 rfl rfl)
theorem dX1_lambda_by_0_47 : decode cX1_lambda_by_0 47 = .ok (.aload_n 2, 1) := dk_44 (dk_at dksX1_lambda_by_0_2 0 rfl rfl)
theorem dX1_lambda_by_0_48 : decode cX1_lambda_by_0 48 = .ok (.getfield 318, 3) := dk_180 1 62 (dk_at dksX1_lambda_by_0_2 1 rfl rfl)
theorem dX1_lambda_by_0_51 : decode cX1_lambda_by_0 51 = .ok (.if_icmp .ge 7, 3) := dk_162 0 7 (dk_at dksX1_lambda_by_0_2 4 rfl rfl)
theorem dX1_lambda_by_0_54 : decode cX1_lambda_by_0 54 = .ok (.iconst 1, 1) := dk_4 (dk_at dksX1_lambda_by_0_2 7 rfl rfl)
theorem dX1_lambda_by_0_55 : decode cX1_lambda_by_0 55 = .ok (.goto 4, 3) := dk_167 0 4 (dk_at dksX1_lambda_by_0_2 8 rfl rfl)
theorem dX1_lambda_by_0_58 : decode cX1_lambda_by_0 58 = .ok (.iconst 0, 1) := dk_3 (dk_at dksX1_lambda_by_0_2 11 rfl rfl)
theorem dX1_lambda_by_0_59 : decode cX1_lambda_by_0 59 = .ok (.ireturn, 1) := dk_172 (dk_at dksX1_lambda_by_0_2 12 rfl rfl)
abbrev cX1_made : ByteArray := prog_1_method_3_code
def yX1_made : MethodName := ⟨RX1, "made", "(I)LRankEntry$Source;"⟩
def dkwX1_made_2 : List UInt8 := [183, 0, 18, 167, 0, 11, 187, 0, 19, 89, 26, 183, 0, 21, 176]
abbrev dktX1_made_2 : List UInt8 := dkwX1_made_2 ++ []
def dkwX1_made_1 : List UInt8 := [187, 0, 13, 89, 26, 183, 0, 15, 167, 0, 28, 26, 16, 20, 162, 0, 14, 187, 0, 16, 89, 26]
abbrev dktX1_made_1 : List UInt8 := dkwX1_made_1 ++ dktX1_made_2
def dkwX1_made_0 : List UInt8 := [26, 16, 8, 162, 0, 14, 187, 0, 7, 89, 26, 183, 0, 9, 167, 0, 45, 26, 16, 16, 162, 0, 14]
abbrev dktX1_made_0 : List UInt8 := dkwX1_made_0 ++ dktX1_made_1
theorem dksX1_made_0 : cX1_made.data.toList.drop 0 = dktX1_made_0 := by decide +kernel
theorem dksX1_made_1 : cX1_made.data.toList.drop 23 = dktX1_made_1 := dk_seg dksX1_made_0 23 rfl rfl
theorem dksX1_made_2 : cX1_made.data.toList.drop 45 = dktX1_made_2 := dk_seg dksX1_made_1 22 rfl rfl
theorem dX1_made_0 : decode cX1_made 0 = .ok (.iload_n 0, 1) := dk_26 (dk_at dksX1_made_0 0 rfl rfl)
theorem dX1_made_1 : decode cX1_made 1 = .ok (.bipush 8, 2) := dk_16 8 (dk_at dksX1_made_0 1 rfl rfl)
theorem dX1_made_3 : decode cX1_made 3 = .ok (.if_icmp .ge 14, 3) := dk_162 0 14 (dk_at dksX1_made_0 3 rfl rfl)
theorem dX1_made_6 : decode cX1_made 6 = .ok (.new 7, 3) := dk_187 0 7 (dk_at dksX1_made_0 6 rfl rfl)
theorem dX1_made_9 : decode cX1_made 9 = .ok (.dup, 1) := dk_89 (dk_at dksX1_made_0 9 rfl rfl)
theorem dX1_made_10 : decode cX1_made 10 = .ok (.iload_n 0, 1) := dk_26 (dk_at dksX1_made_0 10 rfl rfl)
theorem dX1_made_11 : decode cX1_made 11 = .ok (.invokespecial 9, 3) := dk_183 0 9 (dk_at dksX1_made_0 11 rfl rfl)
theorem dX1_made_14 : decode cX1_made 14 = .ok (.goto 45, 3) := dk_167 0 45 (dk_at dksX1_made_0 14 rfl rfl)
theorem dX1_made_17 : decode cX1_made 17 = .ok (.iload_n 0, 1) := dk_26 (dk_at dksX1_made_0 17 rfl rfl)
theorem dX1_made_18 : decode cX1_made 18 = .ok (.bipush 16, 2) := dk_16 16 (dk_at dksX1_made_0 18 rfl rfl)
theorem dX1_made_20 : decode cX1_made 20 = .ok (.if_icmp .ge 14, 3) := dk_162 0 14 (dk_at dksX1_made_0 20 rfl rfl)
theorem dX1_made_23 : decode cX1_made 23 = .ok (.new 13, 3) := dk_187 0 13 (dk_at dksX1_made_1 0 rfl rfl)
theorem dX1_made_26 : decode cX1_made 26 = .ok (.dup, 1) := dk_89 (dk_at dksX1_made_1 3 rfl rfl)
theorem dX1_made_27 : decode cX1_made 27 = .ok (.iload_n 0, 1) := dk_26 (dk_at dksX1_made_1 4 rfl rfl)
theorem dX1_made_28 : decode cX1_made 28 = .ok (.invokespecial 15, 3) := dk_183 0 15 (dk_at dksX1_made_1 5 rfl rfl)
theorem dX1_made_31 : decode cX1_made 31 = .ok (.goto 28, 3) := dk_167 0 28 (dk_at dksX1_made_1 8 rfl rfl)
theorem dX1_made_34 : decode cX1_made 34 = .ok (.iload_n 0, 1) := dk_26 (dk_at dksX1_made_1 11 rfl rfl)
theorem dX1_made_35 : decode cX1_made 35 = .ok (.bipush 20, 2) := dk_16 20 (dk_at dksX1_made_1 12 rfl rfl)
theorem dX1_made_37 : decode cX1_made 37 = .ok (.if_icmp .ge 14, 3) := dk_162 0 14 (dk_at dksX1_made_1 14 rfl rfl)
theorem dX1_made_40 : decode cX1_made 40 = .ok (.new 16, 3) := dk_187 0 16 (dk_at dksX1_made_1 17 rfl rfl)
theorem dX1_made_43 : decode cX1_made 43 = .ok (.dup, 1) := dk_89 (dk_at dksX1_made_1 20 rfl rfl)
theorem dX1_made_44 : decode cX1_made 44 = .ok (.iload_n 0, 1) := dk_26 (dk_at dksX1_made_1 21 rfl rfl)
theorem dX1_made_45 : decode cX1_made 45 = .ok (.invokespecial 18, 3) := dk_183 0 18 (dk_at dksX1_made_2 0 rfl rfl)
theorem dX1_made_48 : decode cX1_made 48 = .ok (.goto 11, 3) := dk_167 0 11 (dk_at dksX1_made_2 3 rfl rfl)
theorem dX1_made_51 : decode cX1_made 51 = .ok (.new 19, 3) := dk_187 0 19 (dk_at dksX1_made_2 6 rfl rfl)
theorem dX1_made_54 : decode cX1_made 54 = .ok (.dup, 1) := dk_89 (dk_at dksX1_made_2 9 rfl rfl)
theorem dX1_made_55 : decode cX1_made 55 = .ok (.iload_n 0, 1) := dk_26 (dk_at dksX1_made_2 10 rfl rfl)
theorem dX1_made_56 : decode cX1_made 56 = .ok (.invokespecial 21, 3) := dk_183 0 21 (dk_at dksX1_made_2 11 rfl rfl)
theorem dX1_made_59 : decode cX1_made 59 = .ok (.areturn, 1) := dk_176 (dk_at dksX1_made_2 14 rfl rfl)
abbrev cX1_load : ByteArray := prog_1_method_7_code
def yX1_load : MethodName := ⟨RX1, "load", "(IJ)Z"⟩
def dkwX1_load_2 : List UInt8 := [132, 4, 1, 167, 255, 222, 4, 172]
abbrev dktX1_load_2 : List UInt8 := dkwX1_load_2 ++ []
def dkwX1_load_1 : List UInt8 := [180, 0, 42, 180, 0, 81, 27, 21, 4, 96, 32, 16, 56, 16, 8, 21, 4, 104, 100, 123, 136, 145, 84]
abbrev dktX1_load_1 : List UInt8 := dkwX1_load_1 ++ dktX1_load_2
def dkwX1_load_0 : List UInt8 := [27, 3, 17, 1, 248, 184, 0, 77, 154, 0, 5, 3, 172, 3, 54, 4, 21, 4, 16, 8, 162, 0, 33, 42]
abbrev dktX1_load_0 : List UInt8 := dkwX1_load_0 ++ dktX1_load_1
theorem dksX1_load_0 : cX1_load.data.toList.drop 0 = dktX1_load_0 := by decide +kernel
theorem dksX1_load_1 : cX1_load.data.toList.drop 24 = dktX1_load_1 := dk_seg dksX1_load_0 24 rfl rfl
theorem dksX1_load_2 : cX1_load.data.toList.drop 47 = dktX1_load_2 := dk_seg dksX1_load_1 23 rfl rfl
theorem dX1_load_0 : decode cX1_load 0 = .ok (.iload_n 1, 1) := dk_27 (dk_at dksX1_load_0 0 rfl rfl)
theorem dX1_load_1 : decode cX1_load 1 = .ok (.iconst 0, 1) := dk_3 (dk_at dksX1_load_0 1 rfl rfl)
theorem dX1_load_2 : decode cX1_load 2 = .ok (.sipush 504, 3) := dk_17 1 248 (dk_at dksX1_load_0 2 rfl rfl)
theorem dX1_load_5 : decode cX1_load 5 = .ok (.invokestatic 77, 3) := dk_184 0 77 (dk_at dksX1_load_0 5 rfl rfl)
theorem dX1_load_8 : decode cX1_load 8 = .ok (.ifCond .ne 5, 3) := dk_154 0 5 (dk_at dksX1_load_0 8 rfl rfl)
theorem dX1_load_11 : decode cX1_load 11 = .ok (.iconst 0, 1) := dk_3 (dk_at dksX1_load_0 11 rfl rfl)
theorem dX1_load_12 : decode cX1_load 12 = .ok (.ireturn, 1) := dk_172 (dk_at dksX1_load_0 12 rfl rfl)
theorem dX1_load_13 : decode cX1_load 13 = .ok (.iconst 0, 1) := dk_3 (dk_at dksX1_load_0 13 rfl rfl)
theorem dX1_load_14 : decode cX1_load 14 = .ok (.istore 4, 2) := dk_54 4 (dk_at dksX1_load_0 14 rfl rfl)
theorem dX1_load_16 : decode cX1_load 16 = .ok (.iload 4, 2) := dk_21 4 (dk_at dksX1_load_0 16 rfl rfl)
theorem dX1_load_18 : decode cX1_load 18 = .ok (.bipush 8, 2) := dk_16 8 (dk_at dksX1_load_0 18 rfl rfl)
theorem dX1_load_20 : decode cX1_load 20 = .ok (.if_icmp .ge 33, 3) := dk_162 0 33 (dk_at dksX1_load_0 20 rfl rfl)
theorem dX1_load_23 : decode cX1_load 23 = .ok (.aload_n 0, 1) := dk_42 (dk_at dksX1_load_0 23 rfl rfl)
theorem dX1_load_24 : decode cX1_load 24 = .ok (.getfield 42, 3) := dk_180 0 42 (dk_at dksX1_load_1 0 rfl rfl)
theorem dX1_load_27 : decode cX1_load 27 = .ok (.getfield 81, 3) := dk_180 0 81 (dk_at dksX1_load_1 3 rfl rfl)
theorem dX1_load_30 : decode cX1_load 30 = .ok (.iload_n 1, 1) := dk_27 (dk_at dksX1_load_1 6 rfl rfl)
theorem dX1_load_31 : decode cX1_load 31 = .ok (.iload 4, 2) := dk_21 4 (dk_at dksX1_load_1 7 rfl rfl)
theorem dX1_load_33 : decode cX1_load 33 = .ok (.iadd, 1) := dk_96 (dk_at dksX1_load_1 9 rfl rfl)
theorem dX1_load_34 : decode cX1_load 34 = .ok (.lload_n 2, 1) := dk_32 (dk_at dksX1_load_1 10 rfl rfl)
theorem dX1_load_35 : decode cX1_load 35 = .ok (.bipush 56, 2) := dk_16 56 (dk_at dksX1_load_1 11 rfl rfl)
theorem dX1_load_37 : decode cX1_load 37 = .ok (.bipush 8, 2) := dk_16 8 (dk_at dksX1_load_1 13 rfl rfl)
theorem dX1_load_39 : decode cX1_load 39 = .ok (.iload 4, 2) := dk_21 4 (dk_at dksX1_load_1 15 rfl rfl)
theorem dX1_load_41 : decode cX1_load 41 = .ok (.imul, 1) := dk_104 (dk_at dksX1_load_1 17 rfl rfl)
theorem dX1_load_42 : decode cX1_load 42 = .ok (.isub, 1) := dk_100 (dk_at dksX1_load_1 18 rfl rfl)
theorem dX1_load_43 : decode cX1_load 43 = .ok (.lshr, 1) := dk_123 (dk_at dksX1_load_1 19 rfl rfl)
theorem dX1_load_44 : decode cX1_load 44 = .ok (.l2i, 1) := dk_136 (dk_at dksX1_load_1 20 rfl rfl)
theorem dX1_load_45 : decode cX1_load 45 = .ok (.i2b, 1) := dk_145 (dk_at dksX1_load_1 21 rfl rfl)
theorem dX1_load_46 : decode cX1_load 46 = .ok (.bastore, 1) := dk_84 (dk_at dksX1_load_1 22 rfl rfl)
theorem dX1_load_47 : decode cX1_load 47 = .ok (.iinc 4 1, 3) := dk_132 4 1 (dk_at dksX1_load_2 0 rfl rfl)
theorem dX1_load_50 : decode cX1_load 50 = .ok (.goto (-34), 3) := dk_167 255 222 (dk_at dksX1_load_2 3 rfl rfl)
theorem dX1_load_53 : decode cX1_load 53 = .ok (.iconst 1, 1) := dk_4 (dk_at dksX1_load_2 6 rfl rfl)
theorem dX1_load_54 : decode cX1_load 54 = .ok (.ireturn, 1) := dk_172 (dk_at dksX1_load_2 7 rfl rfl)
abbrev cX1_code : ByteArray := prog_1_method_8_code
def yX1_code : MethodName := ⟨RX1, "code", "(I)I"⟩
def dkwX1_code_0 : List UInt8 := [27, 3, 17, 1, 255, 184, 0, 77, 153, 0, 14, 42, 180, 0, 42, 27, 182, 0, 85, 167, 0, 4, 2, 172]
abbrev dktX1_code_0 : List UInt8 := dkwX1_code_0 ++ []
theorem dksX1_code_0 : cX1_code.data.toList.drop 0 = dktX1_code_0 := by decide +kernel
theorem dX1_code_0 : decode cX1_code 0 = .ok (.iload_n 1, 1) := dk_27 (dk_at dksX1_code_0 0 rfl rfl)
theorem dX1_code_1 : decode cX1_code 1 = .ok (.iconst 0, 1) := dk_3 (dk_at dksX1_code_0 1 rfl rfl)
theorem dX1_code_2 : decode cX1_code 2 = .ok (.sipush 511, 3) := dk_17 1 255 (dk_at dksX1_code_0 2 rfl rfl)
theorem dX1_code_5 : decode cX1_code 5 = .ok (.invokestatic 77, 3) := dk_184 0 77 (dk_at dksX1_code_0 5 rfl rfl)
theorem dX1_code_8 : decode cX1_code 8 = .ok (.ifCond .eq 14, 3) := dk_153 0 14 (dk_at dksX1_code_0 8 rfl rfl)
theorem dX1_code_11 : decode cX1_code 11 = .ok (.aload_n 0, 1) := dk_42 (dk_at dksX1_code_0 11 rfl rfl)
theorem dX1_code_12 : decode cX1_code 12 = .ok (.getfield 42, 3) := dk_180 0 42 (dk_at dksX1_code_0 12 rfl rfl)
theorem dX1_code_15 : decode cX1_code 15 = .ok (.iload_n 1, 1) := dk_27 (dk_at dksX1_code_0 15 rfl rfl)
theorem dX1_code_16 : decode cX1_code 16 = .ok (.invokevirtual 85, 3) := dk_182 0 85 (dk_at dksX1_code_0 16 rfl rfl)
theorem dX1_code_19 : decode cX1_code 19 = .ok (.goto 4, 3) := dk_167 0 4 (dk_at dksX1_code_0 19 rfl rfl)
theorem dX1_code_22 : decode cX1_code 22 = .ok (.iconst (-1), 1) := dk_2 (dk_at dksX1_code_0 22 rfl rfl)
theorem dX1_code_23 : decode cX1_code 23 = .ok (.ireturn, 1) := dk_172 (dk_at dksX1_code_0 23 rfl rfl)
abbrev cX1_rank : ByteArray := prog_1_method_9_code
def yX1_rank : MethodName := ⟨RX1, "rank", "(II)Z"⟩
def dkwX1_rank_2 : List UInt8 := [50, 28, 181, 0, 99, 4, 172]
abbrev dktX1_rank_2 : List UInt8 := dkwX1_rank_2 ++ []
def dkwX1_rank_1 : List UInt8 := [180, 0, 51, 180, 0, 89, 27, 50, 180, 0, 93, 153, 0, 5, 3, 172, 42, 180, 0, 51, 180, 0, 89, 27]
abbrev dktX1_rank_1 : List UInt8 := dkwX1_rank_1 ++ dktX1_rank_2
def dkwX1_rank_0 : List UInt8 := [27, 3, 16, 19, 184, 0, 77, 153, 0, 29, 28, 3, 17, 0, 255, 184, 0, 77, 153, 0, 18, 42]
abbrev dktX1_rank_0 : List UInt8 := dkwX1_rank_0 ++ dktX1_rank_1
theorem dksX1_rank_0 : cX1_rank.data.toList.drop 0 = dktX1_rank_0 := by decide +kernel
theorem dksX1_rank_1 : cX1_rank.data.toList.drop 22 = dktX1_rank_1 := dk_seg dksX1_rank_0 22 rfl rfl
theorem dksX1_rank_2 : cX1_rank.data.toList.drop 46 = dktX1_rank_2 := dk_seg dksX1_rank_1 24 rfl rfl
theorem dX1_rank_0 : decode cX1_rank 0 = .ok (.iload_n 1, 1) := dk_27 (dk_at dksX1_rank_0 0 rfl rfl)
theorem dX1_rank_1 : decode cX1_rank 1 = .ok (.iconst 0, 1) := dk_3 (dk_at dksX1_rank_0 1 rfl rfl)
theorem dX1_rank_2 : decode cX1_rank 2 = .ok (.bipush 19, 2) := dk_16 19 (dk_at dksX1_rank_0 2 rfl rfl)
theorem dX1_rank_4 : decode cX1_rank 4 = .ok (.invokestatic 77, 3) := dk_184 0 77 (dk_at dksX1_rank_0 4 rfl rfl)
theorem dX1_rank_7 : decode cX1_rank 7 = .ok (.ifCond .eq 29, 3) := dk_153 0 29 (dk_at dksX1_rank_0 7 rfl rfl)
theorem dX1_rank_10 : decode cX1_rank 10 = .ok (.iload_n 2, 1) := dk_28 (dk_at dksX1_rank_0 10 rfl rfl)
theorem dX1_rank_11 : decode cX1_rank 11 = .ok (.iconst 0, 1) := dk_3 (dk_at dksX1_rank_0 11 rfl rfl)
theorem dX1_rank_12 : decode cX1_rank 12 = .ok (.sipush 255, 3) := dk_17 0 255 (dk_at dksX1_rank_0 12 rfl rfl)
theorem dX1_rank_15 : decode cX1_rank 15 = .ok (.invokestatic 77, 3) := dk_184 0 77 (dk_at dksX1_rank_0 15 rfl rfl)
theorem dX1_rank_18 : decode cX1_rank 18 = .ok (.ifCond .eq 18, 3) := dk_153 0 18 (dk_at dksX1_rank_0 18 rfl rfl)
theorem dX1_rank_21 : decode cX1_rank 21 = .ok (.aload_n 0, 1) := dk_42 (dk_at dksX1_rank_0 21 rfl rfl)
theorem dX1_rank_22 : decode cX1_rank 22 = .ok (.getfield 51, 3) := dk_180 0 51 (dk_at dksX1_rank_1 0 rfl rfl)
theorem dX1_rank_25 : decode cX1_rank 25 = .ok (.getfield 89, 3) := dk_180 0 89 (dk_at dksX1_rank_1 3 rfl rfl)
theorem dX1_rank_28 : decode cX1_rank 28 = .ok (.iload_n 1, 1) := dk_27 (dk_at dksX1_rank_1 6 rfl rfl)
theorem dX1_rank_29 : decode cX1_rank 29 = .ok (.aaload, 1) := dk_50 (dk_at dksX1_rank_1 7 rfl rfl)
theorem dX1_rank_30 : decode cX1_rank 30 = .ok (.getfield 93, 3) := dk_180 0 93 (dk_at dksX1_rank_1 8 rfl rfl)
theorem dX1_rank_33 : decode cX1_rank 33 = .ok (.ifCond .eq 5, 3) := dk_153 0 5 (dk_at dksX1_rank_1 11 rfl rfl)
theorem dX1_rank_36 : decode cX1_rank 36 = .ok (.iconst 0, 1) := dk_3 (dk_at dksX1_rank_1 14 rfl rfl)
theorem dX1_rank_37 : decode cX1_rank 37 = .ok (.ireturn, 1) := dk_172 (dk_at dksX1_rank_1 15 rfl rfl)
theorem dX1_rank_38 : decode cX1_rank 38 = .ok (.aload_n 0, 1) := dk_42 (dk_at dksX1_rank_1 16 rfl rfl)
theorem dX1_rank_39 : decode cX1_rank 39 = .ok (.getfield 51, 3) := dk_180 0 51 (dk_at dksX1_rank_1 17 rfl rfl)
theorem dX1_rank_42 : decode cX1_rank 42 = .ok (.getfield 89, 3) := dk_180 0 89 (dk_at dksX1_rank_1 20 rfl rfl)
theorem dX1_rank_45 : decode cX1_rank 45 = .ok (.iload_n 1, 1) := dk_27 (dk_at dksX1_rank_1 23 rfl rfl)
theorem dX1_rank_46 : decode cX1_rank 46 = .ok (.aaload, 1) := dk_50 (dk_at dksX1_rank_2 0 rfl rfl)
theorem dX1_rank_47 : decode cX1_rank 47 = .ok (.iload_n 2, 1) := dk_28 (dk_at dksX1_rank_2 1 rfl rfl)
theorem dX1_rank_48 : decode cX1_rank 48 = .ok (.putfield 99, 3) := dk_181 0 99 (dk_at dksX1_rank_2 2 rfl rfl)
theorem dX1_rank_51 : decode cX1_rank 51 = .ok (.iconst 1, 1) := dk_4 (dk_at dksX1_rank_2 5 rfl rfl)
theorem dX1_rank_52 : decode cX1_rank 52 = .ok (.ireturn, 1) := dk_172 (dk_at dksX1_rank_2 6 rfl rfl)
abbrev cX1_enable : ByteArray := prog_1_method_10_code
def yX1_enable : MethodName := ⟨RX1, "enable", "(IZ)Z"⟩
def dkwX1_enable_1 : List UInt8 := [181, 0, 102, 4, 172]
abbrev dktX1_enable_1 : List UInt8 := dkwX1_enable_1 ++ []
def dkwX1_enable_0 : List UInt8 := [27, 3, 16, 19, 184, 0, 77, 154, 0, 5, 3, 172, 42, 180, 0, 51, 180, 0, 89, 27, 50, 28]
abbrev dktX1_enable_0 : List UInt8 := dkwX1_enable_0 ++ dktX1_enable_1
theorem dksX1_enable_0 : cX1_enable.data.toList.drop 0 = dktX1_enable_0 := by decide +kernel
theorem dksX1_enable_1 : cX1_enable.data.toList.drop 22 = dktX1_enable_1 := dk_seg dksX1_enable_0 22 rfl rfl
theorem dX1_enable_0 : decode cX1_enable 0 = .ok (.iload_n 1, 1) := dk_27 (dk_at dksX1_enable_0 0 rfl rfl)
theorem dX1_enable_1 : decode cX1_enable 1 = .ok (.iconst 0, 1) := dk_3 (dk_at dksX1_enable_0 1 rfl rfl)
theorem dX1_enable_2 : decode cX1_enable 2 = .ok (.bipush 19, 2) := dk_16 19 (dk_at dksX1_enable_0 2 rfl rfl)
theorem dX1_enable_4 : decode cX1_enable 4 = .ok (.invokestatic 77, 3) := dk_184 0 77 (dk_at dksX1_enable_0 4 rfl rfl)
theorem dX1_enable_7 : decode cX1_enable 7 = .ok (.ifCond .ne 5, 3) := dk_154 0 5 (dk_at dksX1_enable_0 7 rfl rfl)
theorem dX1_enable_10 : decode cX1_enable 10 = .ok (.iconst 0, 1) := dk_3 (dk_at dksX1_enable_0 10 rfl rfl)
theorem dX1_enable_11 : decode cX1_enable 11 = .ok (.ireturn, 1) := dk_172 (dk_at dksX1_enable_0 11 rfl rfl)
theorem dX1_enable_12 : decode cX1_enable 12 = .ok (.aload_n 0, 1) := dk_42 (dk_at dksX1_enable_0 12 rfl rfl)
theorem dX1_enable_13 : decode cX1_enable 13 = .ok (.getfield 51, 3) := dk_180 0 51 (dk_at dksX1_enable_0 13 rfl rfl)
theorem dX1_enable_16 : decode cX1_enable 16 = .ok (.getfield 89, 3) := dk_180 0 89 (dk_at dksX1_enable_0 16 rfl rfl)
theorem dX1_enable_19 : decode cX1_enable 19 = .ok (.iload_n 1, 1) := dk_27 (dk_at dksX1_enable_0 19 rfl rfl)
theorem dX1_enable_20 : decode cX1_enable 20 = .ok (.aaload, 1) := dk_50 (dk_at dksX1_enable_0 20 rfl rfl)
theorem dX1_enable_21 : decode cX1_enable 21 = .ok (.iload_n 2, 1) := dk_28 (dk_at dksX1_enable_0 21 rfl rfl)
theorem dX1_enable_22 : decode cX1_enable 22 = .ok (.putfield 102, 3) := dk_181 0 102 (dk_at dksX1_enable_1 0 rfl rfl)
theorem dX1_enable_25 : decode cX1_enable 25 = .ok (.iconst 1, 1) := dk_4 (dk_at dksX1_enable_1 3 rfl rfl)
theorem dX1_enable_26 : decode cX1_enable 26 = .ok (.ireturn, 1) := dk_172 (dk_at dksX1_enable_1 4 rfl rfl)
abbrev cX1_vector : ByteArray := prog_1_method_11_code
def yX1_vector : MethodName := ⟨RX1, "vector", "(II)Z"⟩
def dkwX1_vector_1 : List UInt8 := [180, 0, 51, 180, 0, 89, 27, 50, 28, 181, 0, 105, 4, 172]
abbrev dktX1_vector_1 : List UInt8 := dkwX1_vector_1 ++ []
def dkwX1_vector_0 : List UInt8 := [27, 3, 16, 20, 184, 0, 77, 153, 0, 14, 28, 3, 17, 1, 255, 184, 0, 77, 154, 0, 5, 3, 172, 42]
abbrev dktX1_vector_0 : List UInt8 := dkwX1_vector_0 ++ dktX1_vector_1
theorem dksX1_vector_0 : cX1_vector.data.toList.drop 0 = dktX1_vector_0 := by decide +kernel
theorem dksX1_vector_1 : cX1_vector.data.toList.drop 24 = dktX1_vector_1 := dk_seg dksX1_vector_0 24 rfl rfl
theorem dX1_vector_0 : decode cX1_vector 0 = .ok (.iload_n 1, 1) := dk_27 (dk_at dksX1_vector_0 0 rfl rfl)
theorem dX1_vector_1 : decode cX1_vector 1 = .ok (.iconst 0, 1) := dk_3 (dk_at dksX1_vector_0 1 rfl rfl)
theorem dX1_vector_2 : decode cX1_vector 2 = .ok (.bipush 20, 2) := dk_16 20 (dk_at dksX1_vector_0 2 rfl rfl)
theorem dX1_vector_4 : decode cX1_vector 4 = .ok (.invokestatic 77, 3) := dk_184 0 77 (dk_at dksX1_vector_0 4 rfl rfl)
theorem dX1_vector_7 : decode cX1_vector 7 = .ok (.ifCond .eq 14, 3) := dk_153 0 14 (dk_at dksX1_vector_0 7 rfl rfl)
theorem dX1_vector_10 : decode cX1_vector 10 = .ok (.iload_n 2, 1) := dk_28 (dk_at dksX1_vector_0 10 rfl rfl)
theorem dX1_vector_11 : decode cX1_vector 11 = .ok (.iconst 0, 1) := dk_3 (dk_at dksX1_vector_0 11 rfl rfl)
theorem dX1_vector_12 : decode cX1_vector 12 = .ok (.sipush 511, 3) := dk_17 1 255 (dk_at dksX1_vector_0 12 rfl rfl)
theorem dX1_vector_15 : decode cX1_vector 15 = .ok (.invokestatic 77, 3) := dk_184 0 77 (dk_at dksX1_vector_0 15 rfl rfl)
theorem dX1_vector_18 : decode cX1_vector 18 = .ok (.ifCond .ne 5, 3) := dk_154 0 5 (dk_at dksX1_vector_0 18 rfl rfl)
theorem dX1_vector_21 : decode cX1_vector 21 = .ok (.iconst 0, 1) := dk_3 (dk_at dksX1_vector_0 21 rfl rfl)
theorem dX1_vector_22 : decode cX1_vector 22 = .ok (.ireturn, 1) := dk_172 (dk_at dksX1_vector_0 22 rfl rfl)
theorem dX1_vector_23 : decode cX1_vector 23 = .ok (.aload_n 0, 1) := dk_42 (dk_at dksX1_vector_0 23 rfl rfl)
theorem dX1_vector_24 : decode cX1_vector 24 = .ok (.getfield 51, 3) := dk_180 0 51 (dk_at dksX1_vector_1 0 rfl rfl)
theorem dX1_vector_27 : decode cX1_vector 27 = .ok (.getfield 89, 3) := dk_180 0 89 (dk_at dksX1_vector_1 3 rfl rfl)
theorem dX1_vector_30 : decode cX1_vector 30 = .ok (.iload_n 1, 1) := dk_27 (dk_at dksX1_vector_1 6 rfl rfl)
theorem dX1_vector_31 : decode cX1_vector 31 = .ok (.aaload, 1) := dk_50 (dk_at dksX1_vector_1 7 rfl rfl)
theorem dX1_vector_32 : decode cX1_vector 32 = .ok (.iload_n 2, 1) := dk_28 (dk_at dksX1_vector_1 8 rfl rfl)
theorem dX1_vector_33 : decode cX1_vector 33 = .ok (.putfield 105, 3) := dk_181 0 105 (dk_at dksX1_vector_1 9 rfl rfl)
theorem dX1_vector_36 : decode cX1_vector 36 = .ok (.iconst 1, 1) := dk_4 (dk_at dksX1_vector_1 12 rfl rfl)
theorem dX1_vector_37 : decode cX1_vector 37 = .ok (.ireturn, 1) := dk_172 (dk_at dksX1_vector_1 13 rfl rfl)
abbrev cX1_split : ByteArray := prog_1_method_12_code
def yX1_split : MethodName := ⟨RX1, "split", "(I)Z"⟩
def dkwX1_split_1 : List UInt8 := [180, 0, 51, 27, 182, 0, 111, 4, 172]
abbrev dktX1_split_1 : List UInt8 := dkwX1_split_1 ++ []
def dkwX1_split_0 : List UInt8 := [27, 3, 16, 7, 184, 0, 77, 153, 0, 13, 42, 180, 0, 51, 180, 0, 108, 158, 0, 5, 3, 172, 42]
abbrev dktX1_split_0 : List UInt8 := dkwX1_split_0 ++ dktX1_split_1
theorem dksX1_split_0 : cX1_split.data.toList.drop 0 = dktX1_split_0 := by decide +kernel
theorem dksX1_split_1 : cX1_split.data.toList.drop 23 = dktX1_split_1 := dk_seg dksX1_split_0 23 rfl rfl
theorem dX1_split_0 : decode cX1_split 0 = .ok (.iload_n 1, 1) := dk_27 (dk_at dksX1_split_0 0 rfl rfl)
theorem dX1_split_1 : decode cX1_split 1 = .ok (.iconst 0, 1) := dk_3 (dk_at dksX1_split_0 1 rfl rfl)
theorem dX1_split_2 : decode cX1_split 2 = .ok (.bipush 7, 2) := dk_16 7 (dk_at dksX1_split_0 2 rfl rfl)
theorem dX1_split_4 : decode cX1_split 4 = .ok (.invokestatic 77, 3) := dk_184 0 77 (dk_at dksX1_split_0 4 rfl rfl)
theorem dX1_split_7 : decode cX1_split 7 = .ok (.ifCond .eq 13, 3) := dk_153 0 13 (dk_at dksX1_split_0 7 rfl rfl)
theorem dX1_split_10 : decode cX1_split 10 = .ok (.aload_n 0, 1) := dk_42 (dk_at dksX1_split_0 10 rfl rfl)
theorem dX1_split_11 : decode cX1_split 11 = .ok (.getfield 51, 3) := dk_180 0 51 (dk_at dksX1_split_0 11 rfl rfl)
theorem dX1_split_14 : decode cX1_split 14 = .ok (.getfield 108, 3) := dk_180 0 108 (dk_at dksX1_split_0 14 rfl rfl)
theorem dX1_split_17 : decode cX1_split 17 = .ok (.ifCond .le 5, 3) := dk_158 0 5 (dk_at dksX1_split_0 17 rfl rfl)
theorem dX1_split_20 : decode cX1_split 20 = .ok (.iconst 0, 1) := dk_3 (dk_at dksX1_split_0 20 rfl rfl)
theorem dX1_split_21 : decode cX1_split 21 = .ok (.ireturn, 1) := dk_172 (dk_at dksX1_split_0 21 rfl rfl)
theorem dX1_split_22 : decode cX1_split 22 = .ok (.aload_n 0, 1) := dk_42 (dk_at dksX1_split_0 22 rfl rfl)
theorem dX1_split_23 : decode cX1_split 23 = .ok (.getfield 51, 3) := dk_180 0 51 (dk_at dksX1_split_1 0 rfl rfl)
theorem dX1_split_26 : decode cX1_split 26 = .ok (.iload_n 1, 1) := dk_27 (dk_at dksX1_split_1 3 rfl rfl)
theorem dX1_split_27 : decode cX1_split 27 = .ok (.invokevirtual 111, 3) := dk_182 0 111 (dk_at dksX1_split_1 4 rfl rfl)
theorem dX1_split_30 : decode cX1_split 30 = .ok (.iconst 1, 1) := dk_4 (dk_at dksX1_split_1 7 rfl rfl)
theorem dX1_split_31 : decode cX1_split 31 = .ok (.ireturn, 1) := dk_172 (dk_at dksX1_split_1 8 rfl rfl)
abbrev cX1_hold : ByteArray := prog_1_method_13_code
def yX1_hold : MethodName := ⟨RX1, "hold", "(IZ)Z"⟩
def dkwX1_hold_2 : List UInt8 := [153, 0, 12, 42, 180, 0, 51, 27, 182, 0, 118, 87, 4, 172, 3, 172]
abbrev dktX1_hold_2 : List UInt8 := dkwX1_hold_2 ++ []
def dkwX1_hold_1 : List UInt8 := [25, 4, 193, 0, 13, 153, 0, 32, 25, 4, 192, 0, 13, 78, 45, 28, 182, 0, 114, 153, 0, 18, 28]
abbrev dktX1_hold_1 : List UInt8 := dkwX1_hold_1 ++ dktX1_hold_2
def dkwX1_hold_0 : List UInt8 := [27, 3, 16, 20, 184, 0, 77, 154, 0, 5, 3, 172, 42, 180, 0, 51, 180, 0, 89, 27, 50, 58, 4]
abbrev dktX1_hold_0 : List UInt8 := dkwX1_hold_0 ++ dktX1_hold_1
theorem dksX1_hold_0 : cX1_hold.data.toList.drop 0 = dktX1_hold_0 := by decide +kernel
theorem dksX1_hold_1 : cX1_hold.data.toList.drop 23 = dktX1_hold_1 := dk_seg dksX1_hold_0 23 rfl rfl
theorem dksX1_hold_2 : cX1_hold.data.toList.drop 46 = dktX1_hold_2 := dk_seg dksX1_hold_1 23 rfl rfl
theorem dX1_hold_0 : decode cX1_hold 0 = .ok (.iload_n 1, 1) := dk_27 (dk_at dksX1_hold_0 0 rfl rfl)
theorem dX1_hold_1 : decode cX1_hold 1 = .ok (.iconst 0, 1) := dk_3 (dk_at dksX1_hold_0 1 rfl rfl)
theorem dX1_hold_2 : decode cX1_hold 2 = .ok (.bipush 20, 2) := dk_16 20 (dk_at dksX1_hold_0 2 rfl rfl)
theorem dX1_hold_4 : decode cX1_hold 4 = .ok (.invokestatic 77, 3) := dk_184 0 77 (dk_at dksX1_hold_0 4 rfl rfl)
theorem dX1_hold_7 : decode cX1_hold 7 = .ok (.ifCond .ne 5, 3) := dk_154 0 5 (dk_at dksX1_hold_0 7 rfl rfl)
theorem dX1_hold_10 : decode cX1_hold 10 = .ok (.iconst 0, 1) := dk_3 (dk_at dksX1_hold_0 10 rfl rfl)
theorem dX1_hold_11 : decode cX1_hold 11 = .ok (.ireturn, 1) := dk_172 (dk_at dksX1_hold_0 11 rfl rfl)
theorem dX1_hold_12 : decode cX1_hold 12 = .ok (.aload_n 0, 1) := dk_42 (dk_at dksX1_hold_0 12 rfl rfl)
theorem dX1_hold_13 : decode cX1_hold 13 = .ok (.getfield 51, 3) := dk_180 0 51 (dk_at dksX1_hold_0 13 rfl rfl)
theorem dX1_hold_16 : decode cX1_hold 16 = .ok (.getfield 89, 3) := dk_180 0 89 (dk_at dksX1_hold_0 16 rfl rfl)
theorem dX1_hold_19 : decode cX1_hold 19 = .ok (.iload_n 1, 1) := dk_27 (dk_at dksX1_hold_0 19 rfl rfl)
theorem dX1_hold_20 : decode cX1_hold 20 = .ok (.aaload, 1) := dk_50 (dk_at dksX1_hold_0 20 rfl rfl)
theorem dX1_hold_21 : decode cX1_hold 21 = .ok (.astore 4, 2) := dk_58 4 (dk_at dksX1_hold_0 21 rfl rfl)
theorem dX1_hold_23 : decode cX1_hold 23 = .ok (.aload 4, 2) := dk_25 4 (dk_at dksX1_hold_1 0 rfl rfl)
theorem dX1_hold_25 : decode cX1_hold 25 = .ok (.instanceof 13, 3) := dk_193 0 13 (dk_at dksX1_hold_1 2 rfl rfl)
theorem dX1_hold_28 : decode cX1_hold 28 = .ok (.ifCond .eq 32, 3) := dk_153 0 32 (dk_at dksX1_hold_1 5 rfl rfl)
theorem dX1_hold_31 : decode cX1_hold 31 = .ok (.aload 4, 2) := dk_25 4 (dk_at dksX1_hold_1 8 rfl rfl)
theorem dX1_hold_33 : decode cX1_hold 33 = .ok (.checkcast 13, 3) := dk_192 0 13 (dk_at dksX1_hold_1 10 rfl rfl)
theorem dX1_hold_36 : decode cX1_hold 36 = .ok (.astore_n 3, 1) := dk_78 (dk_at dksX1_hold_1 13 rfl rfl)
theorem dX1_hold_37 : decode cX1_hold 37 = .ok (.aload_n 3, 1) := dk_45 (dk_at dksX1_hold_1 14 rfl rfl)
theorem dX1_hold_38 : decode cX1_hold 38 = .ok (.iload_n 2, 1) := dk_28 (dk_at dksX1_hold_1 15 rfl rfl)
theorem dX1_hold_39 : decode cX1_hold 39 = .ok (.invokevirtual 114, 3) := dk_182 0 114 (dk_at dksX1_hold_1 16 rfl rfl)
theorem dX1_hold_42 : decode cX1_hold 42 = .ok (.ifCond .eq 18, 3) := dk_153 0 18 (dk_at dksX1_hold_1 19 rfl rfl)
theorem dX1_hold_45 : decode cX1_hold 45 = .ok (.iload_n 2, 1) := dk_28 (dk_at dksX1_hold_1 22 rfl rfl)
theorem dX1_hold_46 : decode cX1_hold 46 = .ok (.ifCond .eq 12, 3) := dk_153 0 12 (dk_at dksX1_hold_2 0 rfl rfl)
theorem dX1_hold_49 : decode cX1_hold 49 = .ok (.aload_n 0, 1) := dk_42 (dk_at dksX1_hold_2 3 rfl rfl)
theorem dX1_hold_50 : decode cX1_hold 50 = .ok (.getfield 51, 3) := dk_180 0 51 (dk_at dksX1_hold_2 4 rfl rfl)
theorem dX1_hold_53 : decode cX1_hold 53 = .ok (.iload_n 1, 1) := dk_27 (dk_at dksX1_hold_2 7 rfl rfl)
theorem dX1_hold_54 : decode cX1_hold 54 = .ok (.invokevirtual 118, 3) := dk_182 0 118 (dk_at dksX1_hold_2 8 rfl rfl)
theorem dX1_hold_57 : decode cX1_hold 57 = .ok (.pop, 1) := dk_87 (dk_at dksX1_hold_2 11 rfl rfl)
theorem dX1_hold_58 : decode cX1_hold 58 = .ok (.iconst 1, 1) := dk_4 (dk_at dksX1_hold_2 12 rfl rfl)
theorem dX1_hold_59 : decode cX1_hold 59 = .ok (.ireturn, 1) := dk_172 (dk_at dksX1_hold_2 13 rfl rfl)
theorem dX1_hold_60 : decode cX1_hold 60 = .ok (.iconst 0, 1) := dk_3 (dk_at dksX1_hold_2 14 rfl rfl)
theorem dX1_hold_61 : decode cX1_hold 61 = .ok (.ireturn, 1) := dk_172 (dk_at dksX1_hold_2 15 rfl rfl)
abbrev cX1_pend : ByteArray := prog_1_method_14_code
def yX1_pend : MethodName := ⟨RX1, "pend", "(I)Z"⟩
def dkwX1_pend_1 : List UInt8 := [167, 0, 4, 3, 172]
abbrev dktX1_pend_1 : List UInt8 := dkwX1_pend_1 ++ []
def dkwX1_pend_0 : List UInt8 := [27, 3, 16, 19, 184, 0, 77, 153, 0, 18, 42, 180, 0, 51, 27, 182, 0, 118, 153, 0, 7, 4]
abbrev dktX1_pend_0 : List UInt8 := dkwX1_pend_0 ++ dktX1_pend_1
theorem dksX1_pend_0 : cX1_pend.data.toList.drop 0 = dktX1_pend_0 := by decide +kernel
theorem dksX1_pend_1 : cX1_pend.data.toList.drop 22 = dktX1_pend_1 := dk_seg dksX1_pend_0 22 rfl rfl
theorem dX1_pend_0 : decode cX1_pend 0 = .ok (.iload_n 1, 1) := dk_27 (dk_at dksX1_pend_0 0 rfl rfl)
theorem dX1_pend_1 : decode cX1_pend 1 = .ok (.iconst 0, 1) := dk_3 (dk_at dksX1_pend_0 1 rfl rfl)
theorem dX1_pend_2 : decode cX1_pend 2 = .ok (.bipush 19, 2) := dk_16 19 (dk_at dksX1_pend_0 2 rfl rfl)
theorem dX1_pend_4 : decode cX1_pend 4 = .ok (.invokestatic 77, 3) := dk_184 0 77 (dk_at dksX1_pend_0 4 rfl rfl)
theorem dX1_pend_7 : decode cX1_pend 7 = .ok (.ifCond .eq 18, 3) := dk_153 0 18 (dk_at dksX1_pend_0 7 rfl rfl)
theorem dX1_pend_10 : decode cX1_pend 10 = .ok (.aload_n 0, 1) := dk_42 (dk_at dksX1_pend_0 10 rfl rfl)
theorem dX1_pend_11 : decode cX1_pend 11 = .ok (.getfield 51, 3) := dk_180 0 51 (dk_at dksX1_pend_0 11 rfl rfl)
theorem dX1_pend_14 : decode cX1_pend 14 = .ok (.iload_n 1, 1) := dk_27 (dk_at dksX1_pend_0 14 rfl rfl)
theorem dX1_pend_15 : decode cX1_pend 15 = .ok (.invokevirtual 118, 3) := dk_182 0 118 (dk_at dksX1_pend_0 15 rfl rfl)
theorem dX1_pend_18 : decode cX1_pend 18 = .ok (.ifCond .eq 7, 3) := dk_153 0 7 (dk_at dksX1_pend_0 18 rfl rfl)
theorem dX1_pend_21 : decode cX1_pend 21 = .ok (.iconst 1, 1) := dk_4 (dk_at dksX1_pend_0 21 rfl rfl)
theorem dX1_pend_22 : decode cX1_pend 22 = .ok (.goto 4, 3) := dk_167 0 4 (dk_at dksX1_pend_1 0 rfl rfl)
theorem dX1_pend_25 : decode cX1_pend 25 = .ok (.iconst 0, 1) := dk_3 (dk_at dksX1_pend_1 3 rfl rfl)
theorem dX1_pend_26 : decode cX1_pend 26 = .ok (.ireturn, 1) := dk_172 (dk_at dksX1_pend_1 4 rfl rfl)
abbrev cX1_clear : ByteArray := prog_1_method_15_code
def yX1_clear : MethodName := ⟨RX1, "clear", "(I)Z"⟩
def dkwX1_clear_1 : List UInt8 := [153, 0, 7, 4, 167, 0, 4, 3, 172]
abbrev dktX1_clear_1 : List UInt8 := dkwX1_clear_1 ++ []
def dkwX1_clear_0 : List UInt8 := [27, 3, 16, 20, 184, 0, 77, 153, 0, 22, 42, 180, 0, 51, 180, 0, 89, 27, 50, 182, 0, 122]
abbrev dktX1_clear_0 : List UInt8 := dkwX1_clear_0 ++ dktX1_clear_1
theorem dksX1_clear_0 : cX1_clear.data.toList.drop 0 = dktX1_clear_0 := by decide +kernel
theorem dksX1_clear_1 : cX1_clear.data.toList.drop 22 = dktX1_clear_1 := dk_seg dksX1_clear_0 22 rfl rfl
theorem dX1_clear_0 : decode cX1_clear 0 = .ok (.iload_n 1, 1) := dk_27 (dk_at dksX1_clear_0 0 rfl rfl)
theorem dX1_clear_1 : decode cX1_clear 1 = .ok (.iconst 0, 1) := dk_3 (dk_at dksX1_clear_0 1 rfl rfl)
theorem dX1_clear_2 : decode cX1_clear 2 = .ok (.bipush 20, 2) := dk_16 20 (dk_at dksX1_clear_0 2 rfl rfl)
theorem dX1_clear_4 : decode cX1_clear 4 = .ok (.invokestatic 77, 3) := dk_184 0 77 (dk_at dksX1_clear_0 4 rfl rfl)
theorem dX1_clear_7 : decode cX1_clear 7 = .ok (.ifCond .eq 22, 3) := dk_153 0 22 (dk_at dksX1_clear_0 7 rfl rfl)
theorem dX1_clear_10 : decode cX1_clear 10 = .ok (.aload_n 0, 1) := dk_42 (dk_at dksX1_clear_0 10 rfl rfl)
theorem dX1_clear_11 : decode cX1_clear 11 = .ok (.getfield 51, 3) := dk_180 0 51 (dk_at dksX1_clear_0 11 rfl rfl)
theorem dX1_clear_14 : decode cX1_clear 14 = .ok (.getfield 89, 3) := dk_180 0 89 (dk_at dksX1_clear_0 14 rfl rfl)
theorem dX1_clear_17 : decode cX1_clear 17 = .ok (.iload_n 1, 1) := dk_27 (dk_at dksX1_clear_0 17 rfl rfl)
theorem dX1_clear_18 : decode cX1_clear 18 = .ok (.aaload, 1) := dk_50 (dk_at dksX1_clear_0 18 rfl rfl)
theorem dX1_clear_19 : decode cX1_clear 19 = .ok (.invokevirtual 122, 3) := dk_182 0 122 (dk_at dksX1_clear_0 19 rfl rfl)
theorem dX1_clear_22 : decode cX1_clear 22 = .ok (.ifCond .eq 7, 3) := dk_153 0 7 (dk_at dksX1_clear_1 0 rfl rfl)
theorem dX1_clear_25 : decode cX1_clear 25 = .ok (.iconst 1, 1) := dk_4 (dk_at dksX1_clear_1 3 rfl rfl)
theorem dX1_clear_26 : decode cX1_clear 26 = .ok (.goto 4, 3) := dk_167 0 4 (dk_at dksX1_clear_1 4 rfl rfl)
theorem dX1_clear_29 : decode cX1_clear 29 = .ok (.iconst 0, 1) := dk_3 (dk_at dksX1_clear_1 7 rfl rfl)
theorem dX1_clear_30 : decode cX1_clear 30 = .ok (.ireturn, 1) := dk_172 (dk_at dksX1_clear_1 8 rfl rfl)
abbrev cX1_timer : ByteArray := prog_1_method_16_code
def yX1_timer : MethodName := ⟨RX1, "timer", "(I)Z"⟩
def dkwX1_timer_1 : List UInt8 := [180, 0, 51, 27, 181, 0, 65, 4, 172]
abbrev dktX1_timer_1 : List UInt8 := dkwX1_timer_1 ++ []
def dkwX1_timer_0 : List UInt8 := [27, 3, 17, 3, 231, 184, 0, 77, 154, 0, 5, 3, 172, 42, 180, 0, 51, 27, 181, 0, 125, 42]
abbrev dktX1_timer_0 : List UInt8 := dkwX1_timer_0 ++ dktX1_timer_1
theorem dksX1_timer_0 : cX1_timer.data.toList.drop 0 = dktX1_timer_0 := by decide +kernel
theorem dksX1_timer_1 : cX1_timer.data.toList.drop 22 = dktX1_timer_1 := dk_seg dksX1_timer_0 22 rfl rfl
theorem dX1_timer_0 : decode cX1_timer 0 = .ok (.iload_n 1, 1) := dk_27 (dk_at dksX1_timer_0 0 rfl rfl)
theorem dX1_timer_1 : decode cX1_timer 1 = .ok (.iconst 0, 1) := dk_3 (dk_at dksX1_timer_0 1 rfl rfl)
theorem dX1_timer_2 : decode cX1_timer 2 = .ok (.sipush 999, 3) := dk_17 3 231 (dk_at dksX1_timer_0 2 rfl rfl)
theorem dX1_timer_5 : decode cX1_timer 5 = .ok (.invokestatic 77, 3) := dk_184 0 77 (dk_at dksX1_timer_0 5 rfl rfl)
theorem dX1_timer_8 : decode cX1_timer 8 = .ok (.ifCond .ne 5, 3) := dk_154 0 5 (dk_at dksX1_timer_0 8 rfl rfl)
theorem dX1_timer_11 : decode cX1_timer 11 = .ok (.iconst 0, 1) := dk_3 (dk_at dksX1_timer_0 11 rfl rfl)
theorem dX1_timer_12 : decode cX1_timer 12 = .ok (.ireturn, 1) := dk_172 (dk_at dksX1_timer_0 12 rfl rfl)
theorem dX1_timer_13 : decode cX1_timer 13 = .ok (.aload_n 0, 1) := dk_42 (dk_at dksX1_timer_0 13 rfl rfl)
theorem dX1_timer_14 : decode cX1_timer 14 = .ok (.getfield 51, 3) := dk_180 0 51 (dk_at dksX1_timer_0 14 rfl rfl)
theorem dX1_timer_17 : decode cX1_timer 17 = .ok (.iload_n 1, 1) := dk_27 (dk_at dksX1_timer_0 17 rfl rfl)
theorem dX1_timer_18 : decode cX1_timer 18 = .ok (.putfield 125, 3) := dk_181 0 125 (dk_at dksX1_timer_0 18 rfl rfl)
theorem dX1_timer_21 : decode cX1_timer 21 = .ok (.aload_n 0, 1) := dk_42 (dk_at dksX1_timer_0 21 rfl rfl)
theorem dX1_timer_22 : decode cX1_timer 22 = .ok (.getfield 51, 3) := dk_180 0 51 (dk_at dksX1_timer_1 0 rfl rfl)
theorem dX1_timer_25 : decode cX1_timer 25 = .ok (.iload_n 1, 1) := dk_27 (dk_at dksX1_timer_1 3 rfl rfl)
theorem dX1_timer_26 : decode cX1_timer 26 = .ok (.putfield 65, 3) := dk_181 0 65 (dk_at dksX1_timer_1 4 rfl rfl)
theorem dX1_timer_29 : decode cX1_timer 29 = .ok (.iconst 1, 1) := dk_4 (dk_at dksX1_timer_1 7 rfl rfl)
theorem dX1_timer_30 : decode cX1_timer 30 = .ok (.ireturn, 1) := dk_172 (dk_at dksX1_timer_1 8 rfl rfl)
abbrev cX1_arrive : ByteArray := prog_1_method_17_code
def yX1_arrive : MethodName := ⟨RX1, "arrive", "(II)Z"⟩
def dkwX1_arrive_3 : List UInt8 := [180, 0, 128, 27, 79, 42, 180, 0, 51, 89, 180, 0, 128, 4, 96, 181, 0, 128, 4, 172]
abbrev dktX1_arrive_3 : List UInt8 := dkwX1_arrive_3 ++ []
def dkwX1_arrive_2 : List UInt8 := [180, 0, 128, 42, 180, 0, 51, 180, 0, 135, 28, 96, 79, 42, 180, 0, 51, 180, 0, 138, 42, 180, 0, 51]
abbrev dktX1_arrive_2 : List UInt8 := dkwX1_arrive_2 ++ dktX1_arrive_3
def dkwX1_arrive_1 : List UInt8 := [180, 0, 51, 180, 0, 128, 16, 32, 160, 0, 5, 3, 172, 42, 180, 0, 51, 180, 0, 131, 42, 180, 0, 51]
abbrev dktX1_arrive_1 : List UInt8 := dkwX1_arrive_1 ++ dktX1_arrive_2
def dkwX1_arrive_0 : List UInt8 := [27, 3, 16, 17, 184, 0, 77, 153, 0, 26, 28, 4, 17, 3, 231, 184, 0, 77, 153, 0, 15, 42]
abbrev dktX1_arrive_0 : List UInt8 := dkwX1_arrive_0 ++ dktX1_arrive_1
theorem dksX1_arrive_0 : cX1_arrive.data.toList.drop 0 = dktX1_arrive_0 := by decide +kernel
theorem dksX1_arrive_1 : cX1_arrive.data.toList.drop 22 = dktX1_arrive_1 := dk_seg dksX1_arrive_0 22 rfl rfl
theorem dksX1_arrive_2 : cX1_arrive.data.toList.drop 46 = dktX1_arrive_2 := dk_seg dksX1_arrive_1 24 rfl rfl
theorem dksX1_arrive_3 : cX1_arrive.data.toList.drop 70 = dktX1_arrive_3 := dk_seg dksX1_arrive_2 24 rfl rfl
theorem dX1_arrive_0 : decode cX1_arrive 0 = .ok (.iload_n 1, 1) := dk_27 (dk_at dksX1_arrive_0 0 rfl rfl)
theorem dX1_arrive_1 : decode cX1_arrive 1 = .ok (.iconst 0, 1) := dk_3 (dk_at dksX1_arrive_0 1 rfl rfl)
theorem dX1_arrive_2 : decode cX1_arrive 2 = .ok (.bipush 17, 2) := dk_16 17 (dk_at dksX1_arrive_0 2 rfl rfl)
theorem dX1_arrive_4 : decode cX1_arrive 4 = .ok (.invokestatic 77, 3) := dk_184 0 77 (dk_at dksX1_arrive_0 4 rfl rfl)
theorem dX1_arrive_7 : decode cX1_arrive 7 = .ok (.ifCond .eq 26, 3) := dk_153 0 26 (dk_at dksX1_arrive_0 7 rfl rfl)
theorem dX1_arrive_10 : decode cX1_arrive 10 = .ok (.iload_n 2, 1) := dk_28 (dk_at dksX1_arrive_0 10 rfl rfl)
theorem dX1_arrive_11 : decode cX1_arrive 11 = .ok (.iconst 1, 1) := dk_4 (dk_at dksX1_arrive_0 11 rfl rfl)
theorem dX1_arrive_12 : decode cX1_arrive 12 = .ok (.sipush 999, 3) := dk_17 3 231 (dk_at dksX1_arrive_0 12 rfl rfl)
theorem dX1_arrive_15 : decode cX1_arrive 15 = .ok (.invokestatic 77, 3) := dk_184 0 77 (dk_at dksX1_arrive_0 15 rfl rfl)
theorem dX1_arrive_18 : decode cX1_arrive 18 = .ok (.ifCond .eq 15, 3) := dk_153 0 15 (dk_at dksX1_arrive_0 18 rfl rfl)
theorem dX1_arrive_21 : decode cX1_arrive 21 = .ok (.aload_n 0, 1) := dk_42 (dk_at dksX1_arrive_0 21 rfl rfl)
theorem dX1_arrive_22 : decode cX1_arrive 22 = .ok (.getfield 51, 3) := dk_180 0 51 (dk_at dksX1_arrive_1 0 rfl rfl)
theorem dX1_arrive_25 : decode cX1_arrive 25 = .ok (.getfield 128, 3) := dk_180 0 128 (dk_at dksX1_arrive_1 3 rfl rfl)
theorem dX1_arrive_28 : decode cX1_arrive 28 = .ok (.bipush 32, 2) := dk_16 32 (dk_at dksX1_arrive_1 6 rfl rfl)
theorem dX1_arrive_30 : decode cX1_arrive 30 = .ok (.if_icmp .ne 5, 3) := dk_160 0 5 (dk_at dksX1_arrive_1 8 rfl rfl)
theorem dX1_arrive_33 : decode cX1_arrive 33 = .ok (.iconst 0, 1) := dk_3 (dk_at dksX1_arrive_1 11 rfl rfl)
theorem dX1_arrive_34 : decode cX1_arrive 34 = .ok (.ireturn, 1) := dk_172 (dk_at dksX1_arrive_1 12 rfl rfl)
theorem dX1_arrive_35 : decode cX1_arrive 35 = .ok (.aload_n 0, 1) := dk_42 (dk_at dksX1_arrive_1 13 rfl rfl)
theorem dX1_arrive_36 : decode cX1_arrive 36 = .ok (.getfield 51, 3) := dk_180 0 51 (dk_at dksX1_arrive_1 14 rfl rfl)
theorem dX1_arrive_39 : decode cX1_arrive 39 = .ok (.getfield 131, 3) := dk_180 0 131 (dk_at dksX1_arrive_1 17 rfl rfl)
theorem dX1_arrive_42 : decode cX1_arrive 42 = .ok (.aload_n 0, 1) := dk_42 (dk_at dksX1_arrive_1 20 rfl rfl)
theorem dX1_arrive_43 : decode cX1_arrive 43 = .ok (.getfield 51, 3) := dk_180 0 51 (dk_at dksX1_arrive_1 21 rfl rfl)
theorem dX1_arrive_46 : decode cX1_arrive 46 = .ok (.getfield 128, 3) := dk_180 0 128 (dk_at dksX1_arrive_2 0 rfl rfl)
theorem dX1_arrive_49 : decode cX1_arrive 49 = .ok (.aload_n 0, 1) := dk_42 (dk_at dksX1_arrive_2 3 rfl rfl)
theorem dX1_arrive_50 : decode cX1_arrive 50 = .ok (.getfield 51, 3) := dk_180 0 51 (dk_at dksX1_arrive_2 4 rfl rfl)
theorem dX1_arrive_53 : decode cX1_arrive 53 = .ok (.getfield 135, 3) := dk_180 0 135 (dk_at dksX1_arrive_2 7 rfl rfl)
theorem dX1_arrive_56 : decode cX1_arrive 56 = .ok (.iload_n 2, 1) := dk_28 (dk_at dksX1_arrive_2 10 rfl rfl)
theorem dX1_arrive_57 : decode cX1_arrive 57 = .ok (.iadd, 1) := dk_96 (dk_at dksX1_arrive_2 11 rfl rfl)
theorem dX1_arrive_58 : decode cX1_arrive 58 = .ok (.iastore, 1) := dk_79 (dk_at dksX1_arrive_2 12 rfl rfl)
theorem dX1_arrive_59 : decode cX1_arrive 59 = .ok (.aload_n 0, 1) := dk_42 (dk_at dksX1_arrive_2 13 rfl rfl)
theorem dX1_arrive_60 : decode cX1_arrive 60 = .ok (.getfield 51, 3) := dk_180 0 51 (dk_at dksX1_arrive_2 14 rfl rfl)
theorem dX1_arrive_63 : decode cX1_arrive 63 = .ok (.getfield 138, 3) := dk_180 0 138 (dk_at dksX1_arrive_2 17 rfl rfl)
theorem dX1_arrive_66 : decode cX1_arrive 66 = .ok (.aload_n 0, 1) := dk_42 (dk_at dksX1_arrive_2 20 rfl rfl)
theorem dX1_arrive_67 : decode cX1_arrive 67 = .ok (.getfield 51, 3) := dk_180 0 51 (dk_at dksX1_arrive_2 21 rfl rfl)
theorem dX1_arrive_70 : decode cX1_arrive 70 = .ok (.getfield 128, 3) := dk_180 0 128 (dk_at dksX1_arrive_3 0 rfl rfl)
theorem dX1_arrive_73 : decode cX1_arrive 73 = .ok (.iload_n 1, 1) := dk_27 (dk_at dksX1_arrive_3 3 rfl rfl)
theorem dX1_arrive_74 : decode cX1_arrive 74 = .ok (.iastore, 1) := dk_79 (dk_at dksX1_arrive_3 4 rfl rfl)
theorem dX1_arrive_75 : decode cX1_arrive 75 = .ok (.aload_n 0, 1) := dk_42 (dk_at dksX1_arrive_3 5 rfl rfl)
theorem dX1_arrive_76 : decode cX1_arrive 76 = .ok (.getfield 51, 3) := dk_180 0 51 (dk_at dksX1_arrive_3 6 rfl rfl)
theorem dX1_arrive_79 : decode cX1_arrive 79 = .ok (.dup, 1) := dk_89 (dk_at dksX1_arrive_3 9 rfl rfl)
theorem dX1_arrive_80 : decode cX1_arrive 80 = .ok (.getfield 128, 3) := dk_180 0 128 (dk_at dksX1_arrive_3 10 rfl rfl)
theorem dX1_arrive_83 : decode cX1_arrive 83 = .ok (.iconst 1, 1) := dk_4 (dk_at dksX1_arrive_3 13 rfl rfl)
theorem dX1_arrive_84 : decode cX1_arrive 84 = .ok (.iadd, 1) := dk_96 (dk_at dksX1_arrive_3 14 rfl rfl)
theorem dX1_arrive_85 : decode cX1_arrive 85 = .ok (.putfield 128, 3) := dk_181 0 128 (dk_at dksX1_arrive_3 15 rfl rfl)
theorem dX1_arrive_88 : decode cX1_arrive 88 = .ok (.iconst 1, 1) := dk_4 (dk_at dksX1_arrive_3 18 rfl rfl)
theorem dX1_arrive_89 : decode cX1_arrive 89 = .ok (.ireturn, 1) := dk_172 (dk_at dksX1_arrive_3 19 rfl rfl)
abbrev cX1_run : ByteArray := prog_1_method_18_code
def yX1_run : MethodName := ⟨RX1, "run", "(I)I"⟩
def dkwX1_run_1 : List UInt8 := [180, 0, 141, 8, 159, 0, 16, 42, 180, 0, 51, 182, 0, 144, 132, 2, 1, 167, 255, 230, 28, 172]
abbrev dktX1_run_1 : List UInt8 := dkwX1_run_1 ++ []
def dkwX1_run_0 : List UInt8 := [27, 4, 17, 0, 200, 184, 0, 77, 154, 0, 5, 2, 172, 3, 61, 28, 27, 162, 0, 27, 42, 180, 0, 51]
abbrev dktX1_run_0 : List UInt8 := dkwX1_run_0 ++ dktX1_run_1
theorem dksX1_run_0 : cX1_run.data.toList.drop 0 = dktX1_run_0 := by decide +kernel
theorem dksX1_run_1 : cX1_run.data.toList.drop 24 = dktX1_run_1 := dk_seg dksX1_run_0 24 rfl rfl
theorem dX1_run_0 : decode cX1_run 0 = .ok (.iload_n 1, 1) := dk_27 (dk_at dksX1_run_0 0 rfl rfl)
theorem dX1_run_1 : decode cX1_run 1 = .ok (.iconst 1, 1) := dk_4 (dk_at dksX1_run_0 1 rfl rfl)
theorem dX1_run_2 : decode cX1_run 2 = .ok (.sipush 200, 3) := dk_17 0 200 (dk_at dksX1_run_0 2 rfl rfl)
theorem dX1_run_5 : decode cX1_run 5 = .ok (.invokestatic 77, 3) := dk_184 0 77 (dk_at dksX1_run_0 5 rfl rfl)
theorem dX1_run_8 : decode cX1_run 8 = .ok (.ifCond .ne 5, 3) := dk_154 0 5 (dk_at dksX1_run_0 8 rfl rfl)
theorem dX1_run_11 : decode cX1_run 11 = .ok (.iconst (-1), 1) := dk_2 (dk_at dksX1_run_0 11 rfl rfl)
theorem dX1_run_12 : decode cX1_run 12 = .ok (.ireturn, 1) := dk_172 (dk_at dksX1_run_0 12 rfl rfl)
theorem dX1_run_13 : decode cX1_run 13 = .ok (.iconst 0, 1) := dk_3 (dk_at dksX1_run_0 13 rfl rfl)
theorem dX1_run_14 : decode cX1_run 14 = .ok (.istore_n 2, 1) := dk_61 (dk_at dksX1_run_0 14 rfl rfl)
theorem dX1_run_15 : decode cX1_run 15 = .ok (.iload_n 2, 1) := dk_28 (dk_at dksX1_run_0 15 rfl rfl)
theorem dX1_run_16 : decode cX1_run 16 = .ok (.iload_n 1, 1) := dk_27 (dk_at dksX1_run_0 16 rfl rfl)
theorem dX1_run_17 : decode cX1_run 17 = .ok (.if_icmp .ge 27, 3) := dk_162 0 27 (dk_at dksX1_run_0 17 rfl rfl)
theorem dX1_run_20 : decode cX1_run 20 = .ok (.aload_n 0, 1) := dk_42 (dk_at dksX1_run_0 20 rfl rfl)
theorem dX1_run_21 : decode cX1_run 21 = .ok (.getfield 51, 3) := dk_180 0 51 (dk_at dksX1_run_0 21 rfl rfl)
theorem dX1_run_24 : decode cX1_run 24 = .ok (.getfield 141, 3) := dk_180 0 141 (dk_at dksX1_run_1 0 rfl rfl)
theorem dX1_run_27 : decode cX1_run 27 = .ok (.iconst 5, 1) := dk_8 (dk_at dksX1_run_1 3 rfl rfl)
theorem dX1_run_28 : decode cX1_run 28 = .ok (.if_icmp .eq 16, 3) := dk_159 0 16 (dk_at dksX1_run_1 4 rfl rfl)
theorem dX1_run_31 : decode cX1_run 31 = .ok (.aload_n 0, 1) := dk_42 (dk_at dksX1_run_1 7 rfl rfl)
theorem dX1_run_32 : decode cX1_run 32 = .ok (.getfield 51, 3) := dk_180 0 51 (dk_at dksX1_run_1 8 rfl rfl)
theorem dX1_run_35 : decode cX1_run 35 = .ok (.invokevirtual 144, 3) := dk_182 0 144 (dk_at dksX1_run_1 11 rfl rfl)
theorem dX1_run_38 : decode cX1_run 38 = .ok (.iinc 2 1, 3) := dk_132 2 1 (dk_at dksX1_run_1 14 rfl rfl)
theorem dX1_run_41 : decode cX1_run 41 = .ok (.goto (-26), 3) := dk_167 255 230 (dk_at dksX1_run_1 17 rfl rfl)
theorem dX1_run_44 : decode cX1_run 44 = .ok (.iload_n 2, 1) := dk_28 (dk_at dksX1_run_1 20 rfl rfl)
theorem dX1_run_45 : decode cX1_run 45 = .ok (.ireturn, 1) := dk_172 (dk_at dksX1_run_1 21 rfl rfl)
abbrev cX1_till : ByteArray := prog_1_method_20_code
def yX1_till : MethodName := ⟨RX1, "till", "(I)I"⟩
def dkwX1_till_0 : List UInt8 := [27, 3, 16, 20, 184, 0, 77, 153, 0, 14, 42, 180, 0, 51, 27, 184, 0, 150, 167, 0, 4, 2, 172]
abbrev dktX1_till_0 : List UInt8 := dkwX1_till_0 ++ []
theorem dksX1_till_0 : cX1_till.data.toList.drop 0 = dktX1_till_0 := by decide +kernel
theorem dX1_till_0 : decode cX1_till 0 = .ok (.iload_n 1, 1) := dk_27 (dk_at dksX1_till_0 0 rfl rfl)
theorem dX1_till_1 : decode cX1_till 1 = .ok (.iconst 0, 1) := dk_3 (dk_at dksX1_till_0 1 rfl rfl)
theorem dX1_till_2 : decode cX1_till 2 = .ok (.bipush 20, 2) := dk_16 20 (dk_at dksX1_till_0 2 rfl rfl)
theorem dX1_till_4 : decode cX1_till 4 = .ok (.invokestatic 77, 3) := dk_184 0 77 (dk_at dksX1_till_0 4 rfl rfl)
theorem dX1_till_7 : decode cX1_till 7 = .ok (.ifCond .eq 14, 3) := dk_153 0 14 (dk_at dksX1_till_0 7 rfl rfl)
theorem dX1_till_10 : decode cX1_till 10 = .ok (.aload_n 0, 1) := dk_42 (dk_at dksX1_till_0 10 rfl rfl)
theorem dX1_till_11 : decode cX1_till 11 = .ok (.getfield 51, 3) := dk_180 0 51 (dk_at dksX1_till_0 11 rfl rfl)
theorem dX1_till_14 : decode cX1_till 14 = .ok (.iload_n 1, 1) := dk_27 (dk_at dksX1_till_0 14 rfl rfl)
theorem dX1_till_15 : decode cX1_till 15 = .ok (.invokestatic 150, 3) := dk_184 0 150 (dk_at dksX1_till_0 15 rfl rfl)
theorem dX1_till_18 : decode cX1_till 18 = .ok (.goto 4, 3) := dk_167 0 4 (dk_at dksX1_till_0 18 rfl rfl)
theorem dX1_till_21 : decode cX1_till 21 = .ok (.iconst (-1), 1) := dk_2 (dk_at dksX1_till_0 21 rfl rfl)
theorem dX1_till_22 : decode cX1_till 22 = .ok (.ireturn, 1) := dk_172 (dk_at dksX1_till_0 22 rfl rfl)
abbrev cX1_goes : ByteArray := prog_1_method_19_code
def yX1_goes : MethodName := ⟨RX1, "goes", "(LRankEntry$Core;I)I"⟩
def dkwX1_goes_1 : List UInt8 := [180, 0, 147, 27, 160, 0, 5, 28, 172, 132, 2, 1, 167, 255, 224, 2, 172]
abbrev dktX1_goes_1 : List UInt8 := dkwX1_goes_1 ++ []
def dkwX1_goes_0 : List UInt8 := [4, 61, 28, 17, 1, 44, 163, 0, 31, 42, 180, 0, 141, 8, 159, 0, 23, 42, 182, 0, 144, 42]
abbrev dktX1_goes_0 : List UInt8 := dkwX1_goes_0 ++ dktX1_goes_1
theorem dksX1_goes_0 : cX1_goes.data.toList.drop 0 = dktX1_goes_0 := by decide +kernel
theorem dksX1_goes_1 : cX1_goes.data.toList.drop 22 = dktX1_goes_1 := dk_seg dksX1_goes_0 22 rfl rfl
theorem dX1_goes_0 : decode cX1_goes 0 = .ok (.iconst 1, 1) := dk_4 (dk_at dksX1_goes_0 0 rfl rfl)
theorem dX1_goes_1 : decode cX1_goes 1 = .ok (.istore_n 2, 1) := dk_61 (dk_at dksX1_goes_0 1 rfl rfl)
theorem dX1_goes_2 : decode cX1_goes 2 = .ok (.iload_n 2, 1) := dk_28 (dk_at dksX1_goes_0 2 rfl rfl)
theorem dX1_goes_3 : decode cX1_goes 3 = .ok (.sipush 300, 3) := dk_17 1 44 (dk_at dksX1_goes_0 3 rfl rfl)
theorem dX1_goes_6 : decode cX1_goes 6 = .ok (.if_icmp .gt 31, 3) := dk_163 0 31 (dk_at dksX1_goes_0 6 rfl rfl)
theorem dX1_goes_9 : decode cX1_goes 9 = .ok (.aload_n 0, 1) := dk_42 (dk_at dksX1_goes_0 9 rfl rfl)
theorem dX1_goes_10 : decode cX1_goes 10 = .ok (.getfield 141, 3) := dk_180 0 141 (dk_at dksX1_goes_0 10 rfl rfl)
theorem dX1_goes_13 : decode cX1_goes 13 = .ok (.iconst 5, 1) := dk_8 (dk_at dksX1_goes_0 13 rfl rfl)
theorem dX1_goes_14 : decode cX1_goes 14 = .ok (.if_icmp .eq 23, 3) := dk_159 0 23 (dk_at dksX1_goes_0 14 rfl rfl)
theorem dX1_goes_17 : decode cX1_goes 17 = .ok (.aload_n 0, 1) := dk_42 (dk_at dksX1_goes_0 17 rfl rfl)
theorem dX1_goes_18 : decode cX1_goes 18 = .ok (.invokevirtual 144, 3) := dk_182 0 144 (dk_at dksX1_goes_0 18 rfl rfl)
theorem dX1_goes_21 : decode cX1_goes 21 = .ok (.aload_n 0, 1) := dk_42 (dk_at dksX1_goes_0 21 rfl rfl)
theorem dX1_goes_22 : decode cX1_goes 22 = .ok (.getfield 147, 3) := dk_180 0 147 (dk_at dksX1_goes_1 0 rfl rfl)
theorem dX1_goes_25 : decode cX1_goes 25 = .ok (.iload_n 1, 1) := dk_27 (dk_at dksX1_goes_1 3 rfl rfl)
theorem dX1_goes_26 : decode cX1_goes 26 = .ok (.if_icmp .ne 5, 3) := dk_160 0 5 (dk_at dksX1_goes_1 4 rfl rfl)
theorem dX1_goes_29 : decode cX1_goes 29 = .ok (.iload_n 2, 1) := dk_28 (dk_at dksX1_goes_1 7 rfl rfl)
theorem dX1_goes_30 : decode cX1_goes 30 = .ok (.ireturn, 1) := dk_172 (dk_at dksX1_goes_1 8 rfl rfl)
theorem dX1_goes_31 : decode cX1_goes 31 = .ok (.iinc 2 1, 3) := dk_132 2 1 (dk_at dksX1_goes_1 9 rfl rfl)
theorem dX1_goes_34 : decode cX1_goes 34 = .ok (.goto (-32), 3) := dk_167 255 224 (dk_at dksX1_goes_1 12 rfl rfl)
theorem dX1_goes_37 : decode cX1_goes 37 = .ok (.iconst (-1), 1) := dk_2 (dk_at dksX1_goes_1 15 rfl rfl)
theorem dX1_goes_38 : decode cX1_goes 38 = .ok (.ireturn, 1) := dk_172 (dk_at dksX1_goes_1 16 rfl rfl)
abbrev cX1_reset : ByteArray := prog_1_method_21_code
def yX1_reset : MethodName := ⟨RX1, "reset", "()I"⟩
def dkwX1_reset_0 : List UInt8 := [42, 180, 0, 51, 180, 0, 108, 60, 42, 180, 0, 51, 182, 0, 154, 27, 172]
abbrev dktX1_reset_0 : List UInt8 := dkwX1_reset_0 ++ []
theorem dksX1_reset_0 : cX1_reset.data.toList.drop 0 = dktX1_reset_0 := by decide +kernel
theorem dX1_reset_0 : decode cX1_reset 0 = .ok (.aload_n 0, 1) := dk_42 (dk_at dksX1_reset_0 0 rfl rfl)
theorem dX1_reset_1 : decode cX1_reset 1 = .ok (.getfield 51, 3) := dk_180 0 51 (dk_at dksX1_reset_0 1 rfl rfl)
theorem dX1_reset_4 : decode cX1_reset 4 = .ok (.getfield 108, 3) := dk_180 0 108 (dk_at dksX1_reset_0 4 rfl rfl)
theorem dX1_reset_7 : decode cX1_reset 7 = .ok (.istore_n 1, 1) := dk_60 (dk_at dksX1_reset_0 7 rfl rfl)
theorem dX1_reset_8 : decode cX1_reset 8 = .ok (.aload_n 0, 1) := dk_42 (dk_at dksX1_reset_0 8 rfl rfl)
theorem dX1_reset_9 : decode cX1_reset 9 = .ok (.getfield 51, 3) := dk_180 0 51 (dk_at dksX1_reset_0 9 rfl rfl)
theorem dX1_reset_12 : decode cX1_reset 12 = .ok (.invokevirtual 154, 3) := dk_182 0 154 (dk_at dksX1_reset_0 12 rfl rfl)
theorem dX1_reset_15 : decode cX1_reset 15 = .ok (.iload_n 1, 1) := dk_27 (dk_at dksX1_reset_0 15 rfl rfl)
theorem dX1_reset_16 : decode cX1_reset 16 = .ok (.ireturn, 1) := dk_172 (dk_at dksX1_reset_0 16 rfl rfl)
abbrev cX1_source : ByteArray := prog_1_method_26_code
def yX1_source : MethodName := ⟨RX1, "source", "(II)I"⟩
def dkwX1_source_5 : List UInt8 := [182, 0, 201, 172, 45, 42, 180, 0, 51, 180, 0, 198, 182, 0, 204, 172, 16, 254, 172]
abbrev dktX1_source_5 : List UInt8 := dkwX1_source_5 ++ []
def dkwX1_source_4 : List UInt8 := [172, 45, 182, 0, 195, 153, 0, 7, 4, 167, 0, 4, 3, 172, 45, 42, 180, 0, 51, 180, 0, 198]
abbrev dktX1_source_4 : List UInt8 := dkwX1_source_4 ++ dktX1_source_5
def dkwX1_source_3 : List UInt8 := [180, 0, 192, 153, 0, 7, 4, 167, 0, 4, 3, 172, 45, 180, 0, 93, 153, 0, 7, 4, 167, 0, 4, 3]
abbrev dktX1_source_3 : List UInt8 := dkwX1_source_3 ++ dktX1_source_4
def dkwX1_source_2 : List UInt8 := [45, 182, 0, 188, 172, 45, 180, 0, 105, 172, 45, 180, 0, 102, 153, 0, 7, 4, 167, 0, 4, 3, 172, 45]
abbrev dktX1_source_2 : List UInt8 := dkwX1_source_2 ++ dktX1_source_3
def dkwX1_source_1 : List UInt8 := [170, 0, 0, 0, 0, 0, 0, 134, 0, 0, 0, 0, 0, 0, 0, 7, 0, 0, 0, 48, 0, 0, 0, 53, 0, 0, 0, 58, 0, 0, 0, 71, 0, 0, 0, 84, 0, 0, 0, 97, 0, 0, 0, 110, 0, 0, 0, 122]
abbrev dktX1_source_1 : List UInt8 := dkwX1_source_1 ++ dktX1_source_2
def dkwX1_source_0 : List UInt8 := [27, 3, 16, 20, 184, 0, 77, 154, 0, 6, 16, 254, 172, 42, 180, 0, 51, 180, 0, 89, 27, 50, 78, 28]
abbrev dktX1_source_0 : List UInt8 := dkwX1_source_0 ++ dktX1_source_1
theorem dksX1_source_0 : cX1_source.data.toList.drop 0 = dktX1_source_0 := by decide +kernel
theorem dksX1_source_1 : cX1_source.data.toList.drop 24 = dktX1_source_1 := dk_seg dksX1_source_0 24 rfl rfl
theorem dksX1_source_2 : cX1_source.data.toList.drop 72 = dktX1_source_2 := dk_seg dksX1_source_1 48 rfl rfl
theorem dksX1_source_3 : cX1_source.data.toList.drop 96 = dktX1_source_3 := dk_seg dksX1_source_2 24 rfl rfl
theorem dksX1_source_4 : cX1_source.data.toList.drop 120 = dktX1_source_4 := dk_seg dksX1_source_3 24 rfl rfl
theorem dksX1_source_5 : cX1_source.data.toList.drop 142 = dktX1_source_5 := dk_seg dksX1_source_4 22 rfl rfl
theorem dX1_source_0 : decode cX1_source 0 = .ok (.iload_n 1, 1) := dk_27 (dk_at dksX1_source_0 0 rfl rfl)
theorem dX1_source_1 : decode cX1_source 1 = .ok (.iconst 0, 1) := dk_3 (dk_at dksX1_source_0 1 rfl rfl)
theorem dX1_source_2 : decode cX1_source 2 = .ok (.bipush 20, 2) := dk_16 20 (dk_at dksX1_source_0 2 rfl rfl)
theorem dX1_source_4 : decode cX1_source 4 = .ok (.invokestatic 77, 3) := dk_184 0 77 (dk_at dksX1_source_0 4 rfl rfl)
theorem dX1_source_7 : decode cX1_source 7 = .ok (.ifCond .ne 6, 3) := dk_154 0 6 (dk_at dksX1_source_0 7 rfl rfl)
theorem dX1_source_10 : decode cX1_source 10 = .ok (.bipush (-2), 2) := dk_16 254 (dk_at dksX1_source_0 10 rfl rfl)
theorem dX1_source_12 : decode cX1_source 12 = .ok (.ireturn, 1) := dk_172 (dk_at dksX1_source_0 12 rfl rfl)
theorem dX1_source_13 : decode cX1_source 13 = .ok (.aload_n 0, 1) := dk_42 (dk_at dksX1_source_0 13 rfl rfl)
theorem dX1_source_14 : decode cX1_source 14 = .ok (.getfield 51, 3) := dk_180 0 51 (dk_at dksX1_source_0 14 rfl rfl)
theorem dX1_source_17 : decode cX1_source 17 = .ok (.getfield 89, 3) := dk_180 0 89 (dk_at dksX1_source_0 17 rfl rfl)
theorem dX1_source_20 : decode cX1_source 20 = .ok (.iload_n 1, 1) := dk_27 (dk_at dksX1_source_0 20 rfl rfl)
theorem dX1_source_21 : decode cX1_source 21 = .ok (.aaload, 1) := dk_50 (dk_at dksX1_source_0 21 rfl rfl)
theorem dX1_source_22 : decode cX1_source 22 = .ok (.astore_n 3, 1) := dk_78 (dk_at dksX1_source_0 22 rfl rfl)
theorem dX1_source_23 : decode cX1_source 23 = .ok (.iload_n 2, 1) := dk_28 (dk_at dksX1_source_0 23 rfl rfl)
theorem dX1_source_24 : decode cX1_source 24 = .ok (.tableswitch 134 0 7 #[48, 53, 58, 71, 84, 97, 110, 122], 48) := by decide +kernel
theorem dX1_source_72 : decode cX1_source 72 = .ok (.aload_n 3, 1) := dk_45 (dk_at dksX1_source_2 0 rfl rfl)
theorem dX1_source_73 : decode cX1_source 73 = .ok (.invokevirtual 188, 3) := dk_182 0 188 (dk_at dksX1_source_2 1 rfl rfl)
theorem dX1_source_76 : decode cX1_source 76 = .ok (.ireturn, 1) := dk_172 (dk_at dksX1_source_2 4 rfl rfl)
theorem dX1_source_77 : decode cX1_source 77 = .ok (.aload_n 3, 1) := dk_45 (dk_at dksX1_source_2 5 rfl rfl)
theorem dX1_source_78 : decode cX1_source 78 = .ok (.getfield 105, 3) := dk_180 0 105 (dk_at dksX1_source_2 6 rfl rfl)
theorem dX1_source_81 : decode cX1_source 81 = .ok (.ireturn, 1) := dk_172 (dk_at dksX1_source_2 9 rfl rfl)
theorem dX1_source_82 : decode cX1_source 82 = .ok (.aload_n 3, 1) := dk_45 (dk_at dksX1_source_2 10 rfl rfl)
theorem dX1_source_83 : decode cX1_source 83 = .ok (.getfield 102, 3) := dk_180 0 102 (dk_at dksX1_source_2 11 rfl rfl)
theorem dX1_source_86 : decode cX1_source 86 = .ok (.ifCond .eq 7, 3) := dk_153 0 7 (dk_at dksX1_source_2 14 rfl rfl)
theorem dX1_source_89 : decode cX1_source 89 = .ok (.iconst 1, 1) := dk_4 (dk_at dksX1_source_2 17 rfl rfl)
theorem dX1_source_90 : decode cX1_source 90 = .ok (.goto 4, 3) := dk_167 0 4 (dk_at dksX1_source_2 18 rfl rfl)
theorem dX1_source_93 : decode cX1_source 93 = .ok (.iconst 0, 1) := dk_3 (dk_at dksX1_source_2 21 rfl rfl)
theorem dX1_source_94 : decode cX1_source 94 = .ok (.ireturn, 1) := dk_172 (dk_at dksX1_source_2 22 rfl rfl)
theorem dX1_source_95 : decode cX1_source 95 = .ok (.aload_n 3, 1) := dk_45 (dk_at dksX1_source_2 23 rfl rfl)
theorem dX1_source_96 : decode cX1_source 96 = .ok (.getfield 192, 3) := dk_180 0 192 (dk_at dksX1_source_3 0 rfl rfl)
theorem dX1_source_99 : decode cX1_source 99 = .ok (.ifCond .eq 7, 3) := dk_153 0 7 (dk_at dksX1_source_3 3 rfl rfl)
theorem dX1_source_102 : decode cX1_source 102 = .ok (.iconst 1, 1) := dk_4 (dk_at dksX1_source_3 6 rfl rfl)
theorem dX1_source_103 : decode cX1_source 103 = .ok (.goto 4, 3) := dk_167 0 4 (dk_at dksX1_source_3 7 rfl rfl)
theorem dX1_source_106 : decode cX1_source 106 = .ok (.iconst 0, 1) := dk_3 (dk_at dksX1_source_3 10 rfl rfl)
theorem dX1_source_107 : decode cX1_source 107 = .ok (.ireturn, 1) := dk_172 (dk_at dksX1_source_3 11 rfl rfl)
theorem dX1_source_108 : decode cX1_source 108 = .ok (.aload_n 3, 1) := dk_45 (dk_at dksX1_source_3 12 rfl rfl)
theorem dX1_source_109 : decode cX1_source 109 = .ok (.getfield 93, 3) := dk_180 0 93 (dk_at dksX1_source_3 13 rfl rfl)
theorem dX1_source_112 : decode cX1_source 112 = .ok (.ifCond .eq 7, 3) := dk_153 0 7 (dk_at dksX1_source_3 16 rfl rfl)
theorem dX1_source_115 : decode cX1_source 115 = .ok (.iconst 1, 1) := dk_4 (dk_at dksX1_source_3 19 rfl rfl)
theorem dX1_source_116 : decode cX1_source 116 = .ok (.goto 4, 3) := dk_167 0 4 (dk_at dksX1_source_3 20 rfl rfl)
theorem dX1_source_119 : decode cX1_source 119 = .ok (.iconst 0, 1) := dk_3 (dk_at dksX1_source_3 23 rfl rfl)
theorem dX1_source_120 : decode cX1_source 120 = .ok (.ireturn, 1) := dk_172 (dk_at dksX1_source_4 0 rfl rfl)
theorem dX1_source_121 : decode cX1_source 121 = .ok (.aload_n 3, 1) := dk_45 (dk_at dksX1_source_4 1 rfl rfl)
theorem dX1_source_122 : decode cX1_source 122 = .ok (.invokevirtual 195, 3) := dk_182 0 195 (dk_at dksX1_source_4 2 rfl rfl)
theorem dX1_source_125 : decode cX1_source 125 = .ok (.ifCond .eq 7, 3) := dk_153 0 7 (dk_at dksX1_source_4 5 rfl rfl)
theorem dX1_source_128 : decode cX1_source 128 = .ok (.iconst 1, 1) := dk_4 (dk_at dksX1_source_4 8 rfl rfl)
theorem dX1_source_129 : decode cX1_source 129 = .ok (.goto 4, 3) := dk_167 0 4 (dk_at dksX1_source_4 9 rfl rfl)
theorem dX1_source_132 : decode cX1_source 132 = .ok (.iconst 0, 1) := dk_3 (dk_at dksX1_source_4 12 rfl rfl)
theorem dX1_source_133 : decode cX1_source 133 = .ok (.ireturn, 1) := dk_172 (dk_at dksX1_source_4 13 rfl rfl)
theorem dX1_source_134 : decode cX1_source 134 = .ok (.aload_n 3, 1) := dk_45 (dk_at dksX1_source_4 14 rfl rfl)
theorem dX1_source_135 : decode cX1_source 135 = .ok (.aload_n 0, 1) := dk_42 (dk_at dksX1_source_4 15 rfl rfl)
theorem dX1_source_136 : decode cX1_source 136 = .ok (.getfield 51, 3) := dk_180 0 51 (dk_at dksX1_source_4 16 rfl rfl)
theorem dX1_source_139 : decode cX1_source 139 = .ok (.getfield 198, 3) := dk_180 0 198 (dk_at dksX1_source_4 19 rfl rfl)
theorem dX1_source_142 : decode cX1_source 142 = .ok (.invokevirtual 201, 3) := dk_182 0 201 (dk_at dksX1_source_5 0 rfl rfl)
theorem dX1_source_145 : decode cX1_source 145 = .ok (.ireturn, 1) := dk_172 (dk_at dksX1_source_5 3 rfl rfl)
theorem dX1_source_146 : decode cX1_source 146 = .ok (.aload_n 3, 1) := dk_45 (dk_at dksX1_source_5 4 rfl rfl)
theorem dX1_source_147 : decode cX1_source 147 = .ok (.aload_n 0, 1) := dk_42 (dk_at dksX1_source_5 5 rfl rfl)
theorem dX1_source_148 : decode cX1_source 148 = .ok (.getfield 51, 3) := dk_180 0 51 (dk_at dksX1_source_5 6 rfl rfl)
theorem dX1_source_151 : decode cX1_source 151 = .ok (.getfield 198, 3) := dk_180 0 198 (dk_at dksX1_source_5 9 rfl rfl)
theorem dX1_source_154 : decode cX1_source 154 = .ok (.invokevirtual 204, 3) := dk_182 0 204 (dk_at dksX1_source_5 12 rfl rfl)
theorem dX1_source_157 : decode cX1_source 157 = .ok (.ireturn, 1) := dk_172 (dk_at dksX1_source_5 15 rfl rfl)
theorem dX1_source_158 : decode cX1_source 158 = .ok (.bipush (-2), 2) := dk_16 254 (dk_at dksX1_source_5 16 rfl rfl)
theorem dX1_source_160 : decode cX1_source 160 = .ok (.ireturn, 1) := dk_172 (dk_at dksX1_source_5 18 rfl rfl)
abbrev cX1_nest : ByteArray := prog_1_method_27_code
def yX1_nest : MethodName := ⟨RX1, "nest", "(I)I"⟩
def dkwX1_nest_1 : List UInt8 := [27, 46, 167, 0, 4, 2, 172]
abbrev dktX1_nest_1 : List UInt8 := dkwX1_nest_1 ++ []
def dkwX1_nest_0 : List UInt8 := [27, 3, 42, 180, 0, 51, 180, 0, 108, 4, 100, 184, 0, 77, 153, 0, 15, 42, 180, 0, 51, 180, 0, 207]
abbrev dktX1_nest_0 : List UInt8 := dkwX1_nest_0 ++ dktX1_nest_1
theorem dksX1_nest_0 : cX1_nest.data.toList.drop 0 = dktX1_nest_0 := by decide +kernel
theorem dksX1_nest_1 : cX1_nest.data.toList.drop 24 = dktX1_nest_1 := dk_seg dksX1_nest_0 24 rfl rfl
theorem dX1_nest_0 : decode cX1_nest 0 = .ok (.iload_n 1, 1) := dk_27 (dk_at dksX1_nest_0 0 rfl rfl)
theorem dX1_nest_1 : decode cX1_nest 1 = .ok (.iconst 0, 1) := dk_3 (dk_at dksX1_nest_0 1 rfl rfl)
theorem dX1_nest_2 : decode cX1_nest 2 = .ok (.aload_n 0, 1) := dk_42 (dk_at dksX1_nest_0 2 rfl rfl)
theorem dX1_nest_3 : decode cX1_nest 3 = .ok (.getfield 51, 3) := dk_180 0 51 (dk_at dksX1_nest_0 3 rfl rfl)
theorem dX1_nest_6 : decode cX1_nest 6 = .ok (.getfield 108, 3) := dk_180 0 108 (dk_at dksX1_nest_0 6 rfl rfl)
theorem dX1_nest_9 : decode cX1_nest 9 = .ok (.iconst 1, 1) := dk_4 (dk_at dksX1_nest_0 9 rfl rfl)
theorem dX1_nest_10 : decode cX1_nest 10 = .ok (.isub, 1) := dk_100 (dk_at dksX1_nest_0 10 rfl rfl)
theorem dX1_nest_11 : decode cX1_nest 11 = .ok (.invokestatic 77, 3) := dk_184 0 77 (dk_at dksX1_nest_0 11 rfl rfl)
theorem dX1_nest_14 : decode cX1_nest 14 = .ok (.ifCond .eq 15, 3) := dk_153 0 15 (dk_at dksX1_nest_0 14 rfl rfl)
theorem dX1_nest_17 : decode cX1_nest 17 = .ok (.aload_n 0, 1) := dk_42 (dk_at dksX1_nest_0 17 rfl rfl)
theorem dX1_nest_18 : decode cX1_nest 18 = .ok (.getfield 51, 3) := dk_180 0 51 (dk_at dksX1_nest_0 18 rfl rfl)
theorem dX1_nest_21 : decode cX1_nest 21 = .ok (.getfield 207, 3) := dk_180 0 207 (dk_at dksX1_nest_0 21 rfl rfl)
theorem dX1_nest_24 : decode cX1_nest 24 = .ok (.iload_n 1, 1) := dk_27 (dk_at dksX1_nest_1 0 rfl rfl)
theorem dX1_nest_25 : decode cX1_nest 25 = .ok (.iaload, 1) := dk_46 (dk_at dksX1_nest_1 1 rfl rfl)
theorem dX1_nest_26 : decode cX1_nest 26 = .ok (.goto 4, 3) := dk_167 0 4 (dk_at dksX1_nest_1 2 rfl rfl)
theorem dX1_nest_29 : decode cX1_nest 29 = .ok (.iconst (-1), 1) := dk_2 (dk_at dksX1_nest_1 5 rfl rfl)
theorem dX1_nest_30 : decode cX1_nest 30 = .ok (.ireturn, 1) := dk_172 (dk_at dksX1_nest_1 6 rfl rfl)
abbrev cX1_state : ByteArray := prog_1_method_28_code
def yX1_state : MethodName := ⟨RX1, "state", "(I)I"⟩
def dkwX1_state_7 : List UInt8 := [42, 180, 0, 51, 180, 0, 198, 172, 42, 180, 0, 51, 180, 0, 65, 172, 16, 254, 172]
abbrev dktX1_state_7 : List UInt8 := dkwX1_state_7 ++ []
def dkwX1_state_6 : List UInt8 := [42, 180, 0, 51, 180, 0, 240, 172, 42, 180, 0, 51, 182, 0, 243, 172, 42, 180, 0, 51, 182, 0, 246, 172]
abbrev dktX1_state_6 : List UInt8 := dkwX1_state_6 ++ dktX1_state_7
def dkwX1_state_5 : List UInt8 := [42, 180, 0, 51, 180, 0, 231, 172, 42, 180, 0, 51, 180, 0, 234, 172, 42, 180, 0, 51, 180, 0, 237, 172]
abbrev dktX1_state_5 : List UInt8 := dkwX1_state_5 ++ dktX1_state_6
def dkwX1_state_4 : List UInt8 := [42, 180, 0, 51, 180, 0, 222, 172, 42, 180, 0, 51, 180, 0, 225, 172, 42, 180, 0, 51, 180, 0, 228, 172]
abbrev dktX1_state_4 : List UInt8 := dkwX1_state_4 ++ dktX1_state_5
def dkwX1_state_3 : List UInt8 := [42, 180, 0, 51, 180, 0, 216, 153, 0, 7, 4, 167, 0, 4, 3, 172, 42, 180, 0, 51, 180, 0, 219, 172]
abbrev dktX1_state_3 : List UInt8 := dkwX1_state_3 ++ dktX1_state_4
def dkwX1_state_2 : List UInt8 := [42, 180, 0, 51, 180, 0, 141, 172, 42, 180, 0, 51, 180, 0, 210, 172, 42, 180, 0, 51, 180, 0, 213, 172]
abbrev dktX1_state_2 : List UInt8 := dkwX1_state_2 ++ dktX1_state_3
def dkwX1_state_1 : List UInt8 := [170, 0, 0, 0, 0, 0, 215, 0, 0, 0, 0, 0, 0, 0, 15, 0, 0, 0, 79, 0, 0, 0, 87, 0, 0, 0, 95, 0, 0, 0, 103, 0, 0, 0, 119, 0, 0, 0, 127, 0, 0, 0, 135, 0, 0, 0, 143, 0, 0, 0, 151, 0, 0, 0, 159, 0, 0, 0, 167, 0, 0, 0, 175, 0, 0, 0, 183, 0, 0, 0, 191, 0, 0, 0, 199, 0, 0, 0, 207]
abbrev dktX1_state_1 : List UInt8 := dkwX1_state_1 ++ dktX1_state_2
def dkwX1_state_0 : List UInt8 := [27]
abbrev dktX1_state_0 : List UInt8 := dkwX1_state_0 ++ dktX1_state_1
theorem dksX1_state_0 : cX1_state.data.toList.drop 0 = dktX1_state_0 := by decide +kernel
theorem dksX1_state_1 : cX1_state.data.toList.drop 1 = dktX1_state_1 := dk_seg dksX1_state_0 1 rfl rfl
theorem dksX1_state_2 : cX1_state.data.toList.drop 80 = dktX1_state_2 := dk_seg dksX1_state_1 79 rfl rfl
theorem dksX1_state_3 : cX1_state.data.toList.drop 104 = dktX1_state_3 := dk_seg dksX1_state_2 24 rfl rfl
theorem dksX1_state_4 : cX1_state.data.toList.drop 128 = dktX1_state_4 := dk_seg dksX1_state_3 24 rfl rfl
theorem dksX1_state_5 : cX1_state.data.toList.drop 152 = dktX1_state_5 := dk_seg dksX1_state_4 24 rfl rfl
theorem dksX1_state_6 : cX1_state.data.toList.drop 176 = dktX1_state_6 := dk_seg dksX1_state_5 24 rfl rfl
theorem dksX1_state_7 : cX1_state.data.toList.drop 200 = dktX1_state_7 := dk_seg dksX1_state_6 24 rfl rfl
theorem dX1_state_0 : decode cX1_state 0 = .ok (.iload_n 1, 1) := dk_27 (dk_at dksX1_state_0 0 rfl rfl)
theorem dX1_state_1 : decode cX1_state 1 = .ok (.tableswitch 215 0 15 #[79, 87, 95, 103, 119, 127, 135, 143, 151, 159, 167, 175, 183, 191, 199, 207], 79) := by decide +kernel
theorem dX1_state_80 : decode cX1_state 80 = .ok (.aload_n 0, 1) := dk_42 (dk_at dksX1_state_2 0 rfl rfl)
theorem dX1_state_81 : decode cX1_state 81 = .ok (.getfield 51, 3) := dk_180 0 51 (dk_at dksX1_state_2 1 rfl rfl)
theorem dX1_state_84 : decode cX1_state 84 = .ok (.getfield 141, 3) := dk_180 0 141 (dk_at dksX1_state_2 4 rfl rfl)
theorem dX1_state_87 : decode cX1_state 87 = .ok (.ireturn, 1) := dk_172 (dk_at dksX1_state_2 7 rfl rfl)
theorem dX1_state_88 : decode cX1_state 88 = .ok (.aload_n 0, 1) := dk_42 (dk_at dksX1_state_2 8 rfl rfl)
theorem dX1_state_89 : decode cX1_state 89 = .ok (.getfield 51, 3) := dk_180 0 51 (dk_at dksX1_state_2 9 rfl rfl)
theorem dX1_state_92 : decode cX1_state 92 = .ok (.getfield 210, 3) := dk_180 0 210 (dk_at dksX1_state_2 12 rfl rfl)
theorem dX1_state_95 : decode cX1_state 95 = .ok (.ireturn, 1) := dk_172 (dk_at dksX1_state_2 15 rfl rfl)
theorem dX1_state_96 : decode cX1_state 96 = .ok (.aload_n 0, 1) := dk_42 (dk_at dksX1_state_2 16 rfl rfl)
theorem dX1_state_97 : decode cX1_state 97 = .ok (.getfield 51, 3) := dk_180 0 51 (dk_at dksX1_state_2 17 rfl rfl)
theorem dX1_state_100 : decode cX1_state 100 = .ok (.getfield 213, 3) := dk_180 0 213 (dk_at dksX1_state_2 20 rfl rfl)
theorem dX1_state_103 : decode cX1_state 103 = .ok (.ireturn, 1) := dk_172 (dk_at dksX1_state_2 23 rfl rfl)
theorem dX1_state_104 : decode cX1_state 104 = .ok (.aload_n 0, 1) := dk_42 (dk_at dksX1_state_3 0 rfl rfl)
theorem dX1_state_105 : decode cX1_state 105 = .ok (.getfield 51, 3) := dk_180 0 51 (dk_at dksX1_state_3 1 rfl rfl)
theorem dX1_state_108 : decode cX1_state 108 = .ok (.getfield 216, 3) := dk_180 0 216 (dk_at dksX1_state_3 4 rfl rfl)
theorem dX1_state_111 : decode cX1_state 111 = .ok (.ifCond .eq 7, 3) := dk_153 0 7 (dk_at dksX1_state_3 7 rfl rfl)
theorem dX1_state_114 : decode cX1_state 114 = .ok (.iconst 1, 1) := dk_4 (dk_at dksX1_state_3 10 rfl rfl)
theorem dX1_state_115 : decode cX1_state 115 = .ok (.goto 4, 3) := dk_167 0 4 (dk_at dksX1_state_3 11 rfl rfl)
theorem dX1_state_118 : decode cX1_state 118 = .ok (.iconst 0, 1) := dk_3 (dk_at dksX1_state_3 14 rfl rfl)
theorem dX1_state_119 : decode cX1_state 119 = .ok (.ireturn, 1) := dk_172 (dk_at dksX1_state_3 15 rfl rfl)
theorem dX1_state_120 : decode cX1_state 120 = .ok (.aload_n 0, 1) := dk_42 (dk_at dksX1_state_3 16 rfl rfl)
theorem dX1_state_121 : decode cX1_state 121 = .ok (.getfield 51, 3) := dk_180 0 51 (dk_at dksX1_state_3 17 rfl rfl)
theorem dX1_state_124 : decode cX1_state 124 = .ok (.getfield 219, 3) := dk_180 0 219 (dk_at dksX1_state_3 20 rfl rfl)
theorem dX1_state_127 : decode cX1_state 127 = .ok (.ireturn, 1) := dk_172 (dk_at dksX1_state_3 23 rfl rfl)
theorem dX1_state_128 : decode cX1_state 128 = .ok (.aload_n 0, 1) := dk_42 (dk_at dksX1_state_4 0 rfl rfl)
theorem dX1_state_129 : decode cX1_state 129 = .ok (.getfield 51, 3) := dk_180 0 51 (dk_at dksX1_state_4 1 rfl rfl)
theorem dX1_state_132 : decode cX1_state 132 = .ok (.getfield 222, 3) := dk_180 0 222 (dk_at dksX1_state_4 4 rfl rfl)
theorem dX1_state_135 : decode cX1_state 135 = .ok (.ireturn, 1) := dk_172 (dk_at dksX1_state_4 7 rfl rfl)
theorem dX1_state_136 : decode cX1_state 136 = .ok (.aload_n 0, 1) := dk_42 (dk_at dksX1_state_4 8 rfl rfl)
theorem dX1_state_137 : decode cX1_state 137 = .ok (.getfield 51, 3) := dk_180 0 51 (dk_at dksX1_state_4 9 rfl rfl)
theorem dX1_state_140 : decode cX1_state 140 = .ok (.getfield 225, 3) := dk_180 0 225 (dk_at dksX1_state_4 12 rfl rfl)
theorem dX1_state_143 : decode cX1_state 143 = .ok (.ireturn, 1) := dk_172 (dk_at dksX1_state_4 15 rfl rfl)
theorem dX1_state_144 : decode cX1_state 144 = .ok (.aload_n 0, 1) := dk_42 (dk_at dksX1_state_4 16 rfl rfl)
theorem dX1_state_145 : decode cX1_state 145 = .ok (.getfield 51, 3) := dk_180 0 51 (dk_at dksX1_state_4 17 rfl rfl)
theorem dX1_state_148 : decode cX1_state 148 = .ok (.getfield 228, 3) := dk_180 0 228 (dk_at dksX1_state_4 20 rfl rfl)
theorem dX1_state_151 : decode cX1_state 151 = .ok (.ireturn, 1) := dk_172 (dk_at dksX1_state_4 23 rfl rfl)
theorem dX1_state_152 : decode cX1_state 152 = .ok (.aload_n 0, 1) := dk_42 (dk_at dksX1_state_5 0 rfl rfl)
theorem dX1_state_153 : decode cX1_state 153 = .ok (.getfield 51, 3) := dk_180 0 51 (dk_at dksX1_state_5 1 rfl rfl)
theorem dX1_state_156 : decode cX1_state 156 = .ok (.getfield 231, 3) := dk_180 0 231 (dk_at dksX1_state_5 4 rfl rfl)
theorem dX1_state_159 : decode cX1_state 159 = .ok (.ireturn, 1) := dk_172 (dk_at dksX1_state_5 7 rfl rfl)
theorem dX1_state_160 : decode cX1_state 160 = .ok (.aload_n 0, 1) := dk_42 (dk_at dksX1_state_5 8 rfl rfl)
theorem dX1_state_161 : decode cX1_state 161 = .ok (.getfield 51, 3) := dk_180 0 51 (dk_at dksX1_state_5 9 rfl rfl)
theorem dX1_state_164 : decode cX1_state 164 = .ok (.getfield 234, 3) := dk_180 0 234 (dk_at dksX1_state_5 12 rfl rfl)
theorem dX1_state_167 : decode cX1_state 167 = .ok (.ireturn, 1) := dk_172 (dk_at dksX1_state_5 15 rfl rfl)
theorem dX1_state_168 : decode cX1_state 168 = .ok (.aload_n 0, 1) := dk_42 (dk_at dksX1_state_5 16 rfl rfl)
theorem dX1_state_169 : decode cX1_state 169 = .ok (.getfield 51, 3) := dk_180 0 51 (dk_at dksX1_state_5 17 rfl rfl)
theorem dX1_state_172 : decode cX1_state 172 = .ok (.getfield 237, 3) := dk_180 0 237 (dk_at dksX1_state_5 20 rfl rfl)
theorem dX1_state_175 : decode cX1_state 175 = .ok (.ireturn, 1) := dk_172 (dk_at dksX1_state_5 23 rfl rfl)
theorem dX1_state_176 : decode cX1_state 176 = .ok (.aload_n 0, 1) := dk_42 (dk_at dksX1_state_6 0 rfl rfl)
theorem dX1_state_177 : decode cX1_state 177 = .ok (.getfield 51, 3) := dk_180 0 51 (dk_at dksX1_state_6 1 rfl rfl)
theorem dX1_state_180 : decode cX1_state 180 = .ok (.getfield 240, 3) := dk_180 0 240 (dk_at dksX1_state_6 4 rfl rfl)
theorem dX1_state_183 : decode cX1_state 183 = .ok (.ireturn, 1) := dk_172 (dk_at dksX1_state_6 7 rfl rfl)
theorem dX1_state_184 : decode cX1_state 184 = .ok (.aload_n 0, 1) := dk_42 (dk_at dksX1_state_6 8 rfl rfl)
theorem dX1_state_185 : decode cX1_state 185 = .ok (.getfield 51, 3) := dk_180 0 51 (dk_at dksX1_state_6 9 rfl rfl)
theorem dX1_state_188 : decode cX1_state 188 = .ok (.invokevirtual 243, 3) := dk_182 0 243 (dk_at dksX1_state_6 12 rfl rfl)
theorem dX1_state_191 : decode cX1_state 191 = .ok (.ireturn, 1) := dk_172 (dk_at dksX1_state_6 15 rfl rfl)
theorem dX1_state_192 : decode cX1_state 192 = .ok (.aload_n 0, 1) := dk_42 (dk_at dksX1_state_6 16 rfl rfl)
theorem dX1_state_193 : decode cX1_state 193 = .ok (.getfield 51, 3) := dk_180 0 51 (dk_at dksX1_state_6 17 rfl rfl)
theorem dX1_state_196 : decode cX1_state 196 = .ok (.invokevirtual 246, 3) := dk_182 0 246 (dk_at dksX1_state_6 20 rfl rfl)
theorem dX1_state_199 : decode cX1_state 199 = .ok (.ireturn, 1) := dk_172 (dk_at dksX1_state_6 23 rfl rfl)
theorem dX1_state_200 : decode cX1_state 200 = .ok (.aload_n 0, 1) := dk_42 (dk_at dksX1_state_7 0 rfl rfl)
theorem dX1_state_201 : decode cX1_state 201 = .ok (.getfield 51, 3) := dk_180 0 51 (dk_at dksX1_state_7 1 rfl rfl)
theorem dX1_state_204 : decode cX1_state 204 = .ok (.getfield 198, 3) := dk_180 0 198 (dk_at dksX1_state_7 4 rfl rfl)
theorem dX1_state_207 : decode cX1_state 207 = .ok (.ireturn, 1) := dk_172 (dk_at dksX1_state_7 7 rfl rfl)
theorem dX1_state_208 : decode cX1_state 208 = .ok (.aload_n 0, 1) := dk_42 (dk_at dksX1_state_7 8 rfl rfl)
theorem dX1_state_209 : decode cX1_state 209 = .ok (.getfield 51, 3) := dk_180 0 51 (dk_at dksX1_state_7 9 rfl rfl)
theorem dX1_state_212 : decode cX1_state 212 = .ok (.getfield 65, 3) := dk_180 0 65 (dk_at dksX1_state_7 12 rfl rfl)
theorem dX1_state_215 : decode cX1_state 215 = .ok (.ireturn, 1) := dk_172 (dk_at dksX1_state_7 15 rfl rfl)
theorem dX1_state_216 : decode cX1_state 216 = .ok (.bipush (-2), 2) := dk_16 254 (dk_at dksX1_state_7 16 rfl rfl)
theorem dX1_state_218 : decode cX1_state 218 = .ok (.ireturn, 1) := dk_172 (dk_at dksX1_state_7 18 rfl rfl)
abbrev cX1_count : ByteArray := prog_1_method_29_code
def yX1_count : MethodName := ⟨RX1, "count", "(I)I"⟩
def dkwX1_count_4 : List UInt8 := [180, 0, 249, 167, 0, 5, 16, 24, 172, 42, 180, 0, 51, 180, 0, 251, 27, 46, 172]
abbrev dktX1_count_4 : List UInt8 := dkwX1_count_4 ++ []
def dkwX1_count_3 : List UInt8 := [42, 180, 0, 51, 180, 0, 182, 172, 42, 180, 0, 51, 180, 0, 249, 16, 24, 162, 0, 13, 42, 180, 0, 51]
abbrev dktX1_count_3 : List UInt8 := dkwX1_count_3 ++ dktX1_count_4
def dkwX1_count_2 : List UInt8 := [42, 180, 0, 51, 180, 0, 135, 172, 42, 180, 0, 51, 180, 0, 108, 172, 42, 180, 0, 51, 180, 0, 128, 172]
abbrev dktX1_count_2 : List UInt8 := dkwX1_count_2 ++ dktX1_count_3
def dkwX1_count_1 : List UInt8 := [171, 0, 0, 0, 0, 0, 108, 0, 0, 0, 5, 0, 0, 0, 0, 0, 0, 0, 51, 0, 0, 0, 11, 0, 0, 0, 59, 0, 0, 0, 14, 0, 0, 0, 67, 0, 0, 0, 15, 0, 0, 0, 75, 0, 0, 0, 16, 0, 0, 0, 83]
abbrev dktX1_count_1 : List UInt8 := dkwX1_count_1 ++ dktX1_count_2
def dkwX1_count_0 : List UInt8 := [27, 3, 16, 16, 184, 0, 77, 154, 0, 5, 2, 172, 27]
abbrev dktX1_count_0 : List UInt8 := dkwX1_count_0 ++ dktX1_count_1
theorem dksX1_count_0 : cX1_count.data.toList.drop 0 = dktX1_count_0 := by decide +kernel
theorem dksX1_count_1 : cX1_count.data.toList.drop 13 = dktX1_count_1 := dk_seg dksX1_count_0 13 rfl rfl
theorem dksX1_count_2 : cX1_count.data.toList.drop 64 = dktX1_count_2 := dk_seg dksX1_count_1 51 rfl rfl
theorem dksX1_count_3 : cX1_count.data.toList.drop 88 = dktX1_count_3 := dk_seg dksX1_count_2 24 rfl rfl
theorem dksX1_count_4 : cX1_count.data.toList.drop 112 = dktX1_count_4 := dk_seg dksX1_count_3 24 rfl rfl
theorem dX1_count_0 : decode cX1_count 0 = .ok (.iload_n 1, 1) := dk_27 (dk_at dksX1_count_0 0 rfl rfl)
theorem dX1_count_1 : decode cX1_count 1 = .ok (.iconst 0, 1) := dk_3 (dk_at dksX1_count_0 1 rfl rfl)
theorem dX1_count_2 : decode cX1_count 2 = .ok (.bipush 16, 2) := dk_16 16 (dk_at dksX1_count_0 2 rfl rfl)
theorem dX1_count_4 : decode cX1_count 4 = .ok (.invokestatic 77, 3) := dk_184 0 77 (dk_at dksX1_count_0 4 rfl rfl)
theorem dX1_count_7 : decode cX1_count 7 = .ok (.ifCond .ne 5, 3) := dk_154 0 5 (dk_at dksX1_count_0 7 rfl rfl)
theorem dX1_count_10 : decode cX1_count 10 = .ok (.iconst (-1), 1) := dk_2 (dk_at dksX1_count_0 10 rfl rfl)
theorem dX1_count_11 : decode cX1_count 11 = .ok (.ireturn, 1) := dk_172 (dk_at dksX1_count_0 11 rfl rfl)
theorem dX1_count_12 : decode cX1_count 12 = .ok (.iload_n 1, 1) := dk_27 (dk_at dksX1_count_0 12 rfl rfl)
theorem dX1_count_13 : decode cX1_count 13 = .ok (.lookupswitch 108 #[(0, 51), (11, 59), (14, 67), (15, 75), (16, 83)], 51) := by decide +kernel
theorem dX1_count_64 : decode cX1_count 64 = .ok (.aload_n 0, 1) := dk_42 (dk_at dksX1_count_2 0 rfl rfl)
theorem dX1_count_65 : decode cX1_count 65 = .ok (.getfield 51, 3) := dk_180 0 51 (dk_at dksX1_count_2 1 rfl rfl)
theorem dX1_count_68 : decode cX1_count 68 = .ok (.getfield 135, 3) := dk_180 0 135 (dk_at dksX1_count_2 4 rfl rfl)
theorem dX1_count_71 : decode cX1_count 71 = .ok (.ireturn, 1) := dk_172 (dk_at dksX1_count_2 7 rfl rfl)
theorem dX1_count_72 : decode cX1_count 72 = .ok (.aload_n 0, 1) := dk_42 (dk_at dksX1_count_2 8 rfl rfl)
theorem dX1_count_73 : decode cX1_count 73 = .ok (.getfield 51, 3) := dk_180 0 51 (dk_at dksX1_count_2 9 rfl rfl)
theorem dX1_count_76 : decode cX1_count 76 = .ok (.getfield 108, 3) := dk_180 0 108 (dk_at dksX1_count_2 12 rfl rfl)
theorem dX1_count_79 : decode cX1_count 79 = .ok (.ireturn, 1) := dk_172 (dk_at dksX1_count_2 15 rfl rfl)
theorem dX1_count_80 : decode cX1_count 80 = .ok (.aload_n 0, 1) := dk_42 (dk_at dksX1_count_2 16 rfl rfl)
theorem dX1_count_81 : decode cX1_count 81 = .ok (.getfield 51, 3) := dk_180 0 51 (dk_at dksX1_count_2 17 rfl rfl)
theorem dX1_count_84 : decode cX1_count 84 = .ok (.getfield 128, 3) := dk_180 0 128 (dk_at dksX1_count_2 20 rfl rfl)
theorem dX1_count_87 : decode cX1_count 87 = .ok (.ireturn, 1) := dk_172 (dk_at dksX1_count_2 23 rfl rfl)
theorem dX1_count_88 : decode cX1_count 88 = .ok (.aload_n 0, 1) := dk_42 (dk_at dksX1_count_3 0 rfl rfl)
theorem dX1_count_89 : decode cX1_count 89 = .ok (.getfield 51, 3) := dk_180 0 51 (dk_at dksX1_count_3 1 rfl rfl)
theorem dX1_count_92 : decode cX1_count 92 = .ok (.getfield 182, 3) := dk_180 0 182 (dk_at dksX1_count_3 4 rfl rfl)
theorem dX1_count_95 : decode cX1_count 95 = .ok (.ireturn, 1) := dk_172 (dk_at dksX1_count_3 7 rfl rfl)
theorem dX1_count_96 : decode cX1_count 96 = .ok (.aload_n 0, 1) := dk_42 (dk_at dksX1_count_3 8 rfl rfl)
theorem dX1_count_97 : decode cX1_count 97 = .ok (.getfield 51, 3) := dk_180 0 51 (dk_at dksX1_count_3 9 rfl rfl)
theorem dX1_count_100 : decode cX1_count 100 = .ok (.getfield 249, 3) := dk_180 0 249 (dk_at dksX1_count_3 12 rfl rfl)
theorem dX1_count_103 : decode cX1_count 103 = .ok (.bipush 24, 2) := dk_16 24 (dk_at dksX1_count_3 15 rfl rfl)
theorem dX1_count_105 : decode cX1_count 105 = .ok (.if_icmp .ge 13, 3) := dk_162 0 13 (dk_at dksX1_count_3 17 rfl rfl)
theorem dX1_count_108 : decode cX1_count 108 = .ok (.aload_n 0, 1) := dk_42 (dk_at dksX1_count_3 20 rfl rfl)
theorem dX1_count_109 : decode cX1_count 109 = .ok (.getfield 51, 3) := dk_180 0 51 (dk_at dksX1_count_3 21 rfl rfl)
theorem dX1_count_112 : decode cX1_count 112 = .ok (.getfield 249, 3) := dk_180 0 249 (dk_at dksX1_count_4 0 rfl rfl)
theorem dX1_count_115 : decode cX1_count 115 = .ok (.goto 5, 3) := dk_167 0 5 (dk_at dksX1_count_4 3 rfl rfl)
theorem dX1_count_118 : decode cX1_count 118 = .ok (.bipush 24, 2) := dk_16 24 (dk_at dksX1_count_4 6 rfl rfl)
theorem dX1_count_120 : decode cX1_count 120 = .ok (.ireturn, 1) := dk_172 (dk_at dksX1_count_4 8 rfl rfl)
theorem dX1_count_121 : decode cX1_count 121 = .ok (.aload_n 0, 1) := dk_42 (dk_at dksX1_count_4 9 rfl rfl)
theorem dX1_count_122 : decode cX1_count 122 = .ok (.getfield 51, 3) := dk_180 0 51 (dk_at dksX1_count_4 10 rfl rfl)
theorem dX1_count_125 : decode cX1_count 125 = .ok (.getfield 251, 3) := dk_180 0 251 (dk_at dksX1_count_4 13 rfl rfl)
theorem dX1_count_128 : decode cX1_count 128 = .ok (.iload_n 1, 1) := dk_27 (dk_at dksX1_count_4 16 rfl rfl)
theorem dX1_count_129 : decode cX1_count 129 = .ok (.iaload, 1) := dk_46 (dk_at dksX1_count_4 17 rfl rfl)
theorem dX1_count_130 : decode cX1_count 130 = .ok (.ireturn, 1) := dk_172 (dk_at dksX1_count_4 18 rfl rfl)
abbrev cX1_waited : ByteArray := prog_1_method_31_code
def yX1_waited : MethodName := ⟨RX1, "waited", "(I)I"⟩
def dkwX1_waited_1 : List UInt8 := [167, 0, 4, 2, 172]
abbrev dktX1_waited_1 : List UInt8 := dkwX1_waited_1 ++ []
def dkwX1_waited_0 : List UInt8 := [27, 3, 16, 20, 184, 0, 77, 153, 0, 18, 42, 180, 0, 51, 180, 0, 89, 27, 50, 180, 1, 19]
abbrev dktX1_waited_0 : List UInt8 := dkwX1_waited_0 ++ dktX1_waited_1
theorem dksX1_waited_0 : cX1_waited.data.toList.drop 0 = dktX1_waited_0 := by decide +kernel
theorem dksX1_waited_1 : cX1_waited.data.toList.drop 22 = dktX1_waited_1 := dk_seg dksX1_waited_0 22 rfl rfl
theorem dX1_waited_0 : decode cX1_waited 0 = .ok (.iload_n 1, 1) := dk_27 (dk_at dksX1_waited_0 0 rfl rfl)
theorem dX1_waited_1 : decode cX1_waited 1 = .ok (.iconst 0, 1) := dk_3 (dk_at dksX1_waited_0 1 rfl rfl)
theorem dX1_waited_2 : decode cX1_waited 2 = .ok (.bipush 20, 2) := dk_16 20 (dk_at dksX1_waited_0 2 rfl rfl)
theorem dX1_waited_4 : decode cX1_waited 4 = .ok (.invokestatic 77, 3) := dk_184 0 77 (dk_at dksX1_waited_0 4 rfl rfl)
theorem dX1_waited_7 : decode cX1_waited 7 = .ok (.ifCond .eq 18, 3) := dk_153 0 18 (dk_at dksX1_waited_0 7 rfl rfl)
theorem dX1_waited_10 : decode cX1_waited 10 = .ok (.aload_n 0, 1) := dk_42 (dk_at dksX1_waited_0 10 rfl rfl)
theorem dX1_waited_11 : decode cX1_waited 11 = .ok (.getfield 51, 3) := dk_180 0 51 (dk_at dksX1_waited_0 11 rfl rfl)
theorem dX1_waited_14 : decode cX1_waited 14 = .ok (.getfield 89, 3) := dk_180 0 89 (dk_at dksX1_waited_0 14 rfl rfl)
theorem dX1_waited_17 : decode cX1_waited 17 = .ok (.iload_n 1, 1) := dk_27 (dk_at dksX1_waited_0 17 rfl rfl)
theorem dX1_waited_18 : decode cX1_waited 18 = .ok (.aaload, 1) := dk_50 (dk_at dksX1_waited_0 18 rfl rfl)
theorem dX1_waited_19 : decode cX1_waited 19 = .ok (.getfield 275, 3) := dk_180 1 19 (dk_at dksX1_waited_0 19 rfl rfl)
theorem dX1_waited_22 : decode cX1_waited 22 = .ok (.goto 4, 3) := dk_167 0 4 (dk_at dksX1_waited_1 0 rfl rfl)
theorem dX1_waited_25 : decode cX1_waited 25 = .ok (.iconst (-1), 1) := dk_2 (dk_at dksX1_waited_1 3 rfl rfl)
theorem dX1_waited_26 : decode cX1_waited 26 = .ok (.ireturn, 1) := dk_172 (dk_at dksX1_waited_1 4 rfl rfl)
abbrev cX1_ahead : ByteArray := prog_1_method_32_code
def yX1_ahead : MethodName := ⟨RX1, "ahead", "(II)Z"⟩
def dkwX1_ahead_2 : List UInt8 := [180, 0, 89, 28, 50, 185, 1, 26, 3, 0, 153, 0, 7, 4, 167, 0, 4, 3, 172]
abbrev dktX1_ahead_2 : List UInt8 := dkwX1_ahead_2 ++ []
def dkwX1_ahead_1 : List UInt8 := [159, 0, 40, 42, 180, 0, 51, 180, 1, 22, 42, 180, 0, 51, 180, 0, 89, 27, 50, 42, 180, 0, 51]
abbrev dktX1_ahead_1 : List UInt8 := dkwX1_ahead_1 ++ dktX1_ahead_2
def dkwX1_ahead_0 : List UInt8 := [27, 3, 16, 20, 184, 0, 77, 153, 0, 55, 28, 3, 16, 20, 184, 0, 77, 153, 0, 45, 27, 28]
abbrev dktX1_ahead_0 : List UInt8 := dkwX1_ahead_0 ++ dktX1_ahead_1
theorem dksX1_ahead_0 : cX1_ahead.data.toList.drop 0 = dktX1_ahead_0 := by decide +kernel
theorem dksX1_ahead_1 : cX1_ahead.data.toList.drop 22 = dktX1_ahead_1 := dk_seg dksX1_ahead_0 22 rfl rfl
theorem dksX1_ahead_2 : cX1_ahead.data.toList.drop 45 = dktX1_ahead_2 := dk_seg dksX1_ahead_1 23 rfl rfl
theorem dX1_ahead_0 : decode cX1_ahead 0 = .ok (.iload_n 1, 1) := dk_27 (dk_at dksX1_ahead_0 0 rfl rfl)
theorem dX1_ahead_1 : decode cX1_ahead 1 = .ok (.iconst 0, 1) := dk_3 (dk_at dksX1_ahead_0 1 rfl rfl)
theorem dX1_ahead_2 : decode cX1_ahead 2 = .ok (.bipush 20, 2) := dk_16 20 (dk_at dksX1_ahead_0 2 rfl rfl)
theorem dX1_ahead_4 : decode cX1_ahead 4 = .ok (.invokestatic 77, 3) := dk_184 0 77 (dk_at dksX1_ahead_0 4 rfl rfl)
theorem dX1_ahead_7 : decode cX1_ahead 7 = .ok (.ifCond .eq 55, 3) := dk_153 0 55 (dk_at dksX1_ahead_0 7 rfl rfl)
theorem dX1_ahead_10 : decode cX1_ahead 10 = .ok (.iload_n 2, 1) := dk_28 (dk_at dksX1_ahead_0 10 rfl rfl)
theorem dX1_ahead_11 : decode cX1_ahead 11 = .ok (.iconst 0, 1) := dk_3 (dk_at dksX1_ahead_0 11 rfl rfl)
theorem dX1_ahead_12 : decode cX1_ahead 12 = .ok (.bipush 20, 2) := dk_16 20 (dk_at dksX1_ahead_0 12 rfl rfl)
theorem dX1_ahead_14 : decode cX1_ahead 14 = .ok (.invokestatic 77, 3) := dk_184 0 77 (dk_at dksX1_ahead_0 14 rfl rfl)
theorem dX1_ahead_17 : decode cX1_ahead 17 = .ok (.ifCond .eq 45, 3) := dk_153 0 45 (dk_at dksX1_ahead_0 17 rfl rfl)
theorem dX1_ahead_20 : decode cX1_ahead 20 = .ok (.iload_n 1, 1) := dk_27 (dk_at dksX1_ahead_0 20 rfl rfl)
theorem dX1_ahead_21 : decode cX1_ahead 21 = .ok (.iload_n 2, 1) := dk_28 (dk_at dksX1_ahead_0 21 rfl rfl)
theorem dX1_ahead_22 : decode cX1_ahead 22 = .ok (.if_icmp .eq 40, 3) := dk_159 0 40 (dk_at dksX1_ahead_1 0 rfl rfl)
theorem dX1_ahead_25 : decode cX1_ahead 25 = .ok (.aload_n 0, 1) := dk_42 (dk_at dksX1_ahead_1 3 rfl rfl)
theorem dX1_ahead_26 : decode cX1_ahead 26 = .ok (.getfield 51, 3) := dk_180 0 51 (dk_at dksX1_ahead_1 4 rfl rfl)
theorem dX1_ahead_29 : decode cX1_ahead 29 = .ok (.getfield 278, 3) := dk_180 1 22 (dk_at dksX1_ahead_1 7 rfl rfl)
theorem dX1_ahead_32 : decode cX1_ahead 32 = .ok (.aload_n 0, 1) := dk_42 (dk_at dksX1_ahead_1 10 rfl rfl)
theorem dX1_ahead_33 : decode cX1_ahead 33 = .ok (.getfield 51, 3) := dk_180 0 51 (dk_at dksX1_ahead_1 11 rfl rfl)
theorem dX1_ahead_36 : decode cX1_ahead 36 = .ok (.getfield 89, 3) := dk_180 0 89 (dk_at dksX1_ahead_1 14 rfl rfl)
theorem dX1_ahead_39 : decode cX1_ahead 39 = .ok (.iload_n 1, 1) := dk_27 (dk_at dksX1_ahead_1 17 rfl rfl)
theorem dX1_ahead_40 : decode cX1_ahead 40 = .ok (.aaload, 1) := dk_50 (dk_at dksX1_ahead_1 18 rfl rfl)
theorem dX1_ahead_41 : decode cX1_ahead 41 = .ok (.aload_n 0, 1) := dk_42 (dk_at dksX1_ahead_1 19 rfl rfl)
theorem dX1_ahead_42 : decode cX1_ahead 42 = .ok (.getfield 51, 3) := dk_180 0 51 (dk_at dksX1_ahead_1 20 rfl rfl)
theorem dX1_ahead_45 : decode cX1_ahead 45 = .ok (.getfield 89, 3) := dk_180 0 89 (dk_at dksX1_ahead_2 0 rfl rfl)
theorem dX1_ahead_48 : decode cX1_ahead 48 = .ok (.iload_n 2, 1) := dk_28 (dk_at dksX1_ahead_2 3 rfl rfl)
theorem dX1_ahead_49 : decode cX1_ahead 49 = .ok (.aaload, 1) := dk_50 (dk_at dksX1_ahead_2 4 rfl rfl)
theorem dX1_ahead_50 : decode cX1_ahead 50 = .ok (.invokeinterface 282 3, 5) := by decide +kernel
theorem dX1_ahead_55 : decode cX1_ahead 55 = .ok (.ifCond .eq 7, 3) := dk_153 0 7 (dk_at dksX1_ahead_2 10 rfl rfl)
theorem dX1_ahead_58 : decode cX1_ahead 58 = .ok (.iconst 1, 1) := dk_4 (dk_at dksX1_ahead_2 13 rfl rfl)
theorem dX1_ahead_59 : decode cX1_ahead 59 = .ok (.goto 4, 3) := dk_167 0 4 (dk_at dksX1_ahead_2 14 rfl rfl)
theorem dX1_ahead_62 : decode cX1_ahead 62 = .ok (.iconst 0, 1) := dk_3 (dk_at dksX1_ahead_2 17 rfl rfl)
theorem dX1_ahead_63 : decode cX1_ahead 63 = .ok (.ireturn, 1) := dk_172 (dk_at dksX1_ahead_2 18 rfl rfl)
abbrev cX1_splits : ByteArray := prog_1_method_33_code
def yX1_splits : MethodName := ⟨RX1, "splits", "(I)I"⟩
def dkwX1_splits_3 : List UInt8 := [167, 255, 211, 29, 172]
abbrev dktX1_splits_3 : List UInt8 := dkwX1_splits_3 ++ []
def dkwX1_splits_2 : List UInt8 := [182, 0, 201, 44, 182, 0, 243, 162, 0, 10, 4, 21, 4, 120, 167, 0, 4, 3, 128, 62, 132, 4, 1]
abbrev dktX1_splits_2 : List UInt8 := dkwX1_splits_2 ++ dktX1_splits_3
def dkwX1_splits_1 : List UInt8 := [21, 4, 16, 7, 163, 0, 44, 44, 21, 4, 181, 0, 198, 29, 44, 180, 0, 89, 27, 50, 21, 4]
abbrev dktX1_splits_1 : List UInt8 := dkwX1_splits_1 ++ dktX1_splits_2
def dkwX1_splits_0 : List UInt8 := [27, 3, 16, 20, 184, 0, 77, 154, 0, 5, 2, 172, 42, 3, 182, 1, 31, 77, 3, 62, 3, 54, 4]
abbrev dktX1_splits_0 : List UInt8 := dkwX1_splits_0 ++ dktX1_splits_1
theorem dksX1_splits_0 : cX1_splits.data.toList.drop 0 = dktX1_splits_0 := by decide +kernel
theorem dksX1_splits_1 : cX1_splits.data.toList.drop 23 = dktX1_splits_1 := dk_seg dksX1_splits_0 23 rfl rfl
theorem dksX1_splits_2 : cX1_splits.data.toList.drop 45 = dktX1_splits_2 := dk_seg dksX1_splits_1 22 rfl rfl
theorem dksX1_splits_3 : cX1_splits.data.toList.drop 68 = dktX1_splits_3 := dk_seg dksX1_splits_2 23 rfl rfl
theorem dX1_splits_0 : decode cX1_splits 0 = .ok (.iload_n 1, 1) := dk_27 (dk_at dksX1_splits_0 0 rfl rfl)
theorem dX1_splits_1 : decode cX1_splits 1 = .ok (.iconst 0, 1) := dk_3 (dk_at dksX1_splits_0 1 rfl rfl)
theorem dX1_splits_2 : decode cX1_splits 2 = .ok (.bipush 20, 2) := dk_16 20 (dk_at dksX1_splits_0 2 rfl rfl)
theorem dX1_splits_4 : decode cX1_splits 4 = .ok (.invokestatic 77, 3) := dk_184 0 77 (dk_at dksX1_splits_0 4 rfl rfl)
theorem dX1_splits_7 : decode cX1_splits 7 = .ok (.ifCond .ne 5, 3) := dk_154 0 5 (dk_at dksX1_splits_0 7 rfl rfl)
theorem dX1_splits_10 : decode cX1_splits 10 = .ok (.iconst (-1), 1) := dk_2 (dk_at dksX1_splits_0 10 rfl rfl)
theorem dX1_splits_11 : decode cX1_splits 11 = .ok (.ireturn, 1) := dk_172 (dk_at dksX1_splits_0 11 rfl rfl)
theorem dX1_splits_12 : decode cX1_splits 12 = .ok (.aload_n 0, 1) := dk_42 (dk_at dksX1_splits_0 12 rfl rfl)
theorem dX1_splits_13 : decode cX1_splits 13 = .ok (.iconst 0, 1) := dk_3 (dk_at dksX1_splits_0 13 rfl rfl)
theorem dX1_splits_14 : decode cX1_splits 14 = .ok (.invokevirtual 287, 3) := dk_182 1 31 (dk_at dksX1_splits_0 14 rfl rfl)
theorem dX1_splits_17 : decode cX1_splits 17 = .ok (.astore_n 2, 1) := dk_77 (dk_at dksX1_splits_0 17 rfl rfl)
theorem dX1_splits_18 : decode cX1_splits 18 = .ok (.iconst 0, 1) := dk_3 (dk_at dksX1_splits_0 18 rfl rfl)
theorem dX1_splits_19 : decode cX1_splits 19 = .ok (.istore_n 3, 1) := dk_62 (dk_at dksX1_splits_0 19 rfl rfl)
theorem dX1_splits_20 : decode cX1_splits 20 = .ok (.iconst 0, 1) := dk_3 (dk_at dksX1_splits_0 20 rfl rfl)
theorem dX1_splits_21 : decode cX1_splits 21 = .ok (.istore 4, 2) := dk_54 4 (dk_at dksX1_splits_0 21 rfl rfl)
theorem dX1_splits_23 : decode cX1_splits 23 = .ok (.iload 4, 2) := dk_21 4 (dk_at dksX1_splits_1 0 rfl rfl)
theorem dX1_splits_25 : decode cX1_splits 25 = .ok (.bipush 7, 2) := dk_16 7 (dk_at dksX1_splits_1 2 rfl rfl)
theorem dX1_splits_27 : decode cX1_splits 27 = .ok (.if_icmp .gt 44, 3) := dk_163 0 44 (dk_at dksX1_splits_1 4 rfl rfl)
theorem dX1_splits_30 : decode cX1_splits 30 = .ok (.aload_n 2, 1) := dk_44 (dk_at dksX1_splits_1 7 rfl rfl)
theorem dX1_splits_31 : decode cX1_splits 31 = .ok (.iload 4, 2) := dk_21 4 (dk_at dksX1_splits_1 8 rfl rfl)
theorem dX1_splits_33 : decode cX1_splits 33 = .ok (.putfield 198, 3) := dk_181 0 198 (dk_at dksX1_splits_1 10 rfl rfl)
theorem dX1_splits_36 : decode cX1_splits 36 = .ok (.iload_n 3, 1) := dk_29 (dk_at dksX1_splits_1 13 rfl rfl)
theorem dX1_splits_37 : decode cX1_splits 37 = .ok (.aload_n 2, 1) := dk_44 (dk_at dksX1_splits_1 14 rfl rfl)
theorem dX1_splits_38 : decode cX1_splits 38 = .ok (.getfield 89, 3) := dk_180 0 89 (dk_at dksX1_splits_1 15 rfl rfl)
theorem dX1_splits_41 : decode cX1_splits 41 = .ok (.iload_n 1, 1) := dk_27 (dk_at dksX1_splits_1 18 rfl rfl)
theorem dX1_splits_42 : decode cX1_splits 42 = .ok (.aaload, 1) := dk_50 (dk_at dksX1_splits_1 19 rfl rfl)
theorem dX1_splits_43 : decode cX1_splits 43 = .ok (.iload 4, 2) := dk_21 4 (dk_at dksX1_splits_1 20 rfl rfl)
theorem dX1_splits_45 : decode cX1_splits 45 = .ok (.invokevirtual 201, 3) := dk_182 0 201 (dk_at dksX1_splits_2 0 rfl rfl)
theorem dX1_splits_48 : decode cX1_splits 48 = .ok (.aload_n 2, 1) := dk_44 (dk_at dksX1_splits_2 3 rfl rfl)
theorem dX1_splits_49 : decode cX1_splits 49 = .ok (.invokevirtual 243, 3) := dk_182 0 243 (dk_at dksX1_splits_2 4 rfl rfl)
theorem dX1_splits_52 : decode cX1_splits 52 = .ok (.if_icmp .ge 10, 3) := dk_162 0 10 (dk_at dksX1_splits_2 7 rfl rfl)
theorem dX1_splits_55 : decode cX1_splits 55 = .ok (.iconst 1, 1) := dk_4 (dk_at dksX1_splits_2 10 rfl rfl)
theorem dX1_splits_56 : decode cX1_splits 56 = .ok (.iload 4, 2) := dk_21 4 (dk_at dksX1_splits_2 11 rfl rfl)
theorem dX1_splits_58 : decode cX1_splits 58 = .ok (.ishl, 1) := dk_120 (dk_at dksX1_splits_2 13 rfl rfl)
theorem dX1_splits_59 : decode cX1_splits 59 = .ok (.goto 4, 3) := dk_167 0 4 (dk_at dksX1_splits_2 14 rfl rfl)
theorem dX1_splits_62 : decode cX1_splits 62 = .ok (.iconst 0, 1) := dk_3 (dk_at dksX1_splits_2 17 rfl rfl)
theorem dX1_splits_63 : decode cX1_splits 63 = .ok (.ior, 1) := dk_128 (dk_at dksX1_splits_2 18 rfl rfl)
theorem dX1_splits_64 : decode cX1_splits 64 = .ok (.istore_n 3, 1) := dk_62 (dk_at dksX1_splits_2 19 rfl rfl)
theorem dX1_splits_65 : decode cX1_splits 65 = .ok (.iinc 4 1, 3) := dk_132 4 1 (dk_at dksX1_splits_2 20 rfl rfl)
theorem dX1_splits_68 : decode cX1_splits 68 = .ok (.goto (-45), 3) := dk_167 255 211 (dk_at dksX1_splits_3 0 rfl rfl)
theorem dX1_splits_71 : decode cX1_splits 71 = .ok (.iload_n 3, 1) := dk_29 (dk_at dksX1_splits_3 3 rfl rfl)
theorem dX1_splits_72 : decode cX1_splits 72 = .ok (.ireturn, 1) := dk_172 (dk_at dksX1_splits_3 4 rfl rfl)
abbrev cX1_tried : ByteArray := prog_1_method_6_code
def yX1_tried : MethodName := ⟨RX1, "tried", "(Z)LRankEntry$Core;"⟩
def dkwX1_tried_0 : List UInt8 := [42, 180, 0, 55, 42, 180, 0, 51, 182, 0, 69, 42, 180, 0, 55, 27, 182, 0, 73, 42, 180, 0, 55, 176]
abbrev dktX1_tried_0 : List UInt8 := dkwX1_tried_0 ++ []
theorem dksX1_tried_0 : cX1_tried.data.toList.drop 0 = dktX1_tried_0 := by decide +kernel
theorem dX1_tried_0 : decode cX1_tried 0 = .ok (.aload_n 0, 1) := dk_42 (dk_at dksX1_tried_0 0 rfl rfl)
theorem dX1_tried_1 : decode cX1_tried 1 = .ok (.getfield 55, 3) := dk_180 0 55 (dk_at dksX1_tried_0 1 rfl rfl)
theorem dX1_tried_4 : decode cX1_tried 4 = .ok (.aload_n 0, 1) := dk_42 (dk_at dksX1_tried_0 4 rfl rfl)
theorem dX1_tried_5 : decode cX1_tried 5 = .ok (.getfield 51, 3) := dk_180 0 51 (dk_at dksX1_tried_0 5 rfl rfl)
theorem dX1_tried_8 : decode cX1_tried 8 = .ok (.invokevirtual 69, 3) := dk_182 0 69 (dk_at dksX1_tried_0 8 rfl rfl)
theorem dX1_tried_11 : decode cX1_tried 11 = .ok (.aload_n 0, 1) := dk_42 (dk_at dksX1_tried_0 11 rfl rfl)
theorem dX1_tried_12 : decode cX1_tried 12 = .ok (.getfield 55, 3) := dk_180 0 55 (dk_at dksX1_tried_0 12 rfl rfl)
theorem dX1_tried_15 : decode cX1_tried 15 = .ok (.iload_n 1, 1) := dk_27 (dk_at dksX1_tried_0 15 rfl rfl)
theorem dX1_tried_16 : decode cX1_tried 16 = .ok (.invokevirtual 73, 3) := dk_182 0 73 (dk_at dksX1_tried_0 16 rfl rfl)
theorem dX1_tried_19 : decode cX1_tried 19 = .ok (.aload_n 0, 1) := dk_42 (dk_at dksX1_tried_0 19 rfl rfl)
theorem dX1_tried_20 : decode cX1_tried 20 = .ok (.getfield 55, 3) := dk_180 0 55 (dk_at dksX1_tried_0 20 rfl rfl)
theorem dX1_tried_23 : decode cX1_tried 23 = .ok (.areturn, 1) := dk_176 (dk_at dksX1_tried_0 23 rfl rfl)
abbrev cX1_escalates : ByteArray := prog_1_method_34_code
def yX1_escalates : MethodName := ⟨RX1, "escalates", "(I)I"⟩
def dkwX1_escalates_1 : List UInt8 := [167, 0, 15, 42, 180, 0, 51, 27, 182, 1, 35, 167, 0, 4, 2, 172]
abbrev dktX1_escalates_1 : List UInt8 := dkwX1_escalates_1 ++ []
def dkwX1_escalates_0 : List UInt8 := [27, 16, 18, 16, 19, 184, 0, 77, 153, 0, 30, 42, 180, 0, 51, 180, 0, 141, 8, 160, 0, 8, 16, 254]
abbrev dktX1_escalates_0 : List UInt8 := dkwX1_escalates_0 ++ dktX1_escalates_1
theorem dksX1_escalates_0 : cX1_escalates.data.toList.drop 0 = dktX1_escalates_0 := by decide +kernel
theorem dksX1_escalates_1 : cX1_escalates.data.toList.drop 24 = dktX1_escalates_1 := dk_seg dksX1_escalates_0 24 rfl rfl
theorem dX1_escalates_0 : decode cX1_escalates 0 = .ok (.iload_n 1, 1) := dk_27 (dk_at dksX1_escalates_0 0 rfl rfl)
theorem dX1_escalates_1 : decode cX1_escalates 1 = .ok (.bipush 18, 2) := dk_16 18 (dk_at dksX1_escalates_0 1 rfl rfl)
theorem dX1_escalates_3 : decode cX1_escalates 3 = .ok (.bipush 19, 2) := dk_16 19 (dk_at dksX1_escalates_0 3 rfl rfl)
theorem dX1_escalates_5 : decode cX1_escalates 5 = .ok (.invokestatic 77, 3) := dk_184 0 77 (dk_at dksX1_escalates_0 5 rfl rfl)
theorem dX1_escalates_8 : decode cX1_escalates 8 = .ok (.ifCond .eq 30, 3) := dk_153 0 30 (dk_at dksX1_escalates_0 8 rfl rfl)
theorem dX1_escalates_11 : decode cX1_escalates 11 = .ok (.aload_n 0, 1) := dk_42 (dk_at dksX1_escalates_0 11 rfl rfl)
theorem dX1_escalates_12 : decode cX1_escalates 12 = .ok (.getfield 51, 3) := dk_180 0 51 (dk_at dksX1_escalates_0 12 rfl rfl)
theorem dX1_escalates_15 : decode cX1_escalates 15 = .ok (.getfield 141, 3) := dk_180 0 141 (dk_at dksX1_escalates_0 15 rfl rfl)
theorem dX1_escalates_18 : decode cX1_escalates 18 = .ok (.iconst 5, 1) := dk_8 (dk_at dksX1_escalates_0 18 rfl rfl)
theorem dX1_escalates_19 : decode cX1_escalates 19 = .ok (.if_icmp .ne 8, 3) := dk_160 0 8 (dk_at dksX1_escalates_0 19 rfl rfl)
theorem dX1_escalates_22 : decode cX1_escalates 22 = .ok (.bipush (-2), 2) := dk_16 254 (dk_at dksX1_escalates_0 22 rfl rfl)
theorem dX1_escalates_24 : decode cX1_escalates 24 = .ok (.goto 15, 3) := dk_167 0 15 (dk_at dksX1_escalates_1 0 rfl rfl)
theorem dX1_escalates_27 : decode cX1_escalates 27 = .ok (.aload_n 0, 1) := dk_42 (dk_at dksX1_escalates_1 3 rfl rfl)
theorem dX1_escalates_28 : decode cX1_escalates 28 = .ok (.getfield 51, 3) := dk_180 0 51 (dk_at dksX1_escalates_1 4 rfl rfl)
theorem dX1_escalates_31 : decode cX1_escalates 31 = .ok (.iload_n 1, 1) := dk_27 (dk_at dksX1_escalates_1 7 rfl rfl)
theorem dX1_escalates_32 : decode cX1_escalates 32 = .ok (.invokevirtual 291, 3) := dk_182 1 35 (dk_at dksX1_escalates_1 8 rfl rfl)
theorem dX1_escalates_35 : decode cX1_escalates 35 = .ok (.goto 4, 3) := dk_167 0 4 (dk_at dksX1_escalates_1 11 rfl rfl)
theorem dX1_escalates_38 : decode cX1_escalates 38 = .ok (.iconst (-1), 1) := dk_2 (dk_at dksX1_escalates_1 14 rfl rfl)
theorem dX1_escalates_39 : decode cX1_escalates 39 = .ok (.ireturn, 1) := dk_172 (dk_at dksX1_escalates_1 15 rfl rfl)
abbrev cX1_soon : ByteArray := prog_1_method_35_code
def yX1_soon : MethodName := ⟨RX1, "soon", "(I)I"⟩
def dkwX1_soon_0 : List UInt8 := [27, 3, 16, 20, 184, 0, 77, 153, 0, 15, 42, 3, 182, 1, 31, 27, 184, 0, 150, 167, 0, 4, 2, 172]
abbrev dktX1_soon_0 : List UInt8 := dkwX1_soon_0 ++ []
theorem dksX1_soon_0 : cX1_soon.data.toList.drop 0 = dktX1_soon_0 := by decide +kernel
theorem dX1_soon_0 : decode cX1_soon 0 = .ok (.iload_n 1, 1) := dk_27 (dk_at dksX1_soon_0 0 rfl rfl)
theorem dX1_soon_1 : decode cX1_soon 1 = .ok (.iconst 0, 1) := dk_3 (dk_at dksX1_soon_0 1 rfl rfl)
theorem dX1_soon_2 : decode cX1_soon 2 = .ok (.bipush 20, 2) := dk_16 20 (dk_at dksX1_soon_0 2 rfl rfl)
theorem dX1_soon_4 : decode cX1_soon 4 = .ok (.invokestatic 77, 3) := dk_184 0 77 (dk_at dksX1_soon_0 4 rfl rfl)
theorem dX1_soon_7 : decode cX1_soon 7 = .ok (.ifCond .eq 15, 3) := dk_153 0 15 (dk_at dksX1_soon_0 7 rfl rfl)
theorem dX1_soon_10 : decode cX1_soon 10 = .ok (.aload_n 0, 1) := dk_42 (dk_at dksX1_soon_0 10 rfl rfl)
theorem dX1_soon_11 : decode cX1_soon 11 = .ok (.iconst 0, 1) := dk_3 (dk_at dksX1_soon_0 11 rfl rfl)
theorem dX1_soon_12 : decode cX1_soon 12 = .ok (.invokevirtual 287, 3) := dk_182 1 31 (dk_at dksX1_soon_0 12 rfl rfl)
theorem dX1_soon_15 : decode cX1_soon 15 = .ok (.iload_n 1, 1) := dk_27 (dk_at dksX1_soon_0 15 rfl rfl)
theorem dX1_soon_16 : decode cX1_soon 16 = .ok (.invokestatic 150, 3) := dk_184 0 150 (dk_at dksX1_soon_0 16 rfl rfl)
theorem dX1_soon_19 : decode cX1_soon 19 = .ok (.goto 4, 3) := dk_167 0 4 (dk_at dksX1_soon_0 19 rfl rfl)
theorem dX1_soon_22 : decode cX1_soon 22 = .ok (.iconst (-1), 1) := dk_2 (dk_at dksX1_soon_0 22 rfl rfl)
theorem dX1_soon_23 : decode cX1_soon 23 = .ok (.ireturn, 1) := dk_172 (dk_at dksX1_soon_0 23 rfl rfl)
abbrev cX1_order : ByteArray := prog_1_method_36_code
def yX1_order : MethodName := ⟨RX1, "order", "(IZ)I"⟩
def dkwX1_order_2 : List UInt8 := [167, 255, 225, 45, 180, 1, 38, 27, 164, 0, 12, 45, 180, 1, 41, 27, 46, 167, 0, 4, 2, 172]
abbrev dktX1_order_2 : List UInt8 := dkwX1_order_2 ++ []
def dkwX1_order_1 : List UInt8 := [180, 1, 38, 27, 163, 0, 21, 45, 180, 0, 141, 8, 159, 0, 13, 45, 182, 0, 144, 132, 4, 1]
abbrev dktX1_order_1 : List UInt8 := dkwX1_order_1 ++ dktX1_order_2
def dkwX1_order_0 : List UInt8 := [27, 156, 0, 5, 2, 172, 42, 28, 182, 1, 31, 78, 3, 54, 4, 21, 4, 17, 1, 44, 162, 0, 29, 45]
abbrev dktX1_order_0 : List UInt8 := dkwX1_order_0 ++ dktX1_order_1
theorem dksX1_order_0 : cX1_order.data.toList.drop 0 = dktX1_order_0 := by decide +kernel
theorem dksX1_order_1 : cX1_order.data.toList.drop 24 = dktX1_order_1 := dk_seg dksX1_order_0 24 rfl rfl
theorem dksX1_order_2 : cX1_order.data.toList.drop 46 = dktX1_order_2 := dk_seg dksX1_order_1 22 rfl rfl
theorem dX1_order_0 : decode cX1_order 0 = .ok (.iload_n 1, 1) := dk_27 (dk_at dksX1_order_0 0 rfl rfl)
theorem dX1_order_1 : decode cX1_order 1 = .ok (.ifCond .ge 5, 3) := dk_156 0 5 (dk_at dksX1_order_0 1 rfl rfl)
theorem dX1_order_4 : decode cX1_order 4 = .ok (.iconst (-1), 1) := dk_2 (dk_at dksX1_order_0 4 rfl rfl)
theorem dX1_order_5 : decode cX1_order 5 = .ok (.ireturn, 1) := dk_172 (dk_at dksX1_order_0 5 rfl rfl)
theorem dX1_order_6 : decode cX1_order 6 = .ok (.aload_n 0, 1) := dk_42 (dk_at dksX1_order_0 6 rfl rfl)
theorem dX1_order_7 : decode cX1_order 7 = .ok (.iload_n 2, 1) := dk_28 (dk_at dksX1_order_0 7 rfl rfl)
theorem dX1_order_8 : decode cX1_order 8 = .ok (.invokevirtual 287, 3) := dk_182 1 31 (dk_at dksX1_order_0 8 rfl rfl)
theorem dX1_order_11 : decode cX1_order 11 = .ok (.astore_n 3, 1) := dk_78 (dk_at dksX1_order_0 11 rfl rfl)
theorem dX1_order_12 : decode cX1_order 12 = .ok (.iconst 0, 1) := dk_3 (dk_at dksX1_order_0 12 rfl rfl)
theorem dX1_order_13 : decode cX1_order 13 = .ok (.istore 4, 2) := dk_54 4 (dk_at dksX1_order_0 13 rfl rfl)
theorem dX1_order_15 : decode cX1_order 15 = .ok (.iload 4, 2) := dk_21 4 (dk_at dksX1_order_0 15 rfl rfl)
theorem dX1_order_17 : decode cX1_order 17 = .ok (.sipush 300, 3) := dk_17 1 44 (dk_at dksX1_order_0 17 rfl rfl)
theorem dX1_order_20 : decode cX1_order 20 = .ok (.if_icmp .ge 29, 3) := dk_162 0 29 (dk_at dksX1_order_0 20 rfl rfl)
theorem dX1_order_23 : decode cX1_order 23 = .ok (.aload_n 3, 1) := dk_45 (dk_at dksX1_order_0 23 rfl rfl)
theorem dX1_order_24 : decode cX1_order 24 = .ok (.getfield 294, 3) := dk_180 1 38 (dk_at dksX1_order_1 0 rfl rfl)
theorem dX1_order_27 : decode cX1_order 27 = .ok (.iload_n 1, 1) := dk_27 (dk_at dksX1_order_1 3 rfl rfl)
theorem dX1_order_28 : decode cX1_order 28 = .ok (.if_icmp .gt 21, 3) := dk_163 0 21 (dk_at dksX1_order_1 4 rfl rfl)
theorem dX1_order_31 : decode cX1_order 31 = .ok (.aload_n 3, 1) := dk_45 (dk_at dksX1_order_1 7 rfl rfl)
theorem dX1_order_32 : decode cX1_order 32 = .ok (.getfield 141, 3) := dk_180 0 141 (dk_at dksX1_order_1 8 rfl rfl)
theorem dX1_order_35 : decode cX1_order 35 = .ok (.iconst 5, 1) := dk_8 (dk_at dksX1_order_1 11 rfl rfl)
theorem dX1_order_36 : decode cX1_order 36 = .ok (.if_icmp .eq 13, 3) := dk_159 0 13 (dk_at dksX1_order_1 12 rfl rfl)
theorem dX1_order_39 : decode cX1_order 39 = .ok (.aload_n 3, 1) := dk_45 (dk_at dksX1_order_1 15 rfl rfl)
theorem dX1_order_40 : decode cX1_order 40 = .ok (.invokevirtual 144, 3) := dk_182 0 144 (dk_at dksX1_order_1 16 rfl rfl)
theorem dX1_order_43 : decode cX1_order 43 = .ok (.iinc 4 1, 3) := dk_132 4 1 (dk_at dksX1_order_1 19 rfl rfl)
theorem dX1_order_46 : decode cX1_order 46 = .ok (.goto (-31), 3) := dk_167 255 225 (dk_at dksX1_order_2 0 rfl rfl)
theorem dX1_order_49 : decode cX1_order 49 = .ok (.aload_n 3, 1) := dk_45 (dk_at dksX1_order_2 3 rfl rfl)
theorem dX1_order_50 : decode cX1_order 50 = .ok (.getfield 294, 3) := dk_180 1 38 (dk_at dksX1_order_2 4 rfl rfl)
theorem dX1_order_53 : decode cX1_order 53 = .ok (.iload_n 1, 1) := dk_27 (dk_at dksX1_order_2 7 rfl rfl)
theorem dX1_order_54 : decode cX1_order 54 = .ok (.if_icmp .le 12, 3) := dk_164 0 12 (dk_at dksX1_order_2 8 rfl rfl)
theorem dX1_order_57 : decode cX1_order 57 = .ok (.aload_n 3, 1) := dk_45 (dk_at dksX1_order_2 11 rfl rfl)
theorem dX1_order_58 : decode cX1_order 58 = .ok (.getfield 297, 3) := dk_180 1 41 (dk_at dksX1_order_2 12 rfl rfl)
theorem dX1_order_61 : decode cX1_order 61 = .ok (.iload_n 1, 1) := dk_27 (dk_at dksX1_order_2 15 rfl rfl)
theorem dX1_order_62 : decode cX1_order 62 = .ok (.iaload, 1) := dk_46 (dk_at dksX1_order_2 16 rfl rfl)
theorem dX1_order_63 : decode cX1_order 63 = .ok (.goto 4, 3) := dk_167 0 4 (dk_at dksX1_order_2 17 rfl rfl)
theorem dX1_order_66 : decode cX1_order 66 = .ok (.iconst (-1), 1) := dk_2 (dk_at dksX1_order_2 20 rfl rfl)
theorem dX1_order_67 : decode cX1_order 67 = .ok (.ireturn, 1) := dk_172 (dk_at dksX1_order_2 21 rfl rfl)
abbrev cX1_quiet : ByteArray := prog_1_method_37_code
def yX1_quiet : MethodName := ⟨RX1, "quiet", "(Z)I"⟩
def dkwX1_quiet_1 : List UInt8 := [44, 182, 0, 144, 132, 3, 1, 167, 255, 233, 2, 172]
abbrev dktX1_quiet_1 : List UInt8 := dkwX1_quiet_1 ++ []
def dkwX1_quiet_0 : List UInt8 := [42, 27, 182, 1, 31, 77, 3, 62, 29, 17, 1, 44, 163, 0, 22, 44, 182, 1, 44, 153, 0, 5, 29, 172]
abbrev dktX1_quiet_0 : List UInt8 := dkwX1_quiet_0 ++ dktX1_quiet_1
theorem dksX1_quiet_0 : cX1_quiet.data.toList.drop 0 = dktX1_quiet_0 := by decide +kernel
theorem dksX1_quiet_1 : cX1_quiet.data.toList.drop 24 = dktX1_quiet_1 := dk_seg dksX1_quiet_0 24 rfl rfl
theorem dX1_quiet_0 : decode cX1_quiet 0 = .ok (.aload_n 0, 1) := dk_42 (dk_at dksX1_quiet_0 0 rfl rfl)
theorem dX1_quiet_1 : decode cX1_quiet 1 = .ok (.iload_n 1, 1) := dk_27 (dk_at dksX1_quiet_0 1 rfl rfl)
theorem dX1_quiet_2 : decode cX1_quiet 2 = .ok (.invokevirtual 287, 3) := dk_182 1 31 (dk_at dksX1_quiet_0 2 rfl rfl)
theorem dX1_quiet_5 : decode cX1_quiet 5 = .ok (.astore_n 2, 1) := dk_77 (dk_at dksX1_quiet_0 5 rfl rfl)
theorem dX1_quiet_6 : decode cX1_quiet 6 = .ok (.iconst 0, 1) := dk_3 (dk_at dksX1_quiet_0 6 rfl rfl)
theorem dX1_quiet_7 : decode cX1_quiet 7 = .ok (.istore_n 3, 1) := dk_62 (dk_at dksX1_quiet_0 7 rfl rfl)
theorem dX1_quiet_8 : decode cX1_quiet 8 = .ok (.iload_n 3, 1) := dk_29 (dk_at dksX1_quiet_0 8 rfl rfl)
theorem dX1_quiet_9 : decode cX1_quiet 9 = .ok (.sipush 300, 3) := dk_17 1 44 (dk_at dksX1_quiet_0 9 rfl rfl)
theorem dX1_quiet_12 : decode cX1_quiet 12 = .ok (.if_icmp .gt 22, 3) := dk_163 0 22 (dk_at dksX1_quiet_0 12 rfl rfl)
theorem dX1_quiet_15 : decode cX1_quiet 15 = .ok (.aload_n 2, 1) := dk_44 (dk_at dksX1_quiet_0 15 rfl rfl)
theorem dX1_quiet_16 : decode cX1_quiet 16 = .ok (.invokevirtual 300, 3) := dk_182 1 44 (dk_at dksX1_quiet_0 16 rfl rfl)
theorem dX1_quiet_19 : decode cX1_quiet 19 = .ok (.ifCond .eq 5, 3) := dk_153 0 5 (dk_at dksX1_quiet_0 19 rfl rfl)
theorem dX1_quiet_22 : decode cX1_quiet 22 = .ok (.iload_n 3, 1) := dk_29 (dk_at dksX1_quiet_0 22 rfl rfl)
theorem dX1_quiet_23 : decode cX1_quiet 23 = .ok (.ireturn, 1) := dk_172 (dk_at dksX1_quiet_0 23 rfl rfl)
theorem dX1_quiet_24 : decode cX1_quiet 24 = .ok (.aload_n 2, 1) := dk_44 (dk_at dksX1_quiet_1 0 rfl rfl)
theorem dX1_quiet_25 : decode cX1_quiet 25 = .ok (.invokevirtual 144, 3) := dk_182 0 144 (dk_at dksX1_quiet_1 1 rfl rfl)
theorem dX1_quiet_28 : decode cX1_quiet 28 = .ok (.iinc 3 1, 3) := dk_132 3 1 (dk_at dksX1_quiet_1 4 rfl rfl)
theorem dX1_quiet_31 : decode cX1_quiet 31 = .ok (.goto (-23), 3) := dk_167 255 233 (dk_at dksX1_quiet_1 7 rfl rfl)
theorem dX1_quiet_34 : decode cX1_quiet 34 = .ok (.iconst (-1), 1) := dk_2 (dk_at dksX1_quiet_1 10 rfl rfl)
theorem dX1_quiet_35 : decode cX1_quiet 35 = .ok (.ireturn, 1) := dk_172 (dk_at dksX1_quiet_1 11 rfl rfl)
abbrev cX1_window : ByteArray := prog_1_method_38_code
def yX1_window : MethodName := ⟨RX1, "window", "(I)I"⟩
def dkwX1_window_5 : List UInt8 := [28, 172]
abbrev dktX1_window_5 : List UInt8 := dkwX1_window_5 ++ []
def dkwX1_window_4 : List UInt8 := [25, 4, 180, 0, 147, 27, 160, 0, 9, 4, 29, 120, 167, 0, 4, 3, 128, 61, 132, 3, 1, 167, 255, 159]
abbrev dktX1_window_4 : List UInt8 := dkwX1_window_4 ++ dktX1_window_5
def dkwX1_window_3 : List UInt8 := [162, 0, 22, 25, 4, 180, 0, 147, 156, 0, 14, 25, 4, 182, 0, 144, 132, 5, 1, 167, 255, 233, 28]
abbrev dktX1_window_3 : List UInt8 := dkwX1_window_3 ++ dktX1_window_4
def dkwX1_window_2 : List UInt8 := [167, 255, 242, 25, 4, 27, 182, 0, 118, 87, 25, 4, 2, 181, 0, 147, 3, 54, 5, 21, 5, 16, 40]
abbrev dktX1_window_2 : List UInt8 := dkwX1_window_2 ++ dktX1_window_3
def dkwX1_window_1 : List UInt8 := [182, 1, 31, 58, 4, 3, 54, 5, 21, 5, 29, 162, 0, 14, 25, 4, 182, 0, 144, 132, 5, 1]
abbrev dktX1_window_1 : List UInt8 := dkwX1_window_1 ++ dktX1_window_2
def dkwX1_window_0 : List UInt8 := [27, 3, 16, 17, 184, 0, 77, 154, 0, 5, 2, 172, 3, 61, 3, 62, 29, 16, 20, 162, 0, 97, 42, 3]
abbrev dktX1_window_0 : List UInt8 := dkwX1_window_0 ++ dktX1_window_1
theorem dksX1_window_0 : cX1_window.data.toList.drop 0 = dktX1_window_0 := by decide +kernel
theorem dksX1_window_1 : cX1_window.data.toList.drop 24 = dktX1_window_1 := dk_seg dksX1_window_0 24 rfl rfl
theorem dksX1_window_2 : cX1_window.data.toList.drop 46 = dktX1_window_2 := dk_seg dksX1_window_1 22 rfl rfl
theorem dksX1_window_3 : cX1_window.data.toList.drop 69 = dktX1_window_3 := dk_seg dksX1_window_2 23 rfl rfl
theorem dksX1_window_4 : cX1_window.data.toList.drop 92 = dktX1_window_4 := dk_seg dksX1_window_3 23 rfl rfl
theorem dksX1_window_5 : cX1_window.data.toList.drop 116 = dktX1_window_5 := dk_seg dksX1_window_4 24 rfl rfl
theorem dX1_window_0 : decode cX1_window 0 = .ok (.iload_n 1, 1) := dk_27 (dk_at dksX1_window_0 0 rfl rfl)
theorem dX1_window_1 : decode cX1_window 1 = .ok (.iconst 0, 1) := dk_3 (dk_at dksX1_window_0 1 rfl rfl)
theorem dX1_window_2 : decode cX1_window 2 = .ok (.bipush 17, 2) := dk_16 17 (dk_at dksX1_window_0 2 rfl rfl)
theorem dX1_window_4 : decode cX1_window 4 = .ok (.invokestatic 77, 3) := dk_184 0 77 (dk_at dksX1_window_0 4 rfl rfl)
theorem dX1_window_7 : decode cX1_window 7 = .ok (.ifCond .ne 5, 3) := dk_154 0 5 (dk_at dksX1_window_0 7 rfl rfl)
theorem dX1_window_10 : decode cX1_window 10 = .ok (.iconst (-1), 1) := dk_2 (dk_at dksX1_window_0 10 rfl rfl)
theorem dX1_window_11 : decode cX1_window 11 = .ok (.ireturn, 1) := dk_172 (dk_at dksX1_window_0 11 rfl rfl)
theorem dX1_window_12 : decode cX1_window 12 = .ok (.iconst 0, 1) := dk_3 (dk_at dksX1_window_0 12 rfl rfl)
theorem dX1_window_13 : decode cX1_window 13 = .ok (.istore_n 2, 1) := dk_61 (dk_at dksX1_window_0 13 rfl rfl)
theorem dX1_window_14 : decode cX1_window 14 = .ok (.iconst 0, 1) := dk_3 (dk_at dksX1_window_0 14 rfl rfl)
theorem dX1_window_15 : decode cX1_window 15 = .ok (.istore_n 3, 1) := dk_62 (dk_at dksX1_window_0 15 rfl rfl)
theorem dX1_window_16 : decode cX1_window 16 = .ok (.iload_n 3, 1) := dk_29 (dk_at dksX1_window_0 16 rfl rfl)
theorem dX1_window_17 : decode cX1_window 17 = .ok (.bipush 20, 2) := dk_16 20 (dk_at dksX1_window_0 17 rfl rfl)
theorem dX1_window_19 : decode cX1_window 19 = .ok (.if_icmp .ge 97, 3) := dk_162 0 97 (dk_at dksX1_window_0 19 rfl rfl)
theorem dX1_window_22 : decode cX1_window 22 = .ok (.aload_n 0, 1) := dk_42 (dk_at dksX1_window_0 22 rfl rfl)
theorem dX1_window_23 : decode cX1_window 23 = .ok (.iconst 0, 1) := dk_3 (dk_at dksX1_window_0 23 rfl rfl)
theorem dX1_window_24 : decode cX1_window 24 = .ok (.invokevirtual 287, 3) := dk_182 1 31 (dk_at dksX1_window_1 0 rfl rfl)
theorem dX1_window_27 : decode cX1_window 27 = .ok (.astore 4, 2) := dk_58 4 (dk_at dksX1_window_1 3 rfl rfl)
theorem dX1_window_29 : decode cX1_window 29 = .ok (.iconst 0, 1) := dk_3 (dk_at dksX1_window_1 5 rfl rfl)
theorem dX1_window_30 : decode cX1_window 30 = .ok (.istore 5, 2) := dk_54 5 (dk_at dksX1_window_1 6 rfl rfl)
theorem dX1_window_32 : decode cX1_window 32 = .ok (.iload 5, 2) := dk_21 5 (dk_at dksX1_window_1 8 rfl rfl)
theorem dX1_window_34 : decode cX1_window 34 = .ok (.iload_n 3, 1) := dk_29 (dk_at dksX1_window_1 10 rfl rfl)
theorem dX1_window_35 : decode cX1_window 35 = .ok (.if_icmp .ge 14, 3) := dk_162 0 14 (dk_at dksX1_window_1 11 rfl rfl)
theorem dX1_window_38 : decode cX1_window 38 = .ok (.aload 4, 2) := dk_25 4 (dk_at dksX1_window_1 14 rfl rfl)
theorem dX1_window_40 : decode cX1_window 40 = .ok (.invokevirtual 144, 3) := dk_182 0 144 (dk_at dksX1_window_1 16 rfl rfl)
theorem dX1_window_43 : decode cX1_window 43 = .ok (.iinc 5 1, 3) := dk_132 5 1 (dk_at dksX1_window_1 19 rfl rfl)
theorem dX1_window_46 : decode cX1_window 46 = .ok (.goto (-14), 3) := dk_167 255 242 (dk_at dksX1_window_2 0 rfl rfl)
theorem dX1_window_49 : decode cX1_window 49 = .ok (.aload 4, 2) := dk_25 4 (dk_at dksX1_window_2 3 rfl rfl)
theorem dX1_window_51 : decode cX1_window 51 = .ok (.iload_n 1, 1) := dk_27 (dk_at dksX1_window_2 5 rfl rfl)
theorem dX1_window_52 : decode cX1_window 52 = .ok (.invokevirtual 118, 3) := dk_182 0 118 (dk_at dksX1_window_2 6 rfl rfl)
theorem dX1_window_55 : decode cX1_window 55 = .ok (.pop, 1) := dk_87 (dk_at dksX1_window_2 9 rfl rfl)
theorem dX1_window_56 : decode cX1_window 56 = .ok (.aload 4, 2) := dk_25 4 (dk_at dksX1_window_2 10 rfl rfl)
theorem dX1_window_58 : decode cX1_window 58 = .ok (.iconst (-1), 1) := dk_2 (dk_at dksX1_window_2 12 rfl rfl)
theorem dX1_window_59 : decode cX1_window 59 = .ok (.putfield 147, 3) := dk_181 0 147 (dk_at dksX1_window_2 13 rfl rfl)
theorem dX1_window_62 : decode cX1_window 62 = .ok (.iconst 0, 1) := dk_3 (dk_at dksX1_window_2 16 rfl rfl)
theorem dX1_window_63 : decode cX1_window 63 = .ok (.istore 5, 2) := dk_54 5 (dk_at dksX1_window_2 17 rfl rfl)
theorem dX1_window_65 : decode cX1_window 65 = .ok (.iload 5, 2) := dk_21 5 (dk_at dksX1_window_2 19 rfl rfl)
theorem dX1_window_67 : decode cX1_window 67 = .ok (.bipush 40, 2) := dk_16 40 (dk_at dksX1_window_2 21 rfl rfl)
theorem dX1_window_69 : decode cX1_window 69 = .ok (.if_icmp .ge 22, 3) := dk_162 0 22 (dk_at dksX1_window_3 0 rfl rfl)
theorem dX1_window_72 : decode cX1_window 72 = .ok (.aload 4, 2) := dk_25 4 (dk_at dksX1_window_3 3 rfl rfl)
theorem dX1_window_74 : decode cX1_window 74 = .ok (.getfield 147, 3) := dk_180 0 147 (dk_at dksX1_window_3 5 rfl rfl)
theorem dX1_window_77 : decode cX1_window 77 = .ok (.ifCond .ge 14, 3) := dk_156 0 14 (dk_at dksX1_window_3 8 rfl rfl)
theorem dX1_window_80 : decode cX1_window 80 = .ok (.aload 4, 2) := dk_25 4 (dk_at dksX1_window_3 11 rfl rfl)
theorem dX1_window_82 : decode cX1_window 82 = .ok (.invokevirtual 144, 3) := dk_182 0 144 (dk_at dksX1_window_3 13 rfl rfl)
theorem dX1_window_85 : decode cX1_window 85 = .ok (.iinc 5 1, 3) := dk_132 5 1 (dk_at dksX1_window_3 16 rfl rfl)
theorem dX1_window_88 : decode cX1_window 88 = .ok (.goto (-23), 3) := dk_167 255 233 (dk_at dksX1_window_3 19 rfl rfl)
theorem dX1_window_91 : decode cX1_window 91 = .ok (.iload_n 2, 1) := dk_28 (dk_at dksX1_window_3 22 rfl rfl)
theorem dX1_window_92 : decode cX1_window 92 = .ok (.aload 4, 2) := dk_25 4 (dk_at dksX1_window_4 0 rfl rfl)
theorem dX1_window_94 : decode cX1_window 94 = .ok (.getfield 147, 3) := dk_180 0 147 (dk_at dksX1_window_4 2 rfl rfl)
theorem dX1_window_97 : decode cX1_window 97 = .ok (.iload_n 1, 1) := dk_27 (dk_at dksX1_window_4 5 rfl rfl)
theorem dX1_window_98 : decode cX1_window 98 = .ok (.if_icmp .ne 9, 3) := dk_160 0 9 (dk_at dksX1_window_4 6 rfl rfl)
theorem dX1_window_101 : decode cX1_window 101 = .ok (.iconst 1, 1) := dk_4 (dk_at dksX1_window_4 9 rfl rfl)
theorem dX1_window_102 : decode cX1_window 102 = .ok (.iload_n 3, 1) := dk_29 (dk_at dksX1_window_4 10 rfl rfl)
theorem dX1_window_103 : decode cX1_window 103 = .ok (.ishl, 1) := dk_120 (dk_at dksX1_window_4 11 rfl rfl)
theorem dX1_window_104 : decode cX1_window 104 = .ok (.goto 4, 3) := dk_167 0 4 (dk_at dksX1_window_4 12 rfl rfl)
theorem dX1_window_107 : decode cX1_window 107 = .ok (.iconst 0, 1) := dk_3 (dk_at dksX1_window_4 15 rfl rfl)
theorem dX1_window_108 : decode cX1_window 108 = .ok (.ior, 1) := dk_128 (dk_at dksX1_window_4 16 rfl rfl)
theorem dX1_window_109 : decode cX1_window 109 = .ok (.istore_n 2, 1) := dk_61 (dk_at dksX1_window_4 17 rfl rfl)
theorem dX1_window_110 : decode cX1_window 110 = .ok (.iinc 3 1, 3) := dk_132 3 1 (dk_at dksX1_window_4 18 rfl rfl)
theorem dX1_window_113 : decode cX1_window 113 = .ok (.goto (-97), 3) := dk_167 255 159 (dk_at dksX1_window_4 21 rfl rfl)
theorem dX1_window_116 : decode cX1_window 116 = .ok (.iload_n 2, 1) := dk_28 (dk_at dksX1_window_5 0 rfl rfl)
theorem dX1_window_117 : decode cX1_window 117 = .ok (.ireturn, 1) := dk_172 (dk_at dksX1_window_5 1 rfl rfl)
abbrev cX1_keeps : ByteArray := prog_1_method_39_code
def yX1_keeps : MethodName := ⟨RX1, "keeps", "()I"⟩
def dkwX1_keeps_5 : List UInt8 := [167, 0, 4, 3, 172, 132, 3, 1, 167, 255, 176, 2, 172]
abbrev dktX1_keeps_5 : List UInt8 := dkwX1_keeps_5 ++ []
def dkwX1_keeps_4 : List UInt8 := [42, 180, 0, 51, 180, 0, 108, 160, 0, 20, 43, 42, 180, 0, 51, 182, 1, 47, 153, 0, 7, 4]
abbrev dktX1_keeps_4 : List UInt8 := dkwX1_keeps_4 ++ dktX1_keeps_5
def dkwX1_keeps_3 : List UInt8 := [164, 0, 7, 4, 167, 0, 4, 3, 61, 28, 153, 0, 41, 43, 180, 0, 141, 154, 0, 34, 43, 180, 0, 108]
abbrev dktX1_keeps_3 : List UInt8 := dkwX1_keeps_3 ++ dktX1_keeps_4
def dkwX1_keeps_2 : List UInt8 := [162, 0, 79, 43, 182, 0, 144, 28, 154, 0, 17, 43, 180, 0, 108, 42, 180, 0, 51, 180, 0, 108]
abbrev dktX1_keeps_2 : List UInt8 := dkwX1_keeps_2 ++ dktX1_keeps_3
def dkwX1_keeps_1 : List UInt8 := [182, 0, 246, 156, 0, 5, 2, 172, 42, 3, 182, 1, 31, 76, 3, 61, 3, 62, 29, 17, 1, 44]
abbrev dktX1_keeps_1 : List UInt8 := dkwX1_keeps_1 ++ dktX1_keeps_2
def dkwX1_keeps_0 : List UInt8 := [42, 180, 0, 51, 180, 0, 141, 154, 0, 23, 42, 180, 0, 51, 180, 0, 213, 157, 0, 13, 42, 180, 0, 51]
abbrev dktX1_keeps_0 : List UInt8 := dkwX1_keeps_0 ++ dktX1_keeps_1
theorem dksX1_keeps_0 : cX1_keeps.data.toList.drop 0 = dktX1_keeps_0 := by decide +kernel
theorem dksX1_keeps_1 : cX1_keeps.data.toList.drop 24 = dktX1_keeps_1 := dk_seg dksX1_keeps_0 24 rfl rfl
theorem dksX1_keeps_2 : cX1_keeps.data.toList.drop 46 = dktX1_keeps_2 := dk_seg dksX1_keeps_1 22 rfl rfl
theorem dksX1_keeps_3 : cX1_keeps.data.toList.drop 68 = dktX1_keeps_3 := dk_seg dksX1_keeps_2 22 rfl rfl
theorem dksX1_keeps_4 : cX1_keeps.data.toList.drop 92 = dktX1_keeps_4 := dk_seg dksX1_keeps_3 24 rfl rfl
theorem dksX1_keeps_5 : cX1_keeps.data.toList.drop 114 = dktX1_keeps_5 := dk_seg dksX1_keeps_4 22 rfl rfl
theorem dX1_keeps_0 : decode cX1_keeps 0 = .ok (.aload_n 0, 1) := dk_42 (dk_at dksX1_keeps_0 0 rfl rfl)
theorem dX1_keeps_1 : decode cX1_keeps 1 = .ok (.getfield 51, 3) := dk_180 0 51 (dk_at dksX1_keeps_0 1 rfl rfl)
theorem dX1_keeps_4 : decode cX1_keeps 4 = .ok (.getfield 141, 3) := dk_180 0 141 (dk_at dksX1_keeps_0 4 rfl rfl)
theorem dX1_keeps_7 : decode cX1_keeps 7 = .ok (.ifCond .ne 23, 3) := dk_154 0 23 (dk_at dksX1_keeps_0 7 rfl rfl)
theorem dX1_keeps_10 : decode cX1_keeps 10 = .ok (.aload_n 0, 1) := dk_42 (dk_at dksX1_keeps_0 10 rfl rfl)
theorem dX1_keeps_11 : decode cX1_keeps 11 = .ok (.getfield 51, 3) := dk_180 0 51 (dk_at dksX1_keeps_0 11 rfl rfl)
theorem dX1_keeps_14 : decode cX1_keeps 14 = .ok (.getfield 213, 3) := dk_180 0 213 (dk_at dksX1_keeps_0 14 rfl rfl)
theorem dX1_keeps_17 : decode cX1_keeps 17 = .ok (.ifCond .gt 13, 3) := dk_157 0 13 (dk_at dksX1_keeps_0 17 rfl rfl)
theorem dX1_keeps_20 : decode cX1_keeps 20 = .ok (.aload_n 0, 1) := dk_42 (dk_at dksX1_keeps_0 20 rfl rfl)
theorem dX1_keeps_21 : decode cX1_keeps 21 = .ok (.getfield 51, 3) := dk_180 0 51 (dk_at dksX1_keeps_0 21 rfl rfl)
theorem dX1_keeps_24 : decode cX1_keeps 24 = .ok (.invokevirtual 246, 3) := dk_182 0 246 (dk_at dksX1_keeps_1 0 rfl rfl)
theorem dX1_keeps_27 : decode cX1_keeps 27 = .ok (.ifCond .ge 5, 3) := dk_156 0 5 (dk_at dksX1_keeps_1 3 rfl rfl)
theorem dX1_keeps_30 : decode cX1_keeps 30 = .ok (.iconst (-1), 1) := dk_2 (dk_at dksX1_keeps_1 6 rfl rfl)
theorem dX1_keeps_31 : decode cX1_keeps 31 = .ok (.ireturn, 1) := dk_172 (dk_at dksX1_keeps_1 7 rfl rfl)
theorem dX1_keeps_32 : decode cX1_keeps 32 = .ok (.aload_n 0, 1) := dk_42 (dk_at dksX1_keeps_1 8 rfl rfl)
theorem dX1_keeps_33 : decode cX1_keeps 33 = .ok (.iconst 0, 1) := dk_3 (dk_at dksX1_keeps_1 9 rfl rfl)
theorem dX1_keeps_34 : decode cX1_keeps 34 = .ok (.invokevirtual 287, 3) := dk_182 1 31 (dk_at dksX1_keeps_1 10 rfl rfl)
theorem dX1_keeps_37 : decode cX1_keeps 37 = .ok (.astore_n 1, 1) := dk_76 (dk_at dksX1_keeps_1 13 rfl rfl)
theorem dX1_keeps_38 : decode cX1_keeps 38 = .ok (.iconst 0, 1) := dk_3 (dk_at dksX1_keeps_1 14 rfl rfl)
theorem dX1_keeps_39 : decode cX1_keeps 39 = .ok (.istore_n 2, 1) := dk_61 (dk_at dksX1_keeps_1 15 rfl rfl)
theorem dX1_keeps_40 : decode cX1_keeps 40 = .ok (.iconst 0, 1) := dk_3 (dk_at dksX1_keeps_1 16 rfl rfl)
theorem dX1_keeps_41 : decode cX1_keeps 41 = .ok (.istore_n 3, 1) := dk_62 (dk_at dksX1_keeps_1 17 rfl rfl)
theorem dX1_keeps_42 : decode cX1_keeps 42 = .ok (.iload_n 3, 1) := dk_29 (dk_at dksX1_keeps_1 18 rfl rfl)
theorem dX1_keeps_43 : decode cX1_keeps 43 = .ok (.sipush 300, 3) := dk_17 1 44 (dk_at dksX1_keeps_1 19 rfl rfl)
theorem dX1_keeps_46 : decode cX1_keeps 46 = .ok (.if_icmp .ge 79, 3) := dk_162 0 79 (dk_at dksX1_keeps_2 0 rfl rfl)
theorem dX1_keeps_49 : decode cX1_keeps 49 = .ok (.aload_n 1, 1) := dk_43 (dk_at dksX1_keeps_2 3 rfl rfl)
theorem dX1_keeps_50 : decode cX1_keeps 50 = .ok (.invokevirtual 144, 3) := dk_182 0 144 (dk_at dksX1_keeps_2 4 rfl rfl)
theorem dX1_keeps_53 : decode cX1_keeps 53 = .ok (.iload_n 2, 1) := dk_28 (dk_at dksX1_keeps_2 7 rfl rfl)
theorem dX1_keeps_54 : decode cX1_keeps 54 = .ok (.ifCond .ne 17, 3) := dk_154 0 17 (dk_at dksX1_keeps_2 8 rfl rfl)
theorem dX1_keeps_57 : decode cX1_keeps 57 = .ok (.aload_n 1, 1) := dk_43 (dk_at dksX1_keeps_2 11 rfl rfl)
theorem dX1_keeps_58 : decode cX1_keeps 58 = .ok (.getfield 108, 3) := dk_180 0 108 (dk_at dksX1_keeps_2 12 rfl rfl)
theorem dX1_keeps_61 : decode cX1_keeps 61 = .ok (.aload_n 0, 1) := dk_42 (dk_at dksX1_keeps_2 15 rfl rfl)
theorem dX1_keeps_62 : decode cX1_keeps 62 = .ok (.getfield 51, 3) := dk_180 0 51 (dk_at dksX1_keeps_2 16 rfl rfl)
theorem dX1_keeps_65 : decode cX1_keeps 65 = .ok (.getfield 108, 3) := dk_180 0 108 (dk_at dksX1_keeps_2 19 rfl rfl)
theorem dX1_keeps_68 : decode cX1_keeps 68 = .ok (.if_icmp .le 7, 3) := dk_164 0 7 (dk_at dksX1_keeps_3 0 rfl rfl)
theorem dX1_keeps_71 : decode cX1_keeps 71 = .ok (.iconst 1, 1) := dk_4 (dk_at dksX1_keeps_3 3 rfl rfl)
theorem dX1_keeps_72 : decode cX1_keeps 72 = .ok (.goto 4, 3) := dk_167 0 4 (dk_at dksX1_keeps_3 4 rfl rfl)
theorem dX1_keeps_75 : decode cX1_keeps 75 = .ok (.iconst 0, 1) := dk_3 (dk_at dksX1_keeps_3 7 rfl rfl)
theorem dX1_keeps_76 : decode cX1_keeps 76 = .ok (.istore_n 2, 1) := dk_61 (dk_at dksX1_keeps_3 8 rfl rfl)
theorem dX1_keeps_77 : decode cX1_keeps 77 = .ok (.iload_n 2, 1) := dk_28 (dk_at dksX1_keeps_3 9 rfl rfl)
theorem dX1_keeps_78 : decode cX1_keeps 78 = .ok (.ifCond .eq 41, 3) := dk_153 0 41 (dk_at dksX1_keeps_3 10 rfl rfl)
theorem dX1_keeps_81 : decode cX1_keeps 81 = .ok (.aload_n 1, 1) := dk_43 (dk_at dksX1_keeps_3 13 rfl rfl)
theorem dX1_keeps_82 : decode cX1_keeps 82 = .ok (.getfield 141, 3) := dk_180 0 141 (dk_at dksX1_keeps_3 14 rfl rfl)
theorem dX1_keeps_85 : decode cX1_keeps 85 = .ok (.ifCond .ne 34, 3) := dk_154 0 34 (dk_at dksX1_keeps_3 17 rfl rfl)
theorem dX1_keeps_88 : decode cX1_keeps 88 = .ok (.aload_n 1, 1) := dk_43 (dk_at dksX1_keeps_3 20 rfl rfl)
theorem dX1_keeps_89 : decode cX1_keeps 89 = .ok (.getfield 108, 3) := dk_180 0 108 (dk_at dksX1_keeps_3 21 rfl rfl)
theorem dX1_keeps_92 : decode cX1_keeps 92 = .ok (.aload_n 0, 1) := dk_42 (dk_at dksX1_keeps_4 0 rfl rfl)
theorem dX1_keeps_93 : decode cX1_keeps 93 = .ok (.getfield 51, 3) := dk_180 0 51 (dk_at dksX1_keeps_4 1 rfl rfl)
theorem dX1_keeps_96 : decode cX1_keeps 96 = .ok (.getfield 108, 3) := dk_180 0 108 (dk_at dksX1_keeps_4 4 rfl rfl)
theorem dX1_keeps_99 : decode cX1_keeps 99 = .ok (.if_icmp .ne 20, 3) := dk_160 0 20 (dk_at dksX1_keeps_4 7 rfl rfl)
theorem dX1_keeps_102 : decode cX1_keeps 102 = .ok (.aload_n 1, 1) := dk_43 (dk_at dksX1_keeps_4 10 rfl rfl)
theorem dX1_keeps_103 : decode cX1_keeps 103 = .ok (.aload_n 0, 1) := dk_42 (dk_at dksX1_keeps_4 11 rfl rfl)
theorem dX1_keeps_104 : decode cX1_keeps 104 = .ok (.getfield 51, 3) := dk_180 0 51 (dk_at dksX1_keeps_4 12 rfl rfl)
theorem dX1_keeps_107 : decode cX1_keeps 107 = .ok (.invokevirtual 303, 3) := dk_182 1 47 (dk_at dksX1_keeps_4 15 rfl rfl)
theorem dX1_keeps_110 : decode cX1_keeps 110 = .ok (.ifCond .eq 7, 3) := dk_153 0 7 (dk_at dksX1_keeps_4 18 rfl rfl)
theorem dX1_keeps_113 : decode cX1_keeps 113 = .ok (.iconst 1, 1) := dk_4 (dk_at dksX1_keeps_4 21 rfl rfl)
theorem dX1_keeps_114 : decode cX1_keeps 114 = .ok (.goto 4, 3) := dk_167 0 4 (dk_at dksX1_keeps_5 0 rfl rfl)
theorem dX1_keeps_117 : decode cX1_keeps 117 = .ok (.iconst 0, 1) := dk_3 (dk_at dksX1_keeps_5 3 rfl rfl)
theorem dX1_keeps_118 : decode cX1_keeps 118 = .ok (.ireturn, 1) := dk_172 (dk_at dksX1_keeps_5 4 rfl rfl)
theorem dX1_keeps_119 : decode cX1_keeps 119 = .ok (.iinc 3 1, 3) := dk_132 3 1 (dk_at dksX1_keeps_5 5 rfl rfl)
theorem dX1_keeps_122 : decode cX1_keeps 122 = .ok (.goto (-80), 3) := dk_167 255 176 (dk_at dksX1_keeps_5 8 rfl rfl)
theorem dX1_keeps_125 : decode cX1_keeps 125 = .ok (.iconst (-1), 1) := dk_2 (dk_at dksX1_keeps_5 11 rfl rfl)
theorem dX1_keeps_126 : decode cX1_keeps 126 = .ok (.ireturn, 1) := dk_172 (dk_at dksX1_keeps_5 12 rfl rfl)
abbrev cX1_cost : ByteArray := prog_1_method_40_code
def yX1_cost : MethodName := ⟨RX1, "cost", "(I)I"⟩
def dkwX1_cost_2 : List UInt8 := [2, 172]
abbrev dktX1_cost_2 : List UInt8 := dkwX1_cost_2 ++ []
def dkwX1_cost_1 : List UInt8 := [61, 42, 180, 0, 61, 28, 182, 1, 51, 153, 0, 15, 42, 180, 0, 61, 180, 1, 54, 28, 46, 167, 0, 4]
abbrev dktX1_cost_1 : List UInt8 := dkwX1_cost_1 ++ dktX1_cost_2
def dkwX1_cost_0 : List UInt8 := [27, 3, 16, 20, 184, 0, 77, 154, 0, 5, 2, 172, 42, 180, 0, 51, 180, 0, 89, 27, 50, 180, 0, 105]
abbrev dktX1_cost_0 : List UInt8 := dkwX1_cost_0 ++ dktX1_cost_1
theorem dksX1_cost_0 : cX1_cost.data.toList.drop 0 = dktX1_cost_0 := by decide +kernel
theorem dksX1_cost_1 : cX1_cost.data.toList.drop 24 = dktX1_cost_1 := dk_seg dksX1_cost_0 24 rfl rfl
theorem dksX1_cost_2 : cX1_cost.data.toList.drop 48 = dktX1_cost_2 := dk_seg dksX1_cost_1 24 rfl rfl
theorem dX1_cost_0 : decode cX1_cost 0 = .ok (.iload_n 1, 1) := dk_27 (dk_at dksX1_cost_0 0 rfl rfl)
theorem dX1_cost_1 : decode cX1_cost 1 = .ok (.iconst 0, 1) := dk_3 (dk_at dksX1_cost_0 1 rfl rfl)
theorem dX1_cost_2 : decode cX1_cost 2 = .ok (.bipush 20, 2) := dk_16 20 (dk_at dksX1_cost_0 2 rfl rfl)
theorem dX1_cost_4 : decode cX1_cost 4 = .ok (.invokestatic 77, 3) := dk_184 0 77 (dk_at dksX1_cost_0 4 rfl rfl)
theorem dX1_cost_7 : decode cX1_cost 7 = .ok (.ifCond .ne 5, 3) := dk_154 0 5 (dk_at dksX1_cost_0 7 rfl rfl)
theorem dX1_cost_10 : decode cX1_cost 10 = .ok (.iconst (-1), 1) := dk_2 (dk_at dksX1_cost_0 10 rfl rfl)
theorem dX1_cost_11 : decode cX1_cost 11 = .ok (.ireturn, 1) := dk_172 (dk_at dksX1_cost_0 11 rfl rfl)
theorem dX1_cost_12 : decode cX1_cost 12 = .ok (.aload_n 0, 1) := dk_42 (dk_at dksX1_cost_0 12 rfl rfl)
theorem dX1_cost_13 : decode cX1_cost 13 = .ok (.getfield 51, 3) := dk_180 0 51 (dk_at dksX1_cost_0 13 rfl rfl)
theorem dX1_cost_16 : decode cX1_cost 16 = .ok (.getfield 89, 3) := dk_180 0 89 (dk_at dksX1_cost_0 16 rfl rfl)
theorem dX1_cost_19 : decode cX1_cost 19 = .ok (.iload_n 1, 1) := dk_27 (dk_at dksX1_cost_0 19 rfl rfl)
theorem dX1_cost_20 : decode cX1_cost 20 = .ok (.aaload, 1) := dk_50 (dk_at dksX1_cost_0 20 rfl rfl)
theorem dX1_cost_21 : decode cX1_cost 21 = .ok (.getfield 105, 3) := dk_180 0 105 (dk_at dksX1_cost_0 21 rfl rfl)
theorem dX1_cost_24 : decode cX1_cost 24 = .ok (.istore_n 2, 1) := dk_61 (dk_at dksX1_cost_1 0 rfl rfl)
theorem dX1_cost_25 : decode cX1_cost 25 = .ok (.aload_n 0, 1) := dk_42 (dk_at dksX1_cost_1 1 rfl rfl)
theorem dX1_cost_26 : decode cX1_cost 26 = .ok (.getfield 61, 3) := dk_180 0 61 (dk_at dksX1_cost_1 2 rfl rfl)
theorem dX1_cost_29 : decode cX1_cost 29 = .ok (.iload_n 2, 1) := dk_28 (dk_at dksX1_cost_1 5 rfl rfl)
theorem dX1_cost_30 : decode cX1_cost 30 = .ok (.invokevirtual 307, 3) := dk_182 1 51 (dk_at dksX1_cost_1 6 rfl rfl)
theorem dX1_cost_33 : decode cX1_cost 33 = .ok (.ifCond .eq 15, 3) := dk_153 0 15 (dk_at dksX1_cost_1 9 rfl rfl)
theorem dX1_cost_36 : decode cX1_cost 36 = .ok (.aload_n 0, 1) := dk_42 (dk_at dksX1_cost_1 12 rfl rfl)
theorem dX1_cost_37 : decode cX1_cost 37 = .ok (.getfield 61, 3) := dk_180 0 61 (dk_at dksX1_cost_1 13 rfl rfl)
theorem dX1_cost_40 : decode cX1_cost 40 = .ok (.getfield 310, 3) := dk_180 1 54 (dk_at dksX1_cost_1 16 rfl rfl)
theorem dX1_cost_43 : decode cX1_cost 43 = .ok (.iload_n 2, 1) := dk_28 (dk_at dksX1_cost_1 19 rfl rfl)
theorem dX1_cost_44 : decode cX1_cost 44 = .ok (.iaload, 1) := dk_46 (dk_at dksX1_cost_1 20 rfl rfl)
theorem dX1_cost_45 : decode cX1_cost 45 = .ok (.goto 4, 3) := dk_167 0 4 (dk_at dksX1_cost_1 21 rfl rfl)
theorem dX1_cost_48 : decode cX1_cost 48 = .ok (.iconst (-1), 1) := dk_2 (dk_at dksX1_cost_2 0 rfl rfl)
theorem dX1_cost_49 : decode cX1_cost 49 = .ok (.ireturn, 1) := dk_172 (dk_at dksX1_cost_2 1 rfl rfl)
abbrev cX1_pushes : ByteArray := prog_1_method_41_code
def yX1_pushes : MethodName := ⟨RX1, "pushes", "(I)I"⟩
def dkwX1_pushes_2 : List UInt8 := [2, 172]
abbrev dktX1_pushes_2 : List UInt8 := dkwX1_pushes_2 ++ []
def dkwX1_pushes_1 : List UInt8 := [61, 42, 180, 0, 61, 28, 182, 1, 51, 153, 0, 15, 42, 180, 0, 61, 180, 1, 57, 28, 46, 167, 0, 4]
abbrev dktX1_pushes_1 : List UInt8 := dkwX1_pushes_1 ++ dktX1_pushes_2
def dkwX1_pushes_0 : List UInt8 := [27, 3, 16, 20, 184, 0, 77, 154, 0, 5, 2, 172, 42, 180, 0, 51, 180, 0, 89, 27, 50, 180, 0, 105]
abbrev dktX1_pushes_0 : List UInt8 := dkwX1_pushes_0 ++ dktX1_pushes_1
theorem dksX1_pushes_0 : cX1_pushes.data.toList.drop 0 = dktX1_pushes_0 := by decide +kernel
theorem dksX1_pushes_1 : cX1_pushes.data.toList.drop 24 = dktX1_pushes_1 := dk_seg dksX1_pushes_0 24 rfl rfl
theorem dksX1_pushes_2 : cX1_pushes.data.toList.drop 48 = dktX1_pushes_2 := dk_seg dksX1_pushes_1 24 rfl rfl
theorem dX1_pushes_0 : decode cX1_pushes 0 = .ok (.iload_n 1, 1) := dk_27 (dk_at dksX1_pushes_0 0 rfl rfl)
theorem dX1_pushes_1 : decode cX1_pushes 1 = .ok (.iconst 0, 1) := dk_3 (dk_at dksX1_pushes_0 1 rfl rfl)
theorem dX1_pushes_2 : decode cX1_pushes 2 = .ok (.bipush 20, 2) := dk_16 20 (dk_at dksX1_pushes_0 2 rfl rfl)
theorem dX1_pushes_4 : decode cX1_pushes 4 = .ok (.invokestatic 77, 3) := dk_184 0 77 (dk_at dksX1_pushes_0 4 rfl rfl)
theorem dX1_pushes_7 : decode cX1_pushes 7 = .ok (.ifCond .ne 5, 3) := dk_154 0 5 (dk_at dksX1_pushes_0 7 rfl rfl)
theorem dX1_pushes_10 : decode cX1_pushes 10 = .ok (.iconst (-1), 1) := dk_2 (dk_at dksX1_pushes_0 10 rfl rfl)
theorem dX1_pushes_11 : decode cX1_pushes 11 = .ok (.ireturn, 1) := dk_172 (dk_at dksX1_pushes_0 11 rfl rfl)
theorem dX1_pushes_12 : decode cX1_pushes 12 = .ok (.aload_n 0, 1) := dk_42 (dk_at dksX1_pushes_0 12 rfl rfl)
theorem dX1_pushes_13 : decode cX1_pushes 13 = .ok (.getfield 51, 3) := dk_180 0 51 (dk_at dksX1_pushes_0 13 rfl rfl)
theorem dX1_pushes_16 : decode cX1_pushes 16 = .ok (.getfield 89, 3) := dk_180 0 89 (dk_at dksX1_pushes_0 16 rfl rfl)
theorem dX1_pushes_19 : decode cX1_pushes 19 = .ok (.iload_n 1, 1) := dk_27 (dk_at dksX1_pushes_0 19 rfl rfl)
theorem dX1_pushes_20 : decode cX1_pushes 20 = .ok (.aaload, 1) := dk_50 (dk_at dksX1_pushes_0 20 rfl rfl)
theorem dX1_pushes_21 : decode cX1_pushes 21 = .ok (.getfield 105, 3) := dk_180 0 105 (dk_at dksX1_pushes_0 21 rfl rfl)
theorem dX1_pushes_24 : decode cX1_pushes 24 = .ok (.istore_n 2, 1) := dk_61 (dk_at dksX1_pushes_1 0 rfl rfl)
theorem dX1_pushes_25 : decode cX1_pushes 25 = .ok (.aload_n 0, 1) := dk_42 (dk_at dksX1_pushes_1 1 rfl rfl)
theorem dX1_pushes_26 : decode cX1_pushes 26 = .ok (.getfield 61, 3) := dk_180 0 61 (dk_at dksX1_pushes_1 2 rfl rfl)
theorem dX1_pushes_29 : decode cX1_pushes 29 = .ok (.iload_n 2, 1) := dk_28 (dk_at dksX1_pushes_1 5 rfl rfl)
theorem dX1_pushes_30 : decode cX1_pushes 30 = .ok (.invokevirtual 307, 3) := dk_182 1 51 (dk_at dksX1_pushes_1 6 rfl rfl)
theorem dX1_pushes_33 : decode cX1_pushes 33 = .ok (.ifCond .eq 15, 3) := dk_153 0 15 (dk_at dksX1_pushes_1 9 rfl rfl)
theorem dX1_pushes_36 : decode cX1_pushes 36 = .ok (.aload_n 0, 1) := dk_42 (dk_at dksX1_pushes_1 12 rfl rfl)
theorem dX1_pushes_37 : decode cX1_pushes 37 = .ok (.getfield 61, 3) := dk_180 0 61 (dk_at dksX1_pushes_1 13 rfl rfl)
theorem dX1_pushes_40 : decode cX1_pushes 40 = .ok (.getfield 313, 3) := dk_180 1 57 (dk_at dksX1_pushes_1 16 rfl rfl)
theorem dX1_pushes_43 : decode cX1_pushes 43 = .ok (.iload_n 2, 1) := dk_28 (dk_at dksX1_pushes_1 19 rfl rfl)
theorem dX1_pushes_44 : decode cX1_pushes 44 = .ok (.iaload, 1) := dk_46 (dk_at dksX1_pushes_1 20 rfl rfl)
theorem dX1_pushes_45 : decode cX1_pushes 45 = .ok (.goto 4, 3) := dk_167 0 4 (dk_at dksX1_pushes_1 21 rfl rfl)
theorem dX1_pushes_48 : decode cX1_pushes 48 = .ok (.iconst (-1), 1) := dk_2 (dk_at dksX1_pushes_2 0 rfl rfl)
theorem dX1_pushes_49 : decode cX1_pushes 49 = .ok (.ireturn, 1) := dk_172 (dk_at dksX1_pushes_2 1 rfl rfl)
abbrev cX1_room : ByteArray := prog_1_method_42_code
def yX1_room : MethodName := ⟨RX1, "room", "(Z)I"⟩
def dkwX1_room_6 : List UInt8 := [96, 96, 62, 132, 4, 1, 167, 255, 213, 29, 172]
abbrev dktX1_room_6 : List UInt8 := dkwX1_room_6 ++ []
def dkwX1_room_5 : List UInt8 := [154, 0, 7, 3, 167, 0, 21, 44, 21, 4, 46, 4, 100, 27, 153, 0, 8, 16, 10, 167, 0, 5, 16, 6]
abbrev dktX1_room_5 : List UInt8 := dkwX1_room_5 ++ dktX1_room_6
def dkwX1_room_4 : List UInt8 := [132, 3, 1, 167, 255, 169, 3, 62, 3, 54, 4, 21, 4, 17, 1, 0, 163, 0, 41, 29, 44, 21, 4, 46]
abbrev dktX1_room_4 : List UInt8 := dkwX1_room_4 ++ dktX1_room_5
def dkwX1_room_3 : List UInt8 := [21, 5, 4, 96, 44, 21, 6, 46, 164, 0, 10, 21, 5, 4, 96, 167, 0, 7, 44, 21, 6, 46, 79]
abbrev dktX1_room_3 : List UInt8 := dkwX1_room_3 ++ dktX1_room_4
def dkwX1_room_2 : List UInt8 := [156, 0, 5, 2, 172, 25, 4, 42, 180, 0, 51, 180, 0, 198, 182, 0, 201, 4, 96, 54, 6, 44, 21, 6]
abbrev dktX1_room_2 : List UInt8 := dkwX1_room_2 ++ dktX1_room_3
def dkwX1_room_1 : List UInt8 := [58, 4, 25, 4, 180, 0, 102, 154, 0, 6, 167, 0, 59, 42, 29, 182, 1, 60, 54, 5, 21, 5]
abbrev dktX1_room_1 : List UInt8 := dkwX1_room_1 ++ dktX1_room_2
def dkwX1_room_0 : List UInt8 := [17, 1, 1, 188, 10, 77, 3, 62, 29, 16, 21, 162, 0, 87, 42, 180, 0, 51, 180, 0, 89, 29, 50]
abbrev dktX1_room_0 : List UInt8 := dkwX1_room_0 ++ dktX1_room_1
theorem dksX1_room_0 : cX1_room.data.toList.drop 0 = dktX1_room_0 := by decide +kernel
theorem dksX1_room_1 : cX1_room.data.toList.drop 23 = dktX1_room_1 := dk_seg dksX1_room_0 23 rfl rfl
theorem dksX1_room_2 : cX1_room.data.toList.drop 45 = dktX1_room_2 := dk_seg dksX1_room_1 22 rfl rfl
theorem dksX1_room_3 : cX1_room.data.toList.drop 69 = dktX1_room_3 := dk_seg dksX1_room_2 24 rfl rfl
theorem dksX1_room_4 : cX1_room.data.toList.drop 92 = dktX1_room_4 := dk_seg dksX1_room_3 23 rfl rfl
theorem dksX1_room_5 : cX1_room.data.toList.drop 116 = dktX1_room_5 := dk_seg dksX1_room_4 24 rfl rfl
theorem dksX1_room_6 : cX1_room.data.toList.drop 140 = dktX1_room_6 := dk_seg dksX1_room_5 24 rfl rfl
theorem dX1_room_0 : decode cX1_room 0 = .ok (.sipush 257, 3) := dk_17 1 1 (dk_at dksX1_room_0 0 rfl rfl)
theorem dX1_room_3 : decode cX1_room 3 = .ok (.newarray .int, 2) := dk_188_10 (dk_at dksX1_room_0 3 rfl rfl)
theorem dX1_room_5 : decode cX1_room 5 = .ok (.astore_n 2, 1) := dk_77 (dk_at dksX1_room_0 5 rfl rfl)
theorem dX1_room_6 : decode cX1_room 6 = .ok (.iconst 0, 1) := dk_3 (dk_at dksX1_room_0 6 rfl rfl)
theorem dX1_room_7 : decode cX1_room 7 = .ok (.istore_n 3, 1) := dk_62 (dk_at dksX1_room_0 7 rfl rfl)
theorem dX1_room_8 : decode cX1_room 8 = .ok (.iload_n 3, 1) := dk_29 (dk_at dksX1_room_0 8 rfl rfl)
theorem dX1_room_9 : decode cX1_room 9 = .ok (.bipush 21, 2) := dk_16 21 (dk_at dksX1_room_0 9 rfl rfl)
theorem dX1_room_11 : decode cX1_room 11 = .ok (.if_icmp .ge 87, 3) := dk_162 0 87 (dk_at dksX1_room_0 11 rfl rfl)
theorem dX1_room_14 : decode cX1_room 14 = .ok (.aload_n 0, 1) := dk_42 (dk_at dksX1_room_0 14 rfl rfl)
theorem dX1_room_15 : decode cX1_room 15 = .ok (.getfield 51, 3) := dk_180 0 51 (dk_at dksX1_room_0 15 rfl rfl)
theorem dX1_room_18 : decode cX1_room 18 = .ok (.getfield 89, 3) := dk_180 0 89 (dk_at dksX1_room_0 18 rfl rfl)
theorem dX1_room_21 : decode cX1_room 21 = .ok (.iload_n 3, 1) := dk_29 (dk_at dksX1_room_0 21 rfl rfl)
theorem dX1_room_22 : decode cX1_room 22 = .ok (.aaload, 1) := dk_50 (dk_at dksX1_room_0 22 rfl rfl)
theorem dX1_room_23 : decode cX1_room 23 = .ok (.astore 4, 2) := dk_58 4 (dk_at dksX1_room_1 0 rfl rfl)
theorem dX1_room_25 : decode cX1_room 25 = .ok (.aload 4, 2) := dk_25 4 (dk_at dksX1_room_1 2 rfl rfl)
theorem dX1_room_27 : decode cX1_room 27 = .ok (.getfield 102, 3) := dk_180 0 102 (dk_at dksX1_room_1 4 rfl rfl)
theorem dX1_room_30 : decode cX1_room 30 = .ok (.ifCond .ne 6, 3) := dk_154 0 6 (dk_at dksX1_room_1 7 rfl rfl)
theorem dX1_room_33 : decode cX1_room 33 = .ok (.goto 59, 3) := dk_167 0 59 (dk_at dksX1_room_1 10 rfl rfl)
theorem dX1_room_36 : decode cX1_room 36 = .ok (.aload_n 0, 1) := dk_42 (dk_at dksX1_room_1 13 rfl rfl)
theorem dX1_room_37 : decode cX1_room 37 = .ok (.iload_n 3, 1) := dk_29 (dk_at dksX1_room_1 14 rfl rfl)
theorem dX1_room_38 : decode cX1_room 38 = .ok (.invokevirtual 316, 3) := dk_182 1 60 (dk_at dksX1_room_1 15 rfl rfl)
theorem dX1_room_41 : decode cX1_room 41 = .ok (.istore 5, 2) := dk_54 5 (dk_at dksX1_room_1 18 rfl rfl)
theorem dX1_room_43 : decode cX1_room 43 = .ok (.iload 5, 2) := dk_21 5 (dk_at dksX1_room_1 20 rfl rfl)
theorem dX1_room_45 : decode cX1_room 45 = .ok (.ifCond .ge 5, 3) := dk_156 0 5 (dk_at dksX1_room_2 0 rfl rfl)
theorem dX1_room_48 : decode cX1_room 48 = .ok (.iconst (-1), 1) := dk_2 (dk_at dksX1_room_2 3 rfl rfl)
theorem dX1_room_49 : decode cX1_room 49 = .ok (.ireturn, 1) := dk_172 (dk_at dksX1_room_2 4 rfl rfl)
theorem dX1_room_50 : decode cX1_room 50 = .ok (.aload 4, 2) := dk_25 4 (dk_at dksX1_room_2 5 rfl rfl)
theorem dX1_room_52 : decode cX1_room 52 = .ok (.aload_n 0, 1) := dk_42 (dk_at dksX1_room_2 7 rfl rfl)
theorem dX1_room_53 : decode cX1_room 53 = .ok (.getfield 51, 3) := dk_180 0 51 (dk_at dksX1_room_2 8 rfl rfl)
theorem dX1_room_56 : decode cX1_room 56 = .ok (.getfield 198, 3) := dk_180 0 198 (dk_at dksX1_room_2 11 rfl rfl)
theorem dX1_room_59 : decode cX1_room 59 = .ok (.invokevirtual 201, 3) := dk_182 0 201 (dk_at dksX1_room_2 14 rfl rfl)
theorem dX1_room_62 : decode cX1_room 62 = .ok (.iconst 1, 1) := dk_4 (dk_at dksX1_room_2 17 rfl rfl)
theorem dX1_room_63 : decode cX1_room 63 = .ok (.iadd, 1) := dk_96 (dk_at dksX1_room_2 18 rfl rfl)
theorem dX1_room_64 : decode cX1_room 64 = .ok (.istore 6, 2) := dk_54 6 (dk_at dksX1_room_2 19 rfl rfl)
theorem dX1_room_66 : decode cX1_room 66 = .ok (.aload_n 2, 1) := dk_44 (dk_at dksX1_room_2 21 rfl rfl)
theorem dX1_room_67 : decode cX1_room 67 = .ok (.iload 6, 2) := dk_21 6 (dk_at dksX1_room_2 22 rfl rfl)
theorem dX1_room_69 : decode cX1_room 69 = .ok (.iload 5, 2) := dk_21 5 (dk_at dksX1_room_3 0 rfl rfl)
theorem dX1_room_71 : decode cX1_room 71 = .ok (.iconst 1, 1) := dk_4 (dk_at dksX1_room_3 2 rfl rfl)
theorem dX1_room_72 : decode cX1_room 72 = .ok (.iadd, 1) := dk_96 (dk_at dksX1_room_3 3 rfl rfl)
theorem dX1_room_73 : decode cX1_room 73 = .ok (.aload_n 2, 1) := dk_44 (dk_at dksX1_room_3 4 rfl rfl)
theorem dX1_room_74 : decode cX1_room 74 = .ok (.iload 6, 2) := dk_21 6 (dk_at dksX1_room_3 5 rfl rfl)
theorem dX1_room_76 : decode cX1_room 76 = .ok (.iaload, 1) := dk_46 (dk_at dksX1_room_3 7 rfl rfl)
theorem dX1_room_77 : decode cX1_room 77 = .ok (.if_icmp .le 10, 3) := dk_164 0 10 (dk_at dksX1_room_3 8 rfl rfl)
theorem dX1_room_80 : decode cX1_room 80 = .ok (.iload 5, 2) := dk_21 5 (dk_at dksX1_room_3 11 rfl rfl)
theorem dX1_room_82 : decode cX1_room 82 = .ok (.iconst 1, 1) := dk_4 (dk_at dksX1_room_3 13 rfl rfl)
theorem dX1_room_83 : decode cX1_room 83 = .ok (.iadd, 1) := dk_96 (dk_at dksX1_room_3 14 rfl rfl)
theorem dX1_room_84 : decode cX1_room 84 = .ok (.goto 7, 3) := dk_167 0 7 (dk_at dksX1_room_3 15 rfl rfl)
theorem dX1_room_87 : decode cX1_room 87 = .ok (.aload_n 2, 1) := dk_44 (dk_at dksX1_room_3 18 rfl rfl)
theorem dX1_room_88 : decode cX1_room 88 = .ok (.iload 6, 2) := dk_21 6 (dk_at dksX1_room_3 19 rfl rfl)
theorem dX1_room_90 : decode cX1_room 90 = .ok (.iaload, 1) := dk_46 (dk_at dksX1_room_3 21 rfl rfl)
theorem dX1_room_91 : decode cX1_room 91 = .ok (.iastore, 1) := dk_79 (dk_at dksX1_room_3 22 rfl rfl)
theorem dX1_room_92 : decode cX1_room 92 = .ok (.iinc 3 1, 3) := dk_132 3 1 (dk_at dksX1_room_4 0 rfl rfl)
theorem dX1_room_95 : decode cX1_room 95 = .ok (.goto (-87), 3) := dk_167 255 169 (dk_at dksX1_room_4 3 rfl rfl)
theorem dX1_room_98 : decode cX1_room 98 = .ok (.iconst 0, 1) := dk_3 (dk_at dksX1_room_4 6 rfl rfl)
theorem dX1_room_99 : decode cX1_room 99 = .ok (.istore_n 3, 1) := dk_62 (dk_at dksX1_room_4 7 rfl rfl)
theorem dX1_room_100 : decode cX1_room 100 = .ok (.iconst 0, 1) := dk_3 (dk_at dksX1_room_4 8 rfl rfl)
theorem dX1_room_101 : decode cX1_room 101 = .ok (.istore 4, 2) := dk_54 4 (dk_at dksX1_room_4 9 rfl rfl)
theorem dX1_room_103 : decode cX1_room 103 = .ok (.iload 4, 2) := dk_21 4 (dk_at dksX1_room_4 11 rfl rfl)
theorem dX1_room_105 : decode cX1_room 105 = .ok (.sipush 256, 3) := dk_17 1 0 (dk_at dksX1_room_4 13 rfl rfl)
theorem dX1_room_108 : decode cX1_room 108 = .ok (.if_icmp .gt 41, 3) := dk_163 0 41 (dk_at dksX1_room_4 16 rfl rfl)
theorem dX1_room_111 : decode cX1_room 111 = .ok (.iload_n 3, 1) := dk_29 (dk_at dksX1_room_4 19 rfl rfl)
theorem dX1_room_112 : decode cX1_room 112 = .ok (.aload_n 2, 1) := dk_44 (dk_at dksX1_room_4 20 rfl rfl)
theorem dX1_room_113 : decode cX1_room 113 = .ok (.iload 4, 2) := dk_21 4 (dk_at dksX1_room_4 21 rfl rfl)
theorem dX1_room_115 : decode cX1_room 115 = .ok (.iaload, 1) := dk_46 (dk_at dksX1_room_4 23 rfl rfl)
theorem dX1_room_116 : decode cX1_room 116 = .ok (.ifCond .ne 7, 3) := dk_154 0 7 (dk_at dksX1_room_5 0 rfl rfl)
theorem dX1_room_119 : decode cX1_room 119 = .ok (.iconst 0, 1) := dk_3 (dk_at dksX1_room_5 3 rfl rfl)
theorem dX1_room_120 : decode cX1_room 120 = .ok (.goto 21, 3) := dk_167 0 21 (dk_at dksX1_room_5 4 rfl rfl)
theorem dX1_room_123 : decode cX1_room 123 = .ok (.aload_n 2, 1) := dk_44 (dk_at dksX1_room_5 7 rfl rfl)
theorem dX1_room_124 : decode cX1_room 124 = .ok (.iload 4, 2) := dk_21 4 (dk_at dksX1_room_5 8 rfl rfl)
theorem dX1_room_126 : decode cX1_room 126 = .ok (.iaload, 1) := dk_46 (dk_at dksX1_room_5 10 rfl rfl)
theorem dX1_room_127 : decode cX1_room 127 = .ok (.iconst 1, 1) := dk_4 (dk_at dksX1_room_5 11 rfl rfl)
theorem dX1_room_128 : decode cX1_room 128 = .ok (.isub, 1) := dk_100 (dk_at dksX1_room_5 12 rfl rfl)
theorem dX1_room_129 : decode cX1_room 129 = .ok (.iload_n 1, 1) := dk_27 (dk_at dksX1_room_5 13 rfl rfl)
theorem dX1_room_130 : decode cX1_room 130 = .ok (.ifCond .eq 8, 3) := dk_153 0 8 (dk_at dksX1_room_5 14 rfl rfl)
theorem dX1_room_133 : decode cX1_room 133 = .ok (.bipush 10, 2) := dk_16 10 (dk_at dksX1_room_5 17 rfl rfl)
theorem dX1_room_135 : decode cX1_room 135 = .ok (.goto 5, 3) := dk_167 0 5 (dk_at dksX1_room_5 19 rfl rfl)
theorem dX1_room_138 : decode cX1_room 138 = .ok (.bipush 6, 2) := dk_16 6 (dk_at dksX1_room_5 22 rfl rfl)
theorem dX1_room_140 : decode cX1_room 140 = .ok (.iadd, 1) := dk_96 (dk_at dksX1_room_6 0 rfl rfl)
theorem dX1_room_141 : decode cX1_room 141 = .ok (.iadd, 1) := dk_96 (dk_at dksX1_room_6 1 rfl rfl)
theorem dX1_room_142 : decode cX1_room 142 = .ok (.istore_n 3, 1) := dk_62 (dk_at dksX1_room_6 2 rfl rfl)
theorem dX1_room_143 : decode cX1_room 143 = .ok (.iinc 4 1, 3) := dk_132 4 1 (dk_at dksX1_room_6 3 rfl rfl)
theorem dX1_room_146 : decode cX1_room 146 = .ok (.goto (-43), 3) := dk_167 255 213 (dk_at dksX1_room_6 6 rfl rfl)
theorem dX1_room_149 : decode cX1_room 149 = .ok (.iload_n 3, 1) := dk_29 (dk_at dksX1_room_6 9 rfl rfl)
theorem dX1_room_150 : decode cX1_room 150 = .ok (.ireturn, 1) := dk_172 (dk_at dksX1_room_6 10 rfl rfl)
abbrev cX1_reg : ByteArray := prog_1_method_22_code
def yX1_reg : MethodName := ⟨RX1, "reg", "(I)I"⟩
def dkwX1_reg_2 : List UInt8 := [184, 0, 167, 172]
abbrev dktX1_reg_2 : List UInt8 := dkwX1_reg_2 ++ []
def dkwX1_reg_1 : List UInt8 := [42, 180, 0, 51, 180, 0, 160, 27, 46, 167, 0, 18, 42, 180, 0, 51, 180, 0, 163, 27, 16, 8, 100, 48]
abbrev dktX1_reg_1 : List UInt8 := dkwX1_reg_1 ++ dktX1_reg_2
def dkwX1_reg_0 : List UInt8 := [27, 3, 16, 11, 184, 0, 77, 154, 0, 11, 187, 0, 157, 89, 183, 0, 159, 191, 27, 16, 8, 162, 0, 15]
abbrev dktX1_reg_0 : List UInt8 := dkwX1_reg_0 ++ dktX1_reg_1
theorem dksX1_reg_0 : cX1_reg.data.toList.drop 0 = dktX1_reg_0 := by decide +kernel
theorem dksX1_reg_1 : cX1_reg.data.toList.drop 24 = dktX1_reg_1 := dk_seg dksX1_reg_0 24 rfl rfl
theorem dksX1_reg_2 : cX1_reg.data.toList.drop 48 = dktX1_reg_2 := dk_seg dksX1_reg_1 24 rfl rfl
theorem dX1_reg_0 : decode cX1_reg 0 = .ok (.iload_n 1, 1) := dk_27 (dk_at dksX1_reg_0 0 rfl rfl)
theorem dX1_reg_1 : decode cX1_reg 1 = .ok (.iconst 0, 1) := dk_3 (dk_at dksX1_reg_0 1 rfl rfl)
theorem dX1_reg_2 : decode cX1_reg 2 = .ok (.bipush 11, 2) := dk_16 11 (dk_at dksX1_reg_0 2 rfl rfl)
theorem dX1_reg_4 : decode cX1_reg 4 = .ok (.invokestatic 77, 3) := dk_184 0 77 (dk_at dksX1_reg_0 4 rfl rfl)
theorem dX1_reg_7 : decode cX1_reg 7 = .ok (.ifCond .ne 11, 3) := dk_154 0 11 (dk_at dksX1_reg_0 7 rfl rfl)
theorem dX1_reg_10 : decode cX1_reg 10 = .ok (.new 157, 3) := dk_187 0 157 (dk_at dksX1_reg_0 10 rfl rfl)
theorem dX1_reg_13 : decode cX1_reg 13 = .ok (.dup, 1) := dk_89 (dk_at dksX1_reg_0 13 rfl rfl)
theorem dX1_reg_14 : decode cX1_reg 14 = .ok (.invokespecial 159, 3) := dk_183 0 159 (dk_at dksX1_reg_0 14 rfl rfl)
theorem dX1_reg_17 : decode cX1_reg 17 = .ok (.athrow, 1) := dk_191 (dk_at dksX1_reg_0 17 rfl rfl)
theorem dX1_reg_18 : decode cX1_reg 18 = .ok (.iload_n 1, 1) := dk_27 (dk_at dksX1_reg_0 18 rfl rfl)
theorem dX1_reg_19 : decode cX1_reg 19 = .ok (.bipush 8, 2) := dk_16 8 (dk_at dksX1_reg_0 19 rfl rfl)
theorem dX1_reg_21 : decode cX1_reg 21 = .ok (.if_icmp .ge 15, 3) := dk_162 0 15 (dk_at dksX1_reg_0 21 rfl rfl)
theorem dX1_reg_24 : decode cX1_reg 24 = .ok (.aload_n 0, 1) := dk_42 (dk_at dksX1_reg_1 0 rfl rfl)
theorem dX1_reg_25 : decode cX1_reg 25 = .ok (.getfield 51, 3) := dk_180 0 51 (dk_at dksX1_reg_1 1 rfl rfl)
theorem dX1_reg_28 : decode cX1_reg 28 = .ok (.getfield 160, 3) := dk_180 0 160 (dk_at dksX1_reg_1 4 rfl rfl)
theorem dX1_reg_31 : decode cX1_reg 31 = .ok (.iload_n 1, 1) := dk_27 (dk_at dksX1_reg_1 7 rfl rfl)
theorem dX1_reg_32 : decode cX1_reg 32 = .ok (.iaload, 1) := dk_46 (dk_at dksX1_reg_1 8 rfl rfl)
theorem dX1_reg_33 : decode cX1_reg 33 = .ok (.goto 18, 3) := dk_167 0 18 (dk_at dksX1_reg_1 9 rfl rfl)
theorem dX1_reg_36 : decode cX1_reg 36 = .ok (.aload_n 0, 1) := dk_42 (dk_at dksX1_reg_1 12 rfl rfl)
theorem dX1_reg_37 : decode cX1_reg 37 = .ok (.getfield 51, 3) := dk_180 0 51 (dk_at dksX1_reg_1 13 rfl rfl)
theorem dX1_reg_40 : decode cX1_reg 40 = .ok (.getfield 163, 3) := dk_180 0 163 (dk_at dksX1_reg_1 16 rfl rfl)
theorem dX1_reg_43 : decode cX1_reg 43 = .ok (.iload_n 1, 1) := dk_27 (dk_at dksX1_reg_1 19 rfl rfl)
theorem dX1_reg_44 : decode cX1_reg 44 = .ok (.bipush 8, 2) := dk_16 8 (dk_at dksX1_reg_1 20 rfl rfl)
theorem dX1_reg_46 : decode cX1_reg 46 = .ok (.isub, 1) := dk_100 (dk_at dksX1_reg_1 22 rfl rfl)
theorem dX1_reg_47 : decode cX1_reg 47 = .ok (.faload, 1) := dk_48 (dk_at dksX1_reg_1 23 rfl rfl)
theorem dX1_reg_48 : decode cX1_reg 48 = .ok (.invokestatic 167, 3) := dk_184 0 167 (dk_at dksX1_reg_2 0 rfl rfl)
theorem dX1_reg_51 : decode cX1_reg 51 = .ok (.ireturn, 1) := dk_172 (dk_at dksX1_reg_2 3 rfl rfl)
abbrev cX1_word : ByteArray := prog_1_method_23_code
def yX1_word : MethodName := ⟨RX1, "word", "(I)I"⟩
def dkwX1_word_1 : List UInt8 := [180, 0, 176, 27, 46, 172]
abbrev dktX1_word_1 : List UInt8 := dkwX1_word_1 ++ []
def dkwX1_word_0 : List UInt8 := [27, 3, 16, 95, 184, 0, 77, 154, 0, 11, 187, 0, 173, 89, 183, 0, 175, 191, 42, 180, 0, 51]
abbrev dktX1_word_0 : List UInt8 := dkwX1_word_0 ++ dktX1_word_1
theorem dksX1_word_0 : cX1_word.data.toList.drop 0 = dktX1_word_0 := by decide +kernel
theorem dksX1_word_1 : cX1_word.data.toList.drop 22 = dktX1_word_1 := dk_seg dksX1_word_0 22 rfl rfl
theorem dX1_word_0 : decode cX1_word 0 = .ok (.iload_n 1, 1) := dk_27 (dk_at dksX1_word_0 0 rfl rfl)
theorem dX1_word_1 : decode cX1_word 1 = .ok (.iconst 0, 1) := dk_3 (dk_at dksX1_word_0 1 rfl rfl)
theorem dX1_word_2 : decode cX1_word 2 = .ok (.bipush 95, 2) := dk_16 95 (dk_at dksX1_word_0 2 rfl rfl)
theorem dX1_word_4 : decode cX1_word 4 = .ok (.invokestatic 77, 3) := dk_184 0 77 (dk_at dksX1_word_0 4 rfl rfl)
theorem dX1_word_7 : decode cX1_word 7 = .ok (.ifCond .ne 11, 3) := dk_154 0 11 (dk_at dksX1_word_0 7 rfl rfl)
theorem dX1_word_10 : decode cX1_word 10 = .ok (.new 173, 3) := dk_187 0 173 (dk_at dksX1_word_0 10 rfl rfl)
theorem dX1_word_13 : decode cX1_word 13 = .ok (.dup, 1) := dk_89 (dk_at dksX1_word_0 13 rfl rfl)
theorem dX1_word_14 : decode cX1_word 14 = .ok (.invokespecial 175, 3) := dk_183 0 175 (dk_at dksX1_word_0 14 rfl rfl)
theorem dX1_word_17 : decode cX1_word 17 = .ok (.athrow, 1) := dk_191 (dk_at dksX1_word_0 17 rfl rfl)
theorem dX1_word_18 : decode cX1_word 18 = .ok (.aload_n 0, 1) := dk_42 (dk_at dksX1_word_0 18 rfl rfl)
theorem dX1_word_19 : decode cX1_word 19 = .ok (.getfield 51, 3) := dk_180 0 51 (dk_at dksX1_word_0 19 rfl rfl)
theorem dX1_word_22 : decode cX1_word 22 = .ok (.getfield 176, 3) := dk_180 0 176 (dk_at dksX1_word_1 0 rfl rfl)
theorem dX1_word_25 : decode cX1_word 25 = .ok (.iload_n 1, 1) := dk_27 (dk_at dksX1_word_1 3 rfl rfl)
theorem dX1_word_26 : decode cX1_word 26 = .ok (.iaload, 1) := dk_46 (dk_at dksX1_word_1 4 rfl rfl)
theorem dX1_word_27 : decode cX1_word 27 = .ok (.ireturn, 1) := dk_172 (dk_at dksX1_word_1 5 rfl rfl)
abbrev cX1_data : ByteArray := prog_1_method_24_code
def yX1_data : MethodName := ⟨RX1, "data", "(I)I"⟩
def dkwX1_data_1 : List UInt8 := [180, 0, 179, 27, 46, 172]
abbrev dktX1_data_1 : List UInt8 := dkwX1_data_1 ++ []
def dkwX1_data_0 : List UInt8 := [27, 3, 16, 15, 184, 0, 77, 154, 0, 11, 187, 0, 173, 89, 183, 0, 175, 191, 42, 180, 0, 51]
abbrev dktX1_data_0 : List UInt8 := dkwX1_data_0 ++ dktX1_data_1
theorem dksX1_data_0 : cX1_data.data.toList.drop 0 = dktX1_data_0 := by decide +kernel
theorem dksX1_data_1 : cX1_data.data.toList.drop 22 = dktX1_data_1 := dk_seg dksX1_data_0 22 rfl rfl
theorem dX1_data_0 : decode cX1_data 0 = .ok (.iload_n 1, 1) := dk_27 (dk_at dksX1_data_0 0 rfl rfl)
theorem dX1_data_1 : decode cX1_data 1 = .ok (.iconst 0, 1) := dk_3 (dk_at dksX1_data_0 1 rfl rfl)
theorem dX1_data_2 : decode cX1_data 2 = .ok (.bipush 15, 2) := dk_16 15 (dk_at dksX1_data_0 2 rfl rfl)
theorem dX1_data_4 : decode cX1_data 4 = .ok (.invokestatic 77, 3) := dk_184 0 77 (dk_at dksX1_data_0 4 rfl rfl)
theorem dX1_data_7 : decode cX1_data 7 = .ok (.ifCond .ne 11, 3) := dk_154 0 11 (dk_at dksX1_data_0 7 rfl rfl)
theorem dX1_data_10 : decode cX1_data 10 = .ok (.new 173, 3) := dk_187 0 173 (dk_at dksX1_data_0 10 rfl rfl)
theorem dX1_data_13 : decode cX1_data 13 = .ok (.dup, 1) := dk_89 (dk_at dksX1_data_0 13 rfl rfl)
theorem dX1_data_14 : decode cX1_data 14 = .ok (.invokespecial 175, 3) := dk_183 0 175 (dk_at dksX1_data_0 14 rfl rfl)
theorem dX1_data_17 : decode cX1_data 17 = .ok (.athrow, 1) := dk_191 (dk_at dksX1_data_0 17 rfl rfl)
theorem dX1_data_18 : decode cX1_data 18 = .ok (.aload_n 0, 1) := dk_42 (dk_at dksX1_data_0 18 rfl rfl)
theorem dX1_data_19 : decode cX1_data 19 = .ok (.getfield 51, 3) := dk_180 0 51 (dk_at dksX1_data_0 19 rfl rfl)
theorem dX1_data_22 : decode cX1_data 22 = .ok (.getfield 179, 3) := dk_180 0 179 (dk_at dksX1_data_1 0 rfl rfl)
theorem dX1_data_25 : decode cX1_data 25 = .ok (.iload_n 1, 1) := dk_27 (dk_at dksX1_data_1 3 rfl rfl)
theorem dX1_data_26 : decode cX1_data 26 = .ok (.iaload, 1) := dk_46 (dk_at dksX1_data_1 4 rfl rfl)
theorem dX1_data_27 : decode cX1_data 27 = .ok (.ireturn, 1) := dk_172 (dk_at dksX1_data_1 5 rfl rfl)
abbrev cX1_out : ByteArray := prog_1_method_25_code
def yX1_out : MethodName := ⟨RX1, "out", "(I)I"⟩
def dkwX1_out_1 : List UInt8 := [89, 183, 0, 159, 191, 42, 180, 0, 51, 180, 0, 185, 27, 46, 172]
abbrev dktX1_out_1 : List UInt8 := dkwX1_out_1 ++ []
def dkwX1_out_0 : List UInt8 := [27, 155, 0, 20, 27, 16, 64, 162, 0, 14, 27, 42, 180, 0, 51, 180, 0, 182, 161, 0, 11, 187, 0, 157]
abbrev dktX1_out_0 : List UInt8 := dkwX1_out_0 ++ dktX1_out_1
theorem dksX1_out_0 : cX1_out.data.toList.drop 0 = dktX1_out_0 := by decide +kernel
theorem dksX1_out_1 : cX1_out.data.toList.drop 24 = dktX1_out_1 := dk_seg dksX1_out_0 24 rfl rfl
theorem dX1_out_0 : decode cX1_out 0 = .ok (.iload_n 1, 1) := dk_27 (dk_at dksX1_out_0 0 rfl rfl)
theorem dX1_out_1 : decode cX1_out 1 = .ok (.ifCond .lt 20, 3) := dk_155 0 20 (dk_at dksX1_out_0 1 rfl rfl)
theorem dX1_out_4 : decode cX1_out 4 = .ok (.iload_n 1, 1) := dk_27 (dk_at dksX1_out_0 4 rfl rfl)
theorem dX1_out_5 : decode cX1_out 5 = .ok (.bipush 64, 2) := dk_16 64 (dk_at dksX1_out_0 5 rfl rfl)
theorem dX1_out_7 : decode cX1_out 7 = .ok (.if_icmp .ge 14, 3) := dk_162 0 14 (dk_at dksX1_out_0 7 rfl rfl)
theorem dX1_out_10 : decode cX1_out 10 = .ok (.iload_n 1, 1) := dk_27 (dk_at dksX1_out_0 10 rfl rfl)
theorem dX1_out_11 : decode cX1_out 11 = .ok (.aload_n 0, 1) := dk_42 (dk_at dksX1_out_0 11 rfl rfl)
theorem dX1_out_12 : decode cX1_out 12 = .ok (.getfield 51, 3) := dk_180 0 51 (dk_at dksX1_out_0 12 rfl rfl)
theorem dX1_out_15 : decode cX1_out 15 = .ok (.getfield 182, 3) := dk_180 0 182 (dk_at dksX1_out_0 15 rfl rfl)
theorem dX1_out_18 : decode cX1_out 18 = .ok (.if_icmp .lt 11, 3) := dk_161 0 11 (dk_at dksX1_out_0 18 rfl rfl)
theorem dX1_out_21 : decode cX1_out 21 = .ok (.new 157, 3) := dk_187 0 157 (dk_at dksX1_out_0 21 rfl rfl)
theorem dX1_out_24 : decode cX1_out 24 = .ok (.dup, 1) := dk_89 (dk_at dksX1_out_1 0 rfl rfl)
theorem dX1_out_25 : decode cX1_out 25 = .ok (.invokespecial 159, 3) := dk_183 0 159 (dk_at dksX1_out_1 1 rfl rfl)
theorem dX1_out_28 : decode cX1_out 28 = .ok (.athrow, 1) := dk_191 (dk_at dksX1_out_1 4 rfl rfl)
theorem dX1_out_29 : decode cX1_out 29 = .ok (.aload_n 0, 1) := dk_42 (dk_at dksX1_out_1 5 rfl rfl)
theorem dX1_out_30 : decode cX1_out 30 = .ok (.getfield 51, 3) := dk_180 0 51 (dk_at dksX1_out_1 6 rfl rfl)
theorem dX1_out_33 : decode cX1_out 33 = .ok (.getfield 185, 3) := dk_180 0 185 (dk_at dksX1_out_1 9 rfl rfl)
theorem dX1_out_36 : decode cX1_out 36 = .ok (.iload_n 1, 1) := dk_27 (dk_at dksX1_out_1 12 rfl rfl)
theorem dX1_out_37 : decode cX1_out 37 = .ok (.iaload, 1) := dk_46 (dk_at dksX1_out_1 13 rfl rfl)
theorem dX1_out_38 : decode cX1_out 38 = .ok (.ireturn, 1) := dk_172 (dk_at dksX1_out_1 14 rfl rfl)
abbrev cX1_event : ByteArray := prog_1_method_30_code
def yX1_event : MethodName := ⟨RX1, "event", "(II)I"⟩
def dkwX1_event_4 : List UInt8 := [185, 1, 16, 1, 0, 172]
abbrev dktX1_event_4 : List UInt8 := dkwX1_event_4 ++ []
def dkwX1_event_3 : List UInt8 := [185, 1, 9, 1, 0, 167, 0, 23, 28, 5, 160, 0, 12, 45, 185, 1, 14, 1, 0, 167, 0, 9, 45]
abbrev dktX1_event_3 : List UInt8 := dkwX1_event_3 ++ dktX1_event_4
def dkwX1_event_2 : List UInt8 := [27, 100, 16, 24, 112, 50, 78, 28, 154, 0, 10, 45, 184, 1, 5, 167, 0, 37, 28, 4, 160, 0, 12, 45]
abbrev dktX1_event_2 : List UInt8 := dkwX1_event_2 ++ dktX1_event_3
def dkwX1_event_1 : List UInt8 := [187, 0, 157, 89, 183, 0, 159, 191, 42, 180, 0, 51, 180, 1, 1, 42, 180, 0, 51, 180, 0, 249, 4, 100]
abbrev dktX1_event_1 : List UInt8 := dkwX1_event_1 ++ dktX1_event_2
def dkwX1_event_0 : List UInt8 := [27, 155, 0, 22, 27, 42, 16, 16, 182, 0, 254, 162, 0, 12, 28, 3, 6, 184, 0, 77, 154, 0, 11]
abbrev dktX1_event_0 : List UInt8 := dkwX1_event_0 ++ dktX1_event_1
theorem dksX1_event_0 : cX1_event.data.toList.drop 0 = dktX1_event_0 := by decide +kernel
theorem dksX1_event_1 : cX1_event.data.toList.drop 23 = dktX1_event_1 := dk_seg dksX1_event_0 23 rfl rfl
theorem dksX1_event_2 : cX1_event.data.toList.drop 47 = dktX1_event_2 := dk_seg dksX1_event_1 24 rfl rfl
theorem dksX1_event_3 : cX1_event.data.toList.drop 71 = dktX1_event_3 := dk_seg dksX1_event_2 24 rfl rfl
theorem dksX1_event_4 : cX1_event.data.toList.drop 94 = dktX1_event_4 := dk_seg dksX1_event_3 23 rfl rfl
theorem dX1_event_0 : decode cX1_event 0 = .ok (.iload_n 1, 1) := dk_27 (dk_at dksX1_event_0 0 rfl rfl)
theorem dX1_event_1 : decode cX1_event 1 = .ok (.ifCond .lt 22, 3) := dk_155 0 22 (dk_at dksX1_event_0 1 rfl rfl)
theorem dX1_event_4 : decode cX1_event 4 = .ok (.iload_n 1, 1) := dk_27 (dk_at dksX1_event_0 4 rfl rfl)
theorem dX1_event_5 : decode cX1_event 5 = .ok (.aload_n 0, 1) := dk_42 (dk_at dksX1_event_0 5 rfl rfl)
theorem dX1_event_6 : decode cX1_event 6 = .ok (.bipush 16, 2) := dk_16 16 (dk_at dksX1_event_0 6 rfl rfl)
theorem dX1_event_8 : decode cX1_event 8 = .ok (.invokevirtual 254, 3) := dk_182 0 254 (dk_at dksX1_event_0 8 rfl rfl)
theorem dX1_event_11 : decode cX1_event 11 = .ok (.if_icmp .ge 12, 3) := dk_162 0 12 (dk_at dksX1_event_0 11 rfl rfl)
theorem dX1_event_14 : decode cX1_event 14 = .ok (.iload_n 2, 1) := dk_28 (dk_at dksX1_event_0 14 rfl rfl)
theorem dX1_event_15 : decode cX1_event 15 = .ok (.iconst 0, 1) := dk_3 (dk_at dksX1_event_0 15 rfl rfl)
theorem dX1_event_16 : decode cX1_event 16 = .ok (.iconst 3, 1) := dk_6 (dk_at dksX1_event_0 16 rfl rfl)
theorem dX1_event_17 : decode cX1_event 17 = .ok (.invokestatic 77, 3) := dk_184 0 77 (dk_at dksX1_event_0 17 rfl rfl)
theorem dX1_event_20 : decode cX1_event 20 = .ok (.ifCond .ne 11, 3) := dk_154 0 11 (dk_at dksX1_event_0 20 rfl rfl)
theorem dX1_event_23 : decode cX1_event 23 = .ok (.new 157, 3) := dk_187 0 157 (dk_at dksX1_event_1 0 rfl rfl)
theorem dX1_event_26 : decode cX1_event 26 = .ok (.dup, 1) := dk_89 (dk_at dksX1_event_1 3 rfl rfl)
theorem dX1_event_27 : decode cX1_event 27 = .ok (.invokespecial 159, 3) := dk_183 0 159 (dk_at dksX1_event_1 4 rfl rfl)
theorem dX1_event_30 : decode cX1_event 30 = .ok (.athrow, 1) := dk_191 (dk_at dksX1_event_1 7 rfl rfl)
theorem dX1_event_31 : decode cX1_event 31 = .ok (.aload_n 0, 1) := dk_42 (dk_at dksX1_event_1 8 rfl rfl)
theorem dX1_event_32 : decode cX1_event 32 = .ok (.getfield 51, 3) := dk_180 0 51 (dk_at dksX1_event_1 9 rfl rfl)
theorem dX1_event_35 : decode cX1_event 35 = .ok (.getfield 257, 3) := dk_180 1 1 (dk_at dksX1_event_1 12 rfl rfl)
theorem dX1_event_38 : decode cX1_event 38 = .ok (.aload_n 0, 1) := dk_42 (dk_at dksX1_event_1 15 rfl rfl)
theorem dX1_event_39 : decode cX1_event 39 = .ok (.getfield 51, 3) := dk_180 0 51 (dk_at dksX1_event_1 16 rfl rfl)
theorem dX1_event_42 : decode cX1_event 42 = .ok (.getfield 249, 3) := dk_180 0 249 (dk_at dksX1_event_1 19 rfl rfl)
theorem dX1_event_45 : decode cX1_event 45 = .ok (.iconst 1, 1) := dk_4 (dk_at dksX1_event_1 22 rfl rfl)
theorem dX1_event_46 : decode cX1_event 46 = .ok (.isub, 1) := dk_100 (dk_at dksX1_event_1 23 rfl rfl)
theorem dX1_event_47 : decode cX1_event 47 = .ok (.iload_n 1, 1) := dk_27 (dk_at dksX1_event_2 0 rfl rfl)
theorem dX1_event_48 : decode cX1_event 48 = .ok (.isub, 1) := dk_100 (dk_at dksX1_event_2 1 rfl rfl)
theorem dX1_event_49 : decode cX1_event 49 = .ok (.bipush 24, 2) := dk_16 24 (dk_at dksX1_event_2 2 rfl rfl)
theorem dX1_event_51 : decode cX1_event 51 = .ok (.irem, 1) := dk_112 (dk_at dksX1_event_2 4 rfl rfl)
theorem dX1_event_52 : decode cX1_event 52 = .ok (.aaload, 1) := dk_50 (dk_at dksX1_event_2 5 rfl rfl)
theorem dX1_event_53 : decode cX1_event 53 = .ok (.astore_n 3, 1) := dk_78 (dk_at dksX1_event_2 6 rfl rfl)
theorem dX1_event_54 : decode cX1_event 54 = .ok (.iload_n 2, 1) := dk_28 (dk_at dksX1_event_2 7 rfl rfl)
theorem dX1_event_55 : decode cX1_event 55 = .ok (.ifCond .ne 10, 3) := dk_154 0 10 (dk_at dksX1_event_2 8 rfl rfl)
theorem dX1_event_58 : decode cX1_event 58 = .ok (.aload_n 3, 1) := dk_45 (dk_at dksX1_event_2 11 rfl rfl)
theorem dX1_event_59 : decode cX1_event 59 = .ok (.invokestatic 261, 3) := dk_184 1 5 (dk_at dksX1_event_2 12 rfl rfl)
theorem dX1_event_62 : decode cX1_event 62 = .ok (.goto 37, 3) := dk_167 0 37 (dk_at dksX1_event_2 15 rfl rfl)
theorem dX1_event_65 : decode cX1_event 65 = .ok (.iload_n 2, 1) := dk_28 (dk_at dksX1_event_2 18 rfl rfl)
theorem dX1_event_66 : decode cX1_event 66 = .ok (.iconst 1, 1) := dk_4 (dk_at dksX1_event_2 19 rfl rfl)
theorem dX1_event_67 : decode cX1_event 67 = .ok (.if_icmp .ne 12, 3) := dk_160 0 12 (dk_at dksX1_event_2 20 rfl rfl)
theorem dX1_event_70 : decode cX1_event 70 = .ok (.aload_n 3, 1) := dk_45 (dk_at dksX1_event_2 23 rfl rfl)
theorem dX1_event_71 : decode cX1_event 71 = .ok (.invokeinterface 265 1, 5) := by decide +kernel
theorem dX1_event_76 : decode cX1_event 76 = .ok (.goto 23, 3) := dk_167 0 23 (dk_at dksX1_event_3 5 rfl rfl)
theorem dX1_event_79 : decode cX1_event 79 = .ok (.iload_n 2, 1) := dk_28 (dk_at dksX1_event_3 8 rfl rfl)
theorem dX1_event_80 : decode cX1_event 80 = .ok (.iconst 2, 1) := dk_5 (dk_at dksX1_event_3 9 rfl rfl)
theorem dX1_event_81 : decode cX1_event 81 = .ok (.if_icmp .ne 12, 3) := dk_160 0 12 (dk_at dksX1_event_3 10 rfl rfl)
theorem dX1_event_84 : decode cX1_event 84 = .ok (.aload_n 3, 1) := dk_45 (dk_at dksX1_event_3 13 rfl rfl)
theorem dX1_event_85 : decode cX1_event 85 = .ok (.invokeinterface 270 1, 5) := by decide +kernel
theorem dX1_event_90 : decode cX1_event 90 = .ok (.goto 9, 3) := dk_167 0 9 (dk_at dksX1_event_3 19 rfl rfl)
theorem dX1_event_93 : decode cX1_event 93 = .ok (.aload_n 3, 1) := dk_45 (dk_at dksX1_event_3 22 rfl rfl)
theorem dX1_event_94 : decode cX1_event 94 = .ok (.invokeinterface 272 1, 5) := by decide +kernel
theorem dX1_event_99 : decode cX1_event 99 = .ok (.ireturn, 1) := dk_172 (dk_at dksX1_event_4 5 rfl rfl)
abbrev cX1_kind : ByteArray := prog_1_method_4_code
def yX1_kind : MethodName := ⟨RX1, "kind", "(LRankEntry$Event;)I"⟩
def dkwX1_kind_2 : List UInt8 := [167, 0, 15, 42, 193, 0, 32, 153, 0, 7, 7, 167, 0, 4, 8, 172]
abbrev dktX1_kind_2 : List UInt8 := dkwX1_kind_2 ++ []
def dkwX1_kind_1 : List UInt8 := [167, 0, 37, 42, 193, 0, 28, 153, 0, 7, 5, 167, 0, 26, 42, 193, 0, 30, 153, 0, 7, 6]
abbrev dktX1_kind_1 : List UInt8 := dkwX1_kind_1 ++ dktX1_kind_2
def dkwX1_kind_0 : List UInt8 := [42, 193, 0, 22, 153, 0, 23, 42, 192, 0, 22, 76, 43, 182, 0, 24, 153, 0, 7, 4, 167, 0, 41, 3]
abbrev dktX1_kind_0 : List UInt8 := dkwX1_kind_0 ++ dktX1_kind_1
theorem dksX1_kind_0 : cX1_kind.data.toList.drop 0 = dktX1_kind_0 := by decide +kernel
theorem dksX1_kind_1 : cX1_kind.data.toList.drop 24 = dktX1_kind_1 := dk_seg dksX1_kind_0 24 rfl rfl
theorem dksX1_kind_2 : cX1_kind.data.toList.drop 46 = dktX1_kind_2 := dk_seg dksX1_kind_1 22 rfl rfl
theorem dX1_kind_0 : decode cX1_kind 0 = .ok (.aload_n 0, 1) := dk_42 (dk_at dksX1_kind_0 0 rfl rfl)
theorem dX1_kind_1 : decode cX1_kind 1 = .ok (.instanceof 22, 3) := dk_193 0 22 (dk_at dksX1_kind_0 1 rfl rfl)
theorem dX1_kind_4 : decode cX1_kind 4 = .ok (.ifCond .eq 23, 3) := dk_153 0 23 (dk_at dksX1_kind_0 4 rfl rfl)
theorem dX1_kind_7 : decode cX1_kind 7 = .ok (.aload_n 0, 1) := dk_42 (dk_at dksX1_kind_0 7 rfl rfl)
theorem dX1_kind_8 : decode cX1_kind 8 = .ok (.checkcast 22, 3) := dk_192 0 22 (dk_at dksX1_kind_0 8 rfl rfl)
theorem dX1_kind_11 : decode cX1_kind 11 = .ok (.astore_n 1, 1) := dk_76 (dk_at dksX1_kind_0 11 rfl rfl)
theorem dX1_kind_12 : decode cX1_kind 12 = .ok (.aload_n 1, 1) := dk_43 (dk_at dksX1_kind_0 12 rfl rfl)
theorem dX1_kind_13 : decode cX1_kind 13 = .ok (.invokevirtual 24, 3) := dk_182 0 24 (dk_at dksX1_kind_0 13 rfl rfl)
theorem dX1_kind_16 : decode cX1_kind 16 = .ok (.ifCond .eq 7, 3) := dk_153 0 7 (dk_at dksX1_kind_0 16 rfl rfl)
theorem dX1_kind_19 : decode cX1_kind 19 = .ok (.iconst 1, 1) := dk_4 (dk_at dksX1_kind_0 19 rfl rfl)
theorem dX1_kind_20 : decode cX1_kind 20 = .ok (.goto 41, 3) := dk_167 0 41 (dk_at dksX1_kind_0 20 rfl rfl)
theorem dX1_kind_23 : decode cX1_kind 23 = .ok (.iconst 0, 1) := dk_3 (dk_at dksX1_kind_0 23 rfl rfl)
theorem dX1_kind_24 : decode cX1_kind 24 = .ok (.goto 37, 3) := dk_167 0 37 (dk_at dksX1_kind_1 0 rfl rfl)
theorem dX1_kind_27 : decode cX1_kind 27 = .ok (.aload_n 0, 1) := dk_42 (dk_at dksX1_kind_1 3 rfl rfl)
theorem dX1_kind_28 : decode cX1_kind 28 = .ok (.instanceof 28, 3) := dk_193 0 28 (dk_at dksX1_kind_1 4 rfl rfl)
theorem dX1_kind_31 : decode cX1_kind 31 = .ok (.ifCond .eq 7, 3) := dk_153 0 7 (dk_at dksX1_kind_1 7 rfl rfl)
theorem dX1_kind_34 : decode cX1_kind 34 = .ok (.iconst 2, 1) := dk_5 (dk_at dksX1_kind_1 10 rfl rfl)
theorem dX1_kind_35 : decode cX1_kind 35 = .ok (.goto 26, 3) := dk_167 0 26 (dk_at dksX1_kind_1 11 rfl rfl)
theorem dX1_kind_38 : decode cX1_kind 38 = .ok (.aload_n 0, 1) := dk_42 (dk_at dksX1_kind_1 14 rfl rfl)
theorem dX1_kind_39 : decode cX1_kind 39 = .ok (.instanceof 30, 3) := dk_193 0 30 (dk_at dksX1_kind_1 15 rfl rfl)
theorem dX1_kind_42 : decode cX1_kind 42 = .ok (.ifCond .eq 7, 3) := dk_153 0 7 (dk_at dksX1_kind_1 18 rfl rfl)
theorem dX1_kind_45 : decode cX1_kind 45 = .ok (.iconst 3, 1) := dk_6 (dk_at dksX1_kind_1 21 rfl rfl)
theorem dX1_kind_46 : decode cX1_kind 46 = .ok (.goto 15, 3) := dk_167 0 15 (dk_at dksX1_kind_2 0 rfl rfl)
theorem dX1_kind_49 : decode cX1_kind 49 = .ok (.aload_n 0, 1) := dk_42 (dk_at dksX1_kind_2 3 rfl rfl)
theorem dX1_kind_50 : decode cX1_kind 50 = .ok (.instanceof 32, 3) := dk_193 0 32 (dk_at dksX1_kind_2 4 rfl rfl)
theorem dX1_kind_53 : decode cX1_kind 53 = .ok (.ifCond .eq 7, 3) := dk_153 0 7 (dk_at dksX1_kind_2 7 rfl rfl)
theorem dX1_kind_56 : decode cX1_kind 56 = .ok (.iconst 4, 1) := dk_7 (dk_at dksX1_kind_2 10 rfl rfl)
theorem dX1_kind_57 : decode cX1_kind 57 = .ok (.goto 4, 3) := dk_167 0 4 (dk_at dksX1_kind_2 11 rfl rfl)
theorem dX1_kind_60 : decode cX1_kind 60 = .ok (.iconst 5, 1) := dk_8 (dk_at dksX1_kind_2 14 rfl rfl)
theorem dX1_kind_61 : decode cX1_kind 61 = .ok (.ireturn, 1) := dk_172 (dk_at dksX1_kind_2 15 rfl rfl)
theorem q59 : (Jvm.Cond.initialized "RankEntry") ∈ lw_all := lw_g (lw_at lw_m1 1 rfl) rfl
theorem q92 : (Jvm.Cond.instantiable "RankEntry" (4 : Nat)) ∈ lw_all := lw_g (lw_at lw_m1 34 rfl) rfl
theorem q94 : (Jvm.Cond.instanceMethod ({ cls := "RankEntry", name := "<init>", desc := "()V" } : Jvm.MethodName)) ∈ lw_all := lw_g (lw_at lw_m1 36 rfl) rfl
theorem q95 : (Jvm.Cond.code ({ cls := "RankEntry", name := "<init>", desc := "()V" } : Jvm.MethodName) prog_1_method_5_code (1 : Nat) (Option.none : Option Jvm.ClassFile.FieldType)) ∈ lw_all := lw_g (lw_at lw_m1 37 rfl) rfl
theorem q96 : (Jvm.Cond.methodLink "RankEntry" (34 : Nat) ({ cls := "java/lang/Object", name := "<init>", desc := "()V" } : Jvm.MethodName)) ∈ lw_all := lw_g (lw_at lw_m1 38 rfl) rfl
theorem q99 : (Jvm.Cond.classLink "RankEntry" (39 : Nat) "RankEntry$Code") ∈ lw_all := lw_g (lw_at lw_m1 41 rfl) rfl
theorem q101 : (Jvm.Cond.methodLinkNest "RankEntry" (41 : Nat) ({ cls := "RankEntry$Code", name := "<init>", desc := "()V" } : Jvm.MethodName) "RankEntry") ∈ lw_tbl := lw_at lw_m1 43 rfl
theorem q119 : (Jvm.Cond.fieldLinkNest "RankEntry" (81 : Nat) "RankEntry$Code" "bytes" "[B" "RankEntry") ∈ lw_tbl := lw_at lw_m1 61 rfl
theorem q127 : (Jvm.Cond.classLink "RankEntry" (46 : Nat) "RankEntry$Core") ∈ lw_all := lw_g (lw_at lw_m1 69 rfl) rfl
theorem q129 : (Jvm.Cond.methodLink "RankEntry" (48 : Nat) ({ cls := "RankEntry$Core", name := "<init>", desc := "(LRankEntry$Code;)V" } : Jvm.MethodName)) ∈ lw_all := lw_g (lw_at lw_m1 71 rfl) rfl
theorem q656 : (Jvm.Cond.static ({ cls := "RankEntry", name := "within", desc := "(III)Z" } : Jvm.MethodName)) ∈ lw_all := lw_g (lw_at lw_m3 118 rfl) rfl
theorem q657 : (Jvm.Cond.code ({ cls := "RankEntry", name := "within", desc := "(III)Z" } : Jvm.MethodName) prog_1_method_1_code (3 : Nat) (Option.some Jvm.ClassFile.FieldType.boolean)) ∈ lw_all := lw_g (lw_at lw_m3 119 rfl) rfl
theorem q704 : (Jvm.Cond.static ({ cls := "RankEntry", name := "by", desc := "(I)LRankEntry$Ahead;" } : Jvm.MethodName)) ∈ lw_all := lw_g (lw_at lw_m3 166 rfl) rfl
theorem q705 : (Jvm.Cond.code ({ cls := "RankEntry", name := "by", desc := "(I)LRankEntry$Ahead;" } : Jvm.MethodName) prog_1_method_2_code (1 : Nat) (Option.some (Jvm.ClassFile.FieldType.object "RankEntry$Ahead"))) ∈ lw_all := lw_g (lw_at lw_m3 167 rfl) rfl
theorem q706 : (Jvm.Cond.static ({ cls := "RankEntry", name := "lambda$by$0", desc := "(ILRankEntry$Source;LRankEntry$Source;)Z" } : Jvm.MethodName)) ∈ lw_all := lw_g (lw_at lw_m3 168 rfl) rfl
theorem q707 : (Jvm.Cond.code ({ cls := "RankEntry", name := "lambda$by$0", desc := "(ILRankEntry$Source;LRankEntry$Source;)Z" } : Jvm.MethodName) prog_1_method_43_code (5 : Nat) (Option.some Jvm.ClassFile.FieldType.boolean)) ∈ lw_all := lw_g (lw_at lw_m3 169 rfl) rfl
theorem q708 : (Jvm.Cond.methodLink "RankEntry" (201 : Nat) ({ cls := "RankEntry$Source", name := "group", desc := "(I)I" } : Jvm.MethodName)) ∈ lw_all := lw_g (lw_at lw_m3 170 rfl) rfl
theorem q709 : (Jvm.Cond.methodLink "RankEntry" (204 : Nat) ({ cls := "RankEntry$Source", name := "sub", desc := "(I)I" } : Jvm.MethodName)) ∈ lw_all := lw_g (lw_at lw_m3 171 rfl) rfl
theorem q721 : (Jvm.Cond.static ({ cls := "RankEntry", name := "made", desc := "(I)LRankEntry$Source;" } : Jvm.MethodName)) ∈ lw_all := lw_g (lw_at lw_m3 183 rfl) rfl
theorem q722 : (Jvm.Cond.code ({ cls := "RankEntry", name := "made", desc := "(I)LRankEntry$Source;" } : Jvm.MethodName) prog_1_method_3_code (1 : Nat) (Option.some (Jvm.ClassFile.FieldType.object "RankEntry$Source"))) ∈ lw_all := lw_g (lw_at lw_m3 184 rfl) rfl
theorem q723 : (Jvm.Cond.classLink "RankEntry" (7 : Nat) "RankEntry$Line") ∈ lw_all := lw_g (lw_at lw_m3 185 rfl) rfl
theorem q725 : (Jvm.Cond.methodLink "RankEntry" (9 : Nat) ({ cls := "RankEntry$Line", name := "<init>", desc := "(I)V" } : Jvm.MethodName)) ∈ lw_all := lw_g (lw_at lw_m3 187 rfl) rfl
theorem q734 : (Jvm.Cond.fieldLink "RankEntry" (318 : Nat) "RankEntry$Source" "number" "I") ∈ lw_all := lw_g (lw_at lw_m3 196 rfl) rfl
theorem q737 : (Jvm.Cond.fieldLink "RankEntry" (99 : Nat) "RankEntry$Source" "rank" "I") ∈ lw_all := lw_g (lw_at lw_m3 199 rfl) rfl
theorem q739 : (Jvm.Cond.fieldLink "RankEntry" (105 : Nat) "RankEntry$Source" "vector" "I") ∈ lw_all := lw_g (lw_at lw_m3 201 rfl) rfl
theorem q744 : (Jvm.Cond.fieldLink "RankEntry" (102 : Nat) "RankEntry$Source" "enabled" "Z") ∈ lw_all := lw_g (lw_at lw_m3 206 rfl) rfl
theorem q748 : (Jvm.Cond.fieldLink "RankEntry" (192 : Nat) "RankEntry$Source" "pending" "Z") ∈ lw_all := lw_g (lw_at lw_m3 210 rfl) rfl
theorem q751 : (Jvm.Cond.fieldLink "RankEntry" (93 : Nat) "RankEntry$Source" "active" "Z") ∈ lw_all := lw_g (lw_at lw_m3 213 rfl) rfl
theorem q758 : (Jvm.Cond.fieldLink "RankEntry" (275 : Nat) "RankEntry$Source" "waited" "I") ∈ lw_all := lw_g (lw_at lw_m3 220 rfl) rfl
theorem q777 : (Jvm.Cond.classLink "RankEntry" (13 : Nat) "RankEntry$Level") ∈ lw_all := lw_g (lw_at lw_m3 239 rfl) rfl
theorem q779 : (Jvm.Cond.methodLink "RankEntry" (15 : Nat) ({ cls := "RankEntry$Level", name := "<init>", desc := "(I)V" } : Jvm.MethodName)) ∈ lw_all := lw_g (lw_at lw_m4 1 rfl) rfl
theorem q795 : (Jvm.Cond.classLink "RankEntry" (16 : Nat) "RankEntry$Inner") ∈ lw_all := lw_g (lw_at lw_m4 17 rfl) rfl
theorem q797 : (Jvm.Cond.methodLink "RankEntry" (18 : Nat) ({ cls := "RankEntry$Inner", name := "<init>", desc := "(I)V" } : Jvm.MethodName)) ∈ lw_all := lw_g (lw_at lw_m4 19 rfl) rfl
theorem q811 : (Jvm.Cond.classLink "RankEntry" (19 : Nat) "RankEntry$Hard") ∈ lw_all := lw_g (lw_at lw_m4 33 rfl) rfl
theorem q813 : (Jvm.Cond.methodLink "RankEntry" (21 : Nat) ({ cls := "RankEntry$Hard", name := "<init>", desc := "(I)V" } : Jvm.MethodName)) ∈ lw_all := lw_g (lw_at lw_m4 35 rfl) rfl
theorem q834 : (Jvm.Cond.fieldLinkNest "RankEntry" (160 : Nat) "RankEntry$Core" "\x72" "[I" "RankEntry") ∈ lw_tbl := lw_at lw_m4 56 rfl
theorem q839 : (Jvm.Cond.fieldLinkNest "RankEntry" (163 : Nat) "RankEntry$Core" "f" "[F" "RankEntry") ∈ lw_tbl := lw_at lw_m4 61 rfl
theorem q843 : (Jvm.Cond.fieldLinkNest "RankEntry" (179 : Nat) "RankEntry$Core" "data" "[I" "RankEntry") ∈ lw_tbl := lw_at lw_m4 65 rfl
theorem q847 : (Jvm.Cond.fieldLinkNest "RankEntry" (176 : Nat) "RankEntry$Core" "stack" "[I" "RankEntry") ∈ lw_tbl := lw_at lw_m4 69 rfl
theorem q851 : (Jvm.Cond.fieldLinkNest "RankEntry" (89 : Nat) "RankEntry$Core" "all" "[LRankEntry$Source;" "RankEntry") ∈ lw_tbl := lw_at lw_m4 73 rfl
theorem q853 : (Jvm.Cond.fieldLinkNest "RankEntry" (207 : Nat) "RankEntry$Core" "nest" "[I" "RankEntry") ∈ lw_tbl := lw_at lw_m4 75 rfl
theorem q855 : (Jvm.Cond.fieldLinkNest "RankEntry" (131 : Nat) "RankEntry$Core" "due" "[I" "RankEntry") ∈ lw_tbl := lw_at lw_m4 77 rfl
theorem q857 : (Jvm.Cond.fieldLinkNest "RankEntry" (138 : Nat) "RankEntry$Core" "dueOf" "[I" "RankEntry") ∈ lw_tbl := lw_at lw_m4 79 rfl
theorem q859 : (Jvm.Cond.fieldLinkNest "RankEntry" (251 : Nat) "RankEntry$Core" "counts" "[I" "RankEntry") ∈ lw_tbl := lw_at lw_m4 81 rfl
theorem q861 : (Jvm.Cond.fieldLinkNest "RankEntry" (185 : Nat) "RankEntry$Core" "out" "[I" "RankEntry") ∈ lw_tbl := lw_at lw_m4 83 rfl
theorem q863 : (Jvm.Cond.fieldLinkNest "RankEntry" (257 : Nat) "RankEntry$Core" "events" "[LRankEntry$Event;" "RankEntry") ∈ lw_tbl := lw_at lw_m4 85 rfl
theorem q878 : (Jvm.Cond.fieldLinkNest "RankEntry" (278 : Nat) "RankEntry$Core" "ahead" "LRankEntry$Ahead;" "RankEntry") ∈ lw_tbl := lw_at lw_m4 100 rfl
theorem q882 : (Jvm.Cond.fieldLinkNest "RankEntry" (225 : Nat) "RankEntry$Core" "z" "I" "RankEntry") ∈ lw_tbl := lw_at lw_m4 104 rfl
theorem q885 : (Jvm.Cond.fieldLinkNest "RankEntry" (228 : Nat) "RankEntry$Core" "n" "I" "RankEntry") ∈ lw_tbl := lw_at lw_m4 107 rfl
theorem q890 : (Jvm.Cond.fieldLinkNest "RankEntry" (219 : Nat) "RankEntry$Core" "pc" "I" "RankEntry") ∈ lw_tbl := lw_at lw_m4 112 rfl
theorem q894 : (Jvm.Cond.fieldLinkNest "RankEntry" (222 : Nat) "RankEntry$Core" "sp" "I" "RankEntry") ∈ lw_tbl := lw_at lw_m4 116 rfl
theorem q896 : (Jvm.Cond.fieldLinkNest "RankEntry" (108 : Nat) "RankEntry$Core" "deep" "I" "RankEntry") ∈ lw_tbl := lw_at lw_m4 118 rfl
theorem q898 : (Jvm.Cond.fieldLinkNest "RankEntry" (198 : Nat) "RankEntry$Core" "split" "I" "RankEntry") ∈ lw_tbl := lw_at lw_m4 120 rfl
theorem q901 : (Jvm.Cond.fieldLinkNest "RankEntry" (234 : Nat) "RankEntry$Core" "base" "I" "RankEntry") ∈ lw_tbl := lw_at lw_m4 123 rfl
theorem q904 : (Jvm.Cond.fieldLinkNest "RankEntry" (231 : Nat) "RankEntry$Core" "shut" "I" "RankEntry") ∈ lw_tbl := lw_at lw_m4 126 rfl
theorem q906 : (Jvm.Cond.fieldLinkNest "RankEntry" (135 : Nat) "RankEntry$Core" "clock" "I" "RankEntry") ∈ lw_tbl := lw_at lw_m4 128 rfl
theorem q908 : (Jvm.Cond.fieldLinkNest "RankEntry" (125 : Nat) "RankEntry$Core" "period" "I" "RankEntry") ∈ lw_tbl := lw_at lw_m4 130 rfl
theorem q910 : (Jvm.Cond.fieldLinkNest "RankEntry" (65 : Nat) "RankEntry$Core" "timer" "I" "RankEntry") ∈ lw_tbl := lw_at lw_m4 132 rfl
theorem q912 : (Jvm.Cond.fieldLinkNest "RankEntry" (128 : Nat) "RankEntry$Core" "dues" "I" "RankEntry") ∈ lw_tbl := lw_at lw_m4 134 rfl
theorem q914 : (Jvm.Cond.fieldLinkNest "RankEntry" (141 : Nat) "RankEntry$Core" "doing" "I" "RankEntry") ∈ lw_tbl := lw_at lw_m4 136 rfl
theorem q916 : (Jvm.Cond.fieldLinkNest "RankEntry" (210 : Nat) "RankEntry$Core" "steps" "I" "RankEntry") ∈ lw_tbl := lw_at lw_m4 138 rfl
theorem q918 : (Jvm.Cond.fieldLinkNest "RankEntry" (213 : Nat) "RankEntry$Core" "stall" "I" "RankEntry") ∈ lw_tbl := lw_at lw_m4 140 rfl
theorem q921 : (Jvm.Cond.fieldLinkNest "RankEntry" (216 : Nat) "RankEntry$Core" "asleep" "Z" "RankEntry") ∈ lw_tbl := lw_at lw_m4 143 rfl
theorem q923 : (Jvm.Cond.fieldLinkNest "RankEntry" (237 : Nat) "RankEntry$Core" "floats" "I" "RankEntry") ∈ lw_tbl := lw_at lw_m4 145 rfl
theorem q925 : (Jvm.Cond.fieldLinkNest "RankEntry" (240 : Nat) "RankEntry$Core" "lazy" "I" "RankEntry") ∈ lw_tbl := lw_at lw_m4 147 rfl
theorem q930 : (Jvm.Cond.fieldLinkNest "RankEntry" (182 : Nat) "RankEntry$Core" "outs" "I" "RankEntry") ∈ lw_tbl := lw_at lw_m4 152 rfl
theorem q932 : (Jvm.Cond.fieldLinkNest "RankEntry" (249 : Nat) "RankEntry$Core" "told" "I" "RankEntry") ∈ lw_tbl := lw_at lw_m4 154 rfl
theorem q934 : (Jvm.Cond.fieldLinkNest "RankEntry" (147 : Nat) "RankEntry$Core" "now" "I" "RankEntry") ∈ lw_tbl := lw_at lw_m4 156 rfl
theorem q936 : (Jvm.Cond.fieldLinkNest "RankEntry" (294 : Nat) "RankEntry$Core" "begun" "I" "RankEntry") ∈ lw_tbl := lw_at lw_m4 158 rfl
theorem q938 : (Jvm.Cond.fieldLinkNest "RankEntry" (297 : Nat) "RankEntry$Core" "order" "[I" "RankEntry") ∈ lw_tbl := lw_at lw_m4 160 rfl
theorem q1050 : (Jvm.Cond.classLink "RankEntry" (58 : Nat) "RankEntry$Ways") ∈ lw_all := lw_g (lw_at lw_m5 32 rfl) rfl
theorem q1052 : (Jvm.Cond.methodLink "RankEntry" (60 : Nat) ({ cls := "RankEntry$Ways", name := "<init>", desc := "(LRankEntry$Code;)V" } : Jvm.MethodName)) ∈ lw_all := lw_g (lw_at lw_m5 34 rfl) rfl
theorem q1058 : (Jvm.Cond.fieldLinkNest "RankEntry" (310 : Nat) "RankEntry$Ways" "costs" "[I" "RankEntry") ∈ lw_tbl := lw_at lw_m5 40 rfl
theorem q1060 : (Jvm.Cond.fieldLinkNest "RankEntry" (313 : Nat) "RankEntry$Ways" "pushes" "[I" "RankEntry") ∈ lw_tbl := lw_at lw_m5 42 rfl
theorem q1077 : (Jvm.Cond.fieldLink "RankEntry" (42 : Nat) "RankEntry" "code" "LRankEntry$Code;") ∈ lw_all := lw_g (lw_at lw_m5 59 rfl) rfl
theorem q1078 : (Jvm.Cond.fieldLink "RankEntry" (51 : Nat) "RankEntry" "core" "LRankEntry$Core;") ∈ lw_all := lw_g (lw_at lw_m5 60 rfl) rfl
theorem q1079 : (Jvm.Cond.fieldLink "RankEntry" (55 : Nat) "RankEntry" "spare" "LRankEntry$Core;") ∈ lw_all := lw_g (lw_at lw_m5 61 rfl) rfl
theorem q1080 : (Jvm.Cond.fieldLink "RankEntry" (61 : Nat) "RankEntry" "ways" "LRankEntry$Ways;") ∈ lw_all := lw_g (lw_at lw_m5 62 rfl) rfl
theorem q1081 : (Jvm.Cond.laysFinal "RankEntry" "RankEntry" "code" "LRankEntry$Code;") ∈ lw_all := lw_g (lw_at lw_m5 63 rfl) rfl
theorem q1082 : (Jvm.Cond.soleField "RankEntry" "code") ∈ lw_all := lw_g (lw_at lw_m5 64 rfl) rfl
theorem q1083 : (Jvm.Cond.laysFinal "RankEntry" "RankEntry" "core" "LRankEntry$Core;") ∈ lw_all := lw_g (lw_at lw_m5 65 rfl) rfl
theorem q1084 : (Jvm.Cond.soleField "RankEntry" "core") ∈ lw_all := lw_g (lw_at lw_m5 66 rfl) rfl
theorem q1085 : (Jvm.Cond.laysFinal "RankEntry" "RankEntry" "spare" "LRankEntry$Core;") ∈ lw_all := lw_g (lw_at lw_m5 67 rfl) rfl
theorem q1086 : (Jvm.Cond.soleField "RankEntry" "spare") ∈ lw_all := lw_g (lw_at lw_m5 68 rfl) rfl
theorem q1087 : (Jvm.Cond.laysFinal "RankEntry" "RankEntry" "ways" "LRankEntry$Ways;") ∈ lw_all := lw_g (lw_at lw_m5 69 rfl) rfl
theorem q1088 : (Jvm.Cond.soleField "RankEntry" "ways") ∈ lw_all := lw_g (lw_at lw_m5 70 rfl) rfl
theorem q1089 : (Jvm.Cond.superclass "RankEntry" "java/lang/Object") ∈ lw_all := lw_g (lw_at lw_m5 71 rfl) rfl
theorem q1091 : (Jvm.Cond.instanceMethod ({ cls := "RankEntry", name := "load", desc := "(IJ)Z" } : Jvm.MethodName)) ∈ lw_all := lw_g (lw_at lw_m5 73 rfl) rfl
theorem q1092 : (Jvm.Cond.selects "RankEntry" ({ cls := "RankEntry", name := "load", desc := "(IJ)Z" } : Jvm.MethodName) ({ cls := "RankEntry", name := "load", desc := "(IJ)Z" } : Jvm.MethodName)) ∈ lw_all := lw_g (lw_at lw_m5 74 rfl) rfl
theorem q1093 : (Jvm.Cond.code ({ cls := "RankEntry", name := "load", desc := "(IJ)Z" } : Jvm.MethodName) prog_1_method_7_code (5 : Nat) (Option.some Jvm.ClassFile.FieldType.boolean)) ∈ lw_all := lw_g (lw_at lw_m5 75 rfl) rfl
theorem q1094 : (Jvm.Cond.methodLink "RankEntry" (77 : Nat) ({ cls := "RankEntry", name := "within", desc := "(III)Z" } : Jvm.MethodName)) ∈ lw_all := lw_g (lw_at lw_m5 76 rfl) rfl
theorem q1096 : (Jvm.Cond.instanceMethod ({ cls := "RankEntry", name := "code", desc := "(I)I" } : Jvm.MethodName)) ∈ lw_all := lw_g (lw_at lw_m5 78 rfl) rfl
theorem q1097 : (Jvm.Cond.selects "RankEntry" ({ cls := "RankEntry", name := "code", desc := "(I)I" } : Jvm.MethodName) ({ cls := "RankEntry", name := "code", desc := "(I)I" } : Jvm.MethodName)) ∈ lw_all := lw_g (lw_at lw_m5 79 rfl) rfl
theorem q1098 : (Jvm.Cond.code ({ cls := "RankEntry", name := "code", desc := "(I)I" } : Jvm.MethodName) prog_1_method_8_code (2 : Nat) (Option.some Jvm.ClassFile.FieldType.int)) ∈ lw_all := lw_g (lw_at lw_m5 80 rfl) rfl
theorem q1099 : (Jvm.Cond.methodLink "RankEntry" (85 : Nat) ({ cls := "RankEntry$Code", name := "at", desc := "(I)I" } : Jvm.MethodName)) ∈ lw_all := lw_g (lw_at lw_m5 81 rfl) rfl
theorem q1101 : (Jvm.Cond.instanceMethod ({ cls := "RankEntry", name := "rank", desc := "(II)Z" } : Jvm.MethodName)) ∈ lw_all := lw_g (lw_at lw_m5 83 rfl) rfl
theorem q1102 : (Jvm.Cond.selects "RankEntry" ({ cls := "RankEntry", name := "rank", desc := "(II)Z" } : Jvm.MethodName) ({ cls := "RankEntry", name := "rank", desc := "(II)Z" } : Jvm.MethodName)) ∈ lw_all := lw_g (lw_at lw_m5 84 rfl) rfl
theorem q1103 : (Jvm.Cond.code ({ cls := "RankEntry", name := "rank", desc := "(II)Z" } : Jvm.MethodName) prog_1_method_9_code (3 : Nat) (Option.some Jvm.ClassFile.FieldType.boolean)) ∈ lw_all := lw_g (lw_at lw_m5 85 rfl) rfl
theorem q1105 : (Jvm.Cond.instanceMethod ({ cls := "RankEntry", name := "enable", desc := "(IZ)Z" } : Jvm.MethodName)) ∈ lw_all := lw_g (lw_at lw_m5 87 rfl) rfl
theorem q1106 : (Jvm.Cond.selects "RankEntry" ({ cls := "RankEntry", name := "enable", desc := "(IZ)Z" } : Jvm.MethodName) ({ cls := "RankEntry", name := "enable", desc := "(IZ)Z" } : Jvm.MethodName)) ∈ lw_all := lw_g (lw_at lw_m5 88 rfl) rfl
theorem q1107 : (Jvm.Cond.code ({ cls := "RankEntry", name := "enable", desc := "(IZ)Z" } : Jvm.MethodName) prog_1_method_10_code (3 : Nat) (Option.some Jvm.ClassFile.FieldType.boolean)) ∈ lw_all := lw_g (lw_at lw_m5 89 rfl) rfl
theorem q1109 : (Jvm.Cond.instanceMethod ({ cls := "RankEntry", name := "vector", desc := "(II)Z" } : Jvm.MethodName)) ∈ lw_all := lw_g (lw_at lw_m5 91 rfl) rfl
theorem q1110 : (Jvm.Cond.selects "RankEntry" ({ cls := "RankEntry", name := "vector", desc := "(II)Z" } : Jvm.MethodName) ({ cls := "RankEntry", name := "vector", desc := "(II)Z" } : Jvm.MethodName)) ∈ lw_all := lw_g (lw_at lw_m5 92 rfl) rfl
theorem q1111 : (Jvm.Cond.code ({ cls := "RankEntry", name := "vector", desc := "(II)Z" } : Jvm.MethodName) prog_1_method_11_code (3 : Nat) (Option.some Jvm.ClassFile.FieldType.boolean)) ∈ lw_all := lw_g (lw_at lw_m5 93 rfl) rfl
theorem q1113 : (Jvm.Cond.instanceMethod ({ cls := "RankEntry", name := "split", desc := "(I)Z" } : Jvm.MethodName)) ∈ lw_all := lw_g (lw_at lw_m5 95 rfl) rfl
theorem q1114 : (Jvm.Cond.selects "RankEntry" ({ cls := "RankEntry", name := "split", desc := "(I)Z" } : Jvm.MethodName) ({ cls := "RankEntry", name := "split", desc := "(I)Z" } : Jvm.MethodName)) ∈ lw_all := lw_g (lw_at lw_m5 96 rfl) rfl
theorem q1115 : (Jvm.Cond.code ({ cls := "RankEntry", name := "split", desc := "(I)Z" } : Jvm.MethodName) prog_1_method_12_code (2 : Nat) (Option.some Jvm.ClassFile.FieldType.boolean)) ∈ lw_all := lw_g (lw_at lw_m5 97 rfl) rfl
theorem q1116 : (Jvm.Cond.methodLink "RankEntry" (111 : Nat) ({ cls := "RankEntry$Core", name := "splits", desc := "(I)V" } : Jvm.MethodName)) ∈ lw_all := lw_g (lw_at lw_m5 98 rfl) rfl
theorem q1121 : (Jvm.Cond.instanceMethod ({ cls := "RankEntry", name := "hold", desc := "(IZ)Z" } : Jvm.MethodName)) ∈ lw_all := lw_g (lw_at lw_m5 103 rfl) rfl
theorem q1122 : (Jvm.Cond.selects "RankEntry" ({ cls := "RankEntry", name := "hold", desc := "(IZ)Z" } : Jvm.MethodName) ({ cls := "RankEntry", name := "hold", desc := "(IZ)Z" } : Jvm.MethodName)) ∈ lw_all := lw_g (lw_at lw_m5 104 rfl) rfl
theorem q1123 : (Jvm.Cond.code ({ cls := "RankEntry", name := "hold", desc := "(IZ)Z" } : Jvm.MethodName) prog_1_method_13_code (5 : Nat) (Option.some Jvm.ClassFile.FieldType.boolean)) ∈ lw_all := lw_g (lw_at lw_m5 105 rfl) rfl
theorem q1124 : (Jvm.Cond.methodLink "RankEntry" (114 : Nat) ({ cls := "RankEntry$Level", name := "holds", desc := "(Z)Z" } : Jvm.MethodName)) ∈ lw_all := lw_g (lw_at lw_m5 106 rfl) rfl
theorem q1128 : (Jvm.Cond.methodLink "RankEntry" (118 : Nat) ({ cls := "RankEntry$Core", name := "becomes", desc := "(I)Z" } : Jvm.MethodName)) ∈ lw_all := lw_g (lw_at lw_m5 110 rfl) rfl
theorem q1130 : (Jvm.Cond.instanceMethod ({ cls := "RankEntry", name := "pend", desc := "(I)Z" } : Jvm.MethodName)) ∈ lw_all := lw_g (lw_at lw_m5 112 rfl) rfl
theorem q1131 : (Jvm.Cond.selects "RankEntry" ({ cls := "RankEntry", name := "pend", desc := "(I)Z" } : Jvm.MethodName) ({ cls := "RankEntry", name := "pend", desc := "(I)Z" } : Jvm.MethodName)) ∈ lw_all := lw_g (lw_at lw_m5 113 rfl) rfl
theorem q1132 : (Jvm.Cond.code ({ cls := "RankEntry", name := "pend", desc := "(I)Z" } : Jvm.MethodName) prog_1_method_14_code (2 : Nat) (Option.some Jvm.ClassFile.FieldType.boolean)) ∈ lw_all := lw_g (lw_at lw_m5 114 rfl) rfl
theorem q1134 : (Jvm.Cond.instanceMethod ({ cls := "RankEntry", name := "clear", desc := "(I)Z" } : Jvm.MethodName)) ∈ lw_all := lw_g (lw_at lw_m5 116 rfl) rfl
theorem q1135 : (Jvm.Cond.selects "RankEntry" ({ cls := "RankEntry", name := "clear", desc := "(I)Z" } : Jvm.MethodName) ({ cls := "RankEntry", name := "clear", desc := "(I)Z" } : Jvm.MethodName)) ∈ lw_all := lw_g (lw_at lw_m5 117 rfl) rfl
theorem q1136 : (Jvm.Cond.code ({ cls := "RankEntry", name := "clear", desc := "(I)Z" } : Jvm.MethodName) prog_1_method_15_code (2 : Nat) (Option.some Jvm.ClassFile.FieldType.boolean)) ∈ lw_all := lw_g (lw_at lw_m5 118 rfl) rfl
theorem q1137 : (Jvm.Cond.methodLink "RankEntry" (122 : Nat) ({ cls := "RankEntry$Source", name := "drops", desc := "()Z" } : Jvm.MethodName)) ∈ lw_all := lw_g (lw_at lw_m5 119 rfl) rfl
theorem q1139 : (Jvm.Cond.instanceMethod ({ cls := "RankEntry", name := "timer", desc := "(I)Z" } : Jvm.MethodName)) ∈ lw_all := lw_g (lw_at lw_m5 121 rfl) rfl
theorem q1140 : (Jvm.Cond.selects "RankEntry" ({ cls := "RankEntry", name := "timer", desc := "(I)Z" } : Jvm.MethodName) ({ cls := "RankEntry", name := "timer", desc := "(I)Z" } : Jvm.MethodName)) ∈ lw_all := lw_g (lw_at lw_m5 122 rfl) rfl
theorem q1141 : (Jvm.Cond.code ({ cls := "RankEntry", name := "timer", desc := "(I)Z" } : Jvm.MethodName) prog_1_method_16_code (2 : Nat) (Option.some Jvm.ClassFile.FieldType.boolean)) ∈ lw_all := lw_g (lw_at lw_m5 123 rfl) rfl
theorem q1143 : (Jvm.Cond.instanceMethod ({ cls := "RankEntry", name := "arrive", desc := "(II)Z" } : Jvm.MethodName)) ∈ lw_all := lw_g (lw_at lw_m5 125 rfl) rfl
theorem q1144 : (Jvm.Cond.selects "RankEntry" ({ cls := "RankEntry", name := "arrive", desc := "(II)Z" } : Jvm.MethodName) ({ cls := "RankEntry", name := "arrive", desc := "(II)Z" } : Jvm.MethodName)) ∈ lw_all := lw_g (lw_at lw_m5 126 rfl) rfl
theorem q1145 : (Jvm.Cond.code ({ cls := "RankEntry", name := "arrive", desc := "(II)Z" } : Jvm.MethodName) prog_1_method_17_code (3 : Nat) (Option.some Jvm.ClassFile.FieldType.boolean)) ∈ lw_all := lw_g (lw_at lw_m5 127 rfl) rfl
theorem q1147 : (Jvm.Cond.instanceMethod ({ cls := "RankEntry", name := "run", desc := "(I)I" } : Jvm.MethodName)) ∈ lw_all := lw_g (lw_at lw_m5 129 rfl) rfl
theorem q1148 : (Jvm.Cond.selects "RankEntry" ({ cls := "RankEntry", name := "run", desc := "(I)I" } : Jvm.MethodName) ({ cls := "RankEntry", name := "run", desc := "(I)I" } : Jvm.MethodName)) ∈ lw_all := lw_g (lw_at lw_m5 130 rfl) rfl
theorem q1149 : (Jvm.Cond.code ({ cls := "RankEntry", name := "run", desc := "(I)I" } : Jvm.MethodName) prog_1_method_18_code (3 : Nat) (Option.some Jvm.ClassFile.FieldType.int)) ∈ lw_all := lw_g (lw_at lw_m5 131 rfl) rfl
theorem q1150 : (Jvm.Cond.methodLink "RankEntry" (144 : Nat) ({ cls := "RankEntry$Core", name := "cycle", desc := "()V" } : Jvm.MethodName)) ∈ lw_all := lw_g (lw_at lw_m5 132 rfl) rfl
theorem q1159 : (Jvm.Cond.instanceMethod ({ cls := "RankEntry", name := "till", desc := "(I)I" } : Jvm.MethodName)) ∈ lw_all := lw_g (lw_at lw_m5 141 rfl) rfl
theorem q1160 : (Jvm.Cond.selects "RankEntry" ({ cls := "RankEntry", name := "till", desc := "(I)I" } : Jvm.MethodName) ({ cls := "RankEntry", name := "till", desc := "(I)I" } : Jvm.MethodName)) ∈ lw_all := lw_g (lw_at lw_m5 142 rfl) rfl
theorem q1161 : (Jvm.Cond.code ({ cls := "RankEntry", name := "till", desc := "(I)I" } : Jvm.MethodName) prog_1_method_20_code (2 : Nat) (Option.some Jvm.ClassFile.FieldType.int)) ∈ lw_all := lw_g (lw_at lw_m5 143 rfl) rfl
theorem q1162 : (Jvm.Cond.methodLink "RankEntry" (150 : Nat) ({ cls := "RankEntry", name := "goes", desc := "(LRankEntry$Core;I)I" } : Jvm.MethodName)) ∈ lw_all := lw_g (lw_at lw_m5 144 rfl) rfl
theorem q1163 : (Jvm.Cond.static ({ cls := "RankEntry", name := "goes", desc := "(LRankEntry$Core;I)I" } : Jvm.MethodName)) ∈ lw_all := lw_g (lw_at lw_m5 145 rfl) rfl
theorem q1164 : (Jvm.Cond.code ({ cls := "RankEntry", name := "goes", desc := "(LRankEntry$Core;I)I" } : Jvm.MethodName) prog_1_method_19_code (3 : Nat) (Option.some Jvm.ClassFile.FieldType.int)) ∈ lw_all := lw_g (lw_at lw_m5 146 rfl) rfl
theorem q1166 : (Jvm.Cond.instanceMethod ({ cls := "RankEntry", name := "reset", desc := "()I" } : Jvm.MethodName)) ∈ lw_all := lw_g (lw_at lw_m5 148 rfl) rfl
theorem q1167 : (Jvm.Cond.selects "RankEntry" ({ cls := "RankEntry", name := "reset", desc := "()I" } : Jvm.MethodName) ({ cls := "RankEntry", name := "reset", desc := "()I" } : Jvm.MethodName)) ∈ lw_all := lw_g (lw_at lw_m5 149 rfl) rfl
theorem q1168 : (Jvm.Cond.code ({ cls := "RankEntry", name := "reset", desc := "()I" } : Jvm.MethodName) prog_1_method_21_code (2 : Nat) (Option.some Jvm.ClassFile.FieldType.int)) ∈ lw_all := lw_g (lw_at lw_m5 150 rfl) rfl
theorem q1169 : (Jvm.Cond.methodLink "RankEntry" (154 : Nat) ({ cls := "RankEntry$Core", name := "forgets", desc := "()V" } : Jvm.MethodName)) ∈ lw_all := lw_g (lw_at lw_m5 151 rfl) rfl
theorem q1187 : (Jvm.Cond.instanceMethod ({ cls := "RankEntry", name := "source", desc := "(II)I" } : Jvm.MethodName)) ∈ lw_all := lw_g (lw_at lw_m5 169 rfl) rfl
theorem q1188 : (Jvm.Cond.selects "RankEntry" ({ cls := "RankEntry", name := "source", desc := "(II)I" } : Jvm.MethodName) ({ cls := "RankEntry", name := "source", desc := "(II)I" } : Jvm.MethodName)) ∈ lw_all := lw_g (lw_at lw_m5 170 rfl) rfl
theorem q1189 : (Jvm.Cond.code ({ cls := "RankEntry", name := "source", desc := "(II)I" } : Jvm.MethodName) prog_1_method_26_code (4 : Nat) (Option.some Jvm.ClassFile.FieldType.int)) ∈ lw_all := lw_g (lw_at lw_m5 171 rfl) rfl
theorem q1190 : (Jvm.Cond.methodLink "RankEntry" (188 : Nat) ({ cls := "RankEntry$Source", name := "told", desc := "()I" } : Jvm.MethodName)) ∈ lw_all := lw_g (lw_at lw_m5 172 rfl) rfl
theorem q1200 : (Jvm.Cond.methodLink "RankEntry" (195 : Nat) ({ cls := "RankEntry$Source", name := "isHeld", desc := "()Z" } : Jvm.MethodName)) ∈ lw_all := lw_g (lw_at lw_m5 182 rfl) rfl
theorem q1211 : (Jvm.Cond.instanceMethod ({ cls := "RankEntry", name := "nest", desc := "(I)I" } : Jvm.MethodName)) ∈ lw_all := lw_g (lw_at lw_m5 193 rfl) rfl
theorem q1212 : (Jvm.Cond.selects "RankEntry" ({ cls := "RankEntry", name := "nest", desc := "(I)I" } : Jvm.MethodName) ({ cls := "RankEntry", name := "nest", desc := "(I)I" } : Jvm.MethodName)) ∈ lw_all := lw_g (lw_at lw_m5 194 rfl) rfl
theorem q1213 : (Jvm.Cond.code ({ cls := "RankEntry", name := "nest", desc := "(I)I" } : Jvm.MethodName) prog_1_method_27_code (2 : Nat) (Option.some Jvm.ClassFile.FieldType.int)) ∈ lw_all := lw_g (lw_at lw_m5 195 rfl) rfl
theorem q1215 : (Jvm.Cond.instanceMethod ({ cls := "RankEntry", name := "state", desc := "(I)I" } : Jvm.MethodName)) ∈ lw_all := lw_g (lw_at lw_m5 197 rfl) rfl
theorem q1216 : (Jvm.Cond.selects "RankEntry" ({ cls := "RankEntry", name := "state", desc := "(I)I" } : Jvm.MethodName) ({ cls := "RankEntry", name := "state", desc := "(I)I" } : Jvm.MethodName)) ∈ lw_all := lw_g (lw_at lw_m5 198 rfl) rfl
theorem q1217 : (Jvm.Cond.code ({ cls := "RankEntry", name := "state", desc := "(I)I" } : Jvm.MethodName) prog_1_method_28_code (2 : Nat) (Option.some Jvm.ClassFile.FieldType.int)) ∈ lw_all := lw_g (lw_at lw_m5 199 rfl) rfl
theorem q1218 : (Jvm.Cond.methodLink "RankEntry" (243 : Nat) ({ cls := "RankEntry$Core", name := "limit", desc := "()I" } : Jvm.MethodName)) ∈ lw_all := lw_g (lw_at lw_m5 200 rfl) rfl
theorem q1219 : (Jvm.Cond.methodLink "RankEntry" (246 : Nat) ({ cls := "RankEntry$Core", name := "next", desc := "()I" } : Jvm.MethodName)) ∈ lw_all := lw_g (lw_at lw_m5 201 rfl) rfl
theorem q1221 : (Jvm.Cond.instanceMethod ({ cls := "RankEntry", name := "count", desc := "(I)I" } : Jvm.MethodName)) ∈ lw_all := lw_g (lw_at lw_m5 203 rfl) rfl
theorem q1222 : (Jvm.Cond.selects "RankEntry" ({ cls := "RankEntry", name := "count", desc := "(I)I" } : Jvm.MethodName) ({ cls := "RankEntry", name := "count", desc := "(I)I" } : Jvm.MethodName)) ∈ lw_all := lw_g (lw_at lw_m5 204 rfl) rfl
theorem q1223 : (Jvm.Cond.code ({ cls := "RankEntry", name := "count", desc := "(I)I" } : Jvm.MethodName) prog_1_method_29_code (2 : Nat) (Option.some Jvm.ClassFile.FieldType.int)) ∈ lw_all := lw_g (lw_at lw_m5 205 rfl) rfl
theorem q1225 : (Jvm.Cond.instanceMethod ({ cls := "RankEntry", name := "waited", desc := "(I)I" } : Jvm.MethodName)) ∈ lw_all := lw_g (lw_at lw_m5 207 rfl) rfl
theorem q1226 : (Jvm.Cond.selects "RankEntry" ({ cls := "RankEntry", name := "waited", desc := "(I)I" } : Jvm.MethodName) ({ cls := "RankEntry", name := "waited", desc := "(I)I" } : Jvm.MethodName)) ∈ lw_all := lw_g (lw_at lw_m5 208 rfl) rfl
theorem q1227 : (Jvm.Cond.code ({ cls := "RankEntry", name := "waited", desc := "(I)I" } : Jvm.MethodName) prog_1_method_31_code (2 : Nat) (Option.some Jvm.ClassFile.FieldType.int)) ∈ lw_all := lw_g (lw_at lw_m5 209 rfl) rfl
theorem q1229 : (Jvm.Cond.instanceMethod ({ cls := "RankEntry", name := "ahead", desc := "(II)Z" } : Jvm.MethodName)) ∈ lw_all := lw_g (lw_at lw_m5 211 rfl) rfl
theorem q1230 : (Jvm.Cond.selects "RankEntry" ({ cls := "RankEntry", name := "ahead", desc := "(II)Z" } : Jvm.MethodName) ({ cls := "RankEntry", name := "ahead", desc := "(II)Z" } : Jvm.MethodName)) ∈ lw_all := lw_g (lw_at lw_m5 212 rfl) rfl
theorem q1231 : (Jvm.Cond.code ({ cls := "RankEntry", name := "ahead", desc := "(II)Z" } : Jvm.MethodName) prog_1_method_32_code (3 : Nat) (Option.some Jvm.ClassFile.FieldType.boolean)) ∈ lw_all := lw_g (lw_at lw_m5 213 rfl) rfl
theorem q1232 : (Jvm.Cond.interfaceEntry "RankEntry" (282 : Nat)) ∈ lw_tbl := lw_at lw_m5 214 rfl
theorem q1233 : (Jvm.Cond.methodLink "RankEntry" (282 : Nat) ({ cls := "RankEntry$Ahead", name := "is", desc := "(LRankEntry$Source;LRankEntry$Source;)Z" } : Jvm.MethodName)) ∈ lw_all := lw_g (lw_at lw_m5 215 rfl) rfl
theorem q1235 : (Jvm.Cond.instanceMethod ({ cls := "RankEntry", name := "splits", desc := "(I)I" } : Jvm.MethodName)) ∈ lw_all := lw_g (lw_at lw_m5 217 rfl) rfl
theorem q1236 : (Jvm.Cond.selects "RankEntry" ({ cls := "RankEntry", name := "splits", desc := "(I)I" } : Jvm.MethodName) ({ cls := "RankEntry", name := "splits", desc := "(I)I" } : Jvm.MethodName)) ∈ lw_all := lw_g (lw_at lw_m5 218 rfl) rfl
theorem q1237 : (Jvm.Cond.code ({ cls := "RankEntry", name := "splits", desc := "(I)I" } : Jvm.MethodName) prog_1_method_33_code (5 : Nat) (Option.some Jvm.ClassFile.FieldType.int)) ∈ lw_all := lw_g (lw_at lw_m5 219 rfl) rfl
theorem q1238 : (Jvm.Cond.methodLink "RankEntry" (287 : Nat) ({ cls := "RankEntry", name := "tried", desc := "(Z)LRankEntry$Core;" } : Jvm.MethodName)) ∈ lw_all := lw_g (lw_at lw_m5 220 rfl) rfl
theorem q1239 : (Jvm.Cond.privateMethod ({ cls := "RankEntry", name := "tried", desc := "(Z)LRankEntry$Core;" } : Jvm.MethodName)) ∈ lw_tbl := lw_at lw_m5 221 rfl
theorem q1240 : (Jvm.Cond.instanceMethod ({ cls := "RankEntry", name := "tried", desc := "(Z)LRankEntry$Core;" } : Jvm.MethodName)) ∈ lw_all := lw_g (lw_at lw_m5 222 rfl) rfl
theorem q1241 : (Jvm.Cond.code ({ cls := "RankEntry", name := "tried", desc := "(Z)LRankEntry$Core;" } : Jvm.MethodName) prog_1_method_6_code (2 : Nat) (Option.some (Jvm.ClassFile.FieldType.object "RankEntry$Core"))) ∈ lw_all := lw_g (lw_at lw_m5 223 rfl) rfl
theorem q1242 : (Jvm.Cond.methodLink "RankEntry" (69 : Nat) ({ cls := "RankEntry$Core", name := "takes", desc := "(LRankEntry$Core;)V" } : Jvm.MethodName)) ∈ lw_all := lw_g (lw_at lw_m5 224 rfl) rfl
theorem q1263 : (Jvm.Cond.methodLink "RankEntry" (73 : Nat) ({ cls := "RankEntry$Core", name := "plays", desc := "(Z)V" } : Jvm.MethodName)) ∈ lw_all := lw_g (lw_at lw_m6 5 rfl) rfl
theorem q1268 : (Jvm.Cond.instanceMethod ({ cls := "RankEntry", name := "escalates", desc := "(I)I" } : Jvm.MethodName)) ∈ lw_all := lw_g (lw_at lw_m6 10 rfl) rfl
theorem q1269 : (Jvm.Cond.selects "RankEntry" ({ cls := "RankEntry", name := "escalates", desc := "(I)I" } : Jvm.MethodName) ({ cls := "RankEntry", name := "escalates", desc := "(I)I" } : Jvm.MethodName)) ∈ lw_all := lw_g (lw_at lw_m6 11 rfl) rfl
theorem q1270 : (Jvm.Cond.code ({ cls := "RankEntry", name := "escalates", desc := "(I)I" } : Jvm.MethodName) prog_1_method_34_code (2 : Nat) (Option.some Jvm.ClassFile.FieldType.int)) ∈ lw_all := lw_g (lw_at lw_m6 12 rfl) rfl
theorem q1271 : (Jvm.Cond.methodLink "RankEntry" (291 : Nat) ({ cls := "RankEntry$Core", name := "becoming", desc := "(I)I" } : Jvm.MethodName)) ∈ lw_all := lw_g (lw_at lw_m6 13 rfl) rfl
theorem q1273 : (Jvm.Cond.instanceMethod ({ cls := "RankEntry", name := "soon", desc := "(I)I" } : Jvm.MethodName)) ∈ lw_all := lw_g (lw_at lw_m6 15 rfl) rfl
theorem q1274 : (Jvm.Cond.selects "RankEntry" ({ cls := "RankEntry", name := "soon", desc := "(I)I" } : Jvm.MethodName) ({ cls := "RankEntry", name := "soon", desc := "(I)I" } : Jvm.MethodName)) ∈ lw_all := lw_g (lw_at lw_m6 16 rfl) rfl
theorem q1275 : (Jvm.Cond.code ({ cls := "RankEntry", name := "soon", desc := "(I)I" } : Jvm.MethodName) prog_1_method_35_code (2 : Nat) (Option.some Jvm.ClassFile.FieldType.int)) ∈ lw_all := lw_g (lw_at lw_m6 17 rfl) rfl
theorem q1277 : (Jvm.Cond.instanceMethod ({ cls := "RankEntry", name := "order", desc := "(IZ)I" } : Jvm.MethodName)) ∈ lw_all := lw_g (lw_at lw_m6 19 rfl) rfl
theorem q1278 : (Jvm.Cond.selects "RankEntry" ({ cls := "RankEntry", name := "order", desc := "(IZ)I" } : Jvm.MethodName) ({ cls := "RankEntry", name := "order", desc := "(IZ)I" } : Jvm.MethodName)) ∈ lw_all := lw_g (lw_at lw_m6 20 rfl) rfl
theorem q1279 : (Jvm.Cond.code ({ cls := "RankEntry", name := "order", desc := "(IZ)I" } : Jvm.MethodName) prog_1_method_36_code (5 : Nat) (Option.some Jvm.ClassFile.FieldType.int)) ∈ lw_all := lw_g (lw_at lw_m6 21 rfl) rfl
theorem q1281 : (Jvm.Cond.instanceMethod ({ cls := "RankEntry", name := "quiet", desc := "(Z)I" } : Jvm.MethodName)) ∈ lw_all := lw_g (lw_at lw_m6 23 rfl) rfl
theorem q1282 : (Jvm.Cond.selects "RankEntry" ({ cls := "RankEntry", name := "quiet", desc := "(Z)I" } : Jvm.MethodName) ({ cls := "RankEntry", name := "quiet", desc := "(Z)I" } : Jvm.MethodName)) ∈ lw_all := lw_g (lw_at lw_m6 24 rfl) rfl
theorem q1283 : (Jvm.Cond.code ({ cls := "RankEntry", name := "quiet", desc := "(Z)I" } : Jvm.MethodName) prog_1_method_37_code (4 : Nat) (Option.some Jvm.ClassFile.FieldType.int)) ∈ lw_all := lw_g (lw_at lw_m6 25 rfl) rfl
theorem q1284 : (Jvm.Cond.methodLink "RankEntry" (300 : Nat) ({ cls := "RankEntry$Core", name := "isQuiet", desc := "()Z" } : Jvm.MethodName)) ∈ lw_all := lw_g (lw_at lw_m6 26 rfl) rfl
theorem q1289 : (Jvm.Cond.instanceMethod ({ cls := "RankEntry", name := "window", desc := "(I)I" } : Jvm.MethodName)) ∈ lw_all := lw_g (lw_at lw_m6 31 rfl) rfl
theorem q1290 : (Jvm.Cond.selects "RankEntry" ({ cls := "RankEntry", name := "window", desc := "(I)I" } : Jvm.MethodName) ({ cls := "RankEntry", name := "window", desc := "(I)I" } : Jvm.MethodName)) ∈ lw_all := lw_g (lw_at lw_m6 32 rfl) rfl
theorem q1291 : (Jvm.Cond.code ({ cls := "RankEntry", name := "window", desc := "(I)I" } : Jvm.MethodName) prog_1_method_38_code (6 : Nat) (Option.some Jvm.ClassFile.FieldType.int)) ∈ lw_all := lw_g (lw_at lw_m6 33 rfl) rfl
theorem q1293 : (Jvm.Cond.instanceMethod ({ cls := "RankEntry", name := "keeps", desc := "()I" } : Jvm.MethodName)) ∈ lw_all := lw_g (lw_at lw_m6 35 rfl) rfl
theorem q1294 : (Jvm.Cond.selects "RankEntry" ({ cls := "RankEntry", name := "keeps", desc := "()I" } : Jvm.MethodName) ({ cls := "RankEntry", name := "keeps", desc := "()I" } : Jvm.MethodName)) ∈ lw_all := lw_g (lw_at lw_m6 36 rfl) rfl
theorem q1295 : (Jvm.Cond.code ({ cls := "RankEntry", name := "keeps", desc := "()I" } : Jvm.MethodName) prog_1_method_39_code (4 : Nat) (Option.some Jvm.ClassFile.FieldType.int)) ∈ lw_all := lw_g (lw_at lw_m6 37 rfl) rfl
theorem q1296 : (Jvm.Cond.methodLink "RankEntry" (303 : Nat) ({ cls := "RankEntry$Core", name := "isAs", desc := "(LRankEntry$Core;)Z" } : Jvm.MethodName)) ∈ lw_all := lw_g (lw_at lw_m6 38 rfl) rfl
theorem q1301 : (Jvm.Cond.instanceMethod ({ cls := "RankEntry", name := "cost", desc := "(I)I" } : Jvm.MethodName)) ∈ lw_all := lw_g (lw_at lw_m6 43 rfl) rfl
theorem q1302 : (Jvm.Cond.selects "RankEntry" ({ cls := "RankEntry", name := "cost", desc := "(I)I" } : Jvm.MethodName) ({ cls := "RankEntry", name := "cost", desc := "(I)I" } : Jvm.MethodName)) ∈ lw_all := lw_g (lw_at lw_m6 44 rfl) rfl
theorem q1303 : (Jvm.Cond.code ({ cls := "RankEntry", name := "cost", desc := "(I)I" } : Jvm.MethodName) prog_1_method_40_code (3 : Nat) (Option.some Jvm.ClassFile.FieldType.int)) ∈ lw_all := lw_g (lw_at lw_m6 45 rfl) rfl
theorem q1304 : (Jvm.Cond.methodLink "RankEntry" (307 : Nat) ({ cls := "RankEntry$Ways", name := "end", desc := "(I)Z" } : Jvm.MethodName)) ∈ lw_all := lw_g (lw_at lw_m6 46 rfl) rfl
theorem q1506 : (Jvm.Cond.instanceMethod ({ cls := "RankEntry", name := "pushes", desc := "(I)I" } : Jvm.MethodName)) ∈ lw_all := lw_g (lw_at lw_m7 8 rfl) rfl
theorem q1507 : (Jvm.Cond.selects "RankEntry" ({ cls := "RankEntry", name := "pushes", desc := "(I)I" } : Jvm.MethodName) ({ cls := "RankEntry", name := "pushes", desc := "(I)I" } : Jvm.MethodName)) ∈ lw_all := lw_g (lw_at lw_m7 9 rfl) rfl
theorem q1508 : (Jvm.Cond.code ({ cls := "RankEntry", name := "pushes", desc := "(I)I" } : Jvm.MethodName) prog_1_method_41_code (3 : Nat) (Option.some Jvm.ClassFile.FieldType.int)) ∈ lw_all := lw_g (lw_at lw_m7 10 rfl) rfl
theorem q1510 : (Jvm.Cond.instanceMethod ({ cls := "RankEntry", name := "room", desc := "(Z)I" } : Jvm.MethodName)) ∈ lw_all := lw_g (lw_at lw_m7 12 rfl) rfl
theorem q1511 : (Jvm.Cond.selects "RankEntry" ({ cls := "RankEntry", name := "room", desc := "(Z)I" } : Jvm.MethodName) ({ cls := "RankEntry", name := "room", desc := "(Z)I" } : Jvm.MethodName)) ∈ lw_all := lw_g (lw_at lw_m7 13 rfl) rfl
theorem q1512 : (Jvm.Cond.code ({ cls := "RankEntry", name := "room", desc := "(Z)I" } : Jvm.MethodName) prog_1_method_42_code (7 : Nat) (Option.some Jvm.ClassFile.FieldType.int)) ∈ lw_all := lw_g (lw_at lw_m7 14 rfl) rfl
theorem q1513 : (Jvm.Cond.methodLink "RankEntry" (316 : Nat) ({ cls := "RankEntry", name := "pushes", desc := "(I)I" } : Jvm.MethodName)) ∈ lw_all := lw_g (lw_at lw_m7 15 rfl) rfl
theorem q1519 : (Jvm.Cond.instanceMethod ({ cls := "RankEntry", name := "reg", desc := "(I)I" } : Jvm.MethodName)) ∈ lw_all := lw_g (lw_at lw_m7 21 rfl) rfl
theorem q1520 : (Jvm.Cond.selects "RankEntry" ({ cls := "RankEntry", name := "reg", desc := "(I)I" } : Jvm.MethodName) ({ cls := "RankEntry", name := "reg", desc := "(I)I" } : Jvm.MethodName)) ∈ lw_all := lw_g (lw_at lw_m7 22 rfl) rfl
theorem q1521 : (Jvm.Cond.code ({ cls := "RankEntry", name := "reg", desc := "(I)I" } : Jvm.MethodName) prog_1_method_22_code (2 : Nat) (Option.some Jvm.ClassFile.FieldType.int)) ∈ lw_all := lw_g (lw_at lw_m7 23 rfl) rfl
theorem q1522 : (Jvm.Cond.classLink "RankEntry" (157 : Nat) "java/util/NoSuchElementException") ∈ lw_all := lw_g (lw_at lw_m7 24 rfl) rfl
theorem q1533 : (Jvm.Cond.methodLink "RankEntry" (159 : Nat) ({ cls := "java/util/NoSuchElementException", name := "<init>", desc := "()V" } : Jvm.MethodName)) ∈ lw_all := lw_g (lw_at lw_m7 35 rfl) rfl
theorem q1542 : (Jvm.Cond.methodLink "RankEntry" (167 : Nat) ({ cls := "java/lang/Float", name := "floatToIntBits", desc := "(F)I" } : Jvm.MethodName)) ∈ lw_all := lw_g (lw_at lw_m7 44 rfl) rfl
theorem q1579 : (Jvm.Cond.instanceMethod ({ cls := "RankEntry", name := "word", desc := "(I)I" } : Jvm.MethodName)) ∈ lw_all := lw_g (lw_at lw_m7 81 rfl) rfl
theorem q1580 : (Jvm.Cond.selects "RankEntry" ({ cls := "RankEntry", name := "word", desc := "(I)I" } : Jvm.MethodName) ({ cls := "RankEntry", name := "word", desc := "(I)I" } : Jvm.MethodName)) ∈ lw_all := lw_g (lw_at lw_m7 82 rfl) rfl
theorem q1581 : (Jvm.Cond.code ({ cls := "RankEntry", name := "word", desc := "(I)I" } : Jvm.MethodName) prog_1_method_23_code (2 : Nat) (Option.some Jvm.ClassFile.FieldType.int)) ∈ lw_all := lw_g (lw_at lw_m7 83 rfl) rfl
theorem q1582 : (Jvm.Cond.classLink "RankEntry" (173 : Nat) "java/lang/IndexOutOfBoundsException") ∈ lw_all := lw_g (lw_at lw_m7 84 rfl) rfl
theorem q1591 : (Jvm.Cond.methodLink "RankEntry" (175 : Nat) ({ cls := "java/lang/IndexOutOfBoundsException", name := "<init>", desc := "()V" } : Jvm.MethodName)) ∈ lw_all := lw_g (lw_at lw_m7 93 rfl) rfl
theorem q1601 : (Jvm.Cond.instanceMethod ({ cls := "RankEntry", name := "data", desc := "(I)I" } : Jvm.MethodName)) ∈ lw_all := lw_g (lw_at lw_m7 103 rfl) rfl
theorem q1602 : (Jvm.Cond.selects "RankEntry" ({ cls := "RankEntry", name := "data", desc := "(I)I" } : Jvm.MethodName) ({ cls := "RankEntry", name := "data", desc := "(I)I" } : Jvm.MethodName)) ∈ lw_all := lw_g (lw_at lw_m7 104 rfl) rfl
theorem q1603 : (Jvm.Cond.code ({ cls := "RankEntry", name := "data", desc := "(I)I" } : Jvm.MethodName) prog_1_method_24_code (2 : Nat) (Option.some Jvm.ClassFile.FieldType.int)) ∈ lw_all := lw_g (lw_at lw_m7 105 rfl) rfl
theorem q1608 : (Jvm.Cond.instanceMethod ({ cls := "RankEntry", name := "out", desc := "(I)I" } : Jvm.MethodName)) ∈ lw_all := lw_g (lw_at lw_m7 110 rfl) rfl
theorem q1609 : (Jvm.Cond.selects "RankEntry" ({ cls := "RankEntry", name := "out", desc := "(I)I" } : Jvm.MethodName) ({ cls := "RankEntry", name := "out", desc := "(I)I" } : Jvm.MethodName)) ∈ lw_all := lw_g (lw_at lw_m7 111 rfl) rfl
theorem q1610 : (Jvm.Cond.code ({ cls := "RankEntry", name := "out", desc := "(I)I" } : Jvm.MethodName) prog_1_method_25_code (2 : Nat) (Option.some Jvm.ClassFile.FieldType.int)) ∈ lw_all := lw_g (lw_at lw_m7 112 rfl) rfl
theorem q1615 : (Jvm.Cond.instanceMethod ({ cls := "RankEntry", name := "event", desc := "(II)I" } : Jvm.MethodName)) ∈ lw_all := lw_g (lw_at lw_m7 117 rfl) rfl
theorem q1616 : (Jvm.Cond.selects "RankEntry" ({ cls := "RankEntry", name := "event", desc := "(II)I" } : Jvm.MethodName) ({ cls := "RankEntry", name := "event", desc := "(II)I" } : Jvm.MethodName)) ∈ lw_all := lw_g (lw_at lw_m7 118 rfl) rfl
theorem q1617 : (Jvm.Cond.code ({ cls := "RankEntry", name := "event", desc := "(II)I" } : Jvm.MethodName) prog_1_method_30_code (4 : Nat) (Option.some Jvm.ClassFile.FieldType.int)) ∈ lw_all := lw_g (lw_at lw_m7 119 rfl) rfl
theorem q1618 : (Jvm.Cond.methodLink "RankEntry" (254 : Nat) ({ cls := "RankEntry", name := "count", desc := "(I)I" } : Jvm.MethodName)) ∈ lw_all := lw_g (lw_at lw_m7 120 rfl) rfl
theorem q1619 : (Jvm.Cond.methodLink "RankEntry" (261 : Nat) ({ cls := "RankEntry", name := "kind", desc := "(LRankEntry$Event;)I" } : Jvm.MethodName)) ∈ lw_all := lw_g (lw_at lw_m7 121 rfl) rfl
theorem q1620 : (Jvm.Cond.static ({ cls := "RankEntry", name := "kind", desc := "(LRankEntry$Event;)I" } : Jvm.MethodName)) ∈ lw_all := lw_g (lw_at lw_m7 122 rfl) rfl
theorem q1621 : (Jvm.Cond.code ({ cls := "RankEntry", name := "kind", desc := "(LRankEntry$Event;)I" } : Jvm.MethodName) prog_1_method_4_code (2 : Nat) (Option.some Jvm.ClassFile.FieldType.int)) ∈ lw_all := lw_g (lw_at lw_m7 123 rfl) rfl
theorem q1622 : (Jvm.Cond.classLink "RankEntry" (22 : Nat) "RankEntry$Began") ∈ lw_all := lw_g (lw_at lw_m7 124 rfl) rfl
theorem q1623 : (Jvm.Cond.methodLink "RankEntry" (24 : Nat) ({ cls := "RankEntry$Began", name := "chained", desc := "()Z" } : Jvm.MethodName)) ∈ lw_all := lw_g (lw_at lw_m7 125 rfl) rfl
theorem q1627 : (Jvm.Cond.classLink "RankEntry" (28 : Nat) "RankEntry$Ended") ∈ lw_all := lw_g (lw_at lw_m7 129 rfl) rfl
theorem q1628 : (Jvm.Cond.classLink "RankEntry" (30 : Nat) "RankEntry$Raised") ∈ lw_all := lw_g (lw_at lw_m7 130 rfl) rfl
theorem q1629 : (Jvm.Cond.classLink "RankEntry" (32 : Nat) "RankEntry$Abandoned") ∈ lw_all := lw_g (lw_at lw_m7 131 rfl) rfl
theorem q1630 : (Jvm.Cond.interfaceEntry "RankEntry" (265 : Nat)) ∈ lw_tbl := lw_at lw_m7 132 rfl
theorem q1631 : (Jvm.Cond.methodLink "RankEntry" (265 : Nat) ({ cls := "RankEntry$Event", name := "source", desc := "()I" } : Jvm.MethodName)) ∈ lw_all := lw_g (lw_at lw_m7 133 rfl) rfl
theorem q1664 : (Jvm.Cond.interfaceEntry "RankEntry" (270 : Nat)) ∈ lw_tbl := lw_at lw_m7 166 rfl
theorem q1665 : (Jvm.Cond.methodLink "RankEntry" (270 : Nat) ({ cls := "RankEntry$Event", name := "clock", desc := "()I" } : Jvm.MethodName)) ∈ lw_all := lw_g (lw_at lw_m7 167 rfl) rfl
theorem q1693 : (Jvm.Cond.interfaceEntry "RankEntry" (272 : Nat)) ∈ lw_tbl := lw_at lw_m7 195 rfl
theorem q1694 : (Jvm.Cond.methodLink "RankEntry" (272 : Nat) ({ cls := "RankEntry$Event", name := "more", desc := "()I" } : Jvm.MethodName)) ∈ lw_all := lw_g (lw_at lw_m7 196 rfl) rfl
theorem q2163 : (Jvm.Cond.castable "RankEntry" "java/lang/Object") ∈ lw_tbl := lw_at lw_m9 185 rfl
theorem in_X1 : ∀ w ∈ wsX10, w ∈ lw_all := lw_in wsX10 [1081, 1083, 1085, 1087] (by decide +kernel) (by decide +kernel)
/-! RankEntry$Code -/
set_option maxRecDepth 100000
def RX2 : String := "RankEntry$Code"
def TX2 : u_T := fun k => match k with
  | 0 => ("RankEntry$Code", "bytes", "[B", true)
  | _ => ("RankEntry$Code", "ops", "[LRankEntry$Op;", true)
def tyX2 : Nat → FieldType := fun k => match k with
  | 0 => .array .byte
  | _ => .array (.object "RankEntry$Op")
abbrev wsX20 : List Cond := u_ws RX2 TX2 2
theorem nmX2 : ∀ a, a < 2 → ∀ b, b < 2 → a ≠ b → (TX2 a).2.1 ≠ (TX2 b).2.1 := by decide +kernel
theorem tyX2_ok : ∀ k, k < 2 → parseFieldDescriptor (TX2 k).2.2.1 = some (tyX2 k) := by decide +kernel
abbrev cX2_init : ByteArray := prog_7_method_1_code
def yX2_init : MethodName := ⟨RX2, "<init>", "()V"⟩
def dkwX2_init_0 : List UInt8 := [42, 183, 0, 3, 42, 17, 2, 0, 188, 8, 181, 0, 9, 42, 184, 0, 15, 181, 0, 21, 177]
abbrev dktX2_init_0 : List UInt8 := dkwX2_init_0 ++ []
theorem dksX2_init_0 : cX2_init.data.toList.drop 0 = dktX2_init_0 := by decide +kernel
theorem dX2_init_0 : decode cX2_init 0 = .ok (.aload_n 0, 1) := dk_42 (dk_at dksX2_init_0 0 rfl rfl)
theorem dX2_init_1 : decode cX2_init 1 = .ok (.invokespecial 3, 3) := dk_183 0 3 (dk_at dksX2_init_0 1 rfl rfl)
theorem dX2_init_4 : decode cX2_init 4 = .ok (.aload_n 0, 1) := dk_42 (dk_at dksX2_init_0 4 rfl rfl)
theorem dX2_init_5 : decode cX2_init 5 = .ok (.sipush 512, 3) := dk_17 2 0 (dk_at dksX2_init_0 5 rfl rfl)
theorem dX2_init_8 : decode cX2_init 8 = .ok (.newarray .byte, 2) := dk_188_8 (dk_at dksX2_init_0 8 rfl rfl)
theorem dX2_init_10 : decode cX2_init 10 = .ok (.putfield 9, 3) := dk_181 0 9 (dk_at dksX2_init_0 10 rfl rfl)
theorem dX2_init_13 : decode cX2_init 13 = .ok (.aload_n 0, 1) := dk_42 (dk_at dksX2_init_0 13 rfl rfl)
theorem dX2_init_14 : decode cX2_init 14 = .ok (.invokestatic 15, 3) := dk_184 0 15 (dk_at dksX2_init_0 14 rfl rfl)
theorem dX2_init_17 : decode cX2_init 17 = .ok (.putfield 21, 3) := dk_181 0 21 (dk_at dksX2_init_0 17 rfl rfl)
theorem dX2_init_20 : decode cX2_init 20 = .ok (.return_, 1) := dk_177 (dk_at dksX2_init_0 20 rfl rfl)
abbrev cX2_op : ByteArray := prog_7_method_3_code
def yX2_op : MethodName := ⟨RX2, "op", "(I)LRankEntry$Op;"⟩
def dkwX2_op_1 : List UInt8 := [28, 4, 100, 50, 167, 0, 4, 1, 176]
abbrev dktX2_op_1 : List UInt8 := dkwX2_op_1 ++ []
def dkwX2_op_0 : List UInt8 := [42, 27, 182, 0, 25, 61, 28, 4, 161, 0, 23, 28, 42, 180, 0, 21, 190, 163, 0, 14, 42, 180, 0, 21]
abbrev dktX2_op_0 : List UInt8 := dkwX2_op_0 ++ dktX2_op_1
theorem dksX2_op_0 : cX2_op.data.toList.drop 0 = dktX2_op_0 := by decide +kernel
theorem dksX2_op_1 : cX2_op.data.toList.drop 24 = dktX2_op_1 := dk_seg dksX2_op_0 24 rfl rfl
theorem dX2_op_0 : decode cX2_op 0 = .ok (.aload_n 0, 1) := dk_42 (dk_at dksX2_op_0 0 rfl rfl)
theorem dX2_op_1 : decode cX2_op 1 = .ok (.iload_n 1, 1) := dk_27 (dk_at dksX2_op_0 1 rfl rfl)
theorem dX2_op_2 : decode cX2_op 2 = .ok (.invokevirtual 25, 3) := dk_182 0 25 (dk_at dksX2_op_0 2 rfl rfl)
theorem dX2_op_5 : decode cX2_op 5 = .ok (.istore_n 2, 1) := dk_61 (dk_at dksX2_op_0 5 rfl rfl)
theorem dX2_op_6 : decode cX2_op 6 = .ok (.iload_n 2, 1) := dk_28 (dk_at dksX2_op_0 6 rfl rfl)
theorem dX2_op_7 : decode cX2_op 7 = .ok (.iconst 1, 1) := dk_4 (dk_at dksX2_op_0 7 rfl rfl)
theorem dX2_op_8 : decode cX2_op 8 = .ok (.if_icmp .lt 23, 3) := dk_161 0 23 (dk_at dksX2_op_0 8 rfl rfl)
theorem dX2_op_11 : decode cX2_op 11 = .ok (.iload_n 2, 1) := dk_28 (dk_at dksX2_op_0 11 rfl rfl)
theorem dX2_op_12 : decode cX2_op 12 = .ok (.aload_n 0, 1) := dk_42 (dk_at dksX2_op_0 12 rfl rfl)
theorem dX2_op_13 : decode cX2_op 13 = .ok (.getfield 21, 3) := dk_180 0 21 (dk_at dksX2_op_0 13 rfl rfl)
theorem dX2_op_16 : decode cX2_op 16 = .ok (.arraylength, 1) := dk_190 (dk_at dksX2_op_0 16 rfl rfl)
theorem dX2_op_17 : decode cX2_op 17 = .ok (.if_icmp .gt 14, 3) := dk_163 0 14 (dk_at dksX2_op_0 17 rfl rfl)
theorem dX2_op_20 : decode cX2_op 20 = .ok (.aload_n 0, 1) := dk_42 (dk_at dksX2_op_0 20 rfl rfl)
theorem dX2_op_21 : decode cX2_op 21 = .ok (.getfield 21, 3) := dk_180 0 21 (dk_at dksX2_op_0 21 rfl rfl)
theorem dX2_op_24 : decode cX2_op 24 = .ok (.iload_n 2, 1) := dk_28 (dk_at dksX2_op_1 0 rfl rfl)
theorem dX2_op_25 : decode cX2_op 25 = .ok (.iconst 1, 1) := dk_4 (dk_at dksX2_op_1 1 rfl rfl)
theorem dX2_op_26 : decode cX2_op 26 = .ok (.isub, 1) := dk_100 (dk_at dksX2_op_1 2 rfl rfl)
theorem dX2_op_27 : decode cX2_op 27 = .ok (.aaload, 1) := dk_50 (dk_at dksX2_op_1 3 rfl rfl)
theorem dX2_op_28 : decode cX2_op 28 = .ok (.goto 4, 3) := dk_167 0 4 (dk_at dksX2_op_1 4 rfl rfl)
theorem dX2_op_31 : decode cX2_op 31 = .ok (.aconst_null, 1) := dk_1 (dk_at dksX2_op_1 7 rfl rfl)
theorem dX2_op_32 : decode cX2_op 32 = .ok (.areturn, 1) := dk_176 (dk_at dksX2_op_1 8 rfl rfl)
abbrev cX2_at : ByteArray := prog_7_method_2_code
def yX2_at : MethodName := ⟨RX2, "at", "(I)I"⟩
def dkwX2_at_0 : List UInt8 := [42, 180, 0, 9, 27, 17, 1, 255, 126, 51, 17, 0, 255, 126, 172]
abbrev dktX2_at_0 : List UInt8 := dkwX2_at_0 ++ []
theorem dksX2_at_0 : cX2_at.data.toList.drop 0 = dktX2_at_0 := by decide +kernel
theorem dX2_at_0 : decode cX2_at 0 = .ok (.aload_n 0, 1) := dk_42 (dk_at dksX2_at_0 0 rfl rfl)
theorem dX2_at_1 : decode cX2_at 1 = .ok (.getfield 9, 3) := dk_180 0 9 (dk_at dksX2_at_0 1 rfl rfl)
theorem dX2_at_4 : decode cX2_at 4 = .ok (.iload_n 1, 1) := dk_27 (dk_at dksX2_at_0 4 rfl rfl)
theorem dX2_at_5 : decode cX2_at 5 = .ok (.sipush 511, 3) := dk_17 1 255 (dk_at dksX2_at_0 5 rfl rfl)
theorem dX2_at_8 : decode cX2_at 8 = .ok (.iand, 1) := dk_126 (dk_at dksX2_at_0 8 rfl rfl)
theorem dX2_at_9 : decode cX2_at 9 = .ok (.baload, 1) := dk_51 (dk_at dksX2_at_0 9 rfl rfl)
theorem dX2_at_10 : decode cX2_at 10 = .ok (.sipush 255, 3) := dk_17 0 255 (dk_at dksX2_at_0 10 rfl rfl)
theorem dX2_at_13 : decode cX2_at 13 = .ok (.iand, 1) := dk_126 (dk_at dksX2_at_0 13 rfl rfl)
theorem dX2_at_14 : decode cX2_at 14 = .ok (.ireturn, 1) := dk_172 (dk_at dksX2_at_0 14 rfl rfl)
abbrev cX2_next : ByteArray := prog_7_method_4_code
def yX2_next : MethodName := ⟨RX2, "next", "(II)I"⟩
def dkwX2_next_2 : List UInt8 := [182, 0, 25, 42, 27, 5, 96, 182, 0, 25, 184, 0, 41, 172]
abbrev dktX2_next_2 : List UInt8 := dkwX2_next_2 ++ []
def dkwX2_next_1 : List UInt8 := [21, 4, 153, 0, 16, 27, 45, 180, 0, 37, 96, 17, 1, 255, 126, 167, 0, 20, 42, 27, 4, 96]
abbrev dktX2_next_1 : List UInt8 := dkwX2_next_1 ++ dktX2_next_2
def dkwX2_next_0 : List UInt8 := [42, 27, 182, 0, 29, 78, 45, 182, 0, 33, 153, 0, 11, 28, 154, 0, 7, 4, 167, 0, 4, 3, 54, 4]
abbrev dktX2_next_0 : List UInt8 := dkwX2_next_0 ++ dktX2_next_1
theorem dksX2_next_0 : cX2_next.data.toList.drop 0 = dktX2_next_0 := by decide +kernel
theorem dksX2_next_1 : cX2_next.data.toList.drop 24 = dktX2_next_1 := dk_seg dksX2_next_0 24 rfl rfl
theorem dksX2_next_2 : cX2_next.data.toList.drop 46 = dktX2_next_2 := dk_seg dksX2_next_1 22 rfl rfl
theorem dX2_next_0 : decode cX2_next 0 = .ok (.aload_n 0, 1) := dk_42 (dk_at dksX2_next_0 0 rfl rfl)
theorem dX2_next_1 : decode cX2_next 1 = .ok (.iload_n 1, 1) := dk_27 (dk_at dksX2_next_0 1 rfl rfl)
theorem dX2_next_2 : decode cX2_next 2 = .ok (.invokevirtual 29, 3) := dk_182 0 29 (dk_at dksX2_next_0 2 rfl rfl)
theorem dX2_next_5 : decode cX2_next 5 = .ok (.astore_n 3, 1) := dk_78 (dk_at dksX2_next_0 5 rfl rfl)
theorem dX2_next_6 : decode cX2_next 6 = .ok (.aload_n 3, 1) := dk_45 (dk_at dksX2_next_0 6 rfl rfl)
theorem dX2_next_7 : decode cX2_next 7 = .ok (.invokevirtual 33, 3) := dk_182 0 33 (dk_at dksX2_next_0 7 rfl rfl)
theorem dX2_next_10 : decode cX2_next 10 = .ok (.ifCond .eq 11, 3) := dk_153 0 11 (dk_at dksX2_next_0 10 rfl rfl)
theorem dX2_next_13 : decode cX2_next 13 = .ok (.iload_n 2, 1) := dk_28 (dk_at dksX2_next_0 13 rfl rfl)
theorem dX2_next_14 : decode cX2_next 14 = .ok (.ifCond .ne 7, 3) := dk_154 0 7 (dk_at dksX2_next_0 14 rfl rfl)
theorem dX2_next_17 : decode cX2_next 17 = .ok (.iconst 1, 1) := dk_4 (dk_at dksX2_next_0 17 rfl rfl)
theorem dX2_next_18 : decode cX2_next 18 = .ok (.goto 4, 3) := dk_167 0 4 (dk_at dksX2_next_0 18 rfl rfl)
theorem dX2_next_21 : decode cX2_next 21 = .ok (.iconst 0, 1) := dk_3 (dk_at dksX2_next_0 21 rfl rfl)
theorem dX2_next_22 : decode cX2_next 22 = .ok (.istore 4, 2) := dk_54 4 (dk_at dksX2_next_0 22 rfl rfl)
theorem dX2_next_24 : decode cX2_next 24 = .ok (.iload 4, 2) := dk_21 4 (dk_at dksX2_next_1 0 rfl rfl)
theorem dX2_next_26 : decode cX2_next 26 = .ok (.ifCond .eq 16, 3) := dk_153 0 16 (dk_at dksX2_next_1 2 rfl rfl)
theorem dX2_next_29 : decode cX2_next 29 = .ok (.iload_n 1, 1) := dk_27 (dk_at dksX2_next_1 5 rfl rfl)
theorem dX2_next_30 : decode cX2_next 30 = .ok (.aload_n 3, 1) := dk_45 (dk_at dksX2_next_1 6 rfl rfl)
theorem dX2_next_31 : decode cX2_next 31 = .ok (.getfield 37, 3) := dk_180 0 37 (dk_at dksX2_next_1 7 rfl rfl)
theorem dX2_next_34 : decode cX2_next 34 = .ok (.iadd, 1) := dk_96 (dk_at dksX2_next_1 10 rfl rfl)
theorem dX2_next_35 : decode cX2_next 35 = .ok (.sipush 511, 3) := dk_17 1 255 (dk_at dksX2_next_1 11 rfl rfl)
theorem dX2_next_38 : decode cX2_next 38 = .ok (.iand, 1) := dk_126 (dk_at dksX2_next_1 14 rfl rfl)
theorem dX2_next_39 : decode cX2_next 39 = .ok (.goto 20, 3) := dk_167 0 20 (dk_at dksX2_next_1 15 rfl rfl)
theorem dX2_next_42 : decode cX2_next 42 = .ok (.aload_n 0, 1) := dk_42 (dk_at dksX2_next_1 18 rfl rfl)
theorem dX2_next_43 : decode cX2_next 43 = .ok (.iload_n 1, 1) := dk_27 (dk_at dksX2_next_1 19 rfl rfl)
theorem dX2_next_44 : decode cX2_next 44 = .ok (.iconst 1, 1) := dk_4 (dk_at dksX2_next_1 20 rfl rfl)
theorem dX2_next_45 : decode cX2_next 45 = .ok (.iadd, 1) := dk_96 (dk_at dksX2_next_1 21 rfl rfl)
theorem dX2_next_46 : decode cX2_next 46 = .ok (.invokevirtual 25, 3) := dk_182 0 25 (dk_at dksX2_next_2 0 rfl rfl)
theorem dX2_next_49 : decode cX2_next 49 = .ok (.aload_n 0, 1) := dk_42 (dk_at dksX2_next_2 3 rfl rfl)
theorem dX2_next_50 : decode cX2_next 50 = .ok (.iload_n 1, 1) := dk_27 (dk_at dksX2_next_2 4 rfl rfl)
theorem dX2_next_51 : decode cX2_next 51 = .ok (.iconst 2, 1) := dk_5 (dk_at dksX2_next_2 5 rfl rfl)
theorem dX2_next_52 : decode cX2_next 52 = .ok (.iadd, 1) := dk_96 (dk_at dksX2_next_2 6 rfl rfl)
theorem dX2_next_53 : decode cX2_next 53 = .ok (.invokevirtual 25, 3) := dk_182 0 25 (dk_at dksX2_next_2 7 rfl rfl)
theorem dX2_next_56 : decode cX2_next 56 = .ok (.invokestatic 41, 3) := dk_184 0 41 (dk_at dksX2_next_2 10 rfl rfl)
theorem dX2_next_59 : decode cX2_next 59 = .ok (.ireturn, 1) := dk_172 (dk_at dksX2_next_2 13 rfl rfl)
theorem q60 : (Jvm.Cond.initialized "RankEntry$Code") ∈ lw_all := lw_g (lw_at lw_m1 2 rfl) rfl
theorem q100 : (Jvm.Cond.instantiable "RankEntry$Code" (2 : Nat)) ∈ lw_all := lw_g (lw_at lw_m1 42 rfl) rfl
theorem q102 : (Jvm.Cond.instanceMethod ({ cls := "RankEntry$Code", name := "<init>", desc := "()V" } : Jvm.MethodName)) ∈ lw_all := lw_g (lw_at lw_m1 44 rfl) rfl
theorem q103 : (Jvm.Cond.code ({ cls := "RankEntry$Code", name := "<init>", desc := "()V" } : Jvm.MethodName) prog_7_method_1_code (1 : Nat) (Option.none : Option Jvm.ClassFile.FieldType)) ∈ lw_all := lw_g (lw_at lw_m1 45 rfl) rfl
theorem q104 : (Jvm.Cond.methodLink "RankEntry$Code" (3 : Nat) ({ cls := "java/lang/Object", name := "<init>", desc := "()V" } : Jvm.MethodName)) ∈ lw_all := lw_g (lw_at lw_m1 46 rfl) rfl
theorem q105 : (Jvm.Cond.methodLink "RankEntry$Code" (15 : Nat) ({ cls := "RankEntry$Op", name := "values", desc := "()[LRankEntry$Op;" } : Jvm.MethodName)) ∈ lw_all := lw_g (lw_at lw_m1 47 rfl) rfl
theorem q118 : (Jvm.Cond.fieldLink "RankEntry$Code" (9 : Nat) "RankEntry$Code" "bytes" "[B") ∈ lw_all := lw_g (lw_at lw_m1 60 rfl) rfl
theorem q120 : (Jvm.Cond.fieldLink "RankEntry$Code" (21 : Nat) "RankEntry$Code" "ops" "[LRankEntry$Op;") ∈ lw_all := lw_g (lw_at lw_m1 62 rfl) rfl
theorem q121 : (Jvm.Cond.laysFinal "RankEntry$Code" "RankEntry$Code" "bytes" "[B") ∈ lw_all := lw_g (lw_at lw_m1 63 rfl) rfl
theorem q122 : (Jvm.Cond.soleField "RankEntry$Code" "bytes") ∈ lw_all := lw_g (lw_at lw_m1 64 rfl) rfl
theorem q123 : (Jvm.Cond.laysFinal "RankEntry$Code" "RankEntry$Code" "ops" "[LRankEntry$Op;") ∈ lw_all := lw_g (lw_at lw_m1 65 rfl) rfl
theorem q124 : (Jvm.Cond.soleField "RankEntry$Code" "ops") ∈ lw_all := lw_g (lw_at lw_m1 66 rfl) rfl
theorem q125 : (Jvm.Cond.superclass "RankEntry$Code" "java/lang/Object") ∈ lw_all := lw_g (lw_at lw_m1 67 rfl) rfl
theorem q355 : (Jvm.Cond.instanceMethod ({ cls := "RankEntry$Code", name := "op", desc := "(I)LRankEntry$Op;" } : Jvm.MethodName)) ∈ lw_all := lw_g (lw_at lw_m2 57 rfl) rfl
theorem q356 : (Jvm.Cond.selects "RankEntry$Code" ({ cls := "RankEntry$Code", name := "op", desc := "(I)LRankEntry$Op;" } : Jvm.MethodName) ({ cls := "RankEntry$Code", name := "op", desc := "(I)LRankEntry$Op;" } : Jvm.MethodName)) ∈ lw_all := lw_g (lw_at lw_m2 58 rfl) rfl
theorem q357 : (Jvm.Cond.code ({ cls := "RankEntry$Code", name := "op", desc := "(I)LRankEntry$Op;" } : Jvm.MethodName) prog_7_method_3_code (3 : Nat) (Option.some (Jvm.ClassFile.FieldType.object "RankEntry$Op"))) ∈ lw_all := lw_g (lw_at lw_m2 59 rfl) rfl
theorem q358 : (Jvm.Cond.methodLink "RankEntry$Code" (25 : Nat) ({ cls := "RankEntry$Code", name := "at", desc := "(I)I" } : Jvm.MethodName)) ∈ lw_all := lw_g (lw_at lw_m2 60 rfl) rfl
theorem q359 : (Jvm.Cond.instanceMethod ({ cls := "RankEntry$Code", name := "at", desc := "(I)I" } : Jvm.MethodName)) ∈ lw_all := lw_g (lw_at lw_m2 61 rfl) rfl
theorem q360 : (Jvm.Cond.selects "RankEntry$Code" ({ cls := "RankEntry$Code", name := "at", desc := "(I)I" } : Jvm.MethodName) ({ cls := "RankEntry$Code", name := "at", desc := "(I)I" } : Jvm.MethodName)) ∈ lw_all := lw_g (lw_at lw_m2 62 rfl) rfl
theorem q361 : (Jvm.Cond.code ({ cls := "RankEntry$Code", name := "at", desc := "(I)I" } : Jvm.MethodName) prog_7_method_2_code (2 : Nat) (Option.some Jvm.ClassFile.FieldType.int)) ∈ lw_all := lw_g (lw_at lw_m2 63 rfl) rfl
theorem q1462 : (Jvm.Cond.instanceMethod ({ cls := "RankEntry$Code", name := "next", desc := "(II)I" } : Jvm.MethodName)) ∈ lw_all := lw_g (lw_at lw_m6 204 rfl) rfl
theorem q1463 : (Jvm.Cond.selects "RankEntry$Code" ({ cls := "RankEntry$Code", name := "next", desc := "(II)I" } : Jvm.MethodName) ({ cls := "RankEntry$Code", name := "next", desc := "(II)I" } : Jvm.MethodName)) ∈ lw_all := lw_g (lw_at lw_m6 205 rfl) rfl
theorem q1464 : (Jvm.Cond.code ({ cls := "RankEntry$Code", name := "next", desc := "(II)I" } : Jvm.MethodName) prog_7_method_4_code (5 : Nat) (Option.some Jvm.ClassFile.FieldType.int)) ∈ lw_all := lw_g (lw_at lw_m6 206 rfl) rfl
theorem q1465 : (Jvm.Cond.methodLink "RankEntry$Code" (29 : Nat) ({ cls := "RankEntry$Code", name := "op", desc := "(I)LRankEntry$Op;" } : Jvm.MethodName)) ∈ lw_all := lw_g (lw_at lw_m6 207 rfl) rfl
theorem q1466 : (Jvm.Cond.methodLink "RankEntry$Code" (33 : Nat) ({ cls := "RankEntry$Op", name := "goesOn", desc := "()Z" } : Jvm.MethodName)) ∈ lw_all := lw_g (lw_at lw_m6 208 rfl) rfl
theorem q1467 : (Jvm.Cond.methodLink "RankEntry$Code" (41 : Nat) ({ cls := "RankEntry$Op", name := "target", desc := "(II)I" } : Jvm.MethodName)) ∈ lw_all := lw_g (lw_at lw_m6 209 rfl) rfl
theorem q2164 : (Jvm.Cond.castable "RankEntry$Code" "java/lang/Object") ∈ lw_tbl := lw_at lw_m9 186 rfl
theorem q2247 : (Jvm.Cond.fieldLink "RankEntry$Code" (37 : Nat) "RankEntry$Op" "length" "I") ∈ lw_all := lw_g (lw_at lw_m10 29 rfl) rfl
theorem in_X2 : ∀ w ∈ wsX20, w ∈ lw_all := lw_in wsX20 [121, 123] (by decide +kernel) (by decide +kernel)
/-! RankEntry$Op -/
set_option maxRecDepth 100000
def RX3 : String := "RankEntry$Op"
abbrev cX3_values : ByteArray := prog_15_method_1_code
def yX3_values : MethodName := ⟨RX3, "values", "()[LRankEntry$Op;"⟩
def dkwX3_values_0 : List UInt8 := [178, 0, 93, 182, 0, 97, 192, 0, 98, 176]
abbrev dktX3_values_0 : List UInt8 := dkwX3_values_0 ++ []
theorem dksX3_values_0 : cX3_values.data.toList.drop 0 = dktX3_values_0 := by decide +kernel
theorem dX3_values_0 : decode cX3_values 0 = .ok (.getstatic 93, 3) := dk_178 0 93 (dk_at dksX3_values_0 0 rfl rfl)
theorem dX3_values_3 : decode cX3_values 3 = .ok (.invokevirtual 97, 3) := dk_182 0 97 (dk_at dksX3_values_0 3 rfl rfl)
theorem dX3_values_6 : decode cX3_values 6 = .ok (.checkcast 98, 3) := dk_192 0 98 (dk_at dksX3_values_0 6 rfl rfl)
theorem dX3_values_9 : decode cX3_values 9 = .ok (.areturn, 1) := dk_176 (dk_at dksX3_values_0 9 rfl rfl)
abbrev cX3_isFloat : ByteArray := prog_15_method_5_code
def yX3_isFloat : MethodName := ⟨RX3, "isFloat", "()Z"⟩
theorem dX3_isFloat_0 : decode cX3_isFloat 0 = .ok (.iconst 0, 1) := by decide +kernel
theorem dX3_isFloat_1 : decode cX3_isFloat 1 = .ok (.ireturn, 1) := by decide +kernel
abbrev cX3_target : ByteArray := prog_15_method_11_code
def yX3_target : MethodName := ⟨RX3, "target", "(II)I"⟩
def dkwX3_target_0 : List UInt8 := [17, 1, 0, 26, 104, 27, 96, 17, 1, 255, 126, 172]
abbrev dktX3_target_0 : List UInt8 := dkwX3_target_0 ++ []
theorem dksX3_target_0 : cX3_target.data.toList.drop 0 = dktX3_target_0 := by decide +kernel
theorem dX3_target_0 : decode cX3_target 0 = .ok (.sipush 256, 3) := dk_17 1 0 (dk_at dksX3_target_0 0 rfl rfl)
theorem dX3_target_3 : decode cX3_target 3 = .ok (.iload_n 0, 1) := dk_26 (dk_at dksX3_target_0 3 rfl rfl)
theorem dX3_target_4 : decode cX3_target 4 = .ok (.imul, 1) := dk_104 (dk_at dksX3_target_0 4 rfl rfl)
theorem dX3_target_5 : decode cX3_target 5 = .ok (.iload_n 1, 1) := dk_27 (dk_at dksX3_target_0 5 rfl rfl)
theorem dX3_target_6 : decode cX3_target 6 = .ok (.iadd, 1) := dk_96 (dk_at dksX3_target_0 6 rfl rfl)
theorem dX3_target_7 : decode cX3_target 7 = .ok (.sipush 511, 3) := dk_17 1 255 (dk_at dksX3_target_0 7 rfl rfl)
theorem dX3_target_10 : decode cX3_target 10 = .ok (.iand, 1) := dk_126 (dk_at dksX3_target_0 10 rfl rfl)
theorem dX3_target_11 : decode cX3_target 11 = .ok (.ireturn, 1) := dk_172 (dk_at dksX3_target_0 11 rfl rfl)
abbrev cX3_stops : ByteArray := prog_15_method_8_code
def yX3_stops : MethodName := ⟨RX3, "stops", "()Z"⟩
theorem dX3_stops_0 : decode cX3_stops 0 = .ok (.iconst 0, 1) := by decide +kernel
theorem dX3_stops_1 : decode cX3_stops 1 = .ok (.ireturn, 1) := by decide +kernel
abbrev cX3_ways : ByteArray := prog_15_method_10_code
def yX3_ways : MethodName := ⟨RX3, "ways", "()I"⟩
def dkwX3_ways_1 : List UInt8 := [96, 172]
abbrev dktX3_ways_1 : List UInt8 := dkwX3_ways_1 ++ []
def dkwX3_ways_0 : List UInt8 := [42, 182, 0, 119, 153, 0, 7, 4, 167, 0, 4, 3, 42, 182, 0, 123, 153, 0, 7, 4, 167, 0, 4, 3]
abbrev dktX3_ways_0 : List UInt8 := dkwX3_ways_0 ++ dktX3_ways_1
theorem dksX3_ways_0 : cX3_ways.data.toList.drop 0 = dktX3_ways_0 := by decide +kernel
theorem dksX3_ways_1 : cX3_ways.data.toList.drop 24 = dktX3_ways_1 := dk_seg dksX3_ways_0 24 rfl rfl
theorem dX3_ways_0 : decode cX3_ways 0 = .ok (.aload_n 0, 1) := dk_42 (dk_at dksX3_ways_0 0 rfl rfl)
theorem dX3_ways_1 : decode cX3_ways 1 = .ok (.invokevirtual 119, 3) := dk_182 0 119 (dk_at dksX3_ways_0 1 rfl rfl)
theorem dX3_ways_4 : decode cX3_ways 4 = .ok (.ifCond .eq 7, 3) := dk_153 0 7 (dk_at dksX3_ways_0 4 rfl rfl)
theorem dX3_ways_7 : decode cX3_ways 7 = .ok (.iconst 1, 1) := dk_4 (dk_at dksX3_ways_0 7 rfl rfl)
theorem dX3_ways_8 : decode cX3_ways 8 = .ok (.goto 4, 3) := dk_167 0 4 (dk_at dksX3_ways_0 8 rfl rfl)
theorem dX3_ways_11 : decode cX3_ways 11 = .ok (.iconst 0, 1) := dk_3 (dk_at dksX3_ways_0 11 rfl rfl)
theorem dX3_ways_12 : decode cX3_ways 12 = .ok (.aload_n 0, 1) := dk_42 (dk_at dksX3_ways_0 12 rfl rfl)
theorem dX3_ways_13 : decode cX3_ways 13 = .ok (.invokevirtual 123, 3) := dk_182 0 123 (dk_at dksX3_ways_0 13 rfl rfl)
theorem dX3_ways_16 : decode cX3_ways 16 = .ok (.ifCond .eq 7, 3) := dk_153 0 7 (dk_at dksX3_ways_0 16 rfl rfl)
theorem dX3_ways_19 : decode cX3_ways 19 = .ok (.iconst 1, 1) := dk_4 (dk_at dksX3_ways_0 19 rfl rfl)
theorem dX3_ways_20 : decode cX3_ways 20 = .ok (.goto 4, 3) := dk_167 0 4 (dk_at dksX3_ways_0 20 rfl rfl)
theorem dX3_ways_23 : decode cX3_ways 23 = .ok (.iconst 0, 1) := dk_3 (dk_at dksX3_ways_0 23 rfl rfl)
theorem dX3_ways_24 : decode cX3_ways 24 = .ok (.iadd, 1) := dk_96 (dk_at dksX3_ways_1 0 rfl rfl)
theorem dX3_ways_25 : decode cX3_ways 25 = .ok (.ireturn, 1) := dk_172 (dk_at dksX3_ways_1 1 rfl rfl)
abbrev cX3_goesOn : ByteArray := prog_15_method_6_code
def yX3_goesOn : MethodName := ⟨RX3, "goesOn", "()Z"⟩
theorem dX3_goesOn_0 : decode cX3_goesOn 0 = .ok (.iconst 1, 1) := by decide +kernel
theorem dX3_goesOn_1 : decode cX3_goesOn 1 = .ok (.ireturn, 1) := by decide +kernel
abbrev cX3_jumps : ByteArray := prog_15_method_7_code
def yX3_jumps : MethodName := ⟨RX3, "jumps", "()Z"⟩
theorem dX3_jumps_0 : decode cX3_jumps 0 = .ok (.iconst 0, 1) := by decide +kernel
theorem dX3_jumps_1 : decode cX3_jumps 1 = .ok (.ireturn, 1) := by decide +kernel
abbrev cX3_pushes : ByteArray := prog_15_method_9_code
def yX3_pushes : MethodName := ⟨RX3, "pushes", "()I"⟩
theorem dX3_pushes_0 : decode cX3_pushes 0 = .ok (.iconst 0, 1) := by decide +kernel
theorem dX3_pushes_1 : decode cX3_pushes 1 = .ok (.ireturn, 1) := by decide +kernel
theorem q62 : (Jvm.Cond.initialized "RankEntry$Op") ∈ lw_all := lw_g (lw_at lw_m1 4 rfl) rfl
theorem q106 : (Jvm.Cond.static ({ cls := "RankEntry$Op", name := "values", desc := "()[LRankEntry$Op;" } : Jvm.MethodName)) ∈ lw_all := lw_g (lw_at lw_m1 48 rfl) rfl
theorem q107 : (Jvm.Cond.code ({ cls := "RankEntry$Op", name := "values", desc := "()[LRankEntry$Op;" } : Jvm.MethodName) prog_15_method_1_code (0 : Nat) (Option.some (Jvm.ClassFile.FieldType.array (Jvm.ClassFile.FieldType.object "RankEntry$Op")))) ∈ lw_all := lw_g (lw_at lw_m1 49 rfl) rfl
theorem q108 : (Jvm.Cond.fieldLink "RankEntry$Op" (93 : Nat) "RankEntry$Op" "$VALUES" "[LRankEntry$Op;") ∈ lw_all := lw_g (lw_at lw_m1 50 rfl) rfl
theorem q109 : (Jvm.Cond.laysStatic "RankEntry$Op" "$VALUES" "[LRankEntry$Op;") ∈ lw_tbl := lw_at lw_m1 51 rfl
theorem q110 : (Jvm.Cond.methodLink "RankEntry$Op" (97 : Nat) ({ cls := "[LRankEntry$Op;", name := "clone", desc := "()Ljava/lang/Object;" } : Jvm.MethodName)) ∈ lw_all := lw_g (lw_at lw_m1 52 rfl) rfl
theorem q117 : (Jvm.Cond.classLink "RankEntry$Op" (98 : Nat) "[LRankEntry$Op;") ∈ lw_all := lw_g (lw_at lw_m1 59 rfl) rfl
theorem q363 : (Jvm.Cond.instanceMethod ({ cls := "RankEntry$Op", name := "isFloat", desc := "()Z" } : Jvm.MethodName)) ∈ lw_all := lw_g (lw_at lw_m2 65 rfl) rfl
theorem q364 : (Jvm.Cond.sameMethod "RankEntry$Op" "RankEntry$Op" "isFloat" "()Z") ∈ lw_all := lw_g (lw_at lw_m2 66 rfl) rfl
theorem q404 : (Jvm.Cond.code ({ cls := "RankEntry$Op", name := "isFloat", desc := "()Z" } : Jvm.MethodName) prog_15_method_5_code (1 : Nat) (Option.some Jvm.ClassFile.FieldType.boolean)) ∈ lw_all := lw_g (lw_at lw_m2 106 rfl) rfl
theorem q421 : (Jvm.Cond.declares ({ cls := "RankEntry$Op", name := "does", desc := "(LRankEntry$Core;II)V" } : Jvm.MethodName)) ∈ lw_tbl := lw_at lw_m2 123 rfl
theorem q422 : (Jvm.Cond.sameMethod "RankEntry$Op" "RankEntry$Op" "does" "(LRankEntry$Core;II)V") ∈ lw_all := lw_g (lw_at lw_m2 124 rfl) rfl
theorem q443 : (Jvm.Cond.static ({ cls := "RankEntry$Op", name := "target", desc := "(II)I" } : Jvm.MethodName)) ∈ lw_all := lw_g (lw_at lw_m2 145 rfl) rfl
theorem q444 : (Jvm.Cond.code ({ cls := "RankEntry$Op", name := "target", desc := "(II)I" } : Jvm.MethodName) prog_15_method_11_code (2 : Nat) (Option.some Jvm.ClassFile.FieldType.int)) ∈ lw_all := lw_g (lw_at lw_m2 146 rfl) rfl
theorem q1314 : (Jvm.Cond.instanceMethod ({ cls := "RankEntry$Op", name := "stops", desc := "()Z" } : Jvm.MethodName)) ∈ lw_all := lw_g (lw_at lw_m6 56 rfl) rfl
theorem q1315 : (Jvm.Cond.sameMethod "RankEntry$Op" "RankEntry$Op" "stops" "()Z") ∈ lw_all := lw_g (lw_at lw_m6 57 rfl) rfl
theorem q1347 : (Jvm.Cond.code ({ cls := "RankEntry$Op", name := "stops", desc := "()Z" } : Jvm.MethodName) prog_15_method_8_code (1 : Nat) (Option.some Jvm.ClassFile.FieldType.boolean)) ∈ lw_all := lw_g (lw_at lw_m6 89 rfl) rfl
theorem q1349 : (Jvm.Cond.instanceMethod ({ cls := "RankEntry$Op", name := "ways", desc := "()I" } : Jvm.MethodName)) ∈ lw_all := lw_g (lw_at lw_m6 91 rfl) rfl
theorem q1350 : (Jvm.Cond.sameMethod "RankEntry$Op" "RankEntry$Op" "ways" "()I") ∈ lw_all := lw_g (lw_at lw_m6 92 rfl) rfl
theorem q1380 : (Jvm.Cond.code ({ cls := "RankEntry$Op", name := "ways", desc := "()I" } : Jvm.MethodName) prog_15_method_10_code (1 : Nat) (Option.some Jvm.ClassFile.FieldType.int)) ∈ lw_all := lw_g (lw_at lw_m6 122 rfl) rfl
theorem q1381 : (Jvm.Cond.methodLink "RankEntry$Op" (119 : Nat) ({ cls := "RankEntry$Op", name := "goesOn", desc := "()Z" } : Jvm.MethodName)) ∈ lw_all := lw_g (lw_at lw_m6 123 rfl) rfl
theorem q1382 : (Jvm.Cond.instanceMethod ({ cls := "RankEntry$Op", name := "goesOn", desc := "()Z" } : Jvm.MethodName)) ∈ lw_all := lw_g (lw_at lw_m6 124 rfl) rfl
theorem q1383 : (Jvm.Cond.sameMethod "RankEntry$Op" "RankEntry$Op" "goesOn" "()Z") ∈ lw_all := lw_g (lw_at lw_m6 125 rfl) rfl
theorem q1417 : (Jvm.Cond.code ({ cls := "RankEntry$Op", name := "goesOn", desc := "()Z" } : Jvm.MethodName) prog_15_method_6_code (1 : Nat) (Option.some Jvm.ClassFile.FieldType.boolean)) ∈ lw_all := lw_g (lw_at lw_m6 159 rfl) rfl
theorem q1418 : (Jvm.Cond.methodLink "RankEntry$Op" (123 : Nat) ({ cls := "RankEntry$Op", name := "jumps", desc := "()Z" } : Jvm.MethodName)) ∈ lw_all := lw_g (lw_at lw_m6 160 rfl) rfl
theorem q1419 : (Jvm.Cond.instanceMethod ({ cls := "RankEntry$Op", name := "jumps", desc := "()Z" } : Jvm.MethodName)) ∈ lw_all := lw_g (lw_at lw_m6 161 rfl) rfl
theorem q1420 : (Jvm.Cond.sameMethod "RankEntry$Op" "RankEntry$Op" "jumps" "()Z") ∈ lw_all := lw_g (lw_at lw_m6 162 rfl) rfl
theorem q1456 : (Jvm.Cond.code ({ cls := "RankEntry$Op", name := "jumps", desc := "()Z" } : Jvm.MethodName) prog_15_method_7_code (1 : Nat) (Option.some Jvm.ClassFile.FieldType.boolean)) ∈ lw_all := lw_g (lw_at lw_m6 198 rfl) rfl
theorem q1469 : (Jvm.Cond.instanceMethod ({ cls := "RankEntry$Op", name := "pushes", desc := "()I" } : Jvm.MethodName)) ∈ lw_all := lw_g (lw_at lw_m6 211 rfl) rfl
theorem q1470 : (Jvm.Cond.sameMethod "RankEntry$Op" "RankEntry$Op" "pushes" "()I") ∈ lw_all := lw_g (lw_at lw_m6 212 rfl) rfl
theorem q1504 : (Jvm.Cond.code ({ cls := "RankEntry$Op", name := "pushes", desc := "()I" } : Jvm.MethodName) prog_15_method_9_code (1 : Nat) (Option.some Jvm.ClassFile.FieldType.int)) ∈ lw_all := lw_g (lw_at lw_m7 6 rfl) rfl
theorem q2249 : (Jvm.Cond.laysStatic "RankEntry$Op" "SET" "LRankEntry$Op;") ∈ lw_tbl := lw_at lw_m10 31 rfl
theorem q2250 : (Jvm.Cond.laysStatic "RankEntry$Op" "ADD" "LRankEntry$Op;") ∈ lw_tbl := lw_at lw_m10 32 rfl
theorem q2251 : (Jvm.Cond.laysStatic "RankEntry$Op" "SUB" "LRankEntry$Op;") ∈ lw_tbl := lw_at lw_m10 33 rfl
theorem q2252 : (Jvm.Cond.laysStatic "RankEntry$Op" "MUL" "LRankEntry$Op;") ∈ lw_tbl := lw_at lw_m10 34 rfl
theorem q2253 : (Jvm.Cond.laysStatic "RankEntry$Op" "DIV" "LRankEntry$Op;") ∈ lw_tbl := lw_at lw_m10 35 rfl
theorem q2254 : (Jvm.Cond.laysStatic "RankEntry$Op" "XOR" "LRankEntry$Op;") ∈ lw_tbl := lw_at lw_m10 36 rfl
theorem q2255 : (Jvm.Cond.laysStatic "RankEntry$Op" "SHIFT" "LRankEntry$Op;") ∈ lw_tbl := lw_at lw_m10 37 rfl
theorem q2256 : (Jvm.Cond.laysStatic "RankEntry$Op" "MOVE" "LRankEntry$Op;") ∈ lw_tbl := lw_at lw_m10 38 rfl
theorem q2257 : (Jvm.Cond.laysStatic "RankEntry$Op" "PUSH" "LRankEntry$Op;") ∈ lw_tbl := lw_at lw_m10 39 rfl
theorem q2258 : (Jvm.Cond.laysStatic "RankEntry$Op" "POP" "LRankEntry$Op;") ∈ lw_tbl := lw_at lw_m10 40 rfl
theorem q2259 : (Jvm.Cond.laysStatic "RankEntry$Op" "JUMP" "LRankEntry$Op;") ∈ lw_tbl := lw_at lw_m10 41 rfl
theorem q2260 : (Jvm.Cond.laysStatic "RankEntry$Op" "ZERO" "LRankEntry$Op;") ∈ lw_tbl := lw_at lw_m10 42 rfl
theorem q2261 : (Jvm.Cond.laysStatic "RankEntry$Op" "LESS" "LRankEntry$Op;") ∈ lw_tbl := lw_at lw_m10 43 rfl
theorem q2262 : (Jvm.Cond.laysStatic "RankEntry$Op" "PEND" "LRankEntry$Op;") ∈ lw_tbl := lw_at lw_m10 44 rfl
theorem q2263 : (Jvm.Cond.laysStatic "RankEntry$Op" "DROP" "LRankEntry$Op;") ∈ lw_tbl := lw_at lw_m10 45 rfl
theorem q2264 : (Jvm.Cond.laysStatic "RankEntry$Op" "SHUT" "LRankEntry$Op;") ∈ lw_tbl := lw_at lw_m10 46 rfl
theorem q2265 : (Jvm.Cond.laysStatic "RankEntry$Op" "BASE" "LRankEntry$Op;") ∈ lw_tbl := lw_at lw_m10 47 rfl
theorem q2266 : (Jvm.Cond.laysStatic "RankEntry$Op" "RETURN" "LRankEntry$Op;") ∈ lw_tbl := lw_at lw_m10 48 rfl
theorem q2267 : (Jvm.Cond.laysStatic "RankEntry$Op" "WAIT" "LRankEntry$Op;") ∈ lw_tbl := lw_at lw_m10 49 rfl
theorem q2268 : (Jvm.Cond.laysStatic "RankEntry$Op" "REAL" "LRankEntry$Op;") ∈ lw_tbl := lw_at lw_m10 50 rfl
theorem q2269 : (Jvm.Cond.laysStatic "RankEntry$Op" "PLUS" "LRankEntry$Op;") ∈ lw_tbl := lw_at lw_m10 51 rfl
theorem q2270 : (Jvm.Cond.laysStatic "RankEntry$Op" "TIMES" "LRankEntry$Op;") ∈ lw_tbl := lw_at lw_m10 52 rfl
theorem q2271 : (Jvm.Cond.laysStatic "RankEntry$Op" "CUT" "LRankEntry$Op;") ∈ lw_tbl := lw_at lw_m10 53 rfl
theorem q2272 : (Jvm.Cond.laysStatic "RankEntry$Op" "WHOLE" "LRankEntry$Op;") ∈ lw_tbl := lw_at lw_m10 54 rfl
theorem q2273 : (Jvm.Cond.laysStatic "RankEntry$Op" "RANK" "LRankEntry$Op;") ∈ lw_tbl := lw_at lw_m10 55 rfl
theorem q2274 : (Jvm.Cond.laysStatic "RankEntry$Op" "SKIP" "LRankEntry$Op;") ∈ lw_tbl := lw_at lw_m10 56 rfl
theorem q2275 : (Jvm.Cond.laysStatic "RankEntry$Op" "OUT" "LRankEntry$Op;") ∈ lw_tbl := lw_at lw_m10 57 rfl
theorem q2276 : (Jvm.Cond.laysStatic "RankEntry$Op" "LOAD" "LRankEntry$Op;") ∈ lw_tbl := lw_at lw_m10 58 rfl
theorem q2277 : (Jvm.Cond.laysStatic "RankEntry$Op" "KEEP" "LRankEntry$Op;") ∈ lw_tbl := lw_at lw_m10 59 rfl
/-! RankEntry$Ways -/
set_option maxRecDepth 100000
def RX19 : String := "RankEntry$Ways"
def TX19 : u_T := fun k => match k with
  | 0 => ("RankEntry$Ways", "code", "LRankEntry$Code;", true)
  | 1 => ("RankEntry$Ways", "costs", "[I", true)
  | 2 => ("RankEntry$Ways", "pushes", "[I", true)
  | 3 => ("RankEntry$Ways", "gone", "[I", true)
  | 4 => ("RankEntry$Ways", "path", "[I", true)
  | _ => ("RankEntry$Ways", "depth", "I", false)
def tyX19 : Nat → FieldType := fun k => match k with
  | 0 => .object "RankEntry$Code"
  | 1 => .array .int
  | 2 => .array .int
  | 3 => .array .int
  | 4 => .array .int
  | _ => .int
abbrev wsX190 : List Cond := u_ws RX19 TX19 6
theorem nmX19 : ∀ a, a < 6 → ∀ b, b < 6 → a ≠ b → (TX19 a).2.1 ≠ (TX19 b).2.1 := by decide +kernel
theorem tyX19_ok : ∀ k, k < 6 → parseFieldDescriptor (TX19 k).2.2.1 = some (tyX19 k) := by decide +kernel
abbrev cX19_init : ByteArray := prog_50_method_1_code
def yX19_init : MethodName := ⟨RX19, "<init>", "(LRankEntry$Code;)V"⟩
def dkwX19_init_1 : List UInt8 := [17, 2, 0, 188, 10, 181, 0, 18, 42, 17, 2, 0, 188, 10, 181, 0, 21, 42, 43, 181, 0, 24, 177]
abbrev dktX19_init_1 : List UInt8 := dkwX19_init_1 ++ []
def dkwX19_init_0 : List UInt8 := [42, 183, 0, 3, 42, 17, 2, 0, 188, 10, 181, 0, 9, 42, 17, 2, 0, 188, 10, 181, 0, 15, 42]
abbrev dktX19_init_0 : List UInt8 := dkwX19_init_0 ++ dktX19_init_1
theorem dksX19_init_0 : cX19_init.data.toList.drop 0 = dktX19_init_0 := by decide +kernel
theorem dksX19_init_1 : cX19_init.data.toList.drop 23 = dktX19_init_1 := dk_seg dksX19_init_0 23 rfl rfl
theorem dX19_init_0 : decode cX19_init 0 = .ok (.aload_n 0, 1) := dk_42 (dk_at dksX19_init_0 0 rfl rfl)
theorem dX19_init_1 : decode cX19_init 1 = .ok (.invokespecial 3, 3) := dk_183 0 3 (dk_at dksX19_init_0 1 rfl rfl)
theorem dX19_init_4 : decode cX19_init 4 = .ok (.aload_n 0, 1) := dk_42 (dk_at dksX19_init_0 4 rfl rfl)
theorem dX19_init_5 : decode cX19_init 5 = .ok (.sipush 512, 3) := dk_17 2 0 (dk_at dksX19_init_0 5 rfl rfl)
theorem dX19_init_8 : decode cX19_init 8 = .ok (.newarray .int, 2) := dk_188_10 (dk_at dksX19_init_0 8 rfl rfl)
theorem dX19_init_10 : decode cX19_init 10 = .ok (.putfield 9, 3) := dk_181 0 9 (dk_at dksX19_init_0 10 rfl rfl)
theorem dX19_init_13 : decode cX19_init 13 = .ok (.aload_n 0, 1) := dk_42 (dk_at dksX19_init_0 13 rfl rfl)
theorem dX19_init_14 : decode cX19_init 14 = .ok (.sipush 512, 3) := dk_17 2 0 (dk_at dksX19_init_0 14 rfl rfl)
theorem dX19_init_17 : decode cX19_init 17 = .ok (.newarray .int, 2) := dk_188_10 (dk_at dksX19_init_0 17 rfl rfl)
theorem dX19_init_19 : decode cX19_init 19 = .ok (.putfield 15, 3) := dk_181 0 15 (dk_at dksX19_init_0 19 rfl rfl)
theorem dX19_init_22 : decode cX19_init 22 = .ok (.aload_n 0, 1) := dk_42 (dk_at dksX19_init_0 22 rfl rfl)
theorem dX19_init_23 : decode cX19_init 23 = .ok (.sipush 512, 3) := dk_17 2 0 (dk_at dksX19_init_1 0 rfl rfl)
theorem dX19_init_26 : decode cX19_init 26 = .ok (.newarray .int, 2) := dk_188_10 (dk_at dksX19_init_1 3 rfl rfl)
theorem dX19_init_28 : decode cX19_init 28 = .ok (.putfield 18, 3) := dk_181 0 18 (dk_at dksX19_init_1 5 rfl rfl)
theorem dX19_init_31 : decode cX19_init 31 = .ok (.aload_n 0, 1) := dk_42 (dk_at dksX19_init_1 8 rfl rfl)
theorem dX19_init_32 : decode cX19_init 32 = .ok (.sipush 512, 3) := dk_17 2 0 (dk_at dksX19_init_1 9 rfl rfl)
theorem dX19_init_35 : decode cX19_init 35 = .ok (.newarray .int, 2) := dk_188_10 (dk_at dksX19_init_1 12 rfl rfl)
theorem dX19_init_37 : decode cX19_init 37 = .ok (.putfield 21, 3) := dk_181 0 21 (dk_at dksX19_init_1 14 rfl rfl)
theorem dX19_init_40 : decode cX19_init 40 = .ok (.aload_n 0, 1) := dk_42 (dk_at dksX19_init_1 17 rfl rfl)
theorem dX19_init_41 : decode cX19_init 41 = .ok (.aload_n 1, 1) := dk_43 (dk_at dksX19_init_1 18 rfl rfl)
theorem dX19_init_42 : decode cX19_init 42 = .ok (.putfield 24, 3) := dk_181 0 24 (dk_at dksX19_init_1 19 rfl rfl)
theorem dX19_init_45 : decode cX19_init 45 = .ok (.return_, 1) := dk_177 (dk_at dksX19_init_1 22 rfl rfl)
abbrev cX19_end : ByteArray := prog_50_method_3_code
def yX19_end : MethodName := ⟨RX19, "end", "(I)Z"⟩
def dkwX19_end_6 : List UInt8 := [180, 0, 18, 21, 4, 46, 16, 9, 159, 0, 5, 3, 172, 167, 255, 133, 4, 172]
abbrev dktX19_end_6 : List UInt8 := dkwX19_end_6 ++ []
def dkwX19_end_5 : List UInt8 := [79, 42, 180, 0, 18, 21, 4, 46, 2, 160, 0, 12, 42, 21, 4, 182, 0, 32, 167, 0, 17, 42]
abbrev dktX19_end_5 : List UInt8 := dkwX19_end_5 ++ dktX19_end_6
def dkwX19_end_4 : List UInt8 := [180, 0, 24, 28, 42, 180, 0, 18, 28, 46, 182, 0, 56, 54, 4, 42, 180, 0, 18, 28, 92, 46, 4, 96]
abbrev dktX19_end_4 : List UInt8 := dkwX19_end_4 ++ dktX19_end_5
def dkwX19_end_3 : List UInt8 := [172, 42, 180, 0, 18, 28, 46, 45, 182, 0, 48, 160, 0, 12, 42, 28, 45, 182, 0, 52, 167, 0, 63, 42]
abbrev dktX19_end_3 : List UInt8 := dkwX19_end_3 ++ dktX19_end_4
def dkwX19_end_2 : List UInt8 := [100, 46, 61, 42, 180, 0, 24, 28, 182, 0, 36, 78, 45, 198, 0, 10, 45, 182, 0, 42, 153, 0, 5, 3]
abbrev dktX19_end_2 : List UInt8 := dkwX19_end_2 ++ dktX19_end_3
def dkwX19_end_1 : List UInt8 := [181, 0, 28, 42, 27, 182, 0, 32, 42, 180, 0, 28, 158, 0, 122, 42, 180, 0, 21, 42, 180, 0, 28, 4]
abbrev dktX19_end_1 : List UInt8 := dkwX19_end_1 ++ dktX19_end_2
def dkwX19_end_0 : List UInt8 := [3, 61, 28, 17, 2, 0, 162, 0, 16, 42, 180, 0, 18, 28, 2, 79, 132, 2, 1, 167, 255, 239, 42, 3]
abbrev dktX19_end_0 : List UInt8 := dkwX19_end_0 ++ dktX19_end_1
theorem dksX19_end_0 : cX19_end.data.toList.drop 0 = dktX19_end_0 := by decide +kernel
theorem dksX19_end_1 : cX19_end.data.toList.drop 24 = dktX19_end_1 := dk_seg dksX19_end_0 24 rfl rfl
theorem dksX19_end_2 : cX19_end.data.toList.drop 48 = dktX19_end_2 := dk_seg dksX19_end_1 24 rfl rfl
theorem dksX19_end_3 : cX19_end.data.toList.drop 72 = dktX19_end_3 := dk_seg dksX19_end_2 24 rfl rfl
theorem dksX19_end_4 : cX19_end.data.toList.drop 96 = dktX19_end_4 := dk_seg dksX19_end_3 24 rfl rfl
theorem dksX19_end_5 : cX19_end.data.toList.drop 120 = dktX19_end_5 := dk_seg dksX19_end_4 24 rfl rfl
theorem dksX19_end_6 : cX19_end.data.toList.drop 142 = dktX19_end_6 := dk_seg dksX19_end_5 22 rfl rfl
theorem dX19_end_0 : decode cX19_end 0 = .ok (.iconst 0, 1) := dk_3 (dk_at dksX19_end_0 0 rfl rfl)
theorem dX19_end_1 : decode cX19_end 1 = .ok (.istore_n 2, 1) := dk_61 (dk_at dksX19_end_0 1 rfl rfl)
theorem dX19_end_2 : decode cX19_end 2 = .ok (.iload_n 2, 1) := dk_28 (dk_at dksX19_end_0 2 rfl rfl)
theorem dX19_end_3 : decode cX19_end 3 = .ok (.sipush 512, 3) := dk_17 2 0 (dk_at dksX19_end_0 3 rfl rfl)
theorem dX19_end_6 : decode cX19_end 6 = .ok (.if_icmp .ge 16, 3) := dk_162 0 16 (dk_at dksX19_end_0 6 rfl rfl)
theorem dX19_end_9 : decode cX19_end 9 = .ok (.aload_n 0, 1) := dk_42 (dk_at dksX19_end_0 9 rfl rfl)
theorem dX19_end_10 : decode cX19_end 10 = .ok (.getfield 18, 3) := dk_180 0 18 (dk_at dksX19_end_0 10 rfl rfl)
theorem dX19_end_13 : decode cX19_end 13 = .ok (.iload_n 2, 1) := dk_28 (dk_at dksX19_end_0 13 rfl rfl)
theorem dX19_end_14 : decode cX19_end 14 = .ok (.iconst (-1), 1) := dk_2 (dk_at dksX19_end_0 14 rfl rfl)
theorem dX19_end_15 : decode cX19_end 15 = .ok (.iastore, 1) := dk_79 (dk_at dksX19_end_0 15 rfl rfl)
theorem dX19_end_16 : decode cX19_end 16 = .ok (.iinc 2 1, 3) := dk_132 2 1 (dk_at dksX19_end_0 16 rfl rfl)
theorem dX19_end_19 : decode cX19_end 19 = .ok (.goto (-17), 3) := dk_167 255 239 (dk_at dksX19_end_0 19 rfl rfl)
theorem dX19_end_22 : decode cX19_end 22 = .ok (.aload_n 0, 1) := dk_42 (dk_at dksX19_end_0 22 rfl rfl)
theorem dX19_end_23 : decode cX19_end 23 = .ok (.iconst 0, 1) := dk_3 (dk_at dksX19_end_0 23 rfl rfl)
theorem dX19_end_24 : decode cX19_end 24 = .ok (.putfield 28, 3) := dk_181 0 28 (dk_at dksX19_end_1 0 rfl rfl)
theorem dX19_end_27 : decode cX19_end 27 = .ok (.aload_n 0, 1) := dk_42 (dk_at dksX19_end_1 3 rfl rfl)
theorem dX19_end_28 : decode cX19_end 28 = .ok (.iload_n 1, 1) := dk_27 (dk_at dksX19_end_1 4 rfl rfl)
theorem dX19_end_29 : decode cX19_end 29 = .ok (.invokevirtual 32, 3) := dk_182 0 32 (dk_at dksX19_end_1 5 rfl rfl)
theorem dX19_end_32 : decode cX19_end 32 = .ok (.aload_n 0, 1) := dk_42 (dk_at dksX19_end_1 8 rfl rfl)
theorem dX19_end_33 : decode cX19_end 33 = .ok (.getfield 28, 3) := dk_180 0 28 (dk_at dksX19_end_1 9 rfl rfl)
theorem dX19_end_36 : decode cX19_end 36 = .ok (.ifCond .le 122, 3) := dk_158 0 122 (dk_at dksX19_end_1 12 rfl rfl)
theorem dX19_end_39 : decode cX19_end 39 = .ok (.aload_n 0, 1) := dk_42 (dk_at dksX19_end_1 15 rfl rfl)
theorem dX19_end_40 : decode cX19_end 40 = .ok (.getfield 21, 3) := dk_180 0 21 (dk_at dksX19_end_1 16 rfl rfl)
theorem dX19_end_43 : decode cX19_end 43 = .ok (.aload_n 0, 1) := dk_42 (dk_at dksX19_end_1 19 rfl rfl)
theorem dX19_end_44 : decode cX19_end 44 = .ok (.getfield 28, 3) := dk_180 0 28 (dk_at dksX19_end_1 20 rfl rfl)
theorem dX19_end_47 : decode cX19_end 47 = .ok (.iconst 1, 1) := dk_4 (dk_at dksX19_end_1 23 rfl rfl)
theorem dX19_end_48 : decode cX19_end 48 = .ok (.isub, 1) := dk_100 (dk_at dksX19_end_2 0 rfl rfl)
theorem dX19_end_49 : decode cX19_end 49 = .ok (.iaload, 1) := dk_46 (dk_at dksX19_end_2 1 rfl rfl)
theorem dX19_end_50 : decode cX19_end 50 = .ok (.istore_n 2, 1) := dk_61 (dk_at dksX19_end_2 2 rfl rfl)
theorem dX19_end_51 : decode cX19_end 51 = .ok (.aload_n 0, 1) := dk_42 (dk_at dksX19_end_2 3 rfl rfl)
theorem dX19_end_52 : decode cX19_end 52 = .ok (.getfield 24, 3) := dk_180 0 24 (dk_at dksX19_end_2 4 rfl rfl)
theorem dX19_end_55 : decode cX19_end 55 = .ok (.iload_n 2, 1) := dk_28 (dk_at dksX19_end_2 7 rfl rfl)
theorem dX19_end_56 : decode cX19_end 56 = .ok (.invokevirtual 36, 3) := dk_182 0 36 (dk_at dksX19_end_2 8 rfl rfl)
theorem dX19_end_59 : decode cX19_end 59 = .ok (.astore_n 3, 1) := dk_78 (dk_at dksX19_end_2 11 rfl rfl)
theorem dX19_end_60 : decode cX19_end 60 = .ok (.aload_n 3, 1) := dk_45 (dk_at dksX19_end_2 12 rfl rfl)
theorem dX19_end_61 : decode cX19_end 61 = .ok (.ifnull 10, 3) := dk_198 0 10 (dk_at dksX19_end_2 13 rfl rfl)
theorem dX19_end_64 : decode cX19_end 64 = .ok (.aload_n 3, 1) := dk_45 (dk_at dksX19_end_2 16 rfl rfl)
theorem dX19_end_65 : decode cX19_end 65 = .ok (.invokevirtual 42, 3) := dk_182 0 42 (dk_at dksX19_end_2 17 rfl rfl)
theorem dX19_end_68 : decode cX19_end 68 = .ok (.ifCond .eq 5, 3) := dk_153 0 5 (dk_at dksX19_end_2 20 rfl rfl)
theorem dX19_end_71 : decode cX19_end 71 = .ok (.iconst 0, 1) := dk_3 (dk_at dksX19_end_2 23 rfl rfl)
theorem dX19_end_72 : decode cX19_end 72 = .ok (.ireturn, 1) := dk_172 (dk_at dksX19_end_3 0 rfl rfl)
theorem dX19_end_73 : decode cX19_end 73 = .ok (.aload_n 0, 1) := dk_42 (dk_at dksX19_end_3 1 rfl rfl)
theorem dX19_end_74 : decode cX19_end 74 = .ok (.getfield 18, 3) := dk_180 0 18 (dk_at dksX19_end_3 2 rfl rfl)
theorem dX19_end_77 : decode cX19_end 77 = .ok (.iload_n 2, 1) := dk_28 (dk_at dksX19_end_3 5 rfl rfl)
theorem dX19_end_78 : decode cX19_end 78 = .ok (.iaload, 1) := dk_46 (dk_at dksX19_end_3 6 rfl rfl)
theorem dX19_end_79 : decode cX19_end 79 = .ok (.aload_n 3, 1) := dk_45 (dk_at dksX19_end_3 7 rfl rfl)
theorem dX19_end_80 : decode cX19_end 80 = .ok (.invokevirtual 48, 3) := dk_182 0 48 (dk_at dksX19_end_3 8 rfl rfl)
theorem dX19_end_83 : decode cX19_end 83 = .ok (.if_icmp .ne 12, 3) := dk_160 0 12 (dk_at dksX19_end_3 11 rfl rfl)
theorem dX19_end_86 : decode cX19_end 86 = .ok (.aload_n 0, 1) := dk_42 (dk_at dksX19_end_3 14 rfl rfl)
theorem dX19_end_87 : decode cX19_end 87 = .ok (.iload_n 2, 1) := dk_28 (dk_at dksX19_end_3 15 rfl rfl)
theorem dX19_end_88 : decode cX19_end 88 = .ok (.aload_n 3, 1) := dk_45 (dk_at dksX19_end_3 16 rfl rfl)
theorem dX19_end_89 : decode cX19_end 89 = .ok (.invokevirtual 52, 3) := dk_182 0 52 (dk_at dksX19_end_3 17 rfl rfl)
theorem dX19_end_92 : decode cX19_end 92 = .ok (.goto 63, 3) := dk_167 0 63 (dk_at dksX19_end_3 20 rfl rfl)
theorem dX19_end_95 : decode cX19_end 95 = .ok (.aload_n 0, 1) := dk_42 (dk_at dksX19_end_3 23 rfl rfl)
theorem dX19_end_96 : decode cX19_end 96 = .ok (.getfield 24, 3) := dk_180 0 24 (dk_at dksX19_end_4 0 rfl rfl)
theorem dX19_end_99 : decode cX19_end 99 = .ok (.iload_n 2, 1) := dk_28 (dk_at dksX19_end_4 3 rfl rfl)
theorem dX19_end_100 : decode cX19_end 100 = .ok (.aload_n 0, 1) := dk_42 (dk_at dksX19_end_4 4 rfl rfl)
theorem dX19_end_101 : decode cX19_end 101 = .ok (.getfield 18, 3) := dk_180 0 18 (dk_at dksX19_end_4 5 rfl rfl)
theorem dX19_end_104 : decode cX19_end 104 = .ok (.iload_n 2, 1) := dk_28 (dk_at dksX19_end_4 8 rfl rfl)
theorem dX19_end_105 : decode cX19_end 105 = .ok (.iaload, 1) := dk_46 (dk_at dksX19_end_4 9 rfl rfl)
theorem dX19_end_106 : decode cX19_end 106 = .ok (.invokevirtual 56, 3) := dk_182 0 56 (dk_at dksX19_end_4 10 rfl rfl)
theorem dX19_end_109 : decode cX19_end 109 = .ok (.istore 4, 2) := dk_54 4 (dk_at dksX19_end_4 13 rfl rfl)
theorem dX19_end_111 : decode cX19_end 111 = .ok (.aload_n 0, 1) := dk_42 (dk_at dksX19_end_4 15 rfl rfl)
theorem dX19_end_112 : decode cX19_end 112 = .ok (.getfield 18, 3) := dk_180 0 18 (dk_at dksX19_end_4 16 rfl rfl)
theorem dX19_end_115 : decode cX19_end 115 = .ok (.iload_n 2, 1) := dk_28 (dk_at dksX19_end_4 19 rfl rfl)
theorem dX19_end_116 : decode cX19_end 116 = .ok (.dup2, 1) := dk_92 (dk_at dksX19_end_4 20 rfl rfl)
theorem dX19_end_117 : decode cX19_end 117 = .ok (.iaload, 1) := dk_46 (dk_at dksX19_end_4 21 rfl rfl)
theorem dX19_end_118 : decode cX19_end 118 = .ok (.iconst 1, 1) := dk_4 (dk_at dksX19_end_4 22 rfl rfl)
theorem dX19_end_119 : decode cX19_end 119 = .ok (.iadd, 1) := dk_96 (dk_at dksX19_end_4 23 rfl rfl)
theorem dX19_end_120 : decode cX19_end 120 = .ok (.iastore, 1) := dk_79 (dk_at dksX19_end_5 0 rfl rfl)
theorem dX19_end_121 : decode cX19_end 121 = .ok (.aload_n 0, 1) := dk_42 (dk_at dksX19_end_5 1 rfl rfl)
theorem dX19_end_122 : decode cX19_end 122 = .ok (.getfield 18, 3) := dk_180 0 18 (dk_at dksX19_end_5 2 rfl rfl)
theorem dX19_end_125 : decode cX19_end 125 = .ok (.iload 4, 2) := dk_21 4 (dk_at dksX19_end_5 5 rfl rfl)
theorem dX19_end_127 : decode cX19_end 127 = .ok (.iaload, 1) := dk_46 (dk_at dksX19_end_5 7 rfl rfl)
theorem dX19_end_128 : decode cX19_end 128 = .ok (.iconst (-1), 1) := dk_2 (dk_at dksX19_end_5 8 rfl rfl)
theorem dX19_end_129 : decode cX19_end 129 = .ok (.if_icmp .ne 12, 3) := dk_160 0 12 (dk_at dksX19_end_5 9 rfl rfl)
theorem dX19_end_132 : decode cX19_end 132 = .ok (.aload_n 0, 1) := dk_42 (dk_at dksX19_end_5 12 rfl rfl)
theorem dX19_end_133 : decode cX19_end 133 = .ok (.iload 4, 2) := dk_21 4 (dk_at dksX19_end_5 13 rfl rfl)
theorem dX19_end_135 : decode cX19_end 135 = .ok (.invokevirtual 32, 3) := dk_182 0 32 (dk_at dksX19_end_5 15 rfl rfl)
theorem dX19_end_138 : decode cX19_end 138 = .ok (.goto 17, 3) := dk_167 0 17 (dk_at dksX19_end_5 18 rfl rfl)
theorem dX19_end_141 : decode cX19_end 141 = .ok (.aload_n 0, 1) := dk_42 (dk_at dksX19_end_5 21 rfl rfl)
theorem dX19_end_142 : decode cX19_end 142 = .ok (.getfield 18, 3) := dk_180 0 18 (dk_at dksX19_end_6 0 rfl rfl)
theorem dX19_end_145 : decode cX19_end 145 = .ok (.iload 4, 2) := dk_21 4 (dk_at dksX19_end_6 3 rfl rfl)
theorem dX19_end_147 : decode cX19_end 147 = .ok (.iaload, 1) := dk_46 (dk_at dksX19_end_6 5 rfl rfl)
theorem dX19_end_148 : decode cX19_end 148 = .ok (.bipush 9, 2) := dk_16 9 (dk_at dksX19_end_6 6 rfl rfl)
theorem dX19_end_150 : decode cX19_end 150 = .ok (.if_icmp .eq 5, 3) := dk_159 0 5 (dk_at dksX19_end_6 8 rfl rfl)
theorem dX19_end_153 : decode cX19_end 153 = .ok (.iconst 0, 1) := dk_3 (dk_at dksX19_end_6 11 rfl rfl)
theorem dX19_end_154 : decode cX19_end 154 = .ok (.ireturn, 1) := dk_172 (dk_at dksX19_end_6 12 rfl rfl)
theorem dX19_end_155 : decode cX19_end 155 = .ok (.goto (-123), 3) := dk_167 255 133 (dk_at dksX19_end_6 13 rfl rfl)
theorem dX19_end_158 : decode cX19_end 158 = .ok (.iconst 1, 1) := dk_4 (dk_at dksX19_end_6 16 rfl rfl)
theorem dX19_end_159 : decode cX19_end 159 = .ok (.ireturn, 1) := dk_172 (dk_at dksX19_end_6 17 rfl rfl)
abbrev cX19_enters : ByteArray := prog_50_method_2_code
def yX19_enters : MethodName := ⟨RX19, "enters", "(I)V"⟩
def dkwX19_enters_1 : List UInt8 := [181, 0, 28, 177]
abbrev dktX19_enters_1 : List UInt8 := dkwX19_enters_1 ++ []
def dkwX19_enters_0 : List UInt8 := [42, 180, 0, 18, 27, 3, 79, 42, 180, 0, 21, 42, 180, 0, 28, 27, 79, 42, 89, 180, 0, 28, 4, 96]
abbrev dktX19_enters_0 : List UInt8 := dkwX19_enters_0 ++ dktX19_enters_1
theorem dksX19_enters_0 : cX19_enters.data.toList.drop 0 = dktX19_enters_0 := by decide +kernel
theorem dksX19_enters_1 : cX19_enters.data.toList.drop 24 = dktX19_enters_1 := dk_seg dksX19_enters_0 24 rfl rfl
theorem dX19_enters_0 : decode cX19_enters 0 = .ok (.aload_n 0, 1) := dk_42 (dk_at dksX19_enters_0 0 rfl rfl)
theorem dX19_enters_1 : decode cX19_enters 1 = .ok (.getfield 18, 3) := dk_180 0 18 (dk_at dksX19_enters_0 1 rfl rfl)
theorem dX19_enters_4 : decode cX19_enters 4 = .ok (.iload_n 1, 1) := dk_27 (dk_at dksX19_enters_0 4 rfl rfl)
theorem dX19_enters_5 : decode cX19_enters 5 = .ok (.iconst 0, 1) := dk_3 (dk_at dksX19_enters_0 5 rfl rfl)
theorem dX19_enters_6 : decode cX19_enters 6 = .ok (.iastore, 1) := dk_79 (dk_at dksX19_enters_0 6 rfl rfl)
theorem dX19_enters_7 : decode cX19_enters 7 = .ok (.aload_n 0, 1) := dk_42 (dk_at dksX19_enters_0 7 rfl rfl)
theorem dX19_enters_8 : decode cX19_enters 8 = .ok (.getfield 21, 3) := dk_180 0 21 (dk_at dksX19_enters_0 8 rfl rfl)
theorem dX19_enters_11 : decode cX19_enters 11 = .ok (.aload_n 0, 1) := dk_42 (dk_at dksX19_enters_0 11 rfl rfl)
theorem dX19_enters_12 : decode cX19_enters 12 = .ok (.getfield 28, 3) := dk_180 0 28 (dk_at dksX19_enters_0 12 rfl rfl)
theorem dX19_enters_15 : decode cX19_enters 15 = .ok (.iload_n 1, 1) := dk_27 (dk_at dksX19_enters_0 15 rfl rfl)
theorem dX19_enters_16 : decode cX19_enters 16 = .ok (.iastore, 1) := dk_79 (dk_at dksX19_enters_0 16 rfl rfl)
theorem dX19_enters_17 : decode cX19_enters 17 = .ok (.aload_n 0, 1) := dk_42 (dk_at dksX19_enters_0 17 rfl rfl)
theorem dX19_enters_18 : decode cX19_enters 18 = .ok (.dup, 1) := dk_89 (dk_at dksX19_enters_0 18 rfl rfl)
theorem dX19_enters_19 : decode cX19_enters 19 = .ok (.getfield 28, 3) := dk_180 0 28 (dk_at dksX19_enters_0 19 rfl rfl)
theorem dX19_enters_22 : decode cX19_enters 22 = .ok (.iconst 1, 1) := dk_4 (dk_at dksX19_enters_0 22 rfl rfl)
theorem dX19_enters_23 : decode cX19_enters 23 = .ok (.iadd, 1) := dk_96 (dk_at dksX19_enters_0 23 rfl rfl)
theorem dX19_enters_24 : decode cX19_enters 24 = .ok (.putfield 28, 3) := dk_181 0 28 (dk_at dksX19_enters_1 0 rfl rfl)
theorem dX19_enters_27 : decode cX19_enters 27 = .ok (.return_, 1) := dk_177 (dk_at dksX19_enters_1 3 rfl rfl)
abbrev cX19_leaves : ByteArray := prog_50_method_4_code
def yX19_leaves : MethodName := ⟨RX19, "leaves", "(ILRankEntry$Op;)V"⟩
def dkwX19_leaves_5 : List UInt8 := [167, 0, 4, 3, 79, 42, 180, 0, 18, 27, 16, 9, 79, 42, 89, 180, 0, 28, 4, 100, 181, 0, 28, 177]
abbrev dktX19_leaves_5 : List UInt8 := dkwX19_leaves_5 ++ []
def dkwX19_leaves_4 : List UInt8 := [79, 42, 180, 0, 15, 27, 21, 4, 44, 182, 0, 63, 96, 158, 0, 13, 21, 4, 44, 182, 0, 63, 96]
abbrev dktX19_leaves_4 : List UInt8 := dkwX19_leaves_4 ++ dktX19_leaves_5
def dkwX19_leaves_3 : List UInt8 := [167, 0, 5, 21, 4, 54, 4, 132, 5, 1, 167, 255, 183, 42, 180, 0, 9, 27, 29, 44, 180, 0, 60, 96]
abbrev dktX19_leaves_3 : List UInt8 := dkwX19_leaves_3 ++ dktX19_leaves_4
def dkwX19_leaves_2 : List UInt8 := [167, 0, 4, 29, 62, 42, 180, 0, 15, 21, 6, 46, 21, 4, 164, 0, 13, 42, 180, 0, 15, 21, 6, 46]
abbrev dktX19_leaves_2 : List UInt8 := dkwX19_leaves_2 ++ dktX19_leaves_3
def dkwX19_leaves_1 : List UInt8 := [182, 0, 56, 54, 6, 42, 180, 0, 9, 21, 6, 46, 29, 164, 0, 13, 42, 180, 0, 9, 21, 6, 46]
abbrev dktX19_leaves_1 : List UInt8 := dkwX19_leaves_1 ++ dktX19_leaves_2
def dkwX19_leaves_0 : List UInt8 := [3, 62, 3, 54, 4, 3, 54, 5, 21, 5, 44, 182, 0, 48, 162, 0, 70, 42, 180, 0, 24, 27, 21, 5]
abbrev dktX19_leaves_0 : List UInt8 := dkwX19_leaves_0 ++ dktX19_leaves_1
theorem dksX19_leaves_0 : cX19_leaves.data.toList.drop 0 = dktX19_leaves_0 := by decide +kernel
theorem dksX19_leaves_1 : cX19_leaves.data.toList.drop 24 = dktX19_leaves_1 := dk_seg dksX19_leaves_0 24 rfl rfl
theorem dksX19_leaves_2 : cX19_leaves.data.toList.drop 47 = dktX19_leaves_2 := dk_seg dksX19_leaves_1 23 rfl rfl
theorem dksX19_leaves_3 : cX19_leaves.data.toList.drop 71 = dktX19_leaves_3 := dk_seg dksX19_leaves_2 24 rfl rfl
theorem dksX19_leaves_4 : cX19_leaves.data.toList.drop 95 = dktX19_leaves_4 := dk_seg dksX19_leaves_3 24 rfl rfl
theorem dksX19_leaves_5 : cX19_leaves.data.toList.drop 118 = dktX19_leaves_5 := dk_seg dksX19_leaves_4 23 rfl rfl
theorem dX19_leaves_0 : decode cX19_leaves 0 = .ok (.iconst 0, 1) := dk_3 (dk_at dksX19_leaves_0 0 rfl rfl)
theorem dX19_leaves_1 : decode cX19_leaves 1 = .ok (.istore_n 3, 1) := dk_62 (dk_at dksX19_leaves_0 1 rfl rfl)
theorem dX19_leaves_2 : decode cX19_leaves 2 = .ok (.iconst 0, 1) := dk_3 (dk_at dksX19_leaves_0 2 rfl rfl)
theorem dX19_leaves_3 : decode cX19_leaves 3 = .ok (.istore 4, 2) := dk_54 4 (dk_at dksX19_leaves_0 3 rfl rfl)
theorem dX19_leaves_5 : decode cX19_leaves 5 = .ok (.iconst 0, 1) := dk_3 (dk_at dksX19_leaves_0 5 rfl rfl)
theorem dX19_leaves_6 : decode cX19_leaves 6 = .ok (.istore 5, 2) := dk_54 5 (dk_at dksX19_leaves_0 6 rfl rfl)
theorem dX19_leaves_8 : decode cX19_leaves 8 = .ok (.iload 5, 2) := dk_21 5 (dk_at dksX19_leaves_0 8 rfl rfl)
theorem dX19_leaves_10 : decode cX19_leaves 10 = .ok (.aload_n 2, 1) := dk_44 (dk_at dksX19_leaves_0 10 rfl rfl)
theorem dX19_leaves_11 : decode cX19_leaves 11 = .ok (.invokevirtual 48, 3) := dk_182 0 48 (dk_at dksX19_leaves_0 11 rfl rfl)
theorem dX19_leaves_14 : decode cX19_leaves 14 = .ok (.if_icmp .ge 70, 3) := dk_162 0 70 (dk_at dksX19_leaves_0 14 rfl rfl)
theorem dX19_leaves_17 : decode cX19_leaves 17 = .ok (.aload_n 0, 1) := dk_42 (dk_at dksX19_leaves_0 17 rfl rfl)
theorem dX19_leaves_18 : decode cX19_leaves 18 = .ok (.getfield 24, 3) := dk_180 0 24 (dk_at dksX19_leaves_0 18 rfl rfl)
theorem dX19_leaves_21 : decode cX19_leaves 21 = .ok (.iload_n 1, 1) := dk_27 (dk_at dksX19_leaves_0 21 rfl rfl)
theorem dX19_leaves_22 : decode cX19_leaves 22 = .ok (.iload 5, 2) := dk_21 5 (dk_at dksX19_leaves_0 22 rfl rfl)
theorem dX19_leaves_24 : decode cX19_leaves 24 = .ok (.invokevirtual 56, 3) := dk_182 0 56 (dk_at dksX19_leaves_1 0 rfl rfl)
theorem dX19_leaves_27 : decode cX19_leaves 27 = .ok (.istore 6, 2) := dk_54 6 (dk_at dksX19_leaves_1 3 rfl rfl)
theorem dX19_leaves_29 : decode cX19_leaves 29 = .ok (.aload_n 0, 1) := dk_42 (dk_at dksX19_leaves_1 5 rfl rfl)
theorem dX19_leaves_30 : decode cX19_leaves 30 = .ok (.getfield 9, 3) := dk_180 0 9 (dk_at dksX19_leaves_1 6 rfl rfl)
theorem dX19_leaves_33 : decode cX19_leaves 33 = .ok (.iload 6, 2) := dk_21 6 (dk_at dksX19_leaves_1 9 rfl rfl)
theorem dX19_leaves_35 : decode cX19_leaves 35 = .ok (.iaload, 1) := dk_46 (dk_at dksX19_leaves_1 11 rfl rfl)
theorem dX19_leaves_36 : decode cX19_leaves 36 = .ok (.iload_n 3, 1) := dk_29 (dk_at dksX19_leaves_1 12 rfl rfl)
theorem dX19_leaves_37 : decode cX19_leaves 37 = .ok (.if_icmp .le 13, 3) := dk_164 0 13 (dk_at dksX19_leaves_1 13 rfl rfl)
theorem dX19_leaves_40 : decode cX19_leaves 40 = .ok (.aload_n 0, 1) := dk_42 (dk_at dksX19_leaves_1 16 rfl rfl)
theorem dX19_leaves_41 : decode cX19_leaves 41 = .ok (.getfield 9, 3) := dk_180 0 9 (dk_at dksX19_leaves_1 17 rfl rfl)
theorem dX19_leaves_44 : decode cX19_leaves 44 = .ok (.iload 6, 2) := dk_21 6 (dk_at dksX19_leaves_1 20 rfl rfl)
theorem dX19_leaves_46 : decode cX19_leaves 46 = .ok (.iaload, 1) := dk_46 (dk_at dksX19_leaves_1 22 rfl rfl)
theorem dX19_leaves_47 : decode cX19_leaves 47 = .ok (.goto 4, 3) := dk_167 0 4 (dk_at dksX19_leaves_2 0 rfl rfl)
theorem dX19_leaves_50 : decode cX19_leaves 50 = .ok (.iload_n 3, 1) := dk_29 (dk_at dksX19_leaves_2 3 rfl rfl)
theorem dX19_leaves_51 : decode cX19_leaves 51 = .ok (.istore_n 3, 1) := dk_62 (dk_at dksX19_leaves_2 4 rfl rfl)
theorem dX19_leaves_52 : decode cX19_leaves 52 = .ok (.aload_n 0, 1) := dk_42 (dk_at dksX19_leaves_2 5 rfl rfl)
theorem dX19_leaves_53 : decode cX19_leaves 53 = .ok (.getfield 15, 3) := dk_180 0 15 (dk_at dksX19_leaves_2 6 rfl rfl)
theorem dX19_leaves_56 : decode cX19_leaves 56 = .ok (.iload 6, 2) := dk_21 6 (dk_at dksX19_leaves_2 9 rfl rfl)
theorem dX19_leaves_58 : decode cX19_leaves 58 = .ok (.iaload, 1) := dk_46 (dk_at dksX19_leaves_2 11 rfl rfl)
theorem dX19_leaves_59 : decode cX19_leaves 59 = .ok (.iload 4, 2) := dk_21 4 (dk_at dksX19_leaves_2 12 rfl rfl)
theorem dX19_leaves_61 : decode cX19_leaves 61 = .ok (.if_icmp .le 13, 3) := dk_164 0 13 (dk_at dksX19_leaves_2 14 rfl rfl)
theorem dX19_leaves_64 : decode cX19_leaves 64 = .ok (.aload_n 0, 1) := dk_42 (dk_at dksX19_leaves_2 17 rfl rfl)
theorem dX19_leaves_65 : decode cX19_leaves 65 = .ok (.getfield 15, 3) := dk_180 0 15 (dk_at dksX19_leaves_2 18 rfl rfl)
theorem dX19_leaves_68 : decode cX19_leaves 68 = .ok (.iload 6, 2) := dk_21 6 (dk_at dksX19_leaves_2 21 rfl rfl)
theorem dX19_leaves_70 : decode cX19_leaves 70 = .ok (.iaload, 1) := dk_46 (dk_at dksX19_leaves_2 23 rfl rfl)
theorem dX19_leaves_71 : decode cX19_leaves 71 = .ok (.goto 5, 3) := dk_167 0 5 (dk_at dksX19_leaves_3 0 rfl rfl)
theorem dX19_leaves_74 : decode cX19_leaves 74 = .ok (.iload 4, 2) := dk_21 4 (dk_at dksX19_leaves_3 3 rfl rfl)
theorem dX19_leaves_76 : decode cX19_leaves 76 = .ok (.istore 4, 2) := dk_54 4 (dk_at dksX19_leaves_3 5 rfl rfl)
theorem dX19_leaves_78 : decode cX19_leaves 78 = .ok (.iinc 5 1, 3) := dk_132 5 1 (dk_at dksX19_leaves_3 7 rfl rfl)
theorem dX19_leaves_81 : decode cX19_leaves 81 = .ok (.goto (-73), 3) := dk_167 255 183 (dk_at dksX19_leaves_3 10 rfl rfl)
theorem dX19_leaves_84 : decode cX19_leaves 84 = .ok (.aload_n 0, 1) := dk_42 (dk_at dksX19_leaves_3 13 rfl rfl)
theorem dX19_leaves_85 : decode cX19_leaves 85 = .ok (.getfield 9, 3) := dk_180 0 9 (dk_at dksX19_leaves_3 14 rfl rfl)
theorem dX19_leaves_88 : decode cX19_leaves 88 = .ok (.iload_n 1, 1) := dk_27 (dk_at dksX19_leaves_3 17 rfl rfl)
theorem dX19_leaves_89 : decode cX19_leaves 89 = .ok (.iload_n 3, 1) := dk_29 (dk_at dksX19_leaves_3 18 rfl rfl)
theorem dX19_leaves_90 : decode cX19_leaves 90 = .ok (.aload_n 2, 1) := dk_44 (dk_at dksX19_leaves_3 19 rfl rfl)
theorem dX19_leaves_91 : decode cX19_leaves 91 = .ok (.getfield 60, 3) := dk_180 0 60 (dk_at dksX19_leaves_3 20 rfl rfl)
theorem dX19_leaves_94 : decode cX19_leaves 94 = .ok (.iadd, 1) := dk_96 (dk_at dksX19_leaves_3 23 rfl rfl)
theorem dX19_leaves_95 : decode cX19_leaves 95 = .ok (.iastore, 1) := dk_79 (dk_at dksX19_leaves_4 0 rfl rfl)
theorem dX19_leaves_96 : decode cX19_leaves 96 = .ok (.aload_n 0, 1) := dk_42 (dk_at dksX19_leaves_4 1 rfl rfl)
theorem dX19_leaves_97 : decode cX19_leaves 97 = .ok (.getfield 15, 3) := dk_180 0 15 (dk_at dksX19_leaves_4 2 rfl rfl)
theorem dX19_leaves_100 : decode cX19_leaves 100 = .ok (.iload_n 1, 1) := dk_27 (dk_at dksX19_leaves_4 5 rfl rfl)
theorem dX19_leaves_101 : decode cX19_leaves 101 = .ok (.iload 4, 2) := dk_21 4 (dk_at dksX19_leaves_4 6 rfl rfl)
theorem dX19_leaves_103 : decode cX19_leaves 103 = .ok (.aload_n 2, 1) := dk_44 (dk_at dksX19_leaves_4 8 rfl rfl)
theorem dX19_leaves_104 : decode cX19_leaves 104 = .ok (.invokevirtual 63, 3) := dk_182 0 63 (dk_at dksX19_leaves_4 9 rfl rfl)
theorem dX19_leaves_107 : decode cX19_leaves 107 = .ok (.iadd, 1) := dk_96 (dk_at dksX19_leaves_4 12 rfl rfl)
theorem dX19_leaves_108 : decode cX19_leaves 108 = .ok (.ifCond .le 13, 3) := dk_158 0 13 (dk_at dksX19_leaves_4 13 rfl rfl)
theorem dX19_leaves_111 : decode cX19_leaves 111 = .ok (.iload 4, 2) := dk_21 4 (dk_at dksX19_leaves_4 16 rfl rfl)
theorem dX19_leaves_113 : decode cX19_leaves 113 = .ok (.aload_n 2, 1) := dk_44 (dk_at dksX19_leaves_4 18 rfl rfl)
theorem dX19_leaves_114 : decode cX19_leaves 114 = .ok (.invokevirtual 63, 3) := dk_182 0 63 (dk_at dksX19_leaves_4 19 rfl rfl)
theorem dX19_leaves_117 : decode cX19_leaves 117 = .ok (.iadd, 1) := dk_96 (dk_at dksX19_leaves_4 22 rfl rfl)
theorem dX19_leaves_118 : decode cX19_leaves 118 = .ok (.goto 4, 3) := dk_167 0 4 (dk_at dksX19_leaves_5 0 rfl rfl)
theorem dX19_leaves_121 : decode cX19_leaves 121 = .ok (.iconst 0, 1) := dk_3 (dk_at dksX19_leaves_5 3 rfl rfl)
theorem dX19_leaves_122 : decode cX19_leaves 122 = .ok (.iastore, 1) := dk_79 (dk_at dksX19_leaves_5 4 rfl rfl)
theorem dX19_leaves_123 : decode cX19_leaves 123 = .ok (.aload_n 0, 1) := dk_42 (dk_at dksX19_leaves_5 5 rfl rfl)
theorem dX19_leaves_124 : decode cX19_leaves 124 = .ok (.getfield 18, 3) := dk_180 0 18 (dk_at dksX19_leaves_5 6 rfl rfl)
theorem dX19_leaves_127 : decode cX19_leaves 127 = .ok (.iload_n 1, 1) := dk_27 (dk_at dksX19_leaves_5 9 rfl rfl)
theorem dX19_leaves_128 : decode cX19_leaves 128 = .ok (.bipush 9, 2) := dk_16 9 (dk_at dksX19_leaves_5 10 rfl rfl)
theorem dX19_leaves_130 : decode cX19_leaves 130 = .ok (.iastore, 1) := dk_79 (dk_at dksX19_leaves_5 12 rfl rfl)
theorem dX19_leaves_131 : decode cX19_leaves 131 = .ok (.aload_n 0, 1) := dk_42 (dk_at dksX19_leaves_5 13 rfl rfl)
theorem dX19_leaves_132 : decode cX19_leaves 132 = .ok (.dup, 1) := dk_89 (dk_at dksX19_leaves_5 14 rfl rfl)
theorem dX19_leaves_133 : decode cX19_leaves 133 = .ok (.getfield 28, 3) := dk_180 0 28 (dk_at dksX19_leaves_5 15 rfl rfl)
theorem dX19_leaves_136 : decode cX19_leaves 136 = .ok (.iconst 1, 1) := dk_4 (dk_at dksX19_leaves_5 18 rfl rfl)
theorem dX19_leaves_137 : decode cX19_leaves 137 = .ok (.isub, 1) := dk_100 (dk_at dksX19_leaves_5 19 rfl rfl)
theorem dX19_leaves_138 : decode cX19_leaves 138 = .ok (.putfield 28, 3) := dk_181 0 28 (dk_at dksX19_leaves_5 20 rfl rfl)
theorem dX19_leaves_141 : decode cX19_leaves 141 = .ok (.return_, 1) := dk_177 (dk_at dksX19_leaves_5 23 rfl rfl)
theorem q83 : (Jvm.Cond.initialized "RankEntry$Ways") ∈ lw_all := lw_g (lw_at lw_m1 25 rfl) rfl
theorem q1051 : (Jvm.Cond.instantiable "RankEntry$Ways" (6 : Nat)) ∈ lw_all := lw_g (lw_at lw_m5 33 rfl) rfl
theorem q1053 : (Jvm.Cond.instanceMethod ({ cls := "RankEntry$Ways", name := "<init>", desc := "(LRankEntry$Code;)V" } : Jvm.MethodName)) ∈ lw_all := lw_g (lw_at lw_m5 35 rfl) rfl
theorem q1054 : (Jvm.Cond.code ({ cls := "RankEntry$Ways", name := "<init>", desc := "(LRankEntry$Code;)V" } : Jvm.MethodName) prog_50_method_1_code (2 : Nat) (Option.none : Option Jvm.ClassFile.FieldType)) ∈ lw_all := lw_g (lw_at lw_m5 36 rfl) rfl
theorem q1055 : (Jvm.Cond.methodLink "RankEntry$Ways" (3 : Nat) ({ cls := "java/lang/Object", name := "<init>", desc := "()V" } : Jvm.MethodName)) ∈ lw_all := lw_g (lw_at lw_m5 37 rfl) rfl
theorem q1056 : (Jvm.Cond.fieldLink "RankEntry$Ways" (24 : Nat) "RankEntry$Ways" "code" "LRankEntry$Code;") ∈ lw_all := lw_g (lw_at lw_m5 38 rfl) rfl
theorem q1057 : (Jvm.Cond.fieldLink "RankEntry$Ways" (9 : Nat) "RankEntry$Ways" "costs" "[I") ∈ lw_all := lw_g (lw_at lw_m5 39 rfl) rfl
theorem q1059 : (Jvm.Cond.fieldLink "RankEntry$Ways" (15 : Nat) "RankEntry$Ways" "pushes" "[I") ∈ lw_all := lw_g (lw_at lw_m5 41 rfl) rfl
theorem q1061 : (Jvm.Cond.fieldLink "RankEntry$Ways" (18 : Nat) "RankEntry$Ways" "gone" "[I") ∈ lw_all := lw_g (lw_at lw_m5 43 rfl) rfl
theorem q1062 : (Jvm.Cond.fieldLink "RankEntry$Ways" (21 : Nat) "RankEntry$Ways" "path" "[I") ∈ lw_all := lw_g (lw_at lw_m5 44 rfl) rfl
theorem q1063 : (Jvm.Cond.fieldLink "RankEntry$Ways" (28 : Nat) "RankEntry$Ways" "depth" "I") ∈ lw_all := lw_g (lw_at lw_m5 45 rfl) rfl
theorem q1064 : (Jvm.Cond.laysFinal "RankEntry$Ways" "RankEntry$Ways" "code" "LRankEntry$Code;") ∈ lw_all := lw_g (lw_at lw_m5 46 rfl) rfl
theorem q1065 : (Jvm.Cond.soleField "RankEntry$Ways" "code") ∈ lw_all := lw_g (lw_at lw_m5 47 rfl) rfl
theorem q1066 : (Jvm.Cond.laysFinal "RankEntry$Ways" "RankEntry$Ways" "costs" "[I") ∈ lw_all := lw_g (lw_at lw_m5 48 rfl) rfl
theorem q1067 : (Jvm.Cond.soleField "RankEntry$Ways" "costs") ∈ lw_all := lw_g (lw_at lw_m5 49 rfl) rfl
theorem q1068 : (Jvm.Cond.laysFinal "RankEntry$Ways" "RankEntry$Ways" "pushes" "[I") ∈ lw_all := lw_g (lw_at lw_m5 50 rfl) rfl
theorem q1069 : (Jvm.Cond.soleField "RankEntry$Ways" "pushes") ∈ lw_all := lw_g (lw_at lw_m5 51 rfl) rfl
theorem q1070 : (Jvm.Cond.laysFinal "RankEntry$Ways" "RankEntry$Ways" "gone" "[I") ∈ lw_all := lw_g (lw_at lw_m5 52 rfl) rfl
theorem q1071 : (Jvm.Cond.soleField "RankEntry$Ways" "gone") ∈ lw_all := lw_g (lw_at lw_m5 53 rfl) rfl
theorem q1072 : (Jvm.Cond.laysFinal "RankEntry$Ways" "RankEntry$Ways" "path" "[I") ∈ lw_all := lw_g (lw_at lw_m5 54 rfl) rfl
theorem q1073 : (Jvm.Cond.soleField "RankEntry$Ways" "path") ∈ lw_all := lw_g (lw_at lw_m5 55 rfl) rfl
theorem q1074 : (Jvm.Cond.lays "RankEntry$Ways" "RankEntry$Ways" "depth" "I") ∈ lw_all := lw_g (lw_at lw_m5 56 rfl) rfl
theorem q1075 : (Jvm.Cond.soleField "RankEntry$Ways" "depth") ∈ lw_all := lw_g (lw_at lw_m5 57 rfl) rfl
theorem q1076 : (Jvm.Cond.superclass "RankEntry$Ways" "java/lang/Object") ∈ lw_all := lw_g (lw_at lw_m5 58 rfl) rfl
theorem q1305 : (Jvm.Cond.instanceMethod ({ cls := "RankEntry$Ways", name := "end", desc := "(I)Z" } : Jvm.MethodName)) ∈ lw_all := lw_g (lw_at lw_m6 47 rfl) rfl
theorem q1306 : (Jvm.Cond.selects "RankEntry$Ways" ({ cls := "RankEntry$Ways", name := "end", desc := "(I)Z" } : Jvm.MethodName) ({ cls := "RankEntry$Ways", name := "end", desc := "(I)Z" } : Jvm.MethodName)) ∈ lw_all := lw_g (lw_at lw_m6 48 rfl) rfl
theorem q1307 : (Jvm.Cond.code ({ cls := "RankEntry$Ways", name := "end", desc := "(I)Z" } : Jvm.MethodName) prog_50_method_3_code (5 : Nat) (Option.some Jvm.ClassFile.FieldType.boolean)) ∈ lw_all := lw_g (lw_at lw_m6 49 rfl) rfl
theorem q1308 : (Jvm.Cond.methodLink "RankEntry$Ways" (32 : Nat) ({ cls := "RankEntry$Ways", name := "enters", desc := "(I)V" } : Jvm.MethodName)) ∈ lw_all := lw_g (lw_at lw_m6 50 rfl) rfl
theorem q1309 : (Jvm.Cond.privateMethod ({ cls := "RankEntry$Ways", name := "enters", desc := "(I)V" } : Jvm.MethodName)) ∈ lw_tbl := lw_at lw_m6 51 rfl
theorem q1310 : (Jvm.Cond.instanceMethod ({ cls := "RankEntry$Ways", name := "enters", desc := "(I)V" } : Jvm.MethodName)) ∈ lw_all := lw_g (lw_at lw_m6 52 rfl) rfl
theorem q1311 : (Jvm.Cond.code ({ cls := "RankEntry$Ways", name := "enters", desc := "(I)V" } : Jvm.MethodName) prog_50_method_2_code (2 : Nat) (Option.none : Option Jvm.ClassFile.FieldType)) ∈ lw_all := lw_g (lw_at lw_m6 53 rfl) rfl
theorem q1312 : (Jvm.Cond.methodLink "RankEntry$Ways" (36 : Nat) ({ cls := "RankEntry$Code", name := "op", desc := "(I)LRankEntry$Op;" } : Jvm.MethodName)) ∈ lw_all := lw_g (lw_at lw_m6 54 rfl) rfl
theorem q1313 : (Jvm.Cond.methodLink "RankEntry$Ways" (42 : Nat) ({ cls := "RankEntry$Op", name := "stops", desc := "()Z" } : Jvm.MethodName)) ∈ lw_all := lw_g (lw_at lw_m6 55 rfl) rfl
theorem q1348 : (Jvm.Cond.methodLink "RankEntry$Ways" (48 : Nat) ({ cls := "RankEntry$Op", name := "ways", desc := "()I" } : Jvm.MethodName)) ∈ lw_all := lw_g (lw_at lw_m6 90 rfl) rfl
theorem q1457 : (Jvm.Cond.methodLink "RankEntry$Ways" (52 : Nat) ({ cls := "RankEntry$Ways", name := "leaves", desc := "(ILRankEntry$Op;)V" } : Jvm.MethodName)) ∈ lw_all := lw_g (lw_at lw_m6 199 rfl) rfl
theorem q1458 : (Jvm.Cond.privateMethod ({ cls := "RankEntry$Ways", name := "leaves", desc := "(ILRankEntry$Op;)V" } : Jvm.MethodName)) ∈ lw_tbl := lw_at lw_m6 200 rfl
theorem q1459 : (Jvm.Cond.instanceMethod ({ cls := "RankEntry$Ways", name := "leaves", desc := "(ILRankEntry$Op;)V" } : Jvm.MethodName)) ∈ lw_all := lw_g (lw_at lw_m6 201 rfl) rfl
theorem q1460 : (Jvm.Cond.code ({ cls := "RankEntry$Ways", name := "leaves", desc := "(ILRankEntry$Op;)V" } : Jvm.MethodName) prog_50_method_4_code (7 : Nat) (Option.none : Option Jvm.ClassFile.FieldType)) ∈ lw_all := lw_g (lw_at lw_m6 202 rfl) rfl
theorem q1461 : (Jvm.Cond.methodLink "RankEntry$Ways" (56 : Nat) ({ cls := "RankEntry$Code", name := "next", desc := "(II)I" } : Jvm.MethodName)) ∈ lw_all := lw_g (lw_at lw_m6 203 rfl) rfl
theorem q1468 : (Jvm.Cond.methodLink "RankEntry$Ways" (63 : Nat) ({ cls := "RankEntry$Op", name := "pushes", desc := "()I" } : Jvm.MethodName)) ∈ lw_all := lw_g (lw_at lw_m6 210 rfl) rfl
theorem q2205 : (Jvm.Cond.castable "RankEntry$Ways" "java/lang/Object") ∈ lw_tbl := lw_at lw_m9 227 rfl
theorem q2248 : (Jvm.Cond.fieldLink "RankEntry$Ways" (60 : Nat) "RankEntry$Op" "cycles" "I") ∈ lw_all := lw_g (lw_at lw_m10 30 rfl) rfl
theorem in_X19 : ∀ w ∈ wsX190, w ∈ lw_all := lw_in wsX190 [1064, 1066, 1068, 1070, 1072, 1074] (by decide +kernel) (by decide +kernel)
