theorem q116 : (Jvm.Cond.arrayOver (Jvm.ClassFile.FieldType.object "RankEntry$Op")) ∈ lw_tbl := lw_at lw_m1 58 rfl
set_option maxRecDepth 100000
theorem q126 : (Jvm.Cond.arrayClass Jvm.ClassFile.FieldType.byte) ∈ lw_all := lw_g (lw_at lw_m1 68 rfl) rfl
theorem q198 : (Jvm.Cond.arrayOver (Jvm.ClassFile.FieldType.object "RankEntry$Source")) ∈ lw_tbl := lw_at lw_m1 140 rfl
theorem q200 : (Jvm.Cond.arrayOver (Jvm.ClassFile.FieldType.object "RankEntry$Event")) ∈ lw_tbl := lw_at lw_m1 142 rfl
theorem q281 : (Jvm.Cond.arrayClass Jvm.ClassFile.FieldType.int) ∈ lw_all := lw_g (lw_at lw_m1 223 rfl) rfl
theorem q282 : (Jvm.Cond.arrayClass Jvm.ClassFile.FieldType.float) ∈ lw_all := lw_g (lw_at lw_m1 224 rfl) rfl
theorem q1808 : (Jvm.Cond.arrayClass Jvm.ClassFile.FieldType.boolean) ∈ lw_all := lw_g (lw_at lw_m8 70 rfl) rfl
theorem q2159 : (Jvm.Cond.arrayClass Jvm.ClassFile.FieldType.long) ∈ lw_all := lw_g (lw_at lw_m9 181 rfl) rfl
/-! RankEntryModel -/
set_option maxRecDepth 100000
def RX20 : String := "RankEntryModel"
def TX20 : u_T := fun k => match k with
  | 0 => ("RankEntryModel", "code", "[I", true)
  | 1 => ("RankEntryModel", "vector", "[I", true)
  | 2 => ("RankEntryModel", "enabled", "[Z", true)
  | 3 => ("RankEntryModel", "split", "I", false)
  | 4 => ("RankEntryModel", "now", "[I", true)
  | 5 => ("RankEntryModel", "then", "[I", true)
  | 6 => ("RankEntryModel", "tally", "[I", true)
  | 7 => ("RankEntryModel", "kinds", "[I", true)
  | 8 => ("RankEntryModel", "whose", "[I", true)
  | 9 => ("RankEntryModel", "when", "[I", true)
  | 10 => ("RankEntryModel", "more", "[I", true)
  | 11 => ("RankEntryModel", "events", "I", false)
  | 12 => ("RankEntryModel", "told", "[I", true)
  | 13 => ("RankEntryModel", "longest", "[I", true)
  | 14 => ("RankEntryModel", "own", "Z", false)
  | 15 => ("RankEntryModel", "plain", "Z", false)
  | 16 => ("RankEntryModel", "began", "I", false)
  | 17 => ("RankEntryModel", "thrown", "I", false)
  | 18 => ("RankEntryModel", "met", "[Z", true)
  | 19 => ("RankEntryModel", "from", "[I", true)
  | 20 => ("RankEntryModel", "dear", "[I", true)
  | 21 => ("RankEntryModel", "high", "[I", true)
  | 22 => ("RankEntryModel", "heap", "[I", true)
  | 23 => ("RankEntryModel", "dearest", "I", false)
  | _ => ("RankEntryModel", "highest", "I", false)
def tyX20 : Nat → FieldType := fun k => match k with
  | 0 => .array .int
  | 1 => .array .int
  | 2 => .array .boolean
  | 3 => .int
  | 4 => .array .int
  | 5 => .array .int
  | 6 => .array .int
  | 7 => .array .int
  | 8 => .array .int
  | 9 => .array .int
  | 10 => .array .int
  | 11 => .int
  | 12 => .array .int
  | 13 => .array .int
  | 14 => .boolean
  | 15 => .boolean
  | 16 => .int
  | 17 => .int
  | 18 => .array .boolean
  | 19 => .array .int
  | 20 => .array .int
  | 21 => .array .int
  | 22 => .array .int
  | 23 => .int
  | _ => .int
abbrev wsX200 : List Cond := u_ws RX20 TX20 25
set_option maxRecDepth 100000 in
theorem nmX20 : ∀ a, a < 25 → ∀ b, b < 25 → a ≠ b → (TX20 a).2.1 ≠ (TX20 b).2.1 := by decide +kernel
set_option maxRecDepth 100000 in
theorem tyX20_ok : ∀ k, k < 25 → parseFieldDescriptor (TX20 k).2.2.1 = some (tyX20 k) := by decide +kernel
abbrev cX20_init : ByteArray := prog_52_method_1_code
def yX20_init : MethodName := ⟨RX20, "<init>", "()V"⟩
def dkwX20_init_7 : List UInt8 := [96, 17, 0, 255, 79, 132, 1, 1, 167, 255, 234, 42, 180, 0, 16, 16, 20, 4, 84, 42, 182, 0, 62, 177]
abbrev dktX20_init_7 : List UInt8 := dkwX20_init_7 ++ []
def dkwX20_init_6 : List UInt8 := [17, 2, 0, 188, 10, 181, 0, 59, 3, 60, 27, 16, 21, 162, 0, 22, 42, 180, 0, 20, 17, 0, 173, 27]
abbrev dktX20_init_6 : List UInt8 := dkwX20_init_6 ++ dktX20_init_7
def dkwX20_init_5 : List UInt8 := [181, 0, 50, 42, 17, 2, 0, 188, 10, 181, 0, 53, 42, 17, 2, 0, 188, 10, 181, 0, 56, 42]
abbrev dktX20_init_5 : List UInt8 := dkwX20_init_5 ++ dktX20_init_6
def dkwX20_init_4 : List UInt8 := [16, 21, 188, 10, 181, 0, 44, 42, 17, 2, 0, 188, 4, 181, 0, 47, 42, 17, 2, 0, 188, 10]
abbrev dktX20_init_4 : List UInt8 := dkwX20_init_4 ++ dktX20_init_5
def dkwX20_init_3 : List UInt8 := [16, 24, 188, 10, 181, 0, 35, 42, 16, 24, 188, 10, 181, 0, 38, 42, 16, 64, 188, 10, 181, 0, 41, 42]
abbrev dktX20_init_3 : List UInt8 := dkwX20_init_3 ++ dktX20_init_4
def dkwX20_init_2 : List UInt8 := [16, 17, 188, 10, 181, 0, 26, 42, 16, 24, 188, 10, 181, 0, 29, 42, 16, 24, 188, 10, 181, 0, 32, 42]
abbrev dktX20_init_2 : List UInt8 := dkwX20_init_2 ++ dktX20_init_3
def dkwX20_init_1 : List UInt8 := [188, 4, 181, 0, 16, 42, 17, 1, 86, 188, 10, 181, 0, 20, 42, 17, 1, 86, 188, 10, 181, 0, 23, 42]
abbrev dktX20_init_1 : List UInt8 := dkwX20_init_1 ++ dktX20_init_2
def dkwX20_init_0 : List UInt8 := [42, 183, 0, 1, 42, 17, 2, 0, 188, 10, 181, 0, 7, 42, 16, 21, 188, 10, 181, 0, 13, 42, 16, 21]
abbrev dktX20_init_0 : List UInt8 := dkwX20_init_0 ++ dktX20_init_1
theorem dksX20_init_0 : cX20_init.data.toList.drop 0 = dktX20_init_0 := by decide +kernel
theorem dksX20_init_1 : cX20_init.data.toList.drop 24 = dktX20_init_1 := dk_seg dksX20_init_0 24 rfl rfl
theorem dksX20_init_2 : cX20_init.data.toList.drop 48 = dktX20_init_2 := dk_seg dksX20_init_1 24 rfl rfl
theorem dksX20_init_3 : cX20_init.data.toList.drop 72 = dktX20_init_3 := dk_seg dksX20_init_2 24 rfl rfl
theorem dksX20_init_4 : cX20_init.data.toList.drop 96 = dktX20_init_4 := dk_seg dksX20_init_3 24 rfl rfl
theorem dksX20_init_5 : cX20_init.data.toList.drop 118 = dktX20_init_5 := dk_seg dksX20_init_4 22 rfl rfl
theorem dksX20_init_6 : cX20_init.data.toList.drop 140 = dktX20_init_6 := dk_seg dksX20_init_5 22 rfl rfl
theorem dksX20_init_7 : cX20_init.data.toList.drop 164 = dktX20_init_7 := dk_seg dksX20_init_6 24 rfl rfl
theorem dX20_init_0 : decode cX20_init 0 = .ok (.aload_n 0, 1) := dk_42 (dk_at dksX20_init_0 0 rfl rfl)
theorem dX20_init_1 : decode cX20_init 1 = .ok (.invokespecial 1, 3) := dk_183 0 1 (dk_at dksX20_init_0 1 rfl rfl)
theorem dX20_init_4 : decode cX20_init 4 = .ok (.aload_n 0, 1) := dk_42 (dk_at dksX20_init_0 4 rfl rfl)
theorem dX20_init_5 : decode cX20_init 5 = .ok (.sipush 512, 3) := dk_17 2 0 (dk_at dksX20_init_0 5 rfl rfl)
theorem dX20_init_8 : decode cX20_init 8 = .ok (.newarray .int, 2) := dk_188_10 (dk_at dksX20_init_0 8 rfl rfl)
theorem dX20_init_10 : decode cX20_init 10 = .ok (.putfield 7, 3) := dk_181 0 7 (dk_at dksX20_init_0 10 rfl rfl)
theorem dX20_init_13 : decode cX20_init 13 = .ok (.aload_n 0, 1) := dk_42 (dk_at dksX20_init_0 13 rfl rfl)
theorem dX20_init_14 : decode cX20_init 14 = .ok (.bipush 21, 2) := dk_16 21 (dk_at dksX20_init_0 14 rfl rfl)
theorem dX20_init_16 : decode cX20_init 16 = .ok (.newarray .int, 2) := dk_188_10 (dk_at dksX20_init_0 16 rfl rfl)
theorem dX20_init_18 : decode cX20_init 18 = .ok (.putfield 13, 3) := dk_181 0 13 (dk_at dksX20_init_0 18 rfl rfl)
theorem dX20_init_21 : decode cX20_init 21 = .ok (.aload_n 0, 1) := dk_42 (dk_at dksX20_init_0 21 rfl rfl)
theorem dX20_init_22 : decode cX20_init 22 = .ok (.bipush 21, 2) := dk_16 21 (dk_at dksX20_init_0 22 rfl rfl)
theorem dX20_init_24 : decode cX20_init 24 = .ok (.newarray .boolean, 2) := dk_188_4 (dk_at dksX20_init_1 0 rfl rfl)
theorem dX20_init_26 : decode cX20_init 26 = .ok (.putfield 16, 3) := dk_181 0 16 (dk_at dksX20_init_1 2 rfl rfl)
theorem dX20_init_29 : decode cX20_init 29 = .ok (.aload_n 0, 1) := dk_42 (dk_at dksX20_init_1 5 rfl rfl)
theorem dX20_init_30 : decode cX20_init 30 = .ok (.sipush 342, 3) := dk_17 1 86 (dk_at dksX20_init_1 6 rfl rfl)
theorem dX20_init_33 : decode cX20_init 33 = .ok (.newarray .int, 2) := dk_188_10 (dk_at dksX20_init_1 9 rfl rfl)
theorem dX20_init_35 : decode cX20_init 35 = .ok (.putfield 20, 3) := dk_181 0 20 (dk_at dksX20_init_1 11 rfl rfl)
theorem dX20_init_38 : decode cX20_init 38 = .ok (.aload_n 0, 1) := dk_42 (dk_at dksX20_init_1 14 rfl rfl)
theorem dX20_init_39 : decode cX20_init 39 = .ok (.sipush 342, 3) := dk_17 1 86 (dk_at dksX20_init_1 15 rfl rfl)
theorem dX20_init_42 : decode cX20_init 42 = .ok (.newarray .int, 2) := dk_188_10 (dk_at dksX20_init_1 18 rfl rfl)
theorem dX20_init_44 : decode cX20_init 44 = .ok (.putfield 23, 3) := dk_181 0 23 (dk_at dksX20_init_1 20 rfl rfl)
theorem dX20_init_47 : decode cX20_init 47 = .ok (.aload_n 0, 1) := dk_42 (dk_at dksX20_init_1 23 rfl rfl)
theorem dX20_init_48 : decode cX20_init 48 = .ok (.bipush 17, 2) := dk_16 17 (dk_at dksX20_init_2 0 rfl rfl)
theorem dX20_init_50 : decode cX20_init 50 = .ok (.newarray .int, 2) := dk_188_10 (dk_at dksX20_init_2 2 rfl rfl)
theorem dX20_init_52 : decode cX20_init 52 = .ok (.putfield 26, 3) := dk_181 0 26 (dk_at dksX20_init_2 4 rfl rfl)
theorem dX20_init_55 : decode cX20_init 55 = .ok (.aload_n 0, 1) := dk_42 (dk_at dksX20_init_2 7 rfl rfl)
theorem dX20_init_56 : decode cX20_init 56 = .ok (.bipush 24, 2) := dk_16 24 (dk_at dksX20_init_2 8 rfl rfl)
theorem dX20_init_58 : decode cX20_init 58 = .ok (.newarray .int, 2) := dk_188_10 (dk_at dksX20_init_2 10 rfl rfl)
theorem dX20_init_60 : decode cX20_init 60 = .ok (.putfield 29, 3) := dk_181 0 29 (dk_at dksX20_init_2 12 rfl rfl)
theorem dX20_init_63 : decode cX20_init 63 = .ok (.aload_n 0, 1) := dk_42 (dk_at dksX20_init_2 15 rfl rfl)
theorem dX20_init_64 : decode cX20_init 64 = .ok (.bipush 24, 2) := dk_16 24 (dk_at dksX20_init_2 16 rfl rfl)
theorem dX20_init_66 : decode cX20_init 66 = .ok (.newarray .int, 2) := dk_188_10 (dk_at dksX20_init_2 18 rfl rfl)
theorem dX20_init_68 : decode cX20_init 68 = .ok (.putfield 32, 3) := dk_181 0 32 (dk_at dksX20_init_2 20 rfl rfl)
theorem dX20_init_71 : decode cX20_init 71 = .ok (.aload_n 0, 1) := dk_42 (dk_at dksX20_init_2 23 rfl rfl)
theorem dX20_init_72 : decode cX20_init 72 = .ok (.bipush 24, 2) := dk_16 24 (dk_at dksX20_init_3 0 rfl rfl)
theorem dX20_init_74 : decode cX20_init 74 = .ok (.newarray .int, 2) := dk_188_10 (dk_at dksX20_init_3 2 rfl rfl)
theorem dX20_init_76 : decode cX20_init 76 = .ok (.putfield 35, 3) := dk_181 0 35 (dk_at dksX20_init_3 4 rfl rfl)
theorem dX20_init_79 : decode cX20_init 79 = .ok (.aload_n 0, 1) := dk_42 (dk_at dksX20_init_3 7 rfl rfl)
theorem dX20_init_80 : decode cX20_init 80 = .ok (.bipush 24, 2) := dk_16 24 (dk_at dksX20_init_3 8 rfl rfl)
theorem dX20_init_82 : decode cX20_init 82 = .ok (.newarray .int, 2) := dk_188_10 (dk_at dksX20_init_3 10 rfl rfl)
theorem dX20_init_84 : decode cX20_init 84 = .ok (.putfield 38, 3) := dk_181 0 38 (dk_at dksX20_init_3 12 rfl rfl)
theorem dX20_init_87 : decode cX20_init 87 = .ok (.aload_n 0, 1) := dk_42 (dk_at dksX20_init_3 15 rfl rfl)
theorem dX20_init_88 : decode cX20_init 88 = .ok (.bipush 64, 2) := dk_16 64 (dk_at dksX20_init_3 16 rfl rfl)
theorem dX20_init_90 : decode cX20_init 90 = .ok (.newarray .int, 2) := dk_188_10 (dk_at dksX20_init_3 18 rfl rfl)
theorem dX20_init_92 : decode cX20_init 92 = .ok (.putfield 41, 3) := dk_181 0 41 (dk_at dksX20_init_3 20 rfl rfl)
theorem dX20_init_95 : decode cX20_init 95 = .ok (.aload_n 0, 1) := dk_42 (dk_at dksX20_init_3 23 rfl rfl)
theorem dX20_init_96 : decode cX20_init 96 = .ok (.bipush 21, 2) := dk_16 21 (dk_at dksX20_init_4 0 rfl rfl)
theorem dX20_init_98 : decode cX20_init 98 = .ok (.newarray .int, 2) := dk_188_10 (dk_at dksX20_init_4 2 rfl rfl)
theorem dX20_init_100 : decode cX20_init 100 = .ok (.putfield 44, 3) := dk_181 0 44 (dk_at dksX20_init_4 4 rfl rfl)
theorem dX20_init_103 : decode cX20_init 103 = .ok (.aload_n 0, 1) := dk_42 (dk_at dksX20_init_4 7 rfl rfl)
theorem dX20_init_104 : decode cX20_init 104 = .ok (.sipush 512, 3) := dk_17 2 0 (dk_at dksX20_init_4 8 rfl rfl)
theorem dX20_init_107 : decode cX20_init 107 = .ok (.newarray .boolean, 2) := dk_188_4 (dk_at dksX20_init_4 11 rfl rfl)
theorem dX20_init_109 : decode cX20_init 109 = .ok (.putfield 47, 3) := dk_181 0 47 (dk_at dksX20_init_4 13 rfl rfl)
theorem dX20_init_112 : decode cX20_init 112 = .ok (.aload_n 0, 1) := dk_42 (dk_at dksX20_init_4 16 rfl rfl)
theorem dX20_init_113 : decode cX20_init 113 = .ok (.sipush 512, 3) := dk_17 2 0 (dk_at dksX20_init_4 17 rfl rfl)
theorem dX20_init_116 : decode cX20_init 116 = .ok (.newarray .int, 2) := dk_188_10 (dk_at dksX20_init_4 20 rfl rfl)
theorem dX20_init_118 : decode cX20_init 118 = .ok (.putfield 50, 3) := dk_181 0 50 (dk_at dksX20_init_5 0 rfl rfl)
theorem dX20_init_121 : decode cX20_init 121 = .ok (.aload_n 0, 1) := dk_42 (dk_at dksX20_init_5 3 rfl rfl)
theorem dX20_init_122 : decode cX20_init 122 = .ok (.sipush 512, 3) := dk_17 2 0 (dk_at dksX20_init_5 4 rfl rfl)
theorem dX20_init_125 : decode cX20_init 125 = .ok (.newarray .int, 2) := dk_188_10 (dk_at dksX20_init_5 7 rfl rfl)
theorem dX20_init_127 : decode cX20_init 127 = .ok (.putfield 53, 3) := dk_181 0 53 (dk_at dksX20_init_5 9 rfl rfl)
theorem dX20_init_130 : decode cX20_init 130 = .ok (.aload_n 0, 1) := dk_42 (dk_at dksX20_init_5 12 rfl rfl)
theorem dX20_init_131 : decode cX20_init 131 = .ok (.sipush 512, 3) := dk_17 2 0 (dk_at dksX20_init_5 13 rfl rfl)
theorem dX20_init_134 : decode cX20_init 134 = .ok (.newarray .int, 2) := dk_188_10 (dk_at dksX20_init_5 16 rfl rfl)
theorem dX20_init_136 : decode cX20_init 136 = .ok (.putfield 56, 3) := dk_181 0 56 (dk_at dksX20_init_5 18 rfl rfl)
theorem dX20_init_139 : decode cX20_init 139 = .ok (.aload_n 0, 1) := dk_42 (dk_at dksX20_init_5 21 rfl rfl)
theorem dX20_init_140 : decode cX20_init 140 = .ok (.sipush 512, 3) := dk_17 2 0 (dk_at dksX20_init_6 0 rfl rfl)
theorem dX20_init_143 : decode cX20_init 143 = .ok (.newarray .int, 2) := dk_188_10 (dk_at dksX20_init_6 3 rfl rfl)
theorem dX20_init_145 : decode cX20_init 145 = .ok (.putfield 59, 3) := dk_181 0 59 (dk_at dksX20_init_6 5 rfl rfl)
theorem dX20_init_148 : decode cX20_init 148 = .ok (.iconst 0, 1) := dk_3 (dk_at dksX20_init_6 8 rfl rfl)
theorem dX20_init_149 : decode cX20_init 149 = .ok (.istore_n 1, 1) := dk_60 (dk_at dksX20_init_6 9 rfl rfl)
theorem dX20_init_150 : decode cX20_init 150 = .ok (.iload_n 1, 1) := dk_27 (dk_at dksX20_init_6 10 rfl rfl)
theorem dX20_init_151 : decode cX20_init 151 = .ok (.bipush 21, 2) := dk_16 21 (dk_at dksX20_init_6 11 rfl rfl)
theorem dX20_init_153 : decode cX20_init 153 = .ok (.if_icmp .ge 22, 3) := dk_162 0 22 (dk_at dksX20_init_6 13 rfl rfl)
theorem dX20_init_156 : decode cX20_init 156 = .ok (.aload_n 0, 1) := dk_42 (dk_at dksX20_init_6 16 rfl rfl)
theorem dX20_init_157 : decode cX20_init 157 = .ok (.getfield 20, 3) := dk_180 0 20 (dk_at dksX20_init_6 17 rfl rfl)
theorem dX20_init_160 : decode cX20_init 160 = .ok (.sipush 173, 3) := dk_17 0 173 (dk_at dksX20_init_6 20 rfl rfl)
theorem dX20_init_163 : decode cX20_init 163 = .ok (.iload_n 1, 1) := dk_27 (dk_at dksX20_init_6 23 rfl rfl)
theorem dX20_init_164 : decode cX20_init 164 = .ok (.iadd, 1) := dk_96 (dk_at dksX20_init_7 0 rfl rfl)
theorem dX20_init_165 : decode cX20_init 165 = .ok (.sipush 255, 3) := dk_17 0 255 (dk_at dksX20_init_7 1 rfl rfl)
theorem dX20_init_168 : decode cX20_init 168 = .ok (.iastore, 1) := dk_79 (dk_at dksX20_init_7 4 rfl rfl)
theorem dX20_init_169 : decode cX20_init 169 = .ok (.iinc 1 1, 3) := dk_132 1 1 (dk_at dksX20_init_7 5 rfl rfl)
theorem dX20_init_172 : decode cX20_init 172 = .ok (.goto (-22), 3) := dk_167 255 234 (dk_at dksX20_init_7 8 rfl rfl)
theorem dX20_init_175 : decode cX20_init 175 = .ok (.aload_n 0, 1) := dk_42 (dk_at dksX20_init_7 11 rfl rfl)
theorem dX20_init_176 : decode cX20_init 176 = .ok (.getfield 16, 3) := dk_180 0 16 (dk_at dksX20_init_7 12 rfl rfl)
theorem dX20_init_179 : decode cX20_init 179 = .ok (.bipush 20, 2) := dk_16 20 (dk_at dksX20_init_7 15 rfl rfl)
theorem dX20_init_181 : decode cX20_init 181 = .ok (.iconst 1, 1) := dk_4 (dk_at dksX20_init_7 17 rfl rfl)
theorem dX20_init_182 : decode cX20_init 182 = .ok (.bastore, 1) := dk_84 (dk_at dksX20_init_7 18 rfl rfl)
theorem dX20_init_183 : decode cX20_init 183 = .ok (.aload_n 0, 1) := dk_42 (dk_at dksX20_init_7 19 rfl rfl)
theorem dX20_init_184 : decode cX20_init 184 = .ok (.invokevirtual 62, 3) := dk_182 0 62 (dk_at dksX20_init_7 20 rfl rfl)
theorem dX20_init_187 : decode cX20_init 187 = .ok (.return_, 1) := dk_177 (dk_at dksX20_init_7 23 rfl rfl)
abbrev cX20_fresh : ByteArray := prog_52_method_5_code
def yX20_fresh : MethodName := ⟨RX20, "fresh", "()V"⟩
def dkwX20_fresh_5 : List UInt8 := [16, 27, 27, 79, 42, 3, 181, 0, 69, 177]
abbrev dktX20_fresh_5 : List UInt8 := dkwX20_fresh_5 ++ []
def dkwX20_fresh_4 : List UInt8 := [167, 255, 240, 42, 180, 0, 20, 16, 19, 2, 79, 42, 180, 0, 20, 16, 26, 27, 79, 42, 180, 0, 20]
abbrev dktX20_fresh_4 : List UInt8 := dkwX20_fresh_4 ++ dktX20_fresh_5
def dkwX20_fresh_3 : List UInt8 := [132, 2, 1, 167, 255, 229, 3, 61, 28, 16, 17, 162, 0, 16, 42, 180, 0, 26, 28, 3, 79, 132, 2, 1]
abbrev dktX20_fresh_3 : List UInt8 := dkwX20_fresh_3 ++ dktX20_fresh_4
def dkwX20_fresh_2 : List UInt8 := [16, 21, 162, 0, 27, 42, 180, 0, 20, 17, 0, 194, 28, 96, 2, 79, 42, 180, 0, 44, 28, 2, 79]
abbrev dktX20_fresh_2 : List UInt8 := dkwX20_fresh_2 ++ dktX20_fresh_3
def dkwX20_fresh_1 : List UInt8 := [28, 17, 0, 194, 161, 0, 10, 42, 180, 0, 20, 28, 3, 79, 132, 2, 1, 167, 255, 225, 3, 61, 28]
abbrev dktX20_fresh_1 : List UInt8 := dkwX20_fresh_1 ++ dktX20_fresh_2
def dkwX20_fresh_0 : List UInt8 := [42, 180, 0, 20, 16, 26, 46, 60, 3, 61, 28, 17, 1, 86, 162, 0, 30, 28, 17, 0, 173, 161, 0, 10]
abbrev dktX20_fresh_0 : List UInt8 := dkwX20_fresh_0 ++ dktX20_fresh_1
theorem dksX20_fresh_0 : cX20_fresh.data.toList.drop 0 = dktX20_fresh_0 := by decide +kernel
theorem dksX20_fresh_1 : cX20_fresh.data.toList.drop 24 = dktX20_fresh_1 := dk_seg dksX20_fresh_0 24 rfl rfl
theorem dksX20_fresh_2 : cX20_fresh.data.toList.drop 47 = dktX20_fresh_2 := dk_seg dksX20_fresh_1 23 rfl rfl
theorem dksX20_fresh_3 : cX20_fresh.data.toList.drop 70 = dktX20_fresh_3 := dk_seg dksX20_fresh_2 23 rfl rfl
theorem dksX20_fresh_4 : cX20_fresh.data.toList.drop 94 = dktX20_fresh_4 := dk_seg dksX20_fresh_3 24 rfl rfl
theorem dksX20_fresh_5 : cX20_fresh.data.toList.drop 117 = dktX20_fresh_5 := dk_seg dksX20_fresh_4 23 rfl rfl
theorem dX20_fresh_0 : decode cX20_fresh 0 = .ok (.aload_n 0, 1) := dk_42 (dk_at dksX20_fresh_0 0 rfl rfl)
theorem dX20_fresh_1 : decode cX20_fresh 1 = .ok (.getfield 20, 3) := dk_180 0 20 (dk_at dksX20_fresh_0 1 rfl rfl)
theorem dX20_fresh_4 : decode cX20_fresh 4 = .ok (.bipush 26, 2) := dk_16 26 (dk_at dksX20_fresh_0 4 rfl rfl)
theorem dX20_fresh_6 : decode cX20_fresh 6 = .ok (.iaload, 1) := dk_46 (dk_at dksX20_fresh_0 6 rfl rfl)
theorem dX20_fresh_7 : decode cX20_fresh 7 = .ok (.istore_n 1, 1) := dk_60 (dk_at dksX20_fresh_0 7 rfl rfl)
theorem dX20_fresh_8 : decode cX20_fresh 8 = .ok (.iconst 0, 1) := dk_3 (dk_at dksX20_fresh_0 8 rfl rfl)
theorem dX20_fresh_9 : decode cX20_fresh 9 = .ok (.istore_n 2, 1) := dk_61 (dk_at dksX20_fresh_0 9 rfl rfl)
theorem dX20_fresh_10 : decode cX20_fresh 10 = .ok (.iload_n 2, 1) := dk_28 (dk_at dksX20_fresh_0 10 rfl rfl)
theorem dX20_fresh_11 : decode cX20_fresh 11 = .ok (.sipush 342, 3) := dk_17 1 86 (dk_at dksX20_fresh_0 11 rfl rfl)
theorem dX20_fresh_14 : decode cX20_fresh 14 = .ok (.if_icmp .ge 30, 3) := dk_162 0 30 (dk_at dksX20_fresh_0 14 rfl rfl)
theorem dX20_fresh_17 : decode cX20_fresh 17 = .ok (.iload_n 2, 1) := dk_28 (dk_at dksX20_fresh_0 17 rfl rfl)
theorem dX20_fresh_18 : decode cX20_fresh 18 = .ok (.sipush 173, 3) := dk_17 0 173 (dk_at dksX20_fresh_0 18 rfl rfl)
theorem dX20_fresh_21 : decode cX20_fresh 21 = .ok (.if_icmp .lt 10, 3) := dk_161 0 10 (dk_at dksX20_fresh_0 21 rfl rfl)
theorem dX20_fresh_24 : decode cX20_fresh 24 = .ok (.iload_n 2, 1) := dk_28 (dk_at dksX20_fresh_1 0 rfl rfl)
theorem dX20_fresh_25 : decode cX20_fresh 25 = .ok (.sipush 194, 3) := dk_17 0 194 (dk_at dksX20_fresh_1 1 rfl rfl)
theorem dX20_fresh_28 : decode cX20_fresh 28 = .ok (.if_icmp .lt 10, 3) := dk_161 0 10 (dk_at dksX20_fresh_1 4 rfl rfl)
theorem dX20_fresh_31 : decode cX20_fresh 31 = .ok (.aload_n 0, 1) := dk_42 (dk_at dksX20_fresh_1 7 rfl rfl)
theorem dX20_fresh_32 : decode cX20_fresh 32 = .ok (.getfield 20, 3) := dk_180 0 20 (dk_at dksX20_fresh_1 8 rfl rfl)
theorem dX20_fresh_35 : decode cX20_fresh 35 = .ok (.iload_n 2, 1) := dk_28 (dk_at dksX20_fresh_1 11 rfl rfl)
theorem dX20_fresh_36 : decode cX20_fresh 36 = .ok (.iconst 0, 1) := dk_3 (dk_at dksX20_fresh_1 12 rfl rfl)
theorem dX20_fresh_37 : decode cX20_fresh 37 = .ok (.iastore, 1) := dk_79 (dk_at dksX20_fresh_1 13 rfl rfl)
theorem dX20_fresh_38 : decode cX20_fresh 38 = .ok (.iinc 2 1, 3) := dk_132 2 1 (dk_at dksX20_fresh_1 14 rfl rfl)
theorem dX20_fresh_41 : decode cX20_fresh 41 = .ok (.goto (-31), 3) := dk_167 255 225 (dk_at dksX20_fresh_1 17 rfl rfl)
theorem dX20_fresh_44 : decode cX20_fresh 44 = .ok (.iconst 0, 1) := dk_3 (dk_at dksX20_fresh_1 20 rfl rfl)
theorem dX20_fresh_45 : decode cX20_fresh 45 = .ok (.istore_n 2, 1) := dk_61 (dk_at dksX20_fresh_1 21 rfl rfl)
theorem dX20_fresh_46 : decode cX20_fresh 46 = .ok (.iload_n 2, 1) := dk_28 (dk_at dksX20_fresh_1 22 rfl rfl)
theorem dX20_fresh_47 : decode cX20_fresh 47 = .ok (.bipush 21, 2) := dk_16 21 (dk_at dksX20_fresh_2 0 rfl rfl)
theorem dX20_fresh_49 : decode cX20_fresh 49 = .ok (.if_icmp .ge 27, 3) := dk_162 0 27 (dk_at dksX20_fresh_2 2 rfl rfl)
theorem dX20_fresh_52 : decode cX20_fresh 52 = .ok (.aload_n 0, 1) := dk_42 (dk_at dksX20_fresh_2 5 rfl rfl)
theorem dX20_fresh_53 : decode cX20_fresh 53 = .ok (.getfield 20, 3) := dk_180 0 20 (dk_at dksX20_fresh_2 6 rfl rfl)
theorem dX20_fresh_56 : decode cX20_fresh 56 = .ok (.sipush 194, 3) := dk_17 0 194 (dk_at dksX20_fresh_2 9 rfl rfl)
theorem dX20_fresh_59 : decode cX20_fresh 59 = .ok (.iload_n 2, 1) := dk_28 (dk_at dksX20_fresh_2 12 rfl rfl)
theorem dX20_fresh_60 : decode cX20_fresh 60 = .ok (.iadd, 1) := dk_96 (dk_at dksX20_fresh_2 13 rfl rfl)
theorem dX20_fresh_61 : decode cX20_fresh 61 = .ok (.iconst (-1), 1) := dk_2 (dk_at dksX20_fresh_2 14 rfl rfl)
theorem dX20_fresh_62 : decode cX20_fresh 62 = .ok (.iastore, 1) := dk_79 (dk_at dksX20_fresh_2 15 rfl rfl)
theorem dX20_fresh_63 : decode cX20_fresh 63 = .ok (.aload_n 0, 1) := dk_42 (dk_at dksX20_fresh_2 16 rfl rfl)
theorem dX20_fresh_64 : decode cX20_fresh 64 = .ok (.getfield 44, 3) := dk_180 0 44 (dk_at dksX20_fresh_2 17 rfl rfl)
theorem dX20_fresh_67 : decode cX20_fresh 67 = .ok (.iload_n 2, 1) := dk_28 (dk_at dksX20_fresh_2 20 rfl rfl)
theorem dX20_fresh_68 : decode cX20_fresh 68 = .ok (.iconst (-1), 1) := dk_2 (dk_at dksX20_fresh_2 21 rfl rfl)
theorem dX20_fresh_69 : decode cX20_fresh 69 = .ok (.iastore, 1) := dk_79 (dk_at dksX20_fresh_2 22 rfl rfl)
theorem dX20_fresh_70 : decode cX20_fresh 70 = .ok (.iinc 2 1, 3) := dk_132 2 1 (dk_at dksX20_fresh_3 0 rfl rfl)
theorem dX20_fresh_73 : decode cX20_fresh 73 = .ok (.goto (-27), 3) := dk_167 255 229 (dk_at dksX20_fresh_3 3 rfl rfl)
theorem dX20_fresh_76 : decode cX20_fresh 76 = .ok (.iconst 0, 1) := dk_3 (dk_at dksX20_fresh_3 6 rfl rfl)
theorem dX20_fresh_77 : decode cX20_fresh 77 = .ok (.istore_n 2, 1) := dk_61 (dk_at dksX20_fresh_3 7 rfl rfl)
theorem dX20_fresh_78 : decode cX20_fresh 78 = .ok (.iload_n 2, 1) := dk_28 (dk_at dksX20_fresh_3 8 rfl rfl)
theorem dX20_fresh_79 : decode cX20_fresh 79 = .ok (.bipush 17, 2) := dk_16 17 (dk_at dksX20_fresh_3 9 rfl rfl)
theorem dX20_fresh_81 : decode cX20_fresh 81 = .ok (.if_icmp .ge 16, 3) := dk_162 0 16 (dk_at dksX20_fresh_3 11 rfl rfl)
theorem dX20_fresh_84 : decode cX20_fresh 84 = .ok (.aload_n 0, 1) := dk_42 (dk_at dksX20_fresh_3 14 rfl rfl)
theorem dX20_fresh_85 : decode cX20_fresh 85 = .ok (.getfield 26, 3) := dk_180 0 26 (dk_at dksX20_fresh_3 15 rfl rfl)
theorem dX20_fresh_88 : decode cX20_fresh 88 = .ok (.iload_n 2, 1) := dk_28 (dk_at dksX20_fresh_3 18 rfl rfl)
theorem dX20_fresh_89 : decode cX20_fresh 89 = .ok (.iconst 0, 1) := dk_3 (dk_at dksX20_fresh_3 19 rfl rfl)
theorem dX20_fresh_90 : decode cX20_fresh 90 = .ok (.iastore, 1) := dk_79 (dk_at dksX20_fresh_3 20 rfl rfl)
theorem dX20_fresh_91 : decode cX20_fresh 91 = .ok (.iinc 2 1, 3) := dk_132 2 1 (dk_at dksX20_fresh_3 21 rfl rfl)
theorem dX20_fresh_94 : decode cX20_fresh 94 = .ok (.goto (-16), 3) := dk_167 255 240 (dk_at dksX20_fresh_4 0 rfl rfl)
theorem dX20_fresh_97 : decode cX20_fresh 97 = .ok (.aload_n 0, 1) := dk_42 (dk_at dksX20_fresh_4 3 rfl rfl)
theorem dX20_fresh_98 : decode cX20_fresh 98 = .ok (.getfield 20, 3) := dk_180 0 20 (dk_at dksX20_fresh_4 4 rfl rfl)
theorem dX20_fresh_101 : decode cX20_fresh 101 = .ok (.bipush 19, 2) := dk_16 19 (dk_at dksX20_fresh_4 7 rfl rfl)
theorem dX20_fresh_103 : decode cX20_fresh 103 = .ok (.iconst (-1), 1) := dk_2 (dk_at dksX20_fresh_4 9 rfl rfl)
theorem dX20_fresh_104 : decode cX20_fresh 104 = .ok (.iastore, 1) := dk_79 (dk_at dksX20_fresh_4 10 rfl rfl)
theorem dX20_fresh_105 : decode cX20_fresh 105 = .ok (.aload_n 0, 1) := dk_42 (dk_at dksX20_fresh_4 11 rfl rfl)
theorem dX20_fresh_106 : decode cX20_fresh 106 = .ok (.getfield 20, 3) := dk_180 0 20 (dk_at dksX20_fresh_4 12 rfl rfl)
theorem dX20_fresh_109 : decode cX20_fresh 109 = .ok (.bipush 26, 2) := dk_16 26 (dk_at dksX20_fresh_4 15 rfl rfl)
theorem dX20_fresh_111 : decode cX20_fresh 111 = .ok (.iload_n 1, 1) := dk_27 (dk_at dksX20_fresh_4 17 rfl rfl)
theorem dX20_fresh_112 : decode cX20_fresh 112 = .ok (.iastore, 1) := dk_79 (dk_at dksX20_fresh_4 18 rfl rfl)
theorem dX20_fresh_113 : decode cX20_fresh 113 = .ok (.aload_n 0, 1) := dk_42 (dk_at dksX20_fresh_4 19 rfl rfl)
theorem dX20_fresh_114 : decode cX20_fresh 114 = .ok (.getfield 20, 3) := dk_180 0 20 (dk_at dksX20_fresh_4 20 rfl rfl)
theorem dX20_fresh_117 : decode cX20_fresh 117 = .ok (.bipush 27, 2) := dk_16 27 (dk_at dksX20_fresh_5 0 rfl rfl)
theorem dX20_fresh_119 : decode cX20_fresh 119 = .ok (.iload_n 1, 1) := dk_27 (dk_at dksX20_fresh_5 2 rfl rfl)
theorem dX20_fresh_120 : decode cX20_fresh 120 = .ok (.iastore, 1) := dk_79 (dk_at dksX20_fresh_5 3 rfl rfl)
theorem dX20_fresh_121 : decode cX20_fresh 121 = .ok (.aload_n 0, 1) := dk_42 (dk_at dksX20_fresh_5 4 rfl rfl)
theorem dX20_fresh_122 : decode cX20_fresh 122 = .ok (.iconst 0, 1) := dk_3 (dk_at dksX20_fresh_5 5 rfl rfl)
theorem dX20_fresh_123 : decode cX20_fresh 123 = .ok (.putfield 69, 3) := dk_181 0 69 (dk_at dksX20_fresh_5 6 rfl rfl)
theorem dX20_fresh_126 : decode cX20_fresh 126 = .ok (.return_, 1) := dk_177 (dk_at dksX20_fresh_5 9 rfl rfl)
abbrev cX20_thrown : ByteArray := prog_52_method_2_code
def yX20_thrown : MethodName := ⟨RX20, "thrown", "()I"⟩
theorem dX20_thrown_0 : decode cX20_thrown 0 = .ok (.aload_n 0, 1) := by decide +kernel
theorem dX20_thrown_1 : decode cX20_thrown 1 = .ok (.getfield 65, 3) := by decide +kernel
theorem dX20_thrown_4 : decode cX20_thrown 4 = .ok (.ireturn, 1) := by decide +kernel
abbrev cX20_load : ByteArray := prog_52_method_48_code
def yX20_load : MethodName := ⟨RX20, "load", "(IJ)Z"⟩
def dkwX20_load_2 : List UInt8 := [132, 4, 255, 167, 255, 228, 4, 172]
abbrev dktX20_load_2 : List UInt8 := dkwX20_load_2 ++ []
def dkwX20_load_1 : List UInt8 := [155, 0, 29, 42, 180, 0, 7, 27, 21, 4, 96, 32, 20, 1, 3, 127, 136, 79, 32, 16, 8, 123, 65]
abbrev dktX20_load_1 : List UInt8 := dkwX20_load_1 ++ dktX20_load_2
def dkwX20_load_0 : List UInt8 := [42, 3, 181, 0, 65, 27, 3, 17, 1, 248, 184, 0, 195, 154, 0, 5, 3, 172, 16, 7, 54, 4, 21, 4]
abbrev dktX20_load_0 : List UInt8 := dkwX20_load_0 ++ dktX20_load_1
theorem dksX20_load_0 : cX20_load.data.toList.drop 0 = dktX20_load_0 := by decide +kernel
theorem dksX20_load_1 : cX20_load.data.toList.drop 24 = dktX20_load_1 := dk_seg dksX20_load_0 24 rfl rfl
theorem dksX20_load_2 : cX20_load.data.toList.drop 47 = dktX20_load_2 := dk_seg dksX20_load_1 23 rfl rfl
theorem dX20_load_0 : decode cX20_load 0 = .ok (.aload_n 0, 1) := dk_42 (dk_at dksX20_load_0 0 rfl rfl)
theorem dX20_load_1 : decode cX20_load 1 = .ok (.iconst 0, 1) := dk_3 (dk_at dksX20_load_0 1 rfl rfl)
theorem dX20_load_2 : decode cX20_load 2 = .ok (.putfield 65, 3) := dk_181 0 65 (dk_at dksX20_load_0 2 rfl rfl)
theorem dX20_load_5 : decode cX20_load 5 = .ok (.iload_n 1, 1) := dk_27 (dk_at dksX20_load_0 5 rfl rfl)
theorem dX20_load_6 : decode cX20_load 6 = .ok (.iconst 0, 1) := dk_3 (dk_at dksX20_load_0 6 rfl rfl)
theorem dX20_load_7 : decode cX20_load 7 = .ok (.sipush 504, 3) := dk_17 1 248 (dk_at dksX20_load_0 7 rfl rfl)
theorem dX20_load_10 : decode cX20_load 10 = .ok (.invokestatic 195, 3) := dk_184 0 195 (dk_at dksX20_load_0 10 rfl rfl)
theorem dX20_load_13 : decode cX20_load 13 = .ok (.ifCond .ne 5, 3) := dk_154 0 5 (dk_at dksX20_load_0 13 rfl rfl)
theorem dX20_load_16 : decode cX20_load 16 = .ok (.iconst 0, 1) := dk_3 (dk_at dksX20_load_0 16 rfl rfl)
theorem dX20_load_17 : decode cX20_load 17 = .ok (.ireturn, 1) := dk_172 (dk_at dksX20_load_0 17 rfl rfl)
theorem dX20_load_18 : decode cX20_load 18 = .ok (.bipush 7, 2) := dk_16 7 (dk_at dksX20_load_0 18 rfl rfl)
theorem dX20_load_20 : decode cX20_load 20 = .ok (.istore 4, 2) := dk_54 4 (dk_at dksX20_load_0 20 rfl rfl)
theorem dX20_load_22 : decode cX20_load 22 = .ok (.iload 4, 2) := dk_21 4 (dk_at dksX20_load_0 22 rfl rfl)
theorem dX20_load_24 : decode cX20_load 24 = .ok (.ifCond .lt 29, 3) := dk_155 0 29 (dk_at dksX20_load_1 0 rfl rfl)
theorem dX20_load_27 : decode cX20_load 27 = .ok (.aload_n 0, 1) := dk_42 (dk_at dksX20_load_1 3 rfl rfl)
theorem dX20_load_28 : decode cX20_load 28 = .ok (.getfield 7, 3) := dk_180 0 7 (dk_at dksX20_load_1 4 rfl rfl)
theorem dX20_load_31 : decode cX20_load 31 = .ok (.iload_n 1, 1) := dk_27 (dk_at dksX20_load_1 7 rfl rfl)
theorem dX20_load_32 : decode cX20_load 32 = .ok (.iload 4, 2) := dk_21 4 (dk_at dksX20_load_1 8 rfl rfl)
theorem dX20_load_34 : decode cX20_load 34 = .ok (.iadd, 1) := dk_96 (dk_at dksX20_load_1 10 rfl rfl)
theorem dX20_load_35 : decode cX20_load 35 = .ok (.lload_n 2, 1) := dk_32 (dk_at dksX20_load_1 11 rfl rfl)
theorem dX20_load_36 : decode cX20_load 36 = .ok (.ldc2_w 259, 3) := dk_20 1 3 (dk_at dksX20_load_1 12 rfl rfl)
theorem dX20_load_39 : decode cX20_load 39 = .ok (.land, 1) := dk_127 (dk_at dksX20_load_1 15 rfl rfl)
theorem dX20_load_40 : decode cX20_load 40 = .ok (.l2i, 1) := dk_136 (dk_at dksX20_load_1 16 rfl rfl)
theorem dX20_load_41 : decode cX20_load 41 = .ok (.iastore, 1) := dk_79 (dk_at dksX20_load_1 17 rfl rfl)
theorem dX20_load_42 : decode cX20_load 42 = .ok (.lload_n 2, 1) := dk_32 (dk_at dksX20_load_1 18 rfl rfl)
theorem dX20_load_43 : decode cX20_load 43 = .ok (.bipush 8, 2) := dk_16 8 (dk_at dksX20_load_1 19 rfl rfl)
theorem dX20_load_45 : decode cX20_load 45 = .ok (.lshr, 1) := dk_123 (dk_at dksX20_load_1 21 rfl rfl)
theorem dX20_load_46 : decode cX20_load 46 = .ok (.lstore_n 2, 1) := dk_65 (dk_at dksX20_load_1 22 rfl rfl)
theorem dX20_load_47 : decode cX20_load 47 = .ok (.iinc 4 (-1), 3) := dk_132 4 255 (dk_at dksX20_load_2 0 rfl rfl)
theorem dX20_load_50 : decode cX20_load 50 = .ok (.goto (-28), 3) := dk_167 255 228 (dk_at dksX20_load_2 3 rfl rfl)
theorem dX20_load_53 : decode cX20_load 53 = .ok (.iconst 1, 1) := dk_4 (dk_at dksX20_load_2 6 rfl rfl)
theorem dX20_load_54 : decode cX20_load 54 = .ok (.ireturn, 1) := dk_172 (dk_at dksX20_load_2 7 rfl rfl)
abbrev cX20_within : ByteArray := prog_52_method_3_code
def yX20_within : MethodName := ⟨RX20, "within", "(III)Z"⟩
def dkwX20_within_0 : List UInt8 := [26, 27, 161, 0, 12, 26, 28, 163, 0, 7, 4, 167, 0, 4, 3, 172]
abbrev dktX20_within_0 : List UInt8 := dkwX20_within_0 ++ []
theorem dksX20_within_0 : cX20_within.data.toList.drop 0 = dktX20_within_0 := by decide +kernel
theorem dX20_within_0 : decode cX20_within 0 = .ok (.iload_n 0, 1) := dk_26 (dk_at dksX20_within_0 0 rfl rfl)
theorem dX20_within_1 : decode cX20_within 1 = .ok (.iload_n 1, 1) := dk_27 (dk_at dksX20_within_0 1 rfl rfl)
theorem dX20_within_2 : decode cX20_within 2 = .ok (.if_icmp .lt 12, 3) := dk_161 0 12 (dk_at dksX20_within_0 2 rfl rfl)
theorem dX20_within_5 : decode cX20_within 5 = .ok (.iload_n 0, 1) := dk_26 (dk_at dksX20_within_0 5 rfl rfl)
theorem dX20_within_6 : decode cX20_within 6 = .ok (.iload_n 2, 1) := dk_28 (dk_at dksX20_within_0 6 rfl rfl)
theorem dX20_within_7 : decode cX20_within 7 = .ok (.if_icmp .gt 7, 3) := dk_163 0 7 (dk_at dksX20_within_0 7 rfl rfl)
theorem dX20_within_10 : decode cX20_within 10 = .ok (.iconst 1, 1) := dk_4 (dk_at dksX20_within_0 10 rfl rfl)
theorem dX20_within_11 : decode cX20_within 11 = .ok (.goto 4, 3) := dk_167 0 4 (dk_at dksX20_within_0 11 rfl rfl)
theorem dX20_within_14 : decode cX20_within 14 = .ok (.iconst 0, 1) := dk_3 (dk_at dksX20_within_0 14 rfl rfl)
theorem dX20_within_15 : decode cX20_within 15 = .ok (.ireturn, 1) := dk_172 (dk_at dksX20_within_0 15 rfl rfl)
abbrev cX20_code : ByteArray := prog_52_method_49_code
def yX20_code : MethodName := ⟨RX20, "code", "(I)I"⟩
def dkwX20_code_1 : List UInt8 := [167, 0, 4, 2, 172]
abbrev dktX20_code_1 : List UInt8 := dkwX20_code_1 ++ []
def dkwX20_code_0 : List UInt8 := [42, 3, 181, 0, 65, 27, 3, 17, 1, 255, 184, 0, 195, 153, 0, 12, 42, 180, 0, 7, 27, 46]
abbrev dktX20_code_0 : List UInt8 := dkwX20_code_0 ++ dktX20_code_1
theorem dksX20_code_0 : cX20_code.data.toList.drop 0 = dktX20_code_0 := by decide +kernel
theorem dksX20_code_1 : cX20_code.data.toList.drop 22 = dktX20_code_1 := dk_seg dksX20_code_0 22 rfl rfl
theorem dX20_code_0 : decode cX20_code 0 = .ok (.aload_n 0, 1) := dk_42 (dk_at dksX20_code_0 0 rfl rfl)
theorem dX20_code_1 : decode cX20_code 1 = .ok (.iconst 0, 1) := dk_3 (dk_at dksX20_code_0 1 rfl rfl)
theorem dX20_code_2 : decode cX20_code 2 = .ok (.putfield 65, 3) := dk_181 0 65 (dk_at dksX20_code_0 2 rfl rfl)
theorem dX20_code_5 : decode cX20_code 5 = .ok (.iload_n 1, 1) := dk_27 (dk_at dksX20_code_0 5 rfl rfl)
theorem dX20_code_6 : decode cX20_code 6 = .ok (.iconst 0, 1) := dk_3 (dk_at dksX20_code_0 6 rfl rfl)
theorem dX20_code_7 : decode cX20_code 7 = .ok (.sipush 511, 3) := dk_17 1 255 (dk_at dksX20_code_0 7 rfl rfl)
theorem dX20_code_10 : decode cX20_code 10 = .ok (.invokestatic 195, 3) := dk_184 0 195 (dk_at dksX20_code_0 10 rfl rfl)
theorem dX20_code_13 : decode cX20_code 13 = .ok (.ifCond .eq 12, 3) := dk_153 0 12 (dk_at dksX20_code_0 13 rfl rfl)
theorem dX20_code_16 : decode cX20_code 16 = .ok (.aload_n 0, 1) := dk_42 (dk_at dksX20_code_0 16 rfl rfl)
theorem dX20_code_17 : decode cX20_code 17 = .ok (.getfield 7, 3) := dk_180 0 7 (dk_at dksX20_code_0 17 rfl rfl)
theorem dX20_code_20 : decode cX20_code 20 = .ok (.iload_n 1, 1) := dk_27 (dk_at dksX20_code_0 20 rfl rfl)
theorem dX20_code_21 : decode cX20_code 21 = .ok (.iaload, 1) := dk_46 (dk_at dksX20_code_0 21 rfl rfl)
theorem dX20_code_22 : decode cX20_code 22 = .ok (.goto 4, 3) := dk_167 0 4 (dk_at dksX20_code_1 0 rfl rfl)
theorem dX20_code_25 : decode cX20_code 25 = .ok (.iconst (-1), 1) := dk_2 (dk_at dksX20_code_1 3 rfl rfl)
theorem dX20_code_26 : decode cX20_code 26 = .ok (.ireturn, 1) := dk_172 (dk_at dksX20_code_1 4 rfl rfl)
abbrev cX20_rank : ByteArray := prog_52_method_50_code
def yX20_rank : MethodName := ⟨RX20, "rank", "(II)Z"⟩
def dkwX20_rank_2 : List UInt8 := [17, 0, 173, 27, 96, 28, 79, 4, 172]
abbrev dktX20_rank_2 : List UInt8 := dkwX20_rank_2 ++ []
def dkwX20_rank_1 : List UInt8 := [153, 0, 17, 42, 180, 0, 20, 17, 1, 44, 27, 96, 46, 4, 160, 0, 5, 3, 172, 42, 180, 0, 20]
abbrev dktX20_rank_1 : List UInt8 := dkwX20_rank_1 ++ dktX20_rank_2
def dkwX20_rank_0 : List UInt8 := [42, 3, 181, 0, 65, 27, 3, 16, 19, 184, 0, 195, 153, 0, 28, 28, 3, 17, 0, 255, 184, 0, 195]
abbrev dktX20_rank_0 : List UInt8 := dkwX20_rank_0 ++ dktX20_rank_1
theorem dksX20_rank_0 : cX20_rank.data.toList.drop 0 = dktX20_rank_0 := by decide +kernel
theorem dksX20_rank_1 : cX20_rank.data.toList.drop 23 = dktX20_rank_1 := dk_seg dksX20_rank_0 23 rfl rfl
theorem dksX20_rank_2 : cX20_rank.data.toList.drop 46 = dktX20_rank_2 := dk_seg dksX20_rank_1 23 rfl rfl
theorem dX20_rank_0 : decode cX20_rank 0 = .ok (.aload_n 0, 1) := dk_42 (dk_at dksX20_rank_0 0 rfl rfl)
theorem dX20_rank_1 : decode cX20_rank 1 = .ok (.iconst 0, 1) := dk_3 (dk_at dksX20_rank_0 1 rfl rfl)
theorem dX20_rank_2 : decode cX20_rank 2 = .ok (.putfield 65, 3) := dk_181 0 65 (dk_at dksX20_rank_0 2 rfl rfl)
theorem dX20_rank_5 : decode cX20_rank 5 = .ok (.iload_n 1, 1) := dk_27 (dk_at dksX20_rank_0 5 rfl rfl)
theorem dX20_rank_6 : decode cX20_rank 6 = .ok (.iconst 0, 1) := dk_3 (dk_at dksX20_rank_0 6 rfl rfl)
theorem dX20_rank_7 : decode cX20_rank 7 = .ok (.bipush 19, 2) := dk_16 19 (dk_at dksX20_rank_0 7 rfl rfl)
theorem dX20_rank_9 : decode cX20_rank 9 = .ok (.invokestatic 195, 3) := dk_184 0 195 (dk_at dksX20_rank_0 9 rfl rfl)
theorem dX20_rank_12 : decode cX20_rank 12 = .ok (.ifCond .eq 28, 3) := dk_153 0 28 (dk_at dksX20_rank_0 12 rfl rfl)
theorem dX20_rank_15 : decode cX20_rank 15 = .ok (.iload_n 2, 1) := dk_28 (dk_at dksX20_rank_0 15 rfl rfl)
theorem dX20_rank_16 : decode cX20_rank 16 = .ok (.iconst 0, 1) := dk_3 (dk_at dksX20_rank_0 16 rfl rfl)
theorem dX20_rank_17 : decode cX20_rank 17 = .ok (.sipush 255, 3) := dk_17 0 255 (dk_at dksX20_rank_0 17 rfl rfl)
theorem dX20_rank_20 : decode cX20_rank 20 = .ok (.invokestatic 195, 3) := dk_184 0 195 (dk_at dksX20_rank_0 20 rfl rfl)
theorem dX20_rank_23 : decode cX20_rank 23 = .ok (.ifCond .eq 17, 3) := dk_153 0 17 (dk_at dksX20_rank_1 0 rfl rfl)
theorem dX20_rank_26 : decode cX20_rank 26 = .ok (.aload_n 0, 1) := dk_42 (dk_at dksX20_rank_1 3 rfl rfl)
theorem dX20_rank_27 : decode cX20_rank 27 = .ok (.getfield 20, 3) := dk_180 0 20 (dk_at dksX20_rank_1 4 rfl rfl)
theorem dX20_rank_30 : decode cX20_rank 30 = .ok (.sipush 300, 3) := dk_17 1 44 (dk_at dksX20_rank_1 7 rfl rfl)
theorem dX20_rank_33 : decode cX20_rank 33 = .ok (.iload_n 1, 1) := dk_27 (dk_at dksX20_rank_1 10 rfl rfl)
theorem dX20_rank_34 : decode cX20_rank 34 = .ok (.iadd, 1) := dk_96 (dk_at dksX20_rank_1 11 rfl rfl)
theorem dX20_rank_35 : decode cX20_rank 35 = .ok (.iaload, 1) := dk_46 (dk_at dksX20_rank_1 12 rfl rfl)
theorem dX20_rank_36 : decode cX20_rank 36 = .ok (.iconst 1, 1) := dk_4 (dk_at dksX20_rank_1 13 rfl rfl)
theorem dX20_rank_37 : decode cX20_rank 37 = .ok (.if_icmp .ne 5, 3) := dk_160 0 5 (dk_at dksX20_rank_1 14 rfl rfl)
theorem dX20_rank_40 : decode cX20_rank 40 = .ok (.iconst 0, 1) := dk_3 (dk_at dksX20_rank_1 17 rfl rfl)
theorem dX20_rank_41 : decode cX20_rank 41 = .ok (.ireturn, 1) := dk_172 (dk_at dksX20_rank_1 18 rfl rfl)
theorem dX20_rank_42 : decode cX20_rank 42 = .ok (.aload_n 0, 1) := dk_42 (dk_at dksX20_rank_1 19 rfl rfl)
theorem dX20_rank_43 : decode cX20_rank 43 = .ok (.getfield 20, 3) := dk_180 0 20 (dk_at dksX20_rank_1 20 rfl rfl)
theorem dX20_rank_46 : decode cX20_rank 46 = .ok (.sipush 173, 3) := dk_17 0 173 (dk_at dksX20_rank_2 0 rfl rfl)
theorem dX20_rank_49 : decode cX20_rank 49 = .ok (.iload_n 1, 1) := dk_27 (dk_at dksX20_rank_2 3 rfl rfl)
theorem dX20_rank_50 : decode cX20_rank 50 = .ok (.iadd, 1) := dk_96 (dk_at dksX20_rank_2 4 rfl rfl)
theorem dX20_rank_51 : decode cX20_rank 51 = .ok (.iload_n 2, 1) := dk_28 (dk_at dksX20_rank_2 5 rfl rfl)
theorem dX20_rank_52 : decode cX20_rank 52 = .ok (.iastore, 1) := dk_79 (dk_at dksX20_rank_2 6 rfl rfl)
theorem dX20_rank_53 : decode cX20_rank 53 = .ok (.iconst 1, 1) := dk_4 (dk_at dksX20_rank_2 7 rfl rfl)
theorem dX20_rank_54 : decode cX20_rank 54 = .ok (.ireturn, 1) := dk_172 (dk_at dksX20_rank_2 8 rfl rfl)
abbrev cX20_enable : ByteArray := prog_52_method_51_code
def yX20_enable : MethodName := ⟨RX20, "enable", "(IZ)Z"⟩
def dkwX20_enable_1 : List UInt8 := [4, 172]
abbrev dktX20_enable_1 : List UInt8 := dkwX20_enable_1 ++ []
def dkwX20_enable_0 : List UInt8 := [42, 3, 181, 0, 65, 27, 3, 16, 19, 184, 0, 195, 154, 0, 5, 3, 172, 42, 180, 0, 16, 27, 28, 84]
abbrev dktX20_enable_0 : List UInt8 := dkwX20_enable_0 ++ dktX20_enable_1
theorem dksX20_enable_0 : cX20_enable.data.toList.drop 0 = dktX20_enable_0 := by decide +kernel
theorem dksX20_enable_1 : cX20_enable.data.toList.drop 24 = dktX20_enable_1 := dk_seg dksX20_enable_0 24 rfl rfl
theorem dX20_enable_0 : decode cX20_enable 0 = .ok (.aload_n 0, 1) := dk_42 (dk_at dksX20_enable_0 0 rfl rfl)
theorem dX20_enable_1 : decode cX20_enable 1 = .ok (.iconst 0, 1) := dk_3 (dk_at dksX20_enable_0 1 rfl rfl)
theorem dX20_enable_2 : decode cX20_enable 2 = .ok (.putfield 65, 3) := dk_181 0 65 (dk_at dksX20_enable_0 2 rfl rfl)
theorem dX20_enable_5 : decode cX20_enable 5 = .ok (.iload_n 1, 1) := dk_27 (dk_at dksX20_enable_0 5 rfl rfl)
theorem dX20_enable_6 : decode cX20_enable 6 = .ok (.iconst 0, 1) := dk_3 (dk_at dksX20_enable_0 6 rfl rfl)
theorem dX20_enable_7 : decode cX20_enable 7 = .ok (.bipush 19, 2) := dk_16 19 (dk_at dksX20_enable_0 7 rfl rfl)
theorem dX20_enable_9 : decode cX20_enable 9 = .ok (.invokestatic 195, 3) := dk_184 0 195 (dk_at dksX20_enable_0 9 rfl rfl)
theorem dX20_enable_12 : decode cX20_enable 12 = .ok (.ifCond .ne 5, 3) := dk_154 0 5 (dk_at dksX20_enable_0 12 rfl rfl)
theorem dX20_enable_15 : decode cX20_enable 15 = .ok (.iconst 0, 1) := dk_3 (dk_at dksX20_enable_0 15 rfl rfl)
theorem dX20_enable_16 : decode cX20_enable 16 = .ok (.ireturn, 1) := dk_172 (dk_at dksX20_enable_0 16 rfl rfl)
theorem dX20_enable_17 : decode cX20_enable 17 = .ok (.aload_n 0, 1) := dk_42 (dk_at dksX20_enable_0 17 rfl rfl)
theorem dX20_enable_18 : decode cX20_enable 18 = .ok (.getfield 16, 3) := dk_180 0 16 (dk_at dksX20_enable_0 18 rfl rfl)
theorem dX20_enable_21 : decode cX20_enable 21 = .ok (.iload_n 1, 1) := dk_27 (dk_at dksX20_enable_0 21 rfl rfl)
theorem dX20_enable_22 : decode cX20_enable 22 = .ok (.iload_n 2, 1) := dk_28 (dk_at dksX20_enable_0 22 rfl rfl)
theorem dX20_enable_23 : decode cX20_enable 23 = .ok (.bastore, 1) := dk_84 (dk_at dksX20_enable_0 23 rfl rfl)
theorem dX20_enable_24 : decode cX20_enable 24 = .ok (.iconst 1, 1) := dk_4 (dk_at dksX20_enable_1 0 rfl rfl)
theorem dX20_enable_25 : decode cX20_enable 25 = .ok (.ireturn, 1) := dk_172 (dk_at dksX20_enable_1 1 rfl rfl)
abbrev cX20_vector : ByteArray := prog_52_method_52_code
def yX20_vector : MethodName := ⟨RX20, "vector", "(II)Z"⟩
def dkwX20_vector_1 : List UInt8 := [154, 0, 5, 3, 172, 42, 180, 0, 13, 27, 28, 79, 4, 172]
abbrev dktX20_vector_1 : List UInt8 := dkwX20_vector_1 ++ []
def dkwX20_vector_0 : List UInt8 := [42, 3, 181, 0, 65, 27, 3, 16, 20, 184, 0, 195, 153, 0, 14, 28, 3, 17, 1, 255, 184, 0, 195]
abbrev dktX20_vector_0 : List UInt8 := dkwX20_vector_0 ++ dktX20_vector_1
theorem dksX20_vector_0 : cX20_vector.data.toList.drop 0 = dktX20_vector_0 := by decide +kernel
theorem dksX20_vector_1 : cX20_vector.data.toList.drop 23 = dktX20_vector_1 := dk_seg dksX20_vector_0 23 rfl rfl
theorem dX20_vector_0 : decode cX20_vector 0 = .ok (.aload_n 0, 1) := dk_42 (dk_at dksX20_vector_0 0 rfl rfl)
theorem dX20_vector_1 : decode cX20_vector 1 = .ok (.iconst 0, 1) := dk_3 (dk_at dksX20_vector_0 1 rfl rfl)
theorem dX20_vector_2 : decode cX20_vector 2 = .ok (.putfield 65, 3) := dk_181 0 65 (dk_at dksX20_vector_0 2 rfl rfl)
theorem dX20_vector_5 : decode cX20_vector 5 = .ok (.iload_n 1, 1) := dk_27 (dk_at dksX20_vector_0 5 rfl rfl)
theorem dX20_vector_6 : decode cX20_vector 6 = .ok (.iconst 0, 1) := dk_3 (dk_at dksX20_vector_0 6 rfl rfl)
theorem dX20_vector_7 : decode cX20_vector 7 = .ok (.bipush 20, 2) := dk_16 20 (dk_at dksX20_vector_0 7 rfl rfl)
theorem dX20_vector_9 : decode cX20_vector 9 = .ok (.invokestatic 195, 3) := dk_184 0 195 (dk_at dksX20_vector_0 9 rfl rfl)
theorem dX20_vector_12 : decode cX20_vector 12 = .ok (.ifCond .eq 14, 3) := dk_153 0 14 (dk_at dksX20_vector_0 12 rfl rfl)
theorem dX20_vector_15 : decode cX20_vector 15 = .ok (.iload_n 2, 1) := dk_28 (dk_at dksX20_vector_0 15 rfl rfl)
theorem dX20_vector_16 : decode cX20_vector 16 = .ok (.iconst 0, 1) := dk_3 (dk_at dksX20_vector_0 16 rfl rfl)
theorem dX20_vector_17 : decode cX20_vector 17 = .ok (.sipush 511, 3) := dk_17 1 255 (dk_at dksX20_vector_0 17 rfl rfl)
theorem dX20_vector_20 : decode cX20_vector 20 = .ok (.invokestatic 195, 3) := dk_184 0 195 (dk_at dksX20_vector_0 20 rfl rfl)
theorem dX20_vector_23 : decode cX20_vector 23 = .ok (.ifCond .ne 5, 3) := dk_154 0 5 (dk_at dksX20_vector_1 0 rfl rfl)
theorem dX20_vector_26 : decode cX20_vector 26 = .ok (.iconst 0, 1) := dk_3 (dk_at dksX20_vector_1 3 rfl rfl)
theorem dX20_vector_27 : decode cX20_vector 27 = .ok (.ireturn, 1) := dk_172 (dk_at dksX20_vector_1 4 rfl rfl)
theorem dX20_vector_28 : decode cX20_vector 28 = .ok (.aload_n 0, 1) := dk_42 (dk_at dksX20_vector_1 5 rfl rfl)
theorem dX20_vector_29 : decode cX20_vector 29 = .ok (.getfield 13, 3) := dk_180 0 13 (dk_at dksX20_vector_1 6 rfl rfl)
theorem dX20_vector_32 : decode cX20_vector 32 = .ok (.iload_n 1, 1) := dk_27 (dk_at dksX20_vector_1 9 rfl rfl)
theorem dX20_vector_33 : decode cX20_vector 33 = .ok (.iload_n 2, 1) := dk_28 (dk_at dksX20_vector_1 10 rfl rfl)
theorem dX20_vector_34 : decode cX20_vector 34 = .ok (.iastore, 1) := dk_79 (dk_at dksX20_vector_1 11 rfl rfl)
theorem dX20_vector_35 : decode cX20_vector 35 = .ok (.iconst 1, 1) := dk_4 (dk_at dksX20_vector_1 12 rfl rfl)
theorem dX20_vector_36 : decode cX20_vector 36 = .ok (.ireturn, 1) := dk_172 (dk_at dksX20_vector_1 13 rfl rfl)
abbrev cX20_split : ByteArray := prog_52_method_53_code
def yX20_split : MethodName := ⟨RX20, "split", "(I)Z"⟩
def dkwX20_split_1 : List UInt8 := [158, 0, 5, 3, 172, 42, 27, 181, 0, 113, 4, 172]
abbrev dktX20_split_1 : List UInt8 := dkwX20_split_1 ++ []
def dkwX20_split_0 : List UInt8 := [42, 3, 181, 0, 65, 27, 3, 16, 7, 184, 0, 195, 153, 0, 13, 42, 180, 0, 20, 16, 30, 46]
abbrev dktX20_split_0 : List UInt8 := dkwX20_split_0 ++ dktX20_split_1
theorem dksX20_split_0 : cX20_split.data.toList.drop 0 = dktX20_split_0 := by decide +kernel
theorem dksX20_split_1 : cX20_split.data.toList.drop 22 = dktX20_split_1 := dk_seg dksX20_split_0 22 rfl rfl
theorem dX20_split_0 : decode cX20_split 0 = .ok (.aload_n 0, 1) := dk_42 (dk_at dksX20_split_0 0 rfl rfl)
theorem dX20_split_1 : decode cX20_split 1 = .ok (.iconst 0, 1) := dk_3 (dk_at dksX20_split_0 1 rfl rfl)
theorem dX20_split_2 : decode cX20_split 2 = .ok (.putfield 65, 3) := dk_181 0 65 (dk_at dksX20_split_0 2 rfl rfl)
theorem dX20_split_5 : decode cX20_split 5 = .ok (.iload_n 1, 1) := dk_27 (dk_at dksX20_split_0 5 rfl rfl)
theorem dX20_split_6 : decode cX20_split 6 = .ok (.iconst 0, 1) := dk_3 (dk_at dksX20_split_0 6 rfl rfl)
theorem dX20_split_7 : decode cX20_split 7 = .ok (.bipush 7, 2) := dk_16 7 (dk_at dksX20_split_0 7 rfl rfl)
theorem dX20_split_9 : decode cX20_split 9 = .ok (.invokestatic 195, 3) := dk_184 0 195 (dk_at dksX20_split_0 9 rfl rfl)
theorem dX20_split_12 : decode cX20_split 12 = .ok (.ifCond .eq 13, 3) := dk_153 0 13 (dk_at dksX20_split_0 12 rfl rfl)
theorem dX20_split_15 : decode cX20_split 15 = .ok (.aload_n 0, 1) := dk_42 (dk_at dksX20_split_0 15 rfl rfl)
theorem dX20_split_16 : decode cX20_split 16 = .ok (.getfield 20, 3) := dk_180 0 20 (dk_at dksX20_split_0 16 rfl rfl)
theorem dX20_split_19 : decode cX20_split 19 = .ok (.bipush 30, 2) := dk_16 30 (dk_at dksX20_split_0 19 rfl rfl)
theorem dX20_split_21 : decode cX20_split 21 = .ok (.iaload, 1) := dk_46 (dk_at dksX20_split_0 21 rfl rfl)
theorem dX20_split_22 : decode cX20_split 22 = .ok (.ifCond .le 5, 3) := dk_158 0 5 (dk_at dksX20_split_1 0 rfl rfl)
theorem dX20_split_25 : decode cX20_split 25 = .ok (.iconst 0, 1) := dk_3 (dk_at dksX20_split_1 3 rfl rfl)
theorem dX20_split_26 : decode cX20_split 26 = .ok (.ireturn, 1) := dk_172 (dk_at dksX20_split_1 4 rfl rfl)
theorem dX20_split_27 : decode cX20_split 27 = .ok (.aload_n 0, 1) := dk_42 (dk_at dksX20_split_1 5 rfl rfl)
theorem dX20_split_28 : decode cX20_split 28 = .ok (.iload_n 1, 1) := dk_27 (dk_at dksX20_split_1 6 rfl rfl)
theorem dX20_split_29 : decode cX20_split 29 = .ok (.putfield 113, 3) := dk_181 0 113 (dk_at dksX20_split_1 7 rfl rfl)
theorem dX20_split_32 : decode cX20_split 32 = .ok (.iconst 1, 1) := dk_4 (dk_at dksX20_split_1 10 rfl rfl)
theorem dX20_split_33 : decode cX20_split 33 = .ok (.ireturn, 1) := dk_172 (dk_at dksX20_split_1 11 rfl rfl)
abbrev cX20_hold : ByteArray := prog_52_method_54_code
def yX20_hold : MethodName := ⟨RX20, "hold", "(IZ)Z"⟩
def dkwX20_hold_3 : List UInt8 := [180, 0, 20, 27, 182, 0, 143, 4, 172]
abbrev dktX20_hold_3 : List UInt8 := dkwX20_hold_3 ++ []
def dkwX20_hold_2 : List UInt8 := [27, 96, 28, 153, 0, 7, 4, 167, 0, 4, 3, 79, 42, 4, 181, 0, 72, 28, 153, 0, 12, 42, 42]
abbrev dktX20_hold_2 : List UInt8 := dkwX20_hold_2 ++ dktX20_hold_3
def dkwX20_hold_1 : List UInt8 := [96, 46, 4, 160, 0, 7, 4, 167, 0, 4, 3, 28, 160, 0, 5, 3, 172, 42, 180, 0, 20, 17, 0, 215]
abbrev dktX20_hold_1 : List UInt8 := dkwX20_hold_1 ++ dktX20_hold_2
def dkwX20_hold_0 : List UInt8 := [42, 3, 181, 0, 65, 27, 16, 8, 16, 15, 184, 0, 195, 153, 0, 26, 42, 180, 0, 20, 17, 0, 215, 27]
abbrev dktX20_hold_0 : List UInt8 := dkwX20_hold_0 ++ dktX20_hold_1
theorem dksX20_hold_0 : cX20_hold.data.toList.drop 0 = dktX20_hold_0 := by decide +kernel
theorem dksX20_hold_1 : cX20_hold.data.toList.drop 24 = dktX20_hold_1 := dk_seg dksX20_hold_0 24 rfl rfl
theorem dksX20_hold_2 : cX20_hold.data.toList.drop 48 = dktX20_hold_2 := dk_seg dksX20_hold_1 24 rfl rfl
theorem dksX20_hold_3 : cX20_hold.data.toList.drop 71 = dktX20_hold_3 := dk_seg dksX20_hold_2 23 rfl rfl
theorem dX20_hold_0 : decode cX20_hold 0 = .ok (.aload_n 0, 1) := dk_42 (dk_at dksX20_hold_0 0 rfl rfl)
theorem dX20_hold_1 : decode cX20_hold 1 = .ok (.iconst 0, 1) := dk_3 (dk_at dksX20_hold_0 1 rfl rfl)
theorem dX20_hold_2 : decode cX20_hold 2 = .ok (.putfield 65, 3) := dk_181 0 65 (dk_at dksX20_hold_0 2 rfl rfl)
theorem dX20_hold_5 : decode cX20_hold 5 = .ok (.iload_n 1, 1) := dk_27 (dk_at dksX20_hold_0 5 rfl rfl)
theorem dX20_hold_6 : decode cX20_hold 6 = .ok (.bipush 8, 2) := dk_16 8 (dk_at dksX20_hold_0 6 rfl rfl)
theorem dX20_hold_8 : decode cX20_hold 8 = .ok (.bipush 15, 2) := dk_16 15 (dk_at dksX20_hold_0 8 rfl rfl)
theorem dX20_hold_10 : decode cX20_hold 10 = .ok (.invokestatic 195, 3) := dk_184 0 195 (dk_at dksX20_hold_0 10 rfl rfl)
theorem dX20_hold_13 : decode cX20_hold 13 = .ok (.ifCond .eq 26, 3) := dk_153 0 26 (dk_at dksX20_hold_0 13 rfl rfl)
theorem dX20_hold_16 : decode cX20_hold 16 = .ok (.aload_n 0, 1) := dk_42 (dk_at dksX20_hold_0 16 rfl rfl)
theorem dX20_hold_17 : decode cX20_hold 17 = .ok (.getfield 20, 3) := dk_180 0 20 (dk_at dksX20_hold_0 17 rfl rfl)
theorem dX20_hold_20 : decode cX20_hold 20 = .ok (.sipush 215, 3) := dk_17 0 215 (dk_at dksX20_hold_0 20 rfl rfl)
theorem dX20_hold_23 : decode cX20_hold 23 = .ok (.iload_n 1, 1) := dk_27 (dk_at dksX20_hold_0 23 rfl rfl)
theorem dX20_hold_24 : decode cX20_hold 24 = .ok (.iadd, 1) := dk_96 (dk_at dksX20_hold_1 0 rfl rfl)
theorem dX20_hold_25 : decode cX20_hold 25 = .ok (.iaload, 1) := dk_46 (dk_at dksX20_hold_1 1 rfl rfl)
theorem dX20_hold_26 : decode cX20_hold 26 = .ok (.iconst 1, 1) := dk_4 (dk_at dksX20_hold_1 2 rfl rfl)
theorem dX20_hold_27 : decode cX20_hold 27 = .ok (.if_icmp .ne 7, 3) := dk_160 0 7 (dk_at dksX20_hold_1 3 rfl rfl)
theorem dX20_hold_30 : decode cX20_hold 30 = .ok (.iconst 1, 1) := dk_4 (dk_at dksX20_hold_1 6 rfl rfl)
theorem dX20_hold_31 : decode cX20_hold 31 = .ok (.goto 4, 3) := dk_167 0 4 (dk_at dksX20_hold_1 7 rfl rfl)
theorem dX20_hold_34 : decode cX20_hold 34 = .ok (.iconst 0, 1) := dk_3 (dk_at dksX20_hold_1 10 rfl rfl)
theorem dX20_hold_35 : decode cX20_hold 35 = .ok (.iload_n 2, 1) := dk_28 (dk_at dksX20_hold_1 11 rfl rfl)
theorem dX20_hold_36 : decode cX20_hold 36 = .ok (.if_icmp .ne 5, 3) := dk_160 0 5 (dk_at dksX20_hold_1 12 rfl rfl)
theorem dX20_hold_39 : decode cX20_hold 39 = .ok (.iconst 0, 1) := dk_3 (dk_at dksX20_hold_1 15 rfl rfl)
theorem dX20_hold_40 : decode cX20_hold 40 = .ok (.ireturn, 1) := dk_172 (dk_at dksX20_hold_1 16 rfl rfl)
theorem dX20_hold_41 : decode cX20_hold 41 = .ok (.aload_n 0, 1) := dk_42 (dk_at dksX20_hold_1 17 rfl rfl)
theorem dX20_hold_42 : decode cX20_hold 42 = .ok (.getfield 20, 3) := dk_180 0 20 (dk_at dksX20_hold_1 18 rfl rfl)
theorem dX20_hold_45 : decode cX20_hold 45 = .ok (.sipush 215, 3) := dk_17 0 215 (dk_at dksX20_hold_1 21 rfl rfl)
theorem dX20_hold_48 : decode cX20_hold 48 = .ok (.iload_n 1, 1) := dk_27 (dk_at dksX20_hold_2 0 rfl rfl)
theorem dX20_hold_49 : decode cX20_hold 49 = .ok (.iadd, 1) := dk_96 (dk_at dksX20_hold_2 1 rfl rfl)
theorem dX20_hold_50 : decode cX20_hold 50 = .ok (.iload_n 2, 1) := dk_28 (dk_at dksX20_hold_2 2 rfl rfl)
theorem dX20_hold_51 : decode cX20_hold 51 = .ok (.ifCond .eq 7, 3) := dk_153 0 7 (dk_at dksX20_hold_2 3 rfl rfl)
theorem dX20_hold_54 : decode cX20_hold 54 = .ok (.iconst 1, 1) := dk_4 (dk_at dksX20_hold_2 6 rfl rfl)
theorem dX20_hold_55 : decode cX20_hold 55 = .ok (.goto 4, 3) := dk_167 0 4 (dk_at dksX20_hold_2 7 rfl rfl)
theorem dX20_hold_58 : decode cX20_hold 58 = .ok (.iconst 0, 1) := dk_3 (dk_at dksX20_hold_2 10 rfl rfl)
theorem dX20_hold_59 : decode cX20_hold 59 = .ok (.iastore, 1) := dk_79 (dk_at dksX20_hold_2 11 rfl rfl)
theorem dX20_hold_60 : decode cX20_hold 60 = .ok (.aload_n 0, 1) := dk_42 (dk_at dksX20_hold_2 12 rfl rfl)
theorem dX20_hold_61 : decode cX20_hold 61 = .ok (.iconst 1, 1) := dk_4 (dk_at dksX20_hold_2 13 rfl rfl)
theorem dX20_hold_62 : decode cX20_hold 62 = .ok (.putfield 72, 3) := dk_181 0 72 (dk_at dksX20_hold_2 14 rfl rfl)
theorem dX20_hold_65 : decode cX20_hold 65 = .ok (.iload_n 2, 1) := dk_28 (dk_at dksX20_hold_2 17 rfl rfl)
theorem dX20_hold_66 : decode cX20_hold 66 = .ok (.ifCond .eq 12, 3) := dk_153 0 12 (dk_at dksX20_hold_2 18 rfl rfl)
theorem dX20_hold_69 : decode cX20_hold 69 = .ok (.aload_n 0, 1) := dk_42 (dk_at dksX20_hold_2 21 rfl rfl)
theorem dX20_hold_70 : decode cX20_hold 70 = .ok (.aload_n 0, 1) := dk_42 (dk_at dksX20_hold_2 22 rfl rfl)
theorem dX20_hold_71 : decode cX20_hold 71 = .ok (.getfield 20, 3) := dk_180 0 20 (dk_at dksX20_hold_3 0 rfl rfl)
theorem dX20_hold_74 : decode cX20_hold 74 = .ok (.iload_n 1, 1) := dk_27 (dk_at dksX20_hold_3 3 rfl rfl)
theorem dX20_hold_75 : decode cX20_hold 75 = .ok (.invokevirtual 143, 3) := dk_182 0 143 (dk_at dksX20_hold_3 4 rfl rfl)
theorem dX20_hold_78 : decode cX20_hold 78 = .ok (.iconst 1, 1) := dk_4 (dk_at dksX20_hold_3 7 rfl rfl)
theorem dX20_hold_79 : decode cX20_hold 79 = .ok (.ireturn, 1) := dk_172 (dk_at dksX20_hold_3 8 rfl rfl)
abbrev cX20_pends : ByteArray := prog_52_method_24_code
def yX20_pends : MethodName := ⟨RX20, "pends", "([II)V"⟩
def dkwX20_pends_1 : List UInt8 := [96, 43, 16, 25, 46, 79, 177]
abbrev dktX20_pends_1 : List UInt8 := dkwX20_pends_1 ++ []
def dkwX20_pends_0 : List UInt8 := [43, 17, 0, 194, 28, 96, 46, 155, 0, 12, 42, 16, 9, 182, 0, 131, 167, 0, 14, 43, 17, 0, 194, 28]
abbrev dktX20_pends_0 : List UInt8 := dkwX20_pends_0 ++ dktX20_pends_1
theorem dksX20_pends_0 : cX20_pends.data.toList.drop 0 = dktX20_pends_0 := by decide +kernel
theorem dksX20_pends_1 : cX20_pends.data.toList.drop 24 = dktX20_pends_1 := dk_seg dksX20_pends_0 24 rfl rfl
theorem dX20_pends_0 : decode cX20_pends 0 = .ok (.aload_n 1, 1) := dk_43 (dk_at dksX20_pends_0 0 rfl rfl)
theorem dX20_pends_1 : decode cX20_pends 1 = .ok (.sipush 194, 3) := dk_17 0 194 (dk_at dksX20_pends_0 1 rfl rfl)
theorem dX20_pends_4 : decode cX20_pends 4 = .ok (.iload_n 2, 1) := dk_28 (dk_at dksX20_pends_0 4 rfl rfl)
theorem dX20_pends_5 : decode cX20_pends 5 = .ok (.iadd, 1) := dk_96 (dk_at dksX20_pends_0 5 rfl rfl)
theorem dX20_pends_6 : decode cX20_pends 6 = .ok (.iaload, 1) := dk_46 (dk_at dksX20_pends_0 6 rfl rfl)
theorem dX20_pends_7 : decode cX20_pends 7 = .ok (.ifCond .lt 12, 3) := dk_155 0 12 (dk_at dksX20_pends_0 7 rfl rfl)
theorem dX20_pends_10 : decode cX20_pends 10 = .ok (.aload_n 0, 1) := dk_42 (dk_at dksX20_pends_0 10 rfl rfl)
theorem dX20_pends_11 : decode cX20_pends 11 = .ok (.bipush 9, 2) := dk_16 9 (dk_at dksX20_pends_0 11 rfl rfl)
theorem dX20_pends_13 : decode cX20_pends 13 = .ok (.invokevirtual 131, 3) := dk_182 0 131 (dk_at dksX20_pends_0 13 rfl rfl)
theorem dX20_pends_16 : decode cX20_pends 16 = .ok (.goto 14, 3) := dk_167 0 14 (dk_at dksX20_pends_0 16 rfl rfl)
theorem dX20_pends_19 : decode cX20_pends 19 = .ok (.aload_n 1, 1) := dk_43 (dk_at dksX20_pends_0 19 rfl rfl)
theorem dX20_pends_20 : decode cX20_pends 20 = .ok (.sipush 194, 3) := dk_17 0 194 (dk_at dksX20_pends_0 20 rfl rfl)
theorem dX20_pends_23 : decode cX20_pends 23 = .ok (.iload_n 2, 1) := dk_28 (dk_at dksX20_pends_0 23 rfl rfl)
theorem dX20_pends_24 : decode cX20_pends 24 = .ok (.iadd, 1) := dk_96 (dk_at dksX20_pends_1 0 rfl rfl)
theorem dX20_pends_25 : decode cX20_pends 25 = .ok (.aload_n 1, 1) := dk_43 (dk_at dksX20_pends_1 1 rfl rfl)
theorem dX20_pends_26 : decode cX20_pends 26 = .ok (.bipush 25, 2) := dk_16 25 (dk_at dksX20_pends_1 2 rfl rfl)
theorem dX20_pends_28 : decode cX20_pends 28 = .ok (.iaload, 1) := dk_46 (dk_at dksX20_pends_1 4 rfl rfl)
theorem dX20_pends_29 : decode cX20_pends 29 = .ok (.iastore, 1) := dk_79 (dk_at dksX20_pends_1 5 rfl rfl)
theorem dX20_pends_30 : decode cX20_pends 30 = .ok (.return_, 1) := dk_177 (dk_at dksX20_pends_1 6 rfl rfl)
abbrev cX20_counts : ByteArray := prog_52_method_7_code
def yX20_counts : MethodName := ⟨RX20, "counts", "(I)V"⟩
def dkwX20_counts_0 : List UInt8 := [42, 180, 0, 72, 153, 0, 13, 42, 180, 0, 26, 27, 92, 46, 4, 96, 79, 177]
abbrev dktX20_counts_0 : List UInt8 := dkwX20_counts_0 ++ []
theorem dksX20_counts_0 : cX20_counts.data.toList.drop 0 = dktX20_counts_0 := by decide +kernel
theorem dX20_counts_0 : decode cX20_counts 0 = .ok (.aload_n 0, 1) := dk_42 (dk_at dksX20_counts_0 0 rfl rfl)
theorem dX20_counts_1 : decode cX20_counts 1 = .ok (.getfield 72, 3) := dk_180 0 72 (dk_at dksX20_counts_0 1 rfl rfl)
theorem dX20_counts_4 : decode cX20_counts 4 = .ok (.ifCond .eq 13, 3) := dk_153 0 13 (dk_at dksX20_counts_0 4 rfl rfl)
theorem dX20_counts_7 : decode cX20_counts 7 = .ok (.aload_n 0, 1) := dk_42 (dk_at dksX20_counts_0 7 rfl rfl)
theorem dX20_counts_8 : decode cX20_counts 8 = .ok (.getfield 26, 3) := dk_180 0 26 (dk_at dksX20_counts_0 8 rfl rfl)
theorem dX20_counts_11 : decode cX20_counts 11 = .ok (.iload_n 1, 1) := dk_27 (dk_at dksX20_counts_0 11 rfl rfl)
theorem dX20_counts_12 : decode cX20_counts 12 = .ok (.dup2, 1) := dk_92 (dk_at dksX20_counts_0 12 rfl rfl)
theorem dX20_counts_13 : decode cX20_counts 13 = .ok (.iaload, 1) := dk_46 (dk_at dksX20_counts_0 13 rfl rfl)
theorem dX20_counts_14 : decode cX20_counts 14 = .ok (.iconst 1, 1) := dk_4 (dk_at dksX20_counts_0 14 rfl rfl)
theorem dX20_counts_15 : decode cX20_counts 15 = .ok (.iadd, 1) := dk_96 (dk_at dksX20_counts_0 15 rfl rfl)
theorem dX20_counts_16 : decode cX20_counts 16 = .ok (.iastore, 1) := dk_79 (dk_at dksX20_counts_0 16 rfl rfl)
theorem dX20_counts_17 : decode cX20_counts 17 = .ok (.return_, 1) := dk_177 (dk_at dksX20_counts_0 17 rfl rfl)
abbrev cX20_pend : ByteArray := prog_52_method_55_code
def yX20_pend : MethodName := ⟨RX20, "pend", "(I)Z"⟩
def dkwX20_pend_2 : List UInt8 := [182, 0, 143, 28, 172]
abbrev dktX20_pend_2 : List UInt8 := dkwX20_pend_2 ++ []
def dkwX20_pend_1 : List UInt8 := [27, 96, 46, 156, 0, 7, 4, 167, 0, 4, 3, 61, 42, 4, 181, 0, 72, 42, 42, 180, 0, 20, 27]
abbrev dktX20_pend_1 : List UInt8 := dkwX20_pend_1 ++ dktX20_pend_2
def dkwX20_pend_0 : List UInt8 := [42, 3, 181, 0, 65, 27, 3, 16, 19, 184, 0, 195, 154, 0, 5, 3, 172, 42, 180, 0, 20, 17, 0, 194]
abbrev dktX20_pend_0 : List UInt8 := dkwX20_pend_0 ++ dktX20_pend_1
theorem dksX20_pend_0 : cX20_pend.data.toList.drop 0 = dktX20_pend_0 := by decide +kernel
theorem dksX20_pend_1 : cX20_pend.data.toList.drop 24 = dktX20_pend_1 := dk_seg dksX20_pend_0 24 rfl rfl
theorem dksX20_pend_2 : cX20_pend.data.toList.drop 47 = dktX20_pend_2 := dk_seg dksX20_pend_1 23 rfl rfl
theorem dX20_pend_0 : decode cX20_pend 0 = .ok (.aload_n 0, 1) := dk_42 (dk_at dksX20_pend_0 0 rfl rfl)
theorem dX20_pend_1 : decode cX20_pend 1 = .ok (.iconst 0, 1) := dk_3 (dk_at dksX20_pend_0 1 rfl rfl)
theorem dX20_pend_2 : decode cX20_pend 2 = .ok (.putfield 65, 3) := dk_181 0 65 (dk_at dksX20_pend_0 2 rfl rfl)
theorem dX20_pend_5 : decode cX20_pend 5 = .ok (.iload_n 1, 1) := dk_27 (dk_at dksX20_pend_0 5 rfl rfl)
theorem dX20_pend_6 : decode cX20_pend 6 = .ok (.iconst 0, 1) := dk_3 (dk_at dksX20_pend_0 6 rfl rfl)
theorem dX20_pend_7 : decode cX20_pend 7 = .ok (.bipush 19, 2) := dk_16 19 (dk_at dksX20_pend_0 7 rfl rfl)
theorem dX20_pend_9 : decode cX20_pend 9 = .ok (.invokestatic 195, 3) := dk_184 0 195 (dk_at dksX20_pend_0 9 rfl rfl)
theorem dX20_pend_12 : decode cX20_pend 12 = .ok (.ifCond .ne 5, 3) := dk_154 0 5 (dk_at dksX20_pend_0 12 rfl rfl)
theorem dX20_pend_15 : decode cX20_pend 15 = .ok (.iconst 0, 1) := dk_3 (dk_at dksX20_pend_0 15 rfl rfl)
theorem dX20_pend_16 : decode cX20_pend 16 = .ok (.ireturn, 1) := dk_172 (dk_at dksX20_pend_0 16 rfl rfl)
theorem dX20_pend_17 : decode cX20_pend 17 = .ok (.aload_n 0, 1) := dk_42 (dk_at dksX20_pend_0 17 rfl rfl)
theorem dX20_pend_18 : decode cX20_pend 18 = .ok (.getfield 20, 3) := dk_180 0 20 (dk_at dksX20_pend_0 18 rfl rfl)
theorem dX20_pend_21 : decode cX20_pend 21 = .ok (.sipush 194, 3) := dk_17 0 194 (dk_at dksX20_pend_0 21 rfl rfl)
theorem dX20_pend_24 : decode cX20_pend 24 = .ok (.iload_n 1, 1) := dk_27 (dk_at dksX20_pend_1 0 rfl rfl)
theorem dX20_pend_25 : decode cX20_pend 25 = .ok (.iadd, 1) := dk_96 (dk_at dksX20_pend_1 1 rfl rfl)
theorem dX20_pend_26 : decode cX20_pend 26 = .ok (.iaload, 1) := dk_46 (dk_at dksX20_pend_1 2 rfl rfl)
theorem dX20_pend_27 : decode cX20_pend 27 = .ok (.ifCond .ge 7, 3) := dk_156 0 7 (dk_at dksX20_pend_1 3 rfl rfl)
theorem dX20_pend_30 : decode cX20_pend 30 = .ok (.iconst 1, 1) := dk_4 (dk_at dksX20_pend_1 6 rfl rfl)
theorem dX20_pend_31 : decode cX20_pend 31 = .ok (.goto 4, 3) := dk_167 0 4 (dk_at dksX20_pend_1 7 rfl rfl)
theorem dX20_pend_34 : decode cX20_pend 34 = .ok (.iconst 0, 1) := dk_3 (dk_at dksX20_pend_1 10 rfl rfl)
theorem dX20_pend_35 : decode cX20_pend 35 = .ok (.istore_n 2, 1) := dk_61 (dk_at dksX20_pend_1 11 rfl rfl)
theorem dX20_pend_36 : decode cX20_pend 36 = .ok (.aload_n 0, 1) := dk_42 (dk_at dksX20_pend_1 12 rfl rfl)
theorem dX20_pend_37 : decode cX20_pend 37 = .ok (.iconst 1, 1) := dk_4 (dk_at dksX20_pend_1 13 rfl rfl)
theorem dX20_pend_38 : decode cX20_pend 38 = .ok (.putfield 72, 3) := dk_181 0 72 (dk_at dksX20_pend_1 14 rfl rfl)
theorem dX20_pend_41 : decode cX20_pend 41 = .ok (.aload_n 0, 1) := dk_42 (dk_at dksX20_pend_1 17 rfl rfl)
theorem dX20_pend_42 : decode cX20_pend 42 = .ok (.aload_n 0, 1) := dk_42 (dk_at dksX20_pend_1 18 rfl rfl)
theorem dX20_pend_43 : decode cX20_pend 43 = .ok (.getfield 20, 3) := dk_180 0 20 (dk_at dksX20_pend_1 19 rfl rfl)
theorem dX20_pend_46 : decode cX20_pend 46 = .ok (.iload_n 1, 1) := dk_27 (dk_at dksX20_pend_1 22 rfl rfl)
theorem dX20_pend_47 : decode cX20_pend 47 = .ok (.invokevirtual 143, 3) := dk_182 0 143 (dk_at dksX20_pend_2 0 rfl rfl)
theorem dX20_pend_50 : decode cX20_pend 50 = .ok (.iload_n 2, 1) := dk_28 (dk_at dksX20_pend_2 3 rfl rfl)
theorem dX20_pend_51 : decode cX20_pend 51 = .ok (.ireturn, 1) := dk_172 (dk_at dksX20_pend_2 4 rfl rfl)
abbrev cX20_clear : ByteArray := prog_52_method_56_code
def yX20_clear : MethodName := ⟨RX20, "clear", "(I)Z"⟩
def dkwX20_clear_2 : List UInt8 := [17, 0, 194, 27, 96, 2, 79, 4, 172]
abbrev dktX20_clear_2 : List UInt8 := dkwX20_clear_2 ++ []
def dkwX20_clear_1 : List UInt8 := [46, 155, 0, 17, 42, 180, 0, 20, 17, 0, 215, 27, 96, 46, 4, 160, 0, 5, 3, 172, 42, 180, 0, 20]
abbrev dktX20_clear_1 : List UInt8 := dkwX20_clear_1 ++ dktX20_clear_2
def dkwX20_clear_0 : List UInt8 := [42, 3, 181, 0, 65, 27, 3, 16, 20, 184, 0, 195, 153, 0, 30, 42, 180, 0, 20, 17, 0, 194, 27, 96]
abbrev dktX20_clear_0 : List UInt8 := dkwX20_clear_0 ++ dktX20_clear_1
theorem dksX20_clear_0 : cX20_clear.data.toList.drop 0 = dktX20_clear_0 := by decide +kernel
theorem dksX20_clear_1 : cX20_clear.data.toList.drop 24 = dktX20_clear_1 := dk_seg dksX20_clear_0 24 rfl rfl
theorem dksX20_clear_2 : cX20_clear.data.toList.drop 48 = dktX20_clear_2 := dk_seg dksX20_clear_1 24 rfl rfl
theorem dX20_clear_0 : decode cX20_clear 0 = .ok (.aload_n 0, 1) := dk_42 (dk_at dksX20_clear_0 0 rfl rfl)
theorem dX20_clear_1 : decode cX20_clear 1 = .ok (.iconst 0, 1) := dk_3 (dk_at dksX20_clear_0 1 rfl rfl)
theorem dX20_clear_2 : decode cX20_clear 2 = .ok (.putfield 65, 3) := dk_181 0 65 (dk_at dksX20_clear_0 2 rfl rfl)
theorem dX20_clear_5 : decode cX20_clear 5 = .ok (.iload_n 1, 1) := dk_27 (dk_at dksX20_clear_0 5 rfl rfl)
theorem dX20_clear_6 : decode cX20_clear 6 = .ok (.iconst 0, 1) := dk_3 (dk_at dksX20_clear_0 6 rfl rfl)
theorem dX20_clear_7 : decode cX20_clear 7 = .ok (.bipush 20, 2) := dk_16 20 (dk_at dksX20_clear_0 7 rfl rfl)
theorem dX20_clear_9 : decode cX20_clear 9 = .ok (.invokestatic 195, 3) := dk_184 0 195 (dk_at dksX20_clear_0 9 rfl rfl)
theorem dX20_clear_12 : decode cX20_clear 12 = .ok (.ifCond .eq 30, 3) := dk_153 0 30 (dk_at dksX20_clear_0 12 rfl rfl)
theorem dX20_clear_15 : decode cX20_clear 15 = .ok (.aload_n 0, 1) := dk_42 (dk_at dksX20_clear_0 15 rfl rfl)
theorem dX20_clear_16 : decode cX20_clear 16 = .ok (.getfield 20, 3) := dk_180 0 20 (dk_at dksX20_clear_0 16 rfl rfl)
theorem dX20_clear_19 : decode cX20_clear 19 = .ok (.sipush 194, 3) := dk_17 0 194 (dk_at dksX20_clear_0 19 rfl rfl)
theorem dX20_clear_22 : decode cX20_clear 22 = .ok (.iload_n 1, 1) := dk_27 (dk_at dksX20_clear_0 22 rfl rfl)
theorem dX20_clear_23 : decode cX20_clear 23 = .ok (.iadd, 1) := dk_96 (dk_at dksX20_clear_0 23 rfl rfl)
theorem dX20_clear_24 : decode cX20_clear 24 = .ok (.iaload, 1) := dk_46 (dk_at dksX20_clear_1 0 rfl rfl)
theorem dX20_clear_25 : decode cX20_clear 25 = .ok (.ifCond .lt 17, 3) := dk_155 0 17 (dk_at dksX20_clear_1 1 rfl rfl)
theorem dX20_clear_28 : decode cX20_clear 28 = .ok (.aload_n 0, 1) := dk_42 (dk_at dksX20_clear_1 4 rfl rfl)
theorem dX20_clear_29 : decode cX20_clear 29 = .ok (.getfield 20, 3) := dk_180 0 20 (dk_at dksX20_clear_1 5 rfl rfl)
theorem dX20_clear_32 : decode cX20_clear 32 = .ok (.sipush 215, 3) := dk_17 0 215 (dk_at dksX20_clear_1 8 rfl rfl)
theorem dX20_clear_35 : decode cX20_clear 35 = .ok (.iload_n 1, 1) := dk_27 (dk_at dksX20_clear_1 11 rfl rfl)
theorem dX20_clear_36 : decode cX20_clear 36 = .ok (.iadd, 1) := dk_96 (dk_at dksX20_clear_1 12 rfl rfl)
theorem dX20_clear_37 : decode cX20_clear 37 = .ok (.iaload, 1) := dk_46 (dk_at dksX20_clear_1 13 rfl rfl)
theorem dX20_clear_38 : decode cX20_clear 38 = .ok (.iconst 1, 1) := dk_4 (dk_at dksX20_clear_1 14 rfl rfl)
theorem dX20_clear_39 : decode cX20_clear 39 = .ok (.if_icmp .ne 5, 3) := dk_160 0 5 (dk_at dksX20_clear_1 15 rfl rfl)
theorem dX20_clear_42 : decode cX20_clear 42 = .ok (.iconst 0, 1) := dk_3 (dk_at dksX20_clear_1 18 rfl rfl)
theorem dX20_clear_43 : decode cX20_clear 43 = .ok (.ireturn, 1) := dk_172 (dk_at dksX20_clear_1 19 rfl rfl)
theorem dX20_clear_44 : decode cX20_clear 44 = .ok (.aload_n 0, 1) := dk_42 (dk_at dksX20_clear_1 20 rfl rfl)
theorem dX20_clear_45 : decode cX20_clear 45 = .ok (.getfield 20, 3) := dk_180 0 20 (dk_at dksX20_clear_1 21 rfl rfl)
theorem dX20_clear_48 : decode cX20_clear 48 = .ok (.sipush 194, 3) := dk_17 0 194 (dk_at dksX20_clear_2 0 rfl rfl)
theorem dX20_clear_51 : decode cX20_clear 51 = .ok (.iload_n 1, 1) := dk_27 (dk_at dksX20_clear_2 3 rfl rfl)
theorem dX20_clear_52 : decode cX20_clear 52 = .ok (.iadd, 1) := dk_96 (dk_at dksX20_clear_2 4 rfl rfl)
theorem dX20_clear_53 : decode cX20_clear 53 = .ok (.iconst (-1), 1) := dk_2 (dk_at dksX20_clear_2 5 rfl rfl)
theorem dX20_clear_54 : decode cX20_clear 54 = .ok (.iastore, 1) := dk_79 (dk_at dksX20_clear_2 6 rfl rfl)
theorem dX20_clear_55 : decode cX20_clear 55 = .ok (.iconst 1, 1) := dk_4 (dk_at dksX20_clear_2 7 rfl rfl)
theorem dX20_clear_56 : decode cX20_clear 56 = .ok (.ireturn, 1) := dk_172 (dk_at dksX20_clear_2 8 rfl rfl)
abbrev cX20_timer : ByteArray := prog_52_method_57_code
def yX20_timer : MethodName := ⟨RX20, "timer", "(I)Z"⟩
def dkwX20_timer_1 : List UInt8 := [27, 79, 42, 180, 0, 20, 16, 27, 27, 79, 4, 172]
abbrev dktX20_timer_1 : List UInt8 := dkwX20_timer_1 ++ []
def dkwX20_timer_0 : List UInt8 := [42, 3, 181, 0, 65, 27, 3, 17, 3, 231, 184, 0, 195, 154, 0, 5, 3, 172, 42, 180, 0, 20, 16, 26]
abbrev dktX20_timer_0 : List UInt8 := dkwX20_timer_0 ++ dktX20_timer_1
theorem dksX20_timer_0 : cX20_timer.data.toList.drop 0 = dktX20_timer_0 := by decide +kernel
theorem dksX20_timer_1 : cX20_timer.data.toList.drop 24 = dktX20_timer_1 := dk_seg dksX20_timer_0 24 rfl rfl
theorem dX20_timer_0 : decode cX20_timer 0 = .ok (.aload_n 0, 1) := dk_42 (dk_at dksX20_timer_0 0 rfl rfl)
theorem dX20_timer_1 : decode cX20_timer 1 = .ok (.iconst 0, 1) := dk_3 (dk_at dksX20_timer_0 1 rfl rfl)
theorem dX20_timer_2 : decode cX20_timer 2 = .ok (.putfield 65, 3) := dk_181 0 65 (dk_at dksX20_timer_0 2 rfl rfl)
theorem dX20_timer_5 : decode cX20_timer 5 = .ok (.iload_n 1, 1) := dk_27 (dk_at dksX20_timer_0 5 rfl rfl)
theorem dX20_timer_6 : decode cX20_timer 6 = .ok (.iconst 0, 1) := dk_3 (dk_at dksX20_timer_0 6 rfl rfl)
theorem dX20_timer_7 : decode cX20_timer 7 = .ok (.sipush 999, 3) := dk_17 3 231 (dk_at dksX20_timer_0 7 rfl rfl)
theorem dX20_timer_10 : decode cX20_timer 10 = .ok (.invokestatic 195, 3) := dk_184 0 195 (dk_at dksX20_timer_0 10 rfl rfl)
theorem dX20_timer_13 : decode cX20_timer 13 = .ok (.ifCond .ne 5, 3) := dk_154 0 5 (dk_at dksX20_timer_0 13 rfl rfl)
theorem dX20_timer_16 : decode cX20_timer 16 = .ok (.iconst 0, 1) := dk_3 (dk_at dksX20_timer_0 16 rfl rfl)
theorem dX20_timer_17 : decode cX20_timer 17 = .ok (.ireturn, 1) := dk_172 (dk_at dksX20_timer_0 17 rfl rfl)
theorem dX20_timer_18 : decode cX20_timer 18 = .ok (.aload_n 0, 1) := dk_42 (dk_at dksX20_timer_0 18 rfl rfl)
theorem dX20_timer_19 : decode cX20_timer 19 = .ok (.getfield 20, 3) := dk_180 0 20 (dk_at dksX20_timer_0 19 rfl rfl)
theorem dX20_timer_22 : decode cX20_timer 22 = .ok (.bipush 26, 2) := dk_16 26 (dk_at dksX20_timer_0 22 rfl rfl)
theorem dX20_timer_24 : decode cX20_timer 24 = .ok (.iload_n 1, 1) := dk_27 (dk_at dksX20_timer_1 0 rfl rfl)
theorem dX20_timer_25 : decode cX20_timer 25 = .ok (.iastore, 1) := dk_79 (dk_at dksX20_timer_1 1 rfl rfl)
theorem dX20_timer_26 : decode cX20_timer 26 = .ok (.aload_n 0, 1) := dk_42 (dk_at dksX20_timer_1 2 rfl rfl)
theorem dX20_timer_27 : decode cX20_timer 27 = .ok (.getfield 20, 3) := dk_180 0 20 (dk_at dksX20_timer_1 3 rfl rfl)
theorem dX20_timer_30 : decode cX20_timer 30 = .ok (.bipush 27, 2) := dk_16 27 (dk_at dksX20_timer_1 6 rfl rfl)
theorem dX20_timer_32 : decode cX20_timer 32 = .ok (.iload_n 1, 1) := dk_27 (dk_at dksX20_timer_1 8 rfl rfl)
theorem dX20_timer_33 : decode cX20_timer 33 = .ok (.iastore, 1) := dk_79 (dk_at dksX20_timer_1 9 rfl rfl)
theorem dX20_timer_34 : decode cX20_timer 34 = .ok (.iconst 1, 1) := dk_4 (dk_at dksX20_timer_1 10 rfl rfl)
theorem dX20_timer_35 : decode cX20_timer 35 = .ok (.ireturn, 1) := dk_172 (dk_at dksX20_timer_1 11 rfl rfl)
abbrev cX20_arrive : ByteArray := prog_52_method_58_code
def yX20_arrive : MethodName := ⟨RX20, "arrive", "(II)Z"⟩
def dkwX20_arrive_3 : List UInt8 := [96, 42, 180, 0, 20, 16, 25, 46, 28, 96, 79, 42, 180, 0, 20, 16, 31, 92, 46, 4, 96, 79, 4, 172]
abbrev dktX20_arrive_3 : List UInt8 := dkwX20_arrive_3 ++ []
def dkwX20_arrive_2 : List UInt8 := [42, 180, 0, 20, 16, 31, 46, 96, 27, 79, 42, 180, 0, 20, 17, 1, 12, 42, 180, 0, 20, 16, 31, 46]
abbrev dktX20_arrive_2 : List UInt8 := dkwX20_arrive_2 ++ dktX20_arrive_3
def dkwX20_arrive_1 : List UInt8 := [153, 0, 15, 42, 180, 0, 20, 16, 31, 46, 16, 32, 160, 0, 5, 3, 172, 42, 180, 0, 20, 17, 0, 236]
abbrev dktX20_arrive_1 : List UInt8 := dkwX20_arrive_1 ++ dktX20_arrive_2
def dkwX20_arrive_0 : List UInt8 := [42, 3, 181, 0, 65, 27, 3, 16, 17, 184, 0, 195, 153, 0, 26, 28, 4, 17, 3, 231, 184, 0, 195]
abbrev dktX20_arrive_0 : List UInt8 := dkwX20_arrive_0 ++ dktX20_arrive_1
theorem dksX20_arrive_0 : cX20_arrive.data.toList.drop 0 = dktX20_arrive_0 := by decide +kernel
theorem dksX20_arrive_1 : cX20_arrive.data.toList.drop 23 = dktX20_arrive_1 := dk_seg dksX20_arrive_0 23 rfl rfl
theorem dksX20_arrive_2 : cX20_arrive.data.toList.drop 47 = dktX20_arrive_2 := dk_seg dksX20_arrive_1 24 rfl rfl
theorem dksX20_arrive_3 : cX20_arrive.data.toList.drop 71 = dktX20_arrive_3 := dk_seg dksX20_arrive_2 24 rfl rfl
theorem dX20_arrive_0 : decode cX20_arrive 0 = .ok (.aload_n 0, 1) := dk_42 (dk_at dksX20_arrive_0 0 rfl rfl)
theorem dX20_arrive_1 : decode cX20_arrive 1 = .ok (.iconst 0, 1) := dk_3 (dk_at dksX20_arrive_0 1 rfl rfl)
theorem dX20_arrive_2 : decode cX20_arrive 2 = .ok (.putfield 65, 3) := dk_181 0 65 (dk_at dksX20_arrive_0 2 rfl rfl)
theorem dX20_arrive_5 : decode cX20_arrive 5 = .ok (.iload_n 1, 1) := dk_27 (dk_at dksX20_arrive_0 5 rfl rfl)
theorem dX20_arrive_6 : decode cX20_arrive 6 = .ok (.iconst 0, 1) := dk_3 (dk_at dksX20_arrive_0 6 rfl rfl)
theorem dX20_arrive_7 : decode cX20_arrive 7 = .ok (.bipush 17, 2) := dk_16 17 (dk_at dksX20_arrive_0 7 rfl rfl)
theorem dX20_arrive_9 : decode cX20_arrive 9 = .ok (.invokestatic 195, 3) := dk_184 0 195 (dk_at dksX20_arrive_0 9 rfl rfl)
theorem dX20_arrive_12 : decode cX20_arrive 12 = .ok (.ifCond .eq 26, 3) := dk_153 0 26 (dk_at dksX20_arrive_0 12 rfl rfl)
theorem dX20_arrive_15 : decode cX20_arrive 15 = .ok (.iload_n 2, 1) := dk_28 (dk_at dksX20_arrive_0 15 rfl rfl)
theorem dX20_arrive_16 : decode cX20_arrive 16 = .ok (.iconst 1, 1) := dk_4 (dk_at dksX20_arrive_0 16 rfl rfl)
theorem dX20_arrive_17 : decode cX20_arrive 17 = .ok (.sipush 999, 3) := dk_17 3 231 (dk_at dksX20_arrive_0 17 rfl rfl)
theorem dX20_arrive_20 : decode cX20_arrive 20 = .ok (.invokestatic 195, 3) := dk_184 0 195 (dk_at dksX20_arrive_0 20 rfl rfl)
theorem dX20_arrive_23 : decode cX20_arrive 23 = .ok (.ifCond .eq 15, 3) := dk_153 0 15 (dk_at dksX20_arrive_1 0 rfl rfl)
theorem dX20_arrive_26 : decode cX20_arrive 26 = .ok (.aload_n 0, 1) := dk_42 (dk_at dksX20_arrive_1 3 rfl rfl)
theorem dX20_arrive_27 : decode cX20_arrive 27 = .ok (.getfield 20, 3) := dk_180 0 20 (dk_at dksX20_arrive_1 4 rfl rfl)
theorem dX20_arrive_30 : decode cX20_arrive 30 = .ok (.bipush 31, 2) := dk_16 31 (dk_at dksX20_arrive_1 7 rfl rfl)
theorem dX20_arrive_32 : decode cX20_arrive 32 = .ok (.iaload, 1) := dk_46 (dk_at dksX20_arrive_1 9 rfl rfl)
theorem dX20_arrive_33 : decode cX20_arrive 33 = .ok (.bipush 32, 2) := dk_16 32 (dk_at dksX20_arrive_1 10 rfl rfl)
theorem dX20_arrive_35 : decode cX20_arrive 35 = .ok (.if_icmp .ne 5, 3) := dk_160 0 5 (dk_at dksX20_arrive_1 12 rfl rfl)
theorem dX20_arrive_38 : decode cX20_arrive 38 = .ok (.iconst 0, 1) := dk_3 (dk_at dksX20_arrive_1 15 rfl rfl)
theorem dX20_arrive_39 : decode cX20_arrive 39 = .ok (.ireturn, 1) := dk_172 (dk_at dksX20_arrive_1 16 rfl rfl)
theorem dX20_arrive_40 : decode cX20_arrive 40 = .ok (.aload_n 0, 1) := dk_42 (dk_at dksX20_arrive_1 17 rfl rfl)
theorem dX20_arrive_41 : decode cX20_arrive 41 = .ok (.getfield 20, 3) := dk_180 0 20 (dk_at dksX20_arrive_1 18 rfl rfl)
theorem dX20_arrive_44 : decode cX20_arrive 44 = .ok (.sipush 236, 3) := dk_17 0 236 (dk_at dksX20_arrive_1 21 rfl rfl)
theorem dX20_arrive_47 : decode cX20_arrive 47 = .ok (.aload_n 0, 1) := dk_42 (dk_at dksX20_arrive_2 0 rfl rfl)
theorem dX20_arrive_48 : decode cX20_arrive 48 = .ok (.getfield 20, 3) := dk_180 0 20 (dk_at dksX20_arrive_2 1 rfl rfl)
theorem dX20_arrive_51 : decode cX20_arrive 51 = .ok (.bipush 31, 2) := dk_16 31 (dk_at dksX20_arrive_2 4 rfl rfl)
theorem dX20_arrive_53 : decode cX20_arrive 53 = .ok (.iaload, 1) := dk_46 (dk_at dksX20_arrive_2 6 rfl rfl)
theorem dX20_arrive_54 : decode cX20_arrive 54 = .ok (.iadd, 1) := dk_96 (dk_at dksX20_arrive_2 7 rfl rfl)
theorem dX20_arrive_55 : decode cX20_arrive 55 = .ok (.iload_n 1, 1) := dk_27 (dk_at dksX20_arrive_2 8 rfl rfl)
theorem dX20_arrive_56 : decode cX20_arrive 56 = .ok (.iastore, 1) := dk_79 (dk_at dksX20_arrive_2 9 rfl rfl)
theorem dX20_arrive_57 : decode cX20_arrive 57 = .ok (.aload_n 0, 1) := dk_42 (dk_at dksX20_arrive_2 10 rfl rfl)
theorem dX20_arrive_58 : decode cX20_arrive 58 = .ok (.getfield 20, 3) := dk_180 0 20 (dk_at dksX20_arrive_2 11 rfl rfl)
theorem dX20_arrive_61 : decode cX20_arrive 61 = .ok (.sipush 268, 3) := dk_17 1 12 (dk_at dksX20_arrive_2 14 rfl rfl)
theorem dX20_arrive_64 : decode cX20_arrive 64 = .ok (.aload_n 0, 1) := dk_42 (dk_at dksX20_arrive_2 17 rfl rfl)
theorem dX20_arrive_65 : decode cX20_arrive 65 = .ok (.getfield 20, 3) := dk_180 0 20 (dk_at dksX20_arrive_2 18 rfl rfl)
theorem dX20_arrive_68 : decode cX20_arrive 68 = .ok (.bipush 31, 2) := dk_16 31 (dk_at dksX20_arrive_2 21 rfl rfl)
theorem dX20_arrive_70 : decode cX20_arrive 70 = .ok (.iaload, 1) := dk_46 (dk_at dksX20_arrive_2 23 rfl rfl)
theorem dX20_arrive_71 : decode cX20_arrive 71 = .ok (.iadd, 1) := dk_96 (dk_at dksX20_arrive_3 0 rfl rfl)
theorem dX20_arrive_72 : decode cX20_arrive 72 = .ok (.aload_n 0, 1) := dk_42 (dk_at dksX20_arrive_3 1 rfl rfl)
theorem dX20_arrive_73 : decode cX20_arrive 73 = .ok (.getfield 20, 3) := dk_180 0 20 (dk_at dksX20_arrive_3 2 rfl rfl)
theorem dX20_arrive_76 : decode cX20_arrive 76 = .ok (.bipush 25, 2) := dk_16 25 (dk_at dksX20_arrive_3 5 rfl rfl)
theorem dX20_arrive_78 : decode cX20_arrive 78 = .ok (.iaload, 1) := dk_46 (dk_at dksX20_arrive_3 7 rfl rfl)
theorem dX20_arrive_79 : decode cX20_arrive 79 = .ok (.iload_n 2, 1) := dk_28 (dk_at dksX20_arrive_3 8 rfl rfl)
theorem dX20_arrive_80 : decode cX20_arrive 80 = .ok (.iadd, 1) := dk_96 (dk_at dksX20_arrive_3 9 rfl rfl)
theorem dX20_arrive_81 : decode cX20_arrive 81 = .ok (.iastore, 1) := dk_79 (dk_at dksX20_arrive_3 10 rfl rfl)
theorem dX20_arrive_82 : decode cX20_arrive 82 = .ok (.aload_n 0, 1) := dk_42 (dk_at dksX20_arrive_3 11 rfl rfl)
theorem dX20_arrive_83 : decode cX20_arrive 83 = .ok (.getfield 20, 3) := dk_180 0 20 (dk_at dksX20_arrive_3 12 rfl rfl)
theorem dX20_arrive_86 : decode cX20_arrive 86 = .ok (.bipush 31, 2) := dk_16 31 (dk_at dksX20_arrive_3 15 rfl rfl)
theorem dX20_arrive_88 : decode cX20_arrive 88 = .ok (.dup2, 1) := dk_92 (dk_at dksX20_arrive_3 17 rfl rfl)
theorem dX20_arrive_89 : decode cX20_arrive 89 = .ok (.iaload, 1) := dk_46 (dk_at dksX20_arrive_3 18 rfl rfl)
theorem dX20_arrive_90 : decode cX20_arrive 90 = .ok (.iconst 1, 1) := dk_4 (dk_at dksX20_arrive_3 19 rfl rfl)
theorem dX20_arrive_91 : decode cX20_arrive 91 = .ok (.iadd, 1) := dk_96 (dk_at dksX20_arrive_3 20 rfl rfl)
theorem dX20_arrive_92 : decode cX20_arrive 92 = .ok (.iastore, 1) := dk_79 (dk_at dksX20_arrive_3 21 rfl rfl)
theorem dX20_arrive_93 : decode cX20_arrive 93 = .ok (.iconst 1, 1) := dk_4 (dk_at dksX20_arrive_3 22 rfl rfl)
theorem dX20_arrive_94 : decode cX20_arrive 94 = .ok (.ireturn, 1) := dk_172 (dk_at dksX20_arrive_3 23 rfl rfl)
abbrev cX20_run : ByteArray := prog_52_method_60_code
def yX20_run : MethodName := ⟨RX20, "run", "(I)I"⟩
def dkwX20_run_2 : List UInt8 := [28, 172]
abbrev dktX20_run_2 : List UInt8 := dkwX20_run_2 ++ []
def dkwX20_run_1 : List UInt8 := [162, 0, 24, 42, 180, 0, 20, 16, 20, 46, 8, 159, 0, 13, 42, 182, 1, 8, 132, 2, 1, 167, 255, 233]
abbrev dktX20_run_1 : List UInt8 := dkwX20_run_1 ++ dktX20_run_2
def dkwX20_run_0 : List UInt8 := [42, 3, 181, 0, 65, 27, 4, 17, 0, 200, 184, 0, 195, 154, 0, 5, 2, 172, 3, 61, 28, 27]
abbrev dktX20_run_0 : List UInt8 := dkwX20_run_0 ++ dktX20_run_1
theorem dksX20_run_0 : cX20_run.data.toList.drop 0 = dktX20_run_0 := by decide +kernel
theorem dksX20_run_1 : cX20_run.data.toList.drop 22 = dktX20_run_1 := dk_seg dksX20_run_0 22 rfl rfl
theorem dksX20_run_2 : cX20_run.data.toList.drop 46 = dktX20_run_2 := dk_seg dksX20_run_1 24 rfl rfl
theorem dX20_run_0 : decode cX20_run 0 = .ok (.aload_n 0, 1) := dk_42 (dk_at dksX20_run_0 0 rfl rfl)
theorem dX20_run_1 : decode cX20_run 1 = .ok (.iconst 0, 1) := dk_3 (dk_at dksX20_run_0 1 rfl rfl)
theorem dX20_run_2 : decode cX20_run 2 = .ok (.putfield 65, 3) := dk_181 0 65 (dk_at dksX20_run_0 2 rfl rfl)
theorem dX20_run_5 : decode cX20_run 5 = .ok (.iload_n 1, 1) := dk_27 (dk_at dksX20_run_0 5 rfl rfl)
theorem dX20_run_6 : decode cX20_run 6 = .ok (.iconst 1, 1) := dk_4 (dk_at dksX20_run_0 6 rfl rfl)
theorem dX20_run_7 : decode cX20_run 7 = .ok (.sipush 200, 3) := dk_17 0 200 (dk_at dksX20_run_0 7 rfl rfl)
theorem dX20_run_10 : decode cX20_run 10 = .ok (.invokestatic 195, 3) := dk_184 0 195 (dk_at dksX20_run_0 10 rfl rfl)
theorem dX20_run_13 : decode cX20_run 13 = .ok (.ifCond .ne 5, 3) := dk_154 0 5 (dk_at dksX20_run_0 13 rfl rfl)
theorem dX20_run_16 : decode cX20_run 16 = .ok (.iconst (-1), 1) := dk_2 (dk_at dksX20_run_0 16 rfl rfl)
theorem dX20_run_17 : decode cX20_run 17 = .ok (.ireturn, 1) := dk_172 (dk_at dksX20_run_0 17 rfl rfl)
theorem dX20_run_18 : decode cX20_run 18 = .ok (.iconst 0, 1) := dk_3 (dk_at dksX20_run_0 18 rfl rfl)
theorem dX20_run_19 : decode cX20_run 19 = .ok (.istore_n 2, 1) := dk_61 (dk_at dksX20_run_0 19 rfl rfl)
theorem dX20_run_20 : decode cX20_run 20 = .ok (.iload_n 2, 1) := dk_28 (dk_at dksX20_run_0 20 rfl rfl)
theorem dX20_run_21 : decode cX20_run 21 = .ok (.iload_n 1, 1) := dk_27 (dk_at dksX20_run_0 21 rfl rfl)
theorem dX20_run_22 : decode cX20_run 22 = .ok (.if_icmp .ge 24, 3) := dk_162 0 24 (dk_at dksX20_run_1 0 rfl rfl)
theorem dX20_run_25 : decode cX20_run 25 = .ok (.aload_n 0, 1) := dk_42 (dk_at dksX20_run_1 3 rfl rfl)
theorem dX20_run_26 : decode cX20_run 26 = .ok (.getfield 20, 3) := dk_180 0 20 (dk_at dksX20_run_1 4 rfl rfl)
theorem dX20_run_29 : decode cX20_run 29 = .ok (.bipush 20, 2) := dk_16 20 (dk_at dksX20_run_1 7 rfl rfl)
theorem dX20_run_31 : decode cX20_run 31 = .ok (.iaload, 1) := dk_46 (dk_at dksX20_run_1 9 rfl rfl)
theorem dX20_run_32 : decode cX20_run 32 = .ok (.iconst 5, 1) := dk_8 (dk_at dksX20_run_1 10 rfl rfl)
theorem dX20_run_33 : decode cX20_run 33 = .ok (.if_icmp .eq 13, 3) := dk_159 0 13 (dk_at dksX20_run_1 11 rfl rfl)
theorem dX20_run_36 : decode cX20_run 36 = .ok (.aload_n 0, 1) := dk_42 (dk_at dksX20_run_1 14 rfl rfl)
theorem dX20_run_37 : decode cX20_run 37 = .ok (.invokevirtual 264, 3) := dk_182 1 8 (dk_at dksX20_run_1 15 rfl rfl)
theorem dX20_run_40 : decode cX20_run 40 = .ok (.iinc 2 1, 3) := dk_132 2 1 (dk_at dksX20_run_1 18 rfl rfl)
theorem dX20_run_43 : decode cX20_run 43 = .ok (.goto (-23), 3) := dk_167 255 233 (dk_at dksX20_run_1 21 rfl rfl)
theorem dX20_run_46 : decode cX20_run 46 = .ok (.iload_n 2, 1) := dk_28 (dk_at dksX20_run_2 0 rfl rfl)
theorem dX20_run_47 : decode cX20_run 47 = .ok (.ireturn, 1) := dk_172 (dk_at dksX20_run_2 1 rfl rfl)
abbrev cX20_goesOn : ByteArray := prog_52_method_59_code
def yX20_goesOn : MethodName := ⟨RX20, "goesOn", "()V"⟩
def dkwX20_goesOn_0 : List UInt8 := [42, 4, 181, 0, 72, 42, 3, 181, 0, 189, 42, 42, 180, 0, 20, 182, 1, 5, 177]
abbrev dktX20_goesOn_0 : List UInt8 := dkwX20_goesOn_0 ++ []
theorem dksX20_goesOn_0 : cX20_goesOn.data.toList.drop 0 = dktX20_goesOn_0 := by decide +kernel
theorem dX20_goesOn_0 : decode cX20_goesOn 0 = .ok (.aload_n 0, 1) := dk_42 (dk_at dksX20_goesOn_0 0 rfl rfl)
theorem dX20_goesOn_1 : decode cX20_goesOn 1 = .ok (.iconst 1, 1) := dk_4 (dk_at dksX20_goesOn_0 1 rfl rfl)
theorem dX20_goesOn_2 : decode cX20_goesOn 2 = .ok (.putfield 72, 3) := dk_181 0 72 (dk_at dksX20_goesOn_0 2 rfl rfl)
theorem dX20_goesOn_5 : decode cX20_goesOn 5 = .ok (.aload_n 0, 1) := dk_42 (dk_at dksX20_goesOn_0 5 rfl rfl)
theorem dX20_goesOn_6 : decode cX20_goesOn 6 = .ok (.iconst 0, 1) := dk_3 (dk_at dksX20_goesOn_0 6 rfl rfl)
theorem dX20_goesOn_7 : decode cX20_goesOn 7 = .ok (.putfield 189, 3) := dk_181 0 189 (dk_at dksX20_goesOn_0 7 rfl rfl)
theorem dX20_goesOn_10 : decode cX20_goesOn 10 = .ok (.aload_n 0, 1) := dk_42 (dk_at dksX20_goesOn_0 10 rfl rfl)
theorem dX20_goesOn_11 : decode cX20_goesOn 11 = .ok (.aload_n 0, 1) := dk_42 (dk_at dksX20_goesOn_0 11 rfl rfl)
theorem dX20_goesOn_12 : decode cX20_goesOn 12 = .ok (.getfield 20, 3) := dk_180 0 20 (dk_at dksX20_goesOn_0 12 rfl rfl)
theorem dX20_goesOn_15 : decode cX20_goesOn 15 = .ok (.invokevirtual 261, 3) := dk_182 1 5 (dk_at dksX20_goesOn_0 15 rfl rfl)
theorem dX20_goesOn_18 : decode cX20_goesOn 18 = .ok (.return_, 1) := dk_177 (dk_at dksX20_goesOn_0 18 rfl rfl)
abbrev cX20_cycle : ByteArray := prog_52_method_27_code
def yX20_cycle : MethodName := ⟨RX20, "cycle", "([I)V"⟩
def dkwX20_cycle_9 : List UInt8 := [177]
abbrev dktX20_cycle_9 : List UInt8 := dkwX20_cycle_9 ++ []
def dkwX20_cycle_8 : List UInt8 := [160, 0, 11, 42, 43, 182, 0, 164, 167, 0, 16, 43, 16, 20, 46, 7, 160, 0, 8, 42, 43, 182, 0, 167]
abbrev dktX20_cycle_8 : List UInt8 := dkwX20_cycle_8 ++ dktX20_cycle_9
def dkwX20_cycle_7 : List UInt8 := [167, 0, 48, 43, 16, 20, 46, 5, 160, 0, 11, 42, 43, 182, 0, 161, 167, 0, 32, 43, 16, 20, 46, 6]
abbrev dktX20_cycle_7 : List UInt8 := dkwX20_cycle_7 ++ dktX20_cycle_8
def dkwX20_cycle_6 : List UInt8 := [154, 0, 11, 42, 43, 182, 0, 154, 167, 0, 64, 43, 16, 20, 46, 4, 160, 0, 11, 42, 43, 182, 0, 158]
abbrev dktX20_cycle_6 : List UInt8 := dkwX20_cycle_6 ++ dktX20_cycle_7
def dkwX20_cycle_5 : List UInt8 := [154, 0, 18, 42, 43, 16, 16, 182, 0, 143, 43, 16, 27, 43, 16, 26, 46, 79, 43, 16, 20, 46]
abbrev dktX20_cycle_5 : List UInt8 := dkwX20_cycle_5 ++ dktX20_cycle_6
def dkwX20_cycle_4 : List UInt8 := [16, 31, 28, 79, 43, 16, 26, 46, 153, 0, 33, 43, 16, 27, 92, 46, 4, 100, 79, 43, 16, 27, 46]
abbrev dktX20_cycle_4 : List UInt8 := dkwX20_cycle_4 ++ dktX20_cycle_5
def dkwX20_cycle_3 : List UInt8 := [17, 1, 12, 28, 96, 43, 17, 1, 12, 29, 96, 46, 79, 132, 2, 1, 132, 3, 1, 167, 255, 185, 43]
abbrev dktX20_cycle_3 : List UInt8 := dkwX20_cycle_3 ++ dktX20_cycle_4
def dkwX20_cycle_2 : List UInt8 := [96, 46, 182, 0, 143, 167, 0, 34, 43, 17, 0, 236, 28, 96, 43, 17, 0, 236, 29, 96, 46, 79, 43]
abbrev dktX20_cycle_2 : List UInt8 := dkwX20_cycle_2 ++ dktX20_cycle_3
def dkwX20_cycle_1 : List UInt8 := [162, 0, 69, 43, 17, 1, 12, 29, 96, 46, 43, 16, 25, 46, 160, 0, 18, 42, 43, 43, 17, 0, 236, 29]
abbrev dktX20_cycle_1 : List UInt8 := dkwX20_cycle_1 ++ dktX20_cycle_2
def dkwX20_cycle_0 : List UInt8 := [42, 2, 181, 0, 151, 43, 16, 25, 92, 46, 4, 96, 79, 3, 61, 3, 62, 29, 43, 16, 31, 46]
abbrev dktX20_cycle_0 : List UInt8 := dkwX20_cycle_0 ++ dktX20_cycle_1
theorem dksX20_cycle_0 : cX20_cycle.data.toList.drop 0 = dktX20_cycle_0 := by decide +kernel
theorem dksX20_cycle_1 : cX20_cycle.data.toList.drop 22 = dktX20_cycle_1 := dk_seg dksX20_cycle_0 22 rfl rfl
theorem dksX20_cycle_2 : cX20_cycle.data.toList.drop 46 = dktX20_cycle_2 := dk_seg dksX20_cycle_1 24 rfl rfl
theorem dksX20_cycle_3 : cX20_cycle.data.toList.drop 69 = dktX20_cycle_3 := dk_seg dksX20_cycle_2 23 rfl rfl
theorem dksX20_cycle_4 : cX20_cycle.data.toList.drop 92 = dktX20_cycle_4 := dk_seg dksX20_cycle_3 23 rfl rfl
theorem dksX20_cycle_5 : cX20_cycle.data.toList.drop 115 = dktX20_cycle_5 := dk_seg dksX20_cycle_4 23 rfl rfl
theorem dksX20_cycle_6 : cX20_cycle.data.toList.drop 137 = dktX20_cycle_6 := dk_seg dksX20_cycle_5 22 rfl rfl
theorem dksX20_cycle_7 : cX20_cycle.data.toList.drop 161 = dktX20_cycle_7 := dk_seg dksX20_cycle_6 24 rfl rfl
theorem dksX20_cycle_8 : cX20_cycle.data.toList.drop 185 = dktX20_cycle_8 := dk_seg dksX20_cycle_7 24 rfl rfl
theorem dksX20_cycle_9 : cX20_cycle.data.toList.drop 209 = dktX20_cycle_9 := dk_seg dksX20_cycle_8 24 rfl rfl
theorem dX20_cycle_0 : decode cX20_cycle 0 = .ok (.aload_n 0, 1) := dk_42 (dk_at dksX20_cycle_0 0 rfl rfl)
theorem dX20_cycle_1 : decode cX20_cycle 1 = .ok (.iconst (-1), 1) := dk_2 (dk_at dksX20_cycle_0 1 rfl rfl)
theorem dX20_cycle_2 : decode cX20_cycle 2 = .ok (.putfield 151, 3) := dk_181 0 151 (dk_at dksX20_cycle_0 2 rfl rfl)
theorem dX20_cycle_5 : decode cX20_cycle 5 = .ok (.aload_n 1, 1) := dk_43 (dk_at dksX20_cycle_0 5 rfl rfl)
theorem dX20_cycle_6 : decode cX20_cycle 6 = .ok (.bipush 25, 2) := dk_16 25 (dk_at dksX20_cycle_0 6 rfl rfl)
theorem dX20_cycle_8 : decode cX20_cycle 8 = .ok (.dup2, 1) := dk_92 (dk_at dksX20_cycle_0 8 rfl rfl)
theorem dX20_cycle_9 : decode cX20_cycle 9 = .ok (.iaload, 1) := dk_46 (dk_at dksX20_cycle_0 9 rfl rfl)
theorem dX20_cycle_10 : decode cX20_cycle 10 = .ok (.iconst 1, 1) := dk_4 (dk_at dksX20_cycle_0 10 rfl rfl)
theorem dX20_cycle_11 : decode cX20_cycle 11 = .ok (.iadd, 1) := dk_96 (dk_at dksX20_cycle_0 11 rfl rfl)
theorem dX20_cycle_12 : decode cX20_cycle 12 = .ok (.iastore, 1) := dk_79 (dk_at dksX20_cycle_0 12 rfl rfl)
theorem dX20_cycle_13 : decode cX20_cycle 13 = .ok (.iconst 0, 1) := dk_3 (dk_at dksX20_cycle_0 13 rfl rfl)
theorem dX20_cycle_14 : decode cX20_cycle 14 = .ok (.istore_n 2, 1) := dk_61 (dk_at dksX20_cycle_0 14 rfl rfl)
theorem dX20_cycle_15 : decode cX20_cycle 15 = .ok (.iconst 0, 1) := dk_3 (dk_at dksX20_cycle_0 15 rfl rfl)
theorem dX20_cycle_16 : decode cX20_cycle 16 = .ok (.istore_n 3, 1) := dk_62 (dk_at dksX20_cycle_0 16 rfl rfl)
theorem dX20_cycle_17 : decode cX20_cycle 17 = .ok (.iload_n 3, 1) := dk_29 (dk_at dksX20_cycle_0 17 rfl rfl)
theorem dX20_cycle_18 : decode cX20_cycle 18 = .ok (.aload_n 1, 1) := dk_43 (dk_at dksX20_cycle_0 18 rfl rfl)
theorem dX20_cycle_19 : decode cX20_cycle 19 = .ok (.bipush 31, 2) := dk_16 31 (dk_at dksX20_cycle_0 19 rfl rfl)
theorem dX20_cycle_21 : decode cX20_cycle 21 = .ok (.iaload, 1) := dk_46 (dk_at dksX20_cycle_0 21 rfl rfl)
theorem dX20_cycle_22 : decode cX20_cycle 22 = .ok (.if_icmp .ge 69, 3) := dk_162 0 69 (dk_at dksX20_cycle_1 0 rfl rfl)
theorem dX20_cycle_25 : decode cX20_cycle 25 = .ok (.aload_n 1, 1) := dk_43 (dk_at dksX20_cycle_1 3 rfl rfl)
theorem dX20_cycle_26 : decode cX20_cycle 26 = .ok (.sipush 268, 3) := dk_17 1 12 (dk_at dksX20_cycle_1 4 rfl rfl)
theorem dX20_cycle_29 : decode cX20_cycle 29 = .ok (.iload_n 3, 1) := dk_29 (dk_at dksX20_cycle_1 7 rfl rfl)
theorem dX20_cycle_30 : decode cX20_cycle 30 = .ok (.iadd, 1) := dk_96 (dk_at dksX20_cycle_1 8 rfl rfl)
theorem dX20_cycle_31 : decode cX20_cycle 31 = .ok (.iaload, 1) := dk_46 (dk_at dksX20_cycle_1 9 rfl rfl)
theorem dX20_cycle_32 : decode cX20_cycle 32 = .ok (.aload_n 1, 1) := dk_43 (dk_at dksX20_cycle_1 10 rfl rfl)
theorem dX20_cycle_33 : decode cX20_cycle 33 = .ok (.bipush 25, 2) := dk_16 25 (dk_at dksX20_cycle_1 11 rfl rfl)
theorem dX20_cycle_35 : decode cX20_cycle 35 = .ok (.iaload, 1) := dk_46 (dk_at dksX20_cycle_1 13 rfl rfl)
theorem dX20_cycle_36 : decode cX20_cycle 36 = .ok (.if_icmp .ne 18, 3) := dk_160 0 18 (dk_at dksX20_cycle_1 14 rfl rfl)
theorem dX20_cycle_39 : decode cX20_cycle 39 = .ok (.aload_n 0, 1) := dk_42 (dk_at dksX20_cycle_1 17 rfl rfl)
theorem dX20_cycle_40 : decode cX20_cycle 40 = .ok (.aload_n 1, 1) := dk_43 (dk_at dksX20_cycle_1 18 rfl rfl)
theorem dX20_cycle_41 : decode cX20_cycle 41 = .ok (.aload_n 1, 1) := dk_43 (dk_at dksX20_cycle_1 19 rfl rfl)
theorem dX20_cycle_42 : decode cX20_cycle 42 = .ok (.sipush 236, 3) := dk_17 0 236 (dk_at dksX20_cycle_1 20 rfl rfl)
theorem dX20_cycle_45 : decode cX20_cycle 45 = .ok (.iload_n 3, 1) := dk_29 (dk_at dksX20_cycle_1 23 rfl rfl)
theorem dX20_cycle_46 : decode cX20_cycle 46 = .ok (.iadd, 1) := dk_96 (dk_at dksX20_cycle_2 0 rfl rfl)
theorem dX20_cycle_47 : decode cX20_cycle 47 = .ok (.iaload, 1) := dk_46 (dk_at dksX20_cycle_2 1 rfl rfl)
theorem dX20_cycle_48 : decode cX20_cycle 48 = .ok (.invokevirtual 143, 3) := dk_182 0 143 (dk_at dksX20_cycle_2 2 rfl rfl)
theorem dX20_cycle_51 : decode cX20_cycle 51 = .ok (.goto 34, 3) := dk_167 0 34 (dk_at dksX20_cycle_2 5 rfl rfl)
theorem dX20_cycle_54 : decode cX20_cycle 54 = .ok (.aload_n 1, 1) := dk_43 (dk_at dksX20_cycle_2 8 rfl rfl)
theorem dX20_cycle_55 : decode cX20_cycle 55 = .ok (.sipush 236, 3) := dk_17 0 236 (dk_at dksX20_cycle_2 9 rfl rfl)
theorem dX20_cycle_58 : decode cX20_cycle 58 = .ok (.iload_n 2, 1) := dk_28 (dk_at dksX20_cycle_2 12 rfl rfl)
theorem dX20_cycle_59 : decode cX20_cycle 59 = .ok (.iadd, 1) := dk_96 (dk_at dksX20_cycle_2 13 rfl rfl)
theorem dX20_cycle_60 : decode cX20_cycle 60 = .ok (.aload_n 1, 1) := dk_43 (dk_at dksX20_cycle_2 14 rfl rfl)
theorem dX20_cycle_61 : decode cX20_cycle 61 = .ok (.sipush 236, 3) := dk_17 0 236 (dk_at dksX20_cycle_2 15 rfl rfl)
theorem dX20_cycle_64 : decode cX20_cycle 64 = .ok (.iload_n 3, 1) := dk_29 (dk_at dksX20_cycle_2 18 rfl rfl)
theorem dX20_cycle_65 : decode cX20_cycle 65 = .ok (.iadd, 1) := dk_96 (dk_at dksX20_cycle_2 19 rfl rfl)
theorem dX20_cycle_66 : decode cX20_cycle 66 = .ok (.iaload, 1) := dk_46 (dk_at dksX20_cycle_2 20 rfl rfl)
theorem dX20_cycle_67 : decode cX20_cycle 67 = .ok (.iastore, 1) := dk_79 (dk_at dksX20_cycle_2 21 rfl rfl)
theorem dX20_cycle_68 : decode cX20_cycle 68 = .ok (.aload_n 1, 1) := dk_43 (dk_at dksX20_cycle_2 22 rfl rfl)
theorem dX20_cycle_69 : decode cX20_cycle 69 = .ok (.sipush 268, 3) := dk_17 1 12 (dk_at dksX20_cycle_3 0 rfl rfl)
theorem dX20_cycle_72 : decode cX20_cycle 72 = .ok (.iload_n 2, 1) := dk_28 (dk_at dksX20_cycle_3 3 rfl rfl)
theorem dX20_cycle_73 : decode cX20_cycle 73 = .ok (.iadd, 1) := dk_96 (dk_at dksX20_cycle_3 4 rfl rfl)
theorem dX20_cycle_74 : decode cX20_cycle 74 = .ok (.aload_n 1, 1) := dk_43 (dk_at dksX20_cycle_3 5 rfl rfl)
theorem dX20_cycle_75 : decode cX20_cycle 75 = .ok (.sipush 268, 3) := dk_17 1 12 (dk_at dksX20_cycle_3 6 rfl rfl)
theorem dX20_cycle_78 : decode cX20_cycle 78 = .ok (.iload_n 3, 1) := dk_29 (dk_at dksX20_cycle_3 9 rfl rfl)
theorem dX20_cycle_79 : decode cX20_cycle 79 = .ok (.iadd, 1) := dk_96 (dk_at dksX20_cycle_3 10 rfl rfl)
theorem dX20_cycle_80 : decode cX20_cycle 80 = .ok (.iaload, 1) := dk_46 (dk_at dksX20_cycle_3 11 rfl rfl)
theorem dX20_cycle_81 : decode cX20_cycle 81 = .ok (.iastore, 1) := dk_79 (dk_at dksX20_cycle_3 12 rfl rfl)
theorem dX20_cycle_82 : decode cX20_cycle 82 = .ok (.iinc 2 1, 3) := dk_132 2 1 (dk_at dksX20_cycle_3 13 rfl rfl)
theorem dX20_cycle_85 : decode cX20_cycle 85 = .ok (.iinc 3 1, 3) := dk_132 3 1 (dk_at dksX20_cycle_3 16 rfl rfl)
theorem dX20_cycle_88 : decode cX20_cycle 88 = .ok (.goto (-71), 3) := dk_167 255 185 (dk_at dksX20_cycle_3 19 rfl rfl)
theorem dX20_cycle_91 : decode cX20_cycle 91 = .ok (.aload_n 1, 1) := dk_43 (dk_at dksX20_cycle_3 22 rfl rfl)
theorem dX20_cycle_92 : decode cX20_cycle 92 = .ok (.bipush 31, 2) := dk_16 31 (dk_at dksX20_cycle_4 0 rfl rfl)
theorem dX20_cycle_94 : decode cX20_cycle 94 = .ok (.iload_n 2, 1) := dk_28 (dk_at dksX20_cycle_4 2 rfl rfl)
theorem dX20_cycle_95 : decode cX20_cycle 95 = .ok (.iastore, 1) := dk_79 (dk_at dksX20_cycle_4 3 rfl rfl)
theorem dX20_cycle_96 : decode cX20_cycle 96 = .ok (.aload_n 1, 1) := dk_43 (dk_at dksX20_cycle_4 4 rfl rfl)
theorem dX20_cycle_97 : decode cX20_cycle 97 = .ok (.bipush 26, 2) := dk_16 26 (dk_at dksX20_cycle_4 5 rfl rfl)
theorem dX20_cycle_99 : decode cX20_cycle 99 = .ok (.iaload, 1) := dk_46 (dk_at dksX20_cycle_4 7 rfl rfl)
theorem dX20_cycle_100 : decode cX20_cycle 100 = .ok (.ifCond .eq 33, 3) := dk_153 0 33 (dk_at dksX20_cycle_4 8 rfl rfl)
theorem dX20_cycle_103 : decode cX20_cycle 103 = .ok (.aload_n 1, 1) := dk_43 (dk_at dksX20_cycle_4 11 rfl rfl)
theorem dX20_cycle_104 : decode cX20_cycle 104 = .ok (.bipush 27, 2) := dk_16 27 (dk_at dksX20_cycle_4 12 rfl rfl)
theorem dX20_cycle_106 : decode cX20_cycle 106 = .ok (.dup2, 1) := dk_92 (dk_at dksX20_cycle_4 14 rfl rfl)
theorem dX20_cycle_107 : decode cX20_cycle 107 = .ok (.iaload, 1) := dk_46 (dk_at dksX20_cycle_4 15 rfl rfl)
theorem dX20_cycle_108 : decode cX20_cycle 108 = .ok (.iconst 1, 1) := dk_4 (dk_at dksX20_cycle_4 16 rfl rfl)
theorem dX20_cycle_109 : decode cX20_cycle 109 = .ok (.isub, 1) := dk_100 (dk_at dksX20_cycle_4 17 rfl rfl)
theorem dX20_cycle_110 : decode cX20_cycle 110 = .ok (.iastore, 1) := dk_79 (dk_at dksX20_cycle_4 18 rfl rfl)
theorem dX20_cycle_111 : decode cX20_cycle 111 = .ok (.aload_n 1, 1) := dk_43 (dk_at dksX20_cycle_4 19 rfl rfl)
theorem dX20_cycle_112 : decode cX20_cycle 112 = .ok (.bipush 27, 2) := dk_16 27 (dk_at dksX20_cycle_4 20 rfl rfl)
theorem dX20_cycle_114 : decode cX20_cycle 114 = .ok (.iaload, 1) := dk_46 (dk_at dksX20_cycle_4 22 rfl rfl)
theorem dX20_cycle_115 : decode cX20_cycle 115 = .ok (.ifCond .ne 18, 3) := dk_154 0 18 (dk_at dksX20_cycle_5 0 rfl rfl)
theorem dX20_cycle_118 : decode cX20_cycle 118 = .ok (.aload_n 0, 1) := dk_42 (dk_at dksX20_cycle_5 3 rfl rfl)
theorem dX20_cycle_119 : decode cX20_cycle 119 = .ok (.aload_n 1, 1) := dk_43 (dk_at dksX20_cycle_5 4 rfl rfl)
theorem dX20_cycle_120 : decode cX20_cycle 120 = .ok (.bipush 16, 2) := dk_16 16 (dk_at dksX20_cycle_5 5 rfl rfl)
theorem dX20_cycle_122 : decode cX20_cycle 122 = .ok (.invokevirtual 143, 3) := dk_182 0 143 (dk_at dksX20_cycle_5 7 rfl rfl)
theorem dX20_cycle_125 : decode cX20_cycle 125 = .ok (.aload_n 1, 1) := dk_43 (dk_at dksX20_cycle_5 10 rfl rfl)
theorem dX20_cycle_126 : decode cX20_cycle 126 = .ok (.bipush 27, 2) := dk_16 27 (dk_at dksX20_cycle_5 11 rfl rfl)
theorem dX20_cycle_128 : decode cX20_cycle 128 = .ok (.aload_n 1, 1) := dk_43 (dk_at dksX20_cycle_5 13 rfl rfl)
theorem dX20_cycle_129 : decode cX20_cycle 129 = .ok (.bipush 26, 2) := dk_16 26 (dk_at dksX20_cycle_5 14 rfl rfl)
theorem dX20_cycle_131 : decode cX20_cycle 131 = .ok (.iaload, 1) := dk_46 (dk_at dksX20_cycle_5 16 rfl rfl)
theorem dX20_cycle_132 : decode cX20_cycle 132 = .ok (.iastore, 1) := dk_79 (dk_at dksX20_cycle_5 17 rfl rfl)
theorem dX20_cycle_133 : decode cX20_cycle 133 = .ok (.aload_n 1, 1) := dk_43 (dk_at dksX20_cycle_5 18 rfl rfl)
theorem dX20_cycle_134 : decode cX20_cycle 134 = .ok (.bipush 20, 2) := dk_16 20 (dk_at dksX20_cycle_5 19 rfl rfl)
theorem dX20_cycle_136 : decode cX20_cycle 136 = .ok (.iaload, 1) := dk_46 (dk_at dksX20_cycle_5 21 rfl rfl)
theorem dX20_cycle_137 : decode cX20_cycle 137 = .ok (.ifCond .ne 11, 3) := dk_154 0 11 (dk_at dksX20_cycle_6 0 rfl rfl)
theorem dX20_cycle_140 : decode cX20_cycle 140 = .ok (.aload_n 0, 1) := dk_42 (dk_at dksX20_cycle_6 3 rfl rfl)
theorem dX20_cycle_141 : decode cX20_cycle 141 = .ok (.aload_n 1, 1) := dk_43 (dk_at dksX20_cycle_6 4 rfl rfl)
theorem dX20_cycle_142 : decode cX20_cycle 142 = .ok (.invokevirtual 154, 3) := dk_182 0 154 (dk_at dksX20_cycle_6 5 rfl rfl)
theorem dX20_cycle_145 : decode cX20_cycle 145 = .ok (.goto 64, 3) := dk_167 0 64 (dk_at dksX20_cycle_6 8 rfl rfl)
theorem dX20_cycle_148 : decode cX20_cycle 148 = .ok (.aload_n 1, 1) := dk_43 (dk_at dksX20_cycle_6 11 rfl rfl)
theorem dX20_cycle_149 : decode cX20_cycle 149 = .ok (.bipush 20, 2) := dk_16 20 (dk_at dksX20_cycle_6 12 rfl rfl)
theorem dX20_cycle_151 : decode cX20_cycle 151 = .ok (.iaload, 1) := dk_46 (dk_at dksX20_cycle_6 14 rfl rfl)
theorem dX20_cycle_152 : decode cX20_cycle 152 = .ok (.iconst 1, 1) := dk_4 (dk_at dksX20_cycle_6 15 rfl rfl)
theorem dX20_cycle_153 : decode cX20_cycle 153 = .ok (.if_icmp .ne 11, 3) := dk_160 0 11 (dk_at dksX20_cycle_6 16 rfl rfl)
theorem dX20_cycle_156 : decode cX20_cycle 156 = .ok (.aload_n 0, 1) := dk_42 (dk_at dksX20_cycle_6 19 rfl rfl)
theorem dX20_cycle_157 : decode cX20_cycle 157 = .ok (.aload_n 1, 1) := dk_43 (dk_at dksX20_cycle_6 20 rfl rfl)
theorem dX20_cycle_158 : decode cX20_cycle 158 = .ok (.invokevirtual 158, 3) := dk_182 0 158 (dk_at dksX20_cycle_6 21 rfl rfl)
theorem dX20_cycle_161 : decode cX20_cycle 161 = .ok (.goto 48, 3) := dk_167 0 48 (dk_at dksX20_cycle_7 0 rfl rfl)
theorem dX20_cycle_164 : decode cX20_cycle 164 = .ok (.aload_n 1, 1) := dk_43 (dk_at dksX20_cycle_7 3 rfl rfl)
theorem dX20_cycle_165 : decode cX20_cycle 165 = .ok (.bipush 20, 2) := dk_16 20 (dk_at dksX20_cycle_7 4 rfl rfl)
theorem dX20_cycle_167 : decode cX20_cycle 167 = .ok (.iaload, 1) := dk_46 (dk_at dksX20_cycle_7 6 rfl rfl)
theorem dX20_cycle_168 : decode cX20_cycle 168 = .ok (.iconst 2, 1) := dk_5 (dk_at dksX20_cycle_7 7 rfl rfl)
theorem dX20_cycle_169 : decode cX20_cycle 169 = .ok (.if_icmp .ne 11, 3) := dk_160 0 11 (dk_at dksX20_cycle_7 8 rfl rfl)
theorem dX20_cycle_172 : decode cX20_cycle 172 = .ok (.aload_n 0, 1) := dk_42 (dk_at dksX20_cycle_7 11 rfl rfl)
theorem dX20_cycle_173 : decode cX20_cycle 173 = .ok (.aload_n 1, 1) := dk_43 (dk_at dksX20_cycle_7 12 rfl rfl)
theorem dX20_cycle_174 : decode cX20_cycle 174 = .ok (.invokevirtual 161, 3) := dk_182 0 161 (dk_at dksX20_cycle_7 13 rfl rfl)
theorem dX20_cycle_177 : decode cX20_cycle 177 = .ok (.goto 32, 3) := dk_167 0 32 (dk_at dksX20_cycle_7 16 rfl rfl)
theorem dX20_cycle_180 : decode cX20_cycle 180 = .ok (.aload_n 1, 1) := dk_43 (dk_at dksX20_cycle_7 19 rfl rfl)
theorem dX20_cycle_181 : decode cX20_cycle 181 = .ok (.bipush 20, 2) := dk_16 20 (dk_at dksX20_cycle_7 20 rfl rfl)
theorem dX20_cycle_183 : decode cX20_cycle 183 = .ok (.iaload, 1) := dk_46 (dk_at dksX20_cycle_7 22 rfl rfl)
theorem dX20_cycle_184 : decode cX20_cycle 184 = .ok (.iconst 3, 1) := dk_6 (dk_at dksX20_cycle_7 23 rfl rfl)
theorem dX20_cycle_185 : decode cX20_cycle 185 = .ok (.if_icmp .ne 11, 3) := dk_160 0 11 (dk_at dksX20_cycle_8 0 rfl rfl)
theorem dX20_cycle_188 : decode cX20_cycle 188 = .ok (.aload_n 0, 1) := dk_42 (dk_at dksX20_cycle_8 3 rfl rfl)
theorem dX20_cycle_189 : decode cX20_cycle 189 = .ok (.aload_n 1, 1) := dk_43 (dk_at dksX20_cycle_8 4 rfl rfl)
theorem dX20_cycle_190 : decode cX20_cycle 190 = .ok (.invokevirtual 164, 3) := dk_182 0 164 (dk_at dksX20_cycle_8 5 rfl rfl)
theorem dX20_cycle_193 : decode cX20_cycle 193 = .ok (.goto 16, 3) := dk_167 0 16 (dk_at dksX20_cycle_8 8 rfl rfl)
theorem dX20_cycle_196 : decode cX20_cycle 196 = .ok (.aload_n 1, 1) := dk_43 (dk_at dksX20_cycle_8 11 rfl rfl)
theorem dX20_cycle_197 : decode cX20_cycle 197 = .ok (.bipush 20, 2) := dk_16 20 (dk_at dksX20_cycle_8 12 rfl rfl)
theorem dX20_cycle_199 : decode cX20_cycle 199 = .ok (.iaload, 1) := dk_46 (dk_at dksX20_cycle_8 14 rfl rfl)
theorem dX20_cycle_200 : decode cX20_cycle 200 = .ok (.iconst 4, 1) := dk_7 (dk_at dksX20_cycle_8 15 rfl rfl)
theorem dX20_cycle_201 : decode cX20_cycle 201 = .ok (.if_icmp .ne 8, 3) := dk_160 0 8 (dk_at dksX20_cycle_8 16 rfl rfl)
theorem dX20_cycle_204 : decode cX20_cycle 204 = .ok (.aload_n 0, 1) := dk_42 (dk_at dksX20_cycle_8 19 rfl rfl)
theorem dX20_cycle_205 : decode cX20_cycle 205 = .ok (.aload_n 1, 1) := dk_43 (dk_at dksX20_cycle_8 20 rfl rfl)
theorem dX20_cycle_206 : decode cX20_cycle 206 = .ok (.invokevirtual 167, 3) := dk_182 0 167 (dk_at dksX20_cycle_8 21 rfl rfl)
theorem dX20_cycle_209 : decode cX20_cycle 209 = .ok (.return_, 1) := dk_177 (dk_at dksX20_cycle_9 0 rfl rfl)
abbrev cX20_runs : ByteArray := prog_52_method_29_code
def yX20_runs : MethodName := ⟨RX20, "runs", "([I)V"⟩
def dkwX20_runs_3 : List UInt8 := [182, 0, 127, 156, 0, 4, 177, 43, 16, 23, 3, 79, 42, 43, 182, 0, 177, 177]
abbrev dktX20_runs_3 : List UInt8 := dkwX20_runs_3 ++ []
def dkwX20_runs_2 : List UInt8 := [43, 4, 3, 182, 0, 173, 42, 43, 182, 0, 158, 177, 43, 16, 23, 46, 4, 160, 0, 13, 42, 43, 3]
abbrev dktX20_runs_2 : List UInt8 := dkwX20_runs_2 ++ dktX20_runs_3
def dkwX20_runs_1 : List UInt8 := [155, 0, 36, 43, 16, 24, 28, 79, 43, 16, 23, 3, 79, 43, 16, 28, 3, 79, 43, 16, 29, 3, 79, 42]
abbrev dktX20_runs_1 : List UInt8 := dkwX20_runs_1 ++ dktX20_runs_2
def dkwX20_runs_0 : List UInt8 := [43, 16, 22, 46, 158, 0, 12, 43, 16, 22, 92, 46, 4, 100, 79, 177, 42, 43, 182, 0, 170, 61, 28]
abbrev dktX20_runs_0 : List UInt8 := dkwX20_runs_0 ++ dktX20_runs_1
theorem dksX20_runs_0 : cX20_runs.data.toList.drop 0 = dktX20_runs_0 := by decide +kernel
theorem dksX20_runs_1 : cX20_runs.data.toList.drop 23 = dktX20_runs_1 := dk_seg dksX20_runs_0 23 rfl rfl
theorem dksX20_runs_2 : cX20_runs.data.toList.drop 47 = dktX20_runs_2 := dk_seg dksX20_runs_1 24 rfl rfl
theorem dksX20_runs_3 : cX20_runs.data.toList.drop 70 = dktX20_runs_3 := dk_seg dksX20_runs_2 23 rfl rfl
theorem dX20_runs_0 : decode cX20_runs 0 = .ok (.aload_n 1, 1) := dk_43 (dk_at dksX20_runs_0 0 rfl rfl)
theorem dX20_runs_1 : decode cX20_runs 1 = .ok (.bipush 22, 2) := dk_16 22 (dk_at dksX20_runs_0 1 rfl rfl)
theorem dX20_runs_3 : decode cX20_runs 3 = .ok (.iaload, 1) := dk_46 (dk_at dksX20_runs_0 3 rfl rfl)
theorem dX20_runs_4 : decode cX20_runs 4 = .ok (.ifCond .le 12, 3) := dk_158 0 12 (dk_at dksX20_runs_0 4 rfl rfl)
theorem dX20_runs_7 : decode cX20_runs 7 = .ok (.aload_n 1, 1) := dk_43 (dk_at dksX20_runs_0 7 rfl rfl)
theorem dX20_runs_8 : decode cX20_runs 8 = .ok (.bipush 22, 2) := dk_16 22 (dk_at dksX20_runs_0 8 rfl rfl)
theorem dX20_runs_10 : decode cX20_runs 10 = .ok (.dup2, 1) := dk_92 (dk_at dksX20_runs_0 10 rfl rfl)
theorem dX20_runs_11 : decode cX20_runs 11 = .ok (.iaload, 1) := dk_46 (dk_at dksX20_runs_0 11 rfl rfl)
theorem dX20_runs_12 : decode cX20_runs 12 = .ok (.iconst 1, 1) := dk_4 (dk_at dksX20_runs_0 12 rfl rfl)
theorem dX20_runs_13 : decode cX20_runs 13 = .ok (.isub, 1) := dk_100 (dk_at dksX20_runs_0 13 rfl rfl)
theorem dX20_runs_14 : decode cX20_runs 14 = .ok (.iastore, 1) := dk_79 (dk_at dksX20_runs_0 14 rfl rfl)
theorem dX20_runs_15 : decode cX20_runs 15 = .ok (.return_, 1) := dk_177 (dk_at dksX20_runs_0 15 rfl rfl)
theorem dX20_runs_16 : decode cX20_runs 16 = .ok (.aload_n 0, 1) := dk_42 (dk_at dksX20_runs_0 16 rfl rfl)
theorem dX20_runs_17 : decode cX20_runs 17 = .ok (.aload_n 1, 1) := dk_43 (dk_at dksX20_runs_0 17 rfl rfl)
theorem dX20_runs_18 : decode cX20_runs 18 = .ok (.invokevirtual 170, 3) := dk_182 0 170 (dk_at dksX20_runs_0 18 rfl rfl)
theorem dX20_runs_21 : decode cX20_runs 21 = .ok (.istore_n 2, 1) := dk_61 (dk_at dksX20_runs_0 21 rfl rfl)
theorem dX20_runs_22 : decode cX20_runs 22 = .ok (.iload_n 2, 1) := dk_28 (dk_at dksX20_runs_0 22 rfl rfl)
theorem dX20_runs_23 : decode cX20_runs 23 = .ok (.ifCond .lt 36, 3) := dk_155 0 36 (dk_at dksX20_runs_1 0 rfl rfl)
theorem dX20_runs_26 : decode cX20_runs 26 = .ok (.aload_n 1, 1) := dk_43 (dk_at dksX20_runs_1 3 rfl rfl)
theorem dX20_runs_27 : decode cX20_runs 27 = .ok (.bipush 24, 2) := dk_16 24 (dk_at dksX20_runs_1 4 rfl rfl)
theorem dX20_runs_29 : decode cX20_runs 29 = .ok (.iload_n 2, 1) := dk_28 (dk_at dksX20_runs_1 6 rfl rfl)
theorem dX20_runs_30 : decode cX20_runs 30 = .ok (.iastore, 1) := dk_79 (dk_at dksX20_runs_1 7 rfl rfl)
theorem dX20_runs_31 : decode cX20_runs 31 = .ok (.aload_n 1, 1) := dk_43 (dk_at dksX20_runs_1 8 rfl rfl)
theorem dX20_runs_32 : decode cX20_runs 32 = .ok (.bipush 23, 2) := dk_16 23 (dk_at dksX20_runs_1 9 rfl rfl)
theorem dX20_runs_34 : decode cX20_runs 34 = .ok (.iconst 0, 1) := dk_3 (dk_at dksX20_runs_1 11 rfl rfl)
theorem dX20_runs_35 : decode cX20_runs 35 = .ok (.iastore, 1) := dk_79 (dk_at dksX20_runs_1 12 rfl rfl)
theorem dX20_runs_36 : decode cX20_runs 36 = .ok (.aload_n 1, 1) := dk_43 (dk_at dksX20_runs_1 13 rfl rfl)
theorem dX20_runs_37 : decode cX20_runs 37 = .ok (.bipush 28, 2) := dk_16 28 (dk_at dksX20_runs_1 14 rfl rfl)
theorem dX20_runs_39 : decode cX20_runs 39 = .ok (.iconst 0, 1) := dk_3 (dk_at dksX20_runs_1 16 rfl rfl)
theorem dX20_runs_40 : decode cX20_runs 40 = .ok (.iastore, 1) := dk_79 (dk_at dksX20_runs_1 17 rfl rfl)
theorem dX20_runs_41 : decode cX20_runs 41 = .ok (.aload_n 1, 1) := dk_43 (dk_at dksX20_runs_1 18 rfl rfl)
theorem dX20_runs_42 : decode cX20_runs 42 = .ok (.bipush 29, 2) := dk_16 29 (dk_at dksX20_runs_1 19 rfl rfl)
theorem dX20_runs_44 : decode cX20_runs 44 = .ok (.iconst 0, 1) := dk_3 (dk_at dksX20_runs_1 21 rfl rfl)
theorem dX20_runs_45 : decode cX20_runs 45 = .ok (.iastore, 1) := dk_79 (dk_at dksX20_runs_1 22 rfl rfl)
theorem dX20_runs_46 : decode cX20_runs 46 = .ok (.aload_n 0, 1) := dk_42 (dk_at dksX20_runs_1 23 rfl rfl)
theorem dX20_runs_47 : decode cX20_runs 47 = .ok (.aload_n 1, 1) := dk_43 (dk_at dksX20_runs_2 0 rfl rfl)
theorem dX20_runs_48 : decode cX20_runs 48 = .ok (.iconst 1, 1) := dk_4 (dk_at dksX20_runs_2 1 rfl rfl)
theorem dX20_runs_49 : decode cX20_runs 49 = .ok (.iconst 0, 1) := dk_3 (dk_at dksX20_runs_2 2 rfl rfl)
theorem dX20_runs_50 : decode cX20_runs 50 = .ok (.invokevirtual 173, 3) := dk_182 0 173 (dk_at dksX20_runs_2 3 rfl rfl)
theorem dX20_runs_53 : decode cX20_runs 53 = .ok (.aload_n 0, 1) := dk_42 (dk_at dksX20_runs_2 6 rfl rfl)
theorem dX20_runs_54 : decode cX20_runs 54 = .ok (.aload_n 1, 1) := dk_43 (dk_at dksX20_runs_2 7 rfl rfl)
theorem dX20_runs_55 : decode cX20_runs 55 = .ok (.invokevirtual 158, 3) := dk_182 0 158 (dk_at dksX20_runs_2 8 rfl rfl)
theorem dX20_runs_58 : decode cX20_runs 58 = .ok (.return_, 1) := dk_177 (dk_at dksX20_runs_2 11 rfl rfl)
theorem dX20_runs_59 : decode cX20_runs 59 = .ok (.aload_n 1, 1) := dk_43 (dk_at dksX20_runs_2 12 rfl rfl)
theorem dX20_runs_60 : decode cX20_runs 60 = .ok (.bipush 23, 2) := dk_16 23 (dk_at dksX20_runs_2 13 rfl rfl)
theorem dX20_runs_62 : decode cX20_runs 62 = .ok (.iaload, 1) := dk_46 (dk_at dksX20_runs_2 15 rfl rfl)
theorem dX20_runs_63 : decode cX20_runs 63 = .ok (.iconst 1, 1) := dk_4 (dk_at dksX20_runs_2 16 rfl rfl)
theorem dX20_runs_64 : decode cX20_runs 64 = .ok (.if_icmp .ne 13, 3) := dk_160 0 13 (dk_at dksX20_runs_2 17 rfl rfl)
theorem dX20_runs_67 : decode cX20_runs 67 = .ok (.aload_n 0, 1) := dk_42 (dk_at dksX20_runs_2 20 rfl rfl)
theorem dX20_runs_68 : decode cX20_runs 68 = .ok (.aload_n 1, 1) := dk_43 (dk_at dksX20_runs_2 21 rfl rfl)
theorem dX20_runs_69 : decode cX20_runs 69 = .ok (.iconst 0, 1) := dk_3 (dk_at dksX20_runs_2 22 rfl rfl)
theorem dX20_runs_70 : decode cX20_runs 70 = .ok (.invokevirtual 127, 3) := dk_182 0 127 (dk_at dksX20_runs_3 0 rfl rfl)
theorem dX20_runs_73 : decode cX20_runs 73 = .ok (.ifCond .ge 4, 3) := dk_156 0 4 (dk_at dksX20_runs_3 3 rfl rfl)
theorem dX20_runs_76 : decode cX20_runs 76 = .ok (.return_, 1) := dk_177 (dk_at dksX20_runs_3 6 rfl rfl)
theorem dX20_runs_77 : decode cX20_runs 77 = .ok (.aload_n 1, 1) := dk_43 (dk_at dksX20_runs_3 7 rfl rfl)
theorem dX20_runs_78 : decode cX20_runs 78 = .ok (.bipush 23, 2) := dk_16 23 (dk_at dksX20_runs_3 8 rfl rfl)
theorem dX20_runs_80 : decode cX20_runs 80 = .ok (.iconst 0, 1) := dk_3 (dk_at dksX20_runs_3 10 rfl rfl)
theorem dX20_runs_81 : decode cX20_runs 81 = .ok (.iastore, 1) := dk_79 (dk_at dksX20_runs_3 11 rfl rfl)
theorem dX20_runs_82 : decode cX20_runs 82 = .ok (.aload_n 0, 1) := dk_42 (dk_at dksX20_runs_3 12 rfl rfl)
theorem dX20_runs_83 : decode cX20_runs 83 = .ok (.aload_n 1, 1) := dk_43 (dk_at dksX20_runs_3 13 rfl rfl)
theorem dX20_runs_84 : decode cX20_runs 84 = .ok (.invokevirtual 177, 3) := dk_182 0 177 (dk_at dksX20_runs_3 14 rfl rfl)
theorem dX20_runs_87 : decode cX20_runs 87 = .ok (.return_, 1) := dk_177 (dk_at dksX20_runs_3 17 rfl rfl)
abbrev cX20_nextOf : ByteArray := prog_52_method_22_code
def yX20_nextOf : MethodName := ⟨RX20, "nextOf", "([I)I"⟩
def dkwX20_nextOf_0 : List UInt8 := [42, 43, 43, 16, 16, 46, 4, 160, 0, 7, 4, 167, 0, 4, 3, 182, 0, 127, 172]
abbrev dktX20_nextOf_0 : List UInt8 := dkwX20_nextOf_0 ++ []
theorem dksX20_nextOf_0 : cX20_nextOf.data.toList.drop 0 = dktX20_nextOf_0 := by decide +kernel
theorem dX20_nextOf_0 : decode cX20_nextOf 0 = .ok (.aload_n 0, 1) := dk_42 (dk_at dksX20_nextOf_0 0 rfl rfl)
theorem dX20_nextOf_1 : decode cX20_nextOf 1 = .ok (.aload_n 1, 1) := dk_43 (dk_at dksX20_nextOf_0 1 rfl rfl)
theorem dX20_nextOf_2 : decode cX20_nextOf 2 = .ok (.aload_n 1, 1) := dk_43 (dk_at dksX20_nextOf_0 2 rfl rfl)
theorem dX20_nextOf_3 : decode cX20_nextOf 3 = .ok (.bipush 16, 2) := dk_16 16 (dk_at dksX20_nextOf_0 3 rfl rfl)
theorem dX20_nextOf_5 : decode cX20_nextOf 5 = .ok (.iaload, 1) := dk_46 (dk_at dksX20_nextOf_0 5 rfl rfl)
theorem dX20_nextOf_6 : decode cX20_nextOf 6 = .ok (.iconst 1, 1) := dk_4 (dk_at dksX20_nextOf_0 6 rfl rfl)
theorem dX20_nextOf_7 : decode cX20_nextOf 7 = .ok (.if_icmp .ne 7, 3) := dk_160 0 7 (dk_at dksX20_nextOf_0 7 rfl rfl)
theorem dX20_nextOf_10 : decode cX20_nextOf 10 = .ok (.iconst 1, 1) := dk_4 (dk_at dksX20_nextOf_0 10 rfl rfl)
theorem dX20_nextOf_11 : decode cX20_nextOf 11 = .ok (.goto 4, 3) := dk_167 0 4 (dk_at dksX20_nextOf_0 11 rfl rfl)
theorem dX20_nextOf_14 : decode cX20_nextOf 14 = .ok (.iconst 0, 1) := dk_3 (dk_at dksX20_nextOf_0 14 rfl rfl)
theorem dX20_nextOf_15 : decode cX20_nextOf 15 = .ok (.invokevirtual 127, 3) := dk_182 0 127 (dk_at dksX20_nextOf_0 15 rfl rfl)
theorem dX20_nextOf_18 : decode cX20_nextOf 18 = .ok (.ireturn, 1) := dk_172 (dk_at dksX20_nextOf_0 18 rfl rfl)
abbrev cX20_nextOf_2 : ByteArray := prog_52_method_21_code
def yX20_nextOf_2 : MethodName := ⟨RX20, "nextOf", "([IZ)I"⟩
def dkwX20_nextOf_2_3 : List UInt8 := [153, 0, 7, 21, 5, 54, 4, 132, 5, 1, 167, 255, 190, 21, 4, 172]
abbrev dktX20_nextOf_2_3 : List UInt8 := dkwX20_nextOf_2_3 ++ []
def dkwX20_nextOf_2_2 : List UInt8 := [180, 0, 113, 184, 0, 109, 29, 162, 0, 24, 21, 4, 155, 0, 15, 42, 43, 21, 5, 21, 4, 182, 0, 123]
abbrev dktX20_nextOf_2_2 : List UInt8 := dkwX20_nextOf_2_2 ++ dktX20_nextOf_2_3
def dkwX20_nextOf_2_1 : List UInt8 := [17, 0, 194, 21, 5, 96, 46, 155, 0, 48, 42, 180, 0, 16, 21, 5, 51, 153, 0, 38, 43, 21, 5, 42]
abbrev dktX20_nextOf_2_1 : List UInt8 := dkwX20_nextOf_2_1 ++ dktX20_nextOf_2_2
def dkwX20_nextOf_2_0 : List UInt8 := [43, 42, 180, 0, 113, 28, 184, 0, 119, 62, 2, 54, 4, 3, 54, 5, 21, 5, 16, 21, 162, 0, 65, 43]
abbrev dktX20_nextOf_2_0 : List UInt8 := dkwX20_nextOf_2_0 ++ dktX20_nextOf_2_1
theorem dksX20_nextOf_2_0 : cX20_nextOf_2.data.toList.drop 0 = dktX20_nextOf_2_0 := by decide +kernel
theorem dksX20_nextOf_2_1 : cX20_nextOf_2.data.toList.drop 24 = dktX20_nextOf_2_1 := dk_seg dksX20_nextOf_2_0 24 rfl rfl
theorem dksX20_nextOf_2_2 : cX20_nextOf_2.data.toList.drop 48 = dktX20_nextOf_2_2 := dk_seg dksX20_nextOf_2_1 24 rfl rfl
theorem dksX20_nextOf_2_3 : cX20_nextOf_2.data.toList.drop 72 = dktX20_nextOf_2_3 := dk_seg dksX20_nextOf_2_2 24 rfl rfl
theorem dX20_nextOf_2_0 : decode cX20_nextOf_2 0 = .ok (.aload_n 1, 1) := dk_43 (dk_at dksX20_nextOf_2_0 0 rfl rfl)
theorem dX20_nextOf_2_1 : decode cX20_nextOf_2 1 = .ok (.aload_n 0, 1) := dk_42 (dk_at dksX20_nextOf_2_0 1 rfl rfl)
theorem dX20_nextOf_2_2 : decode cX20_nextOf_2 2 = .ok (.getfield 113, 3) := dk_180 0 113 (dk_at dksX20_nextOf_2_0 2 rfl rfl)
theorem dX20_nextOf_2_5 : decode cX20_nextOf_2 5 = .ok (.iload_n 2, 1) := dk_28 (dk_at dksX20_nextOf_2_0 5 rfl rfl)
theorem dX20_nextOf_2_6 : decode cX20_nextOf_2 6 = .ok (.invokestatic 119, 3) := dk_184 0 119 (dk_at dksX20_nextOf_2_0 6 rfl rfl)
theorem dX20_nextOf_2_9 : decode cX20_nextOf_2 9 = .ok (.istore_n 3, 1) := dk_62 (dk_at dksX20_nextOf_2_0 9 rfl rfl)
theorem dX20_nextOf_2_10 : decode cX20_nextOf_2 10 = .ok (.iconst (-1), 1) := dk_2 (dk_at dksX20_nextOf_2_0 10 rfl rfl)
theorem dX20_nextOf_2_11 : decode cX20_nextOf_2 11 = .ok (.istore 4, 2) := dk_54 4 (dk_at dksX20_nextOf_2_0 11 rfl rfl)
theorem dX20_nextOf_2_13 : decode cX20_nextOf_2 13 = .ok (.iconst 0, 1) := dk_3 (dk_at dksX20_nextOf_2_0 13 rfl rfl)
theorem dX20_nextOf_2_14 : decode cX20_nextOf_2 14 = .ok (.istore 5, 2) := dk_54 5 (dk_at dksX20_nextOf_2_0 14 rfl rfl)
theorem dX20_nextOf_2_16 : decode cX20_nextOf_2 16 = .ok (.iload 5, 2) := dk_21 5 (dk_at dksX20_nextOf_2_0 16 rfl rfl)
theorem dX20_nextOf_2_18 : decode cX20_nextOf_2 18 = .ok (.bipush 21, 2) := dk_16 21 (dk_at dksX20_nextOf_2_0 18 rfl rfl)
theorem dX20_nextOf_2_20 : decode cX20_nextOf_2 20 = .ok (.if_icmp .ge 65, 3) := dk_162 0 65 (dk_at dksX20_nextOf_2_0 20 rfl rfl)
theorem dX20_nextOf_2_23 : decode cX20_nextOf_2 23 = .ok (.aload_n 1, 1) := dk_43 (dk_at dksX20_nextOf_2_0 23 rfl rfl)
theorem dX20_nextOf_2_24 : decode cX20_nextOf_2 24 = .ok (.sipush 194, 3) := dk_17 0 194 (dk_at dksX20_nextOf_2_1 0 rfl rfl)
theorem dX20_nextOf_2_27 : decode cX20_nextOf_2 27 = .ok (.iload 5, 2) := dk_21 5 (dk_at dksX20_nextOf_2_1 3 rfl rfl)
theorem dX20_nextOf_2_29 : decode cX20_nextOf_2 29 = .ok (.iadd, 1) := dk_96 (dk_at dksX20_nextOf_2_1 5 rfl rfl)
theorem dX20_nextOf_2_30 : decode cX20_nextOf_2 30 = .ok (.iaload, 1) := dk_46 (dk_at dksX20_nextOf_2_1 6 rfl rfl)
theorem dX20_nextOf_2_31 : decode cX20_nextOf_2 31 = .ok (.ifCond .lt 48, 3) := dk_155 0 48 (dk_at dksX20_nextOf_2_1 7 rfl rfl)
theorem dX20_nextOf_2_34 : decode cX20_nextOf_2 34 = .ok (.aload_n 0, 1) := dk_42 (dk_at dksX20_nextOf_2_1 10 rfl rfl)
theorem dX20_nextOf_2_35 : decode cX20_nextOf_2 35 = .ok (.getfield 16, 3) := dk_180 0 16 (dk_at dksX20_nextOf_2_1 11 rfl rfl)
theorem dX20_nextOf_2_38 : decode cX20_nextOf_2 38 = .ok (.iload 5, 2) := dk_21 5 (dk_at dksX20_nextOf_2_1 14 rfl rfl)
theorem dX20_nextOf_2_40 : decode cX20_nextOf_2 40 = .ok (.baload, 1) := dk_51 (dk_at dksX20_nextOf_2_1 16 rfl rfl)
theorem dX20_nextOf_2_41 : decode cX20_nextOf_2 41 = .ok (.ifCond .eq 38, 3) := dk_153 0 38 (dk_at dksX20_nextOf_2_1 17 rfl rfl)
theorem dX20_nextOf_2_44 : decode cX20_nextOf_2 44 = .ok (.aload_n 1, 1) := dk_43 (dk_at dksX20_nextOf_2_1 20 rfl rfl)
theorem dX20_nextOf_2_45 : decode cX20_nextOf_2 45 = .ok (.iload 5, 2) := dk_21 5 (dk_at dksX20_nextOf_2_1 21 rfl rfl)
theorem dX20_nextOf_2_47 : decode cX20_nextOf_2 47 = .ok (.aload_n 0, 1) := dk_42 (dk_at dksX20_nextOf_2_1 23 rfl rfl)
theorem dX20_nextOf_2_48 : decode cX20_nextOf_2 48 = .ok (.getfield 113, 3) := dk_180 0 113 (dk_at dksX20_nextOf_2_2 0 rfl rfl)
theorem dX20_nextOf_2_51 : decode cX20_nextOf_2 51 = .ok (.invokestatic 109, 3) := dk_184 0 109 (dk_at dksX20_nextOf_2_2 3 rfl rfl)
theorem dX20_nextOf_2_54 : decode cX20_nextOf_2 54 = .ok (.iload_n 3, 1) := dk_29 (dk_at dksX20_nextOf_2_2 6 rfl rfl)
theorem dX20_nextOf_2_55 : decode cX20_nextOf_2 55 = .ok (.if_icmp .ge 24, 3) := dk_162 0 24 (dk_at dksX20_nextOf_2_2 7 rfl rfl)
theorem dX20_nextOf_2_58 : decode cX20_nextOf_2 58 = .ok (.iload 4, 2) := dk_21 4 (dk_at dksX20_nextOf_2_2 10 rfl rfl)
theorem dX20_nextOf_2_60 : decode cX20_nextOf_2 60 = .ok (.ifCond .lt 15, 3) := dk_155 0 15 (dk_at dksX20_nextOf_2_2 12 rfl rfl)
theorem dX20_nextOf_2_63 : decode cX20_nextOf_2 63 = .ok (.aload_n 0, 1) := dk_42 (dk_at dksX20_nextOf_2_2 15 rfl rfl)
theorem dX20_nextOf_2_64 : decode cX20_nextOf_2 64 = .ok (.aload_n 1, 1) := dk_43 (dk_at dksX20_nextOf_2_2 16 rfl rfl)
theorem dX20_nextOf_2_65 : decode cX20_nextOf_2 65 = .ok (.iload 5, 2) := dk_21 5 (dk_at dksX20_nextOf_2_2 17 rfl rfl)
theorem dX20_nextOf_2_67 : decode cX20_nextOf_2 67 = .ok (.iload 4, 2) := dk_21 4 (dk_at dksX20_nextOf_2_2 19 rfl rfl)
theorem dX20_nextOf_2_69 : decode cX20_nextOf_2 69 = .ok (.invokevirtual 123, 3) := dk_182 0 123 (dk_at dksX20_nextOf_2_2 21 rfl rfl)
theorem dX20_nextOf_2_72 : decode cX20_nextOf_2 72 = .ok (.ifCond .eq 7, 3) := dk_153 0 7 (dk_at dksX20_nextOf_2_3 0 rfl rfl)
theorem dX20_nextOf_2_75 : decode cX20_nextOf_2 75 = .ok (.iload 5, 2) := dk_21 5 (dk_at dksX20_nextOf_2_3 3 rfl rfl)
theorem dX20_nextOf_2_77 : decode cX20_nextOf_2 77 = .ok (.istore 4, 2) := dk_54 4 (dk_at dksX20_nextOf_2_3 5 rfl rfl)
theorem dX20_nextOf_2_79 : decode cX20_nextOf_2 79 = .ok (.iinc 5 1, 3) := dk_132 5 1 (dk_at dksX20_nextOf_2_3 7 rfl rfl)
theorem dX20_nextOf_2_82 : decode cX20_nextOf_2 82 = .ok (.goto (-66), 3) := dk_167 255 190 (dk_at dksX20_nextOf_2_3 10 rfl rfl)
theorem dX20_nextOf_2_85 : decode cX20_nextOf_2 85 = .ok (.iload 4, 2) := dk_21 4 (dk_at dksX20_nextOf_2_3 13 rfl rfl)
theorem dX20_nextOf_2_87 : decode cX20_nextOf_2 87 = .ok (.ireturn, 1) := dk_172 (dk_at dksX20_nextOf_2_3 15 rfl rfl)
abbrev cX20_limitOf : ByteArray := prog_52_method_19_code
def yX20_limitOf : MethodName := ⟨RX20, "limitOf", "([IIZ)I"⟩
def dkwX20_limitOf_3 : List UInt8 := [153, 0, 9, 29, 158, 0, 5, 3, 62, 29, 172]
abbrev dktX20_limitOf_3 : List UInt8 := dkwX20_limitOf_3 ++ []
def dkwX20_limitOf_2 : List UInt8 := [16, 17, 46, 153, 0, 20, 42, 16, 17, 46, 27, 122, 29, 162, 0, 10, 42, 16, 17, 46, 27, 122, 62, 28]
abbrev dktX20_limitOf_2 : List UInt8 := dkwX20_limitOf_2 ++ dktX20_limitOf_3
def dkwX20_limitOf_1 : List UInt8 := [46, 27, 184, 0, 109, 54, 5, 21, 5, 29, 162, 0, 6, 21, 5, 62, 132, 4, 1, 167, 255, 220, 42]
abbrev dktX20_limitOf_1 : List UInt8 := dkwX20_limitOf_1 ++ dktX20_limitOf_2
def dkwX20_limitOf_0 : List UInt8 := [17, 1, 0, 62, 3, 54, 4, 21, 4, 42, 16, 30, 46, 162, 0, 33, 42, 42, 17, 0, 152, 21, 4, 96]
abbrev dktX20_limitOf_0 : List UInt8 := dkwX20_limitOf_0 ++ dktX20_limitOf_1
theorem dksX20_limitOf_0 : cX20_limitOf.data.toList.drop 0 = dktX20_limitOf_0 := by decide +kernel
theorem dksX20_limitOf_1 : cX20_limitOf.data.toList.drop 24 = dktX20_limitOf_1 := dk_seg dksX20_limitOf_0 24 rfl rfl
theorem dksX20_limitOf_2 : cX20_limitOf.data.toList.drop 47 = dktX20_limitOf_2 := dk_seg dksX20_limitOf_1 23 rfl rfl
theorem dksX20_limitOf_3 : cX20_limitOf.data.toList.drop 71 = dktX20_limitOf_3 := dk_seg dksX20_limitOf_2 24 rfl rfl
theorem dX20_limitOf_0 : decode cX20_limitOf 0 = .ok (.sipush 256, 3) := dk_17 1 0 (dk_at dksX20_limitOf_0 0 rfl rfl)
theorem dX20_limitOf_3 : decode cX20_limitOf 3 = .ok (.istore_n 3, 1) := dk_62 (dk_at dksX20_limitOf_0 3 rfl rfl)
theorem dX20_limitOf_4 : decode cX20_limitOf 4 = .ok (.iconst 0, 1) := dk_3 (dk_at dksX20_limitOf_0 4 rfl rfl)
theorem dX20_limitOf_5 : decode cX20_limitOf 5 = .ok (.istore 4, 2) := dk_54 4 (dk_at dksX20_limitOf_0 5 rfl rfl)
theorem dX20_limitOf_7 : decode cX20_limitOf 7 = .ok (.iload 4, 2) := dk_21 4 (dk_at dksX20_limitOf_0 7 rfl rfl)
theorem dX20_limitOf_9 : decode cX20_limitOf 9 = .ok (.aload_n 0, 1) := dk_42 (dk_at dksX20_limitOf_0 9 rfl rfl)
theorem dX20_limitOf_10 : decode cX20_limitOf 10 = .ok (.bipush 30, 2) := dk_16 30 (dk_at dksX20_limitOf_0 10 rfl rfl)
theorem dX20_limitOf_12 : decode cX20_limitOf 12 = .ok (.iaload, 1) := dk_46 (dk_at dksX20_limitOf_0 12 rfl rfl)
theorem dX20_limitOf_13 : decode cX20_limitOf 13 = .ok (.if_icmp .ge 33, 3) := dk_162 0 33 (dk_at dksX20_limitOf_0 13 rfl rfl)
theorem dX20_limitOf_16 : decode cX20_limitOf 16 = .ok (.aload_n 0, 1) := dk_42 (dk_at dksX20_limitOf_0 16 rfl rfl)
theorem dX20_limitOf_17 : decode cX20_limitOf 17 = .ok (.aload_n 0, 1) := dk_42 (dk_at dksX20_limitOf_0 17 rfl rfl)
theorem dX20_limitOf_18 : decode cX20_limitOf 18 = .ok (.sipush 152, 3) := dk_17 0 152 (dk_at dksX20_limitOf_0 18 rfl rfl)
theorem dX20_limitOf_21 : decode cX20_limitOf 21 = .ok (.iload 4, 2) := dk_21 4 (dk_at dksX20_limitOf_0 21 rfl rfl)
theorem dX20_limitOf_23 : decode cX20_limitOf 23 = .ok (.iadd, 1) := dk_96 (dk_at dksX20_limitOf_0 23 rfl rfl)
theorem dX20_limitOf_24 : decode cX20_limitOf 24 = .ok (.iaload, 1) := dk_46 (dk_at dksX20_limitOf_1 0 rfl rfl)
theorem dX20_limitOf_25 : decode cX20_limitOf 25 = .ok (.iload_n 1, 1) := dk_27 (dk_at dksX20_limitOf_1 1 rfl rfl)
theorem dX20_limitOf_26 : decode cX20_limitOf 26 = .ok (.invokestatic 109, 3) := dk_184 0 109 (dk_at dksX20_limitOf_1 2 rfl rfl)
theorem dX20_limitOf_29 : decode cX20_limitOf 29 = .ok (.istore 5, 2) := dk_54 5 (dk_at dksX20_limitOf_1 5 rfl rfl)
theorem dX20_limitOf_31 : decode cX20_limitOf 31 = .ok (.iload 5, 2) := dk_21 5 (dk_at dksX20_limitOf_1 7 rfl rfl)
theorem dX20_limitOf_33 : decode cX20_limitOf 33 = .ok (.iload_n 3, 1) := dk_29 (dk_at dksX20_limitOf_1 9 rfl rfl)
theorem dX20_limitOf_34 : decode cX20_limitOf 34 = .ok (.if_icmp .ge 6, 3) := dk_162 0 6 (dk_at dksX20_limitOf_1 10 rfl rfl)
theorem dX20_limitOf_37 : decode cX20_limitOf 37 = .ok (.iload 5, 2) := dk_21 5 (dk_at dksX20_limitOf_1 13 rfl rfl)
theorem dX20_limitOf_39 : decode cX20_limitOf 39 = .ok (.istore_n 3, 1) := dk_62 (dk_at dksX20_limitOf_1 15 rfl rfl)
theorem dX20_limitOf_40 : decode cX20_limitOf 40 = .ok (.iinc 4 1, 3) := dk_132 4 1 (dk_at dksX20_limitOf_1 16 rfl rfl)
theorem dX20_limitOf_43 : decode cX20_limitOf 43 = .ok (.goto (-36), 3) := dk_167 255 220 (dk_at dksX20_limitOf_1 19 rfl rfl)
theorem dX20_limitOf_46 : decode cX20_limitOf 46 = .ok (.aload_n 0, 1) := dk_42 (dk_at dksX20_limitOf_1 22 rfl rfl)
theorem dX20_limitOf_47 : decode cX20_limitOf 47 = .ok (.bipush 17, 2) := dk_16 17 (dk_at dksX20_limitOf_2 0 rfl rfl)
theorem dX20_limitOf_49 : decode cX20_limitOf 49 = .ok (.iaload, 1) := dk_46 (dk_at dksX20_limitOf_2 2 rfl rfl)
theorem dX20_limitOf_50 : decode cX20_limitOf 50 = .ok (.ifCond .eq 20, 3) := dk_153 0 20 (dk_at dksX20_limitOf_2 3 rfl rfl)
theorem dX20_limitOf_53 : decode cX20_limitOf 53 = .ok (.aload_n 0, 1) := dk_42 (dk_at dksX20_limitOf_2 6 rfl rfl)
theorem dX20_limitOf_54 : decode cX20_limitOf 54 = .ok (.bipush 17, 2) := dk_16 17 (dk_at dksX20_limitOf_2 7 rfl rfl)
theorem dX20_limitOf_56 : decode cX20_limitOf 56 = .ok (.iaload, 1) := dk_46 (dk_at dksX20_limitOf_2 9 rfl rfl)
theorem dX20_limitOf_57 : decode cX20_limitOf 57 = .ok (.iload_n 1, 1) := dk_27 (dk_at dksX20_limitOf_2 10 rfl rfl)
theorem dX20_limitOf_58 : decode cX20_limitOf 58 = .ok (.ishr, 1) := dk_122 (dk_at dksX20_limitOf_2 11 rfl rfl)
theorem dX20_limitOf_59 : decode cX20_limitOf 59 = .ok (.iload_n 3, 1) := dk_29 (dk_at dksX20_limitOf_2 12 rfl rfl)
theorem dX20_limitOf_60 : decode cX20_limitOf 60 = .ok (.if_icmp .ge 10, 3) := dk_162 0 10 (dk_at dksX20_limitOf_2 13 rfl rfl)
theorem dX20_limitOf_63 : decode cX20_limitOf 63 = .ok (.aload_n 0, 1) := dk_42 (dk_at dksX20_limitOf_2 16 rfl rfl)
theorem dX20_limitOf_64 : decode cX20_limitOf 64 = .ok (.bipush 17, 2) := dk_16 17 (dk_at dksX20_limitOf_2 17 rfl rfl)
theorem dX20_limitOf_66 : decode cX20_limitOf 66 = .ok (.iaload, 1) := dk_46 (dk_at dksX20_limitOf_2 19 rfl rfl)
theorem dX20_limitOf_67 : decode cX20_limitOf 67 = .ok (.iload_n 1, 1) := dk_27 (dk_at dksX20_limitOf_2 20 rfl rfl)
theorem dX20_limitOf_68 : decode cX20_limitOf 68 = .ok (.ishr, 1) := dk_122 (dk_at dksX20_limitOf_2 21 rfl rfl)
theorem dX20_limitOf_69 : decode cX20_limitOf 69 = .ok (.istore_n 3, 1) := dk_62 (dk_at dksX20_limitOf_2 22 rfl rfl)
theorem dX20_limitOf_70 : decode cX20_limitOf 70 = .ok (.iload_n 2, 1) := dk_28 (dk_at dksX20_limitOf_2 23 rfl rfl)
theorem dX20_limitOf_71 : decode cX20_limitOf 71 = .ok (.ifCond .eq 9, 3) := dk_153 0 9 (dk_at dksX20_limitOf_3 0 rfl rfl)
theorem dX20_limitOf_74 : decode cX20_limitOf 74 = .ok (.iload_n 3, 1) := dk_29 (dk_at dksX20_limitOf_3 3 rfl rfl)
theorem dX20_limitOf_75 : decode cX20_limitOf 75 = .ok (.ifCond .le 5, 3) := dk_158 0 5 (dk_at dksX20_limitOf_3 4 rfl rfl)
theorem dX20_limitOf_78 : decode cX20_limitOf 78 = .ok (.iconst 0, 1) := dk_3 (dk_at dksX20_limitOf_3 7 rfl rfl)
theorem dX20_limitOf_79 : decode cX20_limitOf 79 = .ok (.istore_n 3, 1) := dk_62 (dk_at dksX20_limitOf_3 8 rfl rfl)
theorem dX20_limitOf_80 : decode cX20_limitOf 80 = .ok (.iload_n 3, 1) := dk_29 (dk_at dksX20_limitOf_3 9 rfl rfl)
theorem dX20_limitOf_81 : decode cX20_limitOf 81 = .ok (.ireturn, 1) := dk_172 (dk_at dksX20_limitOf_3 10 rfl rfl)
abbrev cX20_groupOf : ByteArray := prog_52_method_17_code
def yX20_groupOf : MethodName := ⟨RX20, "groupOf", "([III)I"⟩
def dkwX20_groupOf_0 : List UInt8 := [27, 16, 20, 160, 0, 7, 2, 167, 0, 12, 42, 17, 0, 173, 27, 96, 46, 28, 122, 172]
abbrev dktX20_groupOf_0 : List UInt8 := dkwX20_groupOf_0 ++ []
theorem dksX20_groupOf_0 : cX20_groupOf.data.toList.drop 0 = dktX20_groupOf_0 := by decide +kernel
theorem dX20_groupOf_0 : decode cX20_groupOf 0 = .ok (.iload_n 1, 1) := dk_27 (dk_at dksX20_groupOf_0 0 rfl rfl)
theorem dX20_groupOf_1 : decode cX20_groupOf 1 = .ok (.bipush 20, 2) := dk_16 20 (dk_at dksX20_groupOf_0 1 rfl rfl)
theorem dX20_groupOf_3 : decode cX20_groupOf 3 = .ok (.if_icmp .ne 7, 3) := dk_160 0 7 (dk_at dksX20_groupOf_0 3 rfl rfl)
theorem dX20_groupOf_6 : decode cX20_groupOf 6 = .ok (.iconst (-1), 1) := dk_2 (dk_at dksX20_groupOf_0 6 rfl rfl)
theorem dX20_groupOf_7 : decode cX20_groupOf 7 = .ok (.goto 12, 3) := dk_167 0 12 (dk_at dksX20_groupOf_0 7 rfl rfl)
theorem dX20_groupOf_10 : decode cX20_groupOf 10 = .ok (.aload_n 0, 1) := dk_42 (dk_at dksX20_groupOf_0 10 rfl rfl)
theorem dX20_groupOf_11 : decode cX20_groupOf 11 = .ok (.sipush 173, 3) := dk_17 0 173 (dk_at dksX20_groupOf_0 11 rfl rfl)
theorem dX20_groupOf_14 : decode cX20_groupOf 14 = .ok (.iload_n 1, 1) := dk_27 (dk_at dksX20_groupOf_0 14 rfl rfl)
theorem dX20_groupOf_15 : decode cX20_groupOf 15 = .ok (.iadd, 1) := dk_96 (dk_at dksX20_groupOf_0 15 rfl rfl)
theorem dX20_groupOf_16 : decode cX20_groupOf 16 = .ok (.iaload, 1) := dk_46 (dk_at dksX20_groupOf_0 16 rfl rfl)
theorem dX20_groupOf_17 : decode cX20_groupOf 17 = .ok (.iload_n 2, 1) := dk_28 (dk_at dksX20_groupOf_0 17 rfl rfl)
theorem dX20_groupOf_18 : decode cX20_groupOf 18 = .ok (.ishr, 1) := dk_122 (dk_at dksX20_groupOf_0 18 rfl rfl)
theorem dX20_groupOf_19 : decode cX20_groupOf 19 = .ok (.ireturn, 1) := dk_172 (dk_at dksX20_groupOf_0 19 rfl rfl)
abbrev cX20_isLess : ByteArray := prog_52_method_20_code
def yX20_isLess : MethodName := ⟨RX20, "isLess", "([III)Z"⟩
def dkwX20_isLess_3 : List UInt8 := [167, 0, 17, 3, 167, 0, 13, 28, 29, 162, 0, 7, 4, 167, 0, 4, 3, 172]
abbrev dktX20_isLess_3 : List UInt8 := dkwX20_isLess_3 ++ []
def dkwX20_isLess_2 : List UInt8 := [29, 42, 180, 0, 113, 184, 0, 116, 100, 54, 5, 21, 5, 153, 0, 16, 21, 5, 156, 0, 7, 4]
abbrev dktX20_isLess_2 : List UInt8 := dkwX20_isLess_2 ++ dktX20_isLess_3
def dkwX20_isLess_1 : List UInt8 := [153, 0, 14, 21, 4, 156, 0, 7, 4, 167, 0, 4, 3, 172, 43, 28, 42, 180, 0, 113, 184, 0, 116, 43]
abbrev dktX20_isLess_1 : List UInt8 := dkwX20_isLess_1 ++ dktX20_isLess_2
def dkwX20_isLess_0 : List UInt8 := [43, 28, 42, 180, 0, 113, 184, 0, 109, 43, 29, 42, 180, 0, 113, 184, 0, 109, 100, 54, 4, 21, 4]
abbrev dktX20_isLess_0 : List UInt8 := dkwX20_isLess_0 ++ dktX20_isLess_1
theorem dksX20_isLess_0 : cX20_isLess.data.toList.drop 0 = dktX20_isLess_0 := by decide +kernel
theorem dksX20_isLess_1 : cX20_isLess.data.toList.drop 23 = dktX20_isLess_1 := dk_seg dksX20_isLess_0 23 rfl rfl
theorem dksX20_isLess_2 : cX20_isLess.data.toList.drop 47 = dktX20_isLess_2 := dk_seg dksX20_isLess_1 24 rfl rfl
theorem dksX20_isLess_3 : cX20_isLess.data.toList.drop 69 = dktX20_isLess_3 := dk_seg dksX20_isLess_2 22 rfl rfl
theorem dX20_isLess_0 : decode cX20_isLess 0 = .ok (.aload_n 1, 1) := dk_43 (dk_at dksX20_isLess_0 0 rfl rfl)
theorem dX20_isLess_1 : decode cX20_isLess 1 = .ok (.iload_n 2, 1) := dk_28 (dk_at dksX20_isLess_0 1 rfl rfl)
theorem dX20_isLess_2 : decode cX20_isLess 2 = .ok (.aload_n 0, 1) := dk_42 (dk_at dksX20_isLess_0 2 rfl rfl)
theorem dX20_isLess_3 : decode cX20_isLess 3 = .ok (.getfield 113, 3) := dk_180 0 113 (dk_at dksX20_isLess_0 3 rfl rfl)
theorem dX20_isLess_6 : decode cX20_isLess 6 = .ok (.invokestatic 109, 3) := dk_184 0 109 (dk_at dksX20_isLess_0 6 rfl rfl)
theorem dX20_isLess_9 : decode cX20_isLess 9 = .ok (.aload_n 1, 1) := dk_43 (dk_at dksX20_isLess_0 9 rfl rfl)
theorem dX20_isLess_10 : decode cX20_isLess 10 = .ok (.iload_n 3, 1) := dk_29 (dk_at dksX20_isLess_0 10 rfl rfl)
theorem dX20_isLess_11 : decode cX20_isLess 11 = .ok (.aload_n 0, 1) := dk_42 (dk_at dksX20_isLess_0 11 rfl rfl)
theorem dX20_isLess_12 : decode cX20_isLess 12 = .ok (.getfield 113, 3) := dk_180 0 113 (dk_at dksX20_isLess_0 12 rfl rfl)
theorem dX20_isLess_15 : decode cX20_isLess 15 = .ok (.invokestatic 109, 3) := dk_184 0 109 (dk_at dksX20_isLess_0 15 rfl rfl)
theorem dX20_isLess_18 : decode cX20_isLess 18 = .ok (.isub, 1) := dk_100 (dk_at dksX20_isLess_0 18 rfl rfl)
theorem dX20_isLess_19 : decode cX20_isLess 19 = .ok (.istore 4, 2) := dk_54 4 (dk_at dksX20_isLess_0 19 rfl rfl)
theorem dX20_isLess_21 : decode cX20_isLess 21 = .ok (.iload 4, 2) := dk_21 4 (dk_at dksX20_isLess_0 21 rfl rfl)
theorem dX20_isLess_23 : decode cX20_isLess 23 = .ok (.ifCond .eq 14, 3) := dk_153 0 14 (dk_at dksX20_isLess_1 0 rfl rfl)
theorem dX20_isLess_26 : decode cX20_isLess 26 = .ok (.iload 4, 2) := dk_21 4 (dk_at dksX20_isLess_1 3 rfl rfl)
theorem dX20_isLess_28 : decode cX20_isLess 28 = .ok (.ifCond .ge 7, 3) := dk_156 0 7 (dk_at dksX20_isLess_1 5 rfl rfl)
theorem dX20_isLess_31 : decode cX20_isLess 31 = .ok (.iconst 1, 1) := dk_4 (dk_at dksX20_isLess_1 8 rfl rfl)
theorem dX20_isLess_32 : decode cX20_isLess 32 = .ok (.goto 4, 3) := dk_167 0 4 (dk_at dksX20_isLess_1 9 rfl rfl)
theorem dX20_isLess_35 : decode cX20_isLess 35 = .ok (.iconst 0, 1) := dk_3 (dk_at dksX20_isLess_1 12 rfl rfl)
theorem dX20_isLess_36 : decode cX20_isLess 36 = .ok (.ireturn, 1) := dk_172 (dk_at dksX20_isLess_1 13 rfl rfl)
theorem dX20_isLess_37 : decode cX20_isLess 37 = .ok (.aload_n 1, 1) := dk_43 (dk_at dksX20_isLess_1 14 rfl rfl)
theorem dX20_isLess_38 : decode cX20_isLess 38 = .ok (.iload_n 2, 1) := dk_28 (dk_at dksX20_isLess_1 15 rfl rfl)
theorem dX20_isLess_39 : decode cX20_isLess 39 = .ok (.aload_n 0, 1) := dk_42 (dk_at dksX20_isLess_1 16 rfl rfl)
theorem dX20_isLess_40 : decode cX20_isLess 40 = .ok (.getfield 113, 3) := dk_180 0 113 (dk_at dksX20_isLess_1 17 rfl rfl)
theorem dX20_isLess_43 : decode cX20_isLess 43 = .ok (.invokestatic 116, 3) := dk_184 0 116 (dk_at dksX20_isLess_1 20 rfl rfl)
theorem dX20_isLess_46 : decode cX20_isLess 46 = .ok (.aload_n 1, 1) := dk_43 (dk_at dksX20_isLess_1 23 rfl rfl)
theorem dX20_isLess_47 : decode cX20_isLess 47 = .ok (.iload_n 3, 1) := dk_29 (dk_at dksX20_isLess_2 0 rfl rfl)
theorem dX20_isLess_48 : decode cX20_isLess 48 = .ok (.aload_n 0, 1) := dk_42 (dk_at dksX20_isLess_2 1 rfl rfl)
theorem dX20_isLess_49 : decode cX20_isLess 49 = .ok (.getfield 113, 3) := dk_180 0 113 (dk_at dksX20_isLess_2 2 rfl rfl)
theorem dX20_isLess_52 : decode cX20_isLess 52 = .ok (.invokestatic 116, 3) := dk_184 0 116 (dk_at dksX20_isLess_2 5 rfl rfl)
theorem dX20_isLess_55 : decode cX20_isLess 55 = .ok (.isub, 1) := dk_100 (dk_at dksX20_isLess_2 8 rfl rfl)
theorem dX20_isLess_56 : decode cX20_isLess 56 = .ok (.istore 5, 2) := dk_54 5 (dk_at dksX20_isLess_2 9 rfl rfl)
theorem dX20_isLess_58 : decode cX20_isLess 58 = .ok (.iload 5, 2) := dk_21 5 (dk_at dksX20_isLess_2 11 rfl rfl)
theorem dX20_isLess_60 : decode cX20_isLess 60 = .ok (.ifCond .eq 16, 3) := dk_153 0 16 (dk_at dksX20_isLess_2 13 rfl rfl)
theorem dX20_isLess_63 : decode cX20_isLess 63 = .ok (.iload 5, 2) := dk_21 5 (dk_at dksX20_isLess_2 16 rfl rfl)
theorem dX20_isLess_65 : decode cX20_isLess 65 = .ok (.ifCond .ge 7, 3) := dk_156 0 7 (dk_at dksX20_isLess_2 18 rfl rfl)
theorem dX20_isLess_68 : decode cX20_isLess 68 = .ok (.iconst 1, 1) := dk_4 (dk_at dksX20_isLess_2 21 rfl rfl)
theorem dX20_isLess_69 : decode cX20_isLess 69 = .ok (.goto 17, 3) := dk_167 0 17 (dk_at dksX20_isLess_3 0 rfl rfl)
theorem dX20_isLess_72 : decode cX20_isLess 72 = .ok (.iconst 0, 1) := dk_3 (dk_at dksX20_isLess_3 3 rfl rfl)
theorem dX20_isLess_73 : decode cX20_isLess 73 = .ok (.goto 13, 3) := dk_167 0 13 (dk_at dksX20_isLess_3 4 rfl rfl)
theorem dX20_isLess_76 : decode cX20_isLess 76 = .ok (.iload_n 2, 1) := dk_28 (dk_at dksX20_isLess_3 7 rfl rfl)
theorem dX20_isLess_77 : decode cX20_isLess 77 = .ok (.iload_n 3, 1) := dk_29 (dk_at dksX20_isLess_3 8 rfl rfl)
theorem dX20_isLess_78 : decode cX20_isLess 78 = .ok (.if_icmp .ge 7, 3) := dk_162 0 7 (dk_at dksX20_isLess_3 9 rfl rfl)
theorem dX20_isLess_81 : decode cX20_isLess 81 = .ok (.iconst 1, 1) := dk_4 (dk_at dksX20_isLess_3 12 rfl rfl)
theorem dX20_isLess_82 : decode cX20_isLess 82 = .ok (.goto 4, 3) := dk_167 0 4 (dk_at dksX20_isLess_3 13 rfl rfl)
theorem dX20_isLess_85 : decode cX20_isLess 85 = .ok (.iconst 0, 1) := dk_3 (dk_at dksX20_isLess_3 16 rfl rfl)
theorem dX20_isLess_86 : decode cX20_isLess 86 = .ok (.ireturn, 1) := dk_172 (dk_at dksX20_isLess_3 17 rfl rfl)
abbrev cX20_subOf : ByteArray := prog_52_method_18_code
def yX20_subOf : MethodName := ⟨RX20, "subOf", "([III)I"⟩
def dkwX20_subOf_1 : List UInt8 := [28, 122, 28, 120, 100, 172]
abbrev dktX20_subOf_1 : List UInt8 := dkwX20_subOf_1 ++ []
def dkwX20_subOf_0 : List UInt8 := [27, 16, 20, 160, 0, 7, 3, 167, 0, 22, 42, 17, 0, 173, 27, 96, 46, 42, 17, 0, 173, 27, 96, 46]
abbrev dktX20_subOf_0 : List UInt8 := dkwX20_subOf_0 ++ dktX20_subOf_1
theorem dksX20_subOf_0 : cX20_subOf.data.toList.drop 0 = dktX20_subOf_0 := by decide +kernel
theorem dksX20_subOf_1 : cX20_subOf.data.toList.drop 24 = dktX20_subOf_1 := dk_seg dksX20_subOf_0 24 rfl rfl
theorem dX20_subOf_0 : decode cX20_subOf 0 = .ok (.iload_n 1, 1) := dk_27 (dk_at dksX20_subOf_0 0 rfl rfl)
theorem dX20_subOf_1 : decode cX20_subOf 1 = .ok (.bipush 20, 2) := dk_16 20 (dk_at dksX20_subOf_0 1 rfl rfl)
theorem dX20_subOf_3 : decode cX20_subOf 3 = .ok (.if_icmp .ne 7, 3) := dk_160 0 7 (dk_at dksX20_subOf_0 3 rfl rfl)
theorem dX20_subOf_6 : decode cX20_subOf 6 = .ok (.iconst 0, 1) := dk_3 (dk_at dksX20_subOf_0 6 rfl rfl)
theorem dX20_subOf_7 : decode cX20_subOf 7 = .ok (.goto 22, 3) := dk_167 0 22 (dk_at dksX20_subOf_0 7 rfl rfl)
theorem dX20_subOf_10 : decode cX20_subOf 10 = .ok (.aload_n 0, 1) := dk_42 (dk_at dksX20_subOf_0 10 rfl rfl)
theorem dX20_subOf_11 : decode cX20_subOf 11 = .ok (.sipush 173, 3) := dk_17 0 173 (dk_at dksX20_subOf_0 11 rfl rfl)
theorem dX20_subOf_14 : decode cX20_subOf 14 = .ok (.iload_n 1, 1) := dk_27 (dk_at dksX20_subOf_0 14 rfl rfl)
theorem dX20_subOf_15 : decode cX20_subOf 15 = .ok (.iadd, 1) := dk_96 (dk_at dksX20_subOf_0 15 rfl rfl)
theorem dX20_subOf_16 : decode cX20_subOf 16 = .ok (.iaload, 1) := dk_46 (dk_at dksX20_subOf_0 16 rfl rfl)
theorem dX20_subOf_17 : decode cX20_subOf 17 = .ok (.aload_n 0, 1) := dk_42 (dk_at dksX20_subOf_0 17 rfl rfl)
theorem dX20_subOf_18 : decode cX20_subOf 18 = .ok (.sipush 173, 3) := dk_17 0 173 (dk_at dksX20_subOf_0 18 rfl rfl)
theorem dX20_subOf_21 : decode cX20_subOf 21 = .ok (.iload_n 1, 1) := dk_27 (dk_at dksX20_subOf_0 21 rfl rfl)
theorem dX20_subOf_22 : decode cX20_subOf 22 = .ok (.iadd, 1) := dk_96 (dk_at dksX20_subOf_0 22 rfl rfl)
theorem dX20_subOf_23 : decode cX20_subOf 23 = .ok (.iaload, 1) := dk_46 (dk_at dksX20_subOf_0 23 rfl rfl)
theorem dX20_subOf_24 : decode cX20_subOf 24 = .ok (.iload_n 2, 1) := dk_28 (dk_at dksX20_subOf_1 0 rfl rfl)
theorem dX20_subOf_25 : decode cX20_subOf 25 = .ok (.ishr, 1) := dk_122 (dk_at dksX20_subOf_1 1 rfl rfl)
theorem dX20_subOf_26 : decode cX20_subOf 26 = .ok (.iload_n 2, 1) := dk_28 (dk_at dksX20_subOf_1 2 rfl rfl)
theorem dX20_subOf_27 : decode cX20_subOf 27 = .ok (.ishl, 1) := dk_120 (dk_at dksX20_subOf_1 3 rfl rfl)
theorem dX20_subOf_28 : decode cX20_subOf 28 = .ok (.isub, 1) := dk_100 (dk_at dksX20_subOf_1 4 rfl rfl)
theorem dX20_subOf_29 : decode cX20_subOf 29 = .ok (.ireturn, 1) := dk_172 (dk_at dksX20_subOf_1 5 rfl rfl)
abbrev cX20_turns : ByteArray := prog_52_method_28_code
def yX20_turns : MethodName := ⟨RX20, "turns", "([III)V"⟩
def dkwX20_turns_0 : List UInt8 := [43, 16, 20, 28, 79, 43, 16, 21, 29, 79, 177]
abbrev dktX20_turns_0 : List UInt8 := dkwX20_turns_0 ++ []
theorem dksX20_turns_0 : cX20_turns.data.toList.drop 0 = dktX20_turns_0 := by decide +kernel
theorem dX20_turns_0 : decode cX20_turns 0 = .ok (.aload_n 1, 1) := dk_43 (dk_at dksX20_turns_0 0 rfl rfl)
theorem dX20_turns_1 : decode cX20_turns 1 = .ok (.bipush 20, 2) := dk_16 20 (dk_at dksX20_turns_0 1 rfl rfl)
theorem dX20_turns_3 : decode cX20_turns 3 = .ok (.iload_n 2, 1) := dk_28 (dk_at dksX20_turns_0 3 rfl rfl)
theorem dX20_turns_4 : decode cX20_turns 4 = .ok (.iastore, 1) := dk_79 (dk_at dksX20_turns_0 4 rfl rfl)
theorem dX20_turns_5 : decode cX20_turns 5 = .ok (.aload_n 1, 1) := dk_43 (dk_at dksX20_turns_0 5 rfl rfl)
theorem dX20_turns_6 : decode cX20_turns 6 = .ok (.bipush 21, 2) := dk_16 21 (dk_at dksX20_turns_0 6 rfl rfl)
theorem dX20_turns_8 : decode cX20_turns 8 = .ok (.iload_n 3, 1) := dk_29 (dk_at dksX20_turns_0 8 rfl rfl)
theorem dX20_turns_9 : decode cX20_turns 9 = .ok (.iastore, 1) := dk_79 (dk_at dksX20_turns_0 9 rfl rfl)
theorem dX20_turns_10 : decode cX20_turns 10 = .ok (.return_, 1) := dk_177 (dk_at dksX20_turns_0 10 rfl rfl)
abbrev cX20_stacks : ByteArray := prog_52_method_32_code
def yX20_stacks : MethodName := ⟨RX20, "stacks", "([I)V"⟩
def dkwX20_stacks_9 : List UInt8 := [182, 0, 131, 42, 43, 29, 3, 182, 0, 192, 177]
abbrev dktX20_stacks_9 : List UInt8 := dkwX20_stacks_9 ++ []
def dkwX20_stacks_8 : List UInt8 := [62, 29, 156, 0, 11, 42, 43, 6, 3, 182, 0, 173, 177, 29, 43, 16, 24, 46, 159, 0, 8, 42, 6]
abbrev dktX20_stacks_8 : List UInt8 := dkwX20_stacks_8 ++ dktX20_stacks_9
def dkwX20_stacks_7 : List UInt8 := [16, 24, 46, 96, 46, 155, 0, 20, 42, 43, 43, 16, 24, 46, 182, 0, 135, 153, 0, 8, 43, 16, 24, 46]
abbrev dktX20_stacks_7 : List UInt8 := dkwX20_stacks_7 ++ dktX20_stacks_8
def dkwX20_stacks_6 : List UInt8 := [28, 8, 162, 0, 4, 177, 42, 43, 182, 0, 170, 62, 42, 180, 0, 189, 153, 0, 33, 43, 17, 0, 194, 43]
abbrev dktX20_stacks_6 : List UInt8 := dkwX20_stacks_6 ++ dktX20_stacks_7
def dkwX20_stacks_5 : List UInt8 := [96, 79, 42, 43, 4, 182, 0, 186, 43, 16, 20, 46, 8, 160, 0, 4, 177, 43, 16, 21, 28, 4, 96, 79]
abbrev dktX20_stacks_5 : List UInt8 := dkwX20_stacks_5 ++ dktX20_stacks_6
def dkwX20_stacks_4 : List UInt8 := [167, 0, 25, 17, 90, 0, 43, 16, 13, 46, 96, 5, 43, 16, 14, 46, 104, 96, 7, 43, 16, 29, 46, 104]
abbrev dktX20_stacks_4 : List UInt8 := dkwX20_stacks_4 ++ dktX20_stacks_5
def dkwX20_stacks_3 : List UInt8 := [96, 28, 7, 162, 0, 11, 43, 3, 28, 96, 46, 167, 0, 37, 28, 7, 160, 0, 10, 43, 16, 12, 46]
abbrev dktX20_stacks_3 : List UInt8 := dkwX20_stacks_3 ++ dktX20_stacks_4
def dkwX20_stacks_2 : List UInt8 := [16, 20, 46, 8, 160, 0, 4, 177, 42, 43, 4, 182, 0, 183, 153, 0, 65, 43, 16, 56, 43, 16, 15, 46]
abbrev dktX20_stacks_2 : List UInt8 := dkwX20_stacks_2 ++ dktX20_stacks_3
def dkwX20_stacks_1 : List UInt8 := [153, 0, 22, 43, 16, 19, 43, 16, 15, 46, 79, 43, 16, 29, 4, 79, 42, 43, 7, 182, 0, 186, 43]
abbrev dktX20_stacks_1 : List UInt8 := dkwX20_stacks_1 ++ dktX20_stacks_2
def dkwX20_stacks_0 : List UInt8 := [43, 16, 21, 46, 61, 28, 154, 0, 39, 43, 16, 18, 46, 4, 160, 0, 31, 42, 43, 7, 182, 0, 183]
abbrev dktX20_stacks_0 : List UInt8 := dkwX20_stacks_0 ++ dktX20_stacks_1
theorem dksX20_stacks_0 : cX20_stacks.data.toList.drop 0 = dktX20_stacks_0 := by decide +kernel
theorem dksX20_stacks_1 : cX20_stacks.data.toList.drop 23 = dktX20_stacks_1 := dk_seg dksX20_stacks_0 23 rfl rfl
theorem dksX20_stacks_2 : cX20_stacks.data.toList.drop 46 = dktX20_stacks_2 := dk_seg dksX20_stacks_1 23 rfl rfl
theorem dksX20_stacks_3 : cX20_stacks.data.toList.drop 70 = dktX20_stacks_3 := dk_seg dksX20_stacks_2 24 rfl rfl
theorem dksX20_stacks_4 : cX20_stacks.data.toList.drop 93 = dktX20_stacks_4 := dk_seg dksX20_stacks_3 23 rfl rfl
theorem dksX20_stacks_5 : cX20_stacks.data.toList.drop 117 = dktX20_stacks_5 := dk_seg dksX20_stacks_4 24 rfl rfl
theorem dksX20_stacks_6 : cX20_stacks.data.toList.drop 141 = dktX20_stacks_6 := dk_seg dksX20_stacks_5 24 rfl rfl
theorem dksX20_stacks_7 : cX20_stacks.data.toList.drop 165 = dktX20_stacks_7 := dk_seg dksX20_stacks_6 24 rfl rfl
theorem dksX20_stacks_8 : cX20_stacks.data.toList.drop 189 = dktX20_stacks_8 := dk_seg dksX20_stacks_7 24 rfl rfl
theorem dksX20_stacks_9 : cX20_stacks.data.toList.drop 212 = dktX20_stacks_9 := dk_seg dksX20_stacks_8 23 rfl rfl
theorem dX20_stacks_0 : decode cX20_stacks 0 = .ok (.aload_n 1, 1) := dk_43 (dk_at dksX20_stacks_0 0 rfl rfl)
theorem dX20_stacks_1 : decode cX20_stacks 1 = .ok (.bipush 21, 2) := dk_16 21 (dk_at dksX20_stacks_0 1 rfl rfl)
theorem dX20_stacks_3 : decode cX20_stacks 3 = .ok (.iaload, 1) := dk_46 (dk_at dksX20_stacks_0 3 rfl rfl)
theorem dX20_stacks_4 : decode cX20_stacks 4 = .ok (.istore_n 2, 1) := dk_61 (dk_at dksX20_stacks_0 4 rfl rfl)
theorem dX20_stacks_5 : decode cX20_stacks 5 = .ok (.iload_n 2, 1) := dk_28 (dk_at dksX20_stacks_0 5 rfl rfl)
theorem dX20_stacks_6 : decode cX20_stacks 6 = .ok (.ifCond .ne 39, 3) := dk_154 0 39 (dk_at dksX20_stacks_0 6 rfl rfl)
theorem dX20_stacks_9 : decode cX20_stacks 9 = .ok (.aload_n 1, 1) := dk_43 (dk_at dksX20_stacks_0 9 rfl rfl)
theorem dX20_stacks_10 : decode cX20_stacks 10 = .ok (.bipush 18, 2) := dk_16 18 (dk_at dksX20_stacks_0 10 rfl rfl)
theorem dX20_stacks_12 : decode cX20_stacks 12 = .ok (.iaload, 1) := dk_46 (dk_at dksX20_stacks_0 12 rfl rfl)
theorem dX20_stacks_13 : decode cX20_stacks 13 = .ok (.iconst 1, 1) := dk_4 (dk_at dksX20_stacks_0 13 rfl rfl)
theorem dX20_stacks_14 : decode cX20_stacks 14 = .ok (.if_icmp .ne 31, 3) := dk_160 0 31 (dk_at dksX20_stacks_0 14 rfl rfl)
theorem dX20_stacks_17 : decode cX20_stacks 17 = .ok (.aload_n 0, 1) := dk_42 (dk_at dksX20_stacks_0 17 rfl rfl)
theorem dX20_stacks_18 : decode cX20_stacks 18 = .ok (.aload_n 1, 1) := dk_43 (dk_at dksX20_stacks_0 18 rfl rfl)
theorem dX20_stacks_19 : decode cX20_stacks 19 = .ok (.iconst 4, 1) := dk_7 (dk_at dksX20_stacks_0 19 rfl rfl)
theorem dX20_stacks_20 : decode cX20_stacks 20 = .ok (.invokevirtual 183, 3) := dk_182 0 183 (dk_at dksX20_stacks_0 20 rfl rfl)
theorem dX20_stacks_23 : decode cX20_stacks 23 = .ok (.ifCond .eq 22, 3) := dk_153 0 22 (dk_at dksX20_stacks_1 0 rfl rfl)
theorem dX20_stacks_26 : decode cX20_stacks 26 = .ok (.aload_n 1, 1) := dk_43 (dk_at dksX20_stacks_1 3 rfl rfl)
theorem dX20_stacks_27 : decode cX20_stacks 27 = .ok (.bipush 19, 2) := dk_16 19 (dk_at dksX20_stacks_1 4 rfl rfl)
theorem dX20_stacks_29 : decode cX20_stacks 29 = .ok (.aload_n 1, 1) := dk_43 (dk_at dksX20_stacks_1 6 rfl rfl)
theorem dX20_stacks_30 : decode cX20_stacks 30 = .ok (.bipush 15, 2) := dk_16 15 (dk_at dksX20_stacks_1 7 rfl rfl)
theorem dX20_stacks_32 : decode cX20_stacks 32 = .ok (.iaload, 1) := dk_46 (dk_at dksX20_stacks_1 9 rfl rfl)
theorem dX20_stacks_33 : decode cX20_stacks 33 = .ok (.iastore, 1) := dk_79 (dk_at dksX20_stacks_1 10 rfl rfl)
theorem dX20_stacks_34 : decode cX20_stacks 34 = .ok (.aload_n 1, 1) := dk_43 (dk_at dksX20_stacks_1 11 rfl rfl)
theorem dX20_stacks_35 : decode cX20_stacks 35 = .ok (.bipush 29, 2) := dk_16 29 (dk_at dksX20_stacks_1 12 rfl rfl)
theorem dX20_stacks_37 : decode cX20_stacks 37 = .ok (.iconst 1, 1) := dk_4 (dk_at dksX20_stacks_1 14 rfl rfl)
theorem dX20_stacks_38 : decode cX20_stacks 38 = .ok (.iastore, 1) := dk_79 (dk_at dksX20_stacks_1 15 rfl rfl)
theorem dX20_stacks_39 : decode cX20_stacks 39 = .ok (.aload_n 0, 1) := dk_42 (dk_at dksX20_stacks_1 16 rfl rfl)
theorem dX20_stacks_40 : decode cX20_stacks 40 = .ok (.aload_n 1, 1) := dk_43 (dk_at dksX20_stacks_1 17 rfl rfl)
theorem dX20_stacks_41 : decode cX20_stacks 41 = .ok (.iconst 4, 1) := dk_7 (dk_at dksX20_stacks_1 18 rfl rfl)
theorem dX20_stacks_42 : decode cX20_stacks 42 = .ok (.invokevirtual 186, 3) := dk_182 0 186 (dk_at dksX20_stacks_1 19 rfl rfl)
theorem dX20_stacks_45 : decode cX20_stacks 45 = .ok (.aload_n 1, 1) := dk_43 (dk_at dksX20_stacks_1 22 rfl rfl)
theorem dX20_stacks_46 : decode cX20_stacks 46 = .ok (.bipush 20, 2) := dk_16 20 (dk_at dksX20_stacks_2 0 rfl rfl)
theorem dX20_stacks_48 : decode cX20_stacks 48 = .ok (.iaload, 1) := dk_46 (dk_at dksX20_stacks_2 2 rfl rfl)
theorem dX20_stacks_49 : decode cX20_stacks 49 = .ok (.iconst 5, 1) := dk_8 (dk_at dksX20_stacks_2 3 rfl rfl)
theorem dX20_stacks_50 : decode cX20_stacks 50 = .ok (.if_icmp .ne 4, 3) := dk_160 0 4 (dk_at dksX20_stacks_2 4 rfl rfl)
theorem dX20_stacks_53 : decode cX20_stacks 53 = .ok (.return_, 1) := dk_177 (dk_at dksX20_stacks_2 7 rfl rfl)
theorem dX20_stacks_54 : decode cX20_stacks 54 = .ok (.aload_n 0, 1) := dk_42 (dk_at dksX20_stacks_2 8 rfl rfl)
theorem dX20_stacks_55 : decode cX20_stacks 55 = .ok (.aload_n 1, 1) := dk_43 (dk_at dksX20_stacks_2 9 rfl rfl)
theorem dX20_stacks_56 : decode cX20_stacks 56 = .ok (.iconst 1, 1) := dk_4 (dk_at dksX20_stacks_2 10 rfl rfl)
theorem dX20_stacks_57 : decode cX20_stacks 57 = .ok (.invokevirtual 183, 3) := dk_182 0 183 (dk_at dksX20_stacks_2 11 rfl rfl)
theorem dX20_stacks_60 : decode cX20_stacks 60 = .ok (.ifCond .eq 65, 3) := dk_153 0 65 (dk_at dksX20_stacks_2 14 rfl rfl)
theorem dX20_stacks_63 : decode cX20_stacks 63 = .ok (.aload_n 1, 1) := dk_43 (dk_at dksX20_stacks_2 17 rfl rfl)
theorem dX20_stacks_64 : decode cX20_stacks 64 = .ok (.bipush 56, 2) := dk_16 56 (dk_at dksX20_stacks_2 18 rfl rfl)
theorem dX20_stacks_66 : decode cX20_stacks 66 = .ok (.aload_n 1, 1) := dk_43 (dk_at dksX20_stacks_2 20 rfl rfl)
theorem dX20_stacks_67 : decode cX20_stacks 67 = .ok (.bipush 15, 2) := dk_16 15 (dk_at dksX20_stacks_2 21 rfl rfl)
theorem dX20_stacks_69 : decode cX20_stacks 69 = .ok (.iaload, 1) := dk_46 (dk_at dksX20_stacks_2 23 rfl rfl)
theorem dX20_stacks_70 : decode cX20_stacks 70 = .ok (.iadd, 1) := dk_96 (dk_at dksX20_stacks_3 0 rfl rfl)
theorem dX20_stacks_71 : decode cX20_stacks 71 = .ok (.iload_n 2, 1) := dk_28 (dk_at dksX20_stacks_3 1 rfl rfl)
theorem dX20_stacks_72 : decode cX20_stacks 72 = .ok (.iconst 4, 1) := dk_7 (dk_at dksX20_stacks_3 2 rfl rfl)
theorem dX20_stacks_73 : decode cX20_stacks 73 = .ok (.if_icmp .ge 11, 3) := dk_162 0 11 (dk_at dksX20_stacks_3 3 rfl rfl)
theorem dX20_stacks_76 : decode cX20_stacks 76 = .ok (.aload_n 1, 1) := dk_43 (dk_at dksX20_stacks_3 6 rfl rfl)
theorem dX20_stacks_77 : decode cX20_stacks 77 = .ok (.iconst 0, 1) := dk_3 (dk_at dksX20_stacks_3 7 rfl rfl)
theorem dX20_stacks_78 : decode cX20_stacks 78 = .ok (.iload_n 2, 1) := dk_28 (dk_at dksX20_stacks_3 8 rfl rfl)
theorem dX20_stacks_79 : decode cX20_stacks 79 = .ok (.iadd, 1) := dk_96 (dk_at dksX20_stacks_3 9 rfl rfl)
theorem dX20_stacks_80 : decode cX20_stacks 80 = .ok (.iaload, 1) := dk_46 (dk_at dksX20_stacks_3 10 rfl rfl)
theorem dX20_stacks_81 : decode cX20_stacks 81 = .ok (.goto 37, 3) := dk_167 0 37 (dk_at dksX20_stacks_3 11 rfl rfl)
theorem dX20_stacks_84 : decode cX20_stacks 84 = .ok (.iload_n 2, 1) := dk_28 (dk_at dksX20_stacks_3 14 rfl rfl)
theorem dX20_stacks_85 : decode cX20_stacks 85 = .ok (.iconst 4, 1) := dk_7 (dk_at dksX20_stacks_3 15 rfl rfl)
theorem dX20_stacks_86 : decode cX20_stacks 86 = .ok (.if_icmp .ne 10, 3) := dk_160 0 10 (dk_at dksX20_stacks_3 16 rfl rfl)
theorem dX20_stacks_89 : decode cX20_stacks 89 = .ok (.aload_n 1, 1) := dk_43 (dk_at dksX20_stacks_3 19 rfl rfl)
theorem dX20_stacks_90 : decode cX20_stacks 90 = .ok (.bipush 12, 2) := dk_16 12 (dk_at dksX20_stacks_3 20 rfl rfl)
theorem dX20_stacks_92 : decode cX20_stacks 92 = .ok (.iaload, 1) := dk_46 (dk_at dksX20_stacks_3 22 rfl rfl)
theorem dX20_stacks_93 : decode cX20_stacks 93 = .ok (.goto 25, 3) := dk_167 0 25 (dk_at dksX20_stacks_4 0 rfl rfl)
theorem dX20_stacks_96 : decode cX20_stacks 96 = .ok (.sipush 23040, 3) := dk_17 90 0 (dk_at dksX20_stacks_4 3 rfl rfl)
theorem dX20_stacks_99 : decode cX20_stacks 99 = .ok (.aload_n 1, 1) := dk_43 (dk_at dksX20_stacks_4 6 rfl rfl)
theorem dX20_stacks_100 : decode cX20_stacks 100 = .ok (.bipush 13, 2) := dk_16 13 (dk_at dksX20_stacks_4 7 rfl rfl)
theorem dX20_stacks_102 : decode cX20_stacks 102 = .ok (.iaload, 1) := dk_46 (dk_at dksX20_stacks_4 9 rfl rfl)
theorem dX20_stacks_103 : decode cX20_stacks 103 = .ok (.iadd, 1) := dk_96 (dk_at dksX20_stacks_4 10 rfl rfl)
theorem dX20_stacks_104 : decode cX20_stacks 104 = .ok (.iconst 2, 1) := dk_5 (dk_at dksX20_stacks_4 11 rfl rfl)
theorem dX20_stacks_105 : decode cX20_stacks 105 = .ok (.aload_n 1, 1) := dk_43 (dk_at dksX20_stacks_4 12 rfl rfl)
theorem dX20_stacks_106 : decode cX20_stacks 106 = .ok (.bipush 14, 2) := dk_16 14 (dk_at dksX20_stacks_4 13 rfl rfl)
theorem dX20_stacks_108 : decode cX20_stacks 108 = .ok (.iaload, 1) := dk_46 (dk_at dksX20_stacks_4 15 rfl rfl)
theorem dX20_stacks_109 : decode cX20_stacks 109 = .ok (.imul, 1) := dk_104 (dk_at dksX20_stacks_4 16 rfl rfl)
theorem dX20_stacks_110 : decode cX20_stacks 110 = .ok (.iadd, 1) := dk_96 (dk_at dksX20_stacks_4 17 rfl rfl)
theorem dX20_stacks_111 : decode cX20_stacks 111 = .ok (.iconst 4, 1) := dk_7 (dk_at dksX20_stacks_4 18 rfl rfl)
theorem dX20_stacks_112 : decode cX20_stacks 112 = .ok (.aload_n 1, 1) := dk_43 (dk_at dksX20_stacks_4 19 rfl rfl)
theorem dX20_stacks_113 : decode cX20_stacks 113 = .ok (.bipush 29, 2) := dk_16 29 (dk_at dksX20_stacks_4 20 rfl rfl)
theorem dX20_stacks_115 : decode cX20_stacks 115 = .ok (.iaload, 1) := dk_46 (dk_at dksX20_stacks_4 22 rfl rfl)
theorem dX20_stacks_116 : decode cX20_stacks 116 = .ok (.imul, 1) := dk_104 (dk_at dksX20_stacks_4 23 rfl rfl)
theorem dX20_stacks_117 : decode cX20_stacks 117 = .ok (.iadd, 1) := dk_96 (dk_at dksX20_stacks_5 0 rfl rfl)
theorem dX20_stacks_118 : decode cX20_stacks 118 = .ok (.iastore, 1) := dk_79 (dk_at dksX20_stacks_5 1 rfl rfl)
theorem dX20_stacks_119 : decode cX20_stacks 119 = .ok (.aload_n 0, 1) := dk_42 (dk_at dksX20_stacks_5 2 rfl rfl)
theorem dX20_stacks_120 : decode cX20_stacks 120 = .ok (.aload_n 1, 1) := dk_43 (dk_at dksX20_stacks_5 3 rfl rfl)
theorem dX20_stacks_121 : decode cX20_stacks 121 = .ok (.iconst 1, 1) := dk_4 (dk_at dksX20_stacks_5 4 rfl rfl)
theorem dX20_stacks_122 : decode cX20_stacks 122 = .ok (.invokevirtual 186, 3) := dk_182 0 186 (dk_at dksX20_stacks_5 5 rfl rfl)
theorem dX20_stacks_125 : decode cX20_stacks 125 = .ok (.aload_n 1, 1) := dk_43 (dk_at dksX20_stacks_5 8 rfl rfl)
theorem dX20_stacks_126 : decode cX20_stacks 126 = .ok (.bipush 20, 2) := dk_16 20 (dk_at dksX20_stacks_5 9 rfl rfl)
theorem dX20_stacks_128 : decode cX20_stacks 128 = .ok (.iaload, 1) := dk_46 (dk_at dksX20_stacks_5 11 rfl rfl)
theorem dX20_stacks_129 : decode cX20_stacks 129 = .ok (.iconst 5, 1) := dk_8 (dk_at dksX20_stacks_5 12 rfl rfl)
theorem dX20_stacks_130 : decode cX20_stacks 130 = .ok (.if_icmp .ne 4, 3) := dk_160 0 4 (dk_at dksX20_stacks_5 13 rfl rfl)
theorem dX20_stacks_133 : decode cX20_stacks 133 = .ok (.return_, 1) := dk_177 (dk_at dksX20_stacks_5 16 rfl rfl)
theorem dX20_stacks_134 : decode cX20_stacks 134 = .ok (.aload_n 1, 1) := dk_43 (dk_at dksX20_stacks_5 17 rfl rfl)
theorem dX20_stacks_135 : decode cX20_stacks 135 = .ok (.bipush 21, 2) := dk_16 21 (dk_at dksX20_stacks_5 18 rfl rfl)
theorem dX20_stacks_137 : decode cX20_stacks 137 = .ok (.iload_n 2, 1) := dk_28 (dk_at dksX20_stacks_5 20 rfl rfl)
theorem dX20_stacks_138 : decode cX20_stacks 138 = .ok (.iconst 1, 1) := dk_4 (dk_at dksX20_stacks_5 21 rfl rfl)
theorem dX20_stacks_139 : decode cX20_stacks 139 = .ok (.iadd, 1) := dk_96 (dk_at dksX20_stacks_5 22 rfl rfl)
theorem dX20_stacks_140 : decode cX20_stacks 140 = .ok (.iastore, 1) := dk_79 (dk_at dksX20_stacks_5 23 rfl rfl)
theorem dX20_stacks_141 : decode cX20_stacks 141 = .ok (.iload_n 2, 1) := dk_28 (dk_at dksX20_stacks_6 0 rfl rfl)
theorem dX20_stacks_142 : decode cX20_stacks 142 = .ok (.iconst 5, 1) := dk_8 (dk_at dksX20_stacks_6 1 rfl rfl)
theorem dX20_stacks_143 : decode cX20_stacks 143 = .ok (.if_icmp .ge 4, 3) := dk_162 0 4 (dk_at dksX20_stacks_6 2 rfl rfl)
theorem dX20_stacks_146 : decode cX20_stacks 146 = .ok (.return_, 1) := dk_177 (dk_at dksX20_stacks_6 5 rfl rfl)
theorem dX20_stacks_147 : decode cX20_stacks 147 = .ok (.aload_n 0, 1) := dk_42 (dk_at dksX20_stacks_6 6 rfl rfl)
theorem dX20_stacks_148 : decode cX20_stacks 148 = .ok (.aload_n 1, 1) := dk_43 (dk_at dksX20_stacks_6 7 rfl rfl)
theorem dX20_stacks_149 : decode cX20_stacks 149 = .ok (.invokevirtual 170, 3) := dk_182 0 170 (dk_at dksX20_stacks_6 8 rfl rfl)
theorem dX20_stacks_152 : decode cX20_stacks 152 = .ok (.istore_n 3, 1) := dk_62 (dk_at dksX20_stacks_6 11 rfl rfl)
theorem dX20_stacks_153 : decode cX20_stacks 153 = .ok (.aload_n 0, 1) := dk_42 (dk_at dksX20_stacks_6 12 rfl rfl)
theorem dX20_stacks_154 : decode cX20_stacks 154 = .ok (.getfield 189, 3) := dk_180 0 189 (dk_at dksX20_stacks_6 13 rfl rfl)
theorem dX20_stacks_157 : decode cX20_stacks 157 = .ok (.ifCond .eq 33, 3) := dk_153 0 33 (dk_at dksX20_stacks_6 16 rfl rfl)
theorem dX20_stacks_160 : decode cX20_stacks 160 = .ok (.aload_n 1, 1) := dk_43 (dk_at dksX20_stacks_6 19 rfl rfl)
theorem dX20_stacks_161 : decode cX20_stacks 161 = .ok (.sipush 194, 3) := dk_17 0 194 (dk_at dksX20_stacks_6 20 rfl rfl)
theorem dX20_stacks_164 : decode cX20_stacks 164 = .ok (.aload_n 1, 1) := dk_43 (dk_at dksX20_stacks_6 23 rfl rfl)
theorem dX20_stacks_165 : decode cX20_stacks 165 = .ok (.bipush 24, 2) := dk_16 24 (dk_at dksX20_stacks_7 0 rfl rfl)
theorem dX20_stacks_167 : decode cX20_stacks 167 = .ok (.iaload, 1) := dk_46 (dk_at dksX20_stacks_7 2 rfl rfl)
theorem dX20_stacks_168 : decode cX20_stacks 168 = .ok (.iadd, 1) := dk_96 (dk_at dksX20_stacks_7 3 rfl rfl)
theorem dX20_stacks_169 : decode cX20_stacks 169 = .ok (.iaload, 1) := dk_46 (dk_at dksX20_stacks_7 4 rfl rfl)
theorem dX20_stacks_170 : decode cX20_stacks 170 = .ok (.ifCond .lt 20, 3) := dk_155 0 20 (dk_at dksX20_stacks_7 5 rfl rfl)
theorem dX20_stacks_173 : decode cX20_stacks 173 = .ok (.aload_n 0, 1) := dk_42 (dk_at dksX20_stacks_7 8 rfl rfl)
theorem dX20_stacks_174 : decode cX20_stacks 174 = .ok (.aload_n 1, 1) := dk_43 (dk_at dksX20_stacks_7 9 rfl rfl)
theorem dX20_stacks_175 : decode cX20_stacks 175 = .ok (.aload_n 1, 1) := dk_43 (dk_at dksX20_stacks_7 10 rfl rfl)
theorem dX20_stacks_176 : decode cX20_stacks 176 = .ok (.bipush 24, 2) := dk_16 24 (dk_at dksX20_stacks_7 11 rfl rfl)
theorem dX20_stacks_178 : decode cX20_stacks 178 = .ok (.iaload, 1) := dk_46 (dk_at dksX20_stacks_7 13 rfl rfl)
theorem dX20_stacks_179 : decode cX20_stacks 179 = .ok (.invokevirtual 135, 3) := dk_182 0 135 (dk_at dksX20_stacks_7 14 rfl rfl)
theorem dX20_stacks_182 : decode cX20_stacks 182 = .ok (.ifCond .eq 8, 3) := dk_153 0 8 (dk_at dksX20_stacks_7 17 rfl rfl)
theorem dX20_stacks_185 : decode cX20_stacks 185 = .ok (.aload_n 1, 1) := dk_43 (dk_at dksX20_stacks_7 20 rfl rfl)
theorem dX20_stacks_186 : decode cX20_stacks 186 = .ok (.bipush 24, 2) := dk_16 24 (dk_at dksX20_stacks_7 21 rfl rfl)
theorem dX20_stacks_188 : decode cX20_stacks 188 = .ok (.iaload, 1) := dk_46 (dk_at dksX20_stacks_7 23 rfl rfl)
theorem dX20_stacks_189 : decode cX20_stacks 189 = .ok (.istore_n 3, 1) := dk_62 (dk_at dksX20_stacks_8 0 rfl rfl)
theorem dX20_stacks_190 : decode cX20_stacks 190 = .ok (.iload_n 3, 1) := dk_29 (dk_at dksX20_stacks_8 1 rfl rfl)
theorem dX20_stacks_191 : decode cX20_stacks 191 = .ok (.ifCond .ge 11, 3) := dk_156 0 11 (dk_at dksX20_stacks_8 2 rfl rfl)
theorem dX20_stacks_194 : decode cX20_stacks 194 = .ok (.aload_n 0, 1) := dk_42 (dk_at dksX20_stacks_8 5 rfl rfl)
theorem dX20_stacks_195 : decode cX20_stacks 195 = .ok (.aload_n 1, 1) := dk_43 (dk_at dksX20_stacks_8 6 rfl rfl)
theorem dX20_stacks_196 : decode cX20_stacks 196 = .ok (.iconst 3, 1) := dk_6 (dk_at dksX20_stacks_8 7 rfl rfl)
theorem dX20_stacks_197 : decode cX20_stacks 197 = .ok (.iconst 0, 1) := dk_3 (dk_at dksX20_stacks_8 8 rfl rfl)
theorem dX20_stacks_198 : decode cX20_stacks 198 = .ok (.invokevirtual 173, 3) := dk_182 0 173 (dk_at dksX20_stacks_8 9 rfl rfl)
theorem dX20_stacks_201 : decode cX20_stacks 201 = .ok (.return_, 1) := dk_177 (dk_at dksX20_stacks_8 12 rfl rfl)
theorem dX20_stacks_202 : decode cX20_stacks 202 = .ok (.iload_n 3, 1) := dk_29 (dk_at dksX20_stacks_8 13 rfl rfl)
theorem dX20_stacks_203 : decode cX20_stacks 203 = .ok (.aload_n 1, 1) := dk_43 (dk_at dksX20_stacks_8 14 rfl rfl)
theorem dX20_stacks_204 : decode cX20_stacks 204 = .ok (.bipush 24, 2) := dk_16 24 (dk_at dksX20_stacks_8 15 rfl rfl)
theorem dX20_stacks_206 : decode cX20_stacks 206 = .ok (.iaload, 1) := dk_46 (dk_at dksX20_stacks_8 17 rfl rfl)
theorem dX20_stacks_207 : decode cX20_stacks 207 = .ok (.if_icmp .eq 8, 3) := dk_159 0 8 (dk_at dksX20_stacks_8 18 rfl rfl)
theorem dX20_stacks_210 : decode cX20_stacks 210 = .ok (.aload_n 0, 1) := dk_42 (dk_at dksX20_stacks_8 21 rfl rfl)
theorem dX20_stacks_211 : decode cX20_stacks 211 = .ok (.iconst 3, 1) := dk_6 (dk_at dksX20_stacks_8 22 rfl rfl)
theorem dX20_stacks_212 : decode cX20_stacks 212 = .ok (.invokevirtual 131, 3) := dk_182 0 131 (dk_at dksX20_stacks_9 0 rfl rfl)
theorem dX20_stacks_215 : decode cX20_stacks 215 = .ok (.aload_n 0, 1) := dk_42 (dk_at dksX20_stacks_9 3 rfl rfl)
theorem dX20_stacks_216 : decode cX20_stacks 216 = .ok (.aload_n 1, 1) := dk_43 (dk_at dksX20_stacks_9 4 rfl rfl)
theorem dX20_stacks_217 : decode cX20_stacks 217 = .ok (.iload_n 3, 1) := dk_29 (dk_at dksX20_stacks_9 5 rfl rfl)
theorem dX20_stacks_218 : decode cX20_stacks 218 = .ok (.iconst 0, 1) := dk_3 (dk_at dksX20_stacks_9 6 rfl rfl)
theorem dX20_stacks_219 : decode cX20_stacks 219 = .ok (.invokevirtual 192, 3) := dk_182 0 192 (dk_at dksX20_stacks_9 7 rfl rfl)
theorem dX20_stacks_222 : decode cX20_stacks 222 = .ok (.return_, 1) := dk_177 (dk_at dksX20_stacks_9 10 rfl rfl)
abbrev cX20_hasRoom : ByteArray := prog_52_method_31_code
def yX20_hasRoom : MethodName := ⟨RX20, "hasRoom", "([II)Z"⟩
def dkwX20_hasRoom_1 : List UInt8 := [16, 28, 4, 79, 42, 43, 16, 19, 182, 0, 180, 87, 3, 172]
abbrev dktX20_hasRoom_1 : List UInt8 := dkwX20_hasRoom_1 ++ []
def dkwX20_hasRoom_0 : List UInt8 := [43, 16, 28, 46, 4, 160, 0, 5, 3, 172, 43, 16, 15, 46, 28, 96, 16, 96, 163, 0, 5, 4, 172, 43]
abbrev dktX20_hasRoom_0 : List UInt8 := dkwX20_hasRoom_0 ++ dktX20_hasRoom_1
theorem dksX20_hasRoom_0 : cX20_hasRoom.data.toList.drop 0 = dktX20_hasRoom_0 := by decide +kernel
theorem dksX20_hasRoom_1 : cX20_hasRoom.data.toList.drop 24 = dktX20_hasRoom_1 := dk_seg dksX20_hasRoom_0 24 rfl rfl
theorem dX20_hasRoom_0 : decode cX20_hasRoom 0 = .ok (.aload_n 1, 1) := dk_43 (dk_at dksX20_hasRoom_0 0 rfl rfl)
theorem dX20_hasRoom_1 : decode cX20_hasRoom 1 = .ok (.bipush 28, 2) := dk_16 28 (dk_at dksX20_hasRoom_0 1 rfl rfl)
theorem dX20_hasRoom_3 : decode cX20_hasRoom 3 = .ok (.iaload, 1) := dk_46 (dk_at dksX20_hasRoom_0 3 rfl rfl)
theorem dX20_hasRoom_4 : decode cX20_hasRoom 4 = .ok (.iconst 1, 1) := dk_4 (dk_at dksX20_hasRoom_0 4 rfl rfl)
theorem dX20_hasRoom_5 : decode cX20_hasRoom 5 = .ok (.if_icmp .ne 5, 3) := dk_160 0 5 (dk_at dksX20_hasRoom_0 5 rfl rfl)
theorem dX20_hasRoom_8 : decode cX20_hasRoom 8 = .ok (.iconst 0, 1) := dk_3 (dk_at dksX20_hasRoom_0 8 rfl rfl)
theorem dX20_hasRoom_9 : decode cX20_hasRoom 9 = .ok (.ireturn, 1) := dk_172 (dk_at dksX20_hasRoom_0 9 rfl rfl)
theorem dX20_hasRoom_10 : decode cX20_hasRoom 10 = .ok (.aload_n 1, 1) := dk_43 (dk_at dksX20_hasRoom_0 10 rfl rfl)
theorem dX20_hasRoom_11 : decode cX20_hasRoom 11 = .ok (.bipush 15, 2) := dk_16 15 (dk_at dksX20_hasRoom_0 11 rfl rfl)
theorem dX20_hasRoom_13 : decode cX20_hasRoom 13 = .ok (.iaload, 1) := dk_46 (dk_at dksX20_hasRoom_0 13 rfl rfl)
theorem dX20_hasRoom_14 : decode cX20_hasRoom 14 = .ok (.iload_n 2, 1) := dk_28 (dk_at dksX20_hasRoom_0 14 rfl rfl)
theorem dX20_hasRoom_15 : decode cX20_hasRoom 15 = .ok (.iadd, 1) := dk_96 (dk_at dksX20_hasRoom_0 15 rfl rfl)
theorem dX20_hasRoom_16 : decode cX20_hasRoom 16 = .ok (.bipush 96, 2) := dk_16 96 (dk_at dksX20_hasRoom_0 16 rfl rfl)
theorem dX20_hasRoom_18 : decode cX20_hasRoom 18 = .ok (.if_icmp .gt 5, 3) := dk_163 0 5 (dk_at dksX20_hasRoom_0 18 rfl rfl)
theorem dX20_hasRoom_21 : decode cX20_hasRoom 21 = .ok (.iconst 1, 1) := dk_4 (dk_at dksX20_hasRoom_0 21 rfl rfl)
theorem dX20_hasRoom_22 : decode cX20_hasRoom 22 = .ok (.ireturn, 1) := dk_172 (dk_at dksX20_hasRoom_0 22 rfl rfl)
theorem dX20_hasRoom_23 : decode cX20_hasRoom 23 = .ok (.aload_n 1, 1) := dk_43 (dk_at dksX20_hasRoom_0 23 rfl rfl)
theorem dX20_hasRoom_24 : decode cX20_hasRoom 24 = .ok (.bipush 28, 2) := dk_16 28 (dk_at dksX20_hasRoom_1 0 rfl rfl)
theorem dX20_hasRoom_26 : decode cX20_hasRoom 26 = .ok (.iconst 1, 1) := dk_4 (dk_at dksX20_hasRoom_1 2 rfl rfl)
theorem dX20_hasRoom_27 : decode cX20_hasRoom 27 = .ok (.iastore, 1) := dk_79 (dk_at dksX20_hasRoom_1 3 rfl rfl)
theorem dX20_hasRoom_28 : decode cX20_hasRoom 28 = .ok (.aload_n 0, 1) := dk_42 (dk_at dksX20_hasRoom_1 4 rfl rfl)
theorem dX20_hasRoom_29 : decode cX20_hasRoom 29 = .ok (.aload_n 1, 1) := dk_43 (dk_at dksX20_hasRoom_1 5 rfl rfl)
theorem dX20_hasRoom_30 : decode cX20_hasRoom 30 = .ok (.bipush 19, 2) := dk_16 19 (dk_at dksX20_hasRoom_1 6 rfl rfl)
theorem dX20_hasRoom_32 : decode cX20_hasRoom 32 = .ok (.invokevirtual 180, 3) := dk_182 0 180 (dk_at dksX20_hasRoom_1 8 rfl rfl)
theorem dX20_hasRoom_35 : decode cX20_hasRoom 35 = .ok (.pop, 1) := dk_87 (dk_at dksX20_hasRoom_1 11 rfl rfl)
theorem dX20_hasRoom_36 : decode cX20_hasRoom 36 = .ok (.iconst 0, 1) := dk_3 (dk_at dksX20_hasRoom_1 12 rfl rfl)
theorem dX20_hasRoom_37 : decode cX20_hasRoom 37 = .ok (.ireturn, 1) := dk_172 (dk_at dksX20_hasRoom_1 13 rfl rfl)
abbrev cX20_raises : ByteArray := prog_52_method_26_code
def yX20_raises : MethodName := ⟨RX20, "raises", "([II)Z"⟩
def dkwX20_raises_2 : List UInt8 := [3, 79, 42, 6, 29, 43, 16, 12, 46, 182, 0, 147, 29, 156, 0, 7, 4, 167, 0, 4, 3, 172]
abbrev dktX20_raises_2 : List UInt8 := dkwX20_raises_2 ++ []
def dkwX20_raises_1 : List UInt8 := [182, 0, 131, 29, 155, 0, 12, 42, 43, 29, 182, 0, 143, 167, 0, 13, 43, 16, 20, 8, 79, 43, 16, 21]
abbrev dktX20_raises_1 : List UInt8 := dkwX20_raises_1 ++ dktX20_raises_2
def dkwX20_raises_0 : List UInt8 := [42, 43, 28, 182, 0, 139, 62, 42, 16, 7, 182, 0, 131, 29, 16, 20, 160, 0, 9, 42, 16, 8]
abbrev dktX20_raises_0 : List UInt8 := dkwX20_raises_0 ++ dktX20_raises_1
theorem dksX20_raises_0 : cX20_raises.data.toList.drop 0 = dktX20_raises_0 := by decide +kernel
theorem dksX20_raises_1 : cX20_raises.data.toList.drop 22 = dktX20_raises_1 := dk_seg dksX20_raises_0 22 rfl rfl
theorem dksX20_raises_2 : cX20_raises.data.toList.drop 46 = dktX20_raises_2 := dk_seg dksX20_raises_1 24 rfl rfl
theorem dX20_raises_0 : decode cX20_raises 0 = .ok (.aload_n 0, 1) := dk_42 (dk_at dksX20_raises_0 0 rfl rfl)
theorem dX20_raises_1 : decode cX20_raises 1 = .ok (.aload_n 1, 1) := dk_43 (dk_at dksX20_raises_0 1 rfl rfl)
theorem dX20_raises_2 : decode cX20_raises 2 = .ok (.iload_n 2, 1) := dk_28 (dk_at dksX20_raises_0 2 rfl rfl)
theorem dX20_raises_3 : decode cX20_raises 3 = .ok (.invokevirtual 139, 3) := dk_182 0 139 (dk_at dksX20_raises_0 3 rfl rfl)
theorem dX20_raises_6 : decode cX20_raises 6 = .ok (.istore_n 3, 1) := dk_62 (dk_at dksX20_raises_0 6 rfl rfl)
theorem dX20_raises_7 : decode cX20_raises 7 = .ok (.aload_n 0, 1) := dk_42 (dk_at dksX20_raises_0 7 rfl rfl)
theorem dX20_raises_8 : decode cX20_raises 8 = .ok (.bipush 7, 2) := dk_16 7 (dk_at dksX20_raises_0 8 rfl rfl)
theorem dX20_raises_10 : decode cX20_raises 10 = .ok (.invokevirtual 131, 3) := dk_182 0 131 (dk_at dksX20_raises_0 10 rfl rfl)
theorem dX20_raises_13 : decode cX20_raises 13 = .ok (.iload_n 3, 1) := dk_29 (dk_at dksX20_raises_0 13 rfl rfl)
theorem dX20_raises_14 : decode cX20_raises 14 = .ok (.bipush 20, 2) := dk_16 20 (dk_at dksX20_raises_0 14 rfl rfl)
theorem dX20_raises_16 : decode cX20_raises 16 = .ok (.if_icmp .ne 9, 3) := dk_160 0 9 (dk_at dksX20_raises_0 16 rfl rfl)
theorem dX20_raises_19 : decode cX20_raises 19 = .ok (.aload_n 0, 1) := dk_42 (dk_at dksX20_raises_0 19 rfl rfl)
theorem dX20_raises_20 : decode cX20_raises 20 = .ok (.bipush 8, 2) := dk_16 8 (dk_at dksX20_raises_0 20 rfl rfl)
theorem dX20_raises_22 : decode cX20_raises 22 = .ok (.invokevirtual 131, 3) := dk_182 0 131 (dk_at dksX20_raises_1 0 rfl rfl)
theorem dX20_raises_25 : decode cX20_raises 25 = .ok (.iload_n 3, 1) := dk_29 (dk_at dksX20_raises_1 3 rfl rfl)
theorem dX20_raises_26 : decode cX20_raises 26 = .ok (.ifCond .lt 12, 3) := dk_155 0 12 (dk_at dksX20_raises_1 4 rfl rfl)
theorem dX20_raises_29 : decode cX20_raises 29 = .ok (.aload_n 0, 1) := dk_42 (dk_at dksX20_raises_1 7 rfl rfl)
theorem dX20_raises_30 : decode cX20_raises 30 = .ok (.aload_n 1, 1) := dk_43 (dk_at dksX20_raises_1 8 rfl rfl)
theorem dX20_raises_31 : decode cX20_raises 31 = .ok (.iload_n 3, 1) := dk_29 (dk_at dksX20_raises_1 9 rfl rfl)
theorem dX20_raises_32 : decode cX20_raises 32 = .ok (.invokevirtual 143, 3) := dk_182 0 143 (dk_at dksX20_raises_1 10 rfl rfl)
theorem dX20_raises_35 : decode cX20_raises 35 = .ok (.goto 13, 3) := dk_167 0 13 (dk_at dksX20_raises_1 13 rfl rfl)
theorem dX20_raises_38 : decode cX20_raises 38 = .ok (.aload_n 1, 1) := dk_43 (dk_at dksX20_raises_1 16 rfl rfl)
theorem dX20_raises_39 : decode cX20_raises 39 = .ok (.bipush 20, 2) := dk_16 20 (dk_at dksX20_raises_1 17 rfl rfl)
theorem dX20_raises_41 : decode cX20_raises 41 = .ok (.iconst 5, 1) := dk_8 (dk_at dksX20_raises_1 19 rfl rfl)
theorem dX20_raises_42 : decode cX20_raises 42 = .ok (.iastore, 1) := dk_79 (dk_at dksX20_raises_1 20 rfl rfl)
theorem dX20_raises_43 : decode cX20_raises 43 = .ok (.aload_n 1, 1) := dk_43 (dk_at dksX20_raises_1 21 rfl rfl)
theorem dX20_raises_44 : decode cX20_raises 44 = .ok (.bipush 21, 2) := dk_16 21 (dk_at dksX20_raises_1 22 rfl rfl)
theorem dX20_raises_46 : decode cX20_raises 46 = .ok (.iconst 0, 1) := dk_3 (dk_at dksX20_raises_2 0 rfl rfl)
theorem dX20_raises_47 : decode cX20_raises 47 = .ok (.iastore, 1) := dk_79 (dk_at dksX20_raises_2 1 rfl rfl)
theorem dX20_raises_48 : decode cX20_raises 48 = .ok (.aload_n 0, 1) := dk_42 (dk_at dksX20_raises_2 2 rfl rfl)
theorem dX20_raises_49 : decode cX20_raises 49 = .ok (.iconst 3, 1) := dk_6 (dk_at dksX20_raises_2 3 rfl rfl)
theorem dX20_raises_50 : decode cX20_raises 50 = .ok (.iload_n 3, 1) := dk_29 (dk_at dksX20_raises_2 4 rfl rfl)
theorem dX20_raises_51 : decode cX20_raises 51 = .ok (.aload_n 1, 1) := dk_43 (dk_at dksX20_raises_2 5 rfl rfl)
theorem dX20_raises_52 : decode cX20_raises 52 = .ok (.bipush 12, 2) := dk_16 12 (dk_at dksX20_raises_2 6 rfl rfl)
theorem dX20_raises_54 : decode cX20_raises 54 = .ok (.iaload, 1) := dk_46 (dk_at dksX20_raises_2 8 rfl rfl)
theorem dX20_raises_55 : decode cX20_raises 55 = .ok (.invokevirtual 147, 3) := dk_182 0 147 (dk_at dksX20_raises_2 9 rfl rfl)
theorem dX20_raises_58 : decode cX20_raises 58 = .ok (.iload_n 3, 1) := dk_29 (dk_at dksX20_raises_2 12 rfl rfl)
theorem dX20_raises_59 : decode cX20_raises 59 = .ok (.ifCond .ge 7, 3) := dk_156 0 7 (dk_at dksX20_raises_2 13 rfl rfl)
theorem dX20_raises_62 : decode cX20_raises 62 = .ok (.iconst 1, 1) := dk_4 (dk_at dksX20_raises_2 16 rfl rfl)
theorem dX20_raises_63 : decode cX20_raises 63 = .ok (.goto 4, 3) := dk_167 0 4 (dk_at dksX20_raises_2 17 rfl rfl)
theorem dX20_raises_66 : decode cX20_raises 66 = .ok (.iconst 0, 1) := dk_3 (dk_at dksX20_raises_2 20 rfl rfl)
theorem dX20_raises_67 : decode cX20_raises 67 = .ok (.ireturn, 1) := dk_172 (dk_at dksX20_raises_2 21 rfl rfl)
abbrev cX20_targetOf : ByteArray := prog_52_method_25_code
def yX20_targetOf : MethodName := ⟨RX20, "targetOf", "([II)I"⟩
def dkwX20_targetOf_1 : List UInt8 := [167, 0, 4, 2, 172]
abbrev dktX20_targetOf_1 : List UInt8 := dkwX20_targetOf_1 ++ []
def dkwX20_targetOf_0 : List UInt8 := [42, 43, 28, 182, 0, 135, 153, 0, 7, 28, 167, 0, 17, 43, 17, 1, 64, 46, 154, 0, 8, 16, 20]
abbrev dktX20_targetOf_0 : List UInt8 := dkwX20_targetOf_0 ++ dktX20_targetOf_1
theorem dksX20_targetOf_0 : cX20_targetOf.data.toList.drop 0 = dktX20_targetOf_0 := by decide +kernel
theorem dksX20_targetOf_1 : cX20_targetOf.data.toList.drop 23 = dktX20_targetOf_1 := dk_seg dksX20_targetOf_0 23 rfl rfl
theorem dX20_targetOf_0 : decode cX20_targetOf 0 = .ok (.aload_n 0, 1) := dk_42 (dk_at dksX20_targetOf_0 0 rfl rfl)
theorem dX20_targetOf_1 : decode cX20_targetOf 1 = .ok (.aload_n 1, 1) := dk_43 (dk_at dksX20_targetOf_0 1 rfl rfl)
theorem dX20_targetOf_2 : decode cX20_targetOf 2 = .ok (.iload_n 2, 1) := dk_28 (dk_at dksX20_targetOf_0 2 rfl rfl)
theorem dX20_targetOf_3 : decode cX20_targetOf 3 = .ok (.invokevirtual 135, 3) := dk_182 0 135 (dk_at dksX20_targetOf_0 3 rfl rfl)
theorem dX20_targetOf_6 : decode cX20_targetOf 6 = .ok (.ifCond .eq 7, 3) := dk_153 0 7 (dk_at dksX20_targetOf_0 6 rfl rfl)
theorem dX20_targetOf_9 : decode cX20_targetOf 9 = .ok (.iload_n 2, 1) := dk_28 (dk_at dksX20_targetOf_0 9 rfl rfl)
theorem dX20_targetOf_10 : decode cX20_targetOf 10 = .ok (.goto 17, 3) := dk_167 0 17 (dk_at dksX20_targetOf_0 10 rfl rfl)
theorem dX20_targetOf_13 : decode cX20_targetOf 13 = .ok (.aload_n 1, 1) := dk_43 (dk_at dksX20_targetOf_0 13 rfl rfl)
theorem dX20_targetOf_14 : decode cX20_targetOf 14 = .ok (.sipush 320, 3) := dk_17 1 64 (dk_at dksX20_targetOf_0 14 rfl rfl)
theorem dX20_targetOf_17 : decode cX20_targetOf 17 = .ok (.iaload, 1) := dk_46 (dk_at dksX20_targetOf_0 17 rfl rfl)
theorem dX20_targetOf_18 : decode cX20_targetOf 18 = .ok (.ifCond .ne 8, 3) := dk_154 0 8 (dk_at dksX20_targetOf_0 18 rfl rfl)
theorem dX20_targetOf_21 : decode cX20_targetOf 21 = .ok (.bipush 20, 2) := dk_16 20 (dk_at dksX20_targetOf_0 21 rfl rfl)
theorem dX20_targetOf_23 : decode cX20_targetOf 23 = .ok (.goto 4, 3) := dk_167 0 4 (dk_at dksX20_targetOf_1 0 rfl rfl)
theorem dX20_targetOf_26 : decode cX20_targetOf 26 = .ok (.iconst (-1), 1) := dk_2 (dk_at dksX20_targetOf_1 3 rfl rfl)
theorem dX20_targetOf_27 : decode cX20_targetOf 27 = .ok (.ireturn, 1) := dk_172 (dk_at dksX20_targetOf_1 4 rfl rfl)
abbrev cX20_could : ByteArray := prog_52_method_23_code
def yX20_could : MethodName := ⟨RX20, "could", "([II)Z"⟩
def dkwX20_could_1 : List UInt8 := [16, 16, 46, 4, 160, 0, 7, 4, 167, 0, 4, 3, 184, 0, 119, 162, 0, 7, 4, 167, 0, 4, 3, 172]
abbrev dktX20_could_1 : List UInt8 := dkwX20_could_1 ++ []
def dkwX20_could_0 : List UInt8 := [42, 180, 0, 16, 28, 51, 153, 0, 40, 43, 28, 42, 180, 0, 113, 184, 0, 109, 43, 42, 180, 0, 113, 43]
abbrev dktX20_could_0 : List UInt8 := dkwX20_could_0 ++ dktX20_could_1
theorem dksX20_could_0 : cX20_could.data.toList.drop 0 = dktX20_could_0 := by decide +kernel
theorem dksX20_could_1 : cX20_could.data.toList.drop 24 = dktX20_could_1 := dk_seg dksX20_could_0 24 rfl rfl
theorem dX20_could_0 : decode cX20_could 0 = .ok (.aload_n 0, 1) := dk_42 (dk_at dksX20_could_0 0 rfl rfl)
theorem dX20_could_1 : decode cX20_could 1 = .ok (.getfield 16, 3) := dk_180 0 16 (dk_at dksX20_could_0 1 rfl rfl)
theorem dX20_could_4 : decode cX20_could 4 = .ok (.iload_n 2, 1) := dk_28 (dk_at dksX20_could_0 4 rfl rfl)
theorem dX20_could_5 : decode cX20_could 5 = .ok (.baload, 1) := dk_51 (dk_at dksX20_could_0 5 rfl rfl)
theorem dX20_could_6 : decode cX20_could 6 = .ok (.ifCond .eq 40, 3) := dk_153 0 40 (dk_at dksX20_could_0 6 rfl rfl)
theorem dX20_could_9 : decode cX20_could 9 = .ok (.aload_n 1, 1) := dk_43 (dk_at dksX20_could_0 9 rfl rfl)
theorem dX20_could_10 : decode cX20_could 10 = .ok (.iload_n 2, 1) := dk_28 (dk_at dksX20_could_0 10 rfl rfl)
theorem dX20_could_11 : decode cX20_could 11 = .ok (.aload_n 0, 1) := dk_42 (dk_at dksX20_could_0 11 rfl rfl)
theorem dX20_could_12 : decode cX20_could 12 = .ok (.getfield 113, 3) := dk_180 0 113 (dk_at dksX20_could_0 12 rfl rfl)
theorem dX20_could_15 : decode cX20_could 15 = .ok (.invokestatic 109, 3) := dk_184 0 109 (dk_at dksX20_could_0 15 rfl rfl)
theorem dX20_could_18 : decode cX20_could 18 = .ok (.aload_n 1, 1) := dk_43 (dk_at dksX20_could_0 18 rfl rfl)
theorem dX20_could_19 : decode cX20_could 19 = .ok (.aload_n 0, 1) := dk_42 (dk_at dksX20_could_0 19 rfl rfl)
theorem dX20_could_20 : decode cX20_could 20 = .ok (.getfield 113, 3) := dk_180 0 113 (dk_at dksX20_could_0 20 rfl rfl)
theorem dX20_could_23 : decode cX20_could 23 = .ok (.aload_n 1, 1) := dk_43 (dk_at dksX20_could_0 23 rfl rfl)
theorem dX20_could_24 : decode cX20_could 24 = .ok (.bipush 16, 2) := dk_16 16 (dk_at dksX20_could_1 0 rfl rfl)
theorem dX20_could_26 : decode cX20_could 26 = .ok (.iaload, 1) := dk_46 (dk_at dksX20_could_1 2 rfl rfl)
theorem dX20_could_27 : decode cX20_could 27 = .ok (.iconst 1, 1) := dk_4 (dk_at dksX20_could_1 3 rfl rfl)
theorem dX20_could_28 : decode cX20_could 28 = .ok (.if_icmp .ne 7, 3) := dk_160 0 7 (dk_at dksX20_could_1 4 rfl rfl)
theorem dX20_could_31 : decode cX20_could 31 = .ok (.iconst 1, 1) := dk_4 (dk_at dksX20_could_1 7 rfl rfl)
theorem dX20_could_32 : decode cX20_could 32 = .ok (.goto 4, 3) := dk_167 0 4 (dk_at dksX20_could_1 8 rfl rfl)
theorem dX20_could_35 : decode cX20_could 35 = .ok (.iconst 0, 1) := dk_3 (dk_at dksX20_could_1 11 rfl rfl)
theorem dX20_could_36 : decode cX20_could 36 = .ok (.invokestatic 119, 3) := dk_184 0 119 (dk_at dksX20_could_1 12 rfl rfl)
theorem dX20_could_39 : decode cX20_could 39 = .ok (.if_icmp .ge 7, 3) := dk_162 0 7 (dk_at dksX20_could_1 15 rfl rfl)
theorem dX20_could_42 : decode cX20_could 42 = .ok (.iconst 1, 1) := dk_4 (dk_at dksX20_could_1 18 rfl rfl)
theorem dX20_could_43 : decode cX20_could 43 = .ok (.goto 4, 3) := dk_167 0 4 (dk_at dksX20_could_1 19 rfl rfl)
theorem dX20_could_46 : decode cX20_could 46 = .ok (.iconst 0, 1) := dk_3 (dk_at dksX20_could_1 22 rfl rfl)
theorem dX20_could_47 : decode cX20_could 47 = .ok (.ireturn, 1) := dk_172 (dk_at dksX20_could_1 23 rfl rfl)
abbrev cX20_notes : ByteArray := prog_52_method_6_code
def yX20_notes : MethodName := ⟨RX20, "notes", "(III)V"⟩
def dkwX20_notes_2 : List UInt8 := [180, 0, 38, 21, 4, 29, 79, 42, 89, 180, 0, 69, 4, 96, 181, 0, 69, 177]
abbrev dktX20_notes_2 : List UInt8 := dkwX20_notes_2 ++ []
def dkwX20_notes_1 : List UInt8 := [79, 42, 180, 0, 32, 21, 4, 28, 79, 42, 180, 0, 35, 21, 4, 42, 180, 0, 20, 16, 25, 46, 79, 42]
abbrev dktX20_notes_1 : List UInt8 := dkwX20_notes_1 ++ dktX20_notes_2
def dkwX20_notes_0 : List UInt8 := [42, 180, 0, 72, 154, 0, 4, 177, 42, 180, 0, 69, 16, 24, 112, 54, 4, 42, 180, 0, 29, 21, 4, 27]
abbrev dktX20_notes_0 : List UInt8 := dkwX20_notes_0 ++ dktX20_notes_1
theorem dksX20_notes_0 : cX20_notes.data.toList.drop 0 = dktX20_notes_0 := by decide +kernel
theorem dksX20_notes_1 : cX20_notes.data.toList.drop 24 = dktX20_notes_1 := dk_seg dksX20_notes_0 24 rfl rfl
theorem dksX20_notes_2 : cX20_notes.data.toList.drop 48 = dktX20_notes_2 := dk_seg dksX20_notes_1 24 rfl rfl
theorem dX20_notes_0 : decode cX20_notes 0 = .ok (.aload_n 0, 1) := dk_42 (dk_at dksX20_notes_0 0 rfl rfl)
theorem dX20_notes_1 : decode cX20_notes 1 = .ok (.getfield 72, 3) := dk_180 0 72 (dk_at dksX20_notes_0 1 rfl rfl)
theorem dX20_notes_4 : decode cX20_notes 4 = .ok (.ifCond .ne 4, 3) := dk_154 0 4 (dk_at dksX20_notes_0 4 rfl rfl)
theorem dX20_notes_7 : decode cX20_notes 7 = .ok (.return_, 1) := dk_177 (dk_at dksX20_notes_0 7 rfl rfl)
theorem dX20_notes_8 : decode cX20_notes 8 = .ok (.aload_n 0, 1) := dk_42 (dk_at dksX20_notes_0 8 rfl rfl)
theorem dX20_notes_9 : decode cX20_notes 9 = .ok (.getfield 69, 3) := dk_180 0 69 (dk_at dksX20_notes_0 9 rfl rfl)
theorem dX20_notes_12 : decode cX20_notes 12 = .ok (.bipush 24, 2) := dk_16 24 (dk_at dksX20_notes_0 12 rfl rfl)
theorem dX20_notes_14 : decode cX20_notes 14 = .ok (.irem, 1) := dk_112 (dk_at dksX20_notes_0 14 rfl rfl)
theorem dX20_notes_15 : decode cX20_notes 15 = .ok (.istore 4, 2) := dk_54 4 (dk_at dksX20_notes_0 15 rfl rfl)
theorem dX20_notes_17 : decode cX20_notes 17 = .ok (.aload_n 0, 1) := dk_42 (dk_at dksX20_notes_0 17 rfl rfl)
theorem dX20_notes_18 : decode cX20_notes 18 = .ok (.getfield 29, 3) := dk_180 0 29 (dk_at dksX20_notes_0 18 rfl rfl)
theorem dX20_notes_21 : decode cX20_notes 21 = .ok (.iload 4, 2) := dk_21 4 (dk_at dksX20_notes_0 21 rfl rfl)
theorem dX20_notes_23 : decode cX20_notes 23 = .ok (.iload_n 1, 1) := dk_27 (dk_at dksX20_notes_0 23 rfl rfl)
theorem dX20_notes_24 : decode cX20_notes 24 = .ok (.iastore, 1) := dk_79 (dk_at dksX20_notes_1 0 rfl rfl)
theorem dX20_notes_25 : decode cX20_notes 25 = .ok (.aload_n 0, 1) := dk_42 (dk_at dksX20_notes_1 1 rfl rfl)
theorem dX20_notes_26 : decode cX20_notes 26 = .ok (.getfield 32, 3) := dk_180 0 32 (dk_at dksX20_notes_1 2 rfl rfl)
theorem dX20_notes_29 : decode cX20_notes 29 = .ok (.iload 4, 2) := dk_21 4 (dk_at dksX20_notes_1 5 rfl rfl)
theorem dX20_notes_31 : decode cX20_notes 31 = .ok (.iload_n 2, 1) := dk_28 (dk_at dksX20_notes_1 7 rfl rfl)
theorem dX20_notes_32 : decode cX20_notes 32 = .ok (.iastore, 1) := dk_79 (dk_at dksX20_notes_1 8 rfl rfl)
theorem dX20_notes_33 : decode cX20_notes 33 = .ok (.aload_n 0, 1) := dk_42 (dk_at dksX20_notes_1 9 rfl rfl)
theorem dX20_notes_34 : decode cX20_notes 34 = .ok (.getfield 35, 3) := dk_180 0 35 (dk_at dksX20_notes_1 10 rfl rfl)
theorem dX20_notes_37 : decode cX20_notes 37 = .ok (.iload 4, 2) := dk_21 4 (dk_at dksX20_notes_1 13 rfl rfl)
theorem dX20_notes_39 : decode cX20_notes 39 = .ok (.aload_n 0, 1) := dk_42 (dk_at dksX20_notes_1 15 rfl rfl)
theorem dX20_notes_40 : decode cX20_notes 40 = .ok (.getfield 20, 3) := dk_180 0 20 (dk_at dksX20_notes_1 16 rfl rfl)
theorem dX20_notes_43 : decode cX20_notes 43 = .ok (.bipush 25, 2) := dk_16 25 (dk_at dksX20_notes_1 19 rfl rfl)
theorem dX20_notes_45 : decode cX20_notes 45 = .ok (.iaload, 1) := dk_46 (dk_at dksX20_notes_1 21 rfl rfl)
theorem dX20_notes_46 : decode cX20_notes 46 = .ok (.iastore, 1) := dk_79 (dk_at dksX20_notes_1 22 rfl rfl)
theorem dX20_notes_47 : decode cX20_notes 47 = .ok (.aload_n 0, 1) := dk_42 (dk_at dksX20_notes_1 23 rfl rfl)
theorem dX20_notes_48 : decode cX20_notes 48 = .ok (.getfield 38, 3) := dk_180 0 38 (dk_at dksX20_notes_2 0 rfl rfl)
theorem dX20_notes_51 : decode cX20_notes 51 = .ok (.iload 4, 2) := dk_21 4 (dk_at dksX20_notes_2 3 rfl rfl)
theorem dX20_notes_53 : decode cX20_notes 53 = .ok (.iload_n 3, 1) := dk_29 (dk_at dksX20_notes_2 5 rfl rfl)
theorem dX20_notes_54 : decode cX20_notes 54 = .ok (.iastore, 1) := dk_79 (dk_at dksX20_notes_2 6 rfl rfl)
theorem dX20_notes_55 : decode cX20_notes 55 = .ok (.aload_n 0, 1) := dk_42 (dk_at dksX20_notes_2 7 rfl rfl)
theorem dX20_notes_56 : decode cX20_notes 56 = .ok (.dup, 1) := dk_89 (dk_at dksX20_notes_2 8 rfl rfl)
theorem dX20_notes_57 : decode cX20_notes 57 = .ok (.getfield 69, 3) := dk_180 0 69 (dk_at dksX20_notes_2 9 rfl rfl)
theorem dX20_notes_60 : decode cX20_notes 60 = .ok (.iconst 1, 1) := dk_4 (dk_at dksX20_notes_2 12 rfl rfl)
theorem dX20_notes_61 : decode cX20_notes 61 = .ok (.iadd, 1) := dk_96 (dk_at dksX20_notes_2 13 rfl rfl)
theorem dX20_notes_62 : decode cX20_notes 62 = .ok (.putfield 69, 3) := dk_181 0 69 (dk_at dksX20_notes_2 14 rfl rfl)
theorem dX20_notes_65 : decode cX20_notes 65 = .ok (.return_, 1) := dk_177 (dk_at dksX20_notes_2 17 rfl rfl)
abbrev cX20_rises : ByteArray := prog_52_method_30_code
def yX20_rises : MethodName := ⟨RX20, "rises", "([II)V"⟩
def dkwX20_rises_1 : List UInt8 := [16, 13, 46, 164, 0, 14, 42, 180, 0, 26, 16, 13, 43, 16, 15, 46, 79, 177]
abbrev dktX20_rises_1 : List UInt8 := dkwX20_rises_1 ++ []
def dkwX20_rises_0 : List UInt8 := [43, 16, 15, 92, 46, 28, 96, 79, 42, 180, 0, 72, 153, 0, 28, 43, 16, 15, 46, 42, 180, 0, 26]
abbrev dktX20_rises_0 : List UInt8 := dkwX20_rises_0 ++ dktX20_rises_1
theorem dksX20_rises_0 : cX20_rises.data.toList.drop 0 = dktX20_rises_0 := by decide +kernel
theorem dksX20_rises_1 : cX20_rises.data.toList.drop 23 = dktX20_rises_1 := dk_seg dksX20_rises_0 23 rfl rfl
theorem dX20_rises_0 : decode cX20_rises 0 = .ok (.aload_n 1, 1) := dk_43 (dk_at dksX20_rises_0 0 rfl rfl)
theorem dX20_rises_1 : decode cX20_rises 1 = .ok (.bipush 15, 2) := dk_16 15 (dk_at dksX20_rises_0 1 rfl rfl)
theorem dX20_rises_3 : decode cX20_rises 3 = .ok (.dup2, 1) := dk_92 (dk_at dksX20_rises_0 3 rfl rfl)
theorem dX20_rises_4 : decode cX20_rises 4 = .ok (.iaload, 1) := dk_46 (dk_at dksX20_rises_0 4 rfl rfl)
theorem dX20_rises_5 : decode cX20_rises 5 = .ok (.iload_n 2, 1) := dk_28 (dk_at dksX20_rises_0 5 rfl rfl)
theorem dX20_rises_6 : decode cX20_rises 6 = .ok (.iadd, 1) := dk_96 (dk_at dksX20_rises_0 6 rfl rfl)
theorem dX20_rises_7 : decode cX20_rises 7 = .ok (.iastore, 1) := dk_79 (dk_at dksX20_rises_0 7 rfl rfl)
theorem dX20_rises_8 : decode cX20_rises 8 = .ok (.aload_n 0, 1) := dk_42 (dk_at dksX20_rises_0 8 rfl rfl)
theorem dX20_rises_9 : decode cX20_rises 9 = .ok (.getfield 72, 3) := dk_180 0 72 (dk_at dksX20_rises_0 9 rfl rfl)
theorem dX20_rises_12 : decode cX20_rises 12 = .ok (.ifCond .eq 28, 3) := dk_153 0 28 (dk_at dksX20_rises_0 12 rfl rfl)
theorem dX20_rises_15 : decode cX20_rises 15 = .ok (.aload_n 1, 1) := dk_43 (dk_at dksX20_rises_0 15 rfl rfl)
theorem dX20_rises_16 : decode cX20_rises 16 = .ok (.bipush 15, 2) := dk_16 15 (dk_at dksX20_rises_0 16 rfl rfl)
theorem dX20_rises_18 : decode cX20_rises 18 = .ok (.iaload, 1) := dk_46 (dk_at dksX20_rises_0 18 rfl rfl)
theorem dX20_rises_19 : decode cX20_rises 19 = .ok (.aload_n 0, 1) := dk_42 (dk_at dksX20_rises_0 19 rfl rfl)
theorem dX20_rises_20 : decode cX20_rises 20 = .ok (.getfield 26, 3) := dk_180 0 26 (dk_at dksX20_rises_0 20 rfl rfl)
theorem dX20_rises_23 : decode cX20_rises 23 = .ok (.bipush 13, 2) := dk_16 13 (dk_at dksX20_rises_1 0 rfl rfl)
theorem dX20_rises_25 : decode cX20_rises 25 = .ok (.iaload, 1) := dk_46 (dk_at dksX20_rises_1 2 rfl rfl)
theorem dX20_rises_26 : decode cX20_rises 26 = .ok (.if_icmp .le 14, 3) := dk_164 0 14 (dk_at dksX20_rises_1 3 rfl rfl)
theorem dX20_rises_29 : decode cX20_rises 29 = .ok (.aload_n 0, 1) := dk_42 (dk_at dksX20_rises_1 6 rfl rfl)
theorem dX20_rises_30 : decode cX20_rises 30 = .ok (.getfield 26, 3) := dk_180 0 26 (dk_at dksX20_rises_1 7 rfl rfl)
theorem dX20_rises_33 : decode cX20_rises 33 = .ok (.bipush 13, 2) := dk_16 13 (dk_at dksX20_rises_1 10 rfl rfl)
theorem dX20_rises_35 : decode cX20_rises 35 = .ok (.aload_n 1, 1) := dk_43 (dk_at dksX20_rises_1 12 rfl rfl)
theorem dX20_rises_36 : decode cX20_rises 36 = .ok (.bipush 15, 2) := dk_16 15 (dk_at dksX20_rises_1 13 rfl rfl)
theorem dX20_rises_38 : decode cX20_rises 38 = .ok (.iaload, 1) := dk_46 (dk_at dksX20_rises_1 15 rfl rfl)
theorem dX20_rises_39 : decode cX20_rises 39 = .ok (.iastore, 1) := dk_79 (dk_at dksX20_rises_1 16 rfl rfl)
theorem dX20_rises_40 : decode cX20_rises 40 = .ok (.return_, 1) := dk_177 (dk_at dksX20_rises_1 17 rfl rfl)
abbrev cX20_begins : ByteArray := prog_52_method_33_code
def yX20_begins : MethodName := ⟨RX20, "begins", "([III)V"⟩
def dkwX20_begins_6 : List UInt8 := [46, 164, 0, 11, 42, 180, 0, 44, 28, 21, 4, 79, 42, 29, 28, 21, 4, 182, 0, 147, 177]
abbrev dktX20_begins_6 : List UInt8 := dkwX20_begins_6 ++ []
def dkwX20_begins_5 : List UInt8 := [16, 12, 46, 164, 0, 14, 42, 180, 0, 26, 16, 12, 43, 16, 30, 46, 79, 21, 4, 42, 180, 0, 44, 28]
abbrev dktX20_begins_5 : List UInt8 := dkwX20_begins_5 ++ dktX20_begins_6
def dkwX20_begins_4 : List UInt8 := [160, 0, 8, 42, 5, 182, 0, 131, 42, 180, 0, 72, 153, 0, 47, 43, 16, 30, 46, 42, 180, 0, 26]
abbrev dktX20_begins_4 : List UInt8 := dkwX20_begins_4 ++ dktX20_begins_5
def dkwX20_begins_3 : List UInt8 := [43, 16, 18, 3, 79, 42, 43, 3, 3, 182, 0, 173, 42, 28, 181, 0, 151, 42, 4, 182, 0, 131, 29, 4]
abbrev dktX20_begins_3 : List UInt8 := dkwX20_begins_3 ++ dktX20_begins_4
def dkwX20_begins_2 : List UInt8 := [16, 30, 46, 96, 28, 79, 43, 16, 30, 92, 46, 4, 96, 79, 43, 16, 12, 42, 180, 0, 13, 28, 46, 79]
abbrev dktX20_begins_2 : List UInt8 := dkwX20_begins_2 ++ dktX20_begins_3
def dkwX20_begins_1 : List UInt8 := [17, 1, 44, 28, 96, 4, 79, 43, 17, 1, 65, 28, 96, 43, 16, 25, 46, 79, 43, 17, 0, 152, 43]
abbrev dktX20_begins_1 : List UInt8 := dkwX20_begins_1 ++ dktX20_begins_2
def dkwX20_begins_0 : List UInt8 := [43, 16, 25, 46, 43, 17, 0, 194, 28, 96, 46, 100, 54, 4, 43, 17, 0, 194, 28, 96, 2, 79, 43]
abbrev dktX20_begins_0 : List UInt8 := dkwX20_begins_0 ++ dktX20_begins_1
theorem dksX20_begins_0 : cX20_begins.data.toList.drop 0 = dktX20_begins_0 := by decide +kernel
theorem dksX20_begins_1 : cX20_begins.data.toList.drop 23 = dktX20_begins_1 := dk_seg dksX20_begins_0 23 rfl rfl
theorem dksX20_begins_2 : cX20_begins.data.toList.drop 46 = dktX20_begins_2 := dk_seg dksX20_begins_1 23 rfl rfl
theorem dksX20_begins_3 : cX20_begins.data.toList.drop 70 = dktX20_begins_3 := dk_seg dksX20_begins_2 24 rfl rfl
theorem dksX20_begins_4 : cX20_begins.data.toList.drop 94 = dktX20_begins_4 := dk_seg dksX20_begins_3 24 rfl rfl
theorem dksX20_begins_5 : cX20_begins.data.toList.drop 117 = dktX20_begins_5 := dk_seg dksX20_begins_4 23 rfl rfl
theorem dksX20_begins_6 : cX20_begins.data.toList.drop 141 = dktX20_begins_6 := dk_seg dksX20_begins_5 24 rfl rfl
theorem dX20_begins_0 : decode cX20_begins 0 = .ok (.aload_n 1, 1) := dk_43 (dk_at dksX20_begins_0 0 rfl rfl)
theorem dX20_begins_1 : decode cX20_begins 1 = .ok (.bipush 25, 2) := dk_16 25 (dk_at dksX20_begins_0 1 rfl rfl)
theorem dX20_begins_3 : decode cX20_begins 3 = .ok (.iaload, 1) := dk_46 (dk_at dksX20_begins_0 3 rfl rfl)
theorem dX20_begins_4 : decode cX20_begins 4 = .ok (.aload_n 1, 1) := dk_43 (dk_at dksX20_begins_0 4 rfl rfl)
theorem dX20_begins_5 : decode cX20_begins 5 = .ok (.sipush 194, 3) := dk_17 0 194 (dk_at dksX20_begins_0 5 rfl rfl)
theorem dX20_begins_8 : decode cX20_begins 8 = .ok (.iload_n 2, 1) := dk_28 (dk_at dksX20_begins_0 8 rfl rfl)
theorem dX20_begins_9 : decode cX20_begins 9 = .ok (.iadd, 1) := dk_96 (dk_at dksX20_begins_0 9 rfl rfl)
theorem dX20_begins_10 : decode cX20_begins 10 = .ok (.iaload, 1) := dk_46 (dk_at dksX20_begins_0 10 rfl rfl)
theorem dX20_begins_11 : decode cX20_begins 11 = .ok (.isub, 1) := dk_100 (dk_at dksX20_begins_0 11 rfl rfl)
theorem dX20_begins_12 : decode cX20_begins 12 = .ok (.istore 4, 2) := dk_54 4 (dk_at dksX20_begins_0 12 rfl rfl)
theorem dX20_begins_14 : decode cX20_begins 14 = .ok (.aload_n 1, 1) := dk_43 (dk_at dksX20_begins_0 14 rfl rfl)
theorem dX20_begins_15 : decode cX20_begins 15 = .ok (.sipush 194, 3) := dk_17 0 194 (dk_at dksX20_begins_0 15 rfl rfl)
theorem dX20_begins_18 : decode cX20_begins 18 = .ok (.iload_n 2, 1) := dk_28 (dk_at dksX20_begins_0 18 rfl rfl)
theorem dX20_begins_19 : decode cX20_begins 19 = .ok (.iadd, 1) := dk_96 (dk_at dksX20_begins_0 19 rfl rfl)
theorem dX20_begins_20 : decode cX20_begins 20 = .ok (.iconst (-1), 1) := dk_2 (dk_at dksX20_begins_0 20 rfl rfl)
theorem dX20_begins_21 : decode cX20_begins 21 = .ok (.iastore, 1) := dk_79 (dk_at dksX20_begins_0 21 rfl rfl)
theorem dX20_begins_22 : decode cX20_begins 22 = .ok (.aload_n 1, 1) := dk_43 (dk_at dksX20_begins_0 22 rfl rfl)
theorem dX20_begins_23 : decode cX20_begins 23 = .ok (.sipush 300, 3) := dk_17 1 44 (dk_at dksX20_begins_1 0 rfl rfl)
theorem dX20_begins_26 : decode cX20_begins 26 = .ok (.iload_n 2, 1) := dk_28 (dk_at dksX20_begins_1 3 rfl rfl)
theorem dX20_begins_27 : decode cX20_begins 27 = .ok (.iadd, 1) := dk_96 (dk_at dksX20_begins_1 4 rfl rfl)
theorem dX20_begins_28 : decode cX20_begins 28 = .ok (.iconst 1, 1) := dk_4 (dk_at dksX20_begins_1 5 rfl rfl)
theorem dX20_begins_29 : decode cX20_begins 29 = .ok (.iastore, 1) := dk_79 (dk_at dksX20_begins_1 6 rfl rfl)
theorem dX20_begins_30 : decode cX20_begins 30 = .ok (.aload_n 1, 1) := dk_43 (dk_at dksX20_begins_1 7 rfl rfl)
theorem dX20_begins_31 : decode cX20_begins 31 = .ok (.sipush 321, 3) := dk_17 1 65 (dk_at dksX20_begins_1 8 rfl rfl)
theorem dX20_begins_34 : decode cX20_begins 34 = .ok (.iload_n 2, 1) := dk_28 (dk_at dksX20_begins_1 11 rfl rfl)
theorem dX20_begins_35 : decode cX20_begins 35 = .ok (.iadd, 1) := dk_96 (dk_at dksX20_begins_1 12 rfl rfl)
theorem dX20_begins_36 : decode cX20_begins 36 = .ok (.aload_n 1, 1) := dk_43 (dk_at dksX20_begins_1 13 rfl rfl)
theorem dX20_begins_37 : decode cX20_begins 37 = .ok (.bipush 25, 2) := dk_16 25 (dk_at dksX20_begins_1 14 rfl rfl)
theorem dX20_begins_39 : decode cX20_begins 39 = .ok (.iaload, 1) := dk_46 (dk_at dksX20_begins_1 16 rfl rfl)
theorem dX20_begins_40 : decode cX20_begins 40 = .ok (.iastore, 1) := dk_79 (dk_at dksX20_begins_1 17 rfl rfl)
theorem dX20_begins_41 : decode cX20_begins 41 = .ok (.aload_n 1, 1) := dk_43 (dk_at dksX20_begins_1 18 rfl rfl)
theorem dX20_begins_42 : decode cX20_begins 42 = .ok (.sipush 152, 3) := dk_17 0 152 (dk_at dksX20_begins_1 19 rfl rfl)
theorem dX20_begins_45 : decode cX20_begins 45 = .ok (.aload_n 1, 1) := dk_43 (dk_at dksX20_begins_1 22 rfl rfl)
theorem dX20_begins_46 : decode cX20_begins 46 = .ok (.bipush 30, 2) := dk_16 30 (dk_at dksX20_begins_2 0 rfl rfl)
theorem dX20_begins_48 : decode cX20_begins 48 = .ok (.iaload, 1) := dk_46 (dk_at dksX20_begins_2 2 rfl rfl)
theorem dX20_begins_49 : decode cX20_begins 49 = .ok (.iadd, 1) := dk_96 (dk_at dksX20_begins_2 3 rfl rfl)
theorem dX20_begins_50 : decode cX20_begins 50 = .ok (.iload_n 2, 1) := dk_28 (dk_at dksX20_begins_2 4 rfl rfl)
theorem dX20_begins_51 : decode cX20_begins 51 = .ok (.iastore, 1) := dk_79 (dk_at dksX20_begins_2 5 rfl rfl)
theorem dX20_begins_52 : decode cX20_begins 52 = .ok (.aload_n 1, 1) := dk_43 (dk_at dksX20_begins_2 6 rfl rfl)
theorem dX20_begins_53 : decode cX20_begins 53 = .ok (.bipush 30, 2) := dk_16 30 (dk_at dksX20_begins_2 7 rfl rfl)
theorem dX20_begins_55 : decode cX20_begins 55 = .ok (.dup2, 1) := dk_92 (dk_at dksX20_begins_2 9 rfl rfl)
theorem dX20_begins_56 : decode cX20_begins 56 = .ok (.iaload, 1) := dk_46 (dk_at dksX20_begins_2 10 rfl rfl)
theorem dX20_begins_57 : decode cX20_begins 57 = .ok (.iconst 1, 1) := dk_4 (dk_at dksX20_begins_2 11 rfl rfl)
theorem dX20_begins_58 : decode cX20_begins 58 = .ok (.iadd, 1) := dk_96 (dk_at dksX20_begins_2 12 rfl rfl)
theorem dX20_begins_59 : decode cX20_begins 59 = .ok (.iastore, 1) := dk_79 (dk_at dksX20_begins_2 13 rfl rfl)
theorem dX20_begins_60 : decode cX20_begins 60 = .ok (.aload_n 1, 1) := dk_43 (dk_at dksX20_begins_2 14 rfl rfl)
theorem dX20_begins_61 : decode cX20_begins 61 = .ok (.bipush 12, 2) := dk_16 12 (dk_at dksX20_begins_2 15 rfl rfl)
theorem dX20_begins_63 : decode cX20_begins 63 = .ok (.aload_n 0, 1) := dk_42 (dk_at dksX20_begins_2 17 rfl rfl)
theorem dX20_begins_64 : decode cX20_begins 64 = .ok (.getfield 13, 3) := dk_180 0 13 (dk_at dksX20_begins_2 18 rfl rfl)
theorem dX20_begins_67 : decode cX20_begins 67 = .ok (.iload_n 2, 1) := dk_28 (dk_at dksX20_begins_2 21 rfl rfl)
theorem dX20_begins_68 : decode cX20_begins 68 = .ok (.iaload, 1) := dk_46 (dk_at dksX20_begins_2 22 rfl rfl)
theorem dX20_begins_69 : decode cX20_begins 69 = .ok (.iastore, 1) := dk_79 (dk_at dksX20_begins_2 23 rfl rfl)
theorem dX20_begins_70 : decode cX20_begins 70 = .ok (.aload_n 1, 1) := dk_43 (dk_at dksX20_begins_3 0 rfl rfl)
theorem dX20_begins_71 : decode cX20_begins 71 = .ok (.bipush 18, 2) := dk_16 18 (dk_at dksX20_begins_3 1 rfl rfl)
theorem dX20_begins_73 : decode cX20_begins 73 = .ok (.iconst 0, 1) := dk_3 (dk_at dksX20_begins_3 3 rfl rfl)
theorem dX20_begins_74 : decode cX20_begins 74 = .ok (.iastore, 1) := dk_79 (dk_at dksX20_begins_3 4 rfl rfl)
theorem dX20_begins_75 : decode cX20_begins 75 = .ok (.aload_n 0, 1) := dk_42 (dk_at dksX20_begins_3 5 rfl rfl)
theorem dX20_begins_76 : decode cX20_begins 76 = .ok (.aload_n 1, 1) := dk_43 (dk_at dksX20_begins_3 6 rfl rfl)
theorem dX20_begins_77 : decode cX20_begins 77 = .ok (.iconst 0, 1) := dk_3 (dk_at dksX20_begins_3 7 rfl rfl)
theorem dX20_begins_78 : decode cX20_begins 78 = .ok (.iconst 0, 1) := dk_3 (dk_at dksX20_begins_3 8 rfl rfl)
theorem dX20_begins_79 : decode cX20_begins 79 = .ok (.invokevirtual 173, 3) := dk_182 0 173 (dk_at dksX20_begins_3 9 rfl rfl)
theorem dX20_begins_82 : decode cX20_begins 82 = .ok (.aload_n 0, 1) := dk_42 (dk_at dksX20_begins_3 12 rfl rfl)
theorem dX20_begins_83 : decode cX20_begins 83 = .ok (.iload_n 2, 1) := dk_28 (dk_at dksX20_begins_3 13 rfl rfl)
theorem dX20_begins_84 : decode cX20_begins 84 = .ok (.putfield 151, 3) := dk_181 0 151 (dk_at dksX20_begins_3 14 rfl rfl)
theorem dX20_begins_87 : decode cX20_begins 87 = .ok (.aload_n 0, 1) := dk_42 (dk_at dksX20_begins_3 17 rfl rfl)
theorem dX20_begins_88 : decode cX20_begins 88 = .ok (.iconst 1, 1) := dk_4 (dk_at dksX20_begins_3 18 rfl rfl)
theorem dX20_begins_89 : decode cX20_begins 89 = .ok (.invokevirtual 131, 3) := dk_182 0 131 (dk_at dksX20_begins_3 19 rfl rfl)
theorem dX20_begins_92 : decode cX20_begins 92 = .ok (.iload_n 3, 1) := dk_29 (dk_at dksX20_begins_3 22 rfl rfl)
theorem dX20_begins_93 : decode cX20_begins 93 = .ok (.iconst 1, 1) := dk_4 (dk_at dksX20_begins_3 23 rfl rfl)
theorem dX20_begins_94 : decode cX20_begins 94 = .ok (.if_icmp .ne 8, 3) := dk_160 0 8 (dk_at dksX20_begins_4 0 rfl rfl)
theorem dX20_begins_97 : decode cX20_begins 97 = .ok (.aload_n 0, 1) := dk_42 (dk_at dksX20_begins_4 3 rfl rfl)
theorem dX20_begins_98 : decode cX20_begins 98 = .ok (.iconst 2, 1) := dk_5 (dk_at dksX20_begins_4 4 rfl rfl)
theorem dX20_begins_99 : decode cX20_begins 99 = .ok (.invokevirtual 131, 3) := dk_182 0 131 (dk_at dksX20_begins_4 5 rfl rfl)
theorem dX20_begins_102 : decode cX20_begins 102 = .ok (.aload_n 0, 1) := dk_42 (dk_at dksX20_begins_4 8 rfl rfl)
theorem dX20_begins_103 : decode cX20_begins 103 = .ok (.getfield 72, 3) := dk_180 0 72 (dk_at dksX20_begins_4 9 rfl rfl)
theorem dX20_begins_106 : decode cX20_begins 106 = .ok (.ifCond .eq 47, 3) := dk_153 0 47 (dk_at dksX20_begins_4 12 rfl rfl)
theorem dX20_begins_109 : decode cX20_begins 109 = .ok (.aload_n 1, 1) := dk_43 (dk_at dksX20_begins_4 15 rfl rfl)
theorem dX20_begins_110 : decode cX20_begins 110 = .ok (.bipush 30, 2) := dk_16 30 (dk_at dksX20_begins_4 16 rfl rfl)
theorem dX20_begins_112 : decode cX20_begins 112 = .ok (.iaload, 1) := dk_46 (dk_at dksX20_begins_4 18 rfl rfl)
theorem dX20_begins_113 : decode cX20_begins 113 = .ok (.aload_n 0, 1) := dk_42 (dk_at dksX20_begins_4 19 rfl rfl)
theorem dX20_begins_114 : decode cX20_begins 114 = .ok (.getfield 26, 3) := dk_180 0 26 (dk_at dksX20_begins_4 20 rfl rfl)
theorem dX20_begins_117 : decode cX20_begins 117 = .ok (.bipush 12, 2) := dk_16 12 (dk_at dksX20_begins_5 0 rfl rfl)
theorem dX20_begins_119 : decode cX20_begins 119 = .ok (.iaload, 1) := dk_46 (dk_at dksX20_begins_5 2 rfl rfl)
theorem dX20_begins_120 : decode cX20_begins 120 = .ok (.if_icmp .le 14, 3) := dk_164 0 14 (dk_at dksX20_begins_5 3 rfl rfl)
theorem dX20_begins_123 : decode cX20_begins 123 = .ok (.aload_n 0, 1) := dk_42 (dk_at dksX20_begins_5 6 rfl rfl)
theorem dX20_begins_124 : decode cX20_begins 124 = .ok (.getfield 26, 3) := dk_180 0 26 (dk_at dksX20_begins_5 7 rfl rfl)
theorem dX20_begins_127 : decode cX20_begins 127 = .ok (.bipush 12, 2) := dk_16 12 (dk_at dksX20_begins_5 10 rfl rfl)
theorem dX20_begins_129 : decode cX20_begins 129 = .ok (.aload_n 1, 1) := dk_43 (dk_at dksX20_begins_5 12 rfl rfl)
theorem dX20_begins_130 : decode cX20_begins 130 = .ok (.bipush 30, 2) := dk_16 30 (dk_at dksX20_begins_5 13 rfl rfl)
theorem dX20_begins_132 : decode cX20_begins 132 = .ok (.iaload, 1) := dk_46 (dk_at dksX20_begins_5 15 rfl rfl)
theorem dX20_begins_133 : decode cX20_begins 133 = .ok (.iastore, 1) := dk_79 (dk_at dksX20_begins_5 16 rfl rfl)
theorem dX20_begins_134 : decode cX20_begins 134 = .ok (.iload 4, 2) := dk_21 4 (dk_at dksX20_begins_5 17 rfl rfl)
theorem dX20_begins_136 : decode cX20_begins 136 = .ok (.aload_n 0, 1) := dk_42 (dk_at dksX20_begins_5 19 rfl rfl)
theorem dX20_begins_137 : decode cX20_begins 137 = .ok (.getfield 44, 3) := dk_180 0 44 (dk_at dksX20_begins_5 20 rfl rfl)
theorem dX20_begins_140 : decode cX20_begins 140 = .ok (.iload_n 2, 1) := dk_28 (dk_at dksX20_begins_5 23 rfl rfl)
theorem dX20_begins_141 : decode cX20_begins 141 = .ok (.iaload, 1) := dk_46 (dk_at dksX20_begins_6 0 rfl rfl)
theorem dX20_begins_142 : decode cX20_begins 142 = .ok (.if_icmp .le 11, 3) := dk_164 0 11 (dk_at dksX20_begins_6 1 rfl rfl)
theorem dX20_begins_145 : decode cX20_begins 145 = .ok (.aload_n 0, 1) := dk_42 (dk_at dksX20_begins_6 4 rfl rfl)
theorem dX20_begins_146 : decode cX20_begins 146 = .ok (.getfield 44, 3) := dk_180 0 44 (dk_at dksX20_begins_6 5 rfl rfl)
theorem dX20_begins_149 : decode cX20_begins 149 = .ok (.iload_n 2, 1) := dk_28 (dk_at dksX20_begins_6 8 rfl rfl)
theorem dX20_begins_150 : decode cX20_begins 150 = .ok (.iload 4, 2) := dk_21 4 (dk_at dksX20_begins_6 9 rfl rfl)
theorem dX20_begins_152 : decode cX20_begins 152 = .ok (.iastore, 1) := dk_79 (dk_at dksX20_begins_6 11 rfl rfl)
theorem dX20_begins_153 : decode cX20_begins 153 = .ok (.aload_n 0, 1) := dk_42 (dk_at dksX20_begins_6 12 rfl rfl)
theorem dX20_begins_154 : decode cX20_begins 154 = .ok (.iload_n 3, 1) := dk_29 (dk_at dksX20_begins_6 13 rfl rfl)
theorem dX20_begins_155 : decode cX20_begins 155 = .ok (.iload_n 2, 1) := dk_28 (dk_at dksX20_begins_6 14 rfl rfl)
theorem dX20_begins_156 : decode cX20_begins 156 = .ok (.iload 4, 2) := dk_21 4 (dk_at dksX20_begins_6 15 rfl rfl)
theorem dX20_begins_158 : decode cX20_begins 158 = .ok (.invokevirtual 147, 3) := dk_182 0 147 (dk_at dksX20_begins_6 17 rfl rfl)
theorem dX20_begins_161 : decode cX20_begins 161 = .ok (.return_, 1) := dk_177 (dk_at dksX20_begins_6 20 rfl rfl)
abbrev cX20_instructs : ByteArray := prog_52_method_42_code
def yX20_instructs : MethodName := ⟨RX20, "instructs", "([I)V"⟩
def dkwX20_instructs_17 : List UInt8 := [16, 40, 21, 5, 16, 15, 126, 96, 43, 21, 7, 46, 79, 177]
abbrev dktX20_instructs_17 : List UInt8 := dkwX20_instructs_17 ++ []
def dkwX20_instructs_16 : List UInt8 := [29, 16, 28, 160, 0, 20, 43, 21, 7, 43, 16, 40, 21, 5, 16, 15, 126, 96, 46, 79, 167, 0, 17, 43]
abbrev dktX20_instructs_16 : List UInt8 := dkwX20_instructs_16 ++ dktX20_instructs_17
def dkwX20_instructs_15 : List UInt8 := [184, 0, 244, 79, 167, 0, 57, 29, 16, 27, 160, 0, 14, 42, 43, 21, 7, 46, 182, 0, 247, 167, 0, 40]
abbrev dktX20_instructs_15 : List UInt8 := dkwX20_instructs_15 ++ dktX20_instructs_16
def dkwX20_instructs_14 : List UInt8 := [16, 15, 46, 96, 5, 100, 43, 16, 56, 43, 16, 15, 46, 96, 5, 100, 46, 21, 4, 96, 17, 2, 0]
abbrev dktX20_instructs_14 : List UInt8 := dkwX20_instructs_14 ++ dktX20_instructs_15
def dkwX20_instructs_13 : List UInt8 := [43, 21, 8, 46, 17, 1, 0, 184, 0, 244, 79, 167, 0, 97, 29, 16, 26, 160, 0, 37, 43, 16, 56, 43]
abbrev dktX20_instructs_13 : List UInt8 := dkwX20_instructs_13 ++ dktX20_instructs_14
def dkwX20_instructs_12 : List UInt8 := [21, 5, 182, 0, 240, 167, 0, 127, 29, 16, 25, 160, 0, 27, 43, 17, 0, 173, 21, 4, 16, 20, 112, 96]
abbrev dktX20_instructs_12 : List UInt8 := dkwX20_instructs_12 ++ dktX20_instructs_13
def dkwX20_instructs_11 : List UInt8 := [167, 0, 156, 29, 16, 25, 162, 0, 26, 42, 43, 29, 21, 4, 6, 126, 21, 5, 6, 126, 21, 7, 21, 8]
abbrev dktX20_instructs_11 : List UInt8 := dkwX20_instructs_11 ++ dktX20_instructs_12
def dkwX20_instructs_10 : List UInt8 := [17, 2, 0, 112, 182, 0, 233, 167, 0, 173, 29, 16, 20, 162, 0, 14, 42, 43, 29, 21, 4, 182, 0, 237]
abbrev dktX20_instructs_10 : List UInt8 := dkwX20_instructs_10 ++ dktX20_instructs_11
def dkwX20_instructs_9 : List UInt8 := [167, 0, 203, 29, 16, 14, 162, 0, 27, 42, 43, 29, 21, 7, 17, 1, 0, 21, 4, 104, 21, 5, 96]
abbrev dktX20_instructs_9 : List UInt8 := dkwX20_instructs_9 ++ dktX20_instructs_10
def dkwX20_instructs_8 : List UInt8 := [184, 0, 226, 182, 0, 230, 167, 0, 220, 29, 16, 8, 160, 0, 14, 43, 21, 7, 43, 21, 8, 46, 79]
abbrev dktX20_instructs_8 : List UInt8 := dkwX20_instructs_8 ++ dktX20_instructs_9
def dkwX20_instructs_7 : List UInt8 := [16, 8, 162, 0, 30, 42, 43, 21, 4, 16, 7, 126, 29, 43, 21, 7, 46, 43, 21, 8, 46, 21, 5]
abbrev dktX20_instructs_7 : List UInt8 := dkwX20_instructs_7 ++ dktX20_instructs_8
def dkwX20_instructs_6 : List UInt8 := [21, 5, 16, 7, 126, 96, 54, 8, 29, 4, 160, 0, 12, 43, 21, 7, 21, 5, 79, 167, 0, 253, 29]
abbrev dktX20_instructs_6 : List UInt8 := dkwX20_instructs_6 ++ dktX20_instructs_7
def dkwX20_instructs_5 : List UInt8 := [16, 12, 28, 178, 0, 223, 29, 46, 96, 17, 2, 0, 112, 79, 3, 21, 4, 16, 7, 126, 96, 54, 7, 3]
abbrev dktX20_instructs_5 : List UInt8 := dkwX20_instructs_5 ++ dktX20_instructs_6
def dkwX20_instructs_4 : List UInt8 := [182, 0, 180, 87, 177, 42, 16, 10, 182, 0, 131, 43, 16, 22, 178, 0, 220, 29, 46, 4, 100, 79, 43]
abbrev dktX20_instructs_4 : List UInt8 := dkwX20_instructs_4 ++ dktX20_instructs_5
def dkwX20_instructs_3 : List UInt8 := [177, 42, 43, 29, 21, 4, 21, 5, 182, 0, 216, 54, 6, 21, 6, 155, 0, 12, 42, 43, 21, 6]
abbrev dktX20_instructs_3 : List UInt8 := dkwX20_instructs_3 ++ dktX20_instructs_4
def dkwX20_instructs_2 : List UInt8 := [16, 24, 163, 0, 23, 43, 16, 19, 46, 155, 0, 16, 42, 43, 7, 3, 182, 0, 173, 42, 43, 182, 0, 167]
abbrev dktX20_instructs_2 : List UInt8 := dkwX20_instructs_2 ++ dktX20_instructs_3
def dkwX20_instructs_1 : List UInt8 := [54, 4, 42, 180, 0, 7, 28, 5, 96, 17, 2, 0, 112, 46, 54, 5, 29, 16, 20, 161, 0, 29, 29]
abbrev dktX20_instructs_1 : List UInt8 := dkwX20_instructs_1 ++ dktX20_instructs_2
def dkwX20_instructs_0 : List UInt8 := [43, 16, 12, 46, 61, 42, 180, 0, 7, 28, 46, 62, 42, 180, 0, 7, 28, 4, 96, 17, 2, 0, 112, 46]
abbrev dktX20_instructs_0 : List UInt8 := dkwX20_instructs_0 ++ dktX20_instructs_1
theorem dksX20_instructs_0 : cX20_instructs.data.toList.drop 0 = dktX20_instructs_0 := by decide +kernel
theorem dksX20_instructs_1 : cX20_instructs.data.toList.drop 24 = dktX20_instructs_1 := dk_seg dksX20_instructs_0 24 rfl rfl
theorem dksX20_instructs_2 : cX20_instructs.data.toList.drop 47 = dktX20_instructs_2 := dk_seg dksX20_instructs_1 23 rfl rfl
theorem dksX20_instructs_3 : cX20_instructs.data.toList.drop 71 = dktX20_instructs_3 := dk_seg dksX20_instructs_2 24 rfl rfl
theorem dksX20_instructs_4 : cX20_instructs.data.toList.drop 93 = dktX20_instructs_4 := dk_seg dksX20_instructs_3 22 rfl rfl
theorem dksX20_instructs_5 : cX20_instructs.data.toList.drop 116 = dktX20_instructs_5 := dk_seg dksX20_instructs_4 23 rfl rfl
theorem dksX20_instructs_6 : cX20_instructs.data.toList.drop 140 = dktX20_instructs_6 := dk_seg dksX20_instructs_5 24 rfl rfl
theorem dksX20_instructs_7 : cX20_instructs.data.toList.drop 163 = dktX20_instructs_7 := dk_seg dksX20_instructs_6 23 rfl rfl
theorem dksX20_instructs_8 : cX20_instructs.data.toList.drop 186 = dktX20_instructs_8 := dk_seg dksX20_instructs_7 23 rfl rfl
theorem dksX20_instructs_9 : cX20_instructs.data.toList.drop 209 = dktX20_instructs_9 := dk_seg dksX20_instructs_8 23 rfl rfl
theorem dksX20_instructs_10 : cX20_instructs.data.toList.drop 232 = dktX20_instructs_10 := dk_seg dksX20_instructs_9 23 rfl rfl
theorem dksX20_instructs_11 : cX20_instructs.data.toList.drop 256 = dktX20_instructs_11 := dk_seg dksX20_instructs_10 24 rfl rfl
theorem dksX20_instructs_12 : cX20_instructs.data.toList.drop 280 = dktX20_instructs_12 := dk_seg dksX20_instructs_11 24 rfl rfl
theorem dksX20_instructs_13 : cX20_instructs.data.toList.drop 304 = dktX20_instructs_13 := dk_seg dksX20_instructs_12 24 rfl rfl
theorem dksX20_instructs_14 : cX20_instructs.data.toList.drop 328 = dktX20_instructs_14 := dk_seg dksX20_instructs_13 24 rfl rfl
theorem dksX20_instructs_15 : cX20_instructs.data.toList.drop 351 = dktX20_instructs_15 := dk_seg dksX20_instructs_14 23 rfl rfl
theorem dksX20_instructs_16 : cX20_instructs.data.toList.drop 375 = dktX20_instructs_16 := dk_seg dksX20_instructs_15 24 rfl rfl
theorem dksX20_instructs_17 : cX20_instructs.data.toList.drop 399 = dktX20_instructs_17 := dk_seg dksX20_instructs_16 24 rfl rfl
theorem dX20_instructs_0 : decode cX20_instructs 0 = .ok (.aload_n 1, 1) := dk_43 (dk_at dksX20_instructs_0 0 rfl rfl)
theorem dX20_instructs_1 : decode cX20_instructs 1 = .ok (.bipush 12, 2) := dk_16 12 (dk_at dksX20_instructs_0 1 rfl rfl)
theorem dX20_instructs_3 : decode cX20_instructs 3 = .ok (.iaload, 1) := dk_46 (dk_at dksX20_instructs_0 3 rfl rfl)
theorem dX20_instructs_4 : decode cX20_instructs 4 = .ok (.istore_n 2, 1) := dk_61 (dk_at dksX20_instructs_0 4 rfl rfl)
theorem dX20_instructs_5 : decode cX20_instructs 5 = .ok (.aload_n 0, 1) := dk_42 (dk_at dksX20_instructs_0 5 rfl rfl)
theorem dX20_instructs_6 : decode cX20_instructs 6 = .ok (.getfield 7, 3) := dk_180 0 7 (dk_at dksX20_instructs_0 6 rfl rfl)
theorem dX20_instructs_9 : decode cX20_instructs 9 = .ok (.iload_n 2, 1) := dk_28 (dk_at dksX20_instructs_0 9 rfl rfl)
theorem dX20_instructs_10 : decode cX20_instructs 10 = .ok (.iaload, 1) := dk_46 (dk_at dksX20_instructs_0 10 rfl rfl)
theorem dX20_instructs_11 : decode cX20_instructs 11 = .ok (.istore_n 3, 1) := dk_62 (dk_at dksX20_instructs_0 11 rfl rfl)
theorem dX20_instructs_12 : decode cX20_instructs 12 = .ok (.aload_n 0, 1) := dk_42 (dk_at dksX20_instructs_0 12 rfl rfl)
theorem dX20_instructs_13 : decode cX20_instructs 13 = .ok (.getfield 7, 3) := dk_180 0 7 (dk_at dksX20_instructs_0 13 rfl rfl)
theorem dX20_instructs_16 : decode cX20_instructs 16 = .ok (.iload_n 2, 1) := dk_28 (dk_at dksX20_instructs_0 16 rfl rfl)
theorem dX20_instructs_17 : decode cX20_instructs 17 = .ok (.iconst 1, 1) := dk_4 (dk_at dksX20_instructs_0 17 rfl rfl)
theorem dX20_instructs_18 : decode cX20_instructs 18 = .ok (.iadd, 1) := dk_96 (dk_at dksX20_instructs_0 18 rfl rfl)
theorem dX20_instructs_19 : decode cX20_instructs 19 = .ok (.sipush 512, 3) := dk_17 2 0 (dk_at dksX20_instructs_0 19 rfl rfl)
theorem dX20_instructs_22 : decode cX20_instructs 22 = .ok (.irem, 1) := dk_112 (dk_at dksX20_instructs_0 22 rfl rfl)
theorem dX20_instructs_23 : decode cX20_instructs 23 = .ok (.iaload, 1) := dk_46 (dk_at dksX20_instructs_0 23 rfl rfl)
theorem dX20_instructs_24 : decode cX20_instructs 24 = .ok (.istore 4, 2) := dk_54 4 (dk_at dksX20_instructs_1 0 rfl rfl)
theorem dX20_instructs_26 : decode cX20_instructs 26 = .ok (.aload_n 0, 1) := dk_42 (dk_at dksX20_instructs_1 2 rfl rfl)
theorem dX20_instructs_27 : decode cX20_instructs 27 = .ok (.getfield 7, 3) := dk_180 0 7 (dk_at dksX20_instructs_1 3 rfl rfl)
theorem dX20_instructs_30 : decode cX20_instructs 30 = .ok (.iload_n 2, 1) := dk_28 (dk_at dksX20_instructs_1 6 rfl rfl)
theorem dX20_instructs_31 : decode cX20_instructs 31 = .ok (.iconst 2, 1) := dk_5 (dk_at dksX20_instructs_1 7 rfl rfl)
theorem dX20_instructs_32 : decode cX20_instructs 32 = .ok (.iadd, 1) := dk_96 (dk_at dksX20_instructs_1 8 rfl rfl)
theorem dX20_instructs_33 : decode cX20_instructs 33 = .ok (.sipush 512, 3) := dk_17 2 0 (dk_at dksX20_instructs_1 9 rfl rfl)
theorem dX20_instructs_36 : decode cX20_instructs 36 = .ok (.irem, 1) := dk_112 (dk_at dksX20_instructs_1 12 rfl rfl)
theorem dX20_instructs_37 : decode cX20_instructs 37 = .ok (.iaload, 1) := dk_46 (dk_at dksX20_instructs_1 13 rfl rfl)
theorem dX20_instructs_38 : decode cX20_instructs 38 = .ok (.istore 5, 2) := dk_54 5 (dk_at dksX20_instructs_1 14 rfl rfl)
theorem dX20_instructs_40 : decode cX20_instructs 40 = .ok (.iload_n 3, 1) := dk_29 (dk_at dksX20_instructs_1 16 rfl rfl)
theorem dX20_instructs_41 : decode cX20_instructs 41 = .ok (.bipush 20, 2) := dk_16 20 (dk_at dksX20_instructs_1 17 rfl rfl)
theorem dX20_instructs_43 : decode cX20_instructs 43 = .ok (.if_icmp .lt 29, 3) := dk_161 0 29 (dk_at dksX20_instructs_1 19 rfl rfl)
theorem dX20_instructs_46 : decode cX20_instructs 46 = .ok (.iload_n 3, 1) := dk_29 (dk_at dksX20_instructs_1 22 rfl rfl)
theorem dX20_instructs_47 : decode cX20_instructs 47 = .ok (.bipush 24, 2) := dk_16 24 (dk_at dksX20_instructs_2 0 rfl rfl)
theorem dX20_instructs_49 : decode cX20_instructs 49 = .ok (.if_icmp .gt 23, 3) := dk_163 0 23 (dk_at dksX20_instructs_2 2 rfl rfl)
theorem dX20_instructs_52 : decode cX20_instructs 52 = .ok (.aload_n 1, 1) := dk_43 (dk_at dksX20_instructs_2 5 rfl rfl)
theorem dX20_instructs_53 : decode cX20_instructs 53 = .ok (.bipush 19, 2) := dk_16 19 (dk_at dksX20_instructs_2 6 rfl rfl)
theorem dX20_instructs_55 : decode cX20_instructs 55 = .ok (.iaload, 1) := dk_46 (dk_at dksX20_instructs_2 8 rfl rfl)
theorem dX20_instructs_56 : decode cX20_instructs 56 = .ok (.ifCond .lt 16, 3) := dk_155 0 16 (dk_at dksX20_instructs_2 9 rfl rfl)
theorem dX20_instructs_59 : decode cX20_instructs 59 = .ok (.aload_n 0, 1) := dk_42 (dk_at dksX20_instructs_2 12 rfl rfl)
theorem dX20_instructs_60 : decode cX20_instructs 60 = .ok (.aload_n 1, 1) := dk_43 (dk_at dksX20_instructs_2 13 rfl rfl)
theorem dX20_instructs_61 : decode cX20_instructs 61 = .ok (.iconst 4, 1) := dk_7 (dk_at dksX20_instructs_2 14 rfl rfl)
theorem dX20_instructs_62 : decode cX20_instructs 62 = .ok (.iconst 0, 1) := dk_3 (dk_at dksX20_instructs_2 15 rfl rfl)
theorem dX20_instructs_63 : decode cX20_instructs 63 = .ok (.invokevirtual 173, 3) := dk_182 0 173 (dk_at dksX20_instructs_2 16 rfl rfl)
theorem dX20_instructs_66 : decode cX20_instructs 66 = .ok (.aload_n 0, 1) := dk_42 (dk_at dksX20_instructs_2 19 rfl rfl)
theorem dX20_instructs_67 : decode cX20_instructs 67 = .ok (.aload_n 1, 1) := dk_43 (dk_at dksX20_instructs_2 20 rfl rfl)
theorem dX20_instructs_68 : decode cX20_instructs 68 = .ok (.invokevirtual 167, 3) := dk_182 0 167 (dk_at dksX20_instructs_2 21 rfl rfl)
theorem dX20_instructs_71 : decode cX20_instructs 71 = .ok (.return_, 1) := dk_177 (dk_at dksX20_instructs_3 0 rfl rfl)
theorem dX20_instructs_72 : decode cX20_instructs 72 = .ok (.aload_n 0, 1) := dk_42 (dk_at dksX20_instructs_3 1 rfl rfl)
theorem dX20_instructs_73 : decode cX20_instructs 73 = .ok (.aload_n 1, 1) := dk_43 (dk_at dksX20_instructs_3 2 rfl rfl)
theorem dX20_instructs_74 : decode cX20_instructs 74 = .ok (.iload_n 3, 1) := dk_29 (dk_at dksX20_instructs_3 3 rfl rfl)
theorem dX20_instructs_75 : decode cX20_instructs 75 = .ok (.iload 4, 2) := dk_21 4 (dk_at dksX20_instructs_3 4 rfl rfl)
theorem dX20_instructs_77 : decode cX20_instructs 77 = .ok (.iload 5, 2) := dk_21 5 (dk_at dksX20_instructs_3 6 rfl rfl)
theorem dX20_instructs_79 : decode cX20_instructs 79 = .ok (.invokevirtual 216, 3) := dk_182 0 216 (dk_at dksX20_instructs_3 8 rfl rfl)
theorem dX20_instructs_82 : decode cX20_instructs 82 = .ok (.istore 6, 2) := dk_54 6 (dk_at dksX20_instructs_3 11 rfl rfl)
theorem dX20_instructs_84 : decode cX20_instructs 84 = .ok (.iload 6, 2) := dk_21 6 (dk_at dksX20_instructs_3 13 rfl rfl)
theorem dX20_instructs_86 : decode cX20_instructs 86 = .ok (.ifCond .lt 12, 3) := dk_155 0 12 (dk_at dksX20_instructs_3 15 rfl rfl)
theorem dX20_instructs_89 : decode cX20_instructs 89 = .ok (.aload_n 0, 1) := dk_42 (dk_at dksX20_instructs_3 18 rfl rfl)
theorem dX20_instructs_90 : decode cX20_instructs 90 = .ok (.aload_n 1, 1) := dk_43 (dk_at dksX20_instructs_3 19 rfl rfl)
theorem dX20_instructs_91 : decode cX20_instructs 91 = .ok (.iload 6, 2) := dk_21 6 (dk_at dksX20_instructs_3 20 rfl rfl)
theorem dX20_instructs_93 : decode cX20_instructs 93 = .ok (.invokevirtual 180, 3) := dk_182 0 180 (dk_at dksX20_instructs_4 0 rfl rfl)
theorem dX20_instructs_96 : decode cX20_instructs 96 = .ok (.pop, 1) := dk_87 (dk_at dksX20_instructs_4 3 rfl rfl)
theorem dX20_instructs_97 : decode cX20_instructs 97 = .ok (.return_, 1) := dk_177 (dk_at dksX20_instructs_4 4 rfl rfl)
theorem dX20_instructs_98 : decode cX20_instructs 98 = .ok (.aload_n 0, 1) := dk_42 (dk_at dksX20_instructs_4 5 rfl rfl)
theorem dX20_instructs_99 : decode cX20_instructs 99 = .ok (.bipush 10, 2) := dk_16 10 (dk_at dksX20_instructs_4 6 rfl rfl)
theorem dX20_instructs_101 : decode cX20_instructs 101 = .ok (.invokevirtual 131, 3) := dk_182 0 131 (dk_at dksX20_instructs_4 8 rfl rfl)
theorem dX20_instructs_104 : decode cX20_instructs 104 = .ok (.aload_n 1, 1) := dk_43 (dk_at dksX20_instructs_4 11 rfl rfl)
theorem dX20_instructs_105 : decode cX20_instructs 105 = .ok (.bipush 22, 2) := dk_16 22 (dk_at dksX20_instructs_4 12 rfl rfl)
theorem dX20_instructs_107 : decode cX20_instructs 107 = .ok (.getstatic 220, 3) := dk_178 0 220 (dk_at dksX20_instructs_4 14 rfl rfl)
theorem dX20_instructs_110 : decode cX20_instructs 110 = .ok (.iload_n 3, 1) := dk_29 (dk_at dksX20_instructs_4 17 rfl rfl)
theorem dX20_instructs_111 : decode cX20_instructs 111 = .ok (.iaload, 1) := dk_46 (dk_at dksX20_instructs_4 18 rfl rfl)
theorem dX20_instructs_112 : decode cX20_instructs 112 = .ok (.iconst 1, 1) := dk_4 (dk_at dksX20_instructs_4 19 rfl rfl)
theorem dX20_instructs_113 : decode cX20_instructs 113 = .ok (.isub, 1) := dk_100 (dk_at dksX20_instructs_4 20 rfl rfl)
theorem dX20_instructs_114 : decode cX20_instructs 114 = .ok (.iastore, 1) := dk_79 (dk_at dksX20_instructs_4 21 rfl rfl)
theorem dX20_instructs_115 : decode cX20_instructs 115 = .ok (.aload_n 1, 1) := dk_43 (dk_at dksX20_instructs_4 22 rfl rfl)
theorem dX20_instructs_116 : decode cX20_instructs 116 = .ok (.bipush 12, 2) := dk_16 12 (dk_at dksX20_instructs_5 0 rfl rfl)
theorem dX20_instructs_118 : decode cX20_instructs 118 = .ok (.iload_n 2, 1) := dk_28 (dk_at dksX20_instructs_5 2 rfl rfl)
theorem dX20_instructs_119 : decode cX20_instructs 119 = .ok (.getstatic 223, 3) := dk_178 0 223 (dk_at dksX20_instructs_5 3 rfl rfl)
theorem dX20_instructs_122 : decode cX20_instructs 122 = .ok (.iload_n 3, 1) := dk_29 (dk_at dksX20_instructs_5 6 rfl rfl)
theorem dX20_instructs_123 : decode cX20_instructs 123 = .ok (.iaload, 1) := dk_46 (dk_at dksX20_instructs_5 7 rfl rfl)
theorem dX20_instructs_124 : decode cX20_instructs 124 = .ok (.iadd, 1) := dk_96 (dk_at dksX20_instructs_5 8 rfl rfl)
theorem dX20_instructs_125 : decode cX20_instructs 125 = .ok (.sipush 512, 3) := dk_17 2 0 (dk_at dksX20_instructs_5 9 rfl rfl)
theorem dX20_instructs_128 : decode cX20_instructs 128 = .ok (.irem, 1) := dk_112 (dk_at dksX20_instructs_5 12 rfl rfl)
theorem dX20_instructs_129 : decode cX20_instructs 129 = .ok (.iastore, 1) := dk_79 (dk_at dksX20_instructs_5 13 rfl rfl)
theorem dX20_instructs_130 : decode cX20_instructs 130 = .ok (.iconst 0, 1) := dk_3 (dk_at dksX20_instructs_5 14 rfl rfl)
theorem dX20_instructs_131 : decode cX20_instructs 131 = .ok (.iload 4, 2) := dk_21 4 (dk_at dksX20_instructs_5 15 rfl rfl)
theorem dX20_instructs_133 : decode cX20_instructs 133 = .ok (.bipush 7, 2) := dk_16 7 (dk_at dksX20_instructs_5 17 rfl rfl)
theorem dX20_instructs_135 : decode cX20_instructs 135 = .ok (.iand, 1) := dk_126 (dk_at dksX20_instructs_5 19 rfl rfl)
theorem dX20_instructs_136 : decode cX20_instructs 136 = .ok (.iadd, 1) := dk_96 (dk_at dksX20_instructs_5 20 rfl rfl)
theorem dX20_instructs_137 : decode cX20_instructs 137 = .ok (.istore 7, 2) := dk_54 7 (dk_at dksX20_instructs_5 21 rfl rfl)
theorem dX20_instructs_139 : decode cX20_instructs 139 = .ok (.iconst 0, 1) := dk_3 (dk_at dksX20_instructs_5 23 rfl rfl)
theorem dX20_instructs_140 : decode cX20_instructs 140 = .ok (.iload 5, 2) := dk_21 5 (dk_at dksX20_instructs_6 0 rfl rfl)
theorem dX20_instructs_142 : decode cX20_instructs 142 = .ok (.bipush 7, 2) := dk_16 7 (dk_at dksX20_instructs_6 2 rfl rfl)
theorem dX20_instructs_144 : decode cX20_instructs 144 = .ok (.iand, 1) := dk_126 (dk_at dksX20_instructs_6 4 rfl rfl)
theorem dX20_instructs_145 : decode cX20_instructs 145 = .ok (.iadd, 1) := dk_96 (dk_at dksX20_instructs_6 5 rfl rfl)
theorem dX20_instructs_146 : decode cX20_instructs 146 = .ok (.istore 8, 2) := dk_54 8 (dk_at dksX20_instructs_6 6 rfl rfl)
theorem dX20_instructs_148 : decode cX20_instructs 148 = .ok (.iload_n 3, 1) := dk_29 (dk_at dksX20_instructs_6 8 rfl rfl)
theorem dX20_instructs_149 : decode cX20_instructs 149 = .ok (.iconst 1, 1) := dk_4 (dk_at dksX20_instructs_6 9 rfl rfl)
theorem dX20_instructs_150 : decode cX20_instructs 150 = .ok (.if_icmp .ne 12, 3) := dk_160 0 12 (dk_at dksX20_instructs_6 10 rfl rfl)
theorem dX20_instructs_153 : decode cX20_instructs 153 = .ok (.aload_n 1, 1) := dk_43 (dk_at dksX20_instructs_6 13 rfl rfl)
theorem dX20_instructs_154 : decode cX20_instructs 154 = .ok (.iload 7, 2) := dk_21 7 (dk_at dksX20_instructs_6 14 rfl rfl)
theorem dX20_instructs_156 : decode cX20_instructs 156 = .ok (.iload 5, 2) := dk_21 5 (dk_at dksX20_instructs_6 16 rfl rfl)
theorem dX20_instructs_158 : decode cX20_instructs 158 = .ok (.iastore, 1) := dk_79 (dk_at dksX20_instructs_6 18 rfl rfl)
theorem dX20_instructs_159 : decode cX20_instructs 159 = .ok (.goto 253, 3) := dk_167 0 253 (dk_at dksX20_instructs_6 19 rfl rfl)
theorem dX20_instructs_162 : decode cX20_instructs 162 = .ok (.iload_n 3, 1) := dk_29 (dk_at dksX20_instructs_6 22 rfl rfl)
theorem dX20_instructs_163 : decode cX20_instructs 163 = .ok (.bipush 8, 2) := dk_16 8 (dk_at dksX20_instructs_7 0 rfl rfl)
theorem dX20_instructs_165 : decode cX20_instructs 165 = .ok (.if_icmp .ge 30, 3) := dk_162 0 30 (dk_at dksX20_instructs_7 2 rfl rfl)
theorem dX20_instructs_168 : decode cX20_instructs 168 = .ok (.aload_n 0, 1) := dk_42 (dk_at dksX20_instructs_7 5 rfl rfl)
theorem dX20_instructs_169 : decode cX20_instructs 169 = .ok (.aload_n 1, 1) := dk_43 (dk_at dksX20_instructs_7 6 rfl rfl)
theorem dX20_instructs_170 : decode cX20_instructs 170 = .ok (.iload 4, 2) := dk_21 4 (dk_at dksX20_instructs_7 7 rfl rfl)
theorem dX20_instructs_172 : decode cX20_instructs 172 = .ok (.bipush 7, 2) := dk_16 7 (dk_at dksX20_instructs_7 9 rfl rfl)
theorem dX20_instructs_174 : decode cX20_instructs 174 = .ok (.iand, 1) := dk_126 (dk_at dksX20_instructs_7 11 rfl rfl)
theorem dX20_instructs_175 : decode cX20_instructs 175 = .ok (.iload_n 3, 1) := dk_29 (dk_at dksX20_instructs_7 12 rfl rfl)
theorem dX20_instructs_176 : decode cX20_instructs 176 = .ok (.aload_n 1, 1) := dk_43 (dk_at dksX20_instructs_7 13 rfl rfl)
theorem dX20_instructs_177 : decode cX20_instructs 177 = .ok (.iload 7, 2) := dk_21 7 (dk_at dksX20_instructs_7 14 rfl rfl)
theorem dX20_instructs_179 : decode cX20_instructs 179 = .ok (.iaload, 1) := dk_46 (dk_at dksX20_instructs_7 16 rfl rfl)
theorem dX20_instructs_180 : decode cX20_instructs 180 = .ok (.aload_n 1, 1) := dk_43 (dk_at dksX20_instructs_7 17 rfl rfl)
theorem dX20_instructs_181 : decode cX20_instructs 181 = .ok (.iload 8, 2) := dk_21 8 (dk_at dksX20_instructs_7 18 rfl rfl)
theorem dX20_instructs_183 : decode cX20_instructs 183 = .ok (.iaload, 1) := dk_46 (dk_at dksX20_instructs_7 20 rfl rfl)
theorem dX20_instructs_184 : decode cX20_instructs 184 = .ok (.iload 5, 2) := dk_21 5 (dk_at dksX20_instructs_7 21 rfl rfl)
theorem dX20_instructs_186 : decode cX20_instructs 186 = .ok (.invokestatic 226, 3) := dk_184 0 226 (dk_at dksX20_instructs_8 0 rfl rfl)
theorem dX20_instructs_189 : decode cX20_instructs 189 = .ok (.invokevirtual 230, 3) := dk_182 0 230 (dk_at dksX20_instructs_8 3 rfl rfl)
theorem dX20_instructs_192 : decode cX20_instructs 192 = .ok (.goto 220, 3) := dk_167 0 220 (dk_at dksX20_instructs_8 6 rfl rfl)
theorem dX20_instructs_195 : decode cX20_instructs 195 = .ok (.iload_n 3, 1) := dk_29 (dk_at dksX20_instructs_8 9 rfl rfl)
theorem dX20_instructs_196 : decode cX20_instructs 196 = .ok (.bipush 8, 2) := dk_16 8 (dk_at dksX20_instructs_8 10 rfl rfl)
theorem dX20_instructs_198 : decode cX20_instructs 198 = .ok (.if_icmp .ne 14, 3) := dk_160 0 14 (dk_at dksX20_instructs_8 12 rfl rfl)
theorem dX20_instructs_201 : decode cX20_instructs 201 = .ok (.aload_n 1, 1) := dk_43 (dk_at dksX20_instructs_8 15 rfl rfl)
theorem dX20_instructs_202 : decode cX20_instructs 202 = .ok (.iload 7, 2) := dk_21 7 (dk_at dksX20_instructs_8 16 rfl rfl)
theorem dX20_instructs_204 : decode cX20_instructs 204 = .ok (.aload_n 1, 1) := dk_43 (dk_at dksX20_instructs_8 18 rfl rfl)
theorem dX20_instructs_205 : decode cX20_instructs 205 = .ok (.iload 8, 2) := dk_21 8 (dk_at dksX20_instructs_8 19 rfl rfl)
theorem dX20_instructs_207 : decode cX20_instructs 207 = .ok (.iaload, 1) := dk_46 (dk_at dksX20_instructs_8 21 rfl rfl)
theorem dX20_instructs_208 : decode cX20_instructs 208 = .ok (.iastore, 1) := dk_79 (dk_at dksX20_instructs_8 22 rfl rfl)
theorem dX20_instructs_209 : decode cX20_instructs 209 = .ok (.goto 203, 3) := dk_167 0 203 (dk_at dksX20_instructs_9 0 rfl rfl)
theorem dX20_instructs_212 : decode cX20_instructs 212 = .ok (.iload_n 3, 1) := dk_29 (dk_at dksX20_instructs_9 3 rfl rfl)
theorem dX20_instructs_213 : decode cX20_instructs 213 = .ok (.bipush 14, 2) := dk_16 14 (dk_at dksX20_instructs_9 4 rfl rfl)
theorem dX20_instructs_215 : decode cX20_instructs 215 = .ok (.if_icmp .ge 27, 3) := dk_162 0 27 (dk_at dksX20_instructs_9 6 rfl rfl)
theorem dX20_instructs_218 : decode cX20_instructs 218 = .ok (.aload_n 0, 1) := dk_42 (dk_at dksX20_instructs_9 9 rfl rfl)
theorem dX20_instructs_219 : decode cX20_instructs 219 = .ok (.aload_n 1, 1) := dk_43 (dk_at dksX20_instructs_9 10 rfl rfl)
theorem dX20_instructs_220 : decode cX20_instructs 220 = .ok (.iload_n 3, 1) := dk_29 (dk_at dksX20_instructs_9 11 rfl rfl)
theorem dX20_instructs_221 : decode cX20_instructs 221 = .ok (.iload 7, 2) := dk_21 7 (dk_at dksX20_instructs_9 12 rfl rfl)
theorem dX20_instructs_223 : decode cX20_instructs 223 = .ok (.sipush 256, 3) := dk_17 1 0 (dk_at dksX20_instructs_9 14 rfl rfl)
theorem dX20_instructs_226 : decode cX20_instructs 226 = .ok (.iload 4, 2) := dk_21 4 (dk_at dksX20_instructs_9 17 rfl rfl)
theorem dX20_instructs_228 : decode cX20_instructs 228 = .ok (.imul, 1) := dk_104 (dk_at dksX20_instructs_9 19 rfl rfl)
theorem dX20_instructs_229 : decode cX20_instructs 229 = .ok (.iload 5, 2) := dk_21 5 (dk_at dksX20_instructs_9 20 rfl rfl)
theorem dX20_instructs_231 : decode cX20_instructs 231 = .ok (.iadd, 1) := dk_96 (dk_at dksX20_instructs_9 22 rfl rfl)
theorem dX20_instructs_232 : decode cX20_instructs 232 = .ok (.sipush 512, 3) := dk_17 2 0 (dk_at dksX20_instructs_10 0 rfl rfl)
theorem dX20_instructs_235 : decode cX20_instructs 235 = .ok (.irem, 1) := dk_112 (dk_at dksX20_instructs_10 3 rfl rfl)
theorem dX20_instructs_236 : decode cX20_instructs 236 = .ok (.invokevirtual 233, 3) := dk_182 0 233 (dk_at dksX20_instructs_10 4 rfl rfl)
theorem dX20_instructs_239 : decode cX20_instructs 239 = .ok (.goto 173, 3) := dk_167 0 173 (dk_at dksX20_instructs_10 7 rfl rfl)
theorem dX20_instructs_242 : decode cX20_instructs 242 = .ok (.iload_n 3, 1) := dk_29 (dk_at dksX20_instructs_10 10 rfl rfl)
theorem dX20_instructs_243 : decode cX20_instructs 243 = .ok (.bipush 20, 2) := dk_16 20 (dk_at dksX20_instructs_10 11 rfl rfl)
theorem dX20_instructs_245 : decode cX20_instructs 245 = .ok (.if_icmp .ge 14, 3) := dk_162 0 14 (dk_at dksX20_instructs_10 13 rfl rfl)
theorem dX20_instructs_248 : decode cX20_instructs 248 = .ok (.aload_n 0, 1) := dk_42 (dk_at dksX20_instructs_10 16 rfl rfl)
theorem dX20_instructs_249 : decode cX20_instructs 249 = .ok (.aload_n 1, 1) := dk_43 (dk_at dksX20_instructs_10 17 rfl rfl)
theorem dX20_instructs_250 : decode cX20_instructs 250 = .ok (.iload_n 3, 1) := dk_29 (dk_at dksX20_instructs_10 18 rfl rfl)
theorem dX20_instructs_251 : decode cX20_instructs 251 = .ok (.iload 4, 2) := dk_21 4 (dk_at dksX20_instructs_10 19 rfl rfl)
theorem dX20_instructs_253 : decode cX20_instructs 253 = .ok (.invokevirtual 237, 3) := dk_182 0 237 (dk_at dksX20_instructs_10 21 rfl rfl)
theorem dX20_instructs_256 : decode cX20_instructs 256 = .ok (.goto 156, 3) := dk_167 0 156 (dk_at dksX20_instructs_11 0 rfl rfl)
theorem dX20_instructs_259 : decode cX20_instructs 259 = .ok (.iload_n 3, 1) := dk_29 (dk_at dksX20_instructs_11 3 rfl rfl)
theorem dX20_instructs_260 : decode cX20_instructs 260 = .ok (.bipush 25, 2) := dk_16 25 (dk_at dksX20_instructs_11 4 rfl rfl)
theorem dX20_instructs_262 : decode cX20_instructs 262 = .ok (.if_icmp .ge 26, 3) := dk_162 0 26 (dk_at dksX20_instructs_11 6 rfl rfl)
theorem dX20_instructs_265 : decode cX20_instructs 265 = .ok (.aload_n 0, 1) := dk_42 (dk_at dksX20_instructs_11 9 rfl rfl)
theorem dX20_instructs_266 : decode cX20_instructs 266 = .ok (.aload_n 1, 1) := dk_43 (dk_at dksX20_instructs_11 10 rfl rfl)
theorem dX20_instructs_267 : decode cX20_instructs 267 = .ok (.iload_n 3, 1) := dk_29 (dk_at dksX20_instructs_11 11 rfl rfl)
theorem dX20_instructs_268 : decode cX20_instructs 268 = .ok (.iload 4, 2) := dk_21 4 (dk_at dksX20_instructs_11 12 rfl rfl)
theorem dX20_instructs_270 : decode cX20_instructs 270 = .ok (.iconst 3, 1) := dk_6 (dk_at dksX20_instructs_11 14 rfl rfl)
theorem dX20_instructs_271 : decode cX20_instructs 271 = .ok (.iand, 1) := dk_126 (dk_at dksX20_instructs_11 15 rfl rfl)
theorem dX20_instructs_272 : decode cX20_instructs 272 = .ok (.iload 5, 2) := dk_21 5 (dk_at dksX20_instructs_11 16 rfl rfl)
theorem dX20_instructs_274 : decode cX20_instructs 274 = .ok (.iconst 3, 1) := dk_6 (dk_at dksX20_instructs_11 18 rfl rfl)
theorem dX20_instructs_275 : decode cX20_instructs 275 = .ok (.iand, 1) := dk_126 (dk_at dksX20_instructs_11 19 rfl rfl)
theorem dX20_instructs_276 : decode cX20_instructs 276 = .ok (.iload 7, 2) := dk_21 7 (dk_at dksX20_instructs_11 20 rfl rfl)
theorem dX20_instructs_278 : decode cX20_instructs 278 = .ok (.iload 8, 2) := dk_21 8 (dk_at dksX20_instructs_11 22 rfl rfl)
theorem dX20_instructs_280 : decode cX20_instructs 280 = .ok (.iload 5, 2) := dk_21 5 (dk_at dksX20_instructs_12 0 rfl rfl)
theorem dX20_instructs_282 : decode cX20_instructs 282 = .ok (.invokevirtual 240, 3) := dk_182 0 240 (dk_at dksX20_instructs_12 2 rfl rfl)
theorem dX20_instructs_285 : decode cX20_instructs 285 = .ok (.goto 127, 3) := dk_167 0 127 (dk_at dksX20_instructs_12 5 rfl rfl)
theorem dX20_instructs_288 : decode cX20_instructs 288 = .ok (.iload_n 3, 1) := dk_29 (dk_at dksX20_instructs_12 8 rfl rfl)
theorem dX20_instructs_289 : decode cX20_instructs 289 = .ok (.bipush 25, 2) := dk_16 25 (dk_at dksX20_instructs_12 9 rfl rfl)
theorem dX20_instructs_291 : decode cX20_instructs 291 = .ok (.if_icmp .ne 27, 3) := dk_160 0 27 (dk_at dksX20_instructs_12 11 rfl rfl)
theorem dX20_instructs_294 : decode cX20_instructs 294 = .ok (.aload_n 1, 1) := dk_43 (dk_at dksX20_instructs_12 14 rfl rfl)
theorem dX20_instructs_295 : decode cX20_instructs 295 = .ok (.sipush 173, 3) := dk_17 0 173 (dk_at dksX20_instructs_12 15 rfl rfl)
theorem dX20_instructs_298 : decode cX20_instructs 298 = .ok (.iload 4, 2) := dk_21 4 (dk_at dksX20_instructs_12 18 rfl rfl)
theorem dX20_instructs_300 : decode cX20_instructs 300 = .ok (.bipush 20, 2) := dk_16 20 (dk_at dksX20_instructs_12 20 rfl rfl)
theorem dX20_instructs_302 : decode cX20_instructs 302 = .ok (.irem, 1) := dk_112 (dk_at dksX20_instructs_12 22 rfl rfl)
theorem dX20_instructs_303 : decode cX20_instructs 303 = .ok (.iadd, 1) := dk_96 (dk_at dksX20_instructs_12 23 rfl rfl)
theorem dX20_instructs_304 : decode cX20_instructs 304 = .ok (.aload_n 1, 1) := dk_43 (dk_at dksX20_instructs_13 0 rfl rfl)
theorem dX20_instructs_305 : decode cX20_instructs 305 = .ok (.iload 8, 2) := dk_21 8 (dk_at dksX20_instructs_13 1 rfl rfl)
theorem dX20_instructs_307 : decode cX20_instructs 307 = .ok (.iaload, 1) := dk_46 (dk_at dksX20_instructs_13 3 rfl rfl)
theorem dX20_instructs_308 : decode cX20_instructs 308 = .ok (.sipush 256, 3) := dk_17 1 0 (dk_at dksX20_instructs_13 4 rfl rfl)
theorem dX20_instructs_311 : decode cX20_instructs 311 = .ok (.invokestatic 244, 3) := dk_184 0 244 (dk_at dksX20_instructs_13 7 rfl rfl)
theorem dX20_instructs_314 : decode cX20_instructs 314 = .ok (.iastore, 1) := dk_79 (dk_at dksX20_instructs_13 10 rfl rfl)
theorem dX20_instructs_315 : decode cX20_instructs 315 = .ok (.goto 97, 3) := dk_167 0 97 (dk_at dksX20_instructs_13 11 rfl rfl)
theorem dX20_instructs_318 : decode cX20_instructs 318 = .ok (.iload_n 3, 1) := dk_29 (dk_at dksX20_instructs_13 14 rfl rfl)
theorem dX20_instructs_319 : decode cX20_instructs 319 = .ok (.bipush 26, 2) := dk_16 26 (dk_at dksX20_instructs_13 15 rfl rfl)
theorem dX20_instructs_321 : decode cX20_instructs 321 = .ok (.if_icmp .ne 37, 3) := dk_160 0 37 (dk_at dksX20_instructs_13 17 rfl rfl)
theorem dX20_instructs_324 : decode cX20_instructs 324 = .ok (.aload_n 1, 1) := dk_43 (dk_at dksX20_instructs_13 20 rfl rfl)
theorem dX20_instructs_325 : decode cX20_instructs 325 = .ok (.bipush 56, 2) := dk_16 56 (dk_at dksX20_instructs_13 21 rfl rfl)
theorem dX20_instructs_327 : decode cX20_instructs 327 = .ok (.aload_n 1, 1) := dk_43 (dk_at dksX20_instructs_13 23 rfl rfl)
theorem dX20_instructs_328 : decode cX20_instructs 328 = .ok (.bipush 15, 2) := dk_16 15 (dk_at dksX20_instructs_14 0 rfl rfl)
theorem dX20_instructs_330 : decode cX20_instructs 330 = .ok (.iaload, 1) := dk_46 (dk_at dksX20_instructs_14 2 rfl rfl)
theorem dX20_instructs_331 : decode cX20_instructs 331 = .ok (.iadd, 1) := dk_96 (dk_at dksX20_instructs_14 3 rfl rfl)
theorem dX20_instructs_332 : decode cX20_instructs 332 = .ok (.iconst 2, 1) := dk_5 (dk_at dksX20_instructs_14 4 rfl rfl)
theorem dX20_instructs_333 : decode cX20_instructs 333 = .ok (.isub, 1) := dk_100 (dk_at dksX20_instructs_14 5 rfl rfl)
theorem dX20_instructs_334 : decode cX20_instructs 334 = .ok (.aload_n 1, 1) := dk_43 (dk_at dksX20_instructs_14 6 rfl rfl)
theorem dX20_instructs_335 : decode cX20_instructs 335 = .ok (.bipush 56, 2) := dk_16 56 (dk_at dksX20_instructs_14 7 rfl rfl)
theorem dX20_instructs_337 : decode cX20_instructs 337 = .ok (.aload_n 1, 1) := dk_43 (dk_at dksX20_instructs_14 9 rfl rfl)
theorem dX20_instructs_338 : decode cX20_instructs 338 = .ok (.bipush 15, 2) := dk_16 15 (dk_at dksX20_instructs_14 10 rfl rfl)
theorem dX20_instructs_340 : decode cX20_instructs 340 = .ok (.iaload, 1) := dk_46 (dk_at dksX20_instructs_14 12 rfl rfl)
theorem dX20_instructs_341 : decode cX20_instructs 341 = .ok (.iadd, 1) := dk_96 (dk_at dksX20_instructs_14 13 rfl rfl)
theorem dX20_instructs_342 : decode cX20_instructs 342 = .ok (.iconst 2, 1) := dk_5 (dk_at dksX20_instructs_14 14 rfl rfl)
theorem dX20_instructs_343 : decode cX20_instructs 343 = .ok (.isub, 1) := dk_100 (dk_at dksX20_instructs_14 15 rfl rfl)
theorem dX20_instructs_344 : decode cX20_instructs 344 = .ok (.iaload, 1) := dk_46 (dk_at dksX20_instructs_14 16 rfl rfl)
theorem dX20_instructs_345 : decode cX20_instructs 345 = .ok (.iload 4, 2) := dk_21 4 (dk_at dksX20_instructs_14 17 rfl rfl)
theorem dX20_instructs_347 : decode cX20_instructs 347 = .ok (.iadd, 1) := dk_96 (dk_at dksX20_instructs_14 19 rfl rfl)
theorem dX20_instructs_348 : decode cX20_instructs 348 = .ok (.sipush 512, 3) := dk_17 2 0 (dk_at dksX20_instructs_14 20 rfl rfl)
theorem dX20_instructs_351 : decode cX20_instructs 351 = .ok (.invokestatic 244, 3) := dk_184 0 244 (dk_at dksX20_instructs_15 0 rfl rfl)
theorem dX20_instructs_354 : decode cX20_instructs 354 = .ok (.iastore, 1) := dk_79 (dk_at dksX20_instructs_15 3 rfl rfl)
theorem dX20_instructs_355 : decode cX20_instructs 355 = .ok (.goto 57, 3) := dk_167 0 57 (dk_at dksX20_instructs_15 4 rfl rfl)
theorem dX20_instructs_358 : decode cX20_instructs 358 = .ok (.iload_n 3, 1) := dk_29 (dk_at dksX20_instructs_15 7 rfl rfl)
theorem dX20_instructs_359 : decode cX20_instructs 359 = .ok (.bipush 27, 2) := dk_16 27 (dk_at dksX20_instructs_15 8 rfl rfl)
theorem dX20_instructs_361 : decode cX20_instructs 361 = .ok (.if_icmp .ne 14, 3) := dk_160 0 14 (dk_at dksX20_instructs_15 10 rfl rfl)
theorem dX20_instructs_364 : decode cX20_instructs 364 = .ok (.aload_n 0, 1) := dk_42 (dk_at dksX20_instructs_15 13 rfl rfl)
theorem dX20_instructs_365 : decode cX20_instructs 365 = .ok (.aload_n 1, 1) := dk_43 (dk_at dksX20_instructs_15 14 rfl rfl)
theorem dX20_instructs_366 : decode cX20_instructs 366 = .ok (.iload 7, 2) := dk_21 7 (dk_at dksX20_instructs_15 15 rfl rfl)
theorem dX20_instructs_368 : decode cX20_instructs 368 = .ok (.iaload, 1) := dk_46 (dk_at dksX20_instructs_15 17 rfl rfl)
theorem dX20_instructs_369 : decode cX20_instructs 369 = .ok (.invokevirtual 247, 3) := dk_182 0 247 (dk_at dksX20_instructs_15 18 rfl rfl)
theorem dX20_instructs_372 : decode cX20_instructs 372 = .ok (.goto 40, 3) := dk_167 0 40 (dk_at dksX20_instructs_15 21 rfl rfl)
theorem dX20_instructs_375 : decode cX20_instructs 375 = .ok (.iload_n 3, 1) := dk_29 (dk_at dksX20_instructs_16 0 rfl rfl)
theorem dX20_instructs_376 : decode cX20_instructs 376 = .ok (.bipush 28, 2) := dk_16 28 (dk_at dksX20_instructs_16 1 rfl rfl)
theorem dX20_instructs_378 : decode cX20_instructs 378 = .ok (.if_icmp .ne 20, 3) := dk_160 0 20 (dk_at dksX20_instructs_16 3 rfl rfl)
theorem dX20_instructs_381 : decode cX20_instructs 381 = .ok (.aload_n 1, 1) := dk_43 (dk_at dksX20_instructs_16 6 rfl rfl)
theorem dX20_instructs_382 : decode cX20_instructs 382 = .ok (.iload 7, 2) := dk_21 7 (dk_at dksX20_instructs_16 7 rfl rfl)
theorem dX20_instructs_384 : decode cX20_instructs 384 = .ok (.aload_n 1, 1) := dk_43 (dk_at dksX20_instructs_16 9 rfl rfl)
theorem dX20_instructs_385 : decode cX20_instructs 385 = .ok (.bipush 40, 2) := dk_16 40 (dk_at dksX20_instructs_16 10 rfl rfl)
theorem dX20_instructs_387 : decode cX20_instructs 387 = .ok (.iload 5, 2) := dk_21 5 (dk_at dksX20_instructs_16 12 rfl rfl)
theorem dX20_instructs_389 : decode cX20_instructs 389 = .ok (.bipush 15, 2) := dk_16 15 (dk_at dksX20_instructs_16 14 rfl rfl)
theorem dX20_instructs_391 : decode cX20_instructs 391 = .ok (.iand, 1) := dk_126 (dk_at dksX20_instructs_16 16 rfl rfl)
theorem dX20_instructs_392 : decode cX20_instructs 392 = .ok (.iadd, 1) := dk_96 (dk_at dksX20_instructs_16 17 rfl rfl)
theorem dX20_instructs_393 : decode cX20_instructs 393 = .ok (.iaload, 1) := dk_46 (dk_at dksX20_instructs_16 18 rfl rfl)
theorem dX20_instructs_394 : decode cX20_instructs 394 = .ok (.iastore, 1) := dk_79 (dk_at dksX20_instructs_16 19 rfl rfl)
theorem dX20_instructs_395 : decode cX20_instructs 395 = .ok (.goto 17, 3) := dk_167 0 17 (dk_at dksX20_instructs_16 20 rfl rfl)
theorem dX20_instructs_398 : decode cX20_instructs 398 = .ok (.aload_n 1, 1) := dk_43 (dk_at dksX20_instructs_16 23 rfl rfl)
theorem dX20_instructs_399 : decode cX20_instructs 399 = .ok (.bipush 40, 2) := dk_16 40 (dk_at dksX20_instructs_17 0 rfl rfl)
theorem dX20_instructs_401 : decode cX20_instructs 401 = .ok (.iload 5, 2) := dk_21 5 (dk_at dksX20_instructs_17 2 rfl rfl)
theorem dX20_instructs_403 : decode cX20_instructs 403 = .ok (.bipush 15, 2) := dk_16 15 (dk_at dksX20_instructs_17 4 rfl rfl)
theorem dX20_instructs_405 : decode cX20_instructs 405 = .ok (.iand, 1) := dk_126 (dk_at dksX20_instructs_17 6 rfl rfl)
theorem dX20_instructs_406 : decode cX20_instructs 406 = .ok (.iadd, 1) := dk_96 (dk_at dksX20_instructs_17 7 rfl rfl)
theorem dX20_instructs_407 : decode cX20_instructs 407 = .ok (.aload_n 1, 1) := dk_43 (dk_at dksX20_instructs_17 8 rfl rfl)
theorem dX20_instructs_408 : decode cX20_instructs 408 = .ok (.iload 7, 2) := dk_21 7 (dk_at dksX20_instructs_17 9 rfl rfl)
theorem dX20_instructs_410 : decode cX20_instructs 410 = .ok (.iaload, 1) := dk_46 (dk_at dksX20_instructs_17 11 rfl rfl)
theorem dX20_instructs_411 : decode cX20_instructs 411 = .ok (.iastore, 1) := dk_79 (dk_at dksX20_instructs_17 12 rfl rfl)
theorem dX20_instructs_412 : decode cX20_instructs 412 = .ok (.return_, 1) := dk_177 (dk_at dksX20_instructs_17 13 rfl rfl)
abbrev cX20_saves : ByteArray := prog_52_method_38_code
def yX20_saves : MethodName := ⟨RX20, "saves", "([I)V"⟩
def dkwX20_saves_2 : List UInt8 := [182, 0, 131, 42, 43, 3, 3, 182, 0, 173, 177]
abbrev dktX20_saves_2 : List UInt8 := dkwX20_saves_2 ++ []
def dkwX20_saves_1 : List UInt8 := [16, 21, 92, 46, 4, 96, 79, 43, 16, 21, 46, 7, 162, 0, 4, 177, 43, 16, 19, 2, 79, 42, 8]
abbrev dktX20_saves_1 : List UInt8 := dkwX20_saves_1 ++ dktX20_saves_2
def dkwX20_saves_0 : List UInt8 := [43, 16, 56, 43, 16, 19, 46, 96, 43, 16, 21, 46, 96, 43, 16, 8, 43, 16, 21, 46, 96, 46, 79, 43]
abbrev dktX20_saves_0 : List UInt8 := dkwX20_saves_0 ++ dktX20_saves_1
theorem dksX20_saves_0 : cX20_saves.data.toList.drop 0 = dktX20_saves_0 := by decide +kernel
theorem dksX20_saves_1 : cX20_saves.data.toList.drop 24 = dktX20_saves_1 := dk_seg dksX20_saves_0 24 rfl rfl
theorem dksX20_saves_2 : cX20_saves.data.toList.drop 47 = dktX20_saves_2 := dk_seg dksX20_saves_1 23 rfl rfl
theorem dX20_saves_0 : decode cX20_saves 0 = .ok (.aload_n 1, 1) := dk_43 (dk_at dksX20_saves_0 0 rfl rfl)
theorem dX20_saves_1 : decode cX20_saves 1 = .ok (.bipush 56, 2) := dk_16 56 (dk_at dksX20_saves_0 1 rfl rfl)
theorem dX20_saves_3 : decode cX20_saves 3 = .ok (.aload_n 1, 1) := dk_43 (dk_at dksX20_saves_0 3 rfl rfl)
theorem dX20_saves_4 : decode cX20_saves 4 = .ok (.bipush 19, 2) := dk_16 19 (dk_at dksX20_saves_0 4 rfl rfl)
theorem dX20_saves_6 : decode cX20_saves 6 = .ok (.iaload, 1) := dk_46 (dk_at dksX20_saves_0 6 rfl rfl)
theorem dX20_saves_7 : decode cX20_saves 7 = .ok (.iadd, 1) := dk_96 (dk_at dksX20_saves_0 7 rfl rfl)
theorem dX20_saves_8 : decode cX20_saves 8 = .ok (.aload_n 1, 1) := dk_43 (dk_at dksX20_saves_0 8 rfl rfl)
theorem dX20_saves_9 : decode cX20_saves 9 = .ok (.bipush 21, 2) := dk_16 21 (dk_at dksX20_saves_0 9 rfl rfl)
theorem dX20_saves_11 : decode cX20_saves 11 = .ok (.iaload, 1) := dk_46 (dk_at dksX20_saves_0 11 rfl rfl)
theorem dX20_saves_12 : decode cX20_saves 12 = .ok (.iadd, 1) := dk_96 (dk_at dksX20_saves_0 12 rfl rfl)
theorem dX20_saves_13 : decode cX20_saves 13 = .ok (.aload_n 1, 1) := dk_43 (dk_at dksX20_saves_0 13 rfl rfl)
theorem dX20_saves_14 : decode cX20_saves 14 = .ok (.bipush 8, 2) := dk_16 8 (dk_at dksX20_saves_0 14 rfl rfl)
theorem dX20_saves_16 : decode cX20_saves 16 = .ok (.aload_n 1, 1) := dk_43 (dk_at dksX20_saves_0 16 rfl rfl)
theorem dX20_saves_17 : decode cX20_saves 17 = .ok (.bipush 21, 2) := dk_16 21 (dk_at dksX20_saves_0 17 rfl rfl)
theorem dX20_saves_19 : decode cX20_saves 19 = .ok (.iaload, 1) := dk_46 (dk_at dksX20_saves_0 19 rfl rfl)
theorem dX20_saves_20 : decode cX20_saves 20 = .ok (.iadd, 1) := dk_96 (dk_at dksX20_saves_0 20 rfl rfl)
theorem dX20_saves_21 : decode cX20_saves 21 = .ok (.iaload, 1) := dk_46 (dk_at dksX20_saves_0 21 rfl rfl)
theorem dX20_saves_22 : decode cX20_saves 22 = .ok (.iastore, 1) := dk_79 (dk_at dksX20_saves_0 22 rfl rfl)
theorem dX20_saves_23 : decode cX20_saves 23 = .ok (.aload_n 1, 1) := dk_43 (dk_at dksX20_saves_0 23 rfl rfl)
theorem dX20_saves_24 : decode cX20_saves 24 = .ok (.bipush 21, 2) := dk_16 21 (dk_at dksX20_saves_1 0 rfl rfl)
theorem dX20_saves_26 : decode cX20_saves 26 = .ok (.dup2, 1) := dk_92 (dk_at dksX20_saves_1 2 rfl rfl)
theorem dX20_saves_27 : decode cX20_saves 27 = .ok (.iaload, 1) := dk_46 (dk_at dksX20_saves_1 3 rfl rfl)
theorem dX20_saves_28 : decode cX20_saves 28 = .ok (.iconst 1, 1) := dk_4 (dk_at dksX20_saves_1 4 rfl rfl)
theorem dX20_saves_29 : decode cX20_saves 29 = .ok (.iadd, 1) := dk_96 (dk_at dksX20_saves_1 5 rfl rfl)
theorem dX20_saves_30 : decode cX20_saves 30 = .ok (.iastore, 1) := dk_79 (dk_at dksX20_saves_1 6 rfl rfl)
theorem dX20_saves_31 : decode cX20_saves 31 = .ok (.aload_n 1, 1) := dk_43 (dk_at dksX20_saves_1 7 rfl rfl)
theorem dX20_saves_32 : decode cX20_saves 32 = .ok (.bipush 21, 2) := dk_16 21 (dk_at dksX20_saves_1 8 rfl rfl)
theorem dX20_saves_34 : decode cX20_saves 34 = .ok (.iaload, 1) := dk_46 (dk_at dksX20_saves_1 10 rfl rfl)
theorem dX20_saves_35 : decode cX20_saves 35 = .ok (.iconst 4, 1) := dk_7 (dk_at dksX20_saves_1 11 rfl rfl)
theorem dX20_saves_36 : decode cX20_saves 36 = .ok (.if_icmp .ge 4, 3) := dk_162 0 4 (dk_at dksX20_saves_1 12 rfl rfl)
theorem dX20_saves_39 : decode cX20_saves 39 = .ok (.return_, 1) := dk_177 (dk_at dksX20_saves_1 15 rfl rfl)
theorem dX20_saves_40 : decode cX20_saves 40 = .ok (.aload_n 1, 1) := dk_43 (dk_at dksX20_saves_1 16 rfl rfl)
theorem dX20_saves_41 : decode cX20_saves 41 = .ok (.bipush 19, 2) := dk_16 19 (dk_at dksX20_saves_1 17 rfl rfl)
theorem dX20_saves_43 : decode cX20_saves 43 = .ok (.iconst (-1), 1) := dk_2 (dk_at dksX20_saves_1 19 rfl rfl)
theorem dX20_saves_44 : decode cX20_saves 44 = .ok (.iastore, 1) := dk_79 (dk_at dksX20_saves_1 20 rfl rfl)
theorem dX20_saves_45 : decode cX20_saves 45 = .ok (.aload_n 0, 1) := dk_42 (dk_at dksX20_saves_1 21 rfl rfl)
theorem dX20_saves_46 : decode cX20_saves 46 = .ok (.iconst 5, 1) := dk_8 (dk_at dksX20_saves_1 22 rfl rfl)
theorem dX20_saves_47 : decode cX20_saves 47 = .ok (.invokevirtual 131, 3) := dk_182 0 131 (dk_at dksX20_saves_2 0 rfl rfl)
theorem dX20_saves_50 : decode cX20_saves 50 = .ok (.aload_n 0, 1) := dk_42 (dk_at dksX20_saves_2 3 rfl rfl)
theorem dX20_saves_51 : decode cX20_saves 51 = .ok (.aload_n 1, 1) := dk_43 (dk_at dksX20_saves_2 4 rfl rfl)
theorem dX20_saves_52 : decode cX20_saves 52 = .ok (.iconst 0, 1) := dk_3 (dk_at dksX20_saves_2 5 rfl rfl)
theorem dX20_saves_53 : decode cX20_saves 53 = .ok (.iconst 0, 1) := dk_3 (dk_at dksX20_saves_2 6 rfl rfl)
theorem dX20_saves_54 : decode cX20_saves 54 = .ok (.invokevirtual 173, 3) := dk_182 0 173 (dk_at dksX20_saves_2 7 rfl rfl)
theorem dX20_saves_57 : decode cX20_saves 57 = .ok (.return_, 1) := dk_177 (dk_at dksX20_saves_2 10 rfl rfl)
abbrev cX20_faultOf : ByteArray := prog_52_method_41_code
def yX20_faultOf : MethodName := ⟨RX20, "faultOf", "([IIII)I"⟩
def dkwX20_faultOf_8 : List UInt8 := [162, 0, 6, 16, 19, 172, 2, 172]
abbrev dktX20_faultOf_8 : List UInt8 := dkwX20_faultOf_8 ++ []
def dkwX20_faultOf_7 : List UInt8 := [16, 20, 112, 96, 46, 4, 160, 0, 6, 16, 18, 172, 28, 16, 26, 160, 0, 14, 43, 16, 15, 46, 5]
abbrev dktX20_faultOf_7 : List UInt8 := dkwX20_faultOf_7 ++ dktX20_faultOf_8
def dkwX20_faultOf_6 : List UInt8 := [184, 0, 213, 184, 0, 205, 154, 0, 6, 16, 18, 172, 28, 16, 25, 160, 0, 20, 43, 17, 1, 44, 29]
abbrev dktX20_faultOf_6 : List UInt8 := dkwX20_faultOf_6 ++ dktX20_faultOf_7
def dkwX20_faultOf_5 : List UInt8 := [28, 16, 22, 160, 0, 32, 43, 16, 8, 29, 6, 126, 96, 46, 43, 16, 8, 21, 4, 6, 126, 96, 46]
abbrev dktX20_faultOf_5 : List UInt8 := dkwX20_faultOf_5 ++ dktX20_faultOf_6
def dkwX20_faultOf_4 : List UInt8 := [126, 96, 46, 43, 16, 8, 21, 4, 6, 126, 96, 46, 184, 0, 209, 184, 0, 205, 154, 0, 6, 16, 18, 172]
abbrev dktX20_faultOf_4 : List UInt8 := dkwX20_faultOf_4 ++ dktX20_faultOf_5
def dkwX20_faultOf_3 : List UInt8 := [160, 0, 13, 43, 16, 30, 46, 154, 0, 6, 16, 18, 172, 28, 16, 21, 160, 0, 32, 43, 16, 8, 29, 6]
abbrev dktX20_faultOf_3 : List UInt8 := dkwX20_faultOf_3 ++ dktX20_faultOf_4
def dkwX20_faultOf_2 : List UInt8 := [16, 19, 172, 28, 16, 10, 160, 0, 13, 43, 16, 15, 46, 154, 0, 6, 16, 19, 172, 28, 16, 18]
abbrev dktX20_faultOf_2 : List UInt8 := dkwX20_faultOf_2 ++ dktX20_faultOf_3
def dkwX20_faultOf_1 : List UInt8 := [126, 96, 46, 154, 0, 6, 16, 18, 172, 28, 16, 9, 160, 0, 15, 43, 16, 15, 46, 16, 96, 160, 0, 6]
abbrev dktX20_faultOf_1 : List UInt8 := dkwX20_faultOf_1 ++ dktX20_faultOf_2
def dkwX20_faultOf_0 : List UInt8 := [28, 153, 0, 9, 28, 16, 29, 164, 0, 6, 16, 18, 172, 28, 8, 160, 0, 18, 43, 3, 21, 4, 16, 7]
abbrev dktX20_faultOf_0 : List UInt8 := dkwX20_faultOf_0 ++ dktX20_faultOf_1
theorem dksX20_faultOf_0 : cX20_faultOf.data.toList.drop 0 = dktX20_faultOf_0 := by decide +kernel
theorem dksX20_faultOf_1 : cX20_faultOf.data.toList.drop 24 = dktX20_faultOf_1 := dk_seg dksX20_faultOf_0 24 rfl rfl
theorem dksX20_faultOf_2 : cX20_faultOf.data.toList.drop 48 = dktX20_faultOf_2 := dk_seg dksX20_faultOf_1 24 rfl rfl
theorem dksX20_faultOf_3 : cX20_faultOf.data.toList.drop 70 = dktX20_faultOf_3 := dk_seg dksX20_faultOf_2 22 rfl rfl
theorem dksX20_faultOf_4 : cX20_faultOf.data.toList.drop 94 = dktX20_faultOf_4 := dk_seg dksX20_faultOf_3 24 rfl rfl
theorem dksX20_faultOf_5 : cX20_faultOf.data.toList.drop 118 = dktX20_faultOf_5 := dk_seg dksX20_faultOf_4 24 rfl rfl
theorem dksX20_faultOf_6 : cX20_faultOf.data.toList.drop 141 = dktX20_faultOf_6 := dk_seg dksX20_faultOf_5 23 rfl rfl
theorem dksX20_faultOf_7 : cX20_faultOf.data.toList.drop 164 = dktX20_faultOf_7 := dk_seg dksX20_faultOf_6 23 rfl rfl
theorem dksX20_faultOf_8 : cX20_faultOf.data.toList.drop 187 = dktX20_faultOf_8 := dk_seg dksX20_faultOf_7 23 rfl rfl
theorem dX20_faultOf_0 : decode cX20_faultOf 0 = .ok (.iload_n 2, 1) := dk_28 (dk_at dksX20_faultOf_0 0 rfl rfl)
theorem dX20_faultOf_1 : decode cX20_faultOf 1 = .ok (.ifCond .eq 9, 3) := dk_153 0 9 (dk_at dksX20_faultOf_0 1 rfl rfl)
theorem dX20_faultOf_4 : decode cX20_faultOf 4 = .ok (.iload_n 2, 1) := dk_28 (dk_at dksX20_faultOf_0 4 rfl rfl)
theorem dX20_faultOf_5 : decode cX20_faultOf 5 = .ok (.bipush 29, 2) := dk_16 29 (dk_at dksX20_faultOf_0 5 rfl rfl)
theorem dX20_faultOf_7 : decode cX20_faultOf 7 = .ok (.if_icmp .le 6, 3) := dk_164 0 6 (dk_at dksX20_faultOf_0 7 rfl rfl)
theorem dX20_faultOf_10 : decode cX20_faultOf 10 = .ok (.bipush 18, 2) := dk_16 18 (dk_at dksX20_faultOf_0 10 rfl rfl)
theorem dX20_faultOf_12 : decode cX20_faultOf 12 = .ok (.ireturn, 1) := dk_172 (dk_at dksX20_faultOf_0 12 rfl rfl)
theorem dX20_faultOf_13 : decode cX20_faultOf 13 = .ok (.iload_n 2, 1) := dk_28 (dk_at dksX20_faultOf_0 13 rfl rfl)
theorem dX20_faultOf_14 : decode cX20_faultOf 14 = .ok (.iconst 5, 1) := dk_8 (dk_at dksX20_faultOf_0 14 rfl rfl)
theorem dX20_faultOf_15 : decode cX20_faultOf 15 = .ok (.if_icmp .ne 18, 3) := dk_160 0 18 (dk_at dksX20_faultOf_0 15 rfl rfl)
theorem dX20_faultOf_18 : decode cX20_faultOf 18 = .ok (.aload_n 1, 1) := dk_43 (dk_at dksX20_faultOf_0 18 rfl rfl)
theorem dX20_faultOf_19 : decode cX20_faultOf 19 = .ok (.iconst 0, 1) := dk_3 (dk_at dksX20_faultOf_0 19 rfl rfl)
theorem dX20_faultOf_20 : decode cX20_faultOf 20 = .ok (.iload 4, 2) := dk_21 4 (dk_at dksX20_faultOf_0 20 rfl rfl)
theorem dX20_faultOf_22 : decode cX20_faultOf 22 = .ok (.bipush 7, 2) := dk_16 7 (dk_at dksX20_faultOf_0 22 rfl rfl)
theorem dX20_faultOf_24 : decode cX20_faultOf 24 = .ok (.iand, 1) := dk_126 (dk_at dksX20_faultOf_1 0 rfl rfl)
theorem dX20_faultOf_25 : decode cX20_faultOf 25 = .ok (.iadd, 1) := dk_96 (dk_at dksX20_faultOf_1 1 rfl rfl)
theorem dX20_faultOf_26 : decode cX20_faultOf 26 = .ok (.iaload, 1) := dk_46 (dk_at dksX20_faultOf_1 2 rfl rfl)
theorem dX20_faultOf_27 : decode cX20_faultOf 27 = .ok (.ifCond .ne 6, 3) := dk_154 0 6 (dk_at dksX20_faultOf_1 3 rfl rfl)
theorem dX20_faultOf_30 : decode cX20_faultOf 30 = .ok (.bipush 18, 2) := dk_16 18 (dk_at dksX20_faultOf_1 6 rfl rfl)
theorem dX20_faultOf_32 : decode cX20_faultOf 32 = .ok (.ireturn, 1) := dk_172 (dk_at dksX20_faultOf_1 8 rfl rfl)
theorem dX20_faultOf_33 : decode cX20_faultOf 33 = .ok (.iload_n 2, 1) := dk_28 (dk_at dksX20_faultOf_1 9 rfl rfl)
theorem dX20_faultOf_34 : decode cX20_faultOf 34 = .ok (.bipush 9, 2) := dk_16 9 (dk_at dksX20_faultOf_1 10 rfl rfl)
theorem dX20_faultOf_36 : decode cX20_faultOf 36 = .ok (.if_icmp .ne 15, 3) := dk_160 0 15 (dk_at dksX20_faultOf_1 12 rfl rfl)
theorem dX20_faultOf_39 : decode cX20_faultOf 39 = .ok (.aload_n 1, 1) := dk_43 (dk_at dksX20_faultOf_1 15 rfl rfl)
theorem dX20_faultOf_40 : decode cX20_faultOf 40 = .ok (.bipush 15, 2) := dk_16 15 (dk_at dksX20_faultOf_1 16 rfl rfl)
theorem dX20_faultOf_42 : decode cX20_faultOf 42 = .ok (.iaload, 1) := dk_46 (dk_at dksX20_faultOf_1 18 rfl rfl)
theorem dX20_faultOf_43 : decode cX20_faultOf 43 = .ok (.bipush 96, 2) := dk_16 96 (dk_at dksX20_faultOf_1 19 rfl rfl)
theorem dX20_faultOf_45 : decode cX20_faultOf 45 = .ok (.if_icmp .ne 6, 3) := dk_160 0 6 (dk_at dksX20_faultOf_1 21 rfl rfl)
theorem dX20_faultOf_48 : decode cX20_faultOf 48 = .ok (.bipush 19, 2) := dk_16 19 (dk_at dksX20_faultOf_2 0 rfl rfl)
theorem dX20_faultOf_50 : decode cX20_faultOf 50 = .ok (.ireturn, 1) := dk_172 (dk_at dksX20_faultOf_2 2 rfl rfl)
theorem dX20_faultOf_51 : decode cX20_faultOf 51 = .ok (.iload_n 2, 1) := dk_28 (dk_at dksX20_faultOf_2 3 rfl rfl)
theorem dX20_faultOf_52 : decode cX20_faultOf 52 = .ok (.bipush 10, 2) := dk_16 10 (dk_at dksX20_faultOf_2 4 rfl rfl)
theorem dX20_faultOf_54 : decode cX20_faultOf 54 = .ok (.if_icmp .ne 13, 3) := dk_160 0 13 (dk_at dksX20_faultOf_2 6 rfl rfl)
theorem dX20_faultOf_57 : decode cX20_faultOf 57 = .ok (.aload_n 1, 1) := dk_43 (dk_at dksX20_faultOf_2 9 rfl rfl)
theorem dX20_faultOf_58 : decode cX20_faultOf 58 = .ok (.bipush 15, 2) := dk_16 15 (dk_at dksX20_faultOf_2 10 rfl rfl)
theorem dX20_faultOf_60 : decode cX20_faultOf 60 = .ok (.iaload, 1) := dk_46 (dk_at dksX20_faultOf_2 12 rfl rfl)
theorem dX20_faultOf_61 : decode cX20_faultOf 61 = .ok (.ifCond .ne 6, 3) := dk_154 0 6 (dk_at dksX20_faultOf_2 13 rfl rfl)
theorem dX20_faultOf_64 : decode cX20_faultOf 64 = .ok (.bipush 19, 2) := dk_16 19 (dk_at dksX20_faultOf_2 16 rfl rfl)
theorem dX20_faultOf_66 : decode cX20_faultOf 66 = .ok (.ireturn, 1) := dk_172 (dk_at dksX20_faultOf_2 18 rfl rfl)
theorem dX20_faultOf_67 : decode cX20_faultOf 67 = .ok (.iload_n 2, 1) := dk_28 (dk_at dksX20_faultOf_2 19 rfl rfl)
theorem dX20_faultOf_68 : decode cX20_faultOf 68 = .ok (.bipush 18, 2) := dk_16 18 (dk_at dksX20_faultOf_2 20 rfl rfl)
theorem dX20_faultOf_70 : decode cX20_faultOf 70 = .ok (.if_icmp .ne 13, 3) := dk_160 0 13 (dk_at dksX20_faultOf_3 0 rfl rfl)
theorem dX20_faultOf_73 : decode cX20_faultOf 73 = .ok (.aload_n 1, 1) := dk_43 (dk_at dksX20_faultOf_3 3 rfl rfl)
theorem dX20_faultOf_74 : decode cX20_faultOf 74 = .ok (.bipush 30, 2) := dk_16 30 (dk_at dksX20_faultOf_3 4 rfl rfl)
theorem dX20_faultOf_76 : decode cX20_faultOf 76 = .ok (.iaload, 1) := dk_46 (dk_at dksX20_faultOf_3 6 rfl rfl)
theorem dX20_faultOf_77 : decode cX20_faultOf 77 = .ok (.ifCond .ne 6, 3) := dk_154 0 6 (dk_at dksX20_faultOf_3 7 rfl rfl)
theorem dX20_faultOf_80 : decode cX20_faultOf 80 = .ok (.bipush 18, 2) := dk_16 18 (dk_at dksX20_faultOf_3 10 rfl rfl)
theorem dX20_faultOf_82 : decode cX20_faultOf 82 = .ok (.ireturn, 1) := dk_172 (dk_at dksX20_faultOf_3 12 rfl rfl)
theorem dX20_faultOf_83 : decode cX20_faultOf 83 = .ok (.iload_n 2, 1) := dk_28 (dk_at dksX20_faultOf_3 13 rfl rfl)
theorem dX20_faultOf_84 : decode cX20_faultOf 84 = .ok (.bipush 21, 2) := dk_16 21 (dk_at dksX20_faultOf_3 14 rfl rfl)
theorem dX20_faultOf_86 : decode cX20_faultOf 86 = .ok (.if_icmp .ne 32, 3) := dk_160 0 32 (dk_at dksX20_faultOf_3 16 rfl rfl)
theorem dX20_faultOf_89 : decode cX20_faultOf 89 = .ok (.aload_n 1, 1) := dk_43 (dk_at dksX20_faultOf_3 19 rfl rfl)
theorem dX20_faultOf_90 : decode cX20_faultOf 90 = .ok (.bipush 8, 2) := dk_16 8 (dk_at dksX20_faultOf_3 20 rfl rfl)
theorem dX20_faultOf_92 : decode cX20_faultOf 92 = .ok (.iload_n 3, 1) := dk_29 (dk_at dksX20_faultOf_3 22 rfl rfl)
theorem dX20_faultOf_93 : decode cX20_faultOf 93 = .ok (.iconst 3, 1) := dk_6 (dk_at dksX20_faultOf_3 23 rfl rfl)
theorem dX20_faultOf_94 : decode cX20_faultOf 94 = .ok (.iand, 1) := dk_126 (dk_at dksX20_faultOf_4 0 rfl rfl)
theorem dX20_faultOf_95 : decode cX20_faultOf 95 = .ok (.iadd, 1) := dk_96 (dk_at dksX20_faultOf_4 1 rfl rfl)
theorem dX20_faultOf_96 : decode cX20_faultOf 96 = .ok (.iaload, 1) := dk_46 (dk_at dksX20_faultOf_4 2 rfl rfl)
theorem dX20_faultOf_97 : decode cX20_faultOf 97 = .ok (.aload_n 1, 1) := dk_43 (dk_at dksX20_faultOf_4 3 rfl rfl)
theorem dX20_faultOf_98 : decode cX20_faultOf 98 = .ok (.bipush 8, 2) := dk_16 8 (dk_at dksX20_faultOf_4 4 rfl rfl)
theorem dX20_faultOf_100 : decode cX20_faultOf 100 = .ok (.iload 4, 2) := dk_21 4 (dk_at dksX20_faultOf_4 6 rfl rfl)
theorem dX20_faultOf_102 : decode cX20_faultOf 102 = .ok (.iconst 3, 1) := dk_6 (dk_at dksX20_faultOf_4 8 rfl rfl)
theorem dX20_faultOf_103 : decode cX20_faultOf 103 = .ok (.iand, 1) := dk_126 (dk_at dksX20_faultOf_4 9 rfl rfl)
theorem dX20_faultOf_104 : decode cX20_faultOf 104 = .ok (.iadd, 1) := dk_96 (dk_at dksX20_faultOf_4 10 rfl rfl)
theorem dX20_faultOf_105 : decode cX20_faultOf 105 = .ok (.iaload, 1) := dk_46 (dk_at dksX20_faultOf_4 11 rfl rfl)
theorem dX20_faultOf_106 : decode cX20_faultOf 106 = .ok (.invokestatic 209, 3) := dk_184 0 209 (dk_at dksX20_faultOf_4 12 rfl rfl)
theorem dX20_faultOf_109 : decode cX20_faultOf 109 = .ok (.invokestatic 205, 3) := dk_184 0 205 (dk_at dksX20_faultOf_4 15 rfl rfl)
theorem dX20_faultOf_112 : decode cX20_faultOf 112 = .ok (.ifCond .ne 6, 3) := dk_154 0 6 (dk_at dksX20_faultOf_4 18 rfl rfl)
theorem dX20_faultOf_115 : decode cX20_faultOf 115 = .ok (.bipush 18, 2) := dk_16 18 (dk_at dksX20_faultOf_4 21 rfl rfl)
theorem dX20_faultOf_117 : decode cX20_faultOf 117 = .ok (.ireturn, 1) := dk_172 (dk_at dksX20_faultOf_4 23 rfl rfl)
theorem dX20_faultOf_118 : decode cX20_faultOf 118 = .ok (.iload_n 2, 1) := dk_28 (dk_at dksX20_faultOf_5 0 rfl rfl)
theorem dX20_faultOf_119 : decode cX20_faultOf 119 = .ok (.bipush 22, 2) := dk_16 22 (dk_at dksX20_faultOf_5 1 rfl rfl)
theorem dX20_faultOf_121 : decode cX20_faultOf 121 = .ok (.if_icmp .ne 32, 3) := dk_160 0 32 (dk_at dksX20_faultOf_5 3 rfl rfl)
theorem dX20_faultOf_124 : decode cX20_faultOf 124 = .ok (.aload_n 1, 1) := dk_43 (dk_at dksX20_faultOf_5 6 rfl rfl)
theorem dX20_faultOf_125 : decode cX20_faultOf 125 = .ok (.bipush 8, 2) := dk_16 8 (dk_at dksX20_faultOf_5 7 rfl rfl)
theorem dX20_faultOf_127 : decode cX20_faultOf 127 = .ok (.iload_n 3, 1) := dk_29 (dk_at dksX20_faultOf_5 9 rfl rfl)
theorem dX20_faultOf_128 : decode cX20_faultOf 128 = .ok (.iconst 3, 1) := dk_6 (dk_at dksX20_faultOf_5 10 rfl rfl)
theorem dX20_faultOf_129 : decode cX20_faultOf 129 = .ok (.iand, 1) := dk_126 (dk_at dksX20_faultOf_5 11 rfl rfl)
theorem dX20_faultOf_130 : decode cX20_faultOf 130 = .ok (.iadd, 1) := dk_96 (dk_at dksX20_faultOf_5 12 rfl rfl)
theorem dX20_faultOf_131 : decode cX20_faultOf 131 = .ok (.iaload, 1) := dk_46 (dk_at dksX20_faultOf_5 13 rfl rfl)
theorem dX20_faultOf_132 : decode cX20_faultOf 132 = .ok (.aload_n 1, 1) := dk_43 (dk_at dksX20_faultOf_5 14 rfl rfl)
theorem dX20_faultOf_133 : decode cX20_faultOf 133 = .ok (.bipush 8, 2) := dk_16 8 (dk_at dksX20_faultOf_5 15 rfl rfl)
theorem dX20_faultOf_135 : decode cX20_faultOf 135 = .ok (.iload 4, 2) := dk_21 4 (dk_at dksX20_faultOf_5 17 rfl rfl)
theorem dX20_faultOf_137 : decode cX20_faultOf 137 = .ok (.iconst 3, 1) := dk_6 (dk_at dksX20_faultOf_5 19 rfl rfl)
theorem dX20_faultOf_138 : decode cX20_faultOf 138 = .ok (.iand, 1) := dk_126 (dk_at dksX20_faultOf_5 20 rfl rfl)
theorem dX20_faultOf_139 : decode cX20_faultOf 139 = .ok (.iadd, 1) := dk_96 (dk_at dksX20_faultOf_5 21 rfl rfl)
theorem dX20_faultOf_140 : decode cX20_faultOf 140 = .ok (.iaload, 1) := dk_46 (dk_at dksX20_faultOf_5 22 rfl rfl)
theorem dX20_faultOf_141 : decode cX20_faultOf 141 = .ok (.invokestatic 213, 3) := dk_184 0 213 (dk_at dksX20_faultOf_6 0 rfl rfl)
theorem dX20_faultOf_144 : decode cX20_faultOf 144 = .ok (.invokestatic 205, 3) := dk_184 0 205 (dk_at dksX20_faultOf_6 3 rfl rfl)
theorem dX20_faultOf_147 : decode cX20_faultOf 147 = .ok (.ifCond .ne 6, 3) := dk_154 0 6 (dk_at dksX20_faultOf_6 6 rfl rfl)
theorem dX20_faultOf_150 : decode cX20_faultOf 150 = .ok (.bipush 18, 2) := dk_16 18 (dk_at dksX20_faultOf_6 9 rfl rfl)
theorem dX20_faultOf_152 : decode cX20_faultOf 152 = .ok (.ireturn, 1) := dk_172 (dk_at dksX20_faultOf_6 11 rfl rfl)
theorem dX20_faultOf_153 : decode cX20_faultOf 153 = .ok (.iload_n 2, 1) := dk_28 (dk_at dksX20_faultOf_6 12 rfl rfl)
theorem dX20_faultOf_154 : decode cX20_faultOf 154 = .ok (.bipush 25, 2) := dk_16 25 (dk_at dksX20_faultOf_6 13 rfl rfl)
theorem dX20_faultOf_156 : decode cX20_faultOf 156 = .ok (.if_icmp .ne 20, 3) := dk_160 0 20 (dk_at dksX20_faultOf_6 15 rfl rfl)
theorem dX20_faultOf_159 : decode cX20_faultOf 159 = .ok (.aload_n 1, 1) := dk_43 (dk_at dksX20_faultOf_6 18 rfl rfl)
theorem dX20_faultOf_160 : decode cX20_faultOf 160 = .ok (.sipush 300, 3) := dk_17 1 44 (dk_at dksX20_faultOf_6 19 rfl rfl)
theorem dX20_faultOf_163 : decode cX20_faultOf 163 = .ok (.iload_n 3, 1) := dk_29 (dk_at dksX20_faultOf_6 22 rfl rfl)
theorem dX20_faultOf_164 : decode cX20_faultOf 164 = .ok (.bipush 20, 2) := dk_16 20 (dk_at dksX20_faultOf_7 0 rfl rfl)
theorem dX20_faultOf_166 : decode cX20_faultOf 166 = .ok (.irem, 1) := dk_112 (dk_at dksX20_faultOf_7 2 rfl rfl)
theorem dX20_faultOf_167 : decode cX20_faultOf 167 = .ok (.iadd, 1) := dk_96 (dk_at dksX20_faultOf_7 3 rfl rfl)
theorem dX20_faultOf_168 : decode cX20_faultOf 168 = .ok (.iaload, 1) := dk_46 (dk_at dksX20_faultOf_7 4 rfl rfl)
theorem dX20_faultOf_169 : decode cX20_faultOf 169 = .ok (.iconst 1, 1) := dk_4 (dk_at dksX20_faultOf_7 5 rfl rfl)
theorem dX20_faultOf_170 : decode cX20_faultOf 170 = .ok (.if_icmp .ne 6, 3) := dk_160 0 6 (dk_at dksX20_faultOf_7 6 rfl rfl)
theorem dX20_faultOf_173 : decode cX20_faultOf 173 = .ok (.bipush 18, 2) := dk_16 18 (dk_at dksX20_faultOf_7 9 rfl rfl)
theorem dX20_faultOf_175 : decode cX20_faultOf 175 = .ok (.ireturn, 1) := dk_172 (dk_at dksX20_faultOf_7 11 rfl rfl)
theorem dX20_faultOf_176 : decode cX20_faultOf 176 = .ok (.iload_n 2, 1) := dk_28 (dk_at dksX20_faultOf_7 12 rfl rfl)
theorem dX20_faultOf_177 : decode cX20_faultOf 177 = .ok (.bipush 26, 2) := dk_16 26 (dk_at dksX20_faultOf_7 13 rfl rfl)
theorem dX20_faultOf_179 : decode cX20_faultOf 179 = .ok (.if_icmp .ne 14, 3) := dk_160 0 14 (dk_at dksX20_faultOf_7 15 rfl rfl)
theorem dX20_faultOf_182 : decode cX20_faultOf 182 = .ok (.aload_n 1, 1) := dk_43 (dk_at dksX20_faultOf_7 18 rfl rfl)
theorem dX20_faultOf_183 : decode cX20_faultOf 183 = .ok (.bipush 15, 2) := dk_16 15 (dk_at dksX20_faultOf_7 19 rfl rfl)
theorem dX20_faultOf_185 : decode cX20_faultOf 185 = .ok (.iaload, 1) := dk_46 (dk_at dksX20_faultOf_7 21 rfl rfl)
theorem dX20_faultOf_186 : decode cX20_faultOf 186 = .ok (.iconst 2, 1) := dk_5 (dk_at dksX20_faultOf_7 22 rfl rfl)
theorem dX20_faultOf_187 : decode cX20_faultOf 187 = .ok (.if_icmp .ge 6, 3) := dk_162 0 6 (dk_at dksX20_faultOf_8 0 rfl rfl)
theorem dX20_faultOf_190 : decode cX20_faultOf 190 = .ok (.bipush 19, 2) := dk_16 19 (dk_at dksX20_faultOf_8 3 rfl rfl)
theorem dX20_faultOf_192 : decode cX20_faultOf 192 = .ok (.ireturn, 1) := dk_172 (dk_at dksX20_faultOf_8 5 rfl rfl)
theorem dX20_faultOf_193 : decode cX20_faultOf 193 = .ok (.iconst (-1), 1) := dk_2 (dk_at dksX20_faultOf_8 6 rfl rfl)
theorem dX20_faultOf_194 : decode cX20_faultOf 194 = .ok (.ireturn, 1) := dk_172 (dk_at dksX20_faultOf_8 7 rfl rfl)
abbrev cX20_sum : ByteArray := prog_52_method_14_code
def yX20_sum : MethodName := ⟨RX20, "sum", "(II)I"⟩
def dkwX20_sum_12 : List UInt8 := [156, 0, 7, 4, 167, 0, 4, 3, 22, 9, 22, 7, 101, 21, 12, 3, 184, 0, 98, 172]
abbrev dktX20_sum_12 : List UInt8 := dkwX20_sum_12 ++ []
def dkwX20_sum_11 : List UInt8 := [156, 0, 7, 4, 167, 0, 4, 3, 22, 7, 22, 9, 101, 21, 12, 3, 184, 0, 98, 167, 0, 24, 21, 4]
abbrev dktX20_sum_11 : List UInt8 := dkwX20_sum_11 ++ dktX20_sum_12
def dkwX20_sum_10 : List UInt8 := [184, 0, 98, 172, 22, 7, 22, 9, 148, 154, 0, 5, 3, 172, 22, 7, 22, 9, 148, 158, 0, 26, 29]
abbrev dktX20_sum_10 : List UInt8 := dkwX20_sum_10 ++ dktX20_sum_11
def dkwX20_sum_9 : List UInt8 := [153, 0, 26, 29, 156, 0, 7, 4, 167, 0, 4, 3, 22, 7, 22, 9, 101, 10, 101, 21, 12, 4]
abbrev dktX20_sum_9 : List UInt8 := dkwX20_sum_9 ++ dktX20_sum_10
def dkwX20_sum_8 : List UInt8 := [29, 156, 0, 7, 4, 167, 0, 4, 3, 22, 7, 22, 9, 97, 21, 12, 21, 11, 184, 0, 98, 172, 21, 11]
abbrev dktX20_sum_8 : List UInt8 := dkwX20_sum_8 ++ dktX20_sum_9
def dkwX20_sum_7 : List UInt8 := [55, 9, 132, 12, 1, 167, 255, 221, 29, 184, 0, 94, 21, 6, 100, 54, 12, 29, 21, 4, 130, 155, 0, 25]
abbrev dktX20_sum_7 : List UInt8 := dkwX20_sum_7 ++ dktX20_sum_8
def dkwX20_sum_6 : List UInt8 := [22, 9, 9, 148, 158, 0, 27, 22, 9, 10, 127, 10, 148, 154, 0, 6, 4, 54, 11, 22, 9, 4, 123]
abbrev dktX20_sum_6 : List UInt8 := dkwX20_sum_6 ++ dktX20_sum_7
def dkwX20_sum_5 : List UInt8 := [121, 55, 7, 21, 4, 184, 0, 90, 55, 9, 3, 54, 11, 21, 6, 54, 12, 21, 12, 21, 5, 162, 0, 34]
abbrev dktX20_sum_5 : List UInt8 := dkwX20_sum_5 ++ dktX20_sum_6
def dkwX20_sum_4 : List UInt8 := [54, 5, 21, 5, 16, 38, 162, 0, 8, 21, 5, 167, 0, 5, 16, 38, 54, 6, 29, 184, 0, 90, 21, 6]
abbrev dktX20_sum_4 : List UInt8 := dkwX20_sum_4 ++ dktX20_sum_5
def dkwX20_sum_3 : List UInt8 := [26, 62, 28, 153, 0, 7, 26, 167, 0, 4, 27, 54, 4, 29, 184, 0, 94, 21, 4, 184, 0, 94, 100]
abbrev dktX20_sum_3 : List UInt8 := dkwX20_sum_3 ++ dktX20_sum_4
def dkwX20_sum_2 : List UInt8 := [184, 0, 94, 27, 184, 0, 94, 162, 0, 7, 4, 167, 0, 4, 3, 61, 28, 153, 0, 7, 27, 167, 0, 4]
abbrev dktX20_sum_2 : List UInt8 := dkwX20_sum_2 ++ dktX20_sum_3
def dkwX20_sum_1 : List UInt8 := [172, 26, 184, 0, 90, 9, 148, 154, 0, 5, 27, 172, 27, 184, 0, 90, 9, 148, 154, 0, 5, 26, 172, 26]
abbrev dktX20_sum_1 : List UInt8 := dkwX20_sum_1 ++ dktX20_sum_2
def dkwX20_sum_0 : List UInt8 := [26, 184, 0, 90, 9, 148, 154, 0, 19, 27, 184, 0, 90, 9, 148, 154, 0, 10, 26, 27, 126, 18, 78, 126]
abbrev dktX20_sum_0 : List UInt8 := dkwX20_sum_0 ++ dktX20_sum_1
theorem dksX20_sum_0 : cX20_sum.data.toList.drop 0 = dktX20_sum_0 := by decide +kernel
theorem dksX20_sum_1 : cX20_sum.data.toList.drop 24 = dktX20_sum_1 := dk_seg dksX20_sum_0 24 rfl rfl
theorem dksX20_sum_2 : cX20_sum.data.toList.drop 48 = dktX20_sum_2 := dk_seg dksX20_sum_1 24 rfl rfl
theorem dksX20_sum_3 : cX20_sum.data.toList.drop 72 = dktX20_sum_3 := dk_seg dksX20_sum_2 24 rfl rfl
theorem dksX20_sum_4 : cX20_sum.data.toList.drop 95 = dktX20_sum_4 := dk_seg dksX20_sum_3 23 rfl rfl
theorem dksX20_sum_5 : cX20_sum.data.toList.drop 119 = dktX20_sum_5 := dk_seg dksX20_sum_4 24 rfl rfl
theorem dksX20_sum_6 : cX20_sum.data.toList.drop 143 = dktX20_sum_6 := dk_seg dksX20_sum_5 24 rfl rfl
theorem dksX20_sum_7 : cX20_sum.data.toList.drop 166 = dktX20_sum_7 := dk_seg dksX20_sum_6 23 rfl rfl
theorem dksX20_sum_8 : cX20_sum.data.toList.drop 190 = dktX20_sum_8 := dk_seg dksX20_sum_7 24 rfl rfl
theorem dksX20_sum_9 : cX20_sum.data.toList.drop 214 = dktX20_sum_9 := dk_seg dksX20_sum_8 24 rfl rfl
theorem dksX20_sum_10 : cX20_sum.data.toList.drop 236 = dktX20_sum_10 := dk_seg dksX20_sum_9 22 rfl rfl
theorem dksX20_sum_11 : cX20_sum.data.toList.drop 259 = dktX20_sum_11 := dk_seg dksX20_sum_10 23 rfl rfl
theorem dksX20_sum_12 : cX20_sum.data.toList.drop 283 = dktX20_sum_12 := dk_seg dksX20_sum_11 24 rfl rfl
theorem dX20_sum_0 : decode cX20_sum 0 = .ok (.iload_n 0, 1) := dk_26 (dk_at dksX20_sum_0 0 rfl rfl)
theorem dX20_sum_1 : decode cX20_sum 1 = .ok (.invokestatic 90, 3) := dk_184 0 90 (dk_at dksX20_sum_0 1 rfl rfl)
theorem dX20_sum_4 : decode cX20_sum 4 = .ok (.lconst 0, 1) := dk_9 (dk_at dksX20_sum_0 4 rfl rfl)
theorem dX20_sum_5 : decode cX20_sum 5 = .ok (.lcmp, 1) := dk_148 (dk_at dksX20_sum_0 5 rfl rfl)
theorem dX20_sum_6 : decode cX20_sum 6 = .ok (.ifCond .ne 19, 3) := dk_154 0 19 (dk_at dksX20_sum_0 6 rfl rfl)
theorem dX20_sum_9 : decode cX20_sum 9 = .ok (.iload_n 1, 1) := dk_27 (dk_at dksX20_sum_0 9 rfl rfl)
theorem dX20_sum_10 : decode cX20_sum 10 = .ok (.invokestatic 90, 3) := dk_184 0 90 (dk_at dksX20_sum_0 10 rfl rfl)
theorem dX20_sum_13 : decode cX20_sum 13 = .ok (.lconst 0, 1) := dk_9 (dk_at dksX20_sum_0 13 rfl rfl)
theorem dX20_sum_14 : decode cX20_sum 14 = .ok (.lcmp, 1) := dk_148 (dk_at dksX20_sum_0 14 rfl rfl)
theorem dX20_sum_15 : decode cX20_sum 15 = .ok (.ifCond .ne 10, 3) := dk_154 0 10 (dk_at dksX20_sum_0 15 rfl rfl)
theorem dX20_sum_18 : decode cX20_sum 18 = .ok (.iload_n 0, 1) := dk_26 (dk_at dksX20_sum_0 18 rfl rfl)
theorem dX20_sum_19 : decode cX20_sum 19 = .ok (.iload_n 1, 1) := dk_27 (dk_at dksX20_sum_0 19 rfl rfl)
theorem dX20_sum_20 : decode cX20_sum 20 = .ok (.iand, 1) := dk_126 (dk_at dksX20_sum_0 20 rfl rfl)
theorem dX20_sum_21 : decode cX20_sum 21 = .ok (.ldc 78, 2) := dk_18 78 (dk_at dksX20_sum_0 21 rfl rfl)
theorem dX20_sum_23 : decode cX20_sum 23 = .ok (.iand, 1) := dk_126 (dk_at dksX20_sum_0 23 rfl rfl)
theorem dX20_sum_24 : decode cX20_sum 24 = .ok (.ireturn, 1) := dk_172 (dk_at dksX20_sum_1 0 rfl rfl)
theorem dX20_sum_25 : decode cX20_sum 25 = .ok (.iload_n 0, 1) := dk_26 (dk_at dksX20_sum_1 1 rfl rfl)
theorem dX20_sum_26 : decode cX20_sum 26 = .ok (.invokestatic 90, 3) := dk_184 0 90 (dk_at dksX20_sum_1 2 rfl rfl)
theorem dX20_sum_29 : decode cX20_sum 29 = .ok (.lconst 0, 1) := dk_9 (dk_at dksX20_sum_1 5 rfl rfl)
theorem dX20_sum_30 : decode cX20_sum 30 = .ok (.lcmp, 1) := dk_148 (dk_at dksX20_sum_1 6 rfl rfl)
theorem dX20_sum_31 : decode cX20_sum 31 = .ok (.ifCond .ne 5, 3) := dk_154 0 5 (dk_at dksX20_sum_1 7 rfl rfl)
theorem dX20_sum_34 : decode cX20_sum 34 = .ok (.iload_n 1, 1) := dk_27 (dk_at dksX20_sum_1 10 rfl rfl)
theorem dX20_sum_35 : decode cX20_sum 35 = .ok (.ireturn, 1) := dk_172 (dk_at dksX20_sum_1 11 rfl rfl)
theorem dX20_sum_36 : decode cX20_sum 36 = .ok (.iload_n 1, 1) := dk_27 (dk_at dksX20_sum_1 12 rfl rfl)
theorem dX20_sum_37 : decode cX20_sum 37 = .ok (.invokestatic 90, 3) := dk_184 0 90 (dk_at dksX20_sum_1 13 rfl rfl)
theorem dX20_sum_40 : decode cX20_sum 40 = .ok (.lconst 0, 1) := dk_9 (dk_at dksX20_sum_1 16 rfl rfl)
theorem dX20_sum_41 : decode cX20_sum 41 = .ok (.lcmp, 1) := dk_148 (dk_at dksX20_sum_1 17 rfl rfl)
theorem dX20_sum_42 : decode cX20_sum 42 = .ok (.ifCond .ne 5, 3) := dk_154 0 5 (dk_at dksX20_sum_1 18 rfl rfl)
theorem dX20_sum_45 : decode cX20_sum 45 = .ok (.iload_n 0, 1) := dk_26 (dk_at dksX20_sum_1 21 rfl rfl)
theorem dX20_sum_46 : decode cX20_sum 46 = .ok (.ireturn, 1) := dk_172 (dk_at dksX20_sum_1 22 rfl rfl)
theorem dX20_sum_47 : decode cX20_sum 47 = .ok (.iload_n 0, 1) := dk_26 (dk_at dksX20_sum_1 23 rfl rfl)
theorem dX20_sum_48 : decode cX20_sum 48 = .ok (.invokestatic 94, 3) := dk_184 0 94 (dk_at dksX20_sum_2 0 rfl rfl)
theorem dX20_sum_51 : decode cX20_sum 51 = .ok (.iload_n 1, 1) := dk_27 (dk_at dksX20_sum_2 3 rfl rfl)
theorem dX20_sum_52 : decode cX20_sum 52 = .ok (.invokestatic 94, 3) := dk_184 0 94 (dk_at dksX20_sum_2 4 rfl rfl)
theorem dX20_sum_55 : decode cX20_sum 55 = .ok (.if_icmp .ge 7, 3) := dk_162 0 7 (dk_at dksX20_sum_2 7 rfl rfl)
theorem dX20_sum_58 : decode cX20_sum 58 = .ok (.iconst 1, 1) := dk_4 (dk_at dksX20_sum_2 10 rfl rfl)
theorem dX20_sum_59 : decode cX20_sum 59 = .ok (.goto 4, 3) := dk_167 0 4 (dk_at dksX20_sum_2 11 rfl rfl)
theorem dX20_sum_62 : decode cX20_sum 62 = .ok (.iconst 0, 1) := dk_3 (dk_at dksX20_sum_2 14 rfl rfl)
theorem dX20_sum_63 : decode cX20_sum 63 = .ok (.istore_n 2, 1) := dk_61 (dk_at dksX20_sum_2 15 rfl rfl)
theorem dX20_sum_64 : decode cX20_sum 64 = .ok (.iload_n 2, 1) := dk_28 (dk_at dksX20_sum_2 16 rfl rfl)
theorem dX20_sum_65 : decode cX20_sum 65 = .ok (.ifCond .eq 7, 3) := dk_153 0 7 (dk_at dksX20_sum_2 17 rfl rfl)
theorem dX20_sum_68 : decode cX20_sum 68 = .ok (.iload_n 1, 1) := dk_27 (dk_at dksX20_sum_2 20 rfl rfl)
theorem dX20_sum_69 : decode cX20_sum 69 = .ok (.goto 4, 3) := dk_167 0 4 (dk_at dksX20_sum_2 21 rfl rfl)
theorem dX20_sum_72 : decode cX20_sum 72 = .ok (.iload_n 0, 1) := dk_26 (dk_at dksX20_sum_3 0 rfl rfl)
theorem dX20_sum_73 : decode cX20_sum 73 = .ok (.istore_n 3, 1) := dk_62 (dk_at dksX20_sum_3 1 rfl rfl)
theorem dX20_sum_74 : decode cX20_sum 74 = .ok (.iload_n 2, 1) := dk_28 (dk_at dksX20_sum_3 2 rfl rfl)
theorem dX20_sum_75 : decode cX20_sum 75 = .ok (.ifCond .eq 7, 3) := dk_153 0 7 (dk_at dksX20_sum_3 3 rfl rfl)
theorem dX20_sum_78 : decode cX20_sum 78 = .ok (.iload_n 0, 1) := dk_26 (dk_at dksX20_sum_3 6 rfl rfl)
theorem dX20_sum_79 : decode cX20_sum 79 = .ok (.goto 4, 3) := dk_167 0 4 (dk_at dksX20_sum_3 7 rfl rfl)
theorem dX20_sum_82 : decode cX20_sum 82 = .ok (.iload_n 1, 1) := dk_27 (dk_at dksX20_sum_3 10 rfl rfl)
theorem dX20_sum_83 : decode cX20_sum 83 = .ok (.istore 4, 2) := dk_54 4 (dk_at dksX20_sum_3 11 rfl rfl)
theorem dX20_sum_85 : decode cX20_sum 85 = .ok (.iload_n 3, 1) := dk_29 (dk_at dksX20_sum_3 13 rfl rfl)
theorem dX20_sum_86 : decode cX20_sum 86 = .ok (.invokestatic 94, 3) := dk_184 0 94 (dk_at dksX20_sum_3 14 rfl rfl)
theorem dX20_sum_89 : decode cX20_sum 89 = .ok (.iload 4, 2) := dk_21 4 (dk_at dksX20_sum_3 17 rfl rfl)
theorem dX20_sum_91 : decode cX20_sum 91 = .ok (.invokestatic 94, 3) := dk_184 0 94 (dk_at dksX20_sum_3 19 rfl rfl)
theorem dX20_sum_94 : decode cX20_sum 94 = .ok (.isub, 1) := dk_100 (dk_at dksX20_sum_3 22 rfl rfl)
theorem dX20_sum_95 : decode cX20_sum 95 = .ok (.istore 5, 2) := dk_54 5 (dk_at dksX20_sum_4 0 rfl rfl)
theorem dX20_sum_97 : decode cX20_sum 97 = .ok (.iload 5, 2) := dk_21 5 (dk_at dksX20_sum_4 2 rfl rfl)
theorem dX20_sum_99 : decode cX20_sum 99 = .ok (.bipush 38, 2) := dk_16 38 (dk_at dksX20_sum_4 4 rfl rfl)
theorem dX20_sum_101 : decode cX20_sum 101 = .ok (.if_icmp .ge 8, 3) := dk_162 0 8 (dk_at dksX20_sum_4 6 rfl rfl)
theorem dX20_sum_104 : decode cX20_sum 104 = .ok (.iload 5, 2) := dk_21 5 (dk_at dksX20_sum_4 9 rfl rfl)
theorem dX20_sum_106 : decode cX20_sum 106 = .ok (.goto 5, 3) := dk_167 0 5 (dk_at dksX20_sum_4 11 rfl rfl)
theorem dX20_sum_109 : decode cX20_sum 109 = .ok (.bipush 38, 2) := dk_16 38 (dk_at dksX20_sum_4 14 rfl rfl)
theorem dX20_sum_111 : decode cX20_sum 111 = .ok (.istore 6, 2) := dk_54 6 (dk_at dksX20_sum_4 16 rfl rfl)
theorem dX20_sum_113 : decode cX20_sum 113 = .ok (.iload_n 3, 1) := dk_29 (dk_at dksX20_sum_4 18 rfl rfl)
theorem dX20_sum_114 : decode cX20_sum 114 = .ok (.invokestatic 90, 3) := dk_184 0 90 (dk_at dksX20_sum_4 19 rfl rfl)
theorem dX20_sum_117 : decode cX20_sum 117 = .ok (.iload 6, 2) := dk_21 6 (dk_at dksX20_sum_4 22 rfl rfl)
theorem dX20_sum_119 : decode cX20_sum 119 = .ok (.lshl, 1) := dk_121 (dk_at dksX20_sum_5 0 rfl rfl)
theorem dX20_sum_120 : decode cX20_sum 120 = .ok (.lstore 7, 2) := dk_55 7 (dk_at dksX20_sum_5 1 rfl rfl)
theorem dX20_sum_122 : decode cX20_sum 122 = .ok (.iload 4, 2) := dk_21 4 (dk_at dksX20_sum_5 3 rfl rfl)
theorem dX20_sum_124 : decode cX20_sum 124 = .ok (.invokestatic 90, 3) := dk_184 0 90 (dk_at dksX20_sum_5 5 rfl rfl)
theorem dX20_sum_127 : decode cX20_sum 127 = .ok (.lstore 9, 2) := dk_55 9 (dk_at dksX20_sum_5 8 rfl rfl)
theorem dX20_sum_129 : decode cX20_sum 129 = .ok (.iconst 0, 1) := dk_3 (dk_at dksX20_sum_5 10 rfl rfl)
theorem dX20_sum_130 : decode cX20_sum 130 = .ok (.istore 11, 2) := dk_54 11 (dk_at dksX20_sum_5 11 rfl rfl)
theorem dX20_sum_132 : decode cX20_sum 132 = .ok (.iload 6, 2) := dk_21 6 (dk_at dksX20_sum_5 13 rfl rfl)
theorem dX20_sum_134 : decode cX20_sum 134 = .ok (.istore 12, 2) := dk_54 12 (dk_at dksX20_sum_5 15 rfl rfl)
theorem dX20_sum_136 : decode cX20_sum 136 = .ok (.iload 12, 2) := dk_21 12 (dk_at dksX20_sum_5 17 rfl rfl)
theorem dX20_sum_138 : decode cX20_sum 138 = .ok (.iload 5, 2) := dk_21 5 (dk_at dksX20_sum_5 19 rfl rfl)
theorem dX20_sum_140 : decode cX20_sum 140 = .ok (.if_icmp .ge 34, 3) := dk_162 0 34 (dk_at dksX20_sum_5 21 rfl rfl)
theorem dX20_sum_143 : decode cX20_sum 143 = .ok (.lload 9, 2) := dk_22 9 (dk_at dksX20_sum_6 0 rfl rfl)
theorem dX20_sum_145 : decode cX20_sum 145 = .ok (.lconst 0, 1) := dk_9 (dk_at dksX20_sum_6 2 rfl rfl)
theorem dX20_sum_146 : decode cX20_sum 146 = .ok (.lcmp, 1) := dk_148 (dk_at dksX20_sum_6 3 rfl rfl)
theorem dX20_sum_147 : decode cX20_sum 147 = .ok (.ifCond .le 27, 3) := dk_158 0 27 (dk_at dksX20_sum_6 4 rfl rfl)
theorem dX20_sum_150 : decode cX20_sum 150 = .ok (.lload 9, 2) := dk_22 9 (dk_at dksX20_sum_6 7 rfl rfl)
theorem dX20_sum_152 : decode cX20_sum 152 = .ok (.lconst 1, 1) := dk_10 (dk_at dksX20_sum_6 9 rfl rfl)
theorem dX20_sum_153 : decode cX20_sum 153 = .ok (.land, 1) := dk_127 (dk_at dksX20_sum_6 10 rfl rfl)
theorem dX20_sum_154 : decode cX20_sum 154 = .ok (.lconst 1, 1) := dk_10 (dk_at dksX20_sum_6 11 rfl rfl)
theorem dX20_sum_155 : decode cX20_sum 155 = .ok (.lcmp, 1) := dk_148 (dk_at dksX20_sum_6 12 rfl rfl)
theorem dX20_sum_156 : decode cX20_sum 156 = .ok (.ifCond .ne 6, 3) := dk_154 0 6 (dk_at dksX20_sum_6 13 rfl rfl)
theorem dX20_sum_159 : decode cX20_sum 159 = .ok (.iconst 1, 1) := dk_4 (dk_at dksX20_sum_6 16 rfl rfl)
theorem dX20_sum_160 : decode cX20_sum 160 = .ok (.istore 11, 2) := dk_54 11 (dk_at dksX20_sum_6 17 rfl rfl)
theorem dX20_sum_162 : decode cX20_sum 162 = .ok (.lload 9, 2) := dk_22 9 (dk_at dksX20_sum_6 19 rfl rfl)
theorem dX20_sum_164 : decode cX20_sum 164 = .ok (.iconst 1, 1) := dk_4 (dk_at dksX20_sum_6 21 rfl rfl)
theorem dX20_sum_165 : decode cX20_sum 165 = .ok (.lshr, 1) := dk_123 (dk_at dksX20_sum_6 22 rfl rfl)
theorem dX20_sum_166 : decode cX20_sum 166 = .ok (.lstore 9, 2) := dk_55 9 (dk_at dksX20_sum_7 0 rfl rfl)
theorem dX20_sum_168 : decode cX20_sum 168 = .ok (.iinc 12 1, 3) := dk_132 12 1 (dk_at dksX20_sum_7 2 rfl rfl)
theorem dX20_sum_171 : decode cX20_sum 171 = .ok (.goto (-35), 3) := dk_167 255 221 (dk_at dksX20_sum_7 5 rfl rfl)
theorem dX20_sum_174 : decode cX20_sum 174 = .ok (.iload_n 3, 1) := dk_29 (dk_at dksX20_sum_7 8 rfl rfl)
theorem dX20_sum_175 : decode cX20_sum 175 = .ok (.invokestatic 94, 3) := dk_184 0 94 (dk_at dksX20_sum_7 9 rfl rfl)
theorem dX20_sum_178 : decode cX20_sum 178 = .ok (.iload 6, 2) := dk_21 6 (dk_at dksX20_sum_7 12 rfl rfl)
theorem dX20_sum_180 : decode cX20_sum 180 = .ok (.isub, 1) := dk_100 (dk_at dksX20_sum_7 14 rfl rfl)
theorem dX20_sum_181 : decode cX20_sum 181 = .ok (.istore 12, 2) := dk_54 12 (dk_at dksX20_sum_7 15 rfl rfl)
theorem dX20_sum_183 : decode cX20_sum 183 = .ok (.iload_n 3, 1) := dk_29 (dk_at dksX20_sum_7 17 rfl rfl)
theorem dX20_sum_184 : decode cX20_sum 184 = .ok (.iload 4, 2) := dk_21 4 (dk_at dksX20_sum_7 18 rfl rfl)
theorem dX20_sum_186 : decode cX20_sum 186 = .ok (.ixor, 1) := dk_130 (dk_at dksX20_sum_7 20 rfl rfl)
theorem dX20_sum_187 : decode cX20_sum 187 = .ok (.ifCond .lt 25, 3) := dk_155 0 25 (dk_at dksX20_sum_7 21 rfl rfl)
theorem dX20_sum_190 : decode cX20_sum 190 = .ok (.iload_n 3, 1) := dk_29 (dk_at dksX20_sum_8 0 rfl rfl)
theorem dX20_sum_191 : decode cX20_sum 191 = .ok (.ifCond .ge 7, 3) := dk_156 0 7 (dk_at dksX20_sum_8 1 rfl rfl)
theorem dX20_sum_194 : decode cX20_sum 194 = .ok (.iconst 1, 1) := dk_4 (dk_at dksX20_sum_8 4 rfl rfl)
theorem dX20_sum_195 : decode cX20_sum 195 = .ok (.goto 4, 3) := dk_167 0 4 (dk_at dksX20_sum_8 5 rfl rfl)
theorem dX20_sum_198 : decode cX20_sum 198 = .ok (.iconst 0, 1) := dk_3 (dk_at dksX20_sum_8 8 rfl rfl)
theorem dX20_sum_199 : decode cX20_sum 199 = .ok (.lload 7, 2) := dk_22 7 (dk_at dksX20_sum_8 9 rfl rfl)
theorem dX20_sum_201 : decode cX20_sum 201 = .ok (.lload 9, 2) := dk_22 9 (dk_at dksX20_sum_8 11 rfl rfl)
theorem dX20_sum_203 : decode cX20_sum 203 = .ok (.ladd, 1) := dk_97 (dk_at dksX20_sum_8 13 rfl rfl)
theorem dX20_sum_204 : decode cX20_sum 204 = .ok (.iload 12, 2) := dk_21 12 (dk_at dksX20_sum_8 14 rfl rfl)
theorem dX20_sum_206 : decode cX20_sum 206 = .ok (.iload 11, 2) := dk_21 11 (dk_at dksX20_sum_8 16 rfl rfl)
theorem dX20_sum_208 : decode cX20_sum 208 = .ok (.invokestatic 98, 3) := dk_184 0 98 (dk_at dksX20_sum_8 18 rfl rfl)
theorem dX20_sum_211 : decode cX20_sum 211 = .ok (.ireturn, 1) := dk_172 (dk_at dksX20_sum_8 21 rfl rfl)
theorem dX20_sum_212 : decode cX20_sum 212 = .ok (.iload 11, 2) := dk_21 11 (dk_at dksX20_sum_8 22 rfl rfl)
theorem dX20_sum_214 : decode cX20_sum 214 = .ok (.ifCond .eq 26, 3) := dk_153 0 26 (dk_at dksX20_sum_9 0 rfl rfl)
theorem dX20_sum_217 : decode cX20_sum 217 = .ok (.iload_n 3, 1) := dk_29 (dk_at dksX20_sum_9 3 rfl rfl)
theorem dX20_sum_218 : decode cX20_sum 218 = .ok (.ifCond .ge 7, 3) := dk_156 0 7 (dk_at dksX20_sum_9 4 rfl rfl)
theorem dX20_sum_221 : decode cX20_sum 221 = .ok (.iconst 1, 1) := dk_4 (dk_at dksX20_sum_9 7 rfl rfl)
theorem dX20_sum_222 : decode cX20_sum 222 = .ok (.goto 4, 3) := dk_167 0 4 (dk_at dksX20_sum_9 8 rfl rfl)
theorem dX20_sum_225 : decode cX20_sum 225 = .ok (.iconst 0, 1) := dk_3 (dk_at dksX20_sum_9 11 rfl rfl)
theorem dX20_sum_226 : decode cX20_sum 226 = .ok (.lload 7, 2) := dk_22 7 (dk_at dksX20_sum_9 12 rfl rfl)
theorem dX20_sum_228 : decode cX20_sum 228 = .ok (.lload 9, 2) := dk_22 9 (dk_at dksX20_sum_9 14 rfl rfl)
theorem dX20_sum_230 : decode cX20_sum 230 = .ok (.lsub, 1) := dk_101 (dk_at dksX20_sum_9 16 rfl rfl)
theorem dX20_sum_231 : decode cX20_sum 231 = .ok (.lconst 1, 1) := dk_10 (dk_at dksX20_sum_9 17 rfl rfl)
theorem dX20_sum_232 : decode cX20_sum 232 = .ok (.lsub, 1) := dk_101 (dk_at dksX20_sum_9 18 rfl rfl)
theorem dX20_sum_233 : decode cX20_sum 233 = .ok (.iload 12, 2) := dk_21 12 (dk_at dksX20_sum_9 19 rfl rfl)
theorem dX20_sum_235 : decode cX20_sum 235 = .ok (.iconst 1, 1) := dk_4 (dk_at dksX20_sum_9 21 rfl rfl)
theorem dX20_sum_236 : decode cX20_sum 236 = .ok (.invokestatic 98, 3) := dk_184 0 98 (dk_at dksX20_sum_10 0 rfl rfl)
theorem dX20_sum_239 : decode cX20_sum 239 = .ok (.ireturn, 1) := dk_172 (dk_at dksX20_sum_10 3 rfl rfl)
theorem dX20_sum_240 : decode cX20_sum 240 = .ok (.lload 7, 2) := dk_22 7 (dk_at dksX20_sum_10 4 rfl rfl)
theorem dX20_sum_242 : decode cX20_sum 242 = .ok (.lload 9, 2) := dk_22 9 (dk_at dksX20_sum_10 6 rfl rfl)
theorem dX20_sum_244 : decode cX20_sum 244 = .ok (.lcmp, 1) := dk_148 (dk_at dksX20_sum_10 8 rfl rfl)
theorem dX20_sum_245 : decode cX20_sum 245 = .ok (.ifCond .ne 5, 3) := dk_154 0 5 (dk_at dksX20_sum_10 9 rfl rfl)
theorem dX20_sum_248 : decode cX20_sum 248 = .ok (.iconst 0, 1) := dk_3 (dk_at dksX20_sum_10 12 rfl rfl)
theorem dX20_sum_249 : decode cX20_sum 249 = .ok (.ireturn, 1) := dk_172 (dk_at dksX20_sum_10 13 rfl rfl)
theorem dX20_sum_250 : decode cX20_sum 250 = .ok (.lload 7, 2) := dk_22 7 (dk_at dksX20_sum_10 14 rfl rfl)
theorem dX20_sum_252 : decode cX20_sum 252 = .ok (.lload 9, 2) := dk_22 9 (dk_at dksX20_sum_10 16 rfl rfl)
theorem dX20_sum_254 : decode cX20_sum 254 = .ok (.lcmp, 1) := dk_148 (dk_at dksX20_sum_10 18 rfl rfl)
theorem dX20_sum_255 : decode cX20_sum 255 = .ok (.ifCond .le 26, 3) := dk_158 0 26 (dk_at dksX20_sum_10 19 rfl rfl)
theorem dX20_sum_258 : decode cX20_sum 258 = .ok (.iload_n 3, 1) := dk_29 (dk_at dksX20_sum_10 22 rfl rfl)
theorem dX20_sum_259 : decode cX20_sum 259 = .ok (.ifCond .ge 7, 3) := dk_156 0 7 (dk_at dksX20_sum_11 0 rfl rfl)
theorem dX20_sum_262 : decode cX20_sum 262 = .ok (.iconst 1, 1) := dk_4 (dk_at dksX20_sum_11 3 rfl rfl)
theorem dX20_sum_263 : decode cX20_sum 263 = .ok (.goto 4, 3) := dk_167 0 4 (dk_at dksX20_sum_11 4 rfl rfl)
theorem dX20_sum_266 : decode cX20_sum 266 = .ok (.iconst 0, 1) := dk_3 (dk_at dksX20_sum_11 7 rfl rfl)
theorem dX20_sum_267 : decode cX20_sum 267 = .ok (.lload 7, 2) := dk_22 7 (dk_at dksX20_sum_11 8 rfl rfl)
theorem dX20_sum_269 : decode cX20_sum 269 = .ok (.lload 9, 2) := dk_22 9 (dk_at dksX20_sum_11 10 rfl rfl)
theorem dX20_sum_271 : decode cX20_sum 271 = .ok (.lsub, 1) := dk_101 (dk_at dksX20_sum_11 12 rfl rfl)
theorem dX20_sum_272 : decode cX20_sum 272 = .ok (.iload 12, 2) := dk_21 12 (dk_at dksX20_sum_11 13 rfl rfl)
theorem dX20_sum_274 : decode cX20_sum 274 = .ok (.iconst 0, 1) := dk_3 (dk_at dksX20_sum_11 15 rfl rfl)
theorem dX20_sum_275 : decode cX20_sum 275 = .ok (.invokestatic 98, 3) := dk_184 0 98 (dk_at dksX20_sum_11 16 rfl rfl)
theorem dX20_sum_278 : decode cX20_sum 278 = .ok (.goto 24, 3) := dk_167 0 24 (dk_at dksX20_sum_11 19 rfl rfl)
theorem dX20_sum_281 : decode cX20_sum 281 = .ok (.iload 4, 2) := dk_21 4 (dk_at dksX20_sum_11 22 rfl rfl)
theorem dX20_sum_283 : decode cX20_sum 283 = .ok (.ifCond .ge 7, 3) := dk_156 0 7 (dk_at dksX20_sum_12 0 rfl rfl)
theorem dX20_sum_286 : decode cX20_sum 286 = .ok (.iconst 1, 1) := dk_4 (dk_at dksX20_sum_12 3 rfl rfl)
theorem dX20_sum_287 : decode cX20_sum 287 = .ok (.goto 4, 3) := dk_167 0 4 (dk_at dksX20_sum_12 4 rfl rfl)
theorem dX20_sum_290 : decode cX20_sum 290 = .ok (.iconst 0, 1) := dk_3 (dk_at dksX20_sum_12 7 rfl rfl)
theorem dX20_sum_291 : decode cX20_sum 291 = .ok (.lload 9, 2) := dk_22 9 (dk_at dksX20_sum_12 8 rfl rfl)
theorem dX20_sum_293 : decode cX20_sum 293 = .ok (.lload 7, 2) := dk_22 7 (dk_at dksX20_sum_12 10 rfl rfl)
theorem dX20_sum_295 : decode cX20_sum 295 = .ok (.lsub, 1) := dk_101 (dk_at dksX20_sum_12 12 rfl rfl)
theorem dX20_sum_296 : decode cX20_sum 296 = .ok (.iload 12, 2) := dk_21 12 (dk_at dksX20_sum_12 13 rfl rfl)
theorem dX20_sum_298 : decode cX20_sum 298 = .ok (.iconst 0, 1) := dk_3 (dk_at dksX20_sum_12 15 rfl rfl)
theorem dX20_sum_299 : decode cX20_sum 299 = .ok (.invokestatic 98, 3) := dk_184 0 98 (dk_at dksX20_sum_12 16 rfl rfl)
theorem dX20_sum_302 : decode cX20_sum 302 = .ok (.ireturn, 1) := dk_172 (dk_at dksX20_sum_12 19 rfl rfl)
abbrev cX20_fraction : ByteArray := prog_52_method_10_code
def yX20_fraction : MethodName := ⟨RX20, "fraction", "(I)J"⟩
def dkwX20_fraction_1 : List UInt8 := [18, 77, 128, 133, 173]
abbrev dktX20_fraction_1 : List UInt8 := dkwX20_fraction_1 ++ []
def dkwX20_fraction_0 : List UInt8 := [26, 16, 23, 122, 17, 0, 255, 126, 154, 0, 11, 26, 18, 76, 126, 133, 167, 0, 11, 26, 18, 76, 126]
abbrev dktX20_fraction_0 : List UInt8 := dkwX20_fraction_0 ++ dktX20_fraction_1
theorem dksX20_fraction_0 : cX20_fraction.data.toList.drop 0 = dktX20_fraction_0 := by decide +kernel
theorem dksX20_fraction_1 : cX20_fraction.data.toList.drop 23 = dktX20_fraction_1 := dk_seg dksX20_fraction_0 23 rfl rfl
theorem dX20_fraction_0 : decode cX20_fraction 0 = .ok (.iload_n 0, 1) := dk_26 (dk_at dksX20_fraction_0 0 rfl rfl)
theorem dX20_fraction_1 : decode cX20_fraction 1 = .ok (.bipush 23, 2) := dk_16 23 (dk_at dksX20_fraction_0 1 rfl rfl)
theorem dX20_fraction_3 : decode cX20_fraction 3 = .ok (.ishr, 1) := dk_122 (dk_at dksX20_fraction_0 3 rfl rfl)
theorem dX20_fraction_4 : decode cX20_fraction 4 = .ok (.sipush 255, 3) := dk_17 0 255 (dk_at dksX20_fraction_0 4 rfl rfl)
theorem dX20_fraction_7 : decode cX20_fraction 7 = .ok (.iand, 1) := dk_126 (dk_at dksX20_fraction_0 7 rfl rfl)
theorem dX20_fraction_8 : decode cX20_fraction 8 = .ok (.ifCond .ne 11, 3) := dk_154 0 11 (dk_at dksX20_fraction_0 8 rfl rfl)
theorem dX20_fraction_11 : decode cX20_fraction 11 = .ok (.iload_n 0, 1) := dk_26 (dk_at dksX20_fraction_0 11 rfl rfl)
theorem dX20_fraction_12 : decode cX20_fraction 12 = .ok (.ldc 76, 2) := dk_18 76 (dk_at dksX20_fraction_0 12 rfl rfl)
theorem dX20_fraction_14 : decode cX20_fraction 14 = .ok (.iand, 1) := dk_126 (dk_at dksX20_fraction_0 14 rfl rfl)
theorem dX20_fraction_15 : decode cX20_fraction 15 = .ok (.i2l, 1) := dk_133 (dk_at dksX20_fraction_0 15 rfl rfl)
theorem dX20_fraction_16 : decode cX20_fraction 16 = .ok (.goto 11, 3) := dk_167 0 11 (dk_at dksX20_fraction_0 16 rfl rfl)
theorem dX20_fraction_19 : decode cX20_fraction 19 = .ok (.iload_n 0, 1) := dk_26 (dk_at dksX20_fraction_0 19 rfl rfl)
theorem dX20_fraction_20 : decode cX20_fraction 20 = .ok (.ldc 76, 2) := dk_18 76 (dk_at dksX20_fraction_0 20 rfl rfl)
theorem dX20_fraction_22 : decode cX20_fraction 22 = .ok (.iand, 1) := dk_126 (dk_at dksX20_fraction_0 22 rfl rfl)
theorem dX20_fraction_23 : decode cX20_fraction 23 = .ok (.ldc 77, 2) := dk_18 77 (dk_at dksX20_fraction_1 0 rfl rfl)
theorem dX20_fraction_25 : decode cX20_fraction 25 = .ok (.ior, 1) := dk_128 (dk_at dksX20_fraction_1 2 rfl rfl)
theorem dX20_fraction_26 : decode cX20_fraction 26 = .ok (.i2l, 1) := dk_133 (dk_at dksX20_fraction_1 3 rfl rfl)
theorem dX20_fraction_27 : decode cX20_fraction 27 = .ok (.lreturn, 1) := dk_173 (dk_at dksX20_fraction_1 4 rfl rfl)
abbrev cX20_place : ByteArray := prog_52_method_11_code
def yX20_place : MethodName := ⟨RX20, "place", "(I)I"⟩
def dkwX20_place_1 : List UInt8 := [172]
abbrev dktX20_place_1 : List UInt8 := dkwX20_place_1 ++ []
def dkwX20_place_0 : List UInt8 := [26, 16, 23, 122, 17, 0, 255, 126, 60, 27, 154, 0, 9, 17, 255, 107, 167, 0, 8, 27, 17, 0, 150, 100]
abbrev dktX20_place_0 : List UInt8 := dkwX20_place_0 ++ dktX20_place_1
theorem dksX20_place_0 : cX20_place.data.toList.drop 0 = dktX20_place_0 := by decide +kernel
theorem dksX20_place_1 : cX20_place.data.toList.drop 24 = dktX20_place_1 := dk_seg dksX20_place_0 24 rfl rfl
theorem dX20_place_0 : decode cX20_place 0 = .ok (.iload_n 0, 1) := dk_26 (dk_at dksX20_place_0 0 rfl rfl)
theorem dX20_place_1 : decode cX20_place 1 = .ok (.bipush 23, 2) := dk_16 23 (dk_at dksX20_place_0 1 rfl rfl)
theorem dX20_place_3 : decode cX20_place 3 = .ok (.ishr, 1) := dk_122 (dk_at dksX20_place_0 3 rfl rfl)
theorem dX20_place_4 : decode cX20_place 4 = .ok (.sipush 255, 3) := dk_17 0 255 (dk_at dksX20_place_0 4 rfl rfl)
theorem dX20_place_7 : decode cX20_place 7 = .ok (.iand, 1) := dk_126 (dk_at dksX20_place_0 7 rfl rfl)
theorem dX20_place_8 : decode cX20_place 8 = .ok (.istore_n 1, 1) := dk_60 (dk_at dksX20_place_0 8 rfl rfl)
theorem dX20_place_9 : decode cX20_place 9 = .ok (.iload_n 1, 1) := dk_27 (dk_at dksX20_place_0 9 rfl rfl)
theorem dX20_place_10 : decode cX20_place 10 = .ok (.ifCond .ne 9, 3) := dk_154 0 9 (dk_at dksX20_place_0 10 rfl rfl)
theorem dX20_place_13 : decode cX20_place 13 = .ok (.sipush (-149), 3) := dk_17 255 107 (dk_at dksX20_place_0 13 rfl rfl)
theorem dX20_place_16 : decode cX20_place 16 = .ok (.goto 8, 3) := dk_167 0 8 (dk_at dksX20_place_0 16 rfl rfl)
theorem dX20_place_19 : decode cX20_place 19 = .ok (.iload_n 1, 1) := dk_27 (dk_at dksX20_place_0 19 rfl rfl)
theorem dX20_place_20 : decode cX20_place 20 = .ok (.sipush 150, 3) := dk_17 0 150 (dk_at dksX20_place_0 20 rfl rfl)
theorem dX20_place_23 : decode cX20_place 23 = .ok (.isub, 1) := dk_100 (dk_at dksX20_place_0 23 rfl rfl)
theorem dX20_place_24 : decode cX20_place 24 = .ok (.ireturn, 1) := dk_172 (dk_at dksX20_place_1 0 rfl rfl)
abbrev cX20_rounded : ByteArray := prog_52_method_12_code
def yX20_rounded : MethodName := ⟨RX20, "rounded", "(ZJIZ)I"⟩
def dkwX20_rounded_8 : List UInt8 := [128, 22, 8, 136, 18, 76, 126, 128, 172]
abbrev dktX20_rounded_8 : List UInt8 := dkwX20_rounded_8 ++ []
def dkwX20_rounded_7 : List UInt8 := [21, 6, 16, 104, 164, 0, 9, 21, 5, 18, 89, 128, 172, 21, 5, 21, 6, 17, 0, 150, 96, 16, 23, 120]
abbrev dktX20_rounded_7 : List UInt8 := dkwX20_rounded_7 ++ dktX20_rounded_8
def dkwX20_rounded_6 : List UInt8 := [20, 0, 87, 55, 8, 132, 6, 1, 22, 8, 20, 0, 87, 148, 156, 0, 10, 21, 5, 22, 8, 136, 128, 172]
abbrev dktX20_rounded_6 : List UInt8 := dkwX20_rounded_6 ++ dktX20_rounded_7
def dkwX20_rounded_5 : List UInt8 := [22, 8, 10, 127, 10, 148, 154, 0, 9, 22, 8, 10, 97, 55, 8, 22, 8, 20, 0, 85, 148, 154, 0, 11]
abbrev dktX20_rounded_5 : List UInt8 := dkwX20_rounded_5 ++ dktX20_rounded_6
def dkwX20_rounded_4 : List UInt8 := [55, 8, 22, 12, 22, 10, 148, 157, 0, 25, 22, 12, 22, 10, 148, 154, 0, 23, 21, 4, 154, 0, 12]
abbrev dktX20_rounded_4 : List UInt8 := dkwX20_rounded_4 ++ dktX20_rounded_5
def dkwX20_rounded_3 : List UInt8 := [21, 7, 4, 100, 121, 55, 10, 31, 20, 0, 83, 22, 10, 105, 10, 101, 127, 55, 12, 31, 21, 7, 123]
abbrev dktX20_rounded_3 : List UInt8 := dkwX20_rounded_3 ++ dktX20_rounded_4
def dkwX20_rounded_2 : List UInt8 := [31, 21, 7, 116, 121, 55, 8, 167, 0, 78, 21, 7, 16, 60, 164, 0, 9, 9, 55, 8, 167, 0, 65, 10]
abbrev dktX20_rounded_2 : List UInt8 := dkwX20_rounded_2 ++ dktX20_rounded_3
def dkwX20_rounded_1 : List UInt8 := [21, 6, 17, 255, 107, 162, 0, 8, 17, 255, 107, 54, 6, 21, 6, 29, 100, 54, 7, 21, 7, 157, 0, 13]
abbrev dktX20_rounded_1 : List UInt8 := dkwX20_rounded_1 ++ dktX20_rounded_2
def dkwX20_rounded_0 : List UInt8 := [26, 153, 0, 8, 18, 78, 167, 0, 4, 3, 54, 5, 31, 184, 0, 79, 29, 96, 16, 24, 100, 54, 6]
abbrev dktX20_rounded_0 : List UInt8 := dkwX20_rounded_0 ++ dktX20_rounded_1
theorem dksX20_rounded_0 : cX20_rounded.data.toList.drop 0 = dktX20_rounded_0 := by decide +kernel
theorem dksX20_rounded_1 : cX20_rounded.data.toList.drop 23 = dktX20_rounded_1 := dk_seg dksX20_rounded_0 23 rfl rfl
theorem dksX20_rounded_2 : cX20_rounded.data.toList.drop 47 = dktX20_rounded_2 := dk_seg dksX20_rounded_1 24 rfl rfl
theorem dksX20_rounded_3 : cX20_rounded.data.toList.drop 71 = dktX20_rounded_3 := dk_seg dksX20_rounded_2 24 rfl rfl
theorem dksX20_rounded_4 : cX20_rounded.data.toList.drop 94 = dktX20_rounded_4 := dk_seg dksX20_rounded_3 23 rfl rfl
theorem dksX20_rounded_5 : cX20_rounded.data.toList.drop 117 = dktX20_rounded_5 := dk_seg dksX20_rounded_4 23 rfl rfl
theorem dksX20_rounded_6 : cX20_rounded.data.toList.drop 141 = dktX20_rounded_6 := dk_seg dksX20_rounded_5 24 rfl rfl
theorem dksX20_rounded_7 : cX20_rounded.data.toList.drop 165 = dktX20_rounded_7 := dk_seg dksX20_rounded_6 24 rfl rfl
theorem dksX20_rounded_8 : cX20_rounded.data.toList.drop 189 = dktX20_rounded_8 := dk_seg dksX20_rounded_7 24 rfl rfl
theorem dX20_rounded_0 : decode cX20_rounded 0 = .ok (.iload_n 0, 1) := dk_26 (dk_at dksX20_rounded_0 0 rfl rfl)
theorem dX20_rounded_1 : decode cX20_rounded 1 = .ok (.ifCond .eq 8, 3) := dk_153 0 8 (dk_at dksX20_rounded_0 1 rfl rfl)
theorem dX20_rounded_4 : decode cX20_rounded 4 = .ok (.ldc 78, 2) := dk_18 78 (dk_at dksX20_rounded_0 4 rfl rfl)
theorem dX20_rounded_6 : decode cX20_rounded 6 = .ok (.goto 4, 3) := dk_167 0 4 (dk_at dksX20_rounded_0 6 rfl rfl)
theorem dX20_rounded_9 : decode cX20_rounded 9 = .ok (.iconst 0, 1) := dk_3 (dk_at dksX20_rounded_0 9 rfl rfl)
theorem dX20_rounded_10 : decode cX20_rounded 10 = .ok (.istore 5, 2) := dk_54 5 (dk_at dksX20_rounded_0 10 rfl rfl)
theorem dX20_rounded_12 : decode cX20_rounded 12 = .ok (.lload_n 1, 1) := dk_31 (dk_at dksX20_rounded_0 12 rfl rfl)
theorem dX20_rounded_13 : decode cX20_rounded 13 = .ok (.invokestatic 79, 3) := dk_184 0 79 (dk_at dksX20_rounded_0 13 rfl rfl)
theorem dX20_rounded_16 : decode cX20_rounded 16 = .ok (.iload_n 3, 1) := dk_29 (dk_at dksX20_rounded_0 16 rfl rfl)
theorem dX20_rounded_17 : decode cX20_rounded 17 = .ok (.iadd, 1) := dk_96 (dk_at dksX20_rounded_0 17 rfl rfl)
theorem dX20_rounded_18 : decode cX20_rounded 18 = .ok (.bipush 24, 2) := dk_16 24 (dk_at dksX20_rounded_0 18 rfl rfl)
theorem dX20_rounded_20 : decode cX20_rounded 20 = .ok (.isub, 1) := dk_100 (dk_at dksX20_rounded_0 20 rfl rfl)
theorem dX20_rounded_21 : decode cX20_rounded 21 = .ok (.istore 6, 2) := dk_54 6 (dk_at dksX20_rounded_0 21 rfl rfl)
theorem dX20_rounded_23 : decode cX20_rounded 23 = .ok (.iload 6, 2) := dk_21 6 (dk_at dksX20_rounded_1 0 rfl rfl)
theorem dX20_rounded_25 : decode cX20_rounded 25 = .ok (.sipush (-149), 3) := dk_17 255 107 (dk_at dksX20_rounded_1 2 rfl rfl)
theorem dX20_rounded_28 : decode cX20_rounded 28 = .ok (.if_icmp .ge 8, 3) := dk_162 0 8 (dk_at dksX20_rounded_1 5 rfl rfl)
theorem dX20_rounded_31 : decode cX20_rounded 31 = .ok (.sipush (-149), 3) := dk_17 255 107 (dk_at dksX20_rounded_1 8 rfl rfl)
theorem dX20_rounded_34 : decode cX20_rounded 34 = .ok (.istore 6, 2) := dk_54 6 (dk_at dksX20_rounded_1 11 rfl rfl)
theorem dX20_rounded_36 : decode cX20_rounded 36 = .ok (.iload 6, 2) := dk_21 6 (dk_at dksX20_rounded_1 13 rfl rfl)
theorem dX20_rounded_38 : decode cX20_rounded 38 = .ok (.iload_n 3, 1) := dk_29 (dk_at dksX20_rounded_1 15 rfl rfl)
theorem dX20_rounded_39 : decode cX20_rounded 39 = .ok (.isub, 1) := dk_100 (dk_at dksX20_rounded_1 16 rfl rfl)
theorem dX20_rounded_40 : decode cX20_rounded 40 = .ok (.istore 7, 2) := dk_54 7 (dk_at dksX20_rounded_1 17 rfl rfl)
theorem dX20_rounded_42 : decode cX20_rounded 42 = .ok (.iload 7, 2) := dk_21 7 (dk_at dksX20_rounded_1 19 rfl rfl)
theorem dX20_rounded_44 : decode cX20_rounded 44 = .ok (.ifCond .gt 13, 3) := dk_157 0 13 (dk_at dksX20_rounded_1 21 rfl rfl)
theorem dX20_rounded_47 : decode cX20_rounded 47 = .ok (.lload_n 1, 1) := dk_31 (dk_at dksX20_rounded_2 0 rfl rfl)
theorem dX20_rounded_48 : decode cX20_rounded 48 = .ok (.iload 7, 2) := dk_21 7 (dk_at dksX20_rounded_2 1 rfl rfl)
theorem dX20_rounded_50 : decode cX20_rounded 50 = .ok (.ineg, 1) := dk_116 (dk_at dksX20_rounded_2 3 rfl rfl)
theorem dX20_rounded_51 : decode cX20_rounded 51 = .ok (.lshl, 1) := dk_121 (dk_at dksX20_rounded_2 4 rfl rfl)
theorem dX20_rounded_52 : decode cX20_rounded 52 = .ok (.lstore 8, 2) := dk_55 8 (dk_at dksX20_rounded_2 5 rfl rfl)
theorem dX20_rounded_54 : decode cX20_rounded 54 = .ok (.goto 78, 3) := dk_167 0 78 (dk_at dksX20_rounded_2 7 rfl rfl)
theorem dX20_rounded_57 : decode cX20_rounded 57 = .ok (.iload 7, 2) := dk_21 7 (dk_at dksX20_rounded_2 10 rfl rfl)
theorem dX20_rounded_59 : decode cX20_rounded 59 = .ok (.bipush 60, 2) := dk_16 60 (dk_at dksX20_rounded_2 12 rfl rfl)
theorem dX20_rounded_61 : decode cX20_rounded 61 = .ok (.if_icmp .le 9, 3) := dk_164 0 9 (dk_at dksX20_rounded_2 14 rfl rfl)
theorem dX20_rounded_64 : decode cX20_rounded 64 = .ok (.lconst 0, 1) := dk_9 (dk_at dksX20_rounded_2 17 rfl rfl)
theorem dX20_rounded_65 : decode cX20_rounded 65 = .ok (.lstore 8, 2) := dk_55 8 (dk_at dksX20_rounded_2 18 rfl rfl)
theorem dX20_rounded_67 : decode cX20_rounded 67 = .ok (.goto 65, 3) := dk_167 0 65 (dk_at dksX20_rounded_2 20 rfl rfl)
theorem dX20_rounded_70 : decode cX20_rounded 70 = .ok (.lconst 1, 1) := dk_10 (dk_at dksX20_rounded_2 23 rfl rfl)
theorem dX20_rounded_71 : decode cX20_rounded 71 = .ok (.iload 7, 2) := dk_21 7 (dk_at dksX20_rounded_3 0 rfl rfl)
theorem dX20_rounded_73 : decode cX20_rounded 73 = .ok (.iconst 1, 1) := dk_4 (dk_at dksX20_rounded_3 2 rfl rfl)
theorem dX20_rounded_74 : decode cX20_rounded 74 = .ok (.isub, 1) := dk_100 (dk_at dksX20_rounded_3 3 rfl rfl)
theorem dX20_rounded_75 : decode cX20_rounded 75 = .ok (.lshl, 1) := dk_121 (dk_at dksX20_rounded_3 4 rfl rfl)
theorem dX20_rounded_76 : decode cX20_rounded 76 = .ok (.lstore 10, 2) := dk_55 10 (dk_at dksX20_rounded_3 5 rfl rfl)
theorem dX20_rounded_78 : decode cX20_rounded 78 = .ok (.lload_n 1, 1) := dk_31 (dk_at dksX20_rounded_3 7 rfl rfl)
theorem dX20_rounded_79 : decode cX20_rounded 79 = .ok (.ldc2_w 83, 3) := dk_20 0 83 (dk_at dksX20_rounded_3 8 rfl rfl)
theorem dX20_rounded_82 : decode cX20_rounded 82 = .ok (.lload 10, 2) := dk_22 10 (dk_at dksX20_rounded_3 11 rfl rfl)
theorem dX20_rounded_84 : decode cX20_rounded 84 = .ok (.lmul, 1) := dk_105 (dk_at dksX20_rounded_3 13 rfl rfl)
theorem dX20_rounded_85 : decode cX20_rounded 85 = .ok (.lconst 1, 1) := dk_10 (dk_at dksX20_rounded_3 14 rfl rfl)
theorem dX20_rounded_86 : decode cX20_rounded 86 = .ok (.lsub, 1) := dk_101 (dk_at dksX20_rounded_3 15 rfl rfl)
theorem dX20_rounded_87 : decode cX20_rounded 87 = .ok (.land, 1) := dk_127 (dk_at dksX20_rounded_3 16 rfl rfl)
theorem dX20_rounded_88 : decode cX20_rounded 88 = .ok (.lstore 12, 2) := dk_55 12 (dk_at dksX20_rounded_3 17 rfl rfl)
theorem dX20_rounded_90 : decode cX20_rounded 90 = .ok (.lload_n 1, 1) := dk_31 (dk_at dksX20_rounded_3 19 rfl rfl)
theorem dX20_rounded_91 : decode cX20_rounded 91 = .ok (.iload 7, 2) := dk_21 7 (dk_at dksX20_rounded_3 20 rfl rfl)
theorem dX20_rounded_93 : decode cX20_rounded 93 = .ok (.lshr, 1) := dk_123 (dk_at dksX20_rounded_3 22 rfl rfl)
theorem dX20_rounded_94 : decode cX20_rounded 94 = .ok (.lstore 8, 2) := dk_55 8 (dk_at dksX20_rounded_4 0 rfl rfl)
theorem dX20_rounded_96 : decode cX20_rounded 96 = .ok (.lload 12, 2) := dk_22 12 (dk_at dksX20_rounded_4 2 rfl rfl)
theorem dX20_rounded_98 : decode cX20_rounded 98 = .ok (.lload 10, 2) := dk_22 10 (dk_at dksX20_rounded_4 4 rfl rfl)
theorem dX20_rounded_100 : decode cX20_rounded 100 = .ok (.lcmp, 1) := dk_148 (dk_at dksX20_rounded_4 6 rfl rfl)
theorem dX20_rounded_101 : decode cX20_rounded 101 = .ok (.ifCond .gt 25, 3) := dk_157 0 25 (dk_at dksX20_rounded_4 7 rfl rfl)
theorem dX20_rounded_104 : decode cX20_rounded 104 = .ok (.lload 12, 2) := dk_22 12 (dk_at dksX20_rounded_4 10 rfl rfl)
theorem dX20_rounded_106 : decode cX20_rounded 106 = .ok (.lload 10, 2) := dk_22 10 (dk_at dksX20_rounded_4 12 rfl rfl)
theorem dX20_rounded_108 : decode cX20_rounded 108 = .ok (.lcmp, 1) := dk_148 (dk_at dksX20_rounded_4 14 rfl rfl)
theorem dX20_rounded_109 : decode cX20_rounded 109 = .ok (.ifCond .ne 23, 3) := dk_154 0 23 (dk_at dksX20_rounded_4 15 rfl rfl)
theorem dX20_rounded_112 : decode cX20_rounded 112 = .ok (.iload 4, 2) := dk_21 4 (dk_at dksX20_rounded_4 18 rfl rfl)
theorem dX20_rounded_114 : decode cX20_rounded 114 = .ok (.ifCond .ne 12, 3) := dk_154 0 12 (dk_at dksX20_rounded_4 20 rfl rfl)
theorem dX20_rounded_117 : decode cX20_rounded 117 = .ok (.lload 8, 2) := dk_22 8 (dk_at dksX20_rounded_5 0 rfl rfl)
theorem dX20_rounded_119 : decode cX20_rounded 119 = .ok (.lconst 1, 1) := dk_10 (dk_at dksX20_rounded_5 2 rfl rfl)
theorem dX20_rounded_120 : decode cX20_rounded 120 = .ok (.land, 1) := dk_127 (dk_at dksX20_rounded_5 3 rfl rfl)
theorem dX20_rounded_121 : decode cX20_rounded 121 = .ok (.lconst 1, 1) := dk_10 (dk_at dksX20_rounded_5 4 rfl rfl)
theorem dX20_rounded_122 : decode cX20_rounded 122 = .ok (.lcmp, 1) := dk_148 (dk_at dksX20_rounded_5 5 rfl rfl)
theorem dX20_rounded_123 : decode cX20_rounded 123 = .ok (.ifCond .ne 9, 3) := dk_154 0 9 (dk_at dksX20_rounded_5 6 rfl rfl)
theorem dX20_rounded_126 : decode cX20_rounded 126 = .ok (.lload 8, 2) := dk_22 8 (dk_at dksX20_rounded_5 9 rfl rfl)
theorem dX20_rounded_128 : decode cX20_rounded 128 = .ok (.lconst 1, 1) := dk_10 (dk_at dksX20_rounded_5 11 rfl rfl)
theorem dX20_rounded_129 : decode cX20_rounded 129 = .ok (.ladd, 1) := dk_97 (dk_at dksX20_rounded_5 12 rfl rfl)
theorem dX20_rounded_130 : decode cX20_rounded 130 = .ok (.lstore 8, 2) := dk_55 8 (dk_at dksX20_rounded_5 13 rfl rfl)
theorem dX20_rounded_132 : decode cX20_rounded 132 = .ok (.lload 8, 2) := dk_22 8 (dk_at dksX20_rounded_5 15 rfl rfl)
theorem dX20_rounded_134 : decode cX20_rounded 134 = .ok (.ldc2_w 85, 3) := dk_20 0 85 (dk_at dksX20_rounded_5 17 rfl rfl)
theorem dX20_rounded_137 : decode cX20_rounded 137 = .ok (.lcmp, 1) := dk_148 (dk_at dksX20_rounded_5 20 rfl rfl)
theorem dX20_rounded_138 : decode cX20_rounded 138 = .ok (.ifCond .ne 11, 3) := dk_154 0 11 (dk_at dksX20_rounded_5 21 rfl rfl)
theorem dX20_rounded_141 : decode cX20_rounded 141 = .ok (.ldc2_w 87, 3) := dk_20 0 87 (dk_at dksX20_rounded_6 0 rfl rfl)
theorem dX20_rounded_144 : decode cX20_rounded 144 = .ok (.lstore 8, 2) := dk_55 8 (dk_at dksX20_rounded_6 3 rfl rfl)
theorem dX20_rounded_146 : decode cX20_rounded 146 = .ok (.iinc 6 1, 3) := dk_132 6 1 (dk_at dksX20_rounded_6 5 rfl rfl)
theorem dX20_rounded_149 : decode cX20_rounded 149 = .ok (.lload 8, 2) := dk_22 8 (dk_at dksX20_rounded_6 8 rfl rfl)
theorem dX20_rounded_151 : decode cX20_rounded 151 = .ok (.ldc2_w 87, 3) := dk_20 0 87 (dk_at dksX20_rounded_6 10 rfl rfl)
theorem dX20_rounded_154 : decode cX20_rounded 154 = .ok (.lcmp, 1) := dk_148 (dk_at dksX20_rounded_6 13 rfl rfl)
theorem dX20_rounded_155 : decode cX20_rounded 155 = .ok (.ifCond .ge 10, 3) := dk_156 0 10 (dk_at dksX20_rounded_6 14 rfl rfl)
theorem dX20_rounded_158 : decode cX20_rounded 158 = .ok (.iload 5, 2) := dk_21 5 (dk_at dksX20_rounded_6 17 rfl rfl)
theorem dX20_rounded_160 : decode cX20_rounded 160 = .ok (.lload 8, 2) := dk_22 8 (dk_at dksX20_rounded_6 19 rfl rfl)
theorem dX20_rounded_162 : decode cX20_rounded 162 = .ok (.l2i, 1) := dk_136 (dk_at dksX20_rounded_6 21 rfl rfl)
theorem dX20_rounded_163 : decode cX20_rounded 163 = .ok (.ior, 1) := dk_128 (dk_at dksX20_rounded_6 22 rfl rfl)
theorem dX20_rounded_164 : decode cX20_rounded 164 = .ok (.ireturn, 1) := dk_172 (dk_at dksX20_rounded_6 23 rfl rfl)
theorem dX20_rounded_165 : decode cX20_rounded 165 = .ok (.iload 6, 2) := dk_21 6 (dk_at dksX20_rounded_7 0 rfl rfl)
theorem dX20_rounded_167 : decode cX20_rounded 167 = .ok (.bipush 104, 2) := dk_16 104 (dk_at dksX20_rounded_7 2 rfl rfl)
theorem dX20_rounded_169 : decode cX20_rounded 169 = .ok (.if_icmp .le 9, 3) := dk_164 0 9 (dk_at dksX20_rounded_7 4 rfl rfl)
theorem dX20_rounded_172 : decode cX20_rounded 172 = .ok (.iload 5, 2) := dk_21 5 (dk_at dksX20_rounded_7 7 rfl rfl)
theorem dX20_rounded_174 : decode cX20_rounded 174 = .ok (.ldc 89, 2) := dk_18 89 (dk_at dksX20_rounded_7 9 rfl rfl)
theorem dX20_rounded_176 : decode cX20_rounded 176 = .ok (.ior, 1) := dk_128 (dk_at dksX20_rounded_7 11 rfl rfl)
theorem dX20_rounded_177 : decode cX20_rounded 177 = .ok (.ireturn, 1) := dk_172 (dk_at dksX20_rounded_7 12 rfl rfl)
theorem dX20_rounded_178 : decode cX20_rounded 178 = .ok (.iload 5, 2) := dk_21 5 (dk_at dksX20_rounded_7 13 rfl rfl)
theorem dX20_rounded_180 : decode cX20_rounded 180 = .ok (.iload 6, 2) := dk_21 6 (dk_at dksX20_rounded_7 15 rfl rfl)
theorem dX20_rounded_182 : decode cX20_rounded 182 = .ok (.sipush 150, 3) := dk_17 0 150 (dk_at dksX20_rounded_7 17 rfl rfl)
theorem dX20_rounded_185 : decode cX20_rounded 185 = .ok (.iadd, 1) := dk_96 (dk_at dksX20_rounded_7 20 rfl rfl)
theorem dX20_rounded_186 : decode cX20_rounded 186 = .ok (.bipush 23, 2) := dk_16 23 (dk_at dksX20_rounded_7 21 rfl rfl)
theorem dX20_rounded_188 : decode cX20_rounded 188 = .ok (.ishl, 1) := dk_120 (dk_at dksX20_rounded_7 23 rfl rfl)
theorem dX20_rounded_189 : decode cX20_rounded 189 = .ok (.ior, 1) := dk_128 (dk_at dksX20_rounded_8 0 rfl rfl)
theorem dX20_rounded_190 : decode cX20_rounded 190 = .ok (.lload 8, 2) := dk_22 8 (dk_at dksX20_rounded_8 1 rfl rfl)
theorem dX20_rounded_192 : decode cX20_rounded 192 = .ok (.l2i, 1) := dk_136 (dk_at dksX20_rounded_8 3 rfl rfl)
theorem dX20_rounded_193 : decode cX20_rounded 193 = .ok (.ldc 76, 2) := dk_18 76 (dk_at dksX20_rounded_8 4 rfl rfl)
theorem dX20_rounded_195 : decode cX20_rounded 195 = .ok (.iand, 1) := dk_126 (dk_at dksX20_rounded_8 6 rfl rfl)
theorem dX20_rounded_196 : decode cX20_rounded 196 = .ok (.ior, 1) := dk_128 (dk_at dksX20_rounded_8 7 rfl rfl)
theorem dX20_rounded_197 : decode cX20_rounded 197 = .ok (.ireturn, 1) := dk_172 (dk_at dksX20_rounded_8 8 rfl rfl)
abbrev cX20_lengthOf : ByteArray := prog_52_method_8_code
def yX20_lengthOf : MethodName := ⟨RX20, "lengthOf", "(J)I"⟩
def dkwX20_lengthOf_0 : List UInt8 := [3, 61, 30, 66, 33, 9, 148, 158, 0, 13, 132, 2, 1, 33, 4, 123, 66, 167, 255, 243, 28, 172]
abbrev dktX20_lengthOf_0 : List UInt8 := dkwX20_lengthOf_0 ++ []
theorem dksX20_lengthOf_0 : cX20_lengthOf.data.toList.drop 0 = dktX20_lengthOf_0 := by decide +kernel
theorem dX20_lengthOf_0 : decode cX20_lengthOf 0 = .ok (.iconst 0, 1) := dk_3 (dk_at dksX20_lengthOf_0 0 rfl rfl)
theorem dX20_lengthOf_1 : decode cX20_lengthOf 1 = .ok (.istore_n 2, 1) := dk_61 (dk_at dksX20_lengthOf_0 1 rfl rfl)
theorem dX20_lengthOf_2 : decode cX20_lengthOf 2 = .ok (.lload_n 0, 1) := dk_30 (dk_at dksX20_lengthOf_0 2 rfl rfl)
theorem dX20_lengthOf_3 : decode cX20_lengthOf 3 = .ok (.lstore_n 3, 1) := dk_66 (dk_at dksX20_lengthOf_0 3 rfl rfl)
theorem dX20_lengthOf_4 : decode cX20_lengthOf 4 = .ok (.lload_n 3, 1) := dk_33 (dk_at dksX20_lengthOf_0 4 rfl rfl)
theorem dX20_lengthOf_5 : decode cX20_lengthOf 5 = .ok (.lconst 0, 1) := dk_9 (dk_at dksX20_lengthOf_0 5 rfl rfl)
theorem dX20_lengthOf_6 : decode cX20_lengthOf 6 = .ok (.lcmp, 1) := dk_148 (dk_at dksX20_lengthOf_0 6 rfl rfl)
theorem dX20_lengthOf_7 : decode cX20_lengthOf 7 = .ok (.ifCond .le 13, 3) := dk_158 0 13 (dk_at dksX20_lengthOf_0 7 rfl rfl)
theorem dX20_lengthOf_10 : decode cX20_lengthOf 10 = .ok (.iinc 2 1, 3) := dk_132 2 1 (dk_at dksX20_lengthOf_0 10 rfl rfl)
theorem dX20_lengthOf_13 : decode cX20_lengthOf 13 = .ok (.lload_n 3, 1) := dk_33 (dk_at dksX20_lengthOf_0 13 rfl rfl)
theorem dX20_lengthOf_14 : decode cX20_lengthOf 14 = .ok (.iconst 1, 1) := dk_4 (dk_at dksX20_lengthOf_0 14 rfl rfl)
theorem dX20_lengthOf_15 : decode cX20_lengthOf 15 = .ok (.lshr, 1) := dk_123 (dk_at dksX20_lengthOf_0 15 rfl rfl)
theorem dX20_lengthOf_16 : decode cX20_lengthOf 16 = .ok (.lstore_n 3, 1) := dk_66 (dk_at dksX20_lengthOf_0 16 rfl rfl)
theorem dX20_lengthOf_17 : decode cX20_lengthOf 17 = .ok (.goto (-13), 3) := dk_167 255 243 (dk_at dksX20_lengthOf_0 17 rfl rfl)
theorem dX20_lengthOf_20 : decode cX20_lengthOf 20 = .ok (.iload_n 2, 1) := dk_28 (dk_at dksX20_lengthOf_0 20 rfl rfl)
theorem dX20_lengthOf_21 : decode cX20_lengthOf 21 = .ok (.ireturn, 1) := dk_172 (dk_at dksX20_lengthOf_0 21 rfl rfl)
abbrev cX20_isFinite : ByteArray := prog_52_method_9_code
def yX20_isFinite : MethodName := ⟨RX20, "isFinite", "(I)Z"⟩
def dkwX20_isFinite_0 : List UInt8 := [26, 16, 23, 122, 17, 0, 255, 126, 17, 0, 255, 159, 0, 7, 4, 167, 0, 4, 3, 172]
abbrev dktX20_isFinite_0 : List UInt8 := dkwX20_isFinite_0 ++ []
theorem dksX20_isFinite_0 : cX20_isFinite.data.toList.drop 0 = dktX20_isFinite_0 := by decide +kernel
theorem dX20_isFinite_0 : decode cX20_isFinite 0 = .ok (.iload_n 0, 1) := dk_26 (dk_at dksX20_isFinite_0 0 rfl rfl)
theorem dX20_isFinite_1 : decode cX20_isFinite 1 = .ok (.bipush 23, 2) := dk_16 23 (dk_at dksX20_isFinite_0 1 rfl rfl)
theorem dX20_isFinite_3 : decode cX20_isFinite 3 = .ok (.ishr, 1) := dk_122 (dk_at dksX20_isFinite_0 3 rfl rfl)
theorem dX20_isFinite_4 : decode cX20_isFinite 4 = .ok (.sipush 255, 3) := dk_17 0 255 (dk_at dksX20_isFinite_0 4 rfl rfl)
theorem dX20_isFinite_7 : decode cX20_isFinite 7 = .ok (.iand, 1) := dk_126 (dk_at dksX20_isFinite_0 7 rfl rfl)
theorem dX20_isFinite_8 : decode cX20_isFinite 8 = .ok (.sipush 255, 3) := dk_17 0 255 (dk_at dksX20_isFinite_0 8 rfl rfl)
theorem dX20_isFinite_11 : decode cX20_isFinite 11 = .ok (.if_icmp .eq 7, 3) := dk_159 0 7 (dk_at dksX20_isFinite_0 11 rfl rfl)
theorem dX20_isFinite_14 : decode cX20_isFinite 14 = .ok (.iconst 1, 1) := dk_4 (dk_at dksX20_isFinite_0 14 rfl rfl)
theorem dX20_isFinite_15 : decode cX20_isFinite 15 = .ok (.goto 4, 3) := dk_167 0 4 (dk_at dksX20_isFinite_0 15 rfl rfl)
theorem dX20_isFinite_18 : decode cX20_isFinite 18 = .ok (.iconst 0, 1) := dk_3 (dk_at dksX20_isFinite_0 18 rfl rfl)
theorem dX20_isFinite_19 : decode cX20_isFinite 19 = .ok (.ireturn, 1) := dk_172 (dk_at dksX20_isFinite_0 19 rfl rfl)
abbrev cX20_product : ByteArray := prog_52_method_13_code
def yX20_product : MethodName := ⟨RX20, "product", "(II)I"⟩
def dkwX20_product_2 : List UInt8 := [184, 0, 94, 96, 3, 184, 0, 98, 172]
abbrev dktX20_product_2 : List UInt8 := dkwX20_product_2 ++ []
def dkwX20_product_1 : List UInt8 := [148, 154, 0, 14, 28, 153, 0, 8, 18, 78, 167, 0, 4, 3, 172, 28, 33, 26, 184, 0, 94, 27]
abbrev dktX20_product_1 : List UInt8 := dkwX20_product_1 ++ dktX20_product_2
def dkwX20_product_0 : List UInt8 := [26, 27, 130, 156, 0, 7, 4, 167, 0, 4, 3, 61, 26, 184, 0, 90, 27, 184, 0, 90, 105, 66, 33, 9]
abbrev dktX20_product_0 : List UInt8 := dkwX20_product_0 ++ dktX20_product_1
theorem dksX20_product_0 : cX20_product.data.toList.drop 0 = dktX20_product_0 := by decide +kernel
theorem dksX20_product_1 : cX20_product.data.toList.drop 24 = dktX20_product_1 := dk_seg dksX20_product_0 24 rfl rfl
theorem dksX20_product_2 : cX20_product.data.toList.drop 46 = dktX20_product_2 := dk_seg dksX20_product_1 22 rfl rfl
theorem dX20_product_0 : decode cX20_product 0 = .ok (.iload_n 0, 1) := dk_26 (dk_at dksX20_product_0 0 rfl rfl)
theorem dX20_product_1 : decode cX20_product 1 = .ok (.iload_n 1, 1) := dk_27 (dk_at dksX20_product_0 1 rfl rfl)
theorem dX20_product_2 : decode cX20_product 2 = .ok (.ixor, 1) := dk_130 (dk_at dksX20_product_0 2 rfl rfl)
theorem dX20_product_3 : decode cX20_product 3 = .ok (.ifCond .ge 7, 3) := dk_156 0 7 (dk_at dksX20_product_0 3 rfl rfl)
theorem dX20_product_6 : decode cX20_product 6 = .ok (.iconst 1, 1) := dk_4 (dk_at dksX20_product_0 6 rfl rfl)
theorem dX20_product_7 : decode cX20_product 7 = .ok (.goto 4, 3) := dk_167 0 4 (dk_at dksX20_product_0 7 rfl rfl)
theorem dX20_product_10 : decode cX20_product 10 = .ok (.iconst 0, 1) := dk_3 (dk_at dksX20_product_0 10 rfl rfl)
theorem dX20_product_11 : decode cX20_product 11 = .ok (.istore_n 2, 1) := dk_61 (dk_at dksX20_product_0 11 rfl rfl)
theorem dX20_product_12 : decode cX20_product 12 = .ok (.iload_n 0, 1) := dk_26 (dk_at dksX20_product_0 12 rfl rfl)
theorem dX20_product_13 : decode cX20_product 13 = .ok (.invokestatic 90, 3) := dk_184 0 90 (dk_at dksX20_product_0 13 rfl rfl)
theorem dX20_product_16 : decode cX20_product 16 = .ok (.iload_n 1, 1) := dk_27 (dk_at dksX20_product_0 16 rfl rfl)
theorem dX20_product_17 : decode cX20_product 17 = .ok (.invokestatic 90, 3) := dk_184 0 90 (dk_at dksX20_product_0 17 rfl rfl)
theorem dX20_product_20 : decode cX20_product 20 = .ok (.lmul, 1) := dk_105 (dk_at dksX20_product_0 20 rfl rfl)
theorem dX20_product_21 : decode cX20_product 21 = .ok (.lstore_n 3, 1) := dk_66 (dk_at dksX20_product_0 21 rfl rfl)
theorem dX20_product_22 : decode cX20_product 22 = .ok (.lload_n 3, 1) := dk_33 (dk_at dksX20_product_0 22 rfl rfl)
theorem dX20_product_23 : decode cX20_product 23 = .ok (.lconst 0, 1) := dk_9 (dk_at dksX20_product_0 23 rfl rfl)
theorem dX20_product_24 : decode cX20_product 24 = .ok (.lcmp, 1) := dk_148 (dk_at dksX20_product_1 0 rfl rfl)
theorem dX20_product_25 : decode cX20_product 25 = .ok (.ifCond .ne 14, 3) := dk_154 0 14 (dk_at dksX20_product_1 1 rfl rfl)
theorem dX20_product_28 : decode cX20_product 28 = .ok (.iload_n 2, 1) := dk_28 (dk_at dksX20_product_1 4 rfl rfl)
theorem dX20_product_29 : decode cX20_product 29 = .ok (.ifCond .eq 8, 3) := dk_153 0 8 (dk_at dksX20_product_1 5 rfl rfl)
theorem dX20_product_32 : decode cX20_product 32 = .ok (.ldc 78, 2) := dk_18 78 (dk_at dksX20_product_1 8 rfl rfl)
theorem dX20_product_34 : decode cX20_product 34 = .ok (.goto 4, 3) := dk_167 0 4 (dk_at dksX20_product_1 10 rfl rfl)
theorem dX20_product_37 : decode cX20_product 37 = .ok (.iconst 0, 1) := dk_3 (dk_at dksX20_product_1 13 rfl rfl)
theorem dX20_product_38 : decode cX20_product 38 = .ok (.ireturn, 1) := dk_172 (dk_at dksX20_product_1 14 rfl rfl)
theorem dX20_product_39 : decode cX20_product 39 = .ok (.iload_n 2, 1) := dk_28 (dk_at dksX20_product_1 15 rfl rfl)
theorem dX20_product_40 : decode cX20_product 40 = .ok (.lload_n 3, 1) := dk_33 (dk_at dksX20_product_1 16 rfl rfl)
theorem dX20_product_41 : decode cX20_product 41 = .ok (.iload_n 0, 1) := dk_26 (dk_at dksX20_product_1 17 rfl rfl)
theorem dX20_product_42 : decode cX20_product 42 = .ok (.invokestatic 94, 3) := dk_184 0 94 (dk_at dksX20_product_1 18 rfl rfl)
theorem dX20_product_45 : decode cX20_product 45 = .ok (.iload_n 1, 1) := dk_27 (dk_at dksX20_product_1 21 rfl rfl)
theorem dX20_product_46 : decode cX20_product 46 = .ok (.invokestatic 94, 3) := dk_184 0 94 (dk_at dksX20_product_2 0 rfl rfl)
theorem dX20_product_49 : decode cX20_product 49 = .ok (.iadd, 1) := dk_96 (dk_at dksX20_product_2 3 rfl rfl)
theorem dX20_product_50 : decode cX20_product 50 = .ok (.iconst 0, 1) := dk_3 (dk_at dksX20_product_2 4 rfl rfl)
theorem dX20_product_51 : decode cX20_product 51 = .ok (.invokestatic 98, 3) := dk_184 0 98 (dk_at dksX20_product_2 5 rfl rfl)
theorem dX20_product_54 : decode cX20_product 54 = .ok (.ireturn, 1) := dk_172 (dk_at dksX20_product_2 8 rfl rfl)
abbrev cX20_made : ByteArray := prog_52_method_40_code
def yX20_made : MethodName := ⟨RX20, "made", "(IIII)I"⟩
def dkwX20_made_3 : List UInt8 := [21, 4, 120, 167, 0, 10, 27, 21, 4, 16, 32, 100, 122, 172]
abbrev dktX20_made_3 : List UInt8 := dkwX20_made_3 ++ []
def dkwX20_made_2 : List UInt8 := [16, 6, 160, 0, 7, 27, 28, 130, 172, 29, 16, 63, 126, 54, 4, 21, 4, 16, 32, 162, 0, 10, 27]
abbrev dktX20_made_2 : List UInt8 := dkwX20_made_2 ++ dktX20_made_3
def dkwX20_made_1 : List UInt8 := [28, 104, 172, 26, 8, 160, 0, 17, 28, 2, 160, 0, 8, 27, 116, 167, 0, 6, 27, 28, 108, 172, 26]
abbrev dktX20_made_1 : List UInt8 := dkwX20_made_1 ++ dktX20_made_2
def dkwX20_made_0 : List UInt8 := [26, 5, 160, 0, 7, 27, 28, 96, 172, 26, 6, 160, 0, 7, 27, 28, 100, 172, 26, 7, 160, 0, 7, 27]
abbrev dktX20_made_0 : List UInt8 := dkwX20_made_0 ++ dktX20_made_1
theorem dksX20_made_0 : cX20_made.data.toList.drop 0 = dktX20_made_0 := by decide +kernel
theorem dksX20_made_1 : cX20_made.data.toList.drop 24 = dktX20_made_1 := dk_seg dksX20_made_0 24 rfl rfl
theorem dksX20_made_2 : cX20_made.data.toList.drop 47 = dktX20_made_2 := dk_seg dksX20_made_1 23 rfl rfl
theorem dksX20_made_3 : cX20_made.data.toList.drop 70 = dktX20_made_3 := dk_seg dksX20_made_2 23 rfl rfl
theorem dX20_made_0 : decode cX20_made 0 = .ok (.iload_n 0, 1) := dk_26 (dk_at dksX20_made_0 0 rfl rfl)
theorem dX20_made_1 : decode cX20_made 1 = .ok (.iconst 2, 1) := dk_5 (dk_at dksX20_made_0 1 rfl rfl)
theorem dX20_made_2 : decode cX20_made 2 = .ok (.if_icmp .ne 7, 3) := dk_160 0 7 (dk_at dksX20_made_0 2 rfl rfl)
theorem dX20_made_5 : decode cX20_made 5 = .ok (.iload_n 1, 1) := dk_27 (dk_at dksX20_made_0 5 rfl rfl)
theorem dX20_made_6 : decode cX20_made 6 = .ok (.iload_n 2, 1) := dk_28 (dk_at dksX20_made_0 6 rfl rfl)
theorem dX20_made_7 : decode cX20_made 7 = .ok (.iadd, 1) := dk_96 (dk_at dksX20_made_0 7 rfl rfl)
theorem dX20_made_8 : decode cX20_made 8 = .ok (.ireturn, 1) := dk_172 (dk_at dksX20_made_0 8 rfl rfl)
theorem dX20_made_9 : decode cX20_made 9 = .ok (.iload_n 0, 1) := dk_26 (dk_at dksX20_made_0 9 rfl rfl)
theorem dX20_made_10 : decode cX20_made 10 = .ok (.iconst 3, 1) := dk_6 (dk_at dksX20_made_0 10 rfl rfl)
theorem dX20_made_11 : decode cX20_made 11 = .ok (.if_icmp .ne 7, 3) := dk_160 0 7 (dk_at dksX20_made_0 11 rfl rfl)
theorem dX20_made_14 : decode cX20_made 14 = .ok (.iload_n 1, 1) := dk_27 (dk_at dksX20_made_0 14 rfl rfl)
theorem dX20_made_15 : decode cX20_made 15 = .ok (.iload_n 2, 1) := dk_28 (dk_at dksX20_made_0 15 rfl rfl)
theorem dX20_made_16 : decode cX20_made 16 = .ok (.isub, 1) := dk_100 (dk_at dksX20_made_0 16 rfl rfl)
theorem dX20_made_17 : decode cX20_made 17 = .ok (.ireturn, 1) := dk_172 (dk_at dksX20_made_0 17 rfl rfl)
theorem dX20_made_18 : decode cX20_made 18 = .ok (.iload_n 0, 1) := dk_26 (dk_at dksX20_made_0 18 rfl rfl)
theorem dX20_made_19 : decode cX20_made 19 = .ok (.iconst 4, 1) := dk_7 (dk_at dksX20_made_0 19 rfl rfl)
theorem dX20_made_20 : decode cX20_made 20 = .ok (.if_icmp .ne 7, 3) := dk_160 0 7 (dk_at dksX20_made_0 20 rfl rfl)
theorem dX20_made_23 : decode cX20_made 23 = .ok (.iload_n 1, 1) := dk_27 (dk_at dksX20_made_0 23 rfl rfl)
theorem dX20_made_24 : decode cX20_made 24 = .ok (.iload_n 2, 1) := dk_28 (dk_at dksX20_made_1 0 rfl rfl)
theorem dX20_made_25 : decode cX20_made 25 = .ok (.imul, 1) := dk_104 (dk_at dksX20_made_1 1 rfl rfl)
theorem dX20_made_26 : decode cX20_made 26 = .ok (.ireturn, 1) := dk_172 (dk_at dksX20_made_1 2 rfl rfl)
theorem dX20_made_27 : decode cX20_made 27 = .ok (.iload_n 0, 1) := dk_26 (dk_at dksX20_made_1 3 rfl rfl)
theorem dX20_made_28 : decode cX20_made 28 = .ok (.iconst 5, 1) := dk_8 (dk_at dksX20_made_1 4 rfl rfl)
theorem dX20_made_29 : decode cX20_made 29 = .ok (.if_icmp .ne 17, 3) := dk_160 0 17 (dk_at dksX20_made_1 5 rfl rfl)
theorem dX20_made_32 : decode cX20_made 32 = .ok (.iload_n 2, 1) := dk_28 (dk_at dksX20_made_1 8 rfl rfl)
theorem dX20_made_33 : decode cX20_made 33 = .ok (.iconst (-1), 1) := dk_2 (dk_at dksX20_made_1 9 rfl rfl)
theorem dX20_made_34 : decode cX20_made 34 = .ok (.if_icmp .ne 8, 3) := dk_160 0 8 (dk_at dksX20_made_1 10 rfl rfl)
theorem dX20_made_37 : decode cX20_made 37 = .ok (.iload_n 1, 1) := dk_27 (dk_at dksX20_made_1 13 rfl rfl)
theorem dX20_made_38 : decode cX20_made 38 = .ok (.ineg, 1) := dk_116 (dk_at dksX20_made_1 14 rfl rfl)
theorem dX20_made_39 : decode cX20_made 39 = .ok (.goto 6, 3) := dk_167 0 6 (dk_at dksX20_made_1 15 rfl rfl)
theorem dX20_made_42 : decode cX20_made 42 = .ok (.iload_n 1, 1) := dk_27 (dk_at dksX20_made_1 18 rfl rfl)
theorem dX20_made_43 : decode cX20_made 43 = .ok (.iload_n 2, 1) := dk_28 (dk_at dksX20_made_1 19 rfl rfl)
theorem dX20_made_44 : decode cX20_made 44 = .ok (.idiv, 1) := dk_108 (dk_at dksX20_made_1 20 rfl rfl)
theorem dX20_made_45 : decode cX20_made 45 = .ok (.ireturn, 1) := dk_172 (dk_at dksX20_made_1 21 rfl rfl)
theorem dX20_made_46 : decode cX20_made 46 = .ok (.iload_n 0, 1) := dk_26 (dk_at dksX20_made_1 22 rfl rfl)
theorem dX20_made_47 : decode cX20_made 47 = .ok (.bipush 6, 2) := dk_16 6 (dk_at dksX20_made_2 0 rfl rfl)
theorem dX20_made_49 : decode cX20_made 49 = .ok (.if_icmp .ne 7, 3) := dk_160 0 7 (dk_at dksX20_made_2 2 rfl rfl)
theorem dX20_made_52 : decode cX20_made 52 = .ok (.iload_n 1, 1) := dk_27 (dk_at dksX20_made_2 5 rfl rfl)
theorem dX20_made_53 : decode cX20_made 53 = .ok (.iload_n 2, 1) := dk_28 (dk_at dksX20_made_2 6 rfl rfl)
theorem dX20_made_54 : decode cX20_made 54 = .ok (.ixor, 1) := dk_130 (dk_at dksX20_made_2 7 rfl rfl)
theorem dX20_made_55 : decode cX20_made 55 = .ok (.ireturn, 1) := dk_172 (dk_at dksX20_made_2 8 rfl rfl)
theorem dX20_made_56 : decode cX20_made 56 = .ok (.iload_n 3, 1) := dk_29 (dk_at dksX20_made_2 9 rfl rfl)
theorem dX20_made_57 : decode cX20_made 57 = .ok (.bipush 63, 2) := dk_16 63 (dk_at dksX20_made_2 10 rfl rfl)
theorem dX20_made_59 : decode cX20_made 59 = .ok (.iand, 1) := dk_126 (dk_at dksX20_made_2 12 rfl rfl)
theorem dX20_made_60 : decode cX20_made 60 = .ok (.istore 4, 2) := dk_54 4 (dk_at dksX20_made_2 13 rfl rfl)
theorem dX20_made_62 : decode cX20_made 62 = .ok (.iload 4, 2) := dk_21 4 (dk_at dksX20_made_2 15 rfl rfl)
theorem dX20_made_64 : decode cX20_made 64 = .ok (.bipush 32, 2) := dk_16 32 (dk_at dksX20_made_2 17 rfl rfl)
theorem dX20_made_66 : decode cX20_made 66 = .ok (.if_icmp .ge 10, 3) := dk_162 0 10 (dk_at dksX20_made_2 19 rfl rfl)
theorem dX20_made_69 : decode cX20_made 69 = .ok (.iload_n 1, 1) := dk_27 (dk_at dksX20_made_2 22 rfl rfl)
theorem dX20_made_70 : decode cX20_made 70 = .ok (.iload 4, 2) := dk_21 4 (dk_at dksX20_made_3 0 rfl rfl)
theorem dX20_made_72 : decode cX20_made 72 = .ok (.ishl, 1) := dk_120 (dk_at dksX20_made_3 2 rfl rfl)
theorem dX20_made_73 : decode cX20_made 73 = .ok (.goto 10, 3) := dk_167 0 10 (dk_at dksX20_made_3 3 rfl rfl)
theorem dX20_made_76 : decode cX20_made 76 = .ok (.iload_n 1, 1) := dk_27 (dk_at dksX20_made_3 6 rfl rfl)
theorem dX20_made_77 : decode cX20_made 77 = .ok (.iload 4, 2) := dk_21 4 (dk_at dksX20_made_3 7 rfl rfl)
theorem dX20_made_79 : decode cX20_made 79 = .ok (.bipush 32, 2) := dk_16 32 (dk_at dksX20_made_3 9 rfl rfl)
theorem dX20_made_81 : decode cX20_made 81 = .ok (.isub, 1) := dk_100 (dk_at dksX20_made_3 11 rfl rfl)
theorem dX20_made_82 : decode cX20_made 82 = .ok (.ishr, 1) := dk_122 (dk_at dksX20_made_3 12 rfl rfl)
theorem dX20_made_83 : decode cX20_made 83 = .ok (.ireturn, 1) := dk_172 (dk_at dksX20_made_3 13 rfl rfl)
abbrev cX20_comes : ByteArray := prog_52_method_39_code
def yX20_comes : MethodName := ⟨RX20, "comes", "([III)V"⟩
def dkwX20_comes_1 : List UInt8 := [156, 0, 7, 4, 167, 0, 4, 3, 79, 177]
abbrev dktX20_comes_1 : List UInt8 := dkwX20_comes_1 ++ []
def dkwX20_comes_0 : List UInt8 := [43, 3, 28, 96, 29, 79, 43, 16, 13, 29, 154, 0, 7, 4, 167, 0, 4, 3, 79, 43, 16, 14, 29]
abbrev dktX20_comes_0 : List UInt8 := dkwX20_comes_0 ++ dktX20_comes_1
theorem dksX20_comes_0 : cX20_comes.data.toList.drop 0 = dktX20_comes_0 := by decide +kernel
theorem dksX20_comes_1 : cX20_comes.data.toList.drop 23 = dktX20_comes_1 := dk_seg dksX20_comes_0 23 rfl rfl
theorem dX20_comes_0 : decode cX20_comes 0 = .ok (.aload_n 1, 1) := dk_43 (dk_at dksX20_comes_0 0 rfl rfl)
theorem dX20_comes_1 : decode cX20_comes 1 = .ok (.iconst 0, 1) := dk_3 (dk_at dksX20_comes_0 1 rfl rfl)
theorem dX20_comes_2 : decode cX20_comes 2 = .ok (.iload_n 2, 1) := dk_28 (dk_at dksX20_comes_0 2 rfl rfl)
theorem dX20_comes_3 : decode cX20_comes 3 = .ok (.iadd, 1) := dk_96 (dk_at dksX20_comes_0 3 rfl rfl)
theorem dX20_comes_4 : decode cX20_comes 4 = .ok (.iload_n 3, 1) := dk_29 (dk_at dksX20_comes_0 4 rfl rfl)
theorem dX20_comes_5 : decode cX20_comes 5 = .ok (.iastore, 1) := dk_79 (dk_at dksX20_comes_0 5 rfl rfl)
theorem dX20_comes_6 : decode cX20_comes 6 = .ok (.aload_n 1, 1) := dk_43 (dk_at dksX20_comes_0 6 rfl rfl)
theorem dX20_comes_7 : decode cX20_comes 7 = .ok (.bipush 13, 2) := dk_16 13 (dk_at dksX20_comes_0 7 rfl rfl)
theorem dX20_comes_9 : decode cX20_comes 9 = .ok (.iload_n 3, 1) := dk_29 (dk_at dksX20_comes_0 9 rfl rfl)
theorem dX20_comes_10 : decode cX20_comes 10 = .ok (.ifCond .ne 7, 3) := dk_154 0 7 (dk_at dksX20_comes_0 10 rfl rfl)
theorem dX20_comes_13 : decode cX20_comes 13 = .ok (.iconst 1, 1) := dk_4 (dk_at dksX20_comes_0 13 rfl rfl)
theorem dX20_comes_14 : decode cX20_comes 14 = .ok (.goto 4, 3) := dk_167 0 4 (dk_at dksX20_comes_0 14 rfl rfl)
theorem dX20_comes_17 : decode cX20_comes 17 = .ok (.iconst 0, 1) := dk_3 (dk_at dksX20_comes_0 17 rfl rfl)
theorem dX20_comes_18 : decode cX20_comes 18 = .ok (.iastore, 1) := dk_79 (dk_at dksX20_comes_0 18 rfl rfl)
theorem dX20_comes_19 : decode cX20_comes 19 = .ok (.aload_n 1, 1) := dk_43 (dk_at dksX20_comes_0 19 rfl rfl)
theorem dX20_comes_20 : decode cX20_comes 20 = .ok (.bipush 14, 2) := dk_16 14 (dk_at dksX20_comes_0 20 rfl rfl)
theorem dX20_comes_22 : decode cX20_comes 22 = .ok (.iload_n 3, 1) := dk_29 (dk_at dksX20_comes_0 22 rfl rfl)
theorem dX20_comes_23 : decode cX20_comes 23 = .ok (.ifCond .ge 7, 3) := dk_156 0 7 (dk_at dksX20_comes_1 0 rfl rfl)
theorem dX20_comes_26 : decode cX20_comes 26 = .ok (.iconst 1, 1) := dk_4 (dk_at dksX20_comes_1 3 rfl rfl)
theorem dX20_comes_27 : decode cX20_comes 27 = .ok (.goto 4, 3) := dk_167 0 4 (dk_at dksX20_comes_1 4 rfl rfl)
theorem dX20_comes_30 : decode cX20_comes 30 = .ok (.iconst 0, 1) := dk_3 (dk_at dksX20_comes_1 7 rfl rfl)
theorem dX20_comes_31 : decode cX20_comes 31 = .ok (.iastore, 1) := dk_79 (dk_at dksX20_comes_1 8 rfl rfl)
theorem dX20_comes_32 : decode cX20_comes 32 = .ok (.return_, 1) := dk_177 (dk_at dksX20_comes_1 9 rfl rfl)
abbrev cX20_moves : ByteArray := prog_52_method_43_code
def yX20_moves : MethodName := ⟨RX20, "moves", "([IIII)V"⟩
def dkwX20_moves_4 : List UInt8 := [79, 177]
abbrev dktX20_moves_4 : List UInt8 := dkwX20_moves_4 ++ []
def dkwX20_moves_3 : List UInt8 := [46, 4, 159, 0, 17, 28, 16, 13, 160, 0, 17, 43, 16, 14, 46, 4, 160, 0, 9, 43, 16, 12, 21, 4]
abbrev dktX20_moves_3 : List UInt8 := dkwX20_moves_3 ++ dktX20_moves_4
def dkwX20_moves_2 : List UInt8 := [16, 15, 46, 96, 46, 79, 167, 0, 43, 28, 16, 11, 159, 0, 31, 28, 16, 12, 160, 0, 11, 43, 16, 13]
abbrev dktX20_moves_2 : List UInt8 := dkwX20_moves_2 ++ dktX20_moves_3
def dkwX20_moves_1 : List UInt8 := [167, 0, 72, 28, 16, 10, 160, 0, 26, 43, 16, 15, 92, 46, 4, 100, 79, 43, 29, 43, 16, 56, 43]
abbrev dktX20_moves_1 : List UInt8 := dkwX20_moves_1 ++ dktX20_moves_2
def dkwX20_moves_0 : List UInt8 := [28, 16, 9, 160, 0, 24, 43, 16, 56, 43, 16, 15, 46, 96, 43, 29, 46, 79, 42, 43, 4, 182, 0, 186]
abbrev dktX20_moves_0 : List UInt8 := dkwX20_moves_0 ++ dktX20_moves_1
theorem dksX20_moves_0 : cX20_moves.data.toList.drop 0 = dktX20_moves_0 := by decide +kernel
theorem dksX20_moves_1 : cX20_moves.data.toList.drop 24 = dktX20_moves_1 := dk_seg dksX20_moves_0 24 rfl rfl
theorem dksX20_moves_2 : cX20_moves.data.toList.drop 47 = dktX20_moves_2 := dk_seg dksX20_moves_1 23 rfl rfl
theorem dksX20_moves_3 : cX20_moves.data.toList.drop 71 = dktX20_moves_3 := dk_seg dksX20_moves_2 24 rfl rfl
theorem dksX20_moves_4 : cX20_moves.data.toList.drop 95 = dktX20_moves_4 := dk_seg dksX20_moves_3 24 rfl rfl
theorem dX20_moves_0 : decode cX20_moves 0 = .ok (.iload_n 2, 1) := dk_28 (dk_at dksX20_moves_0 0 rfl rfl)
theorem dX20_moves_1 : decode cX20_moves 1 = .ok (.bipush 9, 2) := dk_16 9 (dk_at dksX20_moves_0 1 rfl rfl)
theorem dX20_moves_3 : decode cX20_moves 3 = .ok (.if_icmp .ne 24, 3) := dk_160 0 24 (dk_at dksX20_moves_0 3 rfl rfl)
theorem dX20_moves_6 : decode cX20_moves 6 = .ok (.aload_n 1, 1) := dk_43 (dk_at dksX20_moves_0 6 rfl rfl)
theorem dX20_moves_7 : decode cX20_moves 7 = .ok (.bipush 56, 2) := dk_16 56 (dk_at dksX20_moves_0 7 rfl rfl)
theorem dX20_moves_9 : decode cX20_moves 9 = .ok (.aload_n 1, 1) := dk_43 (dk_at dksX20_moves_0 9 rfl rfl)
theorem dX20_moves_10 : decode cX20_moves 10 = .ok (.bipush 15, 2) := dk_16 15 (dk_at dksX20_moves_0 10 rfl rfl)
theorem dX20_moves_12 : decode cX20_moves 12 = .ok (.iaload, 1) := dk_46 (dk_at dksX20_moves_0 12 rfl rfl)
theorem dX20_moves_13 : decode cX20_moves 13 = .ok (.iadd, 1) := dk_96 (dk_at dksX20_moves_0 13 rfl rfl)
theorem dX20_moves_14 : decode cX20_moves 14 = .ok (.aload_n 1, 1) := dk_43 (dk_at dksX20_moves_0 14 rfl rfl)
theorem dX20_moves_15 : decode cX20_moves 15 = .ok (.iload_n 3, 1) := dk_29 (dk_at dksX20_moves_0 15 rfl rfl)
theorem dX20_moves_16 : decode cX20_moves 16 = .ok (.iaload, 1) := dk_46 (dk_at dksX20_moves_0 16 rfl rfl)
theorem dX20_moves_17 : decode cX20_moves 17 = .ok (.iastore, 1) := dk_79 (dk_at dksX20_moves_0 17 rfl rfl)
theorem dX20_moves_18 : decode cX20_moves 18 = .ok (.aload_n 0, 1) := dk_42 (dk_at dksX20_moves_0 18 rfl rfl)
theorem dX20_moves_19 : decode cX20_moves 19 = .ok (.aload_n 1, 1) := dk_43 (dk_at dksX20_moves_0 19 rfl rfl)
theorem dX20_moves_20 : decode cX20_moves 20 = .ok (.iconst 1, 1) := dk_4 (dk_at dksX20_moves_0 20 rfl rfl)
theorem dX20_moves_21 : decode cX20_moves 21 = .ok (.invokevirtual 186, 3) := dk_182 0 186 (dk_at dksX20_moves_0 21 rfl rfl)
theorem dX20_moves_24 : decode cX20_moves 24 = .ok (.goto 72, 3) := dk_167 0 72 (dk_at dksX20_moves_1 0 rfl rfl)
theorem dX20_moves_27 : decode cX20_moves 27 = .ok (.iload_n 2, 1) := dk_28 (dk_at dksX20_moves_1 3 rfl rfl)
theorem dX20_moves_28 : decode cX20_moves 28 = .ok (.bipush 10, 2) := dk_16 10 (dk_at dksX20_moves_1 4 rfl rfl)
theorem dX20_moves_30 : decode cX20_moves 30 = .ok (.if_icmp .ne 26, 3) := dk_160 0 26 (dk_at dksX20_moves_1 6 rfl rfl)
theorem dX20_moves_33 : decode cX20_moves 33 = .ok (.aload_n 1, 1) := dk_43 (dk_at dksX20_moves_1 9 rfl rfl)
theorem dX20_moves_34 : decode cX20_moves 34 = .ok (.bipush 15, 2) := dk_16 15 (dk_at dksX20_moves_1 10 rfl rfl)
theorem dX20_moves_36 : decode cX20_moves 36 = .ok (.dup2, 1) := dk_92 (dk_at dksX20_moves_1 12 rfl rfl)
theorem dX20_moves_37 : decode cX20_moves 37 = .ok (.iaload, 1) := dk_46 (dk_at dksX20_moves_1 13 rfl rfl)
theorem dX20_moves_38 : decode cX20_moves 38 = .ok (.iconst 1, 1) := dk_4 (dk_at dksX20_moves_1 14 rfl rfl)
theorem dX20_moves_39 : decode cX20_moves 39 = .ok (.isub, 1) := dk_100 (dk_at dksX20_moves_1 15 rfl rfl)
theorem dX20_moves_40 : decode cX20_moves 40 = .ok (.iastore, 1) := dk_79 (dk_at dksX20_moves_1 16 rfl rfl)
theorem dX20_moves_41 : decode cX20_moves 41 = .ok (.aload_n 1, 1) := dk_43 (dk_at dksX20_moves_1 17 rfl rfl)
theorem dX20_moves_42 : decode cX20_moves 42 = .ok (.iload_n 3, 1) := dk_29 (dk_at dksX20_moves_1 18 rfl rfl)
theorem dX20_moves_43 : decode cX20_moves 43 = .ok (.aload_n 1, 1) := dk_43 (dk_at dksX20_moves_1 19 rfl rfl)
theorem dX20_moves_44 : decode cX20_moves 44 = .ok (.bipush 56, 2) := dk_16 56 (dk_at dksX20_moves_1 20 rfl rfl)
theorem dX20_moves_46 : decode cX20_moves 46 = .ok (.aload_n 1, 1) := dk_43 (dk_at dksX20_moves_1 22 rfl rfl)
theorem dX20_moves_47 : decode cX20_moves 47 = .ok (.bipush 15, 2) := dk_16 15 (dk_at dksX20_moves_2 0 rfl rfl)
theorem dX20_moves_49 : decode cX20_moves 49 = .ok (.iaload, 1) := dk_46 (dk_at dksX20_moves_2 2 rfl rfl)
theorem dX20_moves_50 : decode cX20_moves 50 = .ok (.iadd, 1) := dk_96 (dk_at dksX20_moves_2 3 rfl rfl)
theorem dX20_moves_51 : decode cX20_moves 51 = .ok (.iaload, 1) := dk_46 (dk_at dksX20_moves_2 4 rfl rfl)
theorem dX20_moves_52 : decode cX20_moves 52 = .ok (.iastore, 1) := dk_79 (dk_at dksX20_moves_2 5 rfl rfl)
theorem dX20_moves_53 : decode cX20_moves 53 = .ok (.goto 43, 3) := dk_167 0 43 (dk_at dksX20_moves_2 6 rfl rfl)
theorem dX20_moves_56 : decode cX20_moves 56 = .ok (.iload_n 2, 1) := dk_28 (dk_at dksX20_moves_2 9 rfl rfl)
theorem dX20_moves_57 : decode cX20_moves 57 = .ok (.bipush 11, 2) := dk_16 11 (dk_at dksX20_moves_2 10 rfl rfl)
theorem dX20_moves_59 : decode cX20_moves 59 = .ok (.if_icmp .eq 31, 3) := dk_159 0 31 (dk_at dksX20_moves_2 12 rfl rfl)
theorem dX20_moves_62 : decode cX20_moves 62 = .ok (.iload_n 2, 1) := dk_28 (dk_at dksX20_moves_2 15 rfl rfl)
theorem dX20_moves_63 : decode cX20_moves 63 = .ok (.bipush 12, 2) := dk_16 12 (dk_at dksX20_moves_2 16 rfl rfl)
theorem dX20_moves_65 : decode cX20_moves 65 = .ok (.if_icmp .ne 11, 3) := dk_160 0 11 (dk_at dksX20_moves_2 18 rfl rfl)
theorem dX20_moves_68 : decode cX20_moves 68 = .ok (.aload_n 1, 1) := dk_43 (dk_at dksX20_moves_2 21 rfl rfl)
theorem dX20_moves_69 : decode cX20_moves 69 = .ok (.bipush 13, 2) := dk_16 13 (dk_at dksX20_moves_2 22 rfl rfl)
theorem dX20_moves_71 : decode cX20_moves 71 = .ok (.iaload, 1) := dk_46 (dk_at dksX20_moves_3 0 rfl rfl)
theorem dX20_moves_72 : decode cX20_moves 72 = .ok (.iconst 1, 1) := dk_4 (dk_at dksX20_moves_3 1 rfl rfl)
theorem dX20_moves_73 : decode cX20_moves 73 = .ok (.if_icmp .eq 17, 3) := dk_159 0 17 (dk_at dksX20_moves_3 2 rfl rfl)
theorem dX20_moves_76 : decode cX20_moves 76 = .ok (.iload_n 2, 1) := dk_28 (dk_at dksX20_moves_3 5 rfl rfl)
theorem dX20_moves_77 : decode cX20_moves 77 = .ok (.bipush 13, 2) := dk_16 13 (dk_at dksX20_moves_3 6 rfl rfl)
theorem dX20_moves_79 : decode cX20_moves 79 = .ok (.if_icmp .ne 17, 3) := dk_160 0 17 (dk_at dksX20_moves_3 8 rfl rfl)
theorem dX20_moves_82 : decode cX20_moves 82 = .ok (.aload_n 1, 1) := dk_43 (dk_at dksX20_moves_3 11 rfl rfl)
theorem dX20_moves_83 : decode cX20_moves 83 = .ok (.bipush 14, 2) := dk_16 14 (dk_at dksX20_moves_3 12 rfl rfl)
theorem dX20_moves_85 : decode cX20_moves 85 = .ok (.iaload, 1) := dk_46 (dk_at dksX20_moves_3 14 rfl rfl)
theorem dX20_moves_86 : decode cX20_moves 86 = .ok (.iconst 1, 1) := dk_4 (dk_at dksX20_moves_3 15 rfl rfl)
theorem dX20_moves_87 : decode cX20_moves 87 = .ok (.if_icmp .ne 9, 3) := dk_160 0 9 (dk_at dksX20_moves_3 16 rfl rfl)
theorem dX20_moves_90 : decode cX20_moves 90 = .ok (.aload_n 1, 1) := dk_43 (dk_at dksX20_moves_3 19 rfl rfl)
theorem dX20_moves_91 : decode cX20_moves 91 = .ok (.bipush 12, 2) := dk_16 12 (dk_at dksX20_moves_3 20 rfl rfl)
theorem dX20_moves_93 : decode cX20_moves 93 = .ok (.iload 4, 2) := dk_21 4 (dk_at dksX20_moves_3 22 rfl rfl)
theorem dX20_moves_95 : decode cX20_moves 95 = .ok (.iastore, 1) := dk_79 (dk_at dksX20_moves_4 0 rfl rfl)
theorem dX20_moves_96 : decode cX20_moves 96 = .ok (.return_, 1) := dk_177 (dk_at dksX20_moves_4 1 rfl rfl)
abbrev cX20_rules : ByteArray := prog_52_method_44_code
def yX20_rules : MethodName := ⟨RX20, "rules", "([III)V"⟩
def dkwX20_rules_4 : List UInt8 := [16, 18, 160, 0, 11, 42, 43, 182, 0, 250, 167, 0, 8, 43, 16, 23, 4, 79, 177]
abbrev dktX20_rules_4 : List UInt8 := dkwX20_rules_4 ++ []
def dkwX20_rules_3 : List UInt8 := [16, 16, 29, 4, 126, 79, 167, 0, 36, 28, 16, 17, 160, 0, 11, 43, 16, 17, 29, 79, 167, 0, 22, 28]
abbrev dktX20_rules_3 : List UInt8 := dkwX20_rules_3 ++ dktX20_rules_4
def dkwX20_rules_2 : List UInt8 := [17, 0, 194, 29, 16, 18, 112, 96, 46, 167, 0, 4, 2, 79, 167, 0, 52, 28, 16, 16, 160, 0, 13, 43]
abbrev dktX20_rules_2 : List UInt8 := dkwX20_rules_2 ++ dktX20_rules_3
def dkwX20_rules_1 : List UInt8 := [43, 17, 0, 194, 29, 16, 18, 112, 96, 43, 17, 0, 215, 29, 16, 18, 112, 96, 46, 4, 160, 0, 16, 43]
abbrev dktX20_rules_1 : List UInt8 := dkwX20_rules_1 ++ dktX20_rules_2
def dkwX20_rules_0 : List UInt8 := [28, 16, 14, 160, 0, 15, 42, 43, 29, 16, 18, 112, 182, 0, 143, 167, 0, 99, 28, 16, 15, 160, 0, 44]
abbrev dktX20_rules_0 : List UInt8 := dkwX20_rules_0 ++ dktX20_rules_1
theorem dksX20_rules_0 : cX20_rules.data.toList.drop 0 = dktX20_rules_0 := by decide +kernel
theorem dksX20_rules_1 : cX20_rules.data.toList.drop 24 = dktX20_rules_1 := dk_seg dksX20_rules_0 24 rfl rfl
theorem dksX20_rules_2 : cX20_rules.data.toList.drop 48 = dktX20_rules_2 := dk_seg dksX20_rules_1 24 rfl rfl
theorem dksX20_rules_3 : cX20_rules.data.toList.drop 72 = dktX20_rules_3 := dk_seg dksX20_rules_2 24 rfl rfl
theorem dksX20_rules_4 : cX20_rules.data.toList.drop 96 = dktX20_rules_4 := dk_seg dksX20_rules_3 24 rfl rfl
theorem dX20_rules_0 : decode cX20_rules 0 = .ok (.iload_n 2, 1) := dk_28 (dk_at dksX20_rules_0 0 rfl rfl)
theorem dX20_rules_1 : decode cX20_rules 1 = .ok (.bipush 14, 2) := dk_16 14 (dk_at dksX20_rules_0 1 rfl rfl)
theorem dX20_rules_3 : decode cX20_rules 3 = .ok (.if_icmp .ne 15, 3) := dk_160 0 15 (dk_at dksX20_rules_0 3 rfl rfl)
theorem dX20_rules_6 : decode cX20_rules 6 = .ok (.aload_n 0, 1) := dk_42 (dk_at dksX20_rules_0 6 rfl rfl)
theorem dX20_rules_7 : decode cX20_rules 7 = .ok (.aload_n 1, 1) := dk_43 (dk_at dksX20_rules_0 7 rfl rfl)
theorem dX20_rules_8 : decode cX20_rules 8 = .ok (.iload_n 3, 1) := dk_29 (dk_at dksX20_rules_0 8 rfl rfl)
theorem dX20_rules_9 : decode cX20_rules 9 = .ok (.bipush 18, 2) := dk_16 18 (dk_at dksX20_rules_0 9 rfl rfl)
theorem dX20_rules_11 : decode cX20_rules 11 = .ok (.irem, 1) := dk_112 (dk_at dksX20_rules_0 11 rfl rfl)
theorem dX20_rules_12 : decode cX20_rules 12 = .ok (.invokevirtual 143, 3) := dk_182 0 143 (dk_at dksX20_rules_0 12 rfl rfl)
theorem dX20_rules_15 : decode cX20_rules 15 = .ok (.goto 99, 3) := dk_167 0 99 (dk_at dksX20_rules_0 15 rfl rfl)
theorem dX20_rules_18 : decode cX20_rules 18 = .ok (.iload_n 2, 1) := dk_28 (dk_at dksX20_rules_0 18 rfl rfl)
theorem dX20_rules_19 : decode cX20_rules 19 = .ok (.bipush 15, 2) := dk_16 15 (dk_at dksX20_rules_0 19 rfl rfl)
theorem dX20_rules_21 : decode cX20_rules 21 = .ok (.if_icmp .ne 44, 3) := dk_160 0 44 (dk_at dksX20_rules_0 21 rfl rfl)
theorem dX20_rules_24 : decode cX20_rules 24 = .ok (.aload_n 1, 1) := dk_43 (dk_at dksX20_rules_1 0 rfl rfl)
theorem dX20_rules_25 : decode cX20_rules 25 = .ok (.sipush 194, 3) := dk_17 0 194 (dk_at dksX20_rules_1 1 rfl rfl)
theorem dX20_rules_28 : decode cX20_rules 28 = .ok (.iload_n 3, 1) := dk_29 (dk_at dksX20_rules_1 4 rfl rfl)
theorem dX20_rules_29 : decode cX20_rules 29 = .ok (.bipush 18, 2) := dk_16 18 (dk_at dksX20_rules_1 5 rfl rfl)
theorem dX20_rules_31 : decode cX20_rules 31 = .ok (.irem, 1) := dk_112 (dk_at dksX20_rules_1 7 rfl rfl)
theorem dX20_rules_32 : decode cX20_rules 32 = .ok (.iadd, 1) := dk_96 (dk_at dksX20_rules_1 8 rfl rfl)
theorem dX20_rules_33 : decode cX20_rules 33 = .ok (.aload_n 1, 1) := dk_43 (dk_at dksX20_rules_1 9 rfl rfl)
theorem dX20_rules_34 : decode cX20_rules 34 = .ok (.sipush 215, 3) := dk_17 0 215 (dk_at dksX20_rules_1 10 rfl rfl)
theorem dX20_rules_37 : decode cX20_rules 37 = .ok (.iload_n 3, 1) := dk_29 (dk_at dksX20_rules_1 13 rfl rfl)
theorem dX20_rules_38 : decode cX20_rules 38 = .ok (.bipush 18, 2) := dk_16 18 (dk_at dksX20_rules_1 14 rfl rfl)
theorem dX20_rules_40 : decode cX20_rules 40 = .ok (.irem, 1) := dk_112 (dk_at dksX20_rules_1 16 rfl rfl)
theorem dX20_rules_41 : decode cX20_rules 41 = .ok (.iadd, 1) := dk_96 (dk_at dksX20_rules_1 17 rfl rfl)
theorem dX20_rules_42 : decode cX20_rules 42 = .ok (.iaload, 1) := dk_46 (dk_at dksX20_rules_1 18 rfl rfl)
theorem dX20_rules_43 : decode cX20_rules 43 = .ok (.iconst 1, 1) := dk_4 (dk_at dksX20_rules_1 19 rfl rfl)
theorem dX20_rules_44 : decode cX20_rules 44 = .ok (.if_icmp .ne 16, 3) := dk_160 0 16 (dk_at dksX20_rules_1 20 rfl rfl)
theorem dX20_rules_47 : decode cX20_rules 47 = .ok (.aload_n 1, 1) := dk_43 (dk_at dksX20_rules_1 23 rfl rfl)
theorem dX20_rules_48 : decode cX20_rules 48 = .ok (.sipush 194, 3) := dk_17 0 194 (dk_at dksX20_rules_2 0 rfl rfl)
theorem dX20_rules_51 : decode cX20_rules 51 = .ok (.iload_n 3, 1) := dk_29 (dk_at dksX20_rules_2 3 rfl rfl)
theorem dX20_rules_52 : decode cX20_rules 52 = .ok (.bipush 18, 2) := dk_16 18 (dk_at dksX20_rules_2 4 rfl rfl)
theorem dX20_rules_54 : decode cX20_rules 54 = .ok (.irem, 1) := dk_112 (dk_at dksX20_rules_2 6 rfl rfl)
theorem dX20_rules_55 : decode cX20_rules 55 = .ok (.iadd, 1) := dk_96 (dk_at dksX20_rules_2 7 rfl rfl)
theorem dX20_rules_56 : decode cX20_rules 56 = .ok (.iaload, 1) := dk_46 (dk_at dksX20_rules_2 8 rfl rfl)
theorem dX20_rules_57 : decode cX20_rules 57 = .ok (.goto 4, 3) := dk_167 0 4 (dk_at dksX20_rules_2 9 rfl rfl)
theorem dX20_rules_60 : decode cX20_rules 60 = .ok (.iconst (-1), 1) := dk_2 (dk_at dksX20_rules_2 12 rfl rfl)
theorem dX20_rules_61 : decode cX20_rules 61 = .ok (.iastore, 1) := dk_79 (dk_at dksX20_rules_2 13 rfl rfl)
theorem dX20_rules_62 : decode cX20_rules 62 = .ok (.goto 52, 3) := dk_167 0 52 (dk_at dksX20_rules_2 14 rfl rfl)
theorem dX20_rules_65 : decode cX20_rules 65 = .ok (.iload_n 2, 1) := dk_28 (dk_at dksX20_rules_2 17 rfl rfl)
theorem dX20_rules_66 : decode cX20_rules 66 = .ok (.bipush 16, 2) := dk_16 16 (dk_at dksX20_rules_2 18 rfl rfl)
theorem dX20_rules_68 : decode cX20_rules 68 = .ok (.if_icmp .ne 13, 3) := dk_160 0 13 (dk_at dksX20_rules_2 20 rfl rfl)
theorem dX20_rules_71 : decode cX20_rules 71 = .ok (.aload_n 1, 1) := dk_43 (dk_at dksX20_rules_2 23 rfl rfl)
theorem dX20_rules_72 : decode cX20_rules 72 = .ok (.bipush 16, 2) := dk_16 16 (dk_at dksX20_rules_3 0 rfl rfl)
theorem dX20_rules_74 : decode cX20_rules 74 = .ok (.iload_n 3, 1) := dk_29 (dk_at dksX20_rules_3 2 rfl rfl)
theorem dX20_rules_75 : decode cX20_rules 75 = .ok (.iconst 1, 1) := dk_4 (dk_at dksX20_rules_3 3 rfl rfl)
theorem dX20_rules_76 : decode cX20_rules 76 = .ok (.iand, 1) := dk_126 (dk_at dksX20_rules_3 4 rfl rfl)
theorem dX20_rules_77 : decode cX20_rules 77 = .ok (.iastore, 1) := dk_79 (dk_at dksX20_rules_3 5 rfl rfl)
theorem dX20_rules_78 : decode cX20_rules 78 = .ok (.goto 36, 3) := dk_167 0 36 (dk_at dksX20_rules_3 6 rfl rfl)
theorem dX20_rules_81 : decode cX20_rules 81 = .ok (.iload_n 2, 1) := dk_28 (dk_at dksX20_rules_3 9 rfl rfl)
theorem dX20_rules_82 : decode cX20_rules 82 = .ok (.bipush 17, 2) := dk_16 17 (dk_at dksX20_rules_3 10 rfl rfl)
theorem dX20_rules_84 : decode cX20_rules 84 = .ok (.if_icmp .ne 11, 3) := dk_160 0 11 (dk_at dksX20_rules_3 12 rfl rfl)
theorem dX20_rules_87 : decode cX20_rules 87 = .ok (.aload_n 1, 1) := dk_43 (dk_at dksX20_rules_3 15 rfl rfl)
theorem dX20_rules_88 : decode cX20_rules 88 = .ok (.bipush 17, 2) := dk_16 17 (dk_at dksX20_rules_3 16 rfl rfl)
theorem dX20_rules_90 : decode cX20_rules 90 = .ok (.iload_n 3, 1) := dk_29 (dk_at dksX20_rules_3 18 rfl rfl)
theorem dX20_rules_91 : decode cX20_rules 91 = .ok (.iastore, 1) := dk_79 (dk_at dksX20_rules_3 19 rfl rfl)
theorem dX20_rules_92 : decode cX20_rules 92 = .ok (.goto 22, 3) := dk_167 0 22 (dk_at dksX20_rules_3 20 rfl rfl)
theorem dX20_rules_95 : decode cX20_rules 95 = .ok (.iload_n 2, 1) := dk_28 (dk_at dksX20_rules_3 23 rfl rfl)
theorem dX20_rules_96 : decode cX20_rules 96 = .ok (.bipush 18, 2) := dk_16 18 (dk_at dksX20_rules_4 0 rfl rfl)
theorem dX20_rules_98 : decode cX20_rules 98 = .ok (.if_icmp .ne 11, 3) := dk_160 0 11 (dk_at dksX20_rules_4 2 rfl rfl)
theorem dX20_rules_101 : decode cX20_rules 101 = .ok (.aload_n 0, 1) := dk_42 (dk_at dksX20_rules_4 5 rfl rfl)
theorem dX20_rules_102 : decode cX20_rules 102 = .ok (.aload_n 1, 1) := dk_43 (dk_at dksX20_rules_4 6 rfl rfl)
theorem dX20_rules_103 : decode cX20_rules 103 = .ok (.invokevirtual 250, 3) := dk_182 0 250 (dk_at dksX20_rules_4 7 rfl rfl)
theorem dX20_rules_106 : decode cX20_rules 106 = .ok (.goto 8, 3) := dk_167 0 8 (dk_at dksX20_rules_4 10 rfl rfl)
theorem dX20_rules_109 : decode cX20_rules 109 = .ok (.aload_n 1, 1) := dk_43 (dk_at dksX20_rules_4 13 rfl rfl)
theorem dX20_rules_110 : decode cX20_rules 110 = .ok (.bipush 23, 2) := dk_16 23 (dk_at dksX20_rules_4 14 rfl rfl)
theorem dX20_rules_112 : decode cX20_rules 112 = .ok (.iconst 1, 1) := dk_4 (dk_at dksX20_rules_4 16 rfl rfl)
theorem dX20_rules_113 : decode cX20_rules 113 = .ok (.iastore, 1) := dk_79 (dk_at dksX20_rules_4 17 rfl rfl)
theorem dX20_rules_114 : decode cX20_rules 114 = .ok (.return_, 1) := dk_177 (dk_at dksX20_rules_4 18 rfl rfl)
abbrev cX20_ends : ByteArray := prog_52_method_45_code
def yX20_ends : MethodName := ⟨RX20, "ends", "([I)V"⟩
def dkwX20_ends_3 : List UInt8 := [154, 0, 15, 42, 43, 182, 0, 170, 155, 0, 7, 5, 167, 0, 4, 6, 3, 182, 0, 173, 177]
abbrev dktX20_ends_3 : List UInt8 := dkwX20_ends_3 ++ []
def dkwX20_ends_2 : List UInt8 := [17, 0, 215, 28, 96, 46, 4, 160, 0, 9, 42, 43, 28, 182, 0, 143, 42, 43, 42, 180, 0, 189]
abbrev dktX20_ends_2 : List UInt8 := dkwX20_ends_2 ++ dktX20_ends_3
def dkwX20_ends_1 : List UInt8 := [96, 3, 79, 42, 5, 28, 43, 16, 25, 46, 43, 17, 1, 65, 28, 96, 46, 100, 182, 0, 147, 43]
abbrev dktX20_ends_1 : List UInt8 := dkwX20_ends_1 ++ dktX20_ends_2
def dkwX20_ends_0 : List UInt8 := [43, 16, 30, 92, 46, 4, 100, 79, 43, 17, 0, 152, 43, 16, 30, 46, 96, 46, 61, 43, 17, 1, 44, 28]
abbrev dktX20_ends_0 : List UInt8 := dkwX20_ends_0 ++ dktX20_ends_1
theorem dksX20_ends_0 : cX20_ends.data.toList.drop 0 = dktX20_ends_0 := by decide +kernel
theorem dksX20_ends_1 : cX20_ends.data.toList.drop 24 = dktX20_ends_1 := dk_seg dksX20_ends_0 24 rfl rfl
theorem dksX20_ends_2 : cX20_ends.data.toList.drop 46 = dktX20_ends_2 := dk_seg dksX20_ends_1 22 rfl rfl
theorem dksX20_ends_3 : cX20_ends.data.toList.drop 68 = dktX20_ends_3 := dk_seg dksX20_ends_2 22 rfl rfl
theorem dX20_ends_0 : decode cX20_ends 0 = .ok (.aload_n 1, 1) := dk_43 (dk_at dksX20_ends_0 0 rfl rfl)
theorem dX20_ends_1 : decode cX20_ends 1 = .ok (.bipush 30, 2) := dk_16 30 (dk_at dksX20_ends_0 1 rfl rfl)
theorem dX20_ends_3 : decode cX20_ends 3 = .ok (.dup2, 1) := dk_92 (dk_at dksX20_ends_0 3 rfl rfl)
theorem dX20_ends_4 : decode cX20_ends 4 = .ok (.iaload, 1) := dk_46 (dk_at dksX20_ends_0 4 rfl rfl)
theorem dX20_ends_5 : decode cX20_ends 5 = .ok (.iconst 1, 1) := dk_4 (dk_at dksX20_ends_0 5 rfl rfl)
theorem dX20_ends_6 : decode cX20_ends 6 = .ok (.isub, 1) := dk_100 (dk_at dksX20_ends_0 6 rfl rfl)
theorem dX20_ends_7 : decode cX20_ends 7 = .ok (.iastore, 1) := dk_79 (dk_at dksX20_ends_0 7 rfl rfl)
theorem dX20_ends_8 : decode cX20_ends 8 = .ok (.aload_n 1, 1) := dk_43 (dk_at dksX20_ends_0 8 rfl rfl)
theorem dX20_ends_9 : decode cX20_ends 9 = .ok (.sipush 152, 3) := dk_17 0 152 (dk_at dksX20_ends_0 9 rfl rfl)
theorem dX20_ends_12 : decode cX20_ends 12 = .ok (.aload_n 1, 1) := dk_43 (dk_at dksX20_ends_0 12 rfl rfl)
theorem dX20_ends_13 : decode cX20_ends 13 = .ok (.bipush 30, 2) := dk_16 30 (dk_at dksX20_ends_0 13 rfl rfl)
theorem dX20_ends_15 : decode cX20_ends 15 = .ok (.iaload, 1) := dk_46 (dk_at dksX20_ends_0 15 rfl rfl)
theorem dX20_ends_16 : decode cX20_ends 16 = .ok (.iadd, 1) := dk_96 (dk_at dksX20_ends_0 16 rfl rfl)
theorem dX20_ends_17 : decode cX20_ends 17 = .ok (.iaload, 1) := dk_46 (dk_at dksX20_ends_0 17 rfl rfl)
theorem dX20_ends_18 : decode cX20_ends 18 = .ok (.istore_n 2, 1) := dk_61 (dk_at dksX20_ends_0 18 rfl rfl)
theorem dX20_ends_19 : decode cX20_ends 19 = .ok (.aload_n 1, 1) := dk_43 (dk_at dksX20_ends_0 19 rfl rfl)
theorem dX20_ends_20 : decode cX20_ends 20 = .ok (.sipush 300, 3) := dk_17 1 44 (dk_at dksX20_ends_0 20 rfl rfl)
theorem dX20_ends_23 : decode cX20_ends 23 = .ok (.iload_n 2, 1) := dk_28 (dk_at dksX20_ends_0 23 rfl rfl)
theorem dX20_ends_24 : decode cX20_ends 24 = .ok (.iadd, 1) := dk_96 (dk_at dksX20_ends_1 0 rfl rfl)
theorem dX20_ends_25 : decode cX20_ends 25 = .ok (.iconst 0, 1) := dk_3 (dk_at dksX20_ends_1 1 rfl rfl)
theorem dX20_ends_26 : decode cX20_ends 26 = .ok (.iastore, 1) := dk_79 (dk_at dksX20_ends_1 2 rfl rfl)
theorem dX20_ends_27 : decode cX20_ends 27 = .ok (.aload_n 0, 1) := dk_42 (dk_at dksX20_ends_1 3 rfl rfl)
theorem dX20_ends_28 : decode cX20_ends 28 = .ok (.iconst 2, 1) := dk_5 (dk_at dksX20_ends_1 4 rfl rfl)
theorem dX20_ends_29 : decode cX20_ends 29 = .ok (.iload_n 2, 1) := dk_28 (dk_at dksX20_ends_1 5 rfl rfl)
theorem dX20_ends_30 : decode cX20_ends 30 = .ok (.aload_n 1, 1) := dk_43 (dk_at dksX20_ends_1 6 rfl rfl)
theorem dX20_ends_31 : decode cX20_ends 31 = .ok (.bipush 25, 2) := dk_16 25 (dk_at dksX20_ends_1 7 rfl rfl)
theorem dX20_ends_33 : decode cX20_ends 33 = .ok (.iaload, 1) := dk_46 (dk_at dksX20_ends_1 9 rfl rfl)
theorem dX20_ends_34 : decode cX20_ends 34 = .ok (.aload_n 1, 1) := dk_43 (dk_at dksX20_ends_1 10 rfl rfl)
theorem dX20_ends_35 : decode cX20_ends 35 = .ok (.sipush 321, 3) := dk_17 1 65 (dk_at dksX20_ends_1 11 rfl rfl)
theorem dX20_ends_38 : decode cX20_ends 38 = .ok (.iload_n 2, 1) := dk_28 (dk_at dksX20_ends_1 14 rfl rfl)
theorem dX20_ends_39 : decode cX20_ends 39 = .ok (.iadd, 1) := dk_96 (dk_at dksX20_ends_1 15 rfl rfl)
theorem dX20_ends_40 : decode cX20_ends 40 = .ok (.iaload, 1) := dk_46 (dk_at dksX20_ends_1 16 rfl rfl)
theorem dX20_ends_41 : decode cX20_ends 41 = .ok (.isub, 1) := dk_100 (dk_at dksX20_ends_1 17 rfl rfl)
theorem dX20_ends_42 : decode cX20_ends 42 = .ok (.invokevirtual 147, 3) := dk_182 0 147 (dk_at dksX20_ends_1 18 rfl rfl)
theorem dX20_ends_45 : decode cX20_ends 45 = .ok (.aload_n 1, 1) := dk_43 (dk_at dksX20_ends_1 21 rfl rfl)
theorem dX20_ends_46 : decode cX20_ends 46 = .ok (.sipush 215, 3) := dk_17 0 215 (dk_at dksX20_ends_2 0 rfl rfl)
theorem dX20_ends_49 : decode cX20_ends 49 = .ok (.iload_n 2, 1) := dk_28 (dk_at dksX20_ends_2 3 rfl rfl)
theorem dX20_ends_50 : decode cX20_ends 50 = .ok (.iadd, 1) := dk_96 (dk_at dksX20_ends_2 4 rfl rfl)
theorem dX20_ends_51 : decode cX20_ends 51 = .ok (.iaload, 1) := dk_46 (dk_at dksX20_ends_2 5 rfl rfl)
theorem dX20_ends_52 : decode cX20_ends 52 = .ok (.iconst 1, 1) := dk_4 (dk_at dksX20_ends_2 6 rfl rfl)
theorem dX20_ends_53 : decode cX20_ends 53 = .ok (.if_icmp .ne 9, 3) := dk_160 0 9 (dk_at dksX20_ends_2 7 rfl rfl)
theorem dX20_ends_56 : decode cX20_ends 56 = .ok (.aload_n 0, 1) := dk_42 (dk_at dksX20_ends_2 10 rfl rfl)
theorem dX20_ends_57 : decode cX20_ends 57 = .ok (.aload_n 1, 1) := dk_43 (dk_at dksX20_ends_2 11 rfl rfl)
theorem dX20_ends_58 : decode cX20_ends 58 = .ok (.iload_n 2, 1) := dk_28 (dk_at dksX20_ends_2 12 rfl rfl)
theorem dX20_ends_59 : decode cX20_ends 59 = .ok (.invokevirtual 143, 3) := dk_182 0 143 (dk_at dksX20_ends_2 13 rfl rfl)
theorem dX20_ends_62 : decode cX20_ends 62 = .ok (.aload_n 0, 1) := dk_42 (dk_at dksX20_ends_2 16 rfl rfl)
theorem dX20_ends_63 : decode cX20_ends 63 = .ok (.aload_n 1, 1) := dk_43 (dk_at dksX20_ends_2 17 rfl rfl)
theorem dX20_ends_64 : decode cX20_ends 64 = .ok (.aload_n 0, 1) := dk_42 (dk_at dksX20_ends_2 18 rfl rfl)
theorem dX20_ends_65 : decode cX20_ends 65 = .ok (.getfield 189, 3) := dk_180 0 189 (dk_at dksX20_ends_2 19 rfl rfl)
theorem dX20_ends_68 : decode cX20_ends 68 = .ok (.ifCond .ne 15, 3) := dk_154 0 15 (dk_at dksX20_ends_3 0 rfl rfl)
theorem dX20_ends_71 : decode cX20_ends 71 = .ok (.aload_n 0, 1) := dk_42 (dk_at dksX20_ends_3 3 rfl rfl)
theorem dX20_ends_72 : decode cX20_ends 72 = .ok (.aload_n 1, 1) := dk_43 (dk_at dksX20_ends_3 4 rfl rfl)
theorem dX20_ends_73 : decode cX20_ends 73 = .ok (.invokevirtual 170, 3) := dk_182 0 170 (dk_at dksX20_ends_3 5 rfl rfl)
theorem dX20_ends_76 : decode cX20_ends 76 = .ok (.ifCond .lt 7, 3) := dk_155 0 7 (dk_at dksX20_ends_3 8 rfl rfl)
theorem dX20_ends_79 : decode cX20_ends 79 = .ok (.iconst 2, 1) := dk_5 (dk_at dksX20_ends_3 11 rfl rfl)
theorem dX20_ends_80 : decode cX20_ends 80 = .ok (.goto 4, 3) := dk_167 0 4 (dk_at dksX20_ends_3 12 rfl rfl)
theorem dX20_ends_83 : decode cX20_ends 83 = .ok (.iconst 3, 1) := dk_6 (dk_at dksX20_ends_3 15 rfl rfl)
theorem dX20_ends_84 : decode cX20_ends 84 = .ok (.iconst 0, 1) := dk_3 (dk_at dksX20_ends_3 16 rfl rfl)
theorem dX20_ends_85 : decode cX20_ends 85 = .ok (.invokevirtual 173, 3) := dk_182 0 173 (dk_at dksX20_ends_3 17 rfl rfl)
theorem dX20_ends_88 : decode cX20_ends 88 = .ok (.return_, 1) := dk_177 (dk_at dksX20_ends_3 20 rfl rfl)
abbrev cX20_floats : ByteArray := prog_52_method_46_code
def yX20_floats : MethodName := ⟨RX20, "floats", "([IIIIIII)V"⟩
def dkwX20_floats_5 : List UInt8 := [16, 8, 29, 96, 43, 21, 6, 46, 184, 1, 0, 79, 43, 16, 18, 4, 79, 177]
abbrev dktX20_floats_5 : List UInt8 := dkwX20_floats_5 ++ []
def dkwX20_floats_4 : List UInt8 := [28, 16, 23, 160, 0, 20, 43, 21, 5, 43, 16, 8, 21, 4, 96, 46, 184, 0, 253, 79, 167, 0, 16, 43]
abbrev dktX20_floats_4 : List UInt8 := dkwX20_floats_4 ++ dktX20_floats_5
def dkwX20_floats_3 : List UInt8 := [16, 8, 29, 96, 43, 16, 8, 29, 96, 46, 43, 16, 8, 21, 4, 96, 46, 184, 0, 213, 79, 167, 0, 39]
abbrev dktX20_floats_3 : List UInt8 := dkwX20_floats_3 ++ dktX20_floats_4
def dkwX20_floats_2 : List UInt8 := [29, 96, 46, 43, 16, 8, 21, 4, 96, 46, 184, 0, 209, 79, 167, 0, 70, 28, 16, 22, 160, 0, 28, 43]
abbrev dktX20_floats_2 : List UInt8 := dkwX20_floats_2 ++ dktX20_floats_3
def dkwX20_floats_1 : List UInt8 := [16, 252, 3, 184, 0, 98, 79, 167, 0, 101, 28, 16, 21, 160, 0, 28, 43, 16, 8, 29, 96, 43, 16, 8]
abbrev dktX20_floats_1 : List UInt8 := dkwX20_floats_1 ++ dktX20_floats_2
def dkwX20_floats_0 : List UInt8 := [28, 16, 20, 160, 0, 31, 43, 16, 8, 29, 96, 21, 7, 154, 0, 7, 3, 167, 0, 13, 3, 21, 7, 133]
abbrev dktX20_floats_0 : List UInt8 := dkwX20_floats_0 ++ dktX20_floats_1
theorem dksX20_floats_0 : cX20_floats.data.toList.drop 0 = dktX20_floats_0 := by decide +kernel
theorem dksX20_floats_1 : cX20_floats.data.toList.drop 24 = dktX20_floats_1 := dk_seg dksX20_floats_0 24 rfl rfl
theorem dksX20_floats_2 : cX20_floats.data.toList.drop 48 = dktX20_floats_2 := dk_seg dksX20_floats_1 24 rfl rfl
theorem dksX20_floats_3 : cX20_floats.data.toList.drop 72 = dktX20_floats_3 := dk_seg dksX20_floats_2 24 rfl rfl
theorem dksX20_floats_4 : cX20_floats.data.toList.drop 96 = dktX20_floats_4 := dk_seg dksX20_floats_3 24 rfl rfl
theorem dksX20_floats_5 : cX20_floats.data.toList.drop 120 = dktX20_floats_5 := dk_seg dksX20_floats_4 24 rfl rfl
theorem dX20_floats_0 : decode cX20_floats 0 = .ok (.iload_n 2, 1) := dk_28 (dk_at dksX20_floats_0 0 rfl rfl)
theorem dX20_floats_1 : decode cX20_floats 1 = .ok (.bipush 20, 2) := dk_16 20 (dk_at dksX20_floats_0 1 rfl rfl)
theorem dX20_floats_3 : decode cX20_floats 3 = .ok (.if_icmp .ne 31, 3) := dk_160 0 31 (dk_at dksX20_floats_0 3 rfl rfl)
theorem dX20_floats_6 : decode cX20_floats 6 = .ok (.aload_n 1, 1) := dk_43 (dk_at dksX20_floats_0 6 rfl rfl)
theorem dX20_floats_7 : decode cX20_floats 7 = .ok (.bipush 8, 2) := dk_16 8 (dk_at dksX20_floats_0 7 rfl rfl)
theorem dX20_floats_9 : decode cX20_floats 9 = .ok (.iload_n 3, 1) := dk_29 (dk_at dksX20_floats_0 9 rfl rfl)
theorem dX20_floats_10 : decode cX20_floats 10 = .ok (.iadd, 1) := dk_96 (dk_at dksX20_floats_0 10 rfl rfl)
theorem dX20_floats_11 : decode cX20_floats 11 = .ok (.iload 7, 2) := dk_21 7 (dk_at dksX20_floats_0 11 rfl rfl)
theorem dX20_floats_13 : decode cX20_floats 13 = .ok (.ifCond .ne 7, 3) := dk_154 0 7 (dk_at dksX20_floats_0 13 rfl rfl)
theorem dX20_floats_16 : decode cX20_floats 16 = .ok (.iconst 0, 1) := dk_3 (dk_at dksX20_floats_0 16 rfl rfl)
theorem dX20_floats_17 : decode cX20_floats 17 = .ok (.goto 13, 3) := dk_167 0 13 (dk_at dksX20_floats_0 17 rfl rfl)
theorem dX20_floats_20 : decode cX20_floats 20 = .ok (.iconst 0, 1) := dk_3 (dk_at dksX20_floats_0 20 rfl rfl)
theorem dX20_floats_21 : decode cX20_floats 21 = .ok (.iload 7, 2) := dk_21 7 (dk_at dksX20_floats_0 21 rfl rfl)
theorem dX20_floats_23 : decode cX20_floats 23 = .ok (.i2l, 1) := dk_133 (dk_at dksX20_floats_0 23 rfl rfl)
theorem dX20_floats_24 : decode cX20_floats 24 = .ok (.bipush (-4), 2) := dk_16 252 (dk_at dksX20_floats_1 0 rfl rfl)
theorem dX20_floats_26 : decode cX20_floats 26 = .ok (.iconst 0, 1) := dk_3 (dk_at dksX20_floats_1 2 rfl rfl)
theorem dX20_floats_27 : decode cX20_floats 27 = .ok (.invokestatic 98, 3) := dk_184 0 98 (dk_at dksX20_floats_1 3 rfl rfl)
theorem dX20_floats_30 : decode cX20_floats 30 = .ok (.iastore, 1) := dk_79 (dk_at dksX20_floats_1 6 rfl rfl)
theorem dX20_floats_31 : decode cX20_floats 31 = .ok (.goto 101, 3) := dk_167 0 101 (dk_at dksX20_floats_1 7 rfl rfl)
theorem dX20_floats_34 : decode cX20_floats 34 = .ok (.iload_n 2, 1) := dk_28 (dk_at dksX20_floats_1 10 rfl rfl)
theorem dX20_floats_35 : decode cX20_floats 35 = .ok (.bipush 21, 2) := dk_16 21 (dk_at dksX20_floats_1 11 rfl rfl)
theorem dX20_floats_37 : decode cX20_floats 37 = .ok (.if_icmp .ne 28, 3) := dk_160 0 28 (dk_at dksX20_floats_1 13 rfl rfl)
theorem dX20_floats_40 : decode cX20_floats 40 = .ok (.aload_n 1, 1) := dk_43 (dk_at dksX20_floats_1 16 rfl rfl)
theorem dX20_floats_41 : decode cX20_floats 41 = .ok (.bipush 8, 2) := dk_16 8 (dk_at dksX20_floats_1 17 rfl rfl)
theorem dX20_floats_43 : decode cX20_floats 43 = .ok (.iload_n 3, 1) := dk_29 (dk_at dksX20_floats_1 19 rfl rfl)
theorem dX20_floats_44 : decode cX20_floats 44 = .ok (.iadd, 1) := dk_96 (dk_at dksX20_floats_1 20 rfl rfl)
theorem dX20_floats_45 : decode cX20_floats 45 = .ok (.aload_n 1, 1) := dk_43 (dk_at dksX20_floats_1 21 rfl rfl)
theorem dX20_floats_46 : decode cX20_floats 46 = .ok (.bipush 8, 2) := dk_16 8 (dk_at dksX20_floats_1 22 rfl rfl)
theorem dX20_floats_48 : decode cX20_floats 48 = .ok (.iload_n 3, 1) := dk_29 (dk_at dksX20_floats_2 0 rfl rfl)
theorem dX20_floats_49 : decode cX20_floats 49 = .ok (.iadd, 1) := dk_96 (dk_at dksX20_floats_2 1 rfl rfl)
theorem dX20_floats_50 : decode cX20_floats 50 = .ok (.iaload, 1) := dk_46 (dk_at dksX20_floats_2 2 rfl rfl)
theorem dX20_floats_51 : decode cX20_floats 51 = .ok (.aload_n 1, 1) := dk_43 (dk_at dksX20_floats_2 3 rfl rfl)
theorem dX20_floats_52 : decode cX20_floats 52 = .ok (.bipush 8, 2) := dk_16 8 (dk_at dksX20_floats_2 4 rfl rfl)
theorem dX20_floats_54 : decode cX20_floats 54 = .ok (.iload 4, 2) := dk_21 4 (dk_at dksX20_floats_2 6 rfl rfl)
theorem dX20_floats_56 : decode cX20_floats 56 = .ok (.iadd, 1) := dk_96 (dk_at dksX20_floats_2 8 rfl rfl)
theorem dX20_floats_57 : decode cX20_floats 57 = .ok (.iaload, 1) := dk_46 (dk_at dksX20_floats_2 9 rfl rfl)
theorem dX20_floats_58 : decode cX20_floats 58 = .ok (.invokestatic 209, 3) := dk_184 0 209 (dk_at dksX20_floats_2 10 rfl rfl)
theorem dX20_floats_61 : decode cX20_floats 61 = .ok (.iastore, 1) := dk_79 (dk_at dksX20_floats_2 13 rfl rfl)
theorem dX20_floats_62 : decode cX20_floats 62 = .ok (.goto 70, 3) := dk_167 0 70 (dk_at dksX20_floats_2 14 rfl rfl)
theorem dX20_floats_65 : decode cX20_floats 65 = .ok (.iload_n 2, 1) := dk_28 (dk_at dksX20_floats_2 17 rfl rfl)
theorem dX20_floats_66 : decode cX20_floats 66 = .ok (.bipush 22, 2) := dk_16 22 (dk_at dksX20_floats_2 18 rfl rfl)
theorem dX20_floats_68 : decode cX20_floats 68 = .ok (.if_icmp .ne 28, 3) := dk_160 0 28 (dk_at dksX20_floats_2 20 rfl rfl)
theorem dX20_floats_71 : decode cX20_floats 71 = .ok (.aload_n 1, 1) := dk_43 (dk_at dksX20_floats_2 23 rfl rfl)
theorem dX20_floats_72 : decode cX20_floats 72 = .ok (.bipush 8, 2) := dk_16 8 (dk_at dksX20_floats_3 0 rfl rfl)
theorem dX20_floats_74 : decode cX20_floats 74 = .ok (.iload_n 3, 1) := dk_29 (dk_at dksX20_floats_3 2 rfl rfl)
theorem dX20_floats_75 : decode cX20_floats 75 = .ok (.iadd, 1) := dk_96 (dk_at dksX20_floats_3 3 rfl rfl)
theorem dX20_floats_76 : decode cX20_floats 76 = .ok (.aload_n 1, 1) := dk_43 (dk_at dksX20_floats_3 4 rfl rfl)
theorem dX20_floats_77 : decode cX20_floats 77 = .ok (.bipush 8, 2) := dk_16 8 (dk_at dksX20_floats_3 5 rfl rfl)
theorem dX20_floats_79 : decode cX20_floats 79 = .ok (.iload_n 3, 1) := dk_29 (dk_at dksX20_floats_3 7 rfl rfl)
theorem dX20_floats_80 : decode cX20_floats 80 = .ok (.iadd, 1) := dk_96 (dk_at dksX20_floats_3 8 rfl rfl)
theorem dX20_floats_81 : decode cX20_floats 81 = .ok (.iaload, 1) := dk_46 (dk_at dksX20_floats_3 9 rfl rfl)
theorem dX20_floats_82 : decode cX20_floats 82 = .ok (.aload_n 1, 1) := dk_43 (dk_at dksX20_floats_3 10 rfl rfl)
theorem dX20_floats_83 : decode cX20_floats 83 = .ok (.bipush 8, 2) := dk_16 8 (dk_at dksX20_floats_3 11 rfl rfl)
theorem dX20_floats_85 : decode cX20_floats 85 = .ok (.iload 4, 2) := dk_21 4 (dk_at dksX20_floats_3 13 rfl rfl)
theorem dX20_floats_87 : decode cX20_floats 87 = .ok (.iadd, 1) := dk_96 (dk_at dksX20_floats_3 15 rfl rfl)
theorem dX20_floats_88 : decode cX20_floats 88 = .ok (.iaload, 1) := dk_46 (dk_at dksX20_floats_3 16 rfl rfl)
theorem dX20_floats_89 : decode cX20_floats 89 = .ok (.invokestatic 213, 3) := dk_184 0 213 (dk_at dksX20_floats_3 17 rfl rfl)
theorem dX20_floats_92 : decode cX20_floats 92 = .ok (.iastore, 1) := dk_79 (dk_at dksX20_floats_3 20 rfl rfl)
theorem dX20_floats_93 : decode cX20_floats 93 = .ok (.goto 39, 3) := dk_167 0 39 (dk_at dksX20_floats_3 21 rfl rfl)
theorem dX20_floats_96 : decode cX20_floats 96 = .ok (.iload_n 2, 1) := dk_28 (dk_at dksX20_floats_4 0 rfl rfl)
theorem dX20_floats_97 : decode cX20_floats 97 = .ok (.bipush 23, 2) := dk_16 23 (dk_at dksX20_floats_4 1 rfl rfl)
theorem dX20_floats_99 : decode cX20_floats 99 = .ok (.if_icmp .ne 20, 3) := dk_160 0 20 (dk_at dksX20_floats_4 3 rfl rfl)
theorem dX20_floats_102 : decode cX20_floats 102 = .ok (.aload_n 1, 1) := dk_43 (dk_at dksX20_floats_4 6 rfl rfl)
theorem dX20_floats_103 : decode cX20_floats 103 = .ok (.iload 5, 2) := dk_21 5 (dk_at dksX20_floats_4 7 rfl rfl)
theorem dX20_floats_105 : decode cX20_floats 105 = .ok (.aload_n 1, 1) := dk_43 (dk_at dksX20_floats_4 9 rfl rfl)
theorem dX20_floats_106 : decode cX20_floats 106 = .ok (.bipush 8, 2) := dk_16 8 (dk_at dksX20_floats_4 10 rfl rfl)
theorem dX20_floats_108 : decode cX20_floats 108 = .ok (.iload 4, 2) := dk_21 4 (dk_at dksX20_floats_4 12 rfl rfl)
theorem dX20_floats_110 : decode cX20_floats 110 = .ok (.iadd, 1) := dk_96 (dk_at dksX20_floats_4 14 rfl rfl)
theorem dX20_floats_111 : decode cX20_floats 111 = .ok (.iaload, 1) := dk_46 (dk_at dksX20_floats_4 15 rfl rfl)
theorem dX20_floats_112 : decode cX20_floats 112 = .ok (.invokestatic 253, 3) := dk_184 0 253 (dk_at dksX20_floats_4 16 rfl rfl)
theorem dX20_floats_115 : decode cX20_floats 115 = .ok (.iastore, 1) := dk_79 (dk_at dksX20_floats_4 19 rfl rfl)
theorem dX20_floats_116 : decode cX20_floats 116 = .ok (.goto 16, 3) := dk_167 0 16 (dk_at dksX20_floats_4 20 rfl rfl)
theorem dX20_floats_119 : decode cX20_floats 119 = .ok (.aload_n 1, 1) := dk_43 (dk_at dksX20_floats_4 23 rfl rfl)
theorem dX20_floats_120 : decode cX20_floats 120 = .ok (.bipush 8, 2) := dk_16 8 (dk_at dksX20_floats_5 0 rfl rfl)
theorem dX20_floats_122 : decode cX20_floats 122 = .ok (.iload_n 3, 1) := dk_29 (dk_at dksX20_floats_5 2 rfl rfl)
theorem dX20_floats_123 : decode cX20_floats 123 = .ok (.iadd, 1) := dk_96 (dk_at dksX20_floats_5 3 rfl rfl)
theorem dX20_floats_124 : decode cX20_floats 124 = .ok (.aload_n 1, 1) := dk_43 (dk_at dksX20_floats_5 4 rfl rfl)
theorem dX20_floats_125 : decode cX20_floats 125 = .ok (.iload 6, 2) := dk_21 6 (dk_at dksX20_floats_5 5 rfl rfl)
theorem dX20_floats_127 : decode cX20_floats 127 = .ok (.iaload, 1) := dk_46 (dk_at dksX20_floats_5 7 rfl rfl)
theorem dX20_floats_128 : decode cX20_floats 128 = .ok (.invokestatic 256, 3) := dk_184 1 0 (dk_at dksX20_floats_5 8 rfl rfl)
theorem dX20_floats_131 : decode cX20_floats 131 = .ok (.iastore, 1) := dk_79 (dk_at dksX20_floats_5 11 rfl rfl)
theorem dX20_floats_132 : decode cX20_floats 132 = .ok (.aload_n 1, 1) := dk_43 (dk_at dksX20_floats_5 12 rfl rfl)
theorem dX20_floats_133 : decode cX20_floats 133 = .ok (.bipush 18, 2) := dk_16 18 (dk_at dksX20_floats_5 13 rfl rfl)
theorem dX20_floats_135 : decode cX20_floats 135 = .ok (.iconst 1, 1) := dk_4 (dk_at dksX20_floats_5 15 rfl rfl)
theorem dX20_floats_136 : decode cX20_floats 136 = .ok (.iastore, 1) := dk_79 (dk_at dksX20_floats_5 16 rfl rfl)
theorem dX20_floats_137 : decode cX20_floats 137 = .ok (.return_, 1) := dk_177 (dk_at dksX20_floats_5 17 rfl rfl)
abbrev cX20_toInt : ByteArray := prog_52_method_16_code
def yX20_toInt : MethodName := ⟨RX20, "toInt", "(I)I"⟩
def dkwX20_toInt_4 : List UInt8 := [18, 108, 167, 0, 5, 31, 136, 172]
abbrev dktX20_toInt_4 : List UInt8 := dkwX20_toInt_4 ++ []
def dkwX20_toInt_3 : List UInt8 := [20, 0, 104, 148, 158, 0, 8, 18, 78, 167, 0, 6, 31, 117, 136, 172, 31, 20, 0, 106, 148, 158, 0, 8]
abbrev dktX20_toInt_3 : List UInt8 := dkwX20_toInt_3 ++ dktX20_toInt_4
def dkwX20_toInt_2 : List UInt8 := [20, 0, 102, 148, 156, 0, 13, 31, 4, 121, 64, 132, 4, 1, 167, 255, 235, 26, 156, 0, 20, 31]
abbrev dktX20_toInt_2 : List UInt8 := dkwX20_toInt_2 ++ dktX20_toInt_3
def dkwX20_toInt_1 : List UInt8 := [158, 0, 13, 31, 4, 123, 64, 132, 4, 255, 167, 255, 237, 3, 54, 4, 21, 4, 29, 162, 0, 21, 31]
abbrev dktX20_toInt_1 : List UInt8 := dkwX20_toInt_1 ++ dktX20_toInt_2
def dkwX20_toInt_0 : List UInt8 := [26, 184, 0, 90, 64, 26, 184, 0, 94, 62, 3, 54, 4, 21, 4, 29, 164, 0, 19, 31, 9, 148]
abbrev dktX20_toInt_0 : List UInt8 := dkwX20_toInt_0 ++ dktX20_toInt_1
theorem dksX20_toInt_0 : cX20_toInt.data.toList.drop 0 = dktX20_toInt_0 := by decide +kernel
theorem dksX20_toInt_1 : cX20_toInt.data.toList.drop 22 = dktX20_toInt_1 := dk_seg dksX20_toInt_0 22 rfl rfl
theorem dksX20_toInt_2 : cX20_toInt.data.toList.drop 45 = dktX20_toInt_2 := dk_seg dksX20_toInt_1 23 rfl rfl
theorem dksX20_toInt_3 : cX20_toInt.data.toList.drop 67 = dktX20_toInt_3 := dk_seg dksX20_toInt_2 22 rfl rfl
theorem dksX20_toInt_4 : cX20_toInt.data.toList.drop 91 = dktX20_toInt_4 := dk_seg dksX20_toInt_3 24 rfl rfl
theorem dX20_toInt_0 : decode cX20_toInt 0 = .ok (.iload_n 0, 1) := dk_26 (dk_at dksX20_toInt_0 0 rfl rfl)
theorem dX20_toInt_1 : decode cX20_toInt 1 = .ok (.invokestatic 90, 3) := dk_184 0 90 (dk_at dksX20_toInt_0 1 rfl rfl)
theorem dX20_toInt_4 : decode cX20_toInt 4 = .ok (.lstore_n 1, 1) := dk_64 (dk_at dksX20_toInt_0 4 rfl rfl)
theorem dX20_toInt_5 : decode cX20_toInt 5 = .ok (.iload_n 0, 1) := dk_26 (dk_at dksX20_toInt_0 5 rfl rfl)
theorem dX20_toInt_6 : decode cX20_toInt 6 = .ok (.invokestatic 94, 3) := dk_184 0 94 (dk_at dksX20_toInt_0 6 rfl rfl)
theorem dX20_toInt_9 : decode cX20_toInt 9 = .ok (.istore_n 3, 1) := dk_62 (dk_at dksX20_toInt_0 9 rfl rfl)
theorem dX20_toInt_10 : decode cX20_toInt 10 = .ok (.iconst 0, 1) := dk_3 (dk_at dksX20_toInt_0 10 rfl rfl)
theorem dX20_toInt_11 : decode cX20_toInt 11 = .ok (.istore 4, 2) := dk_54 4 (dk_at dksX20_toInt_0 11 rfl rfl)
theorem dX20_toInt_13 : decode cX20_toInt 13 = .ok (.iload 4, 2) := dk_21 4 (dk_at dksX20_toInt_0 13 rfl rfl)
theorem dX20_toInt_15 : decode cX20_toInt 15 = .ok (.iload_n 3, 1) := dk_29 (dk_at dksX20_toInt_0 15 rfl rfl)
theorem dX20_toInt_16 : decode cX20_toInt 16 = .ok (.if_icmp .le 19, 3) := dk_164 0 19 (dk_at dksX20_toInt_0 16 rfl rfl)
theorem dX20_toInt_19 : decode cX20_toInt 19 = .ok (.lload_n 1, 1) := dk_31 (dk_at dksX20_toInt_0 19 rfl rfl)
theorem dX20_toInt_20 : decode cX20_toInt 20 = .ok (.lconst 0, 1) := dk_9 (dk_at dksX20_toInt_0 20 rfl rfl)
theorem dX20_toInt_21 : decode cX20_toInt 21 = .ok (.lcmp, 1) := dk_148 (dk_at dksX20_toInt_0 21 rfl rfl)
theorem dX20_toInt_22 : decode cX20_toInt 22 = .ok (.ifCond .le 13, 3) := dk_158 0 13 (dk_at dksX20_toInt_1 0 rfl rfl)
theorem dX20_toInt_25 : decode cX20_toInt 25 = .ok (.lload_n 1, 1) := dk_31 (dk_at dksX20_toInt_1 3 rfl rfl)
theorem dX20_toInt_26 : decode cX20_toInt 26 = .ok (.iconst 1, 1) := dk_4 (dk_at dksX20_toInt_1 4 rfl rfl)
theorem dX20_toInt_27 : decode cX20_toInt 27 = .ok (.lshr, 1) := dk_123 (dk_at dksX20_toInt_1 5 rfl rfl)
theorem dX20_toInt_28 : decode cX20_toInt 28 = .ok (.lstore_n 1, 1) := dk_64 (dk_at dksX20_toInt_1 6 rfl rfl)
theorem dX20_toInt_29 : decode cX20_toInt 29 = .ok (.iinc 4 (-1), 3) := dk_132 4 255 (dk_at dksX20_toInt_1 7 rfl rfl)
theorem dX20_toInt_32 : decode cX20_toInt 32 = .ok (.goto (-19), 3) := dk_167 255 237 (dk_at dksX20_toInt_1 10 rfl rfl)
theorem dX20_toInt_35 : decode cX20_toInt 35 = .ok (.iconst 0, 1) := dk_3 (dk_at dksX20_toInt_1 13 rfl rfl)
theorem dX20_toInt_36 : decode cX20_toInt 36 = .ok (.istore 4, 2) := dk_54 4 (dk_at dksX20_toInt_1 14 rfl rfl)
theorem dX20_toInt_38 : decode cX20_toInt 38 = .ok (.iload 4, 2) := dk_21 4 (dk_at dksX20_toInt_1 16 rfl rfl)
theorem dX20_toInt_40 : decode cX20_toInt 40 = .ok (.iload_n 3, 1) := dk_29 (dk_at dksX20_toInt_1 18 rfl rfl)
theorem dX20_toInt_41 : decode cX20_toInt 41 = .ok (.if_icmp .ge 21, 3) := dk_162 0 21 (dk_at dksX20_toInt_1 19 rfl rfl)
theorem dX20_toInt_44 : decode cX20_toInt 44 = .ok (.lload_n 1, 1) := dk_31 (dk_at dksX20_toInt_1 22 rfl rfl)
theorem dX20_toInt_45 : decode cX20_toInt 45 = .ok (.ldc2_w 102, 3) := dk_20 0 102 (dk_at dksX20_toInt_2 0 rfl rfl)
theorem dX20_toInt_48 : decode cX20_toInt 48 = .ok (.lcmp, 1) := dk_148 (dk_at dksX20_toInt_2 3 rfl rfl)
theorem dX20_toInt_49 : decode cX20_toInt 49 = .ok (.ifCond .ge 13, 3) := dk_156 0 13 (dk_at dksX20_toInt_2 4 rfl rfl)
theorem dX20_toInt_52 : decode cX20_toInt 52 = .ok (.lload_n 1, 1) := dk_31 (dk_at dksX20_toInt_2 7 rfl rfl)
theorem dX20_toInt_53 : decode cX20_toInt 53 = .ok (.iconst 1, 1) := dk_4 (dk_at dksX20_toInt_2 8 rfl rfl)
theorem dX20_toInt_54 : decode cX20_toInt 54 = .ok (.lshl, 1) := dk_121 (dk_at dksX20_toInt_2 9 rfl rfl)
theorem dX20_toInt_55 : decode cX20_toInt 55 = .ok (.lstore_n 1, 1) := dk_64 (dk_at dksX20_toInt_2 10 rfl rfl)
theorem dX20_toInt_56 : decode cX20_toInt 56 = .ok (.iinc 4 1, 3) := dk_132 4 1 (dk_at dksX20_toInt_2 11 rfl rfl)
theorem dX20_toInt_59 : decode cX20_toInt 59 = .ok (.goto (-21), 3) := dk_167 255 235 (dk_at dksX20_toInt_2 14 rfl rfl)
theorem dX20_toInt_62 : decode cX20_toInt 62 = .ok (.iload_n 0, 1) := dk_26 (dk_at dksX20_toInt_2 17 rfl rfl)
theorem dX20_toInt_63 : decode cX20_toInt 63 = .ok (.ifCond .ge 20, 3) := dk_156 0 20 (dk_at dksX20_toInt_2 18 rfl rfl)
theorem dX20_toInt_66 : decode cX20_toInt 66 = .ok (.lload_n 1, 1) := dk_31 (dk_at dksX20_toInt_2 21 rfl rfl)
theorem dX20_toInt_67 : decode cX20_toInt 67 = .ok (.ldc2_w 104, 3) := dk_20 0 104 (dk_at dksX20_toInt_3 0 rfl rfl)
theorem dX20_toInt_70 : decode cX20_toInt 70 = .ok (.lcmp, 1) := dk_148 (dk_at dksX20_toInt_3 3 rfl rfl)
theorem dX20_toInt_71 : decode cX20_toInt 71 = .ok (.ifCond .le 8, 3) := dk_158 0 8 (dk_at dksX20_toInt_3 4 rfl rfl)
theorem dX20_toInt_74 : decode cX20_toInt 74 = .ok (.ldc 78, 2) := dk_18 78 (dk_at dksX20_toInt_3 7 rfl rfl)
theorem dX20_toInt_76 : decode cX20_toInt 76 = .ok (.goto 6, 3) := dk_167 0 6 (dk_at dksX20_toInt_3 9 rfl rfl)
theorem dX20_toInt_79 : decode cX20_toInt 79 = .ok (.lload_n 1, 1) := dk_31 (dk_at dksX20_toInt_3 12 rfl rfl)
theorem dX20_toInt_80 : decode cX20_toInt 80 = .ok (.lneg, 1) := dk_117 (dk_at dksX20_toInt_3 13 rfl rfl)
theorem dX20_toInt_81 : decode cX20_toInt 81 = .ok (.l2i, 1) := dk_136 (dk_at dksX20_toInt_3 14 rfl rfl)
theorem dX20_toInt_82 : decode cX20_toInt 82 = .ok (.ireturn, 1) := dk_172 (dk_at dksX20_toInt_3 15 rfl rfl)
theorem dX20_toInt_83 : decode cX20_toInt 83 = .ok (.lload_n 1, 1) := dk_31 (dk_at dksX20_toInt_3 16 rfl rfl)
theorem dX20_toInt_84 : decode cX20_toInt 84 = .ok (.ldc2_w 106, 3) := dk_20 0 106 (dk_at dksX20_toInt_3 17 rfl rfl)
theorem dX20_toInt_87 : decode cX20_toInt 87 = .ok (.lcmp, 1) := dk_148 (dk_at dksX20_toInt_3 20 rfl rfl)
theorem dX20_toInt_88 : decode cX20_toInt 88 = .ok (.ifCond .le 8, 3) := dk_158 0 8 (dk_at dksX20_toInt_3 21 rfl rfl)
theorem dX20_toInt_91 : decode cX20_toInt 91 = .ok (.ldc 108, 2) := dk_18 108 (dk_at dksX20_toInt_4 0 rfl rfl)
theorem dX20_toInt_93 : decode cX20_toInt 93 = .ok (.goto 5, 3) := dk_167 0 5 (dk_at dksX20_toInt_4 2 rfl rfl)
theorem dX20_toInt_96 : decode cX20_toInt 96 = .ok (.lload_n 1, 1) := dk_31 (dk_at dksX20_toInt_4 5 rfl rfl)
theorem dX20_toInt_97 : decode cX20_toInt 97 = .ok (.l2i, 1) := dk_136 (dk_at dksX20_toInt_4 6 rfl rfl)
theorem dX20_toInt_98 : decode cX20_toInt 98 = .ok (.ireturn, 1) := dk_172 (dk_at dksX20_toInt_4 7 rfl rfl)
abbrev cX20_ofInt : ByteArray := prog_52_method_15_code
def yX20_ofInt : MethodName := ⟨RX20, "ofInt", "(I)I"⟩
def dkwX20_ofInt_1 : List UInt8 := [167, 0, 4, 3, 31, 3, 3, 184, 0, 98, 172]
abbrev dktX20_ofInt_1 : List UInt8 := dkwX20_ofInt_1 ++ []
def dkwX20_ofInt_0 : List UInt8 := [26, 154, 0, 5, 3, 172, 26, 156, 0, 9, 26, 133, 117, 167, 0, 5, 26, 133, 64, 26, 156, 0, 7, 4]
abbrev dktX20_ofInt_0 : List UInt8 := dkwX20_ofInt_0 ++ dktX20_ofInt_1
theorem dksX20_ofInt_0 : cX20_ofInt.data.toList.drop 0 = dktX20_ofInt_0 := by decide +kernel
theorem dksX20_ofInt_1 : cX20_ofInt.data.toList.drop 24 = dktX20_ofInt_1 := dk_seg dksX20_ofInt_0 24 rfl rfl
theorem dX20_ofInt_0 : decode cX20_ofInt 0 = .ok (.iload_n 0, 1) := dk_26 (dk_at dksX20_ofInt_0 0 rfl rfl)
theorem dX20_ofInt_1 : decode cX20_ofInt 1 = .ok (.ifCond .ne 5, 3) := dk_154 0 5 (dk_at dksX20_ofInt_0 1 rfl rfl)
theorem dX20_ofInt_4 : decode cX20_ofInt 4 = .ok (.iconst 0, 1) := dk_3 (dk_at dksX20_ofInt_0 4 rfl rfl)
theorem dX20_ofInt_5 : decode cX20_ofInt 5 = .ok (.ireturn, 1) := dk_172 (dk_at dksX20_ofInt_0 5 rfl rfl)
theorem dX20_ofInt_6 : decode cX20_ofInt 6 = .ok (.iload_n 0, 1) := dk_26 (dk_at dksX20_ofInt_0 6 rfl rfl)
theorem dX20_ofInt_7 : decode cX20_ofInt 7 = .ok (.ifCond .ge 9, 3) := dk_156 0 9 (dk_at dksX20_ofInt_0 7 rfl rfl)
theorem dX20_ofInt_10 : decode cX20_ofInt 10 = .ok (.iload_n 0, 1) := dk_26 (dk_at dksX20_ofInt_0 10 rfl rfl)
theorem dX20_ofInt_11 : decode cX20_ofInt 11 = .ok (.i2l, 1) := dk_133 (dk_at dksX20_ofInt_0 11 rfl rfl)
theorem dX20_ofInt_12 : decode cX20_ofInt 12 = .ok (.lneg, 1) := dk_117 (dk_at dksX20_ofInt_0 12 rfl rfl)
theorem dX20_ofInt_13 : decode cX20_ofInt 13 = .ok (.goto 5, 3) := dk_167 0 5 (dk_at dksX20_ofInt_0 13 rfl rfl)
theorem dX20_ofInt_16 : decode cX20_ofInt 16 = .ok (.iload_n 0, 1) := dk_26 (dk_at dksX20_ofInt_0 16 rfl rfl)
theorem dX20_ofInt_17 : decode cX20_ofInt 17 = .ok (.i2l, 1) := dk_133 (dk_at dksX20_ofInt_0 17 rfl rfl)
theorem dX20_ofInt_18 : decode cX20_ofInt 18 = .ok (.lstore_n 1, 1) := dk_64 (dk_at dksX20_ofInt_0 18 rfl rfl)
theorem dX20_ofInt_19 : decode cX20_ofInt 19 = .ok (.iload_n 0, 1) := dk_26 (dk_at dksX20_ofInt_0 19 rfl rfl)
theorem dX20_ofInt_20 : decode cX20_ofInt 20 = .ok (.ifCond .ge 7, 3) := dk_156 0 7 (dk_at dksX20_ofInt_0 20 rfl rfl)
theorem dX20_ofInt_23 : decode cX20_ofInt 23 = .ok (.iconst 1, 1) := dk_4 (dk_at dksX20_ofInt_0 23 rfl rfl)
theorem dX20_ofInt_24 : decode cX20_ofInt 24 = .ok (.goto 4, 3) := dk_167 0 4 (dk_at dksX20_ofInt_1 0 rfl rfl)
theorem dX20_ofInt_27 : decode cX20_ofInt 27 = .ok (.iconst 0, 1) := dk_3 (dk_at dksX20_ofInt_1 3 rfl rfl)
theorem dX20_ofInt_28 : decode cX20_ofInt 28 = .ok (.lload_n 1, 1) := dk_31 (dk_at dksX20_ofInt_1 4 rfl rfl)
theorem dX20_ofInt_29 : decode cX20_ofInt 29 = .ok (.iconst 0, 1) := dk_3 (dk_at dksX20_ofInt_1 5 rfl rfl)
theorem dX20_ofInt_30 : decode cX20_ofInt 30 = .ok (.iconst 0, 1) := dk_3 (dk_at dksX20_ofInt_1 6 rfl rfl)
theorem dX20_ofInt_31 : decode cX20_ofInt 31 = .ok (.invokestatic 98, 3) := dk_184 0 98 (dk_at dksX20_ofInt_1 7 rfl rfl)
theorem dX20_ofInt_34 : decode cX20_ofInt 34 = .ok (.ireturn, 1) := dk_172 (dk_at dksX20_ofInt_1 10 rfl rfl)
abbrev cX20_mod : ByteArray := prog_52_method_4_code
def yX20_mod : MethodName := ⟨RX20, "mod", "(II)I"⟩
def dkwX20_mod_0 : List UInt8 := [26, 27, 112, 27, 96, 27, 112, 172]
abbrev dktX20_mod_0 : List UInt8 := dkwX20_mod_0 ++ []
theorem dksX20_mod_0 : cX20_mod.data.toList.drop 0 = dktX20_mod_0 := by decide +kernel
theorem dX20_mod_0 : decode cX20_mod 0 = .ok (.iload_n 0, 1) := dk_26 (dk_at dksX20_mod_0 0 rfl rfl)
theorem dX20_mod_1 : decode cX20_mod 1 = .ok (.iload_n 1, 1) := dk_27 (dk_at dksX20_mod_0 1 rfl rfl)
theorem dX20_mod_2 : decode cX20_mod 2 = .ok (.irem, 1) := dk_112 (dk_at dksX20_mod_0 2 rfl rfl)
theorem dX20_mod_3 : decode cX20_mod 3 = .ok (.iload_n 1, 1) := dk_27 (dk_at dksX20_mod_0 3 rfl rfl)
theorem dX20_mod_4 : decode cX20_mod 4 = .ok (.iadd, 1) := dk_96 (dk_at dksX20_mod_0 4 rfl rfl)
theorem dX20_mod_5 : decode cX20_mod 5 = .ok (.iload_n 1, 1) := dk_27 (dk_at dksX20_mod_0 5 rfl rfl)
theorem dX20_mod_6 : decode cX20_mod 6 = .ok (.irem, 1) := dk_112 (dk_at dksX20_mod_0 6 rfl rfl)
theorem dX20_mod_7 : decode cX20_mod 7 = .ok (.ireturn, 1) := dk_172 (dk_at dksX20_mod_0 7 rfl rfl)
abbrev cX20_tells : ByteArray := prog_52_method_47_code
def yX20_tells : MethodName := ⟨RX20, "tells", "(I)V"⟩
def dkwX20_tells_1 : List UInt8 := [42, 180, 0, 26, 16, 15, 46, 27, 79, 42, 180, 0, 26, 16, 15, 92, 46, 4, 96, 79, 177]
abbrev dktX20_tells_1 : List UInt8 := dkwX20_tells_1 ++ []
def dkwX20_tells_0 : List UInt8 := [42, 180, 0, 72, 154, 0, 4, 177, 42, 180, 0, 26, 16, 15, 46, 16, 64, 162, 0, 16, 42, 180, 0, 41]
abbrev dktX20_tells_0 : List UInt8 := dkwX20_tells_0 ++ dktX20_tells_1
theorem dksX20_tells_0 : cX20_tells.data.toList.drop 0 = dktX20_tells_0 := by decide +kernel
theorem dksX20_tells_1 : cX20_tells.data.toList.drop 24 = dktX20_tells_1 := dk_seg dksX20_tells_0 24 rfl rfl
theorem dX20_tells_0 : decode cX20_tells 0 = .ok (.aload_n 0, 1) := dk_42 (dk_at dksX20_tells_0 0 rfl rfl)
theorem dX20_tells_1 : decode cX20_tells 1 = .ok (.getfield 72, 3) := dk_180 0 72 (dk_at dksX20_tells_0 1 rfl rfl)
theorem dX20_tells_4 : decode cX20_tells 4 = .ok (.ifCond .ne 4, 3) := dk_154 0 4 (dk_at dksX20_tells_0 4 rfl rfl)
theorem dX20_tells_7 : decode cX20_tells 7 = .ok (.return_, 1) := dk_177 (dk_at dksX20_tells_0 7 rfl rfl)
theorem dX20_tells_8 : decode cX20_tells 8 = .ok (.aload_n 0, 1) := dk_42 (dk_at dksX20_tells_0 8 rfl rfl)
theorem dX20_tells_9 : decode cX20_tells 9 = .ok (.getfield 26, 3) := dk_180 0 26 (dk_at dksX20_tells_0 9 rfl rfl)
theorem dX20_tells_12 : decode cX20_tells 12 = .ok (.bipush 15, 2) := dk_16 15 (dk_at dksX20_tells_0 12 rfl rfl)
theorem dX20_tells_14 : decode cX20_tells 14 = .ok (.iaload, 1) := dk_46 (dk_at dksX20_tells_0 14 rfl rfl)
theorem dX20_tells_15 : decode cX20_tells 15 = .ok (.bipush 64, 2) := dk_16 64 (dk_at dksX20_tells_0 15 rfl rfl)
theorem dX20_tells_17 : decode cX20_tells 17 = .ok (.if_icmp .ge 16, 3) := dk_162 0 16 (dk_at dksX20_tells_0 17 rfl rfl)
theorem dX20_tells_20 : decode cX20_tells 20 = .ok (.aload_n 0, 1) := dk_42 (dk_at dksX20_tells_0 20 rfl rfl)
theorem dX20_tells_21 : decode cX20_tells 21 = .ok (.getfield 41, 3) := dk_180 0 41 (dk_at dksX20_tells_0 21 rfl rfl)
theorem dX20_tells_24 : decode cX20_tells 24 = .ok (.aload_n 0, 1) := dk_42 (dk_at dksX20_tells_1 0 rfl rfl)
theorem dX20_tells_25 : decode cX20_tells 25 = .ok (.getfield 26, 3) := dk_180 0 26 (dk_at dksX20_tells_1 1 rfl rfl)
theorem dX20_tells_28 : decode cX20_tells 28 = .ok (.bipush 15, 2) := dk_16 15 (dk_at dksX20_tells_1 4 rfl rfl)
theorem dX20_tells_30 : decode cX20_tells 30 = .ok (.iaload, 1) := dk_46 (dk_at dksX20_tells_1 6 rfl rfl)
theorem dX20_tells_31 : decode cX20_tells 31 = .ok (.iload_n 1, 1) := dk_27 (dk_at dksX20_tells_1 7 rfl rfl)
theorem dX20_tells_32 : decode cX20_tells 32 = .ok (.iastore, 1) := dk_79 (dk_at dksX20_tells_1 8 rfl rfl)
theorem dX20_tells_33 : decode cX20_tells 33 = .ok (.aload_n 0, 1) := dk_42 (dk_at dksX20_tells_1 9 rfl rfl)
theorem dX20_tells_34 : decode cX20_tells 34 = .ok (.getfield 26, 3) := dk_180 0 26 (dk_at dksX20_tells_1 10 rfl rfl)
theorem dX20_tells_37 : decode cX20_tells 37 = .ok (.bipush 15, 2) := dk_16 15 (dk_at dksX20_tells_1 13 rfl rfl)
theorem dX20_tells_39 : decode cX20_tells 39 = .ok (.dup2, 1) := dk_92 (dk_at dksX20_tells_1 15 rfl rfl)
theorem dX20_tells_40 : decode cX20_tells 40 = .ok (.iaload, 1) := dk_46 (dk_at dksX20_tells_1 16 rfl rfl)
theorem dX20_tells_41 : decode cX20_tells 41 = .ok (.iconst 1, 1) := dk_4 (dk_at dksX20_tells_1 17 rfl rfl)
theorem dX20_tells_42 : decode cX20_tells 42 = .ok (.iadd, 1) := dk_96 (dk_at dksX20_tells_1 18 rfl rfl)
theorem dX20_tells_43 : decode cX20_tells 43 = .ok (.iastore, 1) := dk_79 (dk_at dksX20_tells_1 19 rfl rfl)
theorem dX20_tells_44 : decode cX20_tells 44 = .ok (.return_, 1) := dk_177 (dk_at dksX20_tells_1 20 rfl rfl)
abbrev cX20_chains : ByteArray := prog_52_method_34_code
def yX20_chains : MethodName := ⟨RX20, "chains", "([I)V"⟩
def dkwX20_chains_1 : List UInt8 := [155, 0, 13, 42, 43, 28, 4, 182, 0, 192, 167, 0, 10, 42, 43, 6, 3, 182, 0, 173, 177]
abbrev dktX20_chains_1 : List UInt8 := dkwX20_chains_1 ++ []
def dkwX20_chains_0 : List UInt8 := [43, 16, 21, 92, 46, 4, 96, 79, 43, 16, 21, 46, 5, 162, 0, 4, 177, 42, 43, 182, 0, 170, 61, 28]
abbrev dktX20_chains_0 : List UInt8 := dkwX20_chains_0 ++ dktX20_chains_1
theorem dksX20_chains_0 : cX20_chains.data.toList.drop 0 = dktX20_chains_0 := by decide +kernel
theorem dksX20_chains_1 : cX20_chains.data.toList.drop 24 = dktX20_chains_1 := dk_seg dksX20_chains_0 24 rfl rfl
theorem dX20_chains_0 : decode cX20_chains 0 = .ok (.aload_n 1, 1) := dk_43 (dk_at dksX20_chains_0 0 rfl rfl)
theorem dX20_chains_1 : decode cX20_chains 1 = .ok (.bipush 21, 2) := dk_16 21 (dk_at dksX20_chains_0 1 rfl rfl)
theorem dX20_chains_3 : decode cX20_chains 3 = .ok (.dup2, 1) := dk_92 (dk_at dksX20_chains_0 3 rfl rfl)
theorem dX20_chains_4 : decode cX20_chains 4 = .ok (.iaload, 1) := dk_46 (dk_at dksX20_chains_0 4 rfl rfl)
theorem dX20_chains_5 : decode cX20_chains 5 = .ok (.iconst 1, 1) := dk_4 (dk_at dksX20_chains_0 5 rfl rfl)
theorem dX20_chains_6 : decode cX20_chains 6 = .ok (.iadd, 1) := dk_96 (dk_at dksX20_chains_0 6 rfl rfl)
theorem dX20_chains_7 : decode cX20_chains 7 = .ok (.iastore, 1) := dk_79 (dk_at dksX20_chains_0 7 rfl rfl)
theorem dX20_chains_8 : decode cX20_chains 8 = .ok (.aload_n 1, 1) := dk_43 (dk_at dksX20_chains_0 8 rfl rfl)
theorem dX20_chains_9 : decode cX20_chains 9 = .ok (.bipush 21, 2) := dk_16 21 (dk_at dksX20_chains_0 9 rfl rfl)
theorem dX20_chains_11 : decode cX20_chains 11 = .ok (.iaload, 1) := dk_46 (dk_at dksX20_chains_0 11 rfl rfl)
theorem dX20_chains_12 : decode cX20_chains 12 = .ok (.iconst 2, 1) := dk_5 (dk_at dksX20_chains_0 12 rfl rfl)
theorem dX20_chains_13 : decode cX20_chains 13 = .ok (.if_icmp .ge 4, 3) := dk_162 0 4 (dk_at dksX20_chains_0 13 rfl rfl)
theorem dX20_chains_16 : decode cX20_chains 16 = .ok (.return_, 1) := dk_177 (dk_at dksX20_chains_0 16 rfl rfl)
theorem dX20_chains_17 : decode cX20_chains 17 = .ok (.aload_n 0, 1) := dk_42 (dk_at dksX20_chains_0 17 rfl rfl)
theorem dX20_chains_18 : decode cX20_chains 18 = .ok (.aload_n 1, 1) := dk_43 (dk_at dksX20_chains_0 18 rfl rfl)
theorem dX20_chains_19 : decode cX20_chains 19 = .ok (.invokevirtual 170, 3) := dk_182 0 170 (dk_at dksX20_chains_0 19 rfl rfl)
theorem dX20_chains_22 : decode cX20_chains 22 = .ok (.istore_n 2, 1) := dk_61 (dk_at dksX20_chains_0 22 rfl rfl)
theorem dX20_chains_23 : decode cX20_chains 23 = .ok (.iload_n 2, 1) := dk_28 (dk_at dksX20_chains_0 23 rfl rfl)
theorem dX20_chains_24 : decode cX20_chains 24 = .ok (.ifCond .lt 13, 3) := dk_155 0 13 (dk_at dksX20_chains_1 0 rfl rfl)
theorem dX20_chains_27 : decode cX20_chains 27 = .ok (.aload_n 0, 1) := dk_42 (dk_at dksX20_chains_1 3 rfl rfl)
theorem dX20_chains_28 : decode cX20_chains 28 = .ok (.aload_n 1, 1) := dk_43 (dk_at dksX20_chains_1 4 rfl rfl)
theorem dX20_chains_29 : decode cX20_chains 29 = .ok (.iload_n 2, 1) := dk_28 (dk_at dksX20_chains_1 5 rfl rfl)
theorem dX20_chains_30 : decode cX20_chains 30 = .ok (.iconst 1, 1) := dk_4 (dk_at dksX20_chains_1 6 rfl rfl)
theorem dX20_chains_31 : decode cX20_chains 31 = .ok (.invokevirtual 192, 3) := dk_182 0 192 (dk_at dksX20_chains_1 7 rfl rfl)
theorem dX20_chains_34 : decode cX20_chains 34 = .ok (.goto 10, 3) := dk_167 0 10 (dk_at dksX20_chains_1 10 rfl rfl)
theorem dX20_chains_37 : decode cX20_chains 37 = .ok (.aload_n 0, 1) := dk_42 (dk_at dksX20_chains_1 13 rfl rfl)
theorem dX20_chains_38 : decode cX20_chains 38 = .ok (.aload_n 1, 1) := dk_43 (dk_at dksX20_chains_1 14 rfl rfl)
theorem dX20_chains_39 : decode cX20_chains 39 = .ok (.iconst 3, 1) := dk_6 (dk_at dksX20_chains_1 15 rfl rfl)
theorem dX20_chains_40 : decode cX20_chains 40 = .ok (.iconst 0, 1) := dk_3 (dk_at dksX20_chains_1 16 rfl rfl)
theorem dX20_chains_41 : decode cX20_chains 41 = .ok (.invokevirtual 173, 3) := dk_182 0 173 (dk_at dksX20_chains_1 17 rfl rfl)
theorem dX20_chains_44 : decode cX20_chains 44 = .ok (.return_, 1) := dk_177 (dk_at dksX20_chains_1 20 rfl rfl)
abbrev cX20_unstacks : ByteArray := prog_52_method_36_code
def yX20_unstacks : MethodName := ⟨RX20, "unstacks", "([I)V"⟩
def dkwX20_unstacks_6 : List UInt8 := [182, 0, 202, 177]
abbrev dktX20_unstacks_6 : List UInt8 := dkwX20_unstacks_6 ++ []
def dkwX20_unstacks_5 : List UInt8 := [16, 6, 79, 43, 16, 21, 92, 46, 4, 96, 79, 43, 16, 21, 46, 43, 16, 32, 46, 160, 0, 8, 42, 43]
abbrev dktX20_unstacks_5 : List UInt8 := dkwX20_unstacks_5 ++ dktX20_unstacks_6
def dkwX20_unstacks_4 : List UInt8 := [100, 6, 164, 0, 22, 43, 16, 19, 46, 43, 16, 15, 46, 16, 10, 100, 159, 0, 8, 16, 10, 167, 0, 5]
abbrev dktX20_unstacks_4 : List UInt8 := dkwX20_unstacks_4 ++ dktX20_unstacks_5
def dkwX20_unstacks_3 : List UInt8 := [43, 5, 3, 182, 0, 173, 177, 43, 16, 32, 43, 16, 56, 43, 16, 15, 46, 96, 4, 100, 46, 17, 90, 0]
abbrev dktX20_unstacks_3 : List UInt8 := dkwX20_unstacks_3 ++ dktX20_unstacks_4
def dkwX20_unstacks_2 : List UInt8 := [46, 154, 0, 74, 42, 43, 182, 0, 199, 62, 29, 155, 0, 20, 42, 43, 29, 182, 0, 180, 154, 0, 10, 42]
abbrev dktX20_unstacks_2 : List UInt8 := dkwX20_unstacks_2 ++ dktX20_unstacks_3
def dkwX20_unstacks_1 : List UInt8 := [182, 0, 131, 42, 7, 28, 43, 16, 21, 46, 182, 0, 147, 42, 43, 5, 4, 182, 0, 173, 177, 43, 16, 21]
abbrev dktX20_unstacks_1 : List UInt8 := dkwX20_unstacks_1 ++ dktX20_unstacks_2
def dkwX20_unstacks_0 : List UInt8 := [42, 180, 0, 189, 153, 0, 7, 2, 167, 0, 8, 42, 43, 182, 0, 170, 61, 28, 155, 0, 26, 42, 7]
abbrev dktX20_unstacks_0 : List UInt8 := dkwX20_unstacks_0 ++ dktX20_unstacks_1
theorem dksX20_unstacks_0 : cX20_unstacks.data.toList.drop 0 = dktX20_unstacks_0 := by decide +kernel
theorem dksX20_unstacks_1 : cX20_unstacks.data.toList.drop 23 = dktX20_unstacks_1 := dk_seg dksX20_unstacks_0 23 rfl rfl
theorem dksX20_unstacks_2 : cX20_unstacks.data.toList.drop 47 = dktX20_unstacks_2 := dk_seg dksX20_unstacks_1 24 rfl rfl
theorem dksX20_unstacks_3 : cX20_unstacks.data.toList.drop 71 = dktX20_unstacks_3 := dk_seg dksX20_unstacks_2 24 rfl rfl
theorem dksX20_unstacks_4 : cX20_unstacks.data.toList.drop 95 = dktX20_unstacks_4 := dk_seg dksX20_unstacks_3 24 rfl rfl
theorem dksX20_unstacks_5 : cX20_unstacks.data.toList.drop 119 = dktX20_unstacks_5 := dk_seg dksX20_unstacks_4 24 rfl rfl
theorem dksX20_unstacks_6 : cX20_unstacks.data.toList.drop 143 = dktX20_unstacks_6 := dk_seg dksX20_unstacks_5 24 rfl rfl
theorem dX20_unstacks_0 : decode cX20_unstacks 0 = .ok (.aload_n 0, 1) := dk_42 (dk_at dksX20_unstacks_0 0 rfl rfl)
theorem dX20_unstacks_1 : decode cX20_unstacks 1 = .ok (.getfield 189, 3) := dk_180 0 189 (dk_at dksX20_unstacks_0 1 rfl rfl)
theorem dX20_unstacks_4 : decode cX20_unstacks 4 = .ok (.ifCond .eq 7, 3) := dk_153 0 7 (dk_at dksX20_unstacks_0 4 rfl rfl)
theorem dX20_unstacks_7 : decode cX20_unstacks 7 = .ok (.iconst (-1), 1) := dk_2 (dk_at dksX20_unstacks_0 7 rfl rfl)
theorem dX20_unstacks_8 : decode cX20_unstacks 8 = .ok (.goto 8, 3) := dk_167 0 8 (dk_at dksX20_unstacks_0 8 rfl rfl)
theorem dX20_unstacks_11 : decode cX20_unstacks 11 = .ok (.aload_n 0, 1) := dk_42 (dk_at dksX20_unstacks_0 11 rfl rfl)
theorem dX20_unstacks_12 : decode cX20_unstacks 12 = .ok (.aload_n 1, 1) := dk_43 (dk_at dksX20_unstacks_0 12 rfl rfl)
theorem dX20_unstacks_13 : decode cX20_unstacks 13 = .ok (.invokevirtual 170, 3) := dk_182 0 170 (dk_at dksX20_unstacks_0 13 rfl rfl)
theorem dX20_unstacks_16 : decode cX20_unstacks 16 = .ok (.istore_n 2, 1) := dk_61 (dk_at dksX20_unstacks_0 16 rfl rfl)
theorem dX20_unstacks_17 : decode cX20_unstacks 17 = .ok (.iload_n 2, 1) := dk_28 (dk_at dksX20_unstacks_0 17 rfl rfl)
theorem dX20_unstacks_18 : decode cX20_unstacks 18 = .ok (.ifCond .lt 26, 3) := dk_155 0 26 (dk_at dksX20_unstacks_0 18 rfl rfl)
theorem dX20_unstacks_21 : decode cX20_unstacks 21 = .ok (.aload_n 0, 1) := dk_42 (dk_at dksX20_unstacks_0 21 rfl rfl)
theorem dX20_unstacks_22 : decode cX20_unstacks 22 = .ok (.iconst 4, 1) := dk_7 (dk_at dksX20_unstacks_0 22 rfl rfl)
theorem dX20_unstacks_23 : decode cX20_unstacks 23 = .ok (.invokevirtual 131, 3) := dk_182 0 131 (dk_at dksX20_unstacks_1 0 rfl rfl)
theorem dX20_unstacks_26 : decode cX20_unstacks 26 = .ok (.aload_n 0, 1) := dk_42 (dk_at dksX20_unstacks_1 3 rfl rfl)
theorem dX20_unstacks_27 : decode cX20_unstacks 27 = .ok (.iconst 4, 1) := dk_7 (dk_at dksX20_unstacks_1 4 rfl rfl)
theorem dX20_unstacks_28 : decode cX20_unstacks 28 = .ok (.iload_n 2, 1) := dk_28 (dk_at dksX20_unstacks_1 5 rfl rfl)
theorem dX20_unstacks_29 : decode cX20_unstacks 29 = .ok (.aload_n 1, 1) := dk_43 (dk_at dksX20_unstacks_1 6 rfl rfl)
theorem dX20_unstacks_30 : decode cX20_unstacks 30 = .ok (.bipush 21, 2) := dk_16 21 (dk_at dksX20_unstacks_1 7 rfl rfl)
theorem dX20_unstacks_32 : decode cX20_unstacks 32 = .ok (.iaload, 1) := dk_46 (dk_at dksX20_unstacks_1 9 rfl rfl)
theorem dX20_unstacks_33 : decode cX20_unstacks 33 = .ok (.invokevirtual 147, 3) := dk_182 0 147 (dk_at dksX20_unstacks_1 10 rfl rfl)
theorem dX20_unstacks_36 : decode cX20_unstacks 36 = .ok (.aload_n 0, 1) := dk_42 (dk_at dksX20_unstacks_1 13 rfl rfl)
theorem dX20_unstacks_37 : decode cX20_unstacks 37 = .ok (.aload_n 1, 1) := dk_43 (dk_at dksX20_unstacks_1 14 rfl rfl)
theorem dX20_unstacks_38 : decode cX20_unstacks 38 = .ok (.iconst 2, 1) := dk_5 (dk_at dksX20_unstacks_1 15 rfl rfl)
theorem dX20_unstacks_39 : decode cX20_unstacks 39 = .ok (.iconst 1, 1) := dk_4 (dk_at dksX20_unstacks_1 16 rfl rfl)
theorem dX20_unstacks_40 : decode cX20_unstacks 40 = .ok (.invokevirtual 173, 3) := dk_182 0 173 (dk_at dksX20_unstacks_1 17 rfl rfl)
theorem dX20_unstacks_43 : decode cX20_unstacks 43 = .ok (.return_, 1) := dk_177 (dk_at dksX20_unstacks_1 20 rfl rfl)
theorem dX20_unstacks_44 : decode cX20_unstacks 44 = .ok (.aload_n 1, 1) := dk_43 (dk_at dksX20_unstacks_1 21 rfl rfl)
theorem dX20_unstacks_45 : decode cX20_unstacks 45 = .ok (.bipush 21, 2) := dk_16 21 (dk_at dksX20_unstacks_1 22 rfl rfl)
theorem dX20_unstacks_47 : decode cX20_unstacks 47 = .ok (.iaload, 1) := dk_46 (dk_at dksX20_unstacks_2 0 rfl rfl)
theorem dX20_unstacks_48 : decode cX20_unstacks 48 = .ok (.ifCond .ne 74, 3) := dk_154 0 74 (dk_at dksX20_unstacks_2 1 rfl rfl)
theorem dX20_unstacks_51 : decode cX20_unstacks 51 = .ok (.aload_n 0, 1) := dk_42 (dk_at dksX20_unstacks_2 4 rfl rfl)
theorem dX20_unstacks_52 : decode cX20_unstacks 52 = .ok (.aload_n 1, 1) := dk_43 (dk_at dksX20_unstacks_2 5 rfl rfl)
theorem dX20_unstacks_53 : decode cX20_unstacks 53 = .ok (.invokevirtual 199, 3) := dk_182 0 199 (dk_at dksX20_unstacks_2 6 rfl rfl)
theorem dX20_unstacks_56 : decode cX20_unstacks 56 = .ok (.istore_n 3, 1) := dk_62 (dk_at dksX20_unstacks_2 9 rfl rfl)
theorem dX20_unstacks_57 : decode cX20_unstacks 57 = .ok (.iload_n 3, 1) := dk_29 (dk_at dksX20_unstacks_2 10 rfl rfl)
theorem dX20_unstacks_58 : decode cX20_unstacks 58 = .ok (.ifCond .lt 20, 3) := dk_155 0 20 (dk_at dksX20_unstacks_2 11 rfl rfl)
theorem dX20_unstacks_61 : decode cX20_unstacks 61 = .ok (.aload_n 0, 1) := dk_42 (dk_at dksX20_unstacks_2 14 rfl rfl)
theorem dX20_unstacks_62 : decode cX20_unstacks 62 = .ok (.aload_n 1, 1) := dk_43 (dk_at dksX20_unstacks_2 15 rfl rfl)
theorem dX20_unstacks_63 : decode cX20_unstacks 63 = .ok (.iload_n 3, 1) := dk_29 (dk_at dksX20_unstacks_2 16 rfl rfl)
theorem dX20_unstacks_64 : decode cX20_unstacks 64 = .ok (.invokevirtual 180, 3) := dk_182 0 180 (dk_at dksX20_unstacks_2 17 rfl rfl)
theorem dX20_unstacks_67 : decode cX20_unstacks 67 = .ok (.ifCond .ne 10, 3) := dk_154 0 10 (dk_at dksX20_unstacks_2 20 rfl rfl)
theorem dX20_unstacks_70 : decode cX20_unstacks 70 = .ok (.aload_n 0, 1) := dk_42 (dk_at dksX20_unstacks_2 23 rfl rfl)
theorem dX20_unstacks_71 : decode cX20_unstacks 71 = .ok (.aload_n 1, 1) := dk_43 (dk_at dksX20_unstacks_3 0 rfl rfl)
theorem dX20_unstacks_72 : decode cX20_unstacks 72 = .ok (.iconst 2, 1) := dk_5 (dk_at dksX20_unstacks_3 1 rfl rfl)
theorem dX20_unstacks_73 : decode cX20_unstacks 73 = .ok (.iconst 0, 1) := dk_3 (dk_at dksX20_unstacks_3 2 rfl rfl)
theorem dX20_unstacks_74 : decode cX20_unstacks 74 = .ok (.invokevirtual 173, 3) := dk_182 0 173 (dk_at dksX20_unstacks_3 3 rfl rfl)
theorem dX20_unstacks_77 : decode cX20_unstacks 77 = .ok (.return_, 1) := dk_177 (dk_at dksX20_unstacks_3 6 rfl rfl)
theorem dX20_unstacks_78 : decode cX20_unstacks 78 = .ok (.aload_n 1, 1) := dk_43 (dk_at dksX20_unstacks_3 7 rfl rfl)
theorem dX20_unstacks_79 : decode cX20_unstacks 79 = .ok (.bipush 32, 2) := dk_16 32 (dk_at dksX20_unstacks_3 8 rfl rfl)
theorem dX20_unstacks_81 : decode cX20_unstacks 81 = .ok (.aload_n 1, 1) := dk_43 (dk_at dksX20_unstacks_3 10 rfl rfl)
theorem dX20_unstacks_82 : decode cX20_unstacks 82 = .ok (.bipush 56, 2) := dk_16 56 (dk_at dksX20_unstacks_3 11 rfl rfl)
theorem dX20_unstacks_84 : decode cX20_unstacks 84 = .ok (.aload_n 1, 1) := dk_43 (dk_at dksX20_unstacks_3 13 rfl rfl)
theorem dX20_unstacks_85 : decode cX20_unstacks 85 = .ok (.bipush 15, 2) := dk_16 15 (dk_at dksX20_unstacks_3 14 rfl rfl)
theorem dX20_unstacks_87 : decode cX20_unstacks 87 = .ok (.iaload, 1) := dk_46 (dk_at dksX20_unstacks_3 16 rfl rfl)
theorem dX20_unstacks_88 : decode cX20_unstacks 88 = .ok (.iadd, 1) := dk_96 (dk_at dksX20_unstacks_3 17 rfl rfl)
theorem dX20_unstacks_89 : decode cX20_unstacks 89 = .ok (.iconst 1, 1) := dk_4 (dk_at dksX20_unstacks_3 18 rfl rfl)
theorem dX20_unstacks_90 : decode cX20_unstacks 90 = .ok (.isub, 1) := dk_100 (dk_at dksX20_unstacks_3 19 rfl rfl)
theorem dX20_unstacks_91 : decode cX20_unstacks 91 = .ok (.iaload, 1) := dk_46 (dk_at dksX20_unstacks_3 20 rfl rfl)
theorem dX20_unstacks_92 : decode cX20_unstacks 92 = .ok (.sipush 23040, 3) := dk_17 90 0 (dk_at dksX20_unstacks_3 21 rfl rfl)
theorem dX20_unstacks_95 : decode cX20_unstacks 95 = .ok (.isub, 1) := dk_100 (dk_at dksX20_unstacks_4 0 rfl rfl)
theorem dX20_unstacks_96 : decode cX20_unstacks 96 = .ok (.iconst 3, 1) := dk_6 (dk_at dksX20_unstacks_4 1 rfl rfl)
theorem dX20_unstacks_97 : decode cX20_unstacks 97 = .ok (.if_icmp .le 22, 3) := dk_164 0 22 (dk_at dksX20_unstacks_4 2 rfl rfl)
theorem dX20_unstacks_100 : decode cX20_unstacks 100 = .ok (.aload_n 1, 1) := dk_43 (dk_at dksX20_unstacks_4 5 rfl rfl)
theorem dX20_unstacks_101 : decode cX20_unstacks 101 = .ok (.bipush 19, 2) := dk_16 19 (dk_at dksX20_unstacks_4 6 rfl rfl)
theorem dX20_unstacks_103 : decode cX20_unstacks 103 = .ok (.iaload, 1) := dk_46 (dk_at dksX20_unstacks_4 8 rfl rfl)
theorem dX20_unstacks_104 : decode cX20_unstacks 104 = .ok (.aload_n 1, 1) := dk_43 (dk_at dksX20_unstacks_4 9 rfl rfl)
theorem dX20_unstacks_105 : decode cX20_unstacks 105 = .ok (.bipush 15, 2) := dk_16 15 (dk_at dksX20_unstacks_4 10 rfl rfl)
theorem dX20_unstacks_107 : decode cX20_unstacks 107 = .ok (.iaload, 1) := dk_46 (dk_at dksX20_unstacks_4 12 rfl rfl)
theorem dX20_unstacks_108 : decode cX20_unstacks 108 = .ok (.bipush 10, 2) := dk_16 10 (dk_at dksX20_unstacks_4 13 rfl rfl)
theorem dX20_unstacks_110 : decode cX20_unstacks 110 = .ok (.isub, 1) := dk_100 (dk_at dksX20_unstacks_4 15 rfl rfl)
theorem dX20_unstacks_111 : decode cX20_unstacks 111 = .ok (.if_icmp .eq 8, 3) := dk_159 0 8 (dk_at dksX20_unstacks_4 16 rfl rfl)
theorem dX20_unstacks_114 : decode cX20_unstacks 114 = .ok (.bipush 10, 2) := dk_16 10 (dk_at dksX20_unstacks_4 19 rfl rfl)
theorem dX20_unstacks_116 : decode cX20_unstacks 116 = .ok (.goto 5, 3) := dk_167 0 5 (dk_at dksX20_unstacks_4 21 rfl rfl)
theorem dX20_unstacks_119 : decode cX20_unstacks 119 = .ok (.bipush 6, 2) := dk_16 6 (dk_at dksX20_unstacks_5 0 rfl rfl)
theorem dX20_unstacks_121 : decode cX20_unstacks 121 = .ok (.iastore, 1) := dk_79 (dk_at dksX20_unstacks_5 2 rfl rfl)
theorem dX20_unstacks_122 : decode cX20_unstacks 122 = .ok (.aload_n 1, 1) := dk_43 (dk_at dksX20_unstacks_5 3 rfl rfl)
theorem dX20_unstacks_123 : decode cX20_unstacks 123 = .ok (.bipush 21, 2) := dk_16 21 (dk_at dksX20_unstacks_5 4 rfl rfl)
theorem dX20_unstacks_125 : decode cX20_unstacks 125 = .ok (.dup2, 1) := dk_92 (dk_at dksX20_unstacks_5 6 rfl rfl)
theorem dX20_unstacks_126 : decode cX20_unstacks 126 = .ok (.iaload, 1) := dk_46 (dk_at dksX20_unstacks_5 7 rfl rfl)
theorem dX20_unstacks_127 : decode cX20_unstacks 127 = .ok (.iconst 1, 1) := dk_4 (dk_at dksX20_unstacks_5 8 rfl rfl)
theorem dX20_unstacks_128 : decode cX20_unstacks 128 = .ok (.iadd, 1) := dk_96 (dk_at dksX20_unstacks_5 9 rfl rfl)
theorem dX20_unstacks_129 : decode cX20_unstacks 129 = .ok (.iastore, 1) := dk_79 (dk_at dksX20_unstacks_5 10 rfl rfl)
theorem dX20_unstacks_130 : decode cX20_unstacks 130 = .ok (.aload_n 1, 1) := dk_43 (dk_at dksX20_unstacks_5 11 rfl rfl)
theorem dX20_unstacks_131 : decode cX20_unstacks 131 = .ok (.bipush 21, 2) := dk_16 21 (dk_at dksX20_unstacks_5 12 rfl rfl)
theorem dX20_unstacks_133 : decode cX20_unstacks 133 = .ok (.iaload, 1) := dk_46 (dk_at dksX20_unstacks_5 14 rfl rfl)
theorem dX20_unstacks_134 : decode cX20_unstacks 134 = .ok (.aload_n 1, 1) := dk_43 (dk_at dksX20_unstacks_5 15 rfl rfl)
theorem dX20_unstacks_135 : decode cX20_unstacks 135 = .ok (.bipush 32, 2) := dk_16 32 (dk_at dksX20_unstacks_5 16 rfl rfl)
theorem dX20_unstacks_137 : decode cX20_unstacks 137 = .ok (.iaload, 1) := dk_46 (dk_at dksX20_unstacks_5 18 rfl rfl)
theorem dX20_unstacks_138 : decode cX20_unstacks 138 = .ok (.if_icmp .ne 8, 3) := dk_160 0 8 (dk_at dksX20_unstacks_5 19 rfl rfl)
theorem dX20_unstacks_141 : decode cX20_unstacks 141 = .ok (.aload_n 0, 1) := dk_42 (dk_at dksX20_unstacks_5 22 rfl rfl)
theorem dX20_unstacks_142 : decode cX20_unstacks 142 = .ok (.aload_n 1, 1) := dk_43 (dk_at dksX20_unstacks_5 23 rfl rfl)
theorem dX20_unstacks_143 : decode cX20_unstacks 143 = .ok (.invokevirtual 202, 3) := dk_182 0 202 (dk_at dksX20_unstacks_6 0 rfl rfl)
theorem dX20_unstacks_146 : decode cX20_unstacks 146 = .ok (.return_, 1) := dk_177 (dk_at dksX20_unstacks_6 3 rfl rfl)
abbrev cX20_wrongWith : ByteArray := prog_52_method_35_code
def yX20_wrongWith : MethodName := ⟨RX20, "wrongWith", "([I)I"⟩
def dkwX20_wrongWith_3 : List UInt8 := [17, 1, 255, 184, 0, 195, 153, 0, 7, 2, 167, 0, 5, 16, 18, 172]
abbrev dktX20_wrongWith_3 : List UInt8 := dkwX20_wrongWith_3 ++ []
def dkwX20_wrongWith_2 : List UInt8 := [16, 15, 46, 16, 10, 162, 0, 6, 16, 19, 172, 43, 16, 56, 43, 16, 15, 46, 96, 5, 100, 46, 3]
abbrev dktX20_wrongWith_2 : List UInt8 := dkwX20_wrongWith_2 ++ dktX20_wrongWith_3
def dkwX20_wrongWith_1 : List UInt8 := [17, 90, 0, 100, 61, 28, 3, 16, 7, 184, 0, 195, 154, 0, 6, 16, 18, 172, 28, 6, 164, 0, 15, 43]
abbrev dktX20_wrongWith_1 : List UInt8 := dkwX20_wrongWith_1 ++ dktX20_wrongWith_2
def dkwX20_wrongWith_0 : List UInt8 := [43, 16, 15, 46, 16, 6, 162, 0, 6, 16, 19, 172, 43, 16, 56, 43, 16, 15, 46, 96, 4, 100, 46]
abbrev dktX20_wrongWith_0 : List UInt8 := dkwX20_wrongWith_0 ++ dktX20_wrongWith_1
theorem dksX20_wrongWith_0 : cX20_wrongWith.data.toList.drop 0 = dktX20_wrongWith_0 := by decide +kernel
theorem dksX20_wrongWith_1 : cX20_wrongWith.data.toList.drop 23 = dktX20_wrongWith_1 := dk_seg dksX20_wrongWith_0 23 rfl rfl
theorem dksX20_wrongWith_2 : cX20_wrongWith.data.toList.drop 47 = dktX20_wrongWith_2 := dk_seg dksX20_wrongWith_1 24 rfl rfl
theorem dksX20_wrongWith_3 : cX20_wrongWith.data.toList.drop 70 = dktX20_wrongWith_3 := dk_seg dksX20_wrongWith_2 23 rfl rfl
theorem dX20_wrongWith_0 : decode cX20_wrongWith 0 = .ok (.aload_n 1, 1) := dk_43 (dk_at dksX20_wrongWith_0 0 rfl rfl)
theorem dX20_wrongWith_1 : decode cX20_wrongWith 1 = .ok (.bipush 15, 2) := dk_16 15 (dk_at dksX20_wrongWith_0 1 rfl rfl)
theorem dX20_wrongWith_3 : decode cX20_wrongWith 3 = .ok (.iaload, 1) := dk_46 (dk_at dksX20_wrongWith_0 3 rfl rfl)
theorem dX20_wrongWith_4 : decode cX20_wrongWith 4 = .ok (.bipush 6, 2) := dk_16 6 (dk_at dksX20_wrongWith_0 4 rfl rfl)
theorem dX20_wrongWith_6 : decode cX20_wrongWith 6 = .ok (.if_icmp .ge 6, 3) := dk_162 0 6 (dk_at dksX20_wrongWith_0 6 rfl rfl)
theorem dX20_wrongWith_9 : decode cX20_wrongWith 9 = .ok (.bipush 19, 2) := dk_16 19 (dk_at dksX20_wrongWith_0 9 rfl rfl)
theorem dX20_wrongWith_11 : decode cX20_wrongWith 11 = .ok (.ireturn, 1) := dk_172 (dk_at dksX20_wrongWith_0 11 rfl rfl)
theorem dX20_wrongWith_12 : decode cX20_wrongWith 12 = .ok (.aload_n 1, 1) := dk_43 (dk_at dksX20_wrongWith_0 12 rfl rfl)
theorem dX20_wrongWith_13 : decode cX20_wrongWith 13 = .ok (.bipush 56, 2) := dk_16 56 (dk_at dksX20_wrongWith_0 13 rfl rfl)
theorem dX20_wrongWith_15 : decode cX20_wrongWith 15 = .ok (.aload_n 1, 1) := dk_43 (dk_at dksX20_wrongWith_0 15 rfl rfl)
theorem dX20_wrongWith_16 : decode cX20_wrongWith 16 = .ok (.bipush 15, 2) := dk_16 15 (dk_at dksX20_wrongWith_0 16 rfl rfl)
theorem dX20_wrongWith_18 : decode cX20_wrongWith 18 = .ok (.iaload, 1) := dk_46 (dk_at dksX20_wrongWith_0 18 rfl rfl)
theorem dX20_wrongWith_19 : decode cX20_wrongWith 19 = .ok (.iadd, 1) := dk_96 (dk_at dksX20_wrongWith_0 19 rfl rfl)
theorem dX20_wrongWith_20 : decode cX20_wrongWith 20 = .ok (.iconst 1, 1) := dk_4 (dk_at dksX20_wrongWith_0 20 rfl rfl)
theorem dX20_wrongWith_21 : decode cX20_wrongWith 21 = .ok (.isub, 1) := dk_100 (dk_at dksX20_wrongWith_0 21 rfl rfl)
theorem dX20_wrongWith_22 : decode cX20_wrongWith 22 = .ok (.iaload, 1) := dk_46 (dk_at dksX20_wrongWith_0 22 rfl rfl)
theorem dX20_wrongWith_23 : decode cX20_wrongWith 23 = .ok (.sipush 23040, 3) := dk_17 90 0 (dk_at dksX20_wrongWith_1 0 rfl rfl)
theorem dX20_wrongWith_26 : decode cX20_wrongWith 26 = .ok (.isub, 1) := dk_100 (dk_at dksX20_wrongWith_1 3 rfl rfl)
theorem dX20_wrongWith_27 : decode cX20_wrongWith 27 = .ok (.istore_n 2, 1) := dk_61 (dk_at dksX20_wrongWith_1 4 rfl rfl)
theorem dX20_wrongWith_28 : decode cX20_wrongWith 28 = .ok (.iload_n 2, 1) := dk_28 (dk_at dksX20_wrongWith_1 5 rfl rfl)
theorem dX20_wrongWith_29 : decode cX20_wrongWith 29 = .ok (.iconst 0, 1) := dk_3 (dk_at dksX20_wrongWith_1 6 rfl rfl)
theorem dX20_wrongWith_30 : decode cX20_wrongWith 30 = .ok (.bipush 7, 2) := dk_16 7 (dk_at dksX20_wrongWith_1 7 rfl rfl)
theorem dX20_wrongWith_32 : decode cX20_wrongWith 32 = .ok (.invokestatic 195, 3) := dk_184 0 195 (dk_at dksX20_wrongWith_1 9 rfl rfl)
theorem dX20_wrongWith_35 : decode cX20_wrongWith 35 = .ok (.ifCond .ne 6, 3) := dk_154 0 6 (dk_at dksX20_wrongWith_1 12 rfl rfl)
theorem dX20_wrongWith_38 : decode cX20_wrongWith 38 = .ok (.bipush 18, 2) := dk_16 18 (dk_at dksX20_wrongWith_1 15 rfl rfl)
theorem dX20_wrongWith_40 : decode cX20_wrongWith 40 = .ok (.ireturn, 1) := dk_172 (dk_at dksX20_wrongWith_1 17 rfl rfl)
theorem dX20_wrongWith_41 : decode cX20_wrongWith 41 = .ok (.iload_n 2, 1) := dk_28 (dk_at dksX20_wrongWith_1 18 rfl rfl)
theorem dX20_wrongWith_42 : decode cX20_wrongWith 42 = .ok (.iconst 3, 1) := dk_6 (dk_at dksX20_wrongWith_1 19 rfl rfl)
theorem dX20_wrongWith_43 : decode cX20_wrongWith 43 = .ok (.if_icmp .le 15, 3) := dk_164 0 15 (dk_at dksX20_wrongWith_1 20 rfl rfl)
theorem dX20_wrongWith_46 : decode cX20_wrongWith 46 = .ok (.aload_n 1, 1) := dk_43 (dk_at dksX20_wrongWith_1 23 rfl rfl)
theorem dX20_wrongWith_47 : decode cX20_wrongWith 47 = .ok (.bipush 15, 2) := dk_16 15 (dk_at dksX20_wrongWith_2 0 rfl rfl)
theorem dX20_wrongWith_49 : decode cX20_wrongWith 49 = .ok (.iaload, 1) := dk_46 (dk_at dksX20_wrongWith_2 2 rfl rfl)
theorem dX20_wrongWith_50 : decode cX20_wrongWith 50 = .ok (.bipush 10, 2) := dk_16 10 (dk_at dksX20_wrongWith_2 3 rfl rfl)
theorem dX20_wrongWith_52 : decode cX20_wrongWith 52 = .ok (.if_icmp .ge 6, 3) := dk_162 0 6 (dk_at dksX20_wrongWith_2 5 rfl rfl)
theorem dX20_wrongWith_55 : decode cX20_wrongWith 55 = .ok (.bipush 19, 2) := dk_16 19 (dk_at dksX20_wrongWith_2 8 rfl rfl)
theorem dX20_wrongWith_57 : decode cX20_wrongWith 57 = .ok (.ireturn, 1) := dk_172 (dk_at dksX20_wrongWith_2 10 rfl rfl)
theorem dX20_wrongWith_58 : decode cX20_wrongWith 58 = .ok (.aload_n 1, 1) := dk_43 (dk_at dksX20_wrongWith_2 11 rfl rfl)
theorem dX20_wrongWith_59 : decode cX20_wrongWith 59 = .ok (.bipush 56, 2) := dk_16 56 (dk_at dksX20_wrongWith_2 12 rfl rfl)
theorem dX20_wrongWith_61 : decode cX20_wrongWith 61 = .ok (.aload_n 1, 1) := dk_43 (dk_at dksX20_wrongWith_2 14 rfl rfl)
theorem dX20_wrongWith_62 : decode cX20_wrongWith 62 = .ok (.bipush 15, 2) := dk_16 15 (dk_at dksX20_wrongWith_2 15 rfl rfl)
theorem dX20_wrongWith_64 : decode cX20_wrongWith 64 = .ok (.iaload, 1) := dk_46 (dk_at dksX20_wrongWith_2 17 rfl rfl)
theorem dX20_wrongWith_65 : decode cX20_wrongWith 65 = .ok (.iadd, 1) := dk_96 (dk_at dksX20_wrongWith_2 18 rfl rfl)
theorem dX20_wrongWith_66 : decode cX20_wrongWith 66 = .ok (.iconst 2, 1) := dk_5 (dk_at dksX20_wrongWith_2 19 rfl rfl)
theorem dX20_wrongWith_67 : decode cX20_wrongWith 67 = .ok (.isub, 1) := dk_100 (dk_at dksX20_wrongWith_2 20 rfl rfl)
theorem dX20_wrongWith_68 : decode cX20_wrongWith 68 = .ok (.iaload, 1) := dk_46 (dk_at dksX20_wrongWith_2 21 rfl rfl)
theorem dX20_wrongWith_69 : decode cX20_wrongWith 69 = .ok (.iconst 0, 1) := dk_3 (dk_at dksX20_wrongWith_2 22 rfl rfl)
theorem dX20_wrongWith_70 : decode cX20_wrongWith 70 = .ok (.sipush 511, 3) := dk_17 1 255 (dk_at dksX20_wrongWith_3 0 rfl rfl)
theorem dX20_wrongWith_73 : decode cX20_wrongWith 73 = .ok (.invokestatic 195, 3) := dk_184 0 195 (dk_at dksX20_wrongWith_3 3 rfl rfl)
theorem dX20_wrongWith_76 : decode cX20_wrongWith 76 = .ok (.ifCond .eq 7, 3) := dk_153 0 7 (dk_at dksX20_wrongWith_3 6 rfl rfl)
theorem dX20_wrongWith_79 : decode cX20_wrongWith 79 = .ok (.iconst (-1), 1) := dk_2 (dk_at dksX20_wrongWith_3 9 rfl rfl)
theorem dX20_wrongWith_80 : decode cX20_wrongWith 80 = .ok (.goto 5, 3) := dk_167 0 5 (dk_at dksX20_wrongWith_3 10 rfl rfl)
theorem dX20_wrongWith_83 : decode cX20_wrongWith 83 = .ok (.bipush 18, 2) := dk_16 18 (dk_at dksX20_wrongWith_3 13 rfl rfl)
theorem dX20_wrongWith_85 : decode cX20_wrongWith 85 = .ok (.ireturn, 1) := dk_172 (dk_at dksX20_wrongWith_3 15 rfl rfl)
abbrev cX20_returns : ByteArray := prog_52_method_37_code
def yX20_returns : MethodName := ⟨RX20, "returns", "([I)V"⟩
def dkwX20_returns_9 : List UInt8 := [96, 4, 100, 46, 43, 16, 15, 46, 182, 0, 147, 177]
abbrev dktX20_returns_9 : List UInt8 := dkwX20_returns_9 ++ []
def dkwX20_returns_8 : List UInt8 := [182, 0, 173, 42, 8, 43, 16, 30, 46, 154, 0, 7, 2, 167, 0, 15, 43, 17, 0, 152, 43, 16, 30, 46]
abbrev dktX20_returns_8 : List UInt8 := dkwX20_returns_8 ++ dktX20_returns_9
def dkwX20_returns_7 : List UInt8 := [79, 43, 16, 15, 92, 46, 29, 6, 164, 0, 8, 16, 10, 167, 0, 5, 16, 6, 100, 79, 42, 43, 3, 3]
abbrev dktX20_returns_7 : List UInt8 := dkwX20_returns_7 ++ dktX20_returns_8
def dkwX20_returns_6 : List UInt8 := [43, 16, 12, 43, 28, 5, 100, 46, 79, 43, 16, 13, 29, 4, 126, 79, 43, 16, 14, 29, 4, 122, 4, 126]
abbrev dktX20_returns_6 : List UInt8 := dkwX20_returns_6 ++ dktX20_returns_7
def dkwX20_returns_5 : List UInt8 := [162, 0, 24, 43, 3, 21, 4, 96, 43, 28, 16, 6, 100, 21, 4, 96, 46, 79, 132, 4, 1, 167, 255, 232]
abbrev dktX20_returns_5 : List UInt8 := dkwX20_returns_5 ++ dktX20_returns_6
def dkwX20_returns_4 : List UInt8 := [182, 0, 131, 43, 16, 18, 29, 6, 164, 0, 7, 4, 167, 0, 4, 3, 79, 3, 54, 4, 21, 4, 7]
abbrev dktX20_returns_4 : List UInt8 := dkwX20_returns_4 ++ dktX20_returns_5
def dkwX20_returns_3 : List UInt8 := [132, 4, 1, 167, 255, 212, 167, 0, 19, 29, 6, 164, 0, 14, 43, 16, 19, 2, 79, 42, 16, 6]
abbrev dktX20_returns_3 : List UInt8 := dkwX20_returns_3 ++ dktX20_returns_4
def dkwX20_returns_2 : List UInt8 := [21, 4, 96, 46, 184, 0, 205, 153, 0, 15, 43, 28, 16, 10, 100, 21, 4, 96, 46, 167, 0, 4, 3, 79]
abbrev dktX20_returns_2 : List UInt8 := dkwX20_returns_2 ++ dktX20_returns_3
def dkwX20_returns_1 : List UInt8 := [160, 0, 56, 3, 54, 4, 21, 4, 7, 162, 0, 44, 43, 16, 8, 21, 4, 96, 43, 28, 16, 10, 100]
abbrev dktX20_returns_1 : List UInt8 := dkwX20_returns_1 ++ dktX20_returns_2
def dkwX20_returns_0 : List UInt8 := [16, 56, 43, 16, 15, 46, 96, 61, 43, 28, 4, 100, 46, 17, 90, 0, 100, 62, 43, 16, 32, 46, 16, 10]
abbrev dktX20_returns_0 : List UInt8 := dkwX20_returns_0 ++ dktX20_returns_1
theorem dksX20_returns_0 : cX20_returns.data.toList.drop 0 = dktX20_returns_0 := by decide +kernel
theorem dksX20_returns_1 : cX20_returns.data.toList.drop 24 = dktX20_returns_1 := dk_seg dksX20_returns_0 24 rfl rfl
theorem dksX20_returns_2 : cX20_returns.data.toList.drop 47 = dktX20_returns_2 := dk_seg dksX20_returns_1 23 rfl rfl
theorem dksX20_returns_3 : cX20_returns.data.toList.drop 71 = dktX20_returns_3 := dk_seg dksX20_returns_2 24 rfl rfl
theorem dksX20_returns_4 : cX20_returns.data.toList.drop 93 = dktX20_returns_4 := dk_seg dksX20_returns_3 22 rfl rfl
theorem dksX20_returns_5 : cX20_returns.data.toList.drop 116 = dktX20_returns_5 := dk_seg dksX20_returns_4 23 rfl rfl
theorem dksX20_returns_6 : cX20_returns.data.toList.drop 140 = dktX20_returns_6 := dk_seg dksX20_returns_5 24 rfl rfl
theorem dksX20_returns_7 : cX20_returns.data.toList.drop 164 = dktX20_returns_7 := dk_seg dksX20_returns_6 24 rfl rfl
theorem dksX20_returns_8 : cX20_returns.data.toList.drop 188 = dktX20_returns_8 := dk_seg dksX20_returns_7 24 rfl rfl
theorem dksX20_returns_9 : cX20_returns.data.toList.drop 212 = dktX20_returns_9 := dk_seg dksX20_returns_8 24 rfl rfl
theorem dX20_returns_0 : decode cX20_returns 0 = .ok (.bipush 56, 2) := dk_16 56 (dk_at dksX20_returns_0 0 rfl rfl)
theorem dX20_returns_2 : decode cX20_returns 2 = .ok (.aload_n 1, 1) := dk_43 (dk_at dksX20_returns_0 2 rfl rfl)
theorem dX20_returns_3 : decode cX20_returns 3 = .ok (.bipush 15, 2) := dk_16 15 (dk_at dksX20_returns_0 3 rfl rfl)
theorem dX20_returns_5 : decode cX20_returns 5 = .ok (.iaload, 1) := dk_46 (dk_at dksX20_returns_0 5 rfl rfl)
theorem dX20_returns_6 : decode cX20_returns 6 = .ok (.iadd, 1) := dk_96 (dk_at dksX20_returns_0 6 rfl rfl)
theorem dX20_returns_7 : decode cX20_returns 7 = .ok (.istore_n 2, 1) := dk_61 (dk_at dksX20_returns_0 7 rfl rfl)
theorem dX20_returns_8 : decode cX20_returns 8 = .ok (.aload_n 1, 1) := dk_43 (dk_at dksX20_returns_0 8 rfl rfl)
theorem dX20_returns_9 : decode cX20_returns 9 = .ok (.iload_n 2, 1) := dk_28 (dk_at dksX20_returns_0 9 rfl rfl)
theorem dX20_returns_10 : decode cX20_returns 10 = .ok (.iconst 1, 1) := dk_4 (dk_at dksX20_returns_0 10 rfl rfl)
theorem dX20_returns_11 : decode cX20_returns 11 = .ok (.isub, 1) := dk_100 (dk_at dksX20_returns_0 11 rfl rfl)
theorem dX20_returns_12 : decode cX20_returns 12 = .ok (.iaload, 1) := dk_46 (dk_at dksX20_returns_0 12 rfl rfl)
theorem dX20_returns_13 : decode cX20_returns 13 = .ok (.sipush 23040, 3) := dk_17 90 0 (dk_at dksX20_returns_0 13 rfl rfl)
theorem dX20_returns_16 : decode cX20_returns 16 = .ok (.isub, 1) := dk_100 (dk_at dksX20_returns_0 16 rfl rfl)
theorem dX20_returns_17 : decode cX20_returns 17 = .ok (.istore_n 3, 1) := dk_62 (dk_at dksX20_returns_0 17 rfl rfl)
theorem dX20_returns_18 : decode cX20_returns 18 = .ok (.aload_n 1, 1) := dk_43 (dk_at dksX20_returns_0 18 rfl rfl)
theorem dX20_returns_19 : decode cX20_returns 19 = .ok (.bipush 32, 2) := dk_16 32 (dk_at dksX20_returns_0 19 rfl rfl)
theorem dX20_returns_21 : decode cX20_returns 21 = .ok (.iaload, 1) := dk_46 (dk_at dksX20_returns_0 21 rfl rfl)
theorem dX20_returns_22 : decode cX20_returns 22 = .ok (.bipush 10, 2) := dk_16 10 (dk_at dksX20_returns_0 22 rfl rfl)
theorem dX20_returns_24 : decode cX20_returns 24 = .ok (.if_icmp .ne 56, 3) := dk_160 0 56 (dk_at dksX20_returns_1 0 rfl rfl)
theorem dX20_returns_27 : decode cX20_returns 27 = .ok (.iconst 0, 1) := dk_3 (dk_at dksX20_returns_1 3 rfl rfl)
theorem dX20_returns_28 : decode cX20_returns 28 = .ok (.istore 4, 2) := dk_54 4 (dk_at dksX20_returns_1 4 rfl rfl)
theorem dX20_returns_30 : decode cX20_returns 30 = .ok (.iload 4, 2) := dk_21 4 (dk_at dksX20_returns_1 6 rfl rfl)
theorem dX20_returns_32 : decode cX20_returns 32 = .ok (.iconst 4, 1) := dk_7 (dk_at dksX20_returns_1 8 rfl rfl)
theorem dX20_returns_33 : decode cX20_returns 33 = .ok (.if_icmp .ge 44, 3) := dk_162 0 44 (dk_at dksX20_returns_1 9 rfl rfl)
theorem dX20_returns_36 : decode cX20_returns 36 = .ok (.aload_n 1, 1) := dk_43 (dk_at dksX20_returns_1 12 rfl rfl)
theorem dX20_returns_37 : decode cX20_returns 37 = .ok (.bipush 8, 2) := dk_16 8 (dk_at dksX20_returns_1 13 rfl rfl)
theorem dX20_returns_39 : decode cX20_returns 39 = .ok (.iload 4, 2) := dk_21 4 (dk_at dksX20_returns_1 15 rfl rfl)
theorem dX20_returns_41 : decode cX20_returns 41 = .ok (.iadd, 1) := dk_96 (dk_at dksX20_returns_1 17 rfl rfl)
theorem dX20_returns_42 : decode cX20_returns 42 = .ok (.aload_n 1, 1) := dk_43 (dk_at dksX20_returns_1 18 rfl rfl)
theorem dX20_returns_43 : decode cX20_returns 43 = .ok (.iload_n 2, 1) := dk_28 (dk_at dksX20_returns_1 19 rfl rfl)
theorem dX20_returns_44 : decode cX20_returns 44 = .ok (.bipush 10, 2) := dk_16 10 (dk_at dksX20_returns_1 20 rfl rfl)
theorem dX20_returns_46 : decode cX20_returns 46 = .ok (.isub, 1) := dk_100 (dk_at dksX20_returns_1 22 rfl rfl)
theorem dX20_returns_47 : decode cX20_returns 47 = .ok (.iload 4, 2) := dk_21 4 (dk_at dksX20_returns_2 0 rfl rfl)
theorem dX20_returns_49 : decode cX20_returns 49 = .ok (.iadd, 1) := dk_96 (dk_at dksX20_returns_2 2 rfl rfl)
theorem dX20_returns_50 : decode cX20_returns 50 = .ok (.iaload, 1) := dk_46 (dk_at dksX20_returns_2 3 rfl rfl)
theorem dX20_returns_51 : decode cX20_returns 51 = .ok (.invokestatic 205, 3) := dk_184 0 205 (dk_at dksX20_returns_2 4 rfl rfl)
theorem dX20_returns_54 : decode cX20_returns 54 = .ok (.ifCond .eq 15, 3) := dk_153 0 15 (dk_at dksX20_returns_2 7 rfl rfl)
theorem dX20_returns_57 : decode cX20_returns 57 = .ok (.aload_n 1, 1) := dk_43 (dk_at dksX20_returns_2 10 rfl rfl)
theorem dX20_returns_58 : decode cX20_returns 58 = .ok (.iload_n 2, 1) := dk_28 (dk_at dksX20_returns_2 11 rfl rfl)
theorem dX20_returns_59 : decode cX20_returns 59 = .ok (.bipush 10, 2) := dk_16 10 (dk_at dksX20_returns_2 12 rfl rfl)
theorem dX20_returns_61 : decode cX20_returns 61 = .ok (.isub, 1) := dk_100 (dk_at dksX20_returns_2 14 rfl rfl)
theorem dX20_returns_62 : decode cX20_returns 62 = .ok (.iload 4, 2) := dk_21 4 (dk_at dksX20_returns_2 15 rfl rfl)
theorem dX20_returns_64 : decode cX20_returns 64 = .ok (.iadd, 1) := dk_96 (dk_at dksX20_returns_2 17 rfl rfl)
theorem dX20_returns_65 : decode cX20_returns 65 = .ok (.iaload, 1) := dk_46 (dk_at dksX20_returns_2 18 rfl rfl)
theorem dX20_returns_66 : decode cX20_returns 66 = .ok (.goto 4, 3) := dk_167 0 4 (dk_at dksX20_returns_2 19 rfl rfl)
theorem dX20_returns_69 : decode cX20_returns 69 = .ok (.iconst 0, 1) := dk_3 (dk_at dksX20_returns_2 22 rfl rfl)
theorem dX20_returns_70 : decode cX20_returns 70 = .ok (.iastore, 1) := dk_79 (dk_at dksX20_returns_2 23 rfl rfl)
theorem dX20_returns_71 : decode cX20_returns 71 = .ok (.iinc 4 1, 3) := dk_132 4 1 (dk_at dksX20_returns_3 0 rfl rfl)
theorem dX20_returns_74 : decode cX20_returns 74 = .ok (.goto (-44), 3) := dk_167 255 212 (dk_at dksX20_returns_3 3 rfl rfl)
theorem dX20_returns_77 : decode cX20_returns 77 = .ok (.goto 19, 3) := dk_167 0 19 (dk_at dksX20_returns_3 6 rfl rfl)
theorem dX20_returns_80 : decode cX20_returns 80 = .ok (.iload_n 3, 1) := dk_29 (dk_at dksX20_returns_3 9 rfl rfl)
theorem dX20_returns_81 : decode cX20_returns 81 = .ok (.iconst 3, 1) := dk_6 (dk_at dksX20_returns_3 10 rfl rfl)
theorem dX20_returns_82 : decode cX20_returns 82 = .ok (.if_icmp .le 14, 3) := dk_164 0 14 (dk_at dksX20_returns_3 11 rfl rfl)
theorem dX20_returns_85 : decode cX20_returns 85 = .ok (.aload_n 1, 1) := dk_43 (dk_at dksX20_returns_3 14 rfl rfl)
theorem dX20_returns_86 : decode cX20_returns 86 = .ok (.bipush 19, 2) := dk_16 19 (dk_at dksX20_returns_3 15 rfl rfl)
theorem dX20_returns_88 : decode cX20_returns 88 = .ok (.iconst (-1), 1) := dk_2 (dk_at dksX20_returns_3 17 rfl rfl)
theorem dX20_returns_89 : decode cX20_returns 89 = .ok (.iastore, 1) := dk_79 (dk_at dksX20_returns_3 18 rfl rfl)
theorem dX20_returns_90 : decode cX20_returns 90 = .ok (.aload_n 0, 1) := dk_42 (dk_at dksX20_returns_3 19 rfl rfl)
theorem dX20_returns_91 : decode cX20_returns 91 = .ok (.bipush 6, 2) := dk_16 6 (dk_at dksX20_returns_3 20 rfl rfl)
theorem dX20_returns_93 : decode cX20_returns 93 = .ok (.invokevirtual 131, 3) := dk_182 0 131 (dk_at dksX20_returns_4 0 rfl rfl)
theorem dX20_returns_96 : decode cX20_returns 96 = .ok (.aload_n 1, 1) := dk_43 (dk_at dksX20_returns_4 3 rfl rfl)
theorem dX20_returns_97 : decode cX20_returns 97 = .ok (.bipush 18, 2) := dk_16 18 (dk_at dksX20_returns_4 4 rfl rfl)
theorem dX20_returns_99 : decode cX20_returns 99 = .ok (.iload_n 3, 1) := dk_29 (dk_at dksX20_returns_4 6 rfl rfl)
theorem dX20_returns_100 : decode cX20_returns 100 = .ok (.iconst 3, 1) := dk_6 (dk_at dksX20_returns_4 7 rfl rfl)
theorem dX20_returns_101 : decode cX20_returns 101 = .ok (.if_icmp .le 7, 3) := dk_164 0 7 (dk_at dksX20_returns_4 8 rfl rfl)
theorem dX20_returns_104 : decode cX20_returns 104 = .ok (.iconst 1, 1) := dk_4 (dk_at dksX20_returns_4 11 rfl rfl)
theorem dX20_returns_105 : decode cX20_returns 105 = .ok (.goto 4, 3) := dk_167 0 4 (dk_at dksX20_returns_4 12 rfl rfl)
theorem dX20_returns_108 : decode cX20_returns 108 = .ok (.iconst 0, 1) := dk_3 (dk_at dksX20_returns_4 15 rfl rfl)
theorem dX20_returns_109 : decode cX20_returns 109 = .ok (.iastore, 1) := dk_79 (dk_at dksX20_returns_4 16 rfl rfl)
theorem dX20_returns_110 : decode cX20_returns 110 = .ok (.iconst 0, 1) := dk_3 (dk_at dksX20_returns_4 17 rfl rfl)
theorem dX20_returns_111 : decode cX20_returns 111 = .ok (.istore 4, 2) := dk_54 4 (dk_at dksX20_returns_4 18 rfl rfl)
theorem dX20_returns_113 : decode cX20_returns 113 = .ok (.iload 4, 2) := dk_21 4 (dk_at dksX20_returns_4 20 rfl rfl)
theorem dX20_returns_115 : decode cX20_returns 115 = .ok (.iconst 4, 1) := dk_7 (dk_at dksX20_returns_4 22 rfl rfl)
theorem dX20_returns_116 : decode cX20_returns 116 = .ok (.if_icmp .ge 24, 3) := dk_162 0 24 (dk_at dksX20_returns_5 0 rfl rfl)
theorem dX20_returns_119 : decode cX20_returns 119 = .ok (.aload_n 1, 1) := dk_43 (dk_at dksX20_returns_5 3 rfl rfl)
theorem dX20_returns_120 : decode cX20_returns 120 = .ok (.iconst 0, 1) := dk_3 (dk_at dksX20_returns_5 4 rfl rfl)
theorem dX20_returns_121 : decode cX20_returns 121 = .ok (.iload 4, 2) := dk_21 4 (dk_at dksX20_returns_5 5 rfl rfl)
theorem dX20_returns_123 : decode cX20_returns 123 = .ok (.iadd, 1) := dk_96 (dk_at dksX20_returns_5 7 rfl rfl)
theorem dX20_returns_124 : decode cX20_returns 124 = .ok (.aload_n 1, 1) := dk_43 (dk_at dksX20_returns_5 8 rfl rfl)
theorem dX20_returns_125 : decode cX20_returns 125 = .ok (.iload_n 2, 1) := dk_28 (dk_at dksX20_returns_5 9 rfl rfl)
theorem dX20_returns_126 : decode cX20_returns 126 = .ok (.bipush 6, 2) := dk_16 6 (dk_at dksX20_returns_5 10 rfl rfl)
theorem dX20_returns_128 : decode cX20_returns 128 = .ok (.isub, 1) := dk_100 (dk_at dksX20_returns_5 12 rfl rfl)
theorem dX20_returns_129 : decode cX20_returns 129 = .ok (.iload 4, 2) := dk_21 4 (dk_at dksX20_returns_5 13 rfl rfl)
theorem dX20_returns_131 : decode cX20_returns 131 = .ok (.iadd, 1) := dk_96 (dk_at dksX20_returns_5 15 rfl rfl)
theorem dX20_returns_132 : decode cX20_returns 132 = .ok (.iaload, 1) := dk_46 (dk_at dksX20_returns_5 16 rfl rfl)
theorem dX20_returns_133 : decode cX20_returns 133 = .ok (.iastore, 1) := dk_79 (dk_at dksX20_returns_5 17 rfl rfl)
theorem dX20_returns_134 : decode cX20_returns 134 = .ok (.iinc 4 1, 3) := dk_132 4 1 (dk_at dksX20_returns_5 18 rfl rfl)
theorem dX20_returns_137 : decode cX20_returns 137 = .ok (.goto (-24), 3) := dk_167 255 232 (dk_at dksX20_returns_5 21 rfl rfl)
theorem dX20_returns_140 : decode cX20_returns 140 = .ok (.aload_n 1, 1) := dk_43 (dk_at dksX20_returns_6 0 rfl rfl)
theorem dX20_returns_141 : decode cX20_returns 141 = .ok (.bipush 12, 2) := dk_16 12 (dk_at dksX20_returns_6 1 rfl rfl)
theorem dX20_returns_143 : decode cX20_returns 143 = .ok (.aload_n 1, 1) := dk_43 (dk_at dksX20_returns_6 3 rfl rfl)
theorem dX20_returns_144 : decode cX20_returns 144 = .ok (.iload_n 2, 1) := dk_28 (dk_at dksX20_returns_6 4 rfl rfl)
theorem dX20_returns_145 : decode cX20_returns 145 = .ok (.iconst 2, 1) := dk_5 (dk_at dksX20_returns_6 5 rfl rfl)
theorem dX20_returns_146 : decode cX20_returns 146 = .ok (.isub, 1) := dk_100 (dk_at dksX20_returns_6 6 rfl rfl)
theorem dX20_returns_147 : decode cX20_returns 147 = .ok (.iaload, 1) := dk_46 (dk_at dksX20_returns_6 7 rfl rfl)
theorem dX20_returns_148 : decode cX20_returns 148 = .ok (.iastore, 1) := dk_79 (dk_at dksX20_returns_6 8 rfl rfl)
theorem dX20_returns_149 : decode cX20_returns 149 = .ok (.aload_n 1, 1) := dk_43 (dk_at dksX20_returns_6 9 rfl rfl)
theorem dX20_returns_150 : decode cX20_returns 150 = .ok (.bipush 13, 2) := dk_16 13 (dk_at dksX20_returns_6 10 rfl rfl)
theorem dX20_returns_152 : decode cX20_returns 152 = .ok (.iload_n 3, 1) := dk_29 (dk_at dksX20_returns_6 12 rfl rfl)
theorem dX20_returns_153 : decode cX20_returns 153 = .ok (.iconst 1, 1) := dk_4 (dk_at dksX20_returns_6 13 rfl rfl)
theorem dX20_returns_154 : decode cX20_returns 154 = .ok (.iand, 1) := dk_126 (dk_at dksX20_returns_6 14 rfl rfl)
theorem dX20_returns_155 : decode cX20_returns 155 = .ok (.iastore, 1) := dk_79 (dk_at dksX20_returns_6 15 rfl rfl)
theorem dX20_returns_156 : decode cX20_returns 156 = .ok (.aload_n 1, 1) := dk_43 (dk_at dksX20_returns_6 16 rfl rfl)
theorem dX20_returns_157 : decode cX20_returns 157 = .ok (.bipush 14, 2) := dk_16 14 (dk_at dksX20_returns_6 17 rfl rfl)
theorem dX20_returns_159 : decode cX20_returns 159 = .ok (.iload_n 3, 1) := dk_29 (dk_at dksX20_returns_6 19 rfl rfl)
theorem dX20_returns_160 : decode cX20_returns 160 = .ok (.iconst 1, 1) := dk_4 (dk_at dksX20_returns_6 20 rfl rfl)
theorem dX20_returns_161 : decode cX20_returns 161 = .ok (.ishr, 1) := dk_122 (dk_at dksX20_returns_6 21 rfl rfl)
theorem dX20_returns_162 : decode cX20_returns 162 = .ok (.iconst 1, 1) := dk_4 (dk_at dksX20_returns_6 22 rfl rfl)
theorem dX20_returns_163 : decode cX20_returns 163 = .ok (.iand, 1) := dk_126 (dk_at dksX20_returns_6 23 rfl rfl)
theorem dX20_returns_164 : decode cX20_returns 164 = .ok (.iastore, 1) := dk_79 (dk_at dksX20_returns_7 0 rfl rfl)
theorem dX20_returns_165 : decode cX20_returns 165 = .ok (.aload_n 1, 1) := dk_43 (dk_at dksX20_returns_7 1 rfl rfl)
theorem dX20_returns_166 : decode cX20_returns 166 = .ok (.bipush 15, 2) := dk_16 15 (dk_at dksX20_returns_7 2 rfl rfl)
theorem dX20_returns_168 : decode cX20_returns 168 = .ok (.dup2, 1) := dk_92 (dk_at dksX20_returns_7 4 rfl rfl)
theorem dX20_returns_169 : decode cX20_returns 169 = .ok (.iaload, 1) := dk_46 (dk_at dksX20_returns_7 5 rfl rfl)
theorem dX20_returns_170 : decode cX20_returns 170 = .ok (.iload_n 3, 1) := dk_29 (dk_at dksX20_returns_7 6 rfl rfl)
theorem dX20_returns_171 : decode cX20_returns 171 = .ok (.iconst 3, 1) := dk_6 (dk_at dksX20_returns_7 7 rfl rfl)
theorem dX20_returns_172 : decode cX20_returns 172 = .ok (.if_icmp .le 8, 3) := dk_164 0 8 (dk_at dksX20_returns_7 8 rfl rfl)
theorem dX20_returns_175 : decode cX20_returns 175 = .ok (.bipush 10, 2) := dk_16 10 (dk_at dksX20_returns_7 11 rfl rfl)
theorem dX20_returns_177 : decode cX20_returns 177 = .ok (.goto 5, 3) := dk_167 0 5 (dk_at dksX20_returns_7 13 rfl rfl)
theorem dX20_returns_180 : decode cX20_returns 180 = .ok (.bipush 6, 2) := dk_16 6 (dk_at dksX20_returns_7 16 rfl rfl)
theorem dX20_returns_182 : decode cX20_returns 182 = .ok (.isub, 1) := dk_100 (dk_at dksX20_returns_7 18 rfl rfl)
theorem dX20_returns_183 : decode cX20_returns 183 = .ok (.iastore, 1) := dk_79 (dk_at dksX20_returns_7 19 rfl rfl)
theorem dX20_returns_184 : decode cX20_returns 184 = .ok (.aload_n 0, 1) := dk_42 (dk_at dksX20_returns_7 20 rfl rfl)
theorem dX20_returns_185 : decode cX20_returns 185 = .ok (.aload_n 1, 1) := dk_43 (dk_at dksX20_returns_7 21 rfl rfl)
theorem dX20_returns_186 : decode cX20_returns 186 = .ok (.iconst 0, 1) := dk_3 (dk_at dksX20_returns_7 22 rfl rfl)
theorem dX20_returns_187 : decode cX20_returns 187 = .ok (.iconst 0, 1) := dk_3 (dk_at dksX20_returns_7 23 rfl rfl)
theorem dX20_returns_188 : decode cX20_returns 188 = .ok (.invokevirtual 173, 3) := dk_182 0 173 (dk_at dksX20_returns_8 0 rfl rfl)
theorem dX20_returns_191 : decode cX20_returns 191 = .ok (.aload_n 0, 1) := dk_42 (dk_at dksX20_returns_8 3 rfl rfl)
theorem dX20_returns_192 : decode cX20_returns 192 = .ok (.iconst 5, 1) := dk_8 (dk_at dksX20_returns_8 4 rfl rfl)
theorem dX20_returns_193 : decode cX20_returns 193 = .ok (.aload_n 1, 1) := dk_43 (dk_at dksX20_returns_8 5 rfl rfl)
theorem dX20_returns_194 : decode cX20_returns 194 = .ok (.bipush 30, 2) := dk_16 30 (dk_at dksX20_returns_8 6 rfl rfl)
theorem dX20_returns_196 : decode cX20_returns 196 = .ok (.iaload, 1) := dk_46 (dk_at dksX20_returns_8 8 rfl rfl)
theorem dX20_returns_197 : decode cX20_returns 197 = .ok (.ifCond .ne 7, 3) := dk_154 0 7 (dk_at dksX20_returns_8 9 rfl rfl)
theorem dX20_returns_200 : decode cX20_returns 200 = .ok (.iconst (-1), 1) := dk_2 (dk_at dksX20_returns_8 12 rfl rfl)
theorem dX20_returns_201 : decode cX20_returns 201 = .ok (.goto 15, 3) := dk_167 0 15 (dk_at dksX20_returns_8 13 rfl rfl)
theorem dX20_returns_204 : decode cX20_returns 204 = .ok (.aload_n 1, 1) := dk_43 (dk_at dksX20_returns_8 16 rfl rfl)
theorem dX20_returns_205 : decode cX20_returns 205 = .ok (.sipush 152, 3) := dk_17 0 152 (dk_at dksX20_returns_8 17 rfl rfl)
theorem dX20_returns_208 : decode cX20_returns 208 = .ok (.aload_n 1, 1) := dk_43 (dk_at dksX20_returns_8 20 rfl rfl)
theorem dX20_returns_209 : decode cX20_returns 209 = .ok (.bipush 30, 2) := dk_16 30 (dk_at dksX20_returns_8 21 rfl rfl)
theorem dX20_returns_211 : decode cX20_returns 211 = .ok (.iaload, 1) := dk_46 (dk_at dksX20_returns_8 23 rfl rfl)
theorem dX20_returns_212 : decode cX20_returns 212 = .ok (.iadd, 1) := dk_96 (dk_at dksX20_returns_9 0 rfl rfl)
theorem dX20_returns_213 : decode cX20_returns 213 = .ok (.iconst 1, 1) := dk_4 (dk_at dksX20_returns_9 1 rfl rfl)
theorem dX20_returns_214 : decode cX20_returns 214 = .ok (.isub, 1) := dk_100 (dk_at dksX20_returns_9 2 rfl rfl)
theorem dX20_returns_215 : decode cX20_returns 215 = .ok (.iaload, 1) := dk_46 (dk_at dksX20_returns_9 3 rfl rfl)
theorem dX20_returns_216 : decode cX20_returns 216 = .ok (.aload_n 1, 1) := dk_43 (dk_at dksX20_returns_9 4 rfl rfl)
theorem dX20_returns_217 : decode cX20_returns 217 = .ok (.bipush 15, 2) := dk_16 15 (dk_at dksX20_returns_9 5 rfl rfl)
theorem dX20_returns_219 : decode cX20_returns 219 = .ok (.iaload, 1) := dk_46 (dk_at dksX20_returns_9 7 rfl rfl)
theorem dX20_returns_220 : decode cX20_returns 220 = .ok (.invokevirtual 147, 3) := dk_182 0 147 (dk_at dksX20_returns_9 8 rfl rfl)
theorem dX20_returns_223 : decode cX20_returns 223 = .ok (.return_, 1) := dk_177 (dk_at dksX20_returns_9 11 rfl rfl)
abbrev cX20_till : ByteArray := prog_52_method_61_code
def yX20_till : MethodName := ⟨RX20, "till", "(I)I"⟩
def dkwX20_till_2 : List UInt8 := [160, 0, 5, 28, 172, 132, 2, 1, 167, 255, 221, 2, 172]
abbrev dktX20_till_2 : List UInt8 := dkwX20_till_2 ++ []
def dkwX20_till_1 : List UInt8 := [163, 0, 34, 42, 180, 0, 20, 16, 20, 46, 8, 159, 0, 23, 42, 182, 1, 8, 42, 180, 0, 151, 27]
abbrev dktX20_till_1 : List UInt8 := dkwX20_till_1 ++ dktX20_till_2
def dkwX20_till_0 : List UInt8 := [42, 3, 181, 0, 65, 27, 3, 16, 20, 184, 0, 195, 154, 0, 5, 2, 172, 4, 61, 28, 17, 1, 44]
abbrev dktX20_till_0 : List UInt8 := dkwX20_till_0 ++ dktX20_till_1
theorem dksX20_till_0 : cX20_till.data.toList.drop 0 = dktX20_till_0 := by decide +kernel
theorem dksX20_till_1 : cX20_till.data.toList.drop 23 = dktX20_till_1 := dk_seg dksX20_till_0 23 rfl rfl
theorem dksX20_till_2 : cX20_till.data.toList.drop 46 = dktX20_till_2 := dk_seg dksX20_till_1 23 rfl rfl
theorem dX20_till_0 : decode cX20_till 0 = .ok (.aload_n 0, 1) := dk_42 (dk_at dksX20_till_0 0 rfl rfl)
theorem dX20_till_1 : decode cX20_till 1 = .ok (.iconst 0, 1) := dk_3 (dk_at dksX20_till_0 1 rfl rfl)
theorem dX20_till_2 : decode cX20_till 2 = .ok (.putfield 65, 3) := dk_181 0 65 (dk_at dksX20_till_0 2 rfl rfl)
theorem dX20_till_5 : decode cX20_till 5 = .ok (.iload_n 1, 1) := dk_27 (dk_at dksX20_till_0 5 rfl rfl)
theorem dX20_till_6 : decode cX20_till 6 = .ok (.iconst 0, 1) := dk_3 (dk_at dksX20_till_0 6 rfl rfl)
theorem dX20_till_7 : decode cX20_till 7 = .ok (.bipush 20, 2) := dk_16 20 (dk_at dksX20_till_0 7 rfl rfl)
theorem dX20_till_9 : decode cX20_till 9 = .ok (.invokestatic 195, 3) := dk_184 0 195 (dk_at dksX20_till_0 9 rfl rfl)
theorem dX20_till_12 : decode cX20_till 12 = .ok (.ifCond .ne 5, 3) := dk_154 0 5 (dk_at dksX20_till_0 12 rfl rfl)
theorem dX20_till_15 : decode cX20_till 15 = .ok (.iconst (-1), 1) := dk_2 (dk_at dksX20_till_0 15 rfl rfl)
theorem dX20_till_16 : decode cX20_till 16 = .ok (.ireturn, 1) := dk_172 (dk_at dksX20_till_0 16 rfl rfl)
theorem dX20_till_17 : decode cX20_till 17 = .ok (.iconst 1, 1) := dk_4 (dk_at dksX20_till_0 17 rfl rfl)
theorem dX20_till_18 : decode cX20_till 18 = .ok (.istore_n 2, 1) := dk_61 (dk_at dksX20_till_0 18 rfl rfl)
theorem dX20_till_19 : decode cX20_till 19 = .ok (.iload_n 2, 1) := dk_28 (dk_at dksX20_till_0 19 rfl rfl)
theorem dX20_till_20 : decode cX20_till 20 = .ok (.sipush 300, 3) := dk_17 1 44 (dk_at dksX20_till_0 20 rfl rfl)
theorem dX20_till_23 : decode cX20_till 23 = .ok (.if_icmp .gt 34, 3) := dk_163 0 34 (dk_at dksX20_till_1 0 rfl rfl)
theorem dX20_till_26 : decode cX20_till 26 = .ok (.aload_n 0, 1) := dk_42 (dk_at dksX20_till_1 3 rfl rfl)
theorem dX20_till_27 : decode cX20_till 27 = .ok (.getfield 20, 3) := dk_180 0 20 (dk_at dksX20_till_1 4 rfl rfl)
theorem dX20_till_30 : decode cX20_till 30 = .ok (.bipush 20, 2) := dk_16 20 (dk_at dksX20_till_1 7 rfl rfl)
theorem dX20_till_32 : decode cX20_till 32 = .ok (.iaload, 1) := dk_46 (dk_at dksX20_till_1 9 rfl rfl)
theorem dX20_till_33 : decode cX20_till 33 = .ok (.iconst 5, 1) := dk_8 (dk_at dksX20_till_1 10 rfl rfl)
theorem dX20_till_34 : decode cX20_till 34 = .ok (.if_icmp .eq 23, 3) := dk_159 0 23 (dk_at dksX20_till_1 11 rfl rfl)
theorem dX20_till_37 : decode cX20_till 37 = .ok (.aload_n 0, 1) := dk_42 (dk_at dksX20_till_1 14 rfl rfl)
theorem dX20_till_38 : decode cX20_till 38 = .ok (.invokevirtual 264, 3) := dk_182 1 8 (dk_at dksX20_till_1 15 rfl rfl)
theorem dX20_till_41 : decode cX20_till 41 = .ok (.aload_n 0, 1) := dk_42 (dk_at dksX20_till_1 18 rfl rfl)
theorem dX20_till_42 : decode cX20_till 42 = .ok (.getfield 151, 3) := dk_180 0 151 (dk_at dksX20_till_1 19 rfl rfl)
theorem dX20_till_45 : decode cX20_till 45 = .ok (.iload_n 1, 1) := dk_27 (dk_at dksX20_till_1 22 rfl rfl)
theorem dX20_till_46 : decode cX20_till 46 = .ok (.if_icmp .ne 5, 3) := dk_160 0 5 (dk_at dksX20_till_2 0 rfl rfl)
theorem dX20_till_49 : decode cX20_till 49 = .ok (.iload_n 2, 1) := dk_28 (dk_at dksX20_till_2 3 rfl rfl)
theorem dX20_till_50 : decode cX20_till 50 = .ok (.ireturn, 1) := dk_172 (dk_at dksX20_till_2 4 rfl rfl)
theorem dX20_till_51 : decode cX20_till 51 = .ok (.iinc 2 1, 3) := dk_132 2 1 (dk_at dksX20_till_2 5 rfl rfl)
theorem dX20_till_54 : decode cX20_till 54 = .ok (.goto (-35), 3) := dk_167 255 221 (dk_at dksX20_till_2 8 rfl rfl)
theorem dX20_till_57 : decode cX20_till 57 = .ok (.iconst (-1), 1) := dk_2 (dk_at dksX20_till_2 11 rfl rfl)
theorem dX20_till_58 : decode cX20_till 58 = .ok (.ireturn, 1) := dk_172 (dk_at dksX20_till_2 12 rfl rfl)
abbrev cX20_reset : ByteArray := prog_52_method_62_code
def yX20_reset : MethodName := ⟨RX20, "reset", "()I"⟩
def dkwX20_reset_0 : List UInt8 := [42, 3, 181, 0, 65, 42, 180, 0, 20, 16, 30, 46, 60, 42, 182, 0, 62, 27, 172]
abbrev dktX20_reset_0 : List UInt8 := dkwX20_reset_0 ++ []
theorem dksX20_reset_0 : cX20_reset.data.toList.drop 0 = dktX20_reset_0 := by decide +kernel
theorem dX20_reset_0 : decode cX20_reset 0 = .ok (.aload_n 0, 1) := dk_42 (dk_at dksX20_reset_0 0 rfl rfl)
theorem dX20_reset_1 : decode cX20_reset 1 = .ok (.iconst 0, 1) := dk_3 (dk_at dksX20_reset_0 1 rfl rfl)
theorem dX20_reset_2 : decode cX20_reset 2 = .ok (.putfield 65, 3) := dk_181 0 65 (dk_at dksX20_reset_0 2 rfl rfl)
theorem dX20_reset_5 : decode cX20_reset 5 = .ok (.aload_n 0, 1) := dk_42 (dk_at dksX20_reset_0 5 rfl rfl)
theorem dX20_reset_6 : decode cX20_reset 6 = .ok (.getfield 20, 3) := dk_180 0 20 (dk_at dksX20_reset_0 6 rfl rfl)
theorem dX20_reset_9 : decode cX20_reset 9 = .ok (.bipush 30, 2) := dk_16 30 (dk_at dksX20_reset_0 9 rfl rfl)
theorem dX20_reset_11 : decode cX20_reset 11 = .ok (.iaload, 1) := dk_46 (dk_at dksX20_reset_0 11 rfl rfl)
theorem dX20_reset_12 : decode cX20_reset 12 = .ok (.istore_n 1, 1) := dk_60 (dk_at dksX20_reset_0 12 rfl rfl)
theorem dX20_reset_13 : decode cX20_reset 13 = .ok (.aload_n 0, 1) := dk_42 (dk_at dksX20_reset_0 13 rfl rfl)
theorem dX20_reset_14 : decode cX20_reset 14 = .ok (.invokevirtual 62, 3) := dk_182 0 62 (dk_at dksX20_reset_0 14 rfl rfl)
theorem dX20_reset_17 : decode cX20_reset 17 = .ok (.iload_n 1, 1) := dk_27 (dk_at dksX20_reset_0 17 rfl rfl)
theorem dX20_reset_18 : decode cX20_reset 18 = .ok (.ireturn, 1) := dk_172 (dk_at dksX20_reset_0 18 rfl rfl)
abbrev cX20_reg : ByteArray := prog_52_method_63_code
def yX20_reg : MethodName := ⟨RX20, "reg", "(I)I"⟩
def dkwX20_reg_1 : List UInt8 := [160, 0, 7, 3, 167, 0, 11, 42, 180, 0, 20, 3, 27, 96, 46, 172]
abbrev dktX20_reg_1 : List UInt8 := dkwX20_reg_1 ++ []
def dkwX20_reg_0 : List UInt8 := [42, 27, 3, 16, 11, 184, 0, 195, 153, 0, 7, 3, 167, 0, 4, 4, 181, 0, 65, 42, 180, 0, 65, 4]
abbrev dktX20_reg_0 : List UInt8 := dkwX20_reg_0 ++ dktX20_reg_1
theorem dksX20_reg_0 : cX20_reg.data.toList.drop 0 = dktX20_reg_0 := by decide +kernel
theorem dksX20_reg_1 : cX20_reg.data.toList.drop 24 = dktX20_reg_1 := dk_seg dksX20_reg_0 24 rfl rfl
theorem dX20_reg_0 : decode cX20_reg 0 = .ok (.aload_n 0, 1) := dk_42 (dk_at dksX20_reg_0 0 rfl rfl)
theorem dX20_reg_1 : decode cX20_reg 1 = .ok (.iload_n 1, 1) := dk_27 (dk_at dksX20_reg_0 1 rfl rfl)
theorem dX20_reg_2 : decode cX20_reg 2 = .ok (.iconst 0, 1) := dk_3 (dk_at dksX20_reg_0 2 rfl rfl)
theorem dX20_reg_3 : decode cX20_reg 3 = .ok (.bipush 11, 2) := dk_16 11 (dk_at dksX20_reg_0 3 rfl rfl)
theorem dX20_reg_5 : decode cX20_reg 5 = .ok (.invokestatic 195, 3) := dk_184 0 195 (dk_at dksX20_reg_0 5 rfl rfl)
theorem dX20_reg_8 : decode cX20_reg 8 = .ok (.ifCond .eq 7, 3) := dk_153 0 7 (dk_at dksX20_reg_0 8 rfl rfl)
theorem dX20_reg_11 : decode cX20_reg 11 = .ok (.iconst 0, 1) := dk_3 (dk_at dksX20_reg_0 11 rfl rfl)
theorem dX20_reg_12 : decode cX20_reg 12 = .ok (.goto 4, 3) := dk_167 0 4 (dk_at dksX20_reg_0 12 rfl rfl)
theorem dX20_reg_15 : decode cX20_reg 15 = .ok (.iconst 1, 1) := dk_4 (dk_at dksX20_reg_0 15 rfl rfl)
theorem dX20_reg_16 : decode cX20_reg 16 = .ok (.putfield 65, 3) := dk_181 0 65 (dk_at dksX20_reg_0 16 rfl rfl)
theorem dX20_reg_19 : decode cX20_reg 19 = .ok (.aload_n 0, 1) := dk_42 (dk_at dksX20_reg_0 19 rfl rfl)
theorem dX20_reg_20 : decode cX20_reg 20 = .ok (.getfield 65, 3) := dk_180 0 65 (dk_at dksX20_reg_0 20 rfl rfl)
theorem dX20_reg_23 : decode cX20_reg 23 = .ok (.iconst 1, 1) := dk_4 (dk_at dksX20_reg_0 23 rfl rfl)
theorem dX20_reg_24 : decode cX20_reg 24 = .ok (.if_icmp .ne 7, 3) := dk_160 0 7 (dk_at dksX20_reg_1 0 rfl rfl)
theorem dX20_reg_27 : decode cX20_reg 27 = .ok (.iconst 0, 1) := dk_3 (dk_at dksX20_reg_1 3 rfl rfl)
theorem dX20_reg_28 : decode cX20_reg 28 = .ok (.goto 11, 3) := dk_167 0 11 (dk_at dksX20_reg_1 4 rfl rfl)
theorem dX20_reg_31 : decode cX20_reg 31 = .ok (.aload_n 0, 1) := dk_42 (dk_at dksX20_reg_1 7 rfl rfl)
theorem dX20_reg_32 : decode cX20_reg 32 = .ok (.getfield 20, 3) := dk_180 0 20 (dk_at dksX20_reg_1 8 rfl rfl)
theorem dX20_reg_35 : decode cX20_reg 35 = .ok (.iconst 0, 1) := dk_3 (dk_at dksX20_reg_1 11 rfl rfl)
theorem dX20_reg_36 : decode cX20_reg 36 = .ok (.iload_n 1, 1) := dk_27 (dk_at dksX20_reg_1 12 rfl rfl)
theorem dX20_reg_37 : decode cX20_reg 37 = .ok (.iadd, 1) := dk_96 (dk_at dksX20_reg_1 13 rfl rfl)
theorem dX20_reg_38 : decode cX20_reg 38 = .ok (.iaload, 1) := dk_46 (dk_at dksX20_reg_1 14 rfl rfl)
theorem dX20_reg_39 : decode cX20_reg 39 = .ok (.ireturn, 1) := dk_172 (dk_at dksX20_reg_1 15 rfl rfl)
abbrev cX20_word : ByteArray := prog_52_method_64_code
def yX20_word : MethodName := ⟨RX20, "word", "(I)I"⟩
def dkwX20_word_1 : List UInt8 := [160, 0, 7, 3, 167, 0, 12, 42, 180, 0, 20, 16, 56, 27, 96, 46, 172]
abbrev dktX20_word_1 : List UInt8 := dkwX20_word_1 ++ []
def dkwX20_word_0 : List UInt8 := [42, 27, 3, 16, 95, 184, 0, 195, 153, 0, 7, 3, 167, 0, 4, 4, 181, 0, 65, 42, 180, 0, 65, 4]
abbrev dktX20_word_0 : List UInt8 := dkwX20_word_0 ++ dktX20_word_1
theorem dksX20_word_0 : cX20_word.data.toList.drop 0 = dktX20_word_0 := by decide +kernel
theorem dksX20_word_1 : cX20_word.data.toList.drop 24 = dktX20_word_1 := dk_seg dksX20_word_0 24 rfl rfl
theorem dX20_word_0 : decode cX20_word 0 = .ok (.aload_n 0, 1) := dk_42 (dk_at dksX20_word_0 0 rfl rfl)
theorem dX20_word_1 : decode cX20_word 1 = .ok (.iload_n 1, 1) := dk_27 (dk_at dksX20_word_0 1 rfl rfl)
theorem dX20_word_2 : decode cX20_word 2 = .ok (.iconst 0, 1) := dk_3 (dk_at dksX20_word_0 2 rfl rfl)
theorem dX20_word_3 : decode cX20_word 3 = .ok (.bipush 95, 2) := dk_16 95 (dk_at dksX20_word_0 3 rfl rfl)
theorem dX20_word_5 : decode cX20_word 5 = .ok (.invokestatic 195, 3) := dk_184 0 195 (dk_at dksX20_word_0 5 rfl rfl)
theorem dX20_word_8 : decode cX20_word 8 = .ok (.ifCond .eq 7, 3) := dk_153 0 7 (dk_at dksX20_word_0 8 rfl rfl)
theorem dX20_word_11 : decode cX20_word 11 = .ok (.iconst 0, 1) := dk_3 (dk_at dksX20_word_0 11 rfl rfl)
theorem dX20_word_12 : decode cX20_word 12 = .ok (.goto 4, 3) := dk_167 0 4 (dk_at dksX20_word_0 12 rfl rfl)
theorem dX20_word_15 : decode cX20_word 15 = .ok (.iconst 1, 1) := dk_4 (dk_at dksX20_word_0 15 rfl rfl)
theorem dX20_word_16 : decode cX20_word 16 = .ok (.putfield 65, 3) := dk_181 0 65 (dk_at dksX20_word_0 16 rfl rfl)
theorem dX20_word_19 : decode cX20_word 19 = .ok (.aload_n 0, 1) := dk_42 (dk_at dksX20_word_0 19 rfl rfl)
theorem dX20_word_20 : decode cX20_word 20 = .ok (.getfield 65, 3) := dk_180 0 65 (dk_at dksX20_word_0 20 rfl rfl)
theorem dX20_word_23 : decode cX20_word 23 = .ok (.iconst 1, 1) := dk_4 (dk_at dksX20_word_0 23 rfl rfl)
theorem dX20_word_24 : decode cX20_word 24 = .ok (.if_icmp .ne 7, 3) := dk_160 0 7 (dk_at dksX20_word_1 0 rfl rfl)
theorem dX20_word_27 : decode cX20_word 27 = .ok (.iconst 0, 1) := dk_3 (dk_at dksX20_word_1 3 rfl rfl)
theorem dX20_word_28 : decode cX20_word 28 = .ok (.goto 12, 3) := dk_167 0 12 (dk_at dksX20_word_1 4 rfl rfl)
theorem dX20_word_31 : decode cX20_word 31 = .ok (.aload_n 0, 1) := dk_42 (dk_at dksX20_word_1 7 rfl rfl)
theorem dX20_word_32 : decode cX20_word 32 = .ok (.getfield 20, 3) := dk_180 0 20 (dk_at dksX20_word_1 8 rfl rfl)
theorem dX20_word_35 : decode cX20_word 35 = .ok (.bipush 56, 2) := dk_16 56 (dk_at dksX20_word_1 11 rfl rfl)
theorem dX20_word_37 : decode cX20_word 37 = .ok (.iload_n 1, 1) := dk_27 (dk_at dksX20_word_1 13 rfl rfl)
theorem dX20_word_38 : decode cX20_word 38 = .ok (.iadd, 1) := dk_96 (dk_at dksX20_word_1 14 rfl rfl)
theorem dX20_word_39 : decode cX20_word 39 = .ok (.iaload, 1) := dk_46 (dk_at dksX20_word_1 15 rfl rfl)
theorem dX20_word_40 : decode cX20_word 40 = .ok (.ireturn, 1) := dk_172 (dk_at dksX20_word_1 16 rfl rfl)
abbrev cX20_data : ByteArray := prog_52_method_65_code
def yX20_data : MethodName := ⟨RX20, "data", "(I)I"⟩
def dkwX20_data_1 : List UInt8 := [160, 0, 7, 3, 167, 0, 12, 42, 180, 0, 20, 16, 40, 27, 96, 46, 172]
abbrev dktX20_data_1 : List UInt8 := dkwX20_data_1 ++ []
def dkwX20_data_0 : List UInt8 := [42, 27, 3, 16, 15, 184, 0, 195, 153, 0, 7, 3, 167, 0, 4, 4, 181, 0, 65, 42, 180, 0, 65, 4]
abbrev dktX20_data_0 : List UInt8 := dkwX20_data_0 ++ dktX20_data_1
theorem dksX20_data_0 : cX20_data.data.toList.drop 0 = dktX20_data_0 := by decide +kernel
theorem dksX20_data_1 : cX20_data.data.toList.drop 24 = dktX20_data_1 := dk_seg dksX20_data_0 24 rfl rfl
theorem dX20_data_0 : decode cX20_data 0 = .ok (.aload_n 0, 1) := dk_42 (dk_at dksX20_data_0 0 rfl rfl)
theorem dX20_data_1 : decode cX20_data 1 = .ok (.iload_n 1, 1) := dk_27 (dk_at dksX20_data_0 1 rfl rfl)
theorem dX20_data_2 : decode cX20_data 2 = .ok (.iconst 0, 1) := dk_3 (dk_at dksX20_data_0 2 rfl rfl)
theorem dX20_data_3 : decode cX20_data 3 = .ok (.bipush 15, 2) := dk_16 15 (dk_at dksX20_data_0 3 rfl rfl)
theorem dX20_data_5 : decode cX20_data 5 = .ok (.invokestatic 195, 3) := dk_184 0 195 (dk_at dksX20_data_0 5 rfl rfl)
theorem dX20_data_8 : decode cX20_data 8 = .ok (.ifCond .eq 7, 3) := dk_153 0 7 (dk_at dksX20_data_0 8 rfl rfl)
theorem dX20_data_11 : decode cX20_data 11 = .ok (.iconst 0, 1) := dk_3 (dk_at dksX20_data_0 11 rfl rfl)
theorem dX20_data_12 : decode cX20_data 12 = .ok (.goto 4, 3) := dk_167 0 4 (dk_at dksX20_data_0 12 rfl rfl)
theorem dX20_data_15 : decode cX20_data 15 = .ok (.iconst 1, 1) := dk_4 (dk_at dksX20_data_0 15 rfl rfl)
theorem dX20_data_16 : decode cX20_data 16 = .ok (.putfield 65, 3) := dk_181 0 65 (dk_at dksX20_data_0 16 rfl rfl)
theorem dX20_data_19 : decode cX20_data 19 = .ok (.aload_n 0, 1) := dk_42 (dk_at dksX20_data_0 19 rfl rfl)
theorem dX20_data_20 : decode cX20_data 20 = .ok (.getfield 65, 3) := dk_180 0 65 (dk_at dksX20_data_0 20 rfl rfl)
theorem dX20_data_23 : decode cX20_data 23 = .ok (.iconst 1, 1) := dk_4 (dk_at dksX20_data_0 23 rfl rfl)
theorem dX20_data_24 : decode cX20_data 24 = .ok (.if_icmp .ne 7, 3) := dk_160 0 7 (dk_at dksX20_data_1 0 rfl rfl)
theorem dX20_data_27 : decode cX20_data 27 = .ok (.iconst 0, 1) := dk_3 (dk_at dksX20_data_1 3 rfl rfl)
theorem dX20_data_28 : decode cX20_data 28 = .ok (.goto 12, 3) := dk_167 0 12 (dk_at dksX20_data_1 4 rfl rfl)
theorem dX20_data_31 : decode cX20_data 31 = .ok (.aload_n 0, 1) := dk_42 (dk_at dksX20_data_1 7 rfl rfl)
theorem dX20_data_32 : decode cX20_data 32 = .ok (.getfield 20, 3) := dk_180 0 20 (dk_at dksX20_data_1 8 rfl rfl)
theorem dX20_data_35 : decode cX20_data 35 = .ok (.bipush 40, 2) := dk_16 40 (dk_at dksX20_data_1 11 rfl rfl)
theorem dX20_data_37 : decode cX20_data 37 = .ok (.iload_n 1, 1) := dk_27 (dk_at dksX20_data_1 13 rfl rfl)
theorem dX20_data_38 : decode cX20_data 38 = .ok (.iadd, 1) := dk_96 (dk_at dksX20_data_1 14 rfl rfl)
theorem dX20_data_39 : decode cX20_data 39 = .ok (.iaload, 1) := dk_46 (dk_at dksX20_data_1 15 rfl rfl)
theorem dX20_data_40 : decode cX20_data 40 = .ok (.ireturn, 1) := dk_172 (dk_at dksX20_data_1 16 rfl rfl)
abbrev cX20_out : ByteArray := prog_52_method_66_code
def yX20_out : MethodName := ⟨RX20, "out", "(I)I"⟩
def dkwX20_out_2 : List UInt8 := [46, 172]
abbrev dktX20_out_2 : List UInt8 := dkwX20_out_2 ++ []
def dkwX20_out_1 : List UInt8 := [167, 0, 4, 4, 181, 0, 65, 42, 180, 0, 65, 4, 160, 0, 7, 3, 167, 0, 9, 42, 180, 0, 41, 27]
abbrev dktX20_out_1 : List UInt8 := dkwX20_out_1 ++ dktX20_out_2
def dkwX20_out_0 : List UInt8 := [42, 27, 3, 16, 63, 184, 0, 195, 153, 0, 18, 27, 42, 180, 0, 26, 16, 15, 46, 162, 0, 7, 3]
abbrev dktX20_out_0 : List UInt8 := dkwX20_out_0 ++ dktX20_out_1
theorem dksX20_out_0 : cX20_out.data.toList.drop 0 = dktX20_out_0 := by decide +kernel
theorem dksX20_out_1 : cX20_out.data.toList.drop 23 = dktX20_out_1 := dk_seg dksX20_out_0 23 rfl rfl
theorem dksX20_out_2 : cX20_out.data.toList.drop 47 = dktX20_out_2 := dk_seg dksX20_out_1 24 rfl rfl
theorem dX20_out_0 : decode cX20_out 0 = .ok (.aload_n 0, 1) := dk_42 (dk_at dksX20_out_0 0 rfl rfl)
theorem dX20_out_1 : decode cX20_out 1 = .ok (.iload_n 1, 1) := dk_27 (dk_at dksX20_out_0 1 rfl rfl)
theorem dX20_out_2 : decode cX20_out 2 = .ok (.iconst 0, 1) := dk_3 (dk_at dksX20_out_0 2 rfl rfl)
theorem dX20_out_3 : decode cX20_out 3 = .ok (.bipush 63, 2) := dk_16 63 (dk_at dksX20_out_0 3 rfl rfl)
theorem dX20_out_5 : decode cX20_out 5 = .ok (.invokestatic 195, 3) := dk_184 0 195 (dk_at dksX20_out_0 5 rfl rfl)
theorem dX20_out_8 : decode cX20_out 8 = .ok (.ifCond .eq 18, 3) := dk_153 0 18 (dk_at dksX20_out_0 8 rfl rfl)
theorem dX20_out_11 : decode cX20_out 11 = .ok (.iload_n 1, 1) := dk_27 (dk_at dksX20_out_0 11 rfl rfl)
theorem dX20_out_12 : decode cX20_out 12 = .ok (.aload_n 0, 1) := dk_42 (dk_at dksX20_out_0 12 rfl rfl)
theorem dX20_out_13 : decode cX20_out 13 = .ok (.getfield 26, 3) := dk_180 0 26 (dk_at dksX20_out_0 13 rfl rfl)
theorem dX20_out_16 : decode cX20_out 16 = .ok (.bipush 15, 2) := dk_16 15 (dk_at dksX20_out_0 16 rfl rfl)
theorem dX20_out_18 : decode cX20_out 18 = .ok (.iaload, 1) := dk_46 (dk_at dksX20_out_0 18 rfl rfl)
theorem dX20_out_19 : decode cX20_out 19 = .ok (.if_icmp .ge 7, 3) := dk_162 0 7 (dk_at dksX20_out_0 19 rfl rfl)
theorem dX20_out_22 : decode cX20_out 22 = .ok (.iconst 0, 1) := dk_3 (dk_at dksX20_out_0 22 rfl rfl)
theorem dX20_out_23 : decode cX20_out 23 = .ok (.goto 4, 3) := dk_167 0 4 (dk_at dksX20_out_1 0 rfl rfl)
theorem dX20_out_26 : decode cX20_out 26 = .ok (.iconst 1, 1) := dk_4 (dk_at dksX20_out_1 3 rfl rfl)
theorem dX20_out_27 : decode cX20_out 27 = .ok (.putfield 65, 3) := dk_181 0 65 (dk_at dksX20_out_1 4 rfl rfl)
theorem dX20_out_30 : decode cX20_out 30 = .ok (.aload_n 0, 1) := dk_42 (dk_at dksX20_out_1 7 rfl rfl)
theorem dX20_out_31 : decode cX20_out 31 = .ok (.getfield 65, 3) := dk_180 0 65 (dk_at dksX20_out_1 8 rfl rfl)
theorem dX20_out_34 : decode cX20_out 34 = .ok (.iconst 1, 1) := dk_4 (dk_at dksX20_out_1 11 rfl rfl)
theorem dX20_out_35 : decode cX20_out 35 = .ok (.if_icmp .ne 7, 3) := dk_160 0 7 (dk_at dksX20_out_1 12 rfl rfl)
theorem dX20_out_38 : decode cX20_out 38 = .ok (.iconst 0, 1) := dk_3 (dk_at dksX20_out_1 15 rfl rfl)
theorem dX20_out_39 : decode cX20_out 39 = .ok (.goto 9, 3) := dk_167 0 9 (dk_at dksX20_out_1 16 rfl rfl)
theorem dX20_out_42 : decode cX20_out 42 = .ok (.aload_n 0, 1) := dk_42 (dk_at dksX20_out_1 19 rfl rfl)
theorem dX20_out_43 : decode cX20_out 43 = .ok (.getfield 41, 3) := dk_180 0 41 (dk_at dksX20_out_1 20 rfl rfl)
theorem dX20_out_46 : decode cX20_out 46 = .ok (.iload_n 1, 1) := dk_27 (dk_at dksX20_out_1 23 rfl rfl)
theorem dX20_out_47 : decode cX20_out 47 = .ok (.iaload, 1) := dk_46 (dk_at dksX20_out_2 0 rfl rfl)
theorem dX20_out_48 : decode cX20_out 48 = .ok (.ireturn, 1) := dk_172 (dk_at dksX20_out_2 1 rfl rfl)
abbrev cX20_source : ByteArray := prog_52_method_67_code
def yX20_source : MethodName := ⟨RX20, "source", "(II)I"⟩
def dkwX20_source_6 : List UInt8 := [180, 0, 113, 184, 0, 109, 172, 42, 180, 0, 20, 27, 42, 180, 0, 113, 184, 0, 116, 172, 16, 254, 172]
abbrev dktX20_source_6 : List UInt8 := dkwX20_source_6 ++ []
def dkwX20_source_5 : List UInt8 := [17, 1, 44, 27, 96, 46, 172, 42, 180, 0, 20, 17, 0, 215, 27, 96, 46, 172, 42, 180, 0, 20, 27, 42]
abbrev dktX20_source_5 : List UInt8 := dkwX20_source_5 ++ dktX20_source_6
def dkwX20_source_4 : List UInt8 := [180, 0, 20, 17, 0, 194, 27, 96, 46, 155, 0, 7, 4, 167, 0, 4, 3, 172, 42, 180, 0, 20]
abbrev dktX20_source_4 : List UInt8 := dkwX20_source_4 ++ dktX20_source_5
def dkwX20_source_3 : List UInt8 := [180, 0, 13, 27, 46, 172, 42, 180, 0, 16, 27, 51, 153, 0, 7, 4, 167, 0, 4, 3, 172, 42]
abbrev dktX20_source_3 : List UInt8 := dkwX20_source_3 ++ dktX20_source_4
def dkwX20_source_2 : List UInt8 := [27, 16, 20, 160, 0, 7, 2, 167, 0, 13, 42, 180, 0, 20, 17, 0, 173, 27, 96, 46, 172, 42]
abbrev dktX20_source_2 : List UInt8 := dkwX20_source_2 ++ dktX20_source_3
def dkwX20_source_1 : List UInt8 := [170, 0, 0, 0, 155, 0, 0, 0, 0, 0, 0, 0, 7, 0, 0, 0, 45, 0, 0, 0, 66, 0, 0, 0, 73, 0, 0, 0, 88, 0, 0, 0, 107, 0, 0, 0, 118, 0, 0, 0, 129, 0, 0, 0, 142]
abbrev dktX20_source_1 : List UInt8 := dkwX20_source_1 ++ dktX20_source_2
def dkwX20_source_0 : List UInt8 := [42, 3, 181, 0, 65, 27, 3, 16, 20, 184, 0, 195, 154, 0, 6, 16, 254, 172, 28]
abbrev dktX20_source_0 : List UInt8 := dkwX20_source_0 ++ dktX20_source_1
theorem dksX20_source_0 : cX20_source.data.toList.drop 0 = dktX20_source_0 := by decide +kernel
theorem dksX20_source_1 : cX20_source.data.toList.drop 19 = dktX20_source_1 := dk_seg dksX20_source_0 19 rfl rfl
theorem dksX20_source_2 : cX20_source.data.toList.drop 64 = dktX20_source_2 := dk_seg dksX20_source_1 45 rfl rfl
theorem dksX20_source_3 : cX20_source.data.toList.drop 86 = dktX20_source_3 := dk_seg dksX20_source_2 22 rfl rfl
theorem dksX20_source_4 : cX20_source.data.toList.drop 108 = dktX20_source_4 := dk_seg dksX20_source_3 22 rfl rfl
theorem dksX20_source_5 : cX20_source.data.toList.drop 130 = dktX20_source_5 := dk_seg dksX20_source_4 22 rfl rfl
theorem dksX20_source_6 : cX20_source.data.toList.drop 154 = dktX20_source_6 := dk_seg dksX20_source_5 24 rfl rfl
theorem dX20_source_0 : decode cX20_source 0 = .ok (.aload_n 0, 1) := dk_42 (dk_at dksX20_source_0 0 rfl rfl)
theorem dX20_source_1 : decode cX20_source 1 = .ok (.iconst 0, 1) := dk_3 (dk_at dksX20_source_0 1 rfl rfl)
theorem dX20_source_2 : decode cX20_source 2 = .ok (.putfield 65, 3) := dk_181 0 65 (dk_at dksX20_source_0 2 rfl rfl)
theorem dX20_source_5 : decode cX20_source 5 = .ok (.iload_n 1, 1) := dk_27 (dk_at dksX20_source_0 5 rfl rfl)
theorem dX20_source_6 : decode cX20_source 6 = .ok (.iconst 0, 1) := dk_3 (dk_at dksX20_source_0 6 rfl rfl)
theorem dX20_source_7 : decode cX20_source 7 = .ok (.bipush 20, 2) := dk_16 20 (dk_at dksX20_source_0 7 rfl rfl)
theorem dX20_source_9 : decode cX20_source 9 = .ok (.invokestatic 195, 3) := dk_184 0 195 (dk_at dksX20_source_0 9 rfl rfl)
theorem dX20_source_12 : decode cX20_source 12 = .ok (.ifCond .ne 6, 3) := dk_154 0 6 (dk_at dksX20_source_0 12 rfl rfl)
theorem dX20_source_15 : decode cX20_source 15 = .ok (.bipush (-2), 2) := dk_16 254 (dk_at dksX20_source_0 15 rfl rfl)
theorem dX20_source_17 : decode cX20_source 17 = .ok (.ireturn, 1) := dk_172 (dk_at dksX20_source_0 17 rfl rfl)
theorem dX20_source_18 : decode cX20_source 18 = .ok (.iload_n 2, 1) := dk_28 (dk_at dksX20_source_0 18 rfl rfl)
theorem dX20_source_19 : decode cX20_source 19 = .ok (.tableswitch 155 0 7 #[45, 66, 73, 88, 107, 118, 129, 142], 45) := by decide +kernel
theorem dX20_source_64 : decode cX20_source 64 = .ok (.iload_n 1, 1) := dk_27 (dk_at dksX20_source_2 0 rfl rfl)
theorem dX20_source_65 : decode cX20_source 65 = .ok (.bipush 20, 2) := dk_16 20 (dk_at dksX20_source_2 1 rfl rfl)
theorem dX20_source_67 : decode cX20_source 67 = .ok (.if_icmp .ne 7, 3) := dk_160 0 7 (dk_at dksX20_source_2 3 rfl rfl)
theorem dX20_source_70 : decode cX20_source 70 = .ok (.iconst (-1), 1) := dk_2 (dk_at dksX20_source_2 6 rfl rfl)
theorem dX20_source_71 : decode cX20_source 71 = .ok (.goto 13, 3) := dk_167 0 13 (dk_at dksX20_source_2 7 rfl rfl)
theorem dX20_source_74 : decode cX20_source 74 = .ok (.aload_n 0, 1) := dk_42 (dk_at dksX20_source_2 10 rfl rfl)
theorem dX20_source_75 : decode cX20_source 75 = .ok (.getfield 20, 3) := dk_180 0 20 (dk_at dksX20_source_2 11 rfl rfl)
theorem dX20_source_78 : decode cX20_source 78 = .ok (.sipush 173, 3) := dk_17 0 173 (dk_at dksX20_source_2 14 rfl rfl)
theorem dX20_source_81 : decode cX20_source 81 = .ok (.iload_n 1, 1) := dk_27 (dk_at dksX20_source_2 17 rfl rfl)
theorem dX20_source_82 : decode cX20_source 82 = .ok (.iadd, 1) := dk_96 (dk_at dksX20_source_2 18 rfl rfl)
theorem dX20_source_83 : decode cX20_source 83 = .ok (.iaload, 1) := dk_46 (dk_at dksX20_source_2 19 rfl rfl)
theorem dX20_source_84 : decode cX20_source 84 = .ok (.ireturn, 1) := dk_172 (dk_at dksX20_source_2 20 rfl rfl)
theorem dX20_source_85 : decode cX20_source 85 = .ok (.aload_n 0, 1) := dk_42 (dk_at dksX20_source_2 21 rfl rfl)
theorem dX20_source_86 : decode cX20_source 86 = .ok (.getfield 13, 3) := dk_180 0 13 (dk_at dksX20_source_3 0 rfl rfl)
theorem dX20_source_89 : decode cX20_source 89 = .ok (.iload_n 1, 1) := dk_27 (dk_at dksX20_source_3 3 rfl rfl)
theorem dX20_source_90 : decode cX20_source 90 = .ok (.iaload, 1) := dk_46 (dk_at dksX20_source_3 4 rfl rfl)
theorem dX20_source_91 : decode cX20_source 91 = .ok (.ireturn, 1) := dk_172 (dk_at dksX20_source_3 5 rfl rfl)
theorem dX20_source_92 : decode cX20_source 92 = .ok (.aload_n 0, 1) := dk_42 (dk_at dksX20_source_3 6 rfl rfl)
theorem dX20_source_93 : decode cX20_source 93 = .ok (.getfield 16, 3) := dk_180 0 16 (dk_at dksX20_source_3 7 rfl rfl)
theorem dX20_source_96 : decode cX20_source 96 = .ok (.iload_n 1, 1) := dk_27 (dk_at dksX20_source_3 10 rfl rfl)
theorem dX20_source_97 : decode cX20_source 97 = .ok (.baload, 1) := dk_51 (dk_at dksX20_source_3 11 rfl rfl)
theorem dX20_source_98 : decode cX20_source 98 = .ok (.ifCond .eq 7, 3) := dk_153 0 7 (dk_at dksX20_source_3 12 rfl rfl)
theorem dX20_source_101 : decode cX20_source 101 = .ok (.iconst 1, 1) := dk_4 (dk_at dksX20_source_3 15 rfl rfl)
theorem dX20_source_102 : decode cX20_source 102 = .ok (.goto 4, 3) := dk_167 0 4 (dk_at dksX20_source_3 16 rfl rfl)
theorem dX20_source_105 : decode cX20_source 105 = .ok (.iconst 0, 1) := dk_3 (dk_at dksX20_source_3 19 rfl rfl)
theorem dX20_source_106 : decode cX20_source 106 = .ok (.ireturn, 1) := dk_172 (dk_at dksX20_source_3 20 rfl rfl)
theorem dX20_source_107 : decode cX20_source 107 = .ok (.aload_n 0, 1) := dk_42 (dk_at dksX20_source_3 21 rfl rfl)
theorem dX20_source_108 : decode cX20_source 108 = .ok (.getfield 20, 3) := dk_180 0 20 (dk_at dksX20_source_4 0 rfl rfl)
theorem dX20_source_111 : decode cX20_source 111 = .ok (.sipush 194, 3) := dk_17 0 194 (dk_at dksX20_source_4 3 rfl rfl)
theorem dX20_source_114 : decode cX20_source 114 = .ok (.iload_n 1, 1) := dk_27 (dk_at dksX20_source_4 6 rfl rfl)
theorem dX20_source_115 : decode cX20_source 115 = .ok (.iadd, 1) := dk_96 (dk_at dksX20_source_4 7 rfl rfl)
theorem dX20_source_116 : decode cX20_source 116 = .ok (.iaload, 1) := dk_46 (dk_at dksX20_source_4 8 rfl rfl)
theorem dX20_source_117 : decode cX20_source 117 = .ok (.ifCond .lt 7, 3) := dk_155 0 7 (dk_at dksX20_source_4 9 rfl rfl)
theorem dX20_source_120 : decode cX20_source 120 = .ok (.iconst 1, 1) := dk_4 (dk_at dksX20_source_4 12 rfl rfl)
theorem dX20_source_121 : decode cX20_source 121 = .ok (.goto 4, 3) := dk_167 0 4 (dk_at dksX20_source_4 13 rfl rfl)
theorem dX20_source_124 : decode cX20_source 124 = .ok (.iconst 0, 1) := dk_3 (dk_at dksX20_source_4 16 rfl rfl)
theorem dX20_source_125 : decode cX20_source 125 = .ok (.ireturn, 1) := dk_172 (dk_at dksX20_source_4 17 rfl rfl)
theorem dX20_source_126 : decode cX20_source 126 = .ok (.aload_n 0, 1) := dk_42 (dk_at dksX20_source_4 18 rfl rfl)
theorem dX20_source_127 : decode cX20_source 127 = .ok (.getfield 20, 3) := dk_180 0 20 (dk_at dksX20_source_4 19 rfl rfl)
theorem dX20_source_130 : decode cX20_source 130 = .ok (.sipush 300, 3) := dk_17 1 44 (dk_at dksX20_source_5 0 rfl rfl)
theorem dX20_source_133 : decode cX20_source 133 = .ok (.iload_n 1, 1) := dk_27 (dk_at dksX20_source_5 3 rfl rfl)
theorem dX20_source_134 : decode cX20_source 134 = .ok (.iadd, 1) := dk_96 (dk_at dksX20_source_5 4 rfl rfl)
theorem dX20_source_135 : decode cX20_source 135 = .ok (.iaload, 1) := dk_46 (dk_at dksX20_source_5 5 rfl rfl)
theorem dX20_source_136 : decode cX20_source 136 = .ok (.ireturn, 1) := dk_172 (dk_at dksX20_source_5 6 rfl rfl)
theorem dX20_source_137 : decode cX20_source 137 = .ok (.aload_n 0, 1) := dk_42 (dk_at dksX20_source_5 7 rfl rfl)
theorem dX20_source_138 : decode cX20_source 138 = .ok (.getfield 20, 3) := dk_180 0 20 (dk_at dksX20_source_5 8 rfl rfl)
theorem dX20_source_141 : decode cX20_source 141 = .ok (.sipush 215, 3) := dk_17 0 215 (dk_at dksX20_source_5 11 rfl rfl)
theorem dX20_source_144 : decode cX20_source 144 = .ok (.iload_n 1, 1) := dk_27 (dk_at dksX20_source_5 14 rfl rfl)
theorem dX20_source_145 : decode cX20_source 145 = .ok (.iadd, 1) := dk_96 (dk_at dksX20_source_5 15 rfl rfl)
theorem dX20_source_146 : decode cX20_source 146 = .ok (.iaload, 1) := dk_46 (dk_at dksX20_source_5 16 rfl rfl)
theorem dX20_source_147 : decode cX20_source 147 = .ok (.ireturn, 1) := dk_172 (dk_at dksX20_source_5 17 rfl rfl)
theorem dX20_source_148 : decode cX20_source 148 = .ok (.aload_n 0, 1) := dk_42 (dk_at dksX20_source_5 18 rfl rfl)
theorem dX20_source_149 : decode cX20_source 149 = .ok (.getfield 20, 3) := dk_180 0 20 (dk_at dksX20_source_5 19 rfl rfl)
theorem dX20_source_152 : decode cX20_source 152 = .ok (.iload_n 1, 1) := dk_27 (dk_at dksX20_source_5 22 rfl rfl)
theorem dX20_source_153 : decode cX20_source 153 = .ok (.aload_n 0, 1) := dk_42 (dk_at dksX20_source_5 23 rfl rfl)
theorem dX20_source_154 : decode cX20_source 154 = .ok (.getfield 113, 3) := dk_180 0 113 (dk_at dksX20_source_6 0 rfl rfl)
theorem dX20_source_157 : decode cX20_source 157 = .ok (.invokestatic 109, 3) := dk_184 0 109 (dk_at dksX20_source_6 3 rfl rfl)
theorem dX20_source_160 : decode cX20_source 160 = .ok (.ireturn, 1) := dk_172 (dk_at dksX20_source_6 6 rfl rfl)
theorem dX20_source_161 : decode cX20_source 161 = .ok (.aload_n 0, 1) := dk_42 (dk_at dksX20_source_6 7 rfl rfl)
theorem dX20_source_162 : decode cX20_source 162 = .ok (.getfield 20, 3) := dk_180 0 20 (dk_at dksX20_source_6 8 rfl rfl)
theorem dX20_source_165 : decode cX20_source 165 = .ok (.iload_n 1, 1) := dk_27 (dk_at dksX20_source_6 11 rfl rfl)
theorem dX20_source_166 : decode cX20_source 166 = .ok (.aload_n 0, 1) := dk_42 (dk_at dksX20_source_6 12 rfl rfl)
theorem dX20_source_167 : decode cX20_source 167 = .ok (.getfield 113, 3) := dk_180 0 113 (dk_at dksX20_source_6 13 rfl rfl)
theorem dX20_source_170 : decode cX20_source 170 = .ok (.invokestatic 116, 3) := dk_184 0 116 (dk_at dksX20_source_6 16 rfl rfl)
theorem dX20_source_173 : decode cX20_source 173 = .ok (.ireturn, 1) := dk_172 (dk_at dksX20_source_6 19 rfl rfl)
theorem dX20_source_174 : decode cX20_source 174 = .ok (.bipush (-2), 2) := dk_16 254 (dk_at dksX20_source_6 20 rfl rfl)
theorem dX20_source_176 : decode cX20_source 176 = .ok (.ireturn, 1) := dk_172 (dk_at dksX20_source_6 22 rfl rfl)
abbrev cX20_nest : ByteArray := prog_52_method_68_code
def yX20_nest : MethodName := ⟨RX20, "nest", "(I)I"⟩
def dkwX20_nest_1 : List UInt8 := [180, 0, 20, 17, 0, 152, 27, 96, 46, 167, 0, 4, 2, 172]
abbrev dktX20_nest_1 : List UInt8 := dkwX20_nest_1 ++ []
def dkwX20_nest_0 : List UInt8 := [42, 3, 181, 0, 65, 27, 3, 42, 180, 0, 20, 16, 30, 46, 4, 100, 184, 0, 195, 153, 0, 16, 42]
abbrev dktX20_nest_0 : List UInt8 := dkwX20_nest_0 ++ dktX20_nest_1
theorem dksX20_nest_0 : cX20_nest.data.toList.drop 0 = dktX20_nest_0 := by decide +kernel
theorem dksX20_nest_1 : cX20_nest.data.toList.drop 23 = dktX20_nest_1 := dk_seg dksX20_nest_0 23 rfl rfl
theorem dX20_nest_0 : decode cX20_nest 0 = .ok (.aload_n 0, 1) := dk_42 (dk_at dksX20_nest_0 0 rfl rfl)
theorem dX20_nest_1 : decode cX20_nest 1 = .ok (.iconst 0, 1) := dk_3 (dk_at dksX20_nest_0 1 rfl rfl)
theorem dX20_nest_2 : decode cX20_nest 2 = .ok (.putfield 65, 3) := dk_181 0 65 (dk_at dksX20_nest_0 2 rfl rfl)
theorem dX20_nest_5 : decode cX20_nest 5 = .ok (.iload_n 1, 1) := dk_27 (dk_at dksX20_nest_0 5 rfl rfl)
theorem dX20_nest_6 : decode cX20_nest 6 = .ok (.iconst 0, 1) := dk_3 (dk_at dksX20_nest_0 6 rfl rfl)
theorem dX20_nest_7 : decode cX20_nest 7 = .ok (.aload_n 0, 1) := dk_42 (dk_at dksX20_nest_0 7 rfl rfl)
theorem dX20_nest_8 : decode cX20_nest 8 = .ok (.getfield 20, 3) := dk_180 0 20 (dk_at dksX20_nest_0 8 rfl rfl)
theorem dX20_nest_11 : decode cX20_nest 11 = .ok (.bipush 30, 2) := dk_16 30 (dk_at dksX20_nest_0 11 rfl rfl)
theorem dX20_nest_13 : decode cX20_nest 13 = .ok (.iaload, 1) := dk_46 (dk_at dksX20_nest_0 13 rfl rfl)
theorem dX20_nest_14 : decode cX20_nest 14 = .ok (.iconst 1, 1) := dk_4 (dk_at dksX20_nest_0 14 rfl rfl)
theorem dX20_nest_15 : decode cX20_nest 15 = .ok (.isub, 1) := dk_100 (dk_at dksX20_nest_0 15 rfl rfl)
theorem dX20_nest_16 : decode cX20_nest 16 = .ok (.invokestatic 195, 3) := dk_184 0 195 (dk_at dksX20_nest_0 16 rfl rfl)
theorem dX20_nest_19 : decode cX20_nest 19 = .ok (.ifCond .eq 16, 3) := dk_153 0 16 (dk_at dksX20_nest_0 19 rfl rfl)
theorem dX20_nest_22 : decode cX20_nest 22 = .ok (.aload_n 0, 1) := dk_42 (dk_at dksX20_nest_0 22 rfl rfl)
theorem dX20_nest_23 : decode cX20_nest 23 = .ok (.getfield 20, 3) := dk_180 0 20 (dk_at dksX20_nest_1 0 rfl rfl)
theorem dX20_nest_26 : decode cX20_nest 26 = .ok (.sipush 152, 3) := dk_17 0 152 (dk_at dksX20_nest_1 3 rfl rfl)
theorem dX20_nest_29 : decode cX20_nest 29 = .ok (.iload_n 1, 1) := dk_27 (dk_at dksX20_nest_1 6 rfl rfl)
theorem dX20_nest_30 : decode cX20_nest 30 = .ok (.iadd, 1) := dk_96 (dk_at dksX20_nest_1 7 rfl rfl)
theorem dX20_nest_31 : decode cX20_nest 31 = .ok (.iaload, 1) := dk_46 (dk_at dksX20_nest_1 8 rfl rfl)
theorem dX20_nest_32 : decode cX20_nest 32 = .ok (.goto 4, 3) := dk_167 0 4 (dk_at dksX20_nest_1 9 rfl rfl)
theorem dX20_nest_35 : decode cX20_nest 35 = .ok (.iconst (-1), 1) := dk_2 (dk_at dksX20_nest_1 12 rfl rfl)
theorem dX20_nest_36 : decode cX20_nest 36 = .ok (.ireturn, 1) := dk_172 (dk_at dksX20_nest_1 13 rfl rfl)
abbrev cX20_state : ByteArray := prog_52_method_69_code
def yX20_state : MethodName := ⟨RX20, "state", "(I)I"⟩
def dkwX20_state_8 : List UInt8 := [46, 172, 16, 254, 172]
abbrev dktX20_state_8 : List UInt8 := dkwX20_state_8 ++ []
def dkwX20_state_7 : List UInt8 := [184, 0, 119, 172, 42, 42, 180, 0, 20, 182, 0, 170, 172, 42, 180, 0, 113, 172, 42, 180, 0, 20, 16, 27]
abbrev dktX20_state_7 : List UInt8 := dkwX20_state_7 ++ dktX20_state_8
def dkwX20_state_6 : List UInt8 := [42, 180, 0, 20, 42, 180, 0, 113, 42, 180, 0, 20, 16, 16, 46, 4, 160, 0, 7, 4, 167, 0, 4, 3]
abbrev dktX20_state_6 : List UInt8 := dkwX20_state_6 ++ dktX20_state_7
def dkwX20_state_5 : List UInt8 := [42, 180, 0, 20, 16, 17, 46, 172, 42, 180, 0, 20, 16, 18, 46, 172, 42, 180, 0, 20, 16, 19, 46, 172]
abbrev dktX20_state_5 : List UInt8 := dkwX20_state_5 ++ dktX20_state_6
def dkwX20_state_4 : List UInt8 := [42, 180, 0, 20, 16, 13, 46, 172, 42, 180, 0, 20, 16, 14, 46, 172, 42, 180, 0, 20, 16, 16, 46, 172]
abbrev dktX20_state_4 : List UInt8 := dkwX20_state_4 ++ dktX20_state_5
def dkwX20_state_3 : List UInt8 := [42, 180, 0, 20, 16, 23, 46, 172, 42, 180, 0, 20, 16, 12, 46, 172, 42, 180, 0, 20, 16, 15, 46, 172]
abbrev dktX20_state_3 : List UInt8 := dkwX20_state_3 ++ dktX20_state_4
def dkwX20_state_2 : List UInt8 := [42, 180, 0, 20, 16, 20, 46, 172, 42, 180, 0, 20, 16, 21, 46, 172, 42, 180, 0, 20, 16, 22, 46, 172]
abbrev dktX20_state_2 : List UInt8 := dkwX20_state_2 ++ dktX20_state_3
def dkwX20_state_1 : List UInt8 := [170, 0, 0, 0, 0, 224, 0, 0, 0, 0, 0, 0, 0, 15, 0, 0, 0, 78, 0, 0, 0, 86, 0, 0, 0, 94, 0, 0, 0, 102, 0, 0, 0, 110, 0, 0, 0, 118, 0, 0, 0, 126, 0, 0, 0, 134, 0, 0, 0, 142, 0, 0, 0, 150, 0, 0, 0, 158, 0, 0, 0, 166, 0, 0, 0, 174, 0, 0, 0, 202, 0, 0, 0, 211, 0, 0, 0, 216]
abbrev dktX20_state_1 : List UInt8 := dkwX20_state_1 ++ dktX20_state_2
def dkwX20_state_0 : List UInt8 := [42, 3, 181, 0, 65, 27]
abbrev dktX20_state_0 : List UInt8 := dkwX20_state_0 ++ dktX20_state_1
theorem dksX20_state_0 : cX20_state.data.toList.drop 0 = dktX20_state_0 := by decide +kernel
theorem dksX20_state_1 : cX20_state.data.toList.drop 6 = dktX20_state_1 := dk_seg dksX20_state_0 6 rfl rfl
theorem dksX20_state_2 : cX20_state.data.toList.drop 84 = dktX20_state_2 := dk_seg dksX20_state_1 78 rfl rfl
theorem dksX20_state_3 : cX20_state.data.toList.drop 108 = dktX20_state_3 := dk_seg dksX20_state_2 24 rfl rfl
theorem dksX20_state_4 : cX20_state.data.toList.drop 132 = dktX20_state_4 := dk_seg dksX20_state_3 24 rfl rfl
theorem dksX20_state_5 : cX20_state.data.toList.drop 156 = dktX20_state_5 := dk_seg dksX20_state_4 24 rfl rfl
theorem dksX20_state_6 : cX20_state.data.toList.drop 180 = dktX20_state_6 := dk_seg dksX20_state_5 24 rfl rfl
theorem dksX20_state_7 : cX20_state.data.toList.drop 204 = dktX20_state_7 := dk_seg dksX20_state_6 24 rfl rfl
theorem dksX20_state_8 : cX20_state.data.toList.drop 228 = dktX20_state_8 := dk_seg dksX20_state_7 24 rfl rfl
theorem dX20_state_0 : decode cX20_state 0 = .ok (.aload_n 0, 1) := dk_42 (dk_at dksX20_state_0 0 rfl rfl)
theorem dX20_state_1 : decode cX20_state 1 = .ok (.iconst 0, 1) := dk_3 (dk_at dksX20_state_0 1 rfl rfl)
theorem dX20_state_2 : decode cX20_state 2 = .ok (.putfield 65, 3) := dk_181 0 65 (dk_at dksX20_state_0 2 rfl rfl)
theorem dX20_state_5 : decode cX20_state 5 = .ok (.iload_n 1, 1) := dk_27 (dk_at dksX20_state_0 5 rfl rfl)
theorem dX20_state_6 : decode cX20_state 6 = .ok (.tableswitch 224 0 15 #[78, 86, 94, 102, 110, 118, 126, 134, 142, 150, 158, 166, 174, 202, 211, 216], 78) := by decide +kernel
theorem dX20_state_84 : decode cX20_state 84 = .ok (.aload_n 0, 1) := dk_42 (dk_at dksX20_state_2 0 rfl rfl)
theorem dX20_state_85 : decode cX20_state 85 = .ok (.getfield 20, 3) := dk_180 0 20 (dk_at dksX20_state_2 1 rfl rfl)
theorem dX20_state_88 : decode cX20_state 88 = .ok (.bipush 20, 2) := dk_16 20 (dk_at dksX20_state_2 4 rfl rfl)
theorem dX20_state_90 : decode cX20_state 90 = .ok (.iaload, 1) := dk_46 (dk_at dksX20_state_2 6 rfl rfl)
theorem dX20_state_91 : decode cX20_state 91 = .ok (.ireturn, 1) := dk_172 (dk_at dksX20_state_2 7 rfl rfl)
theorem dX20_state_92 : decode cX20_state 92 = .ok (.aload_n 0, 1) := dk_42 (dk_at dksX20_state_2 8 rfl rfl)
theorem dX20_state_93 : decode cX20_state 93 = .ok (.getfield 20, 3) := dk_180 0 20 (dk_at dksX20_state_2 9 rfl rfl)
theorem dX20_state_96 : decode cX20_state 96 = .ok (.bipush 21, 2) := dk_16 21 (dk_at dksX20_state_2 12 rfl rfl)
theorem dX20_state_98 : decode cX20_state 98 = .ok (.iaload, 1) := dk_46 (dk_at dksX20_state_2 14 rfl rfl)
theorem dX20_state_99 : decode cX20_state 99 = .ok (.ireturn, 1) := dk_172 (dk_at dksX20_state_2 15 rfl rfl)
theorem dX20_state_100 : decode cX20_state 100 = .ok (.aload_n 0, 1) := dk_42 (dk_at dksX20_state_2 16 rfl rfl)
theorem dX20_state_101 : decode cX20_state 101 = .ok (.getfield 20, 3) := dk_180 0 20 (dk_at dksX20_state_2 17 rfl rfl)
theorem dX20_state_104 : decode cX20_state 104 = .ok (.bipush 22, 2) := dk_16 22 (dk_at dksX20_state_2 20 rfl rfl)
theorem dX20_state_106 : decode cX20_state 106 = .ok (.iaload, 1) := dk_46 (dk_at dksX20_state_2 22 rfl rfl)
theorem dX20_state_107 : decode cX20_state 107 = .ok (.ireturn, 1) := dk_172 (dk_at dksX20_state_2 23 rfl rfl)
theorem dX20_state_108 : decode cX20_state 108 = .ok (.aload_n 0, 1) := dk_42 (dk_at dksX20_state_3 0 rfl rfl)
theorem dX20_state_109 : decode cX20_state 109 = .ok (.getfield 20, 3) := dk_180 0 20 (dk_at dksX20_state_3 1 rfl rfl)
theorem dX20_state_112 : decode cX20_state 112 = .ok (.bipush 23, 2) := dk_16 23 (dk_at dksX20_state_3 4 rfl rfl)
theorem dX20_state_114 : decode cX20_state 114 = .ok (.iaload, 1) := dk_46 (dk_at dksX20_state_3 6 rfl rfl)
theorem dX20_state_115 : decode cX20_state 115 = .ok (.ireturn, 1) := dk_172 (dk_at dksX20_state_3 7 rfl rfl)
theorem dX20_state_116 : decode cX20_state 116 = .ok (.aload_n 0, 1) := dk_42 (dk_at dksX20_state_3 8 rfl rfl)
theorem dX20_state_117 : decode cX20_state 117 = .ok (.getfield 20, 3) := dk_180 0 20 (dk_at dksX20_state_3 9 rfl rfl)
theorem dX20_state_120 : decode cX20_state 120 = .ok (.bipush 12, 2) := dk_16 12 (dk_at dksX20_state_3 12 rfl rfl)
theorem dX20_state_122 : decode cX20_state 122 = .ok (.iaload, 1) := dk_46 (dk_at dksX20_state_3 14 rfl rfl)
theorem dX20_state_123 : decode cX20_state 123 = .ok (.ireturn, 1) := dk_172 (dk_at dksX20_state_3 15 rfl rfl)
theorem dX20_state_124 : decode cX20_state 124 = .ok (.aload_n 0, 1) := dk_42 (dk_at dksX20_state_3 16 rfl rfl)
theorem dX20_state_125 : decode cX20_state 125 = .ok (.getfield 20, 3) := dk_180 0 20 (dk_at dksX20_state_3 17 rfl rfl)
theorem dX20_state_128 : decode cX20_state 128 = .ok (.bipush 15, 2) := dk_16 15 (dk_at dksX20_state_3 20 rfl rfl)
theorem dX20_state_130 : decode cX20_state 130 = .ok (.iaload, 1) := dk_46 (dk_at dksX20_state_3 22 rfl rfl)
theorem dX20_state_131 : decode cX20_state 131 = .ok (.ireturn, 1) := dk_172 (dk_at dksX20_state_3 23 rfl rfl)
theorem dX20_state_132 : decode cX20_state 132 = .ok (.aload_n 0, 1) := dk_42 (dk_at dksX20_state_4 0 rfl rfl)
theorem dX20_state_133 : decode cX20_state 133 = .ok (.getfield 20, 3) := dk_180 0 20 (dk_at dksX20_state_4 1 rfl rfl)
theorem dX20_state_136 : decode cX20_state 136 = .ok (.bipush 13, 2) := dk_16 13 (dk_at dksX20_state_4 4 rfl rfl)
theorem dX20_state_138 : decode cX20_state 138 = .ok (.iaload, 1) := dk_46 (dk_at dksX20_state_4 6 rfl rfl)
theorem dX20_state_139 : decode cX20_state 139 = .ok (.ireturn, 1) := dk_172 (dk_at dksX20_state_4 7 rfl rfl)
theorem dX20_state_140 : decode cX20_state 140 = .ok (.aload_n 0, 1) := dk_42 (dk_at dksX20_state_4 8 rfl rfl)
theorem dX20_state_141 : decode cX20_state 141 = .ok (.getfield 20, 3) := dk_180 0 20 (dk_at dksX20_state_4 9 rfl rfl)
theorem dX20_state_144 : decode cX20_state 144 = .ok (.bipush 14, 2) := dk_16 14 (dk_at dksX20_state_4 12 rfl rfl)
theorem dX20_state_146 : decode cX20_state 146 = .ok (.iaload, 1) := dk_46 (dk_at dksX20_state_4 14 rfl rfl)
theorem dX20_state_147 : decode cX20_state 147 = .ok (.ireturn, 1) := dk_172 (dk_at dksX20_state_4 15 rfl rfl)
theorem dX20_state_148 : decode cX20_state 148 = .ok (.aload_n 0, 1) := dk_42 (dk_at dksX20_state_4 16 rfl rfl)
theorem dX20_state_149 : decode cX20_state 149 = .ok (.getfield 20, 3) := dk_180 0 20 (dk_at dksX20_state_4 17 rfl rfl)
theorem dX20_state_152 : decode cX20_state 152 = .ok (.bipush 16, 2) := dk_16 16 (dk_at dksX20_state_4 20 rfl rfl)
theorem dX20_state_154 : decode cX20_state 154 = .ok (.iaload, 1) := dk_46 (dk_at dksX20_state_4 22 rfl rfl)
theorem dX20_state_155 : decode cX20_state 155 = .ok (.ireturn, 1) := dk_172 (dk_at dksX20_state_4 23 rfl rfl)
theorem dX20_state_156 : decode cX20_state 156 = .ok (.aload_n 0, 1) := dk_42 (dk_at dksX20_state_5 0 rfl rfl)
theorem dX20_state_157 : decode cX20_state 157 = .ok (.getfield 20, 3) := dk_180 0 20 (dk_at dksX20_state_5 1 rfl rfl)
theorem dX20_state_160 : decode cX20_state 160 = .ok (.bipush 17, 2) := dk_16 17 (dk_at dksX20_state_5 4 rfl rfl)
theorem dX20_state_162 : decode cX20_state 162 = .ok (.iaload, 1) := dk_46 (dk_at dksX20_state_5 6 rfl rfl)
theorem dX20_state_163 : decode cX20_state 163 = .ok (.ireturn, 1) := dk_172 (dk_at dksX20_state_5 7 rfl rfl)
theorem dX20_state_164 : decode cX20_state 164 = .ok (.aload_n 0, 1) := dk_42 (dk_at dksX20_state_5 8 rfl rfl)
theorem dX20_state_165 : decode cX20_state 165 = .ok (.getfield 20, 3) := dk_180 0 20 (dk_at dksX20_state_5 9 rfl rfl)
theorem dX20_state_168 : decode cX20_state 168 = .ok (.bipush 18, 2) := dk_16 18 (dk_at dksX20_state_5 12 rfl rfl)
theorem dX20_state_170 : decode cX20_state 170 = .ok (.iaload, 1) := dk_46 (dk_at dksX20_state_5 14 rfl rfl)
theorem dX20_state_171 : decode cX20_state 171 = .ok (.ireturn, 1) := dk_172 (dk_at dksX20_state_5 15 rfl rfl)
theorem dX20_state_172 : decode cX20_state 172 = .ok (.aload_n 0, 1) := dk_42 (dk_at dksX20_state_5 16 rfl rfl)
theorem dX20_state_173 : decode cX20_state 173 = .ok (.getfield 20, 3) := dk_180 0 20 (dk_at dksX20_state_5 17 rfl rfl)
theorem dX20_state_176 : decode cX20_state 176 = .ok (.bipush 19, 2) := dk_16 19 (dk_at dksX20_state_5 20 rfl rfl)
theorem dX20_state_178 : decode cX20_state 178 = .ok (.iaload, 1) := dk_46 (dk_at dksX20_state_5 22 rfl rfl)
theorem dX20_state_179 : decode cX20_state 179 = .ok (.ireturn, 1) := dk_172 (dk_at dksX20_state_5 23 rfl rfl)
theorem dX20_state_180 : decode cX20_state 180 = .ok (.aload_n 0, 1) := dk_42 (dk_at dksX20_state_6 0 rfl rfl)
theorem dX20_state_181 : decode cX20_state 181 = .ok (.getfield 20, 3) := dk_180 0 20 (dk_at dksX20_state_6 1 rfl rfl)
theorem dX20_state_184 : decode cX20_state 184 = .ok (.aload_n 0, 1) := dk_42 (dk_at dksX20_state_6 4 rfl rfl)
theorem dX20_state_185 : decode cX20_state 185 = .ok (.getfield 113, 3) := dk_180 0 113 (dk_at dksX20_state_6 5 rfl rfl)
theorem dX20_state_188 : decode cX20_state 188 = .ok (.aload_n 0, 1) := dk_42 (dk_at dksX20_state_6 8 rfl rfl)
theorem dX20_state_189 : decode cX20_state 189 = .ok (.getfield 20, 3) := dk_180 0 20 (dk_at dksX20_state_6 9 rfl rfl)
theorem dX20_state_192 : decode cX20_state 192 = .ok (.bipush 16, 2) := dk_16 16 (dk_at dksX20_state_6 12 rfl rfl)
theorem dX20_state_194 : decode cX20_state 194 = .ok (.iaload, 1) := dk_46 (dk_at dksX20_state_6 14 rfl rfl)
theorem dX20_state_195 : decode cX20_state 195 = .ok (.iconst 1, 1) := dk_4 (dk_at dksX20_state_6 15 rfl rfl)
theorem dX20_state_196 : decode cX20_state 196 = .ok (.if_icmp .ne 7, 3) := dk_160 0 7 (dk_at dksX20_state_6 16 rfl rfl)
theorem dX20_state_199 : decode cX20_state 199 = .ok (.iconst 1, 1) := dk_4 (dk_at dksX20_state_6 19 rfl rfl)
theorem dX20_state_200 : decode cX20_state 200 = .ok (.goto 4, 3) := dk_167 0 4 (dk_at dksX20_state_6 20 rfl rfl)
theorem dX20_state_203 : decode cX20_state 203 = .ok (.iconst 0, 1) := dk_3 (dk_at dksX20_state_6 23 rfl rfl)
theorem dX20_state_204 : decode cX20_state 204 = .ok (.invokestatic 119, 3) := dk_184 0 119 (dk_at dksX20_state_7 0 rfl rfl)
theorem dX20_state_207 : decode cX20_state 207 = .ok (.ireturn, 1) := dk_172 (dk_at dksX20_state_7 3 rfl rfl)
theorem dX20_state_208 : decode cX20_state 208 = .ok (.aload_n 0, 1) := dk_42 (dk_at dksX20_state_7 4 rfl rfl)
theorem dX20_state_209 : decode cX20_state 209 = .ok (.aload_n 0, 1) := dk_42 (dk_at dksX20_state_7 5 rfl rfl)
theorem dX20_state_210 : decode cX20_state 210 = .ok (.getfield 20, 3) := dk_180 0 20 (dk_at dksX20_state_7 6 rfl rfl)
theorem dX20_state_213 : decode cX20_state 213 = .ok (.invokevirtual 170, 3) := dk_182 0 170 (dk_at dksX20_state_7 9 rfl rfl)
theorem dX20_state_216 : decode cX20_state 216 = .ok (.ireturn, 1) := dk_172 (dk_at dksX20_state_7 12 rfl rfl)
theorem dX20_state_217 : decode cX20_state 217 = .ok (.aload_n 0, 1) := dk_42 (dk_at dksX20_state_7 13 rfl rfl)
theorem dX20_state_218 : decode cX20_state 218 = .ok (.getfield 113, 3) := dk_180 0 113 (dk_at dksX20_state_7 14 rfl rfl)
theorem dX20_state_221 : decode cX20_state 221 = .ok (.ireturn, 1) := dk_172 (dk_at dksX20_state_7 17 rfl rfl)
theorem dX20_state_222 : decode cX20_state 222 = .ok (.aload_n 0, 1) := dk_42 (dk_at dksX20_state_7 18 rfl rfl)
theorem dX20_state_223 : decode cX20_state 223 = .ok (.getfield 20, 3) := dk_180 0 20 (dk_at dksX20_state_7 19 rfl rfl)
theorem dX20_state_226 : decode cX20_state 226 = .ok (.bipush 27, 2) := dk_16 27 (dk_at dksX20_state_7 22 rfl rfl)
theorem dX20_state_228 : decode cX20_state 228 = .ok (.iaload, 1) := dk_46 (dk_at dksX20_state_8 0 rfl rfl)
theorem dX20_state_229 : decode cX20_state 229 = .ok (.ireturn, 1) := dk_172 (dk_at dksX20_state_8 1 rfl rfl)
theorem dX20_state_230 : decode cX20_state 230 = .ok (.bipush (-2), 2) := dk_16 254 (dk_at dksX20_state_8 2 rfl rfl)
theorem dX20_state_232 : decode cX20_state 232 = .ok (.ireturn, 1) := dk_172 (dk_at dksX20_state_8 4 rfl rfl)
abbrev cX20_count : ByteArray := prog_52_method_70_code
def yX20_count : MethodName := ⟨RX20, "count", "(I)I"⟩
def dkwX20_count_3 : List UInt8 := [162, 0, 10, 42, 180, 0, 69, 167, 0, 5, 16, 24, 172, 42, 180, 0, 26, 27, 46, 172]
abbrev dktX20_count_3 : List UInt8 := dkwX20_count_3 ++ []
def dkwX20_count_2 : List UInt8 := [160, 0, 11, 42, 180, 0, 20, 16, 31, 46, 172, 27, 16, 16, 160, 0, 22, 42, 180, 0, 69, 16, 24]
abbrev dktX20_count_2 : List UInt8 := dkwX20_count_2 ++ dktX20_count_3
def dkwX20_count_1 : List UInt8 := [180, 0, 20, 16, 25, 46, 172, 27, 16, 11, 160, 0, 11, 42, 180, 0, 20, 16, 30, 46, 172, 27, 16, 14]
abbrev dktX20_count_1 : List UInt8 := dkwX20_count_1 ++ dktX20_count_2
def dkwX20_count_0 : List UInt8 := [42, 3, 181, 0, 65, 27, 3, 16, 16, 184, 0, 195, 154, 0, 5, 2, 172, 27, 154, 0, 11, 42]
abbrev dktX20_count_0 : List UInt8 := dkwX20_count_0 ++ dktX20_count_1
theorem dksX20_count_0 : cX20_count.data.toList.drop 0 = dktX20_count_0 := by decide +kernel
theorem dksX20_count_1 : cX20_count.data.toList.drop 22 = dktX20_count_1 := dk_seg dksX20_count_0 22 rfl rfl
theorem dksX20_count_2 : cX20_count.data.toList.drop 46 = dktX20_count_2 := dk_seg dksX20_count_1 24 rfl rfl
theorem dksX20_count_3 : cX20_count.data.toList.drop 69 = dktX20_count_3 := dk_seg dksX20_count_2 23 rfl rfl
theorem dX20_count_0 : decode cX20_count 0 = .ok (.aload_n 0, 1) := dk_42 (dk_at dksX20_count_0 0 rfl rfl)
theorem dX20_count_1 : decode cX20_count 1 = .ok (.iconst 0, 1) := dk_3 (dk_at dksX20_count_0 1 rfl rfl)
theorem dX20_count_2 : decode cX20_count 2 = .ok (.putfield 65, 3) := dk_181 0 65 (dk_at dksX20_count_0 2 rfl rfl)
theorem dX20_count_5 : decode cX20_count 5 = .ok (.iload_n 1, 1) := dk_27 (dk_at dksX20_count_0 5 rfl rfl)
theorem dX20_count_6 : decode cX20_count 6 = .ok (.iconst 0, 1) := dk_3 (dk_at dksX20_count_0 6 rfl rfl)
theorem dX20_count_7 : decode cX20_count 7 = .ok (.bipush 16, 2) := dk_16 16 (dk_at dksX20_count_0 7 rfl rfl)
theorem dX20_count_9 : decode cX20_count 9 = .ok (.invokestatic 195, 3) := dk_184 0 195 (dk_at dksX20_count_0 9 rfl rfl)
theorem dX20_count_12 : decode cX20_count 12 = .ok (.ifCond .ne 5, 3) := dk_154 0 5 (dk_at dksX20_count_0 12 rfl rfl)
theorem dX20_count_15 : decode cX20_count 15 = .ok (.iconst (-1), 1) := dk_2 (dk_at dksX20_count_0 15 rfl rfl)
theorem dX20_count_16 : decode cX20_count 16 = .ok (.ireturn, 1) := dk_172 (dk_at dksX20_count_0 16 rfl rfl)
theorem dX20_count_17 : decode cX20_count 17 = .ok (.iload_n 1, 1) := dk_27 (dk_at dksX20_count_0 17 rfl rfl)
theorem dX20_count_18 : decode cX20_count 18 = .ok (.ifCond .ne 11, 3) := dk_154 0 11 (dk_at dksX20_count_0 18 rfl rfl)
theorem dX20_count_21 : decode cX20_count 21 = .ok (.aload_n 0, 1) := dk_42 (dk_at dksX20_count_0 21 rfl rfl)
theorem dX20_count_22 : decode cX20_count 22 = .ok (.getfield 20, 3) := dk_180 0 20 (dk_at dksX20_count_1 0 rfl rfl)
theorem dX20_count_25 : decode cX20_count 25 = .ok (.bipush 25, 2) := dk_16 25 (dk_at dksX20_count_1 3 rfl rfl)
theorem dX20_count_27 : decode cX20_count 27 = .ok (.iaload, 1) := dk_46 (dk_at dksX20_count_1 5 rfl rfl)
theorem dX20_count_28 : decode cX20_count 28 = .ok (.ireturn, 1) := dk_172 (dk_at dksX20_count_1 6 rfl rfl)
theorem dX20_count_29 : decode cX20_count 29 = .ok (.iload_n 1, 1) := dk_27 (dk_at dksX20_count_1 7 rfl rfl)
theorem dX20_count_30 : decode cX20_count 30 = .ok (.bipush 11, 2) := dk_16 11 (dk_at dksX20_count_1 8 rfl rfl)
theorem dX20_count_32 : decode cX20_count 32 = .ok (.if_icmp .ne 11, 3) := dk_160 0 11 (dk_at dksX20_count_1 10 rfl rfl)
theorem dX20_count_35 : decode cX20_count 35 = .ok (.aload_n 0, 1) := dk_42 (dk_at dksX20_count_1 13 rfl rfl)
theorem dX20_count_36 : decode cX20_count 36 = .ok (.getfield 20, 3) := dk_180 0 20 (dk_at dksX20_count_1 14 rfl rfl)
theorem dX20_count_39 : decode cX20_count 39 = .ok (.bipush 30, 2) := dk_16 30 (dk_at dksX20_count_1 17 rfl rfl)
theorem dX20_count_41 : decode cX20_count 41 = .ok (.iaload, 1) := dk_46 (dk_at dksX20_count_1 19 rfl rfl)
theorem dX20_count_42 : decode cX20_count 42 = .ok (.ireturn, 1) := dk_172 (dk_at dksX20_count_1 20 rfl rfl)
theorem dX20_count_43 : decode cX20_count 43 = .ok (.iload_n 1, 1) := dk_27 (dk_at dksX20_count_1 21 rfl rfl)
theorem dX20_count_44 : decode cX20_count 44 = .ok (.bipush 14, 2) := dk_16 14 (dk_at dksX20_count_1 22 rfl rfl)
theorem dX20_count_46 : decode cX20_count 46 = .ok (.if_icmp .ne 11, 3) := dk_160 0 11 (dk_at dksX20_count_2 0 rfl rfl)
theorem dX20_count_49 : decode cX20_count 49 = .ok (.aload_n 0, 1) := dk_42 (dk_at dksX20_count_2 3 rfl rfl)
theorem dX20_count_50 : decode cX20_count 50 = .ok (.getfield 20, 3) := dk_180 0 20 (dk_at dksX20_count_2 4 rfl rfl)
theorem dX20_count_53 : decode cX20_count 53 = .ok (.bipush 31, 2) := dk_16 31 (dk_at dksX20_count_2 7 rfl rfl)
theorem dX20_count_55 : decode cX20_count 55 = .ok (.iaload, 1) := dk_46 (dk_at dksX20_count_2 9 rfl rfl)
theorem dX20_count_56 : decode cX20_count 56 = .ok (.ireturn, 1) := dk_172 (dk_at dksX20_count_2 10 rfl rfl)
theorem dX20_count_57 : decode cX20_count 57 = .ok (.iload_n 1, 1) := dk_27 (dk_at dksX20_count_2 11 rfl rfl)
theorem dX20_count_58 : decode cX20_count 58 = .ok (.bipush 16, 2) := dk_16 16 (dk_at dksX20_count_2 12 rfl rfl)
theorem dX20_count_60 : decode cX20_count 60 = .ok (.if_icmp .ne 22, 3) := dk_160 0 22 (dk_at dksX20_count_2 14 rfl rfl)
theorem dX20_count_63 : decode cX20_count 63 = .ok (.aload_n 0, 1) := dk_42 (dk_at dksX20_count_2 17 rfl rfl)
theorem dX20_count_64 : decode cX20_count 64 = .ok (.getfield 69, 3) := dk_180 0 69 (dk_at dksX20_count_2 18 rfl rfl)
theorem dX20_count_67 : decode cX20_count 67 = .ok (.bipush 24, 2) := dk_16 24 (dk_at dksX20_count_2 21 rfl rfl)
theorem dX20_count_69 : decode cX20_count 69 = .ok (.if_icmp .ge 10, 3) := dk_162 0 10 (dk_at dksX20_count_3 0 rfl rfl)
theorem dX20_count_72 : decode cX20_count 72 = .ok (.aload_n 0, 1) := dk_42 (dk_at dksX20_count_3 3 rfl rfl)
theorem dX20_count_73 : decode cX20_count 73 = .ok (.getfield 69, 3) := dk_180 0 69 (dk_at dksX20_count_3 4 rfl rfl)
theorem dX20_count_76 : decode cX20_count 76 = .ok (.goto 5, 3) := dk_167 0 5 (dk_at dksX20_count_3 7 rfl rfl)
theorem dX20_count_79 : decode cX20_count 79 = .ok (.bipush 24, 2) := dk_16 24 (dk_at dksX20_count_3 10 rfl rfl)
theorem dX20_count_81 : decode cX20_count 81 = .ok (.ireturn, 1) := dk_172 (dk_at dksX20_count_3 12 rfl rfl)
theorem dX20_count_82 : decode cX20_count 82 = .ok (.aload_n 0, 1) := dk_42 (dk_at dksX20_count_3 13 rfl rfl)
theorem dX20_count_83 : decode cX20_count 83 = .ok (.getfield 26, 3) := dk_180 0 26 (dk_at dksX20_count_3 14 rfl rfl)
theorem dX20_count_86 : decode cX20_count 86 = .ok (.iload_n 1, 1) := dk_27 (dk_at dksX20_count_3 17 rfl rfl)
theorem dX20_count_87 : decode cX20_count 87 = .ok (.iaload, 1) := dk_46 (dk_at dksX20_count_3 18 rfl rfl)
theorem dX20_count_88 : decode cX20_count 88 = .ok (.ireturn, 1) := dk_172 (dk_at dksX20_count_3 19 rfl rfl)
abbrev cX20_event : ByteArray := prog_52_method_71_code
def yX20_event : MethodName := ⟨RX20, "event", "(II)I"⟩
def dkwX20_event_5 : List UInt8 := [21, 4, 46, 172]
abbrev dktX20_event_5 : List UInt8 := dkwX20_event_5 ++ []
def dkwX20_event_4 : List UInt8 := [46, 167, 0, 25, 28, 5, 160, 0, 13, 42, 180, 0, 35, 21, 4, 46, 167, 0, 10, 42, 180, 0, 38]
abbrev dktX20_event_4 : List UInt8 := dkwX20_event_4 ++ dktX20_event_5
def dkwX20_event_3 : List UInt8 := [154, 0, 13, 42, 180, 0, 29, 21, 4, 46, 167, 0, 40, 28, 4, 160, 0, 13, 42, 180, 0, 32, 21, 4]
abbrev dktX20_event_3 : List UInt8 := dkwX20_event_3 ++ dktX20_event_4
def dkwX20_event_2 : List UInt8 := [42, 180, 0, 65, 4, 160, 0, 5, 3, 172, 42, 180, 0, 69, 4, 100, 27, 100, 16, 24, 112, 54, 4, 28]
abbrev dktX20_event_2 : List UInt8 := dkwX20_event_2 ++ dktX20_event_3
def dkwX20_event_1 : List UInt8 := [100, 184, 0, 195, 153, 0, 16, 28, 3, 6, 184, 0, 195, 153, 0, 7, 3, 167, 0, 4, 4, 181, 0, 65]
abbrev dktX20_event_1 : List UInt8 := dkwX20_event_1 ++ dktX20_event_2
def dkwX20_event_0 : List UInt8 := [42, 180, 0, 69, 16, 24, 162, 0, 10, 42, 180, 0, 69, 167, 0, 5, 16, 24, 62, 42, 27, 3, 29, 4]
abbrev dktX20_event_0 : List UInt8 := dkwX20_event_0 ++ dktX20_event_1
theorem dksX20_event_0 : cX20_event.data.toList.drop 0 = dktX20_event_0 := by decide +kernel
theorem dksX20_event_1 : cX20_event.data.toList.drop 24 = dktX20_event_1 := dk_seg dksX20_event_0 24 rfl rfl
theorem dksX20_event_2 : cX20_event.data.toList.drop 48 = dktX20_event_2 := dk_seg dksX20_event_1 24 rfl rfl
theorem dksX20_event_3 : cX20_event.data.toList.drop 72 = dktX20_event_3 := dk_seg dksX20_event_2 24 rfl rfl
theorem dksX20_event_4 : cX20_event.data.toList.drop 96 = dktX20_event_4 := dk_seg dksX20_event_3 24 rfl rfl
theorem dksX20_event_5 : cX20_event.data.toList.drop 119 = dktX20_event_5 := dk_seg dksX20_event_4 23 rfl rfl
theorem dX20_event_0 : decode cX20_event 0 = .ok (.aload_n 0, 1) := dk_42 (dk_at dksX20_event_0 0 rfl rfl)
theorem dX20_event_1 : decode cX20_event 1 = .ok (.getfield 69, 3) := dk_180 0 69 (dk_at dksX20_event_0 1 rfl rfl)
theorem dX20_event_4 : decode cX20_event 4 = .ok (.bipush 24, 2) := dk_16 24 (dk_at dksX20_event_0 4 rfl rfl)
theorem dX20_event_6 : decode cX20_event 6 = .ok (.if_icmp .ge 10, 3) := dk_162 0 10 (dk_at dksX20_event_0 6 rfl rfl)
theorem dX20_event_9 : decode cX20_event 9 = .ok (.aload_n 0, 1) := dk_42 (dk_at dksX20_event_0 9 rfl rfl)
theorem dX20_event_10 : decode cX20_event 10 = .ok (.getfield 69, 3) := dk_180 0 69 (dk_at dksX20_event_0 10 rfl rfl)
theorem dX20_event_13 : decode cX20_event 13 = .ok (.goto 5, 3) := dk_167 0 5 (dk_at dksX20_event_0 13 rfl rfl)
theorem dX20_event_16 : decode cX20_event 16 = .ok (.bipush 24, 2) := dk_16 24 (dk_at dksX20_event_0 16 rfl rfl)
theorem dX20_event_18 : decode cX20_event 18 = .ok (.istore_n 3, 1) := dk_62 (dk_at dksX20_event_0 18 rfl rfl)
theorem dX20_event_19 : decode cX20_event 19 = .ok (.aload_n 0, 1) := dk_42 (dk_at dksX20_event_0 19 rfl rfl)
theorem dX20_event_20 : decode cX20_event 20 = .ok (.iload_n 1, 1) := dk_27 (dk_at dksX20_event_0 20 rfl rfl)
theorem dX20_event_21 : decode cX20_event 21 = .ok (.iconst 0, 1) := dk_3 (dk_at dksX20_event_0 21 rfl rfl)
theorem dX20_event_22 : decode cX20_event 22 = .ok (.iload_n 3, 1) := dk_29 (dk_at dksX20_event_0 22 rfl rfl)
theorem dX20_event_23 : decode cX20_event 23 = .ok (.iconst 1, 1) := dk_4 (dk_at dksX20_event_0 23 rfl rfl)
theorem dX20_event_24 : decode cX20_event 24 = .ok (.isub, 1) := dk_100 (dk_at dksX20_event_1 0 rfl rfl)
theorem dX20_event_25 : decode cX20_event 25 = .ok (.invokestatic 195, 3) := dk_184 0 195 (dk_at dksX20_event_1 1 rfl rfl)
theorem dX20_event_28 : decode cX20_event 28 = .ok (.ifCond .eq 16, 3) := dk_153 0 16 (dk_at dksX20_event_1 4 rfl rfl)
theorem dX20_event_31 : decode cX20_event 31 = .ok (.iload_n 2, 1) := dk_28 (dk_at dksX20_event_1 7 rfl rfl)
theorem dX20_event_32 : decode cX20_event 32 = .ok (.iconst 0, 1) := dk_3 (dk_at dksX20_event_1 8 rfl rfl)
theorem dX20_event_33 : decode cX20_event 33 = .ok (.iconst 3, 1) := dk_6 (dk_at dksX20_event_1 9 rfl rfl)
theorem dX20_event_34 : decode cX20_event 34 = .ok (.invokestatic 195, 3) := dk_184 0 195 (dk_at dksX20_event_1 10 rfl rfl)
theorem dX20_event_37 : decode cX20_event 37 = .ok (.ifCond .eq 7, 3) := dk_153 0 7 (dk_at dksX20_event_1 13 rfl rfl)
theorem dX20_event_40 : decode cX20_event 40 = .ok (.iconst 0, 1) := dk_3 (dk_at dksX20_event_1 16 rfl rfl)
theorem dX20_event_41 : decode cX20_event 41 = .ok (.goto 4, 3) := dk_167 0 4 (dk_at dksX20_event_1 17 rfl rfl)
theorem dX20_event_44 : decode cX20_event 44 = .ok (.iconst 1, 1) := dk_4 (dk_at dksX20_event_1 20 rfl rfl)
theorem dX20_event_45 : decode cX20_event 45 = .ok (.putfield 65, 3) := dk_181 0 65 (dk_at dksX20_event_1 21 rfl rfl)
theorem dX20_event_48 : decode cX20_event 48 = .ok (.aload_n 0, 1) := dk_42 (dk_at dksX20_event_2 0 rfl rfl)
theorem dX20_event_49 : decode cX20_event 49 = .ok (.getfield 65, 3) := dk_180 0 65 (dk_at dksX20_event_2 1 rfl rfl)
theorem dX20_event_52 : decode cX20_event 52 = .ok (.iconst 1, 1) := dk_4 (dk_at dksX20_event_2 4 rfl rfl)
theorem dX20_event_53 : decode cX20_event 53 = .ok (.if_icmp .ne 5, 3) := dk_160 0 5 (dk_at dksX20_event_2 5 rfl rfl)
theorem dX20_event_56 : decode cX20_event 56 = .ok (.iconst 0, 1) := dk_3 (dk_at dksX20_event_2 8 rfl rfl)
theorem dX20_event_57 : decode cX20_event 57 = .ok (.ireturn, 1) := dk_172 (dk_at dksX20_event_2 9 rfl rfl)
theorem dX20_event_58 : decode cX20_event 58 = .ok (.aload_n 0, 1) := dk_42 (dk_at dksX20_event_2 10 rfl rfl)
theorem dX20_event_59 : decode cX20_event 59 = .ok (.getfield 69, 3) := dk_180 0 69 (dk_at dksX20_event_2 11 rfl rfl)
theorem dX20_event_62 : decode cX20_event 62 = .ok (.iconst 1, 1) := dk_4 (dk_at dksX20_event_2 14 rfl rfl)
theorem dX20_event_63 : decode cX20_event 63 = .ok (.isub, 1) := dk_100 (dk_at dksX20_event_2 15 rfl rfl)
theorem dX20_event_64 : decode cX20_event 64 = .ok (.iload_n 1, 1) := dk_27 (dk_at dksX20_event_2 16 rfl rfl)
theorem dX20_event_65 : decode cX20_event 65 = .ok (.isub, 1) := dk_100 (dk_at dksX20_event_2 17 rfl rfl)
theorem dX20_event_66 : decode cX20_event 66 = .ok (.bipush 24, 2) := dk_16 24 (dk_at dksX20_event_2 18 rfl rfl)
theorem dX20_event_68 : decode cX20_event 68 = .ok (.irem, 1) := dk_112 (dk_at dksX20_event_2 20 rfl rfl)
theorem dX20_event_69 : decode cX20_event 69 = .ok (.istore 4, 2) := dk_54 4 (dk_at dksX20_event_2 21 rfl rfl)
theorem dX20_event_71 : decode cX20_event 71 = .ok (.iload_n 2, 1) := dk_28 (dk_at dksX20_event_2 23 rfl rfl)
theorem dX20_event_72 : decode cX20_event 72 = .ok (.ifCond .ne 13, 3) := dk_154 0 13 (dk_at dksX20_event_3 0 rfl rfl)
theorem dX20_event_75 : decode cX20_event 75 = .ok (.aload_n 0, 1) := dk_42 (dk_at dksX20_event_3 3 rfl rfl)
theorem dX20_event_76 : decode cX20_event 76 = .ok (.getfield 29, 3) := dk_180 0 29 (dk_at dksX20_event_3 4 rfl rfl)
theorem dX20_event_79 : decode cX20_event 79 = .ok (.iload 4, 2) := dk_21 4 (dk_at dksX20_event_3 7 rfl rfl)
theorem dX20_event_81 : decode cX20_event 81 = .ok (.iaload, 1) := dk_46 (dk_at dksX20_event_3 9 rfl rfl)
theorem dX20_event_82 : decode cX20_event 82 = .ok (.goto 40, 3) := dk_167 0 40 (dk_at dksX20_event_3 10 rfl rfl)
theorem dX20_event_85 : decode cX20_event 85 = .ok (.iload_n 2, 1) := dk_28 (dk_at dksX20_event_3 13 rfl rfl)
theorem dX20_event_86 : decode cX20_event 86 = .ok (.iconst 1, 1) := dk_4 (dk_at dksX20_event_3 14 rfl rfl)
theorem dX20_event_87 : decode cX20_event 87 = .ok (.if_icmp .ne 13, 3) := dk_160 0 13 (dk_at dksX20_event_3 15 rfl rfl)
theorem dX20_event_90 : decode cX20_event 90 = .ok (.aload_n 0, 1) := dk_42 (dk_at dksX20_event_3 18 rfl rfl)
theorem dX20_event_91 : decode cX20_event 91 = .ok (.getfield 32, 3) := dk_180 0 32 (dk_at dksX20_event_3 19 rfl rfl)
theorem dX20_event_94 : decode cX20_event 94 = .ok (.iload 4, 2) := dk_21 4 (dk_at dksX20_event_3 22 rfl rfl)
theorem dX20_event_96 : decode cX20_event 96 = .ok (.iaload, 1) := dk_46 (dk_at dksX20_event_4 0 rfl rfl)
theorem dX20_event_97 : decode cX20_event 97 = .ok (.goto 25, 3) := dk_167 0 25 (dk_at dksX20_event_4 1 rfl rfl)
theorem dX20_event_100 : decode cX20_event 100 = .ok (.iload_n 2, 1) := dk_28 (dk_at dksX20_event_4 4 rfl rfl)
theorem dX20_event_101 : decode cX20_event 101 = .ok (.iconst 2, 1) := dk_5 (dk_at dksX20_event_4 5 rfl rfl)
theorem dX20_event_102 : decode cX20_event 102 = .ok (.if_icmp .ne 13, 3) := dk_160 0 13 (dk_at dksX20_event_4 6 rfl rfl)
theorem dX20_event_105 : decode cX20_event 105 = .ok (.aload_n 0, 1) := dk_42 (dk_at dksX20_event_4 9 rfl rfl)
theorem dX20_event_106 : decode cX20_event 106 = .ok (.getfield 35, 3) := dk_180 0 35 (dk_at dksX20_event_4 10 rfl rfl)
theorem dX20_event_109 : decode cX20_event 109 = .ok (.iload 4, 2) := dk_21 4 (dk_at dksX20_event_4 13 rfl rfl)
theorem dX20_event_111 : decode cX20_event 111 = .ok (.iaload, 1) := dk_46 (dk_at dksX20_event_4 15 rfl rfl)
theorem dX20_event_112 : decode cX20_event 112 = .ok (.goto 10, 3) := dk_167 0 10 (dk_at dksX20_event_4 16 rfl rfl)
theorem dX20_event_115 : decode cX20_event 115 = .ok (.aload_n 0, 1) := dk_42 (dk_at dksX20_event_4 19 rfl rfl)
theorem dX20_event_116 : decode cX20_event 116 = .ok (.getfield 38, 3) := dk_180 0 38 (dk_at dksX20_event_4 20 rfl rfl)
theorem dX20_event_119 : decode cX20_event 119 = .ok (.iload 4, 2) := dk_21 4 (dk_at dksX20_event_5 0 rfl rfl)
theorem dX20_event_121 : decode cX20_event 121 = .ok (.iaload, 1) := dk_46 (dk_at dksX20_event_5 2 rfl rfl)
theorem dX20_event_122 : decode cX20_event 122 = .ok (.ireturn, 1) := dk_172 (dk_at dksX20_event_5 3 rfl rfl)
abbrev cX20_waited : ByteArray := prog_52_method_72_code
def yX20_waited : MethodName := ⟨RX20, "waited", "(I)I"⟩
def dkwX20_waited_1 : List UInt8 := [2, 172]
abbrev dktX20_waited_1 : List UInt8 := dkwX20_waited_1 ++ []
def dkwX20_waited_0 : List UInt8 := [42, 3, 181, 0, 65, 27, 3, 16, 20, 184, 0, 195, 153, 0, 12, 42, 180, 0, 44, 27, 46, 167, 0, 4]
abbrev dktX20_waited_0 : List UInt8 := dkwX20_waited_0 ++ dktX20_waited_1
theorem dksX20_waited_0 : cX20_waited.data.toList.drop 0 = dktX20_waited_0 := by decide +kernel
theorem dksX20_waited_1 : cX20_waited.data.toList.drop 24 = dktX20_waited_1 := dk_seg dksX20_waited_0 24 rfl rfl
theorem dX20_waited_0 : decode cX20_waited 0 = .ok (.aload_n 0, 1) := dk_42 (dk_at dksX20_waited_0 0 rfl rfl)
theorem dX20_waited_1 : decode cX20_waited 1 = .ok (.iconst 0, 1) := dk_3 (dk_at dksX20_waited_0 1 rfl rfl)
theorem dX20_waited_2 : decode cX20_waited 2 = .ok (.putfield 65, 3) := dk_181 0 65 (dk_at dksX20_waited_0 2 rfl rfl)
theorem dX20_waited_5 : decode cX20_waited 5 = .ok (.iload_n 1, 1) := dk_27 (dk_at dksX20_waited_0 5 rfl rfl)
theorem dX20_waited_6 : decode cX20_waited 6 = .ok (.iconst 0, 1) := dk_3 (dk_at dksX20_waited_0 6 rfl rfl)
theorem dX20_waited_7 : decode cX20_waited 7 = .ok (.bipush 20, 2) := dk_16 20 (dk_at dksX20_waited_0 7 rfl rfl)
theorem dX20_waited_9 : decode cX20_waited 9 = .ok (.invokestatic 195, 3) := dk_184 0 195 (dk_at dksX20_waited_0 9 rfl rfl)
theorem dX20_waited_12 : decode cX20_waited 12 = .ok (.ifCond .eq 12, 3) := dk_153 0 12 (dk_at dksX20_waited_0 12 rfl rfl)
theorem dX20_waited_15 : decode cX20_waited 15 = .ok (.aload_n 0, 1) := dk_42 (dk_at dksX20_waited_0 15 rfl rfl)
theorem dX20_waited_16 : decode cX20_waited 16 = .ok (.getfield 44, 3) := dk_180 0 44 (dk_at dksX20_waited_0 16 rfl rfl)
theorem dX20_waited_19 : decode cX20_waited 19 = .ok (.iload_n 1, 1) := dk_27 (dk_at dksX20_waited_0 19 rfl rfl)
theorem dX20_waited_20 : decode cX20_waited 20 = .ok (.iaload, 1) := dk_46 (dk_at dksX20_waited_0 20 rfl rfl)
theorem dX20_waited_21 : decode cX20_waited 21 = .ok (.goto 4, 3) := dk_167 0 4 (dk_at dksX20_waited_0 21 rfl rfl)
theorem dX20_waited_24 : decode cX20_waited 24 = .ok (.iconst (-1), 1) := dk_2 (dk_at dksX20_waited_1 0 rfl rfl)
theorem dX20_waited_25 : decode cX20_waited 25 = .ok (.ireturn, 1) := dk_172 (dk_at dksX20_waited_1 1 rfl rfl)
abbrev cX20_ahead : ByteArray := prog_52_method_73_code
def yX20_ahead : MethodName := ⟨RX20, "ahead", "(II)Z"⟩
def dkwX20_ahead_2 : List UInt8 := [167, 0, 4, 3, 172]
abbrev dktX20_ahead_2 : List UInt8 := dkwX20_ahead_2 ++ []
def dkwX20_ahead_1 : List UInt8 := [153, 0, 25, 27, 28, 159, 0, 20, 42, 42, 180, 0, 20, 27, 28, 182, 0, 123, 153, 0, 7, 4]
abbrev dktX20_ahead_1 : List UInt8 := dkwX20_ahead_1 ++ dktX20_ahead_2
def dkwX20_ahead_0 : List UInt8 := [42, 3, 181, 0, 65, 27, 3, 16, 20, 184, 0, 195, 153, 0, 35, 28, 3, 16, 20, 184, 0, 195]
abbrev dktX20_ahead_0 : List UInt8 := dkwX20_ahead_0 ++ dktX20_ahead_1
theorem dksX20_ahead_0 : cX20_ahead.data.toList.drop 0 = dktX20_ahead_0 := by decide +kernel
theorem dksX20_ahead_1 : cX20_ahead.data.toList.drop 22 = dktX20_ahead_1 := dk_seg dksX20_ahead_0 22 rfl rfl
theorem dksX20_ahead_2 : cX20_ahead.data.toList.drop 44 = dktX20_ahead_2 := dk_seg dksX20_ahead_1 22 rfl rfl
theorem dX20_ahead_0 : decode cX20_ahead 0 = .ok (.aload_n 0, 1) := dk_42 (dk_at dksX20_ahead_0 0 rfl rfl)
theorem dX20_ahead_1 : decode cX20_ahead 1 = .ok (.iconst 0, 1) := dk_3 (dk_at dksX20_ahead_0 1 rfl rfl)
theorem dX20_ahead_2 : decode cX20_ahead 2 = .ok (.putfield 65, 3) := dk_181 0 65 (dk_at dksX20_ahead_0 2 rfl rfl)
theorem dX20_ahead_5 : decode cX20_ahead 5 = .ok (.iload_n 1, 1) := dk_27 (dk_at dksX20_ahead_0 5 rfl rfl)
theorem dX20_ahead_6 : decode cX20_ahead 6 = .ok (.iconst 0, 1) := dk_3 (dk_at dksX20_ahead_0 6 rfl rfl)
theorem dX20_ahead_7 : decode cX20_ahead 7 = .ok (.bipush 20, 2) := dk_16 20 (dk_at dksX20_ahead_0 7 rfl rfl)
theorem dX20_ahead_9 : decode cX20_ahead 9 = .ok (.invokestatic 195, 3) := dk_184 0 195 (dk_at dksX20_ahead_0 9 rfl rfl)
theorem dX20_ahead_12 : decode cX20_ahead 12 = .ok (.ifCond .eq 35, 3) := dk_153 0 35 (dk_at dksX20_ahead_0 12 rfl rfl)
theorem dX20_ahead_15 : decode cX20_ahead 15 = .ok (.iload_n 2, 1) := dk_28 (dk_at dksX20_ahead_0 15 rfl rfl)
theorem dX20_ahead_16 : decode cX20_ahead 16 = .ok (.iconst 0, 1) := dk_3 (dk_at dksX20_ahead_0 16 rfl rfl)
theorem dX20_ahead_17 : decode cX20_ahead 17 = .ok (.bipush 20, 2) := dk_16 20 (dk_at dksX20_ahead_0 17 rfl rfl)
theorem dX20_ahead_19 : decode cX20_ahead 19 = .ok (.invokestatic 195, 3) := dk_184 0 195 (dk_at dksX20_ahead_0 19 rfl rfl)
theorem dX20_ahead_22 : decode cX20_ahead 22 = .ok (.ifCond .eq 25, 3) := dk_153 0 25 (dk_at dksX20_ahead_1 0 rfl rfl)
theorem dX20_ahead_25 : decode cX20_ahead 25 = .ok (.iload_n 1, 1) := dk_27 (dk_at dksX20_ahead_1 3 rfl rfl)
theorem dX20_ahead_26 : decode cX20_ahead 26 = .ok (.iload_n 2, 1) := dk_28 (dk_at dksX20_ahead_1 4 rfl rfl)
theorem dX20_ahead_27 : decode cX20_ahead 27 = .ok (.if_icmp .eq 20, 3) := dk_159 0 20 (dk_at dksX20_ahead_1 5 rfl rfl)
theorem dX20_ahead_30 : decode cX20_ahead 30 = .ok (.aload_n 0, 1) := dk_42 (dk_at dksX20_ahead_1 8 rfl rfl)
theorem dX20_ahead_31 : decode cX20_ahead 31 = .ok (.aload_n 0, 1) := dk_42 (dk_at dksX20_ahead_1 9 rfl rfl)
theorem dX20_ahead_32 : decode cX20_ahead 32 = .ok (.getfield 20, 3) := dk_180 0 20 (dk_at dksX20_ahead_1 10 rfl rfl)
theorem dX20_ahead_35 : decode cX20_ahead 35 = .ok (.iload_n 1, 1) := dk_27 (dk_at dksX20_ahead_1 13 rfl rfl)
theorem dX20_ahead_36 : decode cX20_ahead 36 = .ok (.iload_n 2, 1) := dk_28 (dk_at dksX20_ahead_1 14 rfl rfl)
theorem dX20_ahead_37 : decode cX20_ahead 37 = .ok (.invokevirtual 123, 3) := dk_182 0 123 (dk_at dksX20_ahead_1 15 rfl rfl)
theorem dX20_ahead_40 : decode cX20_ahead 40 = .ok (.ifCond .eq 7, 3) := dk_153 0 7 (dk_at dksX20_ahead_1 18 rfl rfl)
theorem dX20_ahead_43 : decode cX20_ahead 43 = .ok (.iconst 1, 1) := dk_4 (dk_at dksX20_ahead_1 21 rfl rfl)
theorem dX20_ahead_44 : decode cX20_ahead 44 = .ok (.goto 4, 3) := dk_167 0 4 (dk_at dksX20_ahead_2 0 rfl rfl)
theorem dX20_ahead_47 : decode cX20_ahead 47 = .ok (.iconst 0, 1) := dk_3 (dk_at dksX20_ahead_2 3 rfl rfl)
theorem dX20_ahead_48 : decode cX20_ahead 48 = .ok (.ireturn, 1) := dk_172 (dk_at dksX20_ahead_2 4 rfl rfl)
abbrev cX20_splits : ByteArray := prog_52_method_74_code
def yX20_splits : MethodName := ⟨RX20, "splits", "(I)I"⟩
def dkwX20_splits_3 : List UInt8 := [61, 132, 3, 255, 167, 255, 203, 28, 172]
abbrev dktX20_splits_3 : List UInt8 := dkwX20_splits_3 ++ []
def dkwX20_splits_2 : List UInt8 := [16, 16, 46, 4, 160, 0, 7, 4, 167, 0, 4, 3, 184, 0, 119, 162, 0, 7, 4, 167, 0, 4, 3, 96]
abbrev dktX20_splits_2 : List UInt8 := dkwX20_splits_2 ++ dktX20_splits_3
def dkwX20_splits_1 : List UInt8 := [155, 0, 55, 5, 28, 104, 42, 180, 0, 20, 27, 29, 184, 0, 109, 42, 180, 0, 20, 29, 42, 180, 0, 20]
abbrev dktX20_splits_1 : List UInt8 := dkwX20_splits_1 ++ dktX20_splits_2
def dkwX20_splits_0 : List UInt8 := [42, 3, 181, 0, 65, 27, 3, 16, 20, 184, 0, 195, 154, 0, 5, 2, 172, 3, 61, 16, 7, 62, 29]
abbrev dktX20_splits_0 : List UInt8 := dkwX20_splits_0 ++ dktX20_splits_1
theorem dksX20_splits_0 : cX20_splits.data.toList.drop 0 = dktX20_splits_0 := by decide +kernel
theorem dksX20_splits_1 : cX20_splits.data.toList.drop 23 = dktX20_splits_1 := dk_seg dksX20_splits_0 23 rfl rfl
theorem dksX20_splits_2 : cX20_splits.data.toList.drop 47 = dktX20_splits_2 := dk_seg dksX20_splits_1 24 rfl rfl
theorem dksX20_splits_3 : cX20_splits.data.toList.drop 71 = dktX20_splits_3 := dk_seg dksX20_splits_2 24 rfl rfl
theorem dX20_splits_0 : decode cX20_splits 0 = .ok (.aload_n 0, 1) := dk_42 (dk_at dksX20_splits_0 0 rfl rfl)
theorem dX20_splits_1 : decode cX20_splits 1 = .ok (.iconst 0, 1) := dk_3 (dk_at dksX20_splits_0 1 rfl rfl)
theorem dX20_splits_2 : decode cX20_splits 2 = .ok (.putfield 65, 3) := dk_181 0 65 (dk_at dksX20_splits_0 2 rfl rfl)
theorem dX20_splits_5 : decode cX20_splits 5 = .ok (.iload_n 1, 1) := dk_27 (dk_at dksX20_splits_0 5 rfl rfl)
theorem dX20_splits_6 : decode cX20_splits 6 = .ok (.iconst 0, 1) := dk_3 (dk_at dksX20_splits_0 6 rfl rfl)
theorem dX20_splits_7 : decode cX20_splits 7 = .ok (.bipush 20, 2) := dk_16 20 (dk_at dksX20_splits_0 7 rfl rfl)
theorem dX20_splits_9 : decode cX20_splits 9 = .ok (.invokestatic 195, 3) := dk_184 0 195 (dk_at dksX20_splits_0 9 rfl rfl)
theorem dX20_splits_12 : decode cX20_splits 12 = .ok (.ifCond .ne 5, 3) := dk_154 0 5 (dk_at dksX20_splits_0 12 rfl rfl)
theorem dX20_splits_15 : decode cX20_splits 15 = .ok (.iconst (-1), 1) := dk_2 (dk_at dksX20_splits_0 15 rfl rfl)
theorem dX20_splits_16 : decode cX20_splits 16 = .ok (.ireturn, 1) := dk_172 (dk_at dksX20_splits_0 16 rfl rfl)
theorem dX20_splits_17 : decode cX20_splits 17 = .ok (.iconst 0, 1) := dk_3 (dk_at dksX20_splits_0 17 rfl rfl)
theorem dX20_splits_18 : decode cX20_splits 18 = .ok (.istore_n 2, 1) := dk_61 (dk_at dksX20_splits_0 18 rfl rfl)
theorem dX20_splits_19 : decode cX20_splits 19 = .ok (.bipush 7, 2) := dk_16 7 (dk_at dksX20_splits_0 19 rfl rfl)
theorem dX20_splits_21 : decode cX20_splits 21 = .ok (.istore_n 3, 1) := dk_62 (dk_at dksX20_splits_0 21 rfl rfl)
theorem dX20_splits_22 : decode cX20_splits 22 = .ok (.iload_n 3, 1) := dk_29 (dk_at dksX20_splits_0 22 rfl rfl)
theorem dX20_splits_23 : decode cX20_splits 23 = .ok (.ifCond .lt 55, 3) := dk_155 0 55 (dk_at dksX20_splits_1 0 rfl rfl)
theorem dX20_splits_26 : decode cX20_splits 26 = .ok (.iconst 2, 1) := dk_5 (dk_at dksX20_splits_1 3 rfl rfl)
theorem dX20_splits_27 : decode cX20_splits 27 = .ok (.iload_n 2, 1) := dk_28 (dk_at dksX20_splits_1 4 rfl rfl)
theorem dX20_splits_28 : decode cX20_splits 28 = .ok (.imul, 1) := dk_104 (dk_at dksX20_splits_1 5 rfl rfl)
theorem dX20_splits_29 : decode cX20_splits 29 = .ok (.aload_n 0, 1) := dk_42 (dk_at dksX20_splits_1 6 rfl rfl)
theorem dX20_splits_30 : decode cX20_splits 30 = .ok (.getfield 20, 3) := dk_180 0 20 (dk_at dksX20_splits_1 7 rfl rfl)
theorem dX20_splits_33 : decode cX20_splits 33 = .ok (.iload_n 1, 1) := dk_27 (dk_at dksX20_splits_1 10 rfl rfl)
theorem dX20_splits_34 : decode cX20_splits 34 = .ok (.iload_n 3, 1) := dk_29 (dk_at dksX20_splits_1 11 rfl rfl)
theorem dX20_splits_35 : decode cX20_splits 35 = .ok (.invokestatic 109, 3) := dk_184 0 109 (dk_at dksX20_splits_1 12 rfl rfl)
theorem dX20_splits_38 : decode cX20_splits 38 = .ok (.aload_n 0, 1) := dk_42 (dk_at dksX20_splits_1 15 rfl rfl)
theorem dX20_splits_39 : decode cX20_splits 39 = .ok (.getfield 20, 3) := dk_180 0 20 (dk_at dksX20_splits_1 16 rfl rfl)
theorem dX20_splits_42 : decode cX20_splits 42 = .ok (.iload_n 3, 1) := dk_29 (dk_at dksX20_splits_1 19 rfl rfl)
theorem dX20_splits_43 : decode cX20_splits 43 = .ok (.aload_n 0, 1) := dk_42 (dk_at dksX20_splits_1 20 rfl rfl)
theorem dX20_splits_44 : decode cX20_splits 44 = .ok (.getfield 20, 3) := dk_180 0 20 (dk_at dksX20_splits_1 21 rfl rfl)
theorem dX20_splits_47 : decode cX20_splits 47 = .ok (.bipush 16, 2) := dk_16 16 (dk_at dksX20_splits_2 0 rfl rfl)
theorem dX20_splits_49 : decode cX20_splits 49 = .ok (.iaload, 1) := dk_46 (dk_at dksX20_splits_2 2 rfl rfl)
theorem dX20_splits_50 : decode cX20_splits 50 = .ok (.iconst 1, 1) := dk_4 (dk_at dksX20_splits_2 3 rfl rfl)
theorem dX20_splits_51 : decode cX20_splits 51 = .ok (.if_icmp .ne 7, 3) := dk_160 0 7 (dk_at dksX20_splits_2 4 rfl rfl)
theorem dX20_splits_54 : decode cX20_splits 54 = .ok (.iconst 1, 1) := dk_4 (dk_at dksX20_splits_2 7 rfl rfl)
theorem dX20_splits_55 : decode cX20_splits 55 = .ok (.goto 4, 3) := dk_167 0 4 (dk_at dksX20_splits_2 8 rfl rfl)
theorem dX20_splits_58 : decode cX20_splits 58 = .ok (.iconst 0, 1) := dk_3 (dk_at dksX20_splits_2 11 rfl rfl)
theorem dX20_splits_59 : decode cX20_splits 59 = .ok (.invokestatic 119, 3) := dk_184 0 119 (dk_at dksX20_splits_2 12 rfl rfl)
theorem dX20_splits_62 : decode cX20_splits 62 = .ok (.if_icmp .ge 7, 3) := dk_162 0 7 (dk_at dksX20_splits_2 15 rfl rfl)
theorem dX20_splits_65 : decode cX20_splits 65 = .ok (.iconst 1, 1) := dk_4 (dk_at dksX20_splits_2 18 rfl rfl)
theorem dX20_splits_66 : decode cX20_splits 66 = .ok (.goto 4, 3) := dk_167 0 4 (dk_at dksX20_splits_2 19 rfl rfl)
theorem dX20_splits_69 : decode cX20_splits 69 = .ok (.iconst 0, 1) := dk_3 (dk_at dksX20_splits_2 22 rfl rfl)
theorem dX20_splits_70 : decode cX20_splits 70 = .ok (.iadd, 1) := dk_96 (dk_at dksX20_splits_2 23 rfl rfl)
theorem dX20_splits_71 : decode cX20_splits 71 = .ok (.istore_n 2, 1) := dk_61 (dk_at dksX20_splits_3 0 rfl rfl)
theorem dX20_splits_72 : decode cX20_splits 72 = .ok (.iinc 3 (-1), 3) := dk_132 3 255 (dk_at dksX20_splits_3 1 rfl rfl)
theorem dX20_splits_75 : decode cX20_splits 75 = .ok (.goto (-53), 3) := dk_167 255 203 (dk_at dksX20_splits_3 4 rfl rfl)
theorem dX20_splits_78 : decode cX20_splits 78 = .ok (.iload_n 2, 1) := dk_28 (dk_at dksX20_splits_3 7 rfl rfl)
theorem dX20_splits_79 : decode cX20_splits 79 = .ok (.ireturn, 1) := dk_172 (dk_at dksX20_splits_3 8 rfl rfl)
abbrev cX20_escalates : ByteArray := prog_52_method_75_code
def yX20_escalates : MethodName := ⟨RX20, "escalates", "(I)I"⟩
def dkwX20_escalates_2 : List UInt8 := [156, 0, 8, 16, 254, 167, 0, 4, 28, 172]
abbrev dktX20_escalates_2 : List UInt8 := dkwX20_escalates_2 ++ []
def dkwX20_escalates_1 : List UInt8 := [16, 20, 46, 8, 160, 0, 7, 2, 167, 0, 12, 42, 42, 180, 0, 20, 27, 182, 0, 139, 61, 28]
abbrev dktX20_escalates_1 : List UInt8 := dkwX20_escalates_1 ++ dktX20_escalates_2
def dkwX20_escalates_0 : List UInt8 := [42, 3, 181, 0, 65, 27, 16, 18, 159, 0, 11, 27, 16, 19, 159, 0, 5, 2, 172, 42, 180, 0, 20]
abbrev dktX20_escalates_0 : List UInt8 := dkwX20_escalates_0 ++ dktX20_escalates_1
theorem dksX20_escalates_0 : cX20_escalates.data.toList.drop 0 = dktX20_escalates_0 := by decide +kernel
theorem dksX20_escalates_1 : cX20_escalates.data.toList.drop 23 = dktX20_escalates_1 := dk_seg dksX20_escalates_0 23 rfl rfl
theorem dksX20_escalates_2 : cX20_escalates.data.toList.drop 45 = dktX20_escalates_2 := dk_seg dksX20_escalates_1 22 rfl rfl
theorem dX20_escalates_0 : decode cX20_escalates 0 = .ok (.aload_n 0, 1) := dk_42 (dk_at dksX20_escalates_0 0 rfl rfl)
theorem dX20_escalates_1 : decode cX20_escalates 1 = .ok (.iconst 0, 1) := dk_3 (dk_at dksX20_escalates_0 1 rfl rfl)
theorem dX20_escalates_2 : decode cX20_escalates 2 = .ok (.putfield 65, 3) := dk_181 0 65 (dk_at dksX20_escalates_0 2 rfl rfl)
theorem dX20_escalates_5 : decode cX20_escalates 5 = .ok (.iload_n 1, 1) := dk_27 (dk_at dksX20_escalates_0 5 rfl rfl)
theorem dX20_escalates_6 : decode cX20_escalates 6 = .ok (.bipush 18, 2) := dk_16 18 (dk_at dksX20_escalates_0 6 rfl rfl)
theorem dX20_escalates_8 : decode cX20_escalates 8 = .ok (.if_icmp .eq 11, 3) := dk_159 0 11 (dk_at dksX20_escalates_0 8 rfl rfl)
theorem dX20_escalates_11 : decode cX20_escalates 11 = .ok (.iload_n 1, 1) := dk_27 (dk_at dksX20_escalates_0 11 rfl rfl)
theorem dX20_escalates_12 : decode cX20_escalates 12 = .ok (.bipush 19, 2) := dk_16 19 (dk_at dksX20_escalates_0 12 rfl rfl)
theorem dX20_escalates_14 : decode cX20_escalates 14 = .ok (.if_icmp .eq 5, 3) := dk_159 0 5 (dk_at dksX20_escalates_0 14 rfl rfl)
theorem dX20_escalates_17 : decode cX20_escalates 17 = .ok (.iconst (-1), 1) := dk_2 (dk_at dksX20_escalates_0 17 rfl rfl)
theorem dX20_escalates_18 : decode cX20_escalates 18 = .ok (.ireturn, 1) := dk_172 (dk_at dksX20_escalates_0 18 rfl rfl)
theorem dX20_escalates_19 : decode cX20_escalates 19 = .ok (.aload_n 0, 1) := dk_42 (dk_at dksX20_escalates_0 19 rfl rfl)
theorem dX20_escalates_20 : decode cX20_escalates 20 = .ok (.getfield 20, 3) := dk_180 0 20 (dk_at dksX20_escalates_0 20 rfl rfl)
theorem dX20_escalates_23 : decode cX20_escalates 23 = .ok (.bipush 20, 2) := dk_16 20 (dk_at dksX20_escalates_1 0 rfl rfl)
theorem dX20_escalates_25 : decode cX20_escalates 25 = .ok (.iaload, 1) := dk_46 (dk_at dksX20_escalates_1 2 rfl rfl)
theorem dX20_escalates_26 : decode cX20_escalates 26 = .ok (.iconst 5, 1) := dk_8 (dk_at dksX20_escalates_1 3 rfl rfl)
theorem dX20_escalates_27 : decode cX20_escalates 27 = .ok (.if_icmp .ne 7, 3) := dk_160 0 7 (dk_at dksX20_escalates_1 4 rfl rfl)
theorem dX20_escalates_30 : decode cX20_escalates 30 = .ok (.iconst (-1), 1) := dk_2 (dk_at dksX20_escalates_1 7 rfl rfl)
theorem dX20_escalates_31 : decode cX20_escalates 31 = .ok (.goto 12, 3) := dk_167 0 12 (dk_at dksX20_escalates_1 8 rfl rfl)
theorem dX20_escalates_34 : decode cX20_escalates 34 = .ok (.aload_n 0, 1) := dk_42 (dk_at dksX20_escalates_1 11 rfl rfl)
theorem dX20_escalates_35 : decode cX20_escalates 35 = .ok (.aload_n 0, 1) := dk_42 (dk_at dksX20_escalates_1 12 rfl rfl)
theorem dX20_escalates_36 : decode cX20_escalates 36 = .ok (.getfield 20, 3) := dk_180 0 20 (dk_at dksX20_escalates_1 13 rfl rfl)
theorem dX20_escalates_39 : decode cX20_escalates 39 = .ok (.iload_n 1, 1) := dk_27 (dk_at dksX20_escalates_1 16 rfl rfl)
theorem dX20_escalates_40 : decode cX20_escalates 40 = .ok (.invokevirtual 139, 3) := dk_182 0 139 (dk_at dksX20_escalates_1 17 rfl rfl)
theorem dX20_escalates_43 : decode cX20_escalates 43 = .ok (.istore_n 2, 1) := dk_61 (dk_at dksX20_escalates_1 20 rfl rfl)
theorem dX20_escalates_44 : decode cX20_escalates 44 = .ok (.iload_n 2, 1) := dk_28 (dk_at dksX20_escalates_1 21 rfl rfl)
theorem dX20_escalates_45 : decode cX20_escalates 45 = .ok (.ifCond .ge 8, 3) := dk_156 0 8 (dk_at dksX20_escalates_2 0 rfl rfl)
theorem dX20_escalates_48 : decode cX20_escalates 48 = .ok (.bipush (-2), 2) := dk_16 254 (dk_at dksX20_escalates_2 3 rfl rfl)
theorem dX20_escalates_50 : decode cX20_escalates 50 = .ok (.goto 4, 3) := dk_167 0 4 (dk_at dksX20_escalates_2 5 rfl rfl)
theorem dX20_escalates_53 : decode cX20_escalates 53 = .ok (.iload_n 2, 1) := dk_28 (dk_at dksX20_escalates_2 8 rfl rfl)
theorem dX20_escalates_54 : decode cX20_escalates 54 = .ok (.ireturn, 1) := dk_172 (dk_at dksX20_escalates_2 9 rfl rfl)
abbrev cX20_soon : ByteArray := prog_52_method_77_code
def yX20_soon : MethodName := ⟨RX20, "soon", "(I)I"⟩
def dkwX20_soon_2 : List UInt8 := [172, 132, 2, 1, 167, 255, 228, 2, 172]
abbrev dktX20_soon_2 : List UInt8 := dkwX20_soon_2 ++ []
def dkwX20_soon_1 : List UInt8 := [28, 17, 1, 44, 163, 0, 27, 42, 42, 180, 0, 23, 182, 1, 5, 42, 180, 0, 151, 27, 160, 0, 5, 28]
abbrev dktX20_soon_1 : List UInt8 := dkwX20_soon_1 ++ dktX20_soon_2
def dkwX20_soon_0 : List UInt8 := [42, 3, 181, 0, 65, 27, 3, 16, 20, 184, 0, 195, 154, 0, 5, 2, 172, 42, 3, 182, 1, 11, 4, 61]
abbrev dktX20_soon_0 : List UInt8 := dkwX20_soon_0 ++ dktX20_soon_1
theorem dksX20_soon_0 : cX20_soon.data.toList.drop 0 = dktX20_soon_0 := by decide +kernel
theorem dksX20_soon_1 : cX20_soon.data.toList.drop 24 = dktX20_soon_1 := dk_seg dksX20_soon_0 24 rfl rfl
theorem dksX20_soon_2 : cX20_soon.data.toList.drop 48 = dktX20_soon_2 := dk_seg dksX20_soon_1 24 rfl rfl
theorem dX20_soon_0 : decode cX20_soon 0 = .ok (.aload_n 0, 1) := dk_42 (dk_at dksX20_soon_0 0 rfl rfl)
theorem dX20_soon_1 : decode cX20_soon 1 = .ok (.iconst 0, 1) := dk_3 (dk_at dksX20_soon_0 1 rfl rfl)
theorem dX20_soon_2 : decode cX20_soon 2 = .ok (.putfield 65, 3) := dk_181 0 65 (dk_at dksX20_soon_0 2 rfl rfl)
theorem dX20_soon_5 : decode cX20_soon 5 = .ok (.iload_n 1, 1) := dk_27 (dk_at dksX20_soon_0 5 rfl rfl)
theorem dX20_soon_6 : decode cX20_soon 6 = .ok (.iconst 0, 1) := dk_3 (dk_at dksX20_soon_0 6 rfl rfl)
theorem dX20_soon_7 : decode cX20_soon 7 = .ok (.bipush 20, 2) := dk_16 20 (dk_at dksX20_soon_0 7 rfl rfl)
theorem dX20_soon_9 : decode cX20_soon 9 = .ok (.invokestatic 195, 3) := dk_184 0 195 (dk_at dksX20_soon_0 9 rfl rfl)
theorem dX20_soon_12 : decode cX20_soon 12 = .ok (.ifCond .ne 5, 3) := dk_154 0 5 (dk_at dksX20_soon_0 12 rfl rfl)
theorem dX20_soon_15 : decode cX20_soon 15 = .ok (.iconst (-1), 1) := dk_2 (dk_at dksX20_soon_0 15 rfl rfl)
theorem dX20_soon_16 : decode cX20_soon 16 = .ok (.ireturn, 1) := dk_172 (dk_at dksX20_soon_0 16 rfl rfl)
theorem dX20_soon_17 : decode cX20_soon 17 = .ok (.aload_n 0, 1) := dk_42 (dk_at dksX20_soon_0 17 rfl rfl)
theorem dX20_soon_18 : decode cX20_soon 18 = .ok (.iconst 0, 1) := dk_3 (dk_at dksX20_soon_0 18 rfl rfl)
theorem dX20_soon_19 : decode cX20_soon 19 = .ok (.invokevirtual 267, 3) := dk_182 1 11 (dk_at dksX20_soon_0 19 rfl rfl)
theorem dX20_soon_22 : decode cX20_soon 22 = .ok (.iconst 1, 1) := dk_4 (dk_at dksX20_soon_0 22 rfl rfl)
theorem dX20_soon_23 : decode cX20_soon 23 = .ok (.istore_n 2, 1) := dk_61 (dk_at dksX20_soon_0 23 rfl rfl)
theorem dX20_soon_24 : decode cX20_soon 24 = .ok (.iload_n 2, 1) := dk_28 (dk_at dksX20_soon_1 0 rfl rfl)
theorem dX20_soon_25 : decode cX20_soon 25 = .ok (.sipush 300, 3) := dk_17 1 44 (dk_at dksX20_soon_1 1 rfl rfl)
theorem dX20_soon_28 : decode cX20_soon 28 = .ok (.if_icmp .gt 27, 3) := dk_163 0 27 (dk_at dksX20_soon_1 4 rfl rfl)
theorem dX20_soon_31 : decode cX20_soon 31 = .ok (.aload_n 0, 1) := dk_42 (dk_at dksX20_soon_1 7 rfl rfl)
theorem dX20_soon_32 : decode cX20_soon 32 = .ok (.aload_n 0, 1) := dk_42 (dk_at dksX20_soon_1 8 rfl rfl)
theorem dX20_soon_33 : decode cX20_soon 33 = .ok (.getfield 23, 3) := dk_180 0 23 (dk_at dksX20_soon_1 9 rfl rfl)
theorem dX20_soon_36 : decode cX20_soon 36 = .ok (.invokevirtual 261, 3) := dk_182 1 5 (dk_at dksX20_soon_1 12 rfl rfl)
theorem dX20_soon_39 : decode cX20_soon 39 = .ok (.aload_n 0, 1) := dk_42 (dk_at dksX20_soon_1 15 rfl rfl)
theorem dX20_soon_40 : decode cX20_soon 40 = .ok (.getfield 151, 3) := dk_180 0 151 (dk_at dksX20_soon_1 16 rfl rfl)
theorem dX20_soon_43 : decode cX20_soon 43 = .ok (.iload_n 1, 1) := dk_27 (dk_at dksX20_soon_1 19 rfl rfl)
theorem dX20_soon_44 : decode cX20_soon 44 = .ok (.if_icmp .ne 5, 3) := dk_160 0 5 (dk_at dksX20_soon_1 20 rfl rfl)
theorem dX20_soon_47 : decode cX20_soon 47 = .ok (.iload_n 2, 1) := dk_28 (dk_at dksX20_soon_1 23 rfl rfl)
theorem dX20_soon_48 : decode cX20_soon 48 = .ok (.ireturn, 1) := dk_172 (dk_at dksX20_soon_2 0 rfl rfl)
theorem dX20_soon_49 : decode cX20_soon 49 = .ok (.iinc 2 1, 3) := dk_132 2 1 (dk_at dksX20_soon_2 1 rfl rfl)
theorem dX20_soon_52 : decode cX20_soon 52 = .ok (.goto (-28), 3) := dk_167 255 228 (dk_at dksX20_soon_2 4 rfl rfl)
theorem dX20_soon_55 : decode cX20_soon 55 = .ok (.iconst (-1), 1) := dk_2 (dk_at dksX20_soon_2 7 rfl rfl)
theorem dX20_soon_56 : decode cX20_soon 56 = .ok (.ireturn, 1) := dk_172 (dk_at dksX20_soon_2 8 rfl rfl)
abbrev cX20_likeNow : ByteArray := prog_52_method_76_code
def yX20_likeNow : MethodName := ⟨RX20, "likeNow", "(Z)V"⟩
def dkwX20_likeNow_1 : List UInt8 := [167, 255, 234, 42, 3, 181, 0, 72, 42, 27, 181, 0, 189, 177]
abbrev dktX20_likeNow_1 : List UInt8 := dkwX20_likeNow_1 ++ []
def dkwX20_likeNow_0 : List UInt8 := [3, 61, 28, 17, 1, 86, 162, 0, 21, 42, 180, 0, 23, 28, 42, 180, 0, 20, 28, 46, 79, 132, 2, 1]
abbrev dktX20_likeNow_0 : List UInt8 := dkwX20_likeNow_0 ++ dktX20_likeNow_1
theorem dksX20_likeNow_0 : cX20_likeNow.data.toList.drop 0 = dktX20_likeNow_0 := by decide +kernel
theorem dksX20_likeNow_1 : cX20_likeNow.data.toList.drop 24 = dktX20_likeNow_1 := dk_seg dksX20_likeNow_0 24 rfl rfl
theorem dX20_likeNow_0 : decode cX20_likeNow 0 = .ok (.iconst 0, 1) := dk_3 (dk_at dksX20_likeNow_0 0 rfl rfl)
theorem dX20_likeNow_1 : decode cX20_likeNow 1 = .ok (.istore_n 2, 1) := dk_61 (dk_at dksX20_likeNow_0 1 rfl rfl)
theorem dX20_likeNow_2 : decode cX20_likeNow 2 = .ok (.iload_n 2, 1) := dk_28 (dk_at dksX20_likeNow_0 2 rfl rfl)
theorem dX20_likeNow_3 : decode cX20_likeNow 3 = .ok (.sipush 342, 3) := dk_17 1 86 (dk_at dksX20_likeNow_0 3 rfl rfl)
theorem dX20_likeNow_6 : decode cX20_likeNow 6 = .ok (.if_icmp .ge 21, 3) := dk_162 0 21 (dk_at dksX20_likeNow_0 6 rfl rfl)
theorem dX20_likeNow_9 : decode cX20_likeNow 9 = .ok (.aload_n 0, 1) := dk_42 (dk_at dksX20_likeNow_0 9 rfl rfl)
theorem dX20_likeNow_10 : decode cX20_likeNow 10 = .ok (.getfield 23, 3) := dk_180 0 23 (dk_at dksX20_likeNow_0 10 rfl rfl)
theorem dX20_likeNow_13 : decode cX20_likeNow 13 = .ok (.iload_n 2, 1) := dk_28 (dk_at dksX20_likeNow_0 13 rfl rfl)
theorem dX20_likeNow_14 : decode cX20_likeNow 14 = .ok (.aload_n 0, 1) := dk_42 (dk_at dksX20_likeNow_0 14 rfl rfl)
theorem dX20_likeNow_15 : decode cX20_likeNow 15 = .ok (.getfield 20, 3) := dk_180 0 20 (dk_at dksX20_likeNow_0 15 rfl rfl)
theorem dX20_likeNow_18 : decode cX20_likeNow 18 = .ok (.iload_n 2, 1) := dk_28 (dk_at dksX20_likeNow_0 18 rfl rfl)
theorem dX20_likeNow_19 : decode cX20_likeNow 19 = .ok (.iaload, 1) := dk_46 (dk_at dksX20_likeNow_0 19 rfl rfl)
theorem dX20_likeNow_20 : decode cX20_likeNow 20 = .ok (.iastore, 1) := dk_79 (dk_at dksX20_likeNow_0 20 rfl rfl)
theorem dX20_likeNow_21 : decode cX20_likeNow 21 = .ok (.iinc 2 1, 3) := dk_132 2 1 (dk_at dksX20_likeNow_0 21 rfl rfl)
theorem dX20_likeNow_24 : decode cX20_likeNow 24 = .ok (.goto (-22), 3) := dk_167 255 234 (dk_at dksX20_likeNow_1 0 rfl rfl)
theorem dX20_likeNow_27 : decode cX20_likeNow 27 = .ok (.aload_n 0, 1) := dk_42 (dk_at dksX20_likeNow_1 3 rfl rfl)
theorem dX20_likeNow_28 : decode cX20_likeNow 28 = .ok (.iconst 0, 1) := dk_3 (dk_at dksX20_likeNow_1 4 rfl rfl)
theorem dX20_likeNow_29 : decode cX20_likeNow 29 = .ok (.putfield 72, 3) := dk_181 0 72 (dk_at dksX20_likeNow_1 5 rfl rfl)
theorem dX20_likeNow_32 : decode cX20_likeNow 32 = .ok (.aload_n 0, 1) := dk_42 (dk_at dksX20_likeNow_1 8 rfl rfl)
theorem dX20_likeNow_33 : decode cX20_likeNow 33 = .ok (.iload_n 1, 1) := dk_27 (dk_at dksX20_likeNow_1 9 rfl rfl)
theorem dX20_likeNow_34 : decode cX20_likeNow 34 = .ok (.putfield 189, 3) := dk_181 0 189 (dk_at dksX20_likeNow_1 10 rfl rfl)
theorem dX20_likeNow_37 : decode cX20_likeNow 37 = .ok (.return_, 1) := dk_177 (dk_at dksX20_likeNow_1 13 rfl rfl)
abbrev cX20_order : ByteArray := prog_52_method_78_code
def yX20_order : MethodName := ⟨RX20, "order", "(IZ)I"⟩
def dkwX20_order_2 : List UInt8 := [29, 154, 0, 8, 42, 180, 0, 151, 172, 132, 3, 255, 132, 4, 1, 167, 255, 215, 2, 172]
abbrev dktX20_order_2 : List UInt8 := dkwX20_order_2 ++ []
def dkwX20_order_1 : List UInt8 := [17, 1, 44, 163, 0, 39, 42, 42, 180, 0, 23, 182, 1, 5, 42, 180, 0, 151, 156, 0, 6, 167, 0, 15]
abbrev dktX20_order_1 : List UInt8 := dkwX20_order_1 ++ dktX20_order_2
def dkwX20_order_0 : List UInt8 := [42, 3, 181, 0, 65, 27, 156, 0, 5, 2, 172, 42, 28, 182, 1, 11, 27, 62, 4, 54, 4, 21, 4]
abbrev dktX20_order_0 : List UInt8 := dkwX20_order_0 ++ dktX20_order_1
theorem dksX20_order_0 : cX20_order.data.toList.drop 0 = dktX20_order_0 := by decide +kernel
theorem dksX20_order_1 : cX20_order.data.toList.drop 23 = dktX20_order_1 := dk_seg dksX20_order_0 23 rfl rfl
theorem dksX20_order_2 : cX20_order.data.toList.drop 47 = dktX20_order_2 := dk_seg dksX20_order_1 24 rfl rfl
theorem dX20_order_0 : decode cX20_order 0 = .ok (.aload_n 0, 1) := dk_42 (dk_at dksX20_order_0 0 rfl rfl)
theorem dX20_order_1 : decode cX20_order 1 = .ok (.iconst 0, 1) := dk_3 (dk_at dksX20_order_0 1 rfl rfl)
theorem dX20_order_2 : decode cX20_order 2 = .ok (.putfield 65, 3) := dk_181 0 65 (dk_at dksX20_order_0 2 rfl rfl)
theorem dX20_order_5 : decode cX20_order 5 = .ok (.iload_n 1, 1) := dk_27 (dk_at dksX20_order_0 5 rfl rfl)
theorem dX20_order_6 : decode cX20_order 6 = .ok (.ifCond .ge 5, 3) := dk_156 0 5 (dk_at dksX20_order_0 6 rfl rfl)
theorem dX20_order_9 : decode cX20_order 9 = .ok (.iconst (-1), 1) := dk_2 (dk_at dksX20_order_0 9 rfl rfl)
theorem dX20_order_10 : decode cX20_order 10 = .ok (.ireturn, 1) := dk_172 (dk_at dksX20_order_0 10 rfl rfl)
theorem dX20_order_11 : decode cX20_order 11 = .ok (.aload_n 0, 1) := dk_42 (dk_at dksX20_order_0 11 rfl rfl)
theorem dX20_order_12 : decode cX20_order 12 = .ok (.iload_n 2, 1) := dk_28 (dk_at dksX20_order_0 12 rfl rfl)
theorem dX20_order_13 : decode cX20_order 13 = .ok (.invokevirtual 267, 3) := dk_182 1 11 (dk_at dksX20_order_0 13 rfl rfl)
theorem dX20_order_16 : decode cX20_order 16 = .ok (.iload_n 1, 1) := dk_27 (dk_at dksX20_order_0 16 rfl rfl)
theorem dX20_order_17 : decode cX20_order 17 = .ok (.istore_n 3, 1) := dk_62 (dk_at dksX20_order_0 17 rfl rfl)
theorem dX20_order_18 : decode cX20_order 18 = .ok (.iconst 1, 1) := dk_4 (dk_at dksX20_order_0 18 rfl rfl)
theorem dX20_order_19 : decode cX20_order 19 = .ok (.istore 4, 2) := dk_54 4 (dk_at dksX20_order_0 19 rfl rfl)
theorem dX20_order_21 : decode cX20_order 21 = .ok (.iload 4, 2) := dk_21 4 (dk_at dksX20_order_0 21 rfl rfl)
theorem dX20_order_23 : decode cX20_order 23 = .ok (.sipush 300, 3) := dk_17 1 44 (dk_at dksX20_order_1 0 rfl rfl)
theorem dX20_order_26 : decode cX20_order 26 = .ok (.if_icmp .gt 39, 3) := dk_163 0 39 (dk_at dksX20_order_1 3 rfl rfl)
theorem dX20_order_29 : decode cX20_order 29 = .ok (.aload_n 0, 1) := dk_42 (dk_at dksX20_order_1 6 rfl rfl)
theorem dX20_order_30 : decode cX20_order 30 = .ok (.aload_n 0, 1) := dk_42 (dk_at dksX20_order_1 7 rfl rfl)
theorem dX20_order_31 : decode cX20_order 31 = .ok (.getfield 23, 3) := dk_180 0 23 (dk_at dksX20_order_1 8 rfl rfl)
theorem dX20_order_34 : decode cX20_order 34 = .ok (.invokevirtual 261, 3) := dk_182 1 5 (dk_at dksX20_order_1 11 rfl rfl)
theorem dX20_order_37 : decode cX20_order 37 = .ok (.aload_n 0, 1) := dk_42 (dk_at dksX20_order_1 14 rfl rfl)
theorem dX20_order_38 : decode cX20_order 38 = .ok (.getfield 151, 3) := dk_180 0 151 (dk_at dksX20_order_1 15 rfl rfl)
theorem dX20_order_41 : decode cX20_order 41 = .ok (.ifCond .ge 6, 3) := dk_156 0 6 (dk_at dksX20_order_1 18 rfl rfl)
theorem dX20_order_44 : decode cX20_order 44 = .ok (.goto 15, 3) := dk_167 0 15 (dk_at dksX20_order_1 21 rfl rfl)
theorem dX20_order_47 : decode cX20_order 47 = .ok (.iload_n 3, 1) := dk_29 (dk_at dksX20_order_2 0 rfl rfl)
theorem dX20_order_48 : decode cX20_order 48 = .ok (.ifCond .ne 8, 3) := dk_154 0 8 (dk_at dksX20_order_2 1 rfl rfl)
theorem dX20_order_51 : decode cX20_order 51 = .ok (.aload_n 0, 1) := dk_42 (dk_at dksX20_order_2 4 rfl rfl)
theorem dX20_order_52 : decode cX20_order 52 = .ok (.getfield 151, 3) := dk_180 0 151 (dk_at dksX20_order_2 5 rfl rfl)
theorem dX20_order_55 : decode cX20_order 55 = .ok (.ireturn, 1) := dk_172 (dk_at dksX20_order_2 8 rfl rfl)
theorem dX20_order_56 : decode cX20_order 56 = .ok (.iinc 3 (-1), 3) := dk_132 3 255 (dk_at dksX20_order_2 9 rfl rfl)
theorem dX20_order_59 : decode cX20_order 59 = .ok (.iinc 4 1, 3) := dk_132 4 1 (dk_at dksX20_order_2 12 rfl rfl)
theorem dX20_order_62 : decode cX20_order 62 = .ok (.goto (-41), 3) := dk_167 255 215 (dk_at dksX20_order_2 15 rfl rfl)
theorem dX20_order_65 : decode cX20_order 65 = .ok (.iconst (-1), 1) := dk_2 (dk_at dksX20_order_2 18 rfl rfl)
theorem dX20_order_66 : decode cX20_order 66 = .ok (.ireturn, 1) := dk_172 (dk_at dksX20_order_2 19 rfl rfl)
abbrev cX20_quiet : ByteArray := prog_52_method_79_code
def yX20_quiet : MethodName := ⟨RX20, "quiet", "(Z)I"⟩
def dkwX20_quiet_2 : List UInt8 := [156, 0, 5, 28, 172, 42, 42, 180, 0, 23, 182, 1, 5, 132, 2, 1, 167, 255, 205, 2, 172]
abbrev dktX20_quiet_2 : List UInt8 := dkwX20_quiet_2 ++ []
def dkwX20_quiet_1 : List UInt8 := [16, 20, 46, 154, 0, 26, 42, 180, 0, 23, 16, 30, 46, 154, 0, 16, 42, 42, 180, 0, 23, 182, 0, 170]
abbrev dktX20_quiet_1 : List UInt8 := dkwX20_quiet_1 ++ dktX20_quiet_2
def dkwX20_quiet_0 : List UInt8 := [42, 3, 181, 0, 65, 42, 27, 182, 1, 11, 3, 61, 28, 17, 1, 44, 163, 0, 50, 42, 180, 0, 23]
abbrev dktX20_quiet_0 : List UInt8 := dkwX20_quiet_0 ++ dktX20_quiet_1
theorem dksX20_quiet_0 : cX20_quiet.data.toList.drop 0 = dktX20_quiet_0 := by decide +kernel
theorem dksX20_quiet_1 : cX20_quiet.data.toList.drop 23 = dktX20_quiet_1 := dk_seg dksX20_quiet_0 23 rfl rfl
theorem dksX20_quiet_2 : cX20_quiet.data.toList.drop 47 = dktX20_quiet_2 := dk_seg dksX20_quiet_1 24 rfl rfl
theorem dX20_quiet_0 : decode cX20_quiet 0 = .ok (.aload_n 0, 1) := dk_42 (dk_at dksX20_quiet_0 0 rfl rfl)
theorem dX20_quiet_1 : decode cX20_quiet 1 = .ok (.iconst 0, 1) := dk_3 (dk_at dksX20_quiet_0 1 rfl rfl)
theorem dX20_quiet_2 : decode cX20_quiet 2 = .ok (.putfield 65, 3) := dk_181 0 65 (dk_at dksX20_quiet_0 2 rfl rfl)
theorem dX20_quiet_5 : decode cX20_quiet 5 = .ok (.aload_n 0, 1) := dk_42 (dk_at dksX20_quiet_0 5 rfl rfl)
theorem dX20_quiet_6 : decode cX20_quiet 6 = .ok (.iload_n 1, 1) := dk_27 (dk_at dksX20_quiet_0 6 rfl rfl)
theorem dX20_quiet_7 : decode cX20_quiet 7 = .ok (.invokevirtual 267, 3) := dk_182 1 11 (dk_at dksX20_quiet_0 7 rfl rfl)
theorem dX20_quiet_10 : decode cX20_quiet 10 = .ok (.iconst 0, 1) := dk_3 (dk_at dksX20_quiet_0 10 rfl rfl)
theorem dX20_quiet_11 : decode cX20_quiet 11 = .ok (.istore_n 2, 1) := dk_61 (dk_at dksX20_quiet_0 11 rfl rfl)
theorem dX20_quiet_12 : decode cX20_quiet 12 = .ok (.iload_n 2, 1) := dk_28 (dk_at dksX20_quiet_0 12 rfl rfl)
theorem dX20_quiet_13 : decode cX20_quiet 13 = .ok (.sipush 300, 3) := dk_17 1 44 (dk_at dksX20_quiet_0 13 rfl rfl)
theorem dX20_quiet_16 : decode cX20_quiet 16 = .ok (.if_icmp .gt 50, 3) := dk_163 0 50 (dk_at dksX20_quiet_0 16 rfl rfl)
theorem dX20_quiet_19 : decode cX20_quiet 19 = .ok (.aload_n 0, 1) := dk_42 (dk_at dksX20_quiet_0 19 rfl rfl)
theorem dX20_quiet_20 : decode cX20_quiet 20 = .ok (.getfield 23, 3) := dk_180 0 23 (dk_at dksX20_quiet_0 20 rfl rfl)
theorem dX20_quiet_23 : decode cX20_quiet 23 = .ok (.bipush 20, 2) := dk_16 20 (dk_at dksX20_quiet_1 0 rfl rfl)
theorem dX20_quiet_25 : decode cX20_quiet 25 = .ok (.iaload, 1) := dk_46 (dk_at dksX20_quiet_1 2 rfl rfl)
theorem dX20_quiet_26 : decode cX20_quiet 26 = .ok (.ifCond .ne 26, 3) := dk_154 0 26 (dk_at dksX20_quiet_1 3 rfl rfl)
theorem dX20_quiet_29 : decode cX20_quiet 29 = .ok (.aload_n 0, 1) := dk_42 (dk_at dksX20_quiet_1 6 rfl rfl)
theorem dX20_quiet_30 : decode cX20_quiet 30 = .ok (.getfield 23, 3) := dk_180 0 23 (dk_at dksX20_quiet_1 7 rfl rfl)
theorem dX20_quiet_33 : decode cX20_quiet 33 = .ok (.bipush 30, 2) := dk_16 30 (dk_at dksX20_quiet_1 10 rfl rfl)
theorem dX20_quiet_35 : decode cX20_quiet 35 = .ok (.iaload, 1) := dk_46 (dk_at dksX20_quiet_1 12 rfl rfl)
theorem dX20_quiet_36 : decode cX20_quiet 36 = .ok (.ifCond .ne 16, 3) := dk_154 0 16 (dk_at dksX20_quiet_1 13 rfl rfl)
theorem dX20_quiet_39 : decode cX20_quiet 39 = .ok (.aload_n 0, 1) := dk_42 (dk_at dksX20_quiet_1 16 rfl rfl)
theorem dX20_quiet_40 : decode cX20_quiet 40 = .ok (.aload_n 0, 1) := dk_42 (dk_at dksX20_quiet_1 17 rfl rfl)
theorem dX20_quiet_41 : decode cX20_quiet 41 = .ok (.getfield 23, 3) := dk_180 0 23 (dk_at dksX20_quiet_1 18 rfl rfl)
theorem dX20_quiet_44 : decode cX20_quiet 44 = .ok (.invokevirtual 170, 3) := dk_182 0 170 (dk_at dksX20_quiet_1 21 rfl rfl)
theorem dX20_quiet_47 : decode cX20_quiet 47 = .ok (.ifCond .ge 5, 3) := dk_156 0 5 (dk_at dksX20_quiet_2 0 rfl rfl)
theorem dX20_quiet_50 : decode cX20_quiet 50 = .ok (.iload_n 2, 1) := dk_28 (dk_at dksX20_quiet_2 3 rfl rfl)
theorem dX20_quiet_51 : decode cX20_quiet 51 = .ok (.ireturn, 1) := dk_172 (dk_at dksX20_quiet_2 4 rfl rfl)
theorem dX20_quiet_52 : decode cX20_quiet 52 = .ok (.aload_n 0, 1) := dk_42 (dk_at dksX20_quiet_2 5 rfl rfl)
theorem dX20_quiet_53 : decode cX20_quiet 53 = .ok (.aload_n 0, 1) := dk_42 (dk_at dksX20_quiet_2 6 rfl rfl)
theorem dX20_quiet_54 : decode cX20_quiet 54 = .ok (.getfield 23, 3) := dk_180 0 23 (dk_at dksX20_quiet_2 7 rfl rfl)
theorem dX20_quiet_57 : decode cX20_quiet 57 = .ok (.invokevirtual 261, 3) := dk_182 1 5 (dk_at dksX20_quiet_2 10 rfl rfl)
theorem dX20_quiet_60 : decode cX20_quiet 60 = .ok (.iinc 2 1, 3) := dk_132 2 1 (dk_at dksX20_quiet_2 13 rfl rfl)
theorem dX20_quiet_63 : decode cX20_quiet 63 = .ok (.goto (-51), 3) := dk_167 255 205 (dk_at dksX20_quiet_2 16 rfl rfl)
theorem dX20_quiet_66 : decode cX20_quiet 66 = .ok (.iconst (-1), 1) := dk_2 (dk_at dksX20_quiet_2 19 rfl rfl)
theorem dX20_quiet_67 : decode cX20_quiet 67 = .ok (.ireturn, 1) := dk_172 (dk_at dksX20_quiet_2 20 rfl rfl)
abbrev cX20_window : ByteArray := prog_52_method_80_code
def yX20_window : MethodName := ⟨RX20, "window", "(I)I"⟩
def dkwX20_window_5 : List UInt8 := [167, 255, 160, 28, 172]
abbrev dktX20_window_5 : List UInt8 := dkwX20_window_5 ++ []
def dkwX20_window_4 : List UInt8 := [132, 4, 1, 167, 255, 231, 42, 180, 0, 151, 27, 160, 0, 9, 28, 4, 29, 120, 128, 61, 132, 3, 1]
abbrev dktX20_window_4 : List UInt8 := dkwX20_window_4 ++ dktX20_window_5
def dkwX20_window_3 : List UInt8 := [54, 4, 21, 4, 16, 40, 162, 0, 24, 42, 180, 0, 151, 156, 0, 17, 42, 42, 180, 0, 23, 182, 1, 5]
abbrev dktX20_window_3 : List UInt8 := dkwX20_window_3 ++ dktX20_window_4
def dkwX20_window_2 : List UInt8 := [182, 1, 5, 132, 4, 1, 167, 255, 239, 42, 42, 180, 0, 23, 27, 182, 0, 143, 42, 2, 181, 0, 151, 3]
abbrev dktX20_window_2 : List UInt8 := dkwX20_window_2 ++ dktX20_window_3
def dkwX20_window_1 : List UInt8 := [162, 0, 96, 42, 3, 182, 1, 11, 3, 54, 4, 21, 4, 29, 162, 0, 17, 42, 42, 180, 0, 23]
abbrev dktX20_window_1 : List UInt8 := dkwX20_window_1 ++ dktX20_window_2
def dkwX20_window_0 : List UInt8 := [42, 3, 181, 0, 65, 27, 3, 16, 17, 184, 0, 195, 154, 0, 5, 2, 172, 3, 61, 3, 62, 29, 16, 20]
abbrev dktX20_window_0 : List UInt8 := dkwX20_window_0 ++ dktX20_window_1
theorem dksX20_window_0 : cX20_window.data.toList.drop 0 = dktX20_window_0 := by decide +kernel
theorem dksX20_window_1 : cX20_window.data.toList.drop 24 = dktX20_window_1 := dk_seg dksX20_window_0 24 rfl rfl
theorem dksX20_window_2 : cX20_window.data.toList.drop 46 = dktX20_window_2 := dk_seg dksX20_window_1 22 rfl rfl
theorem dksX20_window_3 : cX20_window.data.toList.drop 70 = dktX20_window_3 := dk_seg dksX20_window_2 24 rfl rfl
theorem dksX20_window_4 : cX20_window.data.toList.drop 94 = dktX20_window_4 := dk_seg dksX20_window_3 24 rfl rfl
theorem dksX20_window_5 : cX20_window.data.toList.drop 117 = dktX20_window_5 := dk_seg dksX20_window_4 23 rfl rfl
theorem dX20_window_0 : decode cX20_window 0 = .ok (.aload_n 0, 1) := dk_42 (dk_at dksX20_window_0 0 rfl rfl)
theorem dX20_window_1 : decode cX20_window 1 = .ok (.iconst 0, 1) := dk_3 (dk_at dksX20_window_0 1 rfl rfl)
theorem dX20_window_2 : decode cX20_window 2 = .ok (.putfield 65, 3) := dk_181 0 65 (dk_at dksX20_window_0 2 rfl rfl)
theorem dX20_window_5 : decode cX20_window 5 = .ok (.iload_n 1, 1) := dk_27 (dk_at dksX20_window_0 5 rfl rfl)
theorem dX20_window_6 : decode cX20_window 6 = .ok (.iconst 0, 1) := dk_3 (dk_at dksX20_window_0 6 rfl rfl)
theorem dX20_window_7 : decode cX20_window 7 = .ok (.bipush 17, 2) := dk_16 17 (dk_at dksX20_window_0 7 rfl rfl)
theorem dX20_window_9 : decode cX20_window 9 = .ok (.invokestatic 195, 3) := dk_184 0 195 (dk_at dksX20_window_0 9 rfl rfl)
theorem dX20_window_12 : decode cX20_window 12 = .ok (.ifCond .ne 5, 3) := dk_154 0 5 (dk_at dksX20_window_0 12 rfl rfl)
theorem dX20_window_15 : decode cX20_window 15 = .ok (.iconst (-1), 1) := dk_2 (dk_at dksX20_window_0 15 rfl rfl)
theorem dX20_window_16 : decode cX20_window 16 = .ok (.ireturn, 1) := dk_172 (dk_at dksX20_window_0 16 rfl rfl)
theorem dX20_window_17 : decode cX20_window 17 = .ok (.iconst 0, 1) := dk_3 (dk_at dksX20_window_0 17 rfl rfl)
theorem dX20_window_18 : decode cX20_window 18 = .ok (.istore_n 2, 1) := dk_61 (dk_at dksX20_window_0 18 rfl rfl)
theorem dX20_window_19 : decode cX20_window 19 = .ok (.iconst 0, 1) := dk_3 (dk_at dksX20_window_0 19 rfl rfl)
theorem dX20_window_20 : decode cX20_window 20 = .ok (.istore_n 3, 1) := dk_62 (dk_at dksX20_window_0 20 rfl rfl)
theorem dX20_window_21 : decode cX20_window 21 = .ok (.iload_n 3, 1) := dk_29 (dk_at dksX20_window_0 21 rfl rfl)
theorem dX20_window_22 : decode cX20_window 22 = .ok (.bipush 20, 2) := dk_16 20 (dk_at dksX20_window_0 22 rfl rfl)
theorem dX20_window_24 : decode cX20_window 24 = .ok (.if_icmp .ge 96, 3) := dk_162 0 96 (dk_at dksX20_window_1 0 rfl rfl)
theorem dX20_window_27 : decode cX20_window 27 = .ok (.aload_n 0, 1) := dk_42 (dk_at dksX20_window_1 3 rfl rfl)
theorem dX20_window_28 : decode cX20_window 28 = .ok (.iconst 0, 1) := dk_3 (dk_at dksX20_window_1 4 rfl rfl)
theorem dX20_window_29 : decode cX20_window 29 = .ok (.invokevirtual 267, 3) := dk_182 1 11 (dk_at dksX20_window_1 5 rfl rfl)
theorem dX20_window_32 : decode cX20_window 32 = .ok (.iconst 0, 1) := dk_3 (dk_at dksX20_window_1 8 rfl rfl)
theorem dX20_window_33 : decode cX20_window 33 = .ok (.istore 4, 2) := dk_54 4 (dk_at dksX20_window_1 9 rfl rfl)
theorem dX20_window_35 : decode cX20_window 35 = .ok (.iload 4, 2) := dk_21 4 (dk_at dksX20_window_1 11 rfl rfl)
theorem dX20_window_37 : decode cX20_window 37 = .ok (.iload_n 3, 1) := dk_29 (dk_at dksX20_window_1 13 rfl rfl)
theorem dX20_window_38 : decode cX20_window 38 = .ok (.if_icmp .ge 17, 3) := dk_162 0 17 (dk_at dksX20_window_1 14 rfl rfl)
theorem dX20_window_41 : decode cX20_window 41 = .ok (.aload_n 0, 1) := dk_42 (dk_at dksX20_window_1 17 rfl rfl)
theorem dX20_window_42 : decode cX20_window 42 = .ok (.aload_n 0, 1) := dk_42 (dk_at dksX20_window_1 18 rfl rfl)
theorem dX20_window_43 : decode cX20_window 43 = .ok (.getfield 23, 3) := dk_180 0 23 (dk_at dksX20_window_1 19 rfl rfl)
theorem dX20_window_46 : decode cX20_window 46 = .ok (.invokevirtual 261, 3) := dk_182 1 5 (dk_at dksX20_window_2 0 rfl rfl)
theorem dX20_window_49 : decode cX20_window 49 = .ok (.iinc 4 1, 3) := dk_132 4 1 (dk_at dksX20_window_2 3 rfl rfl)
theorem dX20_window_52 : decode cX20_window 52 = .ok (.goto (-17), 3) := dk_167 255 239 (dk_at dksX20_window_2 6 rfl rfl)
theorem dX20_window_55 : decode cX20_window 55 = .ok (.aload_n 0, 1) := dk_42 (dk_at dksX20_window_2 9 rfl rfl)
theorem dX20_window_56 : decode cX20_window 56 = .ok (.aload_n 0, 1) := dk_42 (dk_at dksX20_window_2 10 rfl rfl)
theorem dX20_window_57 : decode cX20_window 57 = .ok (.getfield 23, 3) := dk_180 0 23 (dk_at dksX20_window_2 11 rfl rfl)
theorem dX20_window_60 : decode cX20_window 60 = .ok (.iload_n 1, 1) := dk_27 (dk_at dksX20_window_2 14 rfl rfl)
theorem dX20_window_61 : decode cX20_window 61 = .ok (.invokevirtual 143, 3) := dk_182 0 143 (dk_at dksX20_window_2 15 rfl rfl)
theorem dX20_window_64 : decode cX20_window 64 = .ok (.aload_n 0, 1) := dk_42 (dk_at dksX20_window_2 18 rfl rfl)
theorem dX20_window_65 : decode cX20_window 65 = .ok (.iconst (-1), 1) := dk_2 (dk_at dksX20_window_2 19 rfl rfl)
theorem dX20_window_66 : decode cX20_window 66 = .ok (.putfield 151, 3) := dk_181 0 151 (dk_at dksX20_window_2 20 rfl rfl)
theorem dX20_window_69 : decode cX20_window 69 = .ok (.iconst 0, 1) := dk_3 (dk_at dksX20_window_2 23 rfl rfl)
theorem dX20_window_70 : decode cX20_window 70 = .ok (.istore 4, 2) := dk_54 4 (dk_at dksX20_window_3 0 rfl rfl)
theorem dX20_window_72 : decode cX20_window 72 = .ok (.iload 4, 2) := dk_21 4 (dk_at dksX20_window_3 2 rfl rfl)
theorem dX20_window_74 : decode cX20_window 74 = .ok (.bipush 40, 2) := dk_16 40 (dk_at dksX20_window_3 4 rfl rfl)
theorem dX20_window_76 : decode cX20_window 76 = .ok (.if_icmp .ge 24, 3) := dk_162 0 24 (dk_at dksX20_window_3 6 rfl rfl)
theorem dX20_window_79 : decode cX20_window 79 = .ok (.aload_n 0, 1) := dk_42 (dk_at dksX20_window_3 9 rfl rfl)
theorem dX20_window_80 : decode cX20_window 80 = .ok (.getfield 151, 3) := dk_180 0 151 (dk_at dksX20_window_3 10 rfl rfl)
theorem dX20_window_83 : decode cX20_window 83 = .ok (.ifCond .ge 17, 3) := dk_156 0 17 (dk_at dksX20_window_3 13 rfl rfl)
theorem dX20_window_86 : decode cX20_window 86 = .ok (.aload_n 0, 1) := dk_42 (dk_at dksX20_window_3 16 rfl rfl)
theorem dX20_window_87 : decode cX20_window 87 = .ok (.aload_n 0, 1) := dk_42 (dk_at dksX20_window_3 17 rfl rfl)
theorem dX20_window_88 : decode cX20_window 88 = .ok (.getfield 23, 3) := dk_180 0 23 (dk_at dksX20_window_3 18 rfl rfl)
theorem dX20_window_91 : decode cX20_window 91 = .ok (.invokevirtual 261, 3) := dk_182 1 5 (dk_at dksX20_window_3 21 rfl rfl)
theorem dX20_window_94 : decode cX20_window 94 = .ok (.iinc 4 1, 3) := dk_132 4 1 (dk_at dksX20_window_4 0 rfl rfl)
theorem dX20_window_97 : decode cX20_window 97 = .ok (.goto (-25), 3) := dk_167 255 231 (dk_at dksX20_window_4 3 rfl rfl)
theorem dX20_window_100 : decode cX20_window 100 = .ok (.aload_n 0, 1) := dk_42 (dk_at dksX20_window_4 6 rfl rfl)
theorem dX20_window_101 : decode cX20_window 101 = .ok (.getfield 151, 3) := dk_180 0 151 (dk_at dksX20_window_4 7 rfl rfl)
theorem dX20_window_104 : decode cX20_window 104 = .ok (.iload_n 1, 1) := dk_27 (dk_at dksX20_window_4 10 rfl rfl)
theorem dX20_window_105 : decode cX20_window 105 = .ok (.if_icmp .ne 9, 3) := dk_160 0 9 (dk_at dksX20_window_4 11 rfl rfl)
theorem dX20_window_108 : decode cX20_window 108 = .ok (.iload_n 2, 1) := dk_28 (dk_at dksX20_window_4 14 rfl rfl)
theorem dX20_window_109 : decode cX20_window 109 = .ok (.iconst 1, 1) := dk_4 (dk_at dksX20_window_4 15 rfl rfl)
theorem dX20_window_110 : decode cX20_window 110 = .ok (.iload_n 3, 1) := dk_29 (dk_at dksX20_window_4 16 rfl rfl)
theorem dX20_window_111 : decode cX20_window 111 = .ok (.ishl, 1) := dk_120 (dk_at dksX20_window_4 17 rfl rfl)
theorem dX20_window_112 : decode cX20_window 112 = .ok (.ior, 1) := dk_128 (dk_at dksX20_window_4 18 rfl rfl)
theorem dX20_window_113 : decode cX20_window 113 = .ok (.istore_n 2, 1) := dk_61 (dk_at dksX20_window_4 19 rfl rfl)
theorem dX20_window_114 : decode cX20_window 114 = .ok (.iinc 3 1, 3) := dk_132 3 1 (dk_at dksX20_window_4 20 rfl rfl)
theorem dX20_window_117 : decode cX20_window 117 = .ok (.goto (-96), 3) := dk_167 255 160 (dk_at dksX20_window_5 0 rfl rfl)
theorem dX20_window_120 : decode cX20_window 120 = .ok (.iload_n 2, 1) := dk_28 (dk_at dksX20_window_5 3 rfl rfl)
theorem dX20_window_121 : decode cX20_window 121 = .ok (.ireturn, 1) := dk_172 (dk_at dksX20_window_5 4 rfl rfl)
abbrev cX20_keeps : ByteArray := prog_52_method_81_code
def yX20_keeps : MethodName := ⟨RX20, "keeps", "()I"⟩
def dkwX20_keeps_5 : List UInt8 := [153, 0, 7, 4, 167, 0, 4, 3, 172, 132, 2, 1, 167, 255, 175, 2, 172]
abbrev dktX20_keeps_5 : List UInt8 := dkwX20_keeps_5 ++ []
def dkwX20_keeps_4 : List UInt8 := [180, 0, 20, 16, 30, 46, 160, 0, 26, 42, 180, 0, 23, 16, 20, 46, 154, 0, 16, 42, 182, 1, 15]
abbrev dktX20_keeps_4 : List UInt8 := dkwX20_keeps_4 ++ dktX20_keeps_5
def dkwX20_keeps_3 : List UInt8 := [180, 0, 20, 16, 30, 46, 164, 0, 5, 4, 60, 27, 153, 0, 43, 42, 180, 0, 23, 16, 30, 46, 42]
abbrev dktX20_keeps_3 : List UInt8 := dkwX20_keeps_3 ++ dktX20_keeps_4
def dkwX20_keeps_2 : List UInt8 := [61, 28, 17, 1, 44, 162, 0, 80, 42, 42, 180, 0, 23, 182, 1, 5, 42, 180, 0, 23, 16, 30, 46, 42]
abbrev dktX20_keeps_2 : List UInt8 := dkwX20_keeps_2 ++ dktX20_keeps_3
def dkwX20_keeps_1 : List UInt8 := [154, 0, 14, 42, 42, 180, 0, 20, 182, 0, 170, 156, 0, 5, 2, 172, 42, 3, 182, 1, 11, 3, 60, 3]
abbrev dktX20_keeps_1 : List UInt8 := dkwX20_keeps_1 ++ dktX20_keeps_2
def dkwX20_keeps_0 : List UInt8 := [42, 3, 181, 0, 65, 42, 180, 0, 20, 16, 20, 46, 154, 0, 24, 42, 180, 0, 20, 16, 22, 46]
abbrev dktX20_keeps_0 : List UInt8 := dkwX20_keeps_0 ++ dktX20_keeps_1
theorem dksX20_keeps_0 : cX20_keeps.data.toList.drop 0 = dktX20_keeps_0 := by decide +kernel
theorem dksX20_keeps_1 : cX20_keeps.data.toList.drop 22 = dktX20_keeps_1 := dk_seg dksX20_keeps_0 22 rfl rfl
theorem dksX20_keeps_2 : cX20_keeps.data.toList.drop 46 = dktX20_keeps_2 := dk_seg dksX20_keeps_1 24 rfl rfl
theorem dksX20_keeps_3 : cX20_keeps.data.toList.drop 70 = dktX20_keeps_3 := dk_seg dksX20_keeps_2 24 rfl rfl
theorem dksX20_keeps_4 : cX20_keeps.data.toList.drop 93 = dktX20_keeps_4 := dk_seg dksX20_keeps_3 23 rfl rfl
theorem dksX20_keeps_5 : cX20_keeps.data.toList.drop 116 = dktX20_keeps_5 := dk_seg dksX20_keeps_4 23 rfl rfl
theorem dX20_keeps_0 : decode cX20_keeps 0 = .ok (.aload_n 0, 1) := dk_42 (dk_at dksX20_keeps_0 0 rfl rfl)
theorem dX20_keeps_1 : decode cX20_keeps 1 = .ok (.iconst 0, 1) := dk_3 (dk_at dksX20_keeps_0 1 rfl rfl)
theorem dX20_keeps_2 : decode cX20_keeps 2 = .ok (.putfield 65, 3) := dk_181 0 65 (dk_at dksX20_keeps_0 2 rfl rfl)
theorem dX20_keeps_5 : decode cX20_keeps 5 = .ok (.aload_n 0, 1) := dk_42 (dk_at dksX20_keeps_0 5 rfl rfl)
theorem dX20_keeps_6 : decode cX20_keeps 6 = .ok (.getfield 20, 3) := dk_180 0 20 (dk_at dksX20_keeps_0 6 rfl rfl)
theorem dX20_keeps_9 : decode cX20_keeps 9 = .ok (.bipush 20, 2) := dk_16 20 (dk_at dksX20_keeps_0 9 rfl rfl)
theorem dX20_keeps_11 : decode cX20_keeps 11 = .ok (.iaload, 1) := dk_46 (dk_at dksX20_keeps_0 11 rfl rfl)
theorem dX20_keeps_12 : decode cX20_keeps 12 = .ok (.ifCond .ne 24, 3) := dk_154 0 24 (dk_at dksX20_keeps_0 12 rfl rfl)
theorem dX20_keeps_15 : decode cX20_keeps 15 = .ok (.aload_n 0, 1) := dk_42 (dk_at dksX20_keeps_0 15 rfl rfl)
theorem dX20_keeps_16 : decode cX20_keeps 16 = .ok (.getfield 20, 3) := dk_180 0 20 (dk_at dksX20_keeps_0 16 rfl rfl)
theorem dX20_keeps_19 : decode cX20_keeps 19 = .ok (.bipush 22, 2) := dk_16 22 (dk_at dksX20_keeps_0 19 rfl rfl)
theorem dX20_keeps_21 : decode cX20_keeps 21 = .ok (.iaload, 1) := dk_46 (dk_at dksX20_keeps_0 21 rfl rfl)
theorem dX20_keeps_22 : decode cX20_keeps 22 = .ok (.ifCond .ne 14, 3) := dk_154 0 14 (dk_at dksX20_keeps_1 0 rfl rfl)
theorem dX20_keeps_25 : decode cX20_keeps 25 = .ok (.aload_n 0, 1) := dk_42 (dk_at dksX20_keeps_1 3 rfl rfl)
theorem dX20_keeps_26 : decode cX20_keeps 26 = .ok (.aload_n 0, 1) := dk_42 (dk_at dksX20_keeps_1 4 rfl rfl)
theorem dX20_keeps_27 : decode cX20_keeps 27 = .ok (.getfield 20, 3) := dk_180 0 20 (dk_at dksX20_keeps_1 5 rfl rfl)
theorem dX20_keeps_30 : decode cX20_keeps 30 = .ok (.invokevirtual 170, 3) := dk_182 0 170 (dk_at dksX20_keeps_1 8 rfl rfl)
theorem dX20_keeps_33 : decode cX20_keeps 33 = .ok (.ifCond .ge 5, 3) := dk_156 0 5 (dk_at dksX20_keeps_1 11 rfl rfl)
theorem dX20_keeps_36 : decode cX20_keeps 36 = .ok (.iconst (-1), 1) := dk_2 (dk_at dksX20_keeps_1 14 rfl rfl)
theorem dX20_keeps_37 : decode cX20_keeps 37 = .ok (.ireturn, 1) := dk_172 (dk_at dksX20_keeps_1 15 rfl rfl)
theorem dX20_keeps_38 : decode cX20_keeps 38 = .ok (.aload_n 0, 1) := dk_42 (dk_at dksX20_keeps_1 16 rfl rfl)
theorem dX20_keeps_39 : decode cX20_keeps 39 = .ok (.iconst 0, 1) := dk_3 (dk_at dksX20_keeps_1 17 rfl rfl)
theorem dX20_keeps_40 : decode cX20_keeps 40 = .ok (.invokevirtual 267, 3) := dk_182 1 11 (dk_at dksX20_keeps_1 18 rfl rfl)
theorem dX20_keeps_43 : decode cX20_keeps 43 = .ok (.iconst 0, 1) := dk_3 (dk_at dksX20_keeps_1 21 rfl rfl)
theorem dX20_keeps_44 : decode cX20_keeps 44 = .ok (.istore_n 1, 1) := dk_60 (dk_at dksX20_keeps_1 22 rfl rfl)
theorem dX20_keeps_45 : decode cX20_keeps 45 = .ok (.iconst 0, 1) := dk_3 (dk_at dksX20_keeps_1 23 rfl rfl)
theorem dX20_keeps_46 : decode cX20_keeps 46 = .ok (.istore_n 2, 1) := dk_61 (dk_at dksX20_keeps_2 0 rfl rfl)
theorem dX20_keeps_47 : decode cX20_keeps 47 = .ok (.iload_n 2, 1) := dk_28 (dk_at dksX20_keeps_2 1 rfl rfl)
theorem dX20_keeps_48 : decode cX20_keeps 48 = .ok (.sipush 300, 3) := dk_17 1 44 (dk_at dksX20_keeps_2 2 rfl rfl)
theorem dX20_keeps_51 : decode cX20_keeps 51 = .ok (.if_icmp .ge 80, 3) := dk_162 0 80 (dk_at dksX20_keeps_2 5 rfl rfl)
theorem dX20_keeps_54 : decode cX20_keeps 54 = .ok (.aload_n 0, 1) := dk_42 (dk_at dksX20_keeps_2 8 rfl rfl)
theorem dX20_keeps_55 : decode cX20_keeps 55 = .ok (.aload_n 0, 1) := dk_42 (dk_at dksX20_keeps_2 9 rfl rfl)
theorem dX20_keeps_56 : decode cX20_keeps 56 = .ok (.getfield 23, 3) := dk_180 0 23 (dk_at dksX20_keeps_2 10 rfl rfl)
theorem dX20_keeps_59 : decode cX20_keeps 59 = .ok (.invokevirtual 261, 3) := dk_182 1 5 (dk_at dksX20_keeps_2 13 rfl rfl)
theorem dX20_keeps_62 : decode cX20_keeps 62 = .ok (.aload_n 0, 1) := dk_42 (dk_at dksX20_keeps_2 16 rfl rfl)
theorem dX20_keeps_63 : decode cX20_keeps 63 = .ok (.getfield 23, 3) := dk_180 0 23 (dk_at dksX20_keeps_2 17 rfl rfl)
theorem dX20_keeps_66 : decode cX20_keeps 66 = .ok (.bipush 30, 2) := dk_16 30 (dk_at dksX20_keeps_2 20 rfl rfl)
theorem dX20_keeps_68 : decode cX20_keeps 68 = .ok (.iaload, 1) := dk_46 (dk_at dksX20_keeps_2 22 rfl rfl)
theorem dX20_keeps_69 : decode cX20_keeps 69 = .ok (.aload_n 0, 1) := dk_42 (dk_at dksX20_keeps_2 23 rfl rfl)
theorem dX20_keeps_70 : decode cX20_keeps 70 = .ok (.getfield 20, 3) := dk_180 0 20 (dk_at dksX20_keeps_3 0 rfl rfl)
theorem dX20_keeps_73 : decode cX20_keeps 73 = .ok (.bipush 30, 2) := dk_16 30 (dk_at dksX20_keeps_3 3 rfl rfl)
theorem dX20_keeps_75 : decode cX20_keeps 75 = .ok (.iaload, 1) := dk_46 (dk_at dksX20_keeps_3 5 rfl rfl)
theorem dX20_keeps_76 : decode cX20_keeps 76 = .ok (.if_icmp .le 5, 3) := dk_164 0 5 (dk_at dksX20_keeps_3 6 rfl rfl)
theorem dX20_keeps_79 : decode cX20_keeps 79 = .ok (.iconst 1, 1) := dk_4 (dk_at dksX20_keeps_3 9 rfl rfl)
theorem dX20_keeps_80 : decode cX20_keeps 80 = .ok (.istore_n 1, 1) := dk_60 (dk_at dksX20_keeps_3 10 rfl rfl)
theorem dX20_keeps_81 : decode cX20_keeps 81 = .ok (.iload_n 1, 1) := dk_27 (dk_at dksX20_keeps_3 11 rfl rfl)
theorem dX20_keeps_82 : decode cX20_keeps 82 = .ok (.ifCond .eq 43, 3) := dk_153 0 43 (dk_at dksX20_keeps_3 12 rfl rfl)
theorem dX20_keeps_85 : decode cX20_keeps 85 = .ok (.aload_n 0, 1) := dk_42 (dk_at dksX20_keeps_3 15 rfl rfl)
theorem dX20_keeps_86 : decode cX20_keeps 86 = .ok (.getfield 23, 3) := dk_180 0 23 (dk_at dksX20_keeps_3 16 rfl rfl)
theorem dX20_keeps_89 : decode cX20_keeps 89 = .ok (.bipush 30, 2) := dk_16 30 (dk_at dksX20_keeps_3 19 rfl rfl)
theorem dX20_keeps_91 : decode cX20_keeps 91 = .ok (.iaload, 1) := dk_46 (dk_at dksX20_keeps_3 21 rfl rfl)
theorem dX20_keeps_92 : decode cX20_keeps 92 = .ok (.aload_n 0, 1) := dk_42 (dk_at dksX20_keeps_3 22 rfl rfl)
theorem dX20_keeps_93 : decode cX20_keeps 93 = .ok (.getfield 20, 3) := dk_180 0 20 (dk_at dksX20_keeps_4 0 rfl rfl)
theorem dX20_keeps_96 : decode cX20_keeps 96 = .ok (.bipush 30, 2) := dk_16 30 (dk_at dksX20_keeps_4 3 rfl rfl)
theorem dX20_keeps_98 : decode cX20_keeps 98 = .ok (.iaload, 1) := dk_46 (dk_at dksX20_keeps_4 5 rfl rfl)
theorem dX20_keeps_99 : decode cX20_keeps 99 = .ok (.if_icmp .ne 26, 3) := dk_160 0 26 (dk_at dksX20_keeps_4 6 rfl rfl)
theorem dX20_keeps_102 : decode cX20_keeps 102 = .ok (.aload_n 0, 1) := dk_42 (dk_at dksX20_keeps_4 9 rfl rfl)
theorem dX20_keeps_103 : decode cX20_keeps 103 = .ok (.getfield 23, 3) := dk_180 0 23 (dk_at dksX20_keeps_4 10 rfl rfl)
theorem dX20_keeps_106 : decode cX20_keeps 106 = .ok (.bipush 20, 2) := dk_16 20 (dk_at dksX20_keeps_4 13 rfl rfl)
theorem dX20_keeps_108 : decode cX20_keeps 108 = .ok (.iaload, 1) := dk_46 (dk_at dksX20_keeps_4 15 rfl rfl)
theorem dX20_keeps_109 : decode cX20_keeps 109 = .ok (.ifCond .ne 16, 3) := dk_154 0 16 (dk_at dksX20_keeps_4 16 rfl rfl)
theorem dX20_keeps_112 : decode cX20_keeps 112 = .ok (.aload_n 0, 1) := dk_42 (dk_at dksX20_keeps_4 19 rfl rfl)
theorem dX20_keeps_113 : decode cX20_keeps 113 = .ok (.invokevirtual 271, 3) := dk_182 1 15 (dk_at dksX20_keeps_4 20 rfl rfl)
theorem dX20_keeps_116 : decode cX20_keeps 116 = .ok (.ifCond .eq 7, 3) := dk_153 0 7 (dk_at dksX20_keeps_5 0 rfl rfl)
theorem dX20_keeps_119 : decode cX20_keeps 119 = .ok (.iconst 1, 1) := dk_4 (dk_at dksX20_keeps_5 3 rfl rfl)
theorem dX20_keeps_120 : decode cX20_keeps 120 = .ok (.goto 4, 3) := dk_167 0 4 (dk_at dksX20_keeps_5 4 rfl rfl)
theorem dX20_keeps_123 : decode cX20_keeps 123 = .ok (.iconst 0, 1) := dk_3 (dk_at dksX20_keeps_5 7 rfl rfl)
theorem dX20_keeps_124 : decode cX20_keeps 124 = .ok (.ireturn, 1) := dk_172 (dk_at dksX20_keeps_5 8 rfl rfl)
theorem dX20_keeps_125 : decode cX20_keeps 125 = .ok (.iinc 2 1, 3) := dk_132 2 1 (dk_at dksX20_keeps_5 9 rfl rfl)
theorem dX20_keeps_128 : decode cX20_keeps 128 = .ok (.goto (-81), 3) := dk_167 255 175 (dk_at dksX20_keeps_5 12 rfl rfl)
theorem dX20_keeps_131 : decode cX20_keeps 131 = .ok (.iconst (-1), 1) := dk_2 (dk_at dksX20_keeps_5 15 rfl rfl)
theorem dX20_keeps_132 : decode cX20_keeps 132 = .ok (.ireturn, 1) := dk_172 (dk_at dksX20_keeps_5 16 rfl rfl)
abbrev cX20_isLikeNow : ByteArray := prog_52_method_82_code
def yX20_isLikeNow : MethodName := ⟨RX20, "isLikeNow", "()Z"⟩
def dkwX20_isLikeNow_5 : List UInt8 := [16, 15, 46, 160, 0, 7, 4, 167, 0, 4, 3, 172]
abbrev dktX20_isLikeNow_5 : List UInt8 := dkwX20_isLikeNow_5 ++ []
def dkwX20_isLikeNow_4 : List UInt8 := [16, 14, 46, 42, 180, 0, 20, 16, 14, 46, 160, 0, 24, 42, 180, 0, 23, 16, 15, 46, 42, 180, 0, 20]
abbrev dktX20_isLikeNow_4 : List UInt8 := dkwX20_isLikeNow_4 ++ dktX20_isLikeNow_5
def dkwX20_isLikeNow_3 : List UInt8 := [160, 0, 58, 42, 180, 0, 23, 16, 13, 46, 42, 180, 0, 20, 16, 13, 46, 160, 0, 41, 42, 180, 0, 23]
abbrev dktX20_isLikeNow_3 : List UInt8 := dkwX20_isLikeNow_3 ++ dktX20_isLikeNow_4
def dkwX20_isLikeNow_2 : List UInt8 := [3, 172, 132, 1, 1, 167, 255, 206, 42, 180, 0, 23, 16, 12, 46, 42, 180, 0, 20, 16, 12, 46]
abbrev dktX20_isLikeNow_2 : List UInt8 := dkwX20_isLikeNow_2 ++ dktX20_isLikeNow_3
def dkwX20_isLikeNow_1 : List UInt8 := [160, 0, 24, 42, 180, 0, 23, 16, 8, 27, 96, 46, 42, 180, 0, 20, 16, 8, 27, 96, 46, 159, 0, 5]
abbrev dktX20_isLikeNow_1 : List UInt8 := dkwX20_isLikeNow_1 ++ dktX20_isLikeNow_2
def dkwX20_isLikeNow_0 : List UInt8 := [3, 60, 27, 7, 162, 0, 51, 42, 180, 0, 23, 3, 27, 96, 46, 42, 180, 0, 20, 3, 27, 96, 46]
abbrev dktX20_isLikeNow_0 : List UInt8 := dkwX20_isLikeNow_0 ++ dktX20_isLikeNow_1
theorem dksX20_isLikeNow_0 : cX20_isLikeNow.data.toList.drop 0 = dktX20_isLikeNow_0 := by decide +kernel
theorem dksX20_isLikeNow_1 : cX20_isLikeNow.data.toList.drop 23 = dktX20_isLikeNow_1 := dk_seg dksX20_isLikeNow_0 23 rfl rfl
theorem dksX20_isLikeNow_2 : cX20_isLikeNow.data.toList.drop 47 = dktX20_isLikeNow_2 := dk_seg dksX20_isLikeNow_1 24 rfl rfl
theorem dksX20_isLikeNow_3 : cX20_isLikeNow.data.toList.drop 69 = dktX20_isLikeNow_3 := dk_seg dksX20_isLikeNow_2 22 rfl rfl
theorem dksX20_isLikeNow_4 : cX20_isLikeNow.data.toList.drop 93 = dktX20_isLikeNow_4 := dk_seg dksX20_isLikeNow_3 24 rfl rfl
theorem dksX20_isLikeNow_5 : cX20_isLikeNow.data.toList.drop 117 = dktX20_isLikeNow_5 := dk_seg dksX20_isLikeNow_4 24 rfl rfl
theorem dX20_isLikeNow_0 : decode cX20_isLikeNow 0 = .ok (.iconst 0, 1) := dk_3 (dk_at dksX20_isLikeNow_0 0 rfl rfl)
theorem dX20_isLikeNow_1 : decode cX20_isLikeNow 1 = .ok (.istore_n 1, 1) := dk_60 (dk_at dksX20_isLikeNow_0 1 rfl rfl)
theorem dX20_isLikeNow_2 : decode cX20_isLikeNow 2 = .ok (.iload_n 1, 1) := dk_27 (dk_at dksX20_isLikeNow_0 2 rfl rfl)
theorem dX20_isLikeNow_3 : decode cX20_isLikeNow 3 = .ok (.iconst 4, 1) := dk_7 (dk_at dksX20_isLikeNow_0 3 rfl rfl)
theorem dX20_isLikeNow_4 : decode cX20_isLikeNow 4 = .ok (.if_icmp .ge 51, 3) := dk_162 0 51 (dk_at dksX20_isLikeNow_0 4 rfl rfl)
theorem dX20_isLikeNow_7 : decode cX20_isLikeNow 7 = .ok (.aload_n 0, 1) := dk_42 (dk_at dksX20_isLikeNow_0 7 rfl rfl)
theorem dX20_isLikeNow_8 : decode cX20_isLikeNow 8 = .ok (.getfield 23, 3) := dk_180 0 23 (dk_at dksX20_isLikeNow_0 8 rfl rfl)
theorem dX20_isLikeNow_11 : decode cX20_isLikeNow 11 = .ok (.iconst 0, 1) := dk_3 (dk_at dksX20_isLikeNow_0 11 rfl rfl)
theorem dX20_isLikeNow_12 : decode cX20_isLikeNow 12 = .ok (.iload_n 1, 1) := dk_27 (dk_at dksX20_isLikeNow_0 12 rfl rfl)
theorem dX20_isLikeNow_13 : decode cX20_isLikeNow 13 = .ok (.iadd, 1) := dk_96 (dk_at dksX20_isLikeNow_0 13 rfl rfl)
theorem dX20_isLikeNow_14 : decode cX20_isLikeNow 14 = .ok (.iaload, 1) := dk_46 (dk_at dksX20_isLikeNow_0 14 rfl rfl)
theorem dX20_isLikeNow_15 : decode cX20_isLikeNow 15 = .ok (.aload_n 0, 1) := dk_42 (dk_at dksX20_isLikeNow_0 15 rfl rfl)
theorem dX20_isLikeNow_16 : decode cX20_isLikeNow 16 = .ok (.getfield 20, 3) := dk_180 0 20 (dk_at dksX20_isLikeNow_0 16 rfl rfl)
theorem dX20_isLikeNow_19 : decode cX20_isLikeNow 19 = .ok (.iconst 0, 1) := dk_3 (dk_at dksX20_isLikeNow_0 19 rfl rfl)
theorem dX20_isLikeNow_20 : decode cX20_isLikeNow 20 = .ok (.iload_n 1, 1) := dk_27 (dk_at dksX20_isLikeNow_0 20 rfl rfl)
theorem dX20_isLikeNow_21 : decode cX20_isLikeNow 21 = .ok (.iadd, 1) := dk_96 (dk_at dksX20_isLikeNow_0 21 rfl rfl)
theorem dX20_isLikeNow_22 : decode cX20_isLikeNow 22 = .ok (.iaload, 1) := dk_46 (dk_at dksX20_isLikeNow_0 22 rfl rfl)
theorem dX20_isLikeNow_23 : decode cX20_isLikeNow 23 = .ok (.if_icmp .ne 24, 3) := dk_160 0 24 (dk_at dksX20_isLikeNow_1 0 rfl rfl)
theorem dX20_isLikeNow_26 : decode cX20_isLikeNow 26 = .ok (.aload_n 0, 1) := dk_42 (dk_at dksX20_isLikeNow_1 3 rfl rfl)
theorem dX20_isLikeNow_27 : decode cX20_isLikeNow 27 = .ok (.getfield 23, 3) := dk_180 0 23 (dk_at dksX20_isLikeNow_1 4 rfl rfl)
theorem dX20_isLikeNow_30 : decode cX20_isLikeNow 30 = .ok (.bipush 8, 2) := dk_16 8 (dk_at dksX20_isLikeNow_1 7 rfl rfl)
theorem dX20_isLikeNow_32 : decode cX20_isLikeNow 32 = .ok (.iload_n 1, 1) := dk_27 (dk_at dksX20_isLikeNow_1 9 rfl rfl)
theorem dX20_isLikeNow_33 : decode cX20_isLikeNow 33 = .ok (.iadd, 1) := dk_96 (dk_at dksX20_isLikeNow_1 10 rfl rfl)
theorem dX20_isLikeNow_34 : decode cX20_isLikeNow 34 = .ok (.iaload, 1) := dk_46 (dk_at dksX20_isLikeNow_1 11 rfl rfl)
theorem dX20_isLikeNow_35 : decode cX20_isLikeNow 35 = .ok (.aload_n 0, 1) := dk_42 (dk_at dksX20_isLikeNow_1 12 rfl rfl)
theorem dX20_isLikeNow_36 : decode cX20_isLikeNow 36 = .ok (.getfield 20, 3) := dk_180 0 20 (dk_at dksX20_isLikeNow_1 13 rfl rfl)
theorem dX20_isLikeNow_39 : decode cX20_isLikeNow 39 = .ok (.bipush 8, 2) := dk_16 8 (dk_at dksX20_isLikeNow_1 16 rfl rfl)
theorem dX20_isLikeNow_41 : decode cX20_isLikeNow 41 = .ok (.iload_n 1, 1) := dk_27 (dk_at dksX20_isLikeNow_1 18 rfl rfl)
theorem dX20_isLikeNow_42 : decode cX20_isLikeNow 42 = .ok (.iadd, 1) := dk_96 (dk_at dksX20_isLikeNow_1 19 rfl rfl)
theorem dX20_isLikeNow_43 : decode cX20_isLikeNow 43 = .ok (.iaload, 1) := dk_46 (dk_at dksX20_isLikeNow_1 20 rfl rfl)
theorem dX20_isLikeNow_44 : decode cX20_isLikeNow 44 = .ok (.if_icmp .eq 5, 3) := dk_159 0 5 (dk_at dksX20_isLikeNow_1 21 rfl rfl)
theorem dX20_isLikeNow_47 : decode cX20_isLikeNow 47 = .ok (.iconst 0, 1) := dk_3 (dk_at dksX20_isLikeNow_2 0 rfl rfl)
theorem dX20_isLikeNow_48 : decode cX20_isLikeNow 48 = .ok (.ireturn, 1) := dk_172 (dk_at dksX20_isLikeNow_2 1 rfl rfl)
theorem dX20_isLikeNow_49 : decode cX20_isLikeNow 49 = .ok (.iinc 1 1, 3) := dk_132 1 1 (dk_at dksX20_isLikeNow_2 2 rfl rfl)
theorem dX20_isLikeNow_52 : decode cX20_isLikeNow 52 = .ok (.goto (-50), 3) := dk_167 255 206 (dk_at dksX20_isLikeNow_2 5 rfl rfl)
theorem dX20_isLikeNow_55 : decode cX20_isLikeNow 55 = .ok (.aload_n 0, 1) := dk_42 (dk_at dksX20_isLikeNow_2 8 rfl rfl)
theorem dX20_isLikeNow_56 : decode cX20_isLikeNow 56 = .ok (.getfield 23, 3) := dk_180 0 23 (dk_at dksX20_isLikeNow_2 9 rfl rfl)
theorem dX20_isLikeNow_59 : decode cX20_isLikeNow 59 = .ok (.bipush 12, 2) := dk_16 12 (dk_at dksX20_isLikeNow_2 12 rfl rfl)
theorem dX20_isLikeNow_61 : decode cX20_isLikeNow 61 = .ok (.iaload, 1) := dk_46 (dk_at dksX20_isLikeNow_2 14 rfl rfl)
theorem dX20_isLikeNow_62 : decode cX20_isLikeNow 62 = .ok (.aload_n 0, 1) := dk_42 (dk_at dksX20_isLikeNow_2 15 rfl rfl)
theorem dX20_isLikeNow_63 : decode cX20_isLikeNow 63 = .ok (.getfield 20, 3) := dk_180 0 20 (dk_at dksX20_isLikeNow_2 16 rfl rfl)
theorem dX20_isLikeNow_66 : decode cX20_isLikeNow 66 = .ok (.bipush 12, 2) := dk_16 12 (dk_at dksX20_isLikeNow_2 19 rfl rfl)
theorem dX20_isLikeNow_68 : decode cX20_isLikeNow 68 = .ok (.iaload, 1) := dk_46 (dk_at dksX20_isLikeNow_2 21 rfl rfl)
theorem dX20_isLikeNow_69 : decode cX20_isLikeNow 69 = .ok (.if_icmp .ne 58, 3) := dk_160 0 58 (dk_at dksX20_isLikeNow_3 0 rfl rfl)
theorem dX20_isLikeNow_72 : decode cX20_isLikeNow 72 = .ok (.aload_n 0, 1) := dk_42 (dk_at dksX20_isLikeNow_3 3 rfl rfl)
theorem dX20_isLikeNow_73 : decode cX20_isLikeNow 73 = .ok (.getfield 23, 3) := dk_180 0 23 (dk_at dksX20_isLikeNow_3 4 rfl rfl)
theorem dX20_isLikeNow_76 : decode cX20_isLikeNow 76 = .ok (.bipush 13, 2) := dk_16 13 (dk_at dksX20_isLikeNow_3 7 rfl rfl)
theorem dX20_isLikeNow_78 : decode cX20_isLikeNow 78 = .ok (.iaload, 1) := dk_46 (dk_at dksX20_isLikeNow_3 9 rfl rfl)
theorem dX20_isLikeNow_79 : decode cX20_isLikeNow 79 = .ok (.aload_n 0, 1) := dk_42 (dk_at dksX20_isLikeNow_3 10 rfl rfl)
theorem dX20_isLikeNow_80 : decode cX20_isLikeNow 80 = .ok (.getfield 20, 3) := dk_180 0 20 (dk_at dksX20_isLikeNow_3 11 rfl rfl)
theorem dX20_isLikeNow_83 : decode cX20_isLikeNow 83 = .ok (.bipush 13, 2) := dk_16 13 (dk_at dksX20_isLikeNow_3 14 rfl rfl)
theorem dX20_isLikeNow_85 : decode cX20_isLikeNow 85 = .ok (.iaload, 1) := dk_46 (dk_at dksX20_isLikeNow_3 16 rfl rfl)
theorem dX20_isLikeNow_86 : decode cX20_isLikeNow 86 = .ok (.if_icmp .ne 41, 3) := dk_160 0 41 (dk_at dksX20_isLikeNow_3 17 rfl rfl)
theorem dX20_isLikeNow_89 : decode cX20_isLikeNow 89 = .ok (.aload_n 0, 1) := dk_42 (dk_at dksX20_isLikeNow_3 20 rfl rfl)
theorem dX20_isLikeNow_90 : decode cX20_isLikeNow 90 = .ok (.getfield 23, 3) := dk_180 0 23 (dk_at dksX20_isLikeNow_3 21 rfl rfl)
theorem dX20_isLikeNow_93 : decode cX20_isLikeNow 93 = .ok (.bipush 14, 2) := dk_16 14 (dk_at dksX20_isLikeNow_4 0 rfl rfl)
theorem dX20_isLikeNow_95 : decode cX20_isLikeNow 95 = .ok (.iaload, 1) := dk_46 (dk_at dksX20_isLikeNow_4 2 rfl rfl)
theorem dX20_isLikeNow_96 : decode cX20_isLikeNow 96 = .ok (.aload_n 0, 1) := dk_42 (dk_at dksX20_isLikeNow_4 3 rfl rfl)
theorem dX20_isLikeNow_97 : decode cX20_isLikeNow 97 = .ok (.getfield 20, 3) := dk_180 0 20 (dk_at dksX20_isLikeNow_4 4 rfl rfl)
theorem dX20_isLikeNow_100 : decode cX20_isLikeNow 100 = .ok (.bipush 14, 2) := dk_16 14 (dk_at dksX20_isLikeNow_4 7 rfl rfl)
theorem dX20_isLikeNow_102 : decode cX20_isLikeNow 102 = .ok (.iaload, 1) := dk_46 (dk_at dksX20_isLikeNow_4 9 rfl rfl)
theorem dX20_isLikeNow_103 : decode cX20_isLikeNow 103 = .ok (.if_icmp .ne 24, 3) := dk_160 0 24 (dk_at dksX20_isLikeNow_4 10 rfl rfl)
theorem dX20_isLikeNow_106 : decode cX20_isLikeNow 106 = .ok (.aload_n 0, 1) := dk_42 (dk_at dksX20_isLikeNow_4 13 rfl rfl)
theorem dX20_isLikeNow_107 : decode cX20_isLikeNow 107 = .ok (.getfield 23, 3) := dk_180 0 23 (dk_at dksX20_isLikeNow_4 14 rfl rfl)
theorem dX20_isLikeNow_110 : decode cX20_isLikeNow 110 = .ok (.bipush 15, 2) := dk_16 15 (dk_at dksX20_isLikeNow_4 17 rfl rfl)
theorem dX20_isLikeNow_112 : decode cX20_isLikeNow 112 = .ok (.iaload, 1) := dk_46 (dk_at dksX20_isLikeNow_4 19 rfl rfl)
theorem dX20_isLikeNow_113 : decode cX20_isLikeNow 113 = .ok (.aload_n 0, 1) := dk_42 (dk_at dksX20_isLikeNow_4 20 rfl rfl)
theorem dX20_isLikeNow_114 : decode cX20_isLikeNow 114 = .ok (.getfield 20, 3) := dk_180 0 20 (dk_at dksX20_isLikeNow_4 21 rfl rfl)
theorem dX20_isLikeNow_117 : decode cX20_isLikeNow 117 = .ok (.bipush 15, 2) := dk_16 15 (dk_at dksX20_isLikeNow_5 0 rfl rfl)
theorem dX20_isLikeNow_119 : decode cX20_isLikeNow 119 = .ok (.iaload, 1) := dk_46 (dk_at dksX20_isLikeNow_5 2 rfl rfl)
theorem dX20_isLikeNow_120 : decode cX20_isLikeNow 120 = .ok (.if_icmp .ne 7, 3) := dk_160 0 7 (dk_at dksX20_isLikeNow_5 3 rfl rfl)
theorem dX20_isLikeNow_123 : decode cX20_isLikeNow 123 = .ok (.iconst 1, 1) := dk_4 (dk_at dksX20_isLikeNow_5 6 rfl rfl)
theorem dX20_isLikeNow_124 : decode cX20_isLikeNow 124 = .ok (.goto 4, 3) := dk_167 0 4 (dk_at dksX20_isLikeNow_5 7 rfl rfl)
theorem dX20_isLikeNow_127 : decode cX20_isLikeNow 127 = .ok (.iconst 0, 1) := dk_3 (dk_at dksX20_isLikeNow_5 10 rfl rfl)
theorem dX20_isLikeNow_128 : decode cX20_isLikeNow 128 = .ok (.ireturn, 1) := dk_172 (dk_at dksX20_isLikeNow_5 11 rfl rfl)
abbrev cX20_cost : ByteArray := prog_52_method_87_code
def yX20_cost : MethodName := ⟨RX20, "cost", "(I)I"⟩
def dkwX20_cost_1 : List UInt8 := [182, 1, 34, 153, 0, 10, 42, 180, 1, 25, 167, 0, 4, 2, 172]
abbrev dktX20_cost_1 : List UInt8 := dkwX20_cost_1 ++ []
def dkwX20_cost_0 : List UInt8 := [42, 3, 181, 0, 65, 27, 3, 16, 20, 184, 0, 195, 153, 0, 23, 42, 42, 180, 0, 13, 27, 46]
abbrev dktX20_cost_0 : List UInt8 := dkwX20_cost_0 ++ dktX20_cost_1
theorem dksX20_cost_0 : cX20_cost.data.toList.drop 0 = dktX20_cost_0 := by decide +kernel
theorem dksX20_cost_1 : cX20_cost.data.toList.drop 22 = dktX20_cost_1 := dk_seg dksX20_cost_0 22 rfl rfl
theorem dX20_cost_0 : decode cX20_cost 0 = .ok (.aload_n 0, 1) := dk_42 (dk_at dksX20_cost_0 0 rfl rfl)
theorem dX20_cost_1 : decode cX20_cost 1 = .ok (.iconst 0, 1) := dk_3 (dk_at dksX20_cost_0 1 rfl rfl)
theorem dX20_cost_2 : decode cX20_cost 2 = .ok (.putfield 65, 3) := dk_181 0 65 (dk_at dksX20_cost_0 2 rfl rfl)
theorem dX20_cost_5 : decode cX20_cost 5 = .ok (.iload_n 1, 1) := dk_27 (dk_at dksX20_cost_0 5 rfl rfl)
theorem dX20_cost_6 : decode cX20_cost 6 = .ok (.iconst 0, 1) := dk_3 (dk_at dksX20_cost_0 6 rfl rfl)
theorem dX20_cost_7 : decode cX20_cost 7 = .ok (.bipush 20, 2) := dk_16 20 (dk_at dksX20_cost_0 7 rfl rfl)
theorem dX20_cost_9 : decode cX20_cost 9 = .ok (.invokestatic 195, 3) := dk_184 0 195 (dk_at dksX20_cost_0 9 rfl rfl)
theorem dX20_cost_12 : decode cX20_cost 12 = .ok (.ifCond .eq 23, 3) := dk_153 0 23 (dk_at dksX20_cost_0 12 rfl rfl)
theorem dX20_cost_15 : decode cX20_cost 15 = .ok (.aload_n 0, 1) := dk_42 (dk_at dksX20_cost_0 15 rfl rfl)
theorem dX20_cost_16 : decode cX20_cost 16 = .ok (.aload_n 0, 1) := dk_42 (dk_at dksX20_cost_0 16 rfl rfl)
theorem dX20_cost_17 : decode cX20_cost 17 = .ok (.getfield 13, 3) := dk_180 0 13 (dk_at dksX20_cost_0 17 rfl rfl)
theorem dX20_cost_20 : decode cX20_cost 20 = .ok (.iload_n 1, 1) := dk_27 (dk_at dksX20_cost_0 20 rfl rfl)
theorem dX20_cost_21 : decode cX20_cost 21 = .ok (.iaload, 1) := dk_46 (dk_at dksX20_cost_0 21 rfl rfl)
theorem dX20_cost_22 : decode cX20_cost 22 = .ok (.invokevirtual 290, 3) := dk_182 1 34 (dk_at dksX20_cost_1 0 rfl rfl)
theorem dX20_cost_25 : decode cX20_cost 25 = .ok (.ifCond .eq 10, 3) := dk_153 0 10 (dk_at dksX20_cost_1 3 rfl rfl)
theorem dX20_cost_28 : decode cX20_cost 28 = .ok (.aload_n 0, 1) := dk_42 (dk_at dksX20_cost_1 6 rfl rfl)
theorem dX20_cost_29 : decode cX20_cost 29 = .ok (.getfield 281, 3) := dk_180 1 25 (dk_at dksX20_cost_1 7 rfl rfl)
theorem dX20_cost_32 : decode cX20_cost 32 = .ok (.goto 4, 3) := dk_167 0 4 (dk_at dksX20_cost_1 10 rfl rfl)
theorem dX20_cost_35 : decode cX20_cost 35 = .ok (.iconst (-1), 1) := dk_2 (dk_at dksX20_cost_1 13 rfl rfl)
theorem dX20_cost_36 : decode cX20_cost 36 = .ok (.ireturn, 1) := dk_172 (dk_at dksX20_cost_1 14 rfl rfl)
abbrev cX20_walks : ByteArray := prog_52_method_86_code
def yX20_walks : MethodName := ⟨RX20, "walks", "(I)Z"⟩
def dkwX20_walks_14 : List UInt8 := [132, 4, 1, 167, 255, 1, 28, 154, 0, 7, 4, 167, 0, 4, 3, 172]
abbrev dktX20_walks_14 : List UInt8 := dkwX20_walks_14 ++ []
def dkwX20_walks_13 : List UInt8 := [158, 0, 6, 167, 0, 14, 42, 180, 0, 59, 29, 21, 9, 79, 132, 3, 1, 132, 8, 1, 167, 255, 137]
abbrev dktX20_walks_13 : List UInt8 := dkwX20_walks_13 ++ dktX20_walks_14
def dkwX20_walks_12 : List UInt8 := [21, 9, 21, 6, 79, 42, 180, 0, 50, 21, 9, 92, 46, 4, 100, 79, 42, 180, 0, 50, 21, 9, 46]
abbrev dktX20_walks_12 : List UInt8 := dkwX20_walks_12 ++ dktX20_walks_13
def dkwX20_walks_11 : List UInt8 := [180, 0, 56, 21, 9, 21, 7, 79, 21, 6, 42, 180, 0, 53, 21, 9, 46, 164, 0, 12, 42, 180, 0, 53]
abbrev dktX20_walks_11 : List UInt8 := dkwX20_walks_11 ++ dktX20_walks_12
def dkwX20_walks_10 : List UInt8 := [42, 180, 0, 53, 21, 9, 46, 153, 0, 15, 21, 7, 42, 180, 0, 56, 21, 9, 46, 164, 0, 12, 42]
abbrev dktX20_walks_10 : List UInt8 := dkwX20_walks_10 ++ dktX20_walks_11
def dkwX20_walks_9 : List UInt8 := [182, 1, 19, 153, 0, 7, 5, 167, 0, 4, 4, 162, 0, 106, 42, 21, 5, 21, 8, 182, 1, 22, 54, 9]
abbrev dktX20_walks_9 : List UInt8 := dkwX20_walks_9 ++ dktX20_walks_10
def dkwX20_walks_8 : List UInt8 := [180, 0, 7, 21, 5, 46, 16, 18, 160, 0, 6, 167, 0, 128, 3, 54, 8, 21, 8, 42, 21, 5]
abbrev dktX20_walks_8 : List UInt8 := dkwX20_walks_8 ++ dktX20_walks_9
def dkwX20_walks_7 : List UInt8 := [181, 1, 25, 21, 7, 42, 180, 1, 28, 164, 0, 9, 42, 21, 7, 181, 1, 28, 132, 2, 255, 42]
abbrev dktX20_walks_7 : List UInt8 := dkwX20_walks_7 ++ dktX20_walks_8
def dkwX20_walks_6 : List UInt8 := [160, 0, 7, 2, 167, 0, 4, 3, 96, 54, 7, 21, 6, 42, 180, 1, 25, 164, 0, 9, 42, 21, 6]
abbrev dktX20_walks_6 : List UInt8 := dkwX20_walks_6 ++ dktX20_walks_7
def dkwX20_walks_5 : List UInt8 := [180, 0, 7, 21, 5, 46, 16, 9, 160, 0, 7, 4, 167, 0, 20, 42, 180, 0, 7, 21, 5, 46, 16, 10]
abbrev dktX20_walks_5 : List UInt8 := dkwX20_walks_5 ++ dktX20_walks_6
def dkwX20_walks_4 : List UInt8 := [178, 0, 220, 42, 180, 0, 7, 21, 5, 46, 46, 96, 54, 6, 42, 180, 0, 56, 21, 5, 46, 42]
abbrev dktX20_walks_4 : List UInt8 := dkwX20_walks_4 ++ dktX20_walks_5
def dkwX20_walks_3 : List UInt8 := [21, 4, 29, 162, 0, 255, 42, 180, 0, 59, 21, 4, 46, 54, 5, 42, 180, 0, 53, 21, 5, 46]
abbrev dktX20_walks_3 : List UInt8 := dkwX20_walks_3 ++ dktX20_walks_4
def dkwX20_walks_2 : List UInt8 := [153, 0, 6, 132, 2, 1, 132, 3, 1, 167, 255, 234, 4, 62, 42, 180, 0, 59, 3, 27, 79, 3, 54, 4]
abbrev dktX20_walks_2 : List UInt8 := dkwX20_walks_2 ++ dktX20_walks_3
def dkwX20_walks_1 : List UInt8 := [158, 0, 5, 3, 172, 3, 61, 3, 62, 29, 17, 2, 0, 162, 0, 21, 42, 180, 0, 47, 29, 51]
abbrev dktX20_walks_1 : List UInt8 := dkwX20_walks_1 ++ dktX20_walks_2
def dkwX20_walks_0 : List UInt8 := [42, 3, 181, 1, 25, 42, 3, 181, 1, 28, 42, 27, 182, 1, 31, 153, 0, 12, 42, 180, 0, 50, 27, 46]
abbrev dktX20_walks_0 : List UInt8 := dkwX20_walks_0 ++ dktX20_walks_1
theorem dksX20_walks_0 : cX20_walks.data.toList.drop 0 = dktX20_walks_0 := by decide +kernel
theorem dksX20_walks_1 : cX20_walks.data.toList.drop 24 = dktX20_walks_1 := dk_seg dksX20_walks_0 24 rfl rfl
theorem dksX20_walks_2 : cX20_walks.data.toList.drop 46 = dktX20_walks_2 := dk_seg dksX20_walks_1 22 rfl rfl
theorem dksX20_walks_3 : cX20_walks.data.toList.drop 70 = dktX20_walks_3 := dk_seg dksX20_walks_2 24 rfl rfl
theorem dksX20_walks_4 : cX20_walks.data.toList.drop 92 = dktX20_walks_4 := dk_seg dksX20_walks_3 22 rfl rfl
theorem dksX20_walks_5 : cX20_walks.data.toList.drop 114 = dktX20_walks_5 := dk_seg dksX20_walks_4 22 rfl rfl
theorem dksX20_walks_6 : cX20_walks.data.toList.drop 138 = dktX20_walks_6 := dk_seg dksX20_walks_5 24 rfl rfl
theorem dksX20_walks_7 : cX20_walks.data.toList.drop 161 = dktX20_walks_7 := dk_seg dksX20_walks_6 23 rfl rfl
theorem dksX20_walks_8 : cX20_walks.data.toList.drop 183 = dktX20_walks_8 := dk_seg dksX20_walks_7 22 rfl rfl
theorem dksX20_walks_9 : cX20_walks.data.toList.drop 205 = dktX20_walks_9 := dk_seg dksX20_walks_8 22 rfl rfl
theorem dksX20_walks_10 : cX20_walks.data.toList.drop 229 = dktX20_walks_10 := dk_seg dksX20_walks_9 24 rfl rfl
theorem dksX20_walks_11 : cX20_walks.data.toList.drop 252 = dktX20_walks_11 := dk_seg dksX20_walks_10 23 rfl rfl
theorem dksX20_walks_12 : cX20_walks.data.toList.drop 276 = dktX20_walks_12 := dk_seg dksX20_walks_11 24 rfl rfl
theorem dksX20_walks_13 : cX20_walks.data.toList.drop 299 = dktX20_walks_13 := dk_seg dksX20_walks_12 23 rfl rfl
theorem dksX20_walks_14 : cX20_walks.data.toList.drop 322 = dktX20_walks_14 := dk_seg dksX20_walks_13 23 rfl rfl
theorem dX20_walks_0 : decode cX20_walks 0 = .ok (.aload_n 0, 1) := dk_42 (dk_at dksX20_walks_0 0 rfl rfl)
theorem dX20_walks_1 : decode cX20_walks 1 = .ok (.iconst 0, 1) := dk_3 (dk_at dksX20_walks_0 1 rfl rfl)
theorem dX20_walks_2 : decode cX20_walks 2 = .ok (.putfield 281, 3) := dk_181 1 25 (dk_at dksX20_walks_0 2 rfl rfl)
theorem dX20_walks_5 : decode cX20_walks 5 = .ok (.aload_n 0, 1) := dk_42 (dk_at dksX20_walks_0 5 rfl rfl)
theorem dX20_walks_6 : decode cX20_walks 6 = .ok (.iconst 0, 1) := dk_3 (dk_at dksX20_walks_0 6 rfl rfl)
theorem dX20_walks_7 : decode cX20_walks 7 = .ok (.putfield 284, 3) := dk_181 1 28 (dk_at dksX20_walks_0 7 rfl rfl)
theorem dX20_walks_10 : decode cX20_walks 10 = .ok (.aload_n 0, 1) := dk_42 (dk_at dksX20_walks_0 10 rfl rfl)
theorem dX20_walks_11 : decode cX20_walks 11 = .ok (.iload_n 1, 1) := dk_27 (dk_at dksX20_walks_0 11 rfl rfl)
theorem dX20_walks_12 : decode cX20_walks 12 = .ok (.invokevirtual 287, 3) := dk_182 1 31 (dk_at dksX20_walks_0 12 rfl rfl)
theorem dX20_walks_15 : decode cX20_walks 15 = .ok (.ifCond .eq 12, 3) := dk_153 0 12 (dk_at dksX20_walks_0 15 rfl rfl)
theorem dX20_walks_18 : decode cX20_walks 18 = .ok (.aload_n 0, 1) := dk_42 (dk_at dksX20_walks_0 18 rfl rfl)
theorem dX20_walks_19 : decode cX20_walks 19 = .ok (.getfield 50, 3) := dk_180 0 50 (dk_at dksX20_walks_0 19 rfl rfl)
theorem dX20_walks_22 : decode cX20_walks 22 = .ok (.iload_n 1, 1) := dk_27 (dk_at dksX20_walks_0 22 rfl rfl)
theorem dX20_walks_23 : decode cX20_walks 23 = .ok (.iaload, 1) := dk_46 (dk_at dksX20_walks_0 23 rfl rfl)
theorem dX20_walks_24 : decode cX20_walks 24 = .ok (.ifCond .le 5, 3) := dk_158 0 5 (dk_at dksX20_walks_1 0 rfl rfl)
theorem dX20_walks_27 : decode cX20_walks 27 = .ok (.iconst 0, 1) := dk_3 (dk_at dksX20_walks_1 3 rfl rfl)
theorem dX20_walks_28 : decode cX20_walks 28 = .ok (.ireturn, 1) := dk_172 (dk_at dksX20_walks_1 4 rfl rfl)
theorem dX20_walks_29 : decode cX20_walks 29 = .ok (.iconst 0, 1) := dk_3 (dk_at dksX20_walks_1 5 rfl rfl)
theorem dX20_walks_30 : decode cX20_walks 30 = .ok (.istore_n 2, 1) := dk_61 (dk_at dksX20_walks_1 6 rfl rfl)
theorem dX20_walks_31 : decode cX20_walks 31 = .ok (.iconst 0, 1) := dk_3 (dk_at dksX20_walks_1 7 rfl rfl)
theorem dX20_walks_32 : decode cX20_walks 32 = .ok (.istore_n 3, 1) := dk_62 (dk_at dksX20_walks_1 8 rfl rfl)
theorem dX20_walks_33 : decode cX20_walks 33 = .ok (.iload_n 3, 1) := dk_29 (dk_at dksX20_walks_1 9 rfl rfl)
theorem dX20_walks_34 : decode cX20_walks 34 = .ok (.sipush 512, 3) := dk_17 2 0 (dk_at dksX20_walks_1 10 rfl rfl)
theorem dX20_walks_37 : decode cX20_walks 37 = .ok (.if_icmp .ge 21, 3) := dk_162 0 21 (dk_at dksX20_walks_1 13 rfl rfl)
theorem dX20_walks_40 : decode cX20_walks 40 = .ok (.aload_n 0, 1) := dk_42 (dk_at dksX20_walks_1 16 rfl rfl)
theorem dX20_walks_41 : decode cX20_walks 41 = .ok (.getfield 47, 3) := dk_180 0 47 (dk_at dksX20_walks_1 17 rfl rfl)
theorem dX20_walks_44 : decode cX20_walks 44 = .ok (.iload_n 3, 1) := dk_29 (dk_at dksX20_walks_1 20 rfl rfl)
theorem dX20_walks_45 : decode cX20_walks 45 = .ok (.baload, 1) := dk_51 (dk_at dksX20_walks_1 21 rfl rfl)
theorem dX20_walks_46 : decode cX20_walks 46 = .ok (.ifCond .eq 6, 3) := dk_153 0 6 (dk_at dksX20_walks_2 0 rfl rfl)
theorem dX20_walks_49 : decode cX20_walks 49 = .ok (.iinc 2 1, 3) := dk_132 2 1 (dk_at dksX20_walks_2 3 rfl rfl)
theorem dX20_walks_52 : decode cX20_walks 52 = .ok (.iinc 3 1, 3) := dk_132 3 1 (dk_at dksX20_walks_2 6 rfl rfl)
theorem dX20_walks_55 : decode cX20_walks 55 = .ok (.goto (-22), 3) := dk_167 255 234 (dk_at dksX20_walks_2 9 rfl rfl)
theorem dX20_walks_58 : decode cX20_walks 58 = .ok (.iconst 1, 1) := dk_4 (dk_at dksX20_walks_2 12 rfl rfl)
theorem dX20_walks_59 : decode cX20_walks 59 = .ok (.istore_n 3, 1) := dk_62 (dk_at dksX20_walks_2 13 rfl rfl)
theorem dX20_walks_60 : decode cX20_walks 60 = .ok (.aload_n 0, 1) := dk_42 (dk_at dksX20_walks_2 14 rfl rfl)
theorem dX20_walks_61 : decode cX20_walks 61 = .ok (.getfield 59, 3) := dk_180 0 59 (dk_at dksX20_walks_2 15 rfl rfl)
theorem dX20_walks_64 : decode cX20_walks 64 = .ok (.iconst 0, 1) := dk_3 (dk_at dksX20_walks_2 18 rfl rfl)
theorem dX20_walks_65 : decode cX20_walks 65 = .ok (.iload_n 1, 1) := dk_27 (dk_at dksX20_walks_2 19 rfl rfl)
theorem dX20_walks_66 : decode cX20_walks 66 = .ok (.iastore, 1) := dk_79 (dk_at dksX20_walks_2 20 rfl rfl)
theorem dX20_walks_67 : decode cX20_walks 67 = .ok (.iconst 0, 1) := dk_3 (dk_at dksX20_walks_2 21 rfl rfl)
theorem dX20_walks_68 : decode cX20_walks 68 = .ok (.istore 4, 2) := dk_54 4 (dk_at dksX20_walks_2 22 rfl rfl)
theorem dX20_walks_70 : decode cX20_walks 70 = .ok (.iload 4, 2) := dk_21 4 (dk_at dksX20_walks_3 0 rfl rfl)
theorem dX20_walks_72 : decode cX20_walks 72 = .ok (.iload_n 3, 1) := dk_29 (dk_at dksX20_walks_3 2 rfl rfl)
theorem dX20_walks_73 : decode cX20_walks 73 = .ok (.if_icmp .ge 255, 3) := dk_162 0 255 (dk_at dksX20_walks_3 3 rfl rfl)
theorem dX20_walks_76 : decode cX20_walks 76 = .ok (.aload_n 0, 1) := dk_42 (dk_at dksX20_walks_3 6 rfl rfl)
theorem dX20_walks_77 : decode cX20_walks 77 = .ok (.getfield 59, 3) := dk_180 0 59 (dk_at dksX20_walks_3 7 rfl rfl)
theorem dX20_walks_80 : decode cX20_walks 80 = .ok (.iload 4, 2) := dk_21 4 (dk_at dksX20_walks_3 10 rfl rfl)
theorem dX20_walks_82 : decode cX20_walks 82 = .ok (.iaload, 1) := dk_46 (dk_at dksX20_walks_3 12 rfl rfl)
theorem dX20_walks_83 : decode cX20_walks 83 = .ok (.istore 5, 2) := dk_54 5 (dk_at dksX20_walks_3 13 rfl rfl)
theorem dX20_walks_85 : decode cX20_walks 85 = .ok (.aload_n 0, 1) := dk_42 (dk_at dksX20_walks_3 15 rfl rfl)
theorem dX20_walks_86 : decode cX20_walks 86 = .ok (.getfield 53, 3) := dk_180 0 53 (dk_at dksX20_walks_3 16 rfl rfl)
theorem dX20_walks_89 : decode cX20_walks 89 = .ok (.iload 5, 2) := dk_21 5 (dk_at dksX20_walks_3 19 rfl rfl)
theorem dX20_walks_91 : decode cX20_walks 91 = .ok (.iaload, 1) := dk_46 (dk_at dksX20_walks_3 21 rfl rfl)
theorem dX20_walks_92 : decode cX20_walks 92 = .ok (.getstatic 220, 3) := dk_178 0 220 (dk_at dksX20_walks_4 0 rfl rfl)
theorem dX20_walks_95 : decode cX20_walks 95 = .ok (.aload_n 0, 1) := dk_42 (dk_at dksX20_walks_4 3 rfl rfl)
theorem dX20_walks_96 : decode cX20_walks 96 = .ok (.getfield 7, 3) := dk_180 0 7 (dk_at dksX20_walks_4 4 rfl rfl)
theorem dX20_walks_99 : decode cX20_walks 99 = .ok (.iload 5, 2) := dk_21 5 (dk_at dksX20_walks_4 7 rfl rfl)
theorem dX20_walks_101 : decode cX20_walks 101 = .ok (.iaload, 1) := dk_46 (dk_at dksX20_walks_4 9 rfl rfl)
theorem dX20_walks_102 : decode cX20_walks 102 = .ok (.iaload, 1) := dk_46 (dk_at dksX20_walks_4 10 rfl rfl)
theorem dX20_walks_103 : decode cX20_walks 103 = .ok (.iadd, 1) := dk_96 (dk_at dksX20_walks_4 11 rfl rfl)
theorem dX20_walks_104 : decode cX20_walks 104 = .ok (.istore 6, 2) := dk_54 6 (dk_at dksX20_walks_4 12 rfl rfl)
theorem dX20_walks_106 : decode cX20_walks 106 = .ok (.aload_n 0, 1) := dk_42 (dk_at dksX20_walks_4 14 rfl rfl)
theorem dX20_walks_107 : decode cX20_walks 107 = .ok (.getfield 56, 3) := dk_180 0 56 (dk_at dksX20_walks_4 15 rfl rfl)
theorem dX20_walks_110 : decode cX20_walks 110 = .ok (.iload 5, 2) := dk_21 5 (dk_at dksX20_walks_4 18 rfl rfl)
theorem dX20_walks_112 : decode cX20_walks 112 = .ok (.iaload, 1) := dk_46 (dk_at dksX20_walks_4 20 rfl rfl)
theorem dX20_walks_113 : decode cX20_walks 113 = .ok (.aload_n 0, 1) := dk_42 (dk_at dksX20_walks_4 21 rfl rfl)
theorem dX20_walks_114 : decode cX20_walks 114 = .ok (.getfield 7, 3) := dk_180 0 7 (dk_at dksX20_walks_5 0 rfl rfl)
theorem dX20_walks_117 : decode cX20_walks 117 = .ok (.iload 5, 2) := dk_21 5 (dk_at dksX20_walks_5 3 rfl rfl)
theorem dX20_walks_119 : decode cX20_walks 119 = .ok (.iaload, 1) := dk_46 (dk_at dksX20_walks_5 5 rfl rfl)
theorem dX20_walks_120 : decode cX20_walks 120 = .ok (.bipush 9, 2) := dk_16 9 (dk_at dksX20_walks_5 6 rfl rfl)
theorem dX20_walks_122 : decode cX20_walks 122 = .ok (.if_icmp .ne 7, 3) := dk_160 0 7 (dk_at dksX20_walks_5 8 rfl rfl)
theorem dX20_walks_125 : decode cX20_walks 125 = .ok (.iconst 1, 1) := dk_4 (dk_at dksX20_walks_5 11 rfl rfl)
theorem dX20_walks_126 : decode cX20_walks 126 = .ok (.goto 20, 3) := dk_167 0 20 (dk_at dksX20_walks_5 12 rfl rfl)
theorem dX20_walks_129 : decode cX20_walks 129 = .ok (.aload_n 0, 1) := dk_42 (dk_at dksX20_walks_5 15 rfl rfl)
theorem dX20_walks_130 : decode cX20_walks 130 = .ok (.getfield 7, 3) := dk_180 0 7 (dk_at dksX20_walks_5 16 rfl rfl)
theorem dX20_walks_133 : decode cX20_walks 133 = .ok (.iload 5, 2) := dk_21 5 (dk_at dksX20_walks_5 19 rfl rfl)
theorem dX20_walks_135 : decode cX20_walks 135 = .ok (.iaload, 1) := dk_46 (dk_at dksX20_walks_5 21 rfl rfl)
theorem dX20_walks_136 : decode cX20_walks 136 = .ok (.bipush 10, 2) := dk_16 10 (dk_at dksX20_walks_5 22 rfl rfl)
theorem dX20_walks_138 : decode cX20_walks 138 = .ok (.if_icmp .ne 7, 3) := dk_160 0 7 (dk_at dksX20_walks_6 0 rfl rfl)
theorem dX20_walks_141 : decode cX20_walks 141 = .ok (.iconst (-1), 1) := dk_2 (dk_at dksX20_walks_6 3 rfl rfl)
theorem dX20_walks_142 : decode cX20_walks 142 = .ok (.goto 4, 3) := dk_167 0 4 (dk_at dksX20_walks_6 4 rfl rfl)
theorem dX20_walks_145 : decode cX20_walks 145 = .ok (.iconst 0, 1) := dk_3 (dk_at dksX20_walks_6 7 rfl rfl)
theorem dX20_walks_146 : decode cX20_walks 146 = .ok (.iadd, 1) := dk_96 (dk_at dksX20_walks_6 8 rfl rfl)
theorem dX20_walks_147 : decode cX20_walks 147 = .ok (.istore 7, 2) := dk_54 7 (dk_at dksX20_walks_6 9 rfl rfl)
theorem dX20_walks_149 : decode cX20_walks 149 = .ok (.iload 6, 2) := dk_21 6 (dk_at dksX20_walks_6 11 rfl rfl)
theorem dX20_walks_151 : decode cX20_walks 151 = .ok (.aload_n 0, 1) := dk_42 (dk_at dksX20_walks_6 13 rfl rfl)
theorem dX20_walks_152 : decode cX20_walks 152 = .ok (.getfield 281, 3) := dk_180 1 25 (dk_at dksX20_walks_6 14 rfl rfl)
theorem dX20_walks_155 : decode cX20_walks 155 = .ok (.if_icmp .le 9, 3) := dk_164 0 9 (dk_at dksX20_walks_6 17 rfl rfl)
theorem dX20_walks_158 : decode cX20_walks 158 = .ok (.aload_n 0, 1) := dk_42 (dk_at dksX20_walks_6 20 rfl rfl)
theorem dX20_walks_159 : decode cX20_walks 159 = .ok (.iload 6, 2) := dk_21 6 (dk_at dksX20_walks_6 21 rfl rfl)
theorem dX20_walks_161 : decode cX20_walks 161 = .ok (.putfield 281, 3) := dk_181 1 25 (dk_at dksX20_walks_7 0 rfl rfl)
theorem dX20_walks_164 : decode cX20_walks 164 = .ok (.iload 7, 2) := dk_21 7 (dk_at dksX20_walks_7 3 rfl rfl)
theorem dX20_walks_166 : decode cX20_walks 166 = .ok (.aload_n 0, 1) := dk_42 (dk_at dksX20_walks_7 5 rfl rfl)
theorem dX20_walks_167 : decode cX20_walks 167 = .ok (.getfield 284, 3) := dk_180 1 28 (dk_at dksX20_walks_7 6 rfl rfl)
theorem dX20_walks_170 : decode cX20_walks 170 = .ok (.if_icmp .le 9, 3) := dk_164 0 9 (dk_at dksX20_walks_7 9 rfl rfl)
theorem dX20_walks_173 : decode cX20_walks 173 = .ok (.aload_n 0, 1) := dk_42 (dk_at dksX20_walks_7 12 rfl rfl)
theorem dX20_walks_174 : decode cX20_walks 174 = .ok (.iload 7, 2) := dk_21 7 (dk_at dksX20_walks_7 13 rfl rfl)
theorem dX20_walks_176 : decode cX20_walks 176 = .ok (.putfield 284, 3) := dk_181 1 28 (dk_at dksX20_walks_7 15 rfl rfl)
theorem dX20_walks_179 : decode cX20_walks 179 = .ok (.iinc 2 (-1), 3) := dk_132 2 255 (dk_at dksX20_walks_7 18 rfl rfl)
theorem dX20_walks_182 : decode cX20_walks 182 = .ok (.aload_n 0, 1) := dk_42 (dk_at dksX20_walks_7 21 rfl rfl)
theorem dX20_walks_183 : decode cX20_walks 183 = .ok (.getfield 7, 3) := dk_180 0 7 (dk_at dksX20_walks_8 0 rfl rfl)
theorem dX20_walks_186 : decode cX20_walks 186 = .ok (.iload 5, 2) := dk_21 5 (dk_at dksX20_walks_8 3 rfl rfl)
theorem dX20_walks_188 : decode cX20_walks 188 = .ok (.iaload, 1) := dk_46 (dk_at dksX20_walks_8 5 rfl rfl)
theorem dX20_walks_189 : decode cX20_walks 189 = .ok (.bipush 18, 2) := dk_16 18 (dk_at dksX20_walks_8 6 rfl rfl)
theorem dX20_walks_191 : decode cX20_walks 191 = .ok (.if_icmp .ne 6, 3) := dk_160 0 6 (dk_at dksX20_walks_8 8 rfl rfl)
theorem dX20_walks_194 : decode cX20_walks 194 = .ok (.goto 128, 3) := dk_167 0 128 (dk_at dksX20_walks_8 11 rfl rfl)
theorem dX20_walks_197 : decode cX20_walks 197 = .ok (.iconst 0, 1) := dk_3 (dk_at dksX20_walks_8 14 rfl rfl)
theorem dX20_walks_198 : decode cX20_walks 198 = .ok (.istore 8, 2) := dk_54 8 (dk_at dksX20_walks_8 15 rfl rfl)
theorem dX20_walks_200 : decode cX20_walks 200 = .ok (.iload 8, 2) := dk_21 8 (dk_at dksX20_walks_8 17 rfl rfl)
theorem dX20_walks_202 : decode cX20_walks 202 = .ok (.aload_n 0, 1) := dk_42 (dk_at dksX20_walks_8 19 rfl rfl)
theorem dX20_walks_203 : decode cX20_walks 203 = .ok (.iload 5, 2) := dk_21 5 (dk_at dksX20_walks_8 20 rfl rfl)
theorem dX20_walks_205 : decode cX20_walks 205 = .ok (.invokevirtual 275, 3) := dk_182 1 19 (dk_at dksX20_walks_9 0 rfl rfl)
theorem dX20_walks_208 : decode cX20_walks 208 = .ok (.ifCond .eq 7, 3) := dk_153 0 7 (dk_at dksX20_walks_9 3 rfl rfl)
theorem dX20_walks_211 : decode cX20_walks 211 = .ok (.iconst 2, 1) := dk_5 (dk_at dksX20_walks_9 6 rfl rfl)
theorem dX20_walks_212 : decode cX20_walks 212 = .ok (.goto 4, 3) := dk_167 0 4 (dk_at dksX20_walks_9 7 rfl rfl)
theorem dX20_walks_215 : decode cX20_walks 215 = .ok (.iconst 1, 1) := dk_4 (dk_at dksX20_walks_9 10 rfl rfl)
theorem dX20_walks_216 : decode cX20_walks 216 = .ok (.if_icmp .ge 106, 3) := dk_162 0 106 (dk_at dksX20_walks_9 11 rfl rfl)
theorem dX20_walks_219 : decode cX20_walks 219 = .ok (.aload_n 0, 1) := dk_42 (dk_at dksX20_walks_9 14 rfl rfl)
theorem dX20_walks_220 : decode cX20_walks 220 = .ok (.iload 5, 2) := dk_21 5 (dk_at dksX20_walks_9 15 rfl rfl)
theorem dX20_walks_222 : decode cX20_walks 222 = .ok (.iload 8, 2) := dk_21 8 (dk_at dksX20_walks_9 17 rfl rfl)
theorem dX20_walks_224 : decode cX20_walks 224 = .ok (.invokevirtual 278, 3) := dk_182 1 22 (dk_at dksX20_walks_9 19 rfl rfl)
theorem dX20_walks_227 : decode cX20_walks 227 = .ok (.istore 9, 2) := dk_54 9 (dk_at dksX20_walks_9 22 rfl rfl)
theorem dX20_walks_229 : decode cX20_walks 229 = .ok (.aload_n 0, 1) := dk_42 (dk_at dksX20_walks_10 0 rfl rfl)
theorem dX20_walks_230 : decode cX20_walks 230 = .ok (.getfield 53, 3) := dk_180 0 53 (dk_at dksX20_walks_10 1 rfl rfl)
theorem dX20_walks_233 : decode cX20_walks 233 = .ok (.iload 9, 2) := dk_21 9 (dk_at dksX20_walks_10 4 rfl rfl)
theorem dX20_walks_235 : decode cX20_walks 235 = .ok (.iaload, 1) := dk_46 (dk_at dksX20_walks_10 6 rfl rfl)
theorem dX20_walks_236 : decode cX20_walks 236 = .ok (.ifCond .eq 15, 3) := dk_153 0 15 (dk_at dksX20_walks_10 7 rfl rfl)
theorem dX20_walks_239 : decode cX20_walks 239 = .ok (.iload 7, 2) := dk_21 7 (dk_at dksX20_walks_10 10 rfl rfl)
theorem dX20_walks_241 : decode cX20_walks 241 = .ok (.aload_n 0, 1) := dk_42 (dk_at dksX20_walks_10 12 rfl rfl)
theorem dX20_walks_242 : decode cX20_walks 242 = .ok (.getfield 56, 3) := dk_180 0 56 (dk_at dksX20_walks_10 13 rfl rfl)
theorem dX20_walks_245 : decode cX20_walks 245 = .ok (.iload 9, 2) := dk_21 9 (dk_at dksX20_walks_10 16 rfl rfl)
theorem dX20_walks_247 : decode cX20_walks 247 = .ok (.iaload, 1) := dk_46 (dk_at dksX20_walks_10 18 rfl rfl)
theorem dX20_walks_248 : decode cX20_walks 248 = .ok (.if_icmp .le 12, 3) := dk_164 0 12 (dk_at dksX20_walks_10 19 rfl rfl)
theorem dX20_walks_251 : decode cX20_walks 251 = .ok (.aload_n 0, 1) := dk_42 (dk_at dksX20_walks_10 22 rfl rfl)
theorem dX20_walks_252 : decode cX20_walks 252 = .ok (.getfield 56, 3) := dk_180 0 56 (dk_at dksX20_walks_11 0 rfl rfl)
theorem dX20_walks_255 : decode cX20_walks 255 = .ok (.iload 9, 2) := dk_21 9 (dk_at dksX20_walks_11 3 rfl rfl)
theorem dX20_walks_257 : decode cX20_walks 257 = .ok (.iload 7, 2) := dk_21 7 (dk_at dksX20_walks_11 5 rfl rfl)
theorem dX20_walks_259 : decode cX20_walks 259 = .ok (.iastore, 1) := dk_79 (dk_at dksX20_walks_11 7 rfl rfl)
theorem dX20_walks_260 : decode cX20_walks 260 = .ok (.iload 6, 2) := dk_21 6 (dk_at dksX20_walks_11 8 rfl rfl)
theorem dX20_walks_262 : decode cX20_walks 262 = .ok (.aload_n 0, 1) := dk_42 (dk_at dksX20_walks_11 10 rfl rfl)
theorem dX20_walks_263 : decode cX20_walks 263 = .ok (.getfield 53, 3) := dk_180 0 53 (dk_at dksX20_walks_11 11 rfl rfl)
theorem dX20_walks_266 : decode cX20_walks 266 = .ok (.iload 9, 2) := dk_21 9 (dk_at dksX20_walks_11 14 rfl rfl)
theorem dX20_walks_268 : decode cX20_walks 268 = .ok (.iaload, 1) := dk_46 (dk_at dksX20_walks_11 16 rfl rfl)
theorem dX20_walks_269 : decode cX20_walks 269 = .ok (.if_icmp .le 12, 3) := dk_164 0 12 (dk_at dksX20_walks_11 17 rfl rfl)
theorem dX20_walks_272 : decode cX20_walks 272 = .ok (.aload_n 0, 1) := dk_42 (dk_at dksX20_walks_11 20 rfl rfl)
theorem dX20_walks_273 : decode cX20_walks 273 = .ok (.getfield 53, 3) := dk_180 0 53 (dk_at dksX20_walks_11 21 rfl rfl)
theorem dX20_walks_276 : decode cX20_walks 276 = .ok (.iload 9, 2) := dk_21 9 (dk_at dksX20_walks_12 0 rfl rfl)
theorem dX20_walks_278 : decode cX20_walks 278 = .ok (.iload 6, 2) := dk_21 6 (dk_at dksX20_walks_12 2 rfl rfl)
theorem dX20_walks_280 : decode cX20_walks 280 = .ok (.iastore, 1) := dk_79 (dk_at dksX20_walks_12 4 rfl rfl)
theorem dX20_walks_281 : decode cX20_walks 281 = .ok (.aload_n 0, 1) := dk_42 (dk_at dksX20_walks_12 5 rfl rfl)
theorem dX20_walks_282 : decode cX20_walks 282 = .ok (.getfield 50, 3) := dk_180 0 50 (dk_at dksX20_walks_12 6 rfl rfl)
theorem dX20_walks_285 : decode cX20_walks 285 = .ok (.iload 9, 2) := dk_21 9 (dk_at dksX20_walks_12 9 rfl rfl)
theorem dX20_walks_287 : decode cX20_walks 287 = .ok (.dup2, 1) := dk_92 (dk_at dksX20_walks_12 11 rfl rfl)
theorem dX20_walks_288 : decode cX20_walks 288 = .ok (.iaload, 1) := dk_46 (dk_at dksX20_walks_12 12 rfl rfl)
theorem dX20_walks_289 : decode cX20_walks 289 = .ok (.iconst 1, 1) := dk_4 (dk_at dksX20_walks_12 13 rfl rfl)
theorem dX20_walks_290 : decode cX20_walks 290 = .ok (.isub, 1) := dk_100 (dk_at dksX20_walks_12 14 rfl rfl)
theorem dX20_walks_291 : decode cX20_walks 291 = .ok (.iastore, 1) := dk_79 (dk_at dksX20_walks_12 15 rfl rfl)
theorem dX20_walks_292 : decode cX20_walks 292 = .ok (.aload_n 0, 1) := dk_42 (dk_at dksX20_walks_12 16 rfl rfl)
theorem dX20_walks_293 : decode cX20_walks 293 = .ok (.getfield 50, 3) := dk_180 0 50 (dk_at dksX20_walks_12 17 rfl rfl)
theorem dX20_walks_296 : decode cX20_walks 296 = .ok (.iload 9, 2) := dk_21 9 (dk_at dksX20_walks_12 20 rfl rfl)
theorem dX20_walks_298 : decode cX20_walks 298 = .ok (.iaload, 1) := dk_46 (dk_at dksX20_walks_12 22 rfl rfl)
theorem dX20_walks_299 : decode cX20_walks 299 = .ok (.ifCond .le 6, 3) := dk_158 0 6 (dk_at dksX20_walks_13 0 rfl rfl)
theorem dX20_walks_302 : decode cX20_walks 302 = .ok (.goto 14, 3) := dk_167 0 14 (dk_at dksX20_walks_13 3 rfl rfl)
theorem dX20_walks_305 : decode cX20_walks 305 = .ok (.aload_n 0, 1) := dk_42 (dk_at dksX20_walks_13 6 rfl rfl)
theorem dX20_walks_306 : decode cX20_walks 306 = .ok (.getfield 59, 3) := dk_180 0 59 (dk_at dksX20_walks_13 7 rfl rfl)
theorem dX20_walks_309 : decode cX20_walks 309 = .ok (.iload_n 3, 1) := dk_29 (dk_at dksX20_walks_13 10 rfl rfl)
theorem dX20_walks_310 : decode cX20_walks 310 = .ok (.iload 9, 2) := dk_21 9 (dk_at dksX20_walks_13 11 rfl rfl)
theorem dX20_walks_312 : decode cX20_walks 312 = .ok (.iastore, 1) := dk_79 (dk_at dksX20_walks_13 13 rfl rfl)
theorem dX20_walks_313 : decode cX20_walks 313 = .ok (.iinc 3 1, 3) := dk_132 3 1 (dk_at dksX20_walks_13 14 rfl rfl)
theorem dX20_walks_316 : decode cX20_walks 316 = .ok (.iinc 8 1, 3) := dk_132 8 1 (dk_at dksX20_walks_13 17 rfl rfl)
theorem dX20_walks_319 : decode cX20_walks 319 = .ok (.goto (-119), 3) := dk_167 255 137 (dk_at dksX20_walks_13 20 rfl rfl)
theorem dX20_walks_322 : decode cX20_walks 322 = .ok (.iinc 4 1, 3) := dk_132 4 1 (dk_at dksX20_walks_14 0 rfl rfl)
theorem dX20_walks_325 : decode cX20_walks 325 = .ok (.goto (-255), 3) := dk_167 255 1 (dk_at dksX20_walks_14 3 rfl rfl)
theorem dX20_walks_328 : decode cX20_walks 328 = .ok (.iload_n 2, 1) := dk_28 (dk_at dksX20_walks_14 6 rfl rfl)
theorem dX20_walks_329 : decode cX20_walks 329 = .ok (.ifCond .ne 7, 3) := dk_154 0 7 (dk_at dksX20_walks_14 7 rfl rfl)
theorem dX20_walks_332 : decode cX20_walks 332 = .ok (.iconst 1, 1) := dk_4 (dk_at dksX20_walks_14 10 rfl rfl)
theorem dX20_walks_333 : decode cX20_walks 333 = .ok (.goto 4, 3) := dk_167 0 4 (dk_at dksX20_walks_14 11 rfl rfl)
theorem dX20_walks_336 : decode cX20_walks 336 = .ok (.iconst 0, 1) := dk_3 (dk_at dksX20_walks_14 14 rfl rfl)
theorem dX20_walks_337 : decode cX20_walks 337 = .ok (.ireturn, 1) := dk_172 (dk_at dksX20_walks_14 15 rfl rfl)
abbrev cX20_meets : ByteArray := prog_52_method_85_code
def yX20_meets : MethodName := ⟨RX20, "meets", "(I)Z"⟩
def dkwX20_meets_9 : List UInt8 := [4, 172]
abbrev dktX20_meets_9 : List UInt8 := dkwX20_meets_9 ++ []
def dkwX20_meets_8 : List UInt8 := [84, 42, 180, 0, 59, 28, 21, 6, 79, 132, 2, 1, 132, 5, 1, 167, 255, 181, 132, 3, 1, 167, 255, 108]
abbrev dktX20_meets_8 : List UInt8 := dkwX20_meets_8 ++ dktX20_meets_9
def dkwX20_meets_7 : List UInt8 := [46, 4, 96, 79, 42, 180, 0, 47, 21, 6, 51, 153, 0, 6, 167, 0, 22, 42, 180, 0, 47, 21, 6, 4]
abbrev dktX20_meets_7 : List UInt8 := dkwX20_meets_7 ++ dktX20_meets_8
def dkwX20_meets_6 : List UInt8 := [167, 0, 4, 4, 162, 0, 62, 42, 21, 4, 21, 5, 182, 1, 22, 54, 6, 42, 180, 0, 50, 21, 6, 92]
abbrev dktX20_meets_6 : List UInt8 := dkwX20_meets_6 ++ dktX20_meets_7
def dkwX20_meets_5 : List UInt8 := [16, 18, 160, 0, 6, 167, 0, 84, 3, 54, 5, 21, 5, 42, 21, 4, 182, 1, 19, 153, 0, 7, 5]
abbrev dktX20_meets_5 : List UInt8 := dkwX20_meets_5 ++ dktX20_meets_6
def dkwX20_meets_4 : List UInt8 := [159, 0, 15, 42, 180, 0, 7, 21, 4, 46, 16, 29, 164, 0, 5, 3, 172, 42, 180, 0, 7, 21, 4, 46]
abbrev dktX20_meets_4 : List UInt8 := dkwX20_meets_4 ++ dktX20_meets_5
def dkwX20_meets_3 : List UInt8 := [29, 46, 54, 4, 42, 180, 0, 7, 21, 4, 46, 153, 0, 27, 42, 180, 0, 7, 21, 4, 46, 16, 19]
abbrev dktX20_meets_3 : List UInt8 := dkwX20_meets_3 ++ dktX20_meets_4
def dkwX20_meets_2 : List UInt8 := [180, 0, 59, 3, 27, 79, 42, 180, 0, 47, 27, 4, 84, 3, 62, 29, 28, 162, 0, 149, 42, 180, 0, 59]
abbrev dktX20_meets_2 : List UInt8 := dkwX20_meets_2 ++ dktX20_meets_3
def dkwX20_meets_1 : List UInt8 := [180, 0, 53, 28, 3, 79, 42, 180, 0, 56, 28, 3, 79, 132, 2, 1, 167, 255, 218, 4, 61, 42]
abbrev dktX20_meets_1 : List UInt8 := dkwX20_meets_1 ++ dktX20_meets_2
def dkwX20_meets_0 : List UInt8 := [3, 61, 28, 17, 2, 0, 162, 0, 37, 42, 180, 0, 47, 28, 3, 84, 42, 180, 0, 50, 28, 3, 79, 42]
abbrev dktX20_meets_0 : List UInt8 := dkwX20_meets_0 ++ dktX20_meets_1
theorem dksX20_meets_0 : cX20_meets.data.toList.drop 0 = dktX20_meets_0 := by decide +kernel
theorem dksX20_meets_1 : cX20_meets.data.toList.drop 24 = dktX20_meets_1 := dk_seg dksX20_meets_0 24 rfl rfl
theorem dksX20_meets_2 : cX20_meets.data.toList.drop 46 = dktX20_meets_2 := dk_seg dksX20_meets_1 22 rfl rfl
theorem dksX20_meets_3 : cX20_meets.data.toList.drop 70 = dktX20_meets_3 := dk_seg dksX20_meets_2 24 rfl rfl
theorem dksX20_meets_4 : cX20_meets.data.toList.drop 93 = dktX20_meets_4 := dk_seg dksX20_meets_3 23 rfl rfl
theorem dksX20_meets_5 : cX20_meets.data.toList.drop 117 = dktX20_meets_5 := dk_seg dksX20_meets_4 24 rfl rfl
theorem dksX20_meets_6 : cX20_meets.data.toList.drop 140 = dktX20_meets_6 := dk_seg dksX20_meets_5 23 rfl rfl
theorem dksX20_meets_7 : cX20_meets.data.toList.drop 164 = dktX20_meets_7 := dk_seg dksX20_meets_6 24 rfl rfl
theorem dksX20_meets_8 : cX20_meets.data.toList.drop 188 = dktX20_meets_8 := dk_seg dksX20_meets_7 24 rfl rfl
theorem dksX20_meets_9 : cX20_meets.data.toList.drop 212 = dktX20_meets_9 := dk_seg dksX20_meets_8 24 rfl rfl
theorem dX20_meets_0 : decode cX20_meets 0 = .ok (.iconst 0, 1) := dk_3 (dk_at dksX20_meets_0 0 rfl rfl)
theorem dX20_meets_1 : decode cX20_meets 1 = .ok (.istore_n 2, 1) := dk_61 (dk_at dksX20_meets_0 1 rfl rfl)
theorem dX20_meets_2 : decode cX20_meets 2 = .ok (.iload_n 2, 1) := dk_28 (dk_at dksX20_meets_0 2 rfl rfl)
theorem dX20_meets_3 : decode cX20_meets 3 = .ok (.sipush 512, 3) := dk_17 2 0 (dk_at dksX20_meets_0 3 rfl rfl)
theorem dX20_meets_6 : decode cX20_meets 6 = .ok (.if_icmp .ge 37, 3) := dk_162 0 37 (dk_at dksX20_meets_0 6 rfl rfl)
theorem dX20_meets_9 : decode cX20_meets 9 = .ok (.aload_n 0, 1) := dk_42 (dk_at dksX20_meets_0 9 rfl rfl)
theorem dX20_meets_10 : decode cX20_meets 10 = .ok (.getfield 47, 3) := dk_180 0 47 (dk_at dksX20_meets_0 10 rfl rfl)
theorem dX20_meets_13 : decode cX20_meets 13 = .ok (.iload_n 2, 1) := dk_28 (dk_at dksX20_meets_0 13 rfl rfl)
theorem dX20_meets_14 : decode cX20_meets 14 = .ok (.iconst 0, 1) := dk_3 (dk_at dksX20_meets_0 14 rfl rfl)
theorem dX20_meets_15 : decode cX20_meets 15 = .ok (.bastore, 1) := dk_84 (dk_at dksX20_meets_0 15 rfl rfl)
theorem dX20_meets_16 : decode cX20_meets 16 = .ok (.aload_n 0, 1) := dk_42 (dk_at dksX20_meets_0 16 rfl rfl)
theorem dX20_meets_17 : decode cX20_meets 17 = .ok (.getfield 50, 3) := dk_180 0 50 (dk_at dksX20_meets_0 17 rfl rfl)
theorem dX20_meets_20 : decode cX20_meets 20 = .ok (.iload_n 2, 1) := dk_28 (dk_at dksX20_meets_0 20 rfl rfl)
theorem dX20_meets_21 : decode cX20_meets 21 = .ok (.iconst 0, 1) := dk_3 (dk_at dksX20_meets_0 21 rfl rfl)
theorem dX20_meets_22 : decode cX20_meets 22 = .ok (.iastore, 1) := dk_79 (dk_at dksX20_meets_0 22 rfl rfl)
theorem dX20_meets_23 : decode cX20_meets 23 = .ok (.aload_n 0, 1) := dk_42 (dk_at dksX20_meets_0 23 rfl rfl)
theorem dX20_meets_24 : decode cX20_meets 24 = .ok (.getfield 53, 3) := dk_180 0 53 (dk_at dksX20_meets_1 0 rfl rfl)
theorem dX20_meets_27 : decode cX20_meets 27 = .ok (.iload_n 2, 1) := dk_28 (dk_at dksX20_meets_1 3 rfl rfl)
theorem dX20_meets_28 : decode cX20_meets 28 = .ok (.iconst 0, 1) := dk_3 (dk_at dksX20_meets_1 4 rfl rfl)
theorem dX20_meets_29 : decode cX20_meets 29 = .ok (.iastore, 1) := dk_79 (dk_at dksX20_meets_1 5 rfl rfl)
theorem dX20_meets_30 : decode cX20_meets 30 = .ok (.aload_n 0, 1) := dk_42 (dk_at dksX20_meets_1 6 rfl rfl)
theorem dX20_meets_31 : decode cX20_meets 31 = .ok (.getfield 56, 3) := dk_180 0 56 (dk_at dksX20_meets_1 7 rfl rfl)
theorem dX20_meets_34 : decode cX20_meets 34 = .ok (.iload_n 2, 1) := dk_28 (dk_at dksX20_meets_1 10 rfl rfl)
theorem dX20_meets_35 : decode cX20_meets 35 = .ok (.iconst 0, 1) := dk_3 (dk_at dksX20_meets_1 11 rfl rfl)
theorem dX20_meets_36 : decode cX20_meets 36 = .ok (.iastore, 1) := dk_79 (dk_at dksX20_meets_1 12 rfl rfl)
theorem dX20_meets_37 : decode cX20_meets 37 = .ok (.iinc 2 1, 3) := dk_132 2 1 (dk_at dksX20_meets_1 13 rfl rfl)
theorem dX20_meets_40 : decode cX20_meets 40 = .ok (.goto (-38), 3) := dk_167 255 218 (dk_at dksX20_meets_1 16 rfl rfl)
theorem dX20_meets_43 : decode cX20_meets 43 = .ok (.iconst 1, 1) := dk_4 (dk_at dksX20_meets_1 19 rfl rfl)
theorem dX20_meets_44 : decode cX20_meets 44 = .ok (.istore_n 2, 1) := dk_61 (dk_at dksX20_meets_1 20 rfl rfl)
theorem dX20_meets_45 : decode cX20_meets 45 = .ok (.aload_n 0, 1) := dk_42 (dk_at dksX20_meets_1 21 rfl rfl)
theorem dX20_meets_46 : decode cX20_meets 46 = .ok (.getfield 59, 3) := dk_180 0 59 (dk_at dksX20_meets_2 0 rfl rfl)
theorem dX20_meets_49 : decode cX20_meets 49 = .ok (.iconst 0, 1) := dk_3 (dk_at dksX20_meets_2 3 rfl rfl)
theorem dX20_meets_50 : decode cX20_meets 50 = .ok (.iload_n 1, 1) := dk_27 (dk_at dksX20_meets_2 4 rfl rfl)
theorem dX20_meets_51 : decode cX20_meets 51 = .ok (.iastore, 1) := dk_79 (dk_at dksX20_meets_2 5 rfl rfl)
theorem dX20_meets_52 : decode cX20_meets 52 = .ok (.aload_n 0, 1) := dk_42 (dk_at dksX20_meets_2 6 rfl rfl)
theorem dX20_meets_53 : decode cX20_meets 53 = .ok (.getfield 47, 3) := dk_180 0 47 (dk_at dksX20_meets_2 7 rfl rfl)
theorem dX20_meets_56 : decode cX20_meets 56 = .ok (.iload_n 1, 1) := dk_27 (dk_at dksX20_meets_2 10 rfl rfl)
theorem dX20_meets_57 : decode cX20_meets 57 = .ok (.iconst 1, 1) := dk_4 (dk_at dksX20_meets_2 11 rfl rfl)
theorem dX20_meets_58 : decode cX20_meets 58 = .ok (.bastore, 1) := dk_84 (dk_at dksX20_meets_2 12 rfl rfl)
theorem dX20_meets_59 : decode cX20_meets 59 = .ok (.iconst 0, 1) := dk_3 (dk_at dksX20_meets_2 13 rfl rfl)
theorem dX20_meets_60 : decode cX20_meets 60 = .ok (.istore_n 3, 1) := dk_62 (dk_at dksX20_meets_2 14 rfl rfl)
theorem dX20_meets_61 : decode cX20_meets 61 = .ok (.iload_n 3, 1) := dk_29 (dk_at dksX20_meets_2 15 rfl rfl)
theorem dX20_meets_62 : decode cX20_meets 62 = .ok (.iload_n 2, 1) := dk_28 (dk_at dksX20_meets_2 16 rfl rfl)
theorem dX20_meets_63 : decode cX20_meets 63 = .ok (.if_icmp .ge 149, 3) := dk_162 0 149 (dk_at dksX20_meets_2 17 rfl rfl)
theorem dX20_meets_66 : decode cX20_meets 66 = .ok (.aload_n 0, 1) := dk_42 (dk_at dksX20_meets_2 20 rfl rfl)
theorem dX20_meets_67 : decode cX20_meets 67 = .ok (.getfield 59, 3) := dk_180 0 59 (dk_at dksX20_meets_2 21 rfl rfl)
theorem dX20_meets_70 : decode cX20_meets 70 = .ok (.iload_n 3, 1) := dk_29 (dk_at dksX20_meets_3 0 rfl rfl)
theorem dX20_meets_71 : decode cX20_meets 71 = .ok (.iaload, 1) := dk_46 (dk_at dksX20_meets_3 1 rfl rfl)
theorem dX20_meets_72 : decode cX20_meets 72 = .ok (.istore 4, 2) := dk_54 4 (dk_at dksX20_meets_3 2 rfl rfl)
theorem dX20_meets_74 : decode cX20_meets 74 = .ok (.aload_n 0, 1) := dk_42 (dk_at dksX20_meets_3 4 rfl rfl)
theorem dX20_meets_75 : decode cX20_meets 75 = .ok (.getfield 7, 3) := dk_180 0 7 (dk_at dksX20_meets_3 5 rfl rfl)
theorem dX20_meets_78 : decode cX20_meets 78 = .ok (.iload 4, 2) := dk_21 4 (dk_at dksX20_meets_3 8 rfl rfl)
theorem dX20_meets_80 : decode cX20_meets 80 = .ok (.iaload, 1) := dk_46 (dk_at dksX20_meets_3 10 rfl rfl)
theorem dX20_meets_81 : decode cX20_meets 81 = .ok (.ifCond .eq 27, 3) := dk_153 0 27 (dk_at dksX20_meets_3 11 rfl rfl)
theorem dX20_meets_84 : decode cX20_meets 84 = .ok (.aload_n 0, 1) := dk_42 (dk_at dksX20_meets_3 14 rfl rfl)
theorem dX20_meets_85 : decode cX20_meets 85 = .ok (.getfield 7, 3) := dk_180 0 7 (dk_at dksX20_meets_3 15 rfl rfl)
theorem dX20_meets_88 : decode cX20_meets 88 = .ok (.iload 4, 2) := dk_21 4 (dk_at dksX20_meets_3 18 rfl rfl)
theorem dX20_meets_90 : decode cX20_meets 90 = .ok (.iaload, 1) := dk_46 (dk_at dksX20_meets_3 20 rfl rfl)
theorem dX20_meets_91 : decode cX20_meets 91 = .ok (.bipush 19, 2) := dk_16 19 (dk_at dksX20_meets_3 21 rfl rfl)
theorem dX20_meets_93 : decode cX20_meets 93 = .ok (.if_icmp .eq 15, 3) := dk_159 0 15 (dk_at dksX20_meets_4 0 rfl rfl)
theorem dX20_meets_96 : decode cX20_meets 96 = .ok (.aload_n 0, 1) := dk_42 (dk_at dksX20_meets_4 3 rfl rfl)
theorem dX20_meets_97 : decode cX20_meets 97 = .ok (.getfield 7, 3) := dk_180 0 7 (dk_at dksX20_meets_4 4 rfl rfl)
theorem dX20_meets_100 : decode cX20_meets 100 = .ok (.iload 4, 2) := dk_21 4 (dk_at dksX20_meets_4 7 rfl rfl)
theorem dX20_meets_102 : decode cX20_meets 102 = .ok (.iaload, 1) := dk_46 (dk_at dksX20_meets_4 9 rfl rfl)
theorem dX20_meets_103 : decode cX20_meets 103 = .ok (.bipush 29, 2) := dk_16 29 (dk_at dksX20_meets_4 10 rfl rfl)
theorem dX20_meets_105 : decode cX20_meets 105 = .ok (.if_icmp .le 5, 3) := dk_164 0 5 (dk_at dksX20_meets_4 12 rfl rfl)
theorem dX20_meets_108 : decode cX20_meets 108 = .ok (.iconst 0, 1) := dk_3 (dk_at dksX20_meets_4 15 rfl rfl)
theorem dX20_meets_109 : decode cX20_meets 109 = .ok (.ireturn, 1) := dk_172 (dk_at dksX20_meets_4 16 rfl rfl)
theorem dX20_meets_110 : decode cX20_meets 110 = .ok (.aload_n 0, 1) := dk_42 (dk_at dksX20_meets_4 17 rfl rfl)
theorem dX20_meets_111 : decode cX20_meets 111 = .ok (.getfield 7, 3) := dk_180 0 7 (dk_at dksX20_meets_4 18 rfl rfl)
theorem dX20_meets_114 : decode cX20_meets 114 = .ok (.iload 4, 2) := dk_21 4 (dk_at dksX20_meets_4 21 rfl rfl)
theorem dX20_meets_116 : decode cX20_meets 116 = .ok (.iaload, 1) := dk_46 (dk_at dksX20_meets_4 23 rfl rfl)
theorem dX20_meets_117 : decode cX20_meets 117 = .ok (.bipush 18, 2) := dk_16 18 (dk_at dksX20_meets_5 0 rfl rfl)
theorem dX20_meets_119 : decode cX20_meets 119 = .ok (.if_icmp .ne 6, 3) := dk_160 0 6 (dk_at dksX20_meets_5 2 rfl rfl)
theorem dX20_meets_122 : decode cX20_meets 122 = .ok (.goto 84, 3) := dk_167 0 84 (dk_at dksX20_meets_5 5 rfl rfl)
theorem dX20_meets_125 : decode cX20_meets 125 = .ok (.iconst 0, 1) := dk_3 (dk_at dksX20_meets_5 8 rfl rfl)
theorem dX20_meets_126 : decode cX20_meets 126 = .ok (.istore 5, 2) := dk_54 5 (dk_at dksX20_meets_5 9 rfl rfl)
theorem dX20_meets_128 : decode cX20_meets 128 = .ok (.iload 5, 2) := dk_21 5 (dk_at dksX20_meets_5 11 rfl rfl)
theorem dX20_meets_130 : decode cX20_meets 130 = .ok (.aload_n 0, 1) := dk_42 (dk_at dksX20_meets_5 13 rfl rfl)
theorem dX20_meets_131 : decode cX20_meets 131 = .ok (.iload 4, 2) := dk_21 4 (dk_at dksX20_meets_5 14 rfl rfl)
theorem dX20_meets_133 : decode cX20_meets 133 = .ok (.invokevirtual 275, 3) := dk_182 1 19 (dk_at dksX20_meets_5 16 rfl rfl)
theorem dX20_meets_136 : decode cX20_meets 136 = .ok (.ifCond .eq 7, 3) := dk_153 0 7 (dk_at dksX20_meets_5 19 rfl rfl)
theorem dX20_meets_139 : decode cX20_meets 139 = .ok (.iconst 2, 1) := dk_5 (dk_at dksX20_meets_5 22 rfl rfl)
theorem dX20_meets_140 : decode cX20_meets 140 = .ok (.goto 4, 3) := dk_167 0 4 (dk_at dksX20_meets_6 0 rfl rfl)
theorem dX20_meets_143 : decode cX20_meets 143 = .ok (.iconst 1, 1) := dk_4 (dk_at dksX20_meets_6 3 rfl rfl)
theorem dX20_meets_144 : decode cX20_meets 144 = .ok (.if_icmp .ge 62, 3) := dk_162 0 62 (dk_at dksX20_meets_6 4 rfl rfl)
theorem dX20_meets_147 : decode cX20_meets 147 = .ok (.aload_n 0, 1) := dk_42 (dk_at dksX20_meets_6 7 rfl rfl)
theorem dX20_meets_148 : decode cX20_meets 148 = .ok (.iload 4, 2) := dk_21 4 (dk_at dksX20_meets_6 8 rfl rfl)
theorem dX20_meets_150 : decode cX20_meets 150 = .ok (.iload 5, 2) := dk_21 5 (dk_at dksX20_meets_6 10 rfl rfl)
theorem dX20_meets_152 : decode cX20_meets 152 = .ok (.invokevirtual 278, 3) := dk_182 1 22 (dk_at dksX20_meets_6 12 rfl rfl)
theorem dX20_meets_155 : decode cX20_meets 155 = .ok (.istore 6, 2) := dk_54 6 (dk_at dksX20_meets_6 15 rfl rfl)
theorem dX20_meets_157 : decode cX20_meets 157 = .ok (.aload_n 0, 1) := dk_42 (dk_at dksX20_meets_6 17 rfl rfl)
theorem dX20_meets_158 : decode cX20_meets 158 = .ok (.getfield 50, 3) := dk_180 0 50 (dk_at dksX20_meets_6 18 rfl rfl)
theorem dX20_meets_161 : decode cX20_meets 161 = .ok (.iload 6, 2) := dk_21 6 (dk_at dksX20_meets_6 21 rfl rfl)
theorem dX20_meets_163 : decode cX20_meets 163 = .ok (.dup2, 1) := dk_92 (dk_at dksX20_meets_6 23 rfl rfl)
theorem dX20_meets_164 : decode cX20_meets 164 = .ok (.iaload, 1) := dk_46 (dk_at dksX20_meets_7 0 rfl rfl)
theorem dX20_meets_165 : decode cX20_meets 165 = .ok (.iconst 1, 1) := dk_4 (dk_at dksX20_meets_7 1 rfl rfl)
theorem dX20_meets_166 : decode cX20_meets 166 = .ok (.iadd, 1) := dk_96 (dk_at dksX20_meets_7 2 rfl rfl)
theorem dX20_meets_167 : decode cX20_meets 167 = .ok (.iastore, 1) := dk_79 (dk_at dksX20_meets_7 3 rfl rfl)
theorem dX20_meets_168 : decode cX20_meets 168 = .ok (.aload_n 0, 1) := dk_42 (dk_at dksX20_meets_7 4 rfl rfl)
theorem dX20_meets_169 : decode cX20_meets 169 = .ok (.getfield 47, 3) := dk_180 0 47 (dk_at dksX20_meets_7 5 rfl rfl)
theorem dX20_meets_172 : decode cX20_meets 172 = .ok (.iload 6, 2) := dk_21 6 (dk_at dksX20_meets_7 8 rfl rfl)
theorem dX20_meets_174 : decode cX20_meets 174 = .ok (.baload, 1) := dk_51 (dk_at dksX20_meets_7 10 rfl rfl)
theorem dX20_meets_175 : decode cX20_meets 175 = .ok (.ifCond .eq 6, 3) := dk_153 0 6 (dk_at dksX20_meets_7 11 rfl rfl)
theorem dX20_meets_178 : decode cX20_meets 178 = .ok (.goto 22, 3) := dk_167 0 22 (dk_at dksX20_meets_7 14 rfl rfl)
theorem dX20_meets_181 : decode cX20_meets 181 = .ok (.aload_n 0, 1) := dk_42 (dk_at dksX20_meets_7 17 rfl rfl)
theorem dX20_meets_182 : decode cX20_meets 182 = .ok (.getfield 47, 3) := dk_180 0 47 (dk_at dksX20_meets_7 18 rfl rfl)
theorem dX20_meets_185 : decode cX20_meets 185 = .ok (.iload 6, 2) := dk_21 6 (dk_at dksX20_meets_7 21 rfl rfl)
theorem dX20_meets_187 : decode cX20_meets 187 = .ok (.iconst 1, 1) := dk_4 (dk_at dksX20_meets_7 23 rfl rfl)
theorem dX20_meets_188 : decode cX20_meets 188 = .ok (.bastore, 1) := dk_84 (dk_at dksX20_meets_8 0 rfl rfl)
theorem dX20_meets_189 : decode cX20_meets 189 = .ok (.aload_n 0, 1) := dk_42 (dk_at dksX20_meets_8 1 rfl rfl)
theorem dX20_meets_190 : decode cX20_meets 190 = .ok (.getfield 59, 3) := dk_180 0 59 (dk_at dksX20_meets_8 2 rfl rfl)
theorem dX20_meets_193 : decode cX20_meets 193 = .ok (.iload_n 2, 1) := dk_28 (dk_at dksX20_meets_8 5 rfl rfl)
theorem dX20_meets_194 : decode cX20_meets 194 = .ok (.iload 6, 2) := dk_21 6 (dk_at dksX20_meets_8 6 rfl rfl)
theorem dX20_meets_196 : decode cX20_meets 196 = .ok (.iastore, 1) := dk_79 (dk_at dksX20_meets_8 8 rfl rfl)
theorem dX20_meets_197 : decode cX20_meets 197 = .ok (.iinc 2 1, 3) := dk_132 2 1 (dk_at dksX20_meets_8 9 rfl rfl)
theorem dX20_meets_200 : decode cX20_meets 200 = .ok (.iinc 5 1, 3) := dk_132 5 1 (dk_at dksX20_meets_8 12 rfl rfl)
theorem dX20_meets_203 : decode cX20_meets 203 = .ok (.goto (-75), 3) := dk_167 255 181 (dk_at dksX20_meets_8 15 rfl rfl)
theorem dX20_meets_206 : decode cX20_meets 206 = .ok (.iinc 3 1, 3) := dk_132 3 1 (dk_at dksX20_meets_8 18 rfl rfl)
theorem dX20_meets_209 : decode cX20_meets 209 = .ok (.goto (-148), 3) := dk_167 255 108 (dk_at dksX20_meets_8 21 rfl rfl)
theorem dX20_meets_212 : decode cX20_meets 212 = .ok (.iconst 1, 1) := dk_4 (dk_at dksX20_meets_9 0 rfl rfl)
theorem dX20_meets_213 : decode cX20_meets 213 = .ok (.ireturn, 1) := dk_172 (dk_at dksX20_meets_9 1 rfl rfl)
abbrev cX20_branches : ByteArray := prog_52_method_83_code
def yX20_branches : MethodName := ⟨RX20, "branches", "(I)Z"⟩
def dkwX20_branches_1 : List UInt8 := [167, 0, 4, 3, 172]
abbrev dktX20_branches_1 : List UInt8 := dkwX20_branches_1 ++ []
def dkwX20_branches_0 : List UInt8 := [42, 180, 0, 7, 27, 46, 16, 12, 159, 0, 14, 42, 180, 0, 7, 27, 46, 16, 13, 160, 0, 7, 4]
abbrev dktX20_branches_0 : List UInt8 := dkwX20_branches_0 ++ dktX20_branches_1
theorem dksX20_branches_0 : cX20_branches.data.toList.drop 0 = dktX20_branches_0 := by decide +kernel
theorem dksX20_branches_1 : cX20_branches.data.toList.drop 23 = dktX20_branches_1 := dk_seg dksX20_branches_0 23 rfl rfl
theorem dX20_branches_0 : decode cX20_branches 0 = .ok (.aload_n 0, 1) := dk_42 (dk_at dksX20_branches_0 0 rfl rfl)
theorem dX20_branches_1 : decode cX20_branches 1 = .ok (.getfield 7, 3) := dk_180 0 7 (dk_at dksX20_branches_0 1 rfl rfl)
theorem dX20_branches_4 : decode cX20_branches 4 = .ok (.iload_n 1, 1) := dk_27 (dk_at dksX20_branches_0 4 rfl rfl)
theorem dX20_branches_5 : decode cX20_branches 5 = .ok (.iaload, 1) := dk_46 (dk_at dksX20_branches_0 5 rfl rfl)
theorem dX20_branches_6 : decode cX20_branches 6 = .ok (.bipush 12, 2) := dk_16 12 (dk_at dksX20_branches_0 6 rfl rfl)
theorem dX20_branches_8 : decode cX20_branches 8 = .ok (.if_icmp .eq 14, 3) := dk_159 0 14 (dk_at dksX20_branches_0 8 rfl rfl)
theorem dX20_branches_11 : decode cX20_branches 11 = .ok (.aload_n 0, 1) := dk_42 (dk_at dksX20_branches_0 11 rfl rfl)
theorem dX20_branches_12 : decode cX20_branches 12 = .ok (.getfield 7, 3) := dk_180 0 7 (dk_at dksX20_branches_0 12 rfl rfl)
theorem dX20_branches_15 : decode cX20_branches 15 = .ok (.iload_n 1, 1) := dk_27 (dk_at dksX20_branches_0 15 rfl rfl)
theorem dX20_branches_16 : decode cX20_branches 16 = .ok (.iaload, 1) := dk_46 (dk_at dksX20_branches_0 16 rfl rfl)
theorem dX20_branches_17 : decode cX20_branches 17 = .ok (.bipush 13, 2) := dk_16 13 (dk_at dksX20_branches_0 17 rfl rfl)
theorem dX20_branches_19 : decode cX20_branches 19 = .ok (.if_icmp .ne 7, 3) := dk_160 0 7 (dk_at dksX20_branches_0 19 rfl rfl)
theorem dX20_branches_22 : decode cX20_branches 22 = .ok (.iconst 1, 1) := dk_4 (dk_at dksX20_branches_0 22 rfl rfl)
theorem dX20_branches_23 : decode cX20_branches 23 = .ok (.goto 4, 3) := dk_167 0 4 (dk_at dksX20_branches_1 0 rfl rfl)
theorem dX20_branches_26 : decode cX20_branches 26 = .ok (.iconst 0, 1) := dk_3 (dk_at dksX20_branches_1 3 rfl rfl)
theorem dX20_branches_27 : decode cX20_branches 27 = .ok (.ireturn, 1) := dk_172 (dk_at dksX20_branches_1 4 rfl rfl)
abbrev cX20_goesTo : ByteArray := prog_52_method_84_code
def yX20_goesTo : MethodName := ⟨RX20, "goesTo", "(II)I"⟩
def dkwX20_goesTo_2 : List UInt8 := [112, 167, 0, 19, 27, 178, 0, 223, 42, 180, 0, 7, 27, 46, 46, 96, 17, 2, 0, 112, 172]
abbrev dktX20_goesTo_2 : List UInt8 := dkwX20_goesTo_2 ++ []
def dkwX20_goesTo_1 : List UInt8 := [4, 96, 17, 2, 0, 112, 46, 104, 42, 180, 0, 7, 27, 5, 96, 17, 2, 0, 112, 46, 96, 17, 2, 0]
abbrev dktX20_goesTo_1 : List UInt8 := dkwX20_goesTo_1 ++ dktX20_goesTo_2
def dkwX20_goesTo_0 : List UInt8 := [42, 180, 0, 7, 27, 46, 16, 11, 159, 0, 8, 28, 4, 160, 0, 39, 17, 1, 0, 42, 180, 0, 7, 27]
abbrev dktX20_goesTo_0 : List UInt8 := dkwX20_goesTo_0 ++ dktX20_goesTo_1
theorem dksX20_goesTo_0 : cX20_goesTo.data.toList.drop 0 = dktX20_goesTo_0 := by decide +kernel
theorem dksX20_goesTo_1 : cX20_goesTo.data.toList.drop 24 = dktX20_goesTo_1 := dk_seg dksX20_goesTo_0 24 rfl rfl
theorem dksX20_goesTo_2 : cX20_goesTo.data.toList.drop 48 = dktX20_goesTo_2 := dk_seg dksX20_goesTo_1 24 rfl rfl
theorem dX20_goesTo_0 : decode cX20_goesTo 0 = .ok (.aload_n 0, 1) := dk_42 (dk_at dksX20_goesTo_0 0 rfl rfl)
theorem dX20_goesTo_1 : decode cX20_goesTo 1 = .ok (.getfield 7, 3) := dk_180 0 7 (dk_at dksX20_goesTo_0 1 rfl rfl)
theorem dX20_goesTo_4 : decode cX20_goesTo 4 = .ok (.iload_n 1, 1) := dk_27 (dk_at dksX20_goesTo_0 4 rfl rfl)
theorem dX20_goesTo_5 : decode cX20_goesTo 5 = .ok (.iaload, 1) := dk_46 (dk_at dksX20_goesTo_0 5 rfl rfl)
theorem dX20_goesTo_6 : decode cX20_goesTo 6 = .ok (.bipush 11, 2) := dk_16 11 (dk_at dksX20_goesTo_0 6 rfl rfl)
theorem dX20_goesTo_8 : decode cX20_goesTo 8 = .ok (.if_icmp .eq 8, 3) := dk_159 0 8 (dk_at dksX20_goesTo_0 8 rfl rfl)
theorem dX20_goesTo_11 : decode cX20_goesTo 11 = .ok (.iload_n 2, 1) := dk_28 (dk_at dksX20_goesTo_0 11 rfl rfl)
theorem dX20_goesTo_12 : decode cX20_goesTo 12 = .ok (.iconst 1, 1) := dk_4 (dk_at dksX20_goesTo_0 12 rfl rfl)
theorem dX20_goesTo_13 : decode cX20_goesTo 13 = .ok (.if_icmp .ne 39, 3) := dk_160 0 39 (dk_at dksX20_goesTo_0 13 rfl rfl)
theorem dX20_goesTo_16 : decode cX20_goesTo 16 = .ok (.sipush 256, 3) := dk_17 1 0 (dk_at dksX20_goesTo_0 16 rfl rfl)
theorem dX20_goesTo_19 : decode cX20_goesTo 19 = .ok (.aload_n 0, 1) := dk_42 (dk_at dksX20_goesTo_0 19 rfl rfl)
theorem dX20_goesTo_20 : decode cX20_goesTo 20 = .ok (.getfield 7, 3) := dk_180 0 7 (dk_at dksX20_goesTo_0 20 rfl rfl)
theorem dX20_goesTo_23 : decode cX20_goesTo 23 = .ok (.iload_n 1, 1) := dk_27 (dk_at dksX20_goesTo_0 23 rfl rfl)
theorem dX20_goesTo_24 : decode cX20_goesTo 24 = .ok (.iconst 1, 1) := dk_4 (dk_at dksX20_goesTo_1 0 rfl rfl)
theorem dX20_goesTo_25 : decode cX20_goesTo 25 = .ok (.iadd, 1) := dk_96 (dk_at dksX20_goesTo_1 1 rfl rfl)
theorem dX20_goesTo_26 : decode cX20_goesTo 26 = .ok (.sipush 512, 3) := dk_17 2 0 (dk_at dksX20_goesTo_1 2 rfl rfl)
theorem dX20_goesTo_29 : decode cX20_goesTo 29 = .ok (.irem, 1) := dk_112 (dk_at dksX20_goesTo_1 5 rfl rfl)
theorem dX20_goesTo_30 : decode cX20_goesTo 30 = .ok (.iaload, 1) := dk_46 (dk_at dksX20_goesTo_1 6 rfl rfl)
theorem dX20_goesTo_31 : decode cX20_goesTo 31 = .ok (.imul, 1) := dk_104 (dk_at dksX20_goesTo_1 7 rfl rfl)
theorem dX20_goesTo_32 : decode cX20_goesTo 32 = .ok (.aload_n 0, 1) := dk_42 (dk_at dksX20_goesTo_1 8 rfl rfl)
theorem dX20_goesTo_33 : decode cX20_goesTo 33 = .ok (.getfield 7, 3) := dk_180 0 7 (dk_at dksX20_goesTo_1 9 rfl rfl)
theorem dX20_goesTo_36 : decode cX20_goesTo 36 = .ok (.iload_n 1, 1) := dk_27 (dk_at dksX20_goesTo_1 12 rfl rfl)
theorem dX20_goesTo_37 : decode cX20_goesTo 37 = .ok (.iconst 2, 1) := dk_5 (dk_at dksX20_goesTo_1 13 rfl rfl)
theorem dX20_goesTo_38 : decode cX20_goesTo 38 = .ok (.iadd, 1) := dk_96 (dk_at dksX20_goesTo_1 14 rfl rfl)
theorem dX20_goesTo_39 : decode cX20_goesTo 39 = .ok (.sipush 512, 3) := dk_17 2 0 (dk_at dksX20_goesTo_1 15 rfl rfl)
theorem dX20_goesTo_42 : decode cX20_goesTo 42 = .ok (.irem, 1) := dk_112 (dk_at dksX20_goesTo_1 18 rfl rfl)
theorem dX20_goesTo_43 : decode cX20_goesTo 43 = .ok (.iaload, 1) := dk_46 (dk_at dksX20_goesTo_1 19 rfl rfl)
theorem dX20_goesTo_44 : decode cX20_goesTo 44 = .ok (.iadd, 1) := dk_96 (dk_at dksX20_goesTo_1 20 rfl rfl)
theorem dX20_goesTo_45 : decode cX20_goesTo 45 = .ok (.sipush 512, 3) := dk_17 2 0 (dk_at dksX20_goesTo_1 21 rfl rfl)
theorem dX20_goesTo_48 : decode cX20_goesTo 48 = .ok (.irem, 1) := dk_112 (dk_at dksX20_goesTo_2 0 rfl rfl)
theorem dX20_goesTo_49 : decode cX20_goesTo 49 = .ok (.goto 19, 3) := dk_167 0 19 (dk_at dksX20_goesTo_2 1 rfl rfl)
theorem dX20_goesTo_52 : decode cX20_goesTo 52 = .ok (.iload_n 1, 1) := dk_27 (dk_at dksX20_goesTo_2 4 rfl rfl)
theorem dX20_goesTo_53 : decode cX20_goesTo 53 = .ok (.getstatic 223, 3) := dk_178 0 223 (dk_at dksX20_goesTo_2 5 rfl rfl)
theorem dX20_goesTo_56 : decode cX20_goesTo 56 = .ok (.aload_n 0, 1) := dk_42 (dk_at dksX20_goesTo_2 8 rfl rfl)
theorem dX20_goesTo_57 : decode cX20_goesTo 57 = .ok (.getfield 7, 3) := dk_180 0 7 (dk_at dksX20_goesTo_2 9 rfl rfl)
theorem dX20_goesTo_60 : decode cX20_goesTo 60 = .ok (.iload_n 1, 1) := dk_27 (dk_at dksX20_goesTo_2 12 rfl rfl)
theorem dX20_goesTo_61 : decode cX20_goesTo 61 = .ok (.iaload, 1) := dk_46 (dk_at dksX20_goesTo_2 13 rfl rfl)
theorem dX20_goesTo_62 : decode cX20_goesTo 62 = .ok (.iaload, 1) := dk_46 (dk_at dksX20_goesTo_2 14 rfl rfl)
theorem dX20_goesTo_63 : decode cX20_goesTo 63 = .ok (.iadd, 1) := dk_96 (dk_at dksX20_goesTo_2 15 rfl rfl)
theorem dX20_goesTo_64 : decode cX20_goesTo 64 = .ok (.sipush 512, 3) := dk_17 2 0 (dk_at dksX20_goesTo_2 16 rfl rfl)
theorem dX20_goesTo_67 : decode cX20_goesTo 67 = .ok (.irem, 1) := dk_112 (dk_at dksX20_goesTo_2 19 rfl rfl)
theorem dX20_goesTo_68 : decode cX20_goesTo 68 = .ok (.ireturn, 1) := dk_172 (dk_at dksX20_goesTo_2 20 rfl rfl)
abbrev cX20_pushes : ByteArray := prog_52_method_88_code
def yX20_pushes : MethodName := ⟨RX20, "pushes", "(I)I"⟩
def dkwX20_pushes_1 : List UInt8 := [182, 1, 34, 153, 0, 10, 42, 180, 1, 28, 167, 0, 4, 2, 172]
abbrev dktX20_pushes_1 : List UInt8 := dkwX20_pushes_1 ++ []
def dkwX20_pushes_0 : List UInt8 := [42, 3, 181, 0, 65, 27, 3, 16, 20, 184, 0, 195, 153, 0, 23, 42, 42, 180, 0, 13, 27, 46]
abbrev dktX20_pushes_0 : List UInt8 := dkwX20_pushes_0 ++ dktX20_pushes_1
theorem dksX20_pushes_0 : cX20_pushes.data.toList.drop 0 = dktX20_pushes_0 := by decide +kernel
theorem dksX20_pushes_1 : cX20_pushes.data.toList.drop 22 = dktX20_pushes_1 := dk_seg dksX20_pushes_0 22 rfl rfl
theorem dX20_pushes_0 : decode cX20_pushes 0 = .ok (.aload_n 0, 1) := dk_42 (dk_at dksX20_pushes_0 0 rfl rfl)
theorem dX20_pushes_1 : decode cX20_pushes 1 = .ok (.iconst 0, 1) := dk_3 (dk_at dksX20_pushes_0 1 rfl rfl)
theorem dX20_pushes_2 : decode cX20_pushes 2 = .ok (.putfield 65, 3) := dk_181 0 65 (dk_at dksX20_pushes_0 2 rfl rfl)
theorem dX20_pushes_5 : decode cX20_pushes 5 = .ok (.iload_n 1, 1) := dk_27 (dk_at dksX20_pushes_0 5 rfl rfl)
theorem dX20_pushes_6 : decode cX20_pushes 6 = .ok (.iconst 0, 1) := dk_3 (dk_at dksX20_pushes_0 6 rfl rfl)
theorem dX20_pushes_7 : decode cX20_pushes 7 = .ok (.bipush 20, 2) := dk_16 20 (dk_at dksX20_pushes_0 7 rfl rfl)
theorem dX20_pushes_9 : decode cX20_pushes 9 = .ok (.invokestatic 195, 3) := dk_184 0 195 (dk_at dksX20_pushes_0 9 rfl rfl)
theorem dX20_pushes_12 : decode cX20_pushes 12 = .ok (.ifCond .eq 23, 3) := dk_153 0 23 (dk_at dksX20_pushes_0 12 rfl rfl)
theorem dX20_pushes_15 : decode cX20_pushes 15 = .ok (.aload_n 0, 1) := dk_42 (dk_at dksX20_pushes_0 15 rfl rfl)
theorem dX20_pushes_16 : decode cX20_pushes 16 = .ok (.aload_n 0, 1) := dk_42 (dk_at dksX20_pushes_0 16 rfl rfl)
theorem dX20_pushes_17 : decode cX20_pushes 17 = .ok (.getfield 13, 3) := dk_180 0 13 (dk_at dksX20_pushes_0 17 rfl rfl)
theorem dX20_pushes_20 : decode cX20_pushes 20 = .ok (.iload_n 1, 1) := dk_27 (dk_at dksX20_pushes_0 20 rfl rfl)
theorem dX20_pushes_21 : decode cX20_pushes 21 = .ok (.iaload, 1) := dk_46 (dk_at dksX20_pushes_0 21 rfl rfl)
theorem dX20_pushes_22 : decode cX20_pushes 22 = .ok (.invokevirtual 290, 3) := dk_182 1 34 (dk_at dksX20_pushes_1 0 rfl rfl)
theorem dX20_pushes_25 : decode cX20_pushes 25 = .ok (.ifCond .eq 10, 3) := dk_153 0 10 (dk_at dksX20_pushes_1 3 rfl rfl)
theorem dX20_pushes_28 : decode cX20_pushes 28 = .ok (.aload_n 0, 1) := dk_42 (dk_at dksX20_pushes_1 6 rfl rfl)
theorem dX20_pushes_29 : decode cX20_pushes 29 = .ok (.getfield 284, 3) := dk_180 1 28 (dk_at dksX20_pushes_1 7 rfl rfl)
theorem dX20_pushes_32 : decode cX20_pushes 32 = .ok (.goto 4, 3) := dk_167 0 4 (dk_at dksX20_pushes_1 10 rfl rfl)
theorem dX20_pushes_35 : decode cX20_pushes 35 = .ok (.iconst (-1), 1) := dk_2 (dk_at dksX20_pushes_1 13 rfl rfl)
theorem dX20_pushes_36 : decode cX20_pushes 36 = .ok (.ireturn, 1) := dk_172 (dk_at dksX20_pushes_1 14 rfl rfl)
abbrev cX20_room : ByteArray := prog_52_method_89_code
def yX20_room : MethodName := ⟨RX20, "room", "(Z)I"⟩
def dkwX20_room_6 : List UInt8 := [16, 10, 167, 0, 5, 16, 6, 96, 96, 61, 132, 3, 1, 167, 255, 110, 28, 172]
abbrev dktX20_room_6 : List UInt8 := dkwX20_room_6 ++ []
def dkwX20_room_5 : List UInt8 := [180, 1, 28, 54, 5, 132, 6, 1, 167, 255, 165, 21, 4, 153, 0, 20, 28, 21, 5, 27, 153, 0, 8]
abbrev dktX20_room_5 : List UInt8 := dkwX20_room_5 ++ dktX20_room_6
def dkwX20_room_4 : List UInt8 := [180, 0, 13, 21, 6, 46, 182, 1, 34, 154, 0, 5, 2, 172, 42, 180, 1, 28, 21, 5, 164, 0, 9, 42]
abbrev dktX20_room_4 : List UInt8 := dkwX20_room_4 ++ dktX20_room_5
def dkwX20_room_3 : List UInt8 := [42, 180, 0, 113, 184, 0, 109, 159, 0, 6, 167, 0, 43, 21, 6, 29, 162, 0, 6, 3, 54, 4, 42, 42]
abbrev dktX20_room_3 : List UInt8 := dkwX20_room_3 ++ dktX20_room_4
def dkwX20_room_2 : List UInt8 := [21, 6, 51, 153, 0, 74, 42, 180, 0, 20, 21, 6, 42, 180, 0, 113, 184, 0, 109, 42, 180, 0, 20, 29]
abbrev dktX20_room_2 : List UInt8 := dkwX20_room_2 ++ dktX20_room_3
def dkwX20_room_1 : List UInt8 := [167, 0, 128, 4, 54, 4, 3, 54, 5, 3, 54, 6, 21, 6, 16, 21, 162, 0, 90, 42, 180, 0, 16]
abbrev dktX20_room_1 : List UInt8 := dkwX20_room_1 ++ dktX20_room_2
def dkwX20_room_0 : List UInt8 := [42, 3, 181, 0, 65, 3, 61, 3, 62, 29, 16, 21, 162, 0, 146, 42, 180, 0, 16, 29, 51, 154, 0, 6]
abbrev dktX20_room_0 : List UInt8 := dkwX20_room_0 ++ dktX20_room_1
theorem dksX20_room_0 : cX20_room.data.toList.drop 0 = dktX20_room_0 := by decide +kernel
theorem dksX20_room_1 : cX20_room.data.toList.drop 24 = dktX20_room_1 := dk_seg dksX20_room_0 24 rfl rfl
theorem dksX20_room_2 : cX20_room.data.toList.drop 47 = dktX20_room_2 := dk_seg dksX20_room_1 23 rfl rfl
theorem dksX20_room_3 : cX20_room.data.toList.drop 71 = dktX20_room_3 := dk_seg dksX20_room_2 24 rfl rfl
theorem dksX20_room_4 : cX20_room.data.toList.drop 95 = dktX20_room_4 := dk_seg dksX20_room_3 24 rfl rfl
theorem dksX20_room_5 : cX20_room.data.toList.drop 119 = dktX20_room_5 := dk_seg dksX20_room_4 24 rfl rfl
theorem dksX20_room_6 : cX20_room.data.toList.drop 142 = dktX20_room_6 := dk_seg dksX20_room_5 23 rfl rfl
theorem dX20_room_0 : decode cX20_room 0 = .ok (.aload_n 0, 1) := dk_42 (dk_at dksX20_room_0 0 rfl rfl)
theorem dX20_room_1 : decode cX20_room 1 = .ok (.iconst 0, 1) := dk_3 (dk_at dksX20_room_0 1 rfl rfl)
theorem dX20_room_2 : decode cX20_room 2 = .ok (.putfield 65, 3) := dk_181 0 65 (dk_at dksX20_room_0 2 rfl rfl)
theorem dX20_room_5 : decode cX20_room 5 = .ok (.iconst 0, 1) := dk_3 (dk_at dksX20_room_0 5 rfl rfl)
theorem dX20_room_6 : decode cX20_room 6 = .ok (.istore_n 2, 1) := dk_61 (dk_at dksX20_room_0 6 rfl rfl)
theorem dX20_room_7 : decode cX20_room 7 = .ok (.iconst 0, 1) := dk_3 (dk_at dksX20_room_0 7 rfl rfl)
theorem dX20_room_8 : decode cX20_room 8 = .ok (.istore_n 3, 1) := dk_62 (dk_at dksX20_room_0 8 rfl rfl)
theorem dX20_room_9 : decode cX20_room 9 = .ok (.iload_n 3, 1) := dk_29 (dk_at dksX20_room_0 9 rfl rfl)
theorem dX20_room_10 : decode cX20_room 10 = .ok (.bipush 21, 2) := dk_16 21 (dk_at dksX20_room_0 10 rfl rfl)
theorem dX20_room_12 : decode cX20_room 12 = .ok (.if_icmp .ge 146, 3) := dk_162 0 146 (dk_at dksX20_room_0 12 rfl rfl)
theorem dX20_room_15 : decode cX20_room 15 = .ok (.aload_n 0, 1) := dk_42 (dk_at dksX20_room_0 15 rfl rfl)
theorem dX20_room_16 : decode cX20_room 16 = .ok (.getfield 16, 3) := dk_180 0 16 (dk_at dksX20_room_0 16 rfl rfl)
theorem dX20_room_19 : decode cX20_room 19 = .ok (.iload_n 3, 1) := dk_29 (dk_at dksX20_room_0 19 rfl rfl)
theorem dX20_room_20 : decode cX20_room 20 = .ok (.baload, 1) := dk_51 (dk_at dksX20_room_0 20 rfl rfl)
theorem dX20_room_21 : decode cX20_room 21 = .ok (.ifCond .ne 6, 3) := dk_154 0 6 (dk_at dksX20_room_0 21 rfl rfl)
theorem dX20_room_24 : decode cX20_room 24 = .ok (.goto 128, 3) := dk_167 0 128 (dk_at dksX20_room_1 0 rfl rfl)
theorem dX20_room_27 : decode cX20_room 27 = .ok (.iconst 1, 1) := dk_4 (dk_at dksX20_room_1 3 rfl rfl)
theorem dX20_room_28 : decode cX20_room 28 = .ok (.istore 4, 2) := dk_54 4 (dk_at dksX20_room_1 4 rfl rfl)
theorem dX20_room_30 : decode cX20_room 30 = .ok (.iconst 0, 1) := dk_3 (dk_at dksX20_room_1 6 rfl rfl)
theorem dX20_room_31 : decode cX20_room 31 = .ok (.istore 5, 2) := dk_54 5 (dk_at dksX20_room_1 7 rfl rfl)
theorem dX20_room_33 : decode cX20_room 33 = .ok (.iconst 0, 1) := dk_3 (dk_at dksX20_room_1 9 rfl rfl)
theorem dX20_room_34 : decode cX20_room 34 = .ok (.istore 6, 2) := dk_54 6 (dk_at dksX20_room_1 10 rfl rfl)
theorem dX20_room_36 : decode cX20_room 36 = .ok (.iload 6, 2) := dk_21 6 (dk_at dksX20_room_1 12 rfl rfl)
theorem dX20_room_38 : decode cX20_room 38 = .ok (.bipush 21, 2) := dk_16 21 (dk_at dksX20_room_1 14 rfl rfl)
theorem dX20_room_40 : decode cX20_room 40 = .ok (.if_icmp .ge 90, 3) := dk_162 0 90 (dk_at dksX20_room_1 16 rfl rfl)
theorem dX20_room_43 : decode cX20_room 43 = .ok (.aload_n 0, 1) := dk_42 (dk_at dksX20_room_1 19 rfl rfl)
theorem dX20_room_44 : decode cX20_room 44 = .ok (.getfield 16, 3) := dk_180 0 16 (dk_at dksX20_room_1 20 rfl rfl)
theorem dX20_room_47 : decode cX20_room 47 = .ok (.iload 6, 2) := dk_21 6 (dk_at dksX20_room_2 0 rfl rfl)
theorem dX20_room_49 : decode cX20_room 49 = .ok (.baload, 1) := dk_51 (dk_at dksX20_room_2 2 rfl rfl)
theorem dX20_room_50 : decode cX20_room 50 = .ok (.ifCond .eq 74, 3) := dk_153 0 74 (dk_at dksX20_room_2 3 rfl rfl)
theorem dX20_room_53 : decode cX20_room 53 = .ok (.aload_n 0, 1) := dk_42 (dk_at dksX20_room_2 6 rfl rfl)
theorem dX20_room_54 : decode cX20_room 54 = .ok (.getfield 20, 3) := dk_180 0 20 (dk_at dksX20_room_2 7 rfl rfl)
theorem dX20_room_57 : decode cX20_room 57 = .ok (.iload 6, 2) := dk_21 6 (dk_at dksX20_room_2 10 rfl rfl)
theorem dX20_room_59 : decode cX20_room 59 = .ok (.aload_n 0, 1) := dk_42 (dk_at dksX20_room_2 12 rfl rfl)
theorem dX20_room_60 : decode cX20_room 60 = .ok (.getfield 113, 3) := dk_180 0 113 (dk_at dksX20_room_2 13 rfl rfl)
theorem dX20_room_63 : decode cX20_room 63 = .ok (.invokestatic 109, 3) := dk_184 0 109 (dk_at dksX20_room_2 16 rfl rfl)
theorem dX20_room_66 : decode cX20_room 66 = .ok (.aload_n 0, 1) := dk_42 (dk_at dksX20_room_2 19 rfl rfl)
theorem dX20_room_67 : decode cX20_room 67 = .ok (.getfield 20, 3) := dk_180 0 20 (dk_at dksX20_room_2 20 rfl rfl)
theorem dX20_room_70 : decode cX20_room 70 = .ok (.iload_n 3, 1) := dk_29 (dk_at dksX20_room_2 23 rfl rfl)
theorem dX20_room_71 : decode cX20_room 71 = .ok (.aload_n 0, 1) := dk_42 (dk_at dksX20_room_3 0 rfl rfl)
theorem dX20_room_72 : decode cX20_room 72 = .ok (.getfield 113, 3) := dk_180 0 113 (dk_at dksX20_room_3 1 rfl rfl)
theorem dX20_room_75 : decode cX20_room 75 = .ok (.invokestatic 109, 3) := dk_184 0 109 (dk_at dksX20_room_3 4 rfl rfl)
theorem dX20_room_78 : decode cX20_room 78 = .ok (.if_icmp .eq 6, 3) := dk_159 0 6 (dk_at dksX20_room_3 7 rfl rfl)
theorem dX20_room_81 : decode cX20_room 81 = .ok (.goto 43, 3) := dk_167 0 43 (dk_at dksX20_room_3 10 rfl rfl)
theorem dX20_room_84 : decode cX20_room 84 = .ok (.iload 6, 2) := dk_21 6 (dk_at dksX20_room_3 13 rfl rfl)
theorem dX20_room_86 : decode cX20_room 86 = .ok (.iload_n 3, 1) := dk_29 (dk_at dksX20_room_3 15 rfl rfl)
theorem dX20_room_87 : decode cX20_room 87 = .ok (.if_icmp .ge 6, 3) := dk_162 0 6 (dk_at dksX20_room_3 16 rfl rfl)
theorem dX20_room_90 : decode cX20_room 90 = .ok (.iconst 0, 1) := dk_3 (dk_at dksX20_room_3 19 rfl rfl)
theorem dX20_room_91 : decode cX20_room 91 = .ok (.istore 4, 2) := dk_54 4 (dk_at dksX20_room_3 20 rfl rfl)
theorem dX20_room_93 : decode cX20_room 93 = .ok (.aload_n 0, 1) := dk_42 (dk_at dksX20_room_3 22 rfl rfl)
theorem dX20_room_94 : decode cX20_room 94 = .ok (.aload_n 0, 1) := dk_42 (dk_at dksX20_room_3 23 rfl rfl)
theorem dX20_room_95 : decode cX20_room 95 = .ok (.getfield 13, 3) := dk_180 0 13 (dk_at dksX20_room_4 0 rfl rfl)
theorem dX20_room_98 : decode cX20_room 98 = .ok (.iload 6, 2) := dk_21 6 (dk_at dksX20_room_4 3 rfl rfl)
theorem dX20_room_100 : decode cX20_room 100 = .ok (.iaload, 1) := dk_46 (dk_at dksX20_room_4 5 rfl rfl)
theorem dX20_room_101 : decode cX20_room 101 = .ok (.invokevirtual 290, 3) := dk_182 1 34 (dk_at dksX20_room_4 6 rfl rfl)
theorem dX20_room_104 : decode cX20_room 104 = .ok (.ifCond .ne 5, 3) := dk_154 0 5 (dk_at dksX20_room_4 9 rfl rfl)
theorem dX20_room_107 : decode cX20_room 107 = .ok (.iconst (-1), 1) := dk_2 (dk_at dksX20_room_4 12 rfl rfl)
theorem dX20_room_108 : decode cX20_room 108 = .ok (.ireturn, 1) := dk_172 (dk_at dksX20_room_4 13 rfl rfl)
theorem dX20_room_109 : decode cX20_room 109 = .ok (.aload_n 0, 1) := dk_42 (dk_at dksX20_room_4 14 rfl rfl)
theorem dX20_room_110 : decode cX20_room 110 = .ok (.getfield 284, 3) := dk_180 1 28 (dk_at dksX20_room_4 15 rfl rfl)
theorem dX20_room_113 : decode cX20_room 113 = .ok (.iload 5, 2) := dk_21 5 (dk_at dksX20_room_4 18 rfl rfl)
theorem dX20_room_115 : decode cX20_room 115 = .ok (.if_icmp .le 9, 3) := dk_164 0 9 (dk_at dksX20_room_4 20 rfl rfl)
theorem dX20_room_118 : decode cX20_room 118 = .ok (.aload_n 0, 1) := dk_42 (dk_at dksX20_room_4 23 rfl rfl)
theorem dX20_room_119 : decode cX20_room 119 = .ok (.getfield 284, 3) := dk_180 1 28 (dk_at dksX20_room_5 0 rfl rfl)
theorem dX20_room_122 : decode cX20_room 122 = .ok (.istore 5, 2) := dk_54 5 (dk_at dksX20_room_5 3 rfl rfl)
theorem dX20_room_124 : decode cX20_room 124 = .ok (.iinc 6 1, 3) := dk_132 6 1 (dk_at dksX20_room_5 5 rfl rfl)
theorem dX20_room_127 : decode cX20_room 127 = .ok (.goto (-91), 3) := dk_167 255 165 (dk_at dksX20_room_5 8 rfl rfl)
theorem dX20_room_130 : decode cX20_room 130 = .ok (.iload 4, 2) := dk_21 4 (dk_at dksX20_room_5 11 rfl rfl)
theorem dX20_room_132 : decode cX20_room 132 = .ok (.ifCond .eq 20, 3) := dk_153 0 20 (dk_at dksX20_room_5 13 rfl rfl)
theorem dX20_room_135 : decode cX20_room 135 = .ok (.iload_n 2, 1) := dk_28 (dk_at dksX20_room_5 16 rfl rfl)
theorem dX20_room_136 : decode cX20_room 136 = .ok (.iload 5, 2) := dk_21 5 (dk_at dksX20_room_5 17 rfl rfl)
theorem dX20_room_138 : decode cX20_room 138 = .ok (.iload_n 1, 1) := dk_27 (dk_at dksX20_room_5 19 rfl rfl)
theorem dX20_room_139 : decode cX20_room 139 = .ok (.ifCond .eq 8, 3) := dk_153 0 8 (dk_at dksX20_room_5 20 rfl rfl)
theorem dX20_room_142 : decode cX20_room 142 = .ok (.bipush 10, 2) := dk_16 10 (dk_at dksX20_room_6 0 rfl rfl)
theorem dX20_room_144 : decode cX20_room 144 = .ok (.goto 5, 3) := dk_167 0 5 (dk_at dksX20_room_6 2 rfl rfl)
theorem dX20_room_147 : decode cX20_room 147 = .ok (.bipush 6, 2) := dk_16 6 (dk_at dksX20_room_6 5 rfl rfl)
theorem dX20_room_149 : decode cX20_room 149 = .ok (.iadd, 1) := dk_96 (dk_at dksX20_room_6 7 rfl rfl)
theorem dX20_room_150 : decode cX20_room 150 = .ok (.iadd, 1) := dk_96 (dk_at dksX20_room_6 8 rfl rfl)
theorem dX20_room_151 : decode cX20_room 151 = .ok (.istore_n 2, 1) := dk_61 (dk_at dksX20_room_6 9 rfl rfl)
theorem dX20_room_152 : decode cX20_room 152 = .ok (.iinc 3 1, 3) := dk_132 3 1 (dk_at dksX20_room_6 10 rfl rfl)
theorem dX20_room_155 : decode cX20_room 155 = .ok (.goto (-146), 3) := dk_167 255 110 (dk_at dksX20_room_6 13 rfl rfl)
theorem dX20_room_158 : decode cX20_room 158 = .ok (.iload_n 2, 1) := dk_28 (dk_at dksX20_room_6 16 rfl rfl)
theorem dX20_room_159 : decode cX20_room 159 = .ok (.ireturn, 1) := dk_172 (dk_at dksX20_room_6 17 rfl rfl)
theorem q84 : (Jvm.Cond.initialized "RankEntryModel") ∈ lw_all := lw_g (lw_at lw_m1 26 rfl) rfl
theorem q1723 : (Jvm.Cond.instantiable "RankEntryModel" (25 : Nat)) ∈ lw_all := lw_g (lw_at lw_m7 225 rfl) rfl
theorem q1725 : (Jvm.Cond.instanceMethod ({ cls := "RankEntryModel", name := "<init>", desc := "()V" } : Jvm.MethodName)) ∈ lw_all := lw_g (lw_at lw_m7 227 rfl) rfl
theorem q1726 : (Jvm.Cond.code ({ cls := "RankEntryModel", name := "<init>", desc := "()V" } : Jvm.MethodName) prog_52_method_1_code (2 : Nat) (Option.none : Option Jvm.ClassFile.FieldType)) ∈ lw_all := lw_g (lw_at lw_m7 228 rfl) rfl
theorem q1727 : (Jvm.Cond.methodLink "RankEntryModel" (1 : Nat) ({ cls := "java/lang/Object", name := "<init>", desc := "()V" } : Jvm.MethodName)) ∈ lw_all := lw_g (lw_at lw_m7 229 rfl) rfl
theorem q1728 : (Jvm.Cond.methodLink "RankEntryModel" (62 : Nat) ({ cls := "RankEntryModel", name := "fresh", desc := "()V" } : Jvm.MethodName)) ∈ lw_all := lw_g (lw_at lw_m7 230 rfl) rfl
theorem q1729 : (Jvm.Cond.privateMethod ({ cls := "RankEntryModel", name := "fresh", desc := "()V" } : Jvm.MethodName)) ∈ lw_tbl := lw_at lw_m7 231 rfl
theorem q1730 : (Jvm.Cond.instanceMethod ({ cls := "RankEntryModel", name := "fresh", desc := "()V" } : Jvm.MethodName)) ∈ lw_all := lw_g (lw_at lw_m7 232 rfl) rfl
theorem q1731 : (Jvm.Cond.code ({ cls := "RankEntryModel", name := "fresh", desc := "()V" } : Jvm.MethodName) prog_52_method_5_code (3 : Nat) (Option.none : Option Jvm.ClassFile.FieldType)) ∈ lw_all := lw_g (lw_at lw_m7 233 rfl) rfl
theorem q1732 : (Jvm.Cond.fieldLink "RankEntryModel" (7 : Nat) "RankEntryModel" "code" "[I") ∈ lw_all := lw_g (lw_at lw_m7 234 rfl) rfl
theorem q1733 : (Jvm.Cond.fieldLink "RankEntryModel" (13 : Nat) "RankEntryModel" "vector" "[I") ∈ lw_all := lw_g (lw_at lw_m7 235 rfl) rfl
theorem q1734 : (Jvm.Cond.fieldLink "RankEntryModel" (16 : Nat) "RankEntryModel" "enabled" "[Z") ∈ lw_all := lw_g (lw_at lw_m7 236 rfl) rfl
theorem q1735 : (Jvm.Cond.fieldLink "RankEntryModel" (113 : Nat) "RankEntryModel" "split" "I") ∈ lw_all := lw_g (lw_at lw_m7 237 rfl) rfl
theorem q1736 : (Jvm.Cond.fieldLink "RankEntryModel" (20 : Nat) "RankEntryModel" "now" "[I") ∈ lw_all := lw_g (lw_at lw_m7 238 rfl) rfl
theorem q1737 : (Jvm.Cond.fieldLink "RankEntryModel" (23 : Nat) "RankEntryModel" "then" "[I") ∈ lw_all := lw_g (lw_at lw_m7 239 rfl) rfl
theorem q1738 : (Jvm.Cond.fieldLink "RankEntryModel" (26 : Nat) "RankEntryModel" "tally" "[I") ∈ lw_all := lw_g (lw_at lw_m8 0 rfl) rfl
theorem q1739 : (Jvm.Cond.fieldLink "RankEntryModel" (29 : Nat) "RankEntryModel" "kinds" "[I") ∈ lw_all := lw_g (lw_at lw_m8 1 rfl) rfl
theorem q1740 : (Jvm.Cond.fieldLink "RankEntryModel" (32 : Nat) "RankEntryModel" "whose" "[I") ∈ lw_all := lw_g (lw_at lw_m8 2 rfl) rfl
theorem q1741 : (Jvm.Cond.fieldLink "RankEntryModel" (35 : Nat) "RankEntryModel" "when" "[I") ∈ lw_all := lw_g (lw_at lw_m8 3 rfl) rfl
theorem q1742 : (Jvm.Cond.fieldLink "RankEntryModel" (38 : Nat) "RankEntryModel" "more" "[I") ∈ lw_all := lw_g (lw_at lw_m8 4 rfl) rfl
theorem q1743 : (Jvm.Cond.fieldLink "RankEntryModel" (69 : Nat) "RankEntryModel" "events" "I") ∈ lw_all := lw_g (lw_at lw_m8 5 rfl) rfl
theorem q1744 : (Jvm.Cond.fieldLink "RankEntryModel" (41 : Nat) "RankEntryModel" "told" "[I") ∈ lw_all := lw_g (lw_at lw_m8 6 rfl) rfl
theorem q1745 : (Jvm.Cond.fieldLink "RankEntryModel" (44 : Nat) "RankEntryModel" "longest" "[I") ∈ lw_all := lw_g (lw_at lw_m8 7 rfl) rfl
theorem q1746 : (Jvm.Cond.fieldLink "RankEntryModel" (72 : Nat) "RankEntryModel" "own" "Z") ∈ lw_all := lw_g (lw_at lw_m8 8 rfl) rfl
theorem q1747 : (Jvm.Cond.fieldLink "RankEntryModel" (189 : Nat) "RankEntryModel" "plain" "Z") ∈ lw_all := lw_g (lw_at lw_m8 9 rfl) rfl
theorem q1748 : (Jvm.Cond.fieldLink "RankEntryModel" (151 : Nat) "RankEntryModel" "began" "I") ∈ lw_all := lw_g (lw_at lw_m8 10 rfl) rfl
theorem q1749 : (Jvm.Cond.fieldLink "RankEntryModel" (65 : Nat) "RankEntryModel" "thrown" "I") ∈ lw_all := lw_g (lw_at lw_m8 11 rfl) rfl
theorem q1750 : (Jvm.Cond.fieldLink "RankEntryModel" (47 : Nat) "RankEntryModel" "met" "[Z") ∈ lw_all := lw_g (lw_at lw_m8 12 rfl) rfl
theorem q1751 : (Jvm.Cond.fieldLink "RankEntryModel" (50 : Nat) "RankEntryModel" "from" "[I") ∈ lw_all := lw_g (lw_at lw_m8 13 rfl) rfl
theorem q1752 : (Jvm.Cond.fieldLink "RankEntryModel" (53 : Nat) "RankEntryModel" "dear" "[I") ∈ lw_all := lw_g (lw_at lw_m8 14 rfl) rfl
theorem q1753 : (Jvm.Cond.fieldLink "RankEntryModel" (56 : Nat) "RankEntryModel" "high" "[I") ∈ lw_all := lw_g (lw_at lw_m8 15 rfl) rfl
theorem q1754 : (Jvm.Cond.fieldLink "RankEntryModel" (59 : Nat) "RankEntryModel" "heap" "[I") ∈ lw_all := lw_g (lw_at lw_m8 16 rfl) rfl
theorem q1755 : (Jvm.Cond.fieldLink "RankEntryModel" (281 : Nat) "RankEntryModel" "dearest" "I") ∈ lw_all := lw_g (lw_at lw_m8 17 rfl) rfl
theorem q1756 : (Jvm.Cond.fieldLink "RankEntryModel" (284 : Nat) "RankEntryModel" "highest" "I") ∈ lw_all := lw_g (lw_at lw_m8 18 rfl) rfl
theorem q1757 : (Jvm.Cond.laysFinal "RankEntryModel" "RankEntryModel" "code" "[I") ∈ lw_all := lw_g (lw_at lw_m8 19 rfl) rfl
theorem q1758 : (Jvm.Cond.soleField "RankEntryModel" "code") ∈ lw_all := lw_g (lw_at lw_m8 20 rfl) rfl
theorem q1759 : (Jvm.Cond.laysFinal "RankEntryModel" "RankEntryModel" "vector" "[I") ∈ lw_all := lw_g (lw_at lw_m8 21 rfl) rfl
theorem q1760 : (Jvm.Cond.soleField "RankEntryModel" "vector") ∈ lw_all := lw_g (lw_at lw_m8 22 rfl) rfl
theorem q1761 : (Jvm.Cond.laysFinal "RankEntryModel" "RankEntryModel" "enabled" "[Z") ∈ lw_all := lw_g (lw_at lw_m8 23 rfl) rfl
theorem q1762 : (Jvm.Cond.soleField "RankEntryModel" "enabled") ∈ lw_all := lw_g (lw_at lw_m8 24 rfl) rfl
theorem q1763 : (Jvm.Cond.lays "RankEntryModel" "RankEntryModel" "split" "I") ∈ lw_all := lw_g (lw_at lw_m8 25 rfl) rfl
theorem q1764 : (Jvm.Cond.soleField "RankEntryModel" "split") ∈ lw_all := lw_g (lw_at lw_m8 26 rfl) rfl
theorem q1765 : (Jvm.Cond.laysFinal "RankEntryModel" "RankEntryModel" "now" "[I") ∈ lw_all := lw_g (lw_at lw_m8 27 rfl) rfl
theorem q1766 : (Jvm.Cond.soleField "RankEntryModel" "now") ∈ lw_all := lw_g (lw_at lw_m8 28 rfl) rfl
theorem q1767 : (Jvm.Cond.laysFinal "RankEntryModel" "RankEntryModel" "then" "[I") ∈ lw_all := lw_g (lw_at lw_m8 29 rfl) rfl
theorem q1768 : (Jvm.Cond.soleField "RankEntryModel" "then") ∈ lw_all := lw_g (lw_at lw_m8 30 rfl) rfl
theorem q1769 : (Jvm.Cond.laysFinal "RankEntryModel" "RankEntryModel" "tally" "[I") ∈ lw_all := lw_g (lw_at lw_m8 31 rfl) rfl
theorem q1770 : (Jvm.Cond.soleField "RankEntryModel" "tally") ∈ lw_all := lw_g (lw_at lw_m8 32 rfl) rfl
theorem q1771 : (Jvm.Cond.laysFinal "RankEntryModel" "RankEntryModel" "kinds" "[I") ∈ lw_all := lw_g (lw_at lw_m8 33 rfl) rfl
theorem q1772 : (Jvm.Cond.soleField "RankEntryModel" "kinds") ∈ lw_all := lw_g (lw_at lw_m8 34 rfl) rfl
theorem q1773 : (Jvm.Cond.laysFinal "RankEntryModel" "RankEntryModel" "whose" "[I") ∈ lw_all := lw_g (lw_at lw_m8 35 rfl) rfl
theorem q1774 : (Jvm.Cond.soleField "RankEntryModel" "whose") ∈ lw_all := lw_g (lw_at lw_m8 36 rfl) rfl
theorem q1775 : (Jvm.Cond.laysFinal "RankEntryModel" "RankEntryModel" "when" "[I") ∈ lw_all := lw_g (lw_at lw_m8 37 rfl) rfl
theorem q1776 : (Jvm.Cond.soleField "RankEntryModel" "when") ∈ lw_all := lw_g (lw_at lw_m8 38 rfl) rfl
theorem q1777 : (Jvm.Cond.laysFinal "RankEntryModel" "RankEntryModel" "more" "[I") ∈ lw_all := lw_g (lw_at lw_m8 39 rfl) rfl
theorem q1778 : (Jvm.Cond.soleField "RankEntryModel" "more") ∈ lw_all := lw_g (lw_at lw_m8 40 rfl) rfl
theorem q1779 : (Jvm.Cond.lays "RankEntryModel" "RankEntryModel" "events" "I") ∈ lw_all := lw_g (lw_at lw_m8 41 rfl) rfl
theorem q1780 : (Jvm.Cond.soleField "RankEntryModel" "events") ∈ lw_all := lw_g (lw_at lw_m8 42 rfl) rfl
theorem q1781 : (Jvm.Cond.laysFinal "RankEntryModel" "RankEntryModel" "told" "[I") ∈ lw_all := lw_g (lw_at lw_m8 43 rfl) rfl
theorem q1782 : (Jvm.Cond.soleField "RankEntryModel" "told") ∈ lw_all := lw_g (lw_at lw_m8 44 rfl) rfl
theorem q1783 : (Jvm.Cond.laysFinal "RankEntryModel" "RankEntryModel" "longest" "[I") ∈ lw_all := lw_g (lw_at lw_m8 45 rfl) rfl
theorem q1784 : (Jvm.Cond.soleField "RankEntryModel" "longest") ∈ lw_all := lw_g (lw_at lw_m8 46 rfl) rfl
theorem q1785 : (Jvm.Cond.lays "RankEntryModel" "RankEntryModel" "own" "Z") ∈ lw_all := lw_g (lw_at lw_m8 47 rfl) rfl
theorem q1786 : (Jvm.Cond.soleField "RankEntryModel" "own") ∈ lw_all := lw_g (lw_at lw_m8 48 rfl) rfl
theorem q1787 : (Jvm.Cond.lays "RankEntryModel" "RankEntryModel" "plain" "Z") ∈ lw_all := lw_g (lw_at lw_m8 49 rfl) rfl
theorem q1788 : (Jvm.Cond.soleField "RankEntryModel" "plain") ∈ lw_all := lw_g (lw_at lw_m8 50 rfl) rfl
theorem q1789 : (Jvm.Cond.lays "RankEntryModel" "RankEntryModel" "began" "I") ∈ lw_all := lw_g (lw_at lw_m8 51 rfl) rfl
theorem q1790 : (Jvm.Cond.soleField "RankEntryModel" "began") ∈ lw_all := lw_g (lw_at lw_m8 52 rfl) rfl
theorem q1791 : (Jvm.Cond.lays "RankEntryModel" "RankEntryModel" "thrown" "I") ∈ lw_all := lw_g (lw_at lw_m8 53 rfl) rfl
theorem q1792 : (Jvm.Cond.soleField "RankEntryModel" "thrown") ∈ lw_all := lw_g (lw_at lw_m8 54 rfl) rfl
theorem q1793 : (Jvm.Cond.laysFinal "RankEntryModel" "RankEntryModel" "met" "[Z") ∈ lw_all := lw_g (lw_at lw_m8 55 rfl) rfl
theorem q1794 : (Jvm.Cond.soleField "RankEntryModel" "met") ∈ lw_all := lw_g (lw_at lw_m8 56 rfl) rfl
theorem q1795 : (Jvm.Cond.laysFinal "RankEntryModel" "RankEntryModel" "from" "[I") ∈ lw_all := lw_g (lw_at lw_m8 57 rfl) rfl
theorem q1796 : (Jvm.Cond.soleField "RankEntryModel" "from") ∈ lw_all := lw_g (lw_at lw_m8 58 rfl) rfl
theorem q1797 : (Jvm.Cond.laysFinal "RankEntryModel" "RankEntryModel" "dear" "[I") ∈ lw_all := lw_g (lw_at lw_m8 59 rfl) rfl
theorem q1798 : (Jvm.Cond.soleField "RankEntryModel" "dear") ∈ lw_all := lw_g (lw_at lw_m8 60 rfl) rfl
theorem q1799 : (Jvm.Cond.laysFinal "RankEntryModel" "RankEntryModel" "high" "[I") ∈ lw_all := lw_g (lw_at lw_m8 61 rfl) rfl
theorem q1800 : (Jvm.Cond.soleField "RankEntryModel" "high") ∈ lw_all := lw_g (lw_at lw_m8 62 rfl) rfl
theorem q1801 : (Jvm.Cond.laysFinal "RankEntryModel" "RankEntryModel" "heap" "[I") ∈ lw_all := lw_g (lw_at lw_m8 63 rfl) rfl
theorem q1802 : (Jvm.Cond.soleField "RankEntryModel" "heap") ∈ lw_all := lw_g (lw_at lw_m8 64 rfl) rfl
theorem q1803 : (Jvm.Cond.lays "RankEntryModel" "RankEntryModel" "dearest" "I") ∈ lw_all := lw_g (lw_at lw_m8 65 rfl) rfl
theorem q1804 : (Jvm.Cond.soleField "RankEntryModel" "dearest") ∈ lw_all := lw_g (lw_at lw_m8 66 rfl) rfl
theorem q1805 : (Jvm.Cond.lays "RankEntryModel" "RankEntryModel" "highest" "I") ∈ lw_all := lw_g (lw_at lw_m8 67 rfl) rfl
theorem q1806 : (Jvm.Cond.soleField "RankEntryModel" "highest") ∈ lw_all := lw_g (lw_at lw_m8 68 rfl) rfl
theorem q1807 : (Jvm.Cond.superclass "RankEntryModel" "java/lang/Object") ∈ lw_all := lw_g (lw_at lw_m8 69 rfl) rfl
theorem q1810 : (Jvm.Cond.instanceMethod ({ cls := "RankEntryModel", name := "thrown", desc := "()I" } : Jvm.MethodName)) ∈ lw_all := lw_g (lw_at lw_m8 72 rfl) rfl
theorem q1811 : (Jvm.Cond.selects "RankEntryModel" ({ cls := "RankEntryModel", name := "thrown", desc := "()I" } : Jvm.MethodName) ({ cls := "RankEntryModel", name := "thrown", desc := "()I" } : Jvm.MethodName)) ∈ lw_all := lw_g (lw_at lw_m8 73 rfl) rfl
theorem q1812 : (Jvm.Cond.code ({ cls := "RankEntryModel", name := "thrown", desc := "()I" } : Jvm.MethodName) prog_52_method_2_code (1 : Nat) (Option.some Jvm.ClassFile.FieldType.int)) ∈ lw_all := lw_g (lw_at lw_m8 74 rfl) rfl
theorem q1814 : (Jvm.Cond.instanceMethod ({ cls := "RankEntryModel", name := "load", desc := "(IJ)Z" } : Jvm.MethodName)) ∈ lw_all := lw_g (lw_at lw_m8 76 rfl) rfl
theorem q1815 : (Jvm.Cond.selects "RankEntryModel" ({ cls := "RankEntryModel", name := "load", desc := "(IJ)Z" } : Jvm.MethodName) ({ cls := "RankEntryModel", name := "load", desc := "(IJ)Z" } : Jvm.MethodName)) ∈ lw_all := lw_g (lw_at lw_m8 77 rfl) rfl
theorem q1816 : (Jvm.Cond.code ({ cls := "RankEntryModel", name := "load", desc := "(IJ)Z" } : Jvm.MethodName) prog_52_method_48_code (5 : Nat) (Option.some Jvm.ClassFile.FieldType.boolean)) ∈ lw_all := lw_g (lw_at lw_m8 78 rfl) rfl
theorem q1817 : (Jvm.Cond.methodLink "RankEntryModel" (195 : Nat) ({ cls := "RankEntryModel", name := "within", desc := "(III)Z" } : Jvm.MethodName)) ∈ lw_all := lw_g (lw_at lw_m8 79 rfl) rfl
theorem q1818 : (Jvm.Cond.static ({ cls := "RankEntryModel", name := "within", desc := "(III)Z" } : Jvm.MethodName)) ∈ lw_all := lw_g (lw_at lw_m8 80 rfl) rfl
theorem q1819 : (Jvm.Cond.code ({ cls := "RankEntryModel", name := "within", desc := "(III)Z" } : Jvm.MethodName) prog_52_method_3_code (3 : Nat) (Option.some Jvm.ClassFile.FieldType.boolean)) ∈ lw_all := lw_g (lw_at lw_m8 81 rfl) rfl
theorem q1820 : (Jvm.Cond.constantLong "RankEntryModel" (259 : Nat) (255 : Int64)) ∈ lw_all := lw_g (lw_at lw_m8 82 rfl) rfl
theorem q1822 : (Jvm.Cond.instanceMethod ({ cls := "RankEntryModel", name := "code", desc := "(I)I" } : Jvm.MethodName)) ∈ lw_all := lw_g (lw_at lw_m8 84 rfl) rfl
theorem q1823 : (Jvm.Cond.selects "RankEntryModel" ({ cls := "RankEntryModel", name := "code", desc := "(I)I" } : Jvm.MethodName) ({ cls := "RankEntryModel", name := "code", desc := "(I)I" } : Jvm.MethodName)) ∈ lw_all := lw_g (lw_at lw_m8 85 rfl) rfl
theorem q1824 : (Jvm.Cond.code ({ cls := "RankEntryModel", name := "code", desc := "(I)I" } : Jvm.MethodName) prog_52_method_49_code (2 : Nat) (Option.some Jvm.ClassFile.FieldType.int)) ∈ lw_all := lw_g (lw_at lw_m8 86 rfl) rfl
theorem q1826 : (Jvm.Cond.instanceMethod ({ cls := "RankEntryModel", name := "rank", desc := "(II)Z" } : Jvm.MethodName)) ∈ lw_all := lw_g (lw_at lw_m8 88 rfl) rfl
theorem q1827 : (Jvm.Cond.selects "RankEntryModel" ({ cls := "RankEntryModel", name := "rank", desc := "(II)Z" } : Jvm.MethodName) ({ cls := "RankEntryModel", name := "rank", desc := "(II)Z" } : Jvm.MethodName)) ∈ lw_all := lw_g (lw_at lw_m8 89 rfl) rfl
theorem q1828 : (Jvm.Cond.code ({ cls := "RankEntryModel", name := "rank", desc := "(II)Z" } : Jvm.MethodName) prog_52_method_50_code (3 : Nat) (Option.some Jvm.ClassFile.FieldType.boolean)) ∈ lw_all := lw_g (lw_at lw_m8 90 rfl) rfl
theorem q1830 : (Jvm.Cond.instanceMethod ({ cls := "RankEntryModel", name := "enable", desc := "(IZ)Z" } : Jvm.MethodName)) ∈ lw_all := lw_g (lw_at lw_m8 92 rfl) rfl
theorem q1831 : (Jvm.Cond.selects "RankEntryModel" ({ cls := "RankEntryModel", name := "enable", desc := "(IZ)Z" } : Jvm.MethodName) ({ cls := "RankEntryModel", name := "enable", desc := "(IZ)Z" } : Jvm.MethodName)) ∈ lw_all := lw_g (lw_at lw_m8 93 rfl) rfl
theorem q1832 : (Jvm.Cond.code ({ cls := "RankEntryModel", name := "enable", desc := "(IZ)Z" } : Jvm.MethodName) prog_52_method_51_code (3 : Nat) (Option.some Jvm.ClassFile.FieldType.boolean)) ∈ lw_all := lw_g (lw_at lw_m8 94 rfl) rfl
theorem q1834 : (Jvm.Cond.instanceMethod ({ cls := "RankEntryModel", name := "vector", desc := "(II)Z" } : Jvm.MethodName)) ∈ lw_all := lw_g (lw_at lw_m8 96 rfl) rfl
theorem q1835 : (Jvm.Cond.selects "RankEntryModel" ({ cls := "RankEntryModel", name := "vector", desc := "(II)Z" } : Jvm.MethodName) ({ cls := "RankEntryModel", name := "vector", desc := "(II)Z" } : Jvm.MethodName)) ∈ lw_all := lw_g (lw_at lw_m8 97 rfl) rfl
theorem q1836 : (Jvm.Cond.code ({ cls := "RankEntryModel", name := "vector", desc := "(II)Z" } : Jvm.MethodName) prog_52_method_52_code (3 : Nat) (Option.some Jvm.ClassFile.FieldType.boolean)) ∈ lw_all := lw_g (lw_at lw_m8 98 rfl) rfl
theorem q1838 : (Jvm.Cond.instanceMethod ({ cls := "RankEntryModel", name := "split", desc := "(I)Z" } : Jvm.MethodName)) ∈ lw_all := lw_g (lw_at lw_m8 100 rfl) rfl
theorem q1839 : (Jvm.Cond.selects "RankEntryModel" ({ cls := "RankEntryModel", name := "split", desc := "(I)Z" } : Jvm.MethodName) ({ cls := "RankEntryModel", name := "split", desc := "(I)Z" } : Jvm.MethodName)) ∈ lw_all := lw_g (lw_at lw_m8 101 rfl) rfl
theorem q1840 : (Jvm.Cond.code ({ cls := "RankEntryModel", name := "split", desc := "(I)Z" } : Jvm.MethodName) prog_52_method_53_code (2 : Nat) (Option.some Jvm.ClassFile.FieldType.boolean)) ∈ lw_all := lw_g (lw_at lw_m8 102 rfl) rfl
theorem q1842 : (Jvm.Cond.instanceMethod ({ cls := "RankEntryModel", name := "hold", desc := "(IZ)Z" } : Jvm.MethodName)) ∈ lw_all := lw_g (lw_at lw_m8 104 rfl) rfl
theorem q1843 : (Jvm.Cond.selects "RankEntryModel" ({ cls := "RankEntryModel", name := "hold", desc := "(IZ)Z" } : Jvm.MethodName) ({ cls := "RankEntryModel", name := "hold", desc := "(IZ)Z" } : Jvm.MethodName)) ∈ lw_all := lw_g (lw_at lw_m8 105 rfl) rfl
theorem q1844 : (Jvm.Cond.code ({ cls := "RankEntryModel", name := "hold", desc := "(IZ)Z" } : Jvm.MethodName) prog_52_method_54_code (3 : Nat) (Option.some Jvm.ClassFile.FieldType.boolean)) ∈ lw_all := lw_g (lw_at lw_m8 106 rfl) rfl
theorem q1845 : (Jvm.Cond.methodLink "RankEntryModel" (143 : Nat) ({ cls := "RankEntryModel", name := "pends", desc := "([II)V" } : Jvm.MethodName)) ∈ lw_all := lw_g (lw_at lw_m8 107 rfl) rfl
theorem q1846 : (Jvm.Cond.privateMethod ({ cls := "RankEntryModel", name := "pends", desc := "([II)V" } : Jvm.MethodName)) ∈ lw_tbl := lw_at lw_m8 108 rfl
theorem q1847 : (Jvm.Cond.instanceMethod ({ cls := "RankEntryModel", name := "pends", desc := "([II)V" } : Jvm.MethodName)) ∈ lw_all := lw_g (lw_at lw_m8 109 rfl) rfl
theorem q1848 : (Jvm.Cond.code ({ cls := "RankEntryModel", name := "pends", desc := "([II)V" } : Jvm.MethodName) prog_52_method_24_code (3 : Nat) (Option.none : Option Jvm.ClassFile.FieldType)) ∈ lw_all := lw_g (lw_at lw_m8 110 rfl) rfl
theorem q1849 : (Jvm.Cond.methodLink "RankEntryModel" (131 : Nat) ({ cls := "RankEntryModel", name := "counts", desc := "(I)V" } : Jvm.MethodName)) ∈ lw_all := lw_g (lw_at lw_m8 111 rfl) rfl
theorem q1850 : (Jvm.Cond.privateMethod ({ cls := "RankEntryModel", name := "counts", desc := "(I)V" } : Jvm.MethodName)) ∈ lw_tbl := lw_at lw_m8 112 rfl
theorem q1851 : (Jvm.Cond.instanceMethod ({ cls := "RankEntryModel", name := "counts", desc := "(I)V" } : Jvm.MethodName)) ∈ lw_all := lw_g (lw_at lw_m8 113 rfl) rfl
theorem q1852 : (Jvm.Cond.code ({ cls := "RankEntryModel", name := "counts", desc := "(I)V" } : Jvm.MethodName) prog_52_method_7_code (2 : Nat) (Option.none : Option Jvm.ClassFile.FieldType)) ∈ lw_all := lw_g (lw_at lw_m8 114 rfl) rfl
theorem q1854 : (Jvm.Cond.instanceMethod ({ cls := "RankEntryModel", name := "pend", desc := "(I)Z" } : Jvm.MethodName)) ∈ lw_all := lw_g (lw_at lw_m8 116 rfl) rfl
theorem q1855 : (Jvm.Cond.selects "RankEntryModel" ({ cls := "RankEntryModel", name := "pend", desc := "(I)Z" } : Jvm.MethodName) ({ cls := "RankEntryModel", name := "pend", desc := "(I)Z" } : Jvm.MethodName)) ∈ lw_all := lw_g (lw_at lw_m8 117 rfl) rfl
theorem q1856 : (Jvm.Cond.code ({ cls := "RankEntryModel", name := "pend", desc := "(I)Z" } : Jvm.MethodName) prog_52_method_55_code (3 : Nat) (Option.some Jvm.ClassFile.FieldType.boolean)) ∈ lw_all := lw_g (lw_at lw_m8 118 rfl) rfl
theorem q1858 : (Jvm.Cond.instanceMethod ({ cls := "RankEntryModel", name := "clear", desc := "(I)Z" } : Jvm.MethodName)) ∈ lw_all := lw_g (lw_at lw_m8 120 rfl) rfl
theorem q1859 : (Jvm.Cond.selects "RankEntryModel" ({ cls := "RankEntryModel", name := "clear", desc := "(I)Z" } : Jvm.MethodName) ({ cls := "RankEntryModel", name := "clear", desc := "(I)Z" } : Jvm.MethodName)) ∈ lw_all := lw_g (lw_at lw_m8 121 rfl) rfl
theorem q1860 : (Jvm.Cond.code ({ cls := "RankEntryModel", name := "clear", desc := "(I)Z" } : Jvm.MethodName) prog_52_method_56_code (2 : Nat) (Option.some Jvm.ClassFile.FieldType.boolean)) ∈ lw_all := lw_g (lw_at lw_m8 122 rfl) rfl
theorem q1862 : (Jvm.Cond.instanceMethod ({ cls := "RankEntryModel", name := "timer", desc := "(I)Z" } : Jvm.MethodName)) ∈ lw_all := lw_g (lw_at lw_m8 124 rfl) rfl
theorem q1863 : (Jvm.Cond.selects "RankEntryModel" ({ cls := "RankEntryModel", name := "timer", desc := "(I)Z" } : Jvm.MethodName) ({ cls := "RankEntryModel", name := "timer", desc := "(I)Z" } : Jvm.MethodName)) ∈ lw_all := lw_g (lw_at lw_m8 125 rfl) rfl
theorem q1864 : (Jvm.Cond.code ({ cls := "RankEntryModel", name := "timer", desc := "(I)Z" } : Jvm.MethodName) prog_52_method_57_code (2 : Nat) (Option.some Jvm.ClassFile.FieldType.boolean)) ∈ lw_all := lw_g (lw_at lw_m8 126 rfl) rfl
theorem q1866 : (Jvm.Cond.instanceMethod ({ cls := "RankEntryModel", name := "arrive", desc := "(II)Z" } : Jvm.MethodName)) ∈ lw_all := lw_g (lw_at lw_m8 128 rfl) rfl
theorem q1867 : (Jvm.Cond.selects "RankEntryModel" ({ cls := "RankEntryModel", name := "arrive", desc := "(II)Z" } : Jvm.MethodName) ({ cls := "RankEntryModel", name := "arrive", desc := "(II)Z" } : Jvm.MethodName)) ∈ lw_all := lw_g (lw_at lw_m8 129 rfl) rfl
theorem q1868 : (Jvm.Cond.code ({ cls := "RankEntryModel", name := "arrive", desc := "(II)Z" } : Jvm.MethodName) prog_52_method_58_code (3 : Nat) (Option.some Jvm.ClassFile.FieldType.boolean)) ∈ lw_all := lw_g (lw_at lw_m8 130 rfl) rfl
theorem q1870 : (Jvm.Cond.instanceMethod ({ cls := "RankEntryModel", name := "run", desc := "(I)I" } : Jvm.MethodName)) ∈ lw_all := lw_g (lw_at lw_m8 132 rfl) rfl
theorem q1871 : (Jvm.Cond.selects "RankEntryModel" ({ cls := "RankEntryModel", name := "run", desc := "(I)I" } : Jvm.MethodName) ({ cls := "RankEntryModel", name := "run", desc := "(I)I" } : Jvm.MethodName)) ∈ lw_all := lw_g (lw_at lw_m8 133 rfl) rfl
theorem q1872 : (Jvm.Cond.code ({ cls := "RankEntryModel", name := "run", desc := "(I)I" } : Jvm.MethodName) prog_52_method_60_code (3 : Nat) (Option.some Jvm.ClassFile.FieldType.int)) ∈ lw_all := lw_g (lw_at lw_m8 134 rfl) rfl
theorem q1873 : (Jvm.Cond.methodLink "RankEntryModel" (264 : Nat) ({ cls := "RankEntryModel", name := "goesOn", desc := "()V" } : Jvm.MethodName)) ∈ lw_all := lw_g (lw_at lw_m8 135 rfl) rfl
theorem q1874 : (Jvm.Cond.privateMethod ({ cls := "RankEntryModel", name := "goesOn", desc := "()V" } : Jvm.MethodName)) ∈ lw_tbl := lw_at lw_m8 136 rfl
theorem q1875 : (Jvm.Cond.instanceMethod ({ cls := "RankEntryModel", name := "goesOn", desc := "()V" } : Jvm.MethodName)) ∈ lw_all := lw_g (lw_at lw_m8 137 rfl) rfl
theorem q1876 : (Jvm.Cond.code ({ cls := "RankEntryModel", name := "goesOn", desc := "()V" } : Jvm.MethodName) prog_52_method_59_code (1 : Nat) (Option.none : Option Jvm.ClassFile.FieldType)) ∈ lw_all := lw_g (lw_at lw_m8 138 rfl) rfl
theorem q1877 : (Jvm.Cond.methodLink "RankEntryModel" (261 : Nat) ({ cls := "RankEntryModel", name := "cycle", desc := "([I)V" } : Jvm.MethodName)) ∈ lw_all := lw_g (lw_at lw_m8 139 rfl) rfl
theorem q1878 : (Jvm.Cond.privateMethod ({ cls := "RankEntryModel", name := "cycle", desc := "([I)V" } : Jvm.MethodName)) ∈ lw_tbl := lw_at lw_m8 140 rfl
theorem q1879 : (Jvm.Cond.instanceMethod ({ cls := "RankEntryModel", name := "cycle", desc := "([I)V" } : Jvm.MethodName)) ∈ lw_all := lw_g (lw_at lw_m8 141 rfl) rfl
theorem q1880 : (Jvm.Cond.code ({ cls := "RankEntryModel", name := "cycle", desc := "([I)V" } : Jvm.MethodName) prog_52_method_27_code (4 : Nat) (Option.none : Option Jvm.ClassFile.FieldType)) ∈ lw_all := lw_g (lw_at lw_m8 142 rfl) rfl
theorem q1881 : (Jvm.Cond.methodLink "RankEntryModel" (154 : Nat) ({ cls := "RankEntryModel", name := "runs", desc := "([I)V" } : Jvm.MethodName)) ∈ lw_all := lw_g (lw_at lw_m8 143 rfl) rfl
theorem q1882 : (Jvm.Cond.privateMethod ({ cls := "RankEntryModel", name := "runs", desc := "([I)V" } : Jvm.MethodName)) ∈ lw_tbl := lw_at lw_m8 144 rfl
theorem q1883 : (Jvm.Cond.instanceMethod ({ cls := "RankEntryModel", name := "runs", desc := "([I)V" } : Jvm.MethodName)) ∈ lw_all := lw_g (lw_at lw_m8 145 rfl) rfl
theorem q1884 : (Jvm.Cond.code ({ cls := "RankEntryModel", name := "runs", desc := "([I)V" } : Jvm.MethodName) prog_52_method_29_code (3 : Nat) (Option.none : Option Jvm.ClassFile.FieldType)) ∈ lw_all := lw_g (lw_at lw_m8 146 rfl) rfl
theorem q1885 : (Jvm.Cond.methodLink "RankEntryModel" (170 : Nat) ({ cls := "RankEntryModel", name := "nextOf", desc := "([I)I" } : Jvm.MethodName)) ∈ lw_all := lw_g (lw_at lw_m8 147 rfl) rfl
theorem q1886 : (Jvm.Cond.privateMethod ({ cls := "RankEntryModel", name := "nextOf", desc := "([I)I" } : Jvm.MethodName)) ∈ lw_tbl := lw_at lw_m8 148 rfl
theorem q1887 : (Jvm.Cond.instanceMethod ({ cls := "RankEntryModel", name := "nextOf", desc := "([I)I" } : Jvm.MethodName)) ∈ lw_all := lw_g (lw_at lw_m8 149 rfl) rfl
theorem q1888 : (Jvm.Cond.code ({ cls := "RankEntryModel", name := "nextOf", desc := "([I)I" } : Jvm.MethodName) prog_52_method_22_code (2 : Nat) (Option.some Jvm.ClassFile.FieldType.int)) ∈ lw_all := lw_g (lw_at lw_m8 150 rfl) rfl
theorem q1889 : (Jvm.Cond.methodLink "RankEntryModel" (127 : Nat) ({ cls := "RankEntryModel", name := "nextOf", desc := "([IZ)I" } : Jvm.MethodName)) ∈ lw_all := lw_g (lw_at lw_m8 151 rfl) rfl
theorem q1890 : (Jvm.Cond.privateMethod ({ cls := "RankEntryModel", name := "nextOf", desc := "([IZ)I" } : Jvm.MethodName)) ∈ lw_tbl := lw_at lw_m8 152 rfl
theorem q1891 : (Jvm.Cond.instanceMethod ({ cls := "RankEntryModel", name := "nextOf", desc := "([IZ)I" } : Jvm.MethodName)) ∈ lw_all := lw_g (lw_at lw_m8 153 rfl) rfl
theorem q1892 : (Jvm.Cond.code ({ cls := "RankEntryModel", name := "nextOf", desc := "([IZ)I" } : Jvm.MethodName) prog_52_method_21_code (6 : Nat) (Option.some Jvm.ClassFile.FieldType.int)) ∈ lw_all := lw_g (lw_at lw_m8 154 rfl) rfl
theorem q1893 : (Jvm.Cond.methodLink "RankEntryModel" (119 : Nat) ({ cls := "RankEntryModel", name := "limitOf", desc := "([IIZ)I" } : Jvm.MethodName)) ∈ lw_all := lw_g (lw_at lw_m8 155 rfl) rfl
theorem q1894 : (Jvm.Cond.static ({ cls := "RankEntryModel", name := "limitOf", desc := "([IIZ)I" } : Jvm.MethodName)) ∈ lw_all := lw_g (lw_at lw_m8 156 rfl) rfl
theorem q1895 : (Jvm.Cond.code ({ cls := "RankEntryModel", name := "limitOf", desc := "([IIZ)I" } : Jvm.MethodName) prog_52_method_19_code (6 : Nat) (Option.some Jvm.ClassFile.FieldType.int)) ∈ lw_all := lw_g (lw_at lw_m8 157 rfl) rfl
theorem q1896 : (Jvm.Cond.methodLink "RankEntryModel" (109 : Nat) ({ cls := "RankEntryModel", name := "groupOf", desc := "([III)I" } : Jvm.MethodName)) ∈ lw_all := lw_g (lw_at lw_m8 158 rfl) rfl
theorem q1897 : (Jvm.Cond.static ({ cls := "RankEntryModel", name := "groupOf", desc := "([III)I" } : Jvm.MethodName)) ∈ lw_all := lw_g (lw_at lw_m8 159 rfl) rfl
theorem q1898 : (Jvm.Cond.code ({ cls := "RankEntryModel", name := "groupOf", desc := "([III)I" } : Jvm.MethodName) prog_52_method_17_code (3 : Nat) (Option.some Jvm.ClassFile.FieldType.int)) ∈ lw_all := lw_g (lw_at lw_m8 160 rfl) rfl
theorem q1899 : (Jvm.Cond.methodLink "RankEntryModel" (123 : Nat) ({ cls := "RankEntryModel", name := "isLess", desc := "([III)Z" } : Jvm.MethodName)) ∈ lw_all := lw_g (lw_at lw_m8 161 rfl) rfl
theorem q1900 : (Jvm.Cond.privateMethod ({ cls := "RankEntryModel", name := "isLess", desc := "([III)Z" } : Jvm.MethodName)) ∈ lw_tbl := lw_at lw_m8 162 rfl
theorem q1901 : (Jvm.Cond.instanceMethod ({ cls := "RankEntryModel", name := "isLess", desc := "([III)Z" } : Jvm.MethodName)) ∈ lw_all := lw_g (lw_at lw_m8 163 rfl) rfl
theorem q1902 : (Jvm.Cond.code ({ cls := "RankEntryModel", name := "isLess", desc := "([III)Z" } : Jvm.MethodName) prog_52_method_20_code (6 : Nat) (Option.some Jvm.ClassFile.FieldType.boolean)) ∈ lw_all := lw_g (lw_at lw_m8 164 rfl) rfl
theorem q1903 : (Jvm.Cond.methodLink "RankEntryModel" (116 : Nat) ({ cls := "RankEntryModel", name := "subOf", desc := "([III)I" } : Jvm.MethodName)) ∈ lw_all := lw_g (lw_at lw_m8 165 rfl) rfl
theorem q1904 : (Jvm.Cond.static ({ cls := "RankEntryModel", name := "subOf", desc := "([III)I" } : Jvm.MethodName)) ∈ lw_all := lw_g (lw_at lw_m8 166 rfl) rfl
theorem q1905 : (Jvm.Cond.code ({ cls := "RankEntryModel", name := "subOf", desc := "([III)I" } : Jvm.MethodName) prog_52_method_18_code (3 : Nat) (Option.some Jvm.ClassFile.FieldType.int)) ∈ lw_all := lw_g (lw_at lw_m8 167 rfl) rfl
theorem q1906 : (Jvm.Cond.methodLink "RankEntryModel" (173 : Nat) ({ cls := "RankEntryModel", name := "turns", desc := "([III)V" } : Jvm.MethodName)) ∈ lw_all := lw_g (lw_at lw_m8 168 rfl) rfl
theorem q1907 : (Jvm.Cond.privateMethod ({ cls := "RankEntryModel", name := "turns", desc := "([III)V" } : Jvm.MethodName)) ∈ lw_tbl := lw_at lw_m8 169 rfl
theorem q1908 : (Jvm.Cond.instanceMethod ({ cls := "RankEntryModel", name := "turns", desc := "([III)V" } : Jvm.MethodName)) ∈ lw_all := lw_g (lw_at lw_m8 170 rfl) rfl
theorem q1909 : (Jvm.Cond.code ({ cls := "RankEntryModel", name := "turns", desc := "([III)V" } : Jvm.MethodName) prog_52_method_28_code (4 : Nat) (Option.none : Option Jvm.ClassFile.FieldType)) ∈ lw_all := lw_g (lw_at lw_m8 171 rfl) rfl
theorem q1910 : (Jvm.Cond.methodLink "RankEntryModel" (158 : Nat) ({ cls := "RankEntryModel", name := "stacks", desc := "([I)V" } : Jvm.MethodName)) ∈ lw_all := lw_g (lw_at lw_m8 172 rfl) rfl
theorem q1911 : (Jvm.Cond.privateMethod ({ cls := "RankEntryModel", name := "stacks", desc := "([I)V" } : Jvm.MethodName)) ∈ lw_tbl := lw_at lw_m8 173 rfl
theorem q1912 : (Jvm.Cond.instanceMethod ({ cls := "RankEntryModel", name := "stacks", desc := "([I)V" } : Jvm.MethodName)) ∈ lw_all := lw_g (lw_at lw_m8 174 rfl) rfl
theorem q1913 : (Jvm.Cond.code ({ cls := "RankEntryModel", name := "stacks", desc := "([I)V" } : Jvm.MethodName) prog_52_method_32_code (4 : Nat) (Option.none : Option Jvm.ClassFile.FieldType)) ∈ lw_all := lw_g (lw_at lw_m8 175 rfl) rfl
theorem q1914 : (Jvm.Cond.methodLink "RankEntryModel" (183 : Nat) ({ cls := "RankEntryModel", name := "hasRoom", desc := "([II)Z" } : Jvm.MethodName)) ∈ lw_all := lw_g (lw_at lw_m8 176 rfl) rfl
theorem q1915 : (Jvm.Cond.privateMethod ({ cls := "RankEntryModel", name := "hasRoom", desc := "([II)Z" } : Jvm.MethodName)) ∈ lw_tbl := lw_at lw_m8 177 rfl
theorem q1916 : (Jvm.Cond.instanceMethod ({ cls := "RankEntryModel", name := "hasRoom", desc := "([II)Z" } : Jvm.MethodName)) ∈ lw_all := lw_g (lw_at lw_m8 178 rfl) rfl
theorem q1917 : (Jvm.Cond.code ({ cls := "RankEntryModel", name := "hasRoom", desc := "([II)Z" } : Jvm.MethodName) prog_52_method_31_code (3 : Nat) (Option.some Jvm.ClassFile.FieldType.boolean)) ∈ lw_all := lw_g (lw_at lw_m8 179 rfl) rfl
theorem q1918 : (Jvm.Cond.methodLink "RankEntryModel" (180 : Nat) ({ cls := "RankEntryModel", name := "raises", desc := "([II)Z" } : Jvm.MethodName)) ∈ lw_all := lw_g (lw_at lw_m8 180 rfl) rfl
theorem q1919 : (Jvm.Cond.privateMethod ({ cls := "RankEntryModel", name := "raises", desc := "([II)Z" } : Jvm.MethodName)) ∈ lw_tbl := lw_at lw_m8 181 rfl
theorem q1920 : (Jvm.Cond.instanceMethod ({ cls := "RankEntryModel", name := "raises", desc := "([II)Z" } : Jvm.MethodName)) ∈ lw_all := lw_g (lw_at lw_m8 182 rfl) rfl
theorem q1921 : (Jvm.Cond.code ({ cls := "RankEntryModel", name := "raises", desc := "([II)Z" } : Jvm.MethodName) prog_52_method_26_code (4 : Nat) (Option.some Jvm.ClassFile.FieldType.boolean)) ∈ lw_all := lw_g (lw_at lw_m8 183 rfl) rfl
theorem q1922 : (Jvm.Cond.methodLink "RankEntryModel" (139 : Nat) ({ cls := "RankEntryModel", name := "targetOf", desc := "([II)I" } : Jvm.MethodName)) ∈ lw_all := lw_g (lw_at lw_m8 184 rfl) rfl
theorem q1923 : (Jvm.Cond.privateMethod ({ cls := "RankEntryModel", name := "targetOf", desc := "([II)I" } : Jvm.MethodName)) ∈ lw_tbl := lw_at lw_m8 185 rfl
theorem q1924 : (Jvm.Cond.instanceMethod ({ cls := "RankEntryModel", name := "targetOf", desc := "([II)I" } : Jvm.MethodName)) ∈ lw_all := lw_g (lw_at lw_m8 186 rfl) rfl
theorem q1925 : (Jvm.Cond.code ({ cls := "RankEntryModel", name := "targetOf", desc := "([II)I" } : Jvm.MethodName) prog_52_method_25_code (3 : Nat) (Option.some Jvm.ClassFile.FieldType.int)) ∈ lw_all := lw_g (lw_at lw_m8 187 rfl) rfl
theorem q1926 : (Jvm.Cond.methodLink "RankEntryModel" (135 : Nat) ({ cls := "RankEntryModel", name := "could", desc := "([II)Z" } : Jvm.MethodName)) ∈ lw_all := lw_g (lw_at lw_m8 188 rfl) rfl
theorem q1927 : (Jvm.Cond.privateMethod ({ cls := "RankEntryModel", name := "could", desc := "([II)Z" } : Jvm.MethodName)) ∈ lw_tbl := lw_at lw_m8 189 rfl
theorem q1928 : (Jvm.Cond.instanceMethod ({ cls := "RankEntryModel", name := "could", desc := "([II)Z" } : Jvm.MethodName)) ∈ lw_all := lw_g (lw_at lw_m8 190 rfl) rfl
theorem q1929 : (Jvm.Cond.code ({ cls := "RankEntryModel", name := "could", desc := "([II)Z" } : Jvm.MethodName) prog_52_method_23_code (3 : Nat) (Option.some Jvm.ClassFile.FieldType.boolean)) ∈ lw_all := lw_g (lw_at lw_m8 191 rfl) rfl
theorem q1930 : (Jvm.Cond.methodLink "RankEntryModel" (147 : Nat) ({ cls := "RankEntryModel", name := "notes", desc := "(III)V" } : Jvm.MethodName)) ∈ lw_all := lw_g (lw_at lw_m8 192 rfl) rfl
theorem q1931 : (Jvm.Cond.privateMethod ({ cls := "RankEntryModel", name := "notes", desc := "(III)V" } : Jvm.MethodName)) ∈ lw_tbl := lw_at lw_m8 193 rfl
theorem q1932 : (Jvm.Cond.instanceMethod ({ cls := "RankEntryModel", name := "notes", desc := "(III)V" } : Jvm.MethodName)) ∈ lw_all := lw_g (lw_at lw_m8 194 rfl) rfl
theorem q1933 : (Jvm.Cond.code ({ cls := "RankEntryModel", name := "notes", desc := "(III)V" } : Jvm.MethodName) prog_52_method_6_code (5 : Nat) (Option.none : Option Jvm.ClassFile.FieldType)) ∈ lw_all := lw_g (lw_at lw_m8 195 rfl) rfl
theorem q1934 : (Jvm.Cond.methodLink "RankEntryModel" (186 : Nat) ({ cls := "RankEntryModel", name := "rises", desc := "([II)V" } : Jvm.MethodName)) ∈ lw_all := lw_g (lw_at lw_m8 196 rfl) rfl
theorem q1935 : (Jvm.Cond.privateMethod ({ cls := "RankEntryModel", name := "rises", desc := "([II)V" } : Jvm.MethodName)) ∈ lw_tbl := lw_at lw_m8 197 rfl
theorem q1936 : (Jvm.Cond.instanceMethod ({ cls := "RankEntryModel", name := "rises", desc := "([II)V" } : Jvm.MethodName)) ∈ lw_all := lw_g (lw_at lw_m8 198 rfl) rfl
theorem q1937 : (Jvm.Cond.code ({ cls := "RankEntryModel", name := "rises", desc := "([II)V" } : Jvm.MethodName) prog_52_method_30_code (3 : Nat) (Option.none : Option Jvm.ClassFile.FieldType)) ∈ lw_all := lw_g (lw_at lw_m8 199 rfl) rfl
theorem q1938 : (Jvm.Cond.methodLink "RankEntryModel" (192 : Nat) ({ cls := "RankEntryModel", name := "begins", desc := "([III)V" } : Jvm.MethodName)) ∈ lw_all := lw_g (lw_at lw_m8 200 rfl) rfl
theorem q1939 : (Jvm.Cond.privateMethod ({ cls := "RankEntryModel", name := "begins", desc := "([III)V" } : Jvm.MethodName)) ∈ lw_tbl := lw_at lw_m8 201 rfl
theorem q1940 : (Jvm.Cond.instanceMethod ({ cls := "RankEntryModel", name := "begins", desc := "([III)V" } : Jvm.MethodName)) ∈ lw_all := lw_g (lw_at lw_m8 202 rfl) rfl
theorem q1941 : (Jvm.Cond.code ({ cls := "RankEntryModel", name := "begins", desc := "([III)V" } : Jvm.MethodName) prog_52_method_33_code (5 : Nat) (Option.none : Option Jvm.ClassFile.FieldType)) ∈ lw_all := lw_g (lw_at lw_m8 203 rfl) rfl
theorem q1942 : (Jvm.Cond.methodLink "RankEntryModel" (177 : Nat) ({ cls := "RankEntryModel", name := "instructs", desc := "([I)V" } : Jvm.MethodName)) ∈ lw_all := lw_g (lw_at lw_m8 204 rfl) rfl
theorem q1943 : (Jvm.Cond.privateMethod ({ cls := "RankEntryModel", name := "instructs", desc := "([I)V" } : Jvm.MethodName)) ∈ lw_tbl := lw_at lw_m8 205 rfl
theorem q1944 : (Jvm.Cond.instanceMethod ({ cls := "RankEntryModel", name := "instructs", desc := "([I)V" } : Jvm.MethodName)) ∈ lw_all := lw_g (lw_at lw_m8 206 rfl) rfl
theorem q1945 : (Jvm.Cond.code ({ cls := "RankEntryModel", name := "instructs", desc := "([I)V" } : Jvm.MethodName) prog_52_method_42_code (9 : Nat) (Option.none : Option Jvm.ClassFile.FieldType)) ∈ lw_all := lw_g (lw_at lw_m8 207 rfl) rfl
theorem q1946 : (Jvm.Cond.methodLink "RankEntryModel" (167 : Nat) ({ cls := "RankEntryModel", name := "saves", desc := "([I)V" } : Jvm.MethodName)) ∈ lw_all := lw_g (lw_at lw_m8 208 rfl) rfl
theorem q1947 : (Jvm.Cond.privateMethod ({ cls := "RankEntryModel", name := "saves", desc := "([I)V" } : Jvm.MethodName)) ∈ lw_tbl := lw_at lw_m8 209 rfl
theorem q1948 : (Jvm.Cond.instanceMethod ({ cls := "RankEntryModel", name := "saves", desc := "([I)V" } : Jvm.MethodName)) ∈ lw_all := lw_g (lw_at lw_m8 210 rfl) rfl
theorem q1949 : (Jvm.Cond.code ({ cls := "RankEntryModel", name := "saves", desc := "([I)V" } : Jvm.MethodName) prog_52_method_38_code (2 : Nat) (Option.none : Option Jvm.ClassFile.FieldType)) ∈ lw_all := lw_g (lw_at lw_m8 211 rfl) rfl
theorem q1950 : (Jvm.Cond.methodLink "RankEntryModel" (216 : Nat) ({ cls := "RankEntryModel", name := "faultOf", desc := "([IIII)I" } : Jvm.MethodName)) ∈ lw_all := lw_g (lw_at lw_m8 212 rfl) rfl
theorem q1951 : (Jvm.Cond.privateMethod ({ cls := "RankEntryModel", name := "faultOf", desc := "([IIII)I" } : Jvm.MethodName)) ∈ lw_tbl := lw_at lw_m8 213 rfl
theorem q1952 : (Jvm.Cond.instanceMethod ({ cls := "RankEntryModel", name := "faultOf", desc := "([IIII)I" } : Jvm.MethodName)) ∈ lw_all := lw_g (lw_at lw_m8 214 rfl) rfl
theorem q1953 : (Jvm.Cond.code ({ cls := "RankEntryModel", name := "faultOf", desc := "([IIII)I" } : Jvm.MethodName) prog_52_method_41_code (5 : Nat) (Option.some Jvm.ClassFile.FieldType.int)) ∈ lw_all := lw_g (lw_at lw_m8 215 rfl) rfl
theorem q1954 : (Jvm.Cond.methodLink "RankEntryModel" (209 : Nat) ({ cls := "RankEntryModel", name := "sum", desc := "(II)I" } : Jvm.MethodName)) ∈ lw_all := lw_g (lw_at lw_m8 216 rfl) rfl
theorem q1955 : (Jvm.Cond.static ({ cls := "RankEntryModel", name := "sum", desc := "(II)I" } : Jvm.MethodName)) ∈ lw_all := lw_g (lw_at lw_m8 217 rfl) rfl
theorem q1956 : (Jvm.Cond.code ({ cls := "RankEntryModel", name := "sum", desc := "(II)I" } : Jvm.MethodName) prog_52_method_14_code (13 : Nat) (Option.some Jvm.ClassFile.FieldType.int)) ∈ lw_all := lw_g (lw_at lw_m8 218 rfl) rfl
theorem q1957 : (Jvm.Cond.methodLink "RankEntryModel" (90 : Nat) ({ cls := "RankEntryModel", name := "fraction", desc := "(I)J" } : Jvm.MethodName)) ∈ lw_all := lw_g (lw_at lw_m8 219 rfl) rfl
theorem q1958 : (Jvm.Cond.static ({ cls := "RankEntryModel", name := "fraction", desc := "(I)J" } : Jvm.MethodName)) ∈ lw_all := lw_g (lw_at lw_m8 220 rfl) rfl
theorem q1959 : (Jvm.Cond.code ({ cls := "RankEntryModel", name := "fraction", desc := "(I)J" } : Jvm.MethodName) prog_52_method_10_code (1 : Nat) (Option.some Jvm.ClassFile.FieldType.long)) ∈ lw_all := lw_g (lw_at lw_m8 221 rfl) rfl
theorem q1960 : (Jvm.Cond.constant "RankEntryModel" (76 : Nat) (8388607 : Int32)) ∈ lw_all := lw_g (lw_at lw_m8 222 rfl) rfl
theorem q1961 : (Jvm.Cond.constant "RankEntryModel" (77 : Nat) (8388608 : Int32)) ∈ lw_all := lw_g (lw_at lw_m8 223 rfl) rfl
theorem q1962 : (Jvm.Cond.constant "RankEntryModel" (78 : Nat) (-2147483648 : Int32)) ∈ lw_all := lw_g (lw_at lw_m8 224 rfl) rfl
theorem q1963 : (Jvm.Cond.methodLink "RankEntryModel" (94 : Nat) ({ cls := "RankEntryModel", name := "place", desc := "(I)I" } : Jvm.MethodName)) ∈ lw_all := lw_g (lw_at lw_m8 225 rfl) rfl
theorem q1964 : (Jvm.Cond.static ({ cls := "RankEntryModel", name := "place", desc := "(I)I" } : Jvm.MethodName)) ∈ lw_all := lw_g (lw_at lw_m8 226 rfl) rfl
theorem q1965 : (Jvm.Cond.code ({ cls := "RankEntryModel", name := "place", desc := "(I)I" } : Jvm.MethodName) prog_52_method_11_code (2 : Nat) (Option.some Jvm.ClassFile.FieldType.int)) ∈ lw_all := lw_g (lw_at lw_m8 227 rfl) rfl
theorem q1966 : (Jvm.Cond.methodLink "RankEntryModel" (98 : Nat) ({ cls := "RankEntryModel", name := "rounded", desc := "(ZJIZ)I" } : Jvm.MethodName)) ∈ lw_all := lw_g (lw_at lw_m8 228 rfl) rfl
theorem q1967 : (Jvm.Cond.static ({ cls := "RankEntryModel", name := "rounded", desc := "(ZJIZ)I" } : Jvm.MethodName)) ∈ lw_all := lw_g (lw_at lw_m8 229 rfl) rfl
theorem q1968 : (Jvm.Cond.code ({ cls := "RankEntryModel", name := "rounded", desc := "(ZJIZ)I" } : Jvm.MethodName) prog_52_method_12_code (14 : Nat) (Option.some Jvm.ClassFile.FieldType.int)) ∈ lw_all := lw_g (lw_at lw_m8 230 rfl) rfl
theorem q1969 : (Jvm.Cond.methodLink "RankEntryModel" (79 : Nat) ({ cls := "RankEntryModel", name := "lengthOf", desc := "(J)I" } : Jvm.MethodName)) ∈ lw_all := lw_g (lw_at lw_m8 231 rfl) rfl
theorem q1970 : (Jvm.Cond.static ({ cls := "RankEntryModel", name := "lengthOf", desc := "(J)I" } : Jvm.MethodName)) ∈ lw_all := lw_g (lw_at lw_m8 232 rfl) rfl
theorem q1971 : (Jvm.Cond.code ({ cls := "RankEntryModel", name := "lengthOf", desc := "(J)I" } : Jvm.MethodName) prog_52_method_8_code (5 : Nat) (Option.some Jvm.ClassFile.FieldType.int)) ∈ lw_all := lw_g (lw_at lw_m8 233 rfl) rfl
theorem q1972 : (Jvm.Cond.constantLong "RankEntryModel" (83 : Nat) (2 : Int64)) ∈ lw_all := lw_g (lw_at lw_m8 234 rfl) rfl
theorem q1973 : (Jvm.Cond.constantLong "RankEntryModel" (85 : Nat) (16777216 : Int64)) ∈ lw_all := lw_g (lw_at lw_m8 235 rfl) rfl
theorem q1974 : (Jvm.Cond.constantLong "RankEntryModel" (87 : Nat) (8388608 : Int64)) ∈ lw_all := lw_g (lw_at lw_m8 236 rfl) rfl
theorem q1975 : (Jvm.Cond.constant "RankEntryModel" (89 : Nat) (2139095040 : Int32)) ∈ lw_all := lw_g (lw_at lw_m8 237 rfl) rfl
theorem q1976 : (Jvm.Cond.methodLink "RankEntryModel" (205 : Nat) ({ cls := "RankEntryModel", name := "isFinite", desc := "(I)Z" } : Jvm.MethodName)) ∈ lw_all := lw_g (lw_at lw_m8 238 rfl) rfl
theorem q1977 : (Jvm.Cond.static ({ cls := "RankEntryModel", name := "isFinite", desc := "(I)Z" } : Jvm.MethodName)) ∈ lw_all := lw_g (lw_at lw_m8 239 rfl) rfl
theorem q1978 : (Jvm.Cond.code ({ cls := "RankEntryModel", name := "isFinite", desc := "(I)Z" } : Jvm.MethodName) prog_52_method_9_code (1 : Nat) (Option.some Jvm.ClassFile.FieldType.boolean)) ∈ lw_all := lw_g (lw_at lw_m9 0 rfl) rfl
theorem q1979 : (Jvm.Cond.methodLink "RankEntryModel" (213 : Nat) ({ cls := "RankEntryModel", name := "product", desc := "(II)I" } : Jvm.MethodName)) ∈ lw_all := lw_g (lw_at lw_m9 1 rfl) rfl
theorem q1980 : (Jvm.Cond.static ({ cls := "RankEntryModel", name := "product", desc := "(II)I" } : Jvm.MethodName)) ∈ lw_all := lw_g (lw_at lw_m9 2 rfl) rfl
theorem q1981 : (Jvm.Cond.code ({ cls := "RankEntryModel", name := "product", desc := "(II)I" } : Jvm.MethodName) prog_52_method_13_code (5 : Nat) (Option.some Jvm.ClassFile.FieldType.int)) ∈ lw_all := lw_g (lw_at lw_m9 3 rfl) rfl
theorem q1982 : (Jvm.Cond.fieldLink "RankEntryModel" (220 : Nat) "RankEntryModel" "TAKES" "[I") ∈ lw_all := lw_g (lw_at lw_m9 4 rfl) rfl
theorem q1983 : (Jvm.Cond.laysStatic "RankEntryModel" "TAKES" "[I") ∈ lw_tbl := lw_at lw_m9 5 rfl
theorem q1984 : (Jvm.Cond.fieldLink "RankEntryModel" (223 : Nat) "RankEntryModel" "LONG" "[I") ∈ lw_all := lw_g (lw_at lw_m9 6 rfl) rfl
theorem q1985 : (Jvm.Cond.laysStatic "RankEntryModel" "LONG" "[I") ∈ lw_tbl := lw_at lw_m9 7 rfl
theorem q1986 : (Jvm.Cond.methodLink "RankEntryModel" (226 : Nat) ({ cls := "RankEntryModel", name := "made", desc := "(IIII)I" } : Jvm.MethodName)) ∈ lw_all := lw_g (lw_at lw_m9 8 rfl) rfl
theorem q1987 : (Jvm.Cond.static ({ cls := "RankEntryModel", name := "made", desc := "(IIII)I" } : Jvm.MethodName)) ∈ lw_all := lw_g (lw_at lw_m9 9 rfl) rfl
theorem q1988 : (Jvm.Cond.code ({ cls := "RankEntryModel", name := "made", desc := "(IIII)I" } : Jvm.MethodName) prog_52_method_40_code (5 : Nat) (Option.some Jvm.ClassFile.FieldType.int)) ∈ lw_all := lw_g (lw_at lw_m9 10 rfl) rfl
theorem q1989 : (Jvm.Cond.methodLink "RankEntryModel" (230 : Nat) ({ cls := "RankEntryModel", name := "comes", desc := "([III)V" } : Jvm.MethodName)) ∈ lw_all := lw_g (lw_at lw_m9 11 rfl) rfl
theorem q1990 : (Jvm.Cond.privateMethod ({ cls := "RankEntryModel", name := "comes", desc := "([III)V" } : Jvm.MethodName)) ∈ lw_tbl := lw_at lw_m9 12 rfl
theorem q1991 : (Jvm.Cond.instanceMethod ({ cls := "RankEntryModel", name := "comes", desc := "([III)V" } : Jvm.MethodName)) ∈ lw_all := lw_g (lw_at lw_m9 13 rfl) rfl
theorem q1992 : (Jvm.Cond.code ({ cls := "RankEntryModel", name := "comes", desc := "([III)V" } : Jvm.MethodName) prog_52_method_39_code (4 : Nat) (Option.none : Option Jvm.ClassFile.FieldType)) ∈ lw_all := lw_g (lw_at lw_m9 14 rfl) rfl
theorem q1993 : (Jvm.Cond.methodLink "RankEntryModel" (233 : Nat) ({ cls := "RankEntryModel", name := "moves", desc := "([IIII)V" } : Jvm.MethodName)) ∈ lw_all := lw_g (lw_at lw_m9 15 rfl) rfl
theorem q1994 : (Jvm.Cond.privateMethod ({ cls := "RankEntryModel", name := "moves", desc := "([IIII)V" } : Jvm.MethodName)) ∈ lw_tbl := lw_at lw_m9 16 rfl
theorem q1995 : (Jvm.Cond.instanceMethod ({ cls := "RankEntryModel", name := "moves", desc := "([IIII)V" } : Jvm.MethodName)) ∈ lw_all := lw_g (lw_at lw_m9 17 rfl) rfl
theorem q1996 : (Jvm.Cond.code ({ cls := "RankEntryModel", name := "moves", desc := "([IIII)V" } : Jvm.MethodName) prog_52_method_43_code (5 : Nat) (Option.none : Option Jvm.ClassFile.FieldType)) ∈ lw_all := lw_g (lw_at lw_m9 18 rfl) rfl
theorem q1997 : (Jvm.Cond.methodLink "RankEntryModel" (237 : Nat) ({ cls := "RankEntryModel", name := "rules", desc := "([III)V" } : Jvm.MethodName)) ∈ lw_all := lw_g (lw_at lw_m9 19 rfl) rfl
theorem q1998 : (Jvm.Cond.privateMethod ({ cls := "RankEntryModel", name := "rules", desc := "([III)V" } : Jvm.MethodName)) ∈ lw_tbl := lw_at lw_m9 20 rfl
theorem q1999 : (Jvm.Cond.instanceMethod ({ cls := "RankEntryModel", name := "rules", desc := "([III)V" } : Jvm.MethodName)) ∈ lw_all := lw_g (lw_at lw_m9 21 rfl) rfl
theorem q2000 : (Jvm.Cond.code ({ cls := "RankEntryModel", name := "rules", desc := "([III)V" } : Jvm.MethodName) prog_52_method_44_code (4 : Nat) (Option.none : Option Jvm.ClassFile.FieldType)) ∈ lw_all := lw_g (lw_at lw_m9 22 rfl) rfl
theorem q2001 : (Jvm.Cond.methodLink "RankEntryModel" (250 : Nat) ({ cls := "RankEntryModel", name := "ends", desc := "([I)V" } : Jvm.MethodName)) ∈ lw_all := lw_g (lw_at lw_m9 23 rfl) rfl
theorem q2002 : (Jvm.Cond.privateMethod ({ cls := "RankEntryModel", name := "ends", desc := "([I)V" } : Jvm.MethodName)) ∈ lw_tbl := lw_at lw_m9 24 rfl
theorem q2003 : (Jvm.Cond.instanceMethod ({ cls := "RankEntryModel", name := "ends", desc := "([I)V" } : Jvm.MethodName)) ∈ lw_all := lw_g (lw_at lw_m9 25 rfl) rfl
theorem q2004 : (Jvm.Cond.code ({ cls := "RankEntryModel", name := "ends", desc := "([I)V" } : Jvm.MethodName) prog_52_method_45_code (3 : Nat) (Option.none : Option Jvm.ClassFile.FieldType)) ∈ lw_all := lw_g (lw_at lw_m9 26 rfl) rfl
theorem q2005 : (Jvm.Cond.methodLink "RankEntryModel" (240 : Nat) ({ cls := "RankEntryModel", name := "floats", desc := "([IIIIIII)V" } : Jvm.MethodName)) ∈ lw_all := lw_g (lw_at lw_m9 27 rfl) rfl
theorem q2006 : (Jvm.Cond.privateMethod ({ cls := "RankEntryModel", name := "floats", desc := "([IIIIIII)V" } : Jvm.MethodName)) ∈ lw_tbl := lw_at lw_m9 28 rfl
theorem q2007 : (Jvm.Cond.instanceMethod ({ cls := "RankEntryModel", name := "floats", desc := "([IIIIIII)V" } : Jvm.MethodName)) ∈ lw_all := lw_g (lw_at lw_m9 29 rfl) rfl
theorem q2008 : (Jvm.Cond.code ({ cls := "RankEntryModel", name := "floats", desc := "([IIIIIII)V" } : Jvm.MethodName) prog_52_method_46_code (8 : Nat) (Option.none : Option Jvm.ClassFile.FieldType)) ∈ lw_all := lw_g (lw_at lw_m9 30 rfl) rfl
theorem q2009 : (Jvm.Cond.methodLink "RankEntryModel" (253 : Nat) ({ cls := "RankEntryModel", name := "toInt", desc := "(I)I" } : Jvm.MethodName)) ∈ lw_all := lw_g (lw_at lw_m9 31 rfl) rfl
theorem q2010 : (Jvm.Cond.static ({ cls := "RankEntryModel", name := "toInt", desc := "(I)I" } : Jvm.MethodName)) ∈ lw_all := lw_g (lw_at lw_m9 32 rfl) rfl
theorem q2011 : (Jvm.Cond.code ({ cls := "RankEntryModel", name := "toInt", desc := "(I)I" } : Jvm.MethodName) prog_52_method_16_code (5 : Nat) (Option.some Jvm.ClassFile.FieldType.int)) ∈ lw_all := lw_g (lw_at lw_m9 33 rfl) rfl
theorem q2012 : (Jvm.Cond.constantLong "RankEntryModel" (102 : Nat) (4294967296 : Int64)) ∈ lw_all := lw_g (lw_at lw_m9 34 rfl) rfl
theorem q2013 : (Jvm.Cond.constantLong "RankEntryModel" (104 : Nat) (2147483648 : Int64)) ∈ lw_all := lw_g (lw_at lw_m9 35 rfl) rfl
theorem q2014 : (Jvm.Cond.constantLong "RankEntryModel" (106 : Nat) (2147483647 : Int64)) ∈ lw_all := lw_g (lw_at lw_m9 36 rfl) rfl
theorem q2015 : (Jvm.Cond.constant "RankEntryModel" (108 : Nat) (2147483647 : Int32)) ∈ lw_all := lw_g (lw_at lw_m9 37 rfl) rfl
theorem q2016 : (Jvm.Cond.methodLink "RankEntryModel" (256 : Nat) ({ cls := "RankEntryModel", name := "ofInt", desc := "(I)I" } : Jvm.MethodName)) ∈ lw_all := lw_g (lw_at lw_m9 38 rfl) rfl
theorem q2017 : (Jvm.Cond.static ({ cls := "RankEntryModel", name := "ofInt", desc := "(I)I" } : Jvm.MethodName)) ∈ lw_all := lw_g (lw_at lw_m9 39 rfl) rfl
theorem q2018 : (Jvm.Cond.code ({ cls := "RankEntryModel", name := "ofInt", desc := "(I)I" } : Jvm.MethodName) prog_52_method_15_code (3 : Nat) (Option.some Jvm.ClassFile.FieldType.int)) ∈ lw_all := lw_g (lw_at lw_m9 40 rfl) rfl
theorem q2019 : (Jvm.Cond.methodLink "RankEntryModel" (244 : Nat) ({ cls := "RankEntryModel", name := "mod", desc := "(II)I" } : Jvm.MethodName)) ∈ lw_all := lw_g (lw_at lw_m9 41 rfl) rfl
theorem q2020 : (Jvm.Cond.static ({ cls := "RankEntryModel", name := "mod", desc := "(II)I" } : Jvm.MethodName)) ∈ lw_all := lw_g (lw_at lw_m9 42 rfl) rfl
theorem q2021 : (Jvm.Cond.code ({ cls := "RankEntryModel", name := "mod", desc := "(II)I" } : Jvm.MethodName) prog_52_method_4_code (2 : Nat) (Option.some Jvm.ClassFile.FieldType.int)) ∈ lw_all := lw_g (lw_at lw_m9 43 rfl) rfl
theorem q2022 : (Jvm.Cond.methodLink "RankEntryModel" (247 : Nat) ({ cls := "RankEntryModel", name := "tells", desc := "(I)V" } : Jvm.MethodName)) ∈ lw_all := lw_g (lw_at lw_m9 44 rfl) rfl
theorem q2023 : (Jvm.Cond.privateMethod ({ cls := "RankEntryModel", name := "tells", desc := "(I)V" } : Jvm.MethodName)) ∈ lw_tbl := lw_at lw_m9 45 rfl
theorem q2024 : (Jvm.Cond.instanceMethod ({ cls := "RankEntryModel", name := "tells", desc := "(I)V" } : Jvm.MethodName)) ∈ lw_all := lw_g (lw_at lw_m9 46 rfl) rfl
theorem q2025 : (Jvm.Cond.code ({ cls := "RankEntryModel", name := "tells", desc := "(I)V" } : Jvm.MethodName) prog_52_method_47_code (2 : Nat) (Option.none : Option Jvm.ClassFile.FieldType)) ∈ lw_all := lw_g (lw_at lw_m9 47 rfl) rfl
theorem q2026 : (Jvm.Cond.methodLink "RankEntryModel" (161 : Nat) ({ cls := "RankEntryModel", name := "chains", desc := "([I)V" } : Jvm.MethodName)) ∈ lw_all := lw_g (lw_at lw_m9 48 rfl) rfl
theorem q2027 : (Jvm.Cond.privateMethod ({ cls := "RankEntryModel", name := "chains", desc := "([I)V" } : Jvm.MethodName)) ∈ lw_tbl := lw_at lw_m9 49 rfl
theorem q2028 : (Jvm.Cond.instanceMethod ({ cls := "RankEntryModel", name := "chains", desc := "([I)V" } : Jvm.MethodName)) ∈ lw_all := lw_g (lw_at lw_m9 50 rfl) rfl
theorem q2029 : (Jvm.Cond.code ({ cls := "RankEntryModel", name := "chains", desc := "([I)V" } : Jvm.MethodName) prog_52_method_34_code (3 : Nat) (Option.none : Option Jvm.ClassFile.FieldType)) ∈ lw_all := lw_g (lw_at lw_m9 51 rfl) rfl
theorem q2030 : (Jvm.Cond.methodLink "RankEntryModel" (164 : Nat) ({ cls := "RankEntryModel", name := "unstacks", desc := "([I)V" } : Jvm.MethodName)) ∈ lw_all := lw_g (lw_at lw_m9 52 rfl) rfl
theorem q2031 : (Jvm.Cond.privateMethod ({ cls := "RankEntryModel", name := "unstacks", desc := "([I)V" } : Jvm.MethodName)) ∈ lw_tbl := lw_at lw_m9 53 rfl
theorem q2032 : (Jvm.Cond.instanceMethod ({ cls := "RankEntryModel", name := "unstacks", desc := "([I)V" } : Jvm.MethodName)) ∈ lw_all := lw_g (lw_at lw_m9 54 rfl) rfl
theorem q2033 : (Jvm.Cond.code ({ cls := "RankEntryModel", name := "unstacks", desc := "([I)V" } : Jvm.MethodName) prog_52_method_36_code (4 : Nat) (Option.none : Option Jvm.ClassFile.FieldType)) ∈ lw_all := lw_g (lw_at lw_m9 55 rfl) rfl
theorem q2034 : (Jvm.Cond.methodLink "RankEntryModel" (199 : Nat) ({ cls := "RankEntryModel", name := "wrongWith", desc := "([I)I" } : Jvm.MethodName)) ∈ lw_all := lw_g (lw_at lw_m9 56 rfl) rfl
theorem q2035 : (Jvm.Cond.privateMethod ({ cls := "RankEntryModel", name := "wrongWith", desc := "([I)I" } : Jvm.MethodName)) ∈ lw_tbl := lw_at lw_m9 57 rfl
theorem q2036 : (Jvm.Cond.instanceMethod ({ cls := "RankEntryModel", name := "wrongWith", desc := "([I)I" } : Jvm.MethodName)) ∈ lw_all := lw_g (lw_at lw_m9 58 rfl) rfl
theorem q2037 : (Jvm.Cond.code ({ cls := "RankEntryModel", name := "wrongWith", desc := "([I)I" } : Jvm.MethodName) prog_52_method_35_code (3 : Nat) (Option.some Jvm.ClassFile.FieldType.int)) ∈ lw_all := lw_g (lw_at lw_m9 59 rfl) rfl
theorem q2038 : (Jvm.Cond.methodLink "RankEntryModel" (202 : Nat) ({ cls := "RankEntryModel", name := "returns", desc := "([I)V" } : Jvm.MethodName)) ∈ lw_all := lw_g (lw_at lw_m9 60 rfl) rfl
theorem q2039 : (Jvm.Cond.privateMethod ({ cls := "RankEntryModel", name := "returns", desc := "([I)V" } : Jvm.MethodName)) ∈ lw_tbl := lw_at lw_m9 61 rfl
theorem q2040 : (Jvm.Cond.instanceMethod ({ cls := "RankEntryModel", name := "returns", desc := "([I)V" } : Jvm.MethodName)) ∈ lw_all := lw_g (lw_at lw_m9 62 rfl) rfl
theorem q2041 : (Jvm.Cond.code ({ cls := "RankEntryModel", name := "returns", desc := "([I)V" } : Jvm.MethodName) prog_52_method_37_code (5 : Nat) (Option.none : Option Jvm.ClassFile.FieldType)) ∈ lw_all := lw_g (lw_at lw_m9 63 rfl) rfl
theorem q2043 : (Jvm.Cond.instanceMethod ({ cls := "RankEntryModel", name := "till", desc := "(I)I" } : Jvm.MethodName)) ∈ lw_all := lw_g (lw_at lw_m9 65 rfl) rfl
theorem q2044 : (Jvm.Cond.selects "RankEntryModel" ({ cls := "RankEntryModel", name := "till", desc := "(I)I" } : Jvm.MethodName) ({ cls := "RankEntryModel", name := "till", desc := "(I)I" } : Jvm.MethodName)) ∈ lw_all := lw_g (lw_at lw_m9 66 rfl) rfl
theorem q2045 : (Jvm.Cond.code ({ cls := "RankEntryModel", name := "till", desc := "(I)I" } : Jvm.MethodName) prog_52_method_61_code (3 : Nat) (Option.some Jvm.ClassFile.FieldType.int)) ∈ lw_all := lw_g (lw_at lw_m9 67 rfl) rfl
theorem q2047 : (Jvm.Cond.instanceMethod ({ cls := "RankEntryModel", name := "reset", desc := "()I" } : Jvm.MethodName)) ∈ lw_all := lw_g (lw_at lw_m9 69 rfl) rfl
theorem q2048 : (Jvm.Cond.selects "RankEntryModel" ({ cls := "RankEntryModel", name := "reset", desc := "()I" } : Jvm.MethodName) ({ cls := "RankEntryModel", name := "reset", desc := "()I" } : Jvm.MethodName)) ∈ lw_all := lw_g (lw_at lw_m9 70 rfl) rfl
theorem q2049 : (Jvm.Cond.code ({ cls := "RankEntryModel", name := "reset", desc := "()I" } : Jvm.MethodName) prog_52_method_62_code (2 : Nat) (Option.some Jvm.ClassFile.FieldType.int)) ∈ lw_all := lw_g (lw_at lw_m9 71 rfl) rfl
theorem q2051 : (Jvm.Cond.instanceMethod ({ cls := "RankEntryModel", name := "reg", desc := "(I)I" } : Jvm.MethodName)) ∈ lw_all := lw_g (lw_at lw_m9 73 rfl) rfl
theorem q2052 : (Jvm.Cond.selects "RankEntryModel" ({ cls := "RankEntryModel", name := "reg", desc := "(I)I" } : Jvm.MethodName) ({ cls := "RankEntryModel", name := "reg", desc := "(I)I" } : Jvm.MethodName)) ∈ lw_all := lw_g (lw_at lw_m9 74 rfl) rfl
theorem q2053 : (Jvm.Cond.code ({ cls := "RankEntryModel", name := "reg", desc := "(I)I" } : Jvm.MethodName) prog_52_method_63_code (2 : Nat) (Option.some Jvm.ClassFile.FieldType.int)) ∈ lw_all := lw_g (lw_at lw_m9 75 rfl) rfl
theorem q2055 : (Jvm.Cond.instanceMethod ({ cls := "RankEntryModel", name := "word", desc := "(I)I" } : Jvm.MethodName)) ∈ lw_all := lw_g (lw_at lw_m9 77 rfl) rfl
theorem q2056 : (Jvm.Cond.selects "RankEntryModel" ({ cls := "RankEntryModel", name := "word", desc := "(I)I" } : Jvm.MethodName) ({ cls := "RankEntryModel", name := "word", desc := "(I)I" } : Jvm.MethodName)) ∈ lw_all := lw_g (lw_at lw_m9 78 rfl) rfl
theorem q2057 : (Jvm.Cond.code ({ cls := "RankEntryModel", name := "word", desc := "(I)I" } : Jvm.MethodName) prog_52_method_64_code (2 : Nat) (Option.some Jvm.ClassFile.FieldType.int)) ∈ lw_all := lw_g (lw_at lw_m9 79 rfl) rfl
theorem q2059 : (Jvm.Cond.instanceMethod ({ cls := "RankEntryModel", name := "data", desc := "(I)I" } : Jvm.MethodName)) ∈ lw_all := lw_g (lw_at lw_m9 81 rfl) rfl
theorem q2060 : (Jvm.Cond.selects "RankEntryModel" ({ cls := "RankEntryModel", name := "data", desc := "(I)I" } : Jvm.MethodName) ({ cls := "RankEntryModel", name := "data", desc := "(I)I" } : Jvm.MethodName)) ∈ lw_all := lw_g (lw_at lw_m9 82 rfl) rfl
theorem q2061 : (Jvm.Cond.code ({ cls := "RankEntryModel", name := "data", desc := "(I)I" } : Jvm.MethodName) prog_52_method_65_code (2 : Nat) (Option.some Jvm.ClassFile.FieldType.int)) ∈ lw_all := lw_g (lw_at lw_m9 83 rfl) rfl
theorem q2063 : (Jvm.Cond.instanceMethod ({ cls := "RankEntryModel", name := "out", desc := "(I)I" } : Jvm.MethodName)) ∈ lw_all := lw_g (lw_at lw_m9 85 rfl) rfl
theorem q2064 : (Jvm.Cond.selects "RankEntryModel" ({ cls := "RankEntryModel", name := "out", desc := "(I)I" } : Jvm.MethodName) ({ cls := "RankEntryModel", name := "out", desc := "(I)I" } : Jvm.MethodName)) ∈ lw_all := lw_g (lw_at lw_m9 86 rfl) rfl
theorem q2065 : (Jvm.Cond.code ({ cls := "RankEntryModel", name := "out", desc := "(I)I" } : Jvm.MethodName) prog_52_method_66_code (2 : Nat) (Option.some Jvm.ClassFile.FieldType.int)) ∈ lw_all := lw_g (lw_at lw_m9 87 rfl) rfl
theorem q2067 : (Jvm.Cond.instanceMethod ({ cls := "RankEntryModel", name := "source", desc := "(II)I" } : Jvm.MethodName)) ∈ lw_all := lw_g (lw_at lw_m9 89 rfl) rfl
theorem q2068 : (Jvm.Cond.selects "RankEntryModel" ({ cls := "RankEntryModel", name := "source", desc := "(II)I" } : Jvm.MethodName) ({ cls := "RankEntryModel", name := "source", desc := "(II)I" } : Jvm.MethodName)) ∈ lw_all := lw_g (lw_at lw_m9 90 rfl) rfl
theorem q2069 : (Jvm.Cond.code ({ cls := "RankEntryModel", name := "source", desc := "(II)I" } : Jvm.MethodName) prog_52_method_67_code (3 : Nat) (Option.some Jvm.ClassFile.FieldType.int)) ∈ lw_all := lw_g (lw_at lw_m9 91 rfl) rfl
theorem q2071 : (Jvm.Cond.instanceMethod ({ cls := "RankEntryModel", name := "nest", desc := "(I)I" } : Jvm.MethodName)) ∈ lw_all := lw_g (lw_at lw_m9 93 rfl) rfl
theorem q2072 : (Jvm.Cond.selects "RankEntryModel" ({ cls := "RankEntryModel", name := "nest", desc := "(I)I" } : Jvm.MethodName) ({ cls := "RankEntryModel", name := "nest", desc := "(I)I" } : Jvm.MethodName)) ∈ lw_all := lw_g (lw_at lw_m9 94 rfl) rfl
theorem q2073 : (Jvm.Cond.code ({ cls := "RankEntryModel", name := "nest", desc := "(I)I" } : Jvm.MethodName) prog_52_method_68_code (2 : Nat) (Option.some Jvm.ClassFile.FieldType.int)) ∈ lw_all := lw_g (lw_at lw_m9 95 rfl) rfl
theorem q2075 : (Jvm.Cond.instanceMethod ({ cls := "RankEntryModel", name := "state", desc := "(I)I" } : Jvm.MethodName)) ∈ lw_all := lw_g (lw_at lw_m9 97 rfl) rfl
theorem q2076 : (Jvm.Cond.selects "RankEntryModel" ({ cls := "RankEntryModel", name := "state", desc := "(I)I" } : Jvm.MethodName) ({ cls := "RankEntryModel", name := "state", desc := "(I)I" } : Jvm.MethodName)) ∈ lw_all := lw_g (lw_at lw_m9 98 rfl) rfl
theorem q2077 : (Jvm.Cond.code ({ cls := "RankEntryModel", name := "state", desc := "(I)I" } : Jvm.MethodName) prog_52_method_69_code (2 : Nat) (Option.some Jvm.ClassFile.FieldType.int)) ∈ lw_all := lw_g (lw_at lw_m9 99 rfl) rfl
theorem q2079 : (Jvm.Cond.instanceMethod ({ cls := "RankEntryModel", name := "count", desc := "(I)I" } : Jvm.MethodName)) ∈ lw_all := lw_g (lw_at lw_m9 101 rfl) rfl
theorem q2080 : (Jvm.Cond.selects "RankEntryModel" ({ cls := "RankEntryModel", name := "count", desc := "(I)I" } : Jvm.MethodName) ({ cls := "RankEntryModel", name := "count", desc := "(I)I" } : Jvm.MethodName)) ∈ lw_all := lw_g (lw_at lw_m9 102 rfl) rfl
theorem q2081 : (Jvm.Cond.code ({ cls := "RankEntryModel", name := "count", desc := "(I)I" } : Jvm.MethodName) prog_52_method_70_code (2 : Nat) (Option.some Jvm.ClassFile.FieldType.int)) ∈ lw_all := lw_g (lw_at lw_m9 103 rfl) rfl
theorem q2083 : (Jvm.Cond.instanceMethod ({ cls := "RankEntryModel", name := "event", desc := "(II)I" } : Jvm.MethodName)) ∈ lw_all := lw_g (lw_at lw_m9 105 rfl) rfl
theorem q2084 : (Jvm.Cond.selects "RankEntryModel" ({ cls := "RankEntryModel", name := "event", desc := "(II)I" } : Jvm.MethodName) ({ cls := "RankEntryModel", name := "event", desc := "(II)I" } : Jvm.MethodName)) ∈ lw_all := lw_g (lw_at lw_m9 106 rfl) rfl
theorem q2085 : (Jvm.Cond.code ({ cls := "RankEntryModel", name := "event", desc := "(II)I" } : Jvm.MethodName) prog_52_method_71_code (5 : Nat) (Option.some Jvm.ClassFile.FieldType.int)) ∈ lw_all := lw_g (lw_at lw_m9 107 rfl) rfl
theorem q2087 : (Jvm.Cond.instanceMethod ({ cls := "RankEntryModel", name := "waited", desc := "(I)I" } : Jvm.MethodName)) ∈ lw_all := lw_g (lw_at lw_m9 109 rfl) rfl
theorem q2088 : (Jvm.Cond.selects "RankEntryModel" ({ cls := "RankEntryModel", name := "waited", desc := "(I)I" } : Jvm.MethodName) ({ cls := "RankEntryModel", name := "waited", desc := "(I)I" } : Jvm.MethodName)) ∈ lw_all := lw_g (lw_at lw_m9 110 rfl) rfl
theorem q2089 : (Jvm.Cond.code ({ cls := "RankEntryModel", name := "waited", desc := "(I)I" } : Jvm.MethodName) prog_52_method_72_code (2 : Nat) (Option.some Jvm.ClassFile.FieldType.int)) ∈ lw_all := lw_g (lw_at lw_m9 111 rfl) rfl
theorem q2091 : (Jvm.Cond.instanceMethod ({ cls := "RankEntryModel", name := "ahead", desc := "(II)Z" } : Jvm.MethodName)) ∈ lw_all := lw_g (lw_at lw_m9 113 rfl) rfl
theorem q2092 : (Jvm.Cond.selects "RankEntryModel" ({ cls := "RankEntryModel", name := "ahead", desc := "(II)Z" } : Jvm.MethodName) ({ cls := "RankEntryModel", name := "ahead", desc := "(II)Z" } : Jvm.MethodName)) ∈ lw_all := lw_g (lw_at lw_m9 114 rfl) rfl
theorem q2093 : (Jvm.Cond.code ({ cls := "RankEntryModel", name := "ahead", desc := "(II)Z" } : Jvm.MethodName) prog_52_method_73_code (3 : Nat) (Option.some Jvm.ClassFile.FieldType.boolean)) ∈ lw_all := lw_g (lw_at lw_m9 115 rfl) rfl
theorem q2095 : (Jvm.Cond.instanceMethod ({ cls := "RankEntryModel", name := "splits", desc := "(I)I" } : Jvm.MethodName)) ∈ lw_all := lw_g (lw_at lw_m9 117 rfl) rfl
theorem q2096 : (Jvm.Cond.selects "RankEntryModel" ({ cls := "RankEntryModel", name := "splits", desc := "(I)I" } : Jvm.MethodName) ({ cls := "RankEntryModel", name := "splits", desc := "(I)I" } : Jvm.MethodName)) ∈ lw_all := lw_g (lw_at lw_m9 118 rfl) rfl
theorem q2097 : (Jvm.Cond.code ({ cls := "RankEntryModel", name := "splits", desc := "(I)I" } : Jvm.MethodName) prog_52_method_74_code (4 : Nat) (Option.some Jvm.ClassFile.FieldType.int)) ∈ lw_all := lw_g (lw_at lw_m9 119 rfl) rfl
theorem q2099 : (Jvm.Cond.instanceMethod ({ cls := "RankEntryModel", name := "escalates", desc := "(I)I" } : Jvm.MethodName)) ∈ lw_all := lw_g (lw_at lw_m9 121 rfl) rfl
theorem q2100 : (Jvm.Cond.selects "RankEntryModel" ({ cls := "RankEntryModel", name := "escalates", desc := "(I)I" } : Jvm.MethodName) ({ cls := "RankEntryModel", name := "escalates", desc := "(I)I" } : Jvm.MethodName)) ∈ lw_all := lw_g (lw_at lw_m9 122 rfl) rfl
theorem q2101 : (Jvm.Cond.code ({ cls := "RankEntryModel", name := "escalates", desc := "(I)I" } : Jvm.MethodName) prog_52_method_75_code (3 : Nat) (Option.some Jvm.ClassFile.FieldType.int)) ∈ lw_all := lw_g (lw_at lw_m9 123 rfl) rfl
theorem q2103 : (Jvm.Cond.instanceMethod ({ cls := "RankEntryModel", name := "soon", desc := "(I)I" } : Jvm.MethodName)) ∈ lw_all := lw_g (lw_at lw_m9 125 rfl) rfl
theorem q2104 : (Jvm.Cond.selects "RankEntryModel" ({ cls := "RankEntryModel", name := "soon", desc := "(I)I" } : Jvm.MethodName) ({ cls := "RankEntryModel", name := "soon", desc := "(I)I" } : Jvm.MethodName)) ∈ lw_all := lw_g (lw_at lw_m9 126 rfl) rfl
theorem q2105 : (Jvm.Cond.code ({ cls := "RankEntryModel", name := "soon", desc := "(I)I" } : Jvm.MethodName) prog_52_method_77_code (3 : Nat) (Option.some Jvm.ClassFile.FieldType.int)) ∈ lw_all := lw_g (lw_at lw_m9 127 rfl) rfl
theorem q2106 : (Jvm.Cond.methodLink "RankEntryModel" (267 : Nat) ({ cls := "RankEntryModel", name := "likeNow", desc := "(Z)V" } : Jvm.MethodName)) ∈ lw_all := lw_g (lw_at lw_m9 128 rfl) rfl
theorem q2107 : (Jvm.Cond.privateMethod ({ cls := "RankEntryModel", name := "likeNow", desc := "(Z)V" } : Jvm.MethodName)) ∈ lw_tbl := lw_at lw_m9 129 rfl
theorem q2108 : (Jvm.Cond.instanceMethod ({ cls := "RankEntryModel", name := "likeNow", desc := "(Z)V" } : Jvm.MethodName)) ∈ lw_all := lw_g (lw_at lw_m9 130 rfl) rfl
theorem q2109 : (Jvm.Cond.code ({ cls := "RankEntryModel", name := "likeNow", desc := "(Z)V" } : Jvm.MethodName) prog_52_method_76_code (3 : Nat) (Option.none : Option Jvm.ClassFile.FieldType)) ∈ lw_all := lw_g (lw_at lw_m9 131 rfl) rfl
theorem q2111 : (Jvm.Cond.instanceMethod ({ cls := "RankEntryModel", name := "order", desc := "(IZ)I" } : Jvm.MethodName)) ∈ lw_all := lw_g (lw_at lw_m9 133 rfl) rfl
theorem q2112 : (Jvm.Cond.selects "RankEntryModel" ({ cls := "RankEntryModel", name := "order", desc := "(IZ)I" } : Jvm.MethodName) ({ cls := "RankEntryModel", name := "order", desc := "(IZ)I" } : Jvm.MethodName)) ∈ lw_all := lw_g (lw_at lw_m9 134 rfl) rfl
theorem q2113 : (Jvm.Cond.code ({ cls := "RankEntryModel", name := "order", desc := "(IZ)I" } : Jvm.MethodName) prog_52_method_78_code (5 : Nat) (Option.some Jvm.ClassFile.FieldType.int)) ∈ lw_all := lw_g (lw_at lw_m9 135 rfl) rfl
theorem q2115 : (Jvm.Cond.instanceMethod ({ cls := "RankEntryModel", name := "quiet", desc := "(Z)I" } : Jvm.MethodName)) ∈ lw_all := lw_g (lw_at lw_m9 137 rfl) rfl
theorem q2116 : (Jvm.Cond.selects "RankEntryModel" ({ cls := "RankEntryModel", name := "quiet", desc := "(Z)I" } : Jvm.MethodName) ({ cls := "RankEntryModel", name := "quiet", desc := "(Z)I" } : Jvm.MethodName)) ∈ lw_all := lw_g (lw_at lw_m9 138 rfl) rfl
theorem q2117 : (Jvm.Cond.code ({ cls := "RankEntryModel", name := "quiet", desc := "(Z)I" } : Jvm.MethodName) prog_52_method_79_code (3 : Nat) (Option.some Jvm.ClassFile.FieldType.int)) ∈ lw_all := lw_g (lw_at lw_m9 139 rfl) rfl
theorem q2119 : (Jvm.Cond.instanceMethod ({ cls := "RankEntryModel", name := "window", desc := "(I)I" } : Jvm.MethodName)) ∈ lw_all := lw_g (lw_at lw_m9 141 rfl) rfl
theorem q2120 : (Jvm.Cond.selects "RankEntryModel" ({ cls := "RankEntryModel", name := "window", desc := "(I)I" } : Jvm.MethodName) ({ cls := "RankEntryModel", name := "window", desc := "(I)I" } : Jvm.MethodName)) ∈ lw_all := lw_g (lw_at lw_m9 142 rfl) rfl
theorem q2121 : (Jvm.Cond.code ({ cls := "RankEntryModel", name := "window", desc := "(I)I" } : Jvm.MethodName) prog_52_method_80_code (5 : Nat) (Option.some Jvm.ClassFile.FieldType.int)) ∈ lw_all := lw_g (lw_at lw_m9 143 rfl) rfl
theorem q2123 : (Jvm.Cond.instanceMethod ({ cls := "RankEntryModel", name := "keeps", desc := "()I" } : Jvm.MethodName)) ∈ lw_all := lw_g (lw_at lw_m9 145 rfl) rfl
theorem q2124 : (Jvm.Cond.selects "RankEntryModel" ({ cls := "RankEntryModel", name := "keeps", desc := "()I" } : Jvm.MethodName) ({ cls := "RankEntryModel", name := "keeps", desc := "()I" } : Jvm.MethodName)) ∈ lw_all := lw_g (lw_at lw_m9 146 rfl) rfl
theorem q2125 : (Jvm.Cond.code ({ cls := "RankEntryModel", name := "keeps", desc := "()I" } : Jvm.MethodName) prog_52_method_81_code (3 : Nat) (Option.some Jvm.ClassFile.FieldType.int)) ∈ lw_all := lw_g (lw_at lw_m9 147 rfl) rfl
theorem q2126 : (Jvm.Cond.methodLink "RankEntryModel" (271 : Nat) ({ cls := "RankEntryModel", name := "isLikeNow", desc := "()Z" } : Jvm.MethodName)) ∈ lw_all := lw_g (lw_at lw_m9 148 rfl) rfl
theorem q2127 : (Jvm.Cond.privateMethod ({ cls := "RankEntryModel", name := "isLikeNow", desc := "()Z" } : Jvm.MethodName)) ∈ lw_tbl := lw_at lw_m9 149 rfl
theorem q2128 : (Jvm.Cond.instanceMethod ({ cls := "RankEntryModel", name := "isLikeNow", desc := "()Z" } : Jvm.MethodName)) ∈ lw_all := lw_g (lw_at lw_m9 150 rfl) rfl
theorem q2129 : (Jvm.Cond.code ({ cls := "RankEntryModel", name := "isLikeNow", desc := "()Z" } : Jvm.MethodName) prog_52_method_82_code (2 : Nat) (Option.some Jvm.ClassFile.FieldType.boolean)) ∈ lw_all := lw_g (lw_at lw_m9 151 rfl) rfl
theorem q2131 : (Jvm.Cond.instanceMethod ({ cls := "RankEntryModel", name := "cost", desc := "(I)I" } : Jvm.MethodName)) ∈ lw_all := lw_g (lw_at lw_m9 153 rfl) rfl
theorem q2132 : (Jvm.Cond.selects "RankEntryModel" ({ cls := "RankEntryModel", name := "cost", desc := "(I)I" } : Jvm.MethodName) ({ cls := "RankEntryModel", name := "cost", desc := "(I)I" } : Jvm.MethodName)) ∈ lw_all := lw_g (lw_at lw_m9 154 rfl) rfl
theorem q2133 : (Jvm.Cond.code ({ cls := "RankEntryModel", name := "cost", desc := "(I)I" } : Jvm.MethodName) prog_52_method_87_code (2 : Nat) (Option.some Jvm.ClassFile.FieldType.int)) ∈ lw_all := lw_g (lw_at lw_m9 155 rfl) rfl
theorem q2134 : (Jvm.Cond.methodLink "RankEntryModel" (290 : Nat) ({ cls := "RankEntryModel", name := "walks", desc := "(I)Z" } : Jvm.MethodName)) ∈ lw_all := lw_g (lw_at lw_m9 156 rfl) rfl
theorem q2135 : (Jvm.Cond.privateMethod ({ cls := "RankEntryModel", name := "walks", desc := "(I)Z" } : Jvm.MethodName)) ∈ lw_tbl := lw_at lw_m9 157 rfl
theorem q2136 : (Jvm.Cond.instanceMethod ({ cls := "RankEntryModel", name := "walks", desc := "(I)Z" } : Jvm.MethodName)) ∈ lw_all := lw_g (lw_at lw_m9 158 rfl) rfl
theorem q2137 : (Jvm.Cond.code ({ cls := "RankEntryModel", name := "walks", desc := "(I)Z" } : Jvm.MethodName) prog_52_method_86_code (10 : Nat) (Option.some Jvm.ClassFile.FieldType.boolean)) ∈ lw_all := lw_g (lw_at lw_m9 159 rfl) rfl
theorem q2138 : (Jvm.Cond.methodLink "RankEntryModel" (287 : Nat) ({ cls := "RankEntryModel", name := "meets", desc := "(I)Z" } : Jvm.MethodName)) ∈ lw_all := lw_g (lw_at lw_m9 160 rfl) rfl
theorem q2139 : (Jvm.Cond.privateMethod ({ cls := "RankEntryModel", name := "meets", desc := "(I)Z" } : Jvm.MethodName)) ∈ lw_tbl := lw_at lw_m9 161 rfl
theorem q2140 : (Jvm.Cond.instanceMethod ({ cls := "RankEntryModel", name := "meets", desc := "(I)Z" } : Jvm.MethodName)) ∈ lw_all := lw_g (lw_at lw_m9 162 rfl) rfl
theorem q2141 : (Jvm.Cond.code ({ cls := "RankEntryModel", name := "meets", desc := "(I)Z" } : Jvm.MethodName) prog_52_method_85_code (7 : Nat) (Option.some Jvm.ClassFile.FieldType.boolean)) ∈ lw_all := lw_g (lw_at lw_m9 163 rfl) rfl
theorem q2142 : (Jvm.Cond.methodLink "RankEntryModel" (275 : Nat) ({ cls := "RankEntryModel", name := "branches", desc := "(I)Z" } : Jvm.MethodName)) ∈ lw_all := lw_g (lw_at lw_m9 164 rfl) rfl
theorem q2143 : (Jvm.Cond.privateMethod ({ cls := "RankEntryModel", name := "branches", desc := "(I)Z" } : Jvm.MethodName)) ∈ lw_tbl := lw_at lw_m9 165 rfl
theorem q2144 : (Jvm.Cond.instanceMethod ({ cls := "RankEntryModel", name := "branches", desc := "(I)Z" } : Jvm.MethodName)) ∈ lw_all := lw_g (lw_at lw_m9 166 rfl) rfl
theorem q2145 : (Jvm.Cond.code ({ cls := "RankEntryModel", name := "branches", desc := "(I)Z" } : Jvm.MethodName) prog_52_method_83_code (2 : Nat) (Option.some Jvm.ClassFile.FieldType.boolean)) ∈ lw_all := lw_g (lw_at lw_m9 167 rfl) rfl
theorem q2146 : (Jvm.Cond.methodLink "RankEntryModel" (278 : Nat) ({ cls := "RankEntryModel", name := "goesTo", desc := "(II)I" } : Jvm.MethodName)) ∈ lw_all := lw_g (lw_at lw_m9 168 rfl) rfl
theorem q2147 : (Jvm.Cond.privateMethod ({ cls := "RankEntryModel", name := "goesTo", desc := "(II)I" } : Jvm.MethodName)) ∈ lw_tbl := lw_at lw_m9 169 rfl
theorem q2148 : (Jvm.Cond.instanceMethod ({ cls := "RankEntryModel", name := "goesTo", desc := "(II)I" } : Jvm.MethodName)) ∈ lw_all := lw_g (lw_at lw_m9 170 rfl) rfl
theorem q2149 : (Jvm.Cond.code ({ cls := "RankEntryModel", name := "goesTo", desc := "(II)I" } : Jvm.MethodName) prog_52_method_84_code (3 : Nat) (Option.some Jvm.ClassFile.FieldType.int)) ∈ lw_all := lw_g (lw_at lw_m9 171 rfl) rfl
theorem q2151 : (Jvm.Cond.instanceMethod ({ cls := "RankEntryModel", name := "pushes", desc := "(I)I" } : Jvm.MethodName)) ∈ lw_all := lw_g (lw_at lw_m9 173 rfl) rfl
theorem q2152 : (Jvm.Cond.selects "RankEntryModel" ({ cls := "RankEntryModel", name := "pushes", desc := "(I)I" } : Jvm.MethodName) ({ cls := "RankEntryModel", name := "pushes", desc := "(I)I" } : Jvm.MethodName)) ∈ lw_all := lw_g (lw_at lw_m9 174 rfl) rfl
theorem q2153 : (Jvm.Cond.code ({ cls := "RankEntryModel", name := "pushes", desc := "(I)I" } : Jvm.MethodName) prog_52_method_88_code (2 : Nat) (Option.some Jvm.ClassFile.FieldType.int)) ∈ lw_all := lw_g (lw_at lw_m9 175 rfl) rfl
theorem q2155 : (Jvm.Cond.instanceMethod ({ cls := "RankEntryModel", name := "room", desc := "(Z)I" } : Jvm.MethodName)) ∈ lw_all := lw_g (lw_at lw_m9 177 rfl) rfl
theorem q2156 : (Jvm.Cond.selects "RankEntryModel" ({ cls := "RankEntryModel", name := "room", desc := "(Z)I" } : Jvm.MethodName) ({ cls := "RankEntryModel", name := "room", desc := "(Z)I" } : Jvm.MethodName)) ∈ lw_all := lw_g (lw_at lw_m9 178 rfl) rfl
theorem q2157 : (Jvm.Cond.code ({ cls := "RankEntryModel", name := "room", desc := "(Z)I" } : Jvm.MethodName) prog_52_method_89_code (7 : Nat) (Option.some Jvm.ClassFile.FieldType.int)) ∈ lw_all := lw_g (lw_at lw_m9 179 rfl) rfl
theorem q2206 : (Jvm.Cond.castable "RankEntryModel" "java/lang/Object") ∈ lw_tbl := lw_at lw_m9 228 rfl
theorem in_X20 : ∀ w ∈ wsX200, w ∈ lw_all := lw_in wsX200 [1757, 1759, 1761, 1763, 1765, 1767, 1769, 1771, 1773, 1775, 1777, 1779, 1781, 1783, 1785, 1787, 1789, 1791, 1793, 1795, 1797, 1799, 1801, 1803, 1805] (by decide +kernel) (by decide +kernel)
