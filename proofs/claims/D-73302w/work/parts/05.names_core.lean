/-! RankEntry$Core -/
set_option maxRecDepth 100000
def RX4 : String := "RankEntry$Core"
def TX4 : u_T := fun k => match k with
  | 0 => ("RankEntry$Core", "code", "LRankEntry$Code;", true)
  | 1 => ("RankEntry$Core", "wrong", "LRankEntry$Trap;", true)
  | 2 => ("RankEntry$Core", "full", "LRankEntry$Trap;", true)
  | 3 => ("RankEntry$Core", "\x72", "[I", true)
  | 4 => ("RankEntry$Core", "f", "[F", true)
  | 5 => ("RankEntry$Core", "data", "[I", true)
  | 6 => ("RankEntry$Core", "stack", "[I", true)
  | 7 => ("RankEntry$Core", "all", "[LRankEntry$Source;", true)
  | 8 => ("RankEntry$Core", "nest", "[I", true)
  | 9 => ("RankEntry$Core", "due", "[I", true)
  | 10 => ("RankEntry$Core", "dueOf", "[I", true)
  | 11 => ("RankEntry$Core", "counts", "[I", true)
  | 12 => ("RankEntry$Core", "out", "[I", true)
  | 13 => ("RankEntry$Core", "events", "[LRankEntry$Event;", true)
  | 14 => ("RankEntry$Core", "runs", "LRankEntry$Phase;", true)
  | 15 => ("RankEntry$Core", "stacks", "LRankEntry$Phase;", true)
  | 16 => ("RankEntry$Core", "chains", "LRankEntry$Phase;", true)
  | 17 => ("RankEntry$Core", "unstacks", "LRankEntry$Phase;", true)
  | 18 => ("RankEntry$Core", "saves", "LRankEntry$Phase;", true)
  | 19 => ("RankEntry$Core", "locks", "LRankEntry$Phase;", true)
  | 20 => ("RankEntry$Core", "latest", "LRankEntry$Choice;", true)
  | 21 => ("RankEntry$Core", "earliest", "LRankEntry$Choice;", true)
  | 22 => ("RankEntry$Core", "often", "LRankEntry$Chains;", true)
  | 23 => ("RankEntry$Core", "never", "LRankEntry$Chains;", true)
  | 24 => ("RankEntry$Core", "phase", "LRankEntry$Phase;", false)
  | 25 => ("RankEntry$Core", "choice", "LRankEntry$Choice;", false)
  | 26 => ("RankEntry$Core", "mayChain", "LRankEntry$Chains;", false)
  | 27 => ("RankEntry$Core", "ahead", "LRankEntry$Ahead;", false)
  | 28 => ("RankEntry$Core", "muted", "Z", false)
  | 29 => ("RankEntry$Core", "z", "I", false)
  | 30 => ("RankEntry$Core", "n", "I", false)
  | 31 => ("RankEntry$Core", "pc", "I", false)
  | 32 => ("RankEntry$Core", "sp", "I", false)
  | 33 => ("RankEntry$Core", "deep", "I", false)
  | 34 => ("RankEntry$Core", "split", "I", false)
  | 35 => ("RankEntry$Core", "base", "I", false)
  | 36 => ("RankEntry$Core", "shut", "I", false)
  | 37 => ("RankEntry$Core", "clock", "I", false)
  | 38 => ("RankEntry$Core", "period", "I", false)
  | 39 => ("RankEntry$Core", "timer", "I", false)
  | 40 => ("RankEntry$Core", "dues", "I", false)
  | 41 => ("RankEntry$Core", "doing", "I", false)
  | 42 => ("RankEntry$Core", "steps", "I", false)
  | 43 => ("RankEntry$Core", "stall", "I", false)
  | 44 => ("RankEntry$Core", "asleep", "Z", false)
  | 45 => ("RankEntry$Core", "floats", "I", false)
  | 46 => ("RankEntry$Core", "lazy", "I", false)
  | 47 => ("RankEntry$Core", "first", "I", false)
  | 48 => ("RankEntry$Core", "broken", "Z", false)
  | 49 => ("RankEntry$Core", "four", "Z", false)
  | 50 => ("RankEntry$Core", "outs", "I", false)
  | 51 => ("RankEntry$Core", "told", "I", false)
  | 52 => ("RankEntry$Core", "now", "I", false)
  | 53 => ("RankEntry$Core", "begun", "I", false)
  | _ => ("RankEntry$Core", "order", "[I", true)
def tyX4 : Nat → FieldType := fun k => match k with
  | 0 => .object "RankEntry$Code"
  | 1 => .object "RankEntry$Trap"
  | 2 => .object "RankEntry$Trap"
  | 3 => .array .int
  | 4 => .array .float
  | 5 => .array .int
  | 6 => .array .int
  | 7 => .array (.object "RankEntry$Source")
  | 8 => .array .int
  | 9 => .array .int
  | 10 => .array .int
  | 11 => .array .int
  | 12 => .array .int
  | 13 => .array (.object "RankEntry$Event")
  | 14 => .object "RankEntry$Phase"
  | 15 => .object "RankEntry$Phase"
  | 16 => .object "RankEntry$Phase"
  | 17 => .object "RankEntry$Phase"
  | 18 => .object "RankEntry$Phase"
  | 19 => .object "RankEntry$Phase"
  | 20 => .object "RankEntry$Choice"
  | 21 => .object "RankEntry$Choice"
  | 22 => .object "RankEntry$Chains"
  | 23 => .object "RankEntry$Chains"
  | 24 => .object "RankEntry$Phase"
  | 25 => .object "RankEntry$Choice"
  | 26 => .object "RankEntry$Chains"
  | 27 => .object "RankEntry$Ahead"
  | 28 => .boolean
  | 29 => .int
  | 30 => .int
  | 31 => .int
  | 32 => .int
  | 33 => .int
  | 34 => .int
  | 35 => .int
  | 36 => .int
  | 37 => .int
  | 38 => .int
  | 39 => .int
  | 40 => .int
  | 41 => .int
  | 42 => .int
  | 43 => .int
  | 44 => .boolean
  | 45 => .int
  | 46 => .int
  | 47 => .int
  | 48 => .boolean
  | 49 => .boolean
  | 50 => .int
  | 51 => .int
  | 52 => .int
  | 53 => .int
  | _ => .array .int
abbrev wsX40 : List Cond := u_ws RX4 TX4 55
set_option maxRecDepth 100000 in
theorem nmX4 : ∀ a, a < 55 → ∀ b, b < 55 → a ≠ b → (TX4 a).2.1 ≠ (TX4 b).2.1 := by decide +kernel
set_option maxRecDepth 100000 in
theorem tyX4_ok : ∀ k, k < 55 → parseFieldDescriptor (TX4 k).2.2.1 = some (tyX4 k) := by decide +kernel
abbrev cX4_init : ByteArray := prog_8_method_1_code
def yX4_init : MethodName := ⟨RX4, "<init>", "(LRankEntry$Code;)V"⟩
def dkwX4_init_12 : List UInt8 := [162, 0, 19, 42, 180, 0, 39, 28, 28, 184, 0, 149, 83, 132, 2, 1, 167, 255, 237, 177]
abbrev dktX4_init_12 : List UInt8 := dkwX4_init_12 ++ []
def dkwX4_init_11 : List UInt8 := [181, 0, 139, 42, 17, 1, 44, 188, 10, 181, 0, 142, 42, 43, 181, 0, 145, 3, 61, 28, 16, 21]
abbrev dktX4_init_11 : List UInt8 := dkwX4_init_11 ++ dktX4_init_12
def dkwX4_init_10 : List UInt8 := [42, 42, 180, 0, 110, 181, 0, 124, 42, 3, 184, 0, 127, 181, 0, 131, 42, 2, 181, 0, 135, 42, 2]
abbrev dktX4_init_10 : List UInt8 := dkwX4_init_10 ++ dktX4_init_11
def dkwX4_init_9 : List UInt8 := [186, 0, 114, 0, 0, 181, 0, 115, 42, 42, 180, 0, 68, 181, 0, 118, 42, 42, 180, 0, 96, 181, 0, 121]
abbrev dktX4_init_9 : List UInt8 := dkwX4_init_9 ++ dktX4_init_10
def dkwX4_init_8 : List UInt8 := [181, 0, 96, 42, 42, 186, 0, 100, 0, 0, 181, 0, 103, 42, 186, 0, 106, 0, 0, 181, 0, 110, 42]
abbrev dktX4_init_8 : List UInt8 := dkwX4_init_8 ++ dktX4_init_9
def dkwX4_init_7 : List UInt8 := [186, 0, 84, 0, 0, 181, 0, 85, 42, 42, 186, 0, 88, 0, 0, 181, 0, 89, 42, 186, 0, 92, 0, 0]
abbrev dktX4_init_7 : List UInt8 := dkwX4_init_7 ++ dktX4_init_8
def dkwX4_init_6 : List UInt8 := [186, 0, 76, 0, 0, 181, 0, 77, 42, 42, 186, 0, 80, 0, 0, 181, 0, 81, 42, 42]
abbrev dktX4_init_6 : List UInt8 := dkwX4_init_6 ++ dktX4_init_7
def dkwX4_init_5 : List UInt8 := [42, 42, 186, 0, 64, 0, 0, 181, 0, 68, 42, 42, 186, 0, 72, 0, 0, 181, 0, 73, 42, 42]
abbrev dktX4_init_5 : List UInt8 := dkwX4_init_5 ++ dktX4_init_6
def dkwX4_init_4 : List UInt8 := [16, 14, 188, 10, 181, 0, 52, 42, 16, 64, 188, 10, 181, 0, 55, 42, 16, 24, 189, 0, 58, 181, 0, 60]
abbrev dktX4_init_4 : List UInt8 := dkwX4_init_4 ++ dktX4_init_5
def dkwX4_init_3 : List UInt8 := [16, 21, 188, 10, 181, 0, 43, 42, 16, 32, 188, 10, 181, 0, 46, 42, 16, 32, 188, 10, 181, 0, 49, 42]
abbrev dktX4_init_3 : List UInt8 := dkwX4_init_3 ++ dktX4_init_4
def dkwX4_init_2 : List UInt8 := [188, 10, 181, 0, 31, 42, 16, 96, 188, 10, 181, 0, 34, 42, 16, 21, 189, 0, 37, 181, 0, 39, 42]
abbrev dktX4_init_2 : List UInt8 := dkwX4_init_2 ++ dktX4_init_3
def dkwX4_init_1 : List UInt8 := [183, 0, 11, 181, 0, 20, 42, 16, 8, 188, 10, 181, 0, 23, 42, 7, 188, 6, 181, 0, 27, 42, 16, 16]
abbrev dktX4_init_1 : List UInt8 := dkwX4_init_1 ++ dktX4_init_2
def dkwX4_init_0 : List UInt8 := [42, 183, 0, 3, 42, 187, 0, 9, 89, 16, 18, 183, 0, 11, 181, 0, 14, 42, 187, 0, 9, 89, 16, 19]
abbrev dktX4_init_0 : List UInt8 := dkwX4_init_0 ++ dktX4_init_1
theorem dksX4_init_0 : cX4_init.data.toList.drop 0 = dktX4_init_0 := by decide +kernel
theorem dksX4_init_1 : cX4_init.data.toList.drop 24 = dktX4_init_1 := dk_seg dksX4_init_0 24 rfl rfl
theorem dksX4_init_2 : cX4_init.data.toList.drop 48 = dktX4_init_2 := dk_seg dksX4_init_1 24 rfl rfl
theorem dksX4_init_3 : cX4_init.data.toList.drop 71 = dktX4_init_3 := dk_seg dksX4_init_2 23 rfl rfl
theorem dksX4_init_4 : cX4_init.data.toList.drop 95 = dktX4_init_4 := dk_seg dksX4_init_3 24 rfl rfl
theorem dksX4_init_5 : cX4_init.data.toList.drop 119 = dktX4_init_5 := dk_seg dksX4_init_4 24 rfl rfl
theorem dksX4_init_6 : cX4_init.data.toList.drop 141 = dktX4_init_6 := dk_seg dksX4_init_5 22 rfl rfl
theorem dksX4_init_7 : cX4_init.data.toList.drop 161 = dktX4_init_7 := dk_seg dksX4_init_6 20 rfl rfl
theorem dksX4_init_8 : cX4_init.data.toList.drop 185 = dktX4_init_8 := dk_seg dksX4_init_7 24 rfl rfl
theorem dksX4_init_9 : cX4_init.data.toList.drop 208 = dktX4_init_9 := dk_seg dksX4_init_8 23 rfl rfl
theorem dksX4_init_10 : cX4_init.data.toList.drop 232 = dktX4_init_10 := dk_seg dksX4_init_9 24 rfl rfl
theorem dksX4_init_11 : cX4_init.data.toList.drop 255 = dktX4_init_11 := dk_seg dksX4_init_10 23 rfl rfl
theorem dksX4_init_12 : cX4_init.data.toList.drop 277 = dktX4_init_12 := dk_seg dksX4_init_11 22 rfl rfl
theorem dX4_init_0 : decode cX4_init 0 = .ok (.aload_n 0, 1) := dk_42 (dk_at dksX4_init_0 0 rfl rfl)
theorem dX4_init_1 : decode cX4_init 1 = .ok (.invokespecial 3, 3) := dk_183 0 3 (dk_at dksX4_init_0 1 rfl rfl)
theorem dX4_init_4 : decode cX4_init 4 = .ok (.aload_n 0, 1) := dk_42 (dk_at dksX4_init_0 4 rfl rfl)
theorem dX4_init_5 : decode cX4_init 5 = .ok (.new 9, 3) := dk_187 0 9 (dk_at dksX4_init_0 5 rfl rfl)
theorem dX4_init_8 : decode cX4_init 8 = .ok (.dup, 1) := dk_89 (dk_at dksX4_init_0 8 rfl rfl)
theorem dX4_init_9 : decode cX4_init 9 = .ok (.bipush 18, 2) := dk_16 18 (dk_at dksX4_init_0 9 rfl rfl)
theorem dX4_init_11 : decode cX4_init 11 = .ok (.invokespecial 11, 3) := dk_183 0 11 (dk_at dksX4_init_0 11 rfl rfl)
theorem dX4_init_14 : decode cX4_init 14 = .ok (.putfield 14, 3) := dk_181 0 14 (dk_at dksX4_init_0 14 rfl rfl)
theorem dX4_init_17 : decode cX4_init 17 = .ok (.aload_n 0, 1) := dk_42 (dk_at dksX4_init_0 17 rfl rfl)
theorem dX4_init_18 : decode cX4_init 18 = .ok (.new 9, 3) := dk_187 0 9 (dk_at dksX4_init_0 18 rfl rfl)
theorem dX4_init_21 : decode cX4_init 21 = .ok (.dup, 1) := dk_89 (dk_at dksX4_init_0 21 rfl rfl)
theorem dX4_init_22 : decode cX4_init 22 = .ok (.bipush 19, 2) := dk_16 19 (dk_at dksX4_init_0 22 rfl rfl)
theorem dX4_init_24 : decode cX4_init 24 = .ok (.invokespecial 11, 3) := dk_183 0 11 (dk_at dksX4_init_1 0 rfl rfl)
theorem dX4_init_27 : decode cX4_init 27 = .ok (.putfield 20, 3) := dk_181 0 20 (dk_at dksX4_init_1 3 rfl rfl)
theorem dX4_init_30 : decode cX4_init 30 = .ok (.aload_n 0, 1) := dk_42 (dk_at dksX4_init_1 6 rfl rfl)
theorem dX4_init_31 : decode cX4_init 31 = .ok (.bipush 8, 2) := dk_16 8 (dk_at dksX4_init_1 7 rfl rfl)
theorem dX4_init_33 : decode cX4_init 33 = .ok (.newarray .int, 2) := dk_188_10 (dk_at dksX4_init_1 9 rfl rfl)
theorem dX4_init_35 : decode cX4_init 35 = .ok (.putfield 23, 3) := dk_181 0 23 (dk_at dksX4_init_1 11 rfl rfl)
theorem dX4_init_38 : decode cX4_init 38 = .ok (.aload_n 0, 1) := dk_42 (dk_at dksX4_init_1 14 rfl rfl)
theorem dX4_init_39 : decode cX4_init 39 = .ok (.iconst 4, 1) := dk_7 (dk_at dksX4_init_1 15 rfl rfl)
theorem dX4_init_40 : decode cX4_init 40 = .ok (.newarray .float, 2) := dk_188_6 (dk_at dksX4_init_1 16 rfl rfl)
theorem dX4_init_42 : decode cX4_init 42 = .ok (.putfield 27, 3) := dk_181 0 27 (dk_at dksX4_init_1 18 rfl rfl)
theorem dX4_init_45 : decode cX4_init 45 = .ok (.aload_n 0, 1) := dk_42 (dk_at dksX4_init_1 21 rfl rfl)
theorem dX4_init_46 : decode cX4_init 46 = .ok (.bipush 16, 2) := dk_16 16 (dk_at dksX4_init_1 22 rfl rfl)
theorem dX4_init_48 : decode cX4_init 48 = .ok (.newarray .int, 2) := dk_188_10 (dk_at dksX4_init_2 0 rfl rfl)
theorem dX4_init_50 : decode cX4_init 50 = .ok (.putfield 31, 3) := dk_181 0 31 (dk_at dksX4_init_2 2 rfl rfl)
theorem dX4_init_53 : decode cX4_init 53 = .ok (.aload_n 0, 1) := dk_42 (dk_at dksX4_init_2 5 rfl rfl)
theorem dX4_init_54 : decode cX4_init 54 = .ok (.bipush 96, 2) := dk_16 96 (dk_at dksX4_init_2 6 rfl rfl)
theorem dX4_init_56 : decode cX4_init 56 = .ok (.newarray .int, 2) := dk_188_10 (dk_at dksX4_init_2 8 rfl rfl)
theorem dX4_init_58 : decode cX4_init 58 = .ok (.putfield 34, 3) := dk_181 0 34 (dk_at dksX4_init_2 10 rfl rfl)
theorem dX4_init_61 : decode cX4_init 61 = .ok (.aload_n 0, 1) := dk_42 (dk_at dksX4_init_2 13 rfl rfl)
theorem dX4_init_62 : decode cX4_init 62 = .ok (.bipush 21, 2) := dk_16 21 (dk_at dksX4_init_2 14 rfl rfl)
theorem dX4_init_64 : decode cX4_init 64 = .ok (.anewarray 37, 3) := dk_189 0 37 (dk_at dksX4_init_2 16 rfl rfl)
theorem dX4_init_67 : decode cX4_init 67 = .ok (.putfield 39, 3) := dk_181 0 39 (dk_at dksX4_init_2 19 rfl rfl)
theorem dX4_init_70 : decode cX4_init 70 = .ok (.aload_n 0, 1) := dk_42 (dk_at dksX4_init_2 22 rfl rfl)
theorem dX4_init_71 : decode cX4_init 71 = .ok (.bipush 21, 2) := dk_16 21 (dk_at dksX4_init_3 0 rfl rfl)
theorem dX4_init_73 : decode cX4_init 73 = .ok (.newarray .int, 2) := dk_188_10 (dk_at dksX4_init_3 2 rfl rfl)
theorem dX4_init_75 : decode cX4_init 75 = .ok (.putfield 43, 3) := dk_181 0 43 (dk_at dksX4_init_3 4 rfl rfl)
theorem dX4_init_78 : decode cX4_init 78 = .ok (.aload_n 0, 1) := dk_42 (dk_at dksX4_init_3 7 rfl rfl)
theorem dX4_init_79 : decode cX4_init 79 = .ok (.bipush 32, 2) := dk_16 32 (dk_at dksX4_init_3 8 rfl rfl)
theorem dX4_init_81 : decode cX4_init 81 = .ok (.newarray .int, 2) := dk_188_10 (dk_at dksX4_init_3 10 rfl rfl)
theorem dX4_init_83 : decode cX4_init 83 = .ok (.putfield 46, 3) := dk_181 0 46 (dk_at dksX4_init_3 12 rfl rfl)
theorem dX4_init_86 : decode cX4_init 86 = .ok (.aload_n 0, 1) := dk_42 (dk_at dksX4_init_3 15 rfl rfl)
theorem dX4_init_87 : decode cX4_init 87 = .ok (.bipush 32, 2) := dk_16 32 (dk_at dksX4_init_3 16 rfl rfl)
theorem dX4_init_89 : decode cX4_init 89 = .ok (.newarray .int, 2) := dk_188_10 (dk_at dksX4_init_3 18 rfl rfl)
theorem dX4_init_91 : decode cX4_init 91 = .ok (.putfield 49, 3) := dk_181 0 49 (dk_at dksX4_init_3 20 rfl rfl)
theorem dX4_init_94 : decode cX4_init 94 = .ok (.aload_n 0, 1) := dk_42 (dk_at dksX4_init_3 23 rfl rfl)
theorem dX4_init_95 : decode cX4_init 95 = .ok (.bipush 14, 2) := dk_16 14 (dk_at dksX4_init_4 0 rfl rfl)
theorem dX4_init_97 : decode cX4_init 97 = .ok (.newarray .int, 2) := dk_188_10 (dk_at dksX4_init_4 2 rfl rfl)
theorem dX4_init_99 : decode cX4_init 99 = .ok (.putfield 52, 3) := dk_181 0 52 (dk_at dksX4_init_4 4 rfl rfl)
theorem dX4_init_102 : decode cX4_init 102 = .ok (.aload_n 0, 1) := dk_42 (dk_at dksX4_init_4 7 rfl rfl)
theorem dX4_init_103 : decode cX4_init 103 = .ok (.bipush 64, 2) := dk_16 64 (dk_at dksX4_init_4 8 rfl rfl)
theorem dX4_init_105 : decode cX4_init 105 = .ok (.newarray .int, 2) := dk_188_10 (dk_at dksX4_init_4 10 rfl rfl)
theorem dX4_init_107 : decode cX4_init 107 = .ok (.putfield 55, 3) := dk_181 0 55 (dk_at dksX4_init_4 12 rfl rfl)
theorem dX4_init_110 : decode cX4_init 110 = .ok (.aload_n 0, 1) := dk_42 (dk_at dksX4_init_4 15 rfl rfl)
theorem dX4_init_111 : decode cX4_init 111 = .ok (.bipush 24, 2) := dk_16 24 (dk_at dksX4_init_4 16 rfl rfl)
theorem dX4_init_113 : decode cX4_init 113 = .ok (.anewarray 58, 3) := dk_189 0 58 (dk_at dksX4_init_4 18 rfl rfl)
theorem dX4_init_116 : decode cX4_init 116 = .ok (.putfield 60, 3) := dk_181 0 60 (dk_at dksX4_init_4 21 rfl rfl)
theorem dX4_init_119 : decode cX4_init 119 = .ok (.aload_n 0, 1) := dk_42 (dk_at dksX4_init_5 0 rfl rfl)
theorem dX4_init_120 : decode cX4_init 120 = .ok (.aload_n 0, 1) := dk_42 (dk_at dksX4_init_5 1 rfl rfl)
theorem dX4_init_121 : decode cX4_init 121 = .ok (.invokedynamic 64, 5) := by decide +kernel
theorem dX4_init_126 : decode cX4_init 126 = .ok (.putfield 68, 3) := dk_181 0 68 (dk_at dksX4_init_5 7 rfl rfl)
theorem dX4_init_129 : decode cX4_init 129 = .ok (.aload_n 0, 1) := dk_42 (dk_at dksX4_init_5 10 rfl rfl)
theorem dX4_init_130 : decode cX4_init 130 = .ok (.aload_n 0, 1) := dk_42 (dk_at dksX4_init_5 11 rfl rfl)
theorem dX4_init_131 : decode cX4_init 131 = .ok (.invokedynamic 72, 5) := by decide +kernel
theorem dX4_init_136 : decode cX4_init 136 = .ok (.putfield 73, 3) := dk_181 0 73 (dk_at dksX4_init_5 17 rfl rfl)
theorem dX4_init_139 : decode cX4_init 139 = .ok (.aload_n 0, 1) := dk_42 (dk_at dksX4_init_5 20 rfl rfl)
theorem dX4_init_140 : decode cX4_init 140 = .ok (.aload_n 0, 1) := dk_42 (dk_at dksX4_init_5 21 rfl rfl)
theorem dX4_init_141 : decode cX4_init 141 = .ok (.invokedynamic 76, 5) := by decide +kernel
theorem dX4_init_146 : decode cX4_init 146 = .ok (.putfield 77, 3) := dk_181 0 77 (dk_at dksX4_init_6 5 rfl rfl)
theorem dX4_init_149 : decode cX4_init 149 = .ok (.aload_n 0, 1) := dk_42 (dk_at dksX4_init_6 8 rfl rfl)
theorem dX4_init_150 : decode cX4_init 150 = .ok (.aload_n 0, 1) := dk_42 (dk_at dksX4_init_6 9 rfl rfl)
theorem dX4_init_151 : decode cX4_init 151 = .ok (.invokedynamic 80, 5) := by decide +kernel
theorem dX4_init_156 : decode cX4_init 156 = .ok (.putfield 81, 3) := dk_181 0 81 (dk_at dksX4_init_6 15 rfl rfl)
theorem dX4_init_159 : decode cX4_init 159 = .ok (.aload_n 0, 1) := dk_42 (dk_at dksX4_init_6 18 rfl rfl)
theorem dX4_init_160 : decode cX4_init 160 = .ok (.aload_n 0, 1) := dk_42 (dk_at dksX4_init_6 19 rfl rfl)
theorem dX4_init_161 : decode cX4_init 161 = .ok (.invokedynamic 84, 5) := by decide +kernel
theorem dX4_init_166 : decode cX4_init 166 = .ok (.putfield 85, 3) := dk_181 0 85 (dk_at dksX4_init_7 5 rfl rfl)
theorem dX4_init_169 : decode cX4_init 169 = .ok (.aload_n 0, 1) := dk_42 (dk_at dksX4_init_7 8 rfl rfl)
theorem dX4_init_170 : decode cX4_init 170 = .ok (.aload_n 0, 1) := dk_42 (dk_at dksX4_init_7 9 rfl rfl)
theorem dX4_init_171 : decode cX4_init 171 = .ok (.invokedynamic 88, 5) := by decide +kernel
theorem dX4_init_176 : decode cX4_init 176 = .ok (.putfield 89, 3) := dk_181 0 89 (dk_at dksX4_init_7 15 rfl rfl)
theorem dX4_init_179 : decode cX4_init 179 = .ok (.aload_n 0, 1) := dk_42 (dk_at dksX4_init_7 18 rfl rfl)
theorem dX4_init_180 : decode cX4_init 180 = .ok (.invokedynamic 92, 5) := by decide +kernel
theorem dX4_init_185 : decode cX4_init 185 = .ok (.putfield 96, 3) := dk_181 0 96 (dk_at dksX4_init_8 0 rfl rfl)
theorem dX4_init_188 : decode cX4_init 188 = .ok (.aload_n 0, 1) := dk_42 (dk_at dksX4_init_8 3 rfl rfl)
theorem dX4_init_189 : decode cX4_init 189 = .ok (.aload_n 0, 1) := dk_42 (dk_at dksX4_init_8 4 rfl rfl)
theorem dX4_init_190 : decode cX4_init 190 = .ok (.invokedynamic 100, 5) := by decide +kernel
theorem dX4_init_195 : decode cX4_init 195 = .ok (.putfield 103, 3) := dk_181 0 103 (dk_at dksX4_init_8 10 rfl rfl)
theorem dX4_init_198 : decode cX4_init 198 = .ok (.aload_n 0, 1) := dk_42 (dk_at dksX4_init_8 13 rfl rfl)
theorem dX4_init_199 : decode cX4_init 199 = .ok (.invokedynamic 106, 5) := by decide +kernel
theorem dX4_init_204 : decode cX4_init 204 = .ok (.putfield 110, 3) := dk_181 0 110 (dk_at dksX4_init_8 19 rfl rfl)
theorem dX4_init_207 : decode cX4_init 207 = .ok (.aload_n 0, 1) := dk_42 (dk_at dksX4_init_8 22 rfl rfl)
theorem dX4_init_208 : decode cX4_init 208 = .ok (.invokedynamic 114, 5) := by decide +kernel
theorem dX4_init_213 : decode cX4_init 213 = .ok (.putfield 115, 3) := dk_181 0 115 (dk_at dksX4_init_9 5 rfl rfl)
theorem dX4_init_216 : decode cX4_init 216 = .ok (.aload_n 0, 1) := dk_42 (dk_at dksX4_init_9 8 rfl rfl)
theorem dX4_init_217 : decode cX4_init 217 = .ok (.aload_n 0, 1) := dk_42 (dk_at dksX4_init_9 9 rfl rfl)
theorem dX4_init_218 : decode cX4_init 218 = .ok (.getfield 68, 3) := dk_180 0 68 (dk_at dksX4_init_9 10 rfl rfl)
theorem dX4_init_221 : decode cX4_init 221 = .ok (.putfield 118, 3) := dk_181 0 118 (dk_at dksX4_init_9 13 rfl rfl)
theorem dX4_init_224 : decode cX4_init 224 = .ok (.aload_n 0, 1) := dk_42 (dk_at dksX4_init_9 16 rfl rfl)
theorem dX4_init_225 : decode cX4_init 225 = .ok (.aload_n 0, 1) := dk_42 (dk_at dksX4_init_9 17 rfl rfl)
theorem dX4_init_226 : decode cX4_init 226 = .ok (.getfield 96, 3) := dk_180 0 96 (dk_at dksX4_init_9 18 rfl rfl)
theorem dX4_init_229 : decode cX4_init 229 = .ok (.putfield 121, 3) := dk_181 0 121 (dk_at dksX4_init_9 21 rfl rfl)
theorem dX4_init_232 : decode cX4_init 232 = .ok (.aload_n 0, 1) := dk_42 (dk_at dksX4_init_10 0 rfl rfl)
theorem dX4_init_233 : decode cX4_init 233 = .ok (.aload_n 0, 1) := dk_42 (dk_at dksX4_init_10 1 rfl rfl)
theorem dX4_init_234 : decode cX4_init 234 = .ok (.getfield 110, 3) := dk_180 0 110 (dk_at dksX4_init_10 2 rfl rfl)
theorem dX4_init_237 : decode cX4_init 237 = .ok (.putfield 124, 3) := dk_181 0 124 (dk_at dksX4_init_10 5 rfl rfl)
theorem dX4_init_240 : decode cX4_init 240 = .ok (.aload_n 0, 1) := dk_42 (dk_at dksX4_init_10 8 rfl rfl)
theorem dX4_init_241 : decode cX4_init 241 = .ok (.iconst 0, 1) := dk_3 (dk_at dksX4_init_10 9 rfl rfl)
theorem dX4_init_242 : decode cX4_init 242 = .ok (.invokestatic 127, 3) := dk_184 0 127 (dk_at dksX4_init_10 10 rfl rfl)
theorem dX4_init_245 : decode cX4_init 245 = .ok (.putfield 131, 3) := dk_181 0 131 (dk_at dksX4_init_10 13 rfl rfl)
theorem dX4_init_248 : decode cX4_init 248 = .ok (.aload_n 0, 1) := dk_42 (dk_at dksX4_init_10 16 rfl rfl)
theorem dX4_init_249 : decode cX4_init 249 = .ok (.iconst (-1), 1) := dk_2 (dk_at dksX4_init_10 17 rfl rfl)
theorem dX4_init_250 : decode cX4_init 250 = .ok (.putfield 135, 3) := dk_181 0 135 (dk_at dksX4_init_10 18 rfl rfl)
theorem dX4_init_253 : decode cX4_init 253 = .ok (.aload_n 0, 1) := dk_42 (dk_at dksX4_init_10 21 rfl rfl)
theorem dX4_init_254 : decode cX4_init 254 = .ok (.iconst (-1), 1) := dk_2 (dk_at dksX4_init_10 22 rfl rfl)
theorem dX4_init_255 : decode cX4_init 255 = .ok (.putfield 139, 3) := dk_181 0 139 (dk_at dksX4_init_11 0 rfl rfl)
theorem dX4_init_258 : decode cX4_init 258 = .ok (.aload_n 0, 1) := dk_42 (dk_at dksX4_init_11 3 rfl rfl)
theorem dX4_init_259 : decode cX4_init 259 = .ok (.sipush 300, 3) := dk_17 1 44 (dk_at dksX4_init_11 4 rfl rfl)
theorem dX4_init_262 : decode cX4_init 262 = .ok (.newarray .int, 2) := dk_188_10 (dk_at dksX4_init_11 7 rfl rfl)
theorem dX4_init_264 : decode cX4_init 264 = .ok (.putfield 142, 3) := dk_181 0 142 (dk_at dksX4_init_11 9 rfl rfl)
theorem dX4_init_267 : decode cX4_init 267 = .ok (.aload_n 0, 1) := dk_42 (dk_at dksX4_init_11 12 rfl rfl)
theorem dX4_init_268 : decode cX4_init 268 = .ok (.aload_n 1, 1) := dk_43 (dk_at dksX4_init_11 13 rfl rfl)
theorem dX4_init_269 : decode cX4_init 269 = .ok (.putfield 145, 3) := dk_181 0 145 (dk_at dksX4_init_11 14 rfl rfl)
theorem dX4_init_272 : decode cX4_init 272 = .ok (.iconst 0, 1) := dk_3 (dk_at dksX4_init_11 17 rfl rfl)
theorem dX4_init_273 : decode cX4_init 273 = .ok (.istore_n 2, 1) := dk_61 (dk_at dksX4_init_11 18 rfl rfl)
theorem dX4_init_274 : decode cX4_init 274 = .ok (.iload_n 2, 1) := dk_28 (dk_at dksX4_init_11 19 rfl rfl)
theorem dX4_init_275 : decode cX4_init 275 = .ok (.bipush 21, 2) := dk_16 21 (dk_at dksX4_init_11 20 rfl rfl)
theorem dX4_init_277 : decode cX4_init 277 = .ok (.if_icmp .ge 19, 3) := dk_162 0 19 (dk_at dksX4_init_12 0 rfl rfl)
theorem dX4_init_280 : decode cX4_init 280 = .ok (.aload_n 0, 1) := dk_42 (dk_at dksX4_init_12 3 rfl rfl)
theorem dX4_init_281 : decode cX4_init 281 = .ok (.getfield 39, 3) := dk_180 0 39 (dk_at dksX4_init_12 4 rfl rfl)
theorem dX4_init_284 : decode cX4_init 284 = .ok (.iload_n 2, 1) := dk_28 (dk_at dksX4_init_12 7 rfl rfl)
theorem dX4_init_285 : decode cX4_init 285 = .ok (.iload_n 2, 1) := dk_28 (dk_at dksX4_init_12 8 rfl rfl)
theorem dX4_init_286 : decode cX4_init 286 = .ok (.invokestatic 149, 3) := dk_184 0 149 (dk_at dksX4_init_12 9 rfl rfl)
theorem dX4_init_289 : decode cX4_init 289 = .ok (.aastore, 1) := dk_83 (dk_at dksX4_init_12 12 rfl rfl)
theorem dX4_init_290 : decode cX4_init 290 = .ok (.iinc 2 1, 3) := dk_132 2 1 (dk_at dksX4_init_12 13 rfl rfl)
theorem dX4_init_293 : decode cX4_init 293 = .ok (.goto (-19), 3) := dk_167 255 237 (dk_at dksX4_init_12 16 rfl rfl)
theorem dX4_init_296 : decode cX4_init 296 = .ok (.return_, 1) := dk_177 (dk_at dksX4_init_12 19 rfl rfl)
abbrev cX4_running : ByteArray := prog_8_method_29_code
def yX4_running : MethodName := ⟨RX4, "running", "()V"⟩
def dkwX4_running_3 : List UInt8 := [156, 0, 4, 177, 42, 3, 181, 0, 211, 42, 182, 1, 76, 177]
abbrev dktX4_running_3 : List UInt8 := dkwX4_running_3 ++ []
def dkwX4_running_2 : List UInt8 := [4, 182, 0, 202, 42, 182, 1, 73, 177, 42, 180, 0, 211, 153, 0, 15, 42, 42, 182, 1, 30, 182, 1, 56]
abbrev dktX4_running_2 : List UInt8 := dkwX4_running_2 ++ dktX4_running_3
def dkwX4_running_1 : List UInt8 := [155, 0, 33, 42, 27, 181, 0, 218, 42, 3, 181, 0, 211, 42, 3, 181, 0, 221, 42, 3, 181, 0, 224, 42]
abbrev dktX4_running_1 : List UInt8 := dkwX4_running_1 ++ dktX4_running_2
def dkwX4_running_0 : List UInt8 := [42, 180, 0, 208, 158, 0, 14, 42, 89, 180, 0, 208, 4, 100, 181, 0, 208, 177, 42, 182, 1, 22, 60, 27]
abbrev dktX4_running_0 : List UInt8 := dkwX4_running_0 ++ dktX4_running_1
theorem dksX4_running_0 : cX4_running.data.toList.drop 0 = dktX4_running_0 := by decide +kernel
theorem dksX4_running_1 : cX4_running.data.toList.drop 24 = dktX4_running_1 := dk_seg dksX4_running_0 24 rfl rfl
theorem dksX4_running_2 : cX4_running.data.toList.drop 48 = dktX4_running_2 := dk_seg dksX4_running_1 24 rfl rfl
theorem dksX4_running_3 : cX4_running.data.toList.drop 72 = dktX4_running_3 := dk_seg dksX4_running_2 24 rfl rfl
theorem dX4_running_0 : decode cX4_running 0 = .ok (.aload_n 0, 1) := dk_42 (dk_at dksX4_running_0 0 rfl rfl)
theorem dX4_running_1 : decode cX4_running 1 = .ok (.getfield 208, 3) := dk_180 0 208 (dk_at dksX4_running_0 1 rfl rfl)
theorem dX4_running_4 : decode cX4_running 4 = .ok (.ifCond .le 14, 3) := dk_158 0 14 (dk_at dksX4_running_0 4 rfl rfl)
theorem dX4_running_7 : decode cX4_running 7 = .ok (.aload_n 0, 1) := dk_42 (dk_at dksX4_running_0 7 rfl rfl)
theorem dX4_running_8 : decode cX4_running 8 = .ok (.dup, 1) := dk_89 (dk_at dksX4_running_0 8 rfl rfl)
theorem dX4_running_9 : decode cX4_running 9 = .ok (.getfield 208, 3) := dk_180 0 208 (dk_at dksX4_running_0 9 rfl rfl)
theorem dX4_running_12 : decode cX4_running 12 = .ok (.iconst 1, 1) := dk_4 (dk_at dksX4_running_0 12 rfl rfl)
theorem dX4_running_13 : decode cX4_running 13 = .ok (.isub, 1) := dk_100 (dk_at dksX4_running_0 13 rfl rfl)
theorem dX4_running_14 : decode cX4_running 14 = .ok (.putfield 208, 3) := dk_181 0 208 (dk_at dksX4_running_0 14 rfl rfl)
theorem dX4_running_17 : decode cX4_running 17 = .ok (.return_, 1) := dk_177 (dk_at dksX4_running_0 17 rfl rfl)
theorem dX4_running_18 : decode cX4_running 18 = .ok (.aload_n 0, 1) := dk_42 (dk_at dksX4_running_0 18 rfl rfl)
theorem dX4_running_19 : decode cX4_running 19 = .ok (.invokevirtual 278, 3) := dk_182 1 22 (dk_at dksX4_running_0 19 rfl rfl)
theorem dX4_running_22 : decode cX4_running 22 = .ok (.istore_n 1, 1) := dk_60 (dk_at dksX4_running_0 22 rfl rfl)
theorem dX4_running_23 : decode cX4_running 23 = .ok (.iload_n 1, 1) := dk_27 (dk_at dksX4_running_0 23 rfl rfl)
theorem dX4_running_24 : decode cX4_running 24 = .ok (.ifCond .lt 33, 3) := dk_155 0 33 (dk_at dksX4_running_1 0 rfl rfl)
theorem dX4_running_27 : decode cX4_running 27 = .ok (.aload_n 0, 1) := dk_42 (dk_at dksX4_running_1 3 rfl rfl)
theorem dX4_running_28 : decode cX4_running 28 = .ok (.iload_n 1, 1) := dk_27 (dk_at dksX4_running_1 4 rfl rfl)
theorem dX4_running_29 : decode cX4_running 29 = .ok (.putfield 218, 3) := dk_181 0 218 (dk_at dksX4_running_1 5 rfl rfl)
theorem dX4_running_32 : decode cX4_running 32 = .ok (.aload_n 0, 1) := dk_42 (dk_at dksX4_running_1 8 rfl rfl)
theorem dX4_running_33 : decode cX4_running 33 = .ok (.iconst 0, 1) := dk_3 (dk_at dksX4_running_1 9 rfl rfl)
theorem dX4_running_34 : decode cX4_running 34 = .ok (.putfield 211, 3) := dk_181 0 211 (dk_at dksX4_running_1 10 rfl rfl)
theorem dX4_running_37 : decode cX4_running 37 = .ok (.aload_n 0, 1) := dk_42 (dk_at dksX4_running_1 13 rfl rfl)
theorem dX4_running_38 : decode cX4_running 38 = .ok (.iconst 0, 1) := dk_3 (dk_at dksX4_running_1 14 rfl rfl)
theorem dX4_running_39 : decode cX4_running 39 = .ok (.putfield 221, 3) := dk_181 0 221 (dk_at dksX4_running_1 15 rfl rfl)
theorem dX4_running_42 : decode cX4_running 42 = .ok (.aload_n 0, 1) := dk_42 (dk_at dksX4_running_1 18 rfl rfl)
theorem dX4_running_43 : decode cX4_running 43 = .ok (.iconst 0, 1) := dk_3 (dk_at dksX4_running_1 19 rfl rfl)
theorem dX4_running_44 : decode cX4_running 44 = .ok (.putfield 224, 3) := dk_181 0 224 (dk_at dksX4_running_1 20 rfl rfl)
theorem dX4_running_47 : decode cX4_running 47 = .ok (.aload_n 0, 1) := dk_42 (dk_at dksX4_running_1 23 rfl rfl)
theorem dX4_running_48 : decode cX4_running 48 = .ok (.iconst 1, 1) := dk_4 (dk_at dksX4_running_2 0 rfl rfl)
theorem dX4_running_49 : decode cX4_running 49 = .ok (.invokevirtual 202, 3) := dk_182 0 202 (dk_at dksX4_running_2 1 rfl rfl)
theorem dX4_running_52 : decode cX4_running 52 = .ok (.aload_n 0, 1) := dk_42 (dk_at dksX4_running_2 4 rfl rfl)
theorem dX4_running_53 : decode cX4_running 53 = .ok (.invokevirtual 329, 3) := dk_182 1 73 (dk_at dksX4_running_2 5 rfl rfl)
theorem dX4_running_56 : decode cX4_running 56 = .ok (.return_, 1) := dk_177 (dk_at dksX4_running_2 8 rfl rfl)
theorem dX4_running_57 : decode cX4_running 57 = .ok (.aload_n 0, 1) := dk_42 (dk_at dksX4_running_2 9 rfl rfl)
theorem dX4_running_58 : decode cX4_running 58 = .ok (.getfield 211, 3) := dk_180 0 211 (dk_at dksX4_running_2 10 rfl rfl)
theorem dX4_running_61 : decode cX4_running 61 = .ok (.ifCond .eq 15, 3) := dk_153 0 15 (dk_at dksX4_running_2 13 rfl rfl)
theorem dX4_running_64 : decode cX4_running 64 = .ok (.aload_n 0, 1) := dk_42 (dk_at dksX4_running_2 16 rfl rfl)
theorem dX4_running_65 : decode cX4_running 65 = .ok (.aload_n 0, 1) := dk_42 (dk_at dksX4_running_2 17 rfl rfl)
theorem dX4_running_66 : decode cX4_running 66 = .ok (.invokevirtual 286, 3) := dk_182 1 30 (dk_at dksX4_running_2 18 rfl rfl)
theorem dX4_running_69 : decode cX4_running 69 = .ok (.invokevirtual 312, 3) := dk_182 1 56 (dk_at dksX4_running_2 21 rfl rfl)
theorem dX4_running_72 : decode cX4_running 72 = .ok (.ifCond .ge 4, 3) := dk_156 0 4 (dk_at dksX4_running_3 0 rfl rfl)
theorem dX4_running_75 : decode cX4_running 75 = .ok (.return_, 1) := dk_177 (dk_at dksX4_running_3 3 rfl rfl)
theorem dX4_running_76 : decode cX4_running 76 = .ok (.aload_n 0, 1) := dk_42 (dk_at dksX4_running_3 4 rfl rfl)
theorem dX4_running_77 : decode cX4_running 77 = .ok (.iconst 0, 1) := dk_3 (dk_at dksX4_running_3 5 rfl rfl)
theorem dX4_running_78 : decode cX4_running 78 = .ok (.putfield 211, 3) := dk_181 0 211 (dk_at dksX4_running_3 6 rfl rfl)
theorem dX4_running_81 : decode cX4_running 81 = .ok (.aload_n 0, 1) := dk_42 (dk_at dksX4_running_3 9 rfl rfl)
theorem dX4_running_82 : decode cX4_running 82 = .ok (.invokevirtual 332, 3) := dk_182 1 76 (dk_at dksX4_running_3 10 rfl rfl)
theorem dX4_running_85 : decode cX4_running 85 = .ok (.return_, 1) := dk_177 (dk_at dksX4_running_3 13 rfl rfl)
abbrev cX4_next : ByteArray := prog_8_method_20_code
def yX4_next : MethodName := ⟨RX4, "next", "()I"⟩
def dkwX4_next_0 : List UInt8 := [42, 42, 182, 1, 37, 182, 1, 56, 172]
abbrev dktX4_next_0 : List UInt8 := dkwX4_next_0 ++ []
theorem dksX4_next_0 : cX4_next.data.toList.drop 0 = dktX4_next_0 := by decide +kernel
theorem dX4_next_0 : decode cX4_next 0 = .ok (.aload_n 0, 1) := dk_42 (dk_at dksX4_next_0 0 rfl rfl)
theorem dX4_next_1 : decode cX4_next 1 = .ok (.aload_n 0, 1) := dk_42 (dk_at dksX4_next_0 1 rfl rfl)
theorem dX4_next_2 : decode cX4_next 2 = .ok (.invokevirtual 293, 3) := dk_182 1 37 (dk_at dksX4_next_0 2 rfl rfl)
theorem dX4_next_5 : decode cX4_next 5 = .ok (.invokevirtual 312, 3) := dk_182 1 56 (dk_at dksX4_next_0 5 rfl rfl)
theorem dX4_next_8 : decode cX4_next 8 = .ok (.ireturn, 1) := dk_172 (dk_at dksX4_next_0 8 rfl rfl)
abbrev cX4_limit : ByteArray := prog_8_method_15_code
def yX4_limit : MethodName := ⟨RX4, "limit", "()I"⟩
def dkwX4_limit_0 : List UInt8 := [42, 182, 1, 30, 60, 42, 180, 0, 184, 4, 160, 0, 11, 27, 158, 0, 7, 3, 167, 0, 4, 27, 172]
abbrev dktX4_limit_0 : List UInt8 := dkwX4_limit_0 ++ []
theorem dksX4_limit_0 : cX4_limit.data.toList.drop 0 = dktX4_limit_0 := by decide +kernel
theorem dX4_limit_0 : decode cX4_limit 0 = .ok (.aload_n 0, 1) := dk_42 (dk_at dksX4_limit_0 0 rfl rfl)
theorem dX4_limit_1 : decode cX4_limit 1 = .ok (.invokevirtual 286, 3) := dk_182 1 30 (dk_at dksX4_limit_0 1 rfl rfl)
theorem dX4_limit_4 : decode cX4_limit 4 = .ok (.istore_n 1, 1) := dk_60 (dk_at dksX4_limit_0 4 rfl rfl)
theorem dX4_limit_5 : decode cX4_limit 5 = .ok (.aload_n 0, 1) := dk_42 (dk_at dksX4_limit_0 5 rfl rfl)
theorem dX4_limit_6 : decode cX4_limit 6 = .ok (.getfield 184, 3) := dk_180 0 184 (dk_at dksX4_limit_0 6 rfl rfl)
theorem dX4_limit_9 : decode cX4_limit 9 = .ok (.iconst 1, 1) := dk_4 (dk_at dksX4_limit_0 9 rfl rfl)
theorem dX4_limit_10 : decode cX4_limit 10 = .ok (.if_icmp .ne 11, 3) := dk_160 0 11 (dk_at dksX4_limit_0 10 rfl rfl)
theorem dX4_limit_13 : decode cX4_limit 13 = .ok (.iload_n 1, 1) := dk_27 (dk_at dksX4_limit_0 13 rfl rfl)
theorem dX4_limit_14 : decode cX4_limit 14 = .ok (.ifCond .le 7, 3) := dk_158 0 7 (dk_at dksX4_limit_0 14 rfl rfl)
theorem dX4_limit_17 : decode cX4_limit 17 = .ok (.iconst 0, 1) := dk_3 (dk_at dksX4_limit_0 17 rfl rfl)
theorem dX4_limit_18 : decode cX4_limit 18 = .ok (.goto 4, 3) := dk_167 0 4 (dk_at dksX4_limit_0 18 rfl rfl)
theorem dX4_limit_21 : decode cX4_limit 21 = .ok (.iload_n 1, 1) := dk_27 (dk_at dksX4_limit_0 21 rfl rfl)
theorem dX4_limit_22 : decode cX4_limit 22 = .ok (.ireturn, 1) := dk_172 (dk_at dksX4_limit_0 22 rfl rfl)
abbrev cX4_openLimit : ByteArray := prog_8_method_16_code
def yX4_openLimit : MethodName := ⟨RX4, "openLimit", "()I"⟩
def dkwX4_openLimit_2 : List UInt8 := [182, 1, 33, 62, 29, 27, 162, 0, 7, 29, 167, 0, 4, 27, 60, 132, 2, 1, 167, 255, 215, 27, 172]
abbrev dktX4_openLimit_2 : List UInt8 := dkwX4_openLimit_2 ++ []
def dkwX4_openLimit_1 : List UInt8 := [61, 28, 42, 180, 0, 175, 162, 0, 39, 42, 180, 0, 39, 42, 180, 0, 43, 28, 46, 50, 42, 180, 0, 178]
abbrev dktX4_openLimit_1 : List UInt8 := dkwX4_openLimit_1 ++ dktX4_openLimit_2
def dkwX4_openLimit_0 : List UInt8 := [42, 180, 0, 181, 158, 0, 15, 42, 180, 0, 181, 42, 180, 0, 178, 122, 167, 0, 6, 17, 1, 0, 60, 3]
abbrev dktX4_openLimit_0 : List UInt8 := dkwX4_openLimit_0 ++ dktX4_openLimit_1
theorem dksX4_openLimit_0 : cX4_openLimit.data.toList.drop 0 = dktX4_openLimit_0 := by decide +kernel
theorem dksX4_openLimit_1 : cX4_openLimit.data.toList.drop 24 = dktX4_openLimit_1 := dk_seg dksX4_openLimit_0 24 rfl rfl
theorem dksX4_openLimit_2 : cX4_openLimit.data.toList.drop 48 = dktX4_openLimit_2 := dk_seg dksX4_openLimit_1 24 rfl rfl
theorem dX4_openLimit_0 : decode cX4_openLimit 0 = .ok (.aload_n 0, 1) := dk_42 (dk_at dksX4_openLimit_0 0 rfl rfl)
theorem dX4_openLimit_1 : decode cX4_openLimit 1 = .ok (.getfield 181, 3) := dk_180 0 181 (dk_at dksX4_openLimit_0 1 rfl rfl)
theorem dX4_openLimit_4 : decode cX4_openLimit 4 = .ok (.ifCond .le 15, 3) := dk_158 0 15 (dk_at dksX4_openLimit_0 4 rfl rfl)
theorem dX4_openLimit_7 : decode cX4_openLimit 7 = .ok (.aload_n 0, 1) := dk_42 (dk_at dksX4_openLimit_0 7 rfl rfl)
theorem dX4_openLimit_8 : decode cX4_openLimit 8 = .ok (.getfield 181, 3) := dk_180 0 181 (dk_at dksX4_openLimit_0 8 rfl rfl)
theorem dX4_openLimit_11 : decode cX4_openLimit 11 = .ok (.aload_n 0, 1) := dk_42 (dk_at dksX4_openLimit_0 11 rfl rfl)
theorem dX4_openLimit_12 : decode cX4_openLimit 12 = .ok (.getfield 178, 3) := dk_180 0 178 (dk_at dksX4_openLimit_0 12 rfl rfl)
theorem dX4_openLimit_15 : decode cX4_openLimit 15 = .ok (.ishr, 1) := dk_122 (dk_at dksX4_openLimit_0 15 rfl rfl)
theorem dX4_openLimit_16 : decode cX4_openLimit 16 = .ok (.goto 6, 3) := dk_167 0 6 (dk_at dksX4_openLimit_0 16 rfl rfl)
theorem dX4_openLimit_19 : decode cX4_openLimit 19 = .ok (.sipush 256, 3) := dk_17 1 0 (dk_at dksX4_openLimit_0 19 rfl rfl)
theorem dX4_openLimit_22 : decode cX4_openLimit 22 = .ok (.istore_n 1, 1) := dk_60 (dk_at dksX4_openLimit_0 22 rfl rfl)
theorem dX4_openLimit_23 : decode cX4_openLimit 23 = .ok (.iconst 0, 1) := dk_3 (dk_at dksX4_openLimit_0 23 rfl rfl)
theorem dX4_openLimit_24 : decode cX4_openLimit 24 = .ok (.istore_n 2, 1) := dk_61 (dk_at dksX4_openLimit_1 0 rfl rfl)
theorem dX4_openLimit_25 : decode cX4_openLimit 25 = .ok (.iload_n 2, 1) := dk_28 (dk_at dksX4_openLimit_1 1 rfl rfl)
theorem dX4_openLimit_26 : decode cX4_openLimit 26 = .ok (.aload_n 0, 1) := dk_42 (dk_at dksX4_openLimit_1 2 rfl rfl)
theorem dX4_openLimit_27 : decode cX4_openLimit 27 = .ok (.getfield 175, 3) := dk_180 0 175 (dk_at dksX4_openLimit_1 3 rfl rfl)
theorem dX4_openLimit_30 : decode cX4_openLimit 30 = .ok (.if_icmp .ge 39, 3) := dk_162 0 39 (dk_at dksX4_openLimit_1 6 rfl rfl)
theorem dX4_openLimit_33 : decode cX4_openLimit 33 = .ok (.aload_n 0, 1) := dk_42 (dk_at dksX4_openLimit_1 9 rfl rfl)
theorem dX4_openLimit_34 : decode cX4_openLimit 34 = .ok (.getfield 39, 3) := dk_180 0 39 (dk_at dksX4_openLimit_1 10 rfl rfl)
theorem dX4_openLimit_37 : decode cX4_openLimit 37 = .ok (.aload_n 0, 1) := dk_42 (dk_at dksX4_openLimit_1 13 rfl rfl)
theorem dX4_openLimit_38 : decode cX4_openLimit 38 = .ok (.getfield 43, 3) := dk_180 0 43 (dk_at dksX4_openLimit_1 14 rfl rfl)
theorem dX4_openLimit_41 : decode cX4_openLimit 41 = .ok (.iload_n 2, 1) := dk_28 (dk_at dksX4_openLimit_1 17 rfl rfl)
theorem dX4_openLimit_42 : decode cX4_openLimit 42 = .ok (.iaload, 1) := dk_46 (dk_at dksX4_openLimit_1 18 rfl rfl)
theorem dX4_openLimit_43 : decode cX4_openLimit 43 = .ok (.aaload, 1) := dk_50 (dk_at dksX4_openLimit_1 19 rfl rfl)
theorem dX4_openLimit_44 : decode cX4_openLimit 44 = .ok (.aload_n 0, 1) := dk_42 (dk_at dksX4_openLimit_1 20 rfl rfl)
theorem dX4_openLimit_45 : decode cX4_openLimit 45 = .ok (.getfield 178, 3) := dk_180 0 178 (dk_at dksX4_openLimit_1 21 rfl rfl)
theorem dX4_openLimit_48 : decode cX4_openLimit 48 = .ok (.invokevirtual 289, 3) := dk_182 1 33 (dk_at dksX4_openLimit_2 0 rfl rfl)
theorem dX4_openLimit_51 : decode cX4_openLimit 51 = .ok (.istore_n 3, 1) := dk_62 (dk_at dksX4_openLimit_2 3 rfl rfl)
theorem dX4_openLimit_52 : decode cX4_openLimit 52 = .ok (.iload_n 3, 1) := dk_29 (dk_at dksX4_openLimit_2 4 rfl rfl)
theorem dX4_openLimit_53 : decode cX4_openLimit 53 = .ok (.iload_n 1, 1) := dk_27 (dk_at dksX4_openLimit_2 5 rfl rfl)
theorem dX4_openLimit_54 : decode cX4_openLimit 54 = .ok (.if_icmp .ge 7, 3) := dk_162 0 7 (dk_at dksX4_openLimit_2 6 rfl rfl)
theorem dX4_openLimit_57 : decode cX4_openLimit 57 = .ok (.iload_n 3, 1) := dk_29 (dk_at dksX4_openLimit_2 9 rfl rfl)
theorem dX4_openLimit_58 : decode cX4_openLimit 58 = .ok (.goto 4, 3) := dk_167 0 4 (dk_at dksX4_openLimit_2 10 rfl rfl)
theorem dX4_openLimit_61 : decode cX4_openLimit 61 = .ok (.iload_n 1, 1) := dk_27 (dk_at dksX4_openLimit_2 13 rfl rfl)
theorem dX4_openLimit_62 : decode cX4_openLimit 62 = .ok (.istore_n 1, 1) := dk_60 (dk_at dksX4_openLimit_2 14 rfl rfl)
theorem dX4_openLimit_63 : decode cX4_openLimit 63 = .ok (.iinc 2 1, 3) := dk_132 2 1 (dk_at dksX4_openLimit_2 15 rfl rfl)
theorem dX4_openLimit_66 : decode cX4_openLimit 66 = .ok (.goto (-41), 3) := dk_167 255 215 (dk_at dksX4_openLimit_2 18 rfl rfl)
theorem dX4_openLimit_69 : decode cX4_openLimit 69 = .ok (.iload_n 1, 1) := dk_27 (dk_at dksX4_openLimit_2 21 rfl rfl)
theorem dX4_openLimit_70 : decode cX4_openLimit 70 = .ok (.ireturn, 1) := dk_172 (dk_at dksX4_openLimit_2 22 rfl rfl)
abbrev cX4_nextBelow : ByteArray := prog_8_method_19_code
def yX4_nextBelow : MethodName := ⟨RX4, "nextBelow", "(I)I"⟩
def dkwX4_nextBelow_3 : List UInt8 := [172]
abbrev dktX4_nextBelow_3 : List UInt8 := dkwX4_nextBelow_3 ++ []
def dkwX4_nextBelow_2 : List UInt8 := [153, 0, 6, 25, 4, 77, 132, 3, 1, 167, 255, 207, 44, 199, 0, 7, 2, 167, 0, 7, 44, 180, 1, 1]
abbrev dktX4_nextBelow_2 : List UInt8 := dkwX4_nextBelow_2 ++ dktX4_nextBelow_3
def dkwX4_nextBelow_1 : List UInt8 := [182, 1, 40, 153, 0, 25, 44, 198, 0, 18, 42, 180, 0, 131, 25, 4, 44, 185, 1, 50, 3, 0]
abbrev dktX4_nextBelow_1 : List UInt8 := dkwX4_nextBelow_1 ++ dktX4_nextBelow_2
def dkwX4_nextBelow_0 : List UInt8 := [1, 77, 3, 62, 29, 16, 21, 162, 0, 49, 42, 180, 0, 39, 29, 50, 58, 4, 42, 25, 4, 27]
abbrev dktX4_nextBelow_0 : List UInt8 := dkwX4_nextBelow_0 ++ dktX4_nextBelow_1
theorem dksX4_nextBelow_0 : cX4_nextBelow.data.toList.drop 0 = dktX4_nextBelow_0 := by decide +kernel
theorem dksX4_nextBelow_1 : cX4_nextBelow.data.toList.drop 22 = dktX4_nextBelow_1 := dk_seg dksX4_nextBelow_0 22 rfl rfl
theorem dksX4_nextBelow_2 : cX4_nextBelow.data.toList.drop 44 = dktX4_nextBelow_2 := dk_seg dksX4_nextBelow_1 22 rfl rfl
theorem dksX4_nextBelow_3 : cX4_nextBelow.data.toList.drop 68 = dktX4_nextBelow_3 := dk_seg dksX4_nextBelow_2 24 rfl rfl
theorem dX4_nextBelow_0 : decode cX4_nextBelow 0 = .ok (.aconst_null, 1) := dk_1 (dk_at dksX4_nextBelow_0 0 rfl rfl)
theorem dX4_nextBelow_1 : decode cX4_nextBelow 1 = .ok (.astore_n 2, 1) := dk_77 (dk_at dksX4_nextBelow_0 1 rfl rfl)
theorem dX4_nextBelow_2 : decode cX4_nextBelow 2 = .ok (.iconst 0, 1) := dk_3 (dk_at dksX4_nextBelow_0 2 rfl rfl)
theorem dX4_nextBelow_3 : decode cX4_nextBelow 3 = .ok (.istore_n 3, 1) := dk_62 (dk_at dksX4_nextBelow_0 3 rfl rfl)
theorem dX4_nextBelow_4 : decode cX4_nextBelow 4 = .ok (.iload_n 3, 1) := dk_29 (dk_at dksX4_nextBelow_0 4 rfl rfl)
theorem dX4_nextBelow_5 : decode cX4_nextBelow 5 = .ok (.bipush 21, 2) := dk_16 21 (dk_at dksX4_nextBelow_0 5 rfl rfl)
theorem dX4_nextBelow_7 : decode cX4_nextBelow 7 = .ok (.if_icmp .ge 49, 3) := dk_162 0 49 (dk_at dksX4_nextBelow_0 7 rfl rfl)
theorem dX4_nextBelow_10 : decode cX4_nextBelow 10 = .ok (.aload_n 0, 1) := dk_42 (dk_at dksX4_nextBelow_0 10 rfl rfl)
theorem dX4_nextBelow_11 : decode cX4_nextBelow 11 = .ok (.getfield 39, 3) := dk_180 0 39 (dk_at dksX4_nextBelow_0 11 rfl rfl)
theorem dX4_nextBelow_14 : decode cX4_nextBelow 14 = .ok (.iload_n 3, 1) := dk_29 (dk_at dksX4_nextBelow_0 14 rfl rfl)
theorem dX4_nextBelow_15 : decode cX4_nextBelow 15 = .ok (.aaload, 1) := dk_50 (dk_at dksX4_nextBelow_0 15 rfl rfl)
theorem dX4_nextBelow_16 : decode cX4_nextBelow 16 = .ok (.astore 4, 2) := dk_58 4 (dk_at dksX4_nextBelow_0 16 rfl rfl)
theorem dX4_nextBelow_18 : decode cX4_nextBelow 18 = .ok (.aload_n 0, 1) := dk_42 (dk_at dksX4_nextBelow_0 18 rfl rfl)
theorem dX4_nextBelow_19 : decode cX4_nextBelow 19 = .ok (.aload 4, 2) := dk_25 4 (dk_at dksX4_nextBelow_0 19 rfl rfl)
theorem dX4_nextBelow_21 : decode cX4_nextBelow 21 = .ok (.iload_n 1, 1) := dk_27 (dk_at dksX4_nextBelow_0 21 rfl rfl)
theorem dX4_nextBelow_22 : decode cX4_nextBelow 22 = .ok (.invokevirtual 296, 3) := dk_182 1 40 (dk_at dksX4_nextBelow_1 0 rfl rfl)
theorem dX4_nextBelow_25 : decode cX4_nextBelow 25 = .ok (.ifCond .eq 25, 3) := dk_153 0 25 (dk_at dksX4_nextBelow_1 3 rfl rfl)
theorem dX4_nextBelow_28 : decode cX4_nextBelow 28 = .ok (.aload_n 2, 1) := dk_44 (dk_at dksX4_nextBelow_1 6 rfl rfl)
theorem dX4_nextBelow_29 : decode cX4_nextBelow 29 = .ok (.ifnull 18, 3) := dk_198 0 18 (dk_at dksX4_nextBelow_1 7 rfl rfl)
theorem dX4_nextBelow_32 : decode cX4_nextBelow 32 = .ok (.aload_n 0, 1) := dk_42 (dk_at dksX4_nextBelow_1 10 rfl rfl)
theorem dX4_nextBelow_33 : decode cX4_nextBelow 33 = .ok (.getfield 131, 3) := dk_180 0 131 (dk_at dksX4_nextBelow_1 11 rfl rfl)
theorem dX4_nextBelow_36 : decode cX4_nextBelow 36 = .ok (.aload 4, 2) := dk_25 4 (dk_at dksX4_nextBelow_1 14 rfl rfl)
theorem dX4_nextBelow_38 : decode cX4_nextBelow 38 = .ok (.aload_n 2, 1) := dk_44 (dk_at dksX4_nextBelow_1 16 rfl rfl)
theorem dX4_nextBelow_39 : decode cX4_nextBelow 39 = .ok (.invokeinterface 306 3, 5) := by decide +kernel
theorem dX4_nextBelow_44 : decode cX4_nextBelow 44 = .ok (.ifCond .eq 6, 3) := dk_153 0 6 (dk_at dksX4_nextBelow_2 0 rfl rfl)
theorem dX4_nextBelow_47 : decode cX4_nextBelow 47 = .ok (.aload 4, 2) := dk_25 4 (dk_at dksX4_nextBelow_2 3 rfl rfl)
theorem dX4_nextBelow_49 : decode cX4_nextBelow 49 = .ok (.astore_n 2, 1) := dk_77 (dk_at dksX4_nextBelow_2 5 rfl rfl)
theorem dX4_nextBelow_50 : decode cX4_nextBelow 50 = .ok (.iinc 3 1, 3) := dk_132 3 1 (dk_at dksX4_nextBelow_2 6 rfl rfl)
theorem dX4_nextBelow_53 : decode cX4_nextBelow 53 = .ok (.goto (-49), 3) := dk_167 255 207 (dk_at dksX4_nextBelow_2 9 rfl rfl)
theorem dX4_nextBelow_56 : decode cX4_nextBelow 56 = .ok (.aload_n 2, 1) := dk_44 (dk_at dksX4_nextBelow_2 12 rfl rfl)
theorem dX4_nextBelow_57 : decode cX4_nextBelow 57 = .ok (.ifnonnull 7, 3) := dk_199 0 7 (dk_at dksX4_nextBelow_2 13 rfl rfl)
theorem dX4_nextBelow_60 : decode cX4_nextBelow 60 = .ok (.iconst (-1), 1) := dk_2 (dk_at dksX4_nextBelow_2 16 rfl rfl)
theorem dX4_nextBelow_61 : decode cX4_nextBelow 61 = .ok (.goto 7, 3) := dk_167 0 7 (dk_at dksX4_nextBelow_2 17 rfl rfl)
theorem dX4_nextBelow_64 : decode cX4_nextBelow 64 = .ok (.aload_n 2, 1) := dk_44 (dk_at dksX4_nextBelow_2 20 rfl rfl)
theorem dX4_nextBelow_65 : decode cX4_nextBelow 65 = .ok (.getfield 257, 3) := dk_180 1 1 (dk_at dksX4_nextBelow_2 21 rfl rfl)
theorem dX4_nextBelow_68 : decode cX4_nextBelow 68 = .ok (.ireturn, 1) := dk_172 (dk_at dksX4_nextBelow_3 0 rfl rfl)
abbrev cX4_canBelow : ByteArray := prog_8_method_18_code
def yX4_canBelow : MethodName := ⟨RX4, "canBelow", "(LRankEntry$Source;I)Z"⟩
def dkwX4_canBelow_1 : List UInt8 := [162, 0, 7, 4, 167, 0, 4, 3, 172]
abbrev dktX4_canBelow_1 : List UInt8 := dkwX4_canBelow_1 ++ []
def dkwX4_canBelow_0 : List UInt8 := [43, 180, 1, 44, 153, 0, 26, 43, 180, 1, 47, 153, 0, 19, 43, 42, 180, 0, 178, 182, 1, 33, 28]
abbrev dktX4_canBelow_0 : List UInt8 := dkwX4_canBelow_0 ++ dktX4_canBelow_1
theorem dksX4_canBelow_0 : cX4_canBelow.data.toList.drop 0 = dktX4_canBelow_0 := by decide +kernel
theorem dksX4_canBelow_1 : cX4_canBelow.data.toList.drop 23 = dktX4_canBelow_1 := dk_seg dksX4_canBelow_0 23 rfl rfl
theorem dX4_canBelow_0 : decode cX4_canBelow 0 = .ok (.aload_n 1, 1) := dk_43 (dk_at dksX4_canBelow_0 0 rfl rfl)
theorem dX4_canBelow_1 : decode cX4_canBelow 1 = .ok (.getfield 300, 3) := dk_180 1 44 (dk_at dksX4_canBelow_0 1 rfl rfl)
theorem dX4_canBelow_4 : decode cX4_canBelow 4 = .ok (.ifCond .eq 26, 3) := dk_153 0 26 (dk_at dksX4_canBelow_0 4 rfl rfl)
theorem dX4_canBelow_7 : decode cX4_canBelow 7 = .ok (.aload_n 1, 1) := dk_43 (dk_at dksX4_canBelow_0 7 rfl rfl)
theorem dX4_canBelow_8 : decode cX4_canBelow 8 = .ok (.getfield 303, 3) := dk_180 1 47 (dk_at dksX4_canBelow_0 8 rfl rfl)
theorem dX4_canBelow_11 : decode cX4_canBelow 11 = .ok (.ifCond .eq 19, 3) := dk_153 0 19 (dk_at dksX4_canBelow_0 11 rfl rfl)
theorem dX4_canBelow_14 : decode cX4_canBelow 14 = .ok (.aload_n 1, 1) := dk_43 (dk_at dksX4_canBelow_0 14 rfl rfl)
theorem dX4_canBelow_15 : decode cX4_canBelow 15 = .ok (.aload_n 0, 1) := dk_42 (dk_at dksX4_canBelow_0 15 rfl rfl)
theorem dX4_canBelow_16 : decode cX4_canBelow 16 = .ok (.getfield 178, 3) := dk_180 0 178 (dk_at dksX4_canBelow_0 16 rfl rfl)
theorem dX4_canBelow_19 : decode cX4_canBelow 19 = .ok (.invokevirtual 289, 3) := dk_182 1 33 (dk_at dksX4_canBelow_0 19 rfl rfl)
theorem dX4_canBelow_22 : decode cX4_canBelow 22 = .ok (.iload_n 2, 1) := dk_28 (dk_at dksX4_canBelow_0 22 rfl rfl)
theorem dX4_canBelow_23 : decode cX4_canBelow 23 = .ok (.if_icmp .ge 7, 3) := dk_162 0 7 (dk_at dksX4_canBelow_1 0 rfl rfl)
theorem dX4_canBelow_26 : decode cX4_canBelow 26 = .ok (.iconst 1, 1) := dk_4 (dk_at dksX4_canBelow_1 3 rfl rfl)
theorem dX4_canBelow_27 : decode cX4_canBelow 27 = .ok (.goto 4, 3) := dk_167 0 4 (dk_at dksX4_canBelow_1 4 rfl rfl)
theorem dX4_canBelow_30 : decode cX4_canBelow 30 = .ok (.iconst 0, 1) := dk_3 (dk_at dksX4_canBelow_1 7 rfl rfl)
theorem dX4_canBelow_31 : decode cX4_canBelow 31 = .ok (.ireturn, 1) := dk_172 (dk_at dksX4_canBelow_1 8 rfl rfl)
abbrev cX4_turns : ByteArray := prog_8_method_26_code
def yX4_turns : MethodName := ⟨RX4, "turns", "(I)V"⟩
def dkwX4_turns_3 : List UInt8 := [180, 0, 89, 181, 0, 118, 177]
abbrev dktX4_turns_3 : List UInt8 := dkwX4_turns_3 ++ []
def dkwX4_turns_2 : List UInt8 := [160, 0, 10, 42, 180, 0, 81, 167, 0, 19, 27, 7, 160, 0, 10, 42, 180, 0, 85, 167, 0, 7, 42]
abbrev dktX4_turns_2 : List UInt8 := dkwX4_turns_2 ++ dktX4_turns_3
def dkwX4_turns_1 : List UInt8 := [160, 0, 10, 42, 180, 0, 73, 167, 0, 43, 27, 5, 160, 0, 10, 42, 180, 0, 77, 167, 0, 31, 27, 6]
abbrev dktX4_turns_1 : List UInt8 := dkwX4_turns_1 ++ dktX4_turns_2
def dkwX4_turns_0 : List UInt8 := [42, 27, 181, 0, 199, 42, 3, 181, 0, 205, 42, 27, 154, 0, 10, 42, 180, 0, 68, 167, 0, 55, 27, 4]
abbrev dktX4_turns_0 : List UInt8 := dkwX4_turns_0 ++ dktX4_turns_1
theorem dksX4_turns_0 : cX4_turns.data.toList.drop 0 = dktX4_turns_0 := by decide +kernel
theorem dksX4_turns_1 : cX4_turns.data.toList.drop 24 = dktX4_turns_1 := dk_seg dksX4_turns_0 24 rfl rfl
theorem dksX4_turns_2 : cX4_turns.data.toList.drop 48 = dktX4_turns_2 := dk_seg dksX4_turns_1 24 rfl rfl
theorem dksX4_turns_3 : cX4_turns.data.toList.drop 71 = dktX4_turns_3 := dk_seg dksX4_turns_2 23 rfl rfl
theorem dX4_turns_0 : decode cX4_turns 0 = .ok (.aload_n 0, 1) := dk_42 (dk_at dksX4_turns_0 0 rfl rfl)
theorem dX4_turns_1 : decode cX4_turns 1 = .ok (.iload_n 1, 1) := dk_27 (dk_at dksX4_turns_0 1 rfl rfl)
theorem dX4_turns_2 : decode cX4_turns 2 = .ok (.putfield 199, 3) := dk_181 0 199 (dk_at dksX4_turns_0 2 rfl rfl)
theorem dX4_turns_5 : decode cX4_turns 5 = .ok (.aload_n 0, 1) := dk_42 (dk_at dksX4_turns_0 5 rfl rfl)
theorem dX4_turns_6 : decode cX4_turns 6 = .ok (.iconst 0, 1) := dk_3 (dk_at dksX4_turns_0 6 rfl rfl)
theorem dX4_turns_7 : decode cX4_turns 7 = .ok (.putfield 205, 3) := dk_181 0 205 (dk_at dksX4_turns_0 7 rfl rfl)
theorem dX4_turns_10 : decode cX4_turns 10 = .ok (.aload_n 0, 1) := dk_42 (dk_at dksX4_turns_0 10 rfl rfl)
theorem dX4_turns_11 : decode cX4_turns 11 = .ok (.iload_n 1, 1) := dk_27 (dk_at dksX4_turns_0 11 rfl rfl)
theorem dX4_turns_12 : decode cX4_turns 12 = .ok (.ifCond .ne 10, 3) := dk_154 0 10 (dk_at dksX4_turns_0 12 rfl rfl)
theorem dX4_turns_15 : decode cX4_turns 15 = .ok (.aload_n 0, 1) := dk_42 (dk_at dksX4_turns_0 15 rfl rfl)
theorem dX4_turns_16 : decode cX4_turns 16 = .ok (.getfield 68, 3) := dk_180 0 68 (dk_at dksX4_turns_0 16 rfl rfl)
theorem dX4_turns_19 : decode cX4_turns 19 = .ok (.goto 55, 3) := dk_167 0 55 (dk_at dksX4_turns_0 19 rfl rfl)
theorem dX4_turns_22 : decode cX4_turns 22 = .ok (.iload_n 1, 1) := dk_27 (dk_at dksX4_turns_0 22 rfl rfl)
theorem dX4_turns_23 : decode cX4_turns 23 = .ok (.iconst 1, 1) := dk_4 (dk_at dksX4_turns_0 23 rfl rfl)
theorem dX4_turns_24 : decode cX4_turns 24 = .ok (.if_icmp .ne 10, 3) := dk_160 0 10 (dk_at dksX4_turns_1 0 rfl rfl)
theorem dX4_turns_27 : decode cX4_turns 27 = .ok (.aload_n 0, 1) := dk_42 (dk_at dksX4_turns_1 3 rfl rfl)
theorem dX4_turns_28 : decode cX4_turns 28 = .ok (.getfield 73, 3) := dk_180 0 73 (dk_at dksX4_turns_1 4 rfl rfl)
theorem dX4_turns_31 : decode cX4_turns 31 = .ok (.goto 43, 3) := dk_167 0 43 (dk_at dksX4_turns_1 7 rfl rfl)
theorem dX4_turns_34 : decode cX4_turns 34 = .ok (.iload_n 1, 1) := dk_27 (dk_at dksX4_turns_1 10 rfl rfl)
theorem dX4_turns_35 : decode cX4_turns 35 = .ok (.iconst 2, 1) := dk_5 (dk_at dksX4_turns_1 11 rfl rfl)
theorem dX4_turns_36 : decode cX4_turns 36 = .ok (.if_icmp .ne 10, 3) := dk_160 0 10 (dk_at dksX4_turns_1 12 rfl rfl)
theorem dX4_turns_39 : decode cX4_turns 39 = .ok (.aload_n 0, 1) := dk_42 (dk_at dksX4_turns_1 15 rfl rfl)
theorem dX4_turns_40 : decode cX4_turns 40 = .ok (.getfield 77, 3) := dk_180 0 77 (dk_at dksX4_turns_1 16 rfl rfl)
theorem dX4_turns_43 : decode cX4_turns 43 = .ok (.goto 31, 3) := dk_167 0 31 (dk_at dksX4_turns_1 19 rfl rfl)
theorem dX4_turns_46 : decode cX4_turns 46 = .ok (.iload_n 1, 1) := dk_27 (dk_at dksX4_turns_1 22 rfl rfl)
theorem dX4_turns_47 : decode cX4_turns 47 = .ok (.iconst 3, 1) := dk_6 (dk_at dksX4_turns_1 23 rfl rfl)
theorem dX4_turns_48 : decode cX4_turns 48 = .ok (.if_icmp .ne 10, 3) := dk_160 0 10 (dk_at dksX4_turns_2 0 rfl rfl)
theorem dX4_turns_51 : decode cX4_turns 51 = .ok (.aload_n 0, 1) := dk_42 (dk_at dksX4_turns_2 3 rfl rfl)
theorem dX4_turns_52 : decode cX4_turns 52 = .ok (.getfield 81, 3) := dk_180 0 81 (dk_at dksX4_turns_2 4 rfl rfl)
theorem dX4_turns_55 : decode cX4_turns 55 = .ok (.goto 19, 3) := dk_167 0 19 (dk_at dksX4_turns_2 7 rfl rfl)
theorem dX4_turns_58 : decode cX4_turns 58 = .ok (.iload_n 1, 1) := dk_27 (dk_at dksX4_turns_2 10 rfl rfl)
theorem dX4_turns_59 : decode cX4_turns 59 = .ok (.iconst 4, 1) := dk_7 (dk_at dksX4_turns_2 11 rfl rfl)
theorem dX4_turns_60 : decode cX4_turns 60 = .ok (.if_icmp .ne 10, 3) := dk_160 0 10 (dk_at dksX4_turns_2 12 rfl rfl)
theorem dX4_turns_63 : decode cX4_turns 63 = .ok (.aload_n 0, 1) := dk_42 (dk_at dksX4_turns_2 15 rfl rfl)
theorem dX4_turns_64 : decode cX4_turns 64 = .ok (.getfield 85, 3) := dk_180 0 85 (dk_at dksX4_turns_2 16 rfl rfl)
theorem dX4_turns_67 : decode cX4_turns 67 = .ok (.goto 7, 3) := dk_167 0 7 (dk_at dksX4_turns_2 19 rfl rfl)
theorem dX4_turns_70 : decode cX4_turns 70 = .ok (.aload_n 0, 1) := dk_42 (dk_at dksX4_turns_2 22 rfl rfl)
theorem dX4_turns_71 : decode cX4_turns 71 = .ok (.getfield 89, 3) := dk_180 0 89 (dk_at dksX4_turns_3 0 rfl rfl)
theorem dX4_turns_74 : decode cX4_turns 74 = .ok (.putfield 118, 3) := dk_181 0 118 (dk_at dksX4_turns_3 3 rfl rfl)
theorem dX4_turns_77 : decode cX4_turns 77 = .ok (.return_, 1) := dk_177 (dk_at dksX4_turns_3 6 rfl rfl)
abbrev cX4_stacking : ByteArray := prog_8_method_36_code
def yX4_stacking : MethodName := ⟨RX4, "stacking", "()V"⟩
def dkwX4_stacking_5 : List UInt8 := [4, 96, 79, 42, 27, 3, 182, 1, 137, 177]
abbrev dktX4_stacking_5 : List UInt8 := dkwX4_stacking_5 ++ []
def dkwX4_stacking_4 : List UInt8 := [156, 0, 9, 42, 6, 182, 0, 202, 177, 27, 42, 180, 0, 218, 159, 0, 13, 42, 180, 0, 52, 6, 92, 46]
abbrev dktX4_stacking_4 : List UInt8 := dkwX4_stacking_4 ++ dktX4_stacking_5
def dkwX4_stacking_3 : List UInt8 := [162, 0, 4, 177, 42, 180, 0, 121, 42, 180, 0, 218, 42, 182, 1, 22, 185, 1, 132, 3, 0, 60, 27]
abbrev dktX4_stacking_3 : List UInt8 := dkwX4_stacking_3 ++ dktX4_stacking_4
def dkwX4_stacking_2 : List UInt8 := [180, 0, 199, 8, 160, 0, 4, 177, 42, 89, 180, 0, 205, 4, 96, 181, 0, 205, 42, 180, 0, 205, 16, 6]
abbrev dktX4_stacking_2 : List UInt8 := dkwX4_stacking_2 ++ dktX4_stacking_3
def dkwX4_stacking_1 : List UInt8 := [154, 0, 22, 42, 42, 42, 180, 0, 205, 182, 1, 126, 182, 1, 129, 154, 0, 7, 42, 182, 1, 120, 42]
abbrev dktX4_stacking_1 : List UInt8 := dkwX4_stacking_1 ++ dktX4_stacking_2
def dkwX4_stacking_0 : List UInt8 := [42, 180, 0, 205, 154, 0, 15, 42, 180, 0, 215, 4, 160, 0, 7, 42, 182, 1, 123, 42, 180, 0, 221]
abbrev dktX4_stacking_0 : List UInt8 := dkwX4_stacking_0 ++ dktX4_stacking_1
theorem dksX4_stacking_0 : cX4_stacking.data.toList.drop 0 = dktX4_stacking_0 := by decide +kernel
theorem dksX4_stacking_1 : cX4_stacking.data.toList.drop 23 = dktX4_stacking_1 := dk_seg dksX4_stacking_0 23 rfl rfl
theorem dksX4_stacking_2 : cX4_stacking.data.toList.drop 46 = dktX4_stacking_2 := dk_seg dksX4_stacking_1 23 rfl rfl
theorem dksX4_stacking_3 : cX4_stacking.data.toList.drop 70 = dktX4_stacking_3 := dk_seg dksX4_stacking_2 24 rfl rfl
theorem dksX4_stacking_4 : cX4_stacking.data.toList.drop 93 = dktX4_stacking_4 := dk_seg dksX4_stacking_3 23 rfl rfl
theorem dksX4_stacking_5 : cX4_stacking.data.toList.drop 117 = dktX4_stacking_5 := dk_seg dksX4_stacking_4 24 rfl rfl
theorem dX4_stacking_0 : decode cX4_stacking 0 = .ok (.aload_n 0, 1) := dk_42 (dk_at dksX4_stacking_0 0 rfl rfl)
theorem dX4_stacking_1 : decode cX4_stacking 1 = .ok (.getfield 205, 3) := dk_180 0 205 (dk_at dksX4_stacking_0 1 rfl rfl)
theorem dX4_stacking_4 : decode cX4_stacking 4 = .ok (.ifCond .ne 15, 3) := dk_154 0 15 (dk_at dksX4_stacking_0 4 rfl rfl)
theorem dX4_stacking_7 : decode cX4_stacking 7 = .ok (.aload_n 0, 1) := dk_42 (dk_at dksX4_stacking_0 7 rfl rfl)
theorem dX4_stacking_8 : decode cX4_stacking 8 = .ok (.getfield 215, 3) := dk_180 0 215 (dk_at dksX4_stacking_0 8 rfl rfl)
theorem dX4_stacking_11 : decode cX4_stacking 11 = .ok (.iconst 1, 1) := dk_4 (dk_at dksX4_stacking_0 11 rfl rfl)
theorem dX4_stacking_12 : decode cX4_stacking 12 = .ok (.if_icmp .ne 7, 3) := dk_160 0 7 (dk_at dksX4_stacking_0 12 rfl rfl)
theorem dX4_stacking_15 : decode cX4_stacking 15 = .ok (.aload_n 0, 1) := dk_42 (dk_at dksX4_stacking_0 15 rfl rfl)
theorem dX4_stacking_16 : decode cX4_stacking 16 = .ok (.invokevirtual 379, 3) := dk_182 1 123 (dk_at dksX4_stacking_0 16 rfl rfl)
theorem dX4_stacking_19 : decode cX4_stacking 19 = .ok (.aload_n 0, 1) := dk_42 (dk_at dksX4_stacking_0 19 rfl rfl)
theorem dX4_stacking_20 : decode cX4_stacking 20 = .ok (.getfield 221, 3) := dk_180 0 221 (dk_at dksX4_stacking_0 20 rfl rfl)
theorem dX4_stacking_23 : decode cX4_stacking 23 = .ok (.ifCond .ne 22, 3) := dk_154 0 22 (dk_at dksX4_stacking_1 0 rfl rfl)
theorem dX4_stacking_26 : decode cX4_stacking 26 = .ok (.aload_n 0, 1) := dk_42 (dk_at dksX4_stacking_1 3 rfl rfl)
theorem dX4_stacking_27 : decode cX4_stacking 27 = .ok (.aload_n 0, 1) := dk_42 (dk_at dksX4_stacking_1 4 rfl rfl)
theorem dX4_stacking_28 : decode cX4_stacking 28 = .ok (.aload_n 0, 1) := dk_42 (dk_at dksX4_stacking_1 5 rfl rfl)
theorem dX4_stacking_29 : decode cX4_stacking 29 = .ok (.getfield 205, 3) := dk_180 0 205 (dk_at dksX4_stacking_1 6 rfl rfl)
theorem dX4_stacking_32 : decode cX4_stacking 32 = .ok (.invokevirtual 382, 3) := dk_182 1 126 (dk_at dksX4_stacking_1 9 rfl rfl)
theorem dX4_stacking_35 : decode cX4_stacking 35 = .ok (.invokevirtual 385, 3) := dk_182 1 129 (dk_at dksX4_stacking_1 12 rfl rfl)
theorem dX4_stacking_38 : decode cX4_stacking 38 = .ok (.ifCond .ne 7, 3) := dk_154 0 7 (dk_at dksX4_stacking_1 15 rfl rfl)
theorem dX4_stacking_41 : decode cX4_stacking 41 = .ok (.aload_n 0, 1) := dk_42 (dk_at dksX4_stacking_1 18 rfl rfl)
theorem dX4_stacking_42 : decode cX4_stacking 42 = .ok (.invokevirtual 376, 3) := dk_182 1 120 (dk_at dksX4_stacking_1 19 rfl rfl)
theorem dX4_stacking_45 : decode cX4_stacking 45 = .ok (.aload_n 0, 1) := dk_42 (dk_at dksX4_stacking_1 22 rfl rfl)
theorem dX4_stacking_46 : decode cX4_stacking 46 = .ok (.getfield 199, 3) := dk_180 0 199 (dk_at dksX4_stacking_2 0 rfl rfl)
theorem dX4_stacking_49 : decode cX4_stacking 49 = .ok (.iconst 5, 1) := dk_8 (dk_at dksX4_stacking_2 3 rfl rfl)
theorem dX4_stacking_50 : decode cX4_stacking 50 = .ok (.if_icmp .ne 4, 3) := dk_160 0 4 (dk_at dksX4_stacking_2 4 rfl rfl)
theorem dX4_stacking_53 : decode cX4_stacking 53 = .ok (.return_, 1) := dk_177 (dk_at dksX4_stacking_2 7 rfl rfl)
theorem dX4_stacking_54 : decode cX4_stacking 54 = .ok (.aload_n 0, 1) := dk_42 (dk_at dksX4_stacking_2 8 rfl rfl)
theorem dX4_stacking_55 : decode cX4_stacking 55 = .ok (.dup, 1) := dk_89 (dk_at dksX4_stacking_2 9 rfl rfl)
theorem dX4_stacking_56 : decode cX4_stacking 56 = .ok (.getfield 205, 3) := dk_180 0 205 (dk_at dksX4_stacking_2 10 rfl rfl)
theorem dX4_stacking_59 : decode cX4_stacking 59 = .ok (.iconst 1, 1) := dk_4 (dk_at dksX4_stacking_2 13 rfl rfl)
theorem dX4_stacking_60 : decode cX4_stacking 60 = .ok (.iadd, 1) := dk_96 (dk_at dksX4_stacking_2 14 rfl rfl)
theorem dX4_stacking_61 : decode cX4_stacking 61 = .ok (.putfield 205, 3) := dk_181 0 205 (dk_at dksX4_stacking_2 15 rfl rfl)
theorem dX4_stacking_64 : decode cX4_stacking 64 = .ok (.aload_n 0, 1) := dk_42 (dk_at dksX4_stacking_2 18 rfl rfl)
theorem dX4_stacking_65 : decode cX4_stacking 65 = .ok (.getfield 205, 3) := dk_180 0 205 (dk_at dksX4_stacking_2 19 rfl rfl)
theorem dX4_stacking_68 : decode cX4_stacking 68 = .ok (.bipush 6, 2) := dk_16 6 (dk_at dksX4_stacking_2 22 rfl rfl)
theorem dX4_stacking_70 : decode cX4_stacking 70 = .ok (.if_icmp .ge 4, 3) := dk_162 0 4 (dk_at dksX4_stacking_3 0 rfl rfl)
theorem dX4_stacking_73 : decode cX4_stacking 73 = .ok (.return_, 1) := dk_177 (dk_at dksX4_stacking_3 3 rfl rfl)
theorem dX4_stacking_74 : decode cX4_stacking 74 = .ok (.aload_n 0, 1) := dk_42 (dk_at dksX4_stacking_3 4 rfl rfl)
theorem dX4_stacking_75 : decode cX4_stacking 75 = .ok (.getfield 121, 3) := dk_180 0 121 (dk_at dksX4_stacking_3 5 rfl rfl)
theorem dX4_stacking_78 : decode cX4_stacking 78 = .ok (.aload_n 0, 1) := dk_42 (dk_at dksX4_stacking_3 8 rfl rfl)
theorem dX4_stacking_79 : decode cX4_stacking 79 = .ok (.getfield 218, 3) := dk_180 0 218 (dk_at dksX4_stacking_3 9 rfl rfl)
theorem dX4_stacking_82 : decode cX4_stacking 82 = .ok (.aload_n 0, 1) := dk_42 (dk_at dksX4_stacking_3 12 rfl rfl)
theorem dX4_stacking_83 : decode cX4_stacking 83 = .ok (.invokevirtual 278, 3) := dk_182 1 22 (dk_at dksX4_stacking_3 13 rfl rfl)
theorem dX4_stacking_86 : decode cX4_stacking 86 = .ok (.invokeinterface 388 3, 5) := by decide +kernel
theorem dX4_stacking_91 : decode cX4_stacking 91 = .ok (.istore_n 1, 1) := dk_60 (dk_at dksX4_stacking_3 21 rfl rfl)
theorem dX4_stacking_92 : decode cX4_stacking 92 = .ok (.iload_n 1, 1) := dk_27 (dk_at dksX4_stacking_3 22 rfl rfl)
theorem dX4_stacking_93 : decode cX4_stacking 93 = .ok (.ifCond .ge 9, 3) := dk_156 0 9 (dk_at dksX4_stacking_4 0 rfl rfl)
theorem dX4_stacking_96 : decode cX4_stacking 96 = .ok (.aload_n 0, 1) := dk_42 (dk_at dksX4_stacking_4 3 rfl rfl)
theorem dX4_stacking_97 : decode cX4_stacking 97 = .ok (.iconst 3, 1) := dk_6 (dk_at dksX4_stacking_4 4 rfl rfl)
theorem dX4_stacking_98 : decode cX4_stacking 98 = .ok (.invokevirtual 202, 3) := dk_182 0 202 (dk_at dksX4_stacking_4 5 rfl rfl)
theorem dX4_stacking_101 : decode cX4_stacking 101 = .ok (.return_, 1) := dk_177 (dk_at dksX4_stacking_4 8 rfl rfl)
theorem dX4_stacking_102 : decode cX4_stacking 102 = .ok (.iload_n 1, 1) := dk_27 (dk_at dksX4_stacking_4 9 rfl rfl)
theorem dX4_stacking_103 : decode cX4_stacking 103 = .ok (.aload_n 0, 1) := dk_42 (dk_at dksX4_stacking_4 10 rfl rfl)
theorem dX4_stacking_104 : decode cX4_stacking 104 = .ok (.getfield 218, 3) := dk_180 0 218 (dk_at dksX4_stacking_4 11 rfl rfl)
theorem dX4_stacking_107 : decode cX4_stacking 107 = .ok (.if_icmp .eq 13, 3) := dk_159 0 13 (dk_at dksX4_stacking_4 14 rfl rfl)
theorem dX4_stacking_110 : decode cX4_stacking 110 = .ok (.aload_n 0, 1) := dk_42 (dk_at dksX4_stacking_4 17 rfl rfl)
theorem dX4_stacking_111 : decode cX4_stacking 111 = .ok (.getfield 52, 3) := dk_180 0 52 (dk_at dksX4_stacking_4 18 rfl rfl)
theorem dX4_stacking_114 : decode cX4_stacking 114 = .ok (.iconst 3, 1) := dk_6 (dk_at dksX4_stacking_4 21 rfl rfl)
theorem dX4_stacking_115 : decode cX4_stacking 115 = .ok (.dup2, 1) := dk_92 (dk_at dksX4_stacking_4 22 rfl rfl)
theorem dX4_stacking_116 : decode cX4_stacking 116 = .ok (.iaload, 1) := dk_46 (dk_at dksX4_stacking_4 23 rfl rfl)
theorem dX4_stacking_117 : decode cX4_stacking 117 = .ok (.iconst 1, 1) := dk_4 (dk_at dksX4_stacking_5 0 rfl rfl)
theorem dX4_stacking_118 : decode cX4_stacking 118 = .ok (.iadd, 1) := dk_96 (dk_at dksX4_stacking_5 1 rfl rfl)
theorem dX4_stacking_119 : decode cX4_stacking 119 = .ok (.iastore, 1) := dk_79 (dk_at dksX4_stacking_5 2 rfl rfl)
theorem dX4_stacking_120 : decode cX4_stacking 120 = .ok (.aload_n 0, 1) := dk_42 (dk_at dksX4_stacking_5 3 rfl rfl)
theorem dX4_stacking_121 : decode cX4_stacking 121 = .ok (.iload_n 1, 1) := dk_27 (dk_at dksX4_stacking_5 4 rfl rfl)
theorem dX4_stacking_122 : decode cX4_stacking 122 = .ok (.iconst 0, 1) := dk_3 (dk_at dksX4_stacking_5 5 rfl rfl)
theorem dX4_stacking_123 : decode cX4_stacking 123 = .ok (.invokevirtual 393, 3) := dk_182 1 137 (dk_at dksX4_stacking_5 6 rfl rfl)
theorem dX4_stacking_126 : decode cX4_stacking 126 = .ok (.return_, 1) := dk_177 (dk_at dksX4_stacking_5 9 rfl rfl)
abbrev cX4_reserves : ByteArray := prog_8_method_35_code
def yX4_reserves : MethodName := ⟨RX4, "reserves", "()V"⟩
def dkwX4_reserves_1 : List UInt8 := [42, 4, 181, 0, 224, 42, 7, 182, 0, 246, 177]
abbrev dktX4_reserves_1 : List UInt8 := dkwX4_reserves_1 ++ []
def dkwX4_reserves_0 : List UInt8 := [42, 180, 0, 172, 7, 96, 16, 96, 164, 0, 8, 42, 182, 1, 120, 177, 42, 42, 180, 0, 172, 181, 0, 135]
abbrev dktX4_reserves_0 : List UInt8 := dkwX4_reserves_0 ++ dktX4_reserves_1
theorem dksX4_reserves_0 : cX4_reserves.data.toList.drop 0 = dktX4_reserves_0 := by decide +kernel
theorem dksX4_reserves_1 : cX4_reserves.data.toList.drop 24 = dktX4_reserves_1 := dk_seg dksX4_reserves_0 24 rfl rfl
theorem dX4_reserves_0 : decode cX4_reserves 0 = .ok (.aload_n 0, 1) := dk_42 (dk_at dksX4_reserves_0 0 rfl rfl)
theorem dX4_reserves_1 : decode cX4_reserves 1 = .ok (.getfield 172, 3) := dk_180 0 172 (dk_at dksX4_reserves_0 1 rfl rfl)
theorem dX4_reserves_4 : decode cX4_reserves 4 = .ok (.iconst 4, 1) := dk_7 (dk_at dksX4_reserves_0 4 rfl rfl)
theorem dX4_reserves_5 : decode cX4_reserves 5 = .ok (.iadd, 1) := dk_96 (dk_at dksX4_reserves_0 5 rfl rfl)
theorem dX4_reserves_6 : decode cX4_reserves 6 = .ok (.bipush 96, 2) := dk_16 96 (dk_at dksX4_reserves_0 6 rfl rfl)
theorem dX4_reserves_8 : decode cX4_reserves 8 = .ok (.if_icmp .le 8, 3) := dk_164 0 8 (dk_at dksX4_reserves_0 8 rfl rfl)
theorem dX4_reserves_11 : decode cX4_reserves 11 = .ok (.aload_n 0, 1) := dk_42 (dk_at dksX4_reserves_0 11 rfl rfl)
theorem dX4_reserves_12 : decode cX4_reserves 12 = .ok (.invokevirtual 376, 3) := dk_182 1 120 (dk_at dksX4_reserves_0 12 rfl rfl)
theorem dX4_reserves_15 : decode cX4_reserves 15 = .ok (.return_, 1) := dk_177 (dk_at dksX4_reserves_0 15 rfl rfl)
theorem dX4_reserves_16 : decode cX4_reserves 16 = .ok (.aload_n 0, 1) := dk_42 (dk_at dksX4_reserves_0 16 rfl rfl)
theorem dX4_reserves_17 : decode cX4_reserves 17 = .ok (.aload_n 0, 1) := dk_42 (dk_at dksX4_reserves_0 17 rfl rfl)
theorem dX4_reserves_18 : decode cX4_reserves 18 = .ok (.getfield 172, 3) := dk_180 0 172 (dk_at dksX4_reserves_0 18 rfl rfl)
theorem dX4_reserves_21 : decode cX4_reserves 21 = .ok (.putfield 135, 3) := dk_181 0 135 (dk_at dksX4_reserves_0 21 rfl rfl)
theorem dX4_reserves_24 : decode cX4_reserves 24 = .ok (.aload_n 0, 1) := dk_42 (dk_at dksX4_reserves_1 0 rfl rfl)
theorem dX4_reserves_25 : decode cX4_reserves 25 = .ok (.iconst 1, 1) := dk_4 (dk_at dksX4_reserves_1 1 rfl rfl)
theorem dX4_reserves_26 : decode cX4_reserves 26 = .ok (.putfield 224, 3) := dk_181 0 224 (dk_at dksX4_reserves_1 2 rfl rfl)
theorem dX4_reserves_29 : decode cX4_reserves 29 = .ok (.aload_n 0, 1) := dk_42 (dk_at dksX4_reserves_1 5 rfl rfl)
theorem dX4_reserves_30 : decode cX4_reserves 30 = .ok (.iconst 4, 1) := dk_7 (dk_at dksX4_reserves_1 6 rfl rfl)
theorem dX4_reserves_31 : decode cX4_reserves 31 = .ok (.invokevirtual 246, 3) := dk_182 0 246 (dk_at dksX4_reserves_1 7 rfl rfl)
theorem dX4_reserves_34 : decode cX4_reserves 34 = .ok (.return_, 1) := dk_177 (dk_at dksX4_reserves_1 10 rfl rfl)
abbrev cX4_breaks : ByteArray := prog_8_method_34_code
def yX4_breaks : MethodName := ⟨RX4, "breaks", "()V"⟩
def dkwX4_breaks_0 : List UInt8 := [42, 4, 181, 0, 221, 42, 16, 19, 182, 1, 85, 177]
abbrev dktX4_breaks_0 : List UInt8 := dkwX4_breaks_0 ++ []
theorem dksX4_breaks_0 : cX4_breaks.data.toList.drop 0 = dktX4_breaks_0 := by decide +kernel
theorem dX4_breaks_0 : decode cX4_breaks 0 = .ok (.aload_n 0, 1) := dk_42 (dk_at dksX4_breaks_0 0 rfl rfl)
theorem dX4_breaks_1 : decode cX4_breaks 1 = .ok (.iconst 1, 1) := dk_4 (dk_at dksX4_breaks_0 1 rfl rfl)
theorem dX4_breaks_2 : decode cX4_breaks 2 = .ok (.putfield 221, 3) := dk_181 0 221 (dk_at dksX4_breaks_0 2 rfl rfl)
theorem dX4_breaks_5 : decode cX4_breaks 5 = .ok (.aload_n 0, 1) := dk_42 (dk_at dksX4_breaks_0 5 rfl rfl)
theorem dX4_breaks_6 : decode cX4_breaks 6 = .ok (.bipush 19, 2) := dk_16 19 (dk_at dksX4_breaks_0 6 rfl rfl)
theorem dX4_breaks_8 : decode cX4_breaks 8 = .ok (.invokevirtual 341, 3) := dk_182 1 85 (dk_at dksX4_breaks_0 8 rfl rfl)
theorem dX4_breaks_11 : decode cX4_breaks 11 = .ok (.return_, 1) := dk_177 (dk_at dksX4_breaks_0 11 rfl rfl)
abbrev cX4_raises : ByteArray := prog_8_method_24_code
def yX4_raises : MethodName := ⟨RX4, "raises", "(I)V"⟩
def dkwX4_raises_3 : List UInt8 := [180, 0, 52, 16, 8, 92, 46, 4, 96, 79, 42, 28, 182, 1, 18, 87, 177]
abbrev dktX4_raises_3 : List UInt8 := dkwX4_raises_3 ++ []
def dkwX4_raises_2 : List UInt8 := [183, 1, 68, 182, 1, 10, 28, 156, 0, 9, 42, 8, 182, 0, 202, 177, 28, 16, 20, 160, 0, 14, 42]
abbrev dktX4_raises_2 : List UInt8 := dkwX4_raises_2 ++ dktX4_raises_3
def dkwX4_raises_1 : List UInt8 := [42, 187, 1, 66, 89, 28, 156, 0, 7, 2, 167, 0, 4, 28, 42, 180, 0, 187, 42, 180, 0, 169]
abbrev dktX4_raises_1 : List UInt8 := dkwX4_raises_1 ++ dktX4_raises_2
def dkwX4_raises_0 : List UInt8 := [42, 180, 0, 52, 16, 7, 92, 46, 4, 96, 79, 42, 27, 182, 1, 63, 61, 42, 180, 0, 227, 154, 0, 31]
abbrev dktX4_raises_0 : List UInt8 := dkwX4_raises_0 ++ dktX4_raises_1
theorem dksX4_raises_0 : cX4_raises.data.toList.drop 0 = dktX4_raises_0 := by decide +kernel
theorem dksX4_raises_1 : cX4_raises.data.toList.drop 24 = dktX4_raises_1 := dk_seg dksX4_raises_0 24 rfl rfl
theorem dksX4_raises_2 : cX4_raises.data.toList.drop 46 = dktX4_raises_2 := dk_seg dksX4_raises_1 22 rfl rfl
theorem dksX4_raises_3 : cX4_raises.data.toList.drop 69 = dktX4_raises_3 := dk_seg dksX4_raises_2 23 rfl rfl
theorem dX4_raises_0 : decode cX4_raises 0 = .ok (.aload_n 0, 1) := dk_42 (dk_at dksX4_raises_0 0 rfl rfl)
theorem dX4_raises_1 : decode cX4_raises 1 = .ok (.getfield 52, 3) := dk_180 0 52 (dk_at dksX4_raises_0 1 rfl rfl)
theorem dX4_raises_4 : decode cX4_raises 4 = .ok (.bipush 7, 2) := dk_16 7 (dk_at dksX4_raises_0 4 rfl rfl)
theorem dX4_raises_6 : decode cX4_raises 6 = .ok (.dup2, 1) := dk_92 (dk_at dksX4_raises_0 6 rfl rfl)
theorem dX4_raises_7 : decode cX4_raises 7 = .ok (.iaload, 1) := dk_46 (dk_at dksX4_raises_0 7 rfl rfl)
theorem dX4_raises_8 : decode cX4_raises 8 = .ok (.iconst 1, 1) := dk_4 (dk_at dksX4_raises_0 8 rfl rfl)
theorem dX4_raises_9 : decode cX4_raises 9 = .ok (.iadd, 1) := dk_96 (dk_at dksX4_raises_0 9 rfl rfl)
theorem dX4_raises_10 : decode cX4_raises 10 = .ok (.iastore, 1) := dk_79 (dk_at dksX4_raises_0 10 rfl rfl)
theorem dX4_raises_11 : decode cX4_raises 11 = .ok (.aload_n 0, 1) := dk_42 (dk_at dksX4_raises_0 11 rfl rfl)
theorem dX4_raises_12 : decode cX4_raises 12 = .ok (.iload_n 1, 1) := dk_27 (dk_at dksX4_raises_0 12 rfl rfl)
theorem dX4_raises_13 : decode cX4_raises 13 = .ok (.invokevirtual 319, 3) := dk_182 1 63 (dk_at dksX4_raises_0 13 rfl rfl)
theorem dX4_raises_16 : decode cX4_raises 16 = .ok (.istore_n 2, 1) := dk_61 (dk_at dksX4_raises_0 16 rfl rfl)
theorem dX4_raises_17 : decode cX4_raises 17 = .ok (.aload_n 0, 1) := dk_42 (dk_at dksX4_raises_0 17 rfl rfl)
theorem dX4_raises_18 : decode cX4_raises 18 = .ok (.getfield 227, 3) := dk_180 0 227 (dk_at dksX4_raises_0 18 rfl rfl)
theorem dX4_raises_21 : decode cX4_raises 21 = .ok (.ifCond .ne 31, 3) := dk_154 0 31 (dk_at dksX4_raises_0 21 rfl rfl)
theorem dX4_raises_24 : decode cX4_raises 24 = .ok (.aload_n 0, 1) := dk_42 (dk_at dksX4_raises_1 0 rfl rfl)
theorem dX4_raises_25 : decode cX4_raises 25 = .ok (.new 322, 3) := dk_187 1 66 (dk_at dksX4_raises_1 1 rfl rfl)
theorem dX4_raises_28 : decode cX4_raises 28 = .ok (.dup, 1) := dk_89 (dk_at dksX4_raises_1 4 rfl rfl)
theorem dX4_raises_29 : decode cX4_raises 29 = .ok (.iload_n 2, 1) := dk_28 (dk_at dksX4_raises_1 5 rfl rfl)
theorem dX4_raises_30 : decode cX4_raises 30 = .ok (.ifCond .ge 7, 3) := dk_156 0 7 (dk_at dksX4_raises_1 6 rfl rfl)
theorem dX4_raises_33 : decode cX4_raises 33 = .ok (.iconst (-1), 1) := dk_2 (dk_at dksX4_raises_1 9 rfl rfl)
theorem dX4_raises_34 : decode cX4_raises 34 = .ok (.goto 4, 3) := dk_167 0 4 (dk_at dksX4_raises_1 10 rfl rfl)
theorem dX4_raises_37 : decode cX4_raises 37 = .ok (.iload_n 2, 1) := dk_28 (dk_at dksX4_raises_1 13 rfl rfl)
theorem dX4_raises_38 : decode cX4_raises 38 = .ok (.aload_n 0, 1) := dk_42 (dk_at dksX4_raises_1 14 rfl rfl)
theorem dX4_raises_39 : decode cX4_raises 39 = .ok (.getfield 187, 3) := dk_180 0 187 (dk_at dksX4_raises_1 15 rfl rfl)
theorem dX4_raises_42 : decode cX4_raises 42 = .ok (.aload_n 0, 1) := dk_42 (dk_at dksX4_raises_1 18 rfl rfl)
theorem dX4_raises_43 : decode cX4_raises 43 = .ok (.getfield 169, 3) := dk_180 0 169 (dk_at dksX4_raises_1 19 rfl rfl)
theorem dX4_raises_46 : decode cX4_raises 46 = .ok (.invokespecial 324, 3) := dk_183 1 68 (dk_at dksX4_raises_2 0 rfl rfl)
theorem dX4_raises_49 : decode cX4_raises 49 = .ok (.invokevirtual 266, 3) := dk_182 1 10 (dk_at dksX4_raises_2 3 rfl rfl)
theorem dX4_raises_52 : decode cX4_raises 52 = .ok (.iload_n 2, 1) := dk_28 (dk_at dksX4_raises_2 6 rfl rfl)
theorem dX4_raises_53 : decode cX4_raises 53 = .ok (.ifCond .ge 9, 3) := dk_156 0 9 (dk_at dksX4_raises_2 7 rfl rfl)
theorem dX4_raises_56 : decode cX4_raises 56 = .ok (.aload_n 0, 1) := dk_42 (dk_at dksX4_raises_2 10 rfl rfl)
theorem dX4_raises_57 : decode cX4_raises 57 = .ok (.iconst 5, 1) := dk_8 (dk_at dksX4_raises_2 11 rfl rfl)
theorem dX4_raises_58 : decode cX4_raises 58 = .ok (.invokevirtual 202, 3) := dk_182 0 202 (dk_at dksX4_raises_2 12 rfl rfl)
theorem dX4_raises_61 : decode cX4_raises 61 = .ok (.return_, 1) := dk_177 (dk_at dksX4_raises_2 15 rfl rfl)
theorem dX4_raises_62 : decode cX4_raises 62 = .ok (.iload_n 2, 1) := dk_28 (dk_at dksX4_raises_2 16 rfl rfl)
theorem dX4_raises_63 : decode cX4_raises 63 = .ok (.bipush 20, 2) := dk_16 20 (dk_at dksX4_raises_2 17 rfl rfl)
theorem dX4_raises_65 : decode cX4_raises 65 = .ok (.if_icmp .ne 14, 3) := dk_160 0 14 (dk_at dksX4_raises_2 19 rfl rfl)
theorem dX4_raises_68 : decode cX4_raises 68 = .ok (.aload_n 0, 1) := dk_42 (dk_at dksX4_raises_2 22 rfl rfl)
theorem dX4_raises_69 : decode cX4_raises 69 = .ok (.getfield 52, 3) := dk_180 0 52 (dk_at dksX4_raises_3 0 rfl rfl)
theorem dX4_raises_72 : decode cX4_raises 72 = .ok (.bipush 8, 2) := dk_16 8 (dk_at dksX4_raises_3 3 rfl rfl)
theorem dX4_raises_74 : decode cX4_raises 74 = .ok (.dup2, 1) := dk_92 (dk_at dksX4_raises_3 5 rfl rfl)
theorem dX4_raises_75 : decode cX4_raises 75 = .ok (.iaload, 1) := dk_46 (dk_at dksX4_raises_3 6 rfl rfl)
theorem dX4_raises_76 : decode cX4_raises 76 = .ok (.iconst 1, 1) := dk_4 (dk_at dksX4_raises_3 7 rfl rfl)
theorem dX4_raises_77 : decode cX4_raises 77 = .ok (.iadd, 1) := dk_96 (dk_at dksX4_raises_3 8 rfl rfl)
theorem dX4_raises_78 : decode cX4_raises 78 = .ok (.iastore, 1) := dk_79 (dk_at dksX4_raises_3 9 rfl rfl)
theorem dX4_raises_79 : decode cX4_raises 79 = .ok (.aload_n 0, 1) := dk_42 (dk_at dksX4_raises_3 10 rfl rfl)
theorem dX4_raises_80 : decode cX4_raises 80 = .ok (.iload_n 2, 1) := dk_28 (dk_at dksX4_raises_3 11 rfl rfl)
theorem dX4_raises_81 : decode cX4_raises 81 = .ok (.invokevirtual 274, 3) := dk_182 1 18 (dk_at dksX4_raises_3 12 rfl rfl)
theorem dX4_raises_84 : decode cX4_raises 84 = .ok (.pop, 1) := dk_87 (dk_at dksX4_raises_3 15 rfl rfl)
theorem dX4_raises_85 : decode cX4_raises 85 = .ok (.return_, 1) := dk_177 (dk_at dksX4_raises_3 16 rfl rfl)
abbrev cX4_becoming : ByteArray := prog_8_method_23_code
def yX4_becoming : MethodName := ⟨RX4, "becoming", "(I)I"⟩
def dkwX4_becoming_2 : List UInt8 := [180, 0, 199, 8, 160, 0, 8, 16, 254, 167, 0, 5, 16, 20, 172]
abbrev dktX4_becoming_2 : List UInt8 := dkwX4_becoming_2 ++ []
def dkwX4_becoming_1 : List UInt8 := [182, 1, 37, 162, 0, 7, 27, 167, 0, 31, 42, 180, 0, 39, 16, 20, 50, 180, 1, 60, 154, 0, 11, 42]
abbrev dktX4_becoming_1 : List UInt8 := dkwX4_becoming_1 ++ dktX4_becoming_2
def dkwX4_becoming_0 : List UInt8 := [42, 180, 0, 39, 27, 50, 77, 44, 180, 1, 47, 153, 0, 22, 44, 42, 180, 0, 178, 182, 1, 33, 42]
abbrev dktX4_becoming_0 : List UInt8 := dkwX4_becoming_0 ++ dktX4_becoming_1
theorem dksX4_becoming_0 : cX4_becoming.data.toList.drop 0 = dktX4_becoming_0 := by decide +kernel
theorem dksX4_becoming_1 : cX4_becoming.data.toList.drop 23 = dktX4_becoming_1 := dk_seg dksX4_becoming_0 23 rfl rfl
theorem dksX4_becoming_2 : cX4_becoming.data.toList.drop 47 = dktX4_becoming_2 := dk_seg dksX4_becoming_1 24 rfl rfl
theorem dX4_becoming_0 : decode cX4_becoming 0 = .ok (.aload_n 0, 1) := dk_42 (dk_at dksX4_becoming_0 0 rfl rfl)
theorem dX4_becoming_1 : decode cX4_becoming 1 = .ok (.getfield 39, 3) := dk_180 0 39 (dk_at dksX4_becoming_0 1 rfl rfl)
theorem dX4_becoming_4 : decode cX4_becoming 4 = .ok (.iload_n 1, 1) := dk_27 (dk_at dksX4_becoming_0 4 rfl rfl)
theorem dX4_becoming_5 : decode cX4_becoming 5 = .ok (.aaload, 1) := dk_50 (dk_at dksX4_becoming_0 5 rfl rfl)
theorem dX4_becoming_6 : decode cX4_becoming 6 = .ok (.astore_n 2, 1) := dk_77 (dk_at dksX4_becoming_0 6 rfl rfl)
theorem dX4_becoming_7 : decode cX4_becoming 7 = .ok (.aload_n 2, 1) := dk_44 (dk_at dksX4_becoming_0 7 rfl rfl)
theorem dX4_becoming_8 : decode cX4_becoming 8 = .ok (.getfield 303, 3) := dk_180 1 47 (dk_at dksX4_becoming_0 8 rfl rfl)
theorem dX4_becoming_11 : decode cX4_becoming 11 = .ok (.ifCond .eq 22, 3) := dk_153 0 22 (dk_at dksX4_becoming_0 11 rfl rfl)
theorem dX4_becoming_14 : decode cX4_becoming 14 = .ok (.aload_n 2, 1) := dk_44 (dk_at dksX4_becoming_0 14 rfl rfl)
theorem dX4_becoming_15 : decode cX4_becoming 15 = .ok (.aload_n 0, 1) := dk_42 (dk_at dksX4_becoming_0 15 rfl rfl)
theorem dX4_becoming_16 : decode cX4_becoming 16 = .ok (.getfield 178, 3) := dk_180 0 178 (dk_at dksX4_becoming_0 16 rfl rfl)
theorem dX4_becoming_19 : decode cX4_becoming 19 = .ok (.invokevirtual 289, 3) := dk_182 1 33 (dk_at dksX4_becoming_0 19 rfl rfl)
theorem dX4_becoming_22 : decode cX4_becoming 22 = .ok (.aload_n 0, 1) := dk_42 (dk_at dksX4_becoming_0 22 rfl rfl)
theorem dX4_becoming_23 : decode cX4_becoming 23 = .ok (.invokevirtual 293, 3) := dk_182 1 37 (dk_at dksX4_becoming_1 0 rfl rfl)
theorem dX4_becoming_26 : decode cX4_becoming 26 = .ok (.if_icmp .ge 7, 3) := dk_162 0 7 (dk_at dksX4_becoming_1 3 rfl rfl)
theorem dX4_becoming_29 : decode cX4_becoming 29 = .ok (.iload_n 1, 1) := dk_27 (dk_at dksX4_becoming_1 6 rfl rfl)
theorem dX4_becoming_30 : decode cX4_becoming 30 = .ok (.goto 31, 3) := dk_167 0 31 (dk_at dksX4_becoming_1 7 rfl rfl)
theorem dX4_becoming_33 : decode cX4_becoming 33 = .ok (.aload_n 0, 1) := dk_42 (dk_at dksX4_becoming_1 10 rfl rfl)
theorem dX4_becoming_34 : decode cX4_becoming 34 = .ok (.getfield 39, 3) := dk_180 0 39 (dk_at dksX4_becoming_1 11 rfl rfl)
theorem dX4_becoming_37 : decode cX4_becoming 37 = .ok (.bipush 20, 2) := dk_16 20 (dk_at dksX4_becoming_1 14 rfl rfl)
theorem dX4_becoming_39 : decode cX4_becoming 39 = .ok (.aaload, 1) := dk_50 (dk_at dksX4_becoming_1 16 rfl rfl)
theorem dX4_becoming_40 : decode cX4_becoming 40 = .ok (.getfield 316, 3) := dk_180 1 60 (dk_at dksX4_becoming_1 17 rfl rfl)
theorem dX4_becoming_43 : decode cX4_becoming 43 = .ok (.ifCond .ne 11, 3) := dk_154 0 11 (dk_at dksX4_becoming_1 20 rfl rfl)
theorem dX4_becoming_46 : decode cX4_becoming 46 = .ok (.aload_n 0, 1) := dk_42 (dk_at dksX4_becoming_1 23 rfl rfl)
theorem dX4_becoming_47 : decode cX4_becoming 47 = .ok (.getfield 199, 3) := dk_180 0 199 (dk_at dksX4_becoming_2 0 rfl rfl)
theorem dX4_becoming_50 : decode cX4_becoming 50 = .ok (.iconst 5, 1) := dk_8 (dk_at dksX4_becoming_2 3 rfl rfl)
theorem dX4_becoming_51 : decode cX4_becoming 51 = .ok (.if_icmp .ne 8, 3) := dk_160 0 8 (dk_at dksX4_becoming_2 4 rfl rfl)
theorem dX4_becoming_54 : decode cX4_becoming 54 = .ok (.bipush (-2), 2) := dk_16 254 (dk_at dksX4_becoming_2 7 rfl rfl)
theorem dX4_becoming_56 : decode cX4_becoming 56 = .ok (.goto 5, 3) := dk_167 0 5 (dk_at dksX4_becoming_2 9 rfl rfl)
theorem dX4_becoming_59 : decode cX4_becoming 59 = .ok (.bipush 20, 2) := dk_16 20 (dk_at dksX4_becoming_2 12 rfl rfl)
theorem dX4_becoming_61 : decode cX4_becoming 61 = .ok (.ireturn, 1) := dk_172 (dk_at dksX4_becoming_2 14 rfl rfl)
abbrev cX4_notes : ByteArray := prog_8_method_25_code
def yX4_notes : MethodName := ⟨RX4, "notes", "(LRankEntry$Event;)V"⟩
def dkwX4_notes_0 : List UInt8 := [42, 180, 0, 60, 42, 180, 0, 239, 16, 24, 112, 43, 83, 42, 89, 180, 0, 239, 4, 96, 181, 0, 239, 177]
abbrev dktX4_notes_0 : List UInt8 := dkwX4_notes_0 ++ []
theorem dksX4_notes_0 : cX4_notes.data.toList.drop 0 = dktX4_notes_0 := by decide +kernel
theorem dX4_notes_0 : decode cX4_notes 0 = .ok (.aload_n 0, 1) := dk_42 (dk_at dksX4_notes_0 0 rfl rfl)
theorem dX4_notes_1 : decode cX4_notes 1 = .ok (.getfield 60, 3) := dk_180 0 60 (dk_at dksX4_notes_0 1 rfl rfl)
theorem dX4_notes_4 : decode cX4_notes 4 = .ok (.aload_n 0, 1) := dk_42 (dk_at dksX4_notes_0 4 rfl rfl)
theorem dX4_notes_5 : decode cX4_notes 5 = .ok (.getfield 239, 3) := dk_180 0 239 (dk_at dksX4_notes_0 5 rfl rfl)
theorem dX4_notes_8 : decode cX4_notes 8 = .ok (.bipush 24, 2) := dk_16 24 (dk_at dksX4_notes_0 8 rfl rfl)
theorem dX4_notes_10 : decode cX4_notes 10 = .ok (.irem, 1) := dk_112 (dk_at dksX4_notes_0 10 rfl rfl)
theorem dX4_notes_11 : decode cX4_notes 11 = .ok (.aload_n 1, 1) := dk_43 (dk_at dksX4_notes_0 11 rfl rfl)
theorem dX4_notes_12 : decode cX4_notes 12 = .ok (.aastore, 1) := dk_83 (dk_at dksX4_notes_0 12 rfl rfl)
theorem dX4_notes_13 : decode cX4_notes 13 = .ok (.aload_n 0, 1) := dk_42 (dk_at dksX4_notes_0 13 rfl rfl)
theorem dX4_notes_14 : decode cX4_notes 14 = .ok (.dup, 1) := dk_89 (dk_at dksX4_notes_0 14 rfl rfl)
theorem dX4_notes_15 : decode cX4_notes 15 = .ok (.getfield 239, 3) := dk_180 0 239 (dk_at dksX4_notes_0 15 rfl rfl)
theorem dX4_notes_18 : decode cX4_notes 18 = .ok (.iconst 1, 1) := dk_4 (dk_at dksX4_notes_0 18 rfl rfl)
theorem dX4_notes_19 : decode cX4_notes 19 = .ok (.iadd, 1) := dk_96 (dk_at dksX4_notes_0 19 rfl rfl)
theorem dX4_notes_20 : decode cX4_notes 20 = .ok (.putfield 239, 3) := dk_181 0 239 (dk_at dksX4_notes_0 20 rfl rfl)
theorem dX4_notes_23 : decode cX4_notes 23 = .ok (.return_, 1) := dk_177 (dk_at dksX4_notes_0 23 rfl rfl)
abbrev cX4_becomes : ByteArray := prog_8_method_21_code
def yX4_becomes : MethodName := ⟨RX4, "becomes", "(I)Z"⟩
def dkwX4_becomes_1 : List UInt8 := [92, 46, 4, 96, 79, 28, 172]
abbrev dktX4_becomes_1 : List UInt8 := dkwX4_becomes_1 ++ []
def dkwX4_becomes_0 : List UInt8 := [42, 180, 0, 39, 27, 50, 42, 180, 0, 187, 182, 1, 59, 61, 28, 154, 0, 14, 42, 180, 0, 52, 16, 9]
abbrev dktX4_becomes_0 : List UInt8 := dkwX4_becomes_0 ++ dktX4_becomes_1
theorem dksX4_becomes_0 : cX4_becomes.data.toList.drop 0 = dktX4_becomes_0 := by decide +kernel
theorem dksX4_becomes_1 : cX4_becomes.data.toList.drop 24 = dktX4_becomes_1 := dk_seg dksX4_becomes_0 24 rfl rfl
theorem dX4_becomes_0 : decode cX4_becomes 0 = .ok (.aload_n 0, 1) := dk_42 (dk_at dksX4_becomes_0 0 rfl rfl)
theorem dX4_becomes_1 : decode cX4_becomes 1 = .ok (.getfield 39, 3) := dk_180 0 39 (dk_at dksX4_becomes_0 1 rfl rfl)
theorem dX4_becomes_4 : decode cX4_becomes 4 = .ok (.iload_n 1, 1) := dk_27 (dk_at dksX4_becomes_0 4 rfl rfl)
theorem dX4_becomes_5 : decode cX4_becomes 5 = .ok (.aaload, 1) := dk_50 (dk_at dksX4_becomes_0 5 rfl rfl)
theorem dX4_becomes_6 : decode cX4_becomes 6 = .ok (.aload_n 0, 1) := dk_42 (dk_at dksX4_becomes_0 6 rfl rfl)
theorem dX4_becomes_7 : decode cX4_becomes 7 = .ok (.getfield 187, 3) := dk_180 0 187 (dk_at dksX4_becomes_0 7 rfl rfl)
theorem dX4_becomes_10 : decode cX4_becomes 10 = .ok (.invokevirtual 315, 3) := dk_182 1 59 (dk_at dksX4_becomes_0 10 rfl rfl)
theorem dX4_becomes_13 : decode cX4_becomes 13 = .ok (.istore_n 2, 1) := dk_61 (dk_at dksX4_becomes_0 13 rfl rfl)
theorem dX4_becomes_14 : decode cX4_becomes 14 = .ok (.iload_n 2, 1) := dk_28 (dk_at dksX4_becomes_0 14 rfl rfl)
theorem dX4_becomes_15 : decode cX4_becomes 15 = .ok (.ifCond .ne 14, 3) := dk_154 0 14 (dk_at dksX4_becomes_0 15 rfl rfl)
theorem dX4_becomes_18 : decode cX4_becomes 18 = .ok (.aload_n 0, 1) := dk_42 (dk_at dksX4_becomes_0 18 rfl rfl)
theorem dX4_becomes_19 : decode cX4_becomes 19 = .ok (.getfield 52, 3) := dk_180 0 52 (dk_at dksX4_becomes_0 19 rfl rfl)
theorem dX4_becomes_22 : decode cX4_becomes 22 = .ok (.bipush 9, 2) := dk_16 9 (dk_at dksX4_becomes_0 22 rfl rfl)
theorem dX4_becomes_24 : decode cX4_becomes 24 = .ok (.dup2, 1) := dk_92 (dk_at dksX4_becomes_1 0 rfl rfl)
theorem dX4_becomes_25 : decode cX4_becomes 25 = .ok (.iaload, 1) := dk_46 (dk_at dksX4_becomes_1 1 rfl rfl)
theorem dX4_becomes_26 : decode cX4_becomes 26 = .ok (.iconst 1, 1) := dk_4 (dk_at dksX4_becomes_1 2 rfl rfl)
theorem dX4_becomes_27 : decode cX4_becomes 27 = .ok (.iadd, 1) := dk_96 (dk_at dksX4_becomes_1 3 rfl rfl)
theorem dX4_becomes_28 : decode cX4_becomes 28 = .ok (.iastore, 1) := dk_79 (dk_at dksX4_becomes_1 4 rfl rfl)
theorem dX4_becomes_29 : decode cX4_becomes 29 = .ok (.iload_n 2, 1) := dk_28 (dk_at dksX4_becomes_1 5 rfl rfl)
theorem dX4_becomes_30 : decode cX4_becomes 30 = .ok (.ireturn, 1) := dk_172 (dk_at dksX4_becomes_1 6 rfl rfl)
abbrev cX4_grows : ByteArray := prog_8_method_10_code
def yX4_grows : MethodName := ⟨RX4, "grows", "(I)V"⟩
def dkwX4_grows_1 : List UInt8 := [16, 13, 46, 164, 0, 10, 42, 180, 0, 172, 167, 0, 10, 42, 180, 0, 52, 16, 13, 46, 79, 177]
abbrev dktX4_grows_1 : List UInt8 := dkwX4_grows_1 ++ []
def dkwX4_grows_0 : List UInt8 := [42, 89, 180, 0, 172, 27, 96, 181, 0, 172, 42, 180, 0, 52, 16, 13, 42, 180, 0, 172, 42, 180, 0, 52]
abbrev dktX4_grows_0 : List UInt8 := dkwX4_grows_0 ++ dktX4_grows_1
theorem dksX4_grows_0 : cX4_grows.data.toList.drop 0 = dktX4_grows_0 := by decide +kernel
theorem dksX4_grows_1 : cX4_grows.data.toList.drop 24 = dktX4_grows_1 := dk_seg dksX4_grows_0 24 rfl rfl
theorem dX4_grows_0 : decode cX4_grows 0 = .ok (.aload_n 0, 1) := dk_42 (dk_at dksX4_grows_0 0 rfl rfl)
theorem dX4_grows_1 : decode cX4_grows 1 = .ok (.dup, 1) := dk_89 (dk_at dksX4_grows_0 1 rfl rfl)
theorem dX4_grows_2 : decode cX4_grows 2 = .ok (.getfield 172, 3) := dk_180 0 172 (dk_at dksX4_grows_0 2 rfl rfl)
theorem dX4_grows_5 : decode cX4_grows 5 = .ok (.iload_n 1, 1) := dk_27 (dk_at dksX4_grows_0 5 rfl rfl)
theorem dX4_grows_6 : decode cX4_grows 6 = .ok (.iadd, 1) := dk_96 (dk_at dksX4_grows_0 6 rfl rfl)
theorem dX4_grows_7 : decode cX4_grows 7 = .ok (.putfield 172, 3) := dk_181 0 172 (dk_at dksX4_grows_0 7 rfl rfl)
theorem dX4_grows_10 : decode cX4_grows 10 = .ok (.aload_n 0, 1) := dk_42 (dk_at dksX4_grows_0 10 rfl rfl)
theorem dX4_grows_11 : decode cX4_grows 11 = .ok (.getfield 52, 3) := dk_180 0 52 (dk_at dksX4_grows_0 11 rfl rfl)
theorem dX4_grows_14 : decode cX4_grows 14 = .ok (.bipush 13, 2) := dk_16 13 (dk_at dksX4_grows_0 14 rfl rfl)
theorem dX4_grows_16 : decode cX4_grows 16 = .ok (.aload_n 0, 1) := dk_42 (dk_at dksX4_grows_0 16 rfl rfl)
theorem dX4_grows_17 : decode cX4_grows 17 = .ok (.getfield 172, 3) := dk_180 0 172 (dk_at dksX4_grows_0 17 rfl rfl)
theorem dX4_grows_20 : decode cX4_grows 20 = .ok (.aload_n 0, 1) := dk_42 (dk_at dksX4_grows_0 20 rfl rfl)
theorem dX4_grows_21 : decode cX4_grows 21 = .ok (.getfield 52, 3) := dk_180 0 52 (dk_at dksX4_grows_0 21 rfl rfl)
theorem dX4_grows_24 : decode cX4_grows 24 = .ok (.bipush 13, 2) := dk_16 13 (dk_at dksX4_grows_1 0 rfl rfl)
theorem dX4_grows_26 : decode cX4_grows 26 = .ok (.iaload, 1) := dk_46 (dk_at dksX4_grows_1 2 rfl rfl)
theorem dX4_grows_27 : decode cX4_grows 27 = .ok (.if_icmp .le 10, 3) := dk_164 0 10 (dk_at dksX4_grows_1 3 rfl rfl)
theorem dX4_grows_30 : decode cX4_grows 30 = .ok (.aload_n 0, 1) := dk_42 (dk_at dksX4_grows_1 6 rfl rfl)
theorem dX4_grows_31 : decode cX4_grows 31 = .ok (.getfield 172, 3) := dk_180 0 172 (dk_at dksX4_grows_1 7 rfl rfl)
theorem dX4_grows_34 : decode cX4_grows 34 = .ok (.goto 10, 3) := dk_167 0 10 (dk_at dksX4_grows_1 10 rfl rfl)
theorem dX4_grows_37 : decode cX4_grows 37 = .ok (.aload_n 0, 1) := dk_42 (dk_at dksX4_grows_1 13 rfl rfl)
theorem dX4_grows_38 : decode cX4_grows 38 = .ok (.getfield 52, 3) := dk_180 0 52 (dk_at dksX4_grows_1 14 rfl rfl)
theorem dX4_grows_41 : decode cX4_grows 41 = .ok (.bipush 13, 2) := dk_16 13 (dk_at dksX4_grows_1 17 rfl rfl)
theorem dX4_grows_43 : decode cX4_grows 43 = .ok (.iaload, 1) := dk_46 (dk_at dksX4_grows_1 19 rfl rfl)
theorem dX4_grows_44 : decode cX4_grows 44 = .ok (.iastore, 1) := dk_79 (dk_at dksX4_grows_1 20 rfl rfl)
theorem dX4_grows_45 : decode cX4_grows 45 = .ok (.return_, 1) := dk_177 (dk_at dksX4_grows_1 21 rfl rfl)
abbrev cX4_framed : ByteArray := prog_8_method_33_code
def yX4_framed : MethodName := ⟨RX4, "framed", "(I)I"⟩
def dkwX4_framed_2 : List UInt8 := [153, 0, 7, 7, 167, 0, 4, 3, 96, 172]
abbrev dktX4_framed_2 : List UInt8 := dkwX4_framed_2 ++ []
def dkwX4_framed_1 : List UInt8 := [167, 0, 31, 17, 90, 0, 42, 180, 0, 163, 96, 5, 42, 180, 0, 166, 104, 96, 42, 180, 0, 224]
abbrev dktX4_framed_1 : List UInt8 := dkwX4_framed_1 ++ dktX4_framed_2
def dkwX4_framed_0 : List UInt8 := [27, 7, 162, 0, 12, 42, 180, 0, 23, 27, 46, 167, 0, 43, 27, 7, 160, 0, 10, 42, 180, 0, 169]
abbrev dktX4_framed_0 : List UInt8 := dkwX4_framed_0 ++ dktX4_framed_1
theorem dksX4_framed_0 : cX4_framed.data.toList.drop 0 = dktX4_framed_0 := by decide +kernel
theorem dksX4_framed_1 : cX4_framed.data.toList.drop 23 = dktX4_framed_1 := dk_seg dksX4_framed_0 23 rfl rfl
theorem dksX4_framed_2 : cX4_framed.data.toList.drop 45 = dktX4_framed_2 := dk_seg dksX4_framed_1 22 rfl rfl
theorem dX4_framed_0 : decode cX4_framed 0 = .ok (.iload_n 1, 1) := dk_27 (dk_at dksX4_framed_0 0 rfl rfl)
theorem dX4_framed_1 : decode cX4_framed 1 = .ok (.iconst 4, 1) := dk_7 (dk_at dksX4_framed_0 1 rfl rfl)
theorem dX4_framed_2 : decode cX4_framed 2 = .ok (.if_icmp .ge 12, 3) := dk_162 0 12 (dk_at dksX4_framed_0 2 rfl rfl)
theorem dX4_framed_5 : decode cX4_framed 5 = .ok (.aload_n 0, 1) := dk_42 (dk_at dksX4_framed_0 5 rfl rfl)
theorem dX4_framed_6 : decode cX4_framed 6 = .ok (.getfield 23, 3) := dk_180 0 23 (dk_at dksX4_framed_0 6 rfl rfl)
theorem dX4_framed_9 : decode cX4_framed 9 = .ok (.iload_n 1, 1) := dk_27 (dk_at dksX4_framed_0 9 rfl rfl)
theorem dX4_framed_10 : decode cX4_framed 10 = .ok (.iaload, 1) := dk_46 (dk_at dksX4_framed_0 10 rfl rfl)
theorem dX4_framed_11 : decode cX4_framed 11 = .ok (.goto 43, 3) := dk_167 0 43 (dk_at dksX4_framed_0 11 rfl rfl)
theorem dX4_framed_14 : decode cX4_framed 14 = .ok (.iload_n 1, 1) := dk_27 (dk_at dksX4_framed_0 14 rfl rfl)
theorem dX4_framed_15 : decode cX4_framed 15 = .ok (.iconst 4, 1) := dk_7 (dk_at dksX4_framed_0 15 rfl rfl)
theorem dX4_framed_16 : decode cX4_framed 16 = .ok (.if_icmp .ne 10, 3) := dk_160 0 10 (dk_at dksX4_framed_0 16 rfl rfl)
theorem dX4_framed_19 : decode cX4_framed 19 = .ok (.aload_n 0, 1) := dk_42 (dk_at dksX4_framed_0 19 rfl rfl)
theorem dX4_framed_20 : decode cX4_framed 20 = .ok (.getfield 169, 3) := dk_180 0 169 (dk_at dksX4_framed_0 20 rfl rfl)
theorem dX4_framed_23 : decode cX4_framed 23 = .ok (.goto 31, 3) := dk_167 0 31 (dk_at dksX4_framed_1 0 rfl rfl)
theorem dX4_framed_26 : decode cX4_framed 26 = .ok (.sipush 23040, 3) := dk_17 90 0 (dk_at dksX4_framed_1 3 rfl rfl)
theorem dX4_framed_29 : decode cX4_framed 29 = .ok (.aload_n 0, 1) := dk_42 (dk_at dksX4_framed_1 6 rfl rfl)
theorem dX4_framed_30 : decode cX4_framed 30 = .ok (.getfield 163, 3) := dk_180 0 163 (dk_at dksX4_framed_1 7 rfl rfl)
theorem dX4_framed_33 : decode cX4_framed 33 = .ok (.iadd, 1) := dk_96 (dk_at dksX4_framed_1 10 rfl rfl)
theorem dX4_framed_34 : decode cX4_framed 34 = .ok (.iconst 2, 1) := dk_5 (dk_at dksX4_framed_1 11 rfl rfl)
theorem dX4_framed_35 : decode cX4_framed 35 = .ok (.aload_n 0, 1) := dk_42 (dk_at dksX4_framed_1 12 rfl rfl)
theorem dX4_framed_36 : decode cX4_framed 36 = .ok (.getfield 166, 3) := dk_180 0 166 (dk_at dksX4_framed_1 13 rfl rfl)
theorem dX4_framed_39 : decode cX4_framed 39 = .ok (.imul, 1) := dk_104 (dk_at dksX4_framed_1 16 rfl rfl)
theorem dX4_framed_40 : decode cX4_framed 40 = .ok (.iadd, 1) := dk_96 (dk_at dksX4_framed_1 17 rfl rfl)
theorem dX4_framed_41 : decode cX4_framed 41 = .ok (.aload_n 0, 1) := dk_42 (dk_at dksX4_framed_1 18 rfl rfl)
theorem dX4_framed_42 : decode cX4_framed 42 = .ok (.getfield 224, 3) := dk_180 0 224 (dk_at dksX4_framed_1 19 rfl rfl)
theorem dX4_framed_45 : decode cX4_framed 45 = .ok (.ifCond .eq 7, 3) := dk_153 0 7 (dk_at dksX4_framed_2 0 rfl rfl)
theorem dX4_framed_48 : decode cX4_framed 48 = .ok (.iconst 4, 1) := dk_7 (dk_at dksX4_framed_2 3 rfl rfl)
theorem dX4_framed_49 : decode cX4_framed 49 = .ok (.goto 4, 3) := dk_167 0 4 (dk_at dksX4_framed_2 4 rfl rfl)
theorem dX4_framed_52 : decode cX4_framed 52 = .ok (.iconst 0, 1) := dk_3 (dk_at dksX4_framed_2 7 rfl rfl)
theorem dX4_framed_53 : decode cX4_framed 53 = .ok (.iadd, 1) := dk_96 (dk_at dksX4_framed_2 8 rfl rfl)
theorem dX4_framed_54 : decode cX4_framed 54 = .ok (.ireturn, 1) := dk_172 (dk_at dksX4_framed_2 9 rfl rfl)
abbrev cX4_pushes : ByteArray := prog_8_method_9_code
def yX4_pushes : MethodName := ⟨RX4, "pushes", "(I)Z"⟩
def dkwX4_pushes_1 : List UInt8 := [182, 0, 246, 4, 172]
abbrev dktX4_pushes_1 : List UInt8 := dkwX4_pushes_1 ++ []
def dkwX4_pushes_0 : List UInt8 := [42, 180, 0, 172, 16, 96, 160, 0, 5, 3, 172, 42, 180, 0, 34, 42, 180, 0, 172, 27, 79, 42, 4]
abbrev dktX4_pushes_0 : List UInt8 := dkwX4_pushes_0 ++ dktX4_pushes_1
theorem dksX4_pushes_0 : cX4_pushes.data.toList.drop 0 = dktX4_pushes_0 := by decide +kernel
theorem dksX4_pushes_1 : cX4_pushes.data.toList.drop 23 = dktX4_pushes_1 := dk_seg dksX4_pushes_0 23 rfl rfl
theorem dX4_pushes_0 : decode cX4_pushes 0 = .ok (.aload_n 0, 1) := dk_42 (dk_at dksX4_pushes_0 0 rfl rfl)
theorem dX4_pushes_1 : decode cX4_pushes 1 = .ok (.getfield 172, 3) := dk_180 0 172 (dk_at dksX4_pushes_0 1 rfl rfl)
theorem dX4_pushes_4 : decode cX4_pushes 4 = .ok (.bipush 96, 2) := dk_16 96 (dk_at dksX4_pushes_0 4 rfl rfl)
theorem dX4_pushes_6 : decode cX4_pushes 6 = .ok (.if_icmp .ne 5, 3) := dk_160 0 5 (dk_at dksX4_pushes_0 6 rfl rfl)
theorem dX4_pushes_9 : decode cX4_pushes 9 = .ok (.iconst 0, 1) := dk_3 (dk_at dksX4_pushes_0 9 rfl rfl)
theorem dX4_pushes_10 : decode cX4_pushes 10 = .ok (.ireturn, 1) := dk_172 (dk_at dksX4_pushes_0 10 rfl rfl)
theorem dX4_pushes_11 : decode cX4_pushes 11 = .ok (.aload_n 0, 1) := dk_42 (dk_at dksX4_pushes_0 11 rfl rfl)
theorem dX4_pushes_12 : decode cX4_pushes 12 = .ok (.getfield 34, 3) := dk_180 0 34 (dk_at dksX4_pushes_0 12 rfl rfl)
theorem dX4_pushes_15 : decode cX4_pushes 15 = .ok (.aload_n 0, 1) := dk_42 (dk_at dksX4_pushes_0 15 rfl rfl)
theorem dX4_pushes_16 : decode cX4_pushes 16 = .ok (.getfield 172, 3) := dk_180 0 172 (dk_at dksX4_pushes_0 16 rfl rfl)
theorem dX4_pushes_19 : decode cX4_pushes 19 = .ok (.iload_n 1, 1) := dk_27 (dk_at dksX4_pushes_0 19 rfl rfl)
theorem dX4_pushes_20 : decode cX4_pushes 20 = .ok (.iastore, 1) := dk_79 (dk_at dksX4_pushes_0 20 rfl rfl)
theorem dX4_pushes_21 : decode cX4_pushes 21 = .ok (.aload_n 0, 1) := dk_42 (dk_at dksX4_pushes_0 21 rfl rfl)
theorem dX4_pushes_22 : decode cX4_pushes 22 = .ok (.iconst 1, 1) := dk_4 (dk_at dksX4_pushes_0 22 rfl rfl)
theorem dX4_pushes_23 : decode cX4_pushes 23 = .ok (.invokevirtual 246, 3) := dk_182 0 246 (dk_at dksX4_pushes_1 0 rfl rfl)
theorem dX4_pushes_26 : decode cX4_pushes 26 = .ok (.iconst 1, 1) := dk_4 (dk_at dksX4_pushes_1 3 rfl rfl)
theorem dX4_pushes_27 : decode cX4_pushes 27 = .ok (.ireturn, 1) := dk_172 (dk_at dksX4_pushes_1 4 rfl rfl)
abbrev cX4_begins : ByteArray := prog_8_method_37_code
def yX4_begins : MethodName := ⟨RX4, "begins", "(IZ)V"⟩
def dkwX4_begins_8 : List UInt8 := [182, 0, 202, 177]
abbrev dktX4_begins_8 : List UInt8 := dkwX4_begins_8 ++ []
def dkwX4_begins_7 : List UInt8 := [154, 0, 22, 42, 187, 1, 149, 89, 27, 42, 180, 0, 187, 21, 4, 28, 183, 1, 151, 182, 1, 10, 42, 3]
abbrev dktX4_begins_7 : List UInt8 := dkwX4_begins_7 ++ dktX4_begins_8
def dkwX4_begins_6 : List UInt8 := [180, 0, 142, 42, 180, 0, 230, 27, 79, 42, 89, 180, 0, 230, 4, 96, 181, 0, 230, 42, 180, 0, 227]
abbrev dktX4_begins_6 : List UInt8 := dkwX4_begins_6 ++ dktX4_begins_7
def dkwX4_begins_5 : List UInt8 := [181, 0, 169, 42, 3, 181, 0, 215, 42, 27, 181, 0, 139, 42, 180, 0, 230, 17, 1, 44, 162, 0, 13, 42]
abbrev dktX4_begins_5 : List UInt8 := dkwX4_begins_5 ++ dktX4_begins_6
def dkwX4_begins_4 : List UInt8 := [180, 0, 52, 5, 92, 46, 28, 153, 0, 7, 4, 167, 0, 4, 3, 96, 79, 42, 45, 180, 1, 146]
abbrev dktX4_begins_4 : List UInt8 := dkwX4_begins_4 ++ dktX4_begins_5
def dkwX4_begins_3 : List UInt8 := [167, 0, 10, 42, 180, 0, 52, 16, 12, 46, 79, 42, 180, 0, 52, 4, 92, 46, 4, 96, 79, 42]
abbrev dktX4_begins_3 : List UInt8 := dkwX4_begins_3 ++ dktX4_begins_4
def dkwX4_begins_2 : List UInt8 := [180, 0, 52, 16, 12, 42, 180, 0, 175, 42, 180, 0, 52, 16, 12, 46, 164, 0, 10, 42, 180, 0, 175]
abbrev dktX4_begins_2 : List UInt8 := dkwX4_begins_2 ++ dktX4_begins_3
def dkwX4_begins_1 : List UInt8 := [182, 1, 144, 42, 180, 0, 43, 42, 180, 0, 175, 27, 79, 42, 89, 180, 0, 175, 4, 96, 181, 0, 175, 42]
abbrev dktX4_begins_1 : List UInt8 := dkwX4_begins_1 ++ dktX4_begins_2
def dkwX4_begins_0 : List UInt8 := [42, 180, 0, 39, 27, 50, 78, 42, 180, 0, 187, 45, 180, 1, 141, 100, 54, 4, 45, 42, 180, 0, 187]
abbrev dktX4_begins_0 : List UInt8 := dkwX4_begins_0 ++ dktX4_begins_1
theorem dksX4_begins_0 : cX4_begins.data.toList.drop 0 = dktX4_begins_0 := by decide +kernel
theorem dksX4_begins_1 : cX4_begins.data.toList.drop 23 = dktX4_begins_1 := dk_seg dksX4_begins_0 23 rfl rfl
theorem dksX4_begins_2 : cX4_begins.data.toList.drop 47 = dktX4_begins_2 := dk_seg dksX4_begins_1 24 rfl rfl
theorem dksX4_begins_3 : cX4_begins.data.toList.drop 70 = dktX4_begins_3 := dk_seg dksX4_begins_2 23 rfl rfl
theorem dksX4_begins_4 : cX4_begins.data.toList.drop 92 = dktX4_begins_4 := dk_seg dksX4_begins_3 22 rfl rfl
theorem dksX4_begins_5 : cX4_begins.data.toList.drop 114 = dktX4_begins_5 := dk_seg dksX4_begins_4 22 rfl rfl
theorem dksX4_begins_6 : cX4_begins.data.toList.drop 138 = dktX4_begins_6 := dk_seg dksX4_begins_5 24 rfl rfl
theorem dksX4_begins_7 : cX4_begins.data.toList.drop 161 = dktX4_begins_7 := dk_seg dksX4_begins_6 23 rfl rfl
theorem dksX4_begins_8 : cX4_begins.data.toList.drop 185 = dktX4_begins_8 := dk_seg dksX4_begins_7 24 rfl rfl
theorem dX4_begins_0 : decode cX4_begins 0 = .ok (.aload_n 0, 1) := dk_42 (dk_at dksX4_begins_0 0 rfl rfl)
theorem dX4_begins_1 : decode cX4_begins 1 = .ok (.getfield 39, 3) := dk_180 0 39 (dk_at dksX4_begins_0 1 rfl rfl)
theorem dX4_begins_4 : decode cX4_begins 4 = .ok (.iload_n 1, 1) := dk_27 (dk_at dksX4_begins_0 4 rfl rfl)
theorem dX4_begins_5 : decode cX4_begins 5 = .ok (.aaload, 1) := dk_50 (dk_at dksX4_begins_0 5 rfl rfl)
theorem dX4_begins_6 : decode cX4_begins 6 = .ok (.astore_n 3, 1) := dk_78 (dk_at dksX4_begins_0 6 rfl rfl)
theorem dX4_begins_7 : decode cX4_begins 7 = .ok (.aload_n 0, 1) := dk_42 (dk_at dksX4_begins_0 7 rfl rfl)
theorem dX4_begins_8 : decode cX4_begins 8 = .ok (.getfield 187, 3) := dk_180 0 187 (dk_at dksX4_begins_0 8 rfl rfl)
theorem dX4_begins_11 : decode cX4_begins 11 = .ok (.aload_n 3, 1) := dk_45 (dk_at dksX4_begins_0 11 rfl rfl)
theorem dX4_begins_12 : decode cX4_begins 12 = .ok (.getfield 397, 3) := dk_180 1 141 (dk_at dksX4_begins_0 12 rfl rfl)
theorem dX4_begins_15 : decode cX4_begins 15 = .ok (.isub, 1) := dk_100 (dk_at dksX4_begins_0 15 rfl rfl)
theorem dX4_begins_16 : decode cX4_begins 16 = .ok (.istore 4, 2) := dk_54 4 (dk_at dksX4_begins_0 16 rfl rfl)
theorem dX4_begins_18 : decode cX4_begins 18 = .ok (.aload_n 3, 1) := dk_45 (dk_at dksX4_begins_0 18 rfl rfl)
theorem dX4_begins_19 : decode cX4_begins 19 = .ok (.aload_n 0, 1) := dk_42 (dk_at dksX4_begins_0 19 rfl rfl)
theorem dX4_begins_20 : decode cX4_begins 20 = .ok (.getfield 187, 3) := dk_180 0 187 (dk_at dksX4_begins_0 20 rfl rfl)
theorem dX4_begins_23 : decode cX4_begins 23 = .ok (.invokevirtual 400, 3) := dk_182 1 144 (dk_at dksX4_begins_1 0 rfl rfl)
theorem dX4_begins_26 : decode cX4_begins 26 = .ok (.aload_n 0, 1) := dk_42 (dk_at dksX4_begins_1 3 rfl rfl)
theorem dX4_begins_27 : decode cX4_begins 27 = .ok (.getfield 43, 3) := dk_180 0 43 (dk_at dksX4_begins_1 4 rfl rfl)
theorem dX4_begins_30 : decode cX4_begins 30 = .ok (.aload_n 0, 1) := dk_42 (dk_at dksX4_begins_1 7 rfl rfl)
theorem dX4_begins_31 : decode cX4_begins 31 = .ok (.getfield 175, 3) := dk_180 0 175 (dk_at dksX4_begins_1 8 rfl rfl)
theorem dX4_begins_34 : decode cX4_begins 34 = .ok (.iload_n 1, 1) := dk_27 (dk_at dksX4_begins_1 11 rfl rfl)
theorem dX4_begins_35 : decode cX4_begins 35 = .ok (.iastore, 1) := dk_79 (dk_at dksX4_begins_1 12 rfl rfl)
theorem dX4_begins_36 : decode cX4_begins 36 = .ok (.aload_n 0, 1) := dk_42 (dk_at dksX4_begins_1 13 rfl rfl)
theorem dX4_begins_37 : decode cX4_begins 37 = .ok (.dup, 1) := dk_89 (dk_at dksX4_begins_1 14 rfl rfl)
theorem dX4_begins_38 : decode cX4_begins 38 = .ok (.getfield 175, 3) := dk_180 0 175 (dk_at dksX4_begins_1 15 rfl rfl)
theorem dX4_begins_41 : decode cX4_begins 41 = .ok (.iconst 1, 1) := dk_4 (dk_at dksX4_begins_1 18 rfl rfl)
theorem dX4_begins_42 : decode cX4_begins 42 = .ok (.iadd, 1) := dk_96 (dk_at dksX4_begins_1 19 rfl rfl)
theorem dX4_begins_43 : decode cX4_begins 43 = .ok (.putfield 175, 3) := dk_181 0 175 (dk_at dksX4_begins_1 20 rfl rfl)
theorem dX4_begins_46 : decode cX4_begins 46 = .ok (.aload_n 0, 1) := dk_42 (dk_at dksX4_begins_1 23 rfl rfl)
theorem dX4_begins_47 : decode cX4_begins 47 = .ok (.getfield 52, 3) := dk_180 0 52 (dk_at dksX4_begins_2 0 rfl rfl)
theorem dX4_begins_50 : decode cX4_begins 50 = .ok (.bipush 12, 2) := dk_16 12 (dk_at dksX4_begins_2 3 rfl rfl)
theorem dX4_begins_52 : decode cX4_begins 52 = .ok (.aload_n 0, 1) := dk_42 (dk_at dksX4_begins_2 5 rfl rfl)
theorem dX4_begins_53 : decode cX4_begins 53 = .ok (.getfield 175, 3) := dk_180 0 175 (dk_at dksX4_begins_2 6 rfl rfl)
theorem dX4_begins_56 : decode cX4_begins 56 = .ok (.aload_n 0, 1) := dk_42 (dk_at dksX4_begins_2 9 rfl rfl)
theorem dX4_begins_57 : decode cX4_begins 57 = .ok (.getfield 52, 3) := dk_180 0 52 (dk_at dksX4_begins_2 10 rfl rfl)
theorem dX4_begins_60 : decode cX4_begins 60 = .ok (.bipush 12, 2) := dk_16 12 (dk_at dksX4_begins_2 13 rfl rfl)
theorem dX4_begins_62 : decode cX4_begins 62 = .ok (.iaload, 1) := dk_46 (dk_at dksX4_begins_2 15 rfl rfl)
theorem dX4_begins_63 : decode cX4_begins 63 = .ok (.if_icmp .le 10, 3) := dk_164 0 10 (dk_at dksX4_begins_2 16 rfl rfl)
theorem dX4_begins_66 : decode cX4_begins 66 = .ok (.aload_n 0, 1) := dk_42 (dk_at dksX4_begins_2 19 rfl rfl)
theorem dX4_begins_67 : decode cX4_begins 67 = .ok (.getfield 175, 3) := dk_180 0 175 (dk_at dksX4_begins_2 20 rfl rfl)
theorem dX4_begins_70 : decode cX4_begins 70 = .ok (.goto 10, 3) := dk_167 0 10 (dk_at dksX4_begins_3 0 rfl rfl)
theorem dX4_begins_73 : decode cX4_begins 73 = .ok (.aload_n 0, 1) := dk_42 (dk_at dksX4_begins_3 3 rfl rfl)
theorem dX4_begins_74 : decode cX4_begins 74 = .ok (.getfield 52, 3) := dk_180 0 52 (dk_at dksX4_begins_3 4 rfl rfl)
theorem dX4_begins_77 : decode cX4_begins 77 = .ok (.bipush 12, 2) := dk_16 12 (dk_at dksX4_begins_3 7 rfl rfl)
theorem dX4_begins_79 : decode cX4_begins 79 = .ok (.iaload, 1) := dk_46 (dk_at dksX4_begins_3 9 rfl rfl)
theorem dX4_begins_80 : decode cX4_begins 80 = .ok (.iastore, 1) := dk_79 (dk_at dksX4_begins_3 10 rfl rfl)
theorem dX4_begins_81 : decode cX4_begins 81 = .ok (.aload_n 0, 1) := dk_42 (dk_at dksX4_begins_3 11 rfl rfl)
theorem dX4_begins_82 : decode cX4_begins 82 = .ok (.getfield 52, 3) := dk_180 0 52 (dk_at dksX4_begins_3 12 rfl rfl)
theorem dX4_begins_85 : decode cX4_begins 85 = .ok (.iconst 1, 1) := dk_4 (dk_at dksX4_begins_3 15 rfl rfl)
theorem dX4_begins_86 : decode cX4_begins 86 = .ok (.dup2, 1) := dk_92 (dk_at dksX4_begins_3 16 rfl rfl)
theorem dX4_begins_87 : decode cX4_begins 87 = .ok (.iaload, 1) := dk_46 (dk_at dksX4_begins_3 17 rfl rfl)
theorem dX4_begins_88 : decode cX4_begins 88 = .ok (.iconst 1, 1) := dk_4 (dk_at dksX4_begins_3 18 rfl rfl)
theorem dX4_begins_89 : decode cX4_begins 89 = .ok (.iadd, 1) := dk_96 (dk_at dksX4_begins_3 19 rfl rfl)
theorem dX4_begins_90 : decode cX4_begins 90 = .ok (.iastore, 1) := dk_79 (dk_at dksX4_begins_3 20 rfl rfl)
theorem dX4_begins_91 : decode cX4_begins 91 = .ok (.aload_n 0, 1) := dk_42 (dk_at dksX4_begins_3 21 rfl rfl)
theorem dX4_begins_92 : decode cX4_begins 92 = .ok (.getfield 52, 3) := dk_180 0 52 (dk_at dksX4_begins_4 0 rfl rfl)
theorem dX4_begins_95 : decode cX4_begins 95 = .ok (.iconst 2, 1) := dk_5 (dk_at dksX4_begins_4 3 rfl rfl)
theorem dX4_begins_96 : decode cX4_begins 96 = .ok (.dup2, 1) := dk_92 (dk_at dksX4_begins_4 4 rfl rfl)
theorem dX4_begins_97 : decode cX4_begins 97 = .ok (.iaload, 1) := dk_46 (dk_at dksX4_begins_4 5 rfl rfl)
theorem dX4_begins_98 : decode cX4_begins 98 = .ok (.iload_n 2, 1) := dk_28 (dk_at dksX4_begins_4 6 rfl rfl)
theorem dX4_begins_99 : decode cX4_begins 99 = .ok (.ifCond .eq 7, 3) := dk_153 0 7 (dk_at dksX4_begins_4 7 rfl rfl)
theorem dX4_begins_102 : decode cX4_begins 102 = .ok (.iconst 1, 1) := dk_4 (dk_at dksX4_begins_4 10 rfl rfl)
theorem dX4_begins_103 : decode cX4_begins 103 = .ok (.goto 4, 3) := dk_167 0 4 (dk_at dksX4_begins_4 11 rfl rfl)
theorem dX4_begins_106 : decode cX4_begins 106 = .ok (.iconst 0, 1) := dk_3 (dk_at dksX4_begins_4 14 rfl rfl)
theorem dX4_begins_107 : decode cX4_begins 107 = .ok (.iadd, 1) := dk_96 (dk_at dksX4_begins_4 15 rfl rfl)
theorem dX4_begins_108 : decode cX4_begins 108 = .ok (.iastore, 1) := dk_79 (dk_at dksX4_begins_4 16 rfl rfl)
theorem dX4_begins_109 : decode cX4_begins 109 = .ok (.aload_n 0, 1) := dk_42 (dk_at dksX4_begins_4 17 rfl rfl)
theorem dX4_begins_110 : decode cX4_begins 110 = .ok (.aload_n 3, 1) := dk_45 (dk_at dksX4_begins_4 18 rfl rfl)
theorem dX4_begins_111 : decode cX4_begins 111 = .ok (.getfield 402, 3) := dk_180 1 146 (dk_at dksX4_begins_4 19 rfl rfl)
theorem dX4_begins_114 : decode cX4_begins 114 = .ok (.putfield 169, 3) := dk_181 0 169 (dk_at dksX4_begins_5 0 rfl rfl)
theorem dX4_begins_117 : decode cX4_begins 117 = .ok (.aload_n 0, 1) := dk_42 (dk_at dksX4_begins_5 3 rfl rfl)
theorem dX4_begins_118 : decode cX4_begins 118 = .ok (.iconst 0, 1) := dk_3 (dk_at dksX4_begins_5 4 rfl rfl)
theorem dX4_begins_119 : decode cX4_begins 119 = .ok (.putfield 215, 3) := dk_181 0 215 (dk_at dksX4_begins_5 5 rfl rfl)
theorem dX4_begins_122 : decode cX4_begins 122 = .ok (.aload_n 0, 1) := dk_42 (dk_at dksX4_begins_5 8 rfl rfl)
theorem dX4_begins_123 : decode cX4_begins 123 = .ok (.iload_n 1, 1) := dk_27 (dk_at dksX4_begins_5 9 rfl rfl)
theorem dX4_begins_124 : decode cX4_begins 124 = .ok (.putfield 139, 3) := dk_181 0 139 (dk_at dksX4_begins_5 10 rfl rfl)
theorem dX4_begins_127 : decode cX4_begins 127 = .ok (.aload_n 0, 1) := dk_42 (dk_at dksX4_begins_5 13 rfl rfl)
theorem dX4_begins_128 : decode cX4_begins 128 = .ok (.getfield 230, 3) := dk_180 0 230 (dk_at dksX4_begins_5 14 rfl rfl)
theorem dX4_begins_131 : decode cX4_begins 131 = .ok (.sipush 300, 3) := dk_17 1 44 (dk_at dksX4_begins_5 17 rfl rfl)
theorem dX4_begins_134 : decode cX4_begins 134 = .ok (.if_icmp .ge 13, 3) := dk_162 0 13 (dk_at dksX4_begins_5 20 rfl rfl)
theorem dX4_begins_137 : decode cX4_begins 137 = .ok (.aload_n 0, 1) := dk_42 (dk_at dksX4_begins_5 23 rfl rfl)
theorem dX4_begins_138 : decode cX4_begins 138 = .ok (.getfield 142, 3) := dk_180 0 142 (dk_at dksX4_begins_6 0 rfl rfl)
theorem dX4_begins_141 : decode cX4_begins 141 = .ok (.aload_n 0, 1) := dk_42 (dk_at dksX4_begins_6 3 rfl rfl)
theorem dX4_begins_142 : decode cX4_begins 142 = .ok (.getfield 230, 3) := dk_180 0 230 (dk_at dksX4_begins_6 4 rfl rfl)
theorem dX4_begins_145 : decode cX4_begins 145 = .ok (.iload_n 1, 1) := dk_27 (dk_at dksX4_begins_6 7 rfl rfl)
theorem dX4_begins_146 : decode cX4_begins 146 = .ok (.iastore, 1) := dk_79 (dk_at dksX4_begins_6 8 rfl rfl)
theorem dX4_begins_147 : decode cX4_begins 147 = .ok (.aload_n 0, 1) := dk_42 (dk_at dksX4_begins_6 9 rfl rfl)
theorem dX4_begins_148 : decode cX4_begins 148 = .ok (.dup, 1) := dk_89 (dk_at dksX4_begins_6 10 rfl rfl)
theorem dX4_begins_149 : decode cX4_begins 149 = .ok (.getfield 230, 3) := dk_180 0 230 (dk_at dksX4_begins_6 11 rfl rfl)
theorem dX4_begins_152 : decode cX4_begins 152 = .ok (.iconst 1, 1) := dk_4 (dk_at dksX4_begins_6 14 rfl rfl)
theorem dX4_begins_153 : decode cX4_begins 153 = .ok (.iadd, 1) := dk_96 (dk_at dksX4_begins_6 15 rfl rfl)
theorem dX4_begins_154 : decode cX4_begins 154 = .ok (.putfield 230, 3) := dk_181 0 230 (dk_at dksX4_begins_6 16 rfl rfl)
theorem dX4_begins_157 : decode cX4_begins 157 = .ok (.aload_n 0, 1) := dk_42 (dk_at dksX4_begins_6 19 rfl rfl)
theorem dX4_begins_158 : decode cX4_begins 158 = .ok (.getfield 227, 3) := dk_180 0 227 (dk_at dksX4_begins_6 20 rfl rfl)
theorem dX4_begins_161 : decode cX4_begins 161 = .ok (.ifCond .ne 22, 3) := dk_154 0 22 (dk_at dksX4_begins_7 0 rfl rfl)
theorem dX4_begins_164 : decode cX4_begins 164 = .ok (.aload_n 0, 1) := dk_42 (dk_at dksX4_begins_7 3 rfl rfl)
theorem dX4_begins_165 : decode cX4_begins 165 = .ok (.new 405, 3) := dk_187 1 149 (dk_at dksX4_begins_7 4 rfl rfl)
theorem dX4_begins_168 : decode cX4_begins 168 = .ok (.dup, 1) := dk_89 (dk_at dksX4_begins_7 7 rfl rfl)
theorem dX4_begins_169 : decode cX4_begins 169 = .ok (.iload_n 1, 1) := dk_27 (dk_at dksX4_begins_7 8 rfl rfl)
theorem dX4_begins_170 : decode cX4_begins 170 = .ok (.aload_n 0, 1) := dk_42 (dk_at dksX4_begins_7 9 rfl rfl)
theorem dX4_begins_171 : decode cX4_begins 171 = .ok (.getfield 187, 3) := dk_180 0 187 (dk_at dksX4_begins_7 10 rfl rfl)
theorem dX4_begins_174 : decode cX4_begins 174 = .ok (.iload 4, 2) := dk_21 4 (dk_at dksX4_begins_7 13 rfl rfl)
theorem dX4_begins_176 : decode cX4_begins 176 = .ok (.iload_n 2, 1) := dk_28 (dk_at dksX4_begins_7 15 rfl rfl)
theorem dX4_begins_177 : decode cX4_begins 177 = .ok (.invokespecial 407, 3) := dk_183 1 151 (dk_at dksX4_begins_7 16 rfl rfl)
theorem dX4_begins_180 : decode cX4_begins 180 = .ok (.invokevirtual 266, 3) := dk_182 1 10 (dk_at dksX4_begins_7 19 rfl rfl)
theorem dX4_begins_183 : decode cX4_begins 183 = .ok (.aload_n 0, 1) := dk_42 (dk_at dksX4_begins_7 22 rfl rfl)
theorem dX4_begins_184 : decode cX4_begins 184 = .ok (.iconst 0, 1) := dk_3 (dk_at dksX4_begins_7 23 rfl rfl)
theorem dX4_begins_185 : decode cX4_begins 185 = .ok (.invokevirtual 202, 3) := dk_182 0 202 (dk_at dksX4_begins_8 0 rfl rfl)
theorem dX4_begins_188 : decode cX4_begins 188 = .ok (.return_, 1) := dk_177 (dk_at dksX4_begins_8 3 rfl rfl)
abbrev cX4_does : ByteArray := prog_8_method_30_code
def yX4_does : MethodName := ⟨RX4, "does", "()V"⟩
def dkwX4_does_1 : List UInt8 := [167, 0, 22, 77, 42, 27, 181, 0, 169, 42, 3, 181, 0, 208, 42, 44, 180, 1, 82, 182, 1, 85, 177]
abbrev dktX4_does_1 : List UInt8 := dkwX4_does_1 ++ []
def dkwX4_does_0 : List UInt8 := [42, 180, 0, 169, 60, 42, 182, 1, 79, 153, 0, 14, 42, 180, 0, 52, 16, 10, 92, 46, 4, 96, 79]
abbrev dktX4_does_0 : List UInt8 := dkwX4_does_0 ++ dktX4_does_1
theorem dksX4_does_0 : cX4_does.data.toList.drop 0 = dktX4_does_0 := by decide +kernel
theorem dksX4_does_1 : cX4_does.data.toList.drop 23 = dktX4_does_1 := dk_seg dksX4_does_0 23 rfl rfl
theorem dX4_does_0 : decode cX4_does 0 = .ok (.aload_n 0, 1) := dk_42 (dk_at dksX4_does_0 0 rfl rfl)
theorem dX4_does_1 : decode cX4_does 1 = .ok (.getfield 169, 3) := dk_180 0 169 (dk_at dksX4_does_0 1 rfl rfl)
theorem dX4_does_4 : decode cX4_does 4 = .ok (.istore_n 1, 1) := dk_60 (dk_at dksX4_does_0 4 rfl rfl)
theorem dX4_does_5 : decode cX4_does 5 = .ok (.aload_n 0, 1) := dk_42 (dk_at dksX4_does_0 5 rfl rfl)
theorem dX4_does_6 : decode cX4_does 6 = .ok (.invokevirtual 335, 3) := dk_182 1 79 (dk_at dksX4_does_0 6 rfl rfl)
theorem dX4_does_9 : decode cX4_does 9 = .ok (.ifCond .eq 14, 3) := dk_153 0 14 (dk_at dksX4_does_0 9 rfl rfl)
theorem dX4_does_12 : decode cX4_does 12 = .ok (.aload_n 0, 1) := dk_42 (dk_at dksX4_does_0 12 rfl rfl)
theorem dX4_does_13 : decode cX4_does 13 = .ok (.getfield 52, 3) := dk_180 0 52 (dk_at dksX4_does_0 13 rfl rfl)
theorem dX4_does_16 : decode cX4_does 16 = .ok (.bipush 10, 2) := dk_16 10 (dk_at dksX4_does_0 16 rfl rfl)
theorem dX4_does_18 : decode cX4_does 18 = .ok (.dup2, 1) := dk_92 (dk_at dksX4_does_0 18 rfl rfl)
theorem dX4_does_19 : decode cX4_does 19 = .ok (.iaload, 1) := dk_46 (dk_at dksX4_does_0 19 rfl rfl)
theorem dX4_does_20 : decode cX4_does 20 = .ok (.iconst 1, 1) := dk_4 (dk_at dksX4_does_0 20 rfl rfl)
theorem dX4_does_21 : decode cX4_does 21 = .ok (.iadd, 1) := dk_96 (dk_at dksX4_does_0 21 rfl rfl)
theorem dX4_does_22 : decode cX4_does 22 = .ok (.iastore, 1) := dk_79 (dk_at dksX4_does_0 22 rfl rfl)
theorem dX4_does_23 : decode cX4_does 23 = .ok (.goto 22, 3) := dk_167 0 22 (dk_at dksX4_does_1 0 rfl rfl)
theorem dX4_does_26 : decode cX4_does 26 = .ok (.astore_n 2, 1) := dk_77 (dk_at dksX4_does_1 3 rfl rfl)
theorem dX4_does_27 : decode cX4_does 27 = .ok (.aload_n 0, 1) := dk_42 (dk_at dksX4_does_1 4 rfl rfl)
theorem dX4_does_28 : decode cX4_does 28 = .ok (.iload_n 1, 1) := dk_27 (dk_at dksX4_does_1 5 rfl rfl)
theorem dX4_does_29 : decode cX4_does 29 = .ok (.putfield 169, 3) := dk_181 0 169 (dk_at dksX4_does_1 6 rfl rfl)
theorem dX4_does_32 : decode cX4_does 32 = .ok (.aload_n 0, 1) := dk_42 (dk_at dksX4_does_1 9 rfl rfl)
theorem dX4_does_33 : decode cX4_does 33 = .ok (.iconst 0, 1) := dk_3 (dk_at dksX4_does_1 10 rfl rfl)
theorem dX4_does_34 : decode cX4_does 34 = .ok (.putfield 208, 3) := dk_181 0 208 (dk_at dksX4_does_1 11 rfl rfl)
theorem dX4_does_37 : decode cX4_does 37 = .ok (.aload_n 0, 1) := dk_42 (dk_at dksX4_does_1 14 rfl rfl)
theorem dX4_does_38 : decode cX4_does 38 = .ok (.aload_n 2, 1) := dk_44 (dk_at dksX4_does_1 15 rfl rfl)
theorem dX4_does_39 : decode cX4_does 39 = .ok (.getfield 338, 3) := dk_180 1 82 (dk_at dksX4_does_1 16 rfl rfl)
theorem dX4_does_42 : decode cX4_does 42 = .ok (.invokevirtual 341, 3) := dk_182 1 85 (dk_at dksX4_does_1 19 rfl rfl)
theorem dX4_does_45 : decode cX4_does 45 = .ok (.return_, 1) := dk_177 (dk_at dksX4_does_1 22 rfl rfl)
abbrev cX4_executes : ByteArray := prog_8_method_31_code
def yX4_executes : MethodName := ⟨RX4, "executes", "()Z"⟩
def dkwX4_executes_5 : List UInt8 := [181, 0, 215, 4, 172]
abbrev dktX4_executes_5 : List UInt8 := dkwX4_executes_5 ++ []
def dkwX4_executes_4 : List UInt8 := [180, 1, 108, 4, 100, 181, 0, 208, 43, 42, 28, 29, 182, 1, 111, 43, 182, 1, 94, 153, 0, 8, 42, 4]
abbrev dktX4_executes_4 : List UInt8 := dkwX4_executes_4 ++ dktX4_executes_5
def dkwX4_executes_3 : List UInt8 := [182, 1, 102, 62, 42, 42, 180, 0, 169, 43, 180, 1, 105, 96, 17, 1, 255, 126, 181, 0, 169, 42, 43]
abbrev dktX4_executes_3 : List UInt8 := dkwX4_executes_3 ++ dktX4_executes_4
def dkwX4_executes_2 : List UInt8 := [42, 180, 0, 145, 42, 180, 0, 169, 4, 96, 182, 1, 102, 61, 42, 180, 0, 145, 42, 180, 0, 169, 5, 96]
abbrev dktX4_executes_2 : List UInt8 := dkwX4_executes_2 ++ dktX4_executes_3
def dkwX4_executes_1 : List UInt8 := [182, 1, 94, 153, 0, 21, 42, 180, 0, 135, 155, 0, 14, 42, 7, 182, 0, 202, 42, 182, 1, 99, 3, 172]
abbrev dktX4_executes_1 : List UInt8 := dkwX4_executes_1 ++ dktX4_executes_2
def dkwX4_executes_0 : List UInt8 := [42, 180, 0, 145, 42, 180, 0, 169, 182, 1, 88, 76, 43, 199, 0, 8, 42, 180, 0, 14, 191, 43]
abbrev dktX4_executes_0 : List UInt8 := dkwX4_executes_0 ++ dktX4_executes_1
theorem dksX4_executes_0 : cX4_executes.data.toList.drop 0 = dktX4_executes_0 := by decide +kernel
theorem dksX4_executes_1 : cX4_executes.data.toList.drop 22 = dktX4_executes_1 := dk_seg dksX4_executes_0 22 rfl rfl
theorem dksX4_executes_2 : cX4_executes.data.toList.drop 46 = dktX4_executes_2 := dk_seg dksX4_executes_1 24 rfl rfl
theorem dksX4_executes_3 : cX4_executes.data.toList.drop 70 = dktX4_executes_3 := dk_seg dksX4_executes_2 24 rfl rfl
theorem dksX4_executes_4 : cX4_executes.data.toList.drop 93 = dktX4_executes_4 := dk_seg dksX4_executes_3 23 rfl rfl
theorem dksX4_executes_5 : cX4_executes.data.toList.drop 117 = dktX4_executes_5 := dk_seg dksX4_executes_4 24 rfl rfl
theorem dX4_executes_0 : decode cX4_executes 0 = .ok (.aload_n 0, 1) := dk_42 (dk_at dksX4_executes_0 0 rfl rfl)
theorem dX4_executes_1 : decode cX4_executes 1 = .ok (.getfield 145, 3) := dk_180 0 145 (dk_at dksX4_executes_0 1 rfl rfl)
theorem dX4_executes_4 : decode cX4_executes 4 = .ok (.aload_n 0, 1) := dk_42 (dk_at dksX4_executes_0 4 rfl rfl)
theorem dX4_executes_5 : decode cX4_executes 5 = .ok (.getfield 169, 3) := dk_180 0 169 (dk_at dksX4_executes_0 5 rfl rfl)
theorem dX4_executes_8 : decode cX4_executes 8 = .ok (.invokevirtual 344, 3) := dk_182 1 88 (dk_at dksX4_executes_0 8 rfl rfl)
theorem dX4_executes_11 : decode cX4_executes 11 = .ok (.astore_n 1, 1) := dk_76 (dk_at dksX4_executes_0 11 rfl rfl)
theorem dX4_executes_12 : decode cX4_executes 12 = .ok (.aload_n 1, 1) := dk_43 (dk_at dksX4_executes_0 12 rfl rfl)
theorem dX4_executes_13 : decode cX4_executes 13 = .ok (.ifnonnull 8, 3) := dk_199 0 8 (dk_at dksX4_executes_0 13 rfl rfl)
theorem dX4_executes_16 : decode cX4_executes 16 = .ok (.aload_n 0, 1) := dk_42 (dk_at dksX4_executes_0 16 rfl rfl)
theorem dX4_executes_17 : decode cX4_executes 17 = .ok (.getfield 14, 3) := dk_180 0 14 (dk_at dksX4_executes_0 17 rfl rfl)
theorem dX4_executes_20 : decode cX4_executes 20 = .ok (.athrow, 1) := dk_191 (dk_at dksX4_executes_0 20 rfl rfl)
theorem dX4_executes_21 : decode cX4_executes 21 = .ok (.aload_n 1, 1) := dk_43 (dk_at dksX4_executes_0 21 rfl rfl)
theorem dX4_executes_22 : decode cX4_executes 22 = .ok (.invokevirtual 350, 3) := dk_182 1 94 (dk_at dksX4_executes_1 0 rfl rfl)
theorem dX4_executes_25 : decode cX4_executes 25 = .ok (.ifCond .eq 21, 3) := dk_153 0 21 (dk_at dksX4_executes_1 3 rfl rfl)
theorem dX4_executes_28 : decode cX4_executes 28 = .ok (.aload_n 0, 1) := dk_42 (dk_at dksX4_executes_1 6 rfl rfl)
theorem dX4_executes_29 : decode cX4_executes 29 = .ok (.getfield 135, 3) := dk_180 0 135 (dk_at dksX4_executes_1 7 rfl rfl)
theorem dX4_executes_32 : decode cX4_executes 32 = .ok (.ifCond .lt 14, 3) := dk_155 0 14 (dk_at dksX4_executes_1 10 rfl rfl)
theorem dX4_executes_35 : decode cX4_executes 35 = .ok (.aload_n 0, 1) := dk_42 (dk_at dksX4_executes_1 13 rfl rfl)
theorem dX4_executes_36 : decode cX4_executes 36 = .ok (.iconst 4, 1) := dk_7 (dk_at dksX4_executes_1 14 rfl rfl)
theorem dX4_executes_37 : decode cX4_executes 37 = .ok (.invokevirtual 202, 3) := dk_182 0 202 (dk_at dksX4_executes_1 15 rfl rfl)
theorem dX4_executes_40 : decode cX4_executes 40 = .ok (.aload_n 0, 1) := dk_42 (dk_at dksX4_executes_1 18 rfl rfl)
theorem dX4_executes_41 : decode cX4_executes 41 = .ok (.invokevirtual 355, 3) := dk_182 1 99 (dk_at dksX4_executes_1 19 rfl rfl)
theorem dX4_executes_44 : decode cX4_executes 44 = .ok (.iconst 0, 1) := dk_3 (dk_at dksX4_executes_1 22 rfl rfl)
theorem dX4_executes_45 : decode cX4_executes 45 = .ok (.ireturn, 1) := dk_172 (dk_at dksX4_executes_1 23 rfl rfl)
theorem dX4_executes_46 : decode cX4_executes 46 = .ok (.aload_n 0, 1) := dk_42 (dk_at dksX4_executes_2 0 rfl rfl)
theorem dX4_executes_47 : decode cX4_executes 47 = .ok (.getfield 145, 3) := dk_180 0 145 (dk_at dksX4_executes_2 1 rfl rfl)
theorem dX4_executes_50 : decode cX4_executes 50 = .ok (.aload_n 0, 1) := dk_42 (dk_at dksX4_executes_2 4 rfl rfl)
theorem dX4_executes_51 : decode cX4_executes 51 = .ok (.getfield 169, 3) := dk_180 0 169 (dk_at dksX4_executes_2 5 rfl rfl)
theorem dX4_executes_54 : decode cX4_executes 54 = .ok (.iconst 1, 1) := dk_4 (dk_at dksX4_executes_2 8 rfl rfl)
theorem dX4_executes_55 : decode cX4_executes 55 = .ok (.iadd, 1) := dk_96 (dk_at dksX4_executes_2 9 rfl rfl)
theorem dX4_executes_56 : decode cX4_executes 56 = .ok (.invokevirtual 358, 3) := dk_182 1 102 (dk_at dksX4_executes_2 10 rfl rfl)
theorem dX4_executes_59 : decode cX4_executes 59 = .ok (.istore_n 2, 1) := dk_61 (dk_at dksX4_executes_2 13 rfl rfl)
theorem dX4_executes_60 : decode cX4_executes 60 = .ok (.aload_n 0, 1) := dk_42 (dk_at dksX4_executes_2 14 rfl rfl)
theorem dX4_executes_61 : decode cX4_executes 61 = .ok (.getfield 145, 3) := dk_180 0 145 (dk_at dksX4_executes_2 15 rfl rfl)
theorem dX4_executes_64 : decode cX4_executes 64 = .ok (.aload_n 0, 1) := dk_42 (dk_at dksX4_executes_2 18 rfl rfl)
theorem dX4_executes_65 : decode cX4_executes 65 = .ok (.getfield 169, 3) := dk_180 0 169 (dk_at dksX4_executes_2 19 rfl rfl)
theorem dX4_executes_68 : decode cX4_executes 68 = .ok (.iconst 2, 1) := dk_5 (dk_at dksX4_executes_2 22 rfl rfl)
theorem dX4_executes_69 : decode cX4_executes 69 = .ok (.iadd, 1) := dk_96 (dk_at dksX4_executes_2 23 rfl rfl)
theorem dX4_executes_70 : decode cX4_executes 70 = .ok (.invokevirtual 358, 3) := dk_182 1 102 (dk_at dksX4_executes_3 0 rfl rfl)
theorem dX4_executes_73 : decode cX4_executes 73 = .ok (.istore_n 3, 1) := dk_62 (dk_at dksX4_executes_3 3 rfl rfl)
theorem dX4_executes_74 : decode cX4_executes 74 = .ok (.aload_n 0, 1) := dk_42 (dk_at dksX4_executes_3 4 rfl rfl)
theorem dX4_executes_75 : decode cX4_executes 75 = .ok (.aload_n 0, 1) := dk_42 (dk_at dksX4_executes_3 5 rfl rfl)
theorem dX4_executes_76 : decode cX4_executes 76 = .ok (.getfield 169, 3) := dk_180 0 169 (dk_at dksX4_executes_3 6 rfl rfl)
theorem dX4_executes_79 : decode cX4_executes 79 = .ok (.aload_n 1, 1) := dk_43 (dk_at dksX4_executes_3 9 rfl rfl)
theorem dX4_executes_80 : decode cX4_executes 80 = .ok (.getfield 361, 3) := dk_180 1 105 (dk_at dksX4_executes_3 10 rfl rfl)
theorem dX4_executes_83 : decode cX4_executes 83 = .ok (.iadd, 1) := dk_96 (dk_at dksX4_executes_3 13 rfl rfl)
theorem dX4_executes_84 : decode cX4_executes 84 = .ok (.sipush 511, 3) := dk_17 1 255 (dk_at dksX4_executes_3 14 rfl rfl)
theorem dX4_executes_87 : decode cX4_executes 87 = .ok (.iand, 1) := dk_126 (dk_at dksX4_executes_3 17 rfl rfl)
theorem dX4_executes_88 : decode cX4_executes 88 = .ok (.putfield 169, 3) := dk_181 0 169 (dk_at dksX4_executes_3 18 rfl rfl)
theorem dX4_executes_91 : decode cX4_executes 91 = .ok (.aload_n 0, 1) := dk_42 (dk_at dksX4_executes_3 21 rfl rfl)
theorem dX4_executes_92 : decode cX4_executes 92 = .ok (.aload_n 1, 1) := dk_43 (dk_at dksX4_executes_3 22 rfl rfl)
theorem dX4_executes_93 : decode cX4_executes 93 = .ok (.getfield 364, 3) := dk_180 1 108 (dk_at dksX4_executes_4 0 rfl rfl)
theorem dX4_executes_96 : decode cX4_executes 96 = .ok (.iconst 1, 1) := dk_4 (dk_at dksX4_executes_4 3 rfl rfl)
theorem dX4_executes_97 : decode cX4_executes 97 = .ok (.isub, 1) := dk_100 (dk_at dksX4_executes_4 4 rfl rfl)
theorem dX4_executes_98 : decode cX4_executes 98 = .ok (.putfield 208, 3) := dk_181 0 208 (dk_at dksX4_executes_4 5 rfl rfl)
theorem dX4_executes_101 : decode cX4_executes 101 = .ok (.aload_n 1, 1) := dk_43 (dk_at dksX4_executes_4 8 rfl rfl)
theorem dX4_executes_102 : decode cX4_executes 102 = .ok (.aload_n 0, 1) := dk_42 (dk_at dksX4_executes_4 9 rfl rfl)
theorem dX4_executes_103 : decode cX4_executes 103 = .ok (.iload_n 2, 1) := dk_28 (dk_at dksX4_executes_4 10 rfl rfl)
theorem dX4_executes_104 : decode cX4_executes 104 = .ok (.iload_n 3, 1) := dk_29 (dk_at dksX4_executes_4 11 rfl rfl)
theorem dX4_executes_105 : decode cX4_executes 105 = .ok (.invokevirtual 367, 3) := dk_182 1 111 (dk_at dksX4_executes_4 12 rfl rfl)
theorem dX4_executes_108 : decode cX4_executes 108 = .ok (.aload_n 1, 1) := dk_43 (dk_at dksX4_executes_4 15 rfl rfl)
theorem dX4_executes_109 : decode cX4_executes 109 = .ok (.invokevirtual 350, 3) := dk_182 1 94 (dk_at dksX4_executes_4 16 rfl rfl)
theorem dX4_executes_112 : decode cX4_executes 112 = .ok (.ifCond .eq 8, 3) := dk_153 0 8 (dk_at dksX4_executes_4 19 rfl rfl)
theorem dX4_executes_115 : decode cX4_executes 115 = .ok (.aload_n 0, 1) := dk_42 (dk_at dksX4_executes_4 22 rfl rfl)
theorem dX4_executes_116 : decode cX4_executes 116 = .ok (.iconst 1, 1) := dk_4 (dk_at dksX4_executes_4 23 rfl rfl)
theorem dX4_executes_117 : decode cX4_executes 117 = .ok (.putfield 215, 3) := dk_181 0 215 (dk_at dksX4_executes_5 0 rfl rfl)
theorem dX4_executes_120 : decode cX4_executes 120 = .ok (.iconst 1, 1) := dk_4 (dk_at dksX4_executes_5 3 rfl rfl)
theorem dX4_executes_121 : decode cX4_executes 121 = .ok (.ireturn, 1) := dk_172 (dk_at dksX4_executes_5 4 rfl rfl)
abbrev cX4_saving : ByteArray := prog_8_method_32_code
def yX4_saving : MethodName := ⟨RX4, "saving", "()V"⟩
def dkwX4_saving_2 : List UInt8 := [2, 181, 0, 135, 42, 180, 0, 52, 8, 92, 46, 4, 96, 79, 42, 3, 182, 0, 202, 177]
abbrev dktX4_saving_2 : List UInt8 := dkwX4_saving_2 ++ []
def dkwX4_saving_1 : List UInt8 := [184, 1, 114, 79, 42, 89, 180, 0, 205, 4, 96, 181, 0, 205, 42, 180, 0, 205, 7, 162, 0, 4, 177, 42]
abbrev dktX4_saving_1 : List UInt8 := dkwX4_saving_1 ++ dktX4_saving_2
def dkwX4_saving_0 : List UInt8 := [42, 180, 0, 34, 42, 180, 0, 135, 42, 180, 0, 205, 96, 42, 180, 0, 27, 42, 180, 0, 205, 48]
abbrev dktX4_saving_0 : List UInt8 := dkwX4_saving_0 ++ dktX4_saving_1
theorem dksX4_saving_0 : cX4_saving.data.toList.drop 0 = dktX4_saving_0 := by decide +kernel
theorem dksX4_saving_1 : cX4_saving.data.toList.drop 22 = dktX4_saving_1 := dk_seg dksX4_saving_0 22 rfl rfl
theorem dksX4_saving_2 : cX4_saving.data.toList.drop 46 = dktX4_saving_2 := dk_seg dksX4_saving_1 24 rfl rfl
theorem dX4_saving_0 : decode cX4_saving 0 = .ok (.aload_n 0, 1) := dk_42 (dk_at dksX4_saving_0 0 rfl rfl)
theorem dX4_saving_1 : decode cX4_saving 1 = .ok (.getfield 34, 3) := dk_180 0 34 (dk_at dksX4_saving_0 1 rfl rfl)
theorem dX4_saving_4 : decode cX4_saving 4 = .ok (.aload_n 0, 1) := dk_42 (dk_at dksX4_saving_0 4 rfl rfl)
theorem dX4_saving_5 : decode cX4_saving 5 = .ok (.getfield 135, 3) := dk_180 0 135 (dk_at dksX4_saving_0 5 rfl rfl)
theorem dX4_saving_8 : decode cX4_saving 8 = .ok (.aload_n 0, 1) := dk_42 (dk_at dksX4_saving_0 8 rfl rfl)
theorem dX4_saving_9 : decode cX4_saving 9 = .ok (.getfield 205, 3) := dk_180 0 205 (dk_at dksX4_saving_0 9 rfl rfl)
theorem dX4_saving_12 : decode cX4_saving 12 = .ok (.iadd, 1) := dk_96 (dk_at dksX4_saving_0 12 rfl rfl)
theorem dX4_saving_13 : decode cX4_saving 13 = .ok (.aload_n 0, 1) := dk_42 (dk_at dksX4_saving_0 13 rfl rfl)
theorem dX4_saving_14 : decode cX4_saving 14 = .ok (.getfield 27, 3) := dk_180 0 27 (dk_at dksX4_saving_0 14 rfl rfl)
theorem dX4_saving_17 : decode cX4_saving 17 = .ok (.aload_n 0, 1) := dk_42 (dk_at dksX4_saving_0 17 rfl rfl)
theorem dX4_saving_18 : decode cX4_saving 18 = .ok (.getfield 205, 3) := dk_180 0 205 (dk_at dksX4_saving_0 18 rfl rfl)
theorem dX4_saving_21 : decode cX4_saving 21 = .ok (.faload, 1) := dk_48 (dk_at dksX4_saving_0 21 rfl rfl)
theorem dX4_saving_22 : decode cX4_saving 22 = .ok (.invokestatic 370, 3) := dk_184 1 114 (dk_at dksX4_saving_1 0 rfl rfl)
theorem dX4_saving_25 : decode cX4_saving 25 = .ok (.iastore, 1) := dk_79 (dk_at dksX4_saving_1 3 rfl rfl)
theorem dX4_saving_26 : decode cX4_saving 26 = .ok (.aload_n 0, 1) := dk_42 (dk_at dksX4_saving_1 4 rfl rfl)
theorem dX4_saving_27 : decode cX4_saving 27 = .ok (.dup, 1) := dk_89 (dk_at dksX4_saving_1 5 rfl rfl)
theorem dX4_saving_28 : decode cX4_saving 28 = .ok (.getfield 205, 3) := dk_180 0 205 (dk_at dksX4_saving_1 6 rfl rfl)
theorem dX4_saving_31 : decode cX4_saving 31 = .ok (.iconst 1, 1) := dk_4 (dk_at dksX4_saving_1 9 rfl rfl)
theorem dX4_saving_32 : decode cX4_saving 32 = .ok (.iadd, 1) := dk_96 (dk_at dksX4_saving_1 10 rfl rfl)
theorem dX4_saving_33 : decode cX4_saving 33 = .ok (.putfield 205, 3) := dk_181 0 205 (dk_at dksX4_saving_1 11 rfl rfl)
theorem dX4_saving_36 : decode cX4_saving 36 = .ok (.aload_n 0, 1) := dk_42 (dk_at dksX4_saving_1 14 rfl rfl)
theorem dX4_saving_37 : decode cX4_saving 37 = .ok (.getfield 205, 3) := dk_180 0 205 (dk_at dksX4_saving_1 15 rfl rfl)
theorem dX4_saving_40 : decode cX4_saving 40 = .ok (.iconst 4, 1) := dk_7 (dk_at dksX4_saving_1 18 rfl rfl)
theorem dX4_saving_41 : decode cX4_saving 41 = .ok (.if_icmp .ge 4, 3) := dk_162 0 4 (dk_at dksX4_saving_1 19 rfl rfl)
theorem dX4_saving_44 : decode cX4_saving 44 = .ok (.return_, 1) := dk_177 (dk_at dksX4_saving_1 22 rfl rfl)
theorem dX4_saving_45 : decode cX4_saving 45 = .ok (.aload_n 0, 1) := dk_42 (dk_at dksX4_saving_1 23 rfl rfl)
theorem dX4_saving_46 : decode cX4_saving 46 = .ok (.iconst (-1), 1) := dk_2 (dk_at dksX4_saving_2 0 rfl rfl)
theorem dX4_saving_47 : decode cX4_saving 47 = .ok (.putfield 135, 3) := dk_181 0 135 (dk_at dksX4_saving_2 1 rfl rfl)
theorem dX4_saving_50 : decode cX4_saving 50 = .ok (.aload_n 0, 1) := dk_42 (dk_at dksX4_saving_2 4 rfl rfl)
theorem dX4_saving_51 : decode cX4_saving 51 = .ok (.getfield 52, 3) := dk_180 0 52 (dk_at dksX4_saving_2 5 rfl rfl)
theorem dX4_saving_54 : decode cX4_saving 54 = .ok (.iconst 5, 1) := dk_8 (dk_at dksX4_saving_2 8 rfl rfl)
theorem dX4_saving_55 : decode cX4_saving 55 = .ok (.dup2, 1) := dk_92 (dk_at dksX4_saving_2 9 rfl rfl)
theorem dX4_saving_56 : decode cX4_saving 56 = .ok (.iaload, 1) := dk_46 (dk_at dksX4_saving_2 10 rfl rfl)
theorem dX4_saving_57 : decode cX4_saving 57 = .ok (.iconst 1, 1) := dk_4 (dk_at dksX4_saving_2 11 rfl rfl)
theorem dX4_saving_58 : decode cX4_saving 58 = .ok (.iadd, 1) := dk_96 (dk_at dksX4_saving_2 12 rfl rfl)
theorem dX4_saving_59 : decode cX4_saving 59 = .ok (.iastore, 1) := dk_79 (dk_at dksX4_saving_2 13 rfl rfl)
theorem dX4_saving_60 : decode cX4_saving 60 = .ok (.aload_n 0, 1) := dk_42 (dk_at dksX4_saving_2 14 rfl rfl)
theorem dX4_saving_61 : decode cX4_saving 61 = .ok (.iconst 0, 1) := dk_3 (dk_at dksX4_saving_2 15 rfl rfl)
theorem dX4_saving_62 : decode cX4_saving 62 = .ok (.invokevirtual 202, 3) := dk_182 0 202 (dk_at dksX4_saving_2 16 rfl rfl)
theorem dX4_saving_65 : decode cX4_saving 65 = .ok (.return_, 1) := dk_177 (dk_at dksX4_saving_2 19 rfl rfl)
abbrev cX4_sets : ByteArray := prog_8_method_6_code
def yX4_sets : MethodName := ⟨RX4, "sets", "(II)V"⟩
def dkwX4_sets_0 : List UInt8 := [42, 180, 0, 23, 27, 16, 7, 126, 28, 79, 177]
abbrev dktX4_sets_0 : List UInt8 := dkwX4_sets_0 ++ []
theorem dksX4_sets_0 : cX4_sets.data.toList.drop 0 = dktX4_sets_0 := by decide +kernel
theorem dX4_sets_0 : decode cX4_sets 0 = .ok (.aload_n 0, 1) := dk_42 (dk_at dksX4_sets_0 0 rfl rfl)
theorem dX4_sets_1 : decode cX4_sets 1 = .ok (.getfield 23, 3) := dk_180 0 23 (dk_at dksX4_sets_0 1 rfl rfl)
theorem dX4_sets_4 : decode cX4_sets 4 = .ok (.iload_n 1, 1) := dk_27 (dk_at dksX4_sets_0 4 rfl rfl)
theorem dX4_sets_5 : decode cX4_sets 5 = .ok (.bipush 7, 2) := dk_16 7 (dk_at dksX4_sets_0 5 rfl rfl)
theorem dX4_sets_7 : decode cX4_sets 7 = .ok (.iand, 1) := dk_126 (dk_at dksX4_sets_0 7 rfl rfl)
theorem dX4_sets_8 : decode cX4_sets 8 = .ok (.iload_n 2, 1) := dk_28 (dk_at dksX4_sets_0 8 rfl rfl)
theorem dX4_sets_9 : decode cX4_sets 9 = .ok (.iastore, 1) := dk_79 (dk_at dksX4_sets_0 9 rfl rfl)
theorem dX4_sets_10 : decode cX4_sets 10 = .ok (.return_, 1) := dk_177 (dk_at dksX4_sets_0 10 rfl rfl)
abbrev cX4_needs : ByteArray := prog_8_method_8_code
def yX4_needs : MethodName := ⟨RX4, "needs", "(I)V"⟩
def dkwX4_needs_0 : List UInt8 := [42, 180, 0, 172, 27, 162, 0, 8, 42, 180, 0, 20, 191, 177]
abbrev dktX4_needs_0 : List UInt8 := dkwX4_needs_0 ++ []
theorem dksX4_needs_0 : cX4_needs.data.toList.drop 0 = dktX4_needs_0 := by decide +kernel
theorem dX4_needs_0 : decode cX4_needs 0 = .ok (.aload_n 0, 1) := dk_42 (dk_at dksX4_needs_0 0 rfl rfl)
theorem dX4_needs_1 : decode cX4_needs 1 = .ok (.getfield 172, 3) := dk_180 0 172 (dk_at dksX4_needs_0 1 rfl rfl)
theorem dX4_needs_4 : decode cX4_needs 4 = .ok (.iload_n 1, 1) := dk_27 (dk_at dksX4_needs_0 4 rfl rfl)
theorem dX4_needs_5 : decode cX4_needs 5 = .ok (.if_icmp .ge 8, 3) := dk_162 0 8 (dk_at dksX4_needs_0 5 rfl rfl)
theorem dX4_needs_8 : decode cX4_needs 8 = .ok (.aload_n 0, 1) := dk_42 (dk_at dksX4_needs_0 8 rfl rfl)
theorem dX4_needs_9 : decode cX4_needs 9 = .ok (.getfield 20, 3) := dk_180 0 20 (dk_at dksX4_needs_0 9 rfl rfl)
theorem dX4_needs_12 : decode cX4_needs 12 = .ok (.athrow, 1) := dk_191 (dk_at dksX4_needs_0 12 rfl rfl)
theorem dX4_needs_13 : decode cX4_needs 13 = .ok (.return_, 1) := dk_177 (dk_at dksX4_needs_0 13 rfl rfl)
abbrev cX4_ends : ByteArray := prog_8_method_14_code
def yX4_ends : MethodName := ⟨RX4, "ends", "()V"⟩
def dkwX4_ends_4 : List UInt8 := [42, 182, 1, 22, 185, 1, 26, 2, 0, 153, 0, 7, 5, 167, 0, 4, 6, 182, 0, 202, 177]
abbrev dktX4_ends_4 : List UInt8 := dkwX4_ends_4 ++ []
def dkwX4_ends_3 : List UInt8 := [182, 1, 10, 43, 182, 1, 14, 153, 0, 12, 42, 43, 180, 1, 1, 182, 1, 18, 87, 42, 42, 180, 0, 124]
abbrev dktX4_ends_3 : List UInt8 := dkwX4_ends_3 ++ dktX4_ends_4
def dkwX4_ends_2 : List UInt8 := [187, 0, 255, 89, 43, 180, 1, 1, 42, 180, 0, 187, 42, 180, 0, 187, 43, 180, 1, 4, 100, 183, 1, 7]
abbrev dktX4_ends_2 : List UInt8 := dkwX4_ends_2 ++ dktX4_ends_3
def dkwX4_ends_1 : List UInt8 := [180, 0, 39, 42, 180, 0, 43, 42, 180, 0, 175, 46, 50, 76, 42, 180, 0, 227, 154, 0, 31, 42]
abbrev dktX4_ends_1 : List UInt8 := dkwX4_ends_1 ++ dktX4_ends_2
def dkwX4_ends_0 : List UInt8 := [42, 180, 0, 175, 154, 0, 8, 42, 180, 0, 14, 191, 42, 89, 180, 0, 175, 4, 100, 181, 0, 175, 42]
abbrev dktX4_ends_0 : List UInt8 := dkwX4_ends_0 ++ dktX4_ends_1
theorem dksX4_ends_0 : cX4_ends.data.toList.drop 0 = dktX4_ends_0 := by decide +kernel
theorem dksX4_ends_1 : cX4_ends.data.toList.drop 23 = dktX4_ends_1 := dk_seg dksX4_ends_0 23 rfl rfl
theorem dksX4_ends_2 : cX4_ends.data.toList.drop 45 = dktX4_ends_2 := dk_seg dksX4_ends_1 22 rfl rfl
theorem dksX4_ends_3 : cX4_ends.data.toList.drop 69 = dktX4_ends_3 := dk_seg dksX4_ends_2 24 rfl rfl
theorem dksX4_ends_4 : cX4_ends.data.toList.drop 93 = dktX4_ends_4 := dk_seg dksX4_ends_3 24 rfl rfl
theorem dX4_ends_0 : decode cX4_ends 0 = .ok (.aload_n 0, 1) := dk_42 (dk_at dksX4_ends_0 0 rfl rfl)
theorem dX4_ends_1 : decode cX4_ends 1 = .ok (.getfield 175, 3) := dk_180 0 175 (dk_at dksX4_ends_0 1 rfl rfl)
theorem dX4_ends_4 : decode cX4_ends 4 = .ok (.ifCond .ne 8, 3) := dk_154 0 8 (dk_at dksX4_ends_0 4 rfl rfl)
theorem dX4_ends_7 : decode cX4_ends 7 = .ok (.aload_n 0, 1) := dk_42 (dk_at dksX4_ends_0 7 rfl rfl)
theorem dX4_ends_8 : decode cX4_ends 8 = .ok (.getfield 14, 3) := dk_180 0 14 (dk_at dksX4_ends_0 8 rfl rfl)
theorem dX4_ends_11 : decode cX4_ends 11 = .ok (.athrow, 1) := dk_191 (dk_at dksX4_ends_0 11 rfl rfl)
theorem dX4_ends_12 : decode cX4_ends 12 = .ok (.aload_n 0, 1) := dk_42 (dk_at dksX4_ends_0 12 rfl rfl)
theorem dX4_ends_13 : decode cX4_ends 13 = .ok (.dup, 1) := dk_89 (dk_at dksX4_ends_0 13 rfl rfl)
theorem dX4_ends_14 : decode cX4_ends 14 = .ok (.getfield 175, 3) := dk_180 0 175 (dk_at dksX4_ends_0 14 rfl rfl)
theorem dX4_ends_17 : decode cX4_ends 17 = .ok (.iconst 1, 1) := dk_4 (dk_at dksX4_ends_0 17 rfl rfl)
theorem dX4_ends_18 : decode cX4_ends 18 = .ok (.isub, 1) := dk_100 (dk_at dksX4_ends_0 18 rfl rfl)
theorem dX4_ends_19 : decode cX4_ends 19 = .ok (.putfield 175, 3) := dk_181 0 175 (dk_at dksX4_ends_0 19 rfl rfl)
theorem dX4_ends_22 : decode cX4_ends 22 = .ok (.aload_n 0, 1) := dk_42 (dk_at dksX4_ends_0 22 rfl rfl)
theorem dX4_ends_23 : decode cX4_ends 23 = .ok (.getfield 39, 3) := dk_180 0 39 (dk_at dksX4_ends_1 0 rfl rfl)
theorem dX4_ends_26 : decode cX4_ends 26 = .ok (.aload_n 0, 1) := dk_42 (dk_at dksX4_ends_1 3 rfl rfl)
theorem dX4_ends_27 : decode cX4_ends 27 = .ok (.getfield 43, 3) := dk_180 0 43 (dk_at dksX4_ends_1 4 rfl rfl)
theorem dX4_ends_30 : decode cX4_ends 30 = .ok (.aload_n 0, 1) := dk_42 (dk_at dksX4_ends_1 7 rfl rfl)
theorem dX4_ends_31 : decode cX4_ends 31 = .ok (.getfield 175, 3) := dk_180 0 175 (dk_at dksX4_ends_1 8 rfl rfl)
theorem dX4_ends_34 : decode cX4_ends 34 = .ok (.iaload, 1) := dk_46 (dk_at dksX4_ends_1 11 rfl rfl)
theorem dX4_ends_35 : decode cX4_ends 35 = .ok (.aaload, 1) := dk_50 (dk_at dksX4_ends_1 12 rfl rfl)
theorem dX4_ends_36 : decode cX4_ends 36 = .ok (.astore_n 1, 1) := dk_76 (dk_at dksX4_ends_1 13 rfl rfl)
theorem dX4_ends_37 : decode cX4_ends 37 = .ok (.aload_n 0, 1) := dk_42 (dk_at dksX4_ends_1 14 rfl rfl)
theorem dX4_ends_38 : decode cX4_ends 38 = .ok (.getfield 227, 3) := dk_180 0 227 (dk_at dksX4_ends_1 15 rfl rfl)
theorem dX4_ends_41 : decode cX4_ends 41 = .ok (.ifCond .ne 31, 3) := dk_154 0 31 (dk_at dksX4_ends_1 18 rfl rfl)
theorem dX4_ends_44 : decode cX4_ends 44 = .ok (.aload_n 0, 1) := dk_42 (dk_at dksX4_ends_1 21 rfl rfl)
theorem dX4_ends_45 : decode cX4_ends 45 = .ok (.new 255, 3) := dk_187 0 255 (dk_at dksX4_ends_2 0 rfl rfl)
theorem dX4_ends_48 : decode cX4_ends 48 = .ok (.dup, 1) := dk_89 (dk_at dksX4_ends_2 3 rfl rfl)
theorem dX4_ends_49 : decode cX4_ends 49 = .ok (.aload_n 1, 1) := dk_43 (dk_at dksX4_ends_2 4 rfl rfl)
theorem dX4_ends_50 : decode cX4_ends 50 = .ok (.getfield 257, 3) := dk_180 1 1 (dk_at dksX4_ends_2 5 rfl rfl)
theorem dX4_ends_53 : decode cX4_ends 53 = .ok (.aload_n 0, 1) := dk_42 (dk_at dksX4_ends_2 8 rfl rfl)
theorem dX4_ends_54 : decode cX4_ends 54 = .ok (.getfield 187, 3) := dk_180 0 187 (dk_at dksX4_ends_2 9 rfl rfl)
theorem dX4_ends_57 : decode cX4_ends 57 = .ok (.aload_n 0, 1) := dk_42 (dk_at dksX4_ends_2 12 rfl rfl)
theorem dX4_ends_58 : decode cX4_ends 58 = .ok (.getfield 187, 3) := dk_180 0 187 (dk_at dksX4_ends_2 13 rfl rfl)
theorem dX4_ends_61 : decode cX4_ends 61 = .ok (.aload_n 1, 1) := dk_43 (dk_at dksX4_ends_2 16 rfl rfl)
theorem dX4_ends_62 : decode cX4_ends 62 = .ok (.getfield 260, 3) := dk_180 1 4 (dk_at dksX4_ends_2 17 rfl rfl)
theorem dX4_ends_65 : decode cX4_ends 65 = .ok (.isub, 1) := dk_100 (dk_at dksX4_ends_2 20 rfl rfl)
theorem dX4_ends_66 : decode cX4_ends 66 = .ok (.invokespecial 263, 3) := dk_183 1 7 (dk_at dksX4_ends_2 21 rfl rfl)
theorem dX4_ends_69 : decode cX4_ends 69 = .ok (.invokevirtual 266, 3) := dk_182 1 10 (dk_at dksX4_ends_3 0 rfl rfl)
theorem dX4_ends_72 : decode cX4_ends 72 = .ok (.aload_n 1, 1) := dk_43 (dk_at dksX4_ends_3 3 rfl rfl)
theorem dX4_ends_73 : decode cX4_ends 73 = .ok (.invokevirtual 270, 3) := dk_182 1 14 (dk_at dksX4_ends_3 4 rfl rfl)
theorem dX4_ends_76 : decode cX4_ends 76 = .ok (.ifCond .eq 12, 3) := dk_153 0 12 (dk_at dksX4_ends_3 7 rfl rfl)
theorem dX4_ends_79 : decode cX4_ends 79 = .ok (.aload_n 0, 1) := dk_42 (dk_at dksX4_ends_3 10 rfl rfl)
theorem dX4_ends_80 : decode cX4_ends 80 = .ok (.aload_n 1, 1) := dk_43 (dk_at dksX4_ends_3 11 rfl rfl)
theorem dX4_ends_81 : decode cX4_ends 81 = .ok (.getfield 257, 3) := dk_180 1 1 (dk_at dksX4_ends_3 12 rfl rfl)
theorem dX4_ends_84 : decode cX4_ends 84 = .ok (.invokevirtual 274, 3) := dk_182 1 18 (dk_at dksX4_ends_3 15 rfl rfl)
theorem dX4_ends_87 : decode cX4_ends 87 = .ok (.pop, 1) := dk_87 (dk_at dksX4_ends_3 18 rfl rfl)
theorem dX4_ends_88 : decode cX4_ends 88 = .ok (.aload_n 0, 1) := dk_42 (dk_at dksX4_ends_3 19 rfl rfl)
theorem dX4_ends_89 : decode cX4_ends 89 = .ok (.aload_n 0, 1) := dk_42 (dk_at dksX4_ends_3 20 rfl rfl)
theorem dX4_ends_90 : decode cX4_ends 90 = .ok (.getfield 124, 3) := dk_180 0 124 (dk_at dksX4_ends_3 21 rfl rfl)
theorem dX4_ends_93 : decode cX4_ends 93 = .ok (.aload_n 0, 1) := dk_42 (dk_at dksX4_ends_4 0 rfl rfl)
theorem dX4_ends_94 : decode cX4_ends 94 = .ok (.invokevirtual 278, 3) := dk_182 1 22 (dk_at dksX4_ends_4 1 rfl rfl)
theorem dX4_ends_97 : decode cX4_ends 97 = .ok (.invokeinterface 282 2, 5) := by decide +kernel
theorem dX4_ends_102 : decode cX4_ends 102 = .ok (.ifCond .eq 7, 3) := dk_153 0 7 (dk_at dksX4_ends_4 9 rfl rfl)
theorem dX4_ends_105 : decode cX4_ends 105 = .ok (.iconst 2, 1) := dk_5 (dk_at dksX4_ends_4 12 rfl rfl)
theorem dX4_ends_106 : decode cX4_ends 106 = .ok (.goto 4, 3) := dk_167 0 4 (dk_at dksX4_ends_4 13 rfl rfl)
theorem dX4_ends_109 : decode cX4_ends 109 = .ok (.iconst 3, 1) := dk_6 (dk_at dksX4_ends_4 16 rfl rfl)
theorem dX4_ends_110 : decode cX4_ends 110 = .ok (.invokevirtual 202, 3) := dk_182 0 202 (dk_at dksX4_ends_4 17 rfl rfl)
theorem dX4_ends_113 : decode cX4_ends 113 = .ok (.return_, 1) := dk_177 (dk_at dksX4_ends_4 20 rfl rfl)
abbrev cX4_reg : ByteArray := prog_8_method_5_code
def yX4_reg : MethodName := ⟨RX4, "reg", "(I)I"⟩
def dkwX4_reg_0 : List UInt8 := [42, 180, 0, 23, 27, 16, 7, 126, 46, 172]
abbrev dktX4_reg_0 : List UInt8 := dkwX4_reg_0 ++ []
theorem dksX4_reg_0 : cX4_reg.data.toList.drop 0 = dktX4_reg_0 := by decide +kernel
theorem dX4_reg_0 : decode cX4_reg 0 = .ok (.aload_n 0, 1) := dk_42 (dk_at dksX4_reg_0 0 rfl rfl)
theorem dX4_reg_1 : decode cX4_reg 1 = .ok (.getfield 23, 3) := dk_180 0 23 (dk_at dksX4_reg_0 1 rfl rfl)
theorem dX4_reg_4 : decode cX4_reg 4 = .ok (.iload_n 1, 1) := dk_27 (dk_at dksX4_reg_0 4 rfl rfl)
theorem dX4_reg_5 : decode cX4_reg 5 = .ok (.bipush 7, 2) := dk_16 7 (dk_at dksX4_reg_0 5 rfl rfl)
theorem dX4_reg_7 : decode cX4_reg 7 = .ok (.iand, 1) := dk_126 (dk_at dksX4_reg_0 7 rfl rfl)
theorem dX4_reg_8 : decode cX4_reg 8 = .ok (.iaload, 1) := dk_46 (dk_at dksX4_reg_0 8 rfl rfl)
theorem dX4_reg_9 : decode cX4_reg 9 = .ok (.ireturn, 1) := dk_172 (dk_at dksX4_reg_0 9 rfl rfl)
abbrev cX4_comes : ByteArray := prog_8_method_7_code
def yX4_comes : MethodName := ⟨RX4, "comes", "(II)V"⟩
def dkwX4_comes_1 : List UInt8 := [4, 167, 0, 4, 3, 181, 0, 166, 177]
abbrev dktX4_comes_1 : List UInt8 := dkwX4_comes_1 ++ []
def dkwX4_comes_0 : List UInt8 := [42, 27, 28, 182, 0, 242, 42, 28, 154, 0, 7, 4, 167, 0, 4, 3, 181, 0, 163, 42, 28, 156, 0, 7]
abbrev dktX4_comes_0 : List UInt8 := dkwX4_comes_0 ++ dktX4_comes_1
theorem dksX4_comes_0 : cX4_comes.data.toList.drop 0 = dktX4_comes_0 := by decide +kernel
theorem dksX4_comes_1 : cX4_comes.data.toList.drop 24 = dktX4_comes_1 := dk_seg dksX4_comes_0 24 rfl rfl
theorem dX4_comes_0 : decode cX4_comes 0 = .ok (.aload_n 0, 1) := dk_42 (dk_at dksX4_comes_0 0 rfl rfl)
theorem dX4_comes_1 : decode cX4_comes 1 = .ok (.iload_n 1, 1) := dk_27 (dk_at dksX4_comes_0 1 rfl rfl)
theorem dX4_comes_2 : decode cX4_comes 2 = .ok (.iload_n 2, 1) := dk_28 (dk_at dksX4_comes_0 2 rfl rfl)
theorem dX4_comes_3 : decode cX4_comes 3 = .ok (.invokevirtual 242, 3) := dk_182 0 242 (dk_at dksX4_comes_0 3 rfl rfl)
theorem dX4_comes_6 : decode cX4_comes 6 = .ok (.aload_n 0, 1) := dk_42 (dk_at dksX4_comes_0 6 rfl rfl)
theorem dX4_comes_7 : decode cX4_comes 7 = .ok (.iload_n 2, 1) := dk_28 (dk_at dksX4_comes_0 7 rfl rfl)
theorem dX4_comes_8 : decode cX4_comes 8 = .ok (.ifCond .ne 7, 3) := dk_154 0 7 (dk_at dksX4_comes_0 8 rfl rfl)
theorem dX4_comes_11 : decode cX4_comes 11 = .ok (.iconst 1, 1) := dk_4 (dk_at dksX4_comes_0 11 rfl rfl)
theorem dX4_comes_12 : decode cX4_comes 12 = .ok (.goto 4, 3) := dk_167 0 4 (dk_at dksX4_comes_0 12 rfl rfl)
theorem dX4_comes_15 : decode cX4_comes 15 = .ok (.iconst 0, 1) := dk_3 (dk_at dksX4_comes_0 15 rfl rfl)
theorem dX4_comes_16 : decode cX4_comes 16 = .ok (.putfield 163, 3) := dk_181 0 163 (dk_at dksX4_comes_0 16 rfl rfl)
theorem dX4_comes_19 : decode cX4_comes 19 = .ok (.aload_n 0, 1) := dk_42 (dk_at dksX4_comes_0 19 rfl rfl)
theorem dX4_comes_20 : decode cX4_comes 20 = .ok (.iload_n 2, 1) := dk_28 (dk_at dksX4_comes_0 20 rfl rfl)
theorem dX4_comes_21 : decode cX4_comes 21 = .ok (.ifCond .ge 7, 3) := dk_156 0 7 (dk_at dksX4_comes_0 21 rfl rfl)
theorem dX4_comes_24 : decode cX4_comes 24 = .ok (.iconst 1, 1) := dk_4 (dk_at dksX4_comes_1 0 rfl rfl)
theorem dX4_comes_25 : decode cX4_comes 25 = .ok (.goto 4, 3) := dk_167 0 4 (dk_at dksX4_comes_1 1 rfl rfl)
theorem dX4_comes_28 : decode cX4_comes 28 = .ok (.iconst 0, 1) := dk_3 (dk_at dksX4_comes_1 4 rfl rfl)
theorem dX4_comes_29 : decode cX4_comes 29 = .ok (.putfield 166, 3) := dk_181 0 166 (dk_at dksX4_comes_1 5 rfl rfl)
theorem dX4_comes_32 : decode cX4_comes 32 = .ok (.return_, 1) := dk_177 (dk_at dksX4_comes_1 8 rfl rfl)
abbrev cX4_setsFloat : ByteArray := prog_8_method_11_code
def yX4_setsFloat : MethodName := ⟨RX4, "setsFloat", "(IF)V"⟩
def dkwX4_setsFloat_0 : List UInt8 := [42, 180, 0, 27, 27, 6, 126, 36, 81, 177]
abbrev dktX4_setsFloat_0 : List UInt8 := dkwX4_setsFloat_0 ++ []
theorem dksX4_setsFloat_0 : cX4_setsFloat.data.toList.drop 0 = dktX4_setsFloat_0 := by decide +kernel
theorem dX4_setsFloat_0 : decode cX4_setsFloat 0 = .ok (.aload_n 0, 1) := dk_42 (dk_at dksX4_setsFloat_0 0 rfl rfl)
theorem dX4_setsFloat_1 : decode cX4_setsFloat 1 = .ok (.getfield 27, 3) := dk_180 0 27 (dk_at dksX4_setsFloat_0 1 rfl rfl)
theorem dX4_setsFloat_4 : decode cX4_setsFloat 4 = .ok (.iload_n 1, 1) := dk_27 (dk_at dksX4_setsFloat_0 4 rfl rfl)
theorem dX4_setsFloat_5 : decode cX4_setsFloat 5 = .ok (.iconst 3, 1) := dk_6 (dk_at dksX4_setsFloat_0 5 rfl rfl)
theorem dX4_setsFloat_6 : decode cX4_setsFloat 6 = .ok (.iand, 1) := dk_126 (dk_at dksX4_setsFloat_0 6 rfl rfl)
theorem dX4_setsFloat_7 : decode cX4_setsFloat 7 = .ok (.fload_n 2, 1) := dk_36 (dk_at dksX4_setsFloat_0 7 rfl rfl)
theorem dX4_setsFloat_8 : decode cX4_setsFloat 8 = .ok (.fastore, 1) := dk_81 (dk_at dksX4_setsFloat_0 8 rfl rfl)
theorem dX4_setsFloat_9 : decode cX4_setsFloat 9 = .ok (.return_, 1) := dk_177 (dk_at dksX4_setsFloat_0 9 rfl rfl)
abbrev cX4_comesFloat : ByteArray := prog_8_method_12_code
def yX4_comesFloat : MethodName := ⟨RX4, "comesFloat", "(IF)V"⟩
def dkwX4_comesFloat_1 : List UInt8 := [182, 0, 251, 177]
abbrev dktX4_comesFloat_1 : List UInt8 := dkwX4_comesFloat_1 ++ []
def dkwX4_comesFloat_0 : List UInt8 := [36, 18, 249, 149, 157, 0, 10, 36, 18, 250, 150, 156, 0, 8, 42, 180, 0, 14, 191, 42, 27, 36]
abbrev dktX4_comesFloat_0 : List UInt8 := dkwX4_comesFloat_0 ++ dktX4_comesFloat_1
theorem dksX4_comesFloat_0 : cX4_comesFloat.data.toList.drop 0 = dktX4_comesFloat_0 := by decide +kernel
theorem dksX4_comesFloat_1 : cX4_comesFloat.data.toList.drop 22 = dktX4_comesFloat_1 := dk_seg dksX4_comesFloat_0 22 rfl rfl
theorem dX4_comesFloat_0 : decode cX4_comesFloat 0 = .ok (.fload_n 2, 1) := dk_36 (dk_at dksX4_comesFloat_0 0 rfl rfl)
theorem dX4_comesFloat_1 : decode cX4_comesFloat 1 = .ok (.ldc 249, 2) := dk_18 249 (dk_at dksX4_comesFloat_0 1 rfl rfl)
theorem dX4_comesFloat_3 : decode cX4_comesFloat 3 = .ok (.fcmp .l, 1) := dk_149 (dk_at dksX4_comesFloat_0 3 rfl rfl)
theorem dX4_comesFloat_4 : decode cX4_comesFloat 4 = .ok (.ifCond .gt 10, 3) := dk_157 0 10 (dk_at dksX4_comesFloat_0 4 rfl rfl)
theorem dX4_comesFloat_7 : decode cX4_comesFloat 7 = .ok (.fload_n 2, 1) := dk_36 (dk_at dksX4_comesFloat_0 7 rfl rfl)
theorem dX4_comesFloat_8 : decode cX4_comesFloat 8 = .ok (.ldc 250, 2) := dk_18 250 (dk_at dksX4_comesFloat_0 8 rfl rfl)
theorem dX4_comesFloat_10 : decode cX4_comesFloat 10 = .ok (.fcmp .g, 1) := dk_150 (dk_at dksX4_comesFloat_0 10 rfl rfl)
theorem dX4_comesFloat_11 : decode cX4_comesFloat 11 = .ok (.ifCond .ge 8, 3) := dk_156 0 8 (dk_at dksX4_comesFloat_0 11 rfl rfl)
theorem dX4_comesFloat_14 : decode cX4_comesFloat 14 = .ok (.aload_n 0, 1) := dk_42 (dk_at dksX4_comesFloat_0 14 rfl rfl)
theorem dX4_comesFloat_15 : decode cX4_comesFloat 15 = .ok (.getfield 14, 3) := dk_180 0 14 (dk_at dksX4_comesFloat_0 15 rfl rfl)
theorem dX4_comesFloat_18 : decode cX4_comesFloat 18 = .ok (.athrow, 1) := dk_191 (dk_at dksX4_comesFloat_0 18 rfl rfl)
theorem dX4_comesFloat_19 : decode cX4_comesFloat 19 = .ok (.aload_n 0, 1) := dk_42 (dk_at dksX4_comesFloat_0 19 rfl rfl)
theorem dX4_comesFloat_20 : decode cX4_comesFloat 20 = .ok (.iload_n 1, 1) := dk_27 (dk_at dksX4_comesFloat_0 20 rfl rfl)
theorem dX4_comesFloat_21 : decode cX4_comesFloat 21 = .ok (.fload_n 2, 1) := dk_36 (dk_at dksX4_comesFloat_0 21 rfl rfl)
theorem dX4_comesFloat_22 : decode cX4_comesFloat 22 = .ok (.invokevirtual 251, 3) := dk_182 0 251 (dk_at dksX4_comesFloat_1 0 rfl rfl)
theorem dX4_comesFloat_25 : decode cX4_comesFloat 25 = .ok (.return_, 1) := dk_177 (dk_at dksX4_comesFloat_1 3 rfl rfl)
abbrev cX4_tells : ByteArray := prog_8_method_13_code
def yX4_tells : MethodName := ⟨RX4, "tells", "(I)V"⟩
def dkwX4_tells_1 : List UInt8 := [4, 96, 181, 0, 236, 177]
abbrev dktX4_tells_1 : List UInt8 := dkwX4_tells_1 ++ []
def dkwX4_tells_0 : List UInt8 := [42, 180, 0, 236, 16, 64, 162, 0, 13, 42, 180, 0, 55, 42, 180, 0, 236, 27, 79, 42, 89, 180, 0, 236]
abbrev dktX4_tells_0 : List UInt8 := dkwX4_tells_0 ++ dktX4_tells_1
theorem dksX4_tells_0 : cX4_tells.data.toList.drop 0 = dktX4_tells_0 := by decide +kernel
theorem dksX4_tells_1 : cX4_tells.data.toList.drop 24 = dktX4_tells_1 := dk_seg dksX4_tells_0 24 rfl rfl
theorem dX4_tells_0 : decode cX4_tells 0 = .ok (.aload_n 0, 1) := dk_42 (dk_at dksX4_tells_0 0 rfl rfl)
theorem dX4_tells_1 : decode cX4_tells 1 = .ok (.getfield 236, 3) := dk_180 0 236 (dk_at dksX4_tells_0 1 rfl rfl)
theorem dX4_tells_4 : decode cX4_tells 4 = .ok (.bipush 64, 2) := dk_16 64 (dk_at dksX4_tells_0 4 rfl rfl)
theorem dX4_tells_6 : decode cX4_tells 6 = .ok (.if_icmp .ge 13, 3) := dk_162 0 13 (dk_at dksX4_tells_0 6 rfl rfl)
theorem dX4_tells_9 : decode cX4_tells 9 = .ok (.aload_n 0, 1) := dk_42 (dk_at dksX4_tells_0 9 rfl rfl)
theorem dX4_tells_10 : decode cX4_tells 10 = .ok (.getfield 55, 3) := dk_180 0 55 (dk_at dksX4_tells_0 10 rfl rfl)
theorem dX4_tells_13 : decode cX4_tells 13 = .ok (.aload_n 0, 1) := dk_42 (dk_at dksX4_tells_0 13 rfl rfl)
theorem dX4_tells_14 : decode cX4_tells 14 = .ok (.getfield 236, 3) := dk_180 0 236 (dk_at dksX4_tells_0 14 rfl rfl)
theorem dX4_tells_17 : decode cX4_tells 17 = .ok (.iload_n 1, 1) := dk_27 (dk_at dksX4_tells_0 17 rfl rfl)
theorem dX4_tells_18 : decode cX4_tells 18 = .ok (.iastore, 1) := dk_79 (dk_at dksX4_tells_0 18 rfl rfl)
theorem dX4_tells_19 : decode cX4_tells 19 = .ok (.aload_n 0, 1) := dk_42 (dk_at dksX4_tells_0 19 rfl rfl)
theorem dX4_tells_20 : decode cX4_tells 20 = .ok (.dup, 1) := dk_89 (dk_at dksX4_tells_0 20 rfl rfl)
theorem dX4_tells_21 : decode cX4_tells 21 = .ok (.getfield 236, 3) := dk_180 0 236 (dk_at dksX4_tells_0 21 rfl rfl)
theorem dX4_tells_24 : decode cX4_tells 24 = .ok (.iconst 1, 1) := dk_4 (dk_at dksX4_tells_1 0 rfl rfl)
theorem dX4_tells_25 : decode cX4_tells 25 = .ok (.iadd, 1) := dk_96 (dk_at dksX4_tells_1 1 rfl rfl)
theorem dX4_tells_26 : decode cX4_tells 26 = .ok (.putfield 236, 3) := dk_181 0 236 (dk_at dksX4_tells_1 2 rfl rfl)
theorem dX4_tells_29 : decode cX4_tells 29 = .ok (.return_, 1) := dk_177 (dk_at dksX4_tells_1 5 rfl rfl)
abbrev cX4_chaining : ByteArray := prog_8_method_38_code
def yX4_chaining : MethodName := ⟨RX4, "chaining", "()V"⟩
def dkwX4_chaining_1 : List UInt8 := [27, 156, 0, 11, 42, 6, 182, 0, 202, 167, 0, 9, 42, 27, 4, 182, 1, 137, 177]
abbrev dktX4_chaining_1 : List UInt8 := dkwX4_chaining_1 ++ []
def dkwX4_chaining_0 : List UInt8 := [42, 89, 180, 0, 205, 4, 96, 181, 0, 205, 42, 180, 0, 205, 5, 162, 0, 4, 177, 42, 182, 1, 22, 60]
abbrev dktX4_chaining_0 : List UInt8 := dkwX4_chaining_0 ++ dktX4_chaining_1
theorem dksX4_chaining_0 : cX4_chaining.data.toList.drop 0 = dktX4_chaining_0 := by decide +kernel
theorem dksX4_chaining_1 : cX4_chaining.data.toList.drop 24 = dktX4_chaining_1 := dk_seg dksX4_chaining_0 24 rfl rfl
theorem dX4_chaining_0 : decode cX4_chaining 0 = .ok (.aload_n 0, 1) := dk_42 (dk_at dksX4_chaining_0 0 rfl rfl)
theorem dX4_chaining_1 : decode cX4_chaining 1 = .ok (.dup, 1) := dk_89 (dk_at dksX4_chaining_0 1 rfl rfl)
theorem dX4_chaining_2 : decode cX4_chaining 2 = .ok (.getfield 205, 3) := dk_180 0 205 (dk_at dksX4_chaining_0 2 rfl rfl)
theorem dX4_chaining_5 : decode cX4_chaining 5 = .ok (.iconst 1, 1) := dk_4 (dk_at dksX4_chaining_0 5 rfl rfl)
theorem dX4_chaining_6 : decode cX4_chaining 6 = .ok (.iadd, 1) := dk_96 (dk_at dksX4_chaining_0 6 rfl rfl)
theorem dX4_chaining_7 : decode cX4_chaining 7 = .ok (.putfield 205, 3) := dk_181 0 205 (dk_at dksX4_chaining_0 7 rfl rfl)
theorem dX4_chaining_10 : decode cX4_chaining 10 = .ok (.aload_n 0, 1) := dk_42 (dk_at dksX4_chaining_0 10 rfl rfl)
theorem dX4_chaining_11 : decode cX4_chaining 11 = .ok (.getfield 205, 3) := dk_180 0 205 (dk_at dksX4_chaining_0 11 rfl rfl)
theorem dX4_chaining_14 : decode cX4_chaining 14 = .ok (.iconst 2, 1) := dk_5 (dk_at dksX4_chaining_0 14 rfl rfl)
theorem dX4_chaining_15 : decode cX4_chaining 15 = .ok (.if_icmp .ge 4, 3) := dk_162 0 4 (dk_at dksX4_chaining_0 15 rfl rfl)
theorem dX4_chaining_18 : decode cX4_chaining 18 = .ok (.return_, 1) := dk_177 (dk_at dksX4_chaining_0 18 rfl rfl)
theorem dX4_chaining_19 : decode cX4_chaining 19 = .ok (.aload_n 0, 1) := dk_42 (dk_at dksX4_chaining_0 19 rfl rfl)
theorem dX4_chaining_20 : decode cX4_chaining 20 = .ok (.invokevirtual 278, 3) := dk_182 1 22 (dk_at dksX4_chaining_0 20 rfl rfl)
theorem dX4_chaining_23 : decode cX4_chaining 23 = .ok (.istore_n 1, 1) := dk_60 (dk_at dksX4_chaining_0 23 rfl rfl)
theorem dX4_chaining_24 : decode cX4_chaining 24 = .ok (.iload_n 1, 1) := dk_27 (dk_at dksX4_chaining_1 0 rfl rfl)
theorem dX4_chaining_25 : decode cX4_chaining 25 = .ok (.ifCond .ge 11, 3) := dk_156 0 11 (dk_at dksX4_chaining_1 1 rfl rfl)
theorem dX4_chaining_28 : decode cX4_chaining 28 = .ok (.aload_n 0, 1) := dk_42 (dk_at dksX4_chaining_1 4 rfl rfl)
theorem dX4_chaining_29 : decode cX4_chaining 29 = .ok (.iconst 3, 1) := dk_6 (dk_at dksX4_chaining_1 5 rfl rfl)
theorem dX4_chaining_30 : decode cX4_chaining 30 = .ok (.invokevirtual 202, 3) := dk_182 0 202 (dk_at dksX4_chaining_1 6 rfl rfl)
theorem dX4_chaining_33 : decode cX4_chaining 33 = .ok (.goto 9, 3) := dk_167 0 9 (dk_at dksX4_chaining_1 9 rfl rfl)
theorem dX4_chaining_36 : decode cX4_chaining 36 = .ok (.aload_n 0, 1) := dk_42 (dk_at dksX4_chaining_1 12 rfl rfl)
theorem dX4_chaining_37 : decode cX4_chaining 37 = .ok (.iload_n 1, 1) := dk_27 (dk_at dksX4_chaining_1 13 rfl rfl)
theorem dX4_chaining_38 : decode cX4_chaining 38 = .ok (.iconst 1, 1) := dk_4 (dk_at dksX4_chaining_1 14 rfl rfl)
theorem dX4_chaining_39 : decode cX4_chaining 39 = .ok (.invokevirtual 393, 3) := dk_182 1 137 (dk_at dksX4_chaining_1 15 rfl rfl)
theorem dX4_chaining_42 : decode cX4_chaining 42 = .ok (.return_, 1) := dk_177 (dk_at dksX4_chaining_1 18 rfl rfl)
abbrev cX4_unstacking : ByteArray := prog_8_method_39_code
def yX4_unstacking : MethodName := ⟨RX4, "unstacking", "()V"⟩
def dkwX4_unstacking_6 : List UInt8 := [177]
abbrev dktX4_unstacking_6 : List UInt8 := dkwX4_unstacking_6 ++ []
def dkwX4_unstacking_5 : List UInt8 := [180, 0, 205, 42, 182, 1, 163, 153, 0, 8, 16, 10, 167, 0, 5, 16, 6, 160, 0, 7, 42, 182, 1, 166]
abbrev dktX4_unstacking_5 : List UInt8 := dkwX4_unstacking_5 ++ dktX4_unstacking_6
def dkwX4_unstacking_4 : List UInt8 := [180, 0, 199, 8, 159, 0, 8, 42, 5, 182, 0, 202, 177, 42, 89, 180, 0, 205, 4, 96, 181, 0, 205, 42]
abbrev dktX4_unstacking_4 : List UInt8 := dkwX4_unstacking_4 ++ dktX4_unstacking_5
def dkwX4_unstacking_3 : List UInt8 := [154, 0, 10, 42, 182, 1, 160, 167, 0, 4, 2, 61, 28, 155, 0, 22, 42, 28, 182, 1, 85, 42]
abbrev dktX4_unstacking_3 : List UInt8 := dkwX4_unstacking_3 ++ dktX4_unstacking_4
def dkwX4_unstacking_2 : List UInt8 := [180, 0, 205, 183, 1, 156, 182, 1, 10, 42, 5, 182, 0, 202, 42, 182, 1, 157, 177, 42, 180, 0, 205]
abbrev dktX4_unstacking_2 : List UInt8 := dkwX4_unstacking_2 ++ dktX4_unstacking_3
def dkwX4_unstacking_1 : List UInt8 := [46, 4, 96, 79, 42, 180, 0, 227, 154, 0, 23, 42, 187, 1, 154, 89, 27, 42, 180, 0, 187, 42]
abbrev dktX4_unstacking_1 : List UInt8 := dkwX4_unstacking_1 ++ dktX4_unstacking_2
def dkwX4_unstacking_0 : List UInt8 := [42, 182, 1, 22, 60, 42, 180, 0, 124, 27, 185, 1, 26, 2, 0, 153, 0, 50, 42, 180, 0, 52, 7, 92]
abbrev dktX4_unstacking_0 : List UInt8 := dkwX4_unstacking_0 ++ dktX4_unstacking_1
theorem dksX4_unstacking_0 : cX4_unstacking.data.toList.drop 0 = dktX4_unstacking_0 := by decide +kernel
theorem dksX4_unstacking_1 : cX4_unstacking.data.toList.drop 24 = dktX4_unstacking_1 := dk_seg dksX4_unstacking_0 24 rfl rfl
theorem dksX4_unstacking_2 : cX4_unstacking.data.toList.drop 46 = dktX4_unstacking_2 := dk_seg dksX4_unstacking_1 22 rfl rfl
theorem dksX4_unstacking_3 : cX4_unstacking.data.toList.drop 69 = dktX4_unstacking_3 := dk_seg dksX4_unstacking_2 23 rfl rfl
theorem dksX4_unstacking_4 : cX4_unstacking.data.toList.drop 91 = dktX4_unstacking_4 := dk_seg dksX4_unstacking_3 22 rfl rfl
theorem dksX4_unstacking_5 : cX4_unstacking.data.toList.drop 115 = dktX4_unstacking_5 := dk_seg dksX4_unstacking_4 24 rfl rfl
theorem dksX4_unstacking_6 : cX4_unstacking.data.toList.drop 139 = dktX4_unstacking_6 := dk_seg dksX4_unstacking_5 24 rfl rfl
theorem dX4_unstacking_0 : decode cX4_unstacking 0 = .ok (.aload_n 0, 1) := dk_42 (dk_at dksX4_unstacking_0 0 rfl rfl)
theorem dX4_unstacking_1 : decode cX4_unstacking 1 = .ok (.invokevirtual 278, 3) := dk_182 1 22 (dk_at dksX4_unstacking_0 1 rfl rfl)
theorem dX4_unstacking_4 : decode cX4_unstacking 4 = .ok (.istore_n 1, 1) := dk_60 (dk_at dksX4_unstacking_0 4 rfl rfl)
theorem dX4_unstacking_5 : decode cX4_unstacking 5 = .ok (.aload_n 0, 1) := dk_42 (dk_at dksX4_unstacking_0 5 rfl rfl)
theorem dX4_unstacking_6 : decode cX4_unstacking 6 = .ok (.getfield 124, 3) := dk_180 0 124 (dk_at dksX4_unstacking_0 6 rfl rfl)
theorem dX4_unstacking_9 : decode cX4_unstacking 9 = .ok (.iload_n 1, 1) := dk_27 (dk_at dksX4_unstacking_0 9 rfl rfl)
theorem dX4_unstacking_10 : decode cX4_unstacking 10 = .ok (.invokeinterface 282 2, 5) := by decide +kernel
theorem dX4_unstacking_15 : decode cX4_unstacking 15 = .ok (.ifCond .eq 50, 3) := dk_153 0 50 (dk_at dksX4_unstacking_0 15 rfl rfl)
theorem dX4_unstacking_18 : decode cX4_unstacking 18 = .ok (.aload_n 0, 1) := dk_42 (dk_at dksX4_unstacking_0 18 rfl rfl)
theorem dX4_unstacking_19 : decode cX4_unstacking 19 = .ok (.getfield 52, 3) := dk_180 0 52 (dk_at dksX4_unstacking_0 19 rfl rfl)
theorem dX4_unstacking_22 : decode cX4_unstacking 22 = .ok (.iconst 4, 1) := dk_7 (dk_at dksX4_unstacking_0 22 rfl rfl)
theorem dX4_unstacking_23 : decode cX4_unstacking 23 = .ok (.dup2, 1) := dk_92 (dk_at dksX4_unstacking_0 23 rfl rfl)
theorem dX4_unstacking_24 : decode cX4_unstacking 24 = .ok (.iaload, 1) := dk_46 (dk_at dksX4_unstacking_1 0 rfl rfl)
theorem dX4_unstacking_25 : decode cX4_unstacking 25 = .ok (.iconst 1, 1) := dk_4 (dk_at dksX4_unstacking_1 1 rfl rfl)
theorem dX4_unstacking_26 : decode cX4_unstacking 26 = .ok (.iadd, 1) := dk_96 (dk_at dksX4_unstacking_1 2 rfl rfl)
theorem dX4_unstacking_27 : decode cX4_unstacking 27 = .ok (.iastore, 1) := dk_79 (dk_at dksX4_unstacking_1 3 rfl rfl)
theorem dX4_unstacking_28 : decode cX4_unstacking 28 = .ok (.aload_n 0, 1) := dk_42 (dk_at dksX4_unstacking_1 4 rfl rfl)
theorem dX4_unstacking_29 : decode cX4_unstacking 29 = .ok (.getfield 227, 3) := dk_180 0 227 (dk_at dksX4_unstacking_1 5 rfl rfl)
theorem dX4_unstacking_32 : decode cX4_unstacking 32 = .ok (.ifCond .ne 23, 3) := dk_154 0 23 (dk_at dksX4_unstacking_1 8 rfl rfl)
theorem dX4_unstacking_35 : decode cX4_unstacking 35 = .ok (.aload_n 0, 1) := dk_42 (dk_at dksX4_unstacking_1 11 rfl rfl)
theorem dX4_unstacking_36 : decode cX4_unstacking 36 = .ok (.new 410, 3) := dk_187 1 154 (dk_at dksX4_unstacking_1 12 rfl rfl)
theorem dX4_unstacking_39 : decode cX4_unstacking 39 = .ok (.dup, 1) := dk_89 (dk_at dksX4_unstacking_1 15 rfl rfl)
theorem dX4_unstacking_40 : decode cX4_unstacking 40 = .ok (.iload_n 1, 1) := dk_27 (dk_at dksX4_unstacking_1 16 rfl rfl)
theorem dX4_unstacking_41 : decode cX4_unstacking 41 = .ok (.aload_n 0, 1) := dk_42 (dk_at dksX4_unstacking_1 17 rfl rfl)
theorem dX4_unstacking_42 : decode cX4_unstacking 42 = .ok (.getfield 187, 3) := dk_180 0 187 (dk_at dksX4_unstacking_1 18 rfl rfl)
theorem dX4_unstacking_45 : decode cX4_unstacking 45 = .ok (.aload_n 0, 1) := dk_42 (dk_at dksX4_unstacking_1 21 rfl rfl)
theorem dX4_unstacking_46 : decode cX4_unstacking 46 = .ok (.getfield 205, 3) := dk_180 0 205 (dk_at dksX4_unstacking_2 0 rfl rfl)
theorem dX4_unstacking_49 : decode cX4_unstacking 49 = .ok (.invokespecial 412, 3) := dk_183 1 156 (dk_at dksX4_unstacking_2 3 rfl rfl)
theorem dX4_unstacking_52 : decode cX4_unstacking 52 = .ok (.invokevirtual 266, 3) := dk_182 1 10 (dk_at dksX4_unstacking_2 6 rfl rfl)
theorem dX4_unstacking_55 : decode cX4_unstacking 55 = .ok (.aload_n 0, 1) := dk_42 (dk_at dksX4_unstacking_2 9 rfl rfl)
theorem dX4_unstacking_56 : decode cX4_unstacking 56 = .ok (.iconst 2, 1) := dk_5 (dk_at dksX4_unstacking_2 10 rfl rfl)
theorem dX4_unstacking_57 : decode cX4_unstacking 57 = .ok (.invokevirtual 202, 3) := dk_182 0 202 (dk_at dksX4_unstacking_2 11 rfl rfl)
theorem dX4_unstacking_60 : decode cX4_unstacking 60 = .ok (.aload_n 0, 1) := dk_42 (dk_at dksX4_unstacking_2 14 rfl rfl)
theorem dX4_unstacking_61 : decode cX4_unstacking 61 = .ok (.invokevirtual 413, 3) := dk_182 1 157 (dk_at dksX4_unstacking_2 15 rfl rfl)
theorem dX4_unstacking_64 : decode cX4_unstacking 64 = .ok (.return_, 1) := dk_177 (dk_at dksX4_unstacking_2 18 rfl rfl)
theorem dX4_unstacking_65 : decode cX4_unstacking 65 = .ok (.aload_n 0, 1) := dk_42 (dk_at dksX4_unstacking_2 19 rfl rfl)
theorem dX4_unstacking_66 : decode cX4_unstacking 66 = .ok (.getfield 205, 3) := dk_180 0 205 (dk_at dksX4_unstacking_2 20 rfl rfl)
theorem dX4_unstacking_69 : decode cX4_unstacking 69 = .ok (.ifCond .ne 10, 3) := dk_154 0 10 (dk_at dksX4_unstacking_3 0 rfl rfl)
theorem dX4_unstacking_72 : decode cX4_unstacking 72 = .ok (.aload_n 0, 1) := dk_42 (dk_at dksX4_unstacking_3 3 rfl rfl)
theorem dX4_unstacking_73 : decode cX4_unstacking 73 = .ok (.invokevirtual 416, 3) := dk_182 1 160 (dk_at dksX4_unstacking_3 4 rfl rfl)
theorem dX4_unstacking_76 : decode cX4_unstacking 76 = .ok (.goto 4, 3) := dk_167 0 4 (dk_at dksX4_unstacking_3 7 rfl rfl)
theorem dX4_unstacking_79 : decode cX4_unstacking 79 = .ok (.iconst (-1), 1) := dk_2 (dk_at dksX4_unstacking_3 10 rfl rfl)
theorem dX4_unstacking_80 : decode cX4_unstacking 80 = .ok (.istore_n 2, 1) := dk_61 (dk_at dksX4_unstacking_3 11 rfl rfl)
theorem dX4_unstacking_81 : decode cX4_unstacking 81 = .ok (.iload_n 2, 1) := dk_28 (dk_at dksX4_unstacking_3 12 rfl rfl)
theorem dX4_unstacking_82 : decode cX4_unstacking 82 = .ok (.ifCond .lt 22, 3) := dk_155 0 22 (dk_at dksX4_unstacking_3 13 rfl rfl)
theorem dX4_unstacking_85 : decode cX4_unstacking 85 = .ok (.aload_n 0, 1) := dk_42 (dk_at dksX4_unstacking_3 16 rfl rfl)
theorem dX4_unstacking_86 : decode cX4_unstacking 86 = .ok (.iload_n 2, 1) := dk_28 (dk_at dksX4_unstacking_3 17 rfl rfl)
theorem dX4_unstacking_87 : decode cX4_unstacking 87 = .ok (.invokevirtual 341, 3) := dk_182 1 85 (dk_at dksX4_unstacking_3 18 rfl rfl)
theorem dX4_unstacking_90 : decode cX4_unstacking 90 = .ok (.aload_n 0, 1) := dk_42 (dk_at dksX4_unstacking_3 21 rfl rfl)
theorem dX4_unstacking_91 : decode cX4_unstacking 91 = .ok (.getfield 199, 3) := dk_180 0 199 (dk_at dksX4_unstacking_4 0 rfl rfl)
theorem dX4_unstacking_94 : decode cX4_unstacking 94 = .ok (.iconst 5, 1) := dk_8 (dk_at dksX4_unstacking_4 3 rfl rfl)
theorem dX4_unstacking_95 : decode cX4_unstacking 95 = .ok (.if_icmp .eq 8, 3) := dk_159 0 8 (dk_at dksX4_unstacking_4 4 rfl rfl)
theorem dX4_unstacking_98 : decode cX4_unstacking 98 = .ok (.aload_n 0, 1) := dk_42 (dk_at dksX4_unstacking_4 7 rfl rfl)
theorem dX4_unstacking_99 : decode cX4_unstacking 99 = .ok (.iconst 2, 1) := dk_5 (dk_at dksX4_unstacking_4 8 rfl rfl)
theorem dX4_unstacking_100 : decode cX4_unstacking 100 = .ok (.invokevirtual 202, 3) := dk_182 0 202 (dk_at dksX4_unstacking_4 9 rfl rfl)
theorem dX4_unstacking_103 : decode cX4_unstacking 103 = .ok (.return_, 1) := dk_177 (dk_at dksX4_unstacking_4 12 rfl rfl)
theorem dX4_unstacking_104 : decode cX4_unstacking 104 = .ok (.aload_n 0, 1) := dk_42 (dk_at dksX4_unstacking_4 13 rfl rfl)
theorem dX4_unstacking_105 : decode cX4_unstacking 105 = .ok (.dup, 1) := dk_89 (dk_at dksX4_unstacking_4 14 rfl rfl)
theorem dX4_unstacking_106 : decode cX4_unstacking 106 = .ok (.getfield 205, 3) := dk_180 0 205 (dk_at dksX4_unstacking_4 15 rfl rfl)
theorem dX4_unstacking_109 : decode cX4_unstacking 109 = .ok (.iconst 1, 1) := dk_4 (dk_at dksX4_unstacking_4 18 rfl rfl)
theorem dX4_unstacking_110 : decode cX4_unstacking 110 = .ok (.iadd, 1) := dk_96 (dk_at dksX4_unstacking_4 19 rfl rfl)
theorem dX4_unstacking_111 : decode cX4_unstacking 111 = .ok (.putfield 205, 3) := dk_181 0 205 (dk_at dksX4_unstacking_4 20 rfl rfl)
theorem dX4_unstacking_114 : decode cX4_unstacking 114 = .ok (.aload_n 0, 1) := dk_42 (dk_at dksX4_unstacking_4 23 rfl rfl)
theorem dX4_unstacking_115 : decode cX4_unstacking 115 = .ok (.getfield 205, 3) := dk_180 0 205 (dk_at dksX4_unstacking_5 0 rfl rfl)
theorem dX4_unstacking_118 : decode cX4_unstacking 118 = .ok (.aload_n 0, 1) := dk_42 (dk_at dksX4_unstacking_5 3 rfl rfl)
theorem dX4_unstacking_119 : decode cX4_unstacking 119 = .ok (.invokevirtual 419, 3) := dk_182 1 163 (dk_at dksX4_unstacking_5 4 rfl rfl)
theorem dX4_unstacking_122 : decode cX4_unstacking 122 = .ok (.ifCond .eq 8, 3) := dk_153 0 8 (dk_at dksX4_unstacking_5 7 rfl rfl)
theorem dX4_unstacking_125 : decode cX4_unstacking 125 = .ok (.bipush 10, 2) := dk_16 10 (dk_at dksX4_unstacking_5 10 rfl rfl)
theorem dX4_unstacking_127 : decode cX4_unstacking 127 = .ok (.goto 5, 3) := dk_167 0 5 (dk_at dksX4_unstacking_5 12 rfl rfl)
theorem dX4_unstacking_130 : decode cX4_unstacking 130 = .ok (.bipush 6, 2) := dk_16 6 (dk_at dksX4_unstacking_5 15 rfl rfl)
theorem dX4_unstacking_132 : decode cX4_unstacking 132 = .ok (.if_icmp .ne 7, 3) := dk_160 0 7 (dk_at dksX4_unstacking_5 17 rfl rfl)
theorem dX4_unstacking_135 : decode cX4_unstacking 135 = .ok (.aload_n 0, 1) := dk_42 (dk_at dksX4_unstacking_5 20 rfl rfl)
theorem dX4_unstacking_136 : decode cX4_unstacking 136 = .ok (.invokevirtual 422, 3) := dk_182 1 166 (dk_at dksX4_unstacking_5 21 rfl rfl)
theorem dX4_unstacking_139 : decode cX4_unstacking 139 = .ok (.return_, 1) := dk_177 (dk_at dksX4_unstacking_6 0 rfl rfl)
abbrev cX4_looks : ByteArray := prog_8_method_40_code
def yX4_looks : MethodName := ⟨RX4, "looks", "()I"⟩
def dkwX4_looks_4 : List UInt8 := [17, 1, 255, 184, 1, 169, 153, 0, 7, 2, 167, 0, 5, 16, 18, 172]
abbrev dktX4_looks_4 : List UInt8 := dkwX4_looks_4 ++ []
def dkwX4_looks_3 : List UInt8 := [42, 180, 0, 172, 16, 10, 162, 0, 6, 16, 19, 172, 42, 180, 0, 34, 42, 180, 0, 172, 5, 100, 46, 3]
abbrev dktX4_looks_3 : List UInt8 := dkwX4_looks_3 ++ dktX4_looks_4
def dkwX4_looks_2 : List UInt8 := [27, 17, 90, 0, 100, 7, 161, 0, 7, 4, 167, 0, 4, 3, 181, 0, 224, 42, 180, 0, 224, 153, 0, 15]
abbrev dktX4_looks_2 : List UInt8 := dkwX4_looks_2 ++ dktX4_looks_3
def dkwX4_looks_1 : List UInt8 := [180, 0, 172, 4, 100, 46, 60, 27, 17, 90, 0, 17, 90, 7, 184, 1, 169, 154, 0, 6, 16, 18, 172, 42]
abbrev dktX4_looks_1 : List UInt8 := dkwX4_looks_1 ++ dktX4_looks_2
def dkwX4_looks_0 : List UInt8 := [42, 3, 181, 0, 224, 42, 180, 0, 172, 16, 6, 162, 0, 6, 16, 19, 172, 42, 180, 0, 34, 42]
abbrev dktX4_looks_0 : List UInt8 := dkwX4_looks_0 ++ dktX4_looks_1
theorem dksX4_looks_0 : cX4_looks.data.toList.drop 0 = dktX4_looks_0 := by decide +kernel
theorem dksX4_looks_1 : cX4_looks.data.toList.drop 22 = dktX4_looks_1 := dk_seg dksX4_looks_0 22 rfl rfl
theorem dksX4_looks_2 : cX4_looks.data.toList.drop 46 = dktX4_looks_2 := dk_seg dksX4_looks_1 24 rfl rfl
theorem dksX4_looks_3 : cX4_looks.data.toList.drop 70 = dktX4_looks_3 := dk_seg dksX4_looks_2 24 rfl rfl
theorem dksX4_looks_4 : cX4_looks.data.toList.drop 94 = dktX4_looks_4 := dk_seg dksX4_looks_3 24 rfl rfl
theorem dX4_looks_0 : decode cX4_looks 0 = .ok (.aload_n 0, 1) := dk_42 (dk_at dksX4_looks_0 0 rfl rfl)
theorem dX4_looks_1 : decode cX4_looks 1 = .ok (.iconst 0, 1) := dk_3 (dk_at dksX4_looks_0 1 rfl rfl)
theorem dX4_looks_2 : decode cX4_looks 2 = .ok (.putfield 224, 3) := dk_181 0 224 (dk_at dksX4_looks_0 2 rfl rfl)
theorem dX4_looks_5 : decode cX4_looks 5 = .ok (.aload_n 0, 1) := dk_42 (dk_at dksX4_looks_0 5 rfl rfl)
theorem dX4_looks_6 : decode cX4_looks 6 = .ok (.getfield 172, 3) := dk_180 0 172 (dk_at dksX4_looks_0 6 rfl rfl)
theorem dX4_looks_9 : decode cX4_looks 9 = .ok (.bipush 6, 2) := dk_16 6 (dk_at dksX4_looks_0 9 rfl rfl)
theorem dX4_looks_11 : decode cX4_looks 11 = .ok (.if_icmp .ge 6, 3) := dk_162 0 6 (dk_at dksX4_looks_0 11 rfl rfl)
theorem dX4_looks_14 : decode cX4_looks 14 = .ok (.bipush 19, 2) := dk_16 19 (dk_at dksX4_looks_0 14 rfl rfl)
theorem dX4_looks_16 : decode cX4_looks 16 = .ok (.ireturn, 1) := dk_172 (dk_at dksX4_looks_0 16 rfl rfl)
theorem dX4_looks_17 : decode cX4_looks 17 = .ok (.aload_n 0, 1) := dk_42 (dk_at dksX4_looks_0 17 rfl rfl)
theorem dX4_looks_18 : decode cX4_looks 18 = .ok (.getfield 34, 3) := dk_180 0 34 (dk_at dksX4_looks_0 18 rfl rfl)
theorem dX4_looks_21 : decode cX4_looks 21 = .ok (.aload_n 0, 1) := dk_42 (dk_at dksX4_looks_0 21 rfl rfl)
theorem dX4_looks_22 : decode cX4_looks 22 = .ok (.getfield 172, 3) := dk_180 0 172 (dk_at dksX4_looks_1 0 rfl rfl)
theorem dX4_looks_25 : decode cX4_looks 25 = .ok (.iconst 1, 1) := dk_4 (dk_at dksX4_looks_1 3 rfl rfl)
theorem dX4_looks_26 : decode cX4_looks 26 = .ok (.isub, 1) := dk_100 (dk_at dksX4_looks_1 4 rfl rfl)
theorem dX4_looks_27 : decode cX4_looks 27 = .ok (.iaload, 1) := dk_46 (dk_at dksX4_looks_1 5 rfl rfl)
theorem dX4_looks_28 : decode cX4_looks 28 = .ok (.istore_n 1, 1) := dk_60 (dk_at dksX4_looks_1 6 rfl rfl)
theorem dX4_looks_29 : decode cX4_looks 29 = .ok (.iload_n 1, 1) := dk_27 (dk_at dksX4_looks_1 7 rfl rfl)
theorem dX4_looks_30 : decode cX4_looks 30 = .ok (.sipush 23040, 3) := dk_17 90 0 (dk_at dksX4_looks_1 8 rfl rfl)
theorem dX4_looks_33 : decode cX4_looks 33 = .ok (.sipush 23047, 3) := dk_17 90 7 (dk_at dksX4_looks_1 11 rfl rfl)
theorem dX4_looks_36 : decode cX4_looks 36 = .ok (.invokestatic 425, 3) := dk_184 1 169 (dk_at dksX4_looks_1 14 rfl rfl)
theorem dX4_looks_39 : decode cX4_looks 39 = .ok (.ifCond .ne 6, 3) := dk_154 0 6 (dk_at dksX4_looks_1 17 rfl rfl)
theorem dX4_looks_42 : decode cX4_looks 42 = .ok (.bipush 18, 2) := dk_16 18 (dk_at dksX4_looks_1 20 rfl rfl)
theorem dX4_looks_44 : decode cX4_looks 44 = .ok (.ireturn, 1) := dk_172 (dk_at dksX4_looks_1 22 rfl rfl)
theorem dX4_looks_45 : decode cX4_looks 45 = .ok (.aload_n 0, 1) := dk_42 (dk_at dksX4_looks_1 23 rfl rfl)
theorem dX4_looks_46 : decode cX4_looks 46 = .ok (.iload_n 1, 1) := dk_27 (dk_at dksX4_looks_2 0 rfl rfl)
theorem dX4_looks_47 : decode cX4_looks 47 = .ok (.sipush 23040, 3) := dk_17 90 0 (dk_at dksX4_looks_2 1 rfl rfl)
theorem dX4_looks_50 : decode cX4_looks 50 = .ok (.isub, 1) := dk_100 (dk_at dksX4_looks_2 4 rfl rfl)
theorem dX4_looks_51 : decode cX4_looks 51 = .ok (.iconst 4, 1) := dk_7 (dk_at dksX4_looks_2 5 rfl rfl)
theorem dX4_looks_52 : decode cX4_looks 52 = .ok (.if_icmp .lt 7, 3) := dk_161 0 7 (dk_at dksX4_looks_2 6 rfl rfl)
theorem dX4_looks_55 : decode cX4_looks 55 = .ok (.iconst 1, 1) := dk_4 (dk_at dksX4_looks_2 9 rfl rfl)
theorem dX4_looks_56 : decode cX4_looks 56 = .ok (.goto 4, 3) := dk_167 0 4 (dk_at dksX4_looks_2 10 rfl rfl)
theorem dX4_looks_59 : decode cX4_looks 59 = .ok (.iconst 0, 1) := dk_3 (dk_at dksX4_looks_2 13 rfl rfl)
theorem dX4_looks_60 : decode cX4_looks 60 = .ok (.putfield 224, 3) := dk_181 0 224 (dk_at dksX4_looks_2 14 rfl rfl)
theorem dX4_looks_63 : decode cX4_looks 63 = .ok (.aload_n 0, 1) := dk_42 (dk_at dksX4_looks_2 17 rfl rfl)
theorem dX4_looks_64 : decode cX4_looks 64 = .ok (.getfield 224, 3) := dk_180 0 224 (dk_at dksX4_looks_2 18 rfl rfl)
theorem dX4_looks_67 : decode cX4_looks 67 = .ok (.ifCond .eq 15, 3) := dk_153 0 15 (dk_at dksX4_looks_2 21 rfl rfl)
theorem dX4_looks_70 : decode cX4_looks 70 = .ok (.aload_n 0, 1) := dk_42 (dk_at dksX4_looks_3 0 rfl rfl)
theorem dX4_looks_71 : decode cX4_looks 71 = .ok (.getfield 172, 3) := dk_180 0 172 (dk_at dksX4_looks_3 1 rfl rfl)
theorem dX4_looks_74 : decode cX4_looks 74 = .ok (.bipush 10, 2) := dk_16 10 (dk_at dksX4_looks_3 4 rfl rfl)
theorem dX4_looks_76 : decode cX4_looks 76 = .ok (.if_icmp .ge 6, 3) := dk_162 0 6 (dk_at dksX4_looks_3 6 rfl rfl)
theorem dX4_looks_79 : decode cX4_looks 79 = .ok (.bipush 19, 2) := dk_16 19 (dk_at dksX4_looks_3 9 rfl rfl)
theorem dX4_looks_81 : decode cX4_looks 81 = .ok (.ireturn, 1) := dk_172 (dk_at dksX4_looks_3 11 rfl rfl)
theorem dX4_looks_82 : decode cX4_looks 82 = .ok (.aload_n 0, 1) := dk_42 (dk_at dksX4_looks_3 12 rfl rfl)
theorem dX4_looks_83 : decode cX4_looks 83 = .ok (.getfield 34, 3) := dk_180 0 34 (dk_at dksX4_looks_3 13 rfl rfl)
theorem dX4_looks_86 : decode cX4_looks 86 = .ok (.aload_n 0, 1) := dk_42 (dk_at dksX4_looks_3 16 rfl rfl)
theorem dX4_looks_87 : decode cX4_looks 87 = .ok (.getfield 172, 3) := dk_180 0 172 (dk_at dksX4_looks_3 17 rfl rfl)
theorem dX4_looks_90 : decode cX4_looks 90 = .ok (.iconst 2, 1) := dk_5 (dk_at dksX4_looks_3 20 rfl rfl)
theorem dX4_looks_91 : decode cX4_looks 91 = .ok (.isub, 1) := dk_100 (dk_at dksX4_looks_3 21 rfl rfl)
theorem dX4_looks_92 : decode cX4_looks 92 = .ok (.iaload, 1) := dk_46 (dk_at dksX4_looks_3 22 rfl rfl)
theorem dX4_looks_93 : decode cX4_looks 93 = .ok (.iconst 0, 1) := dk_3 (dk_at dksX4_looks_3 23 rfl rfl)
theorem dX4_looks_94 : decode cX4_looks 94 = .ok (.sipush 511, 3) := dk_17 1 255 (dk_at dksX4_looks_4 0 rfl rfl)
theorem dX4_looks_97 : decode cX4_looks 97 = .ok (.invokestatic 425, 3) := dk_184 1 169 (dk_at dksX4_looks_4 3 rfl rfl)
theorem dX4_looks_100 : decode cX4_looks 100 = .ok (.ifCond .eq 7, 3) := dk_153 0 7 (dk_at dksX4_looks_4 6 rfl rfl)
theorem dX4_looks_103 : decode cX4_looks 103 = .ok (.iconst (-1), 1) := dk_2 (dk_at dksX4_looks_4 9 rfl rfl)
theorem dX4_looks_104 : decode cX4_looks 104 = .ok (.goto 5, 3) := dk_167 0 5 (dk_at dksX4_looks_4 10 rfl rfl)
theorem dX4_looks_107 : decode cX4_looks 107 = .ok (.bipush 18, 2) := dk_16 18 (dk_at dksX4_looks_4 13 rfl rfl)
theorem dX4_looks_109 : decode cX4_looks 109 = .ok (.ireturn, 1) := dk_172 (dk_at dksX4_looks_4 15 rfl rfl)
abbrev cX4_isSaved : ByteArray := prog_8_method_41_code
def yX4_isSaved : MethodName := ⟨RX4, "isSaved", "()Z"⟩
def dkwX4_isSaved_1 : List UInt8 := [167, 0, 4, 3, 172]
abbrev dktX4_isSaved_1 : List UInt8 := dkwX4_isSaved_1 ++ []
def dkwX4_isSaved_0 : List UInt8 := [42, 180, 0, 224, 153, 0, 21, 42, 180, 0, 135, 42, 180, 0, 172, 16, 10, 100, 159, 0, 7, 4]
abbrev dktX4_isSaved_0 : List UInt8 := dkwX4_isSaved_0 ++ dktX4_isSaved_1
theorem dksX4_isSaved_0 : cX4_isSaved.data.toList.drop 0 = dktX4_isSaved_0 := by decide +kernel
theorem dksX4_isSaved_1 : cX4_isSaved.data.toList.drop 22 = dktX4_isSaved_1 := dk_seg dksX4_isSaved_0 22 rfl rfl
theorem dX4_isSaved_0 : decode cX4_isSaved 0 = .ok (.aload_n 0, 1) := dk_42 (dk_at dksX4_isSaved_0 0 rfl rfl)
theorem dX4_isSaved_1 : decode cX4_isSaved 1 = .ok (.getfield 224, 3) := dk_180 0 224 (dk_at dksX4_isSaved_0 1 rfl rfl)
theorem dX4_isSaved_4 : decode cX4_isSaved 4 = .ok (.ifCond .eq 21, 3) := dk_153 0 21 (dk_at dksX4_isSaved_0 4 rfl rfl)
theorem dX4_isSaved_7 : decode cX4_isSaved 7 = .ok (.aload_n 0, 1) := dk_42 (dk_at dksX4_isSaved_0 7 rfl rfl)
theorem dX4_isSaved_8 : decode cX4_isSaved 8 = .ok (.getfield 135, 3) := dk_180 0 135 (dk_at dksX4_isSaved_0 8 rfl rfl)
theorem dX4_isSaved_11 : decode cX4_isSaved 11 = .ok (.aload_n 0, 1) := dk_42 (dk_at dksX4_isSaved_0 11 rfl rfl)
theorem dX4_isSaved_12 : decode cX4_isSaved 12 = .ok (.getfield 172, 3) := dk_180 0 172 (dk_at dksX4_isSaved_0 12 rfl rfl)
theorem dX4_isSaved_15 : decode cX4_isSaved 15 = .ok (.bipush 10, 2) := dk_16 10 (dk_at dksX4_isSaved_0 15 rfl rfl)
theorem dX4_isSaved_17 : decode cX4_isSaved 17 = .ok (.isub, 1) := dk_100 (dk_at dksX4_isSaved_0 17 rfl rfl)
theorem dX4_isSaved_18 : decode cX4_isSaved 18 = .ok (.if_icmp .eq 7, 3) := dk_159 0 7 (dk_at dksX4_isSaved_0 18 rfl rfl)
theorem dX4_isSaved_21 : decode cX4_isSaved 21 = .ok (.iconst 1, 1) := dk_4 (dk_at dksX4_isSaved_0 21 rfl rfl)
theorem dX4_isSaved_22 : decode cX4_isSaved 22 = .ok (.goto 4, 3) := dk_167 0 4 (dk_at dksX4_isSaved_1 0 rfl rfl)
theorem dX4_isSaved_25 : decode cX4_isSaved 25 = .ok (.iconst 0, 1) := dk_3 (dk_at dksX4_isSaved_1 3 rfl rfl)
theorem dX4_isSaved_26 : decode cX4_isSaved 26 = .ok (.ireturn, 1) := dk_172 (dk_at dksX4_isSaved_1 4 rfl rfl)
abbrev cX4_returns : ByteArray := prog_8_method_42_code
def yX4_returns : MethodName := ⟨RX4, "returns", "()V"⟩
def dkwX4_returns_10 : List UInt8 := [180, 0, 172, 183, 1, 178, 182, 1, 10, 177]
abbrev dktX4_returns_10 : List UInt8 := dkwX4_returns_10 ++ []
def dkwX4_returns_9 : List UInt8 := [154, 0, 7, 2, 167, 0, 14, 42, 180, 0, 43, 42, 180, 0, 175, 4, 100, 46, 42, 180, 0, 187, 42]
abbrev dktX4_returns_9 : List UInt8 := dkwX4_returns_9 ++ dktX4_returns_10
def dkwX4_returns_8 : List UInt8 := [181, 0, 172, 42, 3, 182, 0, 202, 42, 180, 0, 227, 154, 0, 44, 42, 187, 1, 176, 89, 42, 180, 0, 175]
abbrev dktX4_returns_8 : List UInt8 := dkwX4_returns_8 ++ dktX4_returns_9
def dkwX4_returns_7 : List UInt8 := [3, 181, 0, 215, 42, 89, 180, 0, 172, 42, 180, 0, 224, 153, 0, 8, 16, 10, 167, 0, 5, 16, 6, 100]
abbrev dktX4_returns_7 : List UInt8 := dkwX4_returns_7 ++ dktX4_returns_8
def dkwX4_returns_6 : List UInt8 := [181, 0, 163, 42, 27, 4, 122, 4, 126, 181, 0, 166, 42, 42, 180, 0, 224, 153, 0, 7, 4, 167, 0, 4]
abbrev dktX4_returns_6 : List UInt8 := dkwX4_returns_6 ++ dktX4_returns_7
def dkwX4_returns_5 : List UInt8 := [167, 255, 228, 42, 42, 180, 0, 34, 42, 180, 0, 172, 5, 100, 46, 181, 0, 169, 42, 27, 4, 126]
abbrev dktX4_returns_5 : List UInt8 := dkwX4_returns_5 ++ dktX4_returns_6
def dkwX4_returns_4 : List UInt8 := [180, 0, 23, 29, 42, 180, 0, 34, 42, 180, 0, 172, 16, 6, 100, 29, 96, 46, 79, 132, 3, 1]
abbrev dktX4_returns_4 : List UInt8 := dkwX4_returns_4 ++ dktX4_returns_5
def dkwX4_returns_3 : List UInt8 := [2, 181, 0, 135, 42, 180, 0, 52, 16, 6, 92, 46, 4, 96, 79, 3, 62, 29, 7, 162, 0, 29, 42]
abbrev dktX4_returns_3 : List UInt8 := dkwX4_returns_3 ++ dktX4_returns_4
def dkwX4_returns_2 : List UInt8 := [29, 96, 46, 184, 1, 173, 81, 132, 3, 1, 167, 255, 231, 167, 0, 26, 42, 180, 0, 224, 153, 0, 19, 42]
abbrev dktX4_returns_2 : List UInt8 := dkwX4_returns_2 ++ dktX4_returns_3
def dkwX4_returns_1 : List UInt8 := [42, 182, 1, 163, 153, 0, 36, 3, 62, 29, 7, 162, 0, 26, 42, 180, 0, 27, 29, 42, 180, 0, 34, 28]
abbrev dktX4_returns_1 : List UInt8 := dkwX4_returns_1 ++ dktX4_returns_2
def dkwX4_returns_0 : List UInt8 := [42, 180, 0, 34, 42, 180, 0, 172, 4, 100, 46, 17, 90, 0, 100, 60, 42, 180, 0, 172, 16, 10, 100, 61]
abbrev dktX4_returns_0 : List UInt8 := dkwX4_returns_0 ++ dktX4_returns_1
theorem dksX4_returns_0 : cX4_returns.data.toList.drop 0 = dktX4_returns_0 := by decide +kernel
theorem dksX4_returns_1 : cX4_returns.data.toList.drop 24 = dktX4_returns_1 := dk_seg dksX4_returns_0 24 rfl rfl
theorem dksX4_returns_2 : cX4_returns.data.toList.drop 48 = dktX4_returns_2 := dk_seg dksX4_returns_1 24 rfl rfl
theorem dksX4_returns_3 : cX4_returns.data.toList.drop 72 = dktX4_returns_3 := dk_seg dksX4_returns_2 24 rfl rfl
theorem dksX4_returns_4 : cX4_returns.data.toList.drop 95 = dktX4_returns_4 := dk_seg dksX4_returns_3 23 rfl rfl
theorem dksX4_returns_5 : cX4_returns.data.toList.drop 117 = dktX4_returns_5 := dk_seg dksX4_returns_4 22 rfl rfl
theorem dksX4_returns_6 : cX4_returns.data.toList.drop 139 = dktX4_returns_6 := dk_seg dksX4_returns_5 22 rfl rfl
theorem dksX4_returns_7 : cX4_returns.data.toList.drop 163 = dktX4_returns_7 := dk_seg dksX4_returns_6 24 rfl rfl
theorem dksX4_returns_8 : cX4_returns.data.toList.drop 187 = dktX4_returns_8 := dk_seg dksX4_returns_7 24 rfl rfl
theorem dksX4_returns_9 : cX4_returns.data.toList.drop 211 = dktX4_returns_9 := dk_seg dksX4_returns_8 24 rfl rfl
theorem dksX4_returns_10 : cX4_returns.data.toList.drop 234 = dktX4_returns_10 := dk_seg dksX4_returns_9 23 rfl rfl
theorem dX4_returns_0 : decode cX4_returns 0 = .ok (.aload_n 0, 1) := dk_42 (dk_at dksX4_returns_0 0 rfl rfl)
theorem dX4_returns_1 : decode cX4_returns 1 = .ok (.getfield 34, 3) := dk_180 0 34 (dk_at dksX4_returns_0 1 rfl rfl)
theorem dX4_returns_4 : decode cX4_returns 4 = .ok (.aload_n 0, 1) := dk_42 (dk_at dksX4_returns_0 4 rfl rfl)
theorem dX4_returns_5 : decode cX4_returns 5 = .ok (.getfield 172, 3) := dk_180 0 172 (dk_at dksX4_returns_0 5 rfl rfl)
theorem dX4_returns_8 : decode cX4_returns 8 = .ok (.iconst 1, 1) := dk_4 (dk_at dksX4_returns_0 8 rfl rfl)
theorem dX4_returns_9 : decode cX4_returns 9 = .ok (.isub, 1) := dk_100 (dk_at dksX4_returns_0 9 rfl rfl)
theorem dX4_returns_10 : decode cX4_returns 10 = .ok (.iaload, 1) := dk_46 (dk_at dksX4_returns_0 10 rfl rfl)
theorem dX4_returns_11 : decode cX4_returns 11 = .ok (.sipush 23040, 3) := dk_17 90 0 (dk_at dksX4_returns_0 11 rfl rfl)
theorem dX4_returns_14 : decode cX4_returns 14 = .ok (.isub, 1) := dk_100 (dk_at dksX4_returns_0 14 rfl rfl)
theorem dX4_returns_15 : decode cX4_returns 15 = .ok (.istore_n 1, 1) := dk_60 (dk_at dksX4_returns_0 15 rfl rfl)
theorem dX4_returns_16 : decode cX4_returns 16 = .ok (.aload_n 0, 1) := dk_42 (dk_at dksX4_returns_0 16 rfl rfl)
theorem dX4_returns_17 : decode cX4_returns 17 = .ok (.getfield 172, 3) := dk_180 0 172 (dk_at dksX4_returns_0 17 rfl rfl)
theorem dX4_returns_20 : decode cX4_returns 20 = .ok (.bipush 10, 2) := dk_16 10 (dk_at dksX4_returns_0 20 rfl rfl)
theorem dX4_returns_22 : decode cX4_returns 22 = .ok (.isub, 1) := dk_100 (dk_at dksX4_returns_0 22 rfl rfl)
theorem dX4_returns_23 : decode cX4_returns 23 = .ok (.istore_n 2, 1) := dk_61 (dk_at dksX4_returns_0 23 rfl rfl)
theorem dX4_returns_24 : decode cX4_returns 24 = .ok (.aload_n 0, 1) := dk_42 (dk_at dksX4_returns_1 0 rfl rfl)
theorem dX4_returns_25 : decode cX4_returns 25 = .ok (.invokevirtual 419, 3) := dk_182 1 163 (dk_at dksX4_returns_1 1 rfl rfl)
theorem dX4_returns_28 : decode cX4_returns 28 = .ok (.ifCond .eq 36, 3) := dk_153 0 36 (dk_at dksX4_returns_1 4 rfl rfl)
theorem dX4_returns_31 : decode cX4_returns 31 = .ok (.iconst 0, 1) := dk_3 (dk_at dksX4_returns_1 7 rfl rfl)
theorem dX4_returns_32 : decode cX4_returns 32 = .ok (.istore_n 3, 1) := dk_62 (dk_at dksX4_returns_1 8 rfl rfl)
theorem dX4_returns_33 : decode cX4_returns 33 = .ok (.iload_n 3, 1) := dk_29 (dk_at dksX4_returns_1 9 rfl rfl)
theorem dX4_returns_34 : decode cX4_returns 34 = .ok (.iconst 4, 1) := dk_7 (dk_at dksX4_returns_1 10 rfl rfl)
theorem dX4_returns_35 : decode cX4_returns 35 = .ok (.if_icmp .ge 26, 3) := dk_162 0 26 (dk_at dksX4_returns_1 11 rfl rfl)
theorem dX4_returns_38 : decode cX4_returns 38 = .ok (.aload_n 0, 1) := dk_42 (dk_at dksX4_returns_1 14 rfl rfl)
theorem dX4_returns_39 : decode cX4_returns 39 = .ok (.getfield 27, 3) := dk_180 0 27 (dk_at dksX4_returns_1 15 rfl rfl)
theorem dX4_returns_42 : decode cX4_returns 42 = .ok (.iload_n 3, 1) := dk_29 (dk_at dksX4_returns_1 18 rfl rfl)
theorem dX4_returns_43 : decode cX4_returns 43 = .ok (.aload_n 0, 1) := dk_42 (dk_at dksX4_returns_1 19 rfl rfl)
theorem dX4_returns_44 : decode cX4_returns 44 = .ok (.getfield 34, 3) := dk_180 0 34 (dk_at dksX4_returns_1 20 rfl rfl)
theorem dX4_returns_47 : decode cX4_returns 47 = .ok (.iload_n 2, 1) := dk_28 (dk_at dksX4_returns_1 23 rfl rfl)
theorem dX4_returns_48 : decode cX4_returns 48 = .ok (.iload_n 3, 1) := dk_29 (dk_at dksX4_returns_2 0 rfl rfl)
theorem dX4_returns_49 : decode cX4_returns 49 = .ok (.iadd, 1) := dk_96 (dk_at dksX4_returns_2 1 rfl rfl)
theorem dX4_returns_50 : decode cX4_returns 50 = .ok (.iaload, 1) := dk_46 (dk_at dksX4_returns_2 2 rfl rfl)
theorem dX4_returns_51 : decode cX4_returns 51 = .ok (.invokestatic 429, 3) := dk_184 1 173 (dk_at dksX4_returns_2 3 rfl rfl)
theorem dX4_returns_54 : decode cX4_returns 54 = .ok (.fastore, 1) := dk_81 (dk_at dksX4_returns_2 6 rfl rfl)
theorem dX4_returns_55 : decode cX4_returns 55 = .ok (.iinc 3 1, 3) := dk_132 3 1 (dk_at dksX4_returns_2 7 rfl rfl)
theorem dX4_returns_58 : decode cX4_returns 58 = .ok (.goto (-25), 3) := dk_167 255 231 (dk_at dksX4_returns_2 10 rfl rfl)
theorem dX4_returns_61 : decode cX4_returns 61 = .ok (.goto 26, 3) := dk_167 0 26 (dk_at dksX4_returns_2 13 rfl rfl)
theorem dX4_returns_64 : decode cX4_returns 64 = .ok (.aload_n 0, 1) := dk_42 (dk_at dksX4_returns_2 16 rfl rfl)
theorem dX4_returns_65 : decode cX4_returns 65 = .ok (.getfield 224, 3) := dk_180 0 224 (dk_at dksX4_returns_2 17 rfl rfl)
theorem dX4_returns_68 : decode cX4_returns 68 = .ok (.ifCond .eq 19, 3) := dk_153 0 19 (dk_at dksX4_returns_2 20 rfl rfl)
theorem dX4_returns_71 : decode cX4_returns 71 = .ok (.aload_n 0, 1) := dk_42 (dk_at dksX4_returns_2 23 rfl rfl)
theorem dX4_returns_72 : decode cX4_returns 72 = .ok (.iconst (-1), 1) := dk_2 (dk_at dksX4_returns_3 0 rfl rfl)
theorem dX4_returns_73 : decode cX4_returns 73 = .ok (.putfield 135, 3) := dk_181 0 135 (dk_at dksX4_returns_3 1 rfl rfl)
theorem dX4_returns_76 : decode cX4_returns 76 = .ok (.aload_n 0, 1) := dk_42 (dk_at dksX4_returns_3 4 rfl rfl)
theorem dX4_returns_77 : decode cX4_returns 77 = .ok (.getfield 52, 3) := dk_180 0 52 (dk_at dksX4_returns_3 5 rfl rfl)
theorem dX4_returns_80 : decode cX4_returns 80 = .ok (.bipush 6, 2) := dk_16 6 (dk_at dksX4_returns_3 8 rfl rfl)
theorem dX4_returns_82 : decode cX4_returns 82 = .ok (.dup2, 1) := dk_92 (dk_at dksX4_returns_3 10 rfl rfl)
theorem dX4_returns_83 : decode cX4_returns 83 = .ok (.iaload, 1) := dk_46 (dk_at dksX4_returns_3 11 rfl rfl)
theorem dX4_returns_84 : decode cX4_returns 84 = .ok (.iconst 1, 1) := dk_4 (dk_at dksX4_returns_3 12 rfl rfl)
theorem dX4_returns_85 : decode cX4_returns 85 = .ok (.iadd, 1) := dk_96 (dk_at dksX4_returns_3 13 rfl rfl)
theorem dX4_returns_86 : decode cX4_returns 86 = .ok (.iastore, 1) := dk_79 (dk_at dksX4_returns_3 14 rfl rfl)
theorem dX4_returns_87 : decode cX4_returns 87 = .ok (.iconst 0, 1) := dk_3 (dk_at dksX4_returns_3 15 rfl rfl)
theorem dX4_returns_88 : decode cX4_returns 88 = .ok (.istore_n 3, 1) := dk_62 (dk_at dksX4_returns_3 16 rfl rfl)
theorem dX4_returns_89 : decode cX4_returns 89 = .ok (.iload_n 3, 1) := dk_29 (dk_at dksX4_returns_3 17 rfl rfl)
theorem dX4_returns_90 : decode cX4_returns 90 = .ok (.iconst 4, 1) := dk_7 (dk_at dksX4_returns_3 18 rfl rfl)
theorem dX4_returns_91 : decode cX4_returns 91 = .ok (.if_icmp .ge 29, 3) := dk_162 0 29 (dk_at dksX4_returns_3 19 rfl rfl)
theorem dX4_returns_94 : decode cX4_returns 94 = .ok (.aload_n 0, 1) := dk_42 (dk_at dksX4_returns_3 22 rfl rfl)
theorem dX4_returns_95 : decode cX4_returns 95 = .ok (.getfield 23, 3) := dk_180 0 23 (dk_at dksX4_returns_4 0 rfl rfl)
theorem dX4_returns_98 : decode cX4_returns 98 = .ok (.iload_n 3, 1) := dk_29 (dk_at dksX4_returns_4 3 rfl rfl)
theorem dX4_returns_99 : decode cX4_returns 99 = .ok (.aload_n 0, 1) := dk_42 (dk_at dksX4_returns_4 4 rfl rfl)
theorem dX4_returns_100 : decode cX4_returns 100 = .ok (.getfield 34, 3) := dk_180 0 34 (dk_at dksX4_returns_4 5 rfl rfl)
theorem dX4_returns_103 : decode cX4_returns 103 = .ok (.aload_n 0, 1) := dk_42 (dk_at dksX4_returns_4 8 rfl rfl)
theorem dX4_returns_104 : decode cX4_returns 104 = .ok (.getfield 172, 3) := dk_180 0 172 (dk_at dksX4_returns_4 9 rfl rfl)
theorem dX4_returns_107 : decode cX4_returns 107 = .ok (.bipush 6, 2) := dk_16 6 (dk_at dksX4_returns_4 12 rfl rfl)
theorem dX4_returns_109 : decode cX4_returns 109 = .ok (.isub, 1) := dk_100 (dk_at dksX4_returns_4 14 rfl rfl)
theorem dX4_returns_110 : decode cX4_returns 110 = .ok (.iload_n 3, 1) := dk_29 (dk_at dksX4_returns_4 15 rfl rfl)
theorem dX4_returns_111 : decode cX4_returns 111 = .ok (.iadd, 1) := dk_96 (dk_at dksX4_returns_4 16 rfl rfl)
theorem dX4_returns_112 : decode cX4_returns 112 = .ok (.iaload, 1) := dk_46 (dk_at dksX4_returns_4 17 rfl rfl)
theorem dX4_returns_113 : decode cX4_returns 113 = .ok (.iastore, 1) := dk_79 (dk_at dksX4_returns_4 18 rfl rfl)
theorem dX4_returns_114 : decode cX4_returns 114 = .ok (.iinc 3 1, 3) := dk_132 3 1 (dk_at dksX4_returns_4 19 rfl rfl)
theorem dX4_returns_117 : decode cX4_returns 117 = .ok (.goto (-28), 3) := dk_167 255 228 (dk_at dksX4_returns_5 0 rfl rfl)
theorem dX4_returns_120 : decode cX4_returns 120 = .ok (.aload_n 0, 1) := dk_42 (dk_at dksX4_returns_5 3 rfl rfl)
theorem dX4_returns_121 : decode cX4_returns 121 = .ok (.aload_n 0, 1) := dk_42 (dk_at dksX4_returns_5 4 rfl rfl)
theorem dX4_returns_122 : decode cX4_returns 122 = .ok (.getfield 34, 3) := dk_180 0 34 (dk_at dksX4_returns_5 5 rfl rfl)
theorem dX4_returns_125 : decode cX4_returns 125 = .ok (.aload_n 0, 1) := dk_42 (dk_at dksX4_returns_5 8 rfl rfl)
theorem dX4_returns_126 : decode cX4_returns 126 = .ok (.getfield 172, 3) := dk_180 0 172 (dk_at dksX4_returns_5 9 rfl rfl)
theorem dX4_returns_129 : decode cX4_returns 129 = .ok (.iconst 2, 1) := dk_5 (dk_at dksX4_returns_5 12 rfl rfl)
theorem dX4_returns_130 : decode cX4_returns 130 = .ok (.isub, 1) := dk_100 (dk_at dksX4_returns_5 13 rfl rfl)
theorem dX4_returns_131 : decode cX4_returns 131 = .ok (.iaload, 1) := dk_46 (dk_at dksX4_returns_5 14 rfl rfl)
theorem dX4_returns_132 : decode cX4_returns 132 = .ok (.putfield 169, 3) := dk_181 0 169 (dk_at dksX4_returns_5 15 rfl rfl)
theorem dX4_returns_135 : decode cX4_returns 135 = .ok (.aload_n 0, 1) := dk_42 (dk_at dksX4_returns_5 18 rfl rfl)
theorem dX4_returns_136 : decode cX4_returns 136 = .ok (.iload_n 1, 1) := dk_27 (dk_at dksX4_returns_5 19 rfl rfl)
theorem dX4_returns_137 : decode cX4_returns 137 = .ok (.iconst 1, 1) := dk_4 (dk_at dksX4_returns_5 20 rfl rfl)
theorem dX4_returns_138 : decode cX4_returns 138 = .ok (.iand, 1) := dk_126 (dk_at dksX4_returns_5 21 rfl rfl)
theorem dX4_returns_139 : decode cX4_returns 139 = .ok (.putfield 163, 3) := dk_181 0 163 (dk_at dksX4_returns_6 0 rfl rfl)
theorem dX4_returns_142 : decode cX4_returns 142 = .ok (.aload_n 0, 1) := dk_42 (dk_at dksX4_returns_6 3 rfl rfl)
theorem dX4_returns_143 : decode cX4_returns 143 = .ok (.iload_n 1, 1) := dk_27 (dk_at dksX4_returns_6 4 rfl rfl)
theorem dX4_returns_144 : decode cX4_returns 144 = .ok (.iconst 1, 1) := dk_4 (dk_at dksX4_returns_6 5 rfl rfl)
theorem dX4_returns_145 : decode cX4_returns 145 = .ok (.ishr, 1) := dk_122 (dk_at dksX4_returns_6 6 rfl rfl)
theorem dX4_returns_146 : decode cX4_returns 146 = .ok (.iconst 1, 1) := dk_4 (dk_at dksX4_returns_6 7 rfl rfl)
theorem dX4_returns_147 : decode cX4_returns 147 = .ok (.iand, 1) := dk_126 (dk_at dksX4_returns_6 8 rfl rfl)
theorem dX4_returns_148 : decode cX4_returns 148 = .ok (.putfield 166, 3) := dk_181 0 166 (dk_at dksX4_returns_6 9 rfl rfl)
theorem dX4_returns_151 : decode cX4_returns 151 = .ok (.aload_n 0, 1) := dk_42 (dk_at dksX4_returns_6 12 rfl rfl)
theorem dX4_returns_152 : decode cX4_returns 152 = .ok (.aload_n 0, 1) := dk_42 (dk_at dksX4_returns_6 13 rfl rfl)
theorem dX4_returns_153 : decode cX4_returns 153 = .ok (.getfield 224, 3) := dk_180 0 224 (dk_at dksX4_returns_6 14 rfl rfl)
theorem dX4_returns_156 : decode cX4_returns 156 = .ok (.ifCond .eq 7, 3) := dk_153 0 7 (dk_at dksX4_returns_6 17 rfl rfl)
theorem dX4_returns_159 : decode cX4_returns 159 = .ok (.iconst 1, 1) := dk_4 (dk_at dksX4_returns_6 20 rfl rfl)
theorem dX4_returns_160 : decode cX4_returns 160 = .ok (.goto 4, 3) := dk_167 0 4 (dk_at dksX4_returns_6 21 rfl rfl)
theorem dX4_returns_163 : decode cX4_returns 163 = .ok (.iconst 0, 1) := dk_3 (dk_at dksX4_returns_7 0 rfl rfl)
theorem dX4_returns_164 : decode cX4_returns 164 = .ok (.putfield 215, 3) := dk_181 0 215 (dk_at dksX4_returns_7 1 rfl rfl)
theorem dX4_returns_167 : decode cX4_returns 167 = .ok (.aload_n 0, 1) := dk_42 (dk_at dksX4_returns_7 4 rfl rfl)
theorem dX4_returns_168 : decode cX4_returns 168 = .ok (.dup, 1) := dk_89 (dk_at dksX4_returns_7 5 rfl rfl)
theorem dX4_returns_169 : decode cX4_returns 169 = .ok (.getfield 172, 3) := dk_180 0 172 (dk_at dksX4_returns_7 6 rfl rfl)
theorem dX4_returns_172 : decode cX4_returns 172 = .ok (.aload_n 0, 1) := dk_42 (dk_at dksX4_returns_7 9 rfl rfl)
theorem dX4_returns_173 : decode cX4_returns 173 = .ok (.getfield 224, 3) := dk_180 0 224 (dk_at dksX4_returns_7 10 rfl rfl)
theorem dX4_returns_176 : decode cX4_returns 176 = .ok (.ifCond .eq 8, 3) := dk_153 0 8 (dk_at dksX4_returns_7 13 rfl rfl)
theorem dX4_returns_179 : decode cX4_returns 179 = .ok (.bipush 10, 2) := dk_16 10 (dk_at dksX4_returns_7 16 rfl rfl)
theorem dX4_returns_181 : decode cX4_returns 181 = .ok (.goto 5, 3) := dk_167 0 5 (dk_at dksX4_returns_7 18 rfl rfl)
theorem dX4_returns_184 : decode cX4_returns 184 = .ok (.bipush 6, 2) := dk_16 6 (dk_at dksX4_returns_7 21 rfl rfl)
theorem dX4_returns_186 : decode cX4_returns 186 = .ok (.isub, 1) := dk_100 (dk_at dksX4_returns_7 23 rfl rfl)
theorem dX4_returns_187 : decode cX4_returns 187 = .ok (.putfield 172, 3) := dk_181 0 172 (dk_at dksX4_returns_8 0 rfl rfl)
theorem dX4_returns_190 : decode cX4_returns 190 = .ok (.aload_n 0, 1) := dk_42 (dk_at dksX4_returns_8 3 rfl rfl)
theorem dX4_returns_191 : decode cX4_returns 191 = .ok (.iconst 0, 1) := dk_3 (dk_at dksX4_returns_8 4 rfl rfl)
theorem dX4_returns_192 : decode cX4_returns 192 = .ok (.invokevirtual 202, 3) := dk_182 0 202 (dk_at dksX4_returns_8 5 rfl rfl)
theorem dX4_returns_195 : decode cX4_returns 195 = .ok (.aload_n 0, 1) := dk_42 (dk_at dksX4_returns_8 8 rfl rfl)
theorem dX4_returns_196 : decode cX4_returns 196 = .ok (.getfield 227, 3) := dk_180 0 227 (dk_at dksX4_returns_8 9 rfl rfl)
theorem dX4_returns_199 : decode cX4_returns 199 = .ok (.ifCond .ne 44, 3) := dk_154 0 44 (dk_at dksX4_returns_8 12 rfl rfl)
theorem dX4_returns_202 : decode cX4_returns 202 = .ok (.aload_n 0, 1) := dk_42 (dk_at dksX4_returns_8 15 rfl rfl)
theorem dX4_returns_203 : decode cX4_returns 203 = .ok (.new 432, 3) := dk_187 1 176 (dk_at dksX4_returns_8 16 rfl rfl)
theorem dX4_returns_206 : decode cX4_returns 206 = .ok (.dup, 1) := dk_89 (dk_at dksX4_returns_8 19 rfl rfl)
theorem dX4_returns_207 : decode cX4_returns 207 = .ok (.aload_n 0, 1) := dk_42 (dk_at dksX4_returns_8 20 rfl rfl)
theorem dX4_returns_208 : decode cX4_returns 208 = .ok (.getfield 175, 3) := dk_180 0 175 (dk_at dksX4_returns_8 21 rfl rfl)
theorem dX4_returns_211 : decode cX4_returns 211 = .ok (.ifCond .ne 7, 3) := dk_154 0 7 (dk_at dksX4_returns_9 0 rfl rfl)
theorem dX4_returns_214 : decode cX4_returns 214 = .ok (.iconst (-1), 1) := dk_2 (dk_at dksX4_returns_9 3 rfl rfl)
theorem dX4_returns_215 : decode cX4_returns 215 = .ok (.goto 14, 3) := dk_167 0 14 (dk_at dksX4_returns_9 4 rfl rfl)
theorem dX4_returns_218 : decode cX4_returns 218 = .ok (.aload_n 0, 1) := dk_42 (dk_at dksX4_returns_9 7 rfl rfl)
theorem dX4_returns_219 : decode cX4_returns 219 = .ok (.getfield 43, 3) := dk_180 0 43 (dk_at dksX4_returns_9 8 rfl rfl)
theorem dX4_returns_222 : decode cX4_returns 222 = .ok (.aload_n 0, 1) := dk_42 (dk_at dksX4_returns_9 11 rfl rfl)
theorem dX4_returns_223 : decode cX4_returns 223 = .ok (.getfield 175, 3) := dk_180 0 175 (dk_at dksX4_returns_9 12 rfl rfl)
theorem dX4_returns_226 : decode cX4_returns 226 = .ok (.iconst 1, 1) := dk_4 (dk_at dksX4_returns_9 15 rfl rfl)
theorem dX4_returns_227 : decode cX4_returns 227 = .ok (.isub, 1) := dk_100 (dk_at dksX4_returns_9 16 rfl rfl)
theorem dX4_returns_228 : decode cX4_returns 228 = .ok (.iaload, 1) := dk_46 (dk_at dksX4_returns_9 17 rfl rfl)
theorem dX4_returns_229 : decode cX4_returns 229 = .ok (.aload_n 0, 1) := dk_42 (dk_at dksX4_returns_9 18 rfl rfl)
theorem dX4_returns_230 : decode cX4_returns 230 = .ok (.getfield 187, 3) := dk_180 0 187 (dk_at dksX4_returns_9 19 rfl rfl)
theorem dX4_returns_233 : decode cX4_returns 233 = .ok (.aload_n 0, 1) := dk_42 (dk_at dksX4_returns_9 22 rfl rfl)
theorem dX4_returns_234 : decode cX4_returns 234 = .ok (.getfield 172, 3) := dk_180 0 172 (dk_at dksX4_returns_10 0 rfl rfl)
theorem dX4_returns_237 : decode cX4_returns 237 = .ok (.invokespecial 434, 3) := dk_183 1 178 (dk_at dksX4_returns_10 3 rfl rfl)
theorem dX4_returns_240 : decode cX4_returns 240 = .ok (.invokevirtual 266, 3) := dk_182 1 10 (dk_at dksX4_returns_10 6 rfl rfl)
theorem dX4_returns_243 : decode cX4_returns 243 = .ok (.return_, 1) := dk_177 (dk_at dksX4_returns_10 9 rfl rfl)
abbrev cX4_number : ByteArray := prog_8_method_43_code
def yX4_number : MethodName := ⟨RX4, "number", "(I)F"⟩
def dkwX4_number_3 : List UInt8 := [156, 0, 13, 37, 13, 110, 70, 132, 4, 1, 167, 255, 244, 26, 156, 0, 8, 37, 118, 167, 0, 4, 37, 174]
abbrev dktX4_number_3 : List UInt8 := dkwX4_number_3 ++ []
def dkwX4_number_2 : List UInt8 := [17, 0, 150, 100, 54, 4, 21, 4, 158, 0, 13, 37, 13, 106, 70, 132, 4, 255, 167, 255, 244, 21, 4]
abbrev dktX4_number_2 : List UInt8 := dkwX4_number_2 ++ dktX4_number_3
def dkwX4_number_1 : List UInt8 := [27, 154, 0, 7, 28, 167, 0, 8, 28, 19, 1, 180, 96, 134, 70, 27, 154, 0, 7, 4, 167, 0, 4, 27]
abbrev dktX4_number_1 : List UInt8 := dkwX4_number_1 ++ dktX4_number_2
def dkwX4_number_0 : List UInt8 := [26, 16, 23, 122, 17, 0, 255, 126, 60, 27, 17, 0, 255, 160, 0, 5, 11, 174, 26, 19, 1, 179, 126, 61]
abbrev dktX4_number_0 : List UInt8 := dkwX4_number_0 ++ dktX4_number_1
theorem dksX4_number_0 : cX4_number.data.toList.drop 0 = dktX4_number_0 := by decide +kernel
theorem dksX4_number_1 : cX4_number.data.toList.drop 24 = dktX4_number_1 := dk_seg dksX4_number_0 24 rfl rfl
theorem dksX4_number_2 : cX4_number.data.toList.drop 48 = dktX4_number_2 := dk_seg dksX4_number_1 24 rfl rfl
theorem dksX4_number_3 : cX4_number.data.toList.drop 71 = dktX4_number_3 := dk_seg dksX4_number_2 23 rfl rfl
theorem dX4_number_0 : decode cX4_number 0 = .ok (.iload_n 0, 1) := dk_26 (dk_at dksX4_number_0 0 rfl rfl)
theorem dX4_number_1 : decode cX4_number 1 = .ok (.bipush 23, 2) := dk_16 23 (dk_at dksX4_number_0 1 rfl rfl)
theorem dX4_number_3 : decode cX4_number 3 = .ok (.ishr, 1) := dk_122 (dk_at dksX4_number_0 3 rfl rfl)
theorem dX4_number_4 : decode cX4_number 4 = .ok (.sipush 255, 3) := dk_17 0 255 (dk_at dksX4_number_0 4 rfl rfl)
theorem dX4_number_7 : decode cX4_number 7 = .ok (.iand, 1) := dk_126 (dk_at dksX4_number_0 7 rfl rfl)
theorem dX4_number_8 : decode cX4_number 8 = .ok (.istore_n 1, 1) := dk_60 (dk_at dksX4_number_0 8 rfl rfl)
theorem dX4_number_9 : decode cX4_number 9 = .ok (.iload_n 1, 1) := dk_27 (dk_at dksX4_number_0 9 rfl rfl)
theorem dX4_number_10 : decode cX4_number 10 = .ok (.sipush 255, 3) := dk_17 0 255 (dk_at dksX4_number_0 10 rfl rfl)
theorem dX4_number_13 : decode cX4_number 13 = .ok (.if_icmp .ne 5, 3) := dk_160 0 5 (dk_at dksX4_number_0 13 rfl rfl)
theorem dX4_number_16 : decode cX4_number 16 = .ok (.fconst 0, 1) := dk_11 (dk_at dksX4_number_0 16 rfl rfl)
theorem dX4_number_17 : decode cX4_number 17 = .ok (.freturn, 1) := dk_174 (dk_at dksX4_number_0 17 rfl rfl)
theorem dX4_number_18 : decode cX4_number 18 = .ok (.iload_n 0, 1) := dk_26 (dk_at dksX4_number_0 18 rfl rfl)
theorem dX4_number_19 : decode cX4_number 19 = .ok (.ldc_w 435, 3) := dk_19 1 179 (dk_at dksX4_number_0 19 rfl rfl)
theorem dX4_number_22 : decode cX4_number 22 = .ok (.iand, 1) := dk_126 (dk_at dksX4_number_0 22 rfl rfl)
theorem dX4_number_23 : decode cX4_number 23 = .ok (.istore_n 2, 1) := dk_61 (dk_at dksX4_number_0 23 rfl rfl)
theorem dX4_number_24 : decode cX4_number 24 = .ok (.iload_n 1, 1) := dk_27 (dk_at dksX4_number_1 0 rfl rfl)
theorem dX4_number_25 : decode cX4_number 25 = .ok (.ifCond .ne 7, 3) := dk_154 0 7 (dk_at dksX4_number_1 1 rfl rfl)
theorem dX4_number_28 : decode cX4_number 28 = .ok (.iload_n 2, 1) := dk_28 (dk_at dksX4_number_1 4 rfl rfl)
theorem dX4_number_29 : decode cX4_number 29 = .ok (.goto 8, 3) := dk_167 0 8 (dk_at dksX4_number_1 5 rfl rfl)
theorem dX4_number_32 : decode cX4_number 32 = .ok (.iload_n 2, 1) := dk_28 (dk_at dksX4_number_1 8 rfl rfl)
theorem dX4_number_33 : decode cX4_number 33 = .ok (.ldc_w 436, 3) := dk_19 1 180 (dk_at dksX4_number_1 9 rfl rfl)
theorem dX4_number_36 : decode cX4_number 36 = .ok (.iadd, 1) := dk_96 (dk_at dksX4_number_1 12 rfl rfl)
theorem dX4_number_37 : decode cX4_number 37 = .ok (.i2f, 1) := dk_134 (dk_at dksX4_number_1 13 rfl rfl)
theorem dX4_number_38 : decode cX4_number 38 = .ok (.fstore_n 3, 1) := dk_70 (dk_at dksX4_number_1 14 rfl rfl)
theorem dX4_number_39 : decode cX4_number 39 = .ok (.iload_n 1, 1) := dk_27 (dk_at dksX4_number_1 15 rfl rfl)
theorem dX4_number_40 : decode cX4_number 40 = .ok (.ifCond .ne 7, 3) := dk_154 0 7 (dk_at dksX4_number_1 16 rfl rfl)
theorem dX4_number_43 : decode cX4_number 43 = .ok (.iconst 1, 1) := dk_4 (dk_at dksX4_number_1 19 rfl rfl)
theorem dX4_number_44 : decode cX4_number 44 = .ok (.goto 4, 3) := dk_167 0 4 (dk_at dksX4_number_1 20 rfl rfl)
theorem dX4_number_47 : decode cX4_number 47 = .ok (.iload_n 1, 1) := dk_27 (dk_at dksX4_number_1 23 rfl rfl)
theorem dX4_number_48 : decode cX4_number 48 = .ok (.sipush 150, 3) := dk_17 0 150 (dk_at dksX4_number_2 0 rfl rfl)
theorem dX4_number_51 : decode cX4_number 51 = .ok (.isub, 1) := dk_100 (dk_at dksX4_number_2 3 rfl rfl)
theorem dX4_number_52 : decode cX4_number 52 = .ok (.istore 4, 2) := dk_54 4 (dk_at dksX4_number_2 4 rfl rfl)
theorem dX4_number_54 : decode cX4_number 54 = .ok (.iload 4, 2) := dk_21 4 (dk_at dksX4_number_2 6 rfl rfl)
theorem dX4_number_56 : decode cX4_number 56 = .ok (.ifCond .le 13, 3) := dk_158 0 13 (dk_at dksX4_number_2 8 rfl rfl)
theorem dX4_number_59 : decode cX4_number 59 = .ok (.fload_n 3, 1) := dk_37 (dk_at dksX4_number_2 11 rfl rfl)
theorem dX4_number_60 : decode cX4_number 60 = .ok (.fconst 2, 1) := dk_13 (dk_at dksX4_number_2 12 rfl rfl)
theorem dX4_number_61 : decode cX4_number 61 = .ok (.fmul, 1) := dk_106 (dk_at dksX4_number_2 13 rfl rfl)
theorem dX4_number_62 : decode cX4_number 62 = .ok (.fstore_n 3, 1) := dk_70 (dk_at dksX4_number_2 14 rfl rfl)
theorem dX4_number_63 : decode cX4_number 63 = .ok (.iinc 4 (-1), 3) := dk_132 4 255 (dk_at dksX4_number_2 15 rfl rfl)
theorem dX4_number_66 : decode cX4_number 66 = .ok (.goto (-12), 3) := dk_167 255 244 (dk_at dksX4_number_2 18 rfl rfl)
theorem dX4_number_69 : decode cX4_number 69 = .ok (.iload 4, 2) := dk_21 4 (dk_at dksX4_number_2 21 rfl rfl)
theorem dX4_number_71 : decode cX4_number 71 = .ok (.ifCond .ge 13, 3) := dk_156 0 13 (dk_at dksX4_number_3 0 rfl rfl)
theorem dX4_number_74 : decode cX4_number 74 = .ok (.fload_n 3, 1) := dk_37 (dk_at dksX4_number_3 3 rfl rfl)
theorem dX4_number_75 : decode cX4_number 75 = .ok (.fconst 2, 1) := dk_13 (dk_at dksX4_number_3 4 rfl rfl)
theorem dX4_number_76 : decode cX4_number 76 = .ok (.fdiv, 1) := dk_110 (dk_at dksX4_number_3 5 rfl rfl)
theorem dX4_number_77 : decode cX4_number 77 = .ok (.fstore_n 3, 1) := dk_70 (dk_at dksX4_number_3 6 rfl rfl)
theorem dX4_number_78 : decode cX4_number 78 = .ok (.iinc 4 1, 3) := dk_132 4 1 (dk_at dksX4_number_3 7 rfl rfl)
theorem dX4_number_81 : decode cX4_number 81 = .ok (.goto (-12), 3) := dk_167 255 244 (dk_at dksX4_number_3 10 rfl rfl)
theorem dX4_number_84 : decode cX4_number 84 = .ok (.iload_n 0, 1) := dk_26 (dk_at dksX4_number_3 13 rfl rfl)
theorem dX4_number_85 : decode cX4_number 85 = .ok (.ifCond .ge 8, 3) := dk_156 0 8 (dk_at dksX4_number_3 14 rfl rfl)
theorem dX4_number_88 : decode cX4_number 88 = .ok (.fload_n 3, 1) := dk_37 (dk_at dksX4_number_3 17 rfl rfl)
theorem dX4_number_89 : decode cX4_number 89 = .ok (.fneg, 1) := dk_118 (dk_at dksX4_number_3 18 rfl rfl)
theorem dX4_number_90 : decode cX4_number 90 = .ok (.goto 4, 3) := dk_167 0 4 (dk_at dksX4_number_3 19 rfl rfl)
theorem dX4_number_93 : decode cX4_number 93 = .ok (.fload_n 3, 1) := dk_37 (dk_at dksX4_number_3 22 rfl rfl)
theorem dX4_number_94 : decode cX4_number 94 = .ok (.freturn, 1) := dk_174 (dk_at dksX4_number_3 23 rfl rfl)
abbrev cX4_locked : ByteArray := prog_8_method_28_code
def yX4_locked : MethodName := ⟨RX4, "locked", "()V"⟩
def dkwX4_locked_0 : List UInt8 := [42, 3, 181, 0, 208, 177]
abbrev dktX4_locked_0 : List UInt8 := dkwX4_locked_0 ++ []
theorem dksX4_locked_0 : cX4_locked.data.toList.drop 0 = dktX4_locked_0 := by decide +kernel
theorem dX4_locked_0 : decode cX4_locked 0 = .ok (.aload_n 0, 1) := dk_42 (dk_at dksX4_locked_0 0 rfl rfl)
theorem dX4_locked_1 : decode cX4_locked 1 = .ok (.iconst 0, 1) := dk_3 (dk_at dksX4_locked_0 1 rfl rfl)
theorem dX4_locked_2 : decode cX4_locked 2 = .ok (.putfield 208, 3) := dk_181 0 208 (dk_at dksX4_locked_0 2 rfl rfl)
theorem dX4_locked_5 : decode cX4_locked 5 = .ok (.return_, 1) := dk_177 (dk_at dksX4_locked_0 5 rfl rfl)
abbrev cX4_lambda_new_0 : ByteArray := prog_8_method_49_code
def yX4_lambda_new_0 : MethodName := ⟨RX4, "lambda$new$0", "(II)I"⟩
theorem dX4_lambda_new_0_0 : decode cX4_lambda_new_0 0 = .ok (.iload_n 1, 1) := by decide +kernel
theorem dX4_lambda_new_0_1 : decode cX4_lambda_new_0 1 = .ok (.ireturn, 1) := by decide +kernel
abbrev cX4_lambda_new_1 : ByteArray := prog_8_method_48_code
def yX4_lambda_new_1 : MethodName := ⟨RX4, "lambda$new$1", "(II)I"⟩
def dkwX4_lambda_new_1_0 : List UInt8 := [42, 27, 182, 1, 181, 153, 0, 7, 27, 167, 0, 4, 28, 172]
abbrev dktX4_lambda_new_1_0 : List UInt8 := dkwX4_lambda_new_1_0 ++ []
theorem dksX4_lambda_new_1_0 : cX4_lambda_new_1.data.toList.drop 0 = dktX4_lambda_new_1_0 := by decide +kernel
theorem dX4_lambda_new_1_0 : decode cX4_lambda_new_1 0 = .ok (.aload_n 0, 1) := dk_42 (dk_at dksX4_lambda_new_1_0 0 rfl rfl)
theorem dX4_lambda_new_1_1 : decode cX4_lambda_new_1 1 = .ok (.iload_n 1, 1) := dk_27 (dk_at dksX4_lambda_new_1_0 1 rfl rfl)
theorem dX4_lambda_new_1_2 : decode cX4_lambda_new_1 2 = .ok (.invokevirtual 437, 3) := dk_182 1 181 (dk_at dksX4_lambda_new_1_0 2 rfl rfl)
theorem dX4_lambda_new_1_5 : decode cX4_lambda_new_1 5 = .ok (.ifCond .eq 7, 3) := dk_153 0 7 (dk_at dksX4_lambda_new_1_0 5 rfl rfl)
theorem dX4_lambda_new_1_8 : decode cX4_lambda_new_1 8 = .ok (.iload_n 1, 1) := dk_27 (dk_at dksX4_lambda_new_1_0 8 rfl rfl)
theorem dX4_lambda_new_1_9 : decode cX4_lambda_new_1 9 = .ok (.goto 4, 3) := dk_167 0 4 (dk_at dksX4_lambda_new_1_0 9 rfl rfl)
theorem dX4_lambda_new_1_12 : decode cX4_lambda_new_1 12 = .ok (.iload_n 2, 1) := dk_28 (dk_at dksX4_lambda_new_1_0 12 rfl rfl)
theorem dX4_lambda_new_1_13 : decode cX4_lambda_new_1 13 = .ok (.ireturn, 1) := dk_172 (dk_at dksX4_lambda_new_1_0 13 rfl rfl)
abbrev cX4_can : ByteArray := prog_8_method_17_code
def yX4_can : MethodName := ⟨RX4, "can", "(I)Z"⟩
def dkwX4_can_0 : List UInt8 := [42, 42, 180, 0, 39, 27, 50, 42, 182, 1, 37, 182, 1, 40, 172]
abbrev dktX4_can_0 : List UInt8 := dkwX4_can_0 ++ []
theorem dksX4_can_0 : cX4_can.data.toList.drop 0 = dktX4_can_0 := by decide +kernel
theorem dX4_can_0 : decode cX4_can 0 = .ok (.aload_n 0, 1) := dk_42 (dk_at dksX4_can_0 0 rfl rfl)
theorem dX4_can_1 : decode cX4_can 1 = .ok (.aload_n 0, 1) := dk_42 (dk_at dksX4_can_0 1 rfl rfl)
theorem dX4_can_2 : decode cX4_can 2 = .ok (.getfield 39, 3) := dk_180 0 39 (dk_at dksX4_can_0 2 rfl rfl)
theorem dX4_can_5 : decode cX4_can 5 = .ok (.iload_n 1, 1) := dk_27 (dk_at dksX4_can_0 5 rfl rfl)
theorem dX4_can_6 : decode cX4_can 6 = .ok (.aaload, 1) := dk_50 (dk_at dksX4_can_0 6 rfl rfl)
theorem dX4_can_7 : decode cX4_can 7 = .ok (.aload_n 0, 1) := dk_42 (dk_at dksX4_can_0 7 rfl rfl)
theorem dX4_can_8 : decode cX4_can 8 = .ok (.invokevirtual 293, 3) := dk_182 1 37 (dk_at dksX4_can_0 8 rfl rfl)
theorem dX4_can_11 : decode cX4_can 11 = .ok (.invokevirtual 296, 3) := dk_182 1 40 (dk_at dksX4_can_0 11 rfl rfl)
theorem dX4_can_14 : decode cX4_can 14 = .ok (.ireturn, 1) := dk_172 (dk_at dksX4_can_0 14 rfl rfl)
abbrev cX4_lambda_new_2 : ByteArray := prog_8_method_47_code
def yX4_lambda_new_2 : MethodName := ⟨RX4, "lambda$new$2", "(I)Z"⟩
def dkwX4_lambda_new_2_0 : List UInt8 := [26, 155, 0, 7, 4, 167, 0, 4, 3, 172]
abbrev dktX4_lambda_new_2_0 : List UInt8 := dkwX4_lambda_new_2_0 ++ []
theorem dksX4_lambda_new_2_0 : cX4_lambda_new_2.data.toList.drop 0 = dktX4_lambda_new_2_0 := by decide +kernel
theorem dX4_lambda_new_2_0 : decode cX4_lambda_new_2 0 = .ok (.iload_n 0, 1) := dk_26 (dk_at dksX4_lambda_new_2_0 0 rfl rfl)
theorem dX4_lambda_new_2_1 : decode cX4_lambda_new_2 1 = .ok (.ifCond .lt 7, 3) := dk_155 0 7 (dk_at dksX4_lambda_new_2_0 1 rfl rfl)
theorem dX4_lambda_new_2_4 : decode cX4_lambda_new_2 4 = .ok (.iconst 1, 1) := dk_4 (dk_at dksX4_lambda_new_2_0 4 rfl rfl)
theorem dX4_lambda_new_2_5 : decode cX4_lambda_new_2 5 = .ok (.goto 4, 3) := dk_167 0 4 (dk_at dksX4_lambda_new_2_0 5 rfl rfl)
theorem dX4_lambda_new_2_8 : decode cX4_lambda_new_2 8 = .ok (.iconst 0, 1) := dk_3 (dk_at dksX4_lambda_new_2_0 8 rfl rfl)
theorem dX4_lambda_new_2_9 : decode cX4_lambda_new_2 9 = .ok (.ireturn, 1) := dk_172 (dk_at dksX4_lambda_new_2_0 9 rfl rfl)
abbrev cX4_lambda_new_3 : ByteArray := prog_8_method_46_code
def yX4_lambda_new_3 : MethodName := ⟨RX4, "lambda$new$3", "(I)Z"⟩
theorem dX4_lambda_new_3_0 : decode cX4_lambda_new_3 0 = .ok (.iconst 0, 1) := by decide +kernel
theorem dX4_lambda_new_3_1 : decode cX4_lambda_new_3 1 = .ok (.ireturn, 1) := by decide +kernel
abbrev cX4_splits : ByteArray := prog_8_method_22_code
def yX4_splits : MethodName := ⟨RX4, "splits", "(I)V"⟩
def dkwX4_splits_0 : List UInt8 := [42, 27, 181, 0, 178, 42, 27, 184, 0, 127, 181, 0, 131, 177]
abbrev dktX4_splits_0 : List UInt8 := dkwX4_splits_0 ++ []
theorem dksX4_splits_0 : cX4_splits.data.toList.drop 0 = dktX4_splits_0 := by decide +kernel
theorem dX4_splits_0 : decode cX4_splits 0 = .ok (.aload_n 0, 1) := dk_42 (dk_at dksX4_splits_0 0 rfl rfl)
theorem dX4_splits_1 : decode cX4_splits 1 = .ok (.iload_n 1, 1) := dk_27 (dk_at dksX4_splits_0 1 rfl rfl)
theorem dX4_splits_2 : decode cX4_splits 2 = .ok (.putfield 178, 3) := dk_181 0 178 (dk_at dksX4_splits_0 2 rfl rfl)
theorem dX4_splits_5 : decode cX4_splits 5 = .ok (.aload_n 0, 1) := dk_42 (dk_at dksX4_splits_0 5 rfl rfl)
theorem dX4_splits_6 : decode cX4_splits 6 = .ok (.iload_n 1, 1) := dk_27 (dk_at dksX4_splits_0 6 rfl rfl)
theorem dX4_splits_7 : decode cX4_splits 7 = .ok (.invokestatic 127, 3) := dk_184 0 127 (dk_at dksX4_splits_0 7 rfl rfl)
theorem dX4_splits_10 : decode cX4_splits 10 = .ok (.putfield 131, 3) := dk_181 0 131 (dk_at dksX4_splits_0 10 rfl rfl)
theorem dX4_splits_13 : decode cX4_splits 13 = .ok (.return_, 1) := dk_177 (dk_at dksX4_splits_0 13 rfl rfl)
abbrev cX4_cycle : ByteArray := prog_8_method_27_code
def yX4_cycle : MethodName := ⟨RX4, "cycle", "()V"⟩
def dkwX4_cycle_5 : List UInt8 := [16, 16, 182, 1, 18, 87, 42, 42, 180, 0, 190, 181, 0, 193, 42, 180, 0, 118, 185, 1, 69, 1, 0, 177]
abbrev dktX4_cycle_5 : List UInt8 := dkwX4_cycle_5 ++ []
def dkwX4_cycle_4 : List UInt8 := [180, 0, 190, 158, 0, 35, 42, 89, 180, 0, 193, 4, 100, 181, 0, 193, 42, 180, 0, 193, 154, 0, 18, 42]
abbrev dktX4_cycle_4 : List UInt8 := dkwX4_cycle_4 ++ dktX4_cycle_5
def dkwX4_cycle_3 : List UInt8 := [42, 180, 0, 49, 28, 46, 79, 132, 1, 1, 132, 2, 1, 167, 255, 191, 42, 27, 181, 0, 196, 42]
abbrev dktX4_cycle_3 : List UInt8 := dkwX4_cycle_3 ++ dktX4_cycle_4
def dkwX4_cycle_2 : List UInt8 := [182, 1, 18, 87, 167, 0, 30, 42, 180, 0, 46, 27, 42, 180, 0, 46, 28, 46, 79, 42, 180, 0, 49, 27]
abbrev dktX4_cycle_2 : List UInt8 := dkwX4_cycle_2 ++ dktX4_cycle_3
def dkwX4_cycle_1 : List UInt8 := [162, 0, 63, 42, 180, 0, 46, 28, 46, 42, 180, 0, 187, 160, 0, 17, 42, 42, 180, 0, 49, 28, 46]
abbrev dktX4_cycle_1 : List UInt8 := dkwX4_cycle_1 ++ dktX4_cycle_2
def dkwX4_cycle_0 : List UInt8 := [42, 89, 180, 0, 187, 4, 96, 181, 0, 187, 42, 2, 181, 0, 139, 3, 60, 3, 61, 28, 42, 180, 0, 196]
abbrev dktX4_cycle_0 : List UInt8 := dkwX4_cycle_0 ++ dktX4_cycle_1
theorem dksX4_cycle_0 : cX4_cycle.data.toList.drop 0 = dktX4_cycle_0 := by decide +kernel
theorem dksX4_cycle_1 : cX4_cycle.data.toList.drop 24 = dktX4_cycle_1 := dk_seg dksX4_cycle_0 24 rfl rfl
theorem dksX4_cycle_2 : cX4_cycle.data.toList.drop 47 = dktX4_cycle_2 := dk_seg dksX4_cycle_1 23 rfl rfl
theorem dksX4_cycle_3 : cX4_cycle.data.toList.drop 71 = dktX4_cycle_3 := dk_seg dksX4_cycle_2 24 rfl rfl
theorem dksX4_cycle_4 : cX4_cycle.data.toList.drop 93 = dktX4_cycle_4 := dk_seg dksX4_cycle_3 22 rfl rfl
theorem dksX4_cycle_5 : cX4_cycle.data.toList.drop 117 = dktX4_cycle_5 := dk_seg dksX4_cycle_4 24 rfl rfl
theorem dX4_cycle_0 : decode cX4_cycle 0 = .ok (.aload_n 0, 1) := dk_42 (dk_at dksX4_cycle_0 0 rfl rfl)
theorem dX4_cycle_1 : decode cX4_cycle 1 = .ok (.dup, 1) := dk_89 (dk_at dksX4_cycle_0 1 rfl rfl)
theorem dX4_cycle_2 : decode cX4_cycle 2 = .ok (.getfield 187, 3) := dk_180 0 187 (dk_at dksX4_cycle_0 2 rfl rfl)
theorem dX4_cycle_5 : decode cX4_cycle 5 = .ok (.iconst 1, 1) := dk_4 (dk_at dksX4_cycle_0 5 rfl rfl)
theorem dX4_cycle_6 : decode cX4_cycle 6 = .ok (.iadd, 1) := dk_96 (dk_at dksX4_cycle_0 6 rfl rfl)
theorem dX4_cycle_7 : decode cX4_cycle 7 = .ok (.putfield 187, 3) := dk_181 0 187 (dk_at dksX4_cycle_0 7 rfl rfl)
theorem dX4_cycle_10 : decode cX4_cycle 10 = .ok (.aload_n 0, 1) := dk_42 (dk_at dksX4_cycle_0 10 rfl rfl)
theorem dX4_cycle_11 : decode cX4_cycle 11 = .ok (.iconst (-1), 1) := dk_2 (dk_at dksX4_cycle_0 11 rfl rfl)
theorem dX4_cycle_12 : decode cX4_cycle 12 = .ok (.putfield 139, 3) := dk_181 0 139 (dk_at dksX4_cycle_0 12 rfl rfl)
theorem dX4_cycle_15 : decode cX4_cycle 15 = .ok (.iconst 0, 1) := dk_3 (dk_at dksX4_cycle_0 15 rfl rfl)
theorem dX4_cycle_16 : decode cX4_cycle 16 = .ok (.istore_n 1, 1) := dk_60 (dk_at dksX4_cycle_0 16 rfl rfl)
theorem dX4_cycle_17 : decode cX4_cycle 17 = .ok (.iconst 0, 1) := dk_3 (dk_at dksX4_cycle_0 17 rfl rfl)
theorem dX4_cycle_18 : decode cX4_cycle 18 = .ok (.istore_n 2, 1) := dk_61 (dk_at dksX4_cycle_0 18 rfl rfl)
theorem dX4_cycle_19 : decode cX4_cycle 19 = .ok (.iload_n 2, 1) := dk_28 (dk_at dksX4_cycle_0 19 rfl rfl)
theorem dX4_cycle_20 : decode cX4_cycle 20 = .ok (.aload_n 0, 1) := dk_42 (dk_at dksX4_cycle_0 20 rfl rfl)
theorem dX4_cycle_21 : decode cX4_cycle 21 = .ok (.getfield 196, 3) := dk_180 0 196 (dk_at dksX4_cycle_0 21 rfl rfl)
theorem dX4_cycle_24 : decode cX4_cycle 24 = .ok (.if_icmp .ge 63, 3) := dk_162 0 63 (dk_at dksX4_cycle_1 0 rfl rfl)
theorem dX4_cycle_27 : decode cX4_cycle 27 = .ok (.aload_n 0, 1) := dk_42 (dk_at dksX4_cycle_1 3 rfl rfl)
theorem dX4_cycle_28 : decode cX4_cycle 28 = .ok (.getfield 46, 3) := dk_180 0 46 (dk_at dksX4_cycle_1 4 rfl rfl)
theorem dX4_cycle_31 : decode cX4_cycle 31 = .ok (.iload_n 2, 1) := dk_28 (dk_at dksX4_cycle_1 7 rfl rfl)
theorem dX4_cycle_32 : decode cX4_cycle 32 = .ok (.iaload, 1) := dk_46 (dk_at dksX4_cycle_1 8 rfl rfl)
theorem dX4_cycle_33 : decode cX4_cycle 33 = .ok (.aload_n 0, 1) := dk_42 (dk_at dksX4_cycle_1 9 rfl rfl)
theorem dX4_cycle_34 : decode cX4_cycle 34 = .ok (.getfield 187, 3) := dk_180 0 187 (dk_at dksX4_cycle_1 10 rfl rfl)
theorem dX4_cycle_37 : decode cX4_cycle 37 = .ok (.if_icmp .ne 17, 3) := dk_160 0 17 (dk_at dksX4_cycle_1 13 rfl rfl)
theorem dX4_cycle_40 : decode cX4_cycle 40 = .ok (.aload_n 0, 1) := dk_42 (dk_at dksX4_cycle_1 16 rfl rfl)
theorem dX4_cycle_41 : decode cX4_cycle 41 = .ok (.aload_n 0, 1) := dk_42 (dk_at dksX4_cycle_1 17 rfl rfl)
theorem dX4_cycle_42 : decode cX4_cycle 42 = .ok (.getfield 49, 3) := dk_180 0 49 (dk_at dksX4_cycle_1 18 rfl rfl)
theorem dX4_cycle_45 : decode cX4_cycle 45 = .ok (.iload_n 2, 1) := dk_28 (dk_at dksX4_cycle_1 21 rfl rfl)
theorem dX4_cycle_46 : decode cX4_cycle 46 = .ok (.iaload, 1) := dk_46 (dk_at dksX4_cycle_1 22 rfl rfl)
theorem dX4_cycle_47 : decode cX4_cycle 47 = .ok (.invokevirtual 274, 3) := dk_182 1 18 (dk_at dksX4_cycle_2 0 rfl rfl)
theorem dX4_cycle_50 : decode cX4_cycle 50 = .ok (.pop, 1) := dk_87 (dk_at dksX4_cycle_2 3 rfl rfl)
theorem dX4_cycle_51 : decode cX4_cycle 51 = .ok (.goto 30, 3) := dk_167 0 30 (dk_at dksX4_cycle_2 4 rfl rfl)
theorem dX4_cycle_54 : decode cX4_cycle 54 = .ok (.aload_n 0, 1) := dk_42 (dk_at dksX4_cycle_2 7 rfl rfl)
theorem dX4_cycle_55 : decode cX4_cycle 55 = .ok (.getfield 46, 3) := dk_180 0 46 (dk_at dksX4_cycle_2 8 rfl rfl)
theorem dX4_cycle_58 : decode cX4_cycle 58 = .ok (.iload_n 1, 1) := dk_27 (dk_at dksX4_cycle_2 11 rfl rfl)
theorem dX4_cycle_59 : decode cX4_cycle 59 = .ok (.aload_n 0, 1) := dk_42 (dk_at dksX4_cycle_2 12 rfl rfl)
theorem dX4_cycle_60 : decode cX4_cycle 60 = .ok (.getfield 46, 3) := dk_180 0 46 (dk_at dksX4_cycle_2 13 rfl rfl)
theorem dX4_cycle_63 : decode cX4_cycle 63 = .ok (.iload_n 2, 1) := dk_28 (dk_at dksX4_cycle_2 16 rfl rfl)
theorem dX4_cycle_64 : decode cX4_cycle 64 = .ok (.iaload, 1) := dk_46 (dk_at dksX4_cycle_2 17 rfl rfl)
theorem dX4_cycle_65 : decode cX4_cycle 65 = .ok (.iastore, 1) := dk_79 (dk_at dksX4_cycle_2 18 rfl rfl)
theorem dX4_cycle_66 : decode cX4_cycle 66 = .ok (.aload_n 0, 1) := dk_42 (dk_at dksX4_cycle_2 19 rfl rfl)
theorem dX4_cycle_67 : decode cX4_cycle 67 = .ok (.getfield 49, 3) := dk_180 0 49 (dk_at dksX4_cycle_2 20 rfl rfl)
theorem dX4_cycle_70 : decode cX4_cycle 70 = .ok (.iload_n 1, 1) := dk_27 (dk_at dksX4_cycle_2 23 rfl rfl)
theorem dX4_cycle_71 : decode cX4_cycle 71 = .ok (.aload_n 0, 1) := dk_42 (dk_at dksX4_cycle_3 0 rfl rfl)
theorem dX4_cycle_72 : decode cX4_cycle 72 = .ok (.getfield 49, 3) := dk_180 0 49 (dk_at dksX4_cycle_3 1 rfl rfl)
theorem dX4_cycle_75 : decode cX4_cycle 75 = .ok (.iload_n 2, 1) := dk_28 (dk_at dksX4_cycle_3 4 rfl rfl)
theorem dX4_cycle_76 : decode cX4_cycle 76 = .ok (.iaload, 1) := dk_46 (dk_at dksX4_cycle_3 5 rfl rfl)
theorem dX4_cycle_77 : decode cX4_cycle 77 = .ok (.iastore, 1) := dk_79 (dk_at dksX4_cycle_3 6 rfl rfl)
theorem dX4_cycle_78 : decode cX4_cycle 78 = .ok (.iinc 1 1, 3) := dk_132 1 1 (dk_at dksX4_cycle_3 7 rfl rfl)
theorem dX4_cycle_81 : decode cX4_cycle 81 = .ok (.iinc 2 1, 3) := dk_132 2 1 (dk_at dksX4_cycle_3 10 rfl rfl)
theorem dX4_cycle_84 : decode cX4_cycle 84 = .ok (.goto (-65), 3) := dk_167 255 191 (dk_at dksX4_cycle_3 13 rfl rfl)
theorem dX4_cycle_87 : decode cX4_cycle 87 = .ok (.aload_n 0, 1) := dk_42 (dk_at dksX4_cycle_3 16 rfl rfl)
theorem dX4_cycle_88 : decode cX4_cycle 88 = .ok (.iload_n 1, 1) := dk_27 (dk_at dksX4_cycle_3 17 rfl rfl)
theorem dX4_cycle_89 : decode cX4_cycle 89 = .ok (.putfield 196, 3) := dk_181 0 196 (dk_at dksX4_cycle_3 18 rfl rfl)
theorem dX4_cycle_92 : decode cX4_cycle 92 = .ok (.aload_n 0, 1) := dk_42 (dk_at dksX4_cycle_3 21 rfl rfl)
theorem dX4_cycle_93 : decode cX4_cycle 93 = .ok (.getfield 190, 3) := dk_180 0 190 (dk_at dksX4_cycle_4 0 rfl rfl)
theorem dX4_cycle_96 : decode cX4_cycle 96 = .ok (.ifCond .le 35, 3) := dk_158 0 35 (dk_at dksX4_cycle_4 3 rfl rfl)
theorem dX4_cycle_99 : decode cX4_cycle 99 = .ok (.aload_n 0, 1) := dk_42 (dk_at dksX4_cycle_4 6 rfl rfl)
theorem dX4_cycle_100 : decode cX4_cycle 100 = .ok (.dup, 1) := dk_89 (dk_at dksX4_cycle_4 7 rfl rfl)
theorem dX4_cycle_101 : decode cX4_cycle 101 = .ok (.getfield 193, 3) := dk_180 0 193 (dk_at dksX4_cycle_4 8 rfl rfl)
theorem dX4_cycle_104 : decode cX4_cycle 104 = .ok (.iconst 1, 1) := dk_4 (dk_at dksX4_cycle_4 11 rfl rfl)
theorem dX4_cycle_105 : decode cX4_cycle 105 = .ok (.isub, 1) := dk_100 (dk_at dksX4_cycle_4 12 rfl rfl)
theorem dX4_cycle_106 : decode cX4_cycle 106 = .ok (.putfield 193, 3) := dk_181 0 193 (dk_at dksX4_cycle_4 13 rfl rfl)
theorem dX4_cycle_109 : decode cX4_cycle 109 = .ok (.aload_n 0, 1) := dk_42 (dk_at dksX4_cycle_4 16 rfl rfl)
theorem dX4_cycle_110 : decode cX4_cycle 110 = .ok (.getfield 193, 3) := dk_180 0 193 (dk_at dksX4_cycle_4 17 rfl rfl)
theorem dX4_cycle_113 : decode cX4_cycle 113 = .ok (.ifCond .ne 18, 3) := dk_154 0 18 (dk_at dksX4_cycle_4 20 rfl rfl)
theorem dX4_cycle_116 : decode cX4_cycle 116 = .ok (.aload_n 0, 1) := dk_42 (dk_at dksX4_cycle_4 23 rfl rfl)
theorem dX4_cycle_117 : decode cX4_cycle 117 = .ok (.bipush 16, 2) := dk_16 16 (dk_at dksX4_cycle_5 0 rfl rfl)
theorem dX4_cycle_119 : decode cX4_cycle 119 = .ok (.invokevirtual 274, 3) := dk_182 1 18 (dk_at dksX4_cycle_5 2 rfl rfl)
theorem dX4_cycle_122 : decode cX4_cycle 122 = .ok (.pop, 1) := dk_87 (dk_at dksX4_cycle_5 5 rfl rfl)
theorem dX4_cycle_123 : decode cX4_cycle 123 = .ok (.aload_n 0, 1) := dk_42 (dk_at dksX4_cycle_5 6 rfl rfl)
theorem dX4_cycle_124 : decode cX4_cycle 124 = .ok (.aload_n 0, 1) := dk_42 (dk_at dksX4_cycle_5 7 rfl rfl)
theorem dX4_cycle_125 : decode cX4_cycle 125 = .ok (.getfield 190, 3) := dk_180 0 190 (dk_at dksX4_cycle_5 8 rfl rfl)
theorem dX4_cycle_128 : decode cX4_cycle 128 = .ok (.putfield 193, 3) := dk_181 0 193 (dk_at dksX4_cycle_5 11 rfl rfl)
theorem dX4_cycle_131 : decode cX4_cycle 131 = .ok (.aload_n 0, 1) := dk_42 (dk_at dksX4_cycle_5 14 rfl rfl)
theorem dX4_cycle_132 : decode cX4_cycle 132 = .ok (.getfield 118, 3) := dk_180 0 118 (dk_at dksX4_cycle_5 15 rfl rfl)
theorem dX4_cycle_135 : decode cX4_cycle 135 = .ok (.invokeinterface 325 1, 5) := by decide +kernel
theorem dX4_cycle_140 : decode cX4_cycle 140 = .ok (.return_, 1) := dk_177 (dk_at dksX4_cycle_5 23 rfl rfl)
abbrev cX4_forgets : ByteArray := prog_8_method_4_code
def yX4_forgets : MethodName := ⟨RX4, "forgets", "()V"⟩
def dkwX4_forgets_9 : List UInt8 := [3, 181, 0, 239, 177]
abbrev dktX4_forgets_9 : List UInt8 := dkwX4_forgets_9 ++ []
def dkwX4_forgets_8 : List UInt8 := [181, 0, 208, 42, 3, 181, 0, 211, 42, 3, 181, 0, 215, 42, 2, 181, 0, 135, 42, 3, 181, 0, 236, 42]
abbrev dktX4_forgets_8 : List UInt8 := dkwX4_forgets_8 ++ dktX4_forgets_9
def dkwX4_forgets_7 : List UInt8 := [3, 181, 0, 187, 42, 42, 180, 0, 190, 181, 0, 193, 42, 3, 181, 0, 196, 42, 3, 182, 0, 202, 42, 3]
abbrev dktX4_forgets_7 : List UInt8 := dkwX4_forgets_7 ++ dktX4_forgets_8
def dkwX4_forgets_6 : List UInt8 := [181, 0, 169, 42, 3, 181, 0, 172, 42, 3, 181, 0, 175, 42, 3, 181, 0, 181, 42, 3, 181, 0, 184, 42]
abbrev dktX4_forgets_6 : List UInt8 := dkwX4_forgets_6 ++ dktX4_forgets_7
def dkwX4_forgets_5 : List UInt8 := [180, 0, 52, 27, 3, 79, 132, 1, 1, 167, 255, 240, 42, 3, 181, 0, 163, 42, 3, 181, 0, 166, 42, 3]
abbrev dktX4_forgets_5 : List UInt8 := dkwX4_forgets_5 ++ dktX4_forgets_6
def dkwX4_forgets_4 : List UInt8 := [180, 0, 39, 27, 50, 182, 0, 233, 132, 1, 1, 167, 255, 238, 3, 60, 27, 16, 14, 162, 0, 16, 42]
abbrev dktX4_forgets_4 : List UInt8 := dkwX4_forgets_4 ++ dktX4_forgets_5
def dkwX4_forgets_3 : List UInt8 := [42, 180, 0, 34, 27, 3, 79, 132, 1, 1, 167, 255, 240, 3, 60, 27, 16, 21, 162, 0, 18, 42]
abbrev dktX4_forgets_3 : List UInt8 := dkwX4_forgets_3 ++ dktX4_forgets_4
def dkwX4_forgets_2 : List UInt8 := [162, 0, 16, 42, 180, 0, 31, 27, 3, 79, 132, 1, 1, 167, 255, 240, 3, 60, 27, 16, 96, 162, 0, 16]
abbrev dktX4_forgets_2 : List UInt8 := dkwX4_forgets_2 ++ dktX4_forgets_3
def dkwX4_forgets_1 : List UInt8 := [7, 162, 0, 16, 42, 180, 0, 27, 27, 11, 81, 132, 1, 1, 167, 255, 241, 3, 60, 27, 16, 16]
abbrev dktX4_forgets_1 : List UInt8 := dkwX4_forgets_1 ++ dktX4_forgets_2
def dkwX4_forgets_0 : List UInt8 := [3, 60, 27, 16, 8, 162, 0, 16, 42, 180, 0, 23, 27, 3, 79, 132, 1, 1, 167, 255, 240, 3, 60, 27]
abbrev dktX4_forgets_0 : List UInt8 := dkwX4_forgets_0 ++ dktX4_forgets_1
theorem dksX4_forgets_0 : cX4_forgets.data.toList.drop 0 = dktX4_forgets_0 := by decide +kernel
theorem dksX4_forgets_1 : cX4_forgets.data.toList.drop 24 = dktX4_forgets_1 := dk_seg dksX4_forgets_0 24 rfl rfl
theorem dksX4_forgets_2 : cX4_forgets.data.toList.drop 46 = dktX4_forgets_2 := dk_seg dksX4_forgets_1 22 rfl rfl
theorem dksX4_forgets_3 : cX4_forgets.data.toList.drop 70 = dktX4_forgets_3 := dk_seg dksX4_forgets_2 24 rfl rfl
theorem dksX4_forgets_4 : cX4_forgets.data.toList.drop 92 = dktX4_forgets_4 := dk_seg dksX4_forgets_3 22 rfl rfl
theorem dksX4_forgets_5 : cX4_forgets.data.toList.drop 115 = dktX4_forgets_5 := dk_seg dksX4_forgets_4 23 rfl rfl
theorem dksX4_forgets_6 : cX4_forgets.data.toList.drop 139 = dktX4_forgets_6 := dk_seg dksX4_forgets_5 24 rfl rfl
theorem dksX4_forgets_7 : cX4_forgets.data.toList.drop 163 = dktX4_forgets_7 := dk_seg dksX4_forgets_6 24 rfl rfl
theorem dksX4_forgets_8 : cX4_forgets.data.toList.drop 187 = dktX4_forgets_8 := dk_seg dksX4_forgets_7 24 rfl rfl
theorem dksX4_forgets_9 : cX4_forgets.data.toList.drop 211 = dktX4_forgets_9 := dk_seg dksX4_forgets_8 24 rfl rfl
theorem dX4_forgets_0 : decode cX4_forgets 0 = .ok (.iconst 0, 1) := dk_3 (dk_at dksX4_forgets_0 0 rfl rfl)
theorem dX4_forgets_1 : decode cX4_forgets 1 = .ok (.istore_n 1, 1) := dk_60 (dk_at dksX4_forgets_0 1 rfl rfl)
theorem dX4_forgets_2 : decode cX4_forgets 2 = .ok (.iload_n 1, 1) := dk_27 (dk_at dksX4_forgets_0 2 rfl rfl)
theorem dX4_forgets_3 : decode cX4_forgets 3 = .ok (.bipush 8, 2) := dk_16 8 (dk_at dksX4_forgets_0 3 rfl rfl)
theorem dX4_forgets_5 : decode cX4_forgets 5 = .ok (.if_icmp .ge 16, 3) := dk_162 0 16 (dk_at dksX4_forgets_0 5 rfl rfl)
theorem dX4_forgets_8 : decode cX4_forgets 8 = .ok (.aload_n 0, 1) := dk_42 (dk_at dksX4_forgets_0 8 rfl rfl)
theorem dX4_forgets_9 : decode cX4_forgets 9 = .ok (.getfield 23, 3) := dk_180 0 23 (dk_at dksX4_forgets_0 9 rfl rfl)
theorem dX4_forgets_12 : decode cX4_forgets 12 = .ok (.iload_n 1, 1) := dk_27 (dk_at dksX4_forgets_0 12 rfl rfl)
theorem dX4_forgets_13 : decode cX4_forgets 13 = .ok (.iconst 0, 1) := dk_3 (dk_at dksX4_forgets_0 13 rfl rfl)
theorem dX4_forgets_14 : decode cX4_forgets 14 = .ok (.iastore, 1) := dk_79 (dk_at dksX4_forgets_0 14 rfl rfl)
theorem dX4_forgets_15 : decode cX4_forgets 15 = .ok (.iinc 1 1, 3) := dk_132 1 1 (dk_at dksX4_forgets_0 15 rfl rfl)
theorem dX4_forgets_18 : decode cX4_forgets 18 = .ok (.goto (-16), 3) := dk_167 255 240 (dk_at dksX4_forgets_0 18 rfl rfl)
theorem dX4_forgets_21 : decode cX4_forgets 21 = .ok (.iconst 0, 1) := dk_3 (dk_at dksX4_forgets_0 21 rfl rfl)
theorem dX4_forgets_22 : decode cX4_forgets 22 = .ok (.istore_n 1, 1) := dk_60 (dk_at dksX4_forgets_0 22 rfl rfl)
theorem dX4_forgets_23 : decode cX4_forgets 23 = .ok (.iload_n 1, 1) := dk_27 (dk_at dksX4_forgets_0 23 rfl rfl)
theorem dX4_forgets_24 : decode cX4_forgets 24 = .ok (.iconst 4, 1) := dk_7 (dk_at dksX4_forgets_1 0 rfl rfl)
theorem dX4_forgets_25 : decode cX4_forgets 25 = .ok (.if_icmp .ge 16, 3) := dk_162 0 16 (dk_at dksX4_forgets_1 1 rfl rfl)
theorem dX4_forgets_28 : decode cX4_forgets 28 = .ok (.aload_n 0, 1) := dk_42 (dk_at dksX4_forgets_1 4 rfl rfl)
theorem dX4_forgets_29 : decode cX4_forgets 29 = .ok (.getfield 27, 3) := dk_180 0 27 (dk_at dksX4_forgets_1 5 rfl rfl)
theorem dX4_forgets_32 : decode cX4_forgets 32 = .ok (.iload_n 1, 1) := dk_27 (dk_at dksX4_forgets_1 8 rfl rfl)
theorem dX4_forgets_33 : decode cX4_forgets 33 = .ok (.fconst 0, 1) := dk_11 (dk_at dksX4_forgets_1 9 rfl rfl)
theorem dX4_forgets_34 : decode cX4_forgets 34 = .ok (.fastore, 1) := dk_81 (dk_at dksX4_forgets_1 10 rfl rfl)
theorem dX4_forgets_35 : decode cX4_forgets 35 = .ok (.iinc 1 1, 3) := dk_132 1 1 (dk_at dksX4_forgets_1 11 rfl rfl)
theorem dX4_forgets_38 : decode cX4_forgets 38 = .ok (.goto (-15), 3) := dk_167 255 241 (dk_at dksX4_forgets_1 14 rfl rfl)
theorem dX4_forgets_41 : decode cX4_forgets 41 = .ok (.iconst 0, 1) := dk_3 (dk_at dksX4_forgets_1 17 rfl rfl)
theorem dX4_forgets_42 : decode cX4_forgets 42 = .ok (.istore_n 1, 1) := dk_60 (dk_at dksX4_forgets_1 18 rfl rfl)
theorem dX4_forgets_43 : decode cX4_forgets 43 = .ok (.iload_n 1, 1) := dk_27 (dk_at dksX4_forgets_1 19 rfl rfl)
theorem dX4_forgets_44 : decode cX4_forgets 44 = .ok (.bipush 16, 2) := dk_16 16 (dk_at dksX4_forgets_1 20 rfl rfl)
theorem dX4_forgets_46 : decode cX4_forgets 46 = .ok (.if_icmp .ge 16, 3) := dk_162 0 16 (dk_at dksX4_forgets_2 0 rfl rfl)
theorem dX4_forgets_49 : decode cX4_forgets 49 = .ok (.aload_n 0, 1) := dk_42 (dk_at dksX4_forgets_2 3 rfl rfl)
theorem dX4_forgets_50 : decode cX4_forgets 50 = .ok (.getfield 31, 3) := dk_180 0 31 (dk_at dksX4_forgets_2 4 rfl rfl)
theorem dX4_forgets_53 : decode cX4_forgets 53 = .ok (.iload_n 1, 1) := dk_27 (dk_at dksX4_forgets_2 7 rfl rfl)
theorem dX4_forgets_54 : decode cX4_forgets 54 = .ok (.iconst 0, 1) := dk_3 (dk_at dksX4_forgets_2 8 rfl rfl)
theorem dX4_forgets_55 : decode cX4_forgets 55 = .ok (.iastore, 1) := dk_79 (dk_at dksX4_forgets_2 9 rfl rfl)
theorem dX4_forgets_56 : decode cX4_forgets 56 = .ok (.iinc 1 1, 3) := dk_132 1 1 (dk_at dksX4_forgets_2 10 rfl rfl)
theorem dX4_forgets_59 : decode cX4_forgets 59 = .ok (.goto (-16), 3) := dk_167 255 240 (dk_at dksX4_forgets_2 13 rfl rfl)
theorem dX4_forgets_62 : decode cX4_forgets 62 = .ok (.iconst 0, 1) := dk_3 (dk_at dksX4_forgets_2 16 rfl rfl)
theorem dX4_forgets_63 : decode cX4_forgets 63 = .ok (.istore_n 1, 1) := dk_60 (dk_at dksX4_forgets_2 17 rfl rfl)
theorem dX4_forgets_64 : decode cX4_forgets 64 = .ok (.iload_n 1, 1) := dk_27 (dk_at dksX4_forgets_2 18 rfl rfl)
theorem dX4_forgets_65 : decode cX4_forgets 65 = .ok (.bipush 96, 2) := dk_16 96 (dk_at dksX4_forgets_2 19 rfl rfl)
theorem dX4_forgets_67 : decode cX4_forgets 67 = .ok (.if_icmp .ge 16, 3) := dk_162 0 16 (dk_at dksX4_forgets_2 21 rfl rfl)
theorem dX4_forgets_70 : decode cX4_forgets 70 = .ok (.aload_n 0, 1) := dk_42 (dk_at dksX4_forgets_3 0 rfl rfl)
theorem dX4_forgets_71 : decode cX4_forgets 71 = .ok (.getfield 34, 3) := dk_180 0 34 (dk_at dksX4_forgets_3 1 rfl rfl)
theorem dX4_forgets_74 : decode cX4_forgets 74 = .ok (.iload_n 1, 1) := dk_27 (dk_at dksX4_forgets_3 4 rfl rfl)
theorem dX4_forgets_75 : decode cX4_forgets 75 = .ok (.iconst 0, 1) := dk_3 (dk_at dksX4_forgets_3 5 rfl rfl)
theorem dX4_forgets_76 : decode cX4_forgets 76 = .ok (.iastore, 1) := dk_79 (dk_at dksX4_forgets_3 6 rfl rfl)
theorem dX4_forgets_77 : decode cX4_forgets 77 = .ok (.iinc 1 1, 3) := dk_132 1 1 (dk_at dksX4_forgets_3 7 rfl rfl)
theorem dX4_forgets_80 : decode cX4_forgets 80 = .ok (.goto (-16), 3) := dk_167 255 240 (dk_at dksX4_forgets_3 10 rfl rfl)
theorem dX4_forgets_83 : decode cX4_forgets 83 = .ok (.iconst 0, 1) := dk_3 (dk_at dksX4_forgets_3 13 rfl rfl)
theorem dX4_forgets_84 : decode cX4_forgets 84 = .ok (.istore_n 1, 1) := dk_60 (dk_at dksX4_forgets_3 14 rfl rfl)
theorem dX4_forgets_85 : decode cX4_forgets 85 = .ok (.iload_n 1, 1) := dk_27 (dk_at dksX4_forgets_3 15 rfl rfl)
theorem dX4_forgets_86 : decode cX4_forgets 86 = .ok (.bipush 21, 2) := dk_16 21 (dk_at dksX4_forgets_3 16 rfl rfl)
theorem dX4_forgets_88 : decode cX4_forgets 88 = .ok (.if_icmp .ge 18, 3) := dk_162 0 18 (dk_at dksX4_forgets_3 18 rfl rfl)
theorem dX4_forgets_91 : decode cX4_forgets 91 = .ok (.aload_n 0, 1) := dk_42 (dk_at dksX4_forgets_3 21 rfl rfl)
theorem dX4_forgets_92 : decode cX4_forgets 92 = .ok (.getfield 39, 3) := dk_180 0 39 (dk_at dksX4_forgets_4 0 rfl rfl)
theorem dX4_forgets_95 : decode cX4_forgets 95 = .ok (.iload_n 1, 1) := dk_27 (dk_at dksX4_forgets_4 3 rfl rfl)
theorem dX4_forgets_96 : decode cX4_forgets 96 = .ok (.aaload, 1) := dk_50 (dk_at dksX4_forgets_4 4 rfl rfl)
theorem dX4_forgets_97 : decode cX4_forgets 97 = .ok (.invokevirtual 233, 3) := dk_182 0 233 (dk_at dksX4_forgets_4 5 rfl rfl)
theorem dX4_forgets_100 : decode cX4_forgets 100 = .ok (.iinc 1 1, 3) := dk_132 1 1 (dk_at dksX4_forgets_4 8 rfl rfl)
theorem dX4_forgets_103 : decode cX4_forgets 103 = .ok (.goto (-18), 3) := dk_167 255 238 (dk_at dksX4_forgets_4 11 rfl rfl)
theorem dX4_forgets_106 : decode cX4_forgets 106 = .ok (.iconst 0, 1) := dk_3 (dk_at dksX4_forgets_4 14 rfl rfl)
theorem dX4_forgets_107 : decode cX4_forgets 107 = .ok (.istore_n 1, 1) := dk_60 (dk_at dksX4_forgets_4 15 rfl rfl)
theorem dX4_forgets_108 : decode cX4_forgets 108 = .ok (.iload_n 1, 1) := dk_27 (dk_at dksX4_forgets_4 16 rfl rfl)
theorem dX4_forgets_109 : decode cX4_forgets 109 = .ok (.bipush 14, 2) := dk_16 14 (dk_at dksX4_forgets_4 17 rfl rfl)
theorem dX4_forgets_111 : decode cX4_forgets 111 = .ok (.if_icmp .ge 16, 3) := dk_162 0 16 (dk_at dksX4_forgets_4 19 rfl rfl)
theorem dX4_forgets_114 : decode cX4_forgets 114 = .ok (.aload_n 0, 1) := dk_42 (dk_at dksX4_forgets_4 22 rfl rfl)
theorem dX4_forgets_115 : decode cX4_forgets 115 = .ok (.getfield 52, 3) := dk_180 0 52 (dk_at dksX4_forgets_5 0 rfl rfl)
theorem dX4_forgets_118 : decode cX4_forgets 118 = .ok (.iload_n 1, 1) := dk_27 (dk_at dksX4_forgets_5 3 rfl rfl)
theorem dX4_forgets_119 : decode cX4_forgets 119 = .ok (.iconst 0, 1) := dk_3 (dk_at dksX4_forgets_5 4 rfl rfl)
theorem dX4_forgets_120 : decode cX4_forgets 120 = .ok (.iastore, 1) := dk_79 (dk_at dksX4_forgets_5 5 rfl rfl)
theorem dX4_forgets_121 : decode cX4_forgets 121 = .ok (.iinc 1 1, 3) := dk_132 1 1 (dk_at dksX4_forgets_5 6 rfl rfl)
theorem dX4_forgets_124 : decode cX4_forgets 124 = .ok (.goto (-16), 3) := dk_167 255 240 (dk_at dksX4_forgets_5 9 rfl rfl)
theorem dX4_forgets_127 : decode cX4_forgets 127 = .ok (.aload_n 0, 1) := dk_42 (dk_at dksX4_forgets_5 12 rfl rfl)
theorem dX4_forgets_128 : decode cX4_forgets 128 = .ok (.iconst 0, 1) := dk_3 (dk_at dksX4_forgets_5 13 rfl rfl)
theorem dX4_forgets_129 : decode cX4_forgets 129 = .ok (.putfield 163, 3) := dk_181 0 163 (dk_at dksX4_forgets_5 14 rfl rfl)
theorem dX4_forgets_132 : decode cX4_forgets 132 = .ok (.aload_n 0, 1) := dk_42 (dk_at dksX4_forgets_5 17 rfl rfl)
theorem dX4_forgets_133 : decode cX4_forgets 133 = .ok (.iconst 0, 1) := dk_3 (dk_at dksX4_forgets_5 18 rfl rfl)
theorem dX4_forgets_134 : decode cX4_forgets 134 = .ok (.putfield 166, 3) := dk_181 0 166 (dk_at dksX4_forgets_5 19 rfl rfl)
theorem dX4_forgets_137 : decode cX4_forgets 137 = .ok (.aload_n 0, 1) := dk_42 (dk_at dksX4_forgets_5 22 rfl rfl)
theorem dX4_forgets_138 : decode cX4_forgets 138 = .ok (.iconst 0, 1) := dk_3 (dk_at dksX4_forgets_5 23 rfl rfl)
theorem dX4_forgets_139 : decode cX4_forgets 139 = .ok (.putfield 169, 3) := dk_181 0 169 (dk_at dksX4_forgets_6 0 rfl rfl)
theorem dX4_forgets_142 : decode cX4_forgets 142 = .ok (.aload_n 0, 1) := dk_42 (dk_at dksX4_forgets_6 3 rfl rfl)
theorem dX4_forgets_143 : decode cX4_forgets 143 = .ok (.iconst 0, 1) := dk_3 (dk_at dksX4_forgets_6 4 rfl rfl)
theorem dX4_forgets_144 : decode cX4_forgets 144 = .ok (.putfield 172, 3) := dk_181 0 172 (dk_at dksX4_forgets_6 5 rfl rfl)
theorem dX4_forgets_147 : decode cX4_forgets 147 = .ok (.aload_n 0, 1) := dk_42 (dk_at dksX4_forgets_6 8 rfl rfl)
theorem dX4_forgets_148 : decode cX4_forgets 148 = .ok (.iconst 0, 1) := dk_3 (dk_at dksX4_forgets_6 9 rfl rfl)
theorem dX4_forgets_149 : decode cX4_forgets 149 = .ok (.putfield 175, 3) := dk_181 0 175 (dk_at dksX4_forgets_6 10 rfl rfl)
theorem dX4_forgets_152 : decode cX4_forgets 152 = .ok (.aload_n 0, 1) := dk_42 (dk_at dksX4_forgets_6 13 rfl rfl)
theorem dX4_forgets_153 : decode cX4_forgets 153 = .ok (.iconst 0, 1) := dk_3 (dk_at dksX4_forgets_6 14 rfl rfl)
theorem dX4_forgets_154 : decode cX4_forgets 154 = .ok (.putfield 181, 3) := dk_181 0 181 (dk_at dksX4_forgets_6 15 rfl rfl)
theorem dX4_forgets_157 : decode cX4_forgets 157 = .ok (.aload_n 0, 1) := dk_42 (dk_at dksX4_forgets_6 18 rfl rfl)
theorem dX4_forgets_158 : decode cX4_forgets 158 = .ok (.iconst 0, 1) := dk_3 (dk_at dksX4_forgets_6 19 rfl rfl)
theorem dX4_forgets_159 : decode cX4_forgets 159 = .ok (.putfield 184, 3) := dk_181 0 184 (dk_at dksX4_forgets_6 20 rfl rfl)
theorem dX4_forgets_162 : decode cX4_forgets 162 = .ok (.aload_n 0, 1) := dk_42 (dk_at dksX4_forgets_6 23 rfl rfl)
theorem dX4_forgets_163 : decode cX4_forgets 163 = .ok (.iconst 0, 1) := dk_3 (dk_at dksX4_forgets_7 0 rfl rfl)
theorem dX4_forgets_164 : decode cX4_forgets 164 = .ok (.putfield 187, 3) := dk_181 0 187 (dk_at dksX4_forgets_7 1 rfl rfl)
theorem dX4_forgets_167 : decode cX4_forgets 167 = .ok (.aload_n 0, 1) := dk_42 (dk_at dksX4_forgets_7 4 rfl rfl)
theorem dX4_forgets_168 : decode cX4_forgets 168 = .ok (.aload_n 0, 1) := dk_42 (dk_at dksX4_forgets_7 5 rfl rfl)
theorem dX4_forgets_169 : decode cX4_forgets 169 = .ok (.getfield 190, 3) := dk_180 0 190 (dk_at dksX4_forgets_7 6 rfl rfl)
theorem dX4_forgets_172 : decode cX4_forgets 172 = .ok (.putfield 193, 3) := dk_181 0 193 (dk_at dksX4_forgets_7 9 rfl rfl)
theorem dX4_forgets_175 : decode cX4_forgets 175 = .ok (.aload_n 0, 1) := dk_42 (dk_at dksX4_forgets_7 12 rfl rfl)
theorem dX4_forgets_176 : decode cX4_forgets 176 = .ok (.iconst 0, 1) := dk_3 (dk_at dksX4_forgets_7 13 rfl rfl)
theorem dX4_forgets_177 : decode cX4_forgets 177 = .ok (.putfield 196, 3) := dk_181 0 196 (dk_at dksX4_forgets_7 14 rfl rfl)
theorem dX4_forgets_180 : decode cX4_forgets 180 = .ok (.aload_n 0, 1) := dk_42 (dk_at dksX4_forgets_7 17 rfl rfl)
theorem dX4_forgets_181 : decode cX4_forgets 181 = .ok (.iconst 0, 1) := dk_3 (dk_at dksX4_forgets_7 18 rfl rfl)
theorem dX4_forgets_182 : decode cX4_forgets 182 = .ok (.invokevirtual 202, 3) := dk_182 0 202 (dk_at dksX4_forgets_7 19 rfl rfl)
theorem dX4_forgets_185 : decode cX4_forgets 185 = .ok (.aload_n 0, 1) := dk_42 (dk_at dksX4_forgets_7 22 rfl rfl)
theorem dX4_forgets_186 : decode cX4_forgets 186 = .ok (.iconst 0, 1) := dk_3 (dk_at dksX4_forgets_7 23 rfl rfl)
theorem dX4_forgets_187 : decode cX4_forgets 187 = .ok (.putfield 208, 3) := dk_181 0 208 (dk_at dksX4_forgets_8 0 rfl rfl)
theorem dX4_forgets_190 : decode cX4_forgets 190 = .ok (.aload_n 0, 1) := dk_42 (dk_at dksX4_forgets_8 3 rfl rfl)
theorem dX4_forgets_191 : decode cX4_forgets 191 = .ok (.iconst 0, 1) := dk_3 (dk_at dksX4_forgets_8 4 rfl rfl)
theorem dX4_forgets_192 : decode cX4_forgets 192 = .ok (.putfield 211, 3) := dk_181 0 211 (dk_at dksX4_forgets_8 5 rfl rfl)
theorem dX4_forgets_195 : decode cX4_forgets 195 = .ok (.aload_n 0, 1) := dk_42 (dk_at dksX4_forgets_8 8 rfl rfl)
theorem dX4_forgets_196 : decode cX4_forgets 196 = .ok (.iconst 0, 1) := dk_3 (dk_at dksX4_forgets_8 9 rfl rfl)
theorem dX4_forgets_197 : decode cX4_forgets 197 = .ok (.putfield 215, 3) := dk_181 0 215 (dk_at dksX4_forgets_8 10 rfl rfl)
theorem dX4_forgets_200 : decode cX4_forgets 200 = .ok (.aload_n 0, 1) := dk_42 (dk_at dksX4_forgets_8 13 rfl rfl)
theorem dX4_forgets_201 : decode cX4_forgets 201 = .ok (.iconst (-1), 1) := dk_2 (dk_at dksX4_forgets_8 14 rfl rfl)
theorem dX4_forgets_202 : decode cX4_forgets 202 = .ok (.putfield 135, 3) := dk_181 0 135 (dk_at dksX4_forgets_8 15 rfl rfl)
theorem dX4_forgets_205 : decode cX4_forgets 205 = .ok (.aload_n 0, 1) := dk_42 (dk_at dksX4_forgets_8 18 rfl rfl)
theorem dX4_forgets_206 : decode cX4_forgets 206 = .ok (.iconst 0, 1) := dk_3 (dk_at dksX4_forgets_8 19 rfl rfl)
theorem dX4_forgets_207 : decode cX4_forgets 207 = .ok (.putfield 236, 3) := dk_181 0 236 (dk_at dksX4_forgets_8 20 rfl rfl)
theorem dX4_forgets_210 : decode cX4_forgets 210 = .ok (.aload_n 0, 1) := dk_42 (dk_at dksX4_forgets_8 23 rfl rfl)
theorem dX4_forgets_211 : decode cX4_forgets 211 = .ok (.iconst 0, 1) := dk_3 (dk_at dksX4_forgets_9 0 rfl rfl)
theorem dX4_forgets_212 : decode cX4_forgets 212 = .ok (.putfield 239, 3) := dk_181 0 239 (dk_at dksX4_forgets_9 1 rfl rfl)
theorem dX4_forgets_215 : decode cX4_forgets 215 = .ok (.return_, 1) := dk_177 (dk_at dksX4_forgets_9 4 rfl rfl)
abbrev cX4_takes : ByteArray := prog_8_method_2_code
def yX4_takes : MethodName := ⟨RX4, "takes", "(LRankEntry$Core;)V"⟩
def dkwX4_takes_13 : List UInt8 := [180, 0, 221, 181, 0, 221, 42, 43, 180, 0, 224, 181, 0, 224, 177]
abbrev dktX4_takes_13 : List UInt8 := dkwX4_takes_13 ++ []
def dkwX4_takes_12 : List UInt8 := [180, 0, 215, 181, 0, 215, 42, 43, 180, 0, 135, 181, 0, 135, 42, 43, 180, 0, 218, 181, 0, 218, 42, 43]
abbrev dktX4_takes_12 : List UInt8 := dkwX4_takes_12 ++ dktX4_takes_13
def dkwX4_takes_11 : List UInt8 := [180, 0, 205, 181, 0, 205, 42, 43, 180, 0, 208, 181, 0, 208, 42, 43, 180, 0, 211, 181, 0, 211, 42, 43]
abbrev dktX4_takes_11 : List UInt8 := dkwX4_takes_11 ++ dktX4_takes_12
def dkwX4_takes_10 : List UInt8 := [180, 0, 193, 181, 0, 193, 42, 43, 180, 0, 196, 181, 0, 196, 42, 43, 180, 0, 199, 182, 0, 202, 42, 43]
abbrev dktX4_takes_10 : List UInt8 := dkwX4_takes_10 ++ dktX4_takes_11
def dkwX4_takes_9 : List UInt8 := [180, 0, 184, 181, 0, 184, 42, 43, 180, 0, 187, 181, 0, 187, 42, 43, 180, 0, 190, 181, 0, 190, 42, 43]
abbrev dktX4_takes_9 : List UInt8 := dkwX4_takes_9 ++ dktX4_takes_10
def dkwX4_takes_8 : List UInt8 := [180, 0, 178, 181, 0, 178, 42, 43, 180, 0, 131, 181, 0, 131, 42, 43, 180, 0, 181, 181, 0, 181, 42, 43]
abbrev dktX4_takes_8 : List UInt8 := dkwX4_takes_8 ++ dktX4_takes_9
def dkwX4_takes_7 : List UInt8 := [180, 0, 169, 181, 0, 169, 42, 43, 180, 0, 172, 181, 0, 172, 42, 43, 180, 0, 175, 181, 0, 175, 42, 43]
abbrev dktX4_takes_7 : List UInt8 := dkwX4_takes_7 ++ dktX4_takes_8
def dkwX4_takes_6 : List UInt8 := [16, 32, 184, 0, 153, 42, 43, 180, 0, 163, 181, 0, 163, 42, 43, 180, 0, 166, 181, 0, 166, 42, 43]
abbrev dktX4_takes_6 : List UInt8 := dkwX4_takes_6 ++ dktX4_takes_7
def dkwX4_takes_5 : List UInt8 := [180, 0, 46, 3, 42, 180, 0, 46, 3, 16, 32, 184, 0, 153, 43, 180, 0, 49, 3, 42, 180, 0, 49, 3]
abbrev dktX4_takes_5 : List UInt8 := dkwX4_takes_5 ++ dktX4_takes_6
def dkwX4_takes_4 : List UInt8 := [132, 2, 1, 167, 255, 232, 43, 180, 0, 43, 3, 42, 180, 0, 43, 3, 16, 21, 184, 0, 153, 43]
abbrev dktX4_takes_4 : List UInt8 := dkwX4_takes_4 ++ dktX4_takes_5
def dkwX4_takes_3 : List UInt8 := [3, 61, 28, 16, 21, 162, 0, 24, 42, 180, 0, 39, 28, 50, 43, 180, 0, 39, 28, 50, 182, 0, 159]
abbrev dktX4_takes_3 : List UInt8 := dkwX4_takes_3 ++ dktX4_takes_4
def dkwX4_takes_2 : List UInt8 := [180, 0, 31, 3, 16, 16, 184, 0, 153, 43, 180, 0, 34, 3, 42, 180, 0, 34, 3, 16, 96, 184, 0, 153]
abbrev dktX4_takes_2 : List UInt8 := dkwX4_takes_2 ++ dktX4_takes_3
def dkwX4_takes_1 : List UInt8 := [180, 0, 27, 28, 43, 180, 0, 27, 28, 48, 81, 132, 2, 1, 167, 255, 236, 43, 180, 0, 31, 3, 42]
abbrev dktX4_takes_1 : List UInt8 := dkwX4_takes_1 ++ dktX4_takes_2
def dkwX4_takes_0 : List UInt8 := [43, 180, 0, 23, 3, 42, 180, 0, 23, 3, 16, 8, 184, 0, 153, 3, 61, 28, 7, 162, 0, 21, 42]
abbrev dktX4_takes_0 : List UInt8 := dkwX4_takes_0 ++ dktX4_takes_1
theorem dksX4_takes_0 : cX4_takes.data.toList.drop 0 = dktX4_takes_0 := by decide +kernel
theorem dksX4_takes_1 : cX4_takes.data.toList.drop 23 = dktX4_takes_1 := dk_seg dksX4_takes_0 23 rfl rfl
theorem dksX4_takes_2 : cX4_takes.data.toList.drop 46 = dktX4_takes_2 := dk_seg dksX4_takes_1 23 rfl rfl
theorem dksX4_takes_3 : cX4_takes.data.toList.drop 70 = dktX4_takes_3 := dk_seg dksX4_takes_2 24 rfl rfl
theorem dksX4_takes_4 : cX4_takes.data.toList.drop 93 = dktX4_takes_4 := dk_seg dksX4_takes_3 23 rfl rfl
theorem dksX4_takes_5 : cX4_takes.data.toList.drop 115 = dktX4_takes_5 := dk_seg dksX4_takes_4 22 rfl rfl
theorem dksX4_takes_6 : cX4_takes.data.toList.drop 139 = dktX4_takes_6 := dk_seg dksX4_takes_5 24 rfl rfl
theorem dksX4_takes_7 : cX4_takes.data.toList.drop 162 = dktX4_takes_7 := dk_seg dksX4_takes_6 23 rfl rfl
theorem dksX4_takes_8 : cX4_takes.data.toList.drop 186 = dktX4_takes_8 := dk_seg dksX4_takes_7 24 rfl rfl
theorem dksX4_takes_9 : cX4_takes.data.toList.drop 210 = dktX4_takes_9 := dk_seg dksX4_takes_8 24 rfl rfl
theorem dksX4_takes_10 : cX4_takes.data.toList.drop 234 = dktX4_takes_10 := dk_seg dksX4_takes_9 24 rfl rfl
theorem dksX4_takes_11 : cX4_takes.data.toList.drop 258 = dktX4_takes_11 := dk_seg dksX4_takes_10 24 rfl rfl
theorem dksX4_takes_12 : cX4_takes.data.toList.drop 282 = dktX4_takes_12 := dk_seg dksX4_takes_11 24 rfl rfl
theorem dksX4_takes_13 : cX4_takes.data.toList.drop 306 = dktX4_takes_13 := dk_seg dksX4_takes_12 24 rfl rfl
theorem dX4_takes_0 : decode cX4_takes 0 = .ok (.aload_n 1, 1) := dk_43 (dk_at dksX4_takes_0 0 rfl rfl)
theorem dX4_takes_1 : decode cX4_takes 1 = .ok (.getfield 23, 3) := dk_180 0 23 (dk_at dksX4_takes_0 1 rfl rfl)
theorem dX4_takes_4 : decode cX4_takes 4 = .ok (.iconst 0, 1) := dk_3 (dk_at dksX4_takes_0 4 rfl rfl)
theorem dX4_takes_5 : decode cX4_takes 5 = .ok (.aload_n 0, 1) := dk_42 (dk_at dksX4_takes_0 5 rfl rfl)
theorem dX4_takes_6 : decode cX4_takes 6 = .ok (.getfield 23, 3) := dk_180 0 23 (dk_at dksX4_takes_0 6 rfl rfl)
theorem dX4_takes_9 : decode cX4_takes 9 = .ok (.iconst 0, 1) := dk_3 (dk_at dksX4_takes_0 9 rfl rfl)
theorem dX4_takes_10 : decode cX4_takes 10 = .ok (.bipush 8, 2) := dk_16 8 (dk_at dksX4_takes_0 10 rfl rfl)
theorem dX4_takes_12 : decode cX4_takes 12 = .ok (.invokestatic 153, 3) := dk_184 0 153 (dk_at dksX4_takes_0 12 rfl rfl)
theorem dX4_takes_15 : decode cX4_takes 15 = .ok (.iconst 0, 1) := dk_3 (dk_at dksX4_takes_0 15 rfl rfl)
theorem dX4_takes_16 : decode cX4_takes 16 = .ok (.istore_n 2, 1) := dk_61 (dk_at dksX4_takes_0 16 rfl rfl)
theorem dX4_takes_17 : decode cX4_takes 17 = .ok (.iload_n 2, 1) := dk_28 (dk_at dksX4_takes_0 17 rfl rfl)
theorem dX4_takes_18 : decode cX4_takes 18 = .ok (.iconst 4, 1) := dk_7 (dk_at dksX4_takes_0 18 rfl rfl)
theorem dX4_takes_19 : decode cX4_takes 19 = .ok (.if_icmp .ge 21, 3) := dk_162 0 21 (dk_at dksX4_takes_0 19 rfl rfl)
theorem dX4_takes_22 : decode cX4_takes 22 = .ok (.aload_n 0, 1) := dk_42 (dk_at dksX4_takes_0 22 rfl rfl)
theorem dX4_takes_23 : decode cX4_takes 23 = .ok (.getfield 27, 3) := dk_180 0 27 (dk_at dksX4_takes_1 0 rfl rfl)
theorem dX4_takes_26 : decode cX4_takes 26 = .ok (.iload_n 2, 1) := dk_28 (dk_at dksX4_takes_1 3 rfl rfl)
theorem dX4_takes_27 : decode cX4_takes 27 = .ok (.aload_n 1, 1) := dk_43 (dk_at dksX4_takes_1 4 rfl rfl)
theorem dX4_takes_28 : decode cX4_takes 28 = .ok (.getfield 27, 3) := dk_180 0 27 (dk_at dksX4_takes_1 5 rfl rfl)
theorem dX4_takes_31 : decode cX4_takes 31 = .ok (.iload_n 2, 1) := dk_28 (dk_at dksX4_takes_1 8 rfl rfl)
theorem dX4_takes_32 : decode cX4_takes 32 = .ok (.faload, 1) := dk_48 (dk_at dksX4_takes_1 9 rfl rfl)
theorem dX4_takes_33 : decode cX4_takes 33 = .ok (.fastore, 1) := dk_81 (dk_at dksX4_takes_1 10 rfl rfl)
theorem dX4_takes_34 : decode cX4_takes 34 = .ok (.iinc 2 1, 3) := dk_132 2 1 (dk_at dksX4_takes_1 11 rfl rfl)
theorem dX4_takes_37 : decode cX4_takes 37 = .ok (.goto (-20), 3) := dk_167 255 236 (dk_at dksX4_takes_1 14 rfl rfl)
theorem dX4_takes_40 : decode cX4_takes 40 = .ok (.aload_n 1, 1) := dk_43 (dk_at dksX4_takes_1 17 rfl rfl)
theorem dX4_takes_41 : decode cX4_takes 41 = .ok (.getfield 31, 3) := dk_180 0 31 (dk_at dksX4_takes_1 18 rfl rfl)
theorem dX4_takes_44 : decode cX4_takes 44 = .ok (.iconst 0, 1) := dk_3 (dk_at dksX4_takes_1 21 rfl rfl)
theorem dX4_takes_45 : decode cX4_takes 45 = .ok (.aload_n 0, 1) := dk_42 (dk_at dksX4_takes_1 22 rfl rfl)
theorem dX4_takes_46 : decode cX4_takes 46 = .ok (.getfield 31, 3) := dk_180 0 31 (dk_at dksX4_takes_2 0 rfl rfl)
theorem dX4_takes_49 : decode cX4_takes 49 = .ok (.iconst 0, 1) := dk_3 (dk_at dksX4_takes_2 3 rfl rfl)
theorem dX4_takes_50 : decode cX4_takes 50 = .ok (.bipush 16, 2) := dk_16 16 (dk_at dksX4_takes_2 4 rfl rfl)
theorem dX4_takes_52 : decode cX4_takes 52 = .ok (.invokestatic 153, 3) := dk_184 0 153 (dk_at dksX4_takes_2 6 rfl rfl)
theorem dX4_takes_55 : decode cX4_takes 55 = .ok (.aload_n 1, 1) := dk_43 (dk_at dksX4_takes_2 9 rfl rfl)
theorem dX4_takes_56 : decode cX4_takes 56 = .ok (.getfield 34, 3) := dk_180 0 34 (dk_at dksX4_takes_2 10 rfl rfl)
theorem dX4_takes_59 : decode cX4_takes 59 = .ok (.iconst 0, 1) := dk_3 (dk_at dksX4_takes_2 13 rfl rfl)
theorem dX4_takes_60 : decode cX4_takes 60 = .ok (.aload_n 0, 1) := dk_42 (dk_at dksX4_takes_2 14 rfl rfl)
theorem dX4_takes_61 : decode cX4_takes 61 = .ok (.getfield 34, 3) := dk_180 0 34 (dk_at dksX4_takes_2 15 rfl rfl)
theorem dX4_takes_64 : decode cX4_takes 64 = .ok (.iconst 0, 1) := dk_3 (dk_at dksX4_takes_2 18 rfl rfl)
theorem dX4_takes_65 : decode cX4_takes 65 = .ok (.bipush 96, 2) := dk_16 96 (dk_at dksX4_takes_2 19 rfl rfl)
theorem dX4_takes_67 : decode cX4_takes 67 = .ok (.invokestatic 153, 3) := dk_184 0 153 (dk_at dksX4_takes_2 21 rfl rfl)
theorem dX4_takes_70 : decode cX4_takes 70 = .ok (.iconst 0, 1) := dk_3 (dk_at dksX4_takes_3 0 rfl rfl)
theorem dX4_takes_71 : decode cX4_takes 71 = .ok (.istore_n 2, 1) := dk_61 (dk_at dksX4_takes_3 1 rfl rfl)
theorem dX4_takes_72 : decode cX4_takes 72 = .ok (.iload_n 2, 1) := dk_28 (dk_at dksX4_takes_3 2 rfl rfl)
theorem dX4_takes_73 : decode cX4_takes 73 = .ok (.bipush 21, 2) := dk_16 21 (dk_at dksX4_takes_3 3 rfl rfl)
theorem dX4_takes_75 : decode cX4_takes 75 = .ok (.if_icmp .ge 24, 3) := dk_162 0 24 (dk_at dksX4_takes_3 5 rfl rfl)
theorem dX4_takes_78 : decode cX4_takes 78 = .ok (.aload_n 0, 1) := dk_42 (dk_at dksX4_takes_3 8 rfl rfl)
theorem dX4_takes_79 : decode cX4_takes 79 = .ok (.getfield 39, 3) := dk_180 0 39 (dk_at dksX4_takes_3 9 rfl rfl)
theorem dX4_takes_82 : decode cX4_takes 82 = .ok (.iload_n 2, 1) := dk_28 (dk_at dksX4_takes_3 12 rfl rfl)
theorem dX4_takes_83 : decode cX4_takes 83 = .ok (.aaload, 1) := dk_50 (dk_at dksX4_takes_3 13 rfl rfl)
theorem dX4_takes_84 : decode cX4_takes 84 = .ok (.aload_n 1, 1) := dk_43 (dk_at dksX4_takes_3 14 rfl rfl)
theorem dX4_takes_85 : decode cX4_takes 85 = .ok (.getfield 39, 3) := dk_180 0 39 (dk_at dksX4_takes_3 15 rfl rfl)
theorem dX4_takes_88 : decode cX4_takes 88 = .ok (.iload_n 2, 1) := dk_28 (dk_at dksX4_takes_3 18 rfl rfl)
theorem dX4_takes_89 : decode cX4_takes 89 = .ok (.aaload, 1) := dk_50 (dk_at dksX4_takes_3 19 rfl rfl)
theorem dX4_takes_90 : decode cX4_takes 90 = .ok (.invokevirtual 159, 3) := dk_182 0 159 (dk_at dksX4_takes_3 20 rfl rfl)
theorem dX4_takes_93 : decode cX4_takes 93 = .ok (.iinc 2 1, 3) := dk_132 2 1 (dk_at dksX4_takes_4 0 rfl rfl)
theorem dX4_takes_96 : decode cX4_takes 96 = .ok (.goto (-24), 3) := dk_167 255 232 (dk_at dksX4_takes_4 3 rfl rfl)
theorem dX4_takes_99 : decode cX4_takes 99 = .ok (.aload_n 1, 1) := dk_43 (dk_at dksX4_takes_4 6 rfl rfl)
theorem dX4_takes_100 : decode cX4_takes 100 = .ok (.getfield 43, 3) := dk_180 0 43 (dk_at dksX4_takes_4 7 rfl rfl)
theorem dX4_takes_103 : decode cX4_takes 103 = .ok (.iconst 0, 1) := dk_3 (dk_at dksX4_takes_4 10 rfl rfl)
theorem dX4_takes_104 : decode cX4_takes 104 = .ok (.aload_n 0, 1) := dk_42 (dk_at dksX4_takes_4 11 rfl rfl)
theorem dX4_takes_105 : decode cX4_takes 105 = .ok (.getfield 43, 3) := dk_180 0 43 (dk_at dksX4_takes_4 12 rfl rfl)
theorem dX4_takes_108 : decode cX4_takes 108 = .ok (.iconst 0, 1) := dk_3 (dk_at dksX4_takes_4 15 rfl rfl)
theorem dX4_takes_109 : decode cX4_takes 109 = .ok (.bipush 21, 2) := dk_16 21 (dk_at dksX4_takes_4 16 rfl rfl)
theorem dX4_takes_111 : decode cX4_takes 111 = .ok (.invokestatic 153, 3) := dk_184 0 153 (dk_at dksX4_takes_4 18 rfl rfl)
theorem dX4_takes_114 : decode cX4_takes 114 = .ok (.aload_n 1, 1) := dk_43 (dk_at dksX4_takes_4 21 rfl rfl)
theorem dX4_takes_115 : decode cX4_takes 115 = .ok (.getfield 46, 3) := dk_180 0 46 (dk_at dksX4_takes_5 0 rfl rfl)
theorem dX4_takes_118 : decode cX4_takes 118 = .ok (.iconst 0, 1) := dk_3 (dk_at dksX4_takes_5 3 rfl rfl)
theorem dX4_takes_119 : decode cX4_takes 119 = .ok (.aload_n 0, 1) := dk_42 (dk_at dksX4_takes_5 4 rfl rfl)
theorem dX4_takes_120 : decode cX4_takes 120 = .ok (.getfield 46, 3) := dk_180 0 46 (dk_at dksX4_takes_5 5 rfl rfl)
theorem dX4_takes_123 : decode cX4_takes 123 = .ok (.iconst 0, 1) := dk_3 (dk_at dksX4_takes_5 8 rfl rfl)
theorem dX4_takes_124 : decode cX4_takes 124 = .ok (.bipush 32, 2) := dk_16 32 (dk_at dksX4_takes_5 9 rfl rfl)
theorem dX4_takes_126 : decode cX4_takes 126 = .ok (.invokestatic 153, 3) := dk_184 0 153 (dk_at dksX4_takes_5 11 rfl rfl)
theorem dX4_takes_129 : decode cX4_takes 129 = .ok (.aload_n 1, 1) := dk_43 (dk_at dksX4_takes_5 14 rfl rfl)
theorem dX4_takes_130 : decode cX4_takes 130 = .ok (.getfield 49, 3) := dk_180 0 49 (dk_at dksX4_takes_5 15 rfl rfl)
theorem dX4_takes_133 : decode cX4_takes 133 = .ok (.iconst 0, 1) := dk_3 (dk_at dksX4_takes_5 18 rfl rfl)
theorem dX4_takes_134 : decode cX4_takes 134 = .ok (.aload_n 0, 1) := dk_42 (dk_at dksX4_takes_5 19 rfl rfl)
theorem dX4_takes_135 : decode cX4_takes 135 = .ok (.getfield 49, 3) := dk_180 0 49 (dk_at dksX4_takes_5 20 rfl rfl)
theorem dX4_takes_138 : decode cX4_takes 138 = .ok (.iconst 0, 1) := dk_3 (dk_at dksX4_takes_5 23 rfl rfl)
theorem dX4_takes_139 : decode cX4_takes 139 = .ok (.bipush 32, 2) := dk_16 32 (dk_at dksX4_takes_6 0 rfl rfl)
theorem dX4_takes_141 : decode cX4_takes 141 = .ok (.invokestatic 153, 3) := dk_184 0 153 (dk_at dksX4_takes_6 2 rfl rfl)
theorem dX4_takes_144 : decode cX4_takes 144 = .ok (.aload_n 0, 1) := dk_42 (dk_at dksX4_takes_6 5 rfl rfl)
theorem dX4_takes_145 : decode cX4_takes 145 = .ok (.aload_n 1, 1) := dk_43 (dk_at dksX4_takes_6 6 rfl rfl)
theorem dX4_takes_146 : decode cX4_takes 146 = .ok (.getfield 163, 3) := dk_180 0 163 (dk_at dksX4_takes_6 7 rfl rfl)
theorem dX4_takes_149 : decode cX4_takes 149 = .ok (.putfield 163, 3) := dk_181 0 163 (dk_at dksX4_takes_6 10 rfl rfl)
theorem dX4_takes_152 : decode cX4_takes 152 = .ok (.aload_n 0, 1) := dk_42 (dk_at dksX4_takes_6 13 rfl rfl)
theorem dX4_takes_153 : decode cX4_takes 153 = .ok (.aload_n 1, 1) := dk_43 (dk_at dksX4_takes_6 14 rfl rfl)
theorem dX4_takes_154 : decode cX4_takes 154 = .ok (.getfield 166, 3) := dk_180 0 166 (dk_at dksX4_takes_6 15 rfl rfl)
theorem dX4_takes_157 : decode cX4_takes 157 = .ok (.putfield 166, 3) := dk_181 0 166 (dk_at dksX4_takes_6 18 rfl rfl)
theorem dX4_takes_160 : decode cX4_takes 160 = .ok (.aload_n 0, 1) := dk_42 (dk_at dksX4_takes_6 21 rfl rfl)
theorem dX4_takes_161 : decode cX4_takes 161 = .ok (.aload_n 1, 1) := dk_43 (dk_at dksX4_takes_6 22 rfl rfl)
theorem dX4_takes_162 : decode cX4_takes 162 = .ok (.getfield 169, 3) := dk_180 0 169 (dk_at dksX4_takes_7 0 rfl rfl)
theorem dX4_takes_165 : decode cX4_takes 165 = .ok (.putfield 169, 3) := dk_181 0 169 (dk_at dksX4_takes_7 3 rfl rfl)
theorem dX4_takes_168 : decode cX4_takes 168 = .ok (.aload_n 0, 1) := dk_42 (dk_at dksX4_takes_7 6 rfl rfl)
theorem dX4_takes_169 : decode cX4_takes 169 = .ok (.aload_n 1, 1) := dk_43 (dk_at dksX4_takes_7 7 rfl rfl)
theorem dX4_takes_170 : decode cX4_takes 170 = .ok (.getfield 172, 3) := dk_180 0 172 (dk_at dksX4_takes_7 8 rfl rfl)
theorem dX4_takes_173 : decode cX4_takes 173 = .ok (.putfield 172, 3) := dk_181 0 172 (dk_at dksX4_takes_7 11 rfl rfl)
theorem dX4_takes_176 : decode cX4_takes 176 = .ok (.aload_n 0, 1) := dk_42 (dk_at dksX4_takes_7 14 rfl rfl)
theorem dX4_takes_177 : decode cX4_takes 177 = .ok (.aload_n 1, 1) := dk_43 (dk_at dksX4_takes_7 15 rfl rfl)
theorem dX4_takes_178 : decode cX4_takes 178 = .ok (.getfield 175, 3) := dk_180 0 175 (dk_at dksX4_takes_7 16 rfl rfl)
theorem dX4_takes_181 : decode cX4_takes 181 = .ok (.putfield 175, 3) := dk_181 0 175 (dk_at dksX4_takes_7 19 rfl rfl)
theorem dX4_takes_184 : decode cX4_takes 184 = .ok (.aload_n 0, 1) := dk_42 (dk_at dksX4_takes_7 22 rfl rfl)
theorem dX4_takes_185 : decode cX4_takes 185 = .ok (.aload_n 1, 1) := dk_43 (dk_at dksX4_takes_7 23 rfl rfl)
theorem dX4_takes_186 : decode cX4_takes 186 = .ok (.getfield 178, 3) := dk_180 0 178 (dk_at dksX4_takes_8 0 rfl rfl)
theorem dX4_takes_189 : decode cX4_takes 189 = .ok (.putfield 178, 3) := dk_181 0 178 (dk_at dksX4_takes_8 3 rfl rfl)
theorem dX4_takes_192 : decode cX4_takes 192 = .ok (.aload_n 0, 1) := dk_42 (dk_at dksX4_takes_8 6 rfl rfl)
theorem dX4_takes_193 : decode cX4_takes 193 = .ok (.aload_n 1, 1) := dk_43 (dk_at dksX4_takes_8 7 rfl rfl)
theorem dX4_takes_194 : decode cX4_takes 194 = .ok (.getfield 131, 3) := dk_180 0 131 (dk_at dksX4_takes_8 8 rfl rfl)
theorem dX4_takes_197 : decode cX4_takes 197 = .ok (.putfield 131, 3) := dk_181 0 131 (dk_at dksX4_takes_8 11 rfl rfl)
theorem dX4_takes_200 : decode cX4_takes 200 = .ok (.aload_n 0, 1) := dk_42 (dk_at dksX4_takes_8 14 rfl rfl)
theorem dX4_takes_201 : decode cX4_takes 201 = .ok (.aload_n 1, 1) := dk_43 (dk_at dksX4_takes_8 15 rfl rfl)
theorem dX4_takes_202 : decode cX4_takes 202 = .ok (.getfield 181, 3) := dk_180 0 181 (dk_at dksX4_takes_8 16 rfl rfl)
theorem dX4_takes_205 : decode cX4_takes 205 = .ok (.putfield 181, 3) := dk_181 0 181 (dk_at dksX4_takes_8 19 rfl rfl)
theorem dX4_takes_208 : decode cX4_takes 208 = .ok (.aload_n 0, 1) := dk_42 (dk_at dksX4_takes_8 22 rfl rfl)
theorem dX4_takes_209 : decode cX4_takes 209 = .ok (.aload_n 1, 1) := dk_43 (dk_at dksX4_takes_8 23 rfl rfl)
theorem dX4_takes_210 : decode cX4_takes 210 = .ok (.getfield 184, 3) := dk_180 0 184 (dk_at dksX4_takes_9 0 rfl rfl)
theorem dX4_takes_213 : decode cX4_takes 213 = .ok (.putfield 184, 3) := dk_181 0 184 (dk_at dksX4_takes_9 3 rfl rfl)
theorem dX4_takes_216 : decode cX4_takes 216 = .ok (.aload_n 0, 1) := dk_42 (dk_at dksX4_takes_9 6 rfl rfl)
theorem dX4_takes_217 : decode cX4_takes 217 = .ok (.aload_n 1, 1) := dk_43 (dk_at dksX4_takes_9 7 rfl rfl)
theorem dX4_takes_218 : decode cX4_takes 218 = .ok (.getfield 187, 3) := dk_180 0 187 (dk_at dksX4_takes_9 8 rfl rfl)
theorem dX4_takes_221 : decode cX4_takes 221 = .ok (.putfield 187, 3) := dk_181 0 187 (dk_at dksX4_takes_9 11 rfl rfl)
theorem dX4_takes_224 : decode cX4_takes 224 = .ok (.aload_n 0, 1) := dk_42 (dk_at dksX4_takes_9 14 rfl rfl)
theorem dX4_takes_225 : decode cX4_takes 225 = .ok (.aload_n 1, 1) := dk_43 (dk_at dksX4_takes_9 15 rfl rfl)
theorem dX4_takes_226 : decode cX4_takes 226 = .ok (.getfield 190, 3) := dk_180 0 190 (dk_at dksX4_takes_9 16 rfl rfl)
theorem dX4_takes_229 : decode cX4_takes 229 = .ok (.putfield 190, 3) := dk_181 0 190 (dk_at dksX4_takes_9 19 rfl rfl)
theorem dX4_takes_232 : decode cX4_takes 232 = .ok (.aload_n 0, 1) := dk_42 (dk_at dksX4_takes_9 22 rfl rfl)
theorem dX4_takes_233 : decode cX4_takes 233 = .ok (.aload_n 1, 1) := dk_43 (dk_at dksX4_takes_9 23 rfl rfl)
theorem dX4_takes_234 : decode cX4_takes 234 = .ok (.getfield 193, 3) := dk_180 0 193 (dk_at dksX4_takes_10 0 rfl rfl)
theorem dX4_takes_237 : decode cX4_takes 237 = .ok (.putfield 193, 3) := dk_181 0 193 (dk_at dksX4_takes_10 3 rfl rfl)
theorem dX4_takes_240 : decode cX4_takes 240 = .ok (.aload_n 0, 1) := dk_42 (dk_at dksX4_takes_10 6 rfl rfl)
theorem dX4_takes_241 : decode cX4_takes 241 = .ok (.aload_n 1, 1) := dk_43 (dk_at dksX4_takes_10 7 rfl rfl)
theorem dX4_takes_242 : decode cX4_takes 242 = .ok (.getfield 196, 3) := dk_180 0 196 (dk_at dksX4_takes_10 8 rfl rfl)
theorem dX4_takes_245 : decode cX4_takes 245 = .ok (.putfield 196, 3) := dk_181 0 196 (dk_at dksX4_takes_10 11 rfl rfl)
theorem dX4_takes_248 : decode cX4_takes 248 = .ok (.aload_n 0, 1) := dk_42 (dk_at dksX4_takes_10 14 rfl rfl)
theorem dX4_takes_249 : decode cX4_takes 249 = .ok (.aload_n 1, 1) := dk_43 (dk_at dksX4_takes_10 15 rfl rfl)
theorem dX4_takes_250 : decode cX4_takes 250 = .ok (.getfield 199, 3) := dk_180 0 199 (dk_at dksX4_takes_10 16 rfl rfl)
theorem dX4_takes_253 : decode cX4_takes 253 = .ok (.invokevirtual 202, 3) := dk_182 0 202 (dk_at dksX4_takes_10 19 rfl rfl)
theorem dX4_takes_256 : decode cX4_takes 256 = .ok (.aload_n 0, 1) := dk_42 (dk_at dksX4_takes_10 22 rfl rfl)
theorem dX4_takes_257 : decode cX4_takes 257 = .ok (.aload_n 1, 1) := dk_43 (dk_at dksX4_takes_10 23 rfl rfl)
theorem dX4_takes_258 : decode cX4_takes 258 = .ok (.getfield 205, 3) := dk_180 0 205 (dk_at dksX4_takes_11 0 rfl rfl)
theorem dX4_takes_261 : decode cX4_takes 261 = .ok (.putfield 205, 3) := dk_181 0 205 (dk_at dksX4_takes_11 3 rfl rfl)
theorem dX4_takes_264 : decode cX4_takes 264 = .ok (.aload_n 0, 1) := dk_42 (dk_at dksX4_takes_11 6 rfl rfl)
theorem dX4_takes_265 : decode cX4_takes 265 = .ok (.aload_n 1, 1) := dk_43 (dk_at dksX4_takes_11 7 rfl rfl)
theorem dX4_takes_266 : decode cX4_takes 266 = .ok (.getfield 208, 3) := dk_180 0 208 (dk_at dksX4_takes_11 8 rfl rfl)
theorem dX4_takes_269 : decode cX4_takes 269 = .ok (.putfield 208, 3) := dk_181 0 208 (dk_at dksX4_takes_11 11 rfl rfl)
theorem dX4_takes_272 : decode cX4_takes 272 = .ok (.aload_n 0, 1) := dk_42 (dk_at dksX4_takes_11 14 rfl rfl)
theorem dX4_takes_273 : decode cX4_takes 273 = .ok (.aload_n 1, 1) := dk_43 (dk_at dksX4_takes_11 15 rfl rfl)
theorem dX4_takes_274 : decode cX4_takes 274 = .ok (.getfield 211, 3) := dk_180 0 211 (dk_at dksX4_takes_11 16 rfl rfl)
theorem dX4_takes_277 : decode cX4_takes 277 = .ok (.putfield 211, 3) := dk_181 0 211 (dk_at dksX4_takes_11 19 rfl rfl)
theorem dX4_takes_280 : decode cX4_takes 280 = .ok (.aload_n 0, 1) := dk_42 (dk_at dksX4_takes_11 22 rfl rfl)
theorem dX4_takes_281 : decode cX4_takes 281 = .ok (.aload_n 1, 1) := dk_43 (dk_at dksX4_takes_11 23 rfl rfl)
theorem dX4_takes_282 : decode cX4_takes 282 = .ok (.getfield 215, 3) := dk_180 0 215 (dk_at dksX4_takes_12 0 rfl rfl)
theorem dX4_takes_285 : decode cX4_takes 285 = .ok (.putfield 215, 3) := dk_181 0 215 (dk_at dksX4_takes_12 3 rfl rfl)
theorem dX4_takes_288 : decode cX4_takes 288 = .ok (.aload_n 0, 1) := dk_42 (dk_at dksX4_takes_12 6 rfl rfl)
theorem dX4_takes_289 : decode cX4_takes 289 = .ok (.aload_n 1, 1) := dk_43 (dk_at dksX4_takes_12 7 rfl rfl)
theorem dX4_takes_290 : decode cX4_takes 290 = .ok (.getfield 135, 3) := dk_180 0 135 (dk_at dksX4_takes_12 8 rfl rfl)
theorem dX4_takes_293 : decode cX4_takes 293 = .ok (.putfield 135, 3) := dk_181 0 135 (dk_at dksX4_takes_12 11 rfl rfl)
theorem dX4_takes_296 : decode cX4_takes 296 = .ok (.aload_n 0, 1) := dk_42 (dk_at dksX4_takes_12 14 rfl rfl)
theorem dX4_takes_297 : decode cX4_takes 297 = .ok (.aload_n 1, 1) := dk_43 (dk_at dksX4_takes_12 15 rfl rfl)
theorem dX4_takes_298 : decode cX4_takes 298 = .ok (.getfield 218, 3) := dk_180 0 218 (dk_at dksX4_takes_12 16 rfl rfl)
theorem dX4_takes_301 : decode cX4_takes 301 = .ok (.putfield 218, 3) := dk_181 0 218 (dk_at dksX4_takes_12 19 rfl rfl)
theorem dX4_takes_304 : decode cX4_takes 304 = .ok (.aload_n 0, 1) := dk_42 (dk_at dksX4_takes_12 22 rfl rfl)
theorem dX4_takes_305 : decode cX4_takes 305 = .ok (.aload_n 1, 1) := dk_43 (dk_at dksX4_takes_12 23 rfl rfl)
theorem dX4_takes_306 : decode cX4_takes 306 = .ok (.getfield 221, 3) := dk_180 0 221 (dk_at dksX4_takes_13 0 rfl rfl)
theorem dX4_takes_309 : decode cX4_takes 309 = .ok (.putfield 221, 3) := dk_181 0 221 (dk_at dksX4_takes_13 3 rfl rfl)
theorem dX4_takes_312 : decode cX4_takes 312 = .ok (.aload_n 0, 1) := dk_42 (dk_at dksX4_takes_13 6 rfl rfl)
theorem dX4_takes_313 : decode cX4_takes 313 = .ok (.aload_n 1, 1) := dk_43 (dk_at dksX4_takes_13 7 rfl rfl)
theorem dX4_takes_314 : decode cX4_takes 314 = .ok (.getfield 224, 3) := dk_180 0 224 (dk_at dksX4_takes_13 8 rfl rfl)
theorem dX4_takes_317 : decode cX4_takes 317 = .ok (.putfield 224, 3) := dk_181 0 224 (dk_at dksX4_takes_13 11 rfl rfl)
theorem dX4_takes_320 : decode cX4_takes 320 = .ok (.return_, 1) := dk_177 (dk_at dksX4_takes_13 14 rfl rfl)
abbrev cX4_plays : ByteArray := prog_8_method_3_code
def yX4_plays : MethodName := ⟨RX4, "plays", "(Z)V"⟩
def dkwX4_plays_2 : List UInt8 := [177]
abbrev dktX4_plays_2 : List UInt8 := dkwX4_plays_2 ++ []
def dkwX4_plays_1 : List UInt8 := [42, 27, 153, 0, 10, 42, 180, 0, 115, 167, 0, 7, 42, 180, 0, 110, 181, 0, 124, 42, 3, 181, 0, 230]
abbrev dktX4_plays_1 : List UInt8 := dkwX4_plays_1 ++ dktX4_plays_2
def dkwX4_plays_0 : List UInt8 := [42, 4, 181, 0, 227, 42, 27, 153, 0, 10, 42, 180, 0, 103, 167, 0, 7, 42, 180, 0, 96, 181, 0, 121]
abbrev dktX4_plays_0 : List UInt8 := dkwX4_plays_0 ++ dktX4_plays_1
theorem dksX4_plays_0 : cX4_plays.data.toList.drop 0 = dktX4_plays_0 := by decide +kernel
theorem dksX4_plays_1 : cX4_plays.data.toList.drop 24 = dktX4_plays_1 := dk_seg dksX4_plays_0 24 rfl rfl
theorem dksX4_plays_2 : cX4_plays.data.toList.drop 48 = dktX4_plays_2 := dk_seg dksX4_plays_1 24 rfl rfl
theorem dX4_plays_0 : decode cX4_plays 0 = .ok (.aload_n 0, 1) := dk_42 (dk_at dksX4_plays_0 0 rfl rfl)
theorem dX4_plays_1 : decode cX4_plays 1 = .ok (.iconst 1, 1) := dk_4 (dk_at dksX4_plays_0 1 rfl rfl)
theorem dX4_plays_2 : decode cX4_plays 2 = .ok (.putfield 227, 3) := dk_181 0 227 (dk_at dksX4_plays_0 2 rfl rfl)
theorem dX4_plays_5 : decode cX4_plays 5 = .ok (.aload_n 0, 1) := dk_42 (dk_at dksX4_plays_0 5 rfl rfl)
theorem dX4_plays_6 : decode cX4_plays 6 = .ok (.iload_n 1, 1) := dk_27 (dk_at dksX4_plays_0 6 rfl rfl)
theorem dX4_plays_7 : decode cX4_plays 7 = .ok (.ifCond .eq 10, 3) := dk_153 0 10 (dk_at dksX4_plays_0 7 rfl rfl)
theorem dX4_plays_10 : decode cX4_plays 10 = .ok (.aload_n 0, 1) := dk_42 (dk_at dksX4_plays_0 10 rfl rfl)
theorem dX4_plays_11 : decode cX4_plays 11 = .ok (.getfield 103, 3) := dk_180 0 103 (dk_at dksX4_plays_0 11 rfl rfl)
theorem dX4_plays_14 : decode cX4_plays 14 = .ok (.goto 7, 3) := dk_167 0 7 (dk_at dksX4_plays_0 14 rfl rfl)
theorem dX4_plays_17 : decode cX4_plays 17 = .ok (.aload_n 0, 1) := dk_42 (dk_at dksX4_plays_0 17 rfl rfl)
theorem dX4_plays_18 : decode cX4_plays 18 = .ok (.getfield 96, 3) := dk_180 0 96 (dk_at dksX4_plays_0 18 rfl rfl)
theorem dX4_plays_21 : decode cX4_plays 21 = .ok (.putfield 121, 3) := dk_181 0 121 (dk_at dksX4_plays_0 21 rfl rfl)
theorem dX4_plays_24 : decode cX4_plays 24 = .ok (.aload_n 0, 1) := dk_42 (dk_at dksX4_plays_1 0 rfl rfl)
theorem dX4_plays_25 : decode cX4_plays 25 = .ok (.iload_n 1, 1) := dk_27 (dk_at dksX4_plays_1 1 rfl rfl)
theorem dX4_plays_26 : decode cX4_plays 26 = .ok (.ifCond .eq 10, 3) := dk_153 0 10 (dk_at dksX4_plays_1 2 rfl rfl)
theorem dX4_plays_29 : decode cX4_plays 29 = .ok (.aload_n 0, 1) := dk_42 (dk_at dksX4_plays_1 5 rfl rfl)
theorem dX4_plays_30 : decode cX4_plays 30 = .ok (.getfield 115, 3) := dk_180 0 115 (dk_at dksX4_plays_1 6 rfl rfl)
theorem dX4_plays_33 : decode cX4_plays 33 = .ok (.goto 7, 3) := dk_167 0 7 (dk_at dksX4_plays_1 9 rfl rfl)
theorem dX4_plays_36 : decode cX4_plays 36 = .ok (.aload_n 0, 1) := dk_42 (dk_at dksX4_plays_1 12 rfl rfl)
theorem dX4_plays_37 : decode cX4_plays 37 = .ok (.getfield 110, 3) := dk_180 0 110 (dk_at dksX4_plays_1 13 rfl rfl)
theorem dX4_plays_40 : decode cX4_plays 40 = .ok (.putfield 124, 3) := dk_181 0 124 (dk_at dksX4_plays_1 16 rfl rfl)
theorem dX4_plays_43 : decode cX4_plays 43 = .ok (.aload_n 0, 1) := dk_42 (dk_at dksX4_plays_1 19 rfl rfl)
theorem dX4_plays_44 : decode cX4_plays 44 = .ok (.iconst 0, 1) := dk_3 (dk_at dksX4_plays_1 20 rfl rfl)
theorem dX4_plays_45 : decode cX4_plays 45 = .ok (.putfield 230, 3) := dk_181 0 230 (dk_at dksX4_plays_1 21 rfl rfl)
theorem dX4_plays_48 : decode cX4_plays 48 = .ok (.return_, 1) := dk_177 (dk_at dksX4_plays_2 0 rfl rfl)
abbrev cX4_isQuiet : ByteArray := prog_8_method_44_code
def yX4_isQuiet : MethodName := ⟨RX4, "isQuiet", "()Z"⟩
def dkwX4_isQuiet_1 : List UInt8 := [167, 0, 4, 3, 172]
abbrev dktX4_isQuiet_1 : List UInt8 := dkwX4_isQuiet_1 ++ []
def dkwX4_isQuiet_0 : List UInt8 := [42, 180, 0, 199, 154, 0, 21, 42, 180, 0, 175, 154, 0, 14, 42, 182, 1, 22, 156, 0, 7, 4]
abbrev dktX4_isQuiet_0 : List UInt8 := dkwX4_isQuiet_0 ++ dktX4_isQuiet_1
theorem dksX4_isQuiet_0 : cX4_isQuiet.data.toList.drop 0 = dktX4_isQuiet_0 := by decide +kernel
theorem dksX4_isQuiet_1 : cX4_isQuiet.data.toList.drop 22 = dktX4_isQuiet_1 := dk_seg dksX4_isQuiet_0 22 rfl rfl
theorem dX4_isQuiet_0 : decode cX4_isQuiet 0 = .ok (.aload_n 0, 1) := dk_42 (dk_at dksX4_isQuiet_0 0 rfl rfl)
theorem dX4_isQuiet_1 : decode cX4_isQuiet 1 = .ok (.getfield 199, 3) := dk_180 0 199 (dk_at dksX4_isQuiet_0 1 rfl rfl)
theorem dX4_isQuiet_4 : decode cX4_isQuiet 4 = .ok (.ifCond .ne 21, 3) := dk_154 0 21 (dk_at dksX4_isQuiet_0 4 rfl rfl)
theorem dX4_isQuiet_7 : decode cX4_isQuiet 7 = .ok (.aload_n 0, 1) := dk_42 (dk_at dksX4_isQuiet_0 7 rfl rfl)
theorem dX4_isQuiet_8 : decode cX4_isQuiet 8 = .ok (.getfield 175, 3) := dk_180 0 175 (dk_at dksX4_isQuiet_0 8 rfl rfl)
theorem dX4_isQuiet_11 : decode cX4_isQuiet 11 = .ok (.ifCond .ne 14, 3) := dk_154 0 14 (dk_at dksX4_isQuiet_0 11 rfl rfl)
theorem dX4_isQuiet_14 : decode cX4_isQuiet 14 = .ok (.aload_n 0, 1) := dk_42 (dk_at dksX4_isQuiet_0 14 rfl rfl)
theorem dX4_isQuiet_15 : decode cX4_isQuiet 15 = .ok (.invokevirtual 278, 3) := dk_182 1 22 (dk_at dksX4_isQuiet_0 15 rfl rfl)
theorem dX4_isQuiet_18 : decode cX4_isQuiet 18 = .ok (.ifCond .ge 7, 3) := dk_156 0 7 (dk_at dksX4_isQuiet_0 18 rfl rfl)
theorem dX4_isQuiet_21 : decode cX4_isQuiet 21 = .ok (.iconst 1, 1) := dk_4 (dk_at dksX4_isQuiet_0 21 rfl rfl)
theorem dX4_isQuiet_22 : decode cX4_isQuiet 22 = .ok (.goto 4, 3) := dk_167 0 4 (dk_at dksX4_isQuiet_1 0 rfl rfl)
theorem dX4_isQuiet_25 : decode cX4_isQuiet 25 = .ok (.iconst 0, 1) := dk_3 (dk_at dksX4_isQuiet_1 3 rfl rfl)
theorem dX4_isQuiet_26 : decode cX4_isQuiet 26 = .ok (.ireturn, 1) := dk_172 (dk_at dksX4_isQuiet_1 4 rfl rfl)
abbrev cX4_isAs : ByteArray := prog_8_method_45_code
def yX4_isAs : MethodName := ⟨RX4, "isAs", "(LRankEntry$Core;)Z"⟩
def dkwX4_isAs_4 : List UInt8 := [184, 1, 114, 160, 0, 7, 4, 167, 0, 4, 3, 61, 132, 3, 1, 167, 255, 202, 28, 172]
abbrev dktX4_isAs_4 : List UInt8 := dkwX4_isAs_4 ++ []
def dkwX4_isAs_3 : List UInt8 := [180, 0, 23, 29, 46, 160, 0, 28, 42, 180, 0, 27, 29, 48, 184, 1, 114, 43, 180, 0, 27, 29, 48]
abbrev dktX4_isAs_3 : List UInt8 := dkwX4_isAs_3 ++ dktX4_isAs_4
def dkwX4_isAs_2 : List UInt8 := [167, 0, 4, 3, 61, 3, 62, 29, 7, 162, 0, 55, 28, 153, 0, 43, 42, 180, 0, 23, 29, 46, 43]
abbrev dktX4_isAs_2 : List UInt8 := dkwX4_isAs_2 ++ dktX4_isAs_3
def dkwX4_isAs_1 : List UInt8 := [180, 0, 166, 43, 180, 0, 166, 160, 0, 18, 42, 180, 0, 172, 43, 180, 0, 172, 160, 0, 7, 4]
abbrev dktX4_isAs_1 : List UInt8 := dkwX4_isAs_1 ++ dktX4_isAs_2
def dkwX4_isAs_0 : List UInt8 := [42, 180, 0, 169, 43, 180, 0, 169, 160, 0, 40, 42, 180, 0, 163, 43, 180, 0, 163, 160, 0, 29, 42]
abbrev dktX4_isAs_0 : List UInt8 := dkwX4_isAs_0 ++ dktX4_isAs_1
theorem dksX4_isAs_0 : cX4_isAs.data.toList.drop 0 = dktX4_isAs_0 := by decide +kernel
theorem dksX4_isAs_1 : cX4_isAs.data.toList.drop 23 = dktX4_isAs_1 := dk_seg dksX4_isAs_0 23 rfl rfl
theorem dksX4_isAs_2 : cX4_isAs.data.toList.drop 45 = dktX4_isAs_2 := dk_seg dksX4_isAs_1 22 rfl rfl
theorem dksX4_isAs_3 : cX4_isAs.data.toList.drop 68 = dktX4_isAs_3 := dk_seg dksX4_isAs_2 23 rfl rfl
theorem dksX4_isAs_4 : cX4_isAs.data.toList.drop 91 = dktX4_isAs_4 := dk_seg dksX4_isAs_3 23 rfl rfl
theorem dX4_isAs_0 : decode cX4_isAs 0 = .ok (.aload_n 0, 1) := dk_42 (dk_at dksX4_isAs_0 0 rfl rfl)
theorem dX4_isAs_1 : decode cX4_isAs 1 = .ok (.getfield 169, 3) := dk_180 0 169 (dk_at dksX4_isAs_0 1 rfl rfl)
theorem dX4_isAs_4 : decode cX4_isAs 4 = .ok (.aload_n 1, 1) := dk_43 (dk_at dksX4_isAs_0 4 rfl rfl)
theorem dX4_isAs_5 : decode cX4_isAs 5 = .ok (.getfield 169, 3) := dk_180 0 169 (dk_at dksX4_isAs_0 5 rfl rfl)
theorem dX4_isAs_8 : decode cX4_isAs 8 = .ok (.if_icmp .ne 40, 3) := dk_160 0 40 (dk_at dksX4_isAs_0 8 rfl rfl)
theorem dX4_isAs_11 : decode cX4_isAs 11 = .ok (.aload_n 0, 1) := dk_42 (dk_at dksX4_isAs_0 11 rfl rfl)
theorem dX4_isAs_12 : decode cX4_isAs 12 = .ok (.getfield 163, 3) := dk_180 0 163 (dk_at dksX4_isAs_0 12 rfl rfl)
theorem dX4_isAs_15 : decode cX4_isAs 15 = .ok (.aload_n 1, 1) := dk_43 (dk_at dksX4_isAs_0 15 rfl rfl)
theorem dX4_isAs_16 : decode cX4_isAs 16 = .ok (.getfield 163, 3) := dk_180 0 163 (dk_at dksX4_isAs_0 16 rfl rfl)
theorem dX4_isAs_19 : decode cX4_isAs 19 = .ok (.if_icmp .ne 29, 3) := dk_160 0 29 (dk_at dksX4_isAs_0 19 rfl rfl)
theorem dX4_isAs_22 : decode cX4_isAs 22 = .ok (.aload_n 0, 1) := dk_42 (dk_at dksX4_isAs_0 22 rfl rfl)
theorem dX4_isAs_23 : decode cX4_isAs 23 = .ok (.getfield 166, 3) := dk_180 0 166 (dk_at dksX4_isAs_1 0 rfl rfl)
theorem dX4_isAs_26 : decode cX4_isAs 26 = .ok (.aload_n 1, 1) := dk_43 (dk_at dksX4_isAs_1 3 rfl rfl)
theorem dX4_isAs_27 : decode cX4_isAs 27 = .ok (.getfield 166, 3) := dk_180 0 166 (dk_at dksX4_isAs_1 4 rfl rfl)
theorem dX4_isAs_30 : decode cX4_isAs 30 = .ok (.if_icmp .ne 18, 3) := dk_160 0 18 (dk_at dksX4_isAs_1 7 rfl rfl)
theorem dX4_isAs_33 : decode cX4_isAs 33 = .ok (.aload_n 0, 1) := dk_42 (dk_at dksX4_isAs_1 10 rfl rfl)
theorem dX4_isAs_34 : decode cX4_isAs 34 = .ok (.getfield 172, 3) := dk_180 0 172 (dk_at dksX4_isAs_1 11 rfl rfl)
theorem dX4_isAs_37 : decode cX4_isAs 37 = .ok (.aload_n 1, 1) := dk_43 (dk_at dksX4_isAs_1 14 rfl rfl)
theorem dX4_isAs_38 : decode cX4_isAs 38 = .ok (.getfield 172, 3) := dk_180 0 172 (dk_at dksX4_isAs_1 15 rfl rfl)
theorem dX4_isAs_41 : decode cX4_isAs 41 = .ok (.if_icmp .ne 7, 3) := dk_160 0 7 (dk_at dksX4_isAs_1 18 rfl rfl)
theorem dX4_isAs_44 : decode cX4_isAs 44 = .ok (.iconst 1, 1) := dk_4 (dk_at dksX4_isAs_1 21 rfl rfl)
theorem dX4_isAs_45 : decode cX4_isAs 45 = .ok (.goto 4, 3) := dk_167 0 4 (dk_at dksX4_isAs_2 0 rfl rfl)
theorem dX4_isAs_48 : decode cX4_isAs 48 = .ok (.iconst 0, 1) := dk_3 (dk_at dksX4_isAs_2 3 rfl rfl)
theorem dX4_isAs_49 : decode cX4_isAs 49 = .ok (.istore_n 2, 1) := dk_61 (dk_at dksX4_isAs_2 4 rfl rfl)
theorem dX4_isAs_50 : decode cX4_isAs 50 = .ok (.iconst 0, 1) := dk_3 (dk_at dksX4_isAs_2 5 rfl rfl)
theorem dX4_isAs_51 : decode cX4_isAs 51 = .ok (.istore_n 3, 1) := dk_62 (dk_at dksX4_isAs_2 6 rfl rfl)
theorem dX4_isAs_52 : decode cX4_isAs 52 = .ok (.iload_n 3, 1) := dk_29 (dk_at dksX4_isAs_2 7 rfl rfl)
theorem dX4_isAs_53 : decode cX4_isAs 53 = .ok (.iconst 4, 1) := dk_7 (dk_at dksX4_isAs_2 8 rfl rfl)
theorem dX4_isAs_54 : decode cX4_isAs 54 = .ok (.if_icmp .ge 55, 3) := dk_162 0 55 (dk_at dksX4_isAs_2 9 rfl rfl)
theorem dX4_isAs_57 : decode cX4_isAs 57 = .ok (.iload_n 2, 1) := dk_28 (dk_at dksX4_isAs_2 12 rfl rfl)
theorem dX4_isAs_58 : decode cX4_isAs 58 = .ok (.ifCond .eq 43, 3) := dk_153 0 43 (dk_at dksX4_isAs_2 13 rfl rfl)
theorem dX4_isAs_61 : decode cX4_isAs 61 = .ok (.aload_n 0, 1) := dk_42 (dk_at dksX4_isAs_2 16 rfl rfl)
theorem dX4_isAs_62 : decode cX4_isAs 62 = .ok (.getfield 23, 3) := dk_180 0 23 (dk_at dksX4_isAs_2 17 rfl rfl)
theorem dX4_isAs_65 : decode cX4_isAs 65 = .ok (.iload_n 3, 1) := dk_29 (dk_at dksX4_isAs_2 20 rfl rfl)
theorem dX4_isAs_66 : decode cX4_isAs 66 = .ok (.iaload, 1) := dk_46 (dk_at dksX4_isAs_2 21 rfl rfl)
theorem dX4_isAs_67 : decode cX4_isAs 67 = .ok (.aload_n 1, 1) := dk_43 (dk_at dksX4_isAs_2 22 rfl rfl)
theorem dX4_isAs_68 : decode cX4_isAs 68 = .ok (.getfield 23, 3) := dk_180 0 23 (dk_at dksX4_isAs_3 0 rfl rfl)
theorem dX4_isAs_71 : decode cX4_isAs 71 = .ok (.iload_n 3, 1) := dk_29 (dk_at dksX4_isAs_3 3 rfl rfl)
theorem dX4_isAs_72 : decode cX4_isAs 72 = .ok (.iaload, 1) := dk_46 (dk_at dksX4_isAs_3 4 rfl rfl)
theorem dX4_isAs_73 : decode cX4_isAs 73 = .ok (.if_icmp .ne 28, 3) := dk_160 0 28 (dk_at dksX4_isAs_3 5 rfl rfl)
theorem dX4_isAs_76 : decode cX4_isAs 76 = .ok (.aload_n 0, 1) := dk_42 (dk_at dksX4_isAs_3 8 rfl rfl)
theorem dX4_isAs_77 : decode cX4_isAs 77 = .ok (.getfield 27, 3) := dk_180 0 27 (dk_at dksX4_isAs_3 9 rfl rfl)
theorem dX4_isAs_80 : decode cX4_isAs 80 = .ok (.iload_n 3, 1) := dk_29 (dk_at dksX4_isAs_3 12 rfl rfl)
theorem dX4_isAs_81 : decode cX4_isAs 81 = .ok (.faload, 1) := dk_48 (dk_at dksX4_isAs_3 13 rfl rfl)
theorem dX4_isAs_82 : decode cX4_isAs 82 = .ok (.invokestatic 370, 3) := dk_184 1 114 (dk_at dksX4_isAs_3 14 rfl rfl)
theorem dX4_isAs_85 : decode cX4_isAs 85 = .ok (.aload_n 1, 1) := dk_43 (dk_at dksX4_isAs_3 17 rfl rfl)
theorem dX4_isAs_86 : decode cX4_isAs 86 = .ok (.getfield 27, 3) := dk_180 0 27 (dk_at dksX4_isAs_3 18 rfl rfl)
theorem dX4_isAs_89 : decode cX4_isAs 89 = .ok (.iload_n 3, 1) := dk_29 (dk_at dksX4_isAs_3 21 rfl rfl)
theorem dX4_isAs_90 : decode cX4_isAs 90 = .ok (.faload, 1) := dk_48 (dk_at dksX4_isAs_3 22 rfl rfl)
theorem dX4_isAs_91 : decode cX4_isAs 91 = .ok (.invokestatic 370, 3) := dk_184 1 114 (dk_at dksX4_isAs_4 0 rfl rfl)
theorem dX4_isAs_94 : decode cX4_isAs 94 = .ok (.if_icmp .ne 7, 3) := dk_160 0 7 (dk_at dksX4_isAs_4 3 rfl rfl)
theorem dX4_isAs_97 : decode cX4_isAs 97 = .ok (.iconst 1, 1) := dk_4 (dk_at dksX4_isAs_4 6 rfl rfl)
theorem dX4_isAs_98 : decode cX4_isAs 98 = .ok (.goto 4, 3) := dk_167 0 4 (dk_at dksX4_isAs_4 7 rfl rfl)
theorem dX4_isAs_101 : decode cX4_isAs 101 = .ok (.iconst 0, 1) := dk_3 (dk_at dksX4_isAs_4 10 rfl rfl)
theorem dX4_isAs_102 : decode cX4_isAs 102 = .ok (.istore_n 2, 1) := dk_61 (dk_at dksX4_isAs_4 11 rfl rfl)
theorem dX4_isAs_103 : decode cX4_isAs 103 = .ok (.iinc 3 1, 3) := dk_132 3 1 (dk_at dksX4_isAs_4 12 rfl rfl)
theorem dX4_isAs_106 : decode cX4_isAs 106 = .ok (.goto (-54), 3) := dk_167 255 202 (dk_at dksX4_isAs_4 15 rfl rfl)
theorem dX4_isAs_109 : decode cX4_isAs 109 = .ok (.iload_n 2, 1) := dk_28 (dk_at dksX4_isAs_4 18 rfl rfl)
theorem dX4_isAs_110 : decode cX4_isAs 110 = .ok (.ireturn, 1) := dk_172 (dk_at dksX4_isAs_4 19 rfl rfl)
theorem q63 : (Jvm.Cond.initialized "RankEntry$Core") ∈ lw_all := lw_g (lw_at lw_m1 5 rfl) rfl
theorem q128 : (Jvm.Cond.instantiable "RankEntry$Core" (55 : Nat)) ∈ lw_all := lw_g (lw_at lw_m1 70 rfl) rfl
theorem q130 : (Jvm.Cond.instanceMethod ({ cls := "RankEntry$Core", name := "<init>", desc := "(LRankEntry$Code;)V" } : Jvm.MethodName)) ∈ lw_all := lw_g (lw_at lw_m1 72 rfl) rfl
theorem q131 : (Jvm.Cond.code ({ cls := "RankEntry$Core", name := "<init>", desc := "(LRankEntry$Code;)V" } : Jvm.MethodName) prog_8_method_1_code (3 : Nat) (Option.none : Option Jvm.ClassFile.FieldType)) ∈ lw_all := lw_g (lw_at lw_m1 73 rfl) rfl
theorem q132 : (Jvm.Cond.methodLink "RankEntry$Core" (3 : Nat) ({ cls := "java/lang/Object", name := "<init>", desc := "()V" } : Jvm.MethodName)) ∈ lw_all := lw_g (lw_at lw_m1 74 rfl) rfl
theorem q133 : (Jvm.Cond.classLink "RankEntry$Core" (9 : Nat) "RankEntry$Trap") ∈ lw_all := lw_g (lw_at lw_m1 75 rfl) rfl
theorem q173 : (Jvm.Cond.methodLink "RankEntry$Core" (11 : Nat) ({ cls := "RankEntry$Trap", name := "<init>", desc := "(I)V" } : Jvm.MethodName)) ∈ lw_all := lw_g (lw_at lw_m1 115 rfl) rfl
theorem q181 : (Jvm.Cond.fieldLink "RankEntry$Core" (338 : Nat) "RankEntry$Trap" "fault" "I") ∈ lw_all := lw_g (lw_at lw_m1 123 rfl) rfl
theorem q197 : (Jvm.Cond.classLink "RankEntry$Core" (37 : Nat) "RankEntry$Source") ∈ lw_all := lw_g (lw_at lw_m1 139 rfl) rfl
theorem q199 : (Jvm.Cond.classLink "RankEntry$Core" (58 : Nat) "RankEntry$Event") ∈ lw_all := lw_g (lw_at lw_m1 141 rfl) rfl
theorem q201 : (Jvm.Cond.privateMethod ({ cls := "RankEntry$Core", name := "running", desc := "()V" } : Jvm.MethodName)) ∈ lw_tbl := lw_at lw_m1 143 rfl
theorem q202 : (Jvm.Cond.instanceMethod ({ cls := "RankEntry$Core", name := "running", desc := "()V" } : Jvm.MethodName)) ∈ lw_all := lw_g (lw_at lw_m1 144 rfl) rfl
theorem q203 : (Jvm.Cond.code ({ cls := "RankEntry$Core", name := "running", desc := "()V" } : Jvm.MethodName) prog_8_method_29_code (2 : Nat) (Option.none : Option Jvm.ClassFile.FieldType)) ∈ lw_all := lw_g (lw_at lw_m1 145 rfl) rfl
theorem q204 : (Jvm.Cond.methodLink "RankEntry$Core" (278 : Nat) ({ cls := "RankEntry$Core", name := "next", desc := "()I" } : Jvm.MethodName)) ∈ lw_all := lw_g (lw_at lw_m1 146 rfl) rfl
theorem q205 : (Jvm.Cond.instanceMethod ({ cls := "RankEntry$Core", name := "next", desc := "()I" } : Jvm.MethodName)) ∈ lw_all := lw_g (lw_at lw_m1 147 rfl) rfl
theorem q206 : (Jvm.Cond.selects "RankEntry$Core" ({ cls := "RankEntry$Core", name := "next", desc := "()I" } : Jvm.MethodName) ({ cls := "RankEntry$Core", name := "next", desc := "()I" } : Jvm.MethodName)) ∈ lw_all := lw_g (lw_at lw_m1 148 rfl) rfl
theorem q207 : (Jvm.Cond.code ({ cls := "RankEntry$Core", name := "next", desc := "()I" } : Jvm.MethodName) prog_8_method_20_code (1 : Nat) (Option.some Jvm.ClassFile.FieldType.int)) ∈ lw_all := lw_g (lw_at lw_m1 149 rfl) rfl
theorem q208 : (Jvm.Cond.methodLink "RankEntry$Core" (293 : Nat) ({ cls := "RankEntry$Core", name := "limit", desc := "()I" } : Jvm.MethodName)) ∈ lw_all := lw_g (lw_at lw_m1 150 rfl) rfl
theorem q209 : (Jvm.Cond.instanceMethod ({ cls := "RankEntry$Core", name := "limit", desc := "()I" } : Jvm.MethodName)) ∈ lw_all := lw_g (lw_at lw_m1 151 rfl) rfl
theorem q210 : (Jvm.Cond.selects "RankEntry$Core" ({ cls := "RankEntry$Core", name := "limit", desc := "()I" } : Jvm.MethodName) ({ cls := "RankEntry$Core", name := "limit", desc := "()I" } : Jvm.MethodName)) ∈ lw_all := lw_g (lw_at lw_m1 152 rfl) rfl
theorem q211 : (Jvm.Cond.code ({ cls := "RankEntry$Core", name := "limit", desc := "()I" } : Jvm.MethodName) prog_8_method_15_code (2 : Nat) (Option.some Jvm.ClassFile.FieldType.int)) ∈ lw_all := lw_g (lw_at lw_m1 153 rfl) rfl
theorem q212 : (Jvm.Cond.methodLink "RankEntry$Core" (286 : Nat) ({ cls := "RankEntry$Core", name := "openLimit", desc := "()I" } : Jvm.MethodName)) ∈ lw_all := lw_g (lw_at lw_m1 154 rfl) rfl
theorem q213 : (Jvm.Cond.instanceMethod ({ cls := "RankEntry$Core", name := "openLimit", desc := "()I" } : Jvm.MethodName)) ∈ lw_all := lw_g (lw_at lw_m1 155 rfl) rfl
theorem q214 : (Jvm.Cond.selects "RankEntry$Core" ({ cls := "RankEntry$Core", name := "openLimit", desc := "()I" } : Jvm.MethodName) ({ cls := "RankEntry$Core", name := "openLimit", desc := "()I" } : Jvm.MethodName)) ∈ lw_all := lw_g (lw_at lw_m1 156 rfl) rfl
theorem q215 : (Jvm.Cond.code ({ cls := "RankEntry$Core", name := "openLimit", desc := "()I" } : Jvm.MethodName) prog_8_method_16_code (4 : Nat) (Option.some Jvm.ClassFile.FieldType.int)) ∈ lw_all := lw_g (lw_at lw_m1 157 rfl) rfl
theorem q216 : (Jvm.Cond.methodLink "RankEntry$Core" (289 : Nat) ({ cls := "RankEntry$Source", name := "group", desc := "(I)I" } : Jvm.MethodName)) ∈ lw_all := lw_g (lw_at lw_m1 158 rfl) rfl
theorem q226 : (Jvm.Cond.methodLink "RankEntry$Core" (312 : Nat) ({ cls := "RankEntry$Core", name := "nextBelow", desc := "(I)I" } : Jvm.MethodName)) ∈ lw_all := lw_g (lw_at lw_m1 168 rfl) rfl
theorem q227 : (Jvm.Cond.instanceMethod ({ cls := "RankEntry$Core", name := "nextBelow", desc := "(I)I" } : Jvm.MethodName)) ∈ lw_all := lw_g (lw_at lw_m1 169 rfl) rfl
theorem q228 : (Jvm.Cond.selects "RankEntry$Core" ({ cls := "RankEntry$Core", name := "nextBelow", desc := "(I)I" } : Jvm.MethodName) ({ cls := "RankEntry$Core", name := "nextBelow", desc := "(I)I" } : Jvm.MethodName)) ∈ lw_all := lw_g (lw_at lw_m1 170 rfl) rfl
theorem q229 : (Jvm.Cond.code ({ cls := "RankEntry$Core", name := "nextBelow", desc := "(I)I" } : Jvm.MethodName) prog_8_method_19_code (5 : Nat) (Option.some Jvm.ClassFile.FieldType.int)) ∈ lw_all := lw_g (lw_at lw_m1 171 rfl) rfl
theorem q230 : (Jvm.Cond.methodLink "RankEntry$Core" (296 : Nat) ({ cls := "RankEntry$Core", name := "canBelow", desc := "(LRankEntry$Source;I)Z" } : Jvm.MethodName)) ∈ lw_all := lw_g (lw_at lw_m1 172 rfl) rfl
theorem q231 : (Jvm.Cond.privateMethod ({ cls := "RankEntry$Core", name := "canBelow", desc := "(LRankEntry$Source;I)Z" } : Jvm.MethodName)) ∈ lw_tbl := lw_at lw_m1 173 rfl
theorem q232 : (Jvm.Cond.instanceMethod ({ cls := "RankEntry$Core", name := "canBelow", desc := "(LRankEntry$Source;I)Z" } : Jvm.MethodName)) ∈ lw_all := lw_g (lw_at lw_m1 174 rfl) rfl
theorem q233 : (Jvm.Cond.code ({ cls := "RankEntry$Core", name := "canBelow", desc := "(LRankEntry$Source;I)Z" } : Jvm.MethodName) prog_8_method_18_code (3 : Nat) (Option.some Jvm.ClassFile.FieldType.boolean)) ∈ lw_all := lw_g (lw_at lw_m1 175 rfl) rfl
theorem q234 : (Jvm.Cond.interfaceEntry "RankEntry$Core" (306 : Nat)) ∈ lw_tbl := lw_at lw_m1 176 rfl
theorem q235 : (Jvm.Cond.methodLink "RankEntry$Core" (306 : Nat) ({ cls := "RankEntry$Ahead", name := "is", desc := "(LRankEntry$Source;LRankEntry$Source;)Z" } : Jvm.MethodName)) ∈ lw_all := lw_g (lw_at lw_m1 177 rfl) rfl
theorem q238 : (Jvm.Cond.methodLink "RankEntry$Core" (202 : Nat) ({ cls := "RankEntry$Core", name := "turns", desc := "(I)V" } : Jvm.MethodName)) ∈ lw_all := lw_g (lw_at lw_m1 180 rfl) rfl
theorem q239 : (Jvm.Cond.instanceMethod ({ cls := "RankEntry$Core", name := "turns", desc := "(I)V" } : Jvm.MethodName)) ∈ lw_all := lw_g (lw_at lw_m1 181 rfl) rfl
theorem q240 : (Jvm.Cond.selects "RankEntry$Core" ({ cls := "RankEntry$Core", name := "turns", desc := "(I)V" } : Jvm.MethodName) ({ cls := "RankEntry$Core", name := "turns", desc := "(I)V" } : Jvm.MethodName)) ∈ lw_all := lw_g (lw_at lw_m1 182 rfl) rfl
theorem q241 : (Jvm.Cond.code ({ cls := "RankEntry$Core", name := "turns", desc := "(I)V" } : Jvm.MethodName) prog_8_method_26_code (2 : Nat) (Option.none : Option Jvm.ClassFile.FieldType)) ∈ lw_all := lw_g (lw_at lw_m1 183 rfl) rfl
theorem q242 : (Jvm.Cond.methodLink "RankEntry$Core" (329 : Nat) ({ cls := "RankEntry$Core", name := "stacking", desc := "()V" } : Jvm.MethodName)) ∈ lw_all := lw_g (lw_at lw_m1 184 rfl) rfl
theorem q243 : (Jvm.Cond.privateMethod ({ cls := "RankEntry$Core", name := "stacking", desc := "()V" } : Jvm.MethodName)) ∈ lw_tbl := lw_at lw_m1 185 rfl
theorem q244 : (Jvm.Cond.instanceMethod ({ cls := "RankEntry$Core", name := "stacking", desc := "()V" } : Jvm.MethodName)) ∈ lw_all := lw_g (lw_at lw_m1 186 rfl) rfl
theorem q245 : (Jvm.Cond.code ({ cls := "RankEntry$Core", name := "stacking", desc := "()V" } : Jvm.MethodName) prog_8_method_36_code (2 : Nat) (Option.none : Option Jvm.ClassFile.FieldType)) ∈ lw_all := lw_g (lw_at lw_m1 187 rfl) rfl
theorem q246 : (Jvm.Cond.methodLink "RankEntry$Core" (379 : Nat) ({ cls := "RankEntry$Core", name := "reserves", desc := "()V" } : Jvm.MethodName)) ∈ lw_all := lw_g (lw_at lw_m1 188 rfl) rfl
theorem q247 : (Jvm.Cond.privateMethod ({ cls := "RankEntry$Core", name := "reserves", desc := "()V" } : Jvm.MethodName)) ∈ lw_tbl := lw_at lw_m1 189 rfl
theorem q248 : (Jvm.Cond.instanceMethod ({ cls := "RankEntry$Core", name := "reserves", desc := "()V" } : Jvm.MethodName)) ∈ lw_all := lw_g (lw_at lw_m1 190 rfl) rfl
theorem q249 : (Jvm.Cond.code ({ cls := "RankEntry$Core", name := "reserves", desc := "()V" } : Jvm.MethodName) prog_8_method_35_code (1 : Nat) (Option.none : Option Jvm.ClassFile.FieldType)) ∈ lw_all := lw_g (lw_at lw_m1 191 rfl) rfl
theorem q250 : (Jvm.Cond.methodLink "RankEntry$Core" (376 : Nat) ({ cls := "RankEntry$Core", name := "breaks", desc := "()V" } : Jvm.MethodName)) ∈ lw_all := lw_g (lw_at lw_m1 192 rfl) rfl
theorem q251 : (Jvm.Cond.privateMethod ({ cls := "RankEntry$Core", name := "breaks", desc := "()V" } : Jvm.MethodName)) ∈ lw_tbl := lw_at lw_m1 193 rfl
theorem q252 : (Jvm.Cond.instanceMethod ({ cls := "RankEntry$Core", name := "breaks", desc := "()V" } : Jvm.MethodName)) ∈ lw_all := lw_g (lw_at lw_m1 194 rfl) rfl
theorem q253 : (Jvm.Cond.code ({ cls := "RankEntry$Core", name := "breaks", desc := "()V" } : Jvm.MethodName) prog_8_method_34_code (1 : Nat) (Option.none : Option Jvm.ClassFile.FieldType)) ∈ lw_all := lw_g (lw_at lw_m1 195 rfl) rfl
theorem q254 : (Jvm.Cond.methodLink "RankEntry$Core" (341 : Nat) ({ cls := "RankEntry$Core", name := "raises", desc := "(I)V" } : Jvm.MethodName)) ∈ lw_all := lw_g (lw_at lw_m1 196 rfl) rfl
theorem q255 : (Jvm.Cond.instanceMethod ({ cls := "RankEntry$Core", name := "raises", desc := "(I)V" } : Jvm.MethodName)) ∈ lw_all := lw_g (lw_at lw_m1 197 rfl) rfl
theorem q256 : (Jvm.Cond.selects "RankEntry$Core" ({ cls := "RankEntry$Core", name := "raises", desc := "(I)V" } : Jvm.MethodName) ({ cls := "RankEntry$Core", name := "raises", desc := "(I)V" } : Jvm.MethodName)) ∈ lw_all := lw_g (lw_at lw_m1 198 rfl) rfl
theorem q257 : (Jvm.Cond.code ({ cls := "RankEntry$Core", name := "raises", desc := "(I)V" } : Jvm.MethodName) prog_8_method_24_code (3 : Nat) (Option.none : Option Jvm.ClassFile.FieldType)) ∈ lw_all := lw_g (lw_at lw_m1 199 rfl) rfl
theorem q258 : (Jvm.Cond.methodLink "RankEntry$Core" (319 : Nat) ({ cls := "RankEntry$Core", name := "becoming", desc := "(I)I" } : Jvm.MethodName)) ∈ lw_all := lw_g (lw_at lw_m1 200 rfl) rfl
theorem q259 : (Jvm.Cond.instanceMethod ({ cls := "RankEntry$Core", name := "becoming", desc := "(I)I" } : Jvm.MethodName)) ∈ lw_all := lw_g (lw_at lw_m1 201 rfl) rfl
theorem q260 : (Jvm.Cond.selects "RankEntry$Core" ({ cls := "RankEntry$Core", name := "becoming", desc := "(I)I" } : Jvm.MethodName) ({ cls := "RankEntry$Core", name := "becoming", desc := "(I)I" } : Jvm.MethodName)) ∈ lw_all := lw_g (lw_at lw_m1 202 rfl) rfl
theorem q261 : (Jvm.Cond.code ({ cls := "RankEntry$Core", name := "becoming", desc := "(I)I" } : Jvm.MethodName) prog_8_method_23_code (3 : Nat) (Option.some Jvm.ClassFile.FieldType.int)) ∈ lw_all := lw_g (lw_at lw_m1 203 rfl) rfl
theorem q262 : (Jvm.Cond.classLink "RankEntry$Core" (322 : Nat) "RankEntry$Raised") ∈ lw_all := lw_g (lw_at lw_m1 204 rfl) rfl
theorem q264 : (Jvm.Cond.methodLinkNest "RankEntry$Core" (324 : Nat) ({ cls := "RankEntry$Raised", name := "<init>", desc := "(III)V" } : Jvm.MethodName) "RankEntry") ∈ lw_tbl := lw_at lw_m1 206 rfl
theorem q283 : (Jvm.Cond.methodLink "RankEntry$Core" (266 : Nat) ({ cls := "RankEntry$Core", name := "notes", desc := "(LRankEntry$Event;)V" } : Jvm.MethodName)) ∈ lw_all := lw_g (lw_at lw_m1 225 rfl) rfl
theorem q284 : (Jvm.Cond.instanceMethod ({ cls := "RankEntry$Core", name := "notes", desc := "(LRankEntry$Event;)V" } : Jvm.MethodName)) ∈ lw_all := lw_g (lw_at lw_m1 226 rfl) rfl
theorem q285 : (Jvm.Cond.selects "RankEntry$Core" ({ cls := "RankEntry$Core", name := "notes", desc := "(LRankEntry$Event;)V" } : Jvm.MethodName) ({ cls := "RankEntry$Core", name := "notes", desc := "(LRankEntry$Event;)V" } : Jvm.MethodName)) ∈ lw_all := lw_g (lw_at lw_m1 227 rfl) rfl
theorem q286 : (Jvm.Cond.code ({ cls := "RankEntry$Core", name := "notes", desc := "(LRankEntry$Event;)V" } : Jvm.MethodName) prog_8_method_25_code (2 : Nat) (Option.none : Option Jvm.ClassFile.FieldType)) ∈ lw_all := lw_g (lw_at lw_m1 228 rfl) rfl
theorem q287 : (Jvm.Cond.methodLink "RankEntry$Core" (274 : Nat) ({ cls := "RankEntry$Core", name := "becomes", desc := "(I)Z" } : Jvm.MethodName)) ∈ lw_all := lw_g (lw_at lw_m1 229 rfl) rfl
theorem q288 : (Jvm.Cond.instanceMethod ({ cls := "RankEntry$Core", name := "becomes", desc := "(I)Z" } : Jvm.MethodName)) ∈ lw_all := lw_g (lw_at lw_m1 230 rfl) rfl
theorem q289 : (Jvm.Cond.selects "RankEntry$Core" ({ cls := "RankEntry$Core", name := "becomes", desc := "(I)Z" } : Jvm.MethodName) ({ cls := "RankEntry$Core", name := "becomes", desc := "(I)Z" } : Jvm.MethodName)) ∈ lw_all := lw_g (lw_at lw_m1 231 rfl) rfl
theorem q290 : (Jvm.Cond.code ({ cls := "RankEntry$Core", name := "becomes", desc := "(I)Z" } : Jvm.MethodName) prog_8_method_21_code (3 : Nat) (Option.some Jvm.ClassFile.FieldType.boolean)) ∈ lw_all := lw_g (lw_at lw_m1 232 rfl) rfl
theorem q291 : (Jvm.Cond.methodLink "RankEntry$Core" (315 : Nat) ({ cls := "RankEntry$Source", name := "becomes", desc := "(I)Z" } : Jvm.MethodName)) ∈ lw_all := lw_g (lw_at lw_m1 233 rfl) rfl
theorem q299 : (Jvm.Cond.methodLink "RankEntry$Core" (246 : Nat) ({ cls := "RankEntry$Core", name := "grows", desc := "(I)V" } : Jvm.MethodName)) ∈ lw_all := lw_g (lw_at lw_m2 1 rfl) rfl
theorem q300 : (Jvm.Cond.instanceMethod ({ cls := "RankEntry$Core", name := "grows", desc := "(I)V" } : Jvm.MethodName)) ∈ lw_all := lw_g (lw_at lw_m2 2 rfl) rfl
theorem q301 : (Jvm.Cond.selects "RankEntry$Core" ({ cls := "RankEntry$Core", name := "grows", desc := "(I)V" } : Jvm.MethodName) ({ cls := "RankEntry$Core", name := "grows", desc := "(I)V" } : Jvm.MethodName)) ∈ lw_all := lw_g (lw_at lw_m2 3 rfl) rfl
theorem q302 : (Jvm.Cond.code ({ cls := "RankEntry$Core", name := "grows", desc := "(I)V" } : Jvm.MethodName) prog_8_method_10_code (2 : Nat) (Option.none : Option Jvm.ClassFile.FieldType)) ∈ lw_all := lw_g (lw_at lw_m2 4 rfl) rfl
theorem q303 : (Jvm.Cond.methodLink "RankEntry$Core" (382 : Nat) ({ cls := "RankEntry$Core", name := "framed", desc := "(I)I" } : Jvm.MethodName)) ∈ lw_all := lw_g (lw_at lw_m2 5 rfl) rfl
theorem q304 : (Jvm.Cond.privateMethod ({ cls := "RankEntry$Core", name := "framed", desc := "(I)I" } : Jvm.MethodName)) ∈ lw_tbl := lw_at lw_m2 6 rfl
theorem q305 : (Jvm.Cond.instanceMethod ({ cls := "RankEntry$Core", name := "framed", desc := "(I)I" } : Jvm.MethodName)) ∈ lw_all := lw_g (lw_at lw_m2 7 rfl) rfl
theorem q306 : (Jvm.Cond.code ({ cls := "RankEntry$Core", name := "framed", desc := "(I)I" } : Jvm.MethodName) prog_8_method_33_code (2 : Nat) (Option.some Jvm.ClassFile.FieldType.int)) ∈ lw_all := lw_g (lw_at lw_m2 8 rfl) rfl
theorem q307 : (Jvm.Cond.methodLink "RankEntry$Core" (385 : Nat) ({ cls := "RankEntry$Core", name := "pushes", desc := "(I)Z" } : Jvm.MethodName)) ∈ lw_all := lw_g (lw_at lw_m2 9 rfl) rfl
theorem q308 : (Jvm.Cond.instanceMethod ({ cls := "RankEntry$Core", name := "pushes", desc := "(I)Z" } : Jvm.MethodName)) ∈ lw_all := lw_g (lw_at lw_m2 10 rfl) rfl
theorem q309 : (Jvm.Cond.selects "RankEntry$Core" ({ cls := "RankEntry$Core", name := "pushes", desc := "(I)Z" } : Jvm.MethodName) ({ cls := "RankEntry$Core", name := "pushes", desc := "(I)Z" } : Jvm.MethodName)) ∈ lw_all := lw_g (lw_at lw_m2 11 rfl) rfl
theorem q310 : (Jvm.Cond.code ({ cls := "RankEntry$Core", name := "pushes", desc := "(I)Z" } : Jvm.MethodName) prog_8_method_9_code (2 : Nat) (Option.some Jvm.ClassFile.FieldType.boolean)) ∈ lw_all := lw_g (lw_at lw_m2 12 rfl) rfl
theorem q311 : (Jvm.Cond.interfaceEntry "RankEntry$Core" (388 : Nat)) ∈ lw_tbl := lw_at lw_m2 13 rfl
theorem q312 : (Jvm.Cond.methodLink "RankEntry$Core" (388 : Nat) ({ cls := "RankEntry$Choice", name := "of", desc := "(II)I" } : Jvm.MethodName)) ∈ lw_all := lw_g (lw_at lw_m2 14 rfl) rfl
theorem q315 : (Jvm.Cond.methodLink "RankEntry$Core" (393 : Nat) ({ cls := "RankEntry$Core", name := "begins", desc := "(IZ)V" } : Jvm.MethodName)) ∈ lw_all := lw_g (lw_at lw_m2 17 rfl) rfl
theorem q316 : (Jvm.Cond.privateMethod ({ cls := "RankEntry$Core", name := "begins", desc := "(IZ)V" } : Jvm.MethodName)) ∈ lw_tbl := lw_at lw_m2 18 rfl
theorem q317 : (Jvm.Cond.instanceMethod ({ cls := "RankEntry$Core", name := "begins", desc := "(IZ)V" } : Jvm.MethodName)) ∈ lw_all := lw_g (lw_at lw_m2 19 rfl) rfl
theorem q318 : (Jvm.Cond.code ({ cls := "RankEntry$Core", name := "begins", desc := "(IZ)V" } : Jvm.MethodName) prog_8_method_37_code (5 : Nat) (Option.none : Option Jvm.ClassFile.FieldType)) ∈ lw_all := lw_g (lw_at lw_m2 20 rfl) rfl
theorem q319 : (Jvm.Cond.methodLink "RankEntry$Core" (400 : Nat) ({ cls := "RankEntry$Source", name := "begins", desc := "(I)V" } : Jvm.MethodName)) ∈ lw_all := lw_g (lw_at lw_m2 21 rfl) rfl
theorem q327 : (Jvm.Cond.classLink "RankEntry$Core" (405 : Nat) "RankEntry$Began") ∈ lw_all := lw_g (lw_at lw_m2 29 rfl) rfl
theorem q329 : (Jvm.Cond.methodLinkNest "RankEntry$Core" (407 : Nat) ({ cls := "RankEntry$Began", name := "<init>", desc := "(IIIZ)V" } : Jvm.MethodName) "RankEntry") ∈ lw_tbl := lw_at lw_m2 31 rfl
theorem q346 : (Jvm.Cond.methodLink "RankEntry$Core" (332 : Nat) ({ cls := "RankEntry$Core", name := "does", desc := "()V" } : Jvm.MethodName)) ∈ lw_all := lw_g (lw_at lw_m2 48 rfl) rfl
theorem q347 : (Jvm.Cond.privateMethod ({ cls := "RankEntry$Core", name := "does", desc := "()V" } : Jvm.MethodName)) ∈ lw_tbl := lw_at lw_m2 49 rfl
theorem q348 : (Jvm.Cond.instanceMethod ({ cls := "RankEntry$Core", name := "does", desc := "()V" } : Jvm.MethodName)) ∈ lw_all := lw_g (lw_at lw_m2 50 rfl) rfl
theorem q349 : (Jvm.Cond.codeWith ({ cls := "RankEntry$Core", name := "does", desc := "()V" } : Jvm.MethodName) prog_8_method_30_code (3 : Nat) (Option.none : Option Jvm.ClassFile.FieldType) [((5 : Nat), (23 : Nat), (26 : Nat), (9 : Nat))]) ∈ lw_all := lw_g (lw_at lw_m2 51 rfl) rfl
theorem q350 : (Jvm.Cond.methodLink "RankEntry$Core" (335 : Nat) ({ cls := "RankEntry$Core", name := "executes", desc := "()Z" } : Jvm.MethodName)) ∈ lw_all := lw_g (lw_at lw_m2 52 rfl) rfl
theorem q351 : (Jvm.Cond.privateMethod ({ cls := "RankEntry$Core", name := "executes", desc := "()Z" } : Jvm.MethodName)) ∈ lw_tbl := lw_at lw_m2 53 rfl
theorem q352 : (Jvm.Cond.instanceMethod ({ cls := "RankEntry$Core", name := "executes", desc := "()Z" } : Jvm.MethodName)) ∈ lw_all := lw_g (lw_at lw_m2 54 rfl) rfl
theorem q353 : (Jvm.Cond.code ({ cls := "RankEntry$Core", name := "executes", desc := "()Z" } : Jvm.MethodName) prog_8_method_31_code (4 : Nat) (Option.some Jvm.ClassFile.FieldType.boolean)) ∈ lw_all := lw_g (lw_at lw_m2 55 rfl) rfl
theorem q354 : (Jvm.Cond.methodLink "RankEntry$Core" (344 : Nat) ({ cls := "RankEntry$Code", name := "op", desc := "(I)LRankEntry$Op;" } : Jvm.MethodName)) ∈ lw_all := lw_g (lw_at lw_m2 56 rfl) rfl
theorem q362 : (Jvm.Cond.methodLink "RankEntry$Core" (350 : Nat) ({ cls := "RankEntry$Op", name := "isFloat", desc := "()Z" } : Jvm.MethodName)) ∈ lw_all := lw_g (lw_at lw_m2 64 rfl) rfl
theorem q405 : (Jvm.Cond.methodLink "RankEntry$Core" (355 : Nat) ({ cls := "RankEntry$Core", name := "saving", desc := "()V" } : Jvm.MethodName)) ∈ lw_all := lw_g (lw_at lw_m2 107 rfl) rfl
theorem q406 : (Jvm.Cond.privateMethod ({ cls := "RankEntry$Core", name := "saving", desc := "()V" } : Jvm.MethodName)) ∈ lw_tbl := lw_at lw_m2 108 rfl
theorem q407 : (Jvm.Cond.instanceMethod ({ cls := "RankEntry$Core", name := "saving", desc := "()V" } : Jvm.MethodName)) ∈ lw_all := lw_g (lw_at lw_m2 109 rfl) rfl
theorem q408 : (Jvm.Cond.code ({ cls := "RankEntry$Core", name := "saving", desc := "()V" } : Jvm.MethodName) prog_8_method_32_code (1 : Nat) (Option.none : Option Jvm.ClassFile.FieldType)) ∈ lw_all := lw_g (lw_at lw_m2 110 rfl) rfl
theorem q409 : (Jvm.Cond.methodLink "RankEntry$Core" (370 : Nat) ({ cls := "java/lang/Float", name := "floatToIntBits", desc := "(F)I" } : Jvm.MethodName)) ∈ lw_all := lw_g (lw_at lw_m2 111 rfl) rfl
theorem q419 : (Jvm.Cond.methodLink "RankEntry$Core" (358 : Nat) ({ cls := "RankEntry$Code", name := "at", desc := "(I)I" } : Jvm.MethodName)) ∈ lw_all := lw_g (lw_at lw_m2 121 rfl) rfl
theorem q420 : (Jvm.Cond.methodLink "RankEntry$Core" (367 : Nat) ({ cls := "RankEntry$Op", name := "does", desc := "(LRankEntry$Core;II)V" } : Jvm.MethodName)) ∈ lw_all := lw_g (lw_at lw_m2 122 rfl) rfl
theorem q427 : (Jvm.Cond.instanceMethod ({ cls := "RankEntry$Core", name := "sets", desc := "(II)V" } : Jvm.MethodName)) ∈ lw_all := lw_g (lw_at lw_m2 129 rfl) rfl
theorem q428 : (Jvm.Cond.selects "RankEntry$Core" ({ cls := "RankEntry$Core", name := "sets", desc := "(II)V" } : Jvm.MethodName) ({ cls := "RankEntry$Core", name := "sets", desc := "(II)V" } : Jvm.MethodName)) ∈ lw_all := lw_g (lw_at lw_m2 130 rfl) rfl
theorem q429 : (Jvm.Cond.code ({ cls := "RankEntry$Core", name := "sets", desc := "(II)V" } : Jvm.MethodName) prog_8_method_6_code (3 : Nat) (Option.none : Option Jvm.ClassFile.FieldType)) ∈ lw_all := lw_g (lw_at lw_m2 131 rfl) rfl
theorem q434 : (Jvm.Cond.instanceMethod ({ cls := "RankEntry$Core", name := "needs", desc := "(I)V" } : Jvm.MethodName)) ∈ lw_all := lw_g (lw_at lw_m2 136 rfl) rfl
theorem q435 : (Jvm.Cond.selects "RankEntry$Core" ({ cls := "RankEntry$Core", name := "needs", desc := "(I)V" } : Jvm.MethodName) ({ cls := "RankEntry$Core", name := "needs", desc := "(I)V" } : Jvm.MethodName)) ∈ lw_all := lw_g (lw_at lw_m2 137 rfl) rfl
theorem q436 : (Jvm.Cond.code ({ cls := "RankEntry$Core", name := "needs", desc := "(I)V" } : Jvm.MethodName) prog_8_method_8_code (2 : Nat) (Option.none : Option Jvm.ClassFile.FieldType)) ∈ lw_all := lw_g (lw_at lw_m2 138 rfl) rfl
theorem q487 : (Jvm.Cond.instanceMethod ({ cls := "RankEntry$Core", name := "ends", desc := "()V" } : Jvm.MethodName)) ∈ lw_all := lw_g (lw_at lw_m2 189 rfl) rfl
theorem q488 : (Jvm.Cond.selects "RankEntry$Core" ({ cls := "RankEntry$Core", name := "ends", desc := "()V" } : Jvm.MethodName) ({ cls := "RankEntry$Core", name := "ends", desc := "()V" } : Jvm.MethodName)) ∈ lw_all := lw_g (lw_at lw_m2 190 rfl) rfl
theorem q489 : (Jvm.Cond.code ({ cls := "RankEntry$Core", name := "ends", desc := "()V" } : Jvm.MethodName) prog_8_method_14_code (2 : Nat) (Option.none : Option Jvm.ClassFile.FieldType)) ∈ lw_all := lw_g (lw_at lw_m2 191 rfl) rfl
theorem q490 : (Jvm.Cond.classLink "RankEntry$Core" (255 : Nat) "RankEntry$Ended") ∈ lw_all := lw_g (lw_at lw_m2 192 rfl) rfl
theorem q492 : (Jvm.Cond.methodLinkNest "RankEntry$Core" (263 : Nat) ({ cls := "RankEntry$Ended", name := "<init>", desc := "(III)V" } : Jvm.MethodName) "RankEntry") ∈ lw_tbl := lw_at lw_m2 194 rfl
theorem q506 : (Jvm.Cond.methodLink "RankEntry$Core" (270 : Nat) ({ cls := "RankEntry$Source", name := "ends", desc := "()Z" } : Jvm.MethodName)) ∈ lw_all := lw_g (lw_at lw_m2 208 rfl) rfl
theorem q519 : (Jvm.Cond.interfaceEntry "RankEntry$Core" (282 : Nat)) ∈ lw_tbl := lw_at lw_m2 221 rfl
theorem q520 : (Jvm.Cond.methodLink "RankEntry$Core" (282 : Nat) ({ cls := "RankEntry$Chains", name := "may", desc := "(I)Z" } : Jvm.MethodName)) ∈ lw_all := lw_g (lw_at lw_m2 222 rfl) rfl
theorem q530 : (Jvm.Cond.instanceMethod ({ cls := "RankEntry$Core", name := "reg", desc := "(I)I" } : Jvm.MethodName)) ∈ lw_all := lw_g (lw_at lw_m2 232 rfl) rfl
theorem q531 : (Jvm.Cond.selects "RankEntry$Core" ({ cls := "RankEntry$Core", name := "reg", desc := "(I)I" } : Jvm.MethodName) ({ cls := "RankEntry$Core", name := "reg", desc := "(I)I" } : Jvm.MethodName)) ∈ lw_all := lw_g (lw_at lw_m2 233 rfl) rfl
theorem q532 : (Jvm.Cond.code ({ cls := "RankEntry$Core", name := "reg", desc := "(I)I" } : Jvm.MethodName) prog_8_method_5_code (2 : Nat) (Option.some Jvm.ClassFile.FieldType.int)) ∈ lw_all := lw_g (lw_at lw_m2 234 rfl) rfl
theorem q534 : (Jvm.Cond.instanceMethod ({ cls := "RankEntry$Core", name := "comes", desc := "(II)V" } : Jvm.MethodName)) ∈ lw_all := lw_g (lw_at lw_m2 236 rfl) rfl
theorem q535 : (Jvm.Cond.selects "RankEntry$Core" ({ cls := "RankEntry$Core", name := "comes", desc := "(II)V" } : Jvm.MethodName) ({ cls := "RankEntry$Core", name := "comes", desc := "(II)V" } : Jvm.MethodName)) ∈ lw_all := lw_g (lw_at lw_m2 237 rfl) rfl
theorem q536 : (Jvm.Cond.code ({ cls := "RankEntry$Core", name := "comes", desc := "(II)V" } : Jvm.MethodName) prog_8_method_7_code (3 : Nat) (Option.none : Option Jvm.ClassFile.FieldType)) ∈ lw_all := lw_g (lw_at lw_m2 238 rfl) rfl
theorem q537 : (Jvm.Cond.methodLink "RankEntry$Core" (242 : Nat) ({ cls := "RankEntry$Core", name := "sets", desc := "(II)V" } : Jvm.MethodName)) ∈ lw_all := lw_g (lw_at lw_m2 239 rfl) rfl
theorem q543 : (Jvm.Cond.instanceMethod ({ cls := "RankEntry$Core", name := "setsFloat", desc := "(IF)V" } : Jvm.MethodName)) ∈ lw_all := lw_g (lw_at lw_m3 5 rfl) rfl
theorem q544 : (Jvm.Cond.selects "RankEntry$Core" ({ cls := "RankEntry$Core", name := "setsFloat", desc := "(IF)V" } : Jvm.MethodName) ({ cls := "RankEntry$Core", name := "setsFloat", desc := "(IF)V" } : Jvm.MethodName)) ∈ lw_all := lw_g (lw_at lw_m3 6 rfl) rfl
theorem q545 : (Jvm.Cond.code ({ cls := "RankEntry$Core", name := "setsFloat", desc := "(IF)V" } : Jvm.MethodName) prog_8_method_11_code (3 : Nat) (Option.none : Option Jvm.ClassFile.FieldType)) ∈ lw_all := lw_g (lw_at lw_m3 7 rfl) rfl
theorem q550 : (Jvm.Cond.instanceMethod ({ cls := "RankEntry$Core", name := "comesFloat", desc := "(IF)V" } : Jvm.MethodName)) ∈ lw_all := lw_g (lw_at lw_m3 12 rfl) rfl
theorem q551 : (Jvm.Cond.selects "RankEntry$Core" ({ cls := "RankEntry$Core", name := "comesFloat", desc := "(IF)V" } : Jvm.MethodName) ({ cls := "RankEntry$Core", name := "comesFloat", desc := "(IF)V" } : Jvm.MethodName)) ∈ lw_all := lw_g (lw_at lw_m3 13 rfl) rfl
theorem q552 : (Jvm.Cond.code ({ cls := "RankEntry$Core", name := "comesFloat", desc := "(IF)V" } : Jvm.MethodName) prog_8_method_12_code (3 : Nat) (Option.none : Option Jvm.ClassFile.FieldType)) ∈ lw_all := lw_g (lw_at lw_m3 14 rfl) rfl
theorem q553 : (Jvm.Cond.constantFloat "RankEntry$Core" (249 : Nat) (2139095039 : UInt32)) ∈ lw_all := lw_g (lw_at lw_m3 15 rfl) rfl
theorem q554 : (Jvm.Cond.constantFloat "RankEntry$Core" (250 : Nat) (4286578687 : UInt32)) ∈ lw_all := lw_g (lw_at lw_m3 16 rfl) rfl
theorem q555 : (Jvm.Cond.methodLink "RankEntry$Core" (251 : Nat) ({ cls := "RankEntry$Core", name := "setsFloat", desc := "(IF)V" } : Jvm.MethodName)) ∈ lw_all := lw_g (lw_at lw_m3 17 rfl) rfl
theorem q582 : (Jvm.Cond.instanceMethod ({ cls := "RankEntry$Core", name := "tells", desc := "(I)V" } : Jvm.MethodName)) ∈ lw_all := lw_g (lw_at lw_m3 44 rfl) rfl
theorem q583 : (Jvm.Cond.selects "RankEntry$Core" ({ cls := "RankEntry$Core", name := "tells", desc := "(I)V" } : Jvm.MethodName) ({ cls := "RankEntry$Core", name := "tells", desc := "(I)V" } : Jvm.MethodName)) ∈ lw_all := lw_g (lw_at lw_m3 45 rfl) rfl
theorem q584 : (Jvm.Cond.code ({ cls := "RankEntry$Core", name := "tells", desc := "(I)V" } : Jvm.MethodName) prog_8_method_13_code (2 : Nat) (Option.none : Option Jvm.ClassFile.FieldType)) ∈ lw_all := lw_g (lw_at lw_m3 46 rfl) rfl
theorem q628 : (Jvm.Cond.privateMethod ({ cls := "RankEntry$Core", name := "chaining", desc := "()V" } : Jvm.MethodName)) ∈ lw_tbl := lw_at lw_m3 90 rfl
theorem q629 : (Jvm.Cond.instanceMethod ({ cls := "RankEntry$Core", name := "chaining", desc := "()V" } : Jvm.MethodName)) ∈ lw_all := lw_g (lw_at lw_m3 91 rfl) rfl
theorem q630 : (Jvm.Cond.code ({ cls := "RankEntry$Core", name := "chaining", desc := "()V" } : Jvm.MethodName) prog_8_method_38_code (2 : Nat) (Option.none : Option Jvm.ClassFile.FieldType)) ∈ lw_all := lw_g (lw_at lw_m3 92 rfl) rfl
theorem q631 : (Jvm.Cond.privateMethod ({ cls := "RankEntry$Core", name := "unstacking", desc := "()V" } : Jvm.MethodName)) ∈ lw_tbl := lw_at lw_m3 93 rfl
theorem q632 : (Jvm.Cond.instanceMethod ({ cls := "RankEntry$Core", name := "unstacking", desc := "()V" } : Jvm.MethodName)) ∈ lw_all := lw_g (lw_at lw_m3 94 rfl) rfl
theorem q633 : (Jvm.Cond.code ({ cls := "RankEntry$Core", name := "unstacking", desc := "()V" } : Jvm.MethodName) prog_8_method_39_code (3 : Nat) (Option.none : Option Jvm.ClassFile.FieldType)) ∈ lw_all := lw_g (lw_at lw_m3 95 rfl) rfl
theorem q634 : (Jvm.Cond.classLink "RankEntry$Core" (410 : Nat) "RankEntry$Abandoned") ∈ lw_all := lw_g (lw_at lw_m3 96 rfl) rfl
theorem q636 : (Jvm.Cond.methodLinkNest "RankEntry$Core" (412 : Nat) ({ cls := "RankEntry$Abandoned", name := "<init>", desc := "(III)V" } : Jvm.MethodName) "RankEntry") ∈ lw_tbl := lw_at lw_m3 98 rfl
theorem q650 : (Jvm.Cond.methodLink "RankEntry$Core" (413 : Nat) ({ cls := "RankEntry$Core", name := "chaining", desc := "()V" } : Jvm.MethodName)) ∈ lw_all := lw_g (lw_at lw_m3 112 rfl) rfl
theorem q651 : (Jvm.Cond.methodLink "RankEntry$Core" (416 : Nat) ({ cls := "RankEntry$Core", name := "looks", desc := "()I" } : Jvm.MethodName)) ∈ lw_all := lw_g (lw_at lw_m3 113 rfl) rfl
theorem q652 : (Jvm.Cond.privateMethod ({ cls := "RankEntry$Core", name := "looks", desc := "()I" } : Jvm.MethodName)) ∈ lw_tbl := lw_at lw_m3 114 rfl
theorem q653 : (Jvm.Cond.instanceMethod ({ cls := "RankEntry$Core", name := "looks", desc := "()I" } : Jvm.MethodName)) ∈ lw_all := lw_g (lw_at lw_m3 115 rfl) rfl
theorem q654 : (Jvm.Cond.code ({ cls := "RankEntry$Core", name := "looks", desc := "()I" } : Jvm.MethodName) prog_8_method_40_code (2 : Nat) (Option.some Jvm.ClassFile.FieldType.int)) ∈ lw_all := lw_g (lw_at lw_m3 116 rfl) rfl
theorem q655 : (Jvm.Cond.methodLinkNest "RankEntry$Core" (425 : Nat) ({ cls := "RankEntry", name := "within", desc := "(III)Z" } : Jvm.MethodName) "RankEntry") ∈ lw_tbl := lw_at lw_m3 117 rfl
theorem q658 : (Jvm.Cond.methodLink "RankEntry$Core" (419 : Nat) ({ cls := "RankEntry$Core", name := "isSaved", desc := "()Z" } : Jvm.MethodName)) ∈ lw_all := lw_g (lw_at lw_m3 120 rfl) rfl
theorem q659 : (Jvm.Cond.privateMethod ({ cls := "RankEntry$Core", name := "isSaved", desc := "()Z" } : Jvm.MethodName)) ∈ lw_tbl := lw_at lw_m3 121 rfl
theorem q660 : (Jvm.Cond.instanceMethod ({ cls := "RankEntry$Core", name := "isSaved", desc := "()Z" } : Jvm.MethodName)) ∈ lw_all := lw_g (lw_at lw_m3 122 rfl) rfl
theorem q661 : (Jvm.Cond.code ({ cls := "RankEntry$Core", name := "isSaved", desc := "()Z" } : Jvm.MethodName) prog_8_method_41_code (1 : Nat) (Option.some Jvm.ClassFile.FieldType.boolean)) ∈ lw_all := lw_g (lw_at lw_m3 123 rfl) rfl
theorem q662 : (Jvm.Cond.methodLink "RankEntry$Core" (422 : Nat) ({ cls := "RankEntry$Core", name := "returns", desc := "()V" } : Jvm.MethodName)) ∈ lw_all := lw_g (lw_at lw_m3 124 rfl) rfl
theorem q663 : (Jvm.Cond.privateMethod ({ cls := "RankEntry$Core", name := "returns", desc := "()V" } : Jvm.MethodName)) ∈ lw_tbl := lw_at lw_m3 125 rfl
theorem q664 : (Jvm.Cond.instanceMethod ({ cls := "RankEntry$Core", name := "returns", desc := "()V" } : Jvm.MethodName)) ∈ lw_all := lw_g (lw_at lw_m3 126 rfl) rfl
theorem q665 : (Jvm.Cond.code ({ cls := "RankEntry$Core", name := "returns", desc := "()V" } : Jvm.MethodName) prog_8_method_42_code (4 : Nat) (Option.none : Option Jvm.ClassFile.FieldType)) ∈ lw_all := lw_g (lw_at lw_m3 127 rfl) rfl
theorem q666 : (Jvm.Cond.methodLink "RankEntry$Core" (429 : Nat) ({ cls := "RankEntry$Core", name := "number", desc := "(I)F" } : Jvm.MethodName)) ∈ lw_all := lw_g (lw_at lw_m3 128 rfl) rfl
theorem q667 : (Jvm.Cond.static ({ cls := "RankEntry$Core", name := "number", desc := "(I)F" } : Jvm.MethodName)) ∈ lw_all := lw_g (lw_at lw_m3 129 rfl) rfl
theorem q668 : (Jvm.Cond.code ({ cls := "RankEntry$Core", name := "number", desc := "(I)F" } : Jvm.MethodName) prog_8_method_43_code (5 : Nat) (Option.some Jvm.ClassFile.FieldType.float)) ∈ lw_all := lw_g (lw_at lw_m3 130 rfl) rfl
theorem q669 : (Jvm.Cond.constant "RankEntry$Core" (435 : Nat) (8388607 : Int32)) ∈ lw_all := lw_g (lw_at lw_m3 131 rfl) rfl
theorem q670 : (Jvm.Cond.constant "RankEntry$Core" (436 : Nat) (8388608 : Int32)) ∈ lw_all := lw_g (lw_at lw_m3 132 rfl) rfl
theorem q671 : (Jvm.Cond.classLink "RankEntry$Core" (432 : Nat) "RankEntry$Returned") ∈ lw_all := lw_g (lw_at lw_m3 133 rfl) rfl
theorem q673 : (Jvm.Cond.methodLinkNest "RankEntry$Core" (434 : Nat) ({ cls := "RankEntry$Returned", name := "<init>", desc := "(III)V" } : Jvm.MethodName) "RankEntry") ∈ lw_tbl := lw_at lw_m3 135 rfl
theorem q687 : (Jvm.Cond.privateMethod ({ cls := "RankEntry$Core", name := "locked", desc := "()V" } : Jvm.MethodName)) ∈ lw_tbl := lw_at lw_m3 149 rfl
theorem q688 : (Jvm.Cond.instanceMethod ({ cls := "RankEntry$Core", name := "locked", desc := "()V" } : Jvm.MethodName)) ∈ lw_all := lw_g (lw_at lw_m3 150 rfl) rfl
theorem q689 : (Jvm.Cond.code ({ cls := "RankEntry$Core", name := "locked", desc := "()V" } : Jvm.MethodName) prog_8_method_28_code (1 : Nat) (Option.none : Option Jvm.ClassFile.FieldType)) ∈ lw_all := lw_g (lw_at lw_m3 151 rfl) rfl
theorem q690 : (Jvm.Cond.static ({ cls := "RankEntry$Core", name := "lambda$new$0", desc := "(II)I" } : Jvm.MethodName)) ∈ lw_all := lw_g (lw_at lw_m3 152 rfl) rfl
theorem q691 : (Jvm.Cond.code ({ cls := "RankEntry$Core", name := "lambda$new$0", desc := "(II)I" } : Jvm.MethodName) prog_8_method_49_code (2 : Nat) (Option.some Jvm.ClassFile.FieldType.int)) ∈ lw_all := lw_g (lw_at lw_m3 153 rfl) rfl
theorem q692 : (Jvm.Cond.privateMethod ({ cls := "RankEntry$Core", name := "lambda$new$1", desc := "(II)I" } : Jvm.MethodName)) ∈ lw_tbl := lw_at lw_m3 154 rfl
theorem q693 : (Jvm.Cond.instanceMethod ({ cls := "RankEntry$Core", name := "lambda$new$1", desc := "(II)I" } : Jvm.MethodName)) ∈ lw_all := lw_g (lw_at lw_m3 155 rfl) rfl
theorem q694 : (Jvm.Cond.code ({ cls := "RankEntry$Core", name := "lambda$new$1", desc := "(II)I" } : Jvm.MethodName) prog_8_method_48_code (3 : Nat) (Option.some Jvm.ClassFile.FieldType.int)) ∈ lw_all := lw_g (lw_at lw_m3 156 rfl) rfl
theorem q695 : (Jvm.Cond.methodLink "RankEntry$Core" (437 : Nat) ({ cls := "RankEntry$Core", name := "can", desc := "(I)Z" } : Jvm.MethodName)) ∈ lw_all := lw_g (lw_at lw_m3 157 rfl) rfl
theorem q696 : (Jvm.Cond.instanceMethod ({ cls := "RankEntry$Core", name := "can", desc := "(I)Z" } : Jvm.MethodName)) ∈ lw_all := lw_g (lw_at lw_m3 158 rfl) rfl
theorem q697 : (Jvm.Cond.selects "RankEntry$Core" ({ cls := "RankEntry$Core", name := "can", desc := "(I)Z" } : Jvm.MethodName) ({ cls := "RankEntry$Core", name := "can", desc := "(I)Z" } : Jvm.MethodName)) ∈ lw_all := lw_g (lw_at lw_m3 159 rfl) rfl
theorem q698 : (Jvm.Cond.code ({ cls := "RankEntry$Core", name := "can", desc := "(I)Z" } : Jvm.MethodName) prog_8_method_17_code (2 : Nat) (Option.some Jvm.ClassFile.FieldType.boolean)) ∈ lw_all := lw_g (lw_at lw_m3 160 rfl) rfl
theorem q699 : (Jvm.Cond.static ({ cls := "RankEntry$Core", name := "lambda$new$2", desc := "(I)Z" } : Jvm.MethodName)) ∈ lw_all := lw_g (lw_at lw_m3 161 rfl) rfl
theorem q700 : (Jvm.Cond.code ({ cls := "RankEntry$Core", name := "lambda$new$2", desc := "(I)Z" } : Jvm.MethodName) prog_8_method_47_code (1 : Nat) (Option.some Jvm.ClassFile.FieldType.boolean)) ∈ lw_all := lw_g (lw_at lw_m3 162 rfl) rfl
theorem q701 : (Jvm.Cond.static ({ cls := "RankEntry$Core", name := "lambda$new$3", desc := "(I)Z" } : Jvm.MethodName)) ∈ lw_all := lw_g (lw_at lw_m3 163 rfl) rfl
theorem q702 : (Jvm.Cond.code ({ cls := "RankEntry$Core", name := "lambda$new$3", desc := "(I)Z" } : Jvm.MethodName) prog_8_method_46_code (1 : Nat) (Option.some Jvm.ClassFile.FieldType.boolean)) ∈ lw_all := lw_g (lw_at lw_m3 164 rfl) rfl
theorem q703 : (Jvm.Cond.methodLinkNest "RankEntry$Core" (127 : Nat) ({ cls := "RankEntry", name := "by", desc := "(I)LRankEntry$Ahead;" } : Jvm.MethodName) "RankEntry") ∈ lw_tbl := lw_at lw_m3 165 rfl
theorem q720 : (Jvm.Cond.methodLinkNest "RankEntry$Core" (149 : Nat) ({ cls := "RankEntry", name := "made", desc := "(I)LRankEntry$Source;" } : Jvm.MethodName) "RankEntry") ∈ lw_tbl := lw_at lw_m3 182 rfl
theorem q733 : (Jvm.Cond.fieldLink "RankEntry$Core" (257 : Nat) "RankEntry$Source" "number" "I") ∈ lw_all := lw_g (lw_at lw_m3 195 rfl) rfl
theorem q740 : (Jvm.Cond.fieldLink "RankEntry$Core" (402 : Nat) "RankEntry$Source" "vector" "I") ∈ lw_all := lw_g (lw_at lw_m3 202 rfl) rfl
theorem q745 : (Jvm.Cond.fieldLink "RankEntry$Core" (303 : Nat) "RankEntry$Source" "enabled" "Z") ∈ lw_all := lw_g (lw_at lw_m3 207 rfl) rfl
theorem q747 : (Jvm.Cond.fieldLink "RankEntry$Core" (300 : Nat) "RankEntry$Source" "pending" "Z") ∈ lw_all := lw_g (lw_at lw_m3 209 rfl) rfl
theorem q752 : (Jvm.Cond.fieldLink "RankEntry$Core" (316 : Nat) "RankEntry$Source" "active" "Z") ∈ lw_all := lw_g (lw_at lw_m3 214 rfl) rfl
theorem q754 : (Jvm.Cond.fieldLink "RankEntry$Core" (397 : Nat) "RankEntry$Source" "since" "I") ∈ lw_all := lw_g (lw_at lw_m3 216 rfl) rfl
theorem q756 : (Jvm.Cond.fieldLink "RankEntry$Core" (260 : Nat) "RankEntry$Source" "began" "I") ∈ lw_all := lw_g (lw_at lw_m3 218 rfl) rfl
theorem q827 : (Jvm.Cond.fieldLink "RankEntry$Core" (145 : Nat) "RankEntry$Core" "code" "LRankEntry$Code;") ∈ lw_all := lw_g (lw_at lw_m4 49 rfl) rfl
theorem q828 : (Jvm.Cond.fieldLink "RankEntry$Core" (14 : Nat) "RankEntry$Core" "wrong" "LRankEntry$Trap;") ∈ lw_all := lw_g (lw_at lw_m4 50 rfl) rfl
theorem q831 : (Jvm.Cond.fieldLink "RankEntry$Core" (20 : Nat) "RankEntry$Core" "full" "LRankEntry$Trap;") ∈ lw_all := lw_g (lw_at lw_m4 53 rfl) rfl
theorem q833 : (Jvm.Cond.fieldLink "RankEntry$Core" (23 : Nat) "RankEntry$Core" "\x72" "[I") ∈ lw_all := lw_g (lw_at lw_m4 55 rfl) rfl
theorem q835 : (Jvm.Cond.fieldLink "RankEntry$Core" (27 : Nat) "RankEntry$Core" "f" "[F") ∈ lw_all := lw_g (lw_at lw_m4 57 rfl) rfl
theorem q840 : (Jvm.Cond.fieldLink "RankEntry$Core" (31 : Nat) "RankEntry$Core" "data" "[I") ∈ lw_all := lw_g (lw_at lw_m4 62 rfl) rfl
theorem q844 : (Jvm.Cond.fieldLink "RankEntry$Core" (34 : Nat) "RankEntry$Core" "stack" "[I") ∈ lw_all := lw_g (lw_at lw_m4 66 rfl) rfl
theorem q848 : (Jvm.Cond.fieldLink "RankEntry$Core" (39 : Nat) "RankEntry$Core" "all" "[LRankEntry$Source;") ∈ lw_all := lw_g (lw_at lw_m4 70 rfl) rfl
theorem q852 : (Jvm.Cond.fieldLink "RankEntry$Core" (43 : Nat) "RankEntry$Core" "nest" "[I") ∈ lw_all := lw_g (lw_at lw_m4 74 rfl) rfl
theorem q854 : (Jvm.Cond.fieldLink "RankEntry$Core" (46 : Nat) "RankEntry$Core" "due" "[I") ∈ lw_all := lw_g (lw_at lw_m4 76 rfl) rfl
theorem q856 : (Jvm.Cond.fieldLink "RankEntry$Core" (49 : Nat) "RankEntry$Core" "dueOf" "[I") ∈ lw_all := lw_g (lw_at lw_m4 78 rfl) rfl
theorem q858 : (Jvm.Cond.fieldLink "RankEntry$Core" (52 : Nat) "RankEntry$Core" "counts" "[I") ∈ lw_all := lw_g (lw_at lw_m4 80 rfl) rfl
theorem q860 : (Jvm.Cond.fieldLink "RankEntry$Core" (55 : Nat) "RankEntry$Core" "out" "[I") ∈ lw_all := lw_g (lw_at lw_m4 82 rfl) rfl
theorem q862 : (Jvm.Cond.fieldLink "RankEntry$Core" (60 : Nat) "RankEntry$Core" "events" "[LRankEntry$Event;") ∈ lw_all := lw_g (lw_at lw_m4 84 rfl) rfl
theorem q864 : (Jvm.Cond.fieldLink "RankEntry$Core" (68 : Nat) "RankEntry$Core" "runs" "LRankEntry$Phase;") ∈ lw_all := lw_g (lw_at lw_m4 86 rfl) rfl
theorem q865 : (Jvm.Cond.fieldLink "RankEntry$Core" (73 : Nat) "RankEntry$Core" "stacks" "LRankEntry$Phase;") ∈ lw_all := lw_g (lw_at lw_m4 87 rfl) rfl
theorem q866 : (Jvm.Cond.fieldLink "RankEntry$Core" (77 : Nat) "RankEntry$Core" "chains" "LRankEntry$Phase;") ∈ lw_all := lw_g (lw_at lw_m4 88 rfl) rfl
theorem q867 : (Jvm.Cond.fieldLink "RankEntry$Core" (81 : Nat) "RankEntry$Core" "unstacks" "LRankEntry$Phase;") ∈ lw_all := lw_g (lw_at lw_m4 89 rfl) rfl
theorem q868 : (Jvm.Cond.fieldLink "RankEntry$Core" (85 : Nat) "RankEntry$Core" "saves" "LRankEntry$Phase;") ∈ lw_all := lw_g (lw_at lw_m4 90 rfl) rfl
theorem q869 : (Jvm.Cond.fieldLink "RankEntry$Core" (89 : Nat) "RankEntry$Core" "locks" "LRankEntry$Phase;") ∈ lw_all := lw_g (lw_at lw_m4 91 rfl) rfl
theorem q870 : (Jvm.Cond.fieldLink "RankEntry$Core" (96 : Nat) "RankEntry$Core" "latest" "LRankEntry$Choice;") ∈ lw_all := lw_g (lw_at lw_m4 92 rfl) rfl
theorem q871 : (Jvm.Cond.fieldLink "RankEntry$Core" (103 : Nat) "RankEntry$Core" "earliest" "LRankEntry$Choice;") ∈ lw_all := lw_g (lw_at lw_m4 93 rfl) rfl
theorem q872 : (Jvm.Cond.fieldLink "RankEntry$Core" (110 : Nat) "RankEntry$Core" "often" "LRankEntry$Chains;") ∈ lw_all := lw_g (lw_at lw_m4 94 rfl) rfl
theorem q873 : (Jvm.Cond.fieldLink "RankEntry$Core" (115 : Nat) "RankEntry$Core" "never" "LRankEntry$Chains;") ∈ lw_all := lw_g (lw_at lw_m4 95 rfl) rfl
theorem q874 : (Jvm.Cond.fieldLink "RankEntry$Core" (118 : Nat) "RankEntry$Core" "phase" "LRankEntry$Phase;") ∈ lw_all := lw_g (lw_at lw_m4 96 rfl) rfl
theorem q875 : (Jvm.Cond.fieldLink "RankEntry$Core" (121 : Nat) "RankEntry$Core" "choice" "LRankEntry$Choice;") ∈ lw_all := lw_g (lw_at lw_m4 97 rfl) rfl
theorem q876 : (Jvm.Cond.fieldLink "RankEntry$Core" (124 : Nat) "RankEntry$Core" "mayChain" "LRankEntry$Chains;") ∈ lw_all := lw_g (lw_at lw_m4 98 rfl) rfl
theorem q877 : (Jvm.Cond.fieldLink "RankEntry$Core" (131 : Nat) "RankEntry$Core" "ahead" "LRankEntry$Ahead;") ∈ lw_all := lw_g (lw_at lw_m4 99 rfl) rfl
theorem q879 : (Jvm.Cond.fieldLink "RankEntry$Core" (227 : Nat) "RankEntry$Core" "muted" "Z") ∈ lw_all := lw_g (lw_at lw_m4 101 rfl) rfl
theorem q881 : (Jvm.Cond.fieldLink "RankEntry$Core" (163 : Nat) "RankEntry$Core" "z" "I") ∈ lw_all := lw_g (lw_at lw_m4 103 rfl) rfl
theorem q884 : (Jvm.Cond.fieldLink "RankEntry$Core" (166 : Nat) "RankEntry$Core" "n" "I") ∈ lw_all := lw_g (lw_at lw_m4 106 rfl) rfl
theorem q889 : (Jvm.Cond.fieldLink "RankEntry$Core" (169 : Nat) "RankEntry$Core" "pc" "I") ∈ lw_all := lw_g (lw_at lw_m4 111 rfl) rfl
theorem q893 : (Jvm.Cond.fieldLink "RankEntry$Core" (172 : Nat) "RankEntry$Core" "sp" "I") ∈ lw_all := lw_g (lw_at lw_m4 115 rfl) rfl
theorem q895 : (Jvm.Cond.fieldLink "RankEntry$Core" (175 : Nat) "RankEntry$Core" "deep" "I") ∈ lw_all := lw_g (lw_at lw_m4 117 rfl) rfl
theorem q897 : (Jvm.Cond.fieldLink "RankEntry$Core" (178 : Nat) "RankEntry$Core" "split" "I") ∈ lw_all := lw_g (lw_at lw_m4 119 rfl) rfl
theorem q900 : (Jvm.Cond.fieldLink "RankEntry$Core" (181 : Nat) "RankEntry$Core" "base" "I") ∈ lw_all := lw_g (lw_at lw_m4 122 rfl) rfl
theorem q903 : (Jvm.Cond.fieldLink "RankEntry$Core" (184 : Nat) "RankEntry$Core" "shut" "I") ∈ lw_all := lw_g (lw_at lw_m4 125 rfl) rfl
theorem q905 : (Jvm.Cond.fieldLink "RankEntry$Core" (187 : Nat) "RankEntry$Core" "clock" "I") ∈ lw_all := lw_g (lw_at lw_m4 127 rfl) rfl
theorem q907 : (Jvm.Cond.fieldLink "RankEntry$Core" (190 : Nat) "RankEntry$Core" "period" "I") ∈ lw_all := lw_g (lw_at lw_m4 129 rfl) rfl
theorem q909 : (Jvm.Cond.fieldLink "RankEntry$Core" (193 : Nat) "RankEntry$Core" "timer" "I") ∈ lw_all := lw_g (lw_at lw_m4 131 rfl) rfl
theorem q911 : (Jvm.Cond.fieldLink "RankEntry$Core" (196 : Nat) "RankEntry$Core" "dues" "I") ∈ lw_all := lw_g (lw_at lw_m4 133 rfl) rfl
theorem q913 : (Jvm.Cond.fieldLink "RankEntry$Core" (199 : Nat) "RankEntry$Core" "doing" "I") ∈ lw_all := lw_g (lw_at lw_m4 135 rfl) rfl
theorem q915 : (Jvm.Cond.fieldLink "RankEntry$Core" (205 : Nat) "RankEntry$Core" "steps" "I") ∈ lw_all := lw_g (lw_at lw_m4 137 rfl) rfl
theorem q917 : (Jvm.Cond.fieldLink "RankEntry$Core" (208 : Nat) "RankEntry$Core" "stall" "I") ∈ lw_all := lw_g (lw_at lw_m4 139 rfl) rfl
theorem q920 : (Jvm.Cond.fieldLink "RankEntry$Core" (211 : Nat) "RankEntry$Core" "asleep" "Z") ∈ lw_all := lw_g (lw_at lw_m4 142 rfl) rfl
theorem q922 : (Jvm.Cond.fieldLink "RankEntry$Core" (215 : Nat) "RankEntry$Core" "floats" "I") ∈ lw_all := lw_g (lw_at lw_m4 144 rfl) rfl
theorem q924 : (Jvm.Cond.fieldLink "RankEntry$Core" (135 : Nat) "RankEntry$Core" "lazy" "I") ∈ lw_all := lw_g (lw_at lw_m4 146 rfl) rfl
theorem q926 : (Jvm.Cond.fieldLink "RankEntry$Core" (218 : Nat) "RankEntry$Core" "first" "I") ∈ lw_all := lw_g (lw_at lw_m4 148 rfl) rfl
theorem q927 : (Jvm.Cond.fieldLink "RankEntry$Core" (221 : Nat) "RankEntry$Core" "broken" "Z") ∈ lw_all := lw_g (lw_at lw_m4 149 rfl) rfl
theorem q928 : (Jvm.Cond.fieldLink "RankEntry$Core" (224 : Nat) "RankEntry$Core" "four" "Z") ∈ lw_all := lw_g (lw_at lw_m4 150 rfl) rfl
theorem q929 : (Jvm.Cond.fieldLink "RankEntry$Core" (236 : Nat) "RankEntry$Core" "outs" "I") ∈ lw_all := lw_g (lw_at lw_m4 151 rfl) rfl
theorem q931 : (Jvm.Cond.fieldLink "RankEntry$Core" (239 : Nat) "RankEntry$Core" "told" "I") ∈ lw_all := lw_g (lw_at lw_m4 153 rfl) rfl
theorem q933 : (Jvm.Cond.fieldLink "RankEntry$Core" (139 : Nat) "RankEntry$Core" "now" "I") ∈ lw_all := lw_g (lw_at lw_m4 155 rfl) rfl
theorem q935 : (Jvm.Cond.fieldLink "RankEntry$Core" (230 : Nat) "RankEntry$Core" "begun" "I") ∈ lw_all := lw_g (lw_at lw_m4 157 rfl) rfl
theorem q937 : (Jvm.Cond.fieldLink "RankEntry$Core" (142 : Nat) "RankEntry$Core" "order" "[I") ∈ lw_all := lw_g (lw_at lw_m4 159 rfl) rfl
theorem q939 : (Jvm.Cond.laysFinal "RankEntry$Core" "RankEntry$Core" "code" "LRankEntry$Code;") ∈ lw_all := lw_g (lw_at lw_m4 161 rfl) rfl
theorem q940 : (Jvm.Cond.soleField "RankEntry$Core" "code") ∈ lw_all := lw_g (lw_at lw_m4 162 rfl) rfl
theorem q941 : (Jvm.Cond.laysFinal "RankEntry$Core" "RankEntry$Core" "wrong" "LRankEntry$Trap;") ∈ lw_all := lw_g (lw_at lw_m4 163 rfl) rfl
theorem q942 : (Jvm.Cond.soleField "RankEntry$Core" "wrong") ∈ lw_all := lw_g (lw_at lw_m4 164 rfl) rfl
theorem q943 : (Jvm.Cond.laysFinal "RankEntry$Core" "RankEntry$Core" "full" "LRankEntry$Trap;") ∈ lw_all := lw_g (lw_at lw_m4 165 rfl) rfl
theorem q944 : (Jvm.Cond.soleField "RankEntry$Core" "full") ∈ lw_all := lw_g (lw_at lw_m4 166 rfl) rfl
theorem q945 : (Jvm.Cond.laysFinal "RankEntry$Core" "RankEntry$Core" "\x72" "[I") ∈ lw_all := lw_g (lw_at lw_m4 167 rfl) rfl
theorem q946 : (Jvm.Cond.soleField "RankEntry$Core" "\x72") ∈ lw_all := lw_g (lw_at lw_m4 168 rfl) rfl
theorem q947 : (Jvm.Cond.laysFinal "RankEntry$Core" "RankEntry$Core" "f" "[F") ∈ lw_all := lw_g (lw_at lw_m4 169 rfl) rfl
theorem q948 : (Jvm.Cond.soleField "RankEntry$Core" "f") ∈ lw_all := lw_g (lw_at lw_m4 170 rfl) rfl
theorem q949 : (Jvm.Cond.laysFinal "RankEntry$Core" "RankEntry$Core" "data" "[I") ∈ lw_all := lw_g (lw_at lw_m4 171 rfl) rfl
theorem q950 : (Jvm.Cond.soleField "RankEntry$Core" "data") ∈ lw_all := lw_g (lw_at lw_m4 172 rfl) rfl
theorem q951 : (Jvm.Cond.laysFinal "RankEntry$Core" "RankEntry$Core" "stack" "[I") ∈ lw_all := lw_g (lw_at lw_m4 173 rfl) rfl
theorem q952 : (Jvm.Cond.soleField "RankEntry$Core" "stack") ∈ lw_all := lw_g (lw_at lw_m4 174 rfl) rfl
theorem q953 : (Jvm.Cond.laysFinal "RankEntry$Core" "RankEntry$Core" "all" "[LRankEntry$Source;") ∈ lw_all := lw_g (lw_at lw_m4 175 rfl) rfl
theorem q954 : (Jvm.Cond.soleField "RankEntry$Core" "all") ∈ lw_all := lw_g (lw_at lw_m4 176 rfl) rfl
theorem q955 : (Jvm.Cond.laysFinal "RankEntry$Core" "RankEntry$Core" "nest" "[I") ∈ lw_all := lw_g (lw_at lw_m4 177 rfl) rfl
theorem q956 : (Jvm.Cond.soleField "RankEntry$Core" "nest") ∈ lw_all := lw_g (lw_at lw_m4 178 rfl) rfl
theorem q957 : (Jvm.Cond.laysFinal "RankEntry$Core" "RankEntry$Core" "due" "[I") ∈ lw_all := lw_g (lw_at lw_m4 179 rfl) rfl
theorem q958 : (Jvm.Cond.soleField "RankEntry$Core" "due") ∈ lw_all := lw_g (lw_at lw_m4 180 rfl) rfl
theorem q959 : (Jvm.Cond.laysFinal "RankEntry$Core" "RankEntry$Core" "dueOf" "[I") ∈ lw_all := lw_g (lw_at lw_m4 181 rfl) rfl
theorem q960 : (Jvm.Cond.soleField "RankEntry$Core" "dueOf") ∈ lw_all := lw_g (lw_at lw_m4 182 rfl) rfl
theorem q961 : (Jvm.Cond.laysFinal "RankEntry$Core" "RankEntry$Core" "counts" "[I") ∈ lw_all := lw_g (lw_at lw_m4 183 rfl) rfl
theorem q962 : (Jvm.Cond.soleField "RankEntry$Core" "counts") ∈ lw_all := lw_g (lw_at lw_m4 184 rfl) rfl
theorem q963 : (Jvm.Cond.laysFinal "RankEntry$Core" "RankEntry$Core" "out" "[I") ∈ lw_all := lw_g (lw_at lw_m4 185 rfl) rfl
theorem q964 : (Jvm.Cond.soleField "RankEntry$Core" "out") ∈ lw_all := lw_g (lw_at lw_m4 186 rfl) rfl
theorem q965 : (Jvm.Cond.laysFinal "RankEntry$Core" "RankEntry$Core" "events" "[LRankEntry$Event;") ∈ lw_all := lw_g (lw_at lw_m4 187 rfl) rfl
theorem q966 : (Jvm.Cond.soleField "RankEntry$Core" "events") ∈ lw_all := lw_g (lw_at lw_m4 188 rfl) rfl
theorem q967 : (Jvm.Cond.laysFinal "RankEntry$Core" "RankEntry$Core" "runs" "LRankEntry$Phase;") ∈ lw_all := lw_g (lw_at lw_m4 189 rfl) rfl
theorem q968 : (Jvm.Cond.soleField "RankEntry$Core" "runs") ∈ lw_all := lw_g (lw_at lw_m4 190 rfl) rfl
theorem q969 : (Jvm.Cond.laysFinal "RankEntry$Core" "RankEntry$Core" "stacks" "LRankEntry$Phase;") ∈ lw_all := lw_g (lw_at lw_m4 191 rfl) rfl
theorem q970 : (Jvm.Cond.soleField "RankEntry$Core" "stacks") ∈ lw_all := lw_g (lw_at lw_m4 192 rfl) rfl
theorem q971 : (Jvm.Cond.laysFinal "RankEntry$Core" "RankEntry$Core" "chains" "LRankEntry$Phase;") ∈ lw_all := lw_g (lw_at lw_m4 193 rfl) rfl
theorem q972 : (Jvm.Cond.soleField "RankEntry$Core" "chains") ∈ lw_all := lw_g (lw_at lw_m4 194 rfl) rfl
theorem q973 : (Jvm.Cond.laysFinal "RankEntry$Core" "RankEntry$Core" "unstacks" "LRankEntry$Phase;") ∈ lw_all := lw_g (lw_at lw_m4 195 rfl) rfl
theorem q974 : (Jvm.Cond.soleField "RankEntry$Core" "unstacks") ∈ lw_all := lw_g (lw_at lw_m4 196 rfl) rfl
theorem q975 : (Jvm.Cond.laysFinal "RankEntry$Core" "RankEntry$Core" "saves" "LRankEntry$Phase;") ∈ lw_all := lw_g (lw_at lw_m4 197 rfl) rfl
theorem q976 : (Jvm.Cond.soleField "RankEntry$Core" "saves") ∈ lw_all := lw_g (lw_at lw_m4 198 rfl) rfl
theorem q977 : (Jvm.Cond.laysFinal "RankEntry$Core" "RankEntry$Core" "locks" "LRankEntry$Phase;") ∈ lw_all := lw_g (lw_at lw_m4 199 rfl) rfl
theorem q978 : (Jvm.Cond.soleField "RankEntry$Core" "locks") ∈ lw_all := lw_g (lw_at lw_m4 200 rfl) rfl
theorem q979 : (Jvm.Cond.laysFinal "RankEntry$Core" "RankEntry$Core" "latest" "LRankEntry$Choice;") ∈ lw_all := lw_g (lw_at lw_m4 201 rfl) rfl
theorem q980 : (Jvm.Cond.soleField "RankEntry$Core" "latest") ∈ lw_all := lw_g (lw_at lw_m4 202 rfl) rfl
theorem q981 : (Jvm.Cond.laysFinal "RankEntry$Core" "RankEntry$Core" "earliest" "LRankEntry$Choice;") ∈ lw_all := lw_g (lw_at lw_m4 203 rfl) rfl
theorem q982 : (Jvm.Cond.soleField "RankEntry$Core" "earliest") ∈ lw_all := lw_g (lw_at lw_m4 204 rfl) rfl
theorem q983 : (Jvm.Cond.laysFinal "RankEntry$Core" "RankEntry$Core" "often" "LRankEntry$Chains;") ∈ lw_all := lw_g (lw_at lw_m4 205 rfl) rfl
theorem q984 : (Jvm.Cond.soleField "RankEntry$Core" "often") ∈ lw_all := lw_g (lw_at lw_m4 206 rfl) rfl
theorem q985 : (Jvm.Cond.laysFinal "RankEntry$Core" "RankEntry$Core" "never" "LRankEntry$Chains;") ∈ lw_all := lw_g (lw_at lw_m4 207 rfl) rfl
theorem q986 : (Jvm.Cond.soleField "RankEntry$Core" "never") ∈ lw_all := lw_g (lw_at lw_m4 208 rfl) rfl
theorem q987 : (Jvm.Cond.lays "RankEntry$Core" "RankEntry$Core" "phase" "LRankEntry$Phase;") ∈ lw_all := lw_g (lw_at lw_m4 209 rfl) rfl
theorem q988 : (Jvm.Cond.soleField "RankEntry$Core" "phase") ∈ lw_all := lw_g (lw_at lw_m4 210 rfl) rfl
theorem q989 : (Jvm.Cond.lays "RankEntry$Core" "RankEntry$Core" "choice" "LRankEntry$Choice;") ∈ lw_all := lw_g (lw_at lw_m4 211 rfl) rfl
theorem q990 : (Jvm.Cond.soleField "RankEntry$Core" "choice") ∈ lw_all := lw_g (lw_at lw_m4 212 rfl) rfl
theorem q991 : (Jvm.Cond.lays "RankEntry$Core" "RankEntry$Core" "mayChain" "LRankEntry$Chains;") ∈ lw_all := lw_g (lw_at lw_m4 213 rfl) rfl
theorem q992 : (Jvm.Cond.soleField "RankEntry$Core" "mayChain") ∈ lw_all := lw_g (lw_at lw_m4 214 rfl) rfl
theorem q993 : (Jvm.Cond.lays "RankEntry$Core" "RankEntry$Core" "ahead" "LRankEntry$Ahead;") ∈ lw_all := lw_g (lw_at lw_m4 215 rfl) rfl
theorem q994 : (Jvm.Cond.soleField "RankEntry$Core" "ahead") ∈ lw_all := lw_g (lw_at lw_m4 216 rfl) rfl
theorem q995 : (Jvm.Cond.lays "RankEntry$Core" "RankEntry$Core" "muted" "Z") ∈ lw_all := lw_g (lw_at lw_m4 217 rfl) rfl
theorem q996 : (Jvm.Cond.soleField "RankEntry$Core" "muted") ∈ lw_all := lw_g (lw_at lw_m4 218 rfl) rfl
theorem q997 : (Jvm.Cond.lays "RankEntry$Core" "RankEntry$Core" "z" "I") ∈ lw_all := lw_g (lw_at lw_m4 219 rfl) rfl
theorem q998 : (Jvm.Cond.soleField "RankEntry$Core" "z") ∈ lw_all := lw_g (lw_at lw_m4 220 rfl) rfl
theorem q999 : (Jvm.Cond.lays "RankEntry$Core" "RankEntry$Core" "n" "I") ∈ lw_all := lw_g (lw_at lw_m4 221 rfl) rfl
theorem q1000 : (Jvm.Cond.soleField "RankEntry$Core" "n") ∈ lw_all := lw_g (lw_at lw_m4 222 rfl) rfl
theorem q1001 : (Jvm.Cond.lays "RankEntry$Core" "RankEntry$Core" "pc" "I") ∈ lw_all := lw_g (lw_at lw_m4 223 rfl) rfl
theorem q1002 : (Jvm.Cond.soleField "RankEntry$Core" "pc") ∈ lw_all := lw_g (lw_at lw_m4 224 rfl) rfl
theorem q1003 : (Jvm.Cond.lays "RankEntry$Core" "RankEntry$Core" "sp" "I") ∈ lw_all := lw_g (lw_at lw_m4 225 rfl) rfl
theorem q1004 : (Jvm.Cond.soleField "RankEntry$Core" "sp") ∈ lw_all := lw_g (lw_at lw_m4 226 rfl) rfl
theorem q1005 : (Jvm.Cond.lays "RankEntry$Core" "RankEntry$Core" "deep" "I") ∈ lw_all := lw_g (lw_at lw_m4 227 rfl) rfl
theorem q1006 : (Jvm.Cond.soleField "RankEntry$Core" "deep") ∈ lw_all := lw_g (lw_at lw_m4 228 rfl) rfl
theorem q1007 : (Jvm.Cond.lays "RankEntry$Core" "RankEntry$Core" "split" "I") ∈ lw_all := lw_g (lw_at lw_m4 229 rfl) rfl
theorem q1008 : (Jvm.Cond.soleField "RankEntry$Core" "split") ∈ lw_all := lw_g (lw_at lw_m4 230 rfl) rfl
theorem q1009 : (Jvm.Cond.lays "RankEntry$Core" "RankEntry$Core" "base" "I") ∈ lw_all := lw_g (lw_at lw_m4 231 rfl) rfl
theorem q1010 : (Jvm.Cond.soleField "RankEntry$Core" "base") ∈ lw_all := lw_g (lw_at lw_m4 232 rfl) rfl
theorem q1011 : (Jvm.Cond.lays "RankEntry$Core" "RankEntry$Core" "shut" "I") ∈ lw_all := lw_g (lw_at lw_m4 233 rfl) rfl
theorem q1012 : (Jvm.Cond.soleField "RankEntry$Core" "shut") ∈ lw_all := lw_g (lw_at lw_m4 234 rfl) rfl
theorem q1013 : (Jvm.Cond.lays "RankEntry$Core" "RankEntry$Core" "clock" "I") ∈ lw_all := lw_g (lw_at lw_m4 235 rfl) rfl
theorem q1014 : (Jvm.Cond.soleField "RankEntry$Core" "clock") ∈ lw_all := lw_g (lw_at lw_m4 236 rfl) rfl
theorem q1015 : (Jvm.Cond.lays "RankEntry$Core" "RankEntry$Core" "period" "I") ∈ lw_all := lw_g (lw_at lw_m4 237 rfl) rfl
theorem q1016 : (Jvm.Cond.soleField "RankEntry$Core" "period") ∈ lw_all := lw_g (lw_at lw_m4 238 rfl) rfl
theorem q1017 : (Jvm.Cond.lays "RankEntry$Core" "RankEntry$Core" "timer" "I") ∈ lw_all := lw_g (lw_at lw_m4 239 rfl) rfl
theorem q1018 : (Jvm.Cond.soleField "RankEntry$Core" "timer") ∈ lw_all := lw_g (lw_at lw_m5 0 rfl) rfl
theorem q1019 : (Jvm.Cond.lays "RankEntry$Core" "RankEntry$Core" "dues" "I") ∈ lw_all := lw_g (lw_at lw_m5 1 rfl) rfl
theorem q1020 : (Jvm.Cond.soleField "RankEntry$Core" "dues") ∈ lw_all := lw_g (lw_at lw_m5 2 rfl) rfl
theorem q1021 : (Jvm.Cond.lays "RankEntry$Core" "RankEntry$Core" "doing" "I") ∈ lw_all := lw_g (lw_at lw_m5 3 rfl) rfl
theorem q1022 : (Jvm.Cond.soleField "RankEntry$Core" "doing") ∈ lw_all := lw_g (lw_at lw_m5 4 rfl) rfl
theorem q1023 : (Jvm.Cond.lays "RankEntry$Core" "RankEntry$Core" "steps" "I") ∈ lw_all := lw_g (lw_at lw_m5 5 rfl) rfl
theorem q1024 : (Jvm.Cond.soleField "RankEntry$Core" "steps") ∈ lw_all := lw_g (lw_at lw_m5 6 rfl) rfl
theorem q1025 : (Jvm.Cond.lays "RankEntry$Core" "RankEntry$Core" "stall" "I") ∈ lw_all := lw_g (lw_at lw_m5 7 rfl) rfl
theorem q1026 : (Jvm.Cond.soleField "RankEntry$Core" "stall") ∈ lw_all := lw_g (lw_at lw_m5 8 rfl) rfl
theorem q1027 : (Jvm.Cond.lays "RankEntry$Core" "RankEntry$Core" "asleep" "Z") ∈ lw_all := lw_g (lw_at lw_m5 9 rfl) rfl
theorem q1028 : (Jvm.Cond.soleField "RankEntry$Core" "asleep") ∈ lw_all := lw_g (lw_at lw_m5 10 rfl) rfl
theorem q1029 : (Jvm.Cond.lays "RankEntry$Core" "RankEntry$Core" "floats" "I") ∈ lw_all := lw_g (lw_at lw_m5 11 rfl) rfl
theorem q1030 : (Jvm.Cond.soleField "RankEntry$Core" "floats") ∈ lw_all := lw_g (lw_at lw_m5 12 rfl) rfl
theorem q1031 : (Jvm.Cond.lays "RankEntry$Core" "RankEntry$Core" "lazy" "I") ∈ lw_all := lw_g (lw_at lw_m5 13 rfl) rfl
theorem q1032 : (Jvm.Cond.soleField "RankEntry$Core" "lazy") ∈ lw_all := lw_g (lw_at lw_m5 14 rfl) rfl
theorem q1033 : (Jvm.Cond.lays "RankEntry$Core" "RankEntry$Core" "first" "I") ∈ lw_all := lw_g (lw_at lw_m5 15 rfl) rfl
theorem q1034 : (Jvm.Cond.soleField "RankEntry$Core" "first") ∈ lw_all := lw_g (lw_at lw_m5 16 rfl) rfl
theorem q1035 : (Jvm.Cond.lays "RankEntry$Core" "RankEntry$Core" "broken" "Z") ∈ lw_all := lw_g (lw_at lw_m5 17 rfl) rfl
theorem q1036 : (Jvm.Cond.soleField "RankEntry$Core" "broken") ∈ lw_all := lw_g (lw_at lw_m5 18 rfl) rfl
theorem q1037 : (Jvm.Cond.lays "RankEntry$Core" "RankEntry$Core" "four" "Z") ∈ lw_all := lw_g (lw_at lw_m5 19 rfl) rfl
theorem q1038 : (Jvm.Cond.soleField "RankEntry$Core" "four") ∈ lw_all := lw_g (lw_at lw_m5 20 rfl) rfl
theorem q1039 : (Jvm.Cond.lays "RankEntry$Core" "RankEntry$Core" "outs" "I") ∈ lw_all := lw_g (lw_at lw_m5 21 rfl) rfl
theorem q1040 : (Jvm.Cond.soleField "RankEntry$Core" "outs") ∈ lw_all := lw_g (lw_at lw_m5 22 rfl) rfl
theorem q1041 : (Jvm.Cond.lays "RankEntry$Core" "RankEntry$Core" "told" "I") ∈ lw_all := lw_g (lw_at lw_m5 23 rfl) rfl
theorem q1042 : (Jvm.Cond.soleField "RankEntry$Core" "told") ∈ lw_all := lw_g (lw_at lw_m5 24 rfl) rfl
theorem q1043 : (Jvm.Cond.lays "RankEntry$Core" "RankEntry$Core" "now" "I") ∈ lw_all := lw_g (lw_at lw_m5 25 rfl) rfl
theorem q1044 : (Jvm.Cond.soleField "RankEntry$Core" "now") ∈ lw_all := lw_g (lw_at lw_m5 26 rfl) rfl
theorem q1045 : (Jvm.Cond.lays "RankEntry$Core" "RankEntry$Core" "begun" "I") ∈ lw_all := lw_g (lw_at lw_m5 27 rfl) rfl
theorem q1046 : (Jvm.Cond.soleField "RankEntry$Core" "begun") ∈ lw_all := lw_g (lw_at lw_m5 28 rfl) rfl
theorem q1047 : (Jvm.Cond.laysFinal "RankEntry$Core" "RankEntry$Core" "order" "[I") ∈ lw_all := lw_g (lw_at lw_m5 29 rfl) rfl
theorem q1048 : (Jvm.Cond.soleField "RankEntry$Core" "order") ∈ lw_all := lw_g (lw_at lw_m5 30 rfl) rfl
theorem q1049 : (Jvm.Cond.superclass "RankEntry$Core" "java/lang/Object") ∈ lw_all := lw_g (lw_at lw_m5 31 rfl) rfl
theorem q1117 : (Jvm.Cond.instanceMethod ({ cls := "RankEntry$Core", name := "splits", desc := "(I)V" } : Jvm.MethodName)) ∈ lw_all := lw_g (lw_at lw_m5 99 rfl) rfl
theorem q1118 : (Jvm.Cond.selects "RankEntry$Core" ({ cls := "RankEntry$Core", name := "splits", desc := "(I)V" } : Jvm.MethodName) ({ cls := "RankEntry$Core", name := "splits", desc := "(I)V" } : Jvm.MethodName)) ∈ lw_all := lw_g (lw_at lw_m5 100 rfl) rfl
theorem q1119 : (Jvm.Cond.code ({ cls := "RankEntry$Core", name := "splits", desc := "(I)V" } : Jvm.MethodName) prog_8_method_22_code (2 : Nat) (Option.none : Option Jvm.ClassFile.FieldType)) ∈ lw_all := lw_g (lw_at lw_m5 101 rfl) rfl
theorem q1151 : (Jvm.Cond.instanceMethod ({ cls := "RankEntry$Core", name := "cycle", desc := "()V" } : Jvm.MethodName)) ∈ lw_all := lw_g (lw_at lw_m5 133 rfl) rfl
theorem q1152 : (Jvm.Cond.selects "RankEntry$Core" ({ cls := "RankEntry$Core", name := "cycle", desc := "()V" } : Jvm.MethodName) ({ cls := "RankEntry$Core", name := "cycle", desc := "()V" } : Jvm.MethodName)) ∈ lw_all := lw_g (lw_at lw_m5 134 rfl) rfl
theorem q1153 : (Jvm.Cond.code ({ cls := "RankEntry$Core", name := "cycle", desc := "()V" } : Jvm.MethodName) prog_8_method_27_code (3 : Nat) (Option.none : Option Jvm.ClassFile.FieldType)) ∈ lw_all := lw_g (lw_at lw_m5 135 rfl) rfl
theorem q1154 : (Jvm.Cond.interfaceEntry "RankEntry$Core" (325 : Nat)) ∈ lw_tbl := lw_at lw_m5 136 rfl
theorem q1155 : (Jvm.Cond.methodLink "RankEntry$Core" (325 : Nat) ({ cls := "RankEntry$Phase", name := "go", desc := "()V" } : Jvm.MethodName)) ∈ lw_all := lw_g (lw_at lw_m5 137 rfl) rfl
theorem q1170 : (Jvm.Cond.instanceMethod ({ cls := "RankEntry$Core", name := "forgets", desc := "()V" } : Jvm.MethodName)) ∈ lw_all := lw_g (lw_at lw_m5 152 rfl) rfl
theorem q1171 : (Jvm.Cond.selects "RankEntry$Core" ({ cls := "RankEntry$Core", name := "forgets", desc := "()V" } : Jvm.MethodName) ({ cls := "RankEntry$Core", name := "forgets", desc := "()V" } : Jvm.MethodName)) ∈ lw_all := lw_g (lw_at lw_m5 153 rfl) rfl
theorem q1172 : (Jvm.Cond.code ({ cls := "RankEntry$Core", name := "forgets", desc := "()V" } : Jvm.MethodName) prog_8_method_4_code (2 : Nat) (Option.none : Option Jvm.ClassFile.FieldType)) ∈ lw_all := lw_g (lw_at lw_m5 154 rfl) rfl
theorem q1173 : (Jvm.Cond.methodLink "RankEntry$Core" (233 : Nat) ({ cls := "RankEntry$Source", name := "forgets", desc := "()V" } : Jvm.MethodName)) ∈ lw_all := lw_g (lw_at lw_m5 155 rfl) rfl
theorem q1243 : (Jvm.Cond.instanceMethod ({ cls := "RankEntry$Core", name := "takes", desc := "(LRankEntry$Core;)V" } : Jvm.MethodName)) ∈ lw_all := lw_g (lw_at lw_m5 225 rfl) rfl
theorem q1244 : (Jvm.Cond.selects "RankEntry$Core" ({ cls := "RankEntry$Core", name := "takes", desc := "(LRankEntry$Core;)V" } : Jvm.MethodName) ({ cls := "RankEntry$Core", name := "takes", desc := "(LRankEntry$Core;)V" } : Jvm.MethodName)) ∈ lw_all := lw_g (lw_at lw_m5 226 rfl) rfl
theorem q1245 : (Jvm.Cond.code ({ cls := "RankEntry$Core", name := "takes", desc := "(LRankEntry$Core;)V" } : Jvm.MethodName) prog_8_method_2_code (3 : Nat) (Option.none : Option Jvm.ClassFile.FieldType)) ∈ lw_all := lw_g (lw_at lw_m5 227 rfl) rfl
theorem q1246 : (Jvm.Cond.methodLink "RankEntry$Core" (153 : Nat) ({ cls := "java/lang/System", name := "arraycopy", desc := "(Ljava/lang/Object;ILjava/lang/Object;II)V" } : Jvm.MethodName)) ∈ lw_all := lw_g (lw_at lw_m5 228 rfl) rfl
theorem q1249 : (Jvm.Cond.methodLink "RankEntry$Core" (159 : Nat) ({ cls := "RankEntry$Source", name := "takes", desc := "(LRankEntry$Source;)V" } : Jvm.MethodName)) ∈ lw_all := lw_g (lw_at lw_m5 231 rfl) rfl
theorem q1264 : (Jvm.Cond.instanceMethod ({ cls := "RankEntry$Core", name := "plays", desc := "(Z)V" } : Jvm.MethodName)) ∈ lw_all := lw_g (lw_at lw_m6 6 rfl) rfl
theorem q1265 : (Jvm.Cond.selects "RankEntry$Core" ({ cls := "RankEntry$Core", name := "plays", desc := "(Z)V" } : Jvm.MethodName) ({ cls := "RankEntry$Core", name := "plays", desc := "(Z)V" } : Jvm.MethodName)) ∈ lw_all := lw_g (lw_at lw_m6 7 rfl) rfl
theorem q1266 : (Jvm.Cond.code ({ cls := "RankEntry$Core", name := "plays", desc := "(Z)V" } : Jvm.MethodName) prog_8_method_3_code (2 : Nat) (Option.none : Option Jvm.ClassFile.FieldType)) ∈ lw_all := lw_g (lw_at lw_m6 8 rfl) rfl
theorem q1285 : (Jvm.Cond.instanceMethod ({ cls := "RankEntry$Core", name := "isQuiet", desc := "()Z" } : Jvm.MethodName)) ∈ lw_all := lw_g (lw_at lw_m6 27 rfl) rfl
theorem q1286 : (Jvm.Cond.selects "RankEntry$Core" ({ cls := "RankEntry$Core", name := "isQuiet", desc := "()Z" } : Jvm.MethodName) ({ cls := "RankEntry$Core", name := "isQuiet", desc := "()Z" } : Jvm.MethodName)) ∈ lw_all := lw_g (lw_at lw_m6 28 rfl) rfl
theorem q1287 : (Jvm.Cond.code ({ cls := "RankEntry$Core", name := "isQuiet", desc := "()Z" } : Jvm.MethodName) prog_8_method_44_code (1 : Nat) (Option.some Jvm.ClassFile.FieldType.boolean)) ∈ lw_all := lw_g (lw_at lw_m6 29 rfl) rfl
theorem q1297 : (Jvm.Cond.instanceMethod ({ cls := "RankEntry$Core", name := "isAs", desc := "(LRankEntry$Core;)Z" } : Jvm.MethodName)) ∈ lw_all := lw_g (lw_at lw_m6 39 rfl) rfl
theorem q1298 : (Jvm.Cond.selects "RankEntry$Core" ({ cls := "RankEntry$Core", name := "isAs", desc := "(LRankEntry$Core;)Z" } : Jvm.MethodName) ({ cls := "RankEntry$Core", name := "isAs", desc := "(LRankEntry$Core;)Z" } : Jvm.MethodName)) ∈ lw_all := lw_g (lw_at lw_m6 40 rfl) rfl
theorem q1299 : (Jvm.Cond.code ({ cls := "RankEntry$Core", name := "isAs", desc := "(LRankEntry$Core;)Z" } : Jvm.MethodName) prog_8_method_45_code (4 : Nat) (Option.some Jvm.ClassFile.FieldType.boolean)) ∈ lw_all := lw_g (lw_at lw_m6 41 rfl) rfl
theorem q2194 : (Jvm.Cond.castable "RankEntry$Core" "java/lang/Object") ∈ lw_tbl := lw_at lw_m9 216 rfl
theorem q2245 : (Jvm.Cond.fieldLink "RankEntry$Core" (361 : Nat) "RankEntry$Op" "length" "I") ∈ lw_all := lw_g (lw_at lw_m10 27 rfl) rfl
theorem q2246 : (Jvm.Cond.fieldLink "RankEntry$Core" (364 : Nat) "RankEntry$Op" "cycles" "I") ∈ lw_all := lw_g (lw_at lw_m10 28 rfl) rfl
theorem in_X4 : ∀ w ∈ wsX40, w ∈ lw_all := lw_in wsX40 [939, 941, 943, 945, 947, 949, 951, 953, 955, 957, 959, 961, 963, 965, 967, 969, 971, 973, 975, 977, 979, 981, 983, 985, 987, 989, 991, 993, 995, 997, 999, 1001, 1003, 1005, 1007, 1009, 1011, 1013, 1015, 1017, 1019, 1021, 1023, 1025, 1027, 1029, 1031, 1033, 1035, 1037, 1039, 1041, 1043, 1045, 1047] (by decide +kernel) (by decide +kernel)
