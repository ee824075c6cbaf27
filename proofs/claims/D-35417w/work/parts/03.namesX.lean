/-! KeyringCourt -/
set_option maxRecDepth 100000
def RX1 : String := "KeyringCourt"
def TX1 : u_T := fun k => match k with
  | 0 => ("KeyringCourt", "people", "[LKeyringCourt$Person;", true)
  | 1 => ("KeyringCourt", "draft", "LKeyringCourt$Flow;", false)
  | 2 => ("KeyringCourt", "versions", "Ljava/util/List;", true)
  | 3 => ("KeyringCourt", "attempts", "Ljava/util/List;", true)
  | 4 => ("KeyringCourt", "sessions", "Ljava/util/List;", true)
  | 5 => ("KeyringCourt", "codes", "Ljava/util/List;", true)
  | 6 => ("KeyringCourt", "families", "Ljava/util/List;", true)
  | 7 => ("KeyringCourt", "tokens", "Ljava/util/List;", true)
  | 8 => ("KeyringCourt", "recoveries", "Ljava/util/List;", true)
  | 9 => ("KeyringCourt", "services", "[LKeyringCourt$Service;", true)
  | 10 => ("KeyringCourt", "forAll", "[I", true)
  | 11 => ("KeyringCourt", "accounts", "[LKeyringCourt$Person;", true)
  | 12 => ("KeyringCourt", "points", "[I", true)
  | 13 => ("KeyringCourt", "trials", "[I", true)
  | 14 => ("KeyringCourt", "audit", "Ljava/util/List;", true)
  | 15 => ("KeyringCourt", "sum", "I", false)
  | 16 => ("KeyringCourt", "now", "I", false)
  | 17 => ("KeyringCourt", "published", "Ljava/util/BitSet;", true)
  | 18 => ("KeyringCourt", "retires", "[I", true)
  | 19 => ("KeyringCourt", "keys", "I", false)
  | 20 => ("KeyringCourt", "signing", "I", false)
  | 21 => ("KeyringCourt", "waiting", "I", false)
  | _ => ("KeyringCourt", "signsAt", "I", false)
def tyX1 : Nat → FieldType := fun k => match k with
  | 0 => .array (.object "KeyringCourt$Person")
  | 1 => .object "KeyringCourt$Flow"
  | 2 => .object "java/util/List"
  | 3 => .object "java/util/List"
  | 4 => .object "java/util/List"
  | 5 => .object "java/util/List"
  | 6 => .object "java/util/List"
  | 7 => .object "java/util/List"
  | 8 => .object "java/util/List"
  | 9 => .array (.object "KeyringCourt$Service")
  | 10 => .array .int
  | 11 => .array (.object "KeyringCourt$Person")
  | 12 => .array .int
  | 13 => .array .int
  | 14 => .object "java/util/List"
  | 15 => .int
  | 16 => .int
  | 17 => .object "java/util/BitSet"
  | 18 => .array .int
  | 19 => .int
  | 20 => .int
  | 21 => .int
  | _ => .int
abbrev wsX10 : List Cond := u_ws RX1 TX1 23
set_option maxRecDepth 100000 in
theorem nmX1 : ∀ a, a < 23 → ∀ b, b < 23 → a ≠ b → (TX1 a).2.1 ≠ (TX1 b).2.1 := by decide +kernel
set_option maxRecDepth 100000 in
theorem tyX1_ok : ∀ k, k < 23 → parseFieldDescriptor (TX1 k).2.2.1 = some (tyX1 k) := by decide +kernel
abbrev cX1_init : ByteArray := prog_1_method_5_code
def yX1_init : MethodName := ⟨RX1, "<init>", "()V"⟩
def dkwX1_init_12 : List UInt8 := [60, 27, 16, 20, 162, 0, 16, 42, 180, 0, 128, 27, 2, 79, 132, 1, 1, 167, 255, 240, 177]
abbrev dktX1_init_12 : List UInt8 := dkwX1_init_12 ++ []
def dkwX1_init_11 : List UInt8 := [162, 0, 23, 42, 180, 0, 104, 27, 187, 0, 102, 89, 42, 183, 0, 143, 83, 132, 1, 1, 167, 255, 234, 3]
abbrev dktX1_init_11 : List UInt8 := dkwX1_init_11 ++ dktX1_init_12
def dkwX1_init_10 : List UInt8 := [183, 0, 137, 83, 132, 1, 1, 167, 255, 232, 42, 180, 0, 124, 3, 182, 0, 140, 3, 60, 27, 7]
abbrev dktX1_init_10 : List UInt8 := dkwX1_init_10 ++ dktX1_init_11
def dkwX1_init_9 : List UInt8 := [181, 0, 134, 3, 60, 27, 16, 6, 162, 0, 24, 42, 180, 0, 67, 27, 187, 0, 65, 89, 42, 27]
abbrev dktX1_init_9 : List UInt8 := dkwX1_init_9 ++ dktX1_init_10
def dkwX1_init_8 : List UInt8 := [89, 183, 0, 123, 181, 0, 124, 42, 16, 20, 188, 10, 181, 0, 128, 42, 4, 181, 0, 131, 42, 2]
abbrev dktX1_init_8 : List UInt8 := dkwX1_init_8 ++ dktX1_init_9
def dkwX1_init_7 : List UInt8 := [181, 0, 118, 42, 187, 0, 78, 89, 183, 0, 86, 181, 0, 50, 42, 16, 7, 181, 0, 53, 42, 187, 0, 121]
abbrev dktX1_init_7 : List UInt8 := dkwX1_init_7 ++ dktX1_init_8
def dkwX1_init_6 : List UInt8 := [89, 5, 4, 79, 181, 0, 115, 42, 6, 188, 10, 89, 3, 2, 79, 89, 4, 2, 79, 89, 5, 2, 79]
abbrev dktX1_init_6 : List UInt8 := dkwX1_init_6 ++ dktX1_init_7
def dkwX1_init_5 : List UInt8 := [181, 0, 108, 42, 16, 6, 189, 0, 65, 181, 0, 112, 42, 6, 188, 10, 89, 3, 5, 79, 89, 4, 4, 79]
abbrev dktX1_init_5 : List UInt8 := dkwX1_init_5 ++ dktX1_init_6
def dkwX1_init_4 : List UInt8 := [187, 0, 78, 89, 183, 0, 86, 181, 0, 99, 42, 7, 189, 0, 102, 181, 0, 104, 42, 7, 188, 10]
abbrev dktX1_init_4 : List UInt8 := dkwX1_init_4 ++ dktX1_init_5
def dkwX1_init_3 : List UInt8 := [187, 0, 78, 89, 183, 0, 86, 181, 0, 93, 42, 187, 0, 78, 89, 183, 0, 86, 181, 0, 96, 42]
abbrev dktX1_init_3 : List UInt8 := dkwX1_init_3 ++ dktX1_init_4
def dkwX1_init_2 : List UInt8 := [42, 187, 0, 78, 89, 183, 0, 86, 181, 0, 5, 42, 187, 0, 78, 89, 183, 0, 86, 181, 0, 90, 42]
abbrev dktX1_init_2 : List UInt8 := dkwX1_init_2 ++ dktX1_init_3
def dkwX1_init_1 : List UInt8 := [42, 187, 0, 78, 89, 16, 8, 183, 0, 80, 181, 0, 83, 42, 187, 0, 78, 89, 183, 0, 86, 181, 0, 87]
abbrev dktX1_init_1 : List UInt8 := dkwX1_init_1 ++ dktX1_init_2
def dkwX1_init_0 : List UInt8 := [42, 183, 0, 60, 42, 16, 6, 189, 0, 65, 181, 0, 67, 42, 187, 0, 71, 89, 183, 0, 73, 181, 0, 74]
abbrev dktX1_init_0 : List UInt8 := dkwX1_init_0 ++ dktX1_init_1
theorem dksX1_init_0 : cX1_init.data.toList.drop 0 = dktX1_init_0 := by decide +kernel
theorem dksX1_init_1 : cX1_init.data.toList.drop 24 = dktX1_init_1 := dk_seg dksX1_init_0 24 rfl rfl
theorem dksX1_init_2 : cX1_init.data.toList.drop 48 = dktX1_init_2 := dk_seg dksX1_init_1 24 rfl rfl
theorem dksX1_init_3 : cX1_init.data.toList.drop 71 = dktX1_init_3 := dk_seg dksX1_init_2 23 rfl rfl
theorem dksX1_init_4 : cX1_init.data.toList.drop 93 = dktX1_init_4 := dk_seg dksX1_init_3 22 rfl rfl
theorem dksX1_init_5 : cX1_init.data.toList.drop 115 = dktX1_init_5 := dk_seg dksX1_init_4 22 rfl rfl
theorem dksX1_init_6 : cX1_init.data.toList.drop 139 = dktX1_init_6 := dk_seg dksX1_init_5 24 rfl rfl
theorem dksX1_init_7 : cX1_init.data.toList.drop 162 = dktX1_init_7 := dk_seg dksX1_init_6 23 rfl rfl
theorem dksX1_init_8 : cX1_init.data.toList.drop 186 = dktX1_init_8 := dk_seg dksX1_init_7 24 rfl rfl
theorem dksX1_init_9 : cX1_init.data.toList.drop 208 = dktX1_init_9 := dk_seg dksX1_init_8 22 rfl rfl
theorem dksX1_init_10 : cX1_init.data.toList.drop 230 = dktX1_init_10 := dk_seg dksX1_init_9 22 rfl rfl
theorem dksX1_init_11 : cX1_init.data.toList.drop 252 = dktX1_init_11 := dk_seg dksX1_init_10 22 rfl rfl
theorem dksX1_init_12 : cX1_init.data.toList.drop 276 = dktX1_init_12 := dk_seg dksX1_init_11 24 rfl rfl
theorem dX1_init_0 : decode cX1_init 0 = .ok (.aload_n 0, 1) := dk_42 (dk_at dksX1_init_0 0 rfl rfl)
theorem dX1_init_1 : decode cX1_init 1 = .ok (.invokespecial 60, 3) := dk_183 0 60 (dk_at dksX1_init_0 1 rfl rfl)
theorem dX1_init_4 : decode cX1_init 4 = .ok (.aload_n 0, 1) := dk_42 (dk_at dksX1_init_0 4 rfl rfl)
theorem dX1_init_5 : decode cX1_init 5 = .ok (.bipush 6, 2) := dk_16 6 (dk_at dksX1_init_0 5 rfl rfl)
theorem dX1_init_7 : decode cX1_init 7 = .ok (.anewarray 65, 3) := dk_189 0 65 (dk_at dksX1_init_0 7 rfl rfl)
theorem dX1_init_10 : decode cX1_init 10 = .ok (.putfield 67, 3) := dk_181 0 67 (dk_at dksX1_init_0 10 rfl rfl)
theorem dX1_init_13 : decode cX1_init 13 = .ok (.aload_n 0, 1) := dk_42 (dk_at dksX1_init_0 13 rfl rfl)
theorem dX1_init_14 : decode cX1_init 14 = .ok (.new 71, 3) := dk_187 0 71 (dk_at dksX1_init_0 14 rfl rfl)
theorem dX1_init_17 : decode cX1_init 17 = .ok (.dup, 1) := dk_89 (dk_at dksX1_init_0 17 rfl rfl)
theorem dX1_init_18 : decode cX1_init 18 = .ok (.invokespecial 73, 3) := dk_183 0 73 (dk_at dksX1_init_0 18 rfl rfl)
theorem dX1_init_21 : decode cX1_init 21 = .ok (.putfield 74, 3) := dk_181 0 74 (dk_at dksX1_init_0 21 rfl rfl)
theorem dX1_init_24 : decode cX1_init 24 = .ok (.aload_n 0, 1) := dk_42 (dk_at dksX1_init_1 0 rfl rfl)
theorem dX1_init_25 : decode cX1_init 25 = .ok (.new 78, 3) := dk_187 0 78 (dk_at dksX1_init_1 1 rfl rfl)
theorem dX1_init_28 : decode cX1_init 28 = .ok (.dup, 1) := dk_89 (dk_at dksX1_init_1 4 rfl rfl)
theorem dX1_init_29 : decode cX1_init 29 = .ok (.bipush 8, 2) := dk_16 8 (dk_at dksX1_init_1 5 rfl rfl)
theorem dX1_init_31 : decode cX1_init 31 = .ok (.invokespecial 80, 3) := dk_183 0 80 (dk_at dksX1_init_1 7 rfl rfl)
theorem dX1_init_34 : decode cX1_init 34 = .ok (.putfield 83, 3) := dk_181 0 83 (dk_at dksX1_init_1 10 rfl rfl)
theorem dX1_init_37 : decode cX1_init 37 = .ok (.aload_n 0, 1) := dk_42 (dk_at dksX1_init_1 13 rfl rfl)
theorem dX1_init_38 : decode cX1_init 38 = .ok (.new 78, 3) := dk_187 0 78 (dk_at dksX1_init_1 14 rfl rfl)
theorem dX1_init_41 : decode cX1_init 41 = .ok (.dup, 1) := dk_89 (dk_at dksX1_init_1 17 rfl rfl)
theorem dX1_init_42 : decode cX1_init 42 = .ok (.invokespecial 86, 3) := dk_183 0 86 (dk_at dksX1_init_1 18 rfl rfl)
theorem dX1_init_45 : decode cX1_init 45 = .ok (.putfield 87, 3) := dk_181 0 87 (dk_at dksX1_init_1 21 rfl rfl)
theorem dX1_init_48 : decode cX1_init 48 = .ok (.aload_n 0, 1) := dk_42 (dk_at dksX1_init_2 0 rfl rfl)
theorem dX1_init_49 : decode cX1_init 49 = .ok (.new 78, 3) := dk_187 0 78 (dk_at dksX1_init_2 1 rfl rfl)
theorem dX1_init_52 : decode cX1_init 52 = .ok (.dup, 1) := dk_89 (dk_at dksX1_init_2 4 rfl rfl)
theorem dX1_init_53 : decode cX1_init 53 = .ok (.invokespecial 86, 3) := dk_183 0 86 (dk_at dksX1_init_2 5 rfl rfl)
theorem dX1_init_56 : decode cX1_init 56 = .ok (.putfield 5, 3) := dk_181 0 5 (dk_at dksX1_init_2 8 rfl rfl)
theorem dX1_init_59 : decode cX1_init 59 = .ok (.aload_n 0, 1) := dk_42 (dk_at dksX1_init_2 11 rfl rfl)
theorem dX1_init_60 : decode cX1_init 60 = .ok (.new 78, 3) := dk_187 0 78 (dk_at dksX1_init_2 12 rfl rfl)
theorem dX1_init_63 : decode cX1_init 63 = .ok (.dup, 1) := dk_89 (dk_at dksX1_init_2 15 rfl rfl)
theorem dX1_init_64 : decode cX1_init 64 = .ok (.invokespecial 86, 3) := dk_183 0 86 (dk_at dksX1_init_2 16 rfl rfl)
theorem dX1_init_67 : decode cX1_init 67 = .ok (.putfield 90, 3) := dk_181 0 90 (dk_at dksX1_init_2 19 rfl rfl)
theorem dX1_init_70 : decode cX1_init 70 = .ok (.aload_n 0, 1) := dk_42 (dk_at dksX1_init_2 22 rfl rfl)
theorem dX1_init_71 : decode cX1_init 71 = .ok (.new 78, 3) := dk_187 0 78 (dk_at dksX1_init_3 0 rfl rfl)
theorem dX1_init_74 : decode cX1_init 74 = .ok (.dup, 1) := dk_89 (dk_at dksX1_init_3 3 rfl rfl)
theorem dX1_init_75 : decode cX1_init 75 = .ok (.invokespecial 86, 3) := dk_183 0 86 (dk_at dksX1_init_3 4 rfl rfl)
theorem dX1_init_78 : decode cX1_init 78 = .ok (.putfield 93, 3) := dk_181 0 93 (dk_at dksX1_init_3 7 rfl rfl)
theorem dX1_init_81 : decode cX1_init 81 = .ok (.aload_n 0, 1) := dk_42 (dk_at dksX1_init_3 10 rfl rfl)
theorem dX1_init_82 : decode cX1_init 82 = .ok (.new 78, 3) := dk_187 0 78 (dk_at dksX1_init_3 11 rfl rfl)
theorem dX1_init_85 : decode cX1_init 85 = .ok (.dup, 1) := dk_89 (dk_at dksX1_init_3 14 rfl rfl)
theorem dX1_init_86 : decode cX1_init 86 = .ok (.invokespecial 86, 3) := dk_183 0 86 (dk_at dksX1_init_3 15 rfl rfl)
theorem dX1_init_89 : decode cX1_init 89 = .ok (.putfield 96, 3) := dk_181 0 96 (dk_at dksX1_init_3 18 rfl rfl)
theorem dX1_init_92 : decode cX1_init 92 = .ok (.aload_n 0, 1) := dk_42 (dk_at dksX1_init_3 21 rfl rfl)
theorem dX1_init_93 : decode cX1_init 93 = .ok (.new 78, 3) := dk_187 0 78 (dk_at dksX1_init_4 0 rfl rfl)
theorem dX1_init_96 : decode cX1_init 96 = .ok (.dup, 1) := dk_89 (dk_at dksX1_init_4 3 rfl rfl)
theorem dX1_init_97 : decode cX1_init 97 = .ok (.invokespecial 86, 3) := dk_183 0 86 (dk_at dksX1_init_4 4 rfl rfl)
theorem dX1_init_100 : decode cX1_init 100 = .ok (.putfield 99, 3) := dk_181 0 99 (dk_at dksX1_init_4 7 rfl rfl)
theorem dX1_init_103 : decode cX1_init 103 = .ok (.aload_n 0, 1) := dk_42 (dk_at dksX1_init_4 10 rfl rfl)
theorem dX1_init_104 : decode cX1_init 104 = .ok (.iconst 4, 1) := dk_7 (dk_at dksX1_init_4 11 rfl rfl)
theorem dX1_init_105 : decode cX1_init 105 = .ok (.anewarray 102, 3) := dk_189 0 102 (dk_at dksX1_init_4 12 rfl rfl)
theorem dX1_init_108 : decode cX1_init 108 = .ok (.putfield 104, 3) := dk_181 0 104 (dk_at dksX1_init_4 15 rfl rfl)
theorem dX1_init_111 : decode cX1_init 111 = .ok (.aload_n 0, 1) := dk_42 (dk_at dksX1_init_4 18 rfl rfl)
theorem dX1_init_112 : decode cX1_init 112 = .ok (.iconst 4, 1) := dk_7 (dk_at dksX1_init_4 19 rfl rfl)
theorem dX1_init_113 : decode cX1_init 113 = .ok (.newarray .int, 2) := dk_188_10 (dk_at dksX1_init_4 20 rfl rfl)
theorem dX1_init_115 : decode cX1_init 115 = .ok (.putfield 108, 3) := dk_181 0 108 (dk_at dksX1_init_5 0 rfl rfl)
theorem dX1_init_118 : decode cX1_init 118 = .ok (.aload_n 0, 1) := dk_42 (dk_at dksX1_init_5 3 rfl rfl)
theorem dX1_init_119 : decode cX1_init 119 = .ok (.bipush 6, 2) := dk_16 6 (dk_at dksX1_init_5 4 rfl rfl)
theorem dX1_init_121 : decode cX1_init 121 = .ok (.anewarray 65, 3) := dk_189 0 65 (dk_at dksX1_init_5 6 rfl rfl)
theorem dX1_init_124 : decode cX1_init 124 = .ok (.putfield 112, 3) := dk_181 0 112 (dk_at dksX1_init_5 9 rfl rfl)
theorem dX1_init_127 : decode cX1_init 127 = .ok (.aload_n 0, 1) := dk_42 (dk_at dksX1_init_5 12 rfl rfl)
theorem dX1_init_128 : decode cX1_init 128 = .ok (.iconst 3, 1) := dk_6 (dk_at dksX1_init_5 13 rfl rfl)
theorem dX1_init_129 : decode cX1_init 129 = .ok (.newarray .int, 2) := dk_188_10 (dk_at dksX1_init_5 14 rfl rfl)
theorem dX1_init_131 : decode cX1_init 131 = .ok (.dup, 1) := dk_89 (dk_at dksX1_init_5 16 rfl rfl)
theorem dX1_init_132 : decode cX1_init 132 = .ok (.iconst 0, 1) := dk_3 (dk_at dksX1_init_5 17 rfl rfl)
theorem dX1_init_133 : decode cX1_init 133 = .ok (.iconst 2, 1) := dk_5 (dk_at dksX1_init_5 18 rfl rfl)
theorem dX1_init_134 : decode cX1_init 134 = .ok (.iastore, 1) := dk_79 (dk_at dksX1_init_5 19 rfl rfl)
theorem dX1_init_135 : decode cX1_init 135 = .ok (.dup, 1) := dk_89 (dk_at dksX1_init_5 20 rfl rfl)
theorem dX1_init_136 : decode cX1_init 136 = .ok (.iconst 1, 1) := dk_4 (dk_at dksX1_init_5 21 rfl rfl)
theorem dX1_init_137 : decode cX1_init 137 = .ok (.iconst 1, 1) := dk_4 (dk_at dksX1_init_5 22 rfl rfl)
theorem dX1_init_138 : decode cX1_init 138 = .ok (.iastore, 1) := dk_79 (dk_at dksX1_init_5 23 rfl rfl)
theorem dX1_init_139 : decode cX1_init 139 = .ok (.dup, 1) := dk_89 (dk_at dksX1_init_6 0 rfl rfl)
theorem dX1_init_140 : decode cX1_init 140 = .ok (.iconst 2, 1) := dk_5 (dk_at dksX1_init_6 1 rfl rfl)
theorem dX1_init_141 : decode cX1_init 141 = .ok (.iconst 1, 1) := dk_4 (dk_at dksX1_init_6 2 rfl rfl)
theorem dX1_init_142 : decode cX1_init 142 = .ok (.iastore, 1) := dk_79 (dk_at dksX1_init_6 3 rfl rfl)
theorem dX1_init_143 : decode cX1_init 143 = .ok (.putfield 115, 3) := dk_181 0 115 (dk_at dksX1_init_6 4 rfl rfl)
theorem dX1_init_146 : decode cX1_init 146 = .ok (.aload_n 0, 1) := dk_42 (dk_at dksX1_init_6 7 rfl rfl)
theorem dX1_init_147 : decode cX1_init 147 = .ok (.iconst 3, 1) := dk_6 (dk_at dksX1_init_6 8 rfl rfl)
theorem dX1_init_148 : decode cX1_init 148 = .ok (.newarray .int, 2) := dk_188_10 (dk_at dksX1_init_6 9 rfl rfl)
theorem dX1_init_150 : decode cX1_init 150 = .ok (.dup, 1) := dk_89 (dk_at dksX1_init_6 11 rfl rfl)
theorem dX1_init_151 : decode cX1_init 151 = .ok (.iconst 0, 1) := dk_3 (dk_at dksX1_init_6 12 rfl rfl)
theorem dX1_init_152 : decode cX1_init 152 = .ok (.iconst (-1), 1) := dk_2 (dk_at dksX1_init_6 13 rfl rfl)
theorem dX1_init_153 : decode cX1_init 153 = .ok (.iastore, 1) := dk_79 (dk_at dksX1_init_6 14 rfl rfl)
theorem dX1_init_154 : decode cX1_init 154 = .ok (.dup, 1) := dk_89 (dk_at dksX1_init_6 15 rfl rfl)
theorem dX1_init_155 : decode cX1_init 155 = .ok (.iconst 1, 1) := dk_4 (dk_at dksX1_init_6 16 rfl rfl)
theorem dX1_init_156 : decode cX1_init 156 = .ok (.iconst (-1), 1) := dk_2 (dk_at dksX1_init_6 17 rfl rfl)
theorem dX1_init_157 : decode cX1_init 157 = .ok (.iastore, 1) := dk_79 (dk_at dksX1_init_6 18 rfl rfl)
theorem dX1_init_158 : decode cX1_init 158 = .ok (.dup, 1) := dk_89 (dk_at dksX1_init_6 19 rfl rfl)
theorem dX1_init_159 : decode cX1_init 159 = .ok (.iconst 2, 1) := dk_5 (dk_at dksX1_init_6 20 rfl rfl)
theorem dX1_init_160 : decode cX1_init 160 = .ok (.iconst (-1), 1) := dk_2 (dk_at dksX1_init_6 21 rfl rfl)
theorem dX1_init_161 : decode cX1_init 161 = .ok (.iastore, 1) := dk_79 (dk_at dksX1_init_6 22 rfl rfl)
theorem dX1_init_162 : decode cX1_init 162 = .ok (.putfield 118, 3) := dk_181 0 118 (dk_at dksX1_init_7 0 rfl rfl)
theorem dX1_init_165 : decode cX1_init 165 = .ok (.aload_n 0, 1) := dk_42 (dk_at dksX1_init_7 3 rfl rfl)
theorem dX1_init_166 : decode cX1_init 166 = .ok (.new 78, 3) := dk_187 0 78 (dk_at dksX1_init_7 4 rfl rfl)
theorem dX1_init_169 : decode cX1_init 169 = .ok (.dup, 1) := dk_89 (dk_at dksX1_init_7 7 rfl rfl)
theorem dX1_init_170 : decode cX1_init 170 = .ok (.invokespecial 86, 3) := dk_183 0 86 (dk_at dksX1_init_7 8 rfl rfl)
theorem dX1_init_173 : decode cX1_init 173 = .ok (.putfield 50, 3) := dk_181 0 50 (dk_at dksX1_init_7 11 rfl rfl)
theorem dX1_init_176 : decode cX1_init 176 = .ok (.aload_n 0, 1) := dk_42 (dk_at dksX1_init_7 14 rfl rfl)
theorem dX1_init_177 : decode cX1_init 177 = .ok (.bipush 7, 2) := dk_16 7 (dk_at dksX1_init_7 15 rfl rfl)
theorem dX1_init_179 : decode cX1_init 179 = .ok (.putfield 53, 3) := dk_181 0 53 (dk_at dksX1_init_7 17 rfl rfl)
theorem dX1_init_182 : decode cX1_init 182 = .ok (.aload_n 0, 1) := dk_42 (dk_at dksX1_init_7 20 rfl rfl)
theorem dX1_init_183 : decode cX1_init 183 = .ok (.new 121, 3) := dk_187 0 121 (dk_at dksX1_init_7 21 rfl rfl)
theorem dX1_init_186 : decode cX1_init 186 = .ok (.dup, 1) := dk_89 (dk_at dksX1_init_8 0 rfl rfl)
theorem dX1_init_187 : decode cX1_init 187 = .ok (.invokespecial 123, 3) := dk_183 0 123 (dk_at dksX1_init_8 1 rfl rfl)
theorem dX1_init_190 : decode cX1_init 190 = .ok (.putfield 124, 3) := dk_181 0 124 (dk_at dksX1_init_8 4 rfl rfl)
theorem dX1_init_193 : decode cX1_init 193 = .ok (.aload_n 0, 1) := dk_42 (dk_at dksX1_init_8 7 rfl rfl)
theorem dX1_init_194 : decode cX1_init 194 = .ok (.bipush 20, 2) := dk_16 20 (dk_at dksX1_init_8 8 rfl rfl)
theorem dX1_init_196 : decode cX1_init 196 = .ok (.newarray .int, 2) := dk_188_10 (dk_at dksX1_init_8 10 rfl rfl)
theorem dX1_init_198 : decode cX1_init 198 = .ok (.putfield 128, 3) := dk_181 0 128 (dk_at dksX1_init_8 12 rfl rfl)
theorem dX1_init_201 : decode cX1_init 201 = .ok (.aload_n 0, 1) := dk_42 (dk_at dksX1_init_8 15 rfl rfl)
theorem dX1_init_202 : decode cX1_init 202 = .ok (.iconst 1, 1) := dk_4 (dk_at dksX1_init_8 16 rfl rfl)
theorem dX1_init_203 : decode cX1_init 203 = .ok (.putfield 131, 3) := dk_181 0 131 (dk_at dksX1_init_8 17 rfl rfl)
theorem dX1_init_206 : decode cX1_init 206 = .ok (.aload_n 0, 1) := dk_42 (dk_at dksX1_init_8 20 rfl rfl)
theorem dX1_init_207 : decode cX1_init 207 = .ok (.iconst (-1), 1) := dk_2 (dk_at dksX1_init_8 21 rfl rfl)
theorem dX1_init_208 : decode cX1_init 208 = .ok (.putfield 134, 3) := dk_181 0 134 (dk_at dksX1_init_9 0 rfl rfl)
theorem dX1_init_211 : decode cX1_init 211 = .ok (.iconst 0, 1) := dk_3 (dk_at dksX1_init_9 3 rfl rfl)
theorem dX1_init_212 : decode cX1_init 212 = .ok (.istore_n 1, 1) := dk_60 (dk_at dksX1_init_9 4 rfl rfl)
theorem dX1_init_213 : decode cX1_init 213 = .ok (.iload_n 1, 1) := dk_27 (dk_at dksX1_init_9 5 rfl rfl)
theorem dX1_init_214 : decode cX1_init 214 = .ok (.bipush 6, 2) := dk_16 6 (dk_at dksX1_init_9 6 rfl rfl)
theorem dX1_init_216 : decode cX1_init 216 = .ok (.if_icmp .ge 24, 3) := dk_162 0 24 (dk_at dksX1_init_9 8 rfl rfl)
theorem dX1_init_219 : decode cX1_init 219 = .ok (.aload_n 0, 1) := dk_42 (dk_at dksX1_init_9 11 rfl rfl)
theorem dX1_init_220 : decode cX1_init 220 = .ok (.getfield 67, 3) := dk_180 0 67 (dk_at dksX1_init_9 12 rfl rfl)
theorem dX1_init_223 : decode cX1_init 223 = .ok (.iload_n 1, 1) := dk_27 (dk_at dksX1_init_9 15 rfl rfl)
theorem dX1_init_224 : decode cX1_init 224 = .ok (.new 65, 3) := dk_187 0 65 (dk_at dksX1_init_9 16 rfl rfl)
theorem dX1_init_227 : decode cX1_init 227 = .ok (.dup, 1) := dk_89 (dk_at dksX1_init_9 19 rfl rfl)
theorem dX1_init_228 : decode cX1_init 228 = .ok (.aload_n 0, 1) := dk_42 (dk_at dksX1_init_9 20 rfl rfl)
theorem dX1_init_229 : decode cX1_init 229 = .ok (.iload_n 1, 1) := dk_27 (dk_at dksX1_init_9 21 rfl rfl)
theorem dX1_init_230 : decode cX1_init 230 = .ok (.invokespecial 137, 3) := dk_183 0 137 (dk_at dksX1_init_10 0 rfl rfl)
theorem dX1_init_233 : decode cX1_init 233 = .ok (.aastore, 1) := dk_83 (dk_at dksX1_init_10 3 rfl rfl)
theorem dX1_init_234 : decode cX1_init 234 = .ok (.iinc 1 1, 3) := dk_132 1 1 (dk_at dksX1_init_10 4 rfl rfl)
theorem dX1_init_237 : decode cX1_init 237 = .ok (.goto (-24), 3) := dk_167 255 232 (dk_at dksX1_init_10 7 rfl rfl)
theorem dX1_init_240 : decode cX1_init 240 = .ok (.aload_n 0, 1) := dk_42 (dk_at dksX1_init_10 10 rfl rfl)
theorem dX1_init_241 : decode cX1_init 241 = .ok (.getfield 124, 3) := dk_180 0 124 (dk_at dksX1_init_10 11 rfl rfl)
theorem dX1_init_244 : decode cX1_init 244 = .ok (.iconst 0, 1) := dk_3 (dk_at dksX1_init_10 14 rfl rfl)
theorem dX1_init_245 : decode cX1_init 245 = .ok (.invokevirtual 140, 3) := dk_182 0 140 (dk_at dksX1_init_10 15 rfl rfl)
theorem dX1_init_248 : decode cX1_init 248 = .ok (.iconst 0, 1) := dk_3 (dk_at dksX1_init_10 18 rfl rfl)
theorem dX1_init_249 : decode cX1_init 249 = .ok (.istore_n 1, 1) := dk_60 (dk_at dksX1_init_10 19 rfl rfl)
theorem dX1_init_250 : decode cX1_init 250 = .ok (.iload_n 1, 1) := dk_27 (dk_at dksX1_init_10 20 rfl rfl)
theorem dX1_init_251 : decode cX1_init 251 = .ok (.iconst 4, 1) := dk_7 (dk_at dksX1_init_10 21 rfl rfl)
theorem dX1_init_252 : decode cX1_init 252 = .ok (.if_icmp .ge 23, 3) := dk_162 0 23 (dk_at dksX1_init_11 0 rfl rfl)
theorem dX1_init_255 : decode cX1_init 255 = .ok (.aload_n 0, 1) := dk_42 (dk_at dksX1_init_11 3 rfl rfl)
theorem dX1_init_256 : decode cX1_init 256 = .ok (.getfield 104, 3) := dk_180 0 104 (dk_at dksX1_init_11 4 rfl rfl)
theorem dX1_init_259 : decode cX1_init 259 = .ok (.iload_n 1, 1) := dk_27 (dk_at dksX1_init_11 7 rfl rfl)
theorem dX1_init_260 : decode cX1_init 260 = .ok (.new 102, 3) := dk_187 0 102 (dk_at dksX1_init_11 8 rfl rfl)
theorem dX1_init_263 : decode cX1_init 263 = .ok (.dup, 1) := dk_89 (dk_at dksX1_init_11 11 rfl rfl)
theorem dX1_init_264 : decode cX1_init 264 = .ok (.aload_n 0, 1) := dk_42 (dk_at dksX1_init_11 12 rfl rfl)
theorem dX1_init_265 : decode cX1_init 265 = .ok (.invokespecial 143, 3) := dk_183 0 143 (dk_at dksX1_init_11 13 rfl rfl)
theorem dX1_init_268 : decode cX1_init 268 = .ok (.aastore, 1) := dk_83 (dk_at dksX1_init_11 16 rfl rfl)
theorem dX1_init_269 : decode cX1_init 269 = .ok (.iinc 1 1, 3) := dk_132 1 1 (dk_at dksX1_init_11 17 rfl rfl)
theorem dX1_init_272 : decode cX1_init 272 = .ok (.goto (-22), 3) := dk_167 255 234 (dk_at dksX1_init_11 20 rfl rfl)
theorem dX1_init_275 : decode cX1_init 275 = .ok (.iconst 0, 1) := dk_3 (dk_at dksX1_init_11 23 rfl rfl)
theorem dX1_init_276 : decode cX1_init 276 = .ok (.istore_n 1, 1) := dk_60 (dk_at dksX1_init_12 0 rfl rfl)
theorem dX1_init_277 : decode cX1_init 277 = .ok (.iload_n 1, 1) := dk_27 (dk_at dksX1_init_12 1 rfl rfl)
theorem dX1_init_278 : decode cX1_init 278 = .ok (.bipush 20, 2) := dk_16 20 (dk_at dksX1_init_12 2 rfl rfl)
theorem dX1_init_280 : decode cX1_init 280 = .ok (.if_icmp .ge 16, 3) := dk_162 0 16 (dk_at dksX1_init_12 4 rfl rfl)
theorem dX1_init_283 : decode cX1_init 283 = .ok (.aload_n 0, 1) := dk_42 (dk_at dksX1_init_12 7 rfl rfl)
theorem dX1_init_284 : decode cX1_init 284 = .ok (.getfield 128, 3) := dk_180 0 128 (dk_at dksX1_init_12 8 rfl rfl)
theorem dX1_init_287 : decode cX1_init 287 = .ok (.iload_n 1, 1) := dk_27 (dk_at dksX1_init_12 11 rfl rfl)
theorem dX1_init_288 : decode cX1_init 288 = .ok (.iconst (-1), 1) := dk_2 (dk_at dksX1_init_12 12 rfl rfl)
theorem dX1_init_289 : decode cX1_init 289 = .ok (.iastore, 1) := dk_79 (dk_at dksX1_init_12 13 rfl rfl)
theorem dX1_init_290 : decode cX1_init 290 = .ok (.iinc 1 1, 3) := dk_132 1 1 (dk_at dksX1_init_12 14 rfl rfl)
theorem dX1_init_293 : decode cX1_init 293 = .ok (.goto (-16), 3) := dk_167 255 240 (dk_at dksX1_init_12 17 rfl rfl)
theorem dX1_init_296 : decode cX1_init 296 = .ok (.return_, 1) := dk_177 (dk_at dksX1_init_12 20 rfl rfl)
abbrev cX1_clear : ByteArray := prog_1_method_22_code
def yX1_clear : MethodName := ⟨RX1, "clear", "()I"⟩
def dkwX1_clear_1 : List UInt8 := [27, 172]
abbrev dktX1_clear_1 : List UInt8 := dkwX1_clear_1 ++ []
def dkwX1_clear_0 : List UInt8 := [42, 180, 0, 74, 180, 0, 203, 185, 0, 9, 1, 0, 60, 42, 187, 0, 71, 89, 183, 0, 73, 181, 0, 74]
abbrev dktX1_clear_0 : List UInt8 := dkwX1_clear_0 ++ dktX1_clear_1
theorem dksX1_clear_0 : cX1_clear.data.toList.drop 0 = dktX1_clear_0 := by decide +kernel
theorem dksX1_clear_1 : cX1_clear.data.toList.drop 24 = dktX1_clear_1 := dk_seg dksX1_clear_0 24 rfl rfl
theorem dX1_clear_0 : decode cX1_clear 0 = .ok (.aload_n 0, 1) := dk_42 (dk_at dksX1_clear_0 0 rfl rfl)
theorem dX1_clear_1 : decode cX1_clear 1 = .ok (.getfield 74, 3) := dk_180 0 74 (dk_at dksX1_clear_0 1 rfl rfl)
theorem dX1_clear_4 : decode cX1_clear 4 = .ok (.getfield 203, 3) := dk_180 0 203 (dk_at dksX1_clear_0 4 rfl rfl)
theorem dX1_clear_7 : decode cX1_clear 7 = .ok (.invokeinterface 9 1, 5) := by decide +kernel
theorem dX1_clear_12 : decode cX1_clear 12 = .ok (.istore_n 1, 1) := dk_60 (dk_at dksX1_clear_0 12 rfl rfl)
theorem dX1_clear_13 : decode cX1_clear 13 = .ok (.aload_n 0, 1) := dk_42 (dk_at dksX1_clear_0 13 rfl rfl)
theorem dX1_clear_14 : decode cX1_clear 14 = .ok (.new 71, 3) := dk_187 0 71 (dk_at dksX1_clear_0 14 rfl rfl)
theorem dX1_clear_17 : decode cX1_clear 17 = .ok (.dup, 1) := dk_89 (dk_at dksX1_clear_0 17 rfl rfl)
theorem dX1_clear_18 : decode cX1_clear 18 = .ok (.invokespecial 73, 3) := dk_183 0 73 (dk_at dksX1_clear_0 18 rfl rfl)
theorem dX1_clear_21 : decode cX1_clear 21 = .ok (.putfield 74, 3) := dk_181 0 74 (dk_at dksX1_clear_0 21 rfl rfl)
theorem dX1_clear_24 : decode cX1_clear 24 = .ok (.iload_n 1, 1) := dk_27 (dk_at dksX1_clear_1 0 rfl rfl)
theorem dX1_clear_25 : decode cX1_clear 25 = .ok (.ireturn, 1) := dk_172 (dk_at dksX1_clear_1 1 rfl rfl)
abbrev cX1_sessions : ByteArray := prog_1_method_33_code
def yX1_sessions : MethodName := ⟨RX1, "sessions", "()I"⟩
def dkwX1_sessions_0 : List UInt8 := [42, 180, 0, 5, 185, 0, 9, 1, 0, 172]
abbrev dktX1_sessions_0 : List UInt8 := dkwX1_sessions_0 ++ []
theorem dksX1_sessions_0 : cX1_sessions.data.toList.drop 0 = dktX1_sessions_0 := by decide +kernel
theorem dX1_sessions_0 : decode cX1_sessions 0 = .ok (.aload_n 0, 1) := dk_42 (dk_at dksX1_sessions_0 0 rfl rfl)
theorem dX1_sessions_1 : decode cX1_sessions 1 = .ok (.getfield 5, 3) := dk_180 0 5 (dk_at dksX1_sessions_0 1 rfl rfl)
theorem dX1_sessions_4 : decode cX1_sessions 4 = .ok (.invokeinterface 9 1, 5) := by decide +kernel
theorem dX1_sessions_9 : decode cX1_sessions 9 = .ok (.ireturn, 1) := dk_172 (dk_at dksX1_sessions_0 9 rfl rfl)
abbrev cX1_signing : ByteArray := prog_1_method_54_code
def yX1_signing : MethodName := ⟨RX1, "signing", "()I"⟩
theorem dX1_signing_0 : decode cX1_signing 0 = .ok (.aload_n 0, 1) := by decide +kernel
theorem dX1_signing_1 : decode cX1_signing 1 = .ok (.getfield 161, 3) := by decide +kernel
theorem dX1_signing_4 : decode cX1_signing 4 = .ok (.ireturn, 1) := by decide +kernel
abbrev cX1_audits : ByteArray := prog_1_method_67_code
def yX1_audits : MethodName := ⟨RX1, "audits", "()I"⟩
def dkwX1_audits_0 : List UInt8 := [42, 180, 0, 50, 185, 0, 9, 1, 0, 172]
abbrev dktX1_audits_0 : List UInt8 := dkwX1_audits_0 ++ []
theorem dksX1_audits_0 : cX1_audits.data.toList.drop 0 = dktX1_audits_0 := by decide +kernel
theorem dX1_audits_0 : decode cX1_audits 0 = .ok (.aload_n 0, 1) := dk_42 (dk_at dksX1_audits_0 0 rfl rfl)
theorem dX1_audits_1 : decode cX1_audits 1 = .ok (.getfield 50, 3) := dk_180 0 50 (dk_at dksX1_audits_0 1 rfl rfl)
theorem dX1_audits_4 : decode cX1_audits 4 = .ok (.invokeinterface 9 1, 5) := by decide +kernel
theorem dX1_audits_9 : decode cX1_audits 9 = .ok (.ireturn, 1) := dk_172 (dk_at dksX1_audits_0 9 rfl rfl)
abbrev cX1_sum : ByteArray := prog_1_method_69_code
def yX1_sum : MethodName := ⟨RX1, "sum", "()I"⟩
theorem dX1_sum_0 : decode cX1_sum 0 = .ok (.aload_n 0, 1) := by decide +kernel
theorem dX1_sum_1 : decode cX1_sum 1 = .ok (.getfield 53, 3) := by decide +kernel
theorem dX1_sum_4 : decode cX1_sum 4 = .ok (.ireturn, 1) := by decide +kernel
abbrev cX1_pass : ByteArray := prog_1_method_17_code
def yX1_pass : MethodName := ⟨RX1, "pass", "(I)I"⟩
def dkwX1_pass_5 : List UInt8 := [167, 255, 195, 132, 3, 1, 167, 255, 167, 28, 172]
abbrev dktX1_pass_5 : List UInt8 := dkwX1_pass_5 ++ []
def dkwX1_pass_4 : List UInt8 := [21, 4, 185, 0, 31, 2, 0, 192, 0, 3, 182, 0, 39, 167, 0, 4, 3, 96, 61, 132, 4, 1]
abbrev dktX1_pass_4 : List UInt8 := dkwX1_pass_4 ++ dktX1_pass_5
def dkwX1_pass_3 : List UInt8 := [180, 0, 5, 21, 4, 185, 0, 31, 2, 0, 192, 0, 3, 182, 0, 183, 153, 0, 23, 42, 180, 0, 5]
abbrev dktX1_pass_3 : List UInt8 := dkwX1_pass_3 ++ dktX1_pass_4
def dkwX1_pass_2 : List UInt8 := [182, 0, 180, 3, 54, 4, 21, 4, 42, 180, 0, 5, 185, 0, 9, 1, 0, 162, 0, 53, 28, 42]
abbrev dktX1_pass_2 : List UInt8 := dkwX1_pass_2 ++ dktX1_pass_3
def dkwX1_pass_1 : List UInt8 := [3, 184, 0, 176, 3, 61, 3, 62, 29, 27, 162, 0, 90, 42, 89, 180, 0, 44, 4, 96, 181, 0, 44, 42]
abbrev dktX1_pass_1 : List UInt8 := dkwX1_pass_1 ++ dktX1_pass_2
def dkwX1_pass_0 : List UInt8 := [27, 4, 17, 2, 88, 184, 0, 149, 42, 180, 0, 44, 27, 96, 17, 117, 48, 163, 0, 7, 4, 167, 0, 4]
abbrev dktX1_pass_0 : List UInt8 := dkwX1_pass_0 ++ dktX1_pass_1
theorem dksX1_pass_0 : cX1_pass.data.toList.drop 0 = dktX1_pass_0 := by decide +kernel
theorem dksX1_pass_1 : cX1_pass.data.toList.drop 24 = dktX1_pass_1 := dk_seg dksX1_pass_0 24 rfl rfl
theorem dksX1_pass_2 : cX1_pass.data.toList.drop 48 = dktX1_pass_2 := dk_seg dksX1_pass_1 24 rfl rfl
theorem dksX1_pass_3 : cX1_pass.data.toList.drop 70 = dktX1_pass_3 := dk_seg dksX1_pass_2 22 rfl rfl
theorem dksX1_pass_4 : cX1_pass.data.toList.drop 93 = dktX1_pass_4 := dk_seg dksX1_pass_3 23 rfl rfl
theorem dksX1_pass_5 : cX1_pass.data.toList.drop 115 = dktX1_pass_5 := dk_seg dksX1_pass_4 22 rfl rfl
theorem dX1_pass_0 : decode cX1_pass 0 = .ok (.iload_n 1, 1) := dk_27 (dk_at dksX1_pass_0 0 rfl rfl)
theorem dX1_pass_1 : decode cX1_pass 1 = .ok (.iconst 1, 1) := dk_4 (dk_at dksX1_pass_0 1 rfl rfl)
theorem dX1_pass_2 : decode cX1_pass 2 = .ok (.sipush 600, 3) := dk_17 2 88 (dk_at dksX1_pass_0 2 rfl rfl)
theorem dX1_pass_5 : decode cX1_pass 5 = .ok (.invokestatic 149, 3) := dk_184 0 149 (dk_at dksX1_pass_0 5 rfl rfl)
theorem dX1_pass_8 : decode cX1_pass 8 = .ok (.aload_n 0, 1) := dk_42 (dk_at dksX1_pass_0 8 rfl rfl)
theorem dX1_pass_9 : decode cX1_pass 9 = .ok (.getfield 44, 3) := dk_180 0 44 (dk_at dksX1_pass_0 9 rfl rfl)
theorem dX1_pass_12 : decode cX1_pass 12 = .ok (.iload_n 1, 1) := dk_27 (dk_at dksX1_pass_0 12 rfl rfl)
theorem dX1_pass_13 : decode cX1_pass 13 = .ok (.iadd, 1) := dk_96 (dk_at dksX1_pass_0 13 rfl rfl)
theorem dX1_pass_14 : decode cX1_pass 14 = .ok (.sipush 30000, 3) := dk_17 117 48 (dk_at dksX1_pass_0 14 rfl rfl)
theorem dX1_pass_17 : decode cX1_pass 17 = .ok (.if_icmp .gt 7, 3) := dk_163 0 7 (dk_at dksX1_pass_0 17 rfl rfl)
theorem dX1_pass_20 : decode cX1_pass 20 = .ok (.iconst 1, 1) := dk_4 (dk_at dksX1_pass_0 20 rfl rfl)
theorem dX1_pass_21 : decode cX1_pass 21 = .ok (.goto 4, 3) := dk_167 0 4 (dk_at dksX1_pass_0 21 rfl rfl)
theorem dX1_pass_24 : decode cX1_pass 24 = .ok (.iconst 0, 1) := dk_3 (dk_at dksX1_pass_1 0 rfl rfl)
theorem dX1_pass_25 : decode cX1_pass 25 = .ok (.invokestatic 176, 3) := dk_184 0 176 (dk_at dksX1_pass_1 1 rfl rfl)
theorem dX1_pass_28 : decode cX1_pass 28 = .ok (.iconst 0, 1) := dk_3 (dk_at dksX1_pass_1 4 rfl rfl)
theorem dX1_pass_29 : decode cX1_pass 29 = .ok (.istore_n 2, 1) := dk_61 (dk_at dksX1_pass_1 5 rfl rfl)
theorem dX1_pass_30 : decode cX1_pass 30 = .ok (.iconst 0, 1) := dk_3 (dk_at dksX1_pass_1 6 rfl rfl)
theorem dX1_pass_31 : decode cX1_pass 31 = .ok (.istore_n 3, 1) := dk_62 (dk_at dksX1_pass_1 7 rfl rfl)
theorem dX1_pass_32 : decode cX1_pass 32 = .ok (.iload_n 3, 1) := dk_29 (dk_at dksX1_pass_1 8 rfl rfl)
theorem dX1_pass_33 : decode cX1_pass 33 = .ok (.iload_n 1, 1) := dk_27 (dk_at dksX1_pass_1 9 rfl rfl)
theorem dX1_pass_34 : decode cX1_pass 34 = .ok (.if_icmp .ge 90, 3) := dk_162 0 90 (dk_at dksX1_pass_1 10 rfl rfl)
theorem dX1_pass_37 : decode cX1_pass 37 = .ok (.aload_n 0, 1) := dk_42 (dk_at dksX1_pass_1 13 rfl rfl)
theorem dX1_pass_38 : decode cX1_pass 38 = .ok (.dup, 1) := dk_89 (dk_at dksX1_pass_1 14 rfl rfl)
theorem dX1_pass_39 : decode cX1_pass 39 = .ok (.getfield 44, 3) := dk_180 0 44 (dk_at dksX1_pass_1 15 rfl rfl)
theorem dX1_pass_42 : decode cX1_pass 42 = .ok (.iconst 1, 1) := dk_4 (dk_at dksX1_pass_1 18 rfl rfl)
theorem dX1_pass_43 : decode cX1_pass 43 = .ok (.iadd, 1) := dk_96 (dk_at dksX1_pass_1 19 rfl rfl)
theorem dX1_pass_44 : decode cX1_pass 44 = .ok (.putfield 44, 3) := dk_181 0 44 (dk_at dksX1_pass_1 20 rfl rfl)
theorem dX1_pass_47 : decode cX1_pass 47 = .ok (.aload_n 0, 1) := dk_42 (dk_at dksX1_pass_1 23 rfl rfl)
theorem dX1_pass_48 : decode cX1_pass 48 = .ok (.invokevirtual 180, 3) := dk_182 0 180 (dk_at dksX1_pass_2 0 rfl rfl)
theorem dX1_pass_51 : decode cX1_pass 51 = .ok (.iconst 0, 1) := dk_3 (dk_at dksX1_pass_2 3 rfl rfl)
theorem dX1_pass_52 : decode cX1_pass 52 = .ok (.istore 4, 2) := dk_54 4 (dk_at dksX1_pass_2 4 rfl rfl)
theorem dX1_pass_54 : decode cX1_pass 54 = .ok (.iload 4, 2) := dk_21 4 (dk_at dksX1_pass_2 6 rfl rfl)
theorem dX1_pass_56 : decode cX1_pass 56 = .ok (.aload_n 0, 1) := dk_42 (dk_at dksX1_pass_2 8 rfl rfl)
theorem dX1_pass_57 : decode cX1_pass 57 = .ok (.getfield 5, 3) := dk_180 0 5 (dk_at dksX1_pass_2 9 rfl rfl)
theorem dX1_pass_60 : decode cX1_pass 60 = .ok (.invokeinterface 9 1, 5) := by decide +kernel
theorem dX1_pass_65 : decode cX1_pass 65 = .ok (.if_icmp .ge 53, 3) := dk_162 0 53 (dk_at dksX1_pass_2 17 rfl rfl)
theorem dX1_pass_68 : decode cX1_pass 68 = .ok (.iload_n 2, 1) := dk_28 (dk_at dksX1_pass_2 20 rfl rfl)
theorem dX1_pass_69 : decode cX1_pass 69 = .ok (.aload_n 0, 1) := dk_42 (dk_at dksX1_pass_2 21 rfl rfl)
theorem dX1_pass_70 : decode cX1_pass 70 = .ok (.getfield 5, 3) := dk_180 0 5 (dk_at dksX1_pass_3 0 rfl rfl)
theorem dX1_pass_73 : decode cX1_pass 73 = .ok (.iload 4, 2) := dk_21 4 (dk_at dksX1_pass_3 3 rfl rfl)
theorem dX1_pass_75 : decode cX1_pass 75 = .ok (.invokeinterface 31 2, 5) := by decide +kernel
theorem dX1_pass_80 : decode cX1_pass 80 = .ok (.checkcast 3, 3) := dk_192 0 3 (dk_at dksX1_pass_3 10 rfl rfl)
theorem dX1_pass_83 : decode cX1_pass 83 = .ok (.invokevirtual 183, 3) := dk_182 0 183 (dk_at dksX1_pass_3 13 rfl rfl)
theorem dX1_pass_86 : decode cX1_pass 86 = .ok (.ifCond .eq 23, 3) := dk_153 0 23 (dk_at dksX1_pass_3 16 rfl rfl)
theorem dX1_pass_89 : decode cX1_pass 89 = .ok (.aload_n 0, 1) := dk_42 (dk_at dksX1_pass_3 19 rfl rfl)
theorem dX1_pass_90 : decode cX1_pass 90 = .ok (.getfield 5, 3) := dk_180 0 5 (dk_at dksX1_pass_3 20 rfl rfl)
theorem dX1_pass_93 : decode cX1_pass 93 = .ok (.iload 4, 2) := dk_21 4 (dk_at dksX1_pass_4 0 rfl rfl)
theorem dX1_pass_95 : decode cX1_pass 95 = .ok (.invokeinterface 31 2, 5) := by decide +kernel
theorem dX1_pass_100 : decode cX1_pass 100 = .ok (.checkcast 3, 3) := dk_192 0 3 (dk_at dksX1_pass_4 7 rfl rfl)
theorem dX1_pass_103 : decode cX1_pass 103 = .ok (.invokevirtual 39, 3) := dk_182 0 39 (dk_at dksX1_pass_4 10 rfl rfl)
theorem dX1_pass_106 : decode cX1_pass 106 = .ok (.goto 4, 3) := dk_167 0 4 (dk_at dksX1_pass_4 13 rfl rfl)
theorem dX1_pass_109 : decode cX1_pass 109 = .ok (.iconst 0, 1) := dk_3 (dk_at dksX1_pass_4 16 rfl rfl)
theorem dX1_pass_110 : decode cX1_pass 110 = .ok (.iadd, 1) := dk_96 (dk_at dksX1_pass_4 17 rfl rfl)
theorem dX1_pass_111 : decode cX1_pass 111 = .ok (.istore_n 2, 1) := dk_61 (dk_at dksX1_pass_4 18 rfl rfl)
theorem dX1_pass_112 : decode cX1_pass 112 = .ok (.iinc 4 1, 3) := dk_132 4 1 (dk_at dksX1_pass_4 19 rfl rfl)
theorem dX1_pass_115 : decode cX1_pass 115 = .ok (.goto (-61), 3) := dk_167 255 195 (dk_at dksX1_pass_5 0 rfl rfl)
theorem dX1_pass_118 : decode cX1_pass 118 = .ok (.iinc 3 1, 3) := dk_132 3 1 (dk_at dksX1_pass_5 3 rfl rfl)
theorem dX1_pass_121 : decode cX1_pass 121 = .ok (.goto (-89), 3) := dk_167 255 167 (dk_at dksX1_pass_5 6 rfl rfl)
theorem dX1_pass_124 : decode cX1_pass 124 = .ok (.iload_n 2, 1) := dk_28 (dk_at dksX1_pass_5 9 rfl rfl)
theorem dX1_pass_125 : decode cX1_pass 125 = .ok (.ireturn, 1) := dk_172 (dk_at dksX1_pass_5 10 rfl rfl)
abbrev cX1_fit : ByteArray := prog_1_method_6_code
def yX1_fit : MethodName := ⟨RX1, "fit", "(III)V"⟩
def dkwX1_fit_0 : List UInt8 := [26, 27, 161, 0, 8, 26, 28, 164, 0, 11, 187, 0, 146, 89, 183, 0, 148, 191, 177]
abbrev dktX1_fit_0 : List UInt8 := dkwX1_fit_0 ++ []
theorem dksX1_fit_0 : cX1_fit.data.toList.drop 0 = dktX1_fit_0 := by decide +kernel
theorem dX1_fit_0 : decode cX1_fit 0 = .ok (.iload_n 0, 1) := dk_26 (dk_at dksX1_fit_0 0 rfl rfl)
theorem dX1_fit_1 : decode cX1_fit 1 = .ok (.iload_n 1, 1) := dk_27 (dk_at dksX1_fit_0 1 rfl rfl)
theorem dX1_fit_2 : decode cX1_fit 2 = .ok (.if_icmp .lt 8, 3) := dk_161 0 8 (dk_at dksX1_fit_0 2 rfl rfl)
theorem dX1_fit_5 : decode cX1_fit 5 = .ok (.iload_n 0, 1) := dk_26 (dk_at dksX1_fit_0 5 rfl rfl)
theorem dX1_fit_6 : decode cX1_fit 6 = .ok (.iload_n 2, 1) := dk_28 (dk_at dksX1_fit_0 6 rfl rfl)
theorem dX1_fit_7 : decode cX1_fit 7 = .ok (.if_icmp .le 11, 3) := dk_164 0 11 (dk_at dksX1_fit_0 7 rfl rfl)
theorem dX1_fit_10 : decode cX1_fit 10 = .ok (.new 146, 3) := dk_187 0 146 (dk_at dksX1_fit_0 10 rfl rfl)
theorem dX1_fit_13 : decode cX1_fit 13 = .ok (.dup, 1) := dk_89 (dk_at dksX1_fit_0 13 rfl rfl)
theorem dX1_fit_14 : decode cX1_fit 14 = .ok (.invokespecial 148, 3) := dk_183 0 148 (dk_at dksX1_fit_0 14 rfl rfl)
theorem dX1_fit_17 : decode cX1_fit 17 = .ok (.athrow, 1) := dk_191 (dk_at dksX1_fit_0 17 rfl rfl)
theorem dX1_fit_18 : decode cX1_fit 18 = .ok (.return_, 1) := dk_177 (dk_at dksX1_fit_0 18 rfl rfl)
abbrev cX1_can : ByteArray := prog_1_method_9_code
def yX1_can : MethodName := ⟨RX1, "can", "(Z)V"⟩
def dkwX1_can_0 : List UInt8 := [26, 154, 0, 11, 187, 0, 155, 89, 183, 0, 157, 191, 177]
abbrev dktX1_can_0 : List UInt8 := dkwX1_can_0 ++ []
theorem dksX1_can_0 : cX1_can.data.toList.drop 0 = dktX1_can_0 := by decide +kernel
theorem dX1_can_0 : decode cX1_can 0 = .ok (.iload_n 0, 1) := dk_26 (dk_at dksX1_can_0 0 rfl rfl)
theorem dX1_can_1 : decode cX1_can 1 = .ok (.ifCond .ne 11, 3) := dk_154 0 11 (dk_at dksX1_can_0 1 rfl rfl)
theorem dX1_can_4 : decode cX1_can 4 = .ok (.new 155, 3) := dk_187 0 155 (dk_at dksX1_can_0 4 rfl rfl)
theorem dX1_can_7 : decode cX1_can 7 = .ok (.dup, 1) := dk_89 (dk_at dksX1_can_0 7 rfl rfl)
theorem dX1_can_8 : decode cX1_can 8 = .ok (.invokespecial 157, 3) := dk_183 0 157 (dk_at dksX1_can_0 8 rfl rfl)
theorem dX1_can_11 : decode cX1_can 11 = .ok (.athrow, 1) := dk_191 (dk_at dksX1_can_0 11 rfl rfl)
theorem dX1_can_12 : decode cX1_can 12 = .ok (.return_, 1) := dk_177 (dk_at dksX1_can_0 12 rfl rfl)
abbrev cX1_turnKeys : ByteArray := prog_1_method_16_code
def yX1_turnKeys : MethodName := ⟨RX1, "turnKeys", "()V"⟩
def dkwX1_turnKeys_4 : List UInt8 := [132, 1, 1, 167, 255, 208, 177]
abbrev dktX1_turnKeys_4 : List UInt8 := dkwX1_turnKeys_4 ++ []
def dkwX1_turnKeys_3 : List UInt8 := [153, 0, 20, 42, 180, 0, 128, 27, 46, 42, 180, 0, 44, 159, 0, 7, 4, 167, 0, 4, 3, 182, 0, 173]
abbrev dktX1_turnKeys_3 : List UInt8 := dkwX1_turnKeys_3 ++ dktX1_turnKeys_4
def dkwX1_turnKeys_2 : List UInt8 := [3, 60, 27, 42, 180, 0, 131, 162, 0, 46, 42, 180, 0, 124, 27, 42, 180, 0, 124, 27, 182, 0, 170]
abbrev dktX1_turnKeys_2 : List UInt8 := dkwX1_turnKeys_2 ++ dktX1_turnKeys_3
def dkwX1_turnKeys_1 : List UInt8 := [180, 0, 161, 42, 180, 0, 44, 16, 20, 96, 79, 42, 42, 180, 0, 134, 182, 0, 167, 42, 2, 181, 0, 134]
abbrev dktX1_turnKeys_1 : List UInt8 := dkwX1_turnKeys_1 ++ dktX1_turnKeys_2
def dkwX1_turnKeys_0 : List UInt8 := [42, 180, 0, 134, 2, 159, 0, 43, 42, 180, 0, 44, 42, 180, 0, 164, 160, 0, 32, 42, 180, 0, 128, 42]
abbrev dktX1_turnKeys_0 : List UInt8 := dkwX1_turnKeys_0 ++ dktX1_turnKeys_1
theorem dksX1_turnKeys_0 : cX1_turnKeys.data.toList.drop 0 = dktX1_turnKeys_0 := by decide +kernel
theorem dksX1_turnKeys_1 : cX1_turnKeys.data.toList.drop 24 = dktX1_turnKeys_1 := dk_seg dksX1_turnKeys_0 24 rfl rfl
theorem dksX1_turnKeys_2 : cX1_turnKeys.data.toList.drop 48 = dktX1_turnKeys_2 := dk_seg dksX1_turnKeys_1 24 rfl rfl
theorem dksX1_turnKeys_3 : cX1_turnKeys.data.toList.drop 71 = dktX1_turnKeys_3 := dk_seg dksX1_turnKeys_2 23 rfl rfl
theorem dksX1_turnKeys_4 : cX1_turnKeys.data.toList.drop 95 = dktX1_turnKeys_4 := dk_seg dksX1_turnKeys_3 24 rfl rfl
theorem dX1_turnKeys_0 : decode cX1_turnKeys 0 = .ok (.aload_n 0, 1) := dk_42 (dk_at dksX1_turnKeys_0 0 rfl rfl)
theorem dX1_turnKeys_1 : decode cX1_turnKeys 1 = .ok (.getfield 134, 3) := dk_180 0 134 (dk_at dksX1_turnKeys_0 1 rfl rfl)
theorem dX1_turnKeys_4 : decode cX1_turnKeys 4 = .ok (.iconst (-1), 1) := dk_2 (dk_at dksX1_turnKeys_0 4 rfl rfl)
theorem dX1_turnKeys_5 : decode cX1_turnKeys 5 = .ok (.if_icmp .eq 43, 3) := dk_159 0 43 (dk_at dksX1_turnKeys_0 5 rfl rfl)
theorem dX1_turnKeys_8 : decode cX1_turnKeys 8 = .ok (.aload_n 0, 1) := dk_42 (dk_at dksX1_turnKeys_0 8 rfl rfl)
theorem dX1_turnKeys_9 : decode cX1_turnKeys 9 = .ok (.getfield 44, 3) := dk_180 0 44 (dk_at dksX1_turnKeys_0 9 rfl rfl)
theorem dX1_turnKeys_12 : decode cX1_turnKeys 12 = .ok (.aload_n 0, 1) := dk_42 (dk_at dksX1_turnKeys_0 12 rfl rfl)
theorem dX1_turnKeys_13 : decode cX1_turnKeys 13 = .ok (.getfield 164, 3) := dk_180 0 164 (dk_at dksX1_turnKeys_0 13 rfl rfl)
theorem dX1_turnKeys_16 : decode cX1_turnKeys 16 = .ok (.if_icmp .ne 32, 3) := dk_160 0 32 (dk_at dksX1_turnKeys_0 16 rfl rfl)
theorem dX1_turnKeys_19 : decode cX1_turnKeys 19 = .ok (.aload_n 0, 1) := dk_42 (dk_at dksX1_turnKeys_0 19 rfl rfl)
theorem dX1_turnKeys_20 : decode cX1_turnKeys 20 = .ok (.getfield 128, 3) := dk_180 0 128 (dk_at dksX1_turnKeys_0 20 rfl rfl)
theorem dX1_turnKeys_23 : decode cX1_turnKeys 23 = .ok (.aload_n 0, 1) := dk_42 (dk_at dksX1_turnKeys_0 23 rfl rfl)
theorem dX1_turnKeys_24 : decode cX1_turnKeys 24 = .ok (.getfield 161, 3) := dk_180 0 161 (dk_at dksX1_turnKeys_1 0 rfl rfl)
theorem dX1_turnKeys_27 : decode cX1_turnKeys 27 = .ok (.aload_n 0, 1) := dk_42 (dk_at dksX1_turnKeys_1 3 rfl rfl)
theorem dX1_turnKeys_28 : decode cX1_turnKeys 28 = .ok (.getfield 44, 3) := dk_180 0 44 (dk_at dksX1_turnKeys_1 4 rfl rfl)
theorem dX1_turnKeys_31 : decode cX1_turnKeys 31 = .ok (.bipush 20, 2) := dk_16 20 (dk_at dksX1_turnKeys_1 7 rfl rfl)
theorem dX1_turnKeys_33 : decode cX1_turnKeys 33 = .ok (.iadd, 1) := dk_96 (dk_at dksX1_turnKeys_1 9 rfl rfl)
theorem dX1_turnKeys_34 : decode cX1_turnKeys 34 = .ok (.iastore, 1) := dk_79 (dk_at dksX1_turnKeys_1 10 rfl rfl)
theorem dX1_turnKeys_35 : decode cX1_turnKeys 35 = .ok (.aload_n 0, 1) := dk_42 (dk_at dksX1_turnKeys_1 11 rfl rfl)
theorem dX1_turnKeys_36 : decode cX1_turnKeys 36 = .ok (.aload_n 0, 1) := dk_42 (dk_at dksX1_turnKeys_1 12 rfl rfl)
theorem dX1_turnKeys_37 : decode cX1_turnKeys 37 = .ok (.getfield 134, 3) := dk_180 0 134 (dk_at dksX1_turnKeys_1 13 rfl rfl)
theorem dX1_turnKeys_40 : decode cX1_turnKeys 40 = .ok (.invokevirtual 167, 3) := dk_182 0 167 (dk_at dksX1_turnKeys_1 16 rfl rfl)
theorem dX1_turnKeys_43 : decode cX1_turnKeys 43 = .ok (.aload_n 0, 1) := dk_42 (dk_at dksX1_turnKeys_1 19 rfl rfl)
theorem dX1_turnKeys_44 : decode cX1_turnKeys 44 = .ok (.iconst (-1), 1) := dk_2 (dk_at dksX1_turnKeys_1 20 rfl rfl)
theorem dX1_turnKeys_45 : decode cX1_turnKeys 45 = .ok (.putfield 134, 3) := dk_181 0 134 (dk_at dksX1_turnKeys_1 21 rfl rfl)
theorem dX1_turnKeys_48 : decode cX1_turnKeys 48 = .ok (.iconst 0, 1) := dk_3 (dk_at dksX1_turnKeys_2 0 rfl rfl)
theorem dX1_turnKeys_49 : decode cX1_turnKeys 49 = .ok (.istore_n 1, 1) := dk_60 (dk_at dksX1_turnKeys_2 1 rfl rfl)
theorem dX1_turnKeys_50 : decode cX1_turnKeys 50 = .ok (.iload_n 1, 1) := dk_27 (dk_at dksX1_turnKeys_2 2 rfl rfl)
theorem dX1_turnKeys_51 : decode cX1_turnKeys 51 = .ok (.aload_n 0, 1) := dk_42 (dk_at dksX1_turnKeys_2 3 rfl rfl)
theorem dX1_turnKeys_52 : decode cX1_turnKeys 52 = .ok (.getfield 131, 3) := dk_180 0 131 (dk_at dksX1_turnKeys_2 4 rfl rfl)
theorem dX1_turnKeys_55 : decode cX1_turnKeys 55 = .ok (.if_icmp .ge 46, 3) := dk_162 0 46 (dk_at dksX1_turnKeys_2 7 rfl rfl)
theorem dX1_turnKeys_58 : decode cX1_turnKeys 58 = .ok (.aload_n 0, 1) := dk_42 (dk_at dksX1_turnKeys_2 10 rfl rfl)
theorem dX1_turnKeys_59 : decode cX1_turnKeys 59 = .ok (.getfield 124, 3) := dk_180 0 124 (dk_at dksX1_turnKeys_2 11 rfl rfl)
theorem dX1_turnKeys_62 : decode cX1_turnKeys 62 = .ok (.iload_n 1, 1) := dk_27 (dk_at dksX1_turnKeys_2 14 rfl rfl)
theorem dX1_turnKeys_63 : decode cX1_turnKeys 63 = .ok (.aload_n 0, 1) := dk_42 (dk_at dksX1_turnKeys_2 15 rfl rfl)
theorem dX1_turnKeys_64 : decode cX1_turnKeys 64 = .ok (.getfield 124, 3) := dk_180 0 124 (dk_at dksX1_turnKeys_2 16 rfl rfl)
theorem dX1_turnKeys_67 : decode cX1_turnKeys 67 = .ok (.iload_n 1, 1) := dk_27 (dk_at dksX1_turnKeys_2 19 rfl rfl)
theorem dX1_turnKeys_68 : decode cX1_turnKeys 68 = .ok (.invokevirtual 170, 3) := dk_182 0 170 (dk_at dksX1_turnKeys_2 20 rfl rfl)
theorem dX1_turnKeys_71 : decode cX1_turnKeys 71 = .ok (.ifCond .eq 20, 3) := dk_153 0 20 (dk_at dksX1_turnKeys_3 0 rfl rfl)
theorem dX1_turnKeys_74 : decode cX1_turnKeys 74 = .ok (.aload_n 0, 1) := dk_42 (dk_at dksX1_turnKeys_3 3 rfl rfl)
theorem dX1_turnKeys_75 : decode cX1_turnKeys 75 = .ok (.getfield 128, 3) := dk_180 0 128 (dk_at dksX1_turnKeys_3 4 rfl rfl)
theorem dX1_turnKeys_78 : decode cX1_turnKeys 78 = .ok (.iload_n 1, 1) := dk_27 (dk_at dksX1_turnKeys_3 7 rfl rfl)
theorem dX1_turnKeys_79 : decode cX1_turnKeys 79 = .ok (.iaload, 1) := dk_46 (dk_at dksX1_turnKeys_3 8 rfl rfl)
theorem dX1_turnKeys_80 : decode cX1_turnKeys 80 = .ok (.aload_n 0, 1) := dk_42 (dk_at dksX1_turnKeys_3 9 rfl rfl)
theorem dX1_turnKeys_81 : decode cX1_turnKeys 81 = .ok (.getfield 44, 3) := dk_180 0 44 (dk_at dksX1_turnKeys_3 10 rfl rfl)
theorem dX1_turnKeys_84 : decode cX1_turnKeys 84 = .ok (.if_icmp .eq 7, 3) := dk_159 0 7 (dk_at dksX1_turnKeys_3 13 rfl rfl)
theorem dX1_turnKeys_87 : decode cX1_turnKeys 87 = .ok (.iconst 1, 1) := dk_4 (dk_at dksX1_turnKeys_3 16 rfl rfl)
theorem dX1_turnKeys_88 : decode cX1_turnKeys 88 = .ok (.goto 4, 3) := dk_167 0 4 (dk_at dksX1_turnKeys_3 17 rfl rfl)
theorem dX1_turnKeys_91 : decode cX1_turnKeys 91 = .ok (.iconst 0, 1) := dk_3 (dk_at dksX1_turnKeys_3 20 rfl rfl)
theorem dX1_turnKeys_92 : decode cX1_turnKeys 92 = .ok (.invokevirtual 173, 3) := dk_182 0 173 (dk_at dksX1_turnKeys_3 21 rfl rfl)
theorem dX1_turnKeys_95 : decode cX1_turnKeys 95 = .ok (.iinc 1 1, 3) := dk_132 1 1 (dk_at dksX1_turnKeys_4 0 rfl rfl)
theorem dX1_turnKeys_98 : decode cX1_turnKeys 98 = .ok (.goto (-48), 3) := dk_167 255 208 (dk_at dksX1_turnKeys_4 3 rfl rfl)
theorem dX1_turnKeys_101 : decode cX1_turnKeys 101 = .ok (.return_, 1) := dk_177 (dk_at dksX1_turnKeys_4 6 rfl rfl)
abbrev cX1_sign : ByteArray := prog_1_method_15_code
def yX1_sign : MethodName := ⟨RX1, "sign", "(I)V"⟩
def dkwX1_sign_0 : List UInt8 := [42, 27, 181, 0, 161, 42, 8, 27, 182, 0, 27, 177]
abbrev dktX1_sign_0 : List UInt8 := dkwX1_sign_0 ++ []
theorem dksX1_sign_0 : cX1_sign.data.toList.drop 0 = dktX1_sign_0 := by decide +kernel
theorem dX1_sign_0 : decode cX1_sign 0 = .ok (.aload_n 0, 1) := dk_42 (dk_at dksX1_sign_0 0 rfl rfl)
theorem dX1_sign_1 : decode cX1_sign 1 = .ok (.iload_n 1, 1) := dk_27 (dk_at dksX1_sign_0 1 rfl rfl)
theorem dX1_sign_2 : decode cX1_sign 2 = .ok (.putfield 161, 3) := dk_181 0 161 (dk_at dksX1_sign_0 2 rfl rfl)
theorem dX1_sign_5 : decode cX1_sign 5 = .ok (.aload_n 0, 1) := dk_42 (dk_at dksX1_sign_0 5 rfl rfl)
theorem dX1_sign_6 : decode cX1_sign 6 = .ok (.iconst 5, 1) := dk_8 (dk_at dksX1_sign_0 6 rfl rfl)
theorem dX1_sign_7 : decode cX1_sign 7 = .ok (.iload_n 1, 1) := dk_27 (dk_at dksX1_sign_0 7 rfl rfl)
theorem dX1_sign_8 : decode cX1_sign 8 = .ok (.invokevirtual 27, 3) := dk_182 0 27 (dk_at dksX1_sign_0 8 rfl rfl)
theorem dX1_sign_11 : decode cX1_sign 11 = .ok (.return_, 1) := dk_177 (dk_at dksX1_sign_0 11 rfl rfl)
abbrev cX1_write : ByteArray := prog_1_method_4_code
def yX1_write : MethodName := ⟨RX1, "write", "(II)V"⟩
def dkwX1_write_1 : List UInt8 := [87, 42, 45, 42, 180, 0, 53, 182, 0, 56, 181, 0, 53, 177]
abbrev dktX1_write_1 : List UInt8 := dkwX1_write_1 ++ []
def dkwX1_write_0 : List UInt8 := [187, 0, 42, 89, 27, 28, 42, 180, 0, 44, 183, 0, 47, 78, 42, 180, 0, 50, 45, 185, 0, 19, 2, 0]
abbrev dktX1_write_0 : List UInt8 := dkwX1_write_0 ++ dktX1_write_1
theorem dksX1_write_0 : cX1_write.data.toList.drop 0 = dktX1_write_0 := by decide +kernel
theorem dksX1_write_1 : cX1_write.data.toList.drop 24 = dktX1_write_1 := dk_seg dksX1_write_0 24 rfl rfl
theorem dX1_write_0 : decode cX1_write 0 = .ok (.new 42, 3) := dk_187 0 42 (dk_at dksX1_write_0 0 rfl rfl)
theorem dX1_write_3 : decode cX1_write 3 = .ok (.dup, 1) := dk_89 (dk_at dksX1_write_0 3 rfl rfl)
theorem dX1_write_4 : decode cX1_write 4 = .ok (.iload_n 1, 1) := dk_27 (dk_at dksX1_write_0 4 rfl rfl)
theorem dX1_write_5 : decode cX1_write 5 = .ok (.iload_n 2, 1) := dk_28 (dk_at dksX1_write_0 5 rfl rfl)
theorem dX1_write_6 : decode cX1_write 6 = .ok (.aload_n 0, 1) := dk_42 (dk_at dksX1_write_0 6 rfl rfl)
theorem dX1_write_7 : decode cX1_write 7 = .ok (.getfield 44, 3) := dk_180 0 44 (dk_at dksX1_write_0 7 rfl rfl)
theorem dX1_write_10 : decode cX1_write 10 = .ok (.invokespecial 47, 3) := dk_183 0 47 (dk_at dksX1_write_0 10 rfl rfl)
theorem dX1_write_13 : decode cX1_write 13 = .ok (.astore_n 3, 1) := dk_78 (dk_at dksX1_write_0 13 rfl rfl)
theorem dX1_write_14 : decode cX1_write 14 = .ok (.aload_n 0, 1) := dk_42 (dk_at dksX1_write_0 14 rfl rfl)
theorem dX1_write_15 : decode cX1_write 15 = .ok (.getfield 50, 3) := dk_180 0 50 (dk_at dksX1_write_0 15 rfl rfl)
theorem dX1_write_18 : decode cX1_write 18 = .ok (.aload_n 3, 1) := dk_45 (dk_at dksX1_write_0 18 rfl rfl)
theorem dX1_write_19 : decode cX1_write 19 = .ok (.invokeinterface 19 2, 5) := by decide +kernel
theorem dX1_write_24 : decode cX1_write 24 = .ok (.pop, 1) := dk_87 (dk_at dksX1_write_1 0 rfl rfl)
theorem dX1_write_25 : decode cX1_write 25 = .ok (.aload_n 0, 1) := dk_42 (dk_at dksX1_write_1 1 rfl rfl)
theorem dX1_write_26 : decode cX1_write 26 = .ok (.aload_n 3, 1) := dk_45 (dk_at dksX1_write_1 2 rfl rfl)
theorem dX1_write_27 : decode cX1_write 27 = .ok (.aload_n 0, 1) := dk_42 (dk_at dksX1_write_1 3 rfl rfl)
theorem dX1_write_28 : decode cX1_write 28 = .ok (.getfield 53, 3) := dk_180 0 53 (dk_at dksX1_write_1 4 rfl rfl)
theorem dX1_write_31 : decode cX1_write 31 = .ok (.invokevirtual 56, 3) := dk_182 0 56 (dk_at dksX1_write_1 7 rfl rfl)
theorem dX1_write_34 : decode cX1_write 34 = .ok (.putfield 53, 3) := dk_181 0 53 (dk_at dksX1_write_1 10 rfl rfl)
theorem dX1_write_37 : decode cX1_write 37 = .ok (.return_, 1) := dk_177 (dk_at dksX1_write_1 13 rfl rfl)
abbrev cX1_enroll : ByteArray := prog_1_method_18_code
def yX1_enroll : MethodName := ⟨RX1, "enroll", "(II)I"⟩
def dkwX1_enroll_0 : List UInt8 := [42, 27, 182, 0, 187, 78, 28, 184, 0, 191, 45, 28, 182, 0, 194, 172]
abbrev dktX1_enroll_0 : List UInt8 := dkwX1_enroll_0 ++ []
theorem dksX1_enroll_0 : cX1_enroll.data.toList.drop 0 = dktX1_enroll_0 := by decide +kernel
theorem dX1_enroll_0 : decode cX1_enroll 0 = .ok (.aload_n 0, 1) := dk_42 (dk_at dksX1_enroll_0 0 rfl rfl)
theorem dX1_enroll_1 : decode cX1_enroll 1 = .ok (.iload_n 1, 1) := dk_27 (dk_at dksX1_enroll_0 1 rfl rfl)
theorem dX1_enroll_2 : decode cX1_enroll 2 = .ok (.invokevirtual 187, 3) := dk_182 0 187 (dk_at dksX1_enroll_0 2 rfl rfl)
theorem dX1_enroll_5 : decode cX1_enroll 5 = .ok (.astore_n 3, 1) := dk_78 (dk_at dksX1_enroll_0 5 rfl rfl)
theorem dX1_enroll_6 : decode cX1_enroll 6 = .ok (.iload_n 2, 1) := dk_28 (dk_at dksX1_enroll_0 6 rfl rfl)
theorem dX1_enroll_7 : decode cX1_enroll 7 = .ok (.invokestatic 191, 3) := dk_184 0 191 (dk_at dksX1_enroll_0 7 rfl rfl)
theorem dX1_enroll_10 : decode cX1_enroll 10 = .ok (.aload_n 3, 1) := dk_45 (dk_at dksX1_enroll_0 10 rfl rfl)
theorem dX1_enroll_11 : decode cX1_enroll 11 = .ok (.iload_n 2, 1) := dk_28 (dk_at dksX1_enroll_0 11 rfl rfl)
theorem dX1_enroll_12 : decode cX1_enroll 12 = .ok (.invokevirtual 194, 3) := dk_182 0 194 (dk_at dksX1_enroll_0 12 rfl rfl)
theorem dX1_enroll_15 : decode cX1_enroll 15 = .ok (.ireturn, 1) := dk_172 (dk_at dksX1_enroll_0 15 rfl rfl)
abbrev cX1_personAt : ByteArray := prog_1_method_11_code
def yX1_personAt : MethodName := ⟨RX1, "personAt", "(I)LKeyringCourt$Person;"⟩
def dkwX1_personAt_0 : List UInt8 := [27, 16, 6, 184, 0, 158, 42, 180, 0, 67, 27, 50, 176]
abbrev dktX1_personAt_0 : List UInt8 := dkwX1_personAt_0 ++ []
theorem dksX1_personAt_0 : cX1_personAt.data.toList.drop 0 = dktX1_personAt_0 := by decide +kernel
theorem dX1_personAt_0 : decode cX1_personAt 0 = .ok (.iload_n 1, 1) := dk_27 (dk_at dksX1_personAt_0 0 rfl rfl)
theorem dX1_personAt_1 : decode cX1_personAt 1 = .ok (.bipush 6, 2) := dk_16 6 (dk_at dksX1_personAt_0 1 rfl rfl)
theorem dX1_personAt_3 : decode cX1_personAt 3 = .ok (.invokestatic 158, 3) := dk_184 0 158 (dk_at dksX1_personAt_0 3 rfl rfl)
theorem dX1_personAt_6 : decode cX1_personAt 6 = .ok (.aload_n 0, 1) := dk_42 (dk_at dksX1_personAt_0 6 rfl rfl)
theorem dX1_personAt_7 : decode cX1_personAt 7 = .ok (.getfield 67, 3) := dk_180 0 67 (dk_at dksX1_personAt_0 7 rfl rfl)
theorem dX1_personAt_10 : decode cX1_personAt 10 = .ok (.iload_n 1, 1) := dk_27 (dk_at dksX1_personAt_0 10 rfl rfl)
theorem dX1_personAt_11 : decode cX1_personAt 11 = .ok (.aaload, 1) := dk_50 (dk_at dksX1_personAt_0 11 rfl rfl)
theorem dX1_personAt_12 : decode cX1_personAt 12 = .ok (.areturn, 1) := dk_176 (dk_at dksX1_personAt_0 12 rfl rfl)
abbrev cX1_there : ByteArray := prog_1_method_8_code
def yX1_there : MethodName := ⟨RX1, "there", "(II)V"⟩
def dkwX1_there_0 : List UInt8 := [26, 155, 0, 8, 26, 27, 161, 0, 11, 187, 0, 152, 89, 183, 0, 154, 191, 177]
abbrev dktX1_there_0 : List UInt8 := dkwX1_there_0 ++ []
theorem dksX1_there_0 : cX1_there.data.toList.drop 0 = dktX1_there_0 := by decide +kernel
theorem dX1_there_0 : decode cX1_there 0 = .ok (.iload_n 0, 1) := dk_26 (dk_at dksX1_there_0 0 rfl rfl)
theorem dX1_there_1 : decode cX1_there 1 = .ok (.ifCond .lt 8, 3) := dk_155 0 8 (dk_at dksX1_there_0 1 rfl rfl)
theorem dX1_there_4 : decode cX1_there 4 = .ok (.iload_n 0, 1) := dk_26 (dk_at dksX1_there_0 4 rfl rfl)
theorem dX1_there_5 : decode cX1_there 5 = .ok (.iload_n 1, 1) := dk_27 (dk_at dksX1_there_0 5 rfl rfl)
theorem dX1_there_6 : decode cX1_there 6 = .ok (.if_icmp .lt 11, 3) := dk_161 0 11 (dk_at dksX1_there_0 6 rfl rfl)
theorem dX1_there_9 : decode cX1_there 9 = .ok (.new 152, 3) := dk_187 0 152 (dk_at dksX1_there_0 9 rfl rfl)
theorem dX1_there_12 : decode cX1_there 12 = .ok (.dup, 1) := dk_89 (dk_at dksX1_there_0 12 rfl rfl)
theorem dX1_there_13 : decode cX1_there 13 = .ok (.invokespecial 154, 3) := dk_183 0 154 (dk_at dksX1_there_0 13 rfl rfl)
theorem dX1_there_16 : decode cX1_there 16 = .ok (.athrow, 1) := dk_191 (dk_at dksX1_there_0 16 rfl rfl)
theorem dX1_there_17 : decode cX1_there 17 = .ok (.return_, 1) := dk_177 (dk_at dksX1_there_0 17 rfl rfl)
abbrev cX1_fitFactor : ByteArray := prog_1_method_13_code
def yX1_fitFactor : MethodName := ⟨RX1, "fitFactor", "(I)V"⟩
def dkwX1_fitFactor_0 : List UInt8 := [26, 3, 5, 184, 0, 149, 177]
abbrev dktX1_fitFactor_0 : List UInt8 := dkwX1_fitFactor_0 ++ []
theorem dksX1_fitFactor_0 : cX1_fitFactor.data.toList.drop 0 = dktX1_fitFactor_0 := by decide +kernel
theorem dX1_fitFactor_0 : decode cX1_fitFactor 0 = .ok (.iload_n 0, 1) := dk_26 (dk_at dksX1_fitFactor_0 0 rfl rfl)
theorem dX1_fitFactor_1 : decode cX1_fitFactor 1 = .ok (.iconst 0, 1) := dk_3 (dk_at dksX1_fitFactor_0 1 rfl rfl)
theorem dX1_fitFactor_2 : decode cX1_fitFactor 2 = .ok (.iconst 2, 1) := dk_5 (dk_at dksX1_fitFactor_0 2 rfl rfl)
theorem dX1_fitFactor_3 : decode cX1_fitFactor 3 = .ok (.invokestatic 149, 3) := dk_184 0 149 (dk_at dksX1_fitFactor_0 3 rfl rfl)
theorem dX1_fitFactor_6 : decode cX1_fitFactor 6 = .ok (.return_, 1) := dk_177 (dk_at dksX1_fitFactor_0 6 rfl rfl)
abbrev cX1_factor : ByteArray := prog_1_method_19_code
def yX1_factor : MethodName := ⟨RX1, "factor", "(II)I"⟩
def dkwX1_factor_0 : List UInt8 := [42, 27, 182, 0, 187, 78, 28, 184, 0, 191, 45, 180, 0, 197, 28, 46, 172]
abbrev dktX1_factor_0 : List UInt8 := dkwX1_factor_0 ++ []
theorem dksX1_factor_0 : cX1_factor.data.toList.drop 0 = dktX1_factor_0 := by decide +kernel
theorem dX1_factor_0 : decode cX1_factor 0 = .ok (.aload_n 0, 1) := dk_42 (dk_at dksX1_factor_0 0 rfl rfl)
theorem dX1_factor_1 : decode cX1_factor 1 = .ok (.iload_n 1, 1) := dk_27 (dk_at dksX1_factor_0 1 rfl rfl)
theorem dX1_factor_2 : decode cX1_factor 2 = .ok (.invokevirtual 187, 3) := dk_182 0 187 (dk_at dksX1_factor_0 2 rfl rfl)
theorem dX1_factor_5 : decode cX1_factor 5 = .ok (.astore_n 3, 1) := dk_78 (dk_at dksX1_factor_0 5 rfl rfl)
theorem dX1_factor_6 : decode cX1_factor 6 = .ok (.iload_n 2, 1) := dk_28 (dk_at dksX1_factor_0 6 rfl rfl)
theorem dX1_factor_7 : decode cX1_factor 7 = .ok (.invokestatic 191, 3) := dk_184 0 191 (dk_at dksX1_factor_0 7 rfl rfl)
theorem dX1_factor_10 : decode cX1_factor 10 = .ok (.aload_n 3, 1) := dk_45 (dk_at dksX1_factor_0 10 rfl rfl)
theorem dX1_factor_11 : decode cX1_factor 11 = .ok (.getfield 197, 3) := dk_180 0 197 (dk_at dksX1_factor_0 11 rfl rfl)
theorem dX1_factor_14 : decode cX1_factor 14 = .ok (.iload_n 2, 1) := dk_28 (dk_at dksX1_factor_0 14 rfl rfl)
theorem dX1_factor_15 : decode cX1_factor 15 = .ok (.iaload, 1) := dk_46 (dk_at dksX1_factor_0 15 rfl rfl)
theorem dX1_factor_16 : decode cX1_factor 16 = .ok (.ireturn, 1) := dk_172 (dk_at dksX1_factor_0 16 rfl rfl)
abbrev cX1_step : ByteArray := prog_1_method_21_code
def yX1_step : MethodName := ⟨RX1, "step", "(IIIII)I"⟩
def dkwX1_step_5 : List UInt8 := [180, 0, 74, 180, 0, 203, 185, 0, 9, 1, 0, 4, 100, 172]
abbrev dktX1_step_5 : List UInt8 := dkwX1_step_5 ++ []
def dkwX1_step_4 : List UInt8 := [180, 0, 203, 187, 0, 206, 89, 27, 28, 29, 21, 4, 21, 5, 183, 0, 208, 185, 0, 19, 2, 0, 87, 42]
abbrev dktX1_step_4 : List UInt8 := dkwX1_step_4 ++ dktX1_step_5
def dkwX1_step_3 : List UInt8 := [185, 0, 9, 1, 0, 16, 12, 162, 0, 7, 4, 167, 0, 4, 3, 184, 0, 176, 42, 180, 0, 74]
abbrev dktX1_step_3 : List UInt8 := dkwX1_step_3 ++ dktX1_step_4
def dkwX1_step_2 : List UInt8 := [16, 11, 184, 0, 149, 21, 5, 2, 16, 11, 184, 0, 149, 42, 180, 0, 74, 180, 0, 203]
abbrev dktX1_step_2 : List UInt8 := dkwX1_step_2 ++ dktX1_step_3
def dkwX1_step_1 : List UInt8 := [167, 0, 4, 3, 27, 154, 0, 7, 6, 167, 0, 4, 3, 184, 0, 149, 27, 8, 162, 0, 19, 21, 4, 2]
abbrev dktX1_step_1 : List UInt8 := dkwX1_step_1 ++ dktX1_step_2
def dkwX1_step_0 : List UInt8 := [27, 3, 16, 6, 184, 0, 149, 28, 3, 27, 184, 0, 200, 184, 0, 149, 29, 27, 154, 0, 7, 4]
abbrev dktX1_step_0 : List UInt8 := dkwX1_step_0 ++ dktX1_step_1
theorem dksX1_step_0 : cX1_step.data.toList.drop 0 = dktX1_step_0 := by decide +kernel
theorem dksX1_step_1 : cX1_step.data.toList.drop 22 = dktX1_step_1 := dk_seg dksX1_step_0 22 rfl rfl
theorem dksX1_step_2 : cX1_step.data.toList.drop 46 = dktX1_step_2 := dk_seg dksX1_step_1 24 rfl rfl
theorem dksX1_step_3 : cX1_step.data.toList.drop 66 = dktX1_step_3 := dk_seg dksX1_step_2 20 rfl rfl
theorem dksX1_step_4 : cX1_step.data.toList.drop 88 = dktX1_step_4 := dk_seg dksX1_step_3 22 rfl rfl
theorem dksX1_step_5 : cX1_step.data.toList.drop 112 = dktX1_step_5 := dk_seg dksX1_step_4 24 rfl rfl
theorem dX1_step_0 : decode cX1_step 0 = .ok (.iload_n 1, 1) := dk_27 (dk_at dksX1_step_0 0 rfl rfl)
theorem dX1_step_1 : decode cX1_step 1 = .ok (.iconst 0, 1) := dk_3 (dk_at dksX1_step_0 1 rfl rfl)
theorem dX1_step_2 : decode cX1_step 2 = .ok (.bipush 6, 2) := dk_16 6 (dk_at dksX1_step_0 2 rfl rfl)
theorem dX1_step_4 : decode cX1_step 4 = .ok (.invokestatic 149, 3) := dk_184 0 149 (dk_at dksX1_step_0 4 rfl rfl)
theorem dX1_step_7 : decode cX1_step 7 = .ok (.iload_n 2, 1) := dk_28 (dk_at dksX1_step_0 7 rfl rfl)
theorem dX1_step_8 : decode cX1_step 8 = .ok (.iconst 0, 1) := dk_3 (dk_at dksX1_step_0 8 rfl rfl)
theorem dX1_step_9 : decode cX1_step 9 = .ok (.iload_n 1, 1) := dk_27 (dk_at dksX1_step_0 9 rfl rfl)
theorem dX1_step_10 : decode cX1_step 10 = .ok (.invokestatic 200, 3) := dk_184 0 200 (dk_at dksX1_step_0 10 rfl rfl)
theorem dX1_step_13 : decode cX1_step 13 = .ok (.invokestatic 149, 3) := dk_184 0 149 (dk_at dksX1_step_0 13 rfl rfl)
theorem dX1_step_16 : decode cX1_step 16 = .ok (.iload_n 3, 1) := dk_29 (dk_at dksX1_step_0 16 rfl rfl)
theorem dX1_step_17 : decode cX1_step 17 = .ok (.iload_n 1, 1) := dk_27 (dk_at dksX1_step_0 17 rfl rfl)
theorem dX1_step_18 : decode cX1_step 18 = .ok (.ifCond .ne 7, 3) := dk_154 0 7 (dk_at dksX1_step_0 18 rfl rfl)
theorem dX1_step_21 : decode cX1_step 21 = .ok (.iconst 1, 1) := dk_4 (dk_at dksX1_step_0 21 rfl rfl)
theorem dX1_step_22 : decode cX1_step 22 = .ok (.goto 4, 3) := dk_167 0 4 (dk_at dksX1_step_1 0 rfl rfl)
theorem dX1_step_25 : decode cX1_step 25 = .ok (.iconst 0, 1) := dk_3 (dk_at dksX1_step_1 3 rfl rfl)
theorem dX1_step_26 : decode cX1_step 26 = .ok (.iload_n 1, 1) := dk_27 (dk_at dksX1_step_1 4 rfl rfl)
theorem dX1_step_27 : decode cX1_step 27 = .ok (.ifCond .ne 7, 3) := dk_154 0 7 (dk_at dksX1_step_1 5 rfl rfl)
theorem dX1_step_30 : decode cX1_step 30 = .ok (.iconst 3, 1) := dk_6 (dk_at dksX1_step_1 8 rfl rfl)
theorem dX1_step_31 : decode cX1_step 31 = .ok (.goto 4, 3) := dk_167 0 4 (dk_at dksX1_step_1 9 rfl rfl)
theorem dX1_step_34 : decode cX1_step 34 = .ok (.iconst 0, 1) := dk_3 (dk_at dksX1_step_1 12 rfl rfl)
theorem dX1_step_35 : decode cX1_step 35 = .ok (.invokestatic 149, 3) := dk_184 0 149 (dk_at dksX1_step_1 13 rfl rfl)
theorem dX1_step_38 : decode cX1_step 38 = .ok (.iload_n 1, 1) := dk_27 (dk_at dksX1_step_1 16 rfl rfl)
theorem dX1_step_39 : decode cX1_step 39 = .ok (.iconst 5, 1) := dk_8 (dk_at dksX1_step_1 17 rfl rfl)
theorem dX1_step_40 : decode cX1_step 40 = .ok (.if_icmp .ge 19, 3) := dk_162 0 19 (dk_at dksX1_step_1 18 rfl rfl)
theorem dX1_step_43 : decode cX1_step 43 = .ok (.iload 4, 2) := dk_21 4 (dk_at dksX1_step_1 21 rfl rfl)
theorem dX1_step_45 : decode cX1_step 45 = .ok (.iconst (-1), 1) := dk_2 (dk_at dksX1_step_1 23 rfl rfl)
theorem dX1_step_46 : decode cX1_step 46 = .ok (.bipush 11, 2) := dk_16 11 (dk_at dksX1_step_2 0 rfl rfl)
theorem dX1_step_48 : decode cX1_step 48 = .ok (.invokestatic 149, 3) := dk_184 0 149 (dk_at dksX1_step_2 2 rfl rfl)
theorem dX1_step_51 : decode cX1_step 51 = .ok (.iload 5, 2) := dk_21 5 (dk_at dksX1_step_2 5 rfl rfl)
theorem dX1_step_53 : decode cX1_step 53 = .ok (.iconst (-1), 1) := dk_2 (dk_at dksX1_step_2 7 rfl rfl)
theorem dX1_step_54 : decode cX1_step 54 = .ok (.bipush 11, 2) := dk_16 11 (dk_at dksX1_step_2 8 rfl rfl)
theorem dX1_step_56 : decode cX1_step 56 = .ok (.invokestatic 149, 3) := dk_184 0 149 (dk_at dksX1_step_2 10 rfl rfl)
theorem dX1_step_59 : decode cX1_step 59 = .ok (.aload_n 0, 1) := dk_42 (dk_at dksX1_step_2 13 rfl rfl)
theorem dX1_step_60 : decode cX1_step 60 = .ok (.getfield 74, 3) := dk_180 0 74 (dk_at dksX1_step_2 14 rfl rfl)
theorem dX1_step_63 : decode cX1_step 63 = .ok (.getfield 203, 3) := dk_180 0 203 (dk_at dksX1_step_2 17 rfl rfl)
theorem dX1_step_66 : decode cX1_step 66 = .ok (.invokeinterface 9 1, 5) := by decide +kernel
theorem dX1_step_71 : decode cX1_step 71 = .ok (.bipush 12, 2) := dk_16 12 (dk_at dksX1_step_3 5 rfl rfl)
theorem dX1_step_73 : decode cX1_step 73 = .ok (.if_icmp .ge 7, 3) := dk_162 0 7 (dk_at dksX1_step_3 7 rfl rfl)
theorem dX1_step_76 : decode cX1_step 76 = .ok (.iconst 1, 1) := dk_4 (dk_at dksX1_step_3 10 rfl rfl)
theorem dX1_step_77 : decode cX1_step 77 = .ok (.goto 4, 3) := dk_167 0 4 (dk_at dksX1_step_3 11 rfl rfl)
theorem dX1_step_80 : decode cX1_step 80 = .ok (.iconst 0, 1) := dk_3 (dk_at dksX1_step_3 14 rfl rfl)
theorem dX1_step_81 : decode cX1_step 81 = .ok (.invokestatic 176, 3) := dk_184 0 176 (dk_at dksX1_step_3 15 rfl rfl)
theorem dX1_step_84 : decode cX1_step 84 = .ok (.aload_n 0, 1) := dk_42 (dk_at dksX1_step_3 18 rfl rfl)
theorem dX1_step_85 : decode cX1_step 85 = .ok (.getfield 74, 3) := dk_180 0 74 (dk_at dksX1_step_3 19 rfl rfl)
theorem dX1_step_88 : decode cX1_step 88 = .ok (.getfield 203, 3) := dk_180 0 203 (dk_at dksX1_step_4 0 rfl rfl)
theorem dX1_step_91 : decode cX1_step 91 = .ok (.new 206, 3) := dk_187 0 206 (dk_at dksX1_step_4 3 rfl rfl)
theorem dX1_step_94 : decode cX1_step 94 = .ok (.dup, 1) := dk_89 (dk_at dksX1_step_4 6 rfl rfl)
theorem dX1_step_95 : decode cX1_step 95 = .ok (.iload_n 1, 1) := dk_27 (dk_at dksX1_step_4 7 rfl rfl)
theorem dX1_step_96 : decode cX1_step 96 = .ok (.iload_n 2, 1) := dk_28 (dk_at dksX1_step_4 8 rfl rfl)
theorem dX1_step_97 : decode cX1_step 97 = .ok (.iload_n 3, 1) := dk_29 (dk_at dksX1_step_4 9 rfl rfl)
theorem dX1_step_98 : decode cX1_step 98 = .ok (.iload 4, 2) := dk_21 4 (dk_at dksX1_step_4 10 rfl rfl)
theorem dX1_step_100 : decode cX1_step 100 = .ok (.iload 5, 2) := dk_21 5 (dk_at dksX1_step_4 12 rfl rfl)
theorem dX1_step_102 : decode cX1_step 102 = .ok (.invokespecial 208, 3) := dk_183 0 208 (dk_at dksX1_step_4 14 rfl rfl)
theorem dX1_step_105 : decode cX1_step 105 = .ok (.invokeinterface 19 2, 5) := by decide +kernel
theorem dX1_step_110 : decode cX1_step 110 = .ok (.pop, 1) := dk_87 (dk_at dksX1_step_4 22 rfl rfl)
theorem dX1_step_111 : decode cX1_step 111 = .ok (.aload_n 0, 1) := dk_42 (dk_at dksX1_step_4 23 rfl rfl)
theorem dX1_step_112 : decode cX1_step 112 = .ok (.getfield 74, 3) := dk_180 0 74 (dk_at dksX1_step_5 0 rfl rfl)
theorem dX1_step_115 : decode cX1_step 115 = .ok (.getfield 203, 3) := dk_180 0 203 (dk_at dksX1_step_5 3 rfl rfl)
theorem dX1_step_118 : decode cX1_step 118 = .ok (.invokeinterface 9 1, 5) := by decide +kernel
theorem dX1_step_123 : decode cX1_step 123 = .ok (.iconst 1, 1) := dk_4 (dk_at dksX1_step_5 11 rfl rfl)
theorem dX1_step_124 : decode cX1_step 124 = .ok (.isub, 1) := dk_100 (dk_at dksX1_step_5 12 rfl rfl)
theorem dX1_step_125 : decode cX1_step 125 = .ok (.ireturn, 1) := dk_172 (dk_at dksX1_step_5 13 rfl rfl)
abbrev cX1_mostFor : ByteArray := prog_1_method_20_code
def yX1_mostFor : MethodName := ⟨RX1, "mostFor", "(I)I"⟩
def dkwX1_mostFor_2 : List UInt8 := [5, 172, 16, 20, 172, 16, 6, 172, 3, 172]
abbrev dktX1_mostFor_2 : List UInt8 := dkwX1_mostFor_2 ++ []
def dkwX1_mostFor_1 : List UInt8 := [170, 0, 0, 0, 0, 0, 43, 0, 0, 0, 0, 0, 0, 0, 4, 0, 0, 0, 35, 0, 0, 0, 43, 0, 0, 0, 37, 0, 0, 0, 35, 0, 0, 0, 40]
abbrev dktX1_mostFor_1 : List UInt8 := dkwX1_mostFor_1 ++ dktX1_mostFor_2
def dkwX1_mostFor_0 : List UInt8 := [26]
abbrev dktX1_mostFor_0 : List UInt8 := dkwX1_mostFor_0 ++ dktX1_mostFor_1
theorem dksX1_mostFor_0 : cX1_mostFor.data.toList.drop 0 = dktX1_mostFor_0 := by decide +kernel
theorem dksX1_mostFor_1 : cX1_mostFor.data.toList.drop 1 = dktX1_mostFor_1 := dk_seg dksX1_mostFor_0 1 rfl rfl
theorem dksX1_mostFor_2 : cX1_mostFor.data.toList.drop 36 = dktX1_mostFor_2 := dk_seg dksX1_mostFor_1 35 rfl rfl
theorem dX1_mostFor_0 : decode cX1_mostFor 0 = .ok (.iload_n 0, 1) := dk_26 (dk_at dksX1_mostFor_0 0 rfl rfl)
theorem dX1_mostFor_1 : decode cX1_mostFor 1 = .ok (.tableswitch 43 0 4 #[35, 43, 37, 35, 40], 35) := by decide +kernel
theorem dX1_mostFor_36 : decode cX1_mostFor 36 = .ok (.iconst 2, 1) := dk_5 (dk_at dksX1_mostFor_2 0 rfl rfl)
theorem dX1_mostFor_37 : decode cX1_mostFor 37 = .ok (.ireturn, 1) := dk_172 (dk_at dksX1_mostFor_2 1 rfl rfl)
theorem dX1_mostFor_38 : decode cX1_mostFor 38 = .ok (.bipush 20, 2) := dk_16 20 (dk_at dksX1_mostFor_2 2 rfl rfl)
theorem dX1_mostFor_40 : decode cX1_mostFor 40 = .ok (.ireturn, 1) := dk_172 (dk_at dksX1_mostFor_2 4 rfl rfl)
theorem dX1_mostFor_41 : decode cX1_mostFor 41 = .ok (.bipush 6, 2) := dk_16 6 (dk_at dksX1_mostFor_2 5 rfl rfl)
theorem dX1_mostFor_43 : decode cX1_mostFor 43 = .ok (.ireturn, 1) := dk_172 (dk_at dksX1_mostFor_2 7 rfl rfl)
theorem dX1_mostFor_44 : decode cX1_mostFor 44 = .ok (.iconst 0, 1) := dk_3 (dk_at dksX1_mostFor_2 8 rfl rfl)
theorem dX1_mostFor_45 : decode cX1_mostFor 45 = .ok (.ireturn, 1) := dk_172 (dk_at dksX1_mostFor_2 9 rfl rfl)
abbrev cX1_publish : ByteArray := prog_1_method_23_code
def yX1_publish : MethodName := ⟨RX1, "publish", "()I"⟩
def dkwX1_publish_2 : List UInt8 := [187, 0, 71, 89, 183, 0, 73, 181, 0, 74, 42, 180, 0, 83, 185, 0, 9, 1, 0, 4, 100, 172]
abbrev dktX1_publish_2 : List UInt8 := dkwX1_publish_2 ++ []
def dkwX1_publish_1 : List UInt8 := [4, 167, 0, 4, 3, 184, 0, 176, 42, 180, 0, 83, 42, 180, 0, 74, 185, 0, 19, 2, 0, 87, 42]
abbrev dktX1_publish_1 : List UInt8 := dkwX1_publish_1 ++ dktX1_publish_2
def dkwX1_publish_0 : List UInt8 := [42, 180, 0, 74, 182, 0, 211, 153, 0, 21, 42, 180, 0, 83, 185, 0, 9, 1, 0, 16, 8, 162, 0, 7]
abbrev dktX1_publish_0 : List UInt8 := dkwX1_publish_0 ++ dktX1_publish_1
theorem dksX1_publish_0 : cX1_publish.data.toList.drop 0 = dktX1_publish_0 := by decide +kernel
theorem dksX1_publish_1 : cX1_publish.data.toList.drop 24 = dktX1_publish_1 := dk_seg dksX1_publish_0 24 rfl rfl
theorem dksX1_publish_2 : cX1_publish.data.toList.drop 47 = dktX1_publish_2 := dk_seg dksX1_publish_1 23 rfl rfl
theorem dX1_publish_0 : decode cX1_publish 0 = .ok (.aload_n 0, 1) := dk_42 (dk_at dksX1_publish_0 0 rfl rfl)
theorem dX1_publish_1 : decode cX1_publish 1 = .ok (.getfield 74, 3) := dk_180 0 74 (dk_at dksX1_publish_0 1 rfl rfl)
theorem dX1_publish_4 : decode cX1_publish 4 = .ok (.invokevirtual 211, 3) := dk_182 0 211 (dk_at dksX1_publish_0 4 rfl rfl)
theorem dX1_publish_7 : decode cX1_publish 7 = .ok (.ifCond .eq 21, 3) := dk_153 0 21 (dk_at dksX1_publish_0 7 rfl rfl)
theorem dX1_publish_10 : decode cX1_publish 10 = .ok (.aload_n 0, 1) := dk_42 (dk_at dksX1_publish_0 10 rfl rfl)
theorem dX1_publish_11 : decode cX1_publish 11 = .ok (.getfield 83, 3) := dk_180 0 83 (dk_at dksX1_publish_0 11 rfl rfl)
theorem dX1_publish_14 : decode cX1_publish 14 = .ok (.invokeinterface 9 1, 5) := by decide +kernel
theorem dX1_publish_19 : decode cX1_publish 19 = .ok (.bipush 8, 2) := dk_16 8 (dk_at dksX1_publish_0 19 rfl rfl)
theorem dX1_publish_21 : decode cX1_publish 21 = .ok (.if_icmp .ge 7, 3) := dk_162 0 7 (dk_at dksX1_publish_0 21 rfl rfl)
theorem dX1_publish_24 : decode cX1_publish 24 = .ok (.iconst 1, 1) := dk_4 (dk_at dksX1_publish_1 0 rfl rfl)
theorem dX1_publish_25 : decode cX1_publish 25 = .ok (.goto 4, 3) := dk_167 0 4 (dk_at dksX1_publish_1 1 rfl rfl)
theorem dX1_publish_28 : decode cX1_publish 28 = .ok (.iconst 0, 1) := dk_3 (dk_at dksX1_publish_1 4 rfl rfl)
theorem dX1_publish_29 : decode cX1_publish 29 = .ok (.invokestatic 176, 3) := dk_184 0 176 (dk_at dksX1_publish_1 5 rfl rfl)
theorem dX1_publish_32 : decode cX1_publish 32 = .ok (.aload_n 0, 1) := dk_42 (dk_at dksX1_publish_1 8 rfl rfl)
theorem dX1_publish_33 : decode cX1_publish 33 = .ok (.getfield 83, 3) := dk_180 0 83 (dk_at dksX1_publish_1 9 rfl rfl)
theorem dX1_publish_36 : decode cX1_publish 36 = .ok (.aload_n 0, 1) := dk_42 (dk_at dksX1_publish_1 12 rfl rfl)
theorem dX1_publish_37 : decode cX1_publish 37 = .ok (.getfield 74, 3) := dk_180 0 74 (dk_at dksX1_publish_1 13 rfl rfl)
theorem dX1_publish_40 : decode cX1_publish 40 = .ok (.invokeinterface 19 2, 5) := by decide +kernel
theorem dX1_publish_45 : decode cX1_publish 45 = .ok (.pop, 1) := dk_87 (dk_at dksX1_publish_1 21 rfl rfl)
theorem dX1_publish_46 : decode cX1_publish 46 = .ok (.aload_n 0, 1) := dk_42 (dk_at dksX1_publish_1 22 rfl rfl)
theorem dX1_publish_47 : decode cX1_publish 47 = .ok (.new 71, 3) := dk_187 0 71 (dk_at dksX1_publish_2 0 rfl rfl)
theorem dX1_publish_50 : decode cX1_publish 50 = .ok (.dup, 1) := dk_89 (dk_at dksX1_publish_2 3 rfl rfl)
theorem dX1_publish_51 : decode cX1_publish 51 = .ok (.invokespecial 73, 3) := dk_183 0 73 (dk_at dksX1_publish_2 4 rfl rfl)
theorem dX1_publish_54 : decode cX1_publish 54 = .ok (.putfield 74, 3) := dk_181 0 74 (dk_at dksX1_publish_2 7 rfl rfl)
theorem dX1_publish_57 : decode cX1_publish 57 = .ok (.aload_n 0, 1) := dk_42 (dk_at dksX1_publish_2 10 rfl rfl)
theorem dX1_publish_58 : decode cX1_publish 58 = .ok (.getfield 83, 3) := dk_180 0 83 (dk_at dksX1_publish_2 11 rfl rfl)
theorem dX1_publish_61 : decode cX1_publish 61 = .ok (.invokeinterface 9 1, 5) := by decide +kernel
theorem dX1_publish_66 : decode cX1_publish 66 = .ok (.iconst 1, 1) := dk_4 (dk_at dksX1_publish_2 19 rfl rfl)
theorem dX1_publish_67 : decode cX1_publish 67 = .ok (.isub, 1) := dk_100 (dk_at dksX1_publish_2 20 rfl rfl)
theorem dX1_publish_68 : decode cX1_publish 68 = .ok (.ireturn, 1) := dk_172 (dk_at dksX1_publish_2 21 rfl rfl)
abbrev cX1_weakest : ByteArray := prog_1_method_24_code
def yX1_weakest : MethodName := ⟨RX1, "weakest", "(I)I"⟩
def dkwX1_weakest_0 : List UInt8 := [42, 180, 0, 83, 27, 184, 0, 214, 192, 0, 71, 182, 0, 218, 172]
abbrev dktX1_weakest_0 : List UInt8 := dkwX1_weakest_0 ++ []
theorem dksX1_weakest_0 : cX1_weakest.data.toList.drop 0 = dktX1_weakest_0 := by decide +kernel
theorem dX1_weakest_0 : decode cX1_weakest 0 = .ok (.aload_n 0, 1) := dk_42 (dk_at dksX1_weakest_0 0 rfl rfl)
theorem dX1_weakest_1 : decode cX1_weakest 1 = .ok (.getfield 83, 3) := dk_180 0 83 (dk_at dksX1_weakest_0 1 rfl rfl)
theorem dX1_weakest_4 : decode cX1_weakest 4 = .ok (.iload_n 1, 1) := dk_27 (dk_at dksX1_weakest_0 4 rfl rfl)
theorem dX1_weakest_5 : decode cX1_weakest 5 = .ok (.invokestatic 214, 3) := dk_184 0 214 (dk_at dksX1_weakest_0 5 rfl rfl)
theorem dX1_weakest_8 : decode cX1_weakest 8 = .ok (.checkcast 71, 3) := dk_192 0 71 (dk_at dksX1_weakest_0 8 rfl rfl)
theorem dX1_weakest_11 : decode cX1_weakest 11 = .ok (.invokevirtual 218, 3) := dk_182 0 218 (dk_at dksX1_weakest_0 11 rfl rfl)
theorem dX1_weakest_14 : decode cX1_weakest 14 = .ok (.ireturn, 1) := dk_172 (dk_at dksX1_weakest_0 14 rfl rfl)
abbrev cX1_at : ByteArray := prog_1_method_10_code
def yX1_at : MethodName := ⟨RX1, "at", "(Ljava/util/List;I)Ljava/lang/Object;"⟩
def dkwX1_at_0 : List UInt8 := [27, 42, 185, 0, 9, 1, 0, 184, 0, 158, 42, 27, 185, 0, 31, 2, 0, 176]
abbrev dktX1_at_0 : List UInt8 := dkwX1_at_0 ++ []
theorem dksX1_at_0 : cX1_at.data.toList.drop 0 = dktX1_at_0 := by decide +kernel
theorem dX1_at_0 : decode cX1_at 0 = .ok (.iload_n 1, 1) := dk_27 (dk_at dksX1_at_0 0 rfl rfl)
theorem dX1_at_1 : decode cX1_at 1 = .ok (.aload_n 0, 1) := dk_42 (dk_at dksX1_at_0 1 rfl rfl)
theorem dX1_at_2 : decode cX1_at 2 = .ok (.invokeinterface 9 1, 5) := by decide +kernel
theorem dX1_at_7 : decode cX1_at 7 = .ok (.invokestatic 158, 3) := dk_184 0 158 (dk_at dksX1_at_0 7 rfl rfl)
theorem dX1_at_10 : decode cX1_at 10 = .ok (.aload_n 0, 1) := dk_42 (dk_at dksX1_at_0 10 rfl rfl)
theorem dX1_at_11 : decode cX1_at 11 = .ok (.iload_n 1, 1) := dk_27 (dk_at dksX1_at_0 11 rfl rfl)
theorem dX1_at_12 : decode cX1_at 12 = .ok (.invokeinterface 31 2, 5) := by decide +kernel
theorem dX1_at_17 : decode cX1_at 17 = .ok (.areturn, 1) := dk_176 (dk_at dksX1_at_0 17 rfl rfl)
abbrev cX1_levelOf : ByteArray := prog_1_method_1_code
def yX1_levelOf : MethodName := ⟨RX1, "levelOf", "(I)I"⟩
def dkwX1_levelOf_1 : List UInt8 := [167, 0, 4, 3, 96, 60, 132, 2, 1, 167, 255, 229, 27, 172]
abbrev dktX1_levelOf_1 : List UInt8 := dkwX1_levelOf_1 ++ []
def dkwX1_levelOf_0 : List UInt8 := [3, 60, 3, 61, 28, 6, 162, 0, 28, 27, 26, 28, 122, 4, 126, 4, 160, 0, 9, 28, 4, 96]
abbrev dktX1_levelOf_0 : List UInt8 := dkwX1_levelOf_0 ++ dktX1_levelOf_1
theorem dksX1_levelOf_0 : cX1_levelOf.data.toList.drop 0 = dktX1_levelOf_0 := by decide +kernel
theorem dksX1_levelOf_1 : cX1_levelOf.data.toList.drop 22 = dktX1_levelOf_1 := dk_seg dksX1_levelOf_0 22 rfl rfl
theorem dX1_levelOf_0 : decode cX1_levelOf 0 = .ok (.iconst 0, 1) := dk_3 (dk_at dksX1_levelOf_0 0 rfl rfl)
theorem dX1_levelOf_1 : decode cX1_levelOf 1 = .ok (.istore_n 1, 1) := dk_60 (dk_at dksX1_levelOf_0 1 rfl rfl)
theorem dX1_levelOf_2 : decode cX1_levelOf 2 = .ok (.iconst 0, 1) := dk_3 (dk_at dksX1_levelOf_0 2 rfl rfl)
theorem dX1_levelOf_3 : decode cX1_levelOf 3 = .ok (.istore_n 2, 1) := dk_61 (dk_at dksX1_levelOf_0 3 rfl rfl)
theorem dX1_levelOf_4 : decode cX1_levelOf 4 = .ok (.iload_n 2, 1) := dk_28 (dk_at dksX1_levelOf_0 4 rfl rfl)
theorem dX1_levelOf_5 : decode cX1_levelOf 5 = .ok (.iconst 3, 1) := dk_6 (dk_at dksX1_levelOf_0 5 rfl rfl)
theorem dX1_levelOf_6 : decode cX1_levelOf 6 = .ok (.if_icmp .ge 28, 3) := dk_162 0 28 (dk_at dksX1_levelOf_0 6 rfl rfl)
theorem dX1_levelOf_9 : decode cX1_levelOf 9 = .ok (.iload_n 1, 1) := dk_27 (dk_at dksX1_levelOf_0 9 rfl rfl)
theorem dX1_levelOf_10 : decode cX1_levelOf 10 = .ok (.iload_n 0, 1) := dk_26 (dk_at dksX1_levelOf_0 10 rfl rfl)
theorem dX1_levelOf_11 : decode cX1_levelOf 11 = .ok (.iload_n 2, 1) := dk_28 (dk_at dksX1_levelOf_0 11 rfl rfl)
theorem dX1_levelOf_12 : decode cX1_levelOf 12 = .ok (.ishr, 1) := dk_122 (dk_at dksX1_levelOf_0 12 rfl rfl)
theorem dX1_levelOf_13 : decode cX1_levelOf 13 = .ok (.iconst 1, 1) := dk_4 (dk_at dksX1_levelOf_0 13 rfl rfl)
theorem dX1_levelOf_14 : decode cX1_levelOf 14 = .ok (.iand, 1) := dk_126 (dk_at dksX1_levelOf_0 14 rfl rfl)
theorem dX1_levelOf_15 : decode cX1_levelOf 15 = .ok (.iconst 1, 1) := dk_4 (dk_at dksX1_levelOf_0 15 rfl rfl)
theorem dX1_levelOf_16 : decode cX1_levelOf 16 = .ok (.if_icmp .ne 9, 3) := dk_160 0 9 (dk_at dksX1_levelOf_0 16 rfl rfl)
theorem dX1_levelOf_19 : decode cX1_levelOf 19 = .ok (.iload_n 2, 1) := dk_28 (dk_at dksX1_levelOf_0 19 rfl rfl)
theorem dX1_levelOf_20 : decode cX1_levelOf 20 = .ok (.iconst 1, 1) := dk_4 (dk_at dksX1_levelOf_0 20 rfl rfl)
theorem dX1_levelOf_21 : decode cX1_levelOf 21 = .ok (.iadd, 1) := dk_96 (dk_at dksX1_levelOf_0 21 rfl rfl)
theorem dX1_levelOf_22 : decode cX1_levelOf 22 = .ok (.goto 4, 3) := dk_167 0 4 (dk_at dksX1_levelOf_1 0 rfl rfl)
theorem dX1_levelOf_25 : decode cX1_levelOf 25 = .ok (.iconst 0, 1) := dk_3 (dk_at dksX1_levelOf_1 3 rfl rfl)
theorem dX1_levelOf_26 : decode cX1_levelOf 26 = .ok (.iadd, 1) := dk_96 (dk_at dksX1_levelOf_1 4 rfl rfl)
theorem dX1_levelOf_27 : decode cX1_levelOf 27 = .ok (.istore_n 1, 1) := dk_60 (dk_at dksX1_levelOf_1 5 rfl rfl)
theorem dX1_levelOf_28 : decode cX1_levelOf 28 = .ok (.iinc 2 1, 3) := dk_132 2 1 (dk_at dksX1_levelOf_1 6 rfl rfl)
theorem dX1_levelOf_31 : decode cX1_levelOf 31 = .ok (.goto (-27), 3) := dk_167 255 229 (dk_at dksX1_levelOf_1 9 rfl rfl)
theorem dX1_levelOf_34 : decode cX1_levelOf 34 = .ok (.iload_n 1, 1) := dk_27 (dk_at dksX1_levelOf_1 12 rfl rfl)
theorem dX1_levelOf_35 : decode cX1_levelOf 35 = .ok (.ireturn, 1) := dk_172 (dk_at dksX1_levelOf_1 13 rfl rfl)
abbrev cX1_points : ByteArray := prog_1_method_25_code
def yX1_points : MethodName := ⟨RX1, "points", "(IIZ)I"⟩
def dkwX1_points_2 : List UInt8 := [21, 5, 172]
abbrev dktX1_points_2 : List UInt8 := dkwX1_points_2 ++ []
def dkwX1_points_1 : List UInt8 := [42, 180, 0, 118, 167, 0, 7, 42, 180, 0, 115, 58, 4, 25, 4, 27, 46, 54, 5, 25, 4, 27, 28, 79]
abbrev dktX1_points_1 : List UInt8 := dkwX1_points_1 ++ dktX1_points_2
def dkwX1_points_0 : List UInt8 := [27, 3, 5, 184, 0, 149, 28, 29, 153, 0, 7, 2, 167, 0, 4, 3, 8, 184, 0, 149, 29, 153, 0, 10]
abbrev dktX1_points_0 : List UInt8 := dkwX1_points_0 ++ dktX1_points_1
theorem dksX1_points_0 : cX1_points.data.toList.drop 0 = dktX1_points_0 := by decide +kernel
theorem dksX1_points_1 : cX1_points.data.toList.drop 24 = dktX1_points_1 := dk_seg dksX1_points_0 24 rfl rfl
theorem dksX1_points_2 : cX1_points.data.toList.drop 48 = dktX1_points_2 := dk_seg dksX1_points_1 24 rfl rfl
theorem dX1_points_0 : decode cX1_points 0 = .ok (.iload_n 1, 1) := dk_27 (dk_at dksX1_points_0 0 rfl rfl)
theorem dX1_points_1 : decode cX1_points 1 = .ok (.iconst 0, 1) := dk_3 (dk_at dksX1_points_0 1 rfl rfl)
theorem dX1_points_2 : decode cX1_points 2 = .ok (.iconst 2, 1) := dk_5 (dk_at dksX1_points_0 2 rfl rfl)
theorem dX1_points_3 : decode cX1_points 3 = .ok (.invokestatic 149, 3) := dk_184 0 149 (dk_at dksX1_points_0 3 rfl rfl)
theorem dX1_points_6 : decode cX1_points 6 = .ok (.iload_n 2, 1) := dk_28 (dk_at dksX1_points_0 6 rfl rfl)
theorem dX1_points_7 : decode cX1_points 7 = .ok (.iload_n 3, 1) := dk_29 (dk_at dksX1_points_0 7 rfl rfl)
theorem dX1_points_8 : decode cX1_points 8 = .ok (.ifCond .eq 7, 3) := dk_153 0 7 (dk_at dksX1_points_0 8 rfl rfl)
theorem dX1_points_11 : decode cX1_points 11 = .ok (.iconst (-1), 1) := dk_2 (dk_at dksX1_points_0 11 rfl rfl)
theorem dX1_points_12 : decode cX1_points 12 = .ok (.goto 4, 3) := dk_167 0 4 (dk_at dksX1_points_0 12 rfl rfl)
theorem dX1_points_15 : decode cX1_points 15 = .ok (.iconst 0, 1) := dk_3 (dk_at dksX1_points_0 15 rfl rfl)
theorem dX1_points_16 : decode cX1_points 16 = .ok (.iconst 5, 1) := dk_8 (dk_at dksX1_points_0 16 rfl rfl)
theorem dX1_points_17 : decode cX1_points 17 = .ok (.invokestatic 149, 3) := dk_184 0 149 (dk_at dksX1_points_0 17 rfl rfl)
theorem dX1_points_20 : decode cX1_points 20 = .ok (.iload_n 3, 1) := dk_29 (dk_at dksX1_points_0 20 rfl rfl)
theorem dX1_points_21 : decode cX1_points 21 = .ok (.ifCond .eq 10, 3) := dk_153 0 10 (dk_at dksX1_points_0 21 rfl rfl)
theorem dX1_points_24 : decode cX1_points 24 = .ok (.aload_n 0, 1) := dk_42 (dk_at dksX1_points_1 0 rfl rfl)
theorem dX1_points_25 : decode cX1_points 25 = .ok (.getfield 118, 3) := dk_180 0 118 (dk_at dksX1_points_1 1 rfl rfl)
theorem dX1_points_28 : decode cX1_points 28 = .ok (.goto 7, 3) := dk_167 0 7 (dk_at dksX1_points_1 4 rfl rfl)
theorem dX1_points_31 : decode cX1_points 31 = .ok (.aload_n 0, 1) := dk_42 (dk_at dksX1_points_1 7 rfl rfl)
theorem dX1_points_32 : decode cX1_points 32 = .ok (.getfield 115, 3) := dk_180 0 115 (dk_at dksX1_points_1 8 rfl rfl)
theorem dX1_points_35 : decode cX1_points 35 = .ok (.astore 4, 2) := dk_58 4 (dk_at dksX1_points_1 11 rfl rfl)
theorem dX1_points_37 : decode cX1_points 37 = .ok (.aload 4, 2) := dk_25 4 (dk_at dksX1_points_1 13 rfl rfl)
theorem dX1_points_39 : decode cX1_points 39 = .ok (.iload_n 1, 1) := dk_27 (dk_at dksX1_points_1 15 rfl rfl)
theorem dX1_points_40 : decode cX1_points 40 = .ok (.iaload, 1) := dk_46 (dk_at dksX1_points_1 16 rfl rfl)
theorem dX1_points_41 : decode cX1_points 41 = .ok (.istore 5, 2) := dk_54 5 (dk_at dksX1_points_1 17 rfl rfl)
theorem dX1_points_43 : decode cX1_points 43 = .ok (.aload 4, 2) := dk_25 4 (dk_at dksX1_points_1 19 rfl rfl)
theorem dX1_points_45 : decode cX1_points 45 = .ok (.iload_n 1, 1) := dk_27 (dk_at dksX1_points_1 21 rfl rfl)
theorem dX1_points_46 : decode cX1_points 46 = .ok (.iload_n 2, 1) := dk_28 (dk_at dksX1_points_1 22 rfl rfl)
theorem dX1_points_47 : decode cX1_points 47 = .ok (.iastore, 1) := dk_79 (dk_at dksX1_points_1 23 rfl rfl)
theorem dX1_points_48 : decode cX1_points 48 = .ok (.iload 5, 2) := dk_21 5 (dk_at dksX1_points_2 0 rfl rfl)
theorem dX1_points_50 : decode cX1_points 50 = .ok (.ireturn, 1) := dk_172 (dk_at dksX1_points_2 2 rfl rfl)
abbrev cX1_begin : ByteArray := prog_1_method_26_code
def yX1_begin : MethodName := ⟨RX1, "begin", "(III)I"⟩
def dkwX1_begin_5 : List UInt8 := [185, 0, 9, 1, 0, 4, 100, 172]
abbrev dktX1_begin_5 : List UInt8 := dkwX1_begin_5 ++ []
def dkwX1_begin_4 : List UInt8 := [185, 0, 31, 2, 0, 192, 0, 71, 183, 0, 230, 185, 0, 19, 2, 0, 87, 42, 180, 0, 87]
abbrev dktX1_begin_4 : List UInt8 := dkwX1_begin_4 ++ dktX1_begin_5
def dkwX1_begin_3 : List UInt8 := [187, 0, 228, 89, 42, 25, 4, 28, 29, 42, 180, 0, 83, 42, 180, 0, 83, 185, 0, 9, 1, 0, 4, 100]
abbrev dktX1_begin_3 : List UInt8 := dkwX1_begin_3 ++ dktX1_begin_4
def dkwX1_begin_2 : List UInt8 := [185, 0, 9, 1, 0, 16, 60, 162, 0, 7, 4, 167, 0, 4, 3, 184, 0, 176, 42, 180, 0, 87]
abbrev dktX1_begin_2 : List UInt8 := dkwX1_begin_2 ++ dktX1_begin_3
def dkwX1_begin_1 : List UInt8 := [185, 0, 221, 1, 0, 154, 0, 29, 25, 4, 180, 0, 224, 154, 0, 21, 42, 180, 0, 87]
abbrev dktX1_begin_1 : List UInt8 := dkwX1_begin_1 ++ dktX1_begin_2
def dkwX1_begin_0 : List UInt8 := [42, 27, 182, 0, 187, 58, 4, 28, 16, 6, 184, 0, 158, 29, 16, 6, 184, 0, 158, 42, 180, 0, 83]
abbrev dktX1_begin_0 : List UInt8 := dkwX1_begin_0 ++ dktX1_begin_1
theorem dksX1_begin_0 : cX1_begin.data.toList.drop 0 = dktX1_begin_0 := by decide +kernel
theorem dksX1_begin_1 : cX1_begin.data.toList.drop 23 = dktX1_begin_1 := dk_seg dksX1_begin_0 23 rfl rfl
theorem dksX1_begin_2 : cX1_begin.data.toList.drop 43 = dktX1_begin_2 := dk_seg dksX1_begin_1 20 rfl rfl
theorem dksX1_begin_3 : cX1_begin.data.toList.drop 65 = dktX1_begin_3 := dk_seg dksX1_begin_2 22 rfl rfl
theorem dksX1_begin_4 : cX1_begin.data.toList.drop 89 = dktX1_begin_4 := dk_seg dksX1_begin_3 24 rfl rfl
theorem dksX1_begin_5 : cX1_begin.data.toList.drop 110 = dktX1_begin_5 := dk_seg dksX1_begin_4 21 rfl rfl
theorem dX1_begin_0 : decode cX1_begin 0 = .ok (.aload_n 0, 1) := dk_42 (dk_at dksX1_begin_0 0 rfl rfl)
theorem dX1_begin_1 : decode cX1_begin 1 = .ok (.iload_n 1, 1) := dk_27 (dk_at dksX1_begin_0 1 rfl rfl)
theorem dX1_begin_2 : decode cX1_begin 2 = .ok (.invokevirtual 187, 3) := dk_182 0 187 (dk_at dksX1_begin_0 2 rfl rfl)
theorem dX1_begin_5 : decode cX1_begin 5 = .ok (.astore 4, 2) := dk_58 4 (dk_at dksX1_begin_0 5 rfl rfl)
theorem dX1_begin_7 : decode cX1_begin 7 = .ok (.iload_n 2, 1) := dk_28 (dk_at dksX1_begin_0 7 rfl rfl)
theorem dX1_begin_8 : decode cX1_begin 8 = .ok (.bipush 6, 2) := dk_16 6 (dk_at dksX1_begin_0 8 rfl rfl)
theorem dX1_begin_10 : decode cX1_begin 10 = .ok (.invokestatic 158, 3) := dk_184 0 158 (dk_at dksX1_begin_0 10 rfl rfl)
theorem dX1_begin_13 : decode cX1_begin 13 = .ok (.iload_n 3, 1) := dk_29 (dk_at dksX1_begin_0 13 rfl rfl)
theorem dX1_begin_14 : decode cX1_begin 14 = .ok (.bipush 6, 2) := dk_16 6 (dk_at dksX1_begin_0 14 rfl rfl)
theorem dX1_begin_16 : decode cX1_begin 16 = .ok (.invokestatic 158, 3) := dk_184 0 158 (dk_at dksX1_begin_0 16 rfl rfl)
theorem dX1_begin_19 : decode cX1_begin 19 = .ok (.aload_n 0, 1) := dk_42 (dk_at dksX1_begin_0 19 rfl rfl)
theorem dX1_begin_20 : decode cX1_begin 20 = .ok (.getfield 83, 3) := dk_180 0 83 (dk_at dksX1_begin_0 20 rfl rfl)
theorem dX1_begin_23 : decode cX1_begin 23 = .ok (.invokeinterface 221 1, 5) := by decide +kernel
theorem dX1_begin_28 : decode cX1_begin 28 = .ok (.ifCond .ne 29, 3) := dk_154 0 29 (dk_at dksX1_begin_1 5 rfl rfl)
theorem dX1_begin_31 : decode cX1_begin 31 = .ok (.aload 4, 2) := dk_25 4 (dk_at dksX1_begin_1 8 rfl rfl)
theorem dX1_begin_33 : decode cX1_begin 33 = .ok (.getfield 224, 3) := dk_180 0 224 (dk_at dksX1_begin_1 10 rfl rfl)
theorem dX1_begin_36 : decode cX1_begin 36 = .ok (.ifCond .ne 21, 3) := dk_154 0 21 (dk_at dksX1_begin_1 13 rfl rfl)
theorem dX1_begin_39 : decode cX1_begin 39 = .ok (.aload_n 0, 1) := dk_42 (dk_at dksX1_begin_1 16 rfl rfl)
theorem dX1_begin_40 : decode cX1_begin 40 = .ok (.getfield 87, 3) := dk_180 0 87 (dk_at dksX1_begin_1 17 rfl rfl)
theorem dX1_begin_43 : decode cX1_begin 43 = .ok (.invokeinterface 9 1, 5) := by decide +kernel
theorem dX1_begin_48 : decode cX1_begin 48 = .ok (.bipush 60, 2) := dk_16 60 (dk_at dksX1_begin_2 5 rfl rfl)
theorem dX1_begin_50 : decode cX1_begin 50 = .ok (.if_icmp .ge 7, 3) := dk_162 0 7 (dk_at dksX1_begin_2 7 rfl rfl)
theorem dX1_begin_53 : decode cX1_begin 53 = .ok (.iconst 1, 1) := dk_4 (dk_at dksX1_begin_2 10 rfl rfl)
theorem dX1_begin_54 : decode cX1_begin 54 = .ok (.goto 4, 3) := dk_167 0 4 (dk_at dksX1_begin_2 11 rfl rfl)
theorem dX1_begin_57 : decode cX1_begin 57 = .ok (.iconst 0, 1) := dk_3 (dk_at dksX1_begin_2 14 rfl rfl)
theorem dX1_begin_58 : decode cX1_begin 58 = .ok (.invokestatic 176, 3) := dk_184 0 176 (dk_at dksX1_begin_2 15 rfl rfl)
theorem dX1_begin_61 : decode cX1_begin 61 = .ok (.aload_n 0, 1) := dk_42 (dk_at dksX1_begin_2 18 rfl rfl)
theorem dX1_begin_62 : decode cX1_begin 62 = .ok (.getfield 87, 3) := dk_180 0 87 (dk_at dksX1_begin_2 19 rfl rfl)
theorem dX1_begin_65 : decode cX1_begin 65 = .ok (.new 228, 3) := dk_187 0 228 (dk_at dksX1_begin_3 0 rfl rfl)
theorem dX1_begin_68 : decode cX1_begin 68 = .ok (.dup, 1) := dk_89 (dk_at dksX1_begin_3 3 rfl rfl)
theorem dX1_begin_69 : decode cX1_begin 69 = .ok (.aload_n 0, 1) := dk_42 (dk_at dksX1_begin_3 4 rfl rfl)
theorem dX1_begin_70 : decode cX1_begin 70 = .ok (.aload 4, 2) := dk_25 4 (dk_at dksX1_begin_3 5 rfl rfl)
theorem dX1_begin_72 : decode cX1_begin 72 = .ok (.iload_n 2, 1) := dk_28 (dk_at dksX1_begin_3 7 rfl rfl)
theorem dX1_begin_73 : decode cX1_begin 73 = .ok (.iload_n 3, 1) := dk_29 (dk_at dksX1_begin_3 8 rfl rfl)
theorem dX1_begin_74 : decode cX1_begin 74 = .ok (.aload_n 0, 1) := dk_42 (dk_at dksX1_begin_3 9 rfl rfl)
theorem dX1_begin_75 : decode cX1_begin 75 = .ok (.getfield 83, 3) := dk_180 0 83 (dk_at dksX1_begin_3 10 rfl rfl)
theorem dX1_begin_78 : decode cX1_begin 78 = .ok (.aload_n 0, 1) := dk_42 (dk_at dksX1_begin_3 13 rfl rfl)
theorem dX1_begin_79 : decode cX1_begin 79 = .ok (.getfield 83, 3) := dk_180 0 83 (dk_at dksX1_begin_3 14 rfl rfl)
theorem dX1_begin_82 : decode cX1_begin 82 = .ok (.invokeinterface 9 1, 5) := by decide +kernel
theorem dX1_begin_87 : decode cX1_begin 87 = .ok (.iconst 1, 1) := dk_4 (dk_at dksX1_begin_3 22 rfl rfl)
theorem dX1_begin_88 : decode cX1_begin 88 = .ok (.isub, 1) := dk_100 (dk_at dksX1_begin_3 23 rfl rfl)
theorem dX1_begin_89 : decode cX1_begin 89 = .ok (.invokeinterface 31 2, 5) := by decide +kernel
theorem dX1_begin_94 : decode cX1_begin 94 = .ok (.checkcast 71, 3) := dk_192 0 71 (dk_at dksX1_begin_4 5 rfl rfl)
theorem dX1_begin_97 : decode cX1_begin 97 = .ok (.invokespecial 230, 3) := dk_183 0 230 (dk_at dksX1_begin_4 8 rfl rfl)
theorem dX1_begin_100 : decode cX1_begin 100 = .ok (.invokeinterface 19 2, 5) := by decide +kernel
theorem dX1_begin_105 : decode cX1_begin 105 = .ok (.pop, 1) := dk_87 (dk_at dksX1_begin_4 16 rfl rfl)
theorem dX1_begin_106 : decode cX1_begin 106 = .ok (.aload_n 0, 1) := dk_42 (dk_at dksX1_begin_4 17 rfl rfl)
theorem dX1_begin_107 : decode cX1_begin 107 = .ok (.getfield 87, 3) := dk_180 0 87 (dk_at dksX1_begin_4 18 rfl rfl)
theorem dX1_begin_110 : decode cX1_begin 110 = .ok (.invokeinterface 9 1, 5) := by decide +kernel
theorem dX1_begin_115 : decode cX1_begin 115 = .ok (.iconst 1, 1) := dk_4 (dk_at dksX1_begin_5 5 rfl rfl)
theorem dX1_begin_116 : decode cX1_begin 116 = .ok (.isub, 1) := dk_100 (dk_at dksX1_begin_5 6 rfl rfl)
theorem dX1_begin_117 : decode cX1_begin 117 = .ok (.ireturn, 1) := dk_172 (dk_at dksX1_begin_5 7 rfl rfl)
abbrev cX1_pointsOf : ByteArray := prog_1_method_14_code
def yX1_pointsOf : MethodName := ⟨RX1, "pointsOf", "(IZ)I"⟩
def dkwX1_pointsOf_1 : List UInt8 := [180, 0, 115, 27, 46, 172]
abbrev dktX1_pointsOf_1 : List UInt8 := dkwX1_pointsOf_1 ++ []
def dkwX1_pointsOf_0 : List UInt8 := [28, 153, 0, 22, 42, 180, 0, 118, 27, 46, 2, 159, 0, 12, 42, 180, 0, 118, 27, 46, 167, 0, 9, 42]
abbrev dktX1_pointsOf_0 : List UInt8 := dkwX1_pointsOf_0 ++ dktX1_pointsOf_1
theorem dksX1_pointsOf_0 : cX1_pointsOf.data.toList.drop 0 = dktX1_pointsOf_0 := by decide +kernel
theorem dksX1_pointsOf_1 : cX1_pointsOf.data.toList.drop 24 = dktX1_pointsOf_1 := dk_seg dksX1_pointsOf_0 24 rfl rfl
theorem dX1_pointsOf_0 : decode cX1_pointsOf 0 = .ok (.iload_n 2, 1) := dk_28 (dk_at dksX1_pointsOf_0 0 rfl rfl)
theorem dX1_pointsOf_1 : decode cX1_pointsOf 1 = .ok (.ifCond .eq 22, 3) := dk_153 0 22 (dk_at dksX1_pointsOf_0 1 rfl rfl)
theorem dX1_pointsOf_4 : decode cX1_pointsOf 4 = .ok (.aload_n 0, 1) := dk_42 (dk_at dksX1_pointsOf_0 4 rfl rfl)
theorem dX1_pointsOf_5 : decode cX1_pointsOf 5 = .ok (.getfield 118, 3) := dk_180 0 118 (dk_at dksX1_pointsOf_0 5 rfl rfl)
theorem dX1_pointsOf_8 : decode cX1_pointsOf 8 = .ok (.iload_n 1, 1) := dk_27 (dk_at dksX1_pointsOf_0 8 rfl rfl)
theorem dX1_pointsOf_9 : decode cX1_pointsOf 9 = .ok (.iaload, 1) := dk_46 (dk_at dksX1_pointsOf_0 9 rfl rfl)
theorem dX1_pointsOf_10 : decode cX1_pointsOf 10 = .ok (.iconst (-1), 1) := dk_2 (dk_at dksX1_pointsOf_0 10 rfl rfl)
theorem dX1_pointsOf_11 : decode cX1_pointsOf 11 = .ok (.if_icmp .eq 12, 3) := dk_159 0 12 (dk_at dksX1_pointsOf_0 11 rfl rfl)
theorem dX1_pointsOf_14 : decode cX1_pointsOf 14 = .ok (.aload_n 0, 1) := dk_42 (dk_at dksX1_pointsOf_0 14 rfl rfl)
theorem dX1_pointsOf_15 : decode cX1_pointsOf 15 = .ok (.getfield 118, 3) := dk_180 0 118 (dk_at dksX1_pointsOf_0 15 rfl rfl)
theorem dX1_pointsOf_18 : decode cX1_pointsOf 18 = .ok (.iload_n 1, 1) := dk_27 (dk_at dksX1_pointsOf_0 18 rfl rfl)
theorem dX1_pointsOf_19 : decode cX1_pointsOf 19 = .ok (.iaload, 1) := dk_46 (dk_at dksX1_pointsOf_0 19 rfl rfl)
theorem dX1_pointsOf_20 : decode cX1_pointsOf 20 = .ok (.goto 9, 3) := dk_167 0 9 (dk_at dksX1_pointsOf_0 20 rfl rfl)
theorem dX1_pointsOf_23 : decode cX1_pointsOf 23 = .ok (.aload_n 0, 1) := dk_42 (dk_at dksX1_pointsOf_0 23 rfl rfl)
theorem dX1_pointsOf_24 : decode cX1_pointsOf 24 = .ok (.getfield 115, 3) := dk_180 0 115 (dk_at dksX1_pointsOf_1 0 rfl rfl)
theorem dX1_pointsOf_27 : decode cX1_pointsOf 27 = .ok (.iload_n 1, 1) := dk_27 (dk_at dksX1_pointsOf_1 3 rfl rfl)
theorem dX1_pointsOf_28 : decode cX1_pointsOf 28 = .ok (.iaload, 1) := dk_46 (dk_at dksX1_pointsOf_1 4 rfl rfl)
theorem dX1_pointsOf_29 : decode cX1_pointsOf 29 = .ok (.ireturn, 1) := dk_172 (dk_at dksX1_pointsOf_1 5 rfl rfl)
abbrev cX1_beginSession : ByteArray := prog_1_method_2_code
def yX1_beginSession : MethodName := ⟨RX1, "beginSession", "(LKeyringCourt$Person;LKeyringCourt$Session;[II)I"⟩
def dkwX1_beginSession_2 : List UInt8 := [180, 0, 23, 172]
abbrev dktX1_beginSession_2 : List UInt8 := dkwX1_beginSession_2 ++ []
def dkwX1_beginSession_1 : List UInt8 := [42, 180, 0, 5, 25, 5, 185, 0, 19, 2, 0, 87, 42, 3, 25, 5, 180, 0, 23, 182, 0, 27, 25, 5]
abbrev dktX1_beginSession_1 : List UInt8 := dkwX1_beginSession_1 ++ dktX1_beginSession_2
def dkwX1_beginSession_0 : List UInt8 := [187, 0, 3, 89, 42, 42, 180, 0, 5, 185, 0, 9, 1, 0, 43, 44, 45, 21, 4, 183, 0, 15, 58, 5]
abbrev dktX1_beginSession_0 : List UInt8 := dkwX1_beginSession_0 ++ dktX1_beginSession_1
theorem dksX1_beginSession_0 : cX1_beginSession.data.toList.drop 0 = dktX1_beginSession_0 := by decide +kernel
theorem dksX1_beginSession_1 : cX1_beginSession.data.toList.drop 24 = dktX1_beginSession_1 := dk_seg dksX1_beginSession_0 24 rfl rfl
theorem dksX1_beginSession_2 : cX1_beginSession.data.toList.drop 48 = dktX1_beginSession_2 := dk_seg dksX1_beginSession_1 24 rfl rfl
theorem dX1_beginSession_0 : decode cX1_beginSession 0 = .ok (.new 3, 3) := dk_187 0 3 (dk_at dksX1_beginSession_0 0 rfl rfl)
theorem dX1_beginSession_3 : decode cX1_beginSession 3 = .ok (.dup, 1) := dk_89 (dk_at dksX1_beginSession_0 3 rfl rfl)
theorem dX1_beginSession_4 : decode cX1_beginSession 4 = .ok (.aload_n 0, 1) := dk_42 (dk_at dksX1_beginSession_0 4 rfl rfl)
theorem dX1_beginSession_5 : decode cX1_beginSession 5 = .ok (.aload_n 0, 1) := dk_42 (dk_at dksX1_beginSession_0 5 rfl rfl)
theorem dX1_beginSession_6 : decode cX1_beginSession 6 = .ok (.getfield 5, 3) := dk_180 0 5 (dk_at dksX1_beginSession_0 6 rfl rfl)
theorem dX1_beginSession_9 : decode cX1_beginSession 9 = .ok (.invokeinterface 9 1, 5) := by decide +kernel
theorem dX1_beginSession_14 : decode cX1_beginSession 14 = .ok (.aload_n 1, 1) := dk_43 (dk_at dksX1_beginSession_0 14 rfl rfl)
theorem dX1_beginSession_15 : decode cX1_beginSession 15 = .ok (.aload_n 2, 1) := dk_44 (dk_at dksX1_beginSession_0 15 rfl rfl)
theorem dX1_beginSession_16 : decode cX1_beginSession 16 = .ok (.aload_n 3, 1) := dk_45 (dk_at dksX1_beginSession_0 16 rfl rfl)
theorem dX1_beginSession_17 : decode cX1_beginSession 17 = .ok (.iload 4, 2) := dk_21 4 (dk_at dksX1_beginSession_0 17 rfl rfl)
theorem dX1_beginSession_19 : decode cX1_beginSession 19 = .ok (.invokespecial 15, 3) := dk_183 0 15 (dk_at dksX1_beginSession_0 19 rfl rfl)
theorem dX1_beginSession_22 : decode cX1_beginSession 22 = .ok (.astore 5, 2) := dk_58 5 (dk_at dksX1_beginSession_0 22 rfl rfl)
theorem dX1_beginSession_24 : decode cX1_beginSession 24 = .ok (.aload_n 0, 1) := dk_42 (dk_at dksX1_beginSession_1 0 rfl rfl)
theorem dX1_beginSession_25 : decode cX1_beginSession 25 = .ok (.getfield 5, 3) := dk_180 0 5 (dk_at dksX1_beginSession_1 1 rfl rfl)
theorem dX1_beginSession_28 : decode cX1_beginSession 28 = .ok (.aload 5, 2) := dk_25 5 (dk_at dksX1_beginSession_1 4 rfl rfl)
theorem dX1_beginSession_30 : decode cX1_beginSession 30 = .ok (.invokeinterface 19 2, 5) := by decide +kernel
theorem dX1_beginSession_35 : decode cX1_beginSession 35 = .ok (.pop, 1) := dk_87 (dk_at dksX1_beginSession_1 11 rfl rfl)
theorem dX1_beginSession_36 : decode cX1_beginSession 36 = .ok (.aload_n 0, 1) := dk_42 (dk_at dksX1_beginSession_1 12 rfl rfl)
theorem dX1_beginSession_37 : decode cX1_beginSession 37 = .ok (.iconst 0, 1) := dk_3 (dk_at dksX1_beginSession_1 13 rfl rfl)
theorem dX1_beginSession_38 : decode cX1_beginSession 38 = .ok (.aload 5, 2) := dk_25 5 (dk_at dksX1_beginSession_1 14 rfl rfl)
theorem dX1_beginSession_40 : decode cX1_beginSession 40 = .ok (.getfield 23, 3) := dk_180 0 23 (dk_at dksX1_beginSession_1 16 rfl rfl)
theorem dX1_beginSession_43 : decode cX1_beginSession 43 = .ok (.invokevirtual 27, 3) := dk_182 0 27 (dk_at dksX1_beginSession_1 19 rfl rfl)
theorem dX1_beginSession_46 : decode cX1_beginSession 46 = .ok (.aload 5, 2) := dk_25 5 (dk_at dksX1_beginSession_1 22 rfl rfl)
theorem dX1_beginSession_48 : decode cX1_beginSession 48 = .ok (.getfield 23, 3) := dk_180 0 23 (dk_at dksX1_beginSession_2 0 rfl rfl)
theorem dX1_beginSession_51 : decode cX1_beginSession 51 = .ok (.ireturn, 1) := dk_172 (dk_at dksX1_beginSession_2 3 rfl rfl)
abbrev cX1_answer : ByteArray := prog_1_method_27_code
def yX1_answer : MethodName := ⟨RX1, "answer", "(IZI)I"⟩
def dkwX1_answer_1 : List UInt8 := [180, 0, 233, 154, 0, 7, 4, 167, 0, 4, 3, 184, 0, 176, 25, 4, 28, 29, 182, 0, 236, 172]
abbrev dktX1_answer_1 : List UInt8 := dkwX1_answer_1 ++ []
def dkwX1_answer_0 : List UInt8 := [42, 180, 0, 87, 27, 184, 0, 214, 192, 0, 228, 58, 4, 29, 3, 17, 39, 15, 184, 0, 149, 25, 4]
abbrev dktX1_answer_0 : List UInt8 := dkwX1_answer_0 ++ dktX1_answer_1
theorem dksX1_answer_0 : cX1_answer.data.toList.drop 0 = dktX1_answer_0 := by decide +kernel
theorem dksX1_answer_1 : cX1_answer.data.toList.drop 23 = dktX1_answer_1 := dk_seg dksX1_answer_0 23 rfl rfl
theorem dX1_answer_0 : decode cX1_answer 0 = .ok (.aload_n 0, 1) := dk_42 (dk_at dksX1_answer_0 0 rfl rfl)
theorem dX1_answer_1 : decode cX1_answer 1 = .ok (.getfield 87, 3) := dk_180 0 87 (dk_at dksX1_answer_0 1 rfl rfl)
theorem dX1_answer_4 : decode cX1_answer 4 = .ok (.iload_n 1, 1) := dk_27 (dk_at dksX1_answer_0 4 rfl rfl)
theorem dX1_answer_5 : decode cX1_answer 5 = .ok (.invokestatic 214, 3) := dk_184 0 214 (dk_at dksX1_answer_0 5 rfl rfl)
theorem dX1_answer_8 : decode cX1_answer 8 = .ok (.checkcast 228, 3) := dk_192 0 228 (dk_at dksX1_answer_0 8 rfl rfl)
theorem dX1_answer_11 : decode cX1_answer 11 = .ok (.astore 4, 2) := dk_58 4 (dk_at dksX1_answer_0 11 rfl rfl)
theorem dX1_answer_13 : decode cX1_answer 13 = .ok (.iload_n 3, 1) := dk_29 (dk_at dksX1_answer_0 13 rfl rfl)
theorem dX1_answer_14 : decode cX1_answer 14 = .ok (.iconst 0, 1) := dk_3 (dk_at dksX1_answer_0 14 rfl rfl)
theorem dX1_answer_15 : decode cX1_answer 15 = .ok (.sipush 9999, 3) := dk_17 39 15 (dk_at dksX1_answer_0 15 rfl rfl)
theorem dX1_answer_18 : decode cX1_answer 18 = .ok (.invokestatic 149, 3) := dk_184 0 149 (dk_at dksX1_answer_0 18 rfl rfl)
theorem dX1_answer_21 : decode cX1_answer 21 = .ok (.aload 4, 2) := dk_25 4 (dk_at dksX1_answer_0 21 rfl rfl)
theorem dX1_answer_23 : decode cX1_answer 23 = .ok (.getfield 233, 3) := dk_180 0 233 (dk_at dksX1_answer_1 0 rfl rfl)
theorem dX1_answer_26 : decode cX1_answer 26 = .ok (.ifCond .ne 7, 3) := dk_154 0 7 (dk_at dksX1_answer_1 3 rfl rfl)
theorem dX1_answer_29 : decode cX1_answer 29 = .ok (.iconst 1, 1) := dk_4 (dk_at dksX1_answer_1 6 rfl rfl)
theorem dX1_answer_30 : decode cX1_answer 30 = .ok (.goto 4, 3) := dk_167 0 4 (dk_at dksX1_answer_1 7 rfl rfl)
theorem dX1_answer_33 : decode cX1_answer 33 = .ok (.iconst 0, 1) := dk_3 (dk_at dksX1_answer_1 10 rfl rfl)
theorem dX1_answer_34 : decode cX1_answer 34 = .ok (.invokestatic 176, 3) := dk_184 0 176 (dk_at dksX1_answer_1 11 rfl rfl)
theorem dX1_answer_37 : decode cX1_answer 37 = .ok (.aload 4, 2) := dk_25 4 (dk_at dksX1_answer_1 14 rfl rfl)
theorem dX1_answer_39 : decode cX1_answer 39 = .ok (.iload_n 2, 1) := dk_28 (dk_at dksX1_answer_1 16 rfl rfl)
theorem dX1_answer_40 : decode cX1_answer 40 = .ok (.iload_n 3, 1) := dk_29 (dk_at dksX1_answer_1 17 rfl rfl)
theorem dX1_answer_41 : decode cX1_answer 41 = .ok (.invokevirtual 236, 3) := dk_182 0 236 (dk_at dksX1_answer_1 18 rfl rfl)
theorem dX1_answer_44 : decode cX1_answer 44 = .ok (.ireturn, 1) := dk_172 (dk_at dksX1_answer_1 21 rfl rfl)
abbrev cX1_state : ByteArray := prog_1_method_28_code
def yX1_state : MethodName := ⟨RX1, "state", "(I)I"⟩
def dkwX1_state_0 : List UInt8 := [42, 180, 0, 87, 27, 184, 0, 214, 192, 0, 228, 180, 0, 233, 172]
abbrev dktX1_state_0 : List UInt8 := dkwX1_state_0 ++ []
theorem dksX1_state_0 : cX1_state.data.toList.drop 0 = dktX1_state_0 := by decide +kernel
theorem dX1_state_0 : decode cX1_state 0 = .ok (.aload_n 0, 1) := dk_42 (dk_at dksX1_state_0 0 rfl rfl)
theorem dX1_state_1 : decode cX1_state 1 = .ok (.getfield 87, 3) := dk_180 0 87 (dk_at dksX1_state_0 1 rfl rfl)
theorem dX1_state_4 : decode cX1_state 4 = .ok (.iload_n 1, 1) := dk_27 (dk_at dksX1_state_0 4 rfl rfl)
theorem dX1_state_5 : decode cX1_state 5 = .ok (.invokestatic 214, 3) := dk_184 0 214 (dk_at dksX1_state_0 5 rfl rfl)
theorem dX1_state_8 : decode cX1_state 8 = .ok (.checkcast 228, 3) := dk_192 0 228 (dk_at dksX1_state_0 8 rfl rfl)
theorem dX1_state_11 : decode cX1_state 11 = .ok (.getfield 233, 3) := dk_180 0 233 (dk_at dksX1_state_0 11 rfl rfl)
theorem dX1_state_14 : decode cX1_state 14 = .ok (.ireturn, 1) := dk_172 (dk_at dksX1_state_0 14 rfl rfl)
abbrev cX1_asked : ByteArray := prog_1_method_29_code
def yX1_asked : MethodName := ⟨RX1, "asked", "(I)I"⟩
def dkwX1_asked_0 : List UInt8 := [42, 180, 0, 87, 27, 184, 0, 214, 192, 0, 228, 182, 0, 240, 172]
abbrev dktX1_asked_0 : List UInt8 := dkwX1_asked_0 ++ []
theorem dksX1_asked_0 : cX1_asked.data.toList.drop 0 = dktX1_asked_0 := by decide +kernel
theorem dX1_asked_0 : decode cX1_asked 0 = .ok (.aload_n 0, 1) := dk_42 (dk_at dksX1_asked_0 0 rfl rfl)
theorem dX1_asked_1 : decode cX1_asked 1 = .ok (.getfield 87, 3) := dk_180 0 87 (dk_at dksX1_asked_0 1 rfl rfl)
theorem dX1_asked_4 : decode cX1_asked 4 = .ok (.iload_n 1, 1) := dk_27 (dk_at dksX1_asked_0 4 rfl rfl)
theorem dX1_asked_5 : decode cX1_asked 5 = .ok (.invokestatic 214, 3) := dk_184 0 214 (dk_at dksX1_asked_0 5 rfl rfl)
theorem dX1_asked_8 : decode cX1_asked 8 = .ok (.checkcast 228, 3) := dk_192 0 228 (dk_at dksX1_asked_0 8 rfl rfl)
theorem dX1_asked_11 : decode cX1_asked 11 = .ok (.invokevirtual 240, 3) := dk_182 0 240 (dk_at dksX1_asked_0 11 rfl rfl)
theorem dX1_asked_14 : decode cX1_asked 14 = .ok (.ireturn, 1) := dk_172 (dk_at dksX1_asked_0 14 rfl rfl)
abbrev cX1_sessionOf : ByteArray := prog_1_method_30_code
def yX1_sessionOf : MethodName := ⟨RX1, "sessionOf", "(I)I"⟩
def dkwX1_sessionOf_0 : List UInt8 := [42, 180, 0, 87, 27, 184, 0, 214, 192, 0, 228, 180, 0, 243, 172]
abbrev dktX1_sessionOf_0 : List UInt8 := dkwX1_sessionOf_0 ++ []
theorem dksX1_sessionOf_0 : cX1_sessionOf.data.toList.drop 0 = dktX1_sessionOf_0 := by decide +kernel
theorem dX1_sessionOf_0 : decode cX1_sessionOf 0 = .ok (.aload_n 0, 1) := dk_42 (dk_at dksX1_sessionOf_0 0 rfl rfl)
theorem dX1_sessionOf_1 : decode cX1_sessionOf 1 = .ok (.getfield 87, 3) := dk_180 0 87 (dk_at dksX1_sessionOf_0 1 rfl rfl)
theorem dX1_sessionOf_4 : decode cX1_sessionOf 4 = .ok (.iload_n 1, 1) := dk_27 (dk_at dksX1_sessionOf_0 4 rfl rfl)
theorem dX1_sessionOf_5 : decode cX1_sessionOf 5 = .ok (.invokestatic 214, 3) := dk_184 0 214 (dk_at dksX1_sessionOf_0 5 rfl rfl)
theorem dX1_sessionOf_8 : decode cX1_sessionOf 8 = .ok (.checkcast 228, 3) := dk_192 0 228 (dk_at dksX1_sessionOf_0 8 rfl rfl)
theorem dX1_sessionOf_11 : decode cX1_sessionOf 11 = .ok (.getfield 243, 3) := dk_180 0 243 (dk_at dksX1_sessionOf_0 11 rfl rfl)
theorem dX1_sessionOf_14 : decode cX1_sessionOf 14 = .ok (.ireturn, 1) := dk_172 (dk_at dksX1_sessionOf_0 14 rfl rfl)
abbrev cX1_risk : ByteArray := prog_1_method_31_code
def yX1_risk : MethodName := ⟨RX1, "risk", "(I)I"⟩
def dkwX1_risk_0 : List UInt8 := [42, 180, 0, 87, 27, 184, 0, 214, 192, 0, 228, 3, 182, 0, 246, 172]
abbrev dktX1_risk_0 : List UInt8 := dkwX1_risk_0 ++ []
theorem dksX1_risk_0 : cX1_risk.data.toList.drop 0 = dktX1_risk_0 := by decide +kernel
theorem dX1_risk_0 : decode cX1_risk 0 = .ok (.aload_n 0, 1) := dk_42 (dk_at dksX1_risk_0 0 rfl rfl)
theorem dX1_risk_1 : decode cX1_risk 1 = .ok (.getfield 87, 3) := dk_180 0 87 (dk_at dksX1_risk_0 1 rfl rfl)
theorem dX1_risk_4 : decode cX1_risk 4 = .ok (.iload_n 1, 1) := dk_27 (dk_at dksX1_risk_0 4 rfl rfl)
theorem dX1_risk_5 : decode cX1_risk 5 = .ok (.invokestatic 214, 3) := dk_184 0 214 (dk_at dksX1_risk_0 5 rfl rfl)
theorem dX1_risk_8 : decode cX1_risk 8 = .ok (.checkcast 228, 3) := dk_192 0 228 (dk_at dksX1_risk_0 8 rfl rfl)
theorem dX1_risk_11 : decode cX1_risk 11 = .ok (.iconst 0, 1) := dk_3 (dk_at dksX1_risk_0 11 rfl rfl)
theorem dX1_risk_12 : decode cX1_risk 12 = .ok (.invokevirtual 246, 3) := dk_182 0 246 (dk_at dksX1_risk_0 12 rfl rfl)
theorem dX1_risk_15 : decode cX1_risk 15 = .ok (.ireturn, 1) := dk_172 (dk_at dksX1_risk_0 15 rfl rfl)
abbrev cX1_trialRisk : ByteArray := prog_1_method_32_code
def yX1_trialRisk : MethodName := ⟨RX1, "trialRisk", "(I)I"⟩
def dkwX1_trialRisk_0 : List UInt8 := [42, 180, 0, 87, 27, 184, 0, 214, 192, 0, 228, 4, 182, 0, 246, 172]
abbrev dktX1_trialRisk_0 : List UInt8 := dkwX1_trialRisk_0 ++ []
theorem dksX1_trialRisk_0 : cX1_trialRisk.data.toList.drop 0 = dktX1_trialRisk_0 := by decide +kernel
theorem dX1_trialRisk_0 : decode cX1_trialRisk 0 = .ok (.aload_n 0, 1) := dk_42 (dk_at dksX1_trialRisk_0 0 rfl rfl)
theorem dX1_trialRisk_1 : decode cX1_trialRisk 1 = .ok (.getfield 87, 3) := dk_180 0 87 (dk_at dksX1_trialRisk_0 1 rfl rfl)
theorem dX1_trialRisk_4 : decode cX1_trialRisk 4 = .ok (.iload_n 1, 1) := dk_27 (dk_at dksX1_trialRisk_0 4 rfl rfl)
theorem dX1_trialRisk_5 : decode cX1_trialRisk 5 = .ok (.invokestatic 214, 3) := dk_184 0 214 (dk_at dksX1_trialRisk_0 5 rfl rfl)
theorem dX1_trialRisk_8 : decode cX1_trialRisk 8 = .ok (.checkcast 228, 3) := dk_192 0 228 (dk_at dksX1_trialRisk_0 8 rfl rfl)
theorem dX1_trialRisk_11 : decode cX1_trialRisk 11 = .ok (.iconst 1, 1) := dk_4 (dk_at dksX1_trialRisk_0 11 rfl rfl)
theorem dX1_trialRisk_12 : decode cX1_trialRisk 12 = .ok (.invokevirtual 246, 3) := dk_182 0 246 (dk_at dksX1_trialRisk_0 12 rfl rfl)
theorem dX1_trialRisk_15 : decode cX1_trialRisk 15 = .ok (.ireturn, 1) := dk_172 (dk_at dksX1_trialRisk_0 15 rfl rfl)
abbrev cX1_isLive : ByteArray := prog_1_method_34_code
def yX1_isLive : MethodName := ⟨RX1, "isLive", "(I)Z"⟩
def dkwX1_isLive_0 : List UInt8 := [42, 180, 0, 5, 27, 184, 0, 214, 192, 0, 3, 180, 0, 250, 172]
abbrev dktX1_isLive_0 : List UInt8 := dkwX1_isLive_0 ++ []
theorem dksX1_isLive_0 : cX1_isLive.data.toList.drop 0 = dktX1_isLive_0 := by decide +kernel
theorem dX1_isLive_0 : decode cX1_isLive 0 = .ok (.aload_n 0, 1) := dk_42 (dk_at dksX1_isLive_0 0 rfl rfl)
theorem dX1_isLive_1 : decode cX1_isLive 1 = .ok (.getfield 5, 3) := dk_180 0 5 (dk_at dksX1_isLive_0 1 rfl rfl)
theorem dX1_isLive_4 : decode cX1_isLive 4 = .ok (.iload_n 1, 1) := dk_27 (dk_at dksX1_isLive_0 4 rfl rfl)
theorem dX1_isLive_5 : decode cX1_isLive 5 = .ok (.invokestatic 214, 3) := dk_184 0 214 (dk_at dksX1_isLive_0 5 rfl rfl)
theorem dX1_isLive_8 : decode cX1_isLive 8 = .ok (.checkcast 3, 3) := dk_192 0 3 (dk_at dksX1_isLive_0 8 rfl rfl)
theorem dX1_isLive_11 : decode cX1_isLive 11 = .ok (.getfield 250, 3) := dk_180 0 250 (dk_at dksX1_isLive_0 11 rfl rfl)
theorem dX1_isLive_14 : decode cX1_isLive 14 = .ok (.ireturn, 1) := dk_172 (dk_at dksX1_isLive_0 14 rfl rfl)
abbrev cX1_isLiveByAudit : ByteArray := prog_1_method_35_code
def yX1_isLiveByAudit : MethodName := ⟨RX1, "isLiveByAudit", "(I)Z"⟩
def dkwX1_isLiveByAudit_3 : List UInt8 := [3, 167, 0, 4, 28, 61, 132, 3, 1, 167, 255, 189, 28, 172]
abbrev dktX1_isLiveByAudit_3 : List UInt8 := dkwX1_isLiveByAudit_3 ++ []
def dkwX1_isLiveByAudit_2 : List UInt8 := [163, 0, 28, 25, 4, 180, 1, 0, 27, 160, 0, 19, 25, 4, 180, 0, 253, 154, 0, 7, 4, 167, 0, 8]
abbrev dktX1_isLiveByAudit_2 : List UInt8 := dkwX1_isLiveByAudit_2 ++ dktX1_isLiveByAudit_3
def dkwX1_isLiveByAudit_1 : List UInt8 := [162, 0, 60, 42, 180, 0, 50, 29, 185, 0, 31, 2, 0, 192, 0, 42, 58, 4, 25, 4, 180, 0, 253, 4]
abbrev dktX1_isLiveByAudit_1 : List UInt8 := dkwX1_isLiveByAudit_1 ++ dktX1_isLiveByAudit_2
def dkwX1_isLiveByAudit_0 : List UInt8 := [42, 180, 0, 5, 27, 184, 0, 214, 87, 3, 61, 3, 62, 29, 42, 180, 0, 50, 185, 0, 9, 1, 0]
abbrev dktX1_isLiveByAudit_0 : List UInt8 := dkwX1_isLiveByAudit_0 ++ dktX1_isLiveByAudit_1
theorem dksX1_isLiveByAudit_0 : cX1_isLiveByAudit.data.toList.drop 0 = dktX1_isLiveByAudit_0 := by decide +kernel
theorem dksX1_isLiveByAudit_1 : cX1_isLiveByAudit.data.toList.drop 23 = dktX1_isLiveByAudit_1 := dk_seg dksX1_isLiveByAudit_0 23 rfl rfl
theorem dksX1_isLiveByAudit_2 : cX1_isLiveByAudit.data.toList.drop 47 = dktX1_isLiveByAudit_2 := dk_seg dksX1_isLiveByAudit_1 24 rfl rfl
theorem dksX1_isLiveByAudit_3 : cX1_isLiveByAudit.data.toList.drop 71 = dktX1_isLiveByAudit_3 := dk_seg dksX1_isLiveByAudit_2 24 rfl rfl
theorem dX1_isLiveByAudit_0 : decode cX1_isLiveByAudit 0 = .ok (.aload_n 0, 1) := dk_42 (dk_at dksX1_isLiveByAudit_0 0 rfl rfl)
theorem dX1_isLiveByAudit_1 : decode cX1_isLiveByAudit 1 = .ok (.getfield 5, 3) := dk_180 0 5 (dk_at dksX1_isLiveByAudit_0 1 rfl rfl)
theorem dX1_isLiveByAudit_4 : decode cX1_isLiveByAudit 4 = .ok (.iload_n 1, 1) := dk_27 (dk_at dksX1_isLiveByAudit_0 4 rfl rfl)
theorem dX1_isLiveByAudit_5 : decode cX1_isLiveByAudit 5 = .ok (.invokestatic 214, 3) := dk_184 0 214 (dk_at dksX1_isLiveByAudit_0 5 rfl rfl)
theorem dX1_isLiveByAudit_8 : decode cX1_isLiveByAudit 8 = .ok (.pop, 1) := dk_87 (dk_at dksX1_isLiveByAudit_0 8 rfl rfl)
theorem dX1_isLiveByAudit_9 : decode cX1_isLiveByAudit 9 = .ok (.iconst 0, 1) := dk_3 (dk_at dksX1_isLiveByAudit_0 9 rfl rfl)
theorem dX1_isLiveByAudit_10 : decode cX1_isLiveByAudit 10 = .ok (.istore_n 2, 1) := dk_61 (dk_at dksX1_isLiveByAudit_0 10 rfl rfl)
theorem dX1_isLiveByAudit_11 : decode cX1_isLiveByAudit 11 = .ok (.iconst 0, 1) := dk_3 (dk_at dksX1_isLiveByAudit_0 11 rfl rfl)
theorem dX1_isLiveByAudit_12 : decode cX1_isLiveByAudit 12 = .ok (.istore_n 3, 1) := dk_62 (dk_at dksX1_isLiveByAudit_0 12 rfl rfl)
theorem dX1_isLiveByAudit_13 : decode cX1_isLiveByAudit 13 = .ok (.iload_n 3, 1) := dk_29 (dk_at dksX1_isLiveByAudit_0 13 rfl rfl)
theorem dX1_isLiveByAudit_14 : decode cX1_isLiveByAudit 14 = .ok (.aload_n 0, 1) := dk_42 (dk_at dksX1_isLiveByAudit_0 14 rfl rfl)
theorem dX1_isLiveByAudit_15 : decode cX1_isLiveByAudit 15 = .ok (.getfield 50, 3) := dk_180 0 50 (dk_at dksX1_isLiveByAudit_0 15 rfl rfl)
theorem dX1_isLiveByAudit_18 : decode cX1_isLiveByAudit 18 = .ok (.invokeinterface 9 1, 5) := by decide +kernel
theorem dX1_isLiveByAudit_23 : decode cX1_isLiveByAudit 23 = .ok (.if_icmp .ge 60, 3) := dk_162 0 60 (dk_at dksX1_isLiveByAudit_1 0 rfl rfl)
theorem dX1_isLiveByAudit_26 : decode cX1_isLiveByAudit 26 = .ok (.aload_n 0, 1) := dk_42 (dk_at dksX1_isLiveByAudit_1 3 rfl rfl)
theorem dX1_isLiveByAudit_27 : decode cX1_isLiveByAudit 27 = .ok (.getfield 50, 3) := dk_180 0 50 (dk_at dksX1_isLiveByAudit_1 4 rfl rfl)
theorem dX1_isLiveByAudit_30 : decode cX1_isLiveByAudit 30 = .ok (.iload_n 3, 1) := dk_29 (dk_at dksX1_isLiveByAudit_1 7 rfl rfl)
theorem dX1_isLiveByAudit_31 : decode cX1_isLiveByAudit 31 = .ok (.invokeinterface 31 2, 5) := by decide +kernel
theorem dX1_isLiveByAudit_36 : decode cX1_isLiveByAudit 36 = .ok (.checkcast 42, 3) := dk_192 0 42 (dk_at dksX1_isLiveByAudit_1 13 rfl rfl)
theorem dX1_isLiveByAudit_39 : decode cX1_isLiveByAudit 39 = .ok (.astore 4, 2) := dk_58 4 (dk_at dksX1_isLiveByAudit_1 16 rfl rfl)
theorem dX1_isLiveByAudit_41 : decode cX1_isLiveByAudit 41 = .ok (.aload 4, 2) := dk_25 4 (dk_at dksX1_isLiveByAudit_1 18 rfl rfl)
theorem dX1_isLiveByAudit_43 : decode cX1_isLiveByAudit 43 = .ok (.getfield 253, 3) := dk_180 0 253 (dk_at dksX1_isLiveByAudit_1 20 rfl rfl)
theorem dX1_isLiveByAudit_46 : decode cX1_isLiveByAudit 46 = .ok (.iconst 1, 1) := dk_4 (dk_at dksX1_isLiveByAudit_1 23 rfl rfl)
theorem dX1_isLiveByAudit_47 : decode cX1_isLiveByAudit 47 = .ok (.if_icmp .gt 28, 3) := dk_163 0 28 (dk_at dksX1_isLiveByAudit_2 0 rfl rfl)
theorem dX1_isLiveByAudit_50 : decode cX1_isLiveByAudit 50 = .ok (.aload 4, 2) := dk_25 4 (dk_at dksX1_isLiveByAudit_2 3 rfl rfl)
theorem dX1_isLiveByAudit_52 : decode cX1_isLiveByAudit 52 = .ok (.getfield 256, 3) := dk_180 1 0 (dk_at dksX1_isLiveByAudit_2 5 rfl rfl)
theorem dX1_isLiveByAudit_55 : decode cX1_isLiveByAudit 55 = .ok (.iload_n 1, 1) := dk_27 (dk_at dksX1_isLiveByAudit_2 8 rfl rfl)
theorem dX1_isLiveByAudit_56 : decode cX1_isLiveByAudit 56 = .ok (.if_icmp .ne 19, 3) := dk_160 0 19 (dk_at dksX1_isLiveByAudit_2 9 rfl rfl)
theorem dX1_isLiveByAudit_59 : decode cX1_isLiveByAudit 59 = .ok (.aload 4, 2) := dk_25 4 (dk_at dksX1_isLiveByAudit_2 12 rfl rfl)
theorem dX1_isLiveByAudit_61 : decode cX1_isLiveByAudit 61 = .ok (.getfield 253, 3) := dk_180 0 253 (dk_at dksX1_isLiveByAudit_2 14 rfl rfl)
theorem dX1_isLiveByAudit_64 : decode cX1_isLiveByAudit 64 = .ok (.ifCond .ne 7, 3) := dk_154 0 7 (dk_at dksX1_isLiveByAudit_2 17 rfl rfl)
theorem dX1_isLiveByAudit_67 : decode cX1_isLiveByAudit 67 = .ok (.iconst 1, 1) := dk_4 (dk_at dksX1_isLiveByAudit_2 20 rfl rfl)
theorem dX1_isLiveByAudit_68 : decode cX1_isLiveByAudit 68 = .ok (.goto 8, 3) := dk_167 0 8 (dk_at dksX1_isLiveByAudit_2 21 rfl rfl)
theorem dX1_isLiveByAudit_71 : decode cX1_isLiveByAudit 71 = .ok (.iconst 0, 1) := dk_3 (dk_at dksX1_isLiveByAudit_3 0 rfl rfl)
theorem dX1_isLiveByAudit_72 : decode cX1_isLiveByAudit 72 = .ok (.goto 4, 3) := dk_167 0 4 (dk_at dksX1_isLiveByAudit_3 1 rfl rfl)
theorem dX1_isLiveByAudit_75 : decode cX1_isLiveByAudit 75 = .ok (.iload_n 2, 1) := dk_28 (dk_at dksX1_isLiveByAudit_3 4 rfl rfl)
theorem dX1_isLiveByAudit_76 : decode cX1_isLiveByAudit 76 = .ok (.istore_n 2, 1) := dk_61 (dk_at dksX1_isLiveByAudit_3 5 rfl rfl)
theorem dX1_isLiveByAudit_77 : decode cX1_isLiveByAudit 77 = .ok (.iinc 3 1, 3) := dk_132 3 1 (dk_at dksX1_isLiveByAudit_3 6 rfl rfl)
theorem dX1_isLiveByAudit_80 : decode cX1_isLiveByAudit 80 = .ok (.goto (-67), 3) := dk_167 255 189 (dk_at dksX1_isLiveByAudit_3 9 rfl rfl)
theorem dX1_isLiveByAudit_83 : decode cX1_isLiveByAudit 83 = .ok (.iload_n 2, 1) := dk_28 (dk_at dksX1_isLiveByAudit_3 12 rfl rfl)
theorem dX1_isLiveByAudit_84 : decode cX1_isLiveByAudit 84 = .ok (.ireturn, 1) := dk_172 (dk_at dksX1_isLiveByAudit_3 13 rfl rfl)
abbrev cX1_level : ByteArray := prog_1_method_36_code
def yX1_level : MethodName := ⟨RX1, "level", "(I)I"⟩
def dkwX1_level_0 : List UInt8 := [42, 180, 0, 5, 27, 184, 0, 214, 192, 0, 3, 182, 1, 1, 172]
abbrev dktX1_level_0 : List UInt8 := dkwX1_level_0 ++ []
theorem dksX1_level_0 : cX1_level.data.toList.drop 0 = dktX1_level_0 := by decide +kernel
theorem dX1_level_0 : decode cX1_level 0 = .ok (.aload_n 0, 1) := dk_42 (dk_at dksX1_level_0 0 rfl rfl)
theorem dX1_level_1 : decode cX1_level 1 = .ok (.getfield 5, 3) := dk_180 0 5 (dk_at dksX1_level_0 1 rfl rfl)
theorem dX1_level_4 : decode cX1_level 4 = .ok (.iload_n 1, 1) := dk_27 (dk_at dksX1_level_0 4 rfl rfl)
theorem dX1_level_5 : decode cX1_level 5 = .ok (.invokestatic 214, 3) := dk_184 0 214 (dk_at dksX1_level_0 5 rfl rfl)
theorem dX1_level_8 : decode cX1_level 8 = .ok (.checkcast 3, 3) := dk_192 0 3 (dk_at dksX1_level_0 8 rfl rfl)
theorem dX1_level_11 : decode cX1_level 11 = .ok (.invokevirtual 257, 3) := dk_182 1 1 (dk_at dksX1_level_0 11 rfl rfl)
theorem dX1_level_14 : decode cX1_level 14 = .ok (.ireturn, 1) := dk_172 (dk_at dksX1_level_0 14 rfl rfl)
abbrev cX1_stepUp : ByteArray := prog_1_method_37_code
def yX1_stepUp : MethodName := ⟨RX1, "stepUp", "(IIZI)I"⟩
def dkwX1_stepUp_3 : List UInt8 := [153, 0, 9, 25, 5, 28, 182, 1, 15, 25, 5, 182, 1, 1, 172]
abbrev dktX1_stepUp_3 : List UInt8 := dkwX1_stepUp_3 ++ []
def dkwX1_stepUp_2 : List UInt8 := [184, 0, 176, 25, 5, 42, 180, 0, 44, 181, 1, 8, 25, 5, 180, 0, 35, 28, 29, 21, 4, 182, 1, 11]
abbrev dktX1_stepUp_2 : List UInt8 := dkwX1_stepUp_2 ++ dktX1_stepUp_3
def dkwX1_stepUp_1 : List UInt8 := [184, 0, 149, 25, 5, 180, 0, 250, 153, 0, 15, 25, 5, 180, 1, 4, 199, 0, 7, 4, 167, 0, 4, 3]
abbrev dktX1_stepUp_1 : List UInt8 := dkwX1_stepUp_1 ++ dktX1_stepUp_2
def dkwX1_stepUp_0 : List UInt8 := [42, 180, 0, 5, 27, 184, 0, 214, 192, 0, 3, 58, 5, 28, 184, 0, 191, 21, 4, 3, 17, 39, 15]
abbrev dktX1_stepUp_0 : List UInt8 := dkwX1_stepUp_0 ++ dktX1_stepUp_1
theorem dksX1_stepUp_0 : cX1_stepUp.data.toList.drop 0 = dktX1_stepUp_0 := by decide +kernel
theorem dksX1_stepUp_1 : cX1_stepUp.data.toList.drop 23 = dktX1_stepUp_1 := dk_seg dksX1_stepUp_0 23 rfl rfl
theorem dksX1_stepUp_2 : cX1_stepUp.data.toList.drop 47 = dktX1_stepUp_2 := dk_seg dksX1_stepUp_1 24 rfl rfl
theorem dksX1_stepUp_3 : cX1_stepUp.data.toList.drop 71 = dktX1_stepUp_3 := dk_seg dksX1_stepUp_2 24 rfl rfl
theorem dX1_stepUp_0 : decode cX1_stepUp 0 = .ok (.aload_n 0, 1) := dk_42 (dk_at dksX1_stepUp_0 0 rfl rfl)
theorem dX1_stepUp_1 : decode cX1_stepUp 1 = .ok (.getfield 5, 3) := dk_180 0 5 (dk_at dksX1_stepUp_0 1 rfl rfl)
theorem dX1_stepUp_4 : decode cX1_stepUp 4 = .ok (.iload_n 1, 1) := dk_27 (dk_at dksX1_stepUp_0 4 rfl rfl)
theorem dX1_stepUp_5 : decode cX1_stepUp 5 = .ok (.invokestatic 214, 3) := dk_184 0 214 (dk_at dksX1_stepUp_0 5 rfl rfl)
theorem dX1_stepUp_8 : decode cX1_stepUp 8 = .ok (.checkcast 3, 3) := dk_192 0 3 (dk_at dksX1_stepUp_0 8 rfl rfl)
theorem dX1_stepUp_11 : decode cX1_stepUp 11 = .ok (.astore 5, 2) := dk_58 5 (dk_at dksX1_stepUp_0 11 rfl rfl)
theorem dX1_stepUp_13 : decode cX1_stepUp 13 = .ok (.iload_n 2, 1) := dk_28 (dk_at dksX1_stepUp_0 13 rfl rfl)
theorem dX1_stepUp_14 : decode cX1_stepUp 14 = .ok (.invokestatic 191, 3) := dk_184 0 191 (dk_at dksX1_stepUp_0 14 rfl rfl)
theorem dX1_stepUp_17 : decode cX1_stepUp 17 = .ok (.iload 4, 2) := dk_21 4 (dk_at dksX1_stepUp_0 17 rfl rfl)
theorem dX1_stepUp_19 : decode cX1_stepUp 19 = .ok (.iconst 0, 1) := dk_3 (dk_at dksX1_stepUp_0 19 rfl rfl)
theorem dX1_stepUp_20 : decode cX1_stepUp 20 = .ok (.sipush 9999, 3) := dk_17 39 15 (dk_at dksX1_stepUp_0 20 rfl rfl)
theorem dX1_stepUp_23 : decode cX1_stepUp 23 = .ok (.invokestatic 149, 3) := dk_184 0 149 (dk_at dksX1_stepUp_1 0 rfl rfl)
theorem dX1_stepUp_26 : decode cX1_stepUp 26 = .ok (.aload 5, 2) := dk_25 5 (dk_at dksX1_stepUp_1 3 rfl rfl)
theorem dX1_stepUp_28 : decode cX1_stepUp 28 = .ok (.getfield 250, 3) := dk_180 0 250 (dk_at dksX1_stepUp_1 5 rfl rfl)
theorem dX1_stepUp_31 : decode cX1_stepUp 31 = .ok (.ifCond .eq 15, 3) := dk_153 0 15 (dk_at dksX1_stepUp_1 8 rfl rfl)
theorem dX1_stepUp_34 : decode cX1_stepUp 34 = .ok (.aload 5, 2) := dk_25 5 (dk_at dksX1_stepUp_1 11 rfl rfl)
theorem dX1_stepUp_36 : decode cX1_stepUp 36 = .ok (.getfield 260, 3) := dk_180 1 4 (dk_at dksX1_stepUp_1 13 rfl rfl)
theorem dX1_stepUp_39 : decode cX1_stepUp 39 = .ok (.ifnonnull 7, 3) := dk_199 0 7 (dk_at dksX1_stepUp_1 16 rfl rfl)
theorem dX1_stepUp_42 : decode cX1_stepUp 42 = .ok (.iconst 1, 1) := dk_4 (dk_at dksX1_stepUp_1 19 rfl rfl)
theorem dX1_stepUp_43 : decode cX1_stepUp 43 = .ok (.goto 4, 3) := dk_167 0 4 (dk_at dksX1_stepUp_1 20 rfl rfl)
theorem dX1_stepUp_46 : decode cX1_stepUp 46 = .ok (.iconst 0, 1) := dk_3 (dk_at dksX1_stepUp_1 23 rfl rfl)
theorem dX1_stepUp_47 : decode cX1_stepUp 47 = .ok (.invokestatic 176, 3) := dk_184 0 176 (dk_at dksX1_stepUp_2 0 rfl rfl)
theorem dX1_stepUp_50 : decode cX1_stepUp 50 = .ok (.aload 5, 2) := dk_25 5 (dk_at dksX1_stepUp_2 3 rfl rfl)
theorem dX1_stepUp_52 : decode cX1_stepUp 52 = .ok (.aload_n 0, 1) := dk_42 (dk_at dksX1_stepUp_2 5 rfl rfl)
theorem dX1_stepUp_53 : decode cX1_stepUp 53 = .ok (.getfield 44, 3) := dk_180 0 44 (dk_at dksX1_stepUp_2 6 rfl rfl)
theorem dX1_stepUp_56 : decode cX1_stepUp 56 = .ok (.putfield 264, 3) := dk_181 1 8 (dk_at dksX1_stepUp_2 9 rfl rfl)
theorem dX1_stepUp_59 : decode cX1_stepUp 59 = .ok (.aload 5, 2) := dk_25 5 (dk_at dksX1_stepUp_2 12 rfl rfl)
theorem dX1_stepUp_61 : decode cX1_stepUp 61 = .ok (.getfield 35, 3) := dk_180 0 35 (dk_at dksX1_stepUp_2 14 rfl rfl)
theorem dX1_stepUp_64 : decode cX1_stepUp 64 = .ok (.iload_n 2, 1) := dk_28 (dk_at dksX1_stepUp_2 17 rfl rfl)
theorem dX1_stepUp_65 : decode cX1_stepUp 65 = .ok (.iload_n 3, 1) := dk_29 (dk_at dksX1_stepUp_2 18 rfl rfl)
theorem dX1_stepUp_66 : decode cX1_stepUp 66 = .ok (.iload 4, 2) := dk_21 4 (dk_at dksX1_stepUp_2 19 rfl rfl)
theorem dX1_stepUp_68 : decode cX1_stepUp 68 = .ok (.invokevirtual 267, 3) := dk_182 1 11 (dk_at dksX1_stepUp_2 21 rfl rfl)
theorem dX1_stepUp_71 : decode cX1_stepUp 71 = .ok (.ifCond .eq 9, 3) := dk_153 0 9 (dk_at dksX1_stepUp_3 0 rfl rfl)
theorem dX1_stepUp_74 : decode cX1_stepUp 74 = .ok (.aload 5, 2) := dk_25 5 (dk_at dksX1_stepUp_3 3 rfl rfl)
theorem dX1_stepUp_76 : decode cX1_stepUp 76 = .ok (.iload_n 2, 1) := dk_28 (dk_at dksX1_stepUp_3 5 rfl rfl)
theorem dX1_stepUp_77 : decode cX1_stepUp 77 = .ok (.invokevirtual 271, 3) := dk_182 1 15 (dk_at dksX1_stepUp_3 6 rfl rfl)
theorem dX1_stepUp_80 : decode cX1_stepUp 80 = .ok (.aload 5, 2) := dk_25 5 (dk_at dksX1_stepUp_3 9 rfl rfl)
theorem dX1_stepUp_82 : decode cX1_stepUp 82 = .ok (.invokevirtual 257, 3) := dk_182 1 1 (dk_at dksX1_stepUp_3 11 rfl rfl)
theorem dX1_stepUp_85 : decode cX1_stepUp 85 = .ok (.ireturn, 1) := dk_172 (dk_at dksX1_stepUp_3 14 rfl rfl)
abbrev cX1_signOut : ByteArray := prog_1_method_38_code
def yX1_signOut : MethodName := ⟨RX1, "signOut", "(I)I"⟩
def dkwX1_signOut_0 : List UInt8 := [42, 180, 0, 5, 27, 184, 0, 214, 192, 0, 3, 77, 44, 180, 0, 250, 184, 0, 176, 44, 182, 0, 39, 172]
abbrev dktX1_signOut_0 : List UInt8 := dkwX1_signOut_0 ++ []
theorem dksX1_signOut_0 : cX1_signOut.data.toList.drop 0 = dktX1_signOut_0 := by decide +kernel
theorem dX1_signOut_0 : decode cX1_signOut 0 = .ok (.aload_n 0, 1) := dk_42 (dk_at dksX1_signOut_0 0 rfl rfl)
theorem dX1_signOut_1 : decode cX1_signOut 1 = .ok (.getfield 5, 3) := dk_180 0 5 (dk_at dksX1_signOut_0 1 rfl rfl)
theorem dX1_signOut_4 : decode cX1_signOut 4 = .ok (.iload_n 1, 1) := dk_27 (dk_at dksX1_signOut_0 4 rfl rfl)
theorem dX1_signOut_5 : decode cX1_signOut 5 = .ok (.invokestatic 214, 3) := dk_184 0 214 (dk_at dksX1_signOut_0 5 rfl rfl)
theorem dX1_signOut_8 : decode cX1_signOut 8 = .ok (.checkcast 3, 3) := dk_192 0 3 (dk_at dksX1_signOut_0 8 rfl rfl)
theorem dX1_signOut_11 : decode cX1_signOut 11 = .ok (.astore_n 2, 1) := dk_77 (dk_at dksX1_signOut_0 11 rfl rfl)
theorem dX1_signOut_12 : decode cX1_signOut 12 = .ok (.aload_n 2, 1) := dk_44 (dk_at dksX1_signOut_0 12 rfl rfl)
theorem dX1_signOut_13 : decode cX1_signOut 13 = .ok (.getfield 250, 3) := dk_180 0 250 (dk_at dksX1_signOut_0 13 rfl rfl)
theorem dX1_signOut_16 : decode cX1_signOut 16 = .ok (.invokestatic 176, 3) := dk_184 0 176 (dk_at dksX1_signOut_0 16 rfl rfl)
theorem dX1_signOut_19 : decode cX1_signOut 19 = .ok (.aload_n 2, 1) := dk_44 (dk_at dksX1_signOut_0 19 rfl rfl)
theorem dX1_signOut_20 : decode cX1_signOut 20 = .ok (.invokevirtual 39, 3) := dk_182 0 39 (dk_at dksX1_signOut_0 20 rfl rfl)
theorem dX1_signOut_23 : decode cX1_signOut 23 = .ok (.ireturn, 1) := dk_172 (dk_at dksX1_signOut_0 23 rfl rfl)
abbrev cX1_helper : ByteArray := prog_1_method_39_code
def yX1_helper : MethodName := ⟨RX1, "helper", "(I)Z"⟩
def dkwX1_helper_1 : List UInt8 := [180, 1, 18, 172]
abbrev dktX1_helper_1 : List UInt8 := dkwX1_helper_1 ++ []
def dkwX1_helper_0 : List UInt8 := [42, 27, 182, 0, 187, 77, 44, 44, 180, 1, 18, 154, 0, 7, 4, 167, 0, 4, 3, 181, 1, 18, 44]
abbrev dktX1_helper_0 : List UInt8 := dkwX1_helper_0 ++ dktX1_helper_1
theorem dksX1_helper_0 : cX1_helper.data.toList.drop 0 = dktX1_helper_0 := by decide +kernel
theorem dksX1_helper_1 : cX1_helper.data.toList.drop 23 = dktX1_helper_1 := dk_seg dksX1_helper_0 23 rfl rfl
theorem dX1_helper_0 : decode cX1_helper 0 = .ok (.aload_n 0, 1) := dk_42 (dk_at dksX1_helper_0 0 rfl rfl)
theorem dX1_helper_1 : decode cX1_helper 1 = .ok (.iload_n 1, 1) := dk_27 (dk_at dksX1_helper_0 1 rfl rfl)
theorem dX1_helper_2 : decode cX1_helper 2 = .ok (.invokevirtual 187, 3) := dk_182 0 187 (dk_at dksX1_helper_0 2 rfl rfl)
theorem dX1_helper_5 : decode cX1_helper 5 = .ok (.astore_n 2, 1) := dk_77 (dk_at dksX1_helper_0 5 rfl rfl)
theorem dX1_helper_6 : decode cX1_helper 6 = .ok (.aload_n 2, 1) := dk_44 (dk_at dksX1_helper_0 6 rfl rfl)
theorem dX1_helper_7 : decode cX1_helper 7 = .ok (.aload_n 2, 1) := dk_44 (dk_at dksX1_helper_0 7 rfl rfl)
theorem dX1_helper_8 : decode cX1_helper 8 = .ok (.getfield 274, 3) := dk_180 1 18 (dk_at dksX1_helper_0 8 rfl rfl)
theorem dX1_helper_11 : decode cX1_helper 11 = .ok (.ifCond .ne 7, 3) := dk_154 0 7 (dk_at dksX1_helper_0 11 rfl rfl)
theorem dX1_helper_14 : decode cX1_helper 14 = .ok (.iconst 1, 1) := dk_4 (dk_at dksX1_helper_0 14 rfl rfl)
theorem dX1_helper_15 : decode cX1_helper 15 = .ok (.goto 4, 3) := dk_167 0 4 (dk_at dksX1_helper_0 15 rfl rfl)
theorem dX1_helper_18 : decode cX1_helper 18 = .ok (.iconst 0, 1) := dk_3 (dk_at dksX1_helper_0 18 rfl rfl)
theorem dX1_helper_19 : decode cX1_helper 19 = .ok (.putfield 274, 3) := dk_181 1 18 (dk_at dksX1_helper_0 19 rfl rfl)
theorem dX1_helper_22 : decode cX1_helper 22 = .ok (.aload_n 2, 1) := dk_44 (dk_at dksX1_helper_0 22 rfl rfl)
theorem dX1_helper_23 : decode cX1_helper 23 = .ok (.getfield 274, 3) := dk_180 1 18 (dk_at dksX1_helper_1 0 rfl rfl)
theorem dX1_helper_26 : decode cX1_helper 26 = .ok (.ireturn, 1) := dk_172 (dk_at dksX1_helper_1 3 rfl rfl)
abbrev cX1_act : ByteArray := prog_1_method_40_code
def yX1_act : MethodName := ⟨RX1, "act", "(II)I"⟩
def dkwX1_act_4 : List UInt8 := [167, 0, 4, 3, 184, 0, 176, 42, 25, 4, 45, 45, 180, 1, 21, 45, 180, 1, 24, 182, 1, 26, 172]
abbrev dktX1_act_4 : List UInt8 := dkwX1_act_4 ++ []
def dkwX1_act_3 : List UInt8 := [25, 4, 180, 0, 224, 154, 0, 21, 42, 180, 0, 5, 185, 0, 9, 1, 0, 16, 60, 162, 0, 7, 4]
abbrev dktX1_act_3 : List UInt8 := dkwX1_act_3 ++ dktX1_act_4
def dkwX1_act_2 : List UInt8 := [180, 1, 18, 153, 0, 7, 4, 167, 0, 4, 3, 184, 0, 176, 25, 4, 45, 180, 0, 35, 165, 0, 29]
abbrev dktX1_act_2 : List UInt8 := dkwX1_act_2 ++ dktX1_act_3
def dkwX1_act_1 : List UInt8 := [153, 0, 32, 45, 180, 1, 4, 199, 0, 25, 45, 182, 1, 1, 6, 161, 0, 17, 45, 180, 0, 35]
abbrev dktX1_act_1 : List UInt8 := dkwX1_act_1 ++ dktX1_act_2
def dkwX1_act_0 : List UInt8 := [42, 180, 0, 5, 27, 184, 0, 214, 192, 0, 3, 78, 42, 28, 182, 0, 187, 58, 4, 45, 180, 0, 250]
abbrev dktX1_act_0 : List UInt8 := dkwX1_act_0 ++ dktX1_act_1
theorem dksX1_act_0 : cX1_act.data.toList.drop 0 = dktX1_act_0 := by decide +kernel
theorem dksX1_act_1 : cX1_act.data.toList.drop 23 = dktX1_act_1 := dk_seg dksX1_act_0 23 rfl rfl
theorem dksX1_act_2 : cX1_act.data.toList.drop 45 = dktX1_act_2 := dk_seg dksX1_act_1 22 rfl rfl
theorem dksX1_act_3 : cX1_act.data.toList.drop 68 = dktX1_act_3 := dk_seg dksX1_act_2 23 rfl rfl
theorem dksX1_act_4 : cX1_act.data.toList.drop 91 = dktX1_act_4 := dk_seg dksX1_act_3 23 rfl rfl
theorem dX1_act_0 : decode cX1_act 0 = .ok (.aload_n 0, 1) := dk_42 (dk_at dksX1_act_0 0 rfl rfl)
theorem dX1_act_1 : decode cX1_act 1 = .ok (.getfield 5, 3) := dk_180 0 5 (dk_at dksX1_act_0 1 rfl rfl)
theorem dX1_act_4 : decode cX1_act 4 = .ok (.iload_n 1, 1) := dk_27 (dk_at dksX1_act_0 4 rfl rfl)
theorem dX1_act_5 : decode cX1_act 5 = .ok (.invokestatic 214, 3) := dk_184 0 214 (dk_at dksX1_act_0 5 rfl rfl)
theorem dX1_act_8 : decode cX1_act 8 = .ok (.checkcast 3, 3) := dk_192 0 3 (dk_at dksX1_act_0 8 rfl rfl)
theorem dX1_act_11 : decode cX1_act 11 = .ok (.astore_n 3, 1) := dk_78 (dk_at dksX1_act_0 11 rfl rfl)
theorem dX1_act_12 : decode cX1_act 12 = .ok (.aload_n 0, 1) := dk_42 (dk_at dksX1_act_0 12 rfl rfl)
theorem dX1_act_13 : decode cX1_act 13 = .ok (.iload_n 2, 1) := dk_28 (dk_at dksX1_act_0 13 rfl rfl)
theorem dX1_act_14 : decode cX1_act 14 = .ok (.invokevirtual 187, 3) := dk_182 0 187 (dk_at dksX1_act_0 14 rfl rfl)
theorem dX1_act_17 : decode cX1_act 17 = .ok (.astore 4, 2) := dk_58 4 (dk_at dksX1_act_0 17 rfl rfl)
theorem dX1_act_19 : decode cX1_act 19 = .ok (.aload_n 3, 1) := dk_45 (dk_at dksX1_act_0 19 rfl rfl)
theorem dX1_act_20 : decode cX1_act 20 = .ok (.getfield 250, 3) := dk_180 0 250 (dk_at dksX1_act_0 20 rfl rfl)
theorem dX1_act_23 : decode cX1_act 23 = .ok (.ifCond .eq 32, 3) := dk_153 0 32 (dk_at dksX1_act_1 0 rfl rfl)
theorem dX1_act_26 : decode cX1_act 26 = .ok (.aload_n 3, 1) := dk_45 (dk_at dksX1_act_1 3 rfl rfl)
theorem dX1_act_27 : decode cX1_act 27 = .ok (.getfield 260, 3) := dk_180 1 4 (dk_at dksX1_act_1 4 rfl rfl)
theorem dX1_act_30 : decode cX1_act 30 = .ok (.ifnonnull 25, 3) := dk_199 0 25 (dk_at dksX1_act_1 7 rfl rfl)
theorem dX1_act_33 : decode cX1_act 33 = .ok (.aload_n 3, 1) := dk_45 (dk_at dksX1_act_1 10 rfl rfl)
theorem dX1_act_34 : decode cX1_act 34 = .ok (.invokevirtual 257, 3) := dk_182 1 1 (dk_at dksX1_act_1 11 rfl rfl)
theorem dX1_act_37 : decode cX1_act 37 = .ok (.iconst 3, 1) := dk_6 (dk_at dksX1_act_1 14 rfl rfl)
theorem dX1_act_38 : decode cX1_act 38 = .ok (.if_icmp .lt 17, 3) := dk_161 0 17 (dk_at dksX1_act_1 15 rfl rfl)
theorem dX1_act_41 : decode cX1_act 41 = .ok (.aload_n 3, 1) := dk_45 (dk_at dksX1_act_1 18 rfl rfl)
theorem dX1_act_42 : decode cX1_act 42 = .ok (.getfield 35, 3) := dk_180 0 35 (dk_at dksX1_act_1 19 rfl rfl)
theorem dX1_act_45 : decode cX1_act 45 = .ok (.getfield 274, 3) := dk_180 1 18 (dk_at dksX1_act_2 0 rfl rfl)
theorem dX1_act_48 : decode cX1_act 48 = .ok (.ifCond .eq 7, 3) := dk_153 0 7 (dk_at dksX1_act_2 3 rfl rfl)
theorem dX1_act_51 : decode cX1_act 51 = .ok (.iconst 1, 1) := dk_4 (dk_at dksX1_act_2 6 rfl rfl)
theorem dX1_act_52 : decode cX1_act 52 = .ok (.goto 4, 3) := dk_167 0 4 (dk_at dksX1_act_2 7 rfl rfl)
theorem dX1_act_55 : decode cX1_act 55 = .ok (.iconst 0, 1) := dk_3 (dk_at dksX1_act_2 10 rfl rfl)
theorem dX1_act_56 : decode cX1_act 56 = .ok (.invokestatic 176, 3) := dk_184 0 176 (dk_at dksX1_act_2 11 rfl rfl)
theorem dX1_act_59 : decode cX1_act 59 = .ok (.aload 4, 2) := dk_25 4 (dk_at dksX1_act_2 14 rfl rfl)
theorem dX1_act_61 : decode cX1_act 61 = .ok (.aload_n 3, 1) := dk_45 (dk_at dksX1_act_2 16 rfl rfl)
theorem dX1_act_62 : decode cX1_act 62 = .ok (.getfield 35, 3) := dk_180 0 35 (dk_at dksX1_act_2 17 rfl rfl)
theorem dX1_act_65 : decode cX1_act 65 = .ok (.if_acmp .eq 29, 3) := dk_165 0 29 (dk_at dksX1_act_2 20 rfl rfl)
theorem dX1_act_68 : decode cX1_act 68 = .ok (.aload 4, 2) := dk_25 4 (dk_at dksX1_act_3 0 rfl rfl)
theorem dX1_act_70 : decode cX1_act 70 = .ok (.getfield 224, 3) := dk_180 0 224 (dk_at dksX1_act_3 2 rfl rfl)
theorem dX1_act_73 : decode cX1_act 73 = .ok (.ifCond .ne 21, 3) := dk_154 0 21 (dk_at dksX1_act_3 5 rfl rfl)
theorem dX1_act_76 : decode cX1_act 76 = .ok (.aload_n 0, 1) := dk_42 (dk_at dksX1_act_3 8 rfl rfl)
theorem dX1_act_77 : decode cX1_act 77 = .ok (.getfield 5, 3) := dk_180 0 5 (dk_at dksX1_act_3 9 rfl rfl)
theorem dX1_act_80 : decode cX1_act 80 = .ok (.invokeinterface 9 1, 5) := by decide +kernel
theorem dX1_act_85 : decode cX1_act 85 = .ok (.bipush 60, 2) := dk_16 60 (dk_at dksX1_act_3 17 rfl rfl)
theorem dX1_act_87 : decode cX1_act 87 = .ok (.if_icmp .ge 7, 3) := dk_162 0 7 (dk_at dksX1_act_3 19 rfl rfl)
theorem dX1_act_90 : decode cX1_act 90 = .ok (.iconst 1, 1) := dk_4 (dk_at dksX1_act_3 22 rfl rfl)
theorem dX1_act_91 : decode cX1_act 91 = .ok (.goto 4, 3) := dk_167 0 4 (dk_at dksX1_act_4 0 rfl rfl)
theorem dX1_act_94 : decode cX1_act 94 = .ok (.iconst 0, 1) := dk_3 (dk_at dksX1_act_4 3 rfl rfl)
theorem dX1_act_95 : decode cX1_act 95 = .ok (.invokestatic 176, 3) := dk_184 0 176 (dk_at dksX1_act_4 4 rfl rfl)
theorem dX1_act_98 : decode cX1_act 98 = .ok (.aload_n 0, 1) := dk_42 (dk_at dksX1_act_4 7 rfl rfl)
theorem dX1_act_99 : decode cX1_act 99 = .ok (.aload 4, 2) := dk_25 4 (dk_at dksX1_act_4 8 rfl rfl)
theorem dX1_act_101 : decode cX1_act 101 = .ok (.aload_n 3, 1) := dk_45 (dk_at dksX1_act_4 10 rfl rfl)
theorem dX1_act_102 : decode cX1_act 102 = .ok (.aload_n 3, 1) := dk_45 (dk_at dksX1_act_4 11 rfl rfl)
theorem dX1_act_103 : decode cX1_act 103 = .ok (.getfield 277, 3) := dk_180 1 21 (dk_at dksX1_act_4 12 rfl rfl)
theorem dX1_act_106 : decode cX1_act 106 = .ok (.aload_n 3, 1) := dk_45 (dk_at dksX1_act_4 15 rfl rfl)
theorem dX1_act_107 : decode cX1_act 107 = .ok (.getfield 280, 3) := dk_180 1 24 (dk_at dksX1_act_4 16 rfl rfl)
theorem dX1_act_110 : decode cX1_act 110 = .ok (.invokevirtual 282, 3) := dk_182 1 26 (dk_at dksX1_act_4 19 rfl rfl)
theorem dX1_act_113 : decode cX1_act 113 = .ok (.ireturn, 1) := dk_172 (dk_at dksX1_act_4 22 rfl rfl)
abbrev cX1_consent : ByteArray := prog_1_method_41_code
def yX1_consent : MethodName := ⟨RX1, "consent", "(III)I"⟩
def dkwX1_consent_2 : List UInt8 := [180, 1, 34, 58, 4, 25, 4, 28, 92, 46, 29, 128, 79, 25, 4, 28, 46, 172]
abbrev dktX1_consent_2 : List UInt8 := dkwX1_consent_2 ++ []
def dkwX1_consent_1 : List UInt8 := [16, 15, 184, 0, 149, 27, 2, 160, 0, 10, 42, 180, 0, 108, 167, 0, 12, 42, 180, 0, 67, 27, 50]
abbrev dktX1_consent_1 : List UInt8 := dkwX1_consent_1 ++ dktX1_consent_2
def dkwX1_consent_0 : List UInt8 := [27, 2, 160, 0, 7, 3, 167, 0, 4, 27, 16, 6, 184, 0, 158, 42, 28, 182, 1, 30, 87, 29, 3]
abbrev dktX1_consent_0 : List UInt8 := dkwX1_consent_0 ++ dktX1_consent_1
theorem dksX1_consent_0 : cX1_consent.data.toList.drop 0 = dktX1_consent_0 := by decide +kernel
theorem dksX1_consent_1 : cX1_consent.data.toList.drop 23 = dktX1_consent_1 := dk_seg dksX1_consent_0 23 rfl rfl
theorem dksX1_consent_2 : cX1_consent.data.toList.drop 46 = dktX1_consent_2 := dk_seg dksX1_consent_1 23 rfl rfl
theorem dX1_consent_0 : decode cX1_consent 0 = .ok (.iload_n 1, 1) := dk_27 (dk_at dksX1_consent_0 0 rfl rfl)
theorem dX1_consent_1 : decode cX1_consent 1 = .ok (.iconst (-1), 1) := dk_2 (dk_at dksX1_consent_0 1 rfl rfl)
theorem dX1_consent_2 : decode cX1_consent 2 = .ok (.if_icmp .ne 7, 3) := dk_160 0 7 (dk_at dksX1_consent_0 2 rfl rfl)
theorem dX1_consent_5 : decode cX1_consent 5 = .ok (.iconst 0, 1) := dk_3 (dk_at dksX1_consent_0 5 rfl rfl)
theorem dX1_consent_6 : decode cX1_consent 6 = .ok (.goto 4, 3) := dk_167 0 4 (dk_at dksX1_consent_0 6 rfl rfl)
theorem dX1_consent_9 : decode cX1_consent 9 = .ok (.iload_n 1, 1) := dk_27 (dk_at dksX1_consent_0 9 rfl rfl)
theorem dX1_consent_10 : decode cX1_consent 10 = .ok (.bipush 6, 2) := dk_16 6 (dk_at dksX1_consent_0 10 rfl rfl)
theorem dX1_consent_12 : decode cX1_consent 12 = .ok (.invokestatic 158, 3) := dk_184 0 158 (dk_at dksX1_consent_0 12 rfl rfl)
theorem dX1_consent_15 : decode cX1_consent 15 = .ok (.aload_n 0, 1) := dk_42 (dk_at dksX1_consent_0 15 rfl rfl)
theorem dX1_consent_16 : decode cX1_consent 16 = .ok (.iload_n 2, 1) := dk_28 (dk_at dksX1_consent_0 16 rfl rfl)
theorem dX1_consent_17 : decode cX1_consent 17 = .ok (.invokevirtual 286, 3) := dk_182 1 30 (dk_at dksX1_consent_0 17 rfl rfl)
theorem dX1_consent_20 : decode cX1_consent 20 = .ok (.pop, 1) := dk_87 (dk_at dksX1_consent_0 20 rfl rfl)
theorem dX1_consent_21 : decode cX1_consent 21 = .ok (.iload_n 3, 1) := dk_29 (dk_at dksX1_consent_0 21 rfl rfl)
theorem dX1_consent_22 : decode cX1_consent 22 = .ok (.iconst 0, 1) := dk_3 (dk_at dksX1_consent_0 22 rfl rfl)
theorem dX1_consent_23 : decode cX1_consent 23 = .ok (.bipush 15, 2) := dk_16 15 (dk_at dksX1_consent_1 0 rfl rfl)
theorem dX1_consent_25 : decode cX1_consent 25 = .ok (.invokestatic 149, 3) := dk_184 0 149 (dk_at dksX1_consent_1 2 rfl rfl)
theorem dX1_consent_28 : decode cX1_consent 28 = .ok (.iload_n 1, 1) := dk_27 (dk_at dksX1_consent_1 5 rfl rfl)
theorem dX1_consent_29 : decode cX1_consent 29 = .ok (.iconst (-1), 1) := dk_2 (dk_at dksX1_consent_1 6 rfl rfl)
theorem dX1_consent_30 : decode cX1_consent 30 = .ok (.if_icmp .ne 10, 3) := dk_160 0 10 (dk_at dksX1_consent_1 7 rfl rfl)
theorem dX1_consent_33 : decode cX1_consent 33 = .ok (.aload_n 0, 1) := dk_42 (dk_at dksX1_consent_1 10 rfl rfl)
theorem dX1_consent_34 : decode cX1_consent 34 = .ok (.getfield 108, 3) := dk_180 0 108 (dk_at dksX1_consent_1 11 rfl rfl)
theorem dX1_consent_37 : decode cX1_consent 37 = .ok (.goto 12, 3) := dk_167 0 12 (dk_at dksX1_consent_1 14 rfl rfl)
theorem dX1_consent_40 : decode cX1_consent 40 = .ok (.aload_n 0, 1) := dk_42 (dk_at dksX1_consent_1 17 rfl rfl)
theorem dX1_consent_41 : decode cX1_consent 41 = .ok (.getfield 67, 3) := dk_180 0 67 (dk_at dksX1_consent_1 18 rfl rfl)
theorem dX1_consent_44 : decode cX1_consent 44 = .ok (.iload_n 1, 1) := dk_27 (dk_at dksX1_consent_1 21 rfl rfl)
theorem dX1_consent_45 : decode cX1_consent 45 = .ok (.aaload, 1) := dk_50 (dk_at dksX1_consent_1 22 rfl rfl)
theorem dX1_consent_46 : decode cX1_consent 46 = .ok (.getfield 290, 3) := dk_180 1 34 (dk_at dksX1_consent_2 0 rfl rfl)
theorem dX1_consent_49 : decode cX1_consent 49 = .ok (.astore 4, 2) := dk_58 4 (dk_at dksX1_consent_2 3 rfl rfl)
theorem dX1_consent_51 : decode cX1_consent 51 = .ok (.aload 4, 2) := dk_25 4 (dk_at dksX1_consent_2 5 rfl rfl)
theorem dX1_consent_53 : decode cX1_consent 53 = .ok (.iload_n 2, 1) := dk_28 (dk_at dksX1_consent_2 7 rfl rfl)
theorem dX1_consent_54 : decode cX1_consent 54 = .ok (.dup2, 1) := dk_92 (dk_at dksX1_consent_2 8 rfl rfl)
theorem dX1_consent_55 : decode cX1_consent 55 = .ok (.iaload, 1) := dk_46 (dk_at dksX1_consent_2 9 rfl rfl)
theorem dX1_consent_56 : decode cX1_consent 56 = .ok (.iload_n 3, 1) := dk_29 (dk_at dksX1_consent_2 10 rfl rfl)
theorem dX1_consent_57 : decode cX1_consent 57 = .ok (.ior, 1) := dk_128 (dk_at dksX1_consent_2 11 rfl rfl)
theorem dX1_consent_58 : decode cX1_consent 58 = .ok (.iastore, 1) := dk_79 (dk_at dksX1_consent_2 12 rfl rfl)
theorem dX1_consent_59 : decode cX1_consent 59 = .ok (.aload 4, 2) := dk_25 4 (dk_at dksX1_consent_2 13 rfl rfl)
theorem dX1_consent_61 : decode cX1_consent 61 = .ok (.iload_n 2, 1) := dk_28 (dk_at dksX1_consent_2 15 rfl rfl)
theorem dX1_consent_62 : decode cX1_consent 62 = .ok (.iaload, 1) := dk_46 (dk_at dksX1_consent_2 16 rfl rfl)
theorem dX1_consent_63 : decode cX1_consent 63 = .ok (.ireturn, 1) := dk_172 (dk_at dksX1_consent_2 17 rfl rfl)
abbrev cX1_serviceAt : ByteArray := prog_1_method_12_code
def yX1_serviceAt : MethodName := ⟨RX1, "serviceAt", "(I)LKeyringCourt$Service;"⟩
def dkwX1_serviceAt_0 : List UInt8 := [27, 7, 184, 0, 158, 42, 180, 0, 104, 27, 50, 176]
abbrev dktX1_serviceAt_0 : List UInt8 := dkwX1_serviceAt_0 ++ []
theorem dksX1_serviceAt_0 : cX1_serviceAt.data.toList.drop 0 = dktX1_serviceAt_0 := by decide +kernel
theorem dX1_serviceAt_0 : decode cX1_serviceAt 0 = .ok (.iload_n 1, 1) := dk_27 (dk_at dksX1_serviceAt_0 0 rfl rfl)
theorem dX1_serviceAt_1 : decode cX1_serviceAt 1 = .ok (.iconst 4, 1) := dk_7 (dk_at dksX1_serviceAt_0 1 rfl rfl)
theorem dX1_serviceAt_2 : decode cX1_serviceAt 2 = .ok (.invokestatic 158, 3) := dk_184 0 158 (dk_at dksX1_serviceAt_0 2 rfl rfl)
theorem dX1_serviceAt_5 : decode cX1_serviceAt 5 = .ok (.aload_n 0, 1) := dk_42 (dk_at dksX1_serviceAt_0 5 rfl rfl)
theorem dX1_serviceAt_6 : decode cX1_serviceAt 6 = .ok (.getfield 104, 3) := dk_180 0 104 (dk_at dksX1_serviceAt_0 6 rfl rfl)
theorem dX1_serviceAt_9 : decode cX1_serviceAt 9 = .ok (.iload_n 1, 1) := dk_27 (dk_at dksX1_serviceAt_0 9 rfl rfl)
theorem dX1_serviceAt_10 : decode cX1_serviceAt 10 = .ok (.aaload, 1) := dk_50 (dk_at dksX1_serviceAt_0 10 rfl rfl)
theorem dX1_serviceAt_11 : decode cX1_serviceAt 11 = .ok (.areturn, 1) := dk_176 (dk_at dksX1_serviceAt_0 11 rfl rfl)
abbrev cX1_withdraw : ByteArray := prog_1_method_42_code
def yX1_withdraw : MethodName := ⟨RX1, "withdraw", "(II)I"⟩
def dkwX1_withdraw_4 : List UInt8 := [54, 4, 132, 5, 1, 167, 255, 184, 21, 4, 172]
abbrev dktX1_withdraw_4 : List UInt8 := dkwX1_withdraw_4 ++ []
def dkwX1_withdraw_3 : List UInt8 := [25, 6, 180, 1, 41, 28, 160, 0, 15, 25, 6, 182, 1, 44, 153, 0, 7, 4, 167, 0, 4, 3, 96]
abbrev dktX1_withdraw_3 : List UInt8 := dkwX1_withdraw_3 ++ dktX1_withdraw_4
def dkwX1_withdraw_2 : List UInt8 := [185, 0, 31, 2, 0, 192, 1, 37, 58, 6, 21, 4, 25, 6, 180, 1, 39, 180, 0, 35, 45, 166, 0, 24]
abbrev dktX1_withdraw_2 : List UInt8 := dkwX1_withdraw_2 ++ dktX1_withdraw_3
def dkwX1_withdraw_1 : List UInt8 := [54, 5, 21, 5, 42, 180, 0, 93, 185, 0, 9, 1, 0, 162, 0, 64, 42, 180, 0, 93, 21, 5]
abbrev dktX1_withdraw_1 : List UInt8 := dkwX1_withdraw_1 ++ dktX1_withdraw_2
def dkwX1_withdraw_0 : List UInt8 := [42, 27, 182, 0, 187, 78, 42, 28, 182, 1, 30, 87, 45, 180, 1, 34, 28, 3, 79, 3, 54, 4, 3]
abbrev dktX1_withdraw_0 : List UInt8 := dkwX1_withdraw_0 ++ dktX1_withdraw_1
theorem dksX1_withdraw_0 : cX1_withdraw.data.toList.drop 0 = dktX1_withdraw_0 := by decide +kernel
theorem dksX1_withdraw_1 : cX1_withdraw.data.toList.drop 23 = dktX1_withdraw_1 := dk_seg dksX1_withdraw_0 23 rfl rfl
theorem dksX1_withdraw_2 : cX1_withdraw.data.toList.drop 45 = dktX1_withdraw_2 := dk_seg dksX1_withdraw_1 22 rfl rfl
theorem dksX1_withdraw_3 : cX1_withdraw.data.toList.drop 69 = dktX1_withdraw_3 := dk_seg dksX1_withdraw_2 24 rfl rfl
theorem dksX1_withdraw_4 : cX1_withdraw.data.toList.drop 92 = dktX1_withdraw_4 := dk_seg dksX1_withdraw_3 23 rfl rfl
theorem dX1_withdraw_0 : decode cX1_withdraw 0 = .ok (.aload_n 0, 1) := dk_42 (dk_at dksX1_withdraw_0 0 rfl rfl)
theorem dX1_withdraw_1 : decode cX1_withdraw 1 = .ok (.iload_n 1, 1) := dk_27 (dk_at dksX1_withdraw_0 1 rfl rfl)
theorem dX1_withdraw_2 : decode cX1_withdraw 2 = .ok (.invokevirtual 187, 3) := dk_182 0 187 (dk_at dksX1_withdraw_0 2 rfl rfl)
theorem dX1_withdraw_5 : decode cX1_withdraw 5 = .ok (.astore_n 3, 1) := dk_78 (dk_at dksX1_withdraw_0 5 rfl rfl)
theorem dX1_withdraw_6 : decode cX1_withdraw 6 = .ok (.aload_n 0, 1) := dk_42 (dk_at dksX1_withdraw_0 6 rfl rfl)
theorem dX1_withdraw_7 : decode cX1_withdraw 7 = .ok (.iload_n 2, 1) := dk_28 (dk_at dksX1_withdraw_0 7 rfl rfl)
theorem dX1_withdraw_8 : decode cX1_withdraw 8 = .ok (.invokevirtual 286, 3) := dk_182 1 30 (dk_at dksX1_withdraw_0 8 rfl rfl)
theorem dX1_withdraw_11 : decode cX1_withdraw 11 = .ok (.pop, 1) := dk_87 (dk_at dksX1_withdraw_0 11 rfl rfl)
theorem dX1_withdraw_12 : decode cX1_withdraw 12 = .ok (.aload_n 3, 1) := dk_45 (dk_at dksX1_withdraw_0 12 rfl rfl)
theorem dX1_withdraw_13 : decode cX1_withdraw 13 = .ok (.getfield 290, 3) := dk_180 1 34 (dk_at dksX1_withdraw_0 13 rfl rfl)
theorem dX1_withdraw_16 : decode cX1_withdraw 16 = .ok (.iload_n 2, 1) := dk_28 (dk_at dksX1_withdraw_0 16 rfl rfl)
theorem dX1_withdraw_17 : decode cX1_withdraw 17 = .ok (.iconst 0, 1) := dk_3 (dk_at dksX1_withdraw_0 17 rfl rfl)
theorem dX1_withdraw_18 : decode cX1_withdraw 18 = .ok (.iastore, 1) := dk_79 (dk_at dksX1_withdraw_0 18 rfl rfl)
theorem dX1_withdraw_19 : decode cX1_withdraw 19 = .ok (.iconst 0, 1) := dk_3 (dk_at dksX1_withdraw_0 19 rfl rfl)
theorem dX1_withdraw_20 : decode cX1_withdraw 20 = .ok (.istore 4, 2) := dk_54 4 (dk_at dksX1_withdraw_0 20 rfl rfl)
theorem dX1_withdraw_22 : decode cX1_withdraw 22 = .ok (.iconst 0, 1) := dk_3 (dk_at dksX1_withdraw_0 22 rfl rfl)
theorem dX1_withdraw_23 : decode cX1_withdraw 23 = .ok (.istore 5, 2) := dk_54 5 (dk_at dksX1_withdraw_1 0 rfl rfl)
theorem dX1_withdraw_25 : decode cX1_withdraw 25 = .ok (.iload 5, 2) := dk_21 5 (dk_at dksX1_withdraw_1 2 rfl rfl)
theorem dX1_withdraw_27 : decode cX1_withdraw 27 = .ok (.aload_n 0, 1) := dk_42 (dk_at dksX1_withdraw_1 4 rfl rfl)
theorem dX1_withdraw_28 : decode cX1_withdraw 28 = .ok (.getfield 93, 3) := dk_180 0 93 (dk_at dksX1_withdraw_1 5 rfl rfl)
theorem dX1_withdraw_31 : decode cX1_withdraw 31 = .ok (.invokeinterface 9 1, 5) := by decide +kernel
theorem dX1_withdraw_36 : decode cX1_withdraw 36 = .ok (.if_icmp .ge 64, 3) := dk_162 0 64 (dk_at dksX1_withdraw_1 13 rfl rfl)
theorem dX1_withdraw_39 : decode cX1_withdraw 39 = .ok (.aload_n 0, 1) := dk_42 (dk_at dksX1_withdraw_1 16 rfl rfl)
theorem dX1_withdraw_40 : decode cX1_withdraw 40 = .ok (.getfield 93, 3) := dk_180 0 93 (dk_at dksX1_withdraw_1 17 rfl rfl)
theorem dX1_withdraw_43 : decode cX1_withdraw 43 = .ok (.iload 5, 2) := dk_21 5 (dk_at dksX1_withdraw_1 20 rfl rfl)
theorem dX1_withdraw_45 : decode cX1_withdraw 45 = .ok (.invokeinterface 31 2, 5) := by decide +kernel
theorem dX1_withdraw_50 : decode cX1_withdraw 50 = .ok (.checkcast 293, 3) := dk_192 1 37 (dk_at dksX1_withdraw_2 5 rfl rfl)
theorem dX1_withdraw_53 : decode cX1_withdraw 53 = .ok (.astore 6, 2) := dk_58 6 (dk_at dksX1_withdraw_2 8 rfl rfl)
theorem dX1_withdraw_55 : decode cX1_withdraw 55 = .ok (.iload 4, 2) := dk_21 4 (dk_at dksX1_withdraw_2 10 rfl rfl)
theorem dX1_withdraw_57 : decode cX1_withdraw 57 = .ok (.aload 6, 2) := dk_25 6 (dk_at dksX1_withdraw_2 12 rfl rfl)
theorem dX1_withdraw_59 : decode cX1_withdraw 59 = .ok (.getfield 295, 3) := dk_180 1 39 (dk_at dksX1_withdraw_2 14 rfl rfl)
theorem dX1_withdraw_62 : decode cX1_withdraw 62 = .ok (.getfield 35, 3) := dk_180 0 35 (dk_at dksX1_withdraw_2 17 rfl rfl)
theorem dX1_withdraw_65 : decode cX1_withdraw 65 = .ok (.aload_n 3, 1) := dk_45 (dk_at dksX1_withdraw_2 20 rfl rfl)
theorem dX1_withdraw_66 : decode cX1_withdraw 66 = .ok (.if_acmp .ne 24, 3) := dk_166 0 24 (dk_at dksX1_withdraw_2 21 rfl rfl)
theorem dX1_withdraw_69 : decode cX1_withdraw 69 = .ok (.aload 6, 2) := dk_25 6 (dk_at dksX1_withdraw_3 0 rfl rfl)
theorem dX1_withdraw_71 : decode cX1_withdraw 71 = .ok (.getfield 297, 3) := dk_180 1 41 (dk_at dksX1_withdraw_3 2 rfl rfl)
theorem dX1_withdraw_74 : decode cX1_withdraw 74 = .ok (.iload_n 2, 1) := dk_28 (dk_at dksX1_withdraw_3 5 rfl rfl)
theorem dX1_withdraw_75 : decode cX1_withdraw 75 = .ok (.if_icmp .ne 15, 3) := dk_160 0 15 (dk_at dksX1_withdraw_3 6 rfl rfl)
theorem dX1_withdraw_78 : decode cX1_withdraw 78 = .ok (.aload 6, 2) := dk_25 6 (dk_at dksX1_withdraw_3 9 rfl rfl)
theorem dX1_withdraw_80 : decode cX1_withdraw 80 = .ok (.invokevirtual 300, 3) := dk_182 1 44 (dk_at dksX1_withdraw_3 11 rfl rfl)
theorem dX1_withdraw_83 : decode cX1_withdraw 83 = .ok (.ifCond .eq 7, 3) := dk_153 0 7 (dk_at dksX1_withdraw_3 14 rfl rfl)
theorem dX1_withdraw_86 : decode cX1_withdraw 86 = .ok (.iconst 1, 1) := dk_4 (dk_at dksX1_withdraw_3 17 rfl rfl)
theorem dX1_withdraw_87 : decode cX1_withdraw 87 = .ok (.goto 4, 3) := dk_167 0 4 (dk_at dksX1_withdraw_3 18 rfl rfl)
theorem dX1_withdraw_90 : decode cX1_withdraw 90 = .ok (.iconst 0, 1) := dk_3 (dk_at dksX1_withdraw_3 21 rfl rfl)
theorem dX1_withdraw_91 : decode cX1_withdraw 91 = .ok (.iadd, 1) := dk_96 (dk_at dksX1_withdraw_3 22 rfl rfl)
theorem dX1_withdraw_92 : decode cX1_withdraw 92 = .ok (.istore 4, 2) := dk_54 4 (dk_at dksX1_withdraw_4 0 rfl rfl)
theorem dX1_withdraw_94 : decode cX1_withdraw 94 = .ok (.iinc 5 1, 3) := dk_132 5 1 (dk_at dksX1_withdraw_4 2 rfl rfl)
theorem dX1_withdraw_97 : decode cX1_withdraw 97 = .ok (.goto (-72), 3) := dk_167 255 184 (dk_at dksX1_withdraw_4 5 rfl rfl)
theorem dX1_withdraw_100 : decode cX1_withdraw 100 = .ok (.iload 4, 2) := dk_21 4 (dk_at dksX1_withdraw_4 8 rfl rfl)
theorem dX1_withdraw_102 : decode cX1_withdraw 102 = .ok (.ireturn, 1) := dk_172 (dk_at dksX1_withdraw_4 10 rfl rfl)
abbrev cX1_need : ByteArray := prog_1_method_43_code
def yX1_need : MethodName := ⟨RX1, "need", "(II)I"⟩
def dkwX1_need_1 : List UInt8 := [21, 4, 172]
abbrev dktX1_need_1 : List UInt8 := dkwX1_need_1 ++ []
def dkwX1_need_0 : List UInt8 := [42, 27, 182, 1, 30, 78, 28, 3, 16, 6, 184, 0, 149, 45, 180, 1, 46, 54, 4, 45, 28, 181, 1, 46]
abbrev dktX1_need_0 : List UInt8 := dkwX1_need_0 ++ dktX1_need_1
theorem dksX1_need_0 : cX1_need.data.toList.drop 0 = dktX1_need_0 := by decide +kernel
theorem dksX1_need_1 : cX1_need.data.toList.drop 24 = dktX1_need_1 := dk_seg dksX1_need_0 24 rfl rfl
theorem dX1_need_0 : decode cX1_need 0 = .ok (.aload_n 0, 1) := dk_42 (dk_at dksX1_need_0 0 rfl rfl)
theorem dX1_need_1 : decode cX1_need 1 = .ok (.iload_n 1, 1) := dk_27 (dk_at dksX1_need_0 1 rfl rfl)
theorem dX1_need_2 : decode cX1_need 2 = .ok (.invokevirtual 286, 3) := dk_182 1 30 (dk_at dksX1_need_0 2 rfl rfl)
theorem dX1_need_5 : decode cX1_need 5 = .ok (.astore_n 3, 1) := dk_78 (dk_at dksX1_need_0 5 rfl rfl)
theorem dX1_need_6 : decode cX1_need 6 = .ok (.iload_n 2, 1) := dk_28 (dk_at dksX1_need_0 6 rfl rfl)
theorem dX1_need_7 : decode cX1_need 7 = .ok (.iconst 0, 1) := dk_3 (dk_at dksX1_need_0 7 rfl rfl)
theorem dX1_need_8 : decode cX1_need 8 = .ok (.bipush 6, 2) := dk_16 6 (dk_at dksX1_need_0 8 rfl rfl)
theorem dX1_need_10 : decode cX1_need 10 = .ok (.invokestatic 149, 3) := dk_184 0 149 (dk_at dksX1_need_0 10 rfl rfl)
theorem dX1_need_13 : decode cX1_need 13 = .ok (.aload_n 3, 1) := dk_45 (dk_at dksX1_need_0 13 rfl rfl)
theorem dX1_need_14 : decode cX1_need 14 = .ok (.getfield 302, 3) := dk_180 1 46 (dk_at dksX1_need_0 14 rfl rfl)
theorem dX1_need_17 : decode cX1_need 17 = .ok (.istore 4, 2) := dk_54 4 (dk_at dksX1_need_0 17 rfl rfl)
theorem dX1_need_19 : decode cX1_need 19 = .ok (.aload_n 3, 1) := dk_45 (dk_at dksX1_need_0 19 rfl rfl)
theorem dX1_need_20 : decode cX1_need 20 = .ok (.iload_n 2, 1) := dk_28 (dk_at dksX1_need_0 20 rfl rfl)
theorem dX1_need_21 : decode cX1_need 21 = .ok (.putfield 302, 3) := dk_181 1 46 (dk_at dksX1_need_0 21 rfl rfl)
theorem dX1_need_24 : decode cX1_need 24 = .ok (.iload 4, 2) := dk_21 4 (dk_at dksX1_need_1 0 rfl rfl)
theorem dX1_need_26 : decode cX1_need 26 = .ok (.ireturn, 1) := dk_172 (dk_at dksX1_need_1 2 rfl rfl)
abbrev cX1_authorize : ByteArray := prog_1_method_44_code
def yX1_authorize : MethodName := ⟨RX1, "authorize", "(IIII)I"⟩
def dkwX1_authorize_6 : List UInt8 := [185, 0, 19, 2, 0, 87, 42, 180, 0, 90, 185, 0, 9, 1, 0, 4, 100, 172]
abbrev dktX1_authorize_6 : List UInt8 := dkwX1_authorize_6 ++ []
def dkwX1_authorize_5 : List UInt8 := [16, 254, 172, 42, 180, 0, 90, 187, 1, 49, 89, 25, 5, 28, 29, 21, 4, 42, 180, 0, 44, 183, 1, 51]
abbrev dktX1_authorize_5 : List UInt8 := dkwX1_authorize_5 ++ dktX1_authorize_6
def dkwX1_authorize_4 : List UInt8 := [21, 7, 2, 130, 126, 153, 0, 6, 16, 253, 172, 25, 5, 182, 1, 1, 25, 6, 180, 1, 46, 162, 0, 6]
abbrev dktX1_authorize_4 : List UInt8 := dkwX1_authorize_4 ++ dktX1_authorize_5
def dkwX1_authorize_3 : List UInt8 := [181, 1, 8, 25, 5, 180, 0, 35, 180, 1, 34, 28, 46, 42, 180, 0, 108, 28, 46, 128, 54, 7, 21, 4]
abbrev dktX1_authorize_3 : List UInt8 := dkwX1_authorize_3 ++ dktX1_authorize_4
def dkwX1_authorize_2 : List UInt8 := [185, 0, 9, 1, 0, 16, 60, 162, 0, 7, 4, 167, 0, 4, 3, 184, 0, 176, 25, 5, 42, 180, 0, 44]
abbrev dktX1_authorize_2 : List UInt8 := dkwX1_authorize_2 ++ dktX1_authorize_3
def dkwX1_authorize_1 : List UInt8 := [58, 6, 21, 4, 4, 16, 15, 184, 0, 149, 25, 5, 180, 0, 250, 153, 0, 21, 42, 180, 0, 90]
abbrev dktX1_authorize_1 : List UInt8 := dkwX1_authorize_1 ++ dktX1_authorize_2
def dkwX1_authorize_0 : List UInt8 := [42, 180, 0, 5, 27, 184, 0, 214, 192, 0, 3, 58, 5, 42, 28, 182, 1, 30, 87, 42, 29, 182, 1, 30]
abbrev dktX1_authorize_0 : List UInt8 := dkwX1_authorize_0 ++ dktX1_authorize_1
theorem dksX1_authorize_0 : cX1_authorize.data.toList.drop 0 = dktX1_authorize_0 := by decide +kernel
theorem dksX1_authorize_1 : cX1_authorize.data.toList.drop 24 = dktX1_authorize_1 := dk_seg dksX1_authorize_0 24 rfl rfl
theorem dksX1_authorize_2 : cX1_authorize.data.toList.drop 46 = dktX1_authorize_2 := dk_seg dksX1_authorize_1 22 rfl rfl
theorem dksX1_authorize_3 : cX1_authorize.data.toList.drop 70 = dktX1_authorize_3 := dk_seg dksX1_authorize_2 24 rfl rfl
theorem dksX1_authorize_4 : cX1_authorize.data.toList.drop 94 = dktX1_authorize_4 := dk_seg dksX1_authorize_3 24 rfl rfl
theorem dksX1_authorize_5 : cX1_authorize.data.toList.drop 118 = dktX1_authorize_5 := dk_seg dksX1_authorize_4 24 rfl rfl
theorem dksX1_authorize_6 : cX1_authorize.data.toList.drop 142 = dktX1_authorize_6 := dk_seg dksX1_authorize_5 24 rfl rfl
theorem dX1_authorize_0 : decode cX1_authorize 0 = .ok (.aload_n 0, 1) := dk_42 (dk_at dksX1_authorize_0 0 rfl rfl)
theorem dX1_authorize_1 : decode cX1_authorize 1 = .ok (.getfield 5, 3) := dk_180 0 5 (dk_at dksX1_authorize_0 1 rfl rfl)
theorem dX1_authorize_4 : decode cX1_authorize 4 = .ok (.iload_n 1, 1) := dk_27 (dk_at dksX1_authorize_0 4 rfl rfl)
theorem dX1_authorize_5 : decode cX1_authorize 5 = .ok (.invokestatic 214, 3) := dk_184 0 214 (dk_at dksX1_authorize_0 5 rfl rfl)
theorem dX1_authorize_8 : decode cX1_authorize 8 = .ok (.checkcast 3, 3) := dk_192 0 3 (dk_at dksX1_authorize_0 8 rfl rfl)
theorem dX1_authorize_11 : decode cX1_authorize 11 = .ok (.astore 5, 2) := dk_58 5 (dk_at dksX1_authorize_0 11 rfl rfl)
theorem dX1_authorize_13 : decode cX1_authorize 13 = .ok (.aload_n 0, 1) := dk_42 (dk_at dksX1_authorize_0 13 rfl rfl)
theorem dX1_authorize_14 : decode cX1_authorize 14 = .ok (.iload_n 2, 1) := dk_28 (dk_at dksX1_authorize_0 14 rfl rfl)
theorem dX1_authorize_15 : decode cX1_authorize 15 = .ok (.invokevirtual 286, 3) := dk_182 1 30 (dk_at dksX1_authorize_0 15 rfl rfl)
theorem dX1_authorize_18 : decode cX1_authorize 18 = .ok (.pop, 1) := dk_87 (dk_at dksX1_authorize_0 18 rfl rfl)
theorem dX1_authorize_19 : decode cX1_authorize 19 = .ok (.aload_n 0, 1) := dk_42 (dk_at dksX1_authorize_0 19 rfl rfl)
theorem dX1_authorize_20 : decode cX1_authorize 20 = .ok (.iload_n 3, 1) := dk_29 (dk_at dksX1_authorize_0 20 rfl rfl)
theorem dX1_authorize_21 : decode cX1_authorize 21 = .ok (.invokevirtual 286, 3) := dk_182 1 30 (dk_at dksX1_authorize_0 21 rfl rfl)
theorem dX1_authorize_24 : decode cX1_authorize 24 = .ok (.astore 6, 2) := dk_58 6 (dk_at dksX1_authorize_1 0 rfl rfl)
theorem dX1_authorize_26 : decode cX1_authorize 26 = .ok (.iload 4, 2) := dk_21 4 (dk_at dksX1_authorize_1 2 rfl rfl)
theorem dX1_authorize_28 : decode cX1_authorize 28 = .ok (.iconst 1, 1) := dk_4 (dk_at dksX1_authorize_1 4 rfl rfl)
theorem dX1_authorize_29 : decode cX1_authorize 29 = .ok (.bipush 15, 2) := dk_16 15 (dk_at dksX1_authorize_1 5 rfl rfl)
theorem dX1_authorize_31 : decode cX1_authorize 31 = .ok (.invokestatic 149, 3) := dk_184 0 149 (dk_at dksX1_authorize_1 7 rfl rfl)
theorem dX1_authorize_34 : decode cX1_authorize 34 = .ok (.aload 5, 2) := dk_25 5 (dk_at dksX1_authorize_1 10 rfl rfl)
theorem dX1_authorize_36 : decode cX1_authorize 36 = .ok (.getfield 250, 3) := dk_180 0 250 (dk_at dksX1_authorize_1 12 rfl rfl)
theorem dX1_authorize_39 : decode cX1_authorize 39 = .ok (.ifCond .eq 21, 3) := dk_153 0 21 (dk_at dksX1_authorize_1 15 rfl rfl)
theorem dX1_authorize_42 : decode cX1_authorize 42 = .ok (.aload_n 0, 1) := dk_42 (dk_at dksX1_authorize_1 18 rfl rfl)
theorem dX1_authorize_43 : decode cX1_authorize 43 = .ok (.getfield 90, 3) := dk_180 0 90 (dk_at dksX1_authorize_1 19 rfl rfl)
theorem dX1_authorize_46 : decode cX1_authorize 46 = .ok (.invokeinterface 9 1, 5) := by decide +kernel
theorem dX1_authorize_51 : decode cX1_authorize 51 = .ok (.bipush 60, 2) := dk_16 60 (dk_at dksX1_authorize_2 5 rfl rfl)
theorem dX1_authorize_53 : decode cX1_authorize 53 = .ok (.if_icmp .ge 7, 3) := dk_162 0 7 (dk_at dksX1_authorize_2 7 rfl rfl)
theorem dX1_authorize_56 : decode cX1_authorize 56 = .ok (.iconst 1, 1) := dk_4 (dk_at dksX1_authorize_2 10 rfl rfl)
theorem dX1_authorize_57 : decode cX1_authorize 57 = .ok (.goto 4, 3) := dk_167 0 4 (dk_at dksX1_authorize_2 11 rfl rfl)
theorem dX1_authorize_60 : decode cX1_authorize 60 = .ok (.iconst 0, 1) := dk_3 (dk_at dksX1_authorize_2 14 rfl rfl)
theorem dX1_authorize_61 : decode cX1_authorize 61 = .ok (.invokestatic 176, 3) := dk_184 0 176 (dk_at dksX1_authorize_2 15 rfl rfl)
theorem dX1_authorize_64 : decode cX1_authorize 64 = .ok (.aload 5, 2) := dk_25 5 (dk_at dksX1_authorize_2 18 rfl rfl)
theorem dX1_authorize_66 : decode cX1_authorize 66 = .ok (.aload_n 0, 1) := dk_42 (dk_at dksX1_authorize_2 20 rfl rfl)
theorem dX1_authorize_67 : decode cX1_authorize 67 = .ok (.getfield 44, 3) := dk_180 0 44 (dk_at dksX1_authorize_2 21 rfl rfl)
theorem dX1_authorize_70 : decode cX1_authorize 70 = .ok (.putfield 264, 3) := dk_181 1 8 (dk_at dksX1_authorize_3 0 rfl rfl)
theorem dX1_authorize_73 : decode cX1_authorize 73 = .ok (.aload 5, 2) := dk_25 5 (dk_at dksX1_authorize_3 3 rfl rfl)
theorem dX1_authorize_75 : decode cX1_authorize 75 = .ok (.getfield 35, 3) := dk_180 0 35 (dk_at dksX1_authorize_3 5 rfl rfl)
theorem dX1_authorize_78 : decode cX1_authorize 78 = .ok (.getfield 290, 3) := dk_180 1 34 (dk_at dksX1_authorize_3 8 rfl rfl)
theorem dX1_authorize_81 : decode cX1_authorize 81 = .ok (.iload_n 2, 1) := dk_28 (dk_at dksX1_authorize_3 11 rfl rfl)
theorem dX1_authorize_82 : decode cX1_authorize 82 = .ok (.iaload, 1) := dk_46 (dk_at dksX1_authorize_3 12 rfl rfl)
theorem dX1_authorize_83 : decode cX1_authorize 83 = .ok (.aload_n 0, 1) := dk_42 (dk_at dksX1_authorize_3 13 rfl rfl)
theorem dX1_authorize_84 : decode cX1_authorize 84 = .ok (.getfield 108, 3) := dk_180 0 108 (dk_at dksX1_authorize_3 14 rfl rfl)
theorem dX1_authorize_87 : decode cX1_authorize 87 = .ok (.iload_n 2, 1) := dk_28 (dk_at dksX1_authorize_3 17 rfl rfl)
theorem dX1_authorize_88 : decode cX1_authorize 88 = .ok (.iaload, 1) := dk_46 (dk_at dksX1_authorize_3 18 rfl rfl)
theorem dX1_authorize_89 : decode cX1_authorize 89 = .ok (.ior, 1) := dk_128 (dk_at dksX1_authorize_3 19 rfl rfl)
theorem dX1_authorize_90 : decode cX1_authorize 90 = .ok (.istore 7, 2) := dk_54 7 (dk_at dksX1_authorize_3 20 rfl rfl)
theorem dX1_authorize_92 : decode cX1_authorize 92 = .ok (.iload 4, 2) := dk_21 4 (dk_at dksX1_authorize_3 22 rfl rfl)
theorem dX1_authorize_94 : decode cX1_authorize 94 = .ok (.iload 7, 2) := dk_21 7 (dk_at dksX1_authorize_4 0 rfl rfl)
theorem dX1_authorize_96 : decode cX1_authorize 96 = .ok (.iconst (-1), 1) := dk_2 (dk_at dksX1_authorize_4 2 rfl rfl)
theorem dX1_authorize_97 : decode cX1_authorize 97 = .ok (.ixor, 1) := dk_130 (dk_at dksX1_authorize_4 3 rfl rfl)
theorem dX1_authorize_98 : decode cX1_authorize 98 = .ok (.iand, 1) := dk_126 (dk_at dksX1_authorize_4 4 rfl rfl)
theorem dX1_authorize_99 : decode cX1_authorize 99 = .ok (.ifCond .eq 6, 3) := dk_153 0 6 (dk_at dksX1_authorize_4 5 rfl rfl)
theorem dX1_authorize_102 : decode cX1_authorize 102 = .ok (.bipush (-3), 2) := dk_16 253 (dk_at dksX1_authorize_4 8 rfl rfl)
theorem dX1_authorize_104 : decode cX1_authorize 104 = .ok (.ireturn, 1) := dk_172 (dk_at dksX1_authorize_4 10 rfl rfl)
theorem dX1_authorize_105 : decode cX1_authorize 105 = .ok (.aload 5, 2) := dk_25 5 (dk_at dksX1_authorize_4 11 rfl rfl)
theorem dX1_authorize_107 : decode cX1_authorize 107 = .ok (.invokevirtual 257, 3) := dk_182 1 1 (dk_at dksX1_authorize_4 13 rfl rfl)
theorem dX1_authorize_110 : decode cX1_authorize 110 = .ok (.aload 6, 2) := dk_25 6 (dk_at dksX1_authorize_4 16 rfl rfl)
theorem dX1_authorize_112 : decode cX1_authorize 112 = .ok (.getfield 302, 3) := dk_180 1 46 (dk_at dksX1_authorize_4 18 rfl rfl)
theorem dX1_authorize_115 : decode cX1_authorize 115 = .ok (.if_icmp .ge 6, 3) := dk_162 0 6 (dk_at dksX1_authorize_4 21 rfl rfl)
theorem dX1_authorize_118 : decode cX1_authorize 118 = .ok (.bipush (-2), 2) := dk_16 254 (dk_at dksX1_authorize_5 0 rfl rfl)
theorem dX1_authorize_120 : decode cX1_authorize 120 = .ok (.ireturn, 1) := dk_172 (dk_at dksX1_authorize_5 2 rfl rfl)
theorem dX1_authorize_121 : decode cX1_authorize 121 = .ok (.aload_n 0, 1) := dk_42 (dk_at dksX1_authorize_5 3 rfl rfl)
theorem dX1_authorize_122 : decode cX1_authorize 122 = .ok (.getfield 90, 3) := dk_180 0 90 (dk_at dksX1_authorize_5 4 rfl rfl)
theorem dX1_authorize_125 : decode cX1_authorize 125 = .ok (.new 305, 3) := dk_187 1 49 (dk_at dksX1_authorize_5 7 rfl rfl)
theorem dX1_authorize_128 : decode cX1_authorize 128 = .ok (.dup, 1) := dk_89 (dk_at dksX1_authorize_5 10 rfl rfl)
theorem dX1_authorize_129 : decode cX1_authorize 129 = .ok (.aload 5, 2) := dk_25 5 (dk_at dksX1_authorize_5 11 rfl rfl)
theorem dX1_authorize_131 : decode cX1_authorize 131 = .ok (.iload_n 2, 1) := dk_28 (dk_at dksX1_authorize_5 13 rfl rfl)
theorem dX1_authorize_132 : decode cX1_authorize 132 = .ok (.iload_n 3, 1) := dk_29 (dk_at dksX1_authorize_5 14 rfl rfl)
theorem dX1_authorize_133 : decode cX1_authorize 133 = .ok (.iload 4, 2) := dk_21 4 (dk_at dksX1_authorize_5 15 rfl rfl)
theorem dX1_authorize_135 : decode cX1_authorize 135 = .ok (.aload_n 0, 1) := dk_42 (dk_at dksX1_authorize_5 17 rfl rfl)
theorem dX1_authorize_136 : decode cX1_authorize 136 = .ok (.getfield 44, 3) := dk_180 0 44 (dk_at dksX1_authorize_5 18 rfl rfl)
theorem dX1_authorize_139 : decode cX1_authorize 139 = .ok (.invokespecial 307, 3) := dk_183 1 51 (dk_at dksX1_authorize_5 21 rfl rfl)
theorem dX1_authorize_142 : decode cX1_authorize 142 = .ok (.invokeinterface 19 2, 5) := by decide +kernel
theorem dX1_authorize_147 : decode cX1_authorize 147 = .ok (.pop, 1) := dk_87 (dk_at dksX1_authorize_6 5 rfl rfl)
theorem dX1_authorize_148 : decode cX1_authorize 148 = .ok (.aload_n 0, 1) := dk_42 (dk_at dksX1_authorize_6 6 rfl rfl)
theorem dX1_authorize_149 : decode cX1_authorize 149 = .ok (.getfield 90, 3) := dk_180 0 90 (dk_at dksX1_authorize_6 7 rfl rfl)
theorem dX1_authorize_152 : decode cX1_authorize 152 = .ok (.invokeinterface 9 1, 5) := by decide +kernel
theorem dX1_authorize_157 : decode cX1_authorize 157 = .ok (.iconst 1, 1) := dk_4 (dk_at dksX1_authorize_6 15 rfl rfl)
theorem dX1_authorize_158 : decode cX1_authorize 158 = .ok (.isub, 1) := dk_100 (dk_at dksX1_authorize_6 16 rfl rfl)
theorem dX1_authorize_159 : decode cX1_authorize 159 = .ok (.ireturn, 1) := dk_172 (dk_at dksX1_authorize_6 17 rfl rfl)
abbrev cX1_redeem : ByteArray := prog_1_method_45_code
def yX1_redeem : MethodName := ⟨RX1, "redeem", "(I)I"⟩
def dkwX1_redeem_5 : List UInt8 := [180, 1, 54, 180, 1, 65, 182, 0, 27, 44, 180, 1, 54, 182, 1, 66, 44, 180, 1, 54, 180, 1, 65, 172]
abbrev dktX1_redeem_5 : List UInt8 := dkwX1_redeem_5 ++ []
def dkwX1_redeem_4 : List UInt8 := [183, 1, 62, 181, 1, 54, 42, 180, 0, 93, 44, 180, 1, 54, 185, 0, 19, 2, 0, 87, 42, 5, 44]
abbrev dktX1_redeem_4 : List UInt8 := dkwX1_redeem_4 ++ dktX1_redeem_5
def dkwX1_redeem_3 : List UInt8 := [167, 0, 4, 3, 184, 0, 176, 44, 187, 1, 37, 89, 42, 42, 180, 0, 93, 185, 0, 9, 1, 0, 44]
abbrev dktX1_redeem_3 : List UInt8 := dkwX1_redeem_3 ++ dktX1_redeem_4
def dkwX1_redeem_2 : List UInt8 := [180, 0, 250, 154, 0, 5, 2, 172, 42, 180, 0, 96, 185, 0, 9, 1, 0, 17, 0, 200, 162, 0, 7, 4]
abbrev dktX1_redeem_2 : List UInt8 := dkwX1_redeem_2 ++ dktX1_redeem_3
def dkwX1_redeem_1 : List UInt8 := [182, 1, 44, 87, 2, 172, 42, 180, 0, 44, 44, 180, 1, 58, 100, 8, 163, 0, 13, 44, 180, 1, 61]
abbrev dktX1_redeem_1 : List UInt8 := dkwX1_redeem_1 ++ dktX1_redeem_2
def dkwX1_redeem_0 : List UInt8 := [42, 180, 0, 90, 27, 184, 0, 214, 192, 1, 49, 77, 44, 180, 1, 54, 198, 0, 13, 44, 180, 1, 54]
abbrev dktX1_redeem_0 : List UInt8 := dkwX1_redeem_0 ++ dktX1_redeem_1
theorem dksX1_redeem_0 : cX1_redeem.data.toList.drop 0 = dktX1_redeem_0 := by decide +kernel
theorem dksX1_redeem_1 : cX1_redeem.data.toList.drop 23 = dktX1_redeem_1 := dk_seg dksX1_redeem_0 23 rfl rfl
theorem dksX1_redeem_2 : cX1_redeem.data.toList.drop 46 = dktX1_redeem_2 := dk_seg dksX1_redeem_1 23 rfl rfl
theorem dksX1_redeem_3 : cX1_redeem.data.toList.drop 70 = dktX1_redeem_3 := dk_seg dksX1_redeem_2 24 rfl rfl
theorem dksX1_redeem_4 : cX1_redeem.data.toList.drop 93 = dktX1_redeem_4 := dk_seg dksX1_redeem_3 23 rfl rfl
theorem dksX1_redeem_5 : cX1_redeem.data.toList.drop 116 = dktX1_redeem_5 := dk_seg dksX1_redeem_4 23 rfl rfl
theorem dX1_redeem_0 : decode cX1_redeem 0 = .ok (.aload_n 0, 1) := dk_42 (dk_at dksX1_redeem_0 0 rfl rfl)
theorem dX1_redeem_1 : decode cX1_redeem 1 = .ok (.getfield 90, 3) := dk_180 0 90 (dk_at dksX1_redeem_0 1 rfl rfl)
theorem dX1_redeem_4 : decode cX1_redeem 4 = .ok (.iload_n 1, 1) := dk_27 (dk_at dksX1_redeem_0 4 rfl rfl)
theorem dX1_redeem_5 : decode cX1_redeem 5 = .ok (.invokestatic 214, 3) := dk_184 0 214 (dk_at dksX1_redeem_0 5 rfl rfl)
theorem dX1_redeem_8 : decode cX1_redeem 8 = .ok (.checkcast 305, 3) := dk_192 1 49 (dk_at dksX1_redeem_0 8 rfl rfl)
theorem dX1_redeem_11 : decode cX1_redeem 11 = .ok (.astore_n 2, 1) := dk_77 (dk_at dksX1_redeem_0 11 rfl rfl)
theorem dX1_redeem_12 : decode cX1_redeem 12 = .ok (.aload_n 2, 1) := dk_44 (dk_at dksX1_redeem_0 12 rfl rfl)
theorem dX1_redeem_13 : decode cX1_redeem 13 = .ok (.getfield 310, 3) := dk_180 1 54 (dk_at dksX1_redeem_0 13 rfl rfl)
theorem dX1_redeem_16 : decode cX1_redeem 16 = .ok (.ifnull 13, 3) := dk_198 0 13 (dk_at dksX1_redeem_0 16 rfl rfl)
theorem dX1_redeem_19 : decode cX1_redeem 19 = .ok (.aload_n 2, 1) := dk_44 (dk_at dksX1_redeem_0 19 rfl rfl)
theorem dX1_redeem_20 : decode cX1_redeem 20 = .ok (.getfield 310, 3) := dk_180 1 54 (dk_at dksX1_redeem_0 20 rfl rfl)
theorem dX1_redeem_23 : decode cX1_redeem 23 = .ok (.invokevirtual 300, 3) := dk_182 1 44 (dk_at dksX1_redeem_1 0 rfl rfl)
theorem dX1_redeem_26 : decode cX1_redeem 26 = .ok (.pop, 1) := dk_87 (dk_at dksX1_redeem_1 3 rfl rfl)
theorem dX1_redeem_27 : decode cX1_redeem 27 = .ok (.iconst (-1), 1) := dk_2 (dk_at dksX1_redeem_1 4 rfl rfl)
theorem dX1_redeem_28 : decode cX1_redeem 28 = .ok (.ireturn, 1) := dk_172 (dk_at dksX1_redeem_1 5 rfl rfl)
theorem dX1_redeem_29 : decode cX1_redeem 29 = .ok (.aload_n 0, 1) := dk_42 (dk_at dksX1_redeem_1 6 rfl rfl)
theorem dX1_redeem_30 : decode cX1_redeem 30 = .ok (.getfield 44, 3) := dk_180 0 44 (dk_at dksX1_redeem_1 7 rfl rfl)
theorem dX1_redeem_33 : decode cX1_redeem 33 = .ok (.aload_n 2, 1) := dk_44 (dk_at dksX1_redeem_1 10 rfl rfl)
theorem dX1_redeem_34 : decode cX1_redeem 34 = .ok (.getfield 314, 3) := dk_180 1 58 (dk_at dksX1_redeem_1 11 rfl rfl)
theorem dX1_redeem_37 : decode cX1_redeem 37 = .ok (.isub, 1) := dk_100 (dk_at dksX1_redeem_1 14 rfl rfl)
theorem dX1_redeem_38 : decode cX1_redeem 38 = .ok (.iconst 5, 1) := dk_8 (dk_at dksX1_redeem_1 15 rfl rfl)
theorem dX1_redeem_39 : decode cX1_redeem 39 = .ok (.if_icmp .gt 13, 3) := dk_163 0 13 (dk_at dksX1_redeem_1 16 rfl rfl)
theorem dX1_redeem_42 : decode cX1_redeem 42 = .ok (.aload_n 2, 1) := dk_44 (dk_at dksX1_redeem_1 19 rfl rfl)
theorem dX1_redeem_43 : decode cX1_redeem 43 = .ok (.getfield 317, 3) := dk_180 1 61 (dk_at dksX1_redeem_1 20 rfl rfl)
theorem dX1_redeem_46 : decode cX1_redeem 46 = .ok (.getfield 250, 3) := dk_180 0 250 (dk_at dksX1_redeem_2 0 rfl rfl)
theorem dX1_redeem_49 : decode cX1_redeem 49 = .ok (.ifCond .ne 5, 3) := dk_154 0 5 (dk_at dksX1_redeem_2 3 rfl rfl)
theorem dX1_redeem_52 : decode cX1_redeem 52 = .ok (.iconst (-1), 1) := dk_2 (dk_at dksX1_redeem_2 6 rfl rfl)
theorem dX1_redeem_53 : decode cX1_redeem 53 = .ok (.ireturn, 1) := dk_172 (dk_at dksX1_redeem_2 7 rfl rfl)
theorem dX1_redeem_54 : decode cX1_redeem 54 = .ok (.aload_n 0, 1) := dk_42 (dk_at dksX1_redeem_2 8 rfl rfl)
theorem dX1_redeem_55 : decode cX1_redeem 55 = .ok (.getfield 96, 3) := dk_180 0 96 (dk_at dksX1_redeem_2 9 rfl rfl)
theorem dX1_redeem_58 : decode cX1_redeem 58 = .ok (.invokeinterface 9 1, 5) := by decide +kernel
theorem dX1_redeem_63 : decode cX1_redeem 63 = .ok (.sipush 200, 3) := dk_17 0 200 (dk_at dksX1_redeem_2 17 rfl rfl)
theorem dX1_redeem_66 : decode cX1_redeem 66 = .ok (.if_icmp .ge 7, 3) := dk_162 0 7 (dk_at dksX1_redeem_2 20 rfl rfl)
theorem dX1_redeem_69 : decode cX1_redeem 69 = .ok (.iconst 1, 1) := dk_4 (dk_at dksX1_redeem_2 23 rfl rfl)
theorem dX1_redeem_70 : decode cX1_redeem 70 = .ok (.goto 4, 3) := dk_167 0 4 (dk_at dksX1_redeem_3 0 rfl rfl)
theorem dX1_redeem_73 : decode cX1_redeem 73 = .ok (.iconst 0, 1) := dk_3 (dk_at dksX1_redeem_3 3 rfl rfl)
theorem dX1_redeem_74 : decode cX1_redeem 74 = .ok (.invokestatic 176, 3) := dk_184 0 176 (dk_at dksX1_redeem_3 4 rfl rfl)
theorem dX1_redeem_77 : decode cX1_redeem 77 = .ok (.aload_n 2, 1) := dk_44 (dk_at dksX1_redeem_3 7 rfl rfl)
theorem dX1_redeem_78 : decode cX1_redeem 78 = .ok (.new 293, 3) := dk_187 1 37 (dk_at dksX1_redeem_3 8 rfl rfl)
theorem dX1_redeem_81 : decode cX1_redeem 81 = .ok (.dup, 1) := dk_89 (dk_at dksX1_redeem_3 11 rfl rfl)
theorem dX1_redeem_82 : decode cX1_redeem 82 = .ok (.aload_n 0, 1) := dk_42 (dk_at dksX1_redeem_3 12 rfl rfl)
theorem dX1_redeem_83 : decode cX1_redeem 83 = .ok (.aload_n 0, 1) := dk_42 (dk_at dksX1_redeem_3 13 rfl rfl)
theorem dX1_redeem_84 : decode cX1_redeem 84 = .ok (.getfield 93, 3) := dk_180 0 93 (dk_at dksX1_redeem_3 14 rfl rfl)
theorem dX1_redeem_87 : decode cX1_redeem 87 = .ok (.invokeinterface 9 1, 5) := by decide +kernel
theorem dX1_redeem_92 : decode cX1_redeem 92 = .ok (.aload_n 2, 1) := dk_44 (dk_at dksX1_redeem_3 22 rfl rfl)
theorem dX1_redeem_93 : decode cX1_redeem 93 = .ok (.invokespecial 318, 3) := dk_183 1 62 (dk_at dksX1_redeem_4 0 rfl rfl)
theorem dX1_redeem_96 : decode cX1_redeem 96 = .ok (.putfield 310, 3) := dk_181 1 54 (dk_at dksX1_redeem_4 3 rfl rfl)
theorem dX1_redeem_99 : decode cX1_redeem 99 = .ok (.aload_n 0, 1) := dk_42 (dk_at dksX1_redeem_4 6 rfl rfl)
theorem dX1_redeem_100 : decode cX1_redeem 100 = .ok (.getfield 93, 3) := dk_180 0 93 (dk_at dksX1_redeem_4 7 rfl rfl)
theorem dX1_redeem_103 : decode cX1_redeem 103 = .ok (.aload_n 2, 1) := dk_44 (dk_at dksX1_redeem_4 10 rfl rfl)
theorem dX1_redeem_104 : decode cX1_redeem 104 = .ok (.getfield 310, 3) := dk_180 1 54 (dk_at dksX1_redeem_4 11 rfl rfl)
theorem dX1_redeem_107 : decode cX1_redeem 107 = .ok (.invokeinterface 19 2, 5) := by decide +kernel
theorem dX1_redeem_112 : decode cX1_redeem 112 = .ok (.pop, 1) := dk_87 (dk_at dksX1_redeem_4 19 rfl rfl)
theorem dX1_redeem_113 : decode cX1_redeem 113 = .ok (.aload_n 0, 1) := dk_42 (dk_at dksX1_redeem_4 20 rfl rfl)
theorem dX1_redeem_114 : decode cX1_redeem 114 = .ok (.iconst 2, 1) := dk_5 (dk_at dksX1_redeem_4 21 rfl rfl)
theorem dX1_redeem_115 : decode cX1_redeem 115 = .ok (.aload_n 2, 1) := dk_44 (dk_at dksX1_redeem_4 22 rfl rfl)
theorem dX1_redeem_116 : decode cX1_redeem 116 = .ok (.getfield 310, 3) := dk_180 1 54 (dk_at dksX1_redeem_5 0 rfl rfl)
theorem dX1_redeem_119 : decode cX1_redeem 119 = .ok (.getfield 321, 3) := dk_180 1 65 (dk_at dksX1_redeem_5 3 rfl rfl)
theorem dX1_redeem_122 : decode cX1_redeem 122 = .ok (.invokevirtual 27, 3) := dk_182 0 27 (dk_at dksX1_redeem_5 6 rfl rfl)
theorem dX1_redeem_125 : decode cX1_redeem 125 = .ok (.aload_n 2, 1) := dk_44 (dk_at dksX1_redeem_5 9 rfl rfl)
theorem dX1_redeem_126 : decode cX1_redeem 126 = .ok (.getfield 310, 3) := dk_180 1 54 (dk_at dksX1_redeem_5 10 rfl rfl)
theorem dX1_redeem_129 : decode cX1_redeem 129 = .ok (.invokevirtual 322, 3) := dk_182 1 66 (dk_at dksX1_redeem_5 13 rfl rfl)
theorem dX1_redeem_132 : decode cX1_redeem 132 = .ok (.aload_n 2, 1) := dk_44 (dk_at dksX1_redeem_5 16 rfl rfl)
theorem dX1_redeem_133 : decode cX1_redeem 133 = .ok (.getfield 310, 3) := dk_180 1 54 (dk_at dksX1_redeem_5 17 rfl rfl)
theorem dX1_redeem_136 : decode cX1_redeem 136 = .ok (.getfield 321, 3) := dk_180 1 65 (dk_at dksX1_redeem_5 20 rfl rfl)
theorem dX1_redeem_139 : decode cX1_redeem 139 = .ok (.ireturn, 1) := dk_172 (dk_at dksX1_redeem_5 23 rfl rfl)
abbrev cX1_refresh : ByteArray := prog_1_method_46_code
def yX1_refresh : MethodName := ⟨RX1, "refresh", "(II)I"⟩
def dkwX1_refresh_1 : List UInt8 := [182, 1, 72, 172]
abbrev dktX1_refresh_1 : List UInt8 := dkwX1_refresh_1 ++ []
def dkwX1_refresh_0 : List UInt8 := [42, 180, 0, 93, 27, 184, 0, 214, 192, 1, 37, 78, 28, 3, 45, 180, 1, 69, 184, 0, 149, 45, 28]
abbrev dktX1_refresh_0 : List UInt8 := dkwX1_refresh_0 ++ dktX1_refresh_1
theorem dksX1_refresh_0 : cX1_refresh.data.toList.drop 0 = dktX1_refresh_0 := by decide +kernel
theorem dksX1_refresh_1 : cX1_refresh.data.toList.drop 23 = dktX1_refresh_1 := dk_seg dksX1_refresh_0 23 rfl rfl
theorem dX1_refresh_0 : decode cX1_refresh 0 = .ok (.aload_n 0, 1) := dk_42 (dk_at dksX1_refresh_0 0 rfl rfl)
theorem dX1_refresh_1 : decode cX1_refresh 1 = .ok (.getfield 93, 3) := dk_180 0 93 (dk_at dksX1_refresh_0 1 rfl rfl)
theorem dX1_refresh_4 : decode cX1_refresh 4 = .ok (.iload_n 1, 1) := dk_27 (dk_at dksX1_refresh_0 4 rfl rfl)
theorem dX1_refresh_5 : decode cX1_refresh 5 = .ok (.invokestatic 214, 3) := dk_184 0 214 (dk_at dksX1_refresh_0 5 rfl rfl)
theorem dX1_refresh_8 : decode cX1_refresh 8 = .ok (.checkcast 293, 3) := dk_192 1 37 (dk_at dksX1_refresh_0 8 rfl rfl)
theorem dX1_refresh_11 : decode cX1_refresh 11 = .ok (.astore_n 3, 1) := dk_78 (dk_at dksX1_refresh_0 11 rfl rfl)
theorem dX1_refresh_12 : decode cX1_refresh 12 = .ok (.iload_n 2, 1) := dk_28 (dk_at dksX1_refresh_0 12 rfl rfl)
theorem dX1_refresh_13 : decode cX1_refresh 13 = .ok (.iconst 0, 1) := dk_3 (dk_at dksX1_refresh_0 13 rfl rfl)
theorem dX1_refresh_14 : decode cX1_refresh 14 = .ok (.aload_n 3, 1) := dk_45 (dk_at dksX1_refresh_0 14 rfl rfl)
theorem dX1_refresh_15 : decode cX1_refresh 15 = .ok (.getfield 325, 3) := dk_180 1 69 (dk_at dksX1_refresh_0 15 rfl rfl)
theorem dX1_refresh_18 : decode cX1_refresh 18 = .ok (.invokestatic 149, 3) := dk_184 0 149 (dk_at dksX1_refresh_0 18 rfl rfl)
theorem dX1_refresh_21 : decode cX1_refresh 21 = .ok (.aload_n 3, 1) := dk_45 (dk_at dksX1_refresh_0 21 rfl rfl)
theorem dX1_refresh_22 : decode cX1_refresh 22 = .ok (.iload_n 2, 1) := dk_28 (dk_at dksX1_refresh_0 22 rfl rfl)
theorem dX1_refresh_23 : decode cX1_refresh 23 = .ok (.invokevirtual 328, 3) := dk_182 1 72 (dk_at dksX1_refresh_1 0 rfl rfl)
theorem dX1_refresh_26 : decode cX1_refresh 26 = .ok (.ireturn, 1) := dk_172 (dk_at dksX1_refresh_1 3 rfl rfl)
abbrev cX1_isGood : ByteArray := prog_1_method_47_code
def yX1_isGood : MethodName := ⟨RX1, "isGood", "(I)Z"⟩
def dkwX1_isGood_0 : List UInt8 := [42, 180, 0, 93, 27, 184, 0, 214, 192, 1, 37, 180, 1, 75, 172]
abbrev dktX1_isGood_0 : List UInt8 := dkwX1_isGood_0 ++ []
theorem dksX1_isGood_0 : cX1_isGood.data.toList.drop 0 = dktX1_isGood_0 := by decide +kernel
theorem dX1_isGood_0 : decode cX1_isGood 0 = .ok (.aload_n 0, 1) := dk_42 (dk_at dksX1_isGood_0 0 rfl rfl)
theorem dX1_isGood_1 : decode cX1_isGood 1 = .ok (.getfield 93, 3) := dk_180 0 93 (dk_at dksX1_isGood_0 1 rfl rfl)
theorem dX1_isGood_4 : decode cX1_isGood 4 = .ok (.iload_n 1, 1) := dk_27 (dk_at dksX1_isGood_0 4 rfl rfl)
theorem dX1_isGood_5 : decode cX1_isGood 5 = .ok (.invokestatic 214, 3) := dk_184 0 214 (dk_at dksX1_isGood_0 5 rfl rfl)
theorem dX1_isGood_8 : decode cX1_isGood 8 = .ok (.checkcast 293, 3) := dk_192 1 37 (dk_at dksX1_isGood_0 8 rfl rfl)
theorem dX1_isGood_11 : decode cX1_isGood 11 = .ok (.getfield 331, 3) := dk_180 1 75 (dk_at dksX1_isGood_0 11 rfl rfl)
theorem dX1_isGood_14 : decode cX1_isGood 14 = .ok (.ireturn, 1) := dk_172 (dk_at dksX1_isGood_0 14 rfl rfl)
abbrev cX1_tokenOf : ByteArray := prog_1_method_48_code
def yX1_tokenOf : MethodName := ⟨RX1, "tokenOf", "(I)I"⟩
def dkwX1_tokenOf_0 : List UInt8 := [42, 180, 0, 93, 27, 184, 0, 214, 192, 1, 37, 180, 1, 78, 172]
abbrev dktX1_tokenOf_0 : List UInt8 := dkwX1_tokenOf_0 ++ []
theorem dksX1_tokenOf_0 : cX1_tokenOf.data.toList.drop 0 = dktX1_tokenOf_0 := by decide +kernel
theorem dX1_tokenOf_0 : decode cX1_tokenOf 0 = .ok (.aload_n 0, 1) := dk_42 (dk_at dksX1_tokenOf_0 0 rfl rfl)
theorem dX1_tokenOf_1 : decode cX1_tokenOf 1 = .ok (.getfield 93, 3) := dk_180 0 93 (dk_at dksX1_tokenOf_0 1 rfl rfl)
theorem dX1_tokenOf_4 : decode cX1_tokenOf 4 = .ok (.iload_n 1, 1) := dk_27 (dk_at dksX1_tokenOf_0 4 rfl rfl)
theorem dX1_tokenOf_5 : decode cX1_tokenOf 5 = .ok (.invokestatic 214, 3) := dk_184 0 214 (dk_at dksX1_tokenOf_0 5 rfl rfl)
theorem dX1_tokenOf_8 : decode cX1_tokenOf 8 = .ok (.checkcast 293, 3) := dk_192 1 37 (dk_at dksX1_tokenOf_0 8 rfl rfl)
theorem dX1_tokenOf_11 : decode cX1_tokenOf 11 = .ok (.getfield 334, 3) := dk_180 1 78 (dk_at dksX1_tokenOf_0 11 rfl rfl)
theorem dX1_tokenOf_14 : decode cX1_tokenOf 14 = .ok (.ireturn, 1) := dk_172 (dk_at dksX1_tokenOf_0 14 rfl rfl)
abbrev cX1_exchange : ByteArray := prog_1_method_49_code
def yX1_exchange : MethodName := ⟨RX1, "exchange", "(III)I"⟩
def dkwX1_exchange_6 : List UInt8 := [96, 25, 4, 180, 1, 89, 182, 1, 98, 172]
abbrev dktX1_exchange_6 : List UInt8 := dkwX1_exchange_6 ++ []
def dkwX1_exchange_5 : List UInt8 := [162, 0, 6, 16, 254, 172, 25, 4, 180, 1, 91, 25, 4, 180, 1, 95, 28, 29, 25, 4, 180, 1, 92, 4]
abbrev dktX1_exchange_5 : List UInt8 := dkwX1_exchange_5 ++ dktX1_exchange_6
def dkwX1_exchange_4 : List UInt8 := [167, 0, 4, 3, 184, 0, 176, 25, 4, 180, 1, 91, 180, 1, 39, 182, 1, 1, 25, 5, 180, 1, 46]
abbrev dktX1_exchange_4 : List UInt8 := dkwX1_exchange_4 ++ dktX1_exchange_5
def dkwX1_exchange_3 : List UInt8 := [180, 1, 92, 6, 162, 0, 22, 42, 180, 0, 96, 185, 0, 9, 1, 0, 17, 0, 200, 162, 0, 7, 4]
abbrev dktX1_exchange_3 : List UInt8 := dkwX1_exchange_3 ++ dktX1_exchange_4
def dkwX1_exchange_2 : List UInt8 := [180, 0, 44, 25, 4, 180, 1, 89, 163, 0, 42, 25, 4, 180, 1, 91, 180, 1, 75, 153, 0, 31, 25, 4]
abbrev dktX1_exchange_2 : List UInt8 := dkwX1_exchange_2 ++ dktX1_exchange_3
def dkwX1_exchange_1 : List UInt8 := [184, 0, 149, 29, 25, 4, 180, 1, 83, 2, 130, 126, 154, 0, 7, 4, 167, 0, 4, 3, 184, 1, 86, 42]
abbrev dktX1_exchange_1 : List UInt8 := dkwX1_exchange_1 ++ dktX1_exchange_2
def dkwX1_exchange_0 : List UInt8 := [42, 180, 0, 96, 27, 184, 0, 214, 192, 1, 81, 58, 4, 42, 28, 182, 1, 30, 58, 5, 29, 4, 16, 15]
abbrev dktX1_exchange_0 : List UInt8 := dkwX1_exchange_0 ++ dktX1_exchange_1
theorem dksX1_exchange_0 : cX1_exchange.data.toList.drop 0 = dktX1_exchange_0 := by decide +kernel
theorem dksX1_exchange_1 : cX1_exchange.data.toList.drop 24 = dktX1_exchange_1 := dk_seg dksX1_exchange_0 24 rfl rfl
theorem dksX1_exchange_2 : cX1_exchange.data.toList.drop 48 = dktX1_exchange_2 := dk_seg dksX1_exchange_1 24 rfl rfl
theorem dksX1_exchange_3 : cX1_exchange.data.toList.drop 72 = dktX1_exchange_3 := dk_seg dksX1_exchange_2 24 rfl rfl
theorem dksX1_exchange_4 : cX1_exchange.data.toList.drop 95 = dktX1_exchange_4 := dk_seg dksX1_exchange_3 23 rfl rfl
theorem dksX1_exchange_5 : cX1_exchange.data.toList.drop 118 = dktX1_exchange_5 := dk_seg dksX1_exchange_4 23 rfl rfl
theorem dksX1_exchange_6 : cX1_exchange.data.toList.drop 142 = dktX1_exchange_6 := dk_seg dksX1_exchange_5 24 rfl rfl
theorem dX1_exchange_0 : decode cX1_exchange 0 = .ok (.aload_n 0, 1) := dk_42 (dk_at dksX1_exchange_0 0 rfl rfl)
theorem dX1_exchange_1 : decode cX1_exchange 1 = .ok (.getfield 96, 3) := dk_180 0 96 (dk_at dksX1_exchange_0 1 rfl rfl)
theorem dX1_exchange_4 : decode cX1_exchange 4 = .ok (.iload_n 1, 1) := dk_27 (dk_at dksX1_exchange_0 4 rfl rfl)
theorem dX1_exchange_5 : decode cX1_exchange 5 = .ok (.invokestatic 214, 3) := dk_184 0 214 (dk_at dksX1_exchange_0 5 rfl rfl)
theorem dX1_exchange_8 : decode cX1_exchange 8 = .ok (.checkcast 337, 3) := dk_192 1 81 (dk_at dksX1_exchange_0 8 rfl rfl)
theorem dX1_exchange_11 : decode cX1_exchange 11 = .ok (.astore 4, 2) := dk_58 4 (dk_at dksX1_exchange_0 11 rfl rfl)
theorem dX1_exchange_13 : decode cX1_exchange 13 = .ok (.aload_n 0, 1) := dk_42 (dk_at dksX1_exchange_0 13 rfl rfl)
theorem dX1_exchange_14 : decode cX1_exchange 14 = .ok (.iload_n 2, 1) := dk_28 (dk_at dksX1_exchange_0 14 rfl rfl)
theorem dX1_exchange_15 : decode cX1_exchange 15 = .ok (.invokevirtual 286, 3) := dk_182 1 30 (dk_at dksX1_exchange_0 15 rfl rfl)
theorem dX1_exchange_18 : decode cX1_exchange 18 = .ok (.astore 5, 2) := dk_58 5 (dk_at dksX1_exchange_0 18 rfl rfl)
theorem dX1_exchange_20 : decode cX1_exchange 20 = .ok (.iload_n 3, 1) := dk_29 (dk_at dksX1_exchange_0 20 rfl rfl)
theorem dX1_exchange_21 : decode cX1_exchange 21 = .ok (.iconst 1, 1) := dk_4 (dk_at dksX1_exchange_0 21 rfl rfl)
theorem dX1_exchange_22 : decode cX1_exchange 22 = .ok (.bipush 15, 2) := dk_16 15 (dk_at dksX1_exchange_0 22 rfl rfl)
theorem dX1_exchange_24 : decode cX1_exchange 24 = .ok (.invokestatic 149, 3) := dk_184 0 149 (dk_at dksX1_exchange_1 0 rfl rfl)
theorem dX1_exchange_27 : decode cX1_exchange 27 = .ok (.iload_n 3, 1) := dk_29 (dk_at dksX1_exchange_1 3 rfl rfl)
theorem dX1_exchange_28 : decode cX1_exchange 28 = .ok (.aload 4, 2) := dk_25 4 (dk_at dksX1_exchange_1 4 rfl rfl)
theorem dX1_exchange_30 : decode cX1_exchange 30 = .ok (.getfield 339, 3) := dk_180 1 83 (dk_at dksX1_exchange_1 6 rfl rfl)
theorem dX1_exchange_33 : decode cX1_exchange 33 = .ok (.iconst (-1), 1) := dk_2 (dk_at dksX1_exchange_1 9 rfl rfl)
theorem dX1_exchange_34 : decode cX1_exchange 34 = .ok (.ixor, 1) := dk_130 (dk_at dksX1_exchange_1 10 rfl rfl)
theorem dX1_exchange_35 : decode cX1_exchange 35 = .ok (.iand, 1) := dk_126 (dk_at dksX1_exchange_1 11 rfl rfl)
theorem dX1_exchange_36 : decode cX1_exchange 36 = .ok (.ifCond .ne 7, 3) := dk_154 0 7 (dk_at dksX1_exchange_1 12 rfl rfl)
theorem dX1_exchange_39 : decode cX1_exchange 39 = .ok (.iconst 1, 1) := dk_4 (dk_at dksX1_exchange_1 15 rfl rfl)
theorem dX1_exchange_40 : decode cX1_exchange 40 = .ok (.goto 4, 3) := dk_167 0 4 (dk_at dksX1_exchange_1 16 rfl rfl)
theorem dX1_exchange_43 : decode cX1_exchange 43 = .ok (.iconst 0, 1) := dk_3 (dk_at dksX1_exchange_1 19 rfl rfl)
theorem dX1_exchange_44 : decode cX1_exchange 44 = .ok (.invokestatic 342, 3) := dk_184 1 86 (dk_at dksX1_exchange_1 20 rfl rfl)
theorem dX1_exchange_47 : decode cX1_exchange 47 = .ok (.aload_n 0, 1) := dk_42 (dk_at dksX1_exchange_1 23 rfl rfl)
theorem dX1_exchange_48 : decode cX1_exchange 48 = .ok (.getfield 44, 3) := dk_180 0 44 (dk_at dksX1_exchange_2 0 rfl rfl)
theorem dX1_exchange_51 : decode cX1_exchange 51 = .ok (.aload 4, 2) := dk_25 4 (dk_at dksX1_exchange_2 3 rfl rfl)
theorem dX1_exchange_53 : decode cX1_exchange 53 = .ok (.getfield 345, 3) := dk_180 1 89 (dk_at dksX1_exchange_2 5 rfl rfl)
theorem dX1_exchange_56 : decode cX1_exchange 56 = .ok (.if_icmp .gt 42, 3) := dk_163 0 42 (dk_at dksX1_exchange_2 8 rfl rfl)
theorem dX1_exchange_59 : decode cX1_exchange 59 = .ok (.aload 4, 2) := dk_25 4 (dk_at dksX1_exchange_2 11 rfl rfl)
theorem dX1_exchange_61 : decode cX1_exchange 61 = .ok (.getfield 347, 3) := dk_180 1 91 (dk_at dksX1_exchange_2 13 rfl rfl)
theorem dX1_exchange_64 : decode cX1_exchange 64 = .ok (.getfield 331, 3) := dk_180 1 75 (dk_at dksX1_exchange_2 16 rfl rfl)
theorem dX1_exchange_67 : decode cX1_exchange 67 = .ok (.ifCond .eq 31, 3) := dk_153 0 31 (dk_at dksX1_exchange_2 19 rfl rfl)
theorem dX1_exchange_70 : decode cX1_exchange 70 = .ok (.aload 4, 2) := dk_25 4 (dk_at dksX1_exchange_2 22 rfl rfl)
theorem dX1_exchange_72 : decode cX1_exchange 72 = .ok (.getfield 348, 3) := dk_180 1 92 (dk_at dksX1_exchange_3 0 rfl rfl)
theorem dX1_exchange_75 : decode cX1_exchange 75 = .ok (.iconst 3, 1) := dk_6 (dk_at dksX1_exchange_3 3 rfl rfl)
theorem dX1_exchange_76 : decode cX1_exchange 76 = .ok (.if_icmp .ge 22, 3) := dk_162 0 22 (dk_at dksX1_exchange_3 4 rfl rfl)
theorem dX1_exchange_79 : decode cX1_exchange 79 = .ok (.aload_n 0, 1) := dk_42 (dk_at dksX1_exchange_3 7 rfl rfl)
theorem dX1_exchange_80 : decode cX1_exchange 80 = .ok (.getfield 96, 3) := dk_180 0 96 (dk_at dksX1_exchange_3 8 rfl rfl)
theorem dX1_exchange_83 : decode cX1_exchange 83 = .ok (.invokeinterface 9 1, 5) := by decide +kernel
theorem dX1_exchange_88 : decode cX1_exchange 88 = .ok (.sipush 200, 3) := dk_17 0 200 (dk_at dksX1_exchange_3 16 rfl rfl)
theorem dX1_exchange_91 : decode cX1_exchange 91 = .ok (.if_icmp .ge 7, 3) := dk_162 0 7 (dk_at dksX1_exchange_3 19 rfl rfl)
theorem dX1_exchange_94 : decode cX1_exchange 94 = .ok (.iconst 1, 1) := dk_4 (dk_at dksX1_exchange_3 22 rfl rfl)
theorem dX1_exchange_95 : decode cX1_exchange 95 = .ok (.goto 4, 3) := dk_167 0 4 (dk_at dksX1_exchange_4 0 rfl rfl)
theorem dX1_exchange_98 : decode cX1_exchange 98 = .ok (.iconst 0, 1) := dk_3 (dk_at dksX1_exchange_4 3 rfl rfl)
theorem dX1_exchange_99 : decode cX1_exchange 99 = .ok (.invokestatic 176, 3) := dk_184 0 176 (dk_at dksX1_exchange_4 4 rfl rfl)
theorem dX1_exchange_102 : decode cX1_exchange 102 = .ok (.aload 4, 2) := dk_25 4 (dk_at dksX1_exchange_4 7 rfl rfl)
theorem dX1_exchange_104 : decode cX1_exchange 104 = .ok (.getfield 347, 3) := dk_180 1 91 (dk_at dksX1_exchange_4 9 rfl rfl)
theorem dX1_exchange_107 : decode cX1_exchange 107 = .ok (.getfield 295, 3) := dk_180 1 39 (dk_at dksX1_exchange_4 12 rfl rfl)
theorem dX1_exchange_110 : decode cX1_exchange 110 = .ok (.invokevirtual 257, 3) := dk_182 1 1 (dk_at dksX1_exchange_4 15 rfl rfl)
theorem dX1_exchange_113 : decode cX1_exchange 113 = .ok (.aload 5, 2) := dk_25 5 (dk_at dksX1_exchange_4 18 rfl rfl)
theorem dX1_exchange_115 : decode cX1_exchange 115 = .ok (.getfield 302, 3) := dk_180 1 46 (dk_at dksX1_exchange_4 20 rfl rfl)
theorem dX1_exchange_118 : decode cX1_exchange 118 = .ok (.if_icmp .ge 6, 3) := dk_162 0 6 (dk_at dksX1_exchange_5 0 rfl rfl)
theorem dX1_exchange_121 : decode cX1_exchange 121 = .ok (.bipush (-2), 2) := dk_16 254 (dk_at dksX1_exchange_5 3 rfl rfl)
theorem dX1_exchange_123 : decode cX1_exchange 123 = .ok (.ireturn, 1) := dk_172 (dk_at dksX1_exchange_5 5 rfl rfl)
theorem dX1_exchange_124 : decode cX1_exchange 124 = .ok (.aload 4, 2) := dk_25 4 (dk_at dksX1_exchange_5 6 rfl rfl)
theorem dX1_exchange_126 : decode cX1_exchange 126 = .ok (.getfield 347, 3) := dk_180 1 91 (dk_at dksX1_exchange_5 8 rfl rfl)
theorem dX1_exchange_129 : decode cX1_exchange 129 = .ok (.aload 4, 2) := dk_25 4 (dk_at dksX1_exchange_5 11 rfl rfl)
theorem dX1_exchange_131 : decode cX1_exchange 131 = .ok (.getfield 351, 3) := dk_180 1 95 (dk_at dksX1_exchange_5 13 rfl rfl)
theorem dX1_exchange_134 : decode cX1_exchange 134 = .ok (.iload_n 2, 1) := dk_28 (dk_at dksX1_exchange_5 16 rfl rfl)
theorem dX1_exchange_135 : decode cX1_exchange 135 = .ok (.iload_n 3, 1) := dk_29 (dk_at dksX1_exchange_5 17 rfl rfl)
theorem dX1_exchange_136 : decode cX1_exchange 136 = .ok (.aload 4, 2) := dk_25 4 (dk_at dksX1_exchange_5 18 rfl rfl)
theorem dX1_exchange_138 : decode cX1_exchange 138 = .ok (.getfield 348, 3) := dk_180 1 92 (dk_at dksX1_exchange_5 20 rfl rfl)
theorem dX1_exchange_141 : decode cX1_exchange 141 = .ok (.iconst 1, 1) := dk_4 (dk_at dksX1_exchange_5 23 rfl rfl)
theorem dX1_exchange_142 : decode cX1_exchange 142 = .ok (.iadd, 1) := dk_96 (dk_at dksX1_exchange_6 0 rfl rfl)
theorem dX1_exchange_143 : decode cX1_exchange 143 = .ok (.aload 4, 2) := dk_25 4 (dk_at dksX1_exchange_6 1 rfl rfl)
theorem dX1_exchange_145 : decode cX1_exchange 145 = .ok (.getfield 345, 3) := dk_180 1 89 (dk_at dksX1_exchange_6 3 rfl rfl)
theorem dX1_exchange_148 : decode cX1_exchange 148 = .ok (.invokevirtual 354, 3) := dk_182 1 98 (dk_at dksX1_exchange_6 6 rfl rfl)
theorem dX1_exchange_151 : decode cX1_exchange 151 = .ok (.ireturn, 1) := dk_172 (dk_at dksX1_exchange_6 9 rfl rfl)
abbrev cX1_fits : ByteArray := prog_1_method_7_code
def yX1_fits : MethodName := ⟨RX1, "fits", "(Z)V"⟩
def dkwX1_fits_0 : List UInt8 := [26, 153, 0, 7, 3, 167, 0, 4, 4, 3, 3, 184, 0, 149, 177]
abbrev dktX1_fits_0 : List UInt8 := dkwX1_fits_0 ++ []
theorem dksX1_fits_0 : cX1_fits.data.toList.drop 0 = dktX1_fits_0 := by decide +kernel
theorem dX1_fits_0 : decode cX1_fits 0 = .ok (.iload_n 0, 1) := dk_26 (dk_at dksX1_fits_0 0 rfl rfl)
theorem dX1_fits_1 : decode cX1_fits 1 = .ok (.ifCond .eq 7, 3) := dk_153 0 7 (dk_at dksX1_fits_0 1 rfl rfl)
theorem dX1_fits_4 : decode cX1_fits 4 = .ok (.iconst 0, 1) := dk_3 (dk_at dksX1_fits_0 4 rfl rfl)
theorem dX1_fits_5 : decode cX1_fits 5 = .ok (.goto 4, 3) := dk_167 0 4 (dk_at dksX1_fits_0 5 rfl rfl)
theorem dX1_fits_8 : decode cX1_fits 8 = .ok (.iconst 1, 1) := dk_4 (dk_at dksX1_fits_0 8 rfl rfl)
theorem dX1_fits_9 : decode cX1_fits 9 = .ok (.iconst 0, 1) := dk_3 (dk_at dksX1_fits_0 9 rfl rfl)
theorem dX1_fits_10 : decode cX1_fits 10 = .ok (.iconst 0, 1) := dk_3 (dk_at dksX1_fits_0 10 rfl rfl)
theorem dX1_fits_11 : decode cX1_fits 11 = .ok (.invokestatic 149, 3) := dk_184 0 149 (dk_at dksX1_fits_0 11 rfl rfl)
theorem dX1_fits_14 : decode cX1_fits 14 = .ok (.return_, 1) := dk_177 (dk_at dksX1_fits_0 14 rfl rfl)
abbrev cX1_token : ByteArray := prog_1_method_50_code
def yX1_token : MethodName := ⟨RX1, "token", "(I)I"⟩
def dkwX1_token_1 : List UInt8 := [180, 1, 101, 104, 96, 16, 10, 44, 180, 1, 95, 104, 96, 44, 180, 1, 92, 96, 172]
abbrev dktX1_token_1 : List UInt8 := dkwX1_token_1 ++ []
def dkwX1_token_0 : List UInt8 := [42, 180, 0, 96, 27, 184, 0, 214, 192, 1, 81, 77, 17, 3, 232, 44, 180, 1, 89, 104, 16, 100, 44]
abbrev dktX1_token_0 : List UInt8 := dkwX1_token_0 ++ dktX1_token_1
theorem dksX1_token_0 : cX1_token.data.toList.drop 0 = dktX1_token_0 := by decide +kernel
theorem dksX1_token_1 : cX1_token.data.toList.drop 23 = dktX1_token_1 := dk_seg dksX1_token_0 23 rfl rfl
theorem dX1_token_0 : decode cX1_token 0 = .ok (.aload_n 0, 1) := dk_42 (dk_at dksX1_token_0 0 rfl rfl)
theorem dX1_token_1 : decode cX1_token 1 = .ok (.getfield 96, 3) := dk_180 0 96 (dk_at dksX1_token_0 1 rfl rfl)
theorem dX1_token_4 : decode cX1_token 4 = .ok (.iload_n 1, 1) := dk_27 (dk_at dksX1_token_0 4 rfl rfl)
theorem dX1_token_5 : decode cX1_token 5 = .ok (.invokestatic 214, 3) := dk_184 0 214 (dk_at dksX1_token_0 5 rfl rfl)
theorem dX1_token_8 : decode cX1_token 8 = .ok (.checkcast 337, 3) := dk_192 1 81 (dk_at dksX1_token_0 8 rfl rfl)
theorem dX1_token_11 : decode cX1_token 11 = .ok (.astore_n 2, 1) := dk_77 (dk_at dksX1_token_0 11 rfl rfl)
theorem dX1_token_12 : decode cX1_token 12 = .ok (.sipush 1000, 3) := dk_17 3 232 (dk_at dksX1_token_0 12 rfl rfl)
theorem dX1_token_15 : decode cX1_token 15 = .ok (.aload_n 2, 1) := dk_44 (dk_at dksX1_token_0 15 rfl rfl)
theorem dX1_token_16 : decode cX1_token 16 = .ok (.getfield 345, 3) := dk_180 1 89 (dk_at dksX1_token_0 16 rfl rfl)
theorem dX1_token_19 : decode cX1_token 19 = .ok (.imul, 1) := dk_104 (dk_at dksX1_token_0 19 rfl rfl)
theorem dX1_token_20 : decode cX1_token 20 = .ok (.bipush 100, 2) := dk_16 100 (dk_at dksX1_token_0 20 rfl rfl)
theorem dX1_token_22 : decode cX1_token 22 = .ok (.aload_n 2, 1) := dk_44 (dk_at dksX1_token_0 22 rfl rfl)
theorem dX1_token_23 : decode cX1_token 23 = .ok (.getfield 357, 3) := dk_180 1 101 (dk_at dksX1_token_1 0 rfl rfl)
theorem dX1_token_26 : decode cX1_token 26 = .ok (.imul, 1) := dk_104 (dk_at dksX1_token_1 3 rfl rfl)
theorem dX1_token_27 : decode cX1_token 27 = .ok (.iadd, 1) := dk_96 (dk_at dksX1_token_1 4 rfl rfl)
theorem dX1_token_28 : decode cX1_token 28 = .ok (.bipush 10, 2) := dk_16 10 (dk_at dksX1_token_1 5 rfl rfl)
theorem dX1_token_30 : decode cX1_token 30 = .ok (.aload_n 2, 1) := dk_44 (dk_at dksX1_token_1 7 rfl rfl)
theorem dX1_token_31 : decode cX1_token 31 = .ok (.getfield 351, 3) := dk_180 1 95 (dk_at dksX1_token_1 8 rfl rfl)
theorem dX1_token_34 : decode cX1_token 34 = .ok (.imul, 1) := dk_104 (dk_at dksX1_token_1 11 rfl rfl)
theorem dX1_token_35 : decode cX1_token 35 = .ok (.iadd, 1) := dk_96 (dk_at dksX1_token_1 12 rfl rfl)
theorem dX1_token_36 : decode cX1_token 36 = .ok (.aload_n 2, 1) := dk_44 (dk_at dksX1_token_1 13 rfl rfl)
theorem dX1_token_37 : decode cX1_token 37 = .ok (.getfield 348, 3) := dk_180 1 92 (dk_at dksX1_token_1 14 rfl rfl)
theorem dX1_token_40 : decode cX1_token 40 = .ok (.iadd, 1) := dk_96 (dk_at dksX1_token_1 17 rfl rfl)
theorem dX1_token_41 : decode cX1_token 41 = .ok (.ireturn, 1) := dk_172 (dk_at dksX1_token_1 18 rfl rfl)
abbrev cX1_turn : ByteArray := prog_1_method_52_code
def yX1_turn : MethodName := ⟨RX1, "turn", "()I"⟩
def dkwX1_turn_2 : List UInt8 := [180, 0, 134, 172]
abbrev dktX1_turn_2 : List UInt8 := dkwX1_turn_2 ++ []
def dkwX1_turn_1 : List UInt8 := [184, 0, 176, 42, 42, 182, 1, 102, 181, 0, 134, 42, 42, 180, 0, 44, 8, 96, 181, 0, 164, 42]
abbrev dktX1_turn_1 : List UInt8 := dkwX1_turn_1 ++ dktX1_turn_2
def dkwX1_turn_0 : List UInt8 := [42, 180, 0, 134, 2, 160, 0, 16, 42, 180, 0, 131, 16, 20, 162, 0, 7, 4, 167, 0, 4, 3]
abbrev dktX1_turn_0 : List UInt8 := dkwX1_turn_0 ++ dktX1_turn_1
theorem dksX1_turn_0 : cX1_turn.data.toList.drop 0 = dktX1_turn_0 := by decide +kernel
theorem dksX1_turn_1 : cX1_turn.data.toList.drop 22 = dktX1_turn_1 := dk_seg dksX1_turn_0 22 rfl rfl
theorem dksX1_turn_2 : cX1_turn.data.toList.drop 44 = dktX1_turn_2 := dk_seg dksX1_turn_1 22 rfl rfl
theorem dX1_turn_0 : decode cX1_turn 0 = .ok (.aload_n 0, 1) := dk_42 (dk_at dksX1_turn_0 0 rfl rfl)
theorem dX1_turn_1 : decode cX1_turn 1 = .ok (.getfield 134, 3) := dk_180 0 134 (dk_at dksX1_turn_0 1 rfl rfl)
theorem dX1_turn_4 : decode cX1_turn 4 = .ok (.iconst (-1), 1) := dk_2 (dk_at dksX1_turn_0 4 rfl rfl)
theorem dX1_turn_5 : decode cX1_turn 5 = .ok (.if_icmp .ne 16, 3) := dk_160 0 16 (dk_at dksX1_turn_0 5 rfl rfl)
theorem dX1_turn_8 : decode cX1_turn 8 = .ok (.aload_n 0, 1) := dk_42 (dk_at dksX1_turn_0 8 rfl rfl)
theorem dX1_turn_9 : decode cX1_turn 9 = .ok (.getfield 131, 3) := dk_180 0 131 (dk_at dksX1_turn_0 9 rfl rfl)
theorem dX1_turn_12 : decode cX1_turn 12 = .ok (.bipush 20, 2) := dk_16 20 (dk_at dksX1_turn_0 12 rfl rfl)
theorem dX1_turn_14 : decode cX1_turn 14 = .ok (.if_icmp .ge 7, 3) := dk_162 0 7 (dk_at dksX1_turn_0 14 rfl rfl)
theorem dX1_turn_17 : decode cX1_turn 17 = .ok (.iconst 1, 1) := dk_4 (dk_at dksX1_turn_0 17 rfl rfl)
theorem dX1_turn_18 : decode cX1_turn 18 = .ok (.goto 4, 3) := dk_167 0 4 (dk_at dksX1_turn_0 18 rfl rfl)
theorem dX1_turn_21 : decode cX1_turn 21 = .ok (.iconst 0, 1) := dk_3 (dk_at dksX1_turn_0 21 rfl rfl)
theorem dX1_turn_22 : decode cX1_turn 22 = .ok (.invokestatic 176, 3) := dk_184 0 176 (dk_at dksX1_turn_1 0 rfl rfl)
theorem dX1_turn_25 : decode cX1_turn 25 = .ok (.aload_n 0, 1) := dk_42 (dk_at dksX1_turn_1 3 rfl rfl)
theorem dX1_turn_26 : decode cX1_turn 26 = .ok (.aload_n 0, 1) := dk_42 (dk_at dksX1_turn_1 4 rfl rfl)
theorem dX1_turn_27 : decode cX1_turn 27 = .ok (.invokevirtual 358, 3) := dk_182 1 102 (dk_at dksX1_turn_1 5 rfl rfl)
theorem dX1_turn_30 : decode cX1_turn 30 = .ok (.putfield 134, 3) := dk_181 0 134 (dk_at dksX1_turn_1 8 rfl rfl)
theorem dX1_turn_33 : decode cX1_turn 33 = .ok (.aload_n 0, 1) := dk_42 (dk_at dksX1_turn_1 11 rfl rfl)
theorem dX1_turn_34 : decode cX1_turn 34 = .ok (.aload_n 0, 1) := dk_42 (dk_at dksX1_turn_1 12 rfl rfl)
theorem dX1_turn_35 : decode cX1_turn 35 = .ok (.getfield 44, 3) := dk_180 0 44 (dk_at dksX1_turn_1 13 rfl rfl)
theorem dX1_turn_38 : decode cX1_turn 38 = .ok (.iconst 5, 1) := dk_8 (dk_at dksX1_turn_1 16 rfl rfl)
theorem dX1_turn_39 : decode cX1_turn 39 = .ok (.iadd, 1) := dk_96 (dk_at dksX1_turn_1 17 rfl rfl)
theorem dX1_turn_40 : decode cX1_turn 40 = .ok (.putfield 164, 3) := dk_181 0 164 (dk_at dksX1_turn_1 18 rfl rfl)
theorem dX1_turn_43 : decode cX1_turn 43 = .ok (.aload_n 0, 1) := dk_42 (dk_at dksX1_turn_1 21 rfl rfl)
theorem dX1_turn_44 : decode cX1_turn 44 = .ok (.getfield 134, 3) := dk_180 0 134 (dk_at dksX1_turn_2 0 rfl rfl)
theorem dX1_turn_47 : decode cX1_turn 47 = .ok (.ireturn, 1) := dk_172 (dk_at dksX1_turn_2 3 rfl rfl)
abbrev cX1_publishKey : ByteArray := prog_1_method_51_code
def yX1_publishKey : MethodName := ⟨RX1, "publishKey", "()I"⟩
def dkwX1_publishKey_1 : List UInt8 := [180, 0, 131, 4, 100, 172]
abbrev dktX1_publishKey_1 : List UInt8 := dkwX1_publishKey_1 ++ []
def dkwX1_publishKey_0 : List UInt8 := [42, 180, 0, 124, 42, 180, 0, 131, 182, 0, 140, 42, 89, 180, 0, 131, 4, 96, 181, 0, 131, 42]
abbrev dktX1_publishKey_0 : List UInt8 := dkwX1_publishKey_0 ++ dktX1_publishKey_1
theorem dksX1_publishKey_0 : cX1_publishKey.data.toList.drop 0 = dktX1_publishKey_0 := by decide +kernel
theorem dksX1_publishKey_1 : cX1_publishKey.data.toList.drop 22 = dktX1_publishKey_1 := dk_seg dksX1_publishKey_0 22 rfl rfl
theorem dX1_publishKey_0 : decode cX1_publishKey 0 = .ok (.aload_n 0, 1) := dk_42 (dk_at dksX1_publishKey_0 0 rfl rfl)
theorem dX1_publishKey_1 : decode cX1_publishKey 1 = .ok (.getfield 124, 3) := dk_180 0 124 (dk_at dksX1_publishKey_0 1 rfl rfl)
theorem dX1_publishKey_4 : decode cX1_publishKey 4 = .ok (.aload_n 0, 1) := dk_42 (dk_at dksX1_publishKey_0 4 rfl rfl)
theorem dX1_publishKey_5 : decode cX1_publishKey 5 = .ok (.getfield 131, 3) := dk_180 0 131 (dk_at dksX1_publishKey_0 5 rfl rfl)
theorem dX1_publishKey_8 : decode cX1_publishKey 8 = .ok (.invokevirtual 140, 3) := dk_182 0 140 (dk_at dksX1_publishKey_0 8 rfl rfl)
theorem dX1_publishKey_11 : decode cX1_publishKey 11 = .ok (.aload_n 0, 1) := dk_42 (dk_at dksX1_publishKey_0 11 rfl rfl)
theorem dX1_publishKey_12 : decode cX1_publishKey 12 = .ok (.dup, 1) := dk_89 (dk_at dksX1_publishKey_0 12 rfl rfl)
theorem dX1_publishKey_13 : decode cX1_publishKey 13 = .ok (.getfield 131, 3) := dk_180 0 131 (dk_at dksX1_publishKey_0 13 rfl rfl)
theorem dX1_publishKey_16 : decode cX1_publishKey 16 = .ok (.iconst 1, 1) := dk_4 (dk_at dksX1_publishKey_0 16 rfl rfl)
theorem dX1_publishKey_17 : decode cX1_publishKey 17 = .ok (.iadd, 1) := dk_96 (dk_at dksX1_publishKey_0 17 rfl rfl)
theorem dX1_publishKey_18 : decode cX1_publishKey 18 = .ok (.putfield 131, 3) := dk_181 0 131 (dk_at dksX1_publishKey_0 18 rfl rfl)
theorem dX1_publishKey_21 : decode cX1_publishKey 21 = .ok (.aload_n 0, 1) := dk_42 (dk_at dksX1_publishKey_0 21 rfl rfl)
theorem dX1_publishKey_22 : decode cX1_publishKey 22 = .ok (.getfield 131, 3) := dk_180 0 131 (dk_at dksX1_publishKey_1 0 rfl rfl)
theorem dX1_publishKey_25 : decode cX1_publishKey 25 = .ok (.iconst 1, 1) := dk_4 (dk_at dksX1_publishKey_1 3 rfl rfl)
theorem dX1_publishKey_26 : decode cX1_publishKey 26 = .ok (.isub, 1) := dk_100 (dk_at dksX1_publishKey_1 4 rfl rfl)
theorem dX1_publishKey_27 : decode cX1_publishKey 27 = .ok (.ireturn, 1) := dk_172 (dk_at dksX1_publishKey_1 5 rfl rfl)
abbrev cX1_emergency : ByteArray := prog_1_method_53_code
def yX1_emergency : MethodName := ⟨RX1, "emergency", "()I"⟩
def dkwX1_emergency_2 : List UInt8 := [182, 1, 102, 167, 0, 7, 42, 180, 0, 134, 182, 0, 167, 42, 2, 181, 0, 134, 42, 180, 0, 161, 172]
abbrev dktX1_emergency_2 : List UInt8 := dkwX1_emergency_2 ++ []
def dkwX1_emergency_1 : List UInt8 := [184, 0, 176, 42, 180, 0, 124, 42, 180, 0, 161, 182, 1, 105, 42, 42, 180, 0, 134, 2, 160, 0, 10, 42]
abbrev dktX1_emergency_1 : List UInt8 := dkwX1_emergency_1 ++ dktX1_emergency_2
def dkwX1_emergency_0 : List UInt8 := [42, 180, 0, 134, 2, 160, 0, 12, 42, 180, 0, 131, 16, 20, 162, 0, 7, 4, 167, 0, 4, 3]
abbrev dktX1_emergency_0 : List UInt8 := dkwX1_emergency_0 ++ dktX1_emergency_1
theorem dksX1_emergency_0 : cX1_emergency.data.toList.drop 0 = dktX1_emergency_0 := by decide +kernel
theorem dksX1_emergency_1 : cX1_emergency.data.toList.drop 22 = dktX1_emergency_1 := dk_seg dksX1_emergency_0 22 rfl rfl
theorem dksX1_emergency_2 : cX1_emergency.data.toList.drop 46 = dktX1_emergency_2 := dk_seg dksX1_emergency_1 24 rfl rfl
theorem dX1_emergency_0 : decode cX1_emergency 0 = .ok (.aload_n 0, 1) := dk_42 (dk_at dksX1_emergency_0 0 rfl rfl)
theorem dX1_emergency_1 : decode cX1_emergency 1 = .ok (.getfield 134, 3) := dk_180 0 134 (dk_at dksX1_emergency_0 1 rfl rfl)
theorem dX1_emergency_4 : decode cX1_emergency 4 = .ok (.iconst (-1), 1) := dk_2 (dk_at dksX1_emergency_0 4 rfl rfl)
theorem dX1_emergency_5 : decode cX1_emergency 5 = .ok (.if_icmp .ne 12, 3) := dk_160 0 12 (dk_at dksX1_emergency_0 5 rfl rfl)
theorem dX1_emergency_8 : decode cX1_emergency 8 = .ok (.aload_n 0, 1) := dk_42 (dk_at dksX1_emergency_0 8 rfl rfl)
theorem dX1_emergency_9 : decode cX1_emergency 9 = .ok (.getfield 131, 3) := dk_180 0 131 (dk_at dksX1_emergency_0 9 rfl rfl)
theorem dX1_emergency_12 : decode cX1_emergency 12 = .ok (.bipush 20, 2) := dk_16 20 (dk_at dksX1_emergency_0 12 rfl rfl)
theorem dX1_emergency_14 : decode cX1_emergency 14 = .ok (.if_icmp .ge 7, 3) := dk_162 0 7 (dk_at dksX1_emergency_0 14 rfl rfl)
theorem dX1_emergency_17 : decode cX1_emergency 17 = .ok (.iconst 1, 1) := dk_4 (dk_at dksX1_emergency_0 17 rfl rfl)
theorem dX1_emergency_18 : decode cX1_emergency 18 = .ok (.goto 4, 3) := dk_167 0 4 (dk_at dksX1_emergency_0 18 rfl rfl)
theorem dX1_emergency_21 : decode cX1_emergency 21 = .ok (.iconst 0, 1) := dk_3 (dk_at dksX1_emergency_0 21 rfl rfl)
theorem dX1_emergency_22 : decode cX1_emergency 22 = .ok (.invokestatic 176, 3) := dk_184 0 176 (dk_at dksX1_emergency_1 0 rfl rfl)
theorem dX1_emergency_25 : decode cX1_emergency 25 = .ok (.aload_n 0, 1) := dk_42 (dk_at dksX1_emergency_1 3 rfl rfl)
theorem dX1_emergency_26 : decode cX1_emergency 26 = .ok (.getfield 124, 3) := dk_180 0 124 (dk_at dksX1_emergency_1 4 rfl rfl)
theorem dX1_emergency_29 : decode cX1_emergency 29 = .ok (.aload_n 0, 1) := dk_42 (dk_at dksX1_emergency_1 7 rfl rfl)
theorem dX1_emergency_30 : decode cX1_emergency 30 = .ok (.getfield 161, 3) := dk_180 0 161 (dk_at dksX1_emergency_1 8 rfl rfl)
theorem dX1_emergency_33 : decode cX1_emergency 33 = .ok (.invokevirtual 361, 3) := dk_182 1 105 (dk_at dksX1_emergency_1 11 rfl rfl)
theorem dX1_emergency_36 : decode cX1_emergency 36 = .ok (.aload_n 0, 1) := dk_42 (dk_at dksX1_emergency_1 14 rfl rfl)
theorem dX1_emergency_37 : decode cX1_emergency 37 = .ok (.aload_n 0, 1) := dk_42 (dk_at dksX1_emergency_1 15 rfl rfl)
theorem dX1_emergency_38 : decode cX1_emergency 38 = .ok (.getfield 134, 3) := dk_180 0 134 (dk_at dksX1_emergency_1 16 rfl rfl)
theorem dX1_emergency_41 : decode cX1_emergency 41 = .ok (.iconst (-1), 1) := dk_2 (dk_at dksX1_emergency_1 19 rfl rfl)
theorem dX1_emergency_42 : decode cX1_emergency 42 = .ok (.if_icmp .ne 10, 3) := dk_160 0 10 (dk_at dksX1_emergency_1 20 rfl rfl)
theorem dX1_emergency_45 : decode cX1_emergency 45 = .ok (.aload_n 0, 1) := dk_42 (dk_at dksX1_emergency_1 23 rfl rfl)
theorem dX1_emergency_46 : decode cX1_emergency 46 = .ok (.invokevirtual 358, 3) := dk_182 1 102 (dk_at dksX1_emergency_2 0 rfl rfl)
theorem dX1_emergency_49 : decode cX1_emergency 49 = .ok (.goto 7, 3) := dk_167 0 7 (dk_at dksX1_emergency_2 3 rfl rfl)
theorem dX1_emergency_52 : decode cX1_emergency 52 = .ok (.aload_n 0, 1) := dk_42 (dk_at dksX1_emergency_2 6 rfl rfl)
theorem dX1_emergency_53 : decode cX1_emergency 53 = .ok (.getfield 134, 3) := dk_180 0 134 (dk_at dksX1_emergency_2 7 rfl rfl)
theorem dX1_emergency_56 : decode cX1_emergency 56 = .ok (.invokevirtual 167, 3) := dk_182 0 167 (dk_at dksX1_emergency_2 10 rfl rfl)
theorem dX1_emergency_59 : decode cX1_emergency 59 = .ok (.aload_n 0, 1) := dk_42 (dk_at dksX1_emergency_2 13 rfl rfl)
theorem dX1_emergency_60 : decode cX1_emergency 60 = .ok (.iconst (-1), 1) := dk_2 (dk_at dksX1_emergency_2 14 rfl rfl)
theorem dX1_emergency_61 : decode cX1_emergency 61 = .ok (.putfield 134, 3) := dk_181 0 134 (dk_at dksX1_emergency_2 15 rfl rfl)
theorem dX1_emergency_64 : decode cX1_emergency 64 = .ok (.aload_n 0, 1) := dk_42 (dk_at dksX1_emergency_2 18 rfl rfl)
theorem dX1_emergency_65 : decode cX1_emergency 65 = .ok (.getfield 161, 3) := dk_180 0 161 (dk_at dksX1_emergency_2 19 rfl rfl)
theorem dX1_emergency_68 : decode cX1_emergency 68 = .ok (.ireturn, 1) := dk_172 (dk_at dksX1_emergency_2 22 rfl rfl)
abbrev cX1_isPublished : ByteArray := prog_1_method_55_code
def yX1_isPublished : MethodName := ⟨RX1, "isPublished", "(I)Z"⟩
def dkwX1_isPublished_0 : List UInt8 := [27, 42, 180, 0, 131, 184, 0, 158, 42, 180, 0, 124, 27, 182, 0, 170, 172]
abbrev dktX1_isPublished_0 : List UInt8 := dkwX1_isPublished_0 ++ []
theorem dksX1_isPublished_0 : cX1_isPublished.data.toList.drop 0 = dktX1_isPublished_0 := by decide +kernel
theorem dX1_isPublished_0 : decode cX1_isPublished 0 = .ok (.iload_n 1, 1) := dk_27 (dk_at dksX1_isPublished_0 0 rfl rfl)
theorem dX1_isPublished_1 : decode cX1_isPublished 1 = .ok (.aload_n 0, 1) := dk_42 (dk_at dksX1_isPublished_0 1 rfl rfl)
theorem dX1_isPublished_2 : decode cX1_isPublished 2 = .ok (.getfield 131, 3) := dk_180 0 131 (dk_at dksX1_isPublished_0 2 rfl rfl)
theorem dX1_isPublished_5 : decode cX1_isPublished 5 = .ok (.invokestatic 158, 3) := dk_184 0 158 (dk_at dksX1_isPublished_0 5 rfl rfl)
theorem dX1_isPublished_8 : decode cX1_isPublished 8 = .ok (.aload_n 0, 1) := dk_42 (dk_at dksX1_isPublished_0 8 rfl rfl)
theorem dX1_isPublished_9 : decode cX1_isPublished 9 = .ok (.getfield 124, 3) := dk_180 0 124 (dk_at dksX1_isPublished_0 9 rfl rfl)
theorem dX1_isPublished_12 : decode cX1_isPublished 12 = .ok (.iload_n 1, 1) := dk_27 (dk_at dksX1_isPublished_0 12 rfl rfl)
theorem dX1_isPublished_13 : decode cX1_isPublished 13 = .ok (.invokevirtual 170, 3) := dk_182 0 170 (dk_at dksX1_isPublished_0 13 rfl rfl)
theorem dX1_isPublished_16 : decode cX1_isPublished 16 = .ok (.ireturn, 1) := dk_172 (dk_at dksX1_isPublished_0 16 rfl rfl)
abbrev cX1_line : ByteArray := prog_1_method_56_code
def yX1_line : MethodName := ⟨RX1, "line", "(I)I"⟩
def dkwX1_line_0 : List UInt8 := [42, 27, 182, 1, 30, 182, 1, 108, 172]
abbrev dktX1_line_0 : List UInt8 := dkwX1_line_0 ++ []
theorem dksX1_line_0 : cX1_line.data.toList.drop 0 = dktX1_line_0 := by decide +kernel
theorem dX1_line_0 : decode cX1_line 0 = .ok (.aload_n 0, 1) := dk_42 (dk_at dksX1_line_0 0 rfl rfl)
theorem dX1_line_1 : decode cX1_line 1 = .ok (.iload_n 1, 1) := dk_27 (dk_at dksX1_line_0 1 rfl rfl)
theorem dX1_line_2 : decode cX1_line 2 = .ok (.invokevirtual 286, 3) := dk_182 1 30 (dk_at dksX1_line_0 2 rfl rfl)
theorem dX1_line_5 : decode cX1_line 5 = .ok (.invokevirtual 364, 3) := dk_182 1 108 (dk_at dksX1_line_0 5 rfl rfl)
theorem dX1_line_8 : decode cX1_line 8 = .ok (.ireturn, 1) := dk_172 (dk_at dksX1_line_0 8 rfl rfl)
abbrev cX1_check : ByteArray := prog_1_method_57_code
def yX1_check : MethodName := ⟨RX1, "check", "(III)I"⟩
def dkwX1_check_2 : List UInt8 := [172]
abbrev dktX1_check_2 : List UInt8 := dkwX1_check_2 ++ []
def dkwX1_check_1 : List UInt8 := [184, 0, 149, 25, 5, 180, 1, 95, 27, 160, 0, 14, 25, 4, 25, 5, 29, 182, 1, 111, 167, 0, 4, 4]
abbrev dktX1_check_1 : List UInt8 := dkwX1_check_1 ++ dktX1_check_2
def dkwX1_check_0 : List UInt8 := [42, 27, 182, 1, 30, 58, 4, 42, 180, 0, 96, 28, 184, 0, 214, 192, 1, 81, 58, 5, 29, 3, 6]
abbrev dktX1_check_0 : List UInt8 := dkwX1_check_0 ++ dktX1_check_1
theorem dksX1_check_0 : cX1_check.data.toList.drop 0 = dktX1_check_0 := by decide +kernel
theorem dksX1_check_1 : cX1_check.data.toList.drop 23 = dktX1_check_1 := dk_seg dksX1_check_0 23 rfl rfl
theorem dksX1_check_2 : cX1_check.data.toList.drop 47 = dktX1_check_2 := dk_seg dksX1_check_1 24 rfl rfl
theorem dX1_check_0 : decode cX1_check 0 = .ok (.aload_n 0, 1) := dk_42 (dk_at dksX1_check_0 0 rfl rfl)
theorem dX1_check_1 : decode cX1_check 1 = .ok (.iload_n 1, 1) := dk_27 (dk_at dksX1_check_0 1 rfl rfl)
theorem dX1_check_2 : decode cX1_check 2 = .ok (.invokevirtual 286, 3) := dk_182 1 30 (dk_at dksX1_check_0 2 rfl rfl)
theorem dX1_check_5 : decode cX1_check 5 = .ok (.astore 4, 2) := dk_58 4 (dk_at dksX1_check_0 5 rfl rfl)
theorem dX1_check_7 : decode cX1_check 7 = .ok (.aload_n 0, 1) := dk_42 (dk_at dksX1_check_0 7 rfl rfl)
theorem dX1_check_8 : decode cX1_check 8 = .ok (.getfield 96, 3) := dk_180 0 96 (dk_at dksX1_check_0 8 rfl rfl)
theorem dX1_check_11 : decode cX1_check 11 = .ok (.iload_n 2, 1) := dk_28 (dk_at dksX1_check_0 11 rfl rfl)
theorem dX1_check_12 : decode cX1_check 12 = .ok (.invokestatic 214, 3) := dk_184 0 214 (dk_at dksX1_check_0 12 rfl rfl)
theorem dX1_check_15 : decode cX1_check 15 = .ok (.checkcast 337, 3) := dk_192 1 81 (dk_at dksX1_check_0 15 rfl rfl)
theorem dX1_check_18 : decode cX1_check 18 = .ok (.astore 5, 2) := dk_58 5 (dk_at dksX1_check_0 18 rfl rfl)
theorem dX1_check_20 : decode cX1_check 20 = .ok (.iload_n 3, 1) := dk_29 (dk_at dksX1_check_0 20 rfl rfl)
theorem dX1_check_21 : decode cX1_check 21 = .ok (.iconst 0, 1) := dk_3 (dk_at dksX1_check_0 21 rfl rfl)
theorem dX1_check_22 : decode cX1_check 22 = .ok (.iconst 3, 1) := dk_6 (dk_at dksX1_check_0 22 rfl rfl)
theorem dX1_check_23 : decode cX1_check 23 = .ok (.invokestatic 149, 3) := dk_184 0 149 (dk_at dksX1_check_1 0 rfl rfl)
theorem dX1_check_26 : decode cX1_check 26 = .ok (.aload 5, 2) := dk_25 5 (dk_at dksX1_check_1 3 rfl rfl)
theorem dX1_check_28 : decode cX1_check 28 = .ok (.getfield 351, 3) := dk_180 1 95 (dk_at dksX1_check_1 5 rfl rfl)
theorem dX1_check_31 : decode cX1_check 31 = .ok (.iload_n 1, 1) := dk_27 (dk_at dksX1_check_1 8 rfl rfl)
theorem dX1_check_32 : decode cX1_check 32 = .ok (.if_icmp .ne 14, 3) := dk_160 0 14 (dk_at dksX1_check_1 9 rfl rfl)
theorem dX1_check_35 : decode cX1_check 35 = .ok (.aload 4, 2) := dk_25 4 (dk_at dksX1_check_1 12 rfl rfl)
theorem dX1_check_37 : decode cX1_check 37 = .ok (.aload 5, 2) := dk_25 5 (dk_at dksX1_check_1 14 rfl rfl)
theorem dX1_check_39 : decode cX1_check 39 = .ok (.iload_n 3, 1) := dk_29 (dk_at dksX1_check_1 16 rfl rfl)
theorem dX1_check_40 : decode cX1_check 40 = .ok (.invokevirtual 367, 3) := dk_182 1 111 (dk_at dksX1_check_1 17 rfl rfl)
theorem dX1_check_43 : decode cX1_check 43 = .ok (.goto 4, 3) := dk_167 0 4 (dk_at dksX1_check_1 20 rfl rfl)
theorem dX1_check_46 : decode cX1_check 46 = .ok (.iconst 1, 1) := dk_4 (dk_at dksX1_check_1 23 rfl rfl)
theorem dX1_check_47 : decode cX1_check 47 = .ok (.ireturn, 1) := dk_172 (dk_at dksX1_check_2 0 rfl rfl)
abbrev cX1_lag : ByteArray := prog_1_method_58_code
def yX1_lag : MethodName := ⟨RX1, "lag", "(I)I"⟩
def dkwX1_lag_2 : List UInt8 := [29, 153, 0, 7, 3, 167, 0, 18, 3, 44, 180, 1, 89, 42, 180, 0, 44, 100, 4, 96, 184, 1, 119, 172]
abbrev dktX1_lag_2 : List UInt8 := dkwX1_lag_2 ++ []
def dkwX1_lag_1 : List UInt8 := [180, 0, 104, 44, 180, 1, 95, 50, 44, 180, 1, 91, 182, 1, 115, 153, 0, 7, 4, 167, 0, 4, 3, 62]
abbrev dktX1_lag_1 : List UInt8 := dkwX1_lag_1 ++ dktX1_lag_2
def dkwX1_lag_0 : List UInt8 := [42, 180, 0, 96, 27, 184, 0, 214, 192, 1, 81, 77, 44, 180, 1, 91, 180, 1, 75, 154, 0, 22, 42]
abbrev dktX1_lag_0 : List UInt8 := dkwX1_lag_0 ++ dktX1_lag_1
theorem dksX1_lag_0 : cX1_lag.data.toList.drop 0 = dktX1_lag_0 := by decide +kernel
theorem dksX1_lag_1 : cX1_lag.data.toList.drop 23 = dktX1_lag_1 := dk_seg dksX1_lag_0 23 rfl rfl
theorem dksX1_lag_2 : cX1_lag.data.toList.drop 47 = dktX1_lag_2 := dk_seg dksX1_lag_1 24 rfl rfl
theorem dX1_lag_0 : decode cX1_lag 0 = .ok (.aload_n 0, 1) := dk_42 (dk_at dksX1_lag_0 0 rfl rfl)
theorem dX1_lag_1 : decode cX1_lag 1 = .ok (.getfield 96, 3) := dk_180 0 96 (dk_at dksX1_lag_0 1 rfl rfl)
theorem dX1_lag_4 : decode cX1_lag 4 = .ok (.iload_n 1, 1) := dk_27 (dk_at dksX1_lag_0 4 rfl rfl)
theorem dX1_lag_5 : decode cX1_lag 5 = .ok (.invokestatic 214, 3) := dk_184 0 214 (dk_at dksX1_lag_0 5 rfl rfl)
theorem dX1_lag_8 : decode cX1_lag 8 = .ok (.checkcast 337, 3) := dk_192 1 81 (dk_at dksX1_lag_0 8 rfl rfl)
theorem dX1_lag_11 : decode cX1_lag 11 = .ok (.astore_n 2, 1) := dk_77 (dk_at dksX1_lag_0 11 rfl rfl)
theorem dX1_lag_12 : decode cX1_lag 12 = .ok (.aload_n 2, 1) := dk_44 (dk_at dksX1_lag_0 12 rfl rfl)
theorem dX1_lag_13 : decode cX1_lag 13 = .ok (.getfield 347, 3) := dk_180 1 91 (dk_at dksX1_lag_0 13 rfl rfl)
theorem dX1_lag_16 : decode cX1_lag 16 = .ok (.getfield 331, 3) := dk_180 1 75 (dk_at dksX1_lag_0 16 rfl rfl)
theorem dX1_lag_19 : decode cX1_lag 19 = .ok (.ifCond .ne 22, 3) := dk_154 0 22 (dk_at dksX1_lag_0 19 rfl rfl)
theorem dX1_lag_22 : decode cX1_lag 22 = .ok (.aload_n 0, 1) := dk_42 (dk_at dksX1_lag_0 22 rfl rfl)
theorem dX1_lag_23 : decode cX1_lag 23 = .ok (.getfield 104, 3) := dk_180 0 104 (dk_at dksX1_lag_1 0 rfl rfl)
theorem dX1_lag_26 : decode cX1_lag 26 = .ok (.aload_n 2, 1) := dk_44 (dk_at dksX1_lag_1 3 rfl rfl)
theorem dX1_lag_27 : decode cX1_lag 27 = .ok (.getfield 351, 3) := dk_180 1 95 (dk_at dksX1_lag_1 4 rfl rfl)
theorem dX1_lag_30 : decode cX1_lag 30 = .ok (.aaload, 1) := dk_50 (dk_at dksX1_lag_1 7 rfl rfl)
theorem dX1_lag_31 : decode cX1_lag 31 = .ok (.aload_n 2, 1) := dk_44 (dk_at dksX1_lag_1 8 rfl rfl)
theorem dX1_lag_32 : decode cX1_lag 32 = .ok (.getfield 347, 3) := dk_180 1 91 (dk_at dksX1_lag_1 9 rfl rfl)
theorem dX1_lag_35 : decode cX1_lag 35 = .ok (.invokevirtual 371, 3) := dk_182 1 115 (dk_at dksX1_lag_1 12 rfl rfl)
theorem dX1_lag_38 : decode cX1_lag 38 = .ok (.ifCond .eq 7, 3) := dk_153 0 7 (dk_at dksX1_lag_1 15 rfl rfl)
theorem dX1_lag_41 : decode cX1_lag 41 = .ok (.iconst 1, 1) := dk_4 (dk_at dksX1_lag_1 18 rfl rfl)
theorem dX1_lag_42 : decode cX1_lag 42 = .ok (.goto 4, 3) := dk_167 0 4 (dk_at dksX1_lag_1 19 rfl rfl)
theorem dX1_lag_45 : decode cX1_lag 45 = .ok (.iconst 0, 1) := dk_3 (dk_at dksX1_lag_1 22 rfl rfl)
theorem dX1_lag_46 : decode cX1_lag 46 = .ok (.istore_n 3, 1) := dk_62 (dk_at dksX1_lag_1 23 rfl rfl)
theorem dX1_lag_47 : decode cX1_lag 47 = .ok (.iload_n 3, 1) := dk_29 (dk_at dksX1_lag_2 0 rfl rfl)
theorem dX1_lag_48 : decode cX1_lag 48 = .ok (.ifCond .eq 7, 3) := dk_153 0 7 (dk_at dksX1_lag_2 1 rfl rfl)
theorem dX1_lag_51 : decode cX1_lag 51 = .ok (.iconst 0, 1) := dk_3 (dk_at dksX1_lag_2 4 rfl rfl)
theorem dX1_lag_52 : decode cX1_lag 52 = .ok (.goto 18, 3) := dk_167 0 18 (dk_at dksX1_lag_2 5 rfl rfl)
theorem dX1_lag_55 : decode cX1_lag 55 = .ok (.iconst 0, 1) := dk_3 (dk_at dksX1_lag_2 8 rfl rfl)
theorem dX1_lag_56 : decode cX1_lag 56 = .ok (.aload_n 2, 1) := dk_44 (dk_at dksX1_lag_2 9 rfl rfl)
theorem dX1_lag_57 : decode cX1_lag 57 = .ok (.getfield 345, 3) := dk_180 1 89 (dk_at dksX1_lag_2 10 rfl rfl)
theorem dX1_lag_60 : decode cX1_lag 60 = .ok (.aload_n 0, 1) := dk_42 (dk_at dksX1_lag_2 13 rfl rfl)
theorem dX1_lag_61 : decode cX1_lag 61 = .ok (.getfield 44, 3) := dk_180 0 44 (dk_at dksX1_lag_2 14 rfl rfl)
theorem dX1_lag_64 : decode cX1_lag 64 = .ok (.isub, 1) := dk_100 (dk_at dksX1_lag_2 17 rfl rfl)
theorem dX1_lag_65 : decode cX1_lag 65 = .ok (.iconst 1, 1) := dk_4 (dk_at dksX1_lag_2 18 rfl rfl)
theorem dX1_lag_66 : decode cX1_lag 66 = .ok (.iadd, 1) := dk_96 (dk_at dksX1_lag_2 19 rfl rfl)
theorem dX1_lag_67 : decode cX1_lag 67 = .ok (.invokestatic 375, 3) := dk_184 1 119 (dk_at dksX1_lag_2 20 rfl rfl)
theorem dX1_lag_70 : decode cX1_lag 70 = .ok (.ireturn, 1) := dk_172 (dk_at dksX1_lag_2 23 rfl rfl)
abbrev cX1_recover : ByteArray := prog_1_method_60_code
def yX1_recover : MethodName := ⟨RX1, "recover", "(I)I"⟩
def dkwX1_recover_3 : List UInt8 := [185, 0, 9, 1, 0, 4, 100, 172]
abbrev dktX1_recover_3 : List UInt8 := dkwX1_recover_3 ++ []
def dkwX1_recover_2 : List UInt8 := [180, 0, 99, 187, 1, 125, 89, 42, 44, 183, 1, 135, 185, 0, 19, 2, 0, 87, 42, 180, 0, 99]
abbrev dktX1_recover_2 : List UInt8 := dkwX1_recover_2 ++ dktX1_recover_3
def dkwX1_recover_1 : List UInt8 := [180, 0, 99, 185, 0, 9, 1, 0, 16, 20, 162, 0, 7, 4, 167, 0, 4, 3, 184, 0, 176, 42]
abbrev dktX1_recover_1 : List UInt8 := dkwX1_recover_1 ++ dktX1_recover_2
def dkwX1_recover_0 : List UInt8 := [42, 27, 182, 0, 187, 77, 44, 180, 0, 224, 154, 0, 29, 42, 44, 182, 1, 131, 154, 0, 21, 42]
abbrev dktX1_recover_0 : List UInt8 := dkwX1_recover_0 ++ dktX1_recover_1
theorem dksX1_recover_0 : cX1_recover.data.toList.drop 0 = dktX1_recover_0 := by decide +kernel
theorem dksX1_recover_1 : cX1_recover.data.toList.drop 22 = dktX1_recover_1 := dk_seg dksX1_recover_0 22 rfl rfl
theorem dksX1_recover_2 : cX1_recover.data.toList.drop 44 = dktX1_recover_2 := dk_seg dksX1_recover_1 22 rfl rfl
theorem dksX1_recover_3 : cX1_recover.data.toList.drop 66 = dktX1_recover_3 := dk_seg dksX1_recover_2 22 rfl rfl
theorem dX1_recover_0 : decode cX1_recover 0 = .ok (.aload_n 0, 1) := dk_42 (dk_at dksX1_recover_0 0 rfl rfl)
theorem dX1_recover_1 : decode cX1_recover 1 = .ok (.iload_n 1, 1) := dk_27 (dk_at dksX1_recover_0 1 rfl rfl)
theorem dX1_recover_2 : decode cX1_recover 2 = .ok (.invokevirtual 187, 3) := dk_182 0 187 (dk_at dksX1_recover_0 2 rfl rfl)
theorem dX1_recover_5 : decode cX1_recover 5 = .ok (.astore_n 2, 1) := dk_77 (dk_at dksX1_recover_0 5 rfl rfl)
theorem dX1_recover_6 : decode cX1_recover 6 = .ok (.aload_n 2, 1) := dk_44 (dk_at dksX1_recover_0 6 rfl rfl)
theorem dX1_recover_7 : decode cX1_recover 7 = .ok (.getfield 224, 3) := dk_180 0 224 (dk_at dksX1_recover_0 7 rfl rfl)
theorem dX1_recover_10 : decode cX1_recover 10 = .ok (.ifCond .ne 29, 3) := dk_154 0 29 (dk_at dksX1_recover_0 10 rfl rfl)
theorem dX1_recover_13 : decode cX1_recover 13 = .ok (.aload_n 0, 1) := dk_42 (dk_at dksX1_recover_0 13 rfl rfl)
theorem dX1_recover_14 : decode cX1_recover 14 = .ok (.aload_n 2, 1) := dk_44 (dk_at dksX1_recover_0 14 rfl rfl)
theorem dX1_recover_15 : decode cX1_recover 15 = .ok (.invokevirtual 387, 3) := dk_182 1 131 (dk_at dksX1_recover_0 15 rfl rfl)
theorem dX1_recover_18 : decode cX1_recover 18 = .ok (.ifCond .ne 21, 3) := dk_154 0 21 (dk_at dksX1_recover_0 18 rfl rfl)
theorem dX1_recover_21 : decode cX1_recover 21 = .ok (.aload_n 0, 1) := dk_42 (dk_at dksX1_recover_0 21 rfl rfl)
theorem dX1_recover_22 : decode cX1_recover 22 = .ok (.getfield 99, 3) := dk_180 0 99 (dk_at dksX1_recover_1 0 rfl rfl)
theorem dX1_recover_25 : decode cX1_recover 25 = .ok (.invokeinterface 9 1, 5) := by decide +kernel
theorem dX1_recover_30 : decode cX1_recover 30 = .ok (.bipush 20, 2) := dk_16 20 (dk_at dksX1_recover_1 8 rfl rfl)
theorem dX1_recover_32 : decode cX1_recover 32 = .ok (.if_icmp .ge 7, 3) := dk_162 0 7 (dk_at dksX1_recover_1 10 rfl rfl)
theorem dX1_recover_35 : decode cX1_recover 35 = .ok (.iconst 1, 1) := dk_4 (dk_at dksX1_recover_1 13 rfl rfl)
theorem dX1_recover_36 : decode cX1_recover 36 = .ok (.goto 4, 3) := dk_167 0 4 (dk_at dksX1_recover_1 14 rfl rfl)
theorem dX1_recover_39 : decode cX1_recover 39 = .ok (.iconst 0, 1) := dk_3 (dk_at dksX1_recover_1 17 rfl rfl)
theorem dX1_recover_40 : decode cX1_recover 40 = .ok (.invokestatic 176, 3) := dk_184 0 176 (dk_at dksX1_recover_1 18 rfl rfl)
theorem dX1_recover_43 : decode cX1_recover 43 = .ok (.aload_n 0, 1) := dk_42 (dk_at dksX1_recover_1 21 rfl rfl)
theorem dX1_recover_44 : decode cX1_recover 44 = .ok (.getfield 99, 3) := dk_180 0 99 (dk_at dksX1_recover_2 0 rfl rfl)
theorem dX1_recover_47 : decode cX1_recover 47 = .ok (.new 381, 3) := dk_187 1 125 (dk_at dksX1_recover_2 3 rfl rfl)
theorem dX1_recover_50 : decode cX1_recover 50 = .ok (.dup, 1) := dk_89 (dk_at dksX1_recover_2 6 rfl rfl)
theorem dX1_recover_51 : decode cX1_recover 51 = .ok (.aload_n 0, 1) := dk_42 (dk_at dksX1_recover_2 7 rfl rfl)
theorem dX1_recover_52 : decode cX1_recover 52 = .ok (.aload_n 2, 1) := dk_44 (dk_at dksX1_recover_2 8 rfl rfl)
theorem dX1_recover_53 : decode cX1_recover 53 = .ok (.invokespecial 391, 3) := dk_183 1 135 (dk_at dksX1_recover_2 9 rfl rfl)
theorem dX1_recover_56 : decode cX1_recover 56 = .ok (.invokeinterface 19 2, 5) := by decide +kernel
theorem dX1_recover_61 : decode cX1_recover 61 = .ok (.pop, 1) := dk_87 (dk_at dksX1_recover_2 17 rfl rfl)
theorem dX1_recover_62 : decode cX1_recover 62 = .ok (.aload_n 0, 1) := dk_42 (dk_at dksX1_recover_2 18 rfl rfl)
theorem dX1_recover_63 : decode cX1_recover 63 = .ok (.getfield 99, 3) := dk_180 0 99 (dk_at dksX1_recover_2 19 rfl rfl)
theorem dX1_recover_66 : decode cX1_recover 66 = .ok (.invokeinterface 9 1, 5) := by decide +kernel
theorem dX1_recover_71 : decode cX1_recover 71 = .ok (.iconst 1, 1) := dk_4 (dk_at dksX1_recover_3 5 rfl rfl)
theorem dX1_recover_72 : decode cX1_recover 72 = .ok (.isub, 1) := dk_100 (dk_at dksX1_recover_3 6 rfl rfl)
theorem dX1_recover_73 : decode cX1_recover 73 = .ok (.ireturn, 1) := dk_172 (dk_at dksX1_recover_3 7 rfl rfl)
abbrev cX1_hasOpen : ByteArray := prog_1_method_59_code
def yX1_hasOpen : MethodName := ⟨RX1, "hasOpen", "(LKeyringCourt$Person;)Z"⟩
def dkwX1_hasOpen_3 : List UInt8 := [172]
abbrev dktX1_hasOpen_3 : List UInt8 := dkwX1_hasOpen_3 ++ []
def dkwX1_hasOpen_2 : List UInt8 := [192, 1, 125, 180, 1, 130, 43, 166, 0, 7, 4, 167, 0, 4, 3, 128, 61, 132, 3, 1, 167, 255, 193, 28]
abbrev dktX1_hasOpen_2 : List UInt8 := dkwX1_hasOpen_2 ++ dktX1_hasOpen_3
def dkwX1_hasOpen_1 : List UInt8 := [185, 0, 31, 2, 0, 192, 1, 125, 180, 1, 127, 153, 0, 27, 42, 180, 0, 99, 29, 185, 0, 31, 2, 0]
abbrev dktX1_hasOpen_1 : List UInt8 := dkwX1_hasOpen_1 ++ dktX1_hasOpen_2
def dkwX1_hasOpen_0 : List UInt8 := [3, 61, 3, 62, 29, 42, 180, 0, 99, 185, 0, 9, 1, 0, 162, 0, 56, 28, 42, 180, 0, 99, 29]
abbrev dktX1_hasOpen_0 : List UInt8 := dkwX1_hasOpen_0 ++ dktX1_hasOpen_1
theorem dksX1_hasOpen_0 : cX1_hasOpen.data.toList.drop 0 = dktX1_hasOpen_0 := by decide +kernel
theorem dksX1_hasOpen_1 : cX1_hasOpen.data.toList.drop 23 = dktX1_hasOpen_1 := dk_seg dksX1_hasOpen_0 23 rfl rfl
theorem dksX1_hasOpen_2 : cX1_hasOpen.data.toList.drop 47 = dktX1_hasOpen_2 := dk_seg dksX1_hasOpen_1 24 rfl rfl
theorem dksX1_hasOpen_3 : cX1_hasOpen.data.toList.drop 71 = dktX1_hasOpen_3 := dk_seg dksX1_hasOpen_2 24 rfl rfl
theorem dX1_hasOpen_0 : decode cX1_hasOpen 0 = .ok (.iconst 0, 1) := dk_3 (dk_at dksX1_hasOpen_0 0 rfl rfl)
theorem dX1_hasOpen_1 : decode cX1_hasOpen 1 = .ok (.istore_n 2, 1) := dk_61 (dk_at dksX1_hasOpen_0 1 rfl rfl)
theorem dX1_hasOpen_2 : decode cX1_hasOpen 2 = .ok (.iconst 0, 1) := dk_3 (dk_at dksX1_hasOpen_0 2 rfl rfl)
theorem dX1_hasOpen_3 : decode cX1_hasOpen 3 = .ok (.istore_n 3, 1) := dk_62 (dk_at dksX1_hasOpen_0 3 rfl rfl)
theorem dX1_hasOpen_4 : decode cX1_hasOpen 4 = .ok (.iload_n 3, 1) := dk_29 (dk_at dksX1_hasOpen_0 4 rfl rfl)
theorem dX1_hasOpen_5 : decode cX1_hasOpen 5 = .ok (.aload_n 0, 1) := dk_42 (dk_at dksX1_hasOpen_0 5 rfl rfl)
theorem dX1_hasOpen_6 : decode cX1_hasOpen 6 = .ok (.getfield 99, 3) := dk_180 0 99 (dk_at dksX1_hasOpen_0 6 rfl rfl)
theorem dX1_hasOpen_9 : decode cX1_hasOpen 9 = .ok (.invokeinterface 9 1, 5) := by decide +kernel
theorem dX1_hasOpen_14 : decode cX1_hasOpen 14 = .ok (.if_icmp .ge 56, 3) := dk_162 0 56 (dk_at dksX1_hasOpen_0 14 rfl rfl)
theorem dX1_hasOpen_17 : decode cX1_hasOpen 17 = .ok (.iload_n 2, 1) := dk_28 (dk_at dksX1_hasOpen_0 17 rfl rfl)
theorem dX1_hasOpen_18 : decode cX1_hasOpen 18 = .ok (.aload_n 0, 1) := dk_42 (dk_at dksX1_hasOpen_0 18 rfl rfl)
theorem dX1_hasOpen_19 : decode cX1_hasOpen 19 = .ok (.getfield 99, 3) := dk_180 0 99 (dk_at dksX1_hasOpen_0 19 rfl rfl)
theorem dX1_hasOpen_22 : decode cX1_hasOpen 22 = .ok (.iload_n 3, 1) := dk_29 (dk_at dksX1_hasOpen_0 22 rfl rfl)
theorem dX1_hasOpen_23 : decode cX1_hasOpen 23 = .ok (.invokeinterface 31 2, 5) := by decide +kernel
theorem dX1_hasOpen_28 : decode cX1_hasOpen 28 = .ok (.checkcast 381, 3) := dk_192 1 125 (dk_at dksX1_hasOpen_1 5 rfl rfl)
theorem dX1_hasOpen_31 : decode cX1_hasOpen 31 = .ok (.getfield 383, 3) := dk_180 1 127 (dk_at dksX1_hasOpen_1 8 rfl rfl)
theorem dX1_hasOpen_34 : decode cX1_hasOpen 34 = .ok (.ifCond .eq 27, 3) := dk_153 0 27 (dk_at dksX1_hasOpen_1 11 rfl rfl)
theorem dX1_hasOpen_37 : decode cX1_hasOpen 37 = .ok (.aload_n 0, 1) := dk_42 (dk_at dksX1_hasOpen_1 14 rfl rfl)
theorem dX1_hasOpen_38 : decode cX1_hasOpen 38 = .ok (.getfield 99, 3) := dk_180 0 99 (dk_at dksX1_hasOpen_1 15 rfl rfl)
theorem dX1_hasOpen_41 : decode cX1_hasOpen 41 = .ok (.iload_n 3, 1) := dk_29 (dk_at dksX1_hasOpen_1 18 rfl rfl)
theorem dX1_hasOpen_42 : decode cX1_hasOpen 42 = .ok (.invokeinterface 31 2, 5) := by decide +kernel
theorem dX1_hasOpen_47 : decode cX1_hasOpen 47 = .ok (.checkcast 381, 3) := dk_192 1 125 (dk_at dksX1_hasOpen_2 0 rfl rfl)
theorem dX1_hasOpen_50 : decode cX1_hasOpen 50 = .ok (.getfield 386, 3) := dk_180 1 130 (dk_at dksX1_hasOpen_2 3 rfl rfl)
theorem dX1_hasOpen_53 : decode cX1_hasOpen 53 = .ok (.aload_n 1, 1) := dk_43 (dk_at dksX1_hasOpen_2 6 rfl rfl)
theorem dX1_hasOpen_54 : decode cX1_hasOpen 54 = .ok (.if_acmp .ne 7, 3) := dk_166 0 7 (dk_at dksX1_hasOpen_2 7 rfl rfl)
theorem dX1_hasOpen_57 : decode cX1_hasOpen 57 = .ok (.iconst 1, 1) := dk_4 (dk_at dksX1_hasOpen_2 10 rfl rfl)
theorem dX1_hasOpen_58 : decode cX1_hasOpen 58 = .ok (.goto 4, 3) := dk_167 0 4 (dk_at dksX1_hasOpen_2 11 rfl rfl)
theorem dX1_hasOpen_61 : decode cX1_hasOpen 61 = .ok (.iconst 0, 1) := dk_3 (dk_at dksX1_hasOpen_2 14 rfl rfl)
theorem dX1_hasOpen_62 : decode cX1_hasOpen 62 = .ok (.ior, 1) := dk_128 (dk_at dksX1_hasOpen_2 15 rfl rfl)
theorem dX1_hasOpen_63 : decode cX1_hasOpen 63 = .ok (.istore_n 2, 1) := dk_61 (dk_at dksX1_hasOpen_2 16 rfl rfl)
theorem dX1_hasOpen_64 : decode cX1_hasOpen 64 = .ok (.iinc 3 1, 3) := dk_132 3 1 (dk_at dksX1_hasOpen_2 17 rfl rfl)
theorem dX1_hasOpen_67 : decode cX1_hasOpen 67 = .ok (.goto (-63), 3) := dk_167 255 193 (dk_at dksX1_hasOpen_2 20 rfl rfl)
theorem dX1_hasOpen_70 : decode cX1_hasOpen 70 = .ok (.iload_n 2, 1) := dk_28 (dk_at dksX1_hasOpen_2 23 rfl rfl)
theorem dX1_hasOpen_71 : decode cX1_hasOpen 71 = .ok (.ireturn, 1) := dk_172 (dk_at dksX1_hasOpen_3 0 rfl rfl)
abbrev cX1_vouch : ByteArray := prog_1_method_61_code
def yX1_vouch : MethodName := ⟨RX1, "vouch", "(II)I"⟩
def dkwX1_vouch_2 : List UInt8 := [184, 0, 176, 45, 25, 4, 182, 1, 142, 172]
abbrev dktX1_vouch_2 : List UInt8 := dkwX1_vouch_2 ++ []
def dkwX1_vouch_1 : List UInt8 := [58, 4, 45, 180, 1, 127, 153, 0, 16, 45, 25, 4, 182, 1, 138, 153, 0, 7, 4, 167, 0, 4, 3]
abbrev dktX1_vouch_1 : List UInt8 := dkwX1_vouch_1 ++ dktX1_vouch_2
def dkwX1_vouch_0 : List UInt8 := [42, 180, 0, 99, 27, 184, 0, 214, 192, 1, 125, 78, 42, 180, 0, 5, 28, 184, 0, 214, 192, 0, 3]
abbrev dktX1_vouch_0 : List UInt8 := dkwX1_vouch_0 ++ dktX1_vouch_1
theorem dksX1_vouch_0 : cX1_vouch.data.toList.drop 0 = dktX1_vouch_0 := by decide +kernel
theorem dksX1_vouch_1 : cX1_vouch.data.toList.drop 23 = dktX1_vouch_1 := dk_seg dksX1_vouch_0 23 rfl rfl
theorem dksX1_vouch_2 : cX1_vouch.data.toList.drop 46 = dktX1_vouch_2 := dk_seg dksX1_vouch_1 23 rfl rfl
theorem dX1_vouch_0 : decode cX1_vouch 0 = .ok (.aload_n 0, 1) := dk_42 (dk_at dksX1_vouch_0 0 rfl rfl)
theorem dX1_vouch_1 : decode cX1_vouch 1 = .ok (.getfield 99, 3) := dk_180 0 99 (dk_at dksX1_vouch_0 1 rfl rfl)
theorem dX1_vouch_4 : decode cX1_vouch 4 = .ok (.iload_n 1, 1) := dk_27 (dk_at dksX1_vouch_0 4 rfl rfl)
theorem dX1_vouch_5 : decode cX1_vouch 5 = .ok (.invokestatic 214, 3) := dk_184 0 214 (dk_at dksX1_vouch_0 5 rfl rfl)
theorem dX1_vouch_8 : decode cX1_vouch 8 = .ok (.checkcast 381, 3) := dk_192 1 125 (dk_at dksX1_vouch_0 8 rfl rfl)
theorem dX1_vouch_11 : decode cX1_vouch 11 = .ok (.astore_n 3, 1) := dk_78 (dk_at dksX1_vouch_0 11 rfl rfl)
theorem dX1_vouch_12 : decode cX1_vouch 12 = .ok (.aload_n 0, 1) := dk_42 (dk_at dksX1_vouch_0 12 rfl rfl)
theorem dX1_vouch_13 : decode cX1_vouch 13 = .ok (.getfield 5, 3) := dk_180 0 5 (dk_at dksX1_vouch_0 13 rfl rfl)
theorem dX1_vouch_16 : decode cX1_vouch 16 = .ok (.iload_n 2, 1) := dk_28 (dk_at dksX1_vouch_0 16 rfl rfl)
theorem dX1_vouch_17 : decode cX1_vouch 17 = .ok (.invokestatic 214, 3) := dk_184 0 214 (dk_at dksX1_vouch_0 17 rfl rfl)
theorem dX1_vouch_20 : decode cX1_vouch 20 = .ok (.checkcast 3, 3) := dk_192 0 3 (dk_at dksX1_vouch_0 20 rfl rfl)
theorem dX1_vouch_23 : decode cX1_vouch 23 = .ok (.astore 4, 2) := dk_58 4 (dk_at dksX1_vouch_1 0 rfl rfl)
theorem dX1_vouch_25 : decode cX1_vouch 25 = .ok (.aload_n 3, 1) := dk_45 (dk_at dksX1_vouch_1 2 rfl rfl)
theorem dX1_vouch_26 : decode cX1_vouch 26 = .ok (.getfield 383, 3) := dk_180 1 127 (dk_at dksX1_vouch_1 3 rfl rfl)
theorem dX1_vouch_29 : decode cX1_vouch 29 = .ok (.ifCond .eq 16, 3) := dk_153 0 16 (dk_at dksX1_vouch_1 6 rfl rfl)
theorem dX1_vouch_32 : decode cX1_vouch 32 = .ok (.aload_n 3, 1) := dk_45 (dk_at dksX1_vouch_1 9 rfl rfl)
theorem dX1_vouch_33 : decode cX1_vouch 33 = .ok (.aload 4, 2) := dk_25 4 (dk_at dksX1_vouch_1 10 rfl rfl)
theorem dX1_vouch_35 : decode cX1_vouch 35 = .ok (.invokevirtual 394, 3) := dk_182 1 138 (dk_at dksX1_vouch_1 12 rfl rfl)
theorem dX1_vouch_38 : decode cX1_vouch 38 = .ok (.ifCond .eq 7, 3) := dk_153 0 7 (dk_at dksX1_vouch_1 15 rfl rfl)
theorem dX1_vouch_41 : decode cX1_vouch 41 = .ok (.iconst 1, 1) := dk_4 (dk_at dksX1_vouch_1 18 rfl rfl)
theorem dX1_vouch_42 : decode cX1_vouch 42 = .ok (.goto 4, 3) := dk_167 0 4 (dk_at dksX1_vouch_1 19 rfl rfl)
theorem dX1_vouch_45 : decode cX1_vouch 45 = .ok (.iconst 0, 1) := dk_3 (dk_at dksX1_vouch_1 22 rfl rfl)
theorem dX1_vouch_46 : decode cX1_vouch 46 = .ok (.invokestatic 176, 3) := dk_184 0 176 (dk_at dksX1_vouch_2 0 rfl rfl)
theorem dX1_vouch_49 : decode cX1_vouch 49 = .ok (.aload_n 3, 1) := dk_45 (dk_at dksX1_vouch_2 3 rfl rfl)
theorem dX1_vouch_50 : decode cX1_vouch 50 = .ok (.aload 4, 2) := dk_25 4 (dk_at dksX1_vouch_2 4 rfl rfl)
theorem dX1_vouch_52 : decode cX1_vouch 52 = .ok (.invokevirtual 398, 3) := dk_182 1 142 (dk_at dksX1_vouch_2 6 rfl rfl)
theorem dX1_vouch_55 : decode cX1_vouch 55 = .ok (.ireturn, 1) := dk_172 (dk_at dksX1_vouch_2 9 rfl rfl)
abbrev cX1_stop : ByteArray := prog_1_method_62_code
def yX1_stop : MethodName := ⟨RX1, "stop", "(II)I"⟩
def dkwX1_stop_2 : List UInt8 := [184, 0, 176, 45, 3, 181, 1, 127, 45, 182, 1, 149, 172]
abbrev dktX1_stop_2 : List UInt8 := dkwX1_stop_2 ++ []
def dkwX1_stop_1 : List UInt8 := [58, 4, 45, 180, 1, 127, 153, 0, 16, 45, 25, 4, 182, 1, 146, 153, 0, 7, 4, 167, 0, 4, 3]
abbrev dktX1_stop_1 : List UInt8 := dkwX1_stop_1 ++ dktX1_stop_2
def dkwX1_stop_0 : List UInt8 := [42, 180, 0, 99, 27, 184, 0, 214, 192, 1, 125, 78, 42, 180, 0, 5, 28, 184, 0, 214, 192, 0, 3]
abbrev dktX1_stop_0 : List UInt8 := dkwX1_stop_0 ++ dktX1_stop_1
theorem dksX1_stop_0 : cX1_stop.data.toList.drop 0 = dktX1_stop_0 := by decide +kernel
theorem dksX1_stop_1 : cX1_stop.data.toList.drop 23 = dktX1_stop_1 := dk_seg dksX1_stop_0 23 rfl rfl
theorem dksX1_stop_2 : cX1_stop.data.toList.drop 46 = dktX1_stop_2 := dk_seg dksX1_stop_1 23 rfl rfl
theorem dX1_stop_0 : decode cX1_stop 0 = .ok (.aload_n 0, 1) := dk_42 (dk_at dksX1_stop_0 0 rfl rfl)
theorem dX1_stop_1 : decode cX1_stop 1 = .ok (.getfield 99, 3) := dk_180 0 99 (dk_at dksX1_stop_0 1 rfl rfl)
theorem dX1_stop_4 : decode cX1_stop 4 = .ok (.iload_n 1, 1) := dk_27 (dk_at dksX1_stop_0 4 rfl rfl)
theorem dX1_stop_5 : decode cX1_stop 5 = .ok (.invokestatic 214, 3) := dk_184 0 214 (dk_at dksX1_stop_0 5 rfl rfl)
theorem dX1_stop_8 : decode cX1_stop 8 = .ok (.checkcast 381, 3) := dk_192 1 125 (dk_at dksX1_stop_0 8 rfl rfl)
theorem dX1_stop_11 : decode cX1_stop 11 = .ok (.astore_n 3, 1) := dk_78 (dk_at dksX1_stop_0 11 rfl rfl)
theorem dX1_stop_12 : decode cX1_stop 12 = .ok (.aload_n 0, 1) := dk_42 (dk_at dksX1_stop_0 12 rfl rfl)
theorem dX1_stop_13 : decode cX1_stop 13 = .ok (.getfield 5, 3) := dk_180 0 5 (dk_at dksX1_stop_0 13 rfl rfl)
theorem dX1_stop_16 : decode cX1_stop 16 = .ok (.iload_n 2, 1) := dk_28 (dk_at dksX1_stop_0 16 rfl rfl)
theorem dX1_stop_17 : decode cX1_stop 17 = .ok (.invokestatic 214, 3) := dk_184 0 214 (dk_at dksX1_stop_0 17 rfl rfl)
theorem dX1_stop_20 : decode cX1_stop 20 = .ok (.checkcast 3, 3) := dk_192 0 3 (dk_at dksX1_stop_0 20 rfl rfl)
theorem dX1_stop_23 : decode cX1_stop 23 = .ok (.astore 4, 2) := dk_58 4 (dk_at dksX1_stop_1 0 rfl rfl)
theorem dX1_stop_25 : decode cX1_stop 25 = .ok (.aload_n 3, 1) := dk_45 (dk_at dksX1_stop_1 2 rfl rfl)
theorem dX1_stop_26 : decode cX1_stop 26 = .ok (.getfield 383, 3) := dk_180 1 127 (dk_at dksX1_stop_1 3 rfl rfl)
theorem dX1_stop_29 : decode cX1_stop 29 = .ok (.ifCond .eq 16, 3) := dk_153 0 16 (dk_at dksX1_stop_1 6 rfl rfl)
theorem dX1_stop_32 : decode cX1_stop 32 = .ok (.aload_n 3, 1) := dk_45 (dk_at dksX1_stop_1 9 rfl rfl)
theorem dX1_stop_33 : decode cX1_stop 33 = .ok (.aload 4, 2) := dk_25 4 (dk_at dksX1_stop_1 10 rfl rfl)
theorem dX1_stop_35 : decode cX1_stop 35 = .ok (.invokevirtual 402, 3) := dk_182 1 146 (dk_at dksX1_stop_1 12 rfl rfl)
theorem dX1_stop_38 : decode cX1_stop 38 = .ok (.ifCond .eq 7, 3) := dk_153 0 7 (dk_at dksX1_stop_1 15 rfl rfl)
theorem dX1_stop_41 : decode cX1_stop 41 = .ok (.iconst 1, 1) := dk_4 (dk_at dksX1_stop_1 18 rfl rfl)
theorem dX1_stop_42 : decode cX1_stop 42 = .ok (.goto 4, 3) := dk_167 0 4 (dk_at dksX1_stop_1 19 rfl rfl)
theorem dX1_stop_45 : decode cX1_stop 45 = .ok (.iconst 0, 1) := dk_3 (dk_at dksX1_stop_1 22 rfl rfl)
theorem dX1_stop_46 : decode cX1_stop 46 = .ok (.invokestatic 176, 3) := dk_184 0 176 (dk_at dksX1_stop_2 0 rfl rfl)
theorem dX1_stop_49 : decode cX1_stop 49 = .ok (.aload_n 3, 1) := dk_45 (dk_at dksX1_stop_2 3 rfl rfl)
theorem dX1_stop_50 : decode cX1_stop 50 = .ok (.iconst 0, 1) := dk_3 (dk_at dksX1_stop_2 4 rfl rfl)
theorem dX1_stop_51 : decode cX1_stop 51 = .ok (.putfield 383, 3) := dk_181 1 127 (dk_at dksX1_stop_2 5 rfl rfl)
theorem dX1_stop_54 : decode cX1_stop 54 = .ok (.aload_n 3, 1) := dk_45 (dk_at dksX1_stop_2 8 rfl rfl)
theorem dX1_stop_55 : decode cX1_stop 55 = .ok (.invokevirtual 405, 3) := dk_182 1 149 (dk_at dksX1_stop_2 9 rfl rfl)
theorem dX1_stop_58 : decode cX1_stop 58 = .ok (.ireturn, 1) := dk_172 (dk_at dksX1_stop_2 12 rfl rfl)
abbrev cX1_finish : ByteArray := prog_1_method_63_code
def yX1_finish : MethodName := ⟨RX1, "finish", "(I)I"⟩
def dkwX1_finish_1 : List UInt8 := [42, 16, 6, 27, 182, 0, 27, 29, 172]
abbrev dktX1_finish_1 : List UInt8 := dkwX1_finish_1 ++ []
def dkwX1_finish_0 : List UInt8 := [42, 180, 0, 99, 27, 184, 0, 214, 192, 1, 125, 77, 44, 182, 1, 152, 184, 0, 176, 44, 182, 1, 155, 62]
abbrev dktX1_finish_0 : List UInt8 := dkwX1_finish_0 ++ dktX1_finish_1
theorem dksX1_finish_0 : cX1_finish.data.toList.drop 0 = dktX1_finish_0 := by decide +kernel
theorem dksX1_finish_1 : cX1_finish.data.toList.drop 24 = dktX1_finish_1 := dk_seg dksX1_finish_0 24 rfl rfl
theorem dX1_finish_0 : decode cX1_finish 0 = .ok (.aload_n 0, 1) := dk_42 (dk_at dksX1_finish_0 0 rfl rfl)
theorem dX1_finish_1 : decode cX1_finish 1 = .ok (.getfield 99, 3) := dk_180 0 99 (dk_at dksX1_finish_0 1 rfl rfl)
theorem dX1_finish_4 : decode cX1_finish 4 = .ok (.iload_n 1, 1) := dk_27 (dk_at dksX1_finish_0 4 rfl rfl)
theorem dX1_finish_5 : decode cX1_finish 5 = .ok (.invokestatic 214, 3) := dk_184 0 214 (dk_at dksX1_finish_0 5 rfl rfl)
theorem dX1_finish_8 : decode cX1_finish 8 = .ok (.checkcast 381, 3) := dk_192 1 125 (dk_at dksX1_finish_0 8 rfl rfl)
theorem dX1_finish_11 : decode cX1_finish 11 = .ok (.astore_n 2, 1) := dk_77 (dk_at dksX1_finish_0 11 rfl rfl)
theorem dX1_finish_12 : decode cX1_finish 12 = .ok (.aload_n 2, 1) := dk_44 (dk_at dksX1_finish_0 12 rfl rfl)
theorem dX1_finish_13 : decode cX1_finish 13 = .ok (.invokevirtual 408, 3) := dk_182 1 152 (dk_at dksX1_finish_0 13 rfl rfl)
theorem dX1_finish_16 : decode cX1_finish 16 = .ok (.invokestatic 176, 3) := dk_184 0 176 (dk_at dksX1_finish_0 16 rfl rfl)
theorem dX1_finish_19 : decode cX1_finish 19 = .ok (.aload_n 2, 1) := dk_44 (dk_at dksX1_finish_0 19 rfl rfl)
theorem dX1_finish_20 : decode cX1_finish 20 = .ok (.invokevirtual 411, 3) := dk_182 1 155 (dk_at dksX1_finish_0 20 rfl rfl)
theorem dX1_finish_23 : decode cX1_finish 23 = .ok (.istore_n 3, 1) := dk_62 (dk_at dksX1_finish_0 23 rfl rfl)
theorem dX1_finish_24 : decode cX1_finish 24 = .ok (.aload_n 0, 1) := dk_42 (dk_at dksX1_finish_1 0 rfl rfl)
theorem dX1_finish_25 : decode cX1_finish 25 = .ok (.bipush 6, 2) := dk_16 6 (dk_at dksX1_finish_1 1 rfl rfl)
theorem dX1_finish_27 : decode cX1_finish 27 = .ok (.iload_n 1, 1) := dk_27 (dk_at dksX1_finish_1 3 rfl rfl)
theorem dX1_finish_28 : decode cX1_finish 28 = .ok (.invokevirtual 27, 3) := dk_182 0 27 (dk_at dksX1_finish_1 4 rfl rfl)
theorem dX1_finish_31 : decode cX1_finish 31 = .ok (.iload_n 3, 1) := dk_29 (dk_at dksX1_finish_1 7 rfl rfl)
theorem dX1_finish_32 : decode cX1_finish 32 = .ok (.ireturn, 1) := dk_172 (dk_at dksX1_finish_1 8 rfl rfl)
abbrev cX1_endAll : ByteArray := prog_1_method_3_code
def yX1_endAll : MethodName := ⟨RX1, "endAll", "(LKeyringCourt$Person;)I"⟩
def dkwX1_endAll_3 : List UInt8 := [172]
abbrev dktX1_endAll_3 : List UInt8 := dkwX1_endAll_3 ++ []
def dkwX1_endAll_2 : List UInt8 := [185, 0, 31, 2, 0, 192, 0, 3, 182, 0, 39, 167, 0, 4, 3, 96, 61, 132, 3, 1, 167, 255, 197, 28]
abbrev dktX1_endAll_2 : List UInt8 := dkwX1_endAll_2 ++ dktX1_endAll_3
def dkwX1_endAll_1 : List UInt8 := [185, 0, 31, 2, 0, 192, 0, 3, 180, 0, 35, 43, 166, 0, 22, 42, 180, 0, 5, 29]
abbrev dktX1_endAll_1 : List UInt8 := dkwX1_endAll_1 ++ dktX1_endAll_2
def dkwX1_endAll_0 : List UInt8 := [3, 61, 3, 62, 29, 42, 180, 0, 5, 185, 0, 9, 1, 0, 162, 0, 52, 28, 42, 180, 0, 5, 29]
abbrev dktX1_endAll_0 : List UInt8 := dkwX1_endAll_0 ++ dktX1_endAll_1
theorem dksX1_endAll_0 : cX1_endAll.data.toList.drop 0 = dktX1_endAll_0 := by decide +kernel
theorem dksX1_endAll_1 : cX1_endAll.data.toList.drop 23 = dktX1_endAll_1 := dk_seg dksX1_endAll_0 23 rfl rfl
theorem dksX1_endAll_2 : cX1_endAll.data.toList.drop 43 = dktX1_endAll_2 := dk_seg dksX1_endAll_1 20 rfl rfl
theorem dksX1_endAll_3 : cX1_endAll.data.toList.drop 67 = dktX1_endAll_3 := dk_seg dksX1_endAll_2 24 rfl rfl
theorem dX1_endAll_0 : decode cX1_endAll 0 = .ok (.iconst 0, 1) := dk_3 (dk_at dksX1_endAll_0 0 rfl rfl)
theorem dX1_endAll_1 : decode cX1_endAll 1 = .ok (.istore_n 2, 1) := dk_61 (dk_at dksX1_endAll_0 1 rfl rfl)
theorem dX1_endAll_2 : decode cX1_endAll 2 = .ok (.iconst 0, 1) := dk_3 (dk_at dksX1_endAll_0 2 rfl rfl)
theorem dX1_endAll_3 : decode cX1_endAll 3 = .ok (.istore_n 3, 1) := dk_62 (dk_at dksX1_endAll_0 3 rfl rfl)
theorem dX1_endAll_4 : decode cX1_endAll 4 = .ok (.iload_n 3, 1) := dk_29 (dk_at dksX1_endAll_0 4 rfl rfl)
theorem dX1_endAll_5 : decode cX1_endAll 5 = .ok (.aload_n 0, 1) := dk_42 (dk_at dksX1_endAll_0 5 rfl rfl)
theorem dX1_endAll_6 : decode cX1_endAll 6 = .ok (.getfield 5, 3) := dk_180 0 5 (dk_at dksX1_endAll_0 6 rfl rfl)
theorem dX1_endAll_9 : decode cX1_endAll 9 = .ok (.invokeinterface 9 1, 5) := by decide +kernel
theorem dX1_endAll_14 : decode cX1_endAll 14 = .ok (.if_icmp .ge 52, 3) := dk_162 0 52 (dk_at dksX1_endAll_0 14 rfl rfl)
theorem dX1_endAll_17 : decode cX1_endAll 17 = .ok (.iload_n 2, 1) := dk_28 (dk_at dksX1_endAll_0 17 rfl rfl)
theorem dX1_endAll_18 : decode cX1_endAll 18 = .ok (.aload_n 0, 1) := dk_42 (dk_at dksX1_endAll_0 18 rfl rfl)
theorem dX1_endAll_19 : decode cX1_endAll 19 = .ok (.getfield 5, 3) := dk_180 0 5 (dk_at dksX1_endAll_0 19 rfl rfl)
theorem dX1_endAll_22 : decode cX1_endAll 22 = .ok (.iload_n 3, 1) := dk_29 (dk_at dksX1_endAll_0 22 rfl rfl)
theorem dX1_endAll_23 : decode cX1_endAll 23 = .ok (.invokeinterface 31 2, 5) := by decide +kernel
theorem dX1_endAll_28 : decode cX1_endAll 28 = .ok (.checkcast 3, 3) := dk_192 0 3 (dk_at dksX1_endAll_1 5 rfl rfl)
theorem dX1_endAll_31 : decode cX1_endAll 31 = .ok (.getfield 35, 3) := dk_180 0 35 (dk_at dksX1_endAll_1 8 rfl rfl)
theorem dX1_endAll_34 : decode cX1_endAll 34 = .ok (.aload_n 1, 1) := dk_43 (dk_at dksX1_endAll_1 11 rfl rfl)
theorem dX1_endAll_35 : decode cX1_endAll 35 = .ok (.if_acmp .ne 22, 3) := dk_166 0 22 (dk_at dksX1_endAll_1 12 rfl rfl)
theorem dX1_endAll_38 : decode cX1_endAll 38 = .ok (.aload_n 0, 1) := dk_42 (dk_at dksX1_endAll_1 15 rfl rfl)
theorem dX1_endAll_39 : decode cX1_endAll 39 = .ok (.getfield 5, 3) := dk_180 0 5 (dk_at dksX1_endAll_1 16 rfl rfl)
theorem dX1_endAll_42 : decode cX1_endAll 42 = .ok (.iload_n 3, 1) := dk_29 (dk_at dksX1_endAll_1 19 rfl rfl)
theorem dX1_endAll_43 : decode cX1_endAll 43 = .ok (.invokeinterface 31 2, 5) := by decide +kernel
theorem dX1_endAll_48 : decode cX1_endAll 48 = .ok (.checkcast 3, 3) := dk_192 0 3 (dk_at dksX1_endAll_2 5 rfl rfl)
theorem dX1_endAll_51 : decode cX1_endAll 51 = .ok (.invokevirtual 39, 3) := dk_182 0 39 (dk_at dksX1_endAll_2 8 rfl rfl)
theorem dX1_endAll_54 : decode cX1_endAll 54 = .ok (.goto 4, 3) := dk_167 0 4 (dk_at dksX1_endAll_2 11 rfl rfl)
theorem dX1_endAll_57 : decode cX1_endAll 57 = .ok (.iconst 0, 1) := dk_3 (dk_at dksX1_endAll_2 14 rfl rfl)
theorem dX1_endAll_58 : decode cX1_endAll 58 = .ok (.iadd, 1) := dk_96 (dk_at dksX1_endAll_2 15 rfl rfl)
theorem dX1_endAll_59 : decode cX1_endAll 59 = .ok (.istore_n 2, 1) := dk_61 (dk_at dksX1_endAll_2 16 rfl rfl)
theorem dX1_endAll_60 : decode cX1_endAll 60 = .ok (.iinc 3 1, 3) := dk_132 3 1 (dk_at dksX1_endAll_2 17 rfl rfl)
theorem dX1_endAll_63 : decode cX1_endAll 63 = .ok (.goto (-59), 3) := dk_167 255 197 (dk_at dksX1_endAll_2 20 rfl rfl)
theorem dX1_endAll_66 : decode cX1_endAll 66 = .ok (.iload_n 2, 1) := dk_28 (dk_at dksX1_endAll_2 23 rfl rfl)
theorem dX1_endAll_67 : decode cX1_endAll 67 = .ok (.ireturn, 1) := dk_172 (dk_at dksX1_endAll_3 0 rfl rfl)
abbrev cX1_link : ByteArray := prog_1_method_64_code
def yX1_link : MethodName := ⟨RX1, "link", "(II)I"⟩
def dkwX1_link_3 : List UInt8 := [25, 4, 180, 1, 158, 172]
abbrev dktX1_link_3 : List UInt8 := dkwX1_link_3 ++ []
def dkwX1_link_2 : List UInt8 := [167, 0, 4, 3, 184, 0, 176, 42, 180, 0, 112, 27, 45, 83, 25, 4, 199, 0, 7, 2, 167, 0, 8]
abbrev dktX1_link_2 : List UInt8 := dkwX1_link_2 ++ dktX1_link_3
def dkwX1_link_1 : List UInt8 := [180, 0, 112, 27, 50, 58, 4, 45, 198, 0, 14, 25, 4, 198, 0, 9, 25, 4, 45, 166, 0, 7, 4]
abbrev dktX1_link_1 : List UInt8 := dkwX1_link_1 ++ dktX1_link_2
def dkwX1_link_0 : List UInt8 := [27, 16, 6, 184, 0, 158, 28, 2, 160, 0, 7, 1, 167, 0, 8, 42, 28, 182, 0, 187, 78, 42]
abbrev dktX1_link_0 : List UInt8 := dkwX1_link_0 ++ dktX1_link_1
theorem dksX1_link_0 : cX1_link.data.toList.drop 0 = dktX1_link_0 := by decide +kernel
theorem dksX1_link_1 : cX1_link.data.toList.drop 22 = dktX1_link_1 := dk_seg dksX1_link_0 22 rfl rfl
theorem dksX1_link_2 : cX1_link.data.toList.drop 45 = dktX1_link_2 := dk_seg dksX1_link_1 23 rfl rfl
theorem dksX1_link_3 : cX1_link.data.toList.drop 68 = dktX1_link_3 := dk_seg dksX1_link_2 23 rfl rfl
theorem dX1_link_0 : decode cX1_link 0 = .ok (.iload_n 1, 1) := dk_27 (dk_at dksX1_link_0 0 rfl rfl)
theorem dX1_link_1 : decode cX1_link 1 = .ok (.bipush 6, 2) := dk_16 6 (dk_at dksX1_link_0 1 rfl rfl)
theorem dX1_link_3 : decode cX1_link 3 = .ok (.invokestatic 158, 3) := dk_184 0 158 (dk_at dksX1_link_0 3 rfl rfl)
theorem dX1_link_6 : decode cX1_link 6 = .ok (.iload_n 2, 1) := dk_28 (dk_at dksX1_link_0 6 rfl rfl)
theorem dX1_link_7 : decode cX1_link 7 = .ok (.iconst (-1), 1) := dk_2 (dk_at dksX1_link_0 7 rfl rfl)
theorem dX1_link_8 : decode cX1_link 8 = .ok (.if_icmp .ne 7, 3) := dk_160 0 7 (dk_at dksX1_link_0 8 rfl rfl)
theorem dX1_link_11 : decode cX1_link 11 = .ok (.aconst_null, 1) := dk_1 (dk_at dksX1_link_0 11 rfl rfl)
theorem dX1_link_12 : decode cX1_link 12 = .ok (.goto 8, 3) := dk_167 0 8 (dk_at dksX1_link_0 12 rfl rfl)
theorem dX1_link_15 : decode cX1_link 15 = .ok (.aload_n 0, 1) := dk_42 (dk_at dksX1_link_0 15 rfl rfl)
theorem dX1_link_16 : decode cX1_link 16 = .ok (.iload_n 2, 1) := dk_28 (dk_at dksX1_link_0 16 rfl rfl)
theorem dX1_link_17 : decode cX1_link 17 = .ok (.invokevirtual 187, 3) := dk_182 0 187 (dk_at dksX1_link_0 17 rfl rfl)
theorem dX1_link_20 : decode cX1_link 20 = .ok (.astore_n 3, 1) := dk_78 (dk_at dksX1_link_0 20 rfl rfl)
theorem dX1_link_21 : decode cX1_link 21 = .ok (.aload_n 0, 1) := dk_42 (dk_at dksX1_link_0 21 rfl rfl)
theorem dX1_link_22 : decode cX1_link 22 = .ok (.getfield 112, 3) := dk_180 0 112 (dk_at dksX1_link_1 0 rfl rfl)
theorem dX1_link_25 : decode cX1_link 25 = .ok (.iload_n 1, 1) := dk_27 (dk_at dksX1_link_1 3 rfl rfl)
theorem dX1_link_26 : decode cX1_link 26 = .ok (.aaload, 1) := dk_50 (dk_at dksX1_link_1 4 rfl rfl)
theorem dX1_link_27 : decode cX1_link 27 = .ok (.astore 4, 2) := dk_58 4 (dk_at dksX1_link_1 5 rfl rfl)
theorem dX1_link_29 : decode cX1_link 29 = .ok (.aload_n 3, 1) := dk_45 (dk_at dksX1_link_1 7 rfl rfl)
theorem dX1_link_30 : decode cX1_link 30 = .ok (.ifnull 14, 3) := dk_198 0 14 (dk_at dksX1_link_1 8 rfl rfl)
theorem dX1_link_33 : decode cX1_link 33 = .ok (.aload 4, 2) := dk_25 4 (dk_at dksX1_link_1 11 rfl rfl)
theorem dX1_link_35 : decode cX1_link 35 = .ok (.ifnull 9, 3) := dk_198 0 9 (dk_at dksX1_link_1 13 rfl rfl)
theorem dX1_link_38 : decode cX1_link 38 = .ok (.aload 4, 2) := dk_25 4 (dk_at dksX1_link_1 16 rfl rfl)
theorem dX1_link_40 : decode cX1_link 40 = .ok (.aload_n 3, 1) := dk_45 (dk_at dksX1_link_1 18 rfl rfl)
theorem dX1_link_41 : decode cX1_link 41 = .ok (.if_acmp .ne 7, 3) := dk_166 0 7 (dk_at dksX1_link_1 19 rfl rfl)
theorem dX1_link_44 : decode cX1_link 44 = .ok (.iconst 1, 1) := dk_4 (dk_at dksX1_link_1 22 rfl rfl)
theorem dX1_link_45 : decode cX1_link 45 = .ok (.goto 4, 3) := dk_167 0 4 (dk_at dksX1_link_2 0 rfl rfl)
theorem dX1_link_48 : decode cX1_link 48 = .ok (.iconst 0, 1) := dk_3 (dk_at dksX1_link_2 3 rfl rfl)
theorem dX1_link_49 : decode cX1_link 49 = .ok (.invokestatic 176, 3) := dk_184 0 176 (dk_at dksX1_link_2 4 rfl rfl)
theorem dX1_link_52 : decode cX1_link 52 = .ok (.aload_n 0, 1) := dk_42 (dk_at dksX1_link_2 7 rfl rfl)
theorem dX1_link_53 : decode cX1_link 53 = .ok (.getfield 112, 3) := dk_180 0 112 (dk_at dksX1_link_2 8 rfl rfl)
theorem dX1_link_56 : decode cX1_link 56 = .ok (.iload_n 1, 1) := dk_27 (dk_at dksX1_link_2 11 rfl rfl)
theorem dX1_link_57 : decode cX1_link 57 = .ok (.aload_n 3, 1) := dk_45 (dk_at dksX1_link_2 12 rfl rfl)
theorem dX1_link_58 : decode cX1_link 58 = .ok (.aastore, 1) := dk_83 (dk_at dksX1_link_2 13 rfl rfl)
theorem dX1_link_59 : decode cX1_link 59 = .ok (.aload 4, 2) := dk_25 4 (dk_at dksX1_link_2 14 rfl rfl)
theorem dX1_link_61 : decode cX1_link 61 = .ok (.ifnonnull 7, 3) := dk_199 0 7 (dk_at dksX1_link_2 16 rfl rfl)
theorem dX1_link_64 : decode cX1_link 64 = .ok (.iconst (-1), 1) := dk_2 (dk_at dksX1_link_2 19 rfl rfl)
theorem dX1_link_65 : decode cX1_link 65 = .ok (.goto 8, 3) := dk_167 0 8 (dk_at dksX1_link_2 20 rfl rfl)
theorem dX1_link_68 : decode cX1_link 68 = .ok (.aload 4, 2) := dk_25 4 (dk_at dksX1_link_3 0 rfl rfl)
theorem dX1_link_70 : decode cX1_link 70 = .ok (.getfield 414, 3) := dk_180 1 158 (dk_at dksX1_link_3 2 rfl rfl)
theorem dX1_link_73 : decode cX1_link 73 = .ok (.ireturn, 1) := dk_172 (dk_at dksX1_link_3 5 rfl rfl)
abbrev cX1_foreign : ByteArray := prog_1_method_65_code
def yX1_foreign : MethodName := ⟨RX1, "foreign", "(I)I"⟩
def dkwX1_foreign_2 : List UInt8 := [1, 6, 188, 10, 3, 182, 1, 26, 172]
abbrev dktX1_foreign_2 : List UInt8 := dkwX1_foreign_2 ++ []
def dkwX1_foreign_1 : List UInt8 := [42, 180, 0, 5, 185, 0, 9, 1, 0, 16, 60, 162, 0, 7, 4, 167, 0, 4, 3, 184, 0, 176, 42, 44]
abbrev dktX1_foreign_1 : List UInt8 := dkwX1_foreign_1 ++ dktX1_foreign_2
def dkwX1_foreign_0 : List UInt8 := [27, 16, 6, 184, 0, 158, 42, 180, 0, 112, 27, 50, 77, 44, 198, 0, 28, 44, 180, 0, 224, 154, 0, 21]
abbrev dktX1_foreign_0 : List UInt8 := dkwX1_foreign_0 ++ dktX1_foreign_1
theorem dksX1_foreign_0 : cX1_foreign.data.toList.drop 0 = dktX1_foreign_0 := by decide +kernel
theorem dksX1_foreign_1 : cX1_foreign.data.toList.drop 24 = dktX1_foreign_1 := dk_seg dksX1_foreign_0 24 rfl rfl
theorem dksX1_foreign_2 : cX1_foreign.data.toList.drop 48 = dktX1_foreign_2 := dk_seg dksX1_foreign_1 24 rfl rfl
theorem dX1_foreign_0 : decode cX1_foreign 0 = .ok (.iload_n 1, 1) := dk_27 (dk_at dksX1_foreign_0 0 rfl rfl)
theorem dX1_foreign_1 : decode cX1_foreign 1 = .ok (.bipush 6, 2) := dk_16 6 (dk_at dksX1_foreign_0 1 rfl rfl)
theorem dX1_foreign_3 : decode cX1_foreign 3 = .ok (.invokestatic 158, 3) := dk_184 0 158 (dk_at dksX1_foreign_0 3 rfl rfl)
theorem dX1_foreign_6 : decode cX1_foreign 6 = .ok (.aload_n 0, 1) := dk_42 (dk_at dksX1_foreign_0 6 rfl rfl)
theorem dX1_foreign_7 : decode cX1_foreign 7 = .ok (.getfield 112, 3) := dk_180 0 112 (dk_at dksX1_foreign_0 7 rfl rfl)
theorem dX1_foreign_10 : decode cX1_foreign 10 = .ok (.iload_n 1, 1) := dk_27 (dk_at dksX1_foreign_0 10 rfl rfl)
theorem dX1_foreign_11 : decode cX1_foreign 11 = .ok (.aaload, 1) := dk_50 (dk_at dksX1_foreign_0 11 rfl rfl)
theorem dX1_foreign_12 : decode cX1_foreign 12 = .ok (.astore_n 2, 1) := dk_77 (dk_at dksX1_foreign_0 12 rfl rfl)
theorem dX1_foreign_13 : decode cX1_foreign 13 = .ok (.aload_n 2, 1) := dk_44 (dk_at dksX1_foreign_0 13 rfl rfl)
theorem dX1_foreign_14 : decode cX1_foreign 14 = .ok (.ifnull 28, 3) := dk_198 0 28 (dk_at dksX1_foreign_0 14 rfl rfl)
theorem dX1_foreign_17 : decode cX1_foreign 17 = .ok (.aload_n 2, 1) := dk_44 (dk_at dksX1_foreign_0 17 rfl rfl)
theorem dX1_foreign_18 : decode cX1_foreign 18 = .ok (.getfield 224, 3) := dk_180 0 224 (dk_at dksX1_foreign_0 18 rfl rfl)
theorem dX1_foreign_21 : decode cX1_foreign 21 = .ok (.ifCond .ne 21, 3) := dk_154 0 21 (dk_at dksX1_foreign_0 21 rfl rfl)
theorem dX1_foreign_24 : decode cX1_foreign 24 = .ok (.aload_n 0, 1) := dk_42 (dk_at dksX1_foreign_1 0 rfl rfl)
theorem dX1_foreign_25 : decode cX1_foreign 25 = .ok (.getfield 5, 3) := dk_180 0 5 (dk_at dksX1_foreign_1 1 rfl rfl)
theorem dX1_foreign_28 : decode cX1_foreign 28 = .ok (.invokeinterface 9 1, 5) := by decide +kernel
theorem dX1_foreign_33 : decode cX1_foreign 33 = .ok (.bipush 60, 2) := dk_16 60 (dk_at dksX1_foreign_1 9 rfl rfl)
theorem dX1_foreign_35 : decode cX1_foreign 35 = .ok (.if_icmp .ge 7, 3) := dk_162 0 7 (dk_at dksX1_foreign_1 11 rfl rfl)
theorem dX1_foreign_38 : decode cX1_foreign 38 = .ok (.iconst 1, 1) := dk_4 (dk_at dksX1_foreign_1 14 rfl rfl)
theorem dX1_foreign_39 : decode cX1_foreign 39 = .ok (.goto 4, 3) := dk_167 0 4 (dk_at dksX1_foreign_1 15 rfl rfl)
theorem dX1_foreign_42 : decode cX1_foreign 42 = .ok (.iconst 0, 1) := dk_3 (dk_at dksX1_foreign_1 18 rfl rfl)
theorem dX1_foreign_43 : decode cX1_foreign 43 = .ok (.invokestatic 176, 3) := dk_184 0 176 (dk_at dksX1_foreign_1 19 rfl rfl)
theorem dX1_foreign_46 : decode cX1_foreign 46 = .ok (.aload_n 0, 1) := dk_42 (dk_at dksX1_foreign_1 22 rfl rfl)
theorem dX1_foreign_47 : decode cX1_foreign 47 = .ok (.aload_n 2, 1) := dk_44 (dk_at dksX1_foreign_1 23 rfl rfl)
theorem dX1_foreign_48 : decode cX1_foreign 48 = .ok (.aconst_null, 1) := dk_1 (dk_at dksX1_foreign_2 0 rfl rfl)
theorem dX1_foreign_49 : decode cX1_foreign 49 = .ok (.iconst 3, 1) := dk_6 (dk_at dksX1_foreign_2 1 rfl rfl)
theorem dX1_foreign_50 : decode cX1_foreign 50 = .ok (.newarray .int, 2) := dk_188_10 (dk_at dksX1_foreign_2 2 rfl rfl)
theorem dX1_foreign_52 : decode cX1_foreign 52 = .ok (.iconst 0, 1) := dk_3 (dk_at dksX1_foreign_2 4 rfl rfl)
theorem dX1_foreign_53 : decode cX1_foreign 53 = .ok (.invokevirtual 282, 3) := dk_182 1 26 (dk_at dksX1_foreign_2 5 rfl rfl)
theorem dX1_foreign_56 : decode cX1_foreign 56 = .ok (.ireturn, 1) := dk_172 (dk_at dksX1_foreign_2 8 rfl rfl)
abbrev cX1_leave : ByteArray := prog_1_method_66_code
def yX1_leave : MethodName := ⟨RX1, "leave", "(I)I"⟩
def dkwX1_leave_7 : List UInt8 := [132, 4, 1, 167, 255, 191, 29, 172]
abbrev dktX1_leave_7 : List UInt8 := dkwX1_leave_7 ++ []
def dkwX1_leave_6 : List UInt8 := [185, 0, 31, 2, 0, 192, 1, 125, 180, 1, 130, 44, 165, 0, 7, 4, 167, 0, 4, 3, 126, 181, 1, 127]
abbrev dktX1_leave_6 : List UInt8 := dkwX1_leave_6 ++ dktX1_leave_7
def dkwX1_leave_5 : List UInt8 := [180, 0, 99, 21, 4, 185, 0, 31, 2, 0, 192, 1, 125, 89, 180, 1, 127, 42, 180, 0, 99, 21, 4]
abbrev dktX1_leave_5 : List UInt8 := dkwX1_leave_5 ++ dktX1_leave_6
def dkwX1_leave_4 : List UInt8 := [132, 4, 1, 167, 255, 201, 3, 54, 4, 21, 4, 42, 180, 0, 99, 185, 0, 9, 1, 0, 162, 0, 57, 42]
abbrev dktX1_leave_4 : List UInt8 := dkwX1_leave_4 ++ dktX1_leave_5
def dkwX1_leave_3 : List UInt8 := [180, 1, 163, 44, 166, 0, 20, 42, 180, 0, 87, 21, 4, 185, 0, 31, 2, 0, 192, 0, 228, 182, 1, 164]
abbrev dktX1_leave_3 : List UInt8 := dkwX1_leave_3 ++ dktX1_leave_4
def dkwX1_leave_2 : List UInt8 := [185, 0, 9, 1, 0, 162, 0, 47, 42, 180, 0, 87, 21, 4, 185, 0, 31, 2, 0, 192, 0, 228]
abbrev dktX1_leave_2 : List UInt8 := dkwX1_leave_2 ++ dktX1_leave_3
def dkwX1_leave_1 : List UInt8 := [180, 0, 224, 154, 0, 5, 2, 172, 42, 44, 182, 1, 159, 62, 3, 54, 4, 21, 4, 42, 180, 0, 87]
abbrev dktX1_leave_1 : List UInt8 := dkwX1_leave_1 ++ dktX1_leave_2
def dkwX1_leave_0 : List UInt8 := [42, 27, 182, 0, 187, 77, 44, 44, 180, 0, 224, 154, 0, 7, 4, 167, 0, 4, 3, 181, 0, 224, 44]
abbrev dktX1_leave_0 : List UInt8 := dkwX1_leave_0 ++ dktX1_leave_1
theorem dksX1_leave_0 : cX1_leave.data.toList.drop 0 = dktX1_leave_0 := by decide +kernel
theorem dksX1_leave_1 : cX1_leave.data.toList.drop 23 = dktX1_leave_1 := dk_seg dksX1_leave_0 23 rfl rfl
theorem dksX1_leave_2 : cX1_leave.data.toList.drop 46 = dktX1_leave_2 := dk_seg dksX1_leave_1 23 rfl rfl
theorem dksX1_leave_3 : cX1_leave.data.toList.drop 68 = dktX1_leave_3 := dk_seg dksX1_leave_2 22 rfl rfl
theorem dksX1_leave_4 : cX1_leave.data.toList.drop 92 = dktX1_leave_4 := dk_seg dksX1_leave_3 24 rfl rfl
theorem dksX1_leave_5 : cX1_leave.data.toList.drop 116 = dktX1_leave_5 := dk_seg dksX1_leave_4 24 rfl rfl
theorem dksX1_leave_6 : cX1_leave.data.toList.drop 139 = dktX1_leave_6 := dk_seg dksX1_leave_5 23 rfl rfl
theorem dksX1_leave_7 : cX1_leave.data.toList.drop 163 = dktX1_leave_7 := dk_seg dksX1_leave_6 24 rfl rfl
theorem dX1_leave_0 : decode cX1_leave 0 = .ok (.aload_n 0, 1) := dk_42 (dk_at dksX1_leave_0 0 rfl rfl)
theorem dX1_leave_1 : decode cX1_leave 1 = .ok (.iload_n 1, 1) := dk_27 (dk_at dksX1_leave_0 1 rfl rfl)
theorem dX1_leave_2 : decode cX1_leave 2 = .ok (.invokevirtual 187, 3) := dk_182 0 187 (dk_at dksX1_leave_0 2 rfl rfl)
theorem dX1_leave_5 : decode cX1_leave 5 = .ok (.astore_n 2, 1) := dk_77 (dk_at dksX1_leave_0 5 rfl rfl)
theorem dX1_leave_6 : decode cX1_leave 6 = .ok (.aload_n 2, 1) := dk_44 (dk_at dksX1_leave_0 6 rfl rfl)
theorem dX1_leave_7 : decode cX1_leave 7 = .ok (.aload_n 2, 1) := dk_44 (dk_at dksX1_leave_0 7 rfl rfl)
theorem dX1_leave_8 : decode cX1_leave 8 = .ok (.getfield 224, 3) := dk_180 0 224 (dk_at dksX1_leave_0 8 rfl rfl)
theorem dX1_leave_11 : decode cX1_leave 11 = .ok (.ifCond .ne 7, 3) := dk_154 0 7 (dk_at dksX1_leave_0 11 rfl rfl)
theorem dX1_leave_14 : decode cX1_leave 14 = .ok (.iconst 1, 1) := dk_4 (dk_at dksX1_leave_0 14 rfl rfl)
theorem dX1_leave_15 : decode cX1_leave 15 = .ok (.goto 4, 3) := dk_167 0 4 (dk_at dksX1_leave_0 15 rfl rfl)
theorem dX1_leave_18 : decode cX1_leave 18 = .ok (.iconst 0, 1) := dk_3 (dk_at dksX1_leave_0 18 rfl rfl)
theorem dX1_leave_19 : decode cX1_leave 19 = .ok (.putfield 224, 3) := dk_181 0 224 (dk_at dksX1_leave_0 19 rfl rfl)
theorem dX1_leave_22 : decode cX1_leave 22 = .ok (.aload_n 2, 1) := dk_44 (dk_at dksX1_leave_0 22 rfl rfl)
theorem dX1_leave_23 : decode cX1_leave 23 = .ok (.getfield 224, 3) := dk_180 0 224 (dk_at dksX1_leave_1 0 rfl rfl)
theorem dX1_leave_26 : decode cX1_leave 26 = .ok (.ifCond .ne 5, 3) := dk_154 0 5 (dk_at dksX1_leave_1 3 rfl rfl)
theorem dX1_leave_29 : decode cX1_leave 29 = .ok (.iconst (-1), 1) := dk_2 (dk_at dksX1_leave_1 6 rfl rfl)
theorem dX1_leave_30 : decode cX1_leave 30 = .ok (.ireturn, 1) := dk_172 (dk_at dksX1_leave_1 7 rfl rfl)
theorem dX1_leave_31 : decode cX1_leave 31 = .ok (.aload_n 0, 1) := dk_42 (dk_at dksX1_leave_1 8 rfl rfl)
theorem dX1_leave_32 : decode cX1_leave 32 = .ok (.aload_n 2, 1) := dk_44 (dk_at dksX1_leave_1 9 rfl rfl)
theorem dX1_leave_33 : decode cX1_leave 33 = .ok (.invokevirtual 415, 3) := dk_182 1 159 (dk_at dksX1_leave_1 10 rfl rfl)
theorem dX1_leave_36 : decode cX1_leave 36 = .ok (.istore_n 3, 1) := dk_62 (dk_at dksX1_leave_1 13 rfl rfl)
theorem dX1_leave_37 : decode cX1_leave 37 = .ok (.iconst 0, 1) := dk_3 (dk_at dksX1_leave_1 14 rfl rfl)
theorem dX1_leave_38 : decode cX1_leave 38 = .ok (.istore 4, 2) := dk_54 4 (dk_at dksX1_leave_1 15 rfl rfl)
theorem dX1_leave_40 : decode cX1_leave 40 = .ok (.iload 4, 2) := dk_21 4 (dk_at dksX1_leave_1 17 rfl rfl)
theorem dX1_leave_42 : decode cX1_leave 42 = .ok (.aload_n 0, 1) := dk_42 (dk_at dksX1_leave_1 19 rfl rfl)
theorem dX1_leave_43 : decode cX1_leave 43 = .ok (.getfield 87, 3) := dk_180 0 87 (dk_at dksX1_leave_1 20 rfl rfl)
theorem dX1_leave_46 : decode cX1_leave 46 = .ok (.invokeinterface 9 1, 5) := by decide +kernel
theorem dX1_leave_51 : decode cX1_leave 51 = .ok (.if_icmp .ge 47, 3) := dk_162 0 47 (dk_at dksX1_leave_2 5 rfl rfl)
theorem dX1_leave_54 : decode cX1_leave 54 = .ok (.aload_n 0, 1) := dk_42 (dk_at dksX1_leave_2 8 rfl rfl)
theorem dX1_leave_55 : decode cX1_leave 55 = .ok (.getfield 87, 3) := dk_180 0 87 (dk_at dksX1_leave_2 9 rfl rfl)
theorem dX1_leave_58 : decode cX1_leave 58 = .ok (.iload 4, 2) := dk_21 4 (dk_at dksX1_leave_2 12 rfl rfl)
theorem dX1_leave_60 : decode cX1_leave 60 = .ok (.invokeinterface 31 2, 5) := by decide +kernel
theorem dX1_leave_65 : decode cX1_leave 65 = .ok (.checkcast 228, 3) := dk_192 0 228 (dk_at dksX1_leave_2 19 rfl rfl)
theorem dX1_leave_68 : decode cX1_leave 68 = .ok (.getfield 419, 3) := dk_180 1 163 (dk_at dksX1_leave_3 0 rfl rfl)
theorem dX1_leave_71 : decode cX1_leave 71 = .ok (.aload_n 2, 1) := dk_44 (dk_at dksX1_leave_3 3 rfl rfl)
theorem dX1_leave_72 : decode cX1_leave 72 = .ok (.if_acmp .ne 20, 3) := dk_166 0 20 (dk_at dksX1_leave_3 4 rfl rfl)
theorem dX1_leave_75 : decode cX1_leave 75 = .ok (.aload_n 0, 1) := dk_42 (dk_at dksX1_leave_3 7 rfl rfl)
theorem dX1_leave_76 : decode cX1_leave 76 = .ok (.getfield 87, 3) := dk_180 0 87 (dk_at dksX1_leave_3 8 rfl rfl)
theorem dX1_leave_79 : decode cX1_leave 79 = .ok (.iload 4, 2) := dk_21 4 (dk_at dksX1_leave_3 11 rfl rfl)
theorem dX1_leave_81 : decode cX1_leave 81 = .ok (.invokeinterface 31 2, 5) := by decide +kernel
theorem dX1_leave_86 : decode cX1_leave 86 = .ok (.checkcast 228, 3) := dk_192 0 228 (dk_at dksX1_leave_3 18 rfl rfl)
theorem dX1_leave_89 : decode cX1_leave 89 = .ok (.invokevirtual 420, 3) := dk_182 1 164 (dk_at dksX1_leave_3 21 rfl rfl)
theorem dX1_leave_92 : decode cX1_leave 92 = .ok (.iinc 4 1, 3) := dk_132 4 1 (dk_at dksX1_leave_4 0 rfl rfl)
theorem dX1_leave_95 : decode cX1_leave 95 = .ok (.goto (-55), 3) := dk_167 255 201 (dk_at dksX1_leave_4 3 rfl rfl)
theorem dX1_leave_98 : decode cX1_leave 98 = .ok (.iconst 0, 1) := dk_3 (dk_at dksX1_leave_4 6 rfl rfl)
theorem dX1_leave_99 : decode cX1_leave 99 = .ok (.istore 4, 2) := dk_54 4 (dk_at dksX1_leave_4 7 rfl rfl)
theorem dX1_leave_101 : decode cX1_leave 101 = .ok (.iload 4, 2) := dk_21 4 (dk_at dksX1_leave_4 9 rfl rfl)
theorem dX1_leave_103 : decode cX1_leave 103 = .ok (.aload_n 0, 1) := dk_42 (dk_at dksX1_leave_4 11 rfl rfl)
theorem dX1_leave_104 : decode cX1_leave 104 = .ok (.getfield 99, 3) := dk_180 0 99 (dk_at dksX1_leave_4 12 rfl rfl)
theorem dX1_leave_107 : decode cX1_leave 107 = .ok (.invokeinterface 9 1, 5) := by decide +kernel
theorem dX1_leave_112 : decode cX1_leave 112 = .ok (.if_icmp .ge 57, 3) := dk_162 0 57 (dk_at dksX1_leave_4 20 rfl rfl)
theorem dX1_leave_115 : decode cX1_leave 115 = .ok (.aload_n 0, 1) := dk_42 (dk_at dksX1_leave_4 23 rfl rfl)
theorem dX1_leave_116 : decode cX1_leave 116 = .ok (.getfield 99, 3) := dk_180 0 99 (dk_at dksX1_leave_5 0 rfl rfl)
theorem dX1_leave_119 : decode cX1_leave 119 = .ok (.iload 4, 2) := dk_21 4 (dk_at dksX1_leave_5 3 rfl rfl)
theorem dX1_leave_121 : decode cX1_leave 121 = .ok (.invokeinterface 31 2, 5) := by decide +kernel
theorem dX1_leave_126 : decode cX1_leave 126 = .ok (.checkcast 381, 3) := dk_192 1 125 (dk_at dksX1_leave_5 10 rfl rfl)
theorem dX1_leave_129 : decode cX1_leave 129 = .ok (.dup, 1) := dk_89 (dk_at dksX1_leave_5 13 rfl rfl)
theorem dX1_leave_130 : decode cX1_leave 130 = .ok (.getfield 383, 3) := dk_180 1 127 (dk_at dksX1_leave_5 14 rfl rfl)
theorem dX1_leave_133 : decode cX1_leave 133 = .ok (.aload_n 0, 1) := dk_42 (dk_at dksX1_leave_5 17 rfl rfl)
theorem dX1_leave_134 : decode cX1_leave 134 = .ok (.getfield 99, 3) := dk_180 0 99 (dk_at dksX1_leave_5 18 rfl rfl)
theorem dX1_leave_137 : decode cX1_leave 137 = .ok (.iload 4, 2) := dk_21 4 (dk_at dksX1_leave_5 21 rfl rfl)
theorem dX1_leave_139 : decode cX1_leave 139 = .ok (.invokeinterface 31 2, 5) := by decide +kernel
theorem dX1_leave_144 : decode cX1_leave 144 = .ok (.checkcast 381, 3) := dk_192 1 125 (dk_at dksX1_leave_6 5 rfl rfl)
theorem dX1_leave_147 : decode cX1_leave 147 = .ok (.getfield 386, 3) := dk_180 1 130 (dk_at dksX1_leave_6 8 rfl rfl)
theorem dX1_leave_150 : decode cX1_leave 150 = .ok (.aload_n 2, 1) := dk_44 (dk_at dksX1_leave_6 11 rfl rfl)
theorem dX1_leave_151 : decode cX1_leave 151 = .ok (.if_acmp .eq 7, 3) := dk_165 0 7 (dk_at dksX1_leave_6 12 rfl rfl)
theorem dX1_leave_154 : decode cX1_leave 154 = .ok (.iconst 1, 1) := dk_4 (dk_at dksX1_leave_6 15 rfl rfl)
theorem dX1_leave_155 : decode cX1_leave 155 = .ok (.goto 4, 3) := dk_167 0 4 (dk_at dksX1_leave_6 16 rfl rfl)
theorem dX1_leave_158 : decode cX1_leave 158 = .ok (.iconst 0, 1) := dk_3 (dk_at dksX1_leave_6 19 rfl rfl)
theorem dX1_leave_159 : decode cX1_leave 159 = .ok (.iand, 1) := dk_126 (dk_at dksX1_leave_6 20 rfl rfl)
theorem dX1_leave_160 : decode cX1_leave 160 = .ok (.putfield 383, 3) := dk_181 1 127 (dk_at dksX1_leave_6 21 rfl rfl)
theorem dX1_leave_163 : decode cX1_leave 163 = .ok (.iinc 4 1, 3) := dk_132 4 1 (dk_at dksX1_leave_7 0 rfl rfl)
theorem dX1_leave_166 : decode cX1_leave 166 = .ok (.goto (-65), 3) := dk_167 255 191 (dk_at dksX1_leave_7 3 rfl rfl)
theorem dX1_leave_169 : decode cX1_leave 169 = .ok (.iload_n 3, 1) := dk_29 (dk_at dksX1_leave_7 6 rfl rfl)
theorem dX1_leave_170 : decode cX1_leave 170 = .ok (.ireturn, 1) := dk_172 (dk_at dksX1_leave_7 7 rfl rfl)
abbrev cX1_audit : ByteArray := prog_1_method_68_code
def yX1_audit : MethodName := ⟨RX1, "audit", "(I)I"⟩
def dkwX1_audit_1 : List UInt8 := [96, 172]
abbrev dktX1_audit_1 : List UInt8 := dkwX1_audit_1 ++ []
def dkwX1_audit_0 : List UInt8 := [42, 180, 0, 50, 27, 184, 0, 214, 192, 0, 42, 77, 17, 3, 232, 44, 180, 0, 253, 104, 44, 180, 1, 0]
abbrev dktX1_audit_0 : List UInt8 := dkwX1_audit_0 ++ dktX1_audit_1
theorem dksX1_audit_0 : cX1_audit.data.toList.drop 0 = dktX1_audit_0 := by decide +kernel
theorem dksX1_audit_1 : cX1_audit.data.toList.drop 24 = dktX1_audit_1 := dk_seg dksX1_audit_0 24 rfl rfl
theorem dX1_audit_0 : decode cX1_audit 0 = .ok (.aload_n 0, 1) := dk_42 (dk_at dksX1_audit_0 0 rfl rfl)
theorem dX1_audit_1 : decode cX1_audit 1 = .ok (.getfield 50, 3) := dk_180 0 50 (dk_at dksX1_audit_0 1 rfl rfl)
theorem dX1_audit_4 : decode cX1_audit 4 = .ok (.iload_n 1, 1) := dk_27 (dk_at dksX1_audit_0 4 rfl rfl)
theorem dX1_audit_5 : decode cX1_audit 5 = .ok (.invokestatic 214, 3) := dk_184 0 214 (dk_at dksX1_audit_0 5 rfl rfl)
theorem dX1_audit_8 : decode cX1_audit 8 = .ok (.checkcast 42, 3) := dk_192 0 42 (dk_at dksX1_audit_0 8 rfl rfl)
theorem dX1_audit_11 : decode cX1_audit 11 = .ok (.astore_n 2, 1) := dk_77 (dk_at dksX1_audit_0 11 rfl rfl)
theorem dX1_audit_12 : decode cX1_audit 12 = .ok (.sipush 1000, 3) := dk_17 3 232 (dk_at dksX1_audit_0 12 rfl rfl)
theorem dX1_audit_15 : decode cX1_audit 15 = .ok (.aload_n 2, 1) := dk_44 (dk_at dksX1_audit_0 15 rfl rfl)
theorem dX1_audit_16 : decode cX1_audit 16 = .ok (.getfield 253, 3) := dk_180 0 253 (dk_at dksX1_audit_0 16 rfl rfl)
theorem dX1_audit_19 : decode cX1_audit 19 = .ok (.imul, 1) := dk_104 (dk_at dksX1_audit_0 19 rfl rfl)
theorem dX1_audit_20 : decode cX1_audit 20 = .ok (.aload_n 2, 1) := dk_44 (dk_at dksX1_audit_0 20 rfl rfl)
theorem dX1_audit_21 : decode cX1_audit 21 = .ok (.getfield 256, 3) := dk_180 1 0 (dk_at dksX1_audit_0 21 rfl rfl)
theorem dX1_audit_24 : decode cX1_audit 24 = .ok (.iadd, 1) := dk_96 (dk_at dksX1_audit_1 0 rfl rfl)
theorem dX1_audit_25 : decode cX1_audit 25 = .ok (.ireturn, 1) := dk_172 (dk_at dksX1_audit_1 1 rfl rfl)
abbrev cX1_sumAnew : ByteArray := prog_1_method_70_code
def yX1_sumAnew : MethodName := ⟨RX1, "sumAnew", "(I)I"⟩
def dkwX1_sumAnew_2 : List UInt8 := [167, 255, 230, 28, 172]
abbrev dktX1_sumAnew_2 : List UInt8 := dkwX1_sumAnew_2 ++ []
def dkwX1_sumAnew_1 : List UInt8 := [162, 0, 27, 42, 180, 0, 50, 29, 185, 0, 31, 2, 0, 192, 0, 42, 28, 182, 0, 56, 61, 132, 3, 1]
abbrev dktX1_sumAnew_1 : List UInt8 := dkwX1_sumAnew_1 ++ dktX1_sumAnew_2
def dkwX1_sumAnew_0 : List UInt8 := [27, 42, 180, 0, 50, 185, 0, 9, 1, 0, 4, 96, 184, 0, 158, 16, 7, 61, 3, 62, 29, 27]
abbrev dktX1_sumAnew_0 : List UInt8 := dkwX1_sumAnew_0 ++ dktX1_sumAnew_1
theorem dksX1_sumAnew_0 : cX1_sumAnew.data.toList.drop 0 = dktX1_sumAnew_0 := by decide +kernel
theorem dksX1_sumAnew_1 : cX1_sumAnew.data.toList.drop 22 = dktX1_sumAnew_1 := dk_seg dksX1_sumAnew_0 22 rfl rfl
theorem dksX1_sumAnew_2 : cX1_sumAnew.data.toList.drop 46 = dktX1_sumAnew_2 := dk_seg dksX1_sumAnew_1 24 rfl rfl
theorem dX1_sumAnew_0 : decode cX1_sumAnew 0 = .ok (.iload_n 1, 1) := dk_27 (dk_at dksX1_sumAnew_0 0 rfl rfl)
theorem dX1_sumAnew_1 : decode cX1_sumAnew 1 = .ok (.aload_n 0, 1) := dk_42 (dk_at dksX1_sumAnew_0 1 rfl rfl)
theorem dX1_sumAnew_2 : decode cX1_sumAnew 2 = .ok (.getfield 50, 3) := dk_180 0 50 (dk_at dksX1_sumAnew_0 2 rfl rfl)
theorem dX1_sumAnew_5 : decode cX1_sumAnew 5 = .ok (.invokeinterface 9 1, 5) := by decide +kernel
theorem dX1_sumAnew_10 : decode cX1_sumAnew 10 = .ok (.iconst 1, 1) := dk_4 (dk_at dksX1_sumAnew_0 10 rfl rfl)
theorem dX1_sumAnew_11 : decode cX1_sumAnew 11 = .ok (.iadd, 1) := dk_96 (dk_at dksX1_sumAnew_0 11 rfl rfl)
theorem dX1_sumAnew_12 : decode cX1_sumAnew 12 = .ok (.invokestatic 158, 3) := dk_184 0 158 (dk_at dksX1_sumAnew_0 12 rfl rfl)
theorem dX1_sumAnew_15 : decode cX1_sumAnew 15 = .ok (.bipush 7, 2) := dk_16 7 (dk_at dksX1_sumAnew_0 15 rfl rfl)
theorem dX1_sumAnew_17 : decode cX1_sumAnew 17 = .ok (.istore_n 2, 1) := dk_61 (dk_at dksX1_sumAnew_0 17 rfl rfl)
theorem dX1_sumAnew_18 : decode cX1_sumAnew 18 = .ok (.iconst 0, 1) := dk_3 (dk_at dksX1_sumAnew_0 18 rfl rfl)
theorem dX1_sumAnew_19 : decode cX1_sumAnew 19 = .ok (.istore_n 3, 1) := dk_62 (dk_at dksX1_sumAnew_0 19 rfl rfl)
theorem dX1_sumAnew_20 : decode cX1_sumAnew 20 = .ok (.iload_n 3, 1) := dk_29 (dk_at dksX1_sumAnew_0 20 rfl rfl)
theorem dX1_sumAnew_21 : decode cX1_sumAnew 21 = .ok (.iload_n 1, 1) := dk_27 (dk_at dksX1_sumAnew_0 21 rfl rfl)
theorem dX1_sumAnew_22 : decode cX1_sumAnew 22 = .ok (.if_icmp .ge 27, 3) := dk_162 0 27 (dk_at dksX1_sumAnew_1 0 rfl rfl)
theorem dX1_sumAnew_25 : decode cX1_sumAnew 25 = .ok (.aload_n 0, 1) := dk_42 (dk_at dksX1_sumAnew_1 3 rfl rfl)
theorem dX1_sumAnew_26 : decode cX1_sumAnew 26 = .ok (.getfield 50, 3) := dk_180 0 50 (dk_at dksX1_sumAnew_1 4 rfl rfl)
theorem dX1_sumAnew_29 : decode cX1_sumAnew 29 = .ok (.iload_n 3, 1) := dk_29 (dk_at dksX1_sumAnew_1 7 rfl rfl)
theorem dX1_sumAnew_30 : decode cX1_sumAnew 30 = .ok (.invokeinterface 31 2, 5) := by decide +kernel
theorem dX1_sumAnew_35 : decode cX1_sumAnew 35 = .ok (.checkcast 42, 3) := dk_192 0 42 (dk_at dksX1_sumAnew_1 13 rfl rfl)
theorem dX1_sumAnew_38 : decode cX1_sumAnew 38 = .ok (.iload_n 2, 1) := dk_28 (dk_at dksX1_sumAnew_1 16 rfl rfl)
theorem dX1_sumAnew_39 : decode cX1_sumAnew 39 = .ok (.invokevirtual 56, 3) := dk_182 0 56 (dk_at dksX1_sumAnew_1 17 rfl rfl)
theorem dX1_sumAnew_42 : decode cX1_sumAnew 42 = .ok (.istore_n 2, 1) := dk_61 (dk_at dksX1_sumAnew_1 20 rfl rfl)
theorem dX1_sumAnew_43 : decode cX1_sumAnew 43 = .ok (.iinc 3 1, 3) := dk_132 3 1 (dk_at dksX1_sumAnew_1 21 rfl rfl)
theorem dX1_sumAnew_46 : decode cX1_sumAnew 46 = .ok (.goto (-26), 3) := dk_167 255 230 (dk_at dksX1_sumAnew_2 0 rfl rfl)
theorem dX1_sumAnew_49 : decode cX1_sumAnew 49 = .ok (.iload_n 2, 1) := dk_28 (dk_at dksX1_sumAnew_2 3 rfl rfl)
theorem dX1_sumAnew_50 : decode cX1_sumAnew 50 = .ok (.ireturn, 1) := dk_172 (dk_at dksX1_sumAnew_2 4 rfl rfl)
theorem q71 : (Jvm.Cond.initialized "KeyringCourt") ∈ lw_all := lw_g (lw_at lw_m1 1 rfl) rfl
theorem q123 : (Jvm.Cond.instantiable "KeyringCourt" (23 : Nat)) ∈ lw_all := lw_g (lw_at lw_m1 53 rfl) rfl
theorem q125 : (Jvm.Cond.instanceMethod ({ cls := "KeyringCourt", name := "<init>", desc := "()V" } : Jvm.MethodName)) ∈ lw_all := lw_g (lw_at lw_m1 55 rfl) rfl
theorem q126 : (Jvm.Cond.code ({ cls := "KeyringCourt", name := "<init>", desc := "()V" } : Jvm.MethodName) prog_1_method_5_code (2 : Nat) (Option.none : Option Jvm.ClassFile.FieldType)) ∈ lw_all := lw_g (lw_at lw_m1 56 rfl) rfl
theorem q127 : (Jvm.Cond.methodLink "KeyringCourt" (60 : Nat) ({ cls := "java/lang/Object", name := "<init>", desc := "()V" } : Jvm.MethodName)) ∈ lw_all := lw_g (lw_at lw_m1 57 rfl) rfl
theorem q130 : (Jvm.Cond.classLink "KeyringCourt" (65 : Nat) "KeyringCourt$Person") ∈ lw_all := lw_g (lw_at lw_m1 60 rfl) rfl
theorem q132 : (Jvm.Cond.classLink "KeyringCourt" (71 : Nat) "KeyringCourt$Flow") ∈ lw_all := lw_g (lw_at lw_m1 62 rfl) rfl
theorem q134 : (Jvm.Cond.methodLinkNest "KeyringCourt" (73 : Nat) ({ cls := "KeyringCourt$Flow", name := "<init>", desc := "()V" } : Jvm.MethodName) "KeyringCourt") ∈ lw_tbl := lw_at lw_m1 64 rfl
theorem q490 : (Jvm.Cond.fieldLink "KeyringCourt" (203 : Nat) "KeyringCourt$Flow" "steps" "Ljava/util/List;") ∈ lw_all := lw_g (lw_at lw_m2 180 rfl) rfl
theorem q494 : (Jvm.Cond.classLink "KeyringCourt" (78 : Nat) "java/util/ArrayList") ∈ lw_all := lw_g (lw_at lw_m2 184 rfl) rfl
theorem q495 : (Jvm.Cond.methodLink "KeyringCourt" (80 : Nat) ({ cls := "java/util/ArrayList", name := "<init>", desc := "(I)V" } : Jvm.MethodName)) ∈ lw_all := lw_g (lw_at lw_m2 185 rfl) rfl
theorem q496 : (Jvm.Cond.methodLink "KeyringCourt" (86 : Nat) ({ cls := "java/util/ArrayList", name := "<init>", desc := "()V" } : Jvm.MethodName)) ∈ lw_all := lw_g (lw_at lw_m2 186 rfl) rfl
theorem q501 : (Jvm.Cond.classLink "KeyringCourt" (102 : Nat) "KeyringCourt$Service") ∈ lw_all := lw_g (lw_at lw_m2 191 rfl) rfl
theorem q503 : (Jvm.Cond.classLink "KeyringCourt" (121 : Nat) "java/util/BitSet") ∈ lw_all := lw_g (lw_at lw_m2 193 rfl) rfl
theorem q505 : (Jvm.Cond.methodLink "KeyringCourt" (123 : Nat) ({ cls := "java/util/BitSet", name := "<init>", desc := "()V" } : Jvm.MethodName)) ∈ lw_all := lw_g (lw_at lw_m2 195 rfl) rfl
theorem q529 : (Jvm.Cond.methodLink "KeyringCourt" (137 : Nat) ({ cls := "KeyringCourt$Person", name := "<init>", desc := "(LKeyringCourt;I)V" } : Jvm.MethodName)) ∈ lw_all := lw_g (lw_at lw_m2 219 rfl) rfl
theorem q559 : (Jvm.Cond.fieldLink "KeyringCourt" (414 : Nat) "KeyringCourt$Person" "number" "I") ∈ lw_all := lw_g (lw_at lw_m3 9 rfl) rfl
theorem q563 : (Jvm.Cond.fieldLink "KeyringCourt" (197 : Nat) "KeyringCourt$Person" "states" "[I") ∈ lw_all := lw_g (lw_at lw_m3 13 rfl) rfl
theorem q566 : (Jvm.Cond.fieldLink "KeyringCourt" (224 : Nat) "KeyringCourt$Person" "isAway" "Z") ∈ lw_all := lw_g (lw_at lw_m3 16 rfl) rfl
theorem q567 : (Jvm.Cond.fieldLink "KeyringCourt" (274 : Nat) "KeyringCourt$Person" "isHelper" "Z") ∈ lw_all := lw_g (lw_at lw_m3 17 rfl) rfl
theorem q573 : (Jvm.Cond.fieldLink "KeyringCourt" (290 : Nat) "KeyringCourt$Person" "consents" "[I") ∈ lw_all := lw_g (lw_at lw_m3 23 rfl) rfl
theorem q599 : (Jvm.Cond.methodLink "KeyringCourt" (140 : Nat) ({ cls := "java/util/BitSet", name := "set", desc := "(I)V" } : Jvm.MethodName)) ∈ lw_all := lw_g (lw_at lw_m3 49 rfl) rfl
theorem q648 : (Jvm.Cond.methodLink "KeyringCourt" (143 : Nat) ({ cls := "KeyringCourt$Service", name := "<init>", desc := "(LKeyringCourt;)V" } : Jvm.MethodName)) ∈ lw_all := lw_g (lw_at lw_m3 98 rfl) rfl
theorem q662 : (Jvm.Cond.fieldLink "KeyringCourt" (302 : Nat) "KeyringCourt$Service" "need" "I") ∈ lw_all := lw_g (lw_at lw_m3 112 rfl) rfl
theorem q679 : (Jvm.Cond.fieldLink "KeyringCourt" (67 : Nat) "KeyringCourt" "people" "[LKeyringCourt$Person;") ∈ lw_all := lw_g (lw_at lw_m3 129 rfl) rfl
theorem q680 : (Jvm.Cond.fieldLink "KeyringCourt" (74 : Nat) "KeyringCourt" "draft" "LKeyringCourt$Flow;") ∈ lw_all := lw_g (lw_at lw_m3 130 rfl) rfl
theorem q681 : (Jvm.Cond.fieldLink "KeyringCourt" (83 : Nat) "KeyringCourt" "versions" "Ljava/util/List;") ∈ lw_all := lw_g (lw_at lw_m3 131 rfl) rfl
theorem q682 : (Jvm.Cond.fieldLink "KeyringCourt" (87 : Nat) "KeyringCourt" "attempts" "Ljava/util/List;") ∈ lw_all := lw_g (lw_at lw_m3 132 rfl) rfl
theorem q683 : (Jvm.Cond.fieldLink "KeyringCourt" (5 : Nat) "KeyringCourt" "sessions" "Ljava/util/List;") ∈ lw_all := lw_g (lw_at lw_m3 133 rfl) rfl
theorem q686 : (Jvm.Cond.fieldLink "KeyringCourt" (90 : Nat) "KeyringCourt" "codes" "Ljava/util/List;") ∈ lw_all := lw_g (lw_at lw_m3 136 rfl) rfl
theorem q687 : (Jvm.Cond.fieldLink "KeyringCourt" (93 : Nat) "KeyringCourt" "families" "Ljava/util/List;") ∈ lw_all := lw_g (lw_at lw_m3 137 rfl) rfl
theorem q690 : (Jvm.Cond.fieldLink "KeyringCourt" (96 : Nat) "KeyringCourt" "tokens" "Ljava/util/List;") ∈ lw_all := lw_g (lw_at lw_m3 140 rfl) rfl
theorem q691 : (Jvm.Cond.fieldLink "KeyringCourt" (99 : Nat) "KeyringCourt" "recoveries" "Ljava/util/List;") ∈ lw_all := lw_g (lw_at lw_m3 141 rfl) rfl
theorem q693 : (Jvm.Cond.fieldLink "KeyringCourt" (104 : Nat) "KeyringCourt" "services" "[LKeyringCourt$Service;") ∈ lw_all := lw_g (lw_at lw_m3 143 rfl) rfl
theorem q694 : (Jvm.Cond.fieldLink "KeyringCourt" (108 : Nat) "KeyringCourt" "forAll" "[I") ∈ lw_all := lw_g (lw_at lw_m3 144 rfl) rfl
theorem q695 : (Jvm.Cond.fieldLink "KeyringCourt" (112 : Nat) "KeyringCourt" "accounts" "[LKeyringCourt$Person;") ∈ lw_all := lw_g (lw_at lw_m3 145 rfl) rfl
theorem q696 : (Jvm.Cond.fieldLink "KeyringCourt" (115 : Nat) "KeyringCourt" "points" "[I") ∈ lw_all := lw_g (lw_at lw_m3 146 rfl) rfl
theorem q697 : (Jvm.Cond.fieldLink "KeyringCourt" (118 : Nat) "KeyringCourt" "trials" "[I") ∈ lw_all := lw_g (lw_at lw_m3 147 rfl) rfl
theorem q698 : (Jvm.Cond.fieldLink "KeyringCourt" (50 : Nat) "KeyringCourt" "audit" "Ljava/util/List;") ∈ lw_all := lw_g (lw_at lw_m3 148 rfl) rfl
theorem q699 : (Jvm.Cond.fieldLink "KeyringCourt" (53 : Nat) "KeyringCourt" "sum" "I") ∈ lw_all := lw_g (lw_at lw_m3 149 rfl) rfl
theorem q703 : (Jvm.Cond.fieldLink "KeyringCourt" (44 : Nat) "KeyringCourt" "now" "I") ∈ lw_all := lw_g (lw_at lw_m3 153 rfl) rfl
theorem q708 : (Jvm.Cond.fieldLink "KeyringCourt" (124 : Nat) "KeyringCourt" "published" "Ljava/util/BitSet;") ∈ lw_all := lw_g (lw_at lw_m3 158 rfl) rfl
theorem q709 : (Jvm.Cond.fieldLink "KeyringCourt" (128 : Nat) "KeyringCourt" "retires" "[I") ∈ lw_all := lw_g (lw_at lw_m3 159 rfl) rfl
theorem q710 : (Jvm.Cond.fieldLink "KeyringCourt" (131 : Nat) "KeyringCourt" "keys" "I") ∈ lw_all := lw_g (lw_at lw_m3 160 rfl) rfl
theorem q712 : (Jvm.Cond.fieldLink "KeyringCourt" (161 : Nat) "KeyringCourt" "signing" "I") ∈ lw_all := lw_g (lw_at lw_m3 162 rfl) rfl
theorem q713 : (Jvm.Cond.fieldLink "KeyringCourt" (134 : Nat) "KeyringCourt" "waiting" "I") ∈ lw_all := lw_g (lw_at lw_m3 163 rfl) rfl
theorem q714 : (Jvm.Cond.fieldLink "KeyringCourt" (164 : Nat) "KeyringCourt" "signsAt" "I") ∈ lw_all := lw_g (lw_at lw_m3 164 rfl) rfl
theorem q715 : (Jvm.Cond.laysFinal "KeyringCourt" "KeyringCourt" "people" "[LKeyringCourt$Person;") ∈ lw_all := lw_g (lw_at lw_m3 165 rfl) rfl
theorem q716 : (Jvm.Cond.soleField "KeyringCourt" "people") ∈ lw_all := lw_g (lw_at lw_m3 166 rfl) rfl
theorem q717 : (Jvm.Cond.lays "KeyringCourt" "KeyringCourt" "draft" "LKeyringCourt$Flow;") ∈ lw_all := lw_g (lw_at lw_m3 167 rfl) rfl
theorem q718 : (Jvm.Cond.soleField "KeyringCourt" "draft") ∈ lw_all := lw_g (lw_at lw_m3 168 rfl) rfl
theorem q719 : (Jvm.Cond.laysFinal "KeyringCourt" "KeyringCourt" "versions" "Ljava/util/List;") ∈ lw_all := lw_g (lw_at lw_m3 169 rfl) rfl
theorem q720 : (Jvm.Cond.soleField "KeyringCourt" "versions") ∈ lw_all := lw_g (lw_at lw_m3 170 rfl) rfl
theorem q721 : (Jvm.Cond.laysFinal "KeyringCourt" "KeyringCourt" "attempts" "Ljava/util/List;") ∈ lw_all := lw_g (lw_at lw_m3 171 rfl) rfl
theorem q722 : (Jvm.Cond.soleField "KeyringCourt" "attempts") ∈ lw_all := lw_g (lw_at lw_m3 172 rfl) rfl
theorem q723 : (Jvm.Cond.laysFinal "KeyringCourt" "KeyringCourt" "sessions" "Ljava/util/List;") ∈ lw_all := lw_g (lw_at lw_m3 173 rfl) rfl
theorem q724 : (Jvm.Cond.soleField "KeyringCourt" "sessions") ∈ lw_all := lw_g (lw_at lw_m3 174 rfl) rfl
theorem q725 : (Jvm.Cond.laysFinal "KeyringCourt" "KeyringCourt" "codes" "Ljava/util/List;") ∈ lw_all := lw_g (lw_at lw_m3 175 rfl) rfl
theorem q726 : (Jvm.Cond.soleField "KeyringCourt" "codes") ∈ lw_all := lw_g (lw_at lw_m3 176 rfl) rfl
theorem q727 : (Jvm.Cond.laysFinal "KeyringCourt" "KeyringCourt" "families" "Ljava/util/List;") ∈ lw_all := lw_g (lw_at lw_m3 177 rfl) rfl
theorem q728 : (Jvm.Cond.soleField "KeyringCourt" "families") ∈ lw_all := lw_g (lw_at lw_m3 178 rfl) rfl
theorem q729 : (Jvm.Cond.laysFinal "KeyringCourt" "KeyringCourt" "tokens" "Ljava/util/List;") ∈ lw_all := lw_g (lw_at lw_m3 179 rfl) rfl
theorem q730 : (Jvm.Cond.soleField "KeyringCourt" "tokens") ∈ lw_all := lw_g (lw_at lw_m3 180 rfl) rfl
theorem q731 : (Jvm.Cond.laysFinal "KeyringCourt" "KeyringCourt" "recoveries" "Ljava/util/List;") ∈ lw_all := lw_g (lw_at lw_m3 181 rfl) rfl
theorem q732 : (Jvm.Cond.soleField "KeyringCourt" "recoveries") ∈ lw_all := lw_g (lw_at lw_m3 182 rfl) rfl
theorem q733 : (Jvm.Cond.laysFinal "KeyringCourt" "KeyringCourt" "services" "[LKeyringCourt$Service;") ∈ lw_all := lw_g (lw_at lw_m3 183 rfl) rfl
theorem q734 : (Jvm.Cond.soleField "KeyringCourt" "services") ∈ lw_all := lw_g (lw_at lw_m3 184 rfl) rfl
theorem q735 : (Jvm.Cond.laysFinal "KeyringCourt" "KeyringCourt" "forAll" "[I") ∈ lw_all := lw_g (lw_at lw_m3 185 rfl) rfl
theorem q736 : (Jvm.Cond.soleField "KeyringCourt" "forAll") ∈ lw_all := lw_g (lw_at lw_m3 186 rfl) rfl
theorem q737 : (Jvm.Cond.laysFinal "KeyringCourt" "KeyringCourt" "accounts" "[LKeyringCourt$Person;") ∈ lw_all := lw_g (lw_at lw_m3 187 rfl) rfl
theorem q738 : (Jvm.Cond.soleField "KeyringCourt" "accounts") ∈ lw_all := lw_g (lw_at lw_m3 188 rfl) rfl
theorem q739 : (Jvm.Cond.laysFinal "KeyringCourt" "KeyringCourt" "points" "[I") ∈ lw_all := lw_g (lw_at lw_m3 189 rfl) rfl
theorem q740 : (Jvm.Cond.soleField "KeyringCourt" "points") ∈ lw_all := lw_g (lw_at lw_m3 190 rfl) rfl
theorem q741 : (Jvm.Cond.laysFinal "KeyringCourt" "KeyringCourt" "trials" "[I") ∈ lw_all := lw_g (lw_at lw_m3 191 rfl) rfl
theorem q742 : (Jvm.Cond.soleField "KeyringCourt" "trials") ∈ lw_all := lw_g (lw_at lw_m3 192 rfl) rfl
theorem q743 : (Jvm.Cond.laysFinal "KeyringCourt" "KeyringCourt" "audit" "Ljava/util/List;") ∈ lw_all := lw_g (lw_at lw_m3 193 rfl) rfl
theorem q744 : (Jvm.Cond.soleField "KeyringCourt" "audit") ∈ lw_all := lw_g (lw_at lw_m3 194 rfl) rfl
theorem q745 : (Jvm.Cond.lays "KeyringCourt" "KeyringCourt" "sum" "I") ∈ lw_all := lw_g (lw_at lw_m3 195 rfl) rfl
theorem q746 : (Jvm.Cond.soleField "KeyringCourt" "sum") ∈ lw_all := lw_g (lw_at lw_m3 196 rfl) rfl
theorem q747 : (Jvm.Cond.lays "KeyringCourt" "KeyringCourt" "now" "I") ∈ lw_all := lw_g (lw_at lw_m3 197 rfl) rfl
theorem q748 : (Jvm.Cond.soleField "KeyringCourt" "now") ∈ lw_all := lw_g (lw_at lw_m3 198 rfl) rfl
theorem q749 : (Jvm.Cond.laysFinal "KeyringCourt" "KeyringCourt" "published" "Ljava/util/BitSet;") ∈ lw_all := lw_g (lw_at lw_m3 199 rfl) rfl
theorem q750 : (Jvm.Cond.soleField "KeyringCourt" "published") ∈ lw_all := lw_g (lw_at lw_m3 200 rfl) rfl
theorem q751 : (Jvm.Cond.laysFinal "KeyringCourt" "KeyringCourt" "retires" "[I") ∈ lw_all := lw_g (lw_at lw_m3 201 rfl) rfl
theorem q752 : (Jvm.Cond.soleField "KeyringCourt" "retires") ∈ lw_all := lw_g (lw_at lw_m3 202 rfl) rfl
theorem q753 : (Jvm.Cond.lays "KeyringCourt" "KeyringCourt" "keys" "I") ∈ lw_all := lw_g (lw_at lw_m3 203 rfl) rfl
theorem q754 : (Jvm.Cond.soleField "KeyringCourt" "keys") ∈ lw_all := lw_g (lw_at lw_m3 204 rfl) rfl
theorem q755 : (Jvm.Cond.lays "KeyringCourt" "KeyringCourt" "signing" "I") ∈ lw_all := lw_g (lw_at lw_m3 205 rfl) rfl
theorem q756 : (Jvm.Cond.soleField "KeyringCourt" "signing") ∈ lw_all := lw_g (lw_at lw_m3 206 rfl) rfl
theorem q757 : (Jvm.Cond.lays "KeyringCourt" "KeyringCourt" "waiting" "I") ∈ lw_all := lw_g (lw_at lw_m3 207 rfl) rfl
theorem q758 : (Jvm.Cond.soleField "KeyringCourt" "waiting") ∈ lw_all := lw_g (lw_at lw_m3 208 rfl) rfl
theorem q759 : (Jvm.Cond.lays "KeyringCourt" "KeyringCourt" "signsAt" "I") ∈ lw_all := lw_g (lw_at lw_m3 209 rfl) rfl
theorem q760 : (Jvm.Cond.soleField "KeyringCourt" "signsAt") ∈ lw_all := lw_g (lw_at lw_m3 210 rfl) rfl
theorem q761 : (Jvm.Cond.superclass "KeyringCourt" "java/lang/Object") ∈ lw_all := lw_g (lw_at lw_m3 211 rfl) rfl
theorem q763 : (Jvm.Cond.instanceMethod ({ cls := "KeyringCourt", name := "clear", desc := "()I" } : Jvm.MethodName)) ∈ lw_all := lw_g (lw_at lw_m3 213 rfl) rfl
theorem q764 : (Jvm.Cond.selects "KeyringCourt" ({ cls := "KeyringCourt", name := "clear", desc := "()I" } : Jvm.MethodName) ({ cls := "KeyringCourt", name := "clear", desc := "()I" } : Jvm.MethodName)) ∈ lw_all := lw_g (lw_at lw_m3 214 rfl) rfl
theorem q765 : (Jvm.Cond.code ({ cls := "KeyringCourt", name := "clear", desc := "()I" } : Jvm.MethodName) prog_1_method_22_code (2 : Nat) (Option.some Jvm.ClassFile.FieldType.int)) ∈ lw_all := lw_g (lw_at lw_m3 215 rfl) rfl
theorem q766 : (Jvm.Cond.interfaceEntry "KeyringCourt" (9 : Nat)) ∈ lw_tbl := lw_at lw_m3 216 rfl
theorem q767 : (Jvm.Cond.methodLink "KeyringCourt" (9 : Nat) ({ cls := "java/util/List", name := "size", desc := "()I" } : Jvm.MethodName)) ∈ lw_all := lw_g (lw_at lw_m3 217 rfl) rfl
theorem q783 : (Jvm.Cond.instanceMethod ({ cls := "KeyringCourt", name := "sessions", desc := "()I" } : Jvm.MethodName)) ∈ lw_all := lw_g (lw_at lw_m3 233 rfl) rfl
theorem q784 : (Jvm.Cond.selects "KeyringCourt" ({ cls := "KeyringCourt", name := "sessions", desc := "()I" } : Jvm.MethodName) ({ cls := "KeyringCourt", name := "sessions", desc := "()I" } : Jvm.MethodName)) ∈ lw_all := lw_g (lw_at lw_m3 234 rfl) rfl
theorem q785 : (Jvm.Cond.code ({ cls := "KeyringCourt", name := "sessions", desc := "()I" } : Jvm.MethodName) prog_1_method_33_code (1 : Nat) (Option.some Jvm.ClassFile.FieldType.int)) ∈ lw_all := lw_g (lw_at lw_m3 235 rfl) rfl
theorem q787 : (Jvm.Cond.instanceMethod ({ cls := "KeyringCourt", name := "signing", desc := "()I" } : Jvm.MethodName)) ∈ lw_all := lw_g (lw_at lw_m3 237 rfl) rfl
theorem q788 : (Jvm.Cond.selects "KeyringCourt" ({ cls := "KeyringCourt", name := "signing", desc := "()I" } : Jvm.MethodName) ({ cls := "KeyringCourt", name := "signing", desc := "()I" } : Jvm.MethodName)) ∈ lw_all := lw_g (lw_at lw_m3 238 rfl) rfl
theorem q789 : (Jvm.Cond.code ({ cls := "KeyringCourt", name := "signing", desc := "()I" } : Jvm.MethodName) prog_1_method_54_code (1 : Nat) (Option.some Jvm.ClassFile.FieldType.int)) ∈ lw_all := lw_g (lw_at lw_m3 239 rfl) rfl
theorem q791 : (Jvm.Cond.instanceMethod ({ cls := "KeyringCourt", name := "audits", desc := "()I" } : Jvm.MethodName)) ∈ lw_all := lw_g (lw_at lw_m4 1 rfl) rfl
theorem q792 : (Jvm.Cond.selects "KeyringCourt" ({ cls := "KeyringCourt", name := "audits", desc := "()I" } : Jvm.MethodName) ({ cls := "KeyringCourt", name := "audits", desc := "()I" } : Jvm.MethodName)) ∈ lw_all := lw_g (lw_at lw_m4 2 rfl) rfl
theorem q793 : (Jvm.Cond.code ({ cls := "KeyringCourt", name := "audits", desc := "()I" } : Jvm.MethodName) prog_1_method_67_code (1 : Nat) (Option.some Jvm.ClassFile.FieldType.int)) ∈ lw_all := lw_g (lw_at lw_m4 3 rfl) rfl
theorem q795 : (Jvm.Cond.instanceMethod ({ cls := "KeyringCourt", name := "sum", desc := "()I" } : Jvm.MethodName)) ∈ lw_all := lw_g (lw_at lw_m4 5 rfl) rfl
theorem q796 : (Jvm.Cond.selects "KeyringCourt" ({ cls := "KeyringCourt", name := "sum", desc := "()I" } : Jvm.MethodName) ({ cls := "KeyringCourt", name := "sum", desc := "()I" } : Jvm.MethodName)) ∈ lw_all := lw_g (lw_at lw_m4 6 rfl) rfl
theorem q797 : (Jvm.Cond.code ({ cls := "KeyringCourt", name := "sum", desc := "()I" } : Jvm.MethodName) prog_1_method_69_code (1 : Nat) (Option.some Jvm.ClassFile.FieldType.int)) ∈ lw_all := lw_g (lw_at lw_m4 7 rfl) rfl
theorem q804 : (Jvm.Cond.instanceMethod ({ cls := "KeyringCourt", name := "pass", desc := "(I)I" } : Jvm.MethodName)) ∈ lw_all := lw_g (lw_at lw_m4 14 rfl) rfl
theorem q805 : (Jvm.Cond.selects "KeyringCourt" ({ cls := "KeyringCourt", name := "pass", desc := "(I)I" } : Jvm.MethodName) ({ cls := "KeyringCourt", name := "pass", desc := "(I)I" } : Jvm.MethodName)) ∈ lw_all := lw_g (lw_at lw_m4 15 rfl) rfl
theorem q806 : (Jvm.Cond.code ({ cls := "KeyringCourt", name := "pass", desc := "(I)I" } : Jvm.MethodName) prog_1_method_17_code (5 : Nat) (Option.some Jvm.ClassFile.FieldType.int)) ∈ lw_all := lw_g (lw_at lw_m4 16 rfl) rfl
theorem q807 : (Jvm.Cond.methodLink "KeyringCourt" (149 : Nat) ({ cls := "KeyringCourt", name := "fit", desc := "(III)V" } : Jvm.MethodName)) ∈ lw_all := lw_g (lw_at lw_m4 17 rfl) rfl
theorem q808 : (Jvm.Cond.static ({ cls := "KeyringCourt", name := "fit", desc := "(III)V" } : Jvm.MethodName)) ∈ lw_all := lw_g (lw_at lw_m4 18 rfl) rfl
theorem q809 : (Jvm.Cond.code ({ cls := "KeyringCourt", name := "fit", desc := "(III)V" } : Jvm.MethodName) prog_1_method_6_code (3 : Nat) (Option.none : Option Jvm.ClassFile.FieldType)) ∈ lw_all := lw_g (lw_at lw_m4 19 rfl) rfl
theorem q810 : (Jvm.Cond.classLink "KeyringCourt" (146 : Nat) "java/lang/IllegalArgumentException") ∈ lw_all := lw_g (lw_at lw_m4 20 rfl) rfl
theorem q811 : (Jvm.Cond.methodLink "KeyringCourt" (148 : Nat) ({ cls := "java/lang/IllegalArgumentException", name := "<init>", desc := "()V" } : Jvm.MethodName)) ∈ lw_all := lw_g (lw_at lw_m4 21 rfl) rfl
theorem q821 : (Jvm.Cond.methodLink "KeyringCourt" (176 : Nat) ({ cls := "KeyringCourt", name := "can", desc := "(Z)V" } : Jvm.MethodName)) ∈ lw_all := lw_g (lw_at lw_m4 31 rfl) rfl
theorem q822 : (Jvm.Cond.static ({ cls := "KeyringCourt", name := "can", desc := "(Z)V" } : Jvm.MethodName)) ∈ lw_all := lw_g (lw_at lw_m4 32 rfl) rfl
theorem q823 : (Jvm.Cond.code ({ cls := "KeyringCourt", name := "can", desc := "(Z)V" } : Jvm.MethodName) prog_1_method_9_code (1 : Nat) (Option.none : Option Jvm.ClassFile.FieldType)) ∈ lw_all := lw_g (lw_at lw_m4 33 rfl) rfl
theorem q824 : (Jvm.Cond.classLink "KeyringCourt" (155 : Nat) "java/lang/IllegalStateException") ∈ lw_all := lw_g (lw_at lw_m4 34 rfl) rfl
theorem q833 : (Jvm.Cond.methodLink "KeyringCourt" (157 : Nat) ({ cls := "java/lang/IllegalStateException", name := "<init>", desc := "()V" } : Jvm.MethodName)) ∈ lw_all := lw_g (lw_at lw_m4 43 rfl) rfl
theorem q839 : (Jvm.Cond.methodLink "KeyringCourt" (180 : Nat) ({ cls := "KeyringCourt", name := "turnKeys", desc := "()V" } : Jvm.MethodName)) ∈ lw_all := lw_g (lw_at lw_m4 49 rfl) rfl
theorem q840 : (Jvm.Cond.privateMethod ({ cls := "KeyringCourt", name := "turnKeys", desc := "()V" } : Jvm.MethodName)) ∈ lw_tbl := lw_at lw_m4 50 rfl
theorem q841 : (Jvm.Cond.instanceMethod ({ cls := "KeyringCourt", name := "turnKeys", desc := "()V" } : Jvm.MethodName)) ∈ lw_all := lw_g (lw_at lw_m4 51 rfl) rfl
theorem q842 : (Jvm.Cond.code ({ cls := "KeyringCourt", name := "turnKeys", desc := "()V" } : Jvm.MethodName) prog_1_method_16_code (2 : Nat) (Option.none : Option Jvm.ClassFile.FieldType)) ∈ lw_all := lw_g (lw_at lw_m4 52 rfl) rfl
theorem q843 : (Jvm.Cond.methodLink "KeyringCourt" (167 : Nat) ({ cls := "KeyringCourt", name := "sign", desc := "(I)V" } : Jvm.MethodName)) ∈ lw_all := lw_g (lw_at lw_m4 53 rfl) rfl
theorem q844 : (Jvm.Cond.privateMethod ({ cls := "KeyringCourt", name := "sign", desc := "(I)V" } : Jvm.MethodName)) ∈ lw_tbl := lw_at lw_m4 54 rfl
theorem q845 : (Jvm.Cond.instanceMethod ({ cls := "KeyringCourt", name := "sign", desc := "(I)V" } : Jvm.MethodName)) ∈ lw_all := lw_g (lw_at lw_m4 55 rfl) rfl
theorem q846 : (Jvm.Cond.code ({ cls := "KeyringCourt", name := "sign", desc := "(I)V" } : Jvm.MethodName) prog_1_method_15_code (2 : Nat) (Option.none : Option Jvm.ClassFile.FieldType)) ∈ lw_all := lw_g (lw_at lw_m4 56 rfl) rfl
theorem q847 : (Jvm.Cond.methodLink "KeyringCourt" (27 : Nat) ({ cls := "KeyringCourt", name := "write", desc := "(II)V" } : Jvm.MethodName)) ∈ lw_all := lw_g (lw_at lw_m4 57 rfl) rfl
theorem q848 : (Jvm.Cond.privateMethod ({ cls := "KeyringCourt", name := "write", desc := "(II)V" } : Jvm.MethodName)) ∈ lw_tbl := lw_at lw_m4 58 rfl
theorem q849 : (Jvm.Cond.instanceMethod ({ cls := "KeyringCourt", name := "write", desc := "(II)V" } : Jvm.MethodName)) ∈ lw_all := lw_g (lw_at lw_m4 59 rfl) rfl
theorem q850 : (Jvm.Cond.code ({ cls := "KeyringCourt", name := "write", desc := "(II)V" } : Jvm.MethodName) prog_1_method_4_code (4 : Nat) (Option.none : Option Jvm.ClassFile.FieldType)) ∈ lw_all := lw_g (lw_at lw_m4 60 rfl) rfl
theorem q851 : (Jvm.Cond.classLink "KeyringCourt" (42 : Nat) "KeyringCourt$Entry") ∈ lw_all := lw_g (lw_at lw_m4 61 rfl) rfl
theorem q853 : (Jvm.Cond.methodLink "KeyringCourt" (47 : Nat) ({ cls := "KeyringCourt$Entry", name := "<init>", desc := "(III)V" } : Jvm.MethodName)) ∈ lw_all := lw_g (lw_at lw_m4 63 rfl) rfl
theorem q858 : (Jvm.Cond.fieldLink "KeyringCourt" (253 : Nat) "KeyringCourt$Entry" "kind" "I") ∈ lw_all := lw_g (lw_at lw_m4 68 rfl) rfl
theorem q860 : (Jvm.Cond.fieldLink "KeyringCourt" (256 : Nat) "KeyringCourt$Entry" "number" "I") ∈ lw_all := lw_g (lw_at lw_m4 70 rfl) rfl
theorem q869 : (Jvm.Cond.interfaceEntry "KeyringCourt" (19 : Nat)) ∈ lw_tbl := lw_at lw_m4 79 rfl
theorem q870 : (Jvm.Cond.methodLink "KeyringCourt" (19 : Nat) ({ cls := "java/util/List", name := "add", desc := "(Ljava/lang/Object;)Z" } : Jvm.MethodName)) ∈ lw_all := lw_g (lw_at lw_m4 80 rfl) rfl
theorem q897 : (Jvm.Cond.selects "KeyringCourt" ({ cls := "java/lang/Object", name := "getClass", desc := "()Ljava/lang/Class;" } : Jvm.MethodName) ({ cls := "java/lang/Object", name := "getClass", desc := "()Ljava/lang/Class;" } : Jvm.MethodName)) ∈ lw_all := lw_g (lw_at lw_m4 107 rfl) rfl
theorem q966 : (Jvm.Cond.methodLink "KeyringCourt" (56 : Nat) ({ cls := "KeyringCourt$Entry", name := "after", desc := "(I)I" } : Jvm.MethodName)) ∈ lw_all := lw_g (lw_at lw_m4 176 rfl) rfl
theorem q973 : (Jvm.Cond.methodLink "KeyringCourt" (170 : Nat) ({ cls := "java/util/BitSet", name := "get", desc := "(I)Z" } : Jvm.MethodName)) ∈ lw_all := lw_g (lw_at lw_m4 183 rfl) rfl
theorem q977 : (Jvm.Cond.methodLink "KeyringCourt" (173 : Nat) ({ cls := "java/util/BitSet", name := "set", desc := "(IZ)V" } : Jvm.MethodName)) ∈ lw_all := lw_g (lw_at lw_m4 187 rfl) rfl
theorem q991 : (Jvm.Cond.interfaceEntry "KeyringCourt" (31 : Nat)) ∈ lw_tbl := lw_at lw_m4 201 rfl
theorem q992 : (Jvm.Cond.methodLink "KeyringCourt" (31 : Nat) ({ cls := "java/util/List", name := "get", desc := "(I)Ljava/lang/Object;" } : Jvm.MethodName)) ∈ lw_all := lw_g (lw_at lw_m4 202 rfl) rfl
theorem q1040 : (Jvm.Cond.classLink "KeyringCourt" (3 : Nat) "KeyringCourt$Session") ∈ lw_all := lw_g (lw_at lw_m5 10 rfl) rfl
theorem q1041 : (Jvm.Cond.methodLink "KeyringCourt" (183 : Nat) ({ cls := "KeyringCourt$Session", name := "isOut", desc := "()Z" } : Jvm.MethodName)) ∈ lw_all := lw_g (lw_at lw_m5 11 rfl) rfl
theorem q1045 : (Jvm.Cond.methodLink "KeyringCourt" (39 : Nat) ({ cls := "KeyringCourt$Session", name := "end", desc := "()I" } : Jvm.MethodName)) ∈ lw_all := lw_g (lw_at lw_m5 15 rfl) rfl
theorem q1099 : (Jvm.Cond.instanceMethod ({ cls := "KeyringCourt", name := "enroll", desc := "(II)I" } : Jvm.MethodName)) ∈ lw_all := lw_g (lw_at lw_m5 69 rfl) rfl
theorem q1100 : (Jvm.Cond.selects "KeyringCourt" ({ cls := "KeyringCourt", name := "enroll", desc := "(II)I" } : Jvm.MethodName) ({ cls := "KeyringCourt", name := "enroll", desc := "(II)I" } : Jvm.MethodName)) ∈ lw_all := lw_g (lw_at lw_m5 70 rfl) rfl
theorem q1101 : (Jvm.Cond.code ({ cls := "KeyringCourt", name := "enroll", desc := "(II)I" } : Jvm.MethodName) prog_1_method_18_code (4 : Nat) (Option.some Jvm.ClassFile.FieldType.int)) ∈ lw_all := lw_g (lw_at lw_m5 71 rfl) rfl
theorem q1102 : (Jvm.Cond.methodLink "KeyringCourt" (187 : Nat) ({ cls := "KeyringCourt", name := "personAt", desc := "(I)LKeyringCourt$Person;" } : Jvm.MethodName)) ∈ lw_all := lw_g (lw_at lw_m5 72 rfl) rfl
theorem q1103 : (Jvm.Cond.privateMethod ({ cls := "KeyringCourt", name := "personAt", desc := "(I)LKeyringCourt$Person;" } : Jvm.MethodName)) ∈ lw_tbl := lw_at lw_m5 73 rfl
theorem q1104 : (Jvm.Cond.instanceMethod ({ cls := "KeyringCourt", name := "personAt", desc := "(I)LKeyringCourt$Person;" } : Jvm.MethodName)) ∈ lw_all := lw_g (lw_at lw_m5 74 rfl) rfl
theorem q1105 : (Jvm.Cond.code ({ cls := "KeyringCourt", name := "personAt", desc := "(I)LKeyringCourt$Person;" } : Jvm.MethodName) prog_1_method_11_code (2 : Nat) (Option.some (Jvm.ClassFile.FieldType.object "KeyringCourt$Person"))) ∈ lw_all := lw_g (lw_at lw_m5 75 rfl) rfl
theorem q1106 : (Jvm.Cond.methodLink "KeyringCourt" (158 : Nat) ({ cls := "KeyringCourt", name := "there", desc := "(II)V" } : Jvm.MethodName)) ∈ lw_all := lw_g (lw_at lw_m5 76 rfl) rfl
theorem q1107 : (Jvm.Cond.static ({ cls := "KeyringCourt", name := "there", desc := "(II)V" } : Jvm.MethodName)) ∈ lw_all := lw_g (lw_at lw_m5 77 rfl) rfl
theorem q1108 : (Jvm.Cond.code ({ cls := "KeyringCourt", name := "there", desc := "(II)V" } : Jvm.MethodName) prog_1_method_8_code (2 : Nat) (Option.none : Option Jvm.ClassFile.FieldType)) ∈ lw_all := lw_g (lw_at lw_m5 78 rfl) rfl
theorem q1109 : (Jvm.Cond.classLink "KeyringCourt" (152 : Nat) "java/lang/IndexOutOfBoundsException") ∈ lw_all := lw_g (lw_at lw_m5 79 rfl) rfl
theorem q1110 : (Jvm.Cond.methodLink "KeyringCourt" (154 : Nat) ({ cls := "java/lang/IndexOutOfBoundsException", name := "<init>", desc := "()V" } : Jvm.MethodName)) ∈ lw_all := lw_g (lw_at lw_m5 80 rfl) rfl
theorem q1114 : (Jvm.Cond.methodLink "KeyringCourt" (191 : Nat) ({ cls := "KeyringCourt", name := "fitFactor", desc := "(I)V" } : Jvm.MethodName)) ∈ lw_all := lw_g (lw_at lw_m5 84 rfl) rfl
theorem q1115 : (Jvm.Cond.static ({ cls := "KeyringCourt", name := "fitFactor", desc := "(I)V" } : Jvm.MethodName)) ∈ lw_all := lw_g (lw_at lw_m5 85 rfl) rfl
theorem q1116 : (Jvm.Cond.code ({ cls := "KeyringCourt", name := "fitFactor", desc := "(I)V" } : Jvm.MethodName) prog_1_method_13_code (1 : Nat) (Option.none : Option Jvm.ClassFile.FieldType)) ∈ lw_all := lw_g (lw_at lw_m5 86 rfl) rfl
theorem q1117 : (Jvm.Cond.methodLink "KeyringCourt" (194 : Nat) ({ cls := "KeyringCourt$Person", name := "enroll", desc := "(I)I" } : Jvm.MethodName)) ∈ lw_all := lw_g (lw_at lw_m5 87 rfl) rfl
theorem q1125 : (Jvm.Cond.instanceMethod ({ cls := "KeyringCourt", name := "factor", desc := "(II)I" } : Jvm.MethodName)) ∈ lw_all := lw_g (lw_at lw_m5 95 rfl) rfl
theorem q1126 : (Jvm.Cond.selects "KeyringCourt" ({ cls := "KeyringCourt", name := "factor", desc := "(II)I" } : Jvm.MethodName) ({ cls := "KeyringCourt", name := "factor", desc := "(II)I" } : Jvm.MethodName)) ∈ lw_all := lw_g (lw_at lw_m5 96 rfl) rfl
theorem q1127 : (Jvm.Cond.code ({ cls := "KeyringCourt", name := "factor", desc := "(II)I" } : Jvm.MethodName) prog_1_method_19_code (4 : Nat) (Option.some Jvm.ClassFile.FieldType.int)) ∈ lw_all := lw_g (lw_at lw_m5 97 rfl) rfl
theorem q1132 : (Jvm.Cond.instanceMethod ({ cls := "KeyringCourt", name := "step", desc := "(IIIII)I" } : Jvm.MethodName)) ∈ lw_all := lw_g (lw_at lw_m5 102 rfl) rfl
theorem q1133 : (Jvm.Cond.selects "KeyringCourt" ({ cls := "KeyringCourt", name := "step", desc := "(IIIII)I" } : Jvm.MethodName) ({ cls := "KeyringCourt", name := "step", desc := "(IIIII)I" } : Jvm.MethodName)) ∈ lw_all := lw_g (lw_at lw_m5 103 rfl) rfl
theorem q1134 : (Jvm.Cond.code ({ cls := "KeyringCourt", name := "step", desc := "(IIIII)I" } : Jvm.MethodName) prog_1_method_21_code (6 : Nat) (Option.some Jvm.ClassFile.FieldType.int)) ∈ lw_all := lw_g (lw_at lw_m5 104 rfl) rfl
theorem q1135 : (Jvm.Cond.methodLink "KeyringCourt" (200 : Nat) ({ cls := "KeyringCourt", name := "mostFor", desc := "(I)I" } : Jvm.MethodName)) ∈ lw_all := lw_g (lw_at lw_m5 105 rfl) rfl
theorem q1136 : (Jvm.Cond.static ({ cls := "KeyringCourt", name := "mostFor", desc := "(I)I" } : Jvm.MethodName)) ∈ lw_all := lw_g (lw_at lw_m5 106 rfl) rfl
theorem q1137 : (Jvm.Cond.code ({ cls := "KeyringCourt", name := "mostFor", desc := "(I)I" } : Jvm.MethodName) prog_1_method_20_code (1 : Nat) (Option.some Jvm.ClassFile.FieldType.int)) ∈ lw_all := lw_g (lw_at lw_m5 107 rfl) rfl
theorem q1138 : (Jvm.Cond.classLink "KeyringCourt" (206 : Nat) "KeyringCourt$Step") ∈ lw_all := lw_g (lw_at lw_m5 108 rfl) rfl
theorem q1140 : (Jvm.Cond.methodLink "KeyringCourt" (208 : Nat) ({ cls := "KeyringCourt$Step", name := "<init>", desc := "(IIIII)V" } : Jvm.MethodName)) ∈ lw_all := lw_g (lw_at lw_m5 110 rfl) rfl
theorem q1173 : (Jvm.Cond.instanceMethod ({ cls := "KeyringCourt", name := "publish", desc := "()I" } : Jvm.MethodName)) ∈ lw_all := lw_g (lw_at lw_m5 143 rfl) rfl
theorem q1174 : (Jvm.Cond.selects "KeyringCourt" ({ cls := "KeyringCourt", name := "publish", desc := "()I" } : Jvm.MethodName) ({ cls := "KeyringCourt", name := "publish", desc := "()I" } : Jvm.MethodName)) ∈ lw_all := lw_g (lw_at lw_m5 144 rfl) rfl
theorem q1175 : (Jvm.Cond.code ({ cls := "KeyringCourt", name := "publish", desc := "()I" } : Jvm.MethodName) prog_1_method_23_code (1 : Nat) (Option.some Jvm.ClassFile.FieldType.int)) ∈ lw_all := lw_g (lw_at lw_m5 145 rfl) rfl
theorem q1176 : (Jvm.Cond.methodLink "KeyringCourt" (211 : Nat) ({ cls := "KeyringCourt$Flow", name := "isSound", desc := "()Z" } : Jvm.MethodName)) ∈ lw_all := lw_g (lw_at lw_m5 146 rfl) rfl
theorem q1347 : (Jvm.Cond.instanceMethod ({ cls := "KeyringCourt", name := "weakest", desc := "(I)I" } : Jvm.MethodName)) ∈ lw_all := lw_g (lw_at lw_m6 77 rfl) rfl
theorem q1348 : (Jvm.Cond.selects "KeyringCourt" ({ cls := "KeyringCourt", name := "weakest", desc := "(I)I" } : Jvm.MethodName) ({ cls := "KeyringCourt", name := "weakest", desc := "(I)I" } : Jvm.MethodName)) ∈ lw_all := lw_g (lw_at lw_m6 78 rfl) rfl
theorem q1349 : (Jvm.Cond.code ({ cls := "KeyringCourt", name := "weakest", desc := "(I)I" } : Jvm.MethodName) prog_1_method_24_code (2 : Nat) (Option.some Jvm.ClassFile.FieldType.int)) ∈ lw_all := lw_g (lw_at lw_m6 79 rfl) rfl
theorem q1350 : (Jvm.Cond.methodLink "KeyringCourt" (214 : Nat) ({ cls := "KeyringCourt", name := "at", desc := "(Ljava/util/List;I)Ljava/lang/Object;" } : Jvm.MethodName)) ∈ lw_all := lw_g (lw_at lw_m6 80 rfl) rfl
theorem q1351 : (Jvm.Cond.static ({ cls := "KeyringCourt", name := "at", desc := "(Ljava/util/List;I)Ljava/lang/Object;" } : Jvm.MethodName)) ∈ lw_all := lw_g (lw_at lw_m6 81 rfl) rfl
theorem q1352 : (Jvm.Cond.code ({ cls := "KeyringCourt", name := "at", desc := "(Ljava/util/List;I)Ljava/lang/Object;" } : Jvm.MethodName) prog_1_method_10_code (2 : Nat) (Option.some (Jvm.ClassFile.FieldType.object "java/lang/Object"))) ∈ lw_all := lw_g (lw_at lw_m6 82 rfl) rfl
theorem q1353 : (Jvm.Cond.methodLink "KeyringCourt" (218 : Nat) ({ cls := "KeyringCourt$Flow", name := "weakest", desc := "()I" } : Jvm.MethodName)) ∈ lw_all := lw_g (lw_at lw_m6 83 rfl) rfl
theorem q1362 : (Jvm.Cond.static ({ cls := "KeyringCourt", name := "levelOf", desc := "(I)I" } : Jvm.MethodName)) ∈ lw_all := lw_g (lw_at lw_m6 92 rfl) rfl
theorem q1363 : (Jvm.Cond.code ({ cls := "KeyringCourt", name := "levelOf", desc := "(I)I" } : Jvm.MethodName) prog_1_method_1_code (3 : Nat) (Option.some Jvm.ClassFile.FieldType.int)) ∈ lw_all := lw_g (lw_at lw_m6 93 rfl) rfl
theorem q1368 : (Jvm.Cond.instanceMethod ({ cls := "KeyringCourt", name := "points", desc := "(IIZ)I" } : Jvm.MethodName)) ∈ lw_all := lw_g (lw_at lw_m6 98 rfl) rfl
theorem q1369 : (Jvm.Cond.selects "KeyringCourt" ({ cls := "KeyringCourt", name := "points", desc := "(IIZ)I" } : Jvm.MethodName) ({ cls := "KeyringCourt", name := "points", desc := "(IIZ)I" } : Jvm.MethodName)) ∈ lw_all := lw_g (lw_at lw_m6 99 rfl) rfl
theorem q1370 : (Jvm.Cond.code ({ cls := "KeyringCourt", name := "points", desc := "(IIZ)I" } : Jvm.MethodName) prog_1_method_25_code (6 : Nat) (Option.some Jvm.ClassFile.FieldType.int)) ∈ lw_all := lw_g (lw_at lw_m6 100 rfl) rfl
theorem q1375 : (Jvm.Cond.instanceMethod ({ cls := "KeyringCourt", name := "begin", desc := "(III)I" } : Jvm.MethodName)) ∈ lw_all := lw_g (lw_at lw_m6 105 rfl) rfl
theorem q1376 : (Jvm.Cond.selects "KeyringCourt" ({ cls := "KeyringCourt", name := "begin", desc := "(III)I" } : Jvm.MethodName) ({ cls := "KeyringCourt", name := "begin", desc := "(III)I" } : Jvm.MethodName)) ∈ lw_all := lw_g (lw_at lw_m6 106 rfl) rfl
theorem q1377 : (Jvm.Cond.code ({ cls := "KeyringCourt", name := "begin", desc := "(III)I" } : Jvm.MethodName) prog_1_method_26_code (5 : Nat) (Option.some Jvm.ClassFile.FieldType.int)) ∈ lw_all := lw_g (lw_at lw_m6 107 rfl) rfl
theorem q1378 : (Jvm.Cond.interfaceEntry "KeyringCourt" (221 : Nat)) ∈ lw_tbl := lw_at lw_m6 108 rfl
theorem q1379 : (Jvm.Cond.methodLink "KeyringCourt" (221 : Nat) ({ cls := "java/util/List", name := "isEmpty", desc := "()Z" } : Jvm.MethodName)) ∈ lw_all := lw_g (lw_at lw_m6 109 rfl) rfl
theorem q1380 : (Jvm.Cond.classLink "KeyringCourt" (228 : Nat) "KeyringCourt$Attempt") ∈ lw_all := lw_g (lw_at lw_m6 110 rfl) rfl
theorem q1382 : (Jvm.Cond.methodLink "KeyringCourt" (230 : Nat) ({ cls := "KeyringCourt$Attempt", name := "<init>", desc := "(LKeyringCourt;LKeyringCourt$Person;IILKeyringCourt$Flow;)V" } : Jvm.MethodName)) ∈ lw_all := lw_g (lw_at lw_m6 112 rfl) rfl
theorem q1404 : (Jvm.Cond.privateMethod ({ cls := "KeyringCourt", name := "pointsOf", desc := "(IZ)I" } : Jvm.MethodName)) ∈ lw_tbl := lw_at lw_m6 134 rfl
theorem q1405 : (Jvm.Cond.instanceMethod ({ cls := "KeyringCourt", name := "pointsOf", desc := "(IZ)I" } : Jvm.MethodName)) ∈ lw_all := lw_g (lw_at lw_m6 135 rfl) rfl
theorem q1406 : (Jvm.Cond.code ({ cls := "KeyringCourt", name := "pointsOf", desc := "(IZ)I" } : Jvm.MethodName) prog_1_method_14_code (3 : Nat) (Option.some Jvm.ClassFile.FieldType.int)) ∈ lw_all := lw_g (lw_at lw_m6 136 rfl) rfl
theorem q1602 : (Jvm.Cond.privateMethod ({ cls := "KeyringCourt", name := "beginSession", desc := "(LKeyringCourt$Person;LKeyringCourt$Session;[II)I" } : Jvm.MethodName)) ∈ lw_tbl := lw_at lw_m7 92 rfl
theorem q1603 : (Jvm.Cond.instanceMethod ({ cls := "KeyringCourt", name := "beginSession", desc := "(LKeyringCourt$Person;LKeyringCourt$Session;[II)I" } : Jvm.MethodName)) ∈ lw_all := lw_g (lw_at lw_m7 93 rfl) rfl
theorem q1604 : (Jvm.Cond.code ({ cls := "KeyringCourt", name := "beginSession", desc := "(LKeyringCourt$Person;LKeyringCourt$Session;[II)I" } : Jvm.MethodName) prog_1_method_2_code (6 : Nat) (Option.some Jvm.ClassFile.FieldType.int)) ∈ lw_all := lw_g (lw_at lw_m7 94 rfl) rfl
theorem q1606 : (Jvm.Cond.methodLink "KeyringCourt" (15 : Nat) ({ cls := "KeyringCourt$Session", name := "<init>", desc := "(LKeyringCourt;ILKeyringCourt$Person;LKeyringCourt$Session;[II)V" } : Jvm.MethodName)) ∈ lw_all := lw_g (lw_at lw_m7 96 rfl) rfl
theorem q1616 : (Jvm.Cond.fieldLink "KeyringCourt" (23 : Nat) "KeyringCourt$Session" "number" "I") ∈ lw_all := lw_g (lw_at lw_m7 106 rfl) rfl
theorem q1619 : (Jvm.Cond.fieldLink "KeyringCourt" (35 : Nat) "KeyringCourt$Session" "person" "LKeyringCourt$Person;") ∈ lw_all := lw_g (lw_at lw_m7 109 rfl) rfl
theorem q1622 : (Jvm.Cond.fieldLink "KeyringCourt" (260 : Nat) "KeyringCourt$Session" "parent" "LKeyringCourt$Session;") ∈ lw_all := lw_g (lw_at lw_m7 112 rfl) rfl
theorem q1626 : (Jvm.Cond.fieldLink "KeyringCourt" (264 : Nat) "KeyringCourt$Session" "used" "I") ∈ lw_all := lw_g (lw_at lw_m7 116 rfl) rfl
theorem q1630 : (Jvm.Cond.fieldLink "KeyringCourt" (250 : Nat) "KeyringCourt$Session" "isLive" "Z") ∈ lw_all := lw_g (lw_at lw_m7 120 rfl) rfl
theorem q1632 : (Jvm.Cond.fieldLinkNest "KeyringCourt" (277 : Nat) "KeyringCourt$Session" "shown" "[I" "KeyringCourt") ∈ lw_tbl := lw_at lw_m7 122 rfl
theorem q1634 : (Jvm.Cond.fieldLinkNest "KeyringCourt" (280 : Nat) "KeyringCourt$Session" "set" "I" "KeyringCourt") ∈ lw_tbl := lw_at lw_m7 124 rfl
theorem q1657 : (Jvm.Cond.fieldLink "KeyringCourt" (419 : Nat) "KeyringCourt$Attempt" "person" "LKeyringCourt$Person;") ∈ lw_all := lw_g (lw_at lw_m7 147 rfl) rfl
theorem q1665 : (Jvm.Cond.fieldLink "KeyringCourt" (233 : Nat) "KeyringCourt$Attempt" "state" "I") ∈ lw_all := lw_g (lw_at lw_m7 155 rfl) rfl
theorem q1669 : (Jvm.Cond.fieldLink "KeyringCourt" (243 : Nat) "KeyringCourt$Attempt" "session" "I") ∈ lw_all := lw_g (lw_at lw_m7 159 rfl) rfl
theorem q1700 : (Jvm.Cond.instanceMethod ({ cls := "KeyringCourt", name := "answer", desc := "(IZI)I" } : Jvm.MethodName)) ∈ lw_all := lw_g (lw_at lw_m7 190 rfl) rfl
theorem q1701 : (Jvm.Cond.selects "KeyringCourt" ({ cls := "KeyringCourt", name := "answer", desc := "(IZI)I" } : Jvm.MethodName) ({ cls := "KeyringCourt", name := "answer", desc := "(IZI)I" } : Jvm.MethodName)) ∈ lw_all := lw_g (lw_at lw_m7 191 rfl) rfl
theorem q1702 : (Jvm.Cond.code ({ cls := "KeyringCourt", name := "answer", desc := "(IZI)I" } : Jvm.MethodName) prog_1_method_27_code (5 : Nat) (Option.some Jvm.ClassFile.FieldType.int)) ∈ lw_all := lw_g (lw_at lw_m7 192 rfl) rfl
theorem q1703 : (Jvm.Cond.methodLink "KeyringCourt" (236 : Nat) ({ cls := "KeyringCourt$Attempt", name := "answer", desc := "(ZI)I" } : Jvm.MethodName)) ∈ lw_all := lw_g (lw_at lw_m7 193 rfl) rfl
theorem q1726 : (Jvm.Cond.instanceMethod ({ cls := "KeyringCourt", name := "state", desc := "(I)I" } : Jvm.MethodName)) ∈ lw_all := lw_g (lw_at lw_m7 216 rfl) rfl
theorem q1727 : (Jvm.Cond.selects "KeyringCourt" ({ cls := "KeyringCourt", name := "state", desc := "(I)I" } : Jvm.MethodName) ({ cls := "KeyringCourt", name := "state", desc := "(I)I" } : Jvm.MethodName)) ∈ lw_all := lw_g (lw_at lw_m7 217 rfl) rfl
theorem q1728 : (Jvm.Cond.code ({ cls := "KeyringCourt", name := "state", desc := "(I)I" } : Jvm.MethodName) prog_1_method_28_code (2 : Nat) (Option.some Jvm.ClassFile.FieldType.int)) ∈ lw_all := lw_g (lw_at lw_m7 218 rfl) rfl
theorem q1733 : (Jvm.Cond.instanceMethod ({ cls := "KeyringCourt", name := "asked", desc := "(I)I" } : Jvm.MethodName)) ∈ lw_all := lw_g (lw_at lw_m7 223 rfl) rfl
theorem q1734 : (Jvm.Cond.selects "KeyringCourt" ({ cls := "KeyringCourt", name := "asked", desc := "(I)I" } : Jvm.MethodName) ({ cls := "KeyringCourt", name := "asked", desc := "(I)I" } : Jvm.MethodName)) ∈ lw_all := lw_g (lw_at lw_m7 224 rfl) rfl
theorem q1735 : (Jvm.Cond.code ({ cls := "KeyringCourt", name := "asked", desc := "(I)I" } : Jvm.MethodName) prog_1_method_29_code (2 : Nat) (Option.some Jvm.ClassFile.FieldType.int)) ∈ lw_all := lw_g (lw_at lw_m7 225 rfl) rfl
theorem q1736 : (Jvm.Cond.methodLink "KeyringCourt" (240 : Nat) ({ cls := "KeyringCourt$Attempt", name := "asked", desc := "()I" } : Jvm.MethodName)) ∈ lw_all := lw_g (lw_at lw_m7 226 rfl) rfl
theorem q1744 : (Jvm.Cond.instanceMethod ({ cls := "KeyringCourt", name := "sessionOf", desc := "(I)I" } : Jvm.MethodName)) ∈ lw_all := lw_g (lw_at lw_m7 234 rfl) rfl
theorem q1745 : (Jvm.Cond.selects "KeyringCourt" ({ cls := "KeyringCourt", name := "sessionOf", desc := "(I)I" } : Jvm.MethodName) ({ cls := "KeyringCourt", name := "sessionOf", desc := "(I)I" } : Jvm.MethodName)) ∈ lw_all := lw_g (lw_at lw_m7 235 rfl) rfl
theorem q1746 : (Jvm.Cond.code ({ cls := "KeyringCourt", name := "sessionOf", desc := "(I)I" } : Jvm.MethodName) prog_1_method_30_code (2 : Nat) (Option.some Jvm.ClassFile.FieldType.int)) ∈ lw_all := lw_g (lw_at lw_m7 236 rfl) rfl
theorem q1751 : (Jvm.Cond.instanceMethod ({ cls := "KeyringCourt", name := "risk", desc := "(I)I" } : Jvm.MethodName)) ∈ lw_all := lw_g (lw_at lw_m8 1 rfl) rfl
theorem q1752 : (Jvm.Cond.selects "KeyringCourt" ({ cls := "KeyringCourt", name := "risk", desc := "(I)I" } : Jvm.MethodName) ({ cls := "KeyringCourt", name := "risk", desc := "(I)I" } : Jvm.MethodName)) ∈ lw_all := lw_g (lw_at lw_m8 2 rfl) rfl
theorem q1753 : (Jvm.Cond.code ({ cls := "KeyringCourt", name := "risk", desc := "(I)I" } : Jvm.MethodName) prog_1_method_31_code (2 : Nat) (Option.some Jvm.ClassFile.FieldType.int)) ∈ lw_all := lw_g (lw_at lw_m8 3 rfl) rfl
theorem q1754 : (Jvm.Cond.methodLink "KeyringCourt" (246 : Nat) ({ cls := "KeyringCourt$Attempt", name := "risk", desc := "(Z)I" } : Jvm.MethodName)) ∈ lw_all := lw_g (lw_at lw_m8 4 rfl) rfl
theorem q1759 : (Jvm.Cond.instanceMethod ({ cls := "KeyringCourt", name := "trialRisk", desc := "(I)I" } : Jvm.MethodName)) ∈ lw_all := lw_g (lw_at lw_m8 9 rfl) rfl
theorem q1760 : (Jvm.Cond.selects "KeyringCourt" ({ cls := "KeyringCourt", name := "trialRisk", desc := "(I)I" } : Jvm.MethodName) ({ cls := "KeyringCourt", name := "trialRisk", desc := "(I)I" } : Jvm.MethodName)) ∈ lw_all := lw_g (lw_at lw_m8 10 rfl) rfl
theorem q1761 : (Jvm.Cond.code ({ cls := "KeyringCourt", name := "trialRisk", desc := "(I)I" } : Jvm.MethodName) prog_1_method_32_code (2 : Nat) (Option.some Jvm.ClassFile.FieldType.int)) ∈ lw_all := lw_g (lw_at lw_m8 11 rfl) rfl
theorem q1766 : (Jvm.Cond.instanceMethod ({ cls := "KeyringCourt", name := "isLive", desc := "(I)Z" } : Jvm.MethodName)) ∈ lw_all := lw_g (lw_at lw_m8 16 rfl) rfl
theorem q1767 : (Jvm.Cond.selects "KeyringCourt" ({ cls := "KeyringCourt", name := "isLive", desc := "(I)Z" } : Jvm.MethodName) ({ cls := "KeyringCourt", name := "isLive", desc := "(I)Z" } : Jvm.MethodName)) ∈ lw_all := lw_g (lw_at lw_m8 17 rfl) rfl
theorem q1768 : (Jvm.Cond.code ({ cls := "KeyringCourt", name := "isLive", desc := "(I)Z" } : Jvm.MethodName) prog_1_method_34_code (2 : Nat) (Option.some Jvm.ClassFile.FieldType.boolean)) ∈ lw_all := lw_g (lw_at lw_m8 18 rfl) rfl
theorem q1773 : (Jvm.Cond.instanceMethod ({ cls := "KeyringCourt", name := "isLiveByAudit", desc := "(I)Z" } : Jvm.MethodName)) ∈ lw_all := lw_g (lw_at lw_m8 23 rfl) rfl
theorem q1774 : (Jvm.Cond.selects "KeyringCourt" ({ cls := "KeyringCourt", name := "isLiveByAudit", desc := "(I)Z" } : Jvm.MethodName) ({ cls := "KeyringCourt", name := "isLiveByAudit", desc := "(I)Z" } : Jvm.MethodName)) ∈ lw_all := lw_g (lw_at lw_m8 24 rfl) rfl
theorem q1775 : (Jvm.Cond.code ({ cls := "KeyringCourt", name := "isLiveByAudit", desc := "(I)Z" } : Jvm.MethodName) prog_1_method_35_code (5 : Nat) (Option.some Jvm.ClassFile.FieldType.boolean)) ∈ lw_all := lw_g (lw_at lw_m8 25 rfl) rfl
theorem q1780 : (Jvm.Cond.instanceMethod ({ cls := "KeyringCourt", name := "level", desc := "(I)I" } : Jvm.MethodName)) ∈ lw_all := lw_g (lw_at lw_m8 30 rfl) rfl
theorem q1781 : (Jvm.Cond.selects "KeyringCourt" ({ cls := "KeyringCourt", name := "level", desc := "(I)I" } : Jvm.MethodName) ({ cls := "KeyringCourt", name := "level", desc := "(I)I" } : Jvm.MethodName)) ∈ lw_all := lw_g (lw_at lw_m8 31 rfl) rfl
theorem q1782 : (Jvm.Cond.code ({ cls := "KeyringCourt", name := "level", desc := "(I)I" } : Jvm.MethodName) prog_1_method_36_code (2 : Nat) (Option.some Jvm.ClassFile.FieldType.int)) ∈ lw_all := lw_g (lw_at lw_m8 32 rfl) rfl
theorem q1783 : (Jvm.Cond.methodLink "KeyringCourt" (257 : Nat) ({ cls := "KeyringCourt$Session", name := "level", desc := "()I" } : Jvm.MethodName)) ∈ lw_all := lw_g (lw_at lw_m8 33 rfl) rfl
theorem q1792 : (Jvm.Cond.instanceMethod ({ cls := "KeyringCourt", name := "stepUp", desc := "(IIZI)I" } : Jvm.MethodName)) ∈ lw_all := lw_g (lw_at lw_m8 42 rfl) rfl
theorem q1793 : (Jvm.Cond.selects "KeyringCourt" ({ cls := "KeyringCourt", name := "stepUp", desc := "(IIZI)I" } : Jvm.MethodName) ({ cls := "KeyringCourt", name := "stepUp", desc := "(IIZI)I" } : Jvm.MethodName)) ∈ lw_all := lw_g (lw_at lw_m8 43 rfl) rfl
theorem q1794 : (Jvm.Cond.code ({ cls := "KeyringCourt", name := "stepUp", desc := "(IIZI)I" } : Jvm.MethodName) prog_1_method_37_code (6 : Nat) (Option.some Jvm.ClassFile.FieldType.int)) ∈ lw_all := lw_g (lw_at lw_m8 44 rfl) rfl
theorem q1795 : (Jvm.Cond.methodLink "KeyringCourt" (267 : Nat) ({ cls := "KeyringCourt$Person", name := "answers", desc := "(IZI)Z" } : Jvm.MethodName)) ∈ lw_all := lw_g (lw_at lw_m8 45 rfl) rfl
theorem q1796 : (Jvm.Cond.methodLink "KeyringCourt" (271 : Nat) ({ cls := "KeyringCourt$Session", name := "show", desc := "(I)V" } : Jvm.MethodName)) ∈ lw_all := lw_g (lw_at lw_m8 46 rfl) rfl
theorem q1804 : (Jvm.Cond.instanceMethod ({ cls := "KeyringCourt", name := "signOut", desc := "(I)I" } : Jvm.MethodName)) ∈ lw_all := lw_g (lw_at lw_m8 54 rfl) rfl
theorem q1805 : (Jvm.Cond.selects "KeyringCourt" ({ cls := "KeyringCourt", name := "signOut", desc := "(I)I" } : Jvm.MethodName) ({ cls := "KeyringCourt", name := "signOut", desc := "(I)I" } : Jvm.MethodName)) ∈ lw_all := lw_g (lw_at lw_m8 55 rfl) rfl
theorem q1806 : (Jvm.Cond.code ({ cls := "KeyringCourt", name := "signOut", desc := "(I)I" } : Jvm.MethodName) prog_1_method_38_code (3 : Nat) (Option.some Jvm.ClassFile.FieldType.int)) ∈ lw_all := lw_g (lw_at lw_m8 56 rfl) rfl
theorem q1811 : (Jvm.Cond.instanceMethod ({ cls := "KeyringCourt", name := "helper", desc := "(I)Z" } : Jvm.MethodName)) ∈ lw_all := lw_g (lw_at lw_m8 61 rfl) rfl
theorem q1812 : (Jvm.Cond.selects "KeyringCourt" ({ cls := "KeyringCourt", name := "helper", desc := "(I)Z" } : Jvm.MethodName) ({ cls := "KeyringCourt", name := "helper", desc := "(I)Z" } : Jvm.MethodName)) ∈ lw_all := lw_g (lw_at lw_m8 62 rfl) rfl
theorem q1813 : (Jvm.Cond.code ({ cls := "KeyringCourt", name := "helper", desc := "(I)Z" } : Jvm.MethodName) prog_1_method_39_code (3 : Nat) (Option.some Jvm.ClassFile.FieldType.boolean)) ∈ lw_all := lw_g (lw_at lw_m8 63 rfl) rfl
theorem q1818 : (Jvm.Cond.instanceMethod ({ cls := "KeyringCourt", name := "act", desc := "(II)I" } : Jvm.MethodName)) ∈ lw_all := lw_g (lw_at lw_m8 68 rfl) rfl
theorem q1819 : (Jvm.Cond.selects "KeyringCourt" ({ cls := "KeyringCourt", name := "act", desc := "(II)I" } : Jvm.MethodName) ({ cls := "KeyringCourt", name := "act", desc := "(II)I" } : Jvm.MethodName)) ∈ lw_all := lw_g (lw_at lw_m8 69 rfl) rfl
theorem q1820 : (Jvm.Cond.code ({ cls := "KeyringCourt", name := "act", desc := "(II)I" } : Jvm.MethodName) prog_1_method_40_code (5 : Nat) (Option.some Jvm.ClassFile.FieldType.int)) ∈ lw_all := lw_g (lw_at lw_m8 70 rfl) rfl
theorem q1821 : (Jvm.Cond.methodLink "KeyringCourt" (282 : Nat) ({ cls := "KeyringCourt", name := "beginSession", desc := "(LKeyringCourt$Person;LKeyringCourt$Session;[II)I" } : Jvm.MethodName)) ∈ lw_all := lw_g (lw_at lw_m8 71 rfl) rfl
theorem q1826 : (Jvm.Cond.instanceMethod ({ cls := "KeyringCourt", name := "consent", desc := "(III)I" } : Jvm.MethodName)) ∈ lw_all := lw_g (lw_at lw_m8 76 rfl) rfl
theorem q1827 : (Jvm.Cond.selects "KeyringCourt" ({ cls := "KeyringCourt", name := "consent", desc := "(III)I" } : Jvm.MethodName) ({ cls := "KeyringCourt", name := "consent", desc := "(III)I" } : Jvm.MethodName)) ∈ lw_all := lw_g (lw_at lw_m8 77 rfl) rfl
theorem q1828 : (Jvm.Cond.code ({ cls := "KeyringCourt", name := "consent", desc := "(III)I" } : Jvm.MethodName) prog_1_method_41_code (5 : Nat) (Option.some Jvm.ClassFile.FieldType.int)) ∈ lw_all := lw_g (lw_at lw_m8 78 rfl) rfl
theorem q1829 : (Jvm.Cond.methodLink "KeyringCourt" (286 : Nat) ({ cls := "KeyringCourt", name := "serviceAt", desc := "(I)LKeyringCourt$Service;" } : Jvm.MethodName)) ∈ lw_all := lw_g (lw_at lw_m8 79 rfl) rfl
theorem q1830 : (Jvm.Cond.privateMethod ({ cls := "KeyringCourt", name := "serviceAt", desc := "(I)LKeyringCourt$Service;" } : Jvm.MethodName)) ∈ lw_tbl := lw_at lw_m8 80 rfl
theorem q1831 : (Jvm.Cond.instanceMethod ({ cls := "KeyringCourt", name := "serviceAt", desc := "(I)LKeyringCourt$Service;" } : Jvm.MethodName)) ∈ lw_all := lw_g (lw_at lw_m8 81 rfl) rfl
theorem q1832 : (Jvm.Cond.code ({ cls := "KeyringCourt", name := "serviceAt", desc := "(I)LKeyringCourt$Service;" } : Jvm.MethodName) prog_1_method_12_code (2 : Nat) (Option.some (Jvm.ClassFile.FieldType.object "KeyringCourt$Service"))) ∈ lw_all := lw_g (lw_at lw_m8 82 rfl) rfl
theorem q1837 : (Jvm.Cond.instanceMethod ({ cls := "KeyringCourt", name := "withdraw", desc := "(II)I" } : Jvm.MethodName)) ∈ lw_all := lw_g (lw_at lw_m8 87 rfl) rfl
theorem q1838 : (Jvm.Cond.selects "KeyringCourt" ({ cls := "KeyringCourt", name := "withdraw", desc := "(II)I" } : Jvm.MethodName) ({ cls := "KeyringCourt", name := "withdraw", desc := "(II)I" } : Jvm.MethodName)) ∈ lw_all := lw_g (lw_at lw_m8 88 rfl) rfl
theorem q1839 : (Jvm.Cond.code ({ cls := "KeyringCourt", name := "withdraw", desc := "(II)I" } : Jvm.MethodName) prog_1_method_42_code (7 : Nat) (Option.some Jvm.ClassFile.FieldType.int)) ∈ lw_all := lw_g (lw_at lw_m8 89 rfl) rfl
theorem q1840 : (Jvm.Cond.classLink "KeyringCourt" (293 : Nat) "KeyringCourt$Family") ∈ lw_all := lw_g (lw_at lw_m8 90 rfl) rfl
theorem q1841 : (Jvm.Cond.methodLink "KeyringCourt" (300 : Nat) ({ cls := "KeyringCourt$Family", name := "end", desc := "()Z" } : Jvm.MethodName)) ∈ lw_all := lw_g (lw_at lw_m8 91 rfl) rfl
theorem q1846 : (Jvm.Cond.instanceMethod ({ cls := "KeyringCourt", name := "need", desc := "(II)I" } : Jvm.MethodName)) ∈ lw_all := lw_g (lw_at lw_m8 96 rfl) rfl
theorem q1847 : (Jvm.Cond.selects "KeyringCourt" ({ cls := "KeyringCourt", name := "need", desc := "(II)I" } : Jvm.MethodName) ({ cls := "KeyringCourt", name := "need", desc := "(II)I" } : Jvm.MethodName)) ∈ lw_all := lw_g (lw_at lw_m8 97 rfl) rfl
theorem q1848 : (Jvm.Cond.code ({ cls := "KeyringCourt", name := "need", desc := "(II)I" } : Jvm.MethodName) prog_1_method_43_code (5 : Nat) (Option.some Jvm.ClassFile.FieldType.int)) ∈ lw_all := lw_g (lw_at lw_m8 98 rfl) rfl
theorem q1853 : (Jvm.Cond.instanceMethod ({ cls := "KeyringCourt", name := "authorize", desc := "(IIII)I" } : Jvm.MethodName)) ∈ lw_all := lw_g (lw_at lw_m8 103 rfl) rfl
theorem q1854 : (Jvm.Cond.selects "KeyringCourt" ({ cls := "KeyringCourt", name := "authorize", desc := "(IIII)I" } : Jvm.MethodName) ({ cls := "KeyringCourt", name := "authorize", desc := "(IIII)I" } : Jvm.MethodName)) ∈ lw_all := lw_g (lw_at lw_m8 104 rfl) rfl
theorem q1855 : (Jvm.Cond.code ({ cls := "KeyringCourt", name := "authorize", desc := "(IIII)I" } : Jvm.MethodName) prog_1_method_44_code (8 : Nat) (Option.some Jvm.ClassFile.FieldType.int)) ∈ lw_all := lw_g (lw_at lw_m8 105 rfl) rfl
theorem q1856 : (Jvm.Cond.classLink "KeyringCourt" (305 : Nat) "KeyringCourt$Grant") ∈ lw_all := lw_g (lw_at lw_m8 106 rfl) rfl
theorem q1858 : (Jvm.Cond.methodLink "KeyringCourt" (307 : Nat) ({ cls := "KeyringCourt$Grant", name := "<init>", desc := "(LKeyringCourt$Session;IIII)V" } : Jvm.MethodName)) ∈ lw_all := lw_g (lw_at lw_m8 108 rfl) rfl
theorem q1864 : (Jvm.Cond.fieldLink "KeyringCourt" (317 : Nat) "KeyringCourt$Grant" "session" "LKeyringCourt$Session;") ∈ lw_all := lw_g (lw_at lw_m8 114 rfl) rfl
theorem q1872 : (Jvm.Cond.fieldLink "KeyringCourt" (314 : Nat) "KeyringCourt$Grant" "made" "I") ∈ lw_all := lw_g (lw_at lw_m8 122 rfl) rfl
theorem q1873 : (Jvm.Cond.fieldLink "KeyringCourt" (310 : Nat) "KeyringCourt$Grant" "family" "LKeyringCourt$Family;") ∈ lw_all := lw_g (lw_at lw_m8 123 rfl) rfl
theorem q1891 : (Jvm.Cond.instanceMethod ({ cls := "KeyringCourt", name := "redeem", desc := "(I)I" } : Jvm.MethodName)) ∈ lw_all := lw_g (lw_at lw_m8 141 rfl) rfl
theorem q1892 : (Jvm.Cond.selects "KeyringCourt" ({ cls := "KeyringCourt", name := "redeem", desc := "(I)I" } : Jvm.MethodName) ({ cls := "KeyringCourt", name := "redeem", desc := "(I)I" } : Jvm.MethodName)) ∈ lw_all := lw_g (lw_at lw_m8 142 rfl) rfl
theorem q1893 : (Jvm.Cond.code ({ cls := "KeyringCourt", name := "redeem", desc := "(I)I" } : Jvm.MethodName) prog_1_method_45_code (3 : Nat) (Option.some Jvm.ClassFile.FieldType.int)) ∈ lw_all := lw_g (lw_at lw_m8 143 rfl) rfl
theorem q1895 : (Jvm.Cond.methodLink "KeyringCourt" (318 : Nat) ({ cls := "KeyringCourt$Family", name := "<init>", desc := "(LKeyringCourt;ILKeyringCourt$Grant;)V" } : Jvm.MethodName)) ∈ lw_all := lw_g (lw_at lw_m8 145 rfl) rfl
theorem q1903 : (Jvm.Cond.fieldLink "KeyringCourt" (321 : Nat) "KeyringCourt$Family" "number" "I") ∈ lw_all := lw_g (lw_at lw_m8 153 rfl) rfl
theorem q1906 : (Jvm.Cond.fieldLink "KeyringCourt" (295 : Nat) "KeyringCourt$Family" "session" "LKeyringCourt$Session;") ∈ lw_all := lw_g (lw_at lw_m8 156 rfl) rfl
theorem q1908 : (Jvm.Cond.fieldLink "KeyringCourt" (297 : Nat) "KeyringCourt$Family" "client" "I") ∈ lw_all := lw_g (lw_at lw_m8 158 rfl) rfl
theorem q1912 : (Jvm.Cond.fieldLink "KeyringCourt" (331 : Nat) "KeyringCourt$Family" "isGood" "Z") ∈ lw_all := lw_g (lw_at lw_m8 162 rfl) rfl
theorem q1914 : (Jvm.Cond.fieldLink "KeyringCourt" (325 : Nat) "KeyringCourt$Family" "current" "I") ∈ lw_all := lw_g (lw_at lw_m8 164 rfl) rfl
theorem q1918 : (Jvm.Cond.fieldLink "KeyringCourt" (334 : Nat) "KeyringCourt$Family" "latest" "I") ∈ lw_all := lw_g (lw_at lw_m8 168 rfl) rfl
theorem q1943 : (Jvm.Cond.methodLink "KeyringCourt" (322 : Nat) ({ cls := "KeyringCourt$Family", name := "make", desc := "()V" } : Jvm.MethodName)) ∈ lw_all := lw_g (lw_at lw_m8 193 rfl) rfl
theorem q1959 : (Jvm.Cond.fieldLink "KeyringCourt" (347 : Nat) "KeyringCourt$Token" "family" "LKeyringCourt$Family;") ∈ lw_all := lw_g (lw_at lw_m8 209 rfl) rfl
theorem q1961 : (Jvm.Cond.fieldLink "KeyringCourt" (357 : Nat) "KeyringCourt$Token" "client" "I") ∈ lw_all := lw_g (lw_at lw_m8 211 rfl) rfl
theorem q1963 : (Jvm.Cond.fieldLink "KeyringCourt" (351 : Nat) "KeyringCourt$Token" "audience" "I") ∈ lw_all := lw_g (lw_at lw_m8 213 rfl) rfl
theorem q1966 : (Jvm.Cond.fieldLink "KeyringCourt" (339 : Nat) "KeyringCourt$Token" "scopes" "I") ∈ lw_all := lw_g (lw_at lw_m8 216 rfl) rfl
theorem q1968 : (Jvm.Cond.fieldLink "KeyringCourt" (348 : Nat) "KeyringCourt$Token" "acted" "I") ∈ lw_all := lw_g (lw_at lw_m8 218 rfl) rfl
theorem q1973 : (Jvm.Cond.fieldLink "KeyringCourt" (345 : Nat) "KeyringCourt$Token" "end" "I") ∈ lw_all := lw_g (lw_at lw_m8 223 rfl) rfl
theorem q1998 : (Jvm.Cond.instanceMethod ({ cls := "KeyringCourt", name := "refresh", desc := "(II)I" } : Jvm.MethodName)) ∈ lw_all := lw_g (lw_at lw_m9 8 rfl) rfl
theorem q1999 : (Jvm.Cond.selects "KeyringCourt" ({ cls := "KeyringCourt", name := "refresh", desc := "(II)I" } : Jvm.MethodName) ({ cls := "KeyringCourt", name := "refresh", desc := "(II)I" } : Jvm.MethodName)) ∈ lw_all := lw_g (lw_at lw_m9 9 rfl) rfl
theorem q2000 : (Jvm.Cond.code ({ cls := "KeyringCourt", name := "refresh", desc := "(II)I" } : Jvm.MethodName) prog_1_method_46_code (4 : Nat) (Option.some Jvm.ClassFile.FieldType.int)) ∈ lw_all := lw_g (lw_at lw_m9 10 rfl) rfl
theorem q2001 : (Jvm.Cond.methodLink "KeyringCourt" (328 : Nat) ({ cls := "KeyringCourt$Family", name := "refresh", desc := "(I)I" } : Jvm.MethodName)) ∈ lw_all := lw_g (lw_at lw_m9 11 rfl) rfl
theorem q2012 : (Jvm.Cond.instanceMethod ({ cls := "KeyringCourt", name := "isGood", desc := "(I)Z" } : Jvm.MethodName)) ∈ lw_all := lw_g (lw_at lw_m9 22 rfl) rfl
theorem q2013 : (Jvm.Cond.selects "KeyringCourt" ({ cls := "KeyringCourt", name := "isGood", desc := "(I)Z" } : Jvm.MethodName) ({ cls := "KeyringCourt", name := "isGood", desc := "(I)Z" } : Jvm.MethodName)) ∈ lw_all := lw_g (lw_at lw_m9 23 rfl) rfl
theorem q2014 : (Jvm.Cond.code ({ cls := "KeyringCourt", name := "isGood", desc := "(I)Z" } : Jvm.MethodName) prog_1_method_47_code (2 : Nat) (Option.some Jvm.ClassFile.FieldType.boolean)) ∈ lw_all := lw_g (lw_at lw_m9 24 rfl) rfl
theorem q2019 : (Jvm.Cond.instanceMethod ({ cls := "KeyringCourt", name := "tokenOf", desc := "(I)I" } : Jvm.MethodName)) ∈ lw_all := lw_g (lw_at lw_m9 29 rfl) rfl
theorem q2020 : (Jvm.Cond.selects "KeyringCourt" ({ cls := "KeyringCourt", name := "tokenOf", desc := "(I)I" } : Jvm.MethodName) ({ cls := "KeyringCourt", name := "tokenOf", desc := "(I)I" } : Jvm.MethodName)) ∈ lw_all := lw_g (lw_at lw_m9 30 rfl) rfl
theorem q2021 : (Jvm.Cond.code ({ cls := "KeyringCourt", name := "tokenOf", desc := "(I)I" } : Jvm.MethodName) prog_1_method_48_code (2 : Nat) (Option.some Jvm.ClassFile.FieldType.int)) ∈ lw_all := lw_g (lw_at lw_m9 31 rfl) rfl
theorem q2026 : (Jvm.Cond.instanceMethod ({ cls := "KeyringCourt", name := "exchange", desc := "(III)I" } : Jvm.MethodName)) ∈ lw_all := lw_g (lw_at lw_m9 36 rfl) rfl
theorem q2027 : (Jvm.Cond.selects "KeyringCourt" ({ cls := "KeyringCourt", name := "exchange", desc := "(III)I" } : Jvm.MethodName) ({ cls := "KeyringCourt", name := "exchange", desc := "(III)I" } : Jvm.MethodName)) ∈ lw_all := lw_g (lw_at lw_m9 37 rfl) rfl
theorem q2028 : (Jvm.Cond.code ({ cls := "KeyringCourt", name := "exchange", desc := "(III)I" } : Jvm.MethodName) prog_1_method_49_code (6 : Nat) (Option.some Jvm.ClassFile.FieldType.int)) ∈ lw_all := lw_g (lw_at lw_m9 38 rfl) rfl
theorem q2029 : (Jvm.Cond.classLink "KeyringCourt" (337 : Nat) "KeyringCourt$Token") ∈ lw_all := lw_g (lw_at lw_m9 39 rfl) rfl
theorem q2030 : (Jvm.Cond.methodLink "KeyringCourt" (342 : Nat) ({ cls := "KeyringCourt", name := "fits", desc := "(Z)V" } : Jvm.MethodName)) ∈ lw_all := lw_g (lw_at lw_m9 40 rfl) rfl
theorem q2031 : (Jvm.Cond.static ({ cls := "KeyringCourt", name := "fits", desc := "(Z)V" } : Jvm.MethodName)) ∈ lw_all := lw_g (lw_at lw_m9 41 rfl) rfl
theorem q2032 : (Jvm.Cond.code ({ cls := "KeyringCourt", name := "fits", desc := "(Z)V" } : Jvm.MethodName) prog_1_method_7_code (1 : Nat) (Option.none : Option Jvm.ClassFile.FieldType)) ∈ lw_all := lw_g (lw_at lw_m9 42 rfl) rfl
theorem q2033 : (Jvm.Cond.methodLink "KeyringCourt" (354 : Nat) ({ cls := "KeyringCourt$Family", name := "make", desc := "(IIIII)I" } : Jvm.MethodName)) ∈ lw_all := lw_g (lw_at lw_m9 43 rfl) rfl
theorem q2038 : (Jvm.Cond.instanceMethod ({ cls := "KeyringCourt", name := "token", desc := "(I)I" } : Jvm.MethodName)) ∈ lw_all := lw_g (lw_at lw_m9 48 rfl) rfl
theorem q2039 : (Jvm.Cond.selects "KeyringCourt" ({ cls := "KeyringCourt", name := "token", desc := "(I)I" } : Jvm.MethodName) ({ cls := "KeyringCourt", name := "token", desc := "(I)I" } : Jvm.MethodName)) ∈ lw_all := lw_g (lw_at lw_m9 49 rfl) rfl
theorem q2040 : (Jvm.Cond.code ({ cls := "KeyringCourt", name := "token", desc := "(I)I" } : Jvm.MethodName) prog_1_method_50_code (3 : Nat) (Option.some Jvm.ClassFile.FieldType.int)) ∈ lw_all := lw_g (lw_at lw_m9 50 rfl) rfl
theorem q2045 : (Jvm.Cond.instanceMethod ({ cls := "KeyringCourt", name := "turn", desc := "()I" } : Jvm.MethodName)) ∈ lw_all := lw_g (lw_at lw_m9 55 rfl) rfl
theorem q2046 : (Jvm.Cond.selects "KeyringCourt" ({ cls := "KeyringCourt", name := "turn", desc := "()I" } : Jvm.MethodName) ({ cls := "KeyringCourt", name := "turn", desc := "()I" } : Jvm.MethodName)) ∈ lw_all := lw_g (lw_at lw_m9 56 rfl) rfl
theorem q2047 : (Jvm.Cond.code ({ cls := "KeyringCourt", name := "turn", desc := "()I" } : Jvm.MethodName) prog_1_method_52_code (1 : Nat) (Option.some Jvm.ClassFile.FieldType.int)) ∈ lw_all := lw_g (lw_at lw_m9 57 rfl) rfl
theorem q2048 : (Jvm.Cond.methodLink "KeyringCourt" (358 : Nat) ({ cls := "KeyringCourt", name := "publishKey", desc := "()I" } : Jvm.MethodName)) ∈ lw_all := lw_g (lw_at lw_m9 58 rfl) rfl
theorem q2049 : (Jvm.Cond.privateMethod ({ cls := "KeyringCourt", name := "publishKey", desc := "()I" } : Jvm.MethodName)) ∈ lw_tbl := lw_at lw_m9 59 rfl
theorem q2050 : (Jvm.Cond.instanceMethod ({ cls := "KeyringCourt", name := "publishKey", desc := "()I" } : Jvm.MethodName)) ∈ lw_all := lw_g (lw_at lw_m9 60 rfl) rfl
theorem q2051 : (Jvm.Cond.code ({ cls := "KeyringCourt", name := "publishKey", desc := "()I" } : Jvm.MethodName) prog_1_method_51_code (1 : Nat) (Option.some Jvm.ClassFile.FieldType.int)) ∈ lw_all := lw_g (lw_at lw_m9 61 rfl) rfl
theorem q2056 : (Jvm.Cond.instanceMethod ({ cls := "KeyringCourt", name := "emergency", desc := "()I" } : Jvm.MethodName)) ∈ lw_all := lw_g (lw_at lw_m9 66 rfl) rfl
theorem q2057 : (Jvm.Cond.selects "KeyringCourt" ({ cls := "KeyringCourt", name := "emergency", desc := "()I" } : Jvm.MethodName) ({ cls := "KeyringCourt", name := "emergency", desc := "()I" } : Jvm.MethodName)) ∈ lw_all := lw_g (lw_at lw_m9 67 rfl) rfl
theorem q2058 : (Jvm.Cond.code ({ cls := "KeyringCourt", name := "emergency", desc := "()I" } : Jvm.MethodName) prog_1_method_53_code (1 : Nat) (Option.some Jvm.ClassFile.FieldType.int)) ∈ lw_all := lw_g (lw_at lw_m9 68 rfl) rfl
theorem q2059 : (Jvm.Cond.methodLink "KeyringCourt" (361 : Nat) ({ cls := "java/util/BitSet", name := "clear", desc := "(I)V" } : Jvm.MethodName)) ∈ lw_all := lw_g (lw_at lw_m9 69 rfl) rfl
theorem q2064 : (Jvm.Cond.instanceMethod ({ cls := "KeyringCourt", name := "isPublished", desc := "(I)Z" } : Jvm.MethodName)) ∈ lw_all := lw_g (lw_at lw_m9 74 rfl) rfl
theorem q2065 : (Jvm.Cond.selects "KeyringCourt" ({ cls := "KeyringCourt", name := "isPublished", desc := "(I)Z" } : Jvm.MethodName) ({ cls := "KeyringCourt", name := "isPublished", desc := "(I)Z" } : Jvm.MethodName)) ∈ lw_all := lw_g (lw_at lw_m9 75 rfl) rfl
theorem q2066 : (Jvm.Cond.code ({ cls := "KeyringCourt", name := "isPublished", desc := "(I)Z" } : Jvm.MethodName) prog_1_method_55_code (2 : Nat) (Option.some Jvm.ClassFile.FieldType.boolean)) ∈ lw_all := lw_g (lw_at lw_m9 76 rfl) rfl
theorem q2071 : (Jvm.Cond.instanceMethod ({ cls := "KeyringCourt", name := "line", desc := "(I)I" } : Jvm.MethodName)) ∈ lw_all := lw_g (lw_at lw_m9 81 rfl) rfl
theorem q2072 : (Jvm.Cond.selects "KeyringCourt" ({ cls := "KeyringCourt", name := "line", desc := "(I)I" } : Jvm.MethodName) ({ cls := "KeyringCourt", name := "line", desc := "(I)I" } : Jvm.MethodName)) ∈ lw_all := lw_g (lw_at lw_m9 82 rfl) rfl
theorem q2073 : (Jvm.Cond.code ({ cls := "KeyringCourt", name := "line", desc := "(I)I" } : Jvm.MethodName) prog_1_method_56_code (2 : Nat) (Option.some Jvm.ClassFile.FieldType.int)) ∈ lw_all := lw_g (lw_at lw_m9 83 rfl) rfl
theorem q2074 : (Jvm.Cond.methodLink "KeyringCourt" (364 : Nat) ({ cls := "KeyringCourt$Service", name := "turnLine", desc := "()I" } : Jvm.MethodName)) ∈ lw_all := lw_g (lw_at lw_m9 84 rfl) rfl
theorem q2228 : (Jvm.Cond.instanceMethod ({ cls := "KeyringCourt", name := "check", desc := "(III)I" } : Jvm.MethodName)) ∈ lw_all := lw_g (lw_at lw_m9 238 rfl) rfl
theorem q2229 : (Jvm.Cond.selects "KeyringCourt" ({ cls := "KeyringCourt", name := "check", desc := "(III)I" } : Jvm.MethodName) ({ cls := "KeyringCourt", name := "check", desc := "(III)I" } : Jvm.MethodName)) ∈ lw_all := lw_g (lw_at lw_m9 239 rfl) rfl
theorem q2230 : (Jvm.Cond.code ({ cls := "KeyringCourt", name := "check", desc := "(III)I" } : Jvm.MethodName) prog_1_method_57_code (6 : Nat) (Option.some Jvm.ClassFile.FieldType.int)) ∈ lw_all := lw_g (lw_at lw_m10 0 rfl) rfl
theorem q2231 : (Jvm.Cond.methodLink "KeyringCourt" (367 : Nat) ({ cls := "KeyringCourt$Service", name := "check", desc := "(LKeyringCourt$Token;I)I" } : Jvm.MethodName)) ∈ lw_all := lw_g (lw_at lw_m10 1 rfl) rfl
theorem q2256 : (Jvm.Cond.instanceMethod ({ cls := "KeyringCourt", name := "lag", desc := "(I)I" } : Jvm.MethodName)) ∈ lw_all := lw_g (lw_at lw_m10 26 rfl) rfl
theorem q2257 : (Jvm.Cond.selects "KeyringCourt" ({ cls := "KeyringCourt", name := "lag", desc := "(I)I" } : Jvm.MethodName) ({ cls := "KeyringCourt", name := "lag", desc := "(I)I" } : Jvm.MethodName)) ∈ lw_all := lw_g (lw_at lw_m10 27 rfl) rfl
theorem q2258 : (Jvm.Cond.code ({ cls := "KeyringCourt", name := "lag", desc := "(I)I" } : Jvm.MethodName) prog_1_method_58_code (4 : Nat) (Option.some Jvm.ClassFile.FieldType.int)) ∈ lw_all := lw_g (lw_at lw_m10 28 rfl) rfl
theorem q2259 : (Jvm.Cond.methodLink "KeyringCourt" (371 : Nat) ({ cls := "KeyringCourt$Service", name := "isTold", desc := "(LKeyringCourt$Family;)Z" } : Jvm.MethodName)) ∈ lw_all := lw_g (lw_at lw_m10 29 rfl) rfl
theorem q2260 : (Jvm.Cond.methodLink "KeyringCourt" (375 : Nat) ({ cls := "java/lang/Math", name := "max", desc := "(II)I" } : Jvm.MethodName)) ∈ lw_all := lw_g (lw_at lw_m10 30 rfl) rfl
theorem q2265 : (Jvm.Cond.instanceMethod ({ cls := "KeyringCourt", name := "recover", desc := "(I)I" } : Jvm.MethodName)) ∈ lw_all := lw_g (lw_at lw_m10 35 rfl) rfl
theorem q2266 : (Jvm.Cond.selects "KeyringCourt" ({ cls := "KeyringCourt", name := "recover", desc := "(I)I" } : Jvm.MethodName) ({ cls := "KeyringCourt", name := "recover", desc := "(I)I" } : Jvm.MethodName)) ∈ lw_all := lw_g (lw_at lw_m10 36 rfl) rfl
theorem q2267 : (Jvm.Cond.code ({ cls := "KeyringCourt", name := "recover", desc := "(I)I" } : Jvm.MethodName) prog_1_method_60_code (3 : Nat) (Option.some Jvm.ClassFile.FieldType.int)) ∈ lw_all := lw_g (lw_at lw_m10 37 rfl) rfl
theorem q2268 : (Jvm.Cond.methodLink "KeyringCourt" (387 : Nat) ({ cls := "KeyringCourt", name := "hasOpen", desc := "(LKeyringCourt$Person;)Z" } : Jvm.MethodName)) ∈ lw_all := lw_g (lw_at lw_m10 38 rfl) rfl
theorem q2269 : (Jvm.Cond.privateMethod ({ cls := "KeyringCourt", name := "hasOpen", desc := "(LKeyringCourt$Person;)Z" } : Jvm.MethodName)) ∈ lw_tbl := lw_at lw_m10 39 rfl
theorem q2270 : (Jvm.Cond.instanceMethod ({ cls := "KeyringCourt", name := "hasOpen", desc := "(LKeyringCourt$Person;)Z" } : Jvm.MethodName)) ∈ lw_all := lw_g (lw_at lw_m10 40 rfl) rfl
theorem q2271 : (Jvm.Cond.code ({ cls := "KeyringCourt", name := "hasOpen", desc := "(LKeyringCourt$Person;)Z" } : Jvm.MethodName) prog_1_method_59_code (4 : Nat) (Option.some Jvm.ClassFile.FieldType.boolean)) ∈ lw_all := lw_g (lw_at lw_m10 41 rfl) rfl
theorem q2272 : (Jvm.Cond.classLink "KeyringCourt" (381 : Nat) "KeyringCourt$Recovery") ∈ lw_all := lw_g (lw_at lw_m10 42 rfl) rfl
theorem q2274 : (Jvm.Cond.methodLink "KeyringCourt" (391 : Nat) ({ cls := "KeyringCourt$Recovery", name := "<init>", desc := "(LKeyringCourt;LKeyringCourt$Person;)V" } : Jvm.MethodName)) ∈ lw_all := lw_g (lw_at lw_m10 44 rfl) rfl
theorem q2281 : (Jvm.Cond.fieldLink "KeyringCourt" (386 : Nat) "KeyringCourt$Recovery" "person" "LKeyringCourt$Person;") ∈ lw_all := lw_g (lw_at lw_m10 51 rfl) rfl
theorem q2284 : (Jvm.Cond.fieldLink "KeyringCourt" (383 : Nat) "KeyringCourt$Recovery" "isOpen" "Z") ∈ lw_all := lw_g (lw_at lw_m10 54 rfl) rfl
theorem q2305 : (Jvm.Cond.instanceMethod ({ cls := "KeyringCourt", name := "vouch", desc := "(II)I" } : Jvm.MethodName)) ∈ lw_all := lw_g (lw_at lw_m10 75 rfl) rfl
theorem q2306 : (Jvm.Cond.selects "KeyringCourt" ({ cls := "KeyringCourt", name := "vouch", desc := "(II)I" } : Jvm.MethodName) ({ cls := "KeyringCourt", name := "vouch", desc := "(II)I" } : Jvm.MethodName)) ∈ lw_all := lw_g (lw_at lw_m10 76 rfl) rfl
theorem q2307 : (Jvm.Cond.code ({ cls := "KeyringCourt", name := "vouch", desc := "(II)I" } : Jvm.MethodName) prog_1_method_61_code (5 : Nat) (Option.some Jvm.ClassFile.FieldType.int)) ∈ lw_all := lw_g (lw_at lw_m10 77 rfl) rfl
theorem q2308 : (Jvm.Cond.methodLink "KeyringCourt" (394 : Nat) ({ cls := "KeyringCourt$Recovery", name := "isVouchedBy", desc := "(LKeyringCourt$Session;)Z" } : Jvm.MethodName)) ∈ lw_all := lw_g (lw_at lw_m10 78 rfl) rfl
theorem q2314 : (Jvm.Cond.methodLink "KeyringCourt" (398 : Nat) ({ cls := "KeyringCourt$Recovery", name := "vouch", desc := "(LKeyringCourt$Session;)I" } : Jvm.MethodName)) ∈ lw_all := lw_g (lw_at lw_m10 84 rfl) rfl
theorem q2323 : (Jvm.Cond.instanceMethod ({ cls := "KeyringCourt", name := "stop", desc := "(II)I" } : Jvm.MethodName)) ∈ lw_all := lw_g (lw_at lw_m10 93 rfl) rfl
theorem q2324 : (Jvm.Cond.selects "KeyringCourt" ({ cls := "KeyringCourt", name := "stop", desc := "(II)I" } : Jvm.MethodName) ({ cls := "KeyringCourt", name := "stop", desc := "(II)I" } : Jvm.MethodName)) ∈ lw_all := lw_g (lw_at lw_m10 94 rfl) rfl
theorem q2325 : (Jvm.Cond.code ({ cls := "KeyringCourt", name := "stop", desc := "(II)I" } : Jvm.MethodName) prog_1_method_62_code (5 : Nat) (Option.some Jvm.ClassFile.FieldType.int)) ∈ lw_all := lw_g (lw_at lw_m10 95 rfl) rfl
theorem q2326 : (Jvm.Cond.methodLink "KeyringCourt" (402 : Nat) ({ cls := "KeyringCourt$Recovery", name := "isBy", desc := "(LKeyringCourt$Session;)Z" } : Jvm.MethodName)) ∈ lw_all := lw_g (lw_at lw_m10 96 rfl) rfl
theorem q2330 : (Jvm.Cond.methodLink "KeyringCourt" (405 : Nat) ({ cls := "KeyringCourt$Recovery", name := "many", desc := "()I" } : Jvm.MethodName)) ∈ lw_all := lw_g (lw_at lw_m10 100 rfl) rfl
theorem q2348 : (Jvm.Cond.instanceMethod ({ cls := "KeyringCourt", name := "finish", desc := "(I)I" } : Jvm.MethodName)) ∈ lw_all := lw_g (lw_at lw_m10 118 rfl) rfl
theorem q2349 : (Jvm.Cond.selects "KeyringCourt" ({ cls := "KeyringCourt", name := "finish", desc := "(I)I" } : Jvm.MethodName) ({ cls := "KeyringCourt", name := "finish", desc := "(I)I" } : Jvm.MethodName)) ∈ lw_all := lw_g (lw_at lw_m10 119 rfl) rfl
theorem q2350 : (Jvm.Cond.code ({ cls := "KeyringCourt", name := "finish", desc := "(I)I" } : Jvm.MethodName) prog_1_method_63_code (4 : Nat) (Option.some Jvm.ClassFile.FieldType.int)) ∈ lw_all := lw_g (lw_at lw_m10 120 rfl) rfl
theorem q2351 : (Jvm.Cond.methodLink "KeyringCourt" (408 : Nat) ({ cls := "KeyringCourt$Recovery", name := "isReady", desc := "()Z" } : Jvm.MethodName)) ∈ lw_all := lw_g (lw_at lw_m10 121 rfl) rfl
theorem q2361 : (Jvm.Cond.methodLink "KeyringCourt" (411 : Nat) ({ cls := "KeyringCourt$Recovery", name := "finish", desc := "()I" } : Jvm.MethodName)) ∈ lw_all := lw_g (lw_at lw_m10 131 rfl) rfl
theorem q2366 : (Jvm.Cond.privateMethod ({ cls := "KeyringCourt", name := "endAll", desc := "(LKeyringCourt$Person;)I" } : Jvm.MethodName)) ∈ lw_tbl := lw_at lw_m10 136 rfl
theorem q2367 : (Jvm.Cond.instanceMethod ({ cls := "KeyringCourt", name := "endAll", desc := "(LKeyringCourt$Person;)I" } : Jvm.MethodName)) ∈ lw_all := lw_g (lw_at lw_m10 137 rfl) rfl
theorem q2368 : (Jvm.Cond.code ({ cls := "KeyringCourt", name := "endAll", desc := "(LKeyringCourt$Person;)I" } : Jvm.MethodName) prog_1_method_3_code (4 : Nat) (Option.some Jvm.ClassFile.FieldType.int)) ∈ lw_all := lw_g (lw_at lw_m10 138 rfl) rfl
theorem q2374 : (Jvm.Cond.instanceMethod ({ cls := "KeyringCourt", name := "link", desc := "(II)I" } : Jvm.MethodName)) ∈ lw_all := lw_g (lw_at lw_m10 144 rfl) rfl
theorem q2375 : (Jvm.Cond.selects "KeyringCourt" ({ cls := "KeyringCourt", name := "link", desc := "(II)I" } : Jvm.MethodName) ({ cls := "KeyringCourt", name := "link", desc := "(II)I" } : Jvm.MethodName)) ∈ lw_all := lw_g (lw_at lw_m10 145 rfl) rfl
theorem q2376 : (Jvm.Cond.code ({ cls := "KeyringCourt", name := "link", desc := "(II)I" } : Jvm.MethodName) prog_1_method_64_code (5 : Nat) (Option.some Jvm.ClassFile.FieldType.int)) ∈ lw_all := lw_g (lw_at lw_m10 146 rfl) rfl
theorem q2381 : (Jvm.Cond.instanceMethod ({ cls := "KeyringCourt", name := "foreign", desc := "(I)I" } : Jvm.MethodName)) ∈ lw_all := lw_g (lw_at lw_m10 151 rfl) rfl
theorem q2382 : (Jvm.Cond.selects "KeyringCourt" ({ cls := "KeyringCourt", name := "foreign", desc := "(I)I" } : Jvm.MethodName) ({ cls := "KeyringCourt", name := "foreign", desc := "(I)I" } : Jvm.MethodName)) ∈ lw_all := lw_g (lw_at lw_m10 152 rfl) rfl
theorem q2383 : (Jvm.Cond.code ({ cls := "KeyringCourt", name := "foreign", desc := "(I)I" } : Jvm.MethodName) prog_1_method_65_code (3 : Nat) (Option.some Jvm.ClassFile.FieldType.int)) ∈ lw_all := lw_g (lw_at lw_m10 153 rfl) rfl
theorem q2388 : (Jvm.Cond.instanceMethod ({ cls := "KeyringCourt", name := "leave", desc := "(I)I" } : Jvm.MethodName)) ∈ lw_all := lw_g (lw_at lw_m10 158 rfl) rfl
theorem q2389 : (Jvm.Cond.selects "KeyringCourt" ({ cls := "KeyringCourt", name := "leave", desc := "(I)I" } : Jvm.MethodName) ({ cls := "KeyringCourt", name := "leave", desc := "(I)I" } : Jvm.MethodName)) ∈ lw_all := lw_g (lw_at lw_m10 159 rfl) rfl
theorem q2390 : (Jvm.Cond.code ({ cls := "KeyringCourt", name := "leave", desc := "(I)I" } : Jvm.MethodName) prog_1_method_66_code (5 : Nat) (Option.some Jvm.ClassFile.FieldType.int)) ∈ lw_all := lw_g (lw_at lw_m10 160 rfl) rfl
theorem q2391 : (Jvm.Cond.methodLink "KeyringCourt" (415 : Nat) ({ cls := "KeyringCourt", name := "endAll", desc := "(LKeyringCourt$Person;)I" } : Jvm.MethodName)) ∈ lw_all := lw_g (lw_at lw_m10 161 rfl) rfl
theorem q2392 : (Jvm.Cond.methodLink "KeyringCourt" (420 : Nat) ({ cls := "KeyringCourt$Attempt", name := "deny", desc := "()V" } : Jvm.MethodName)) ∈ lw_all := lw_g (lw_at lw_m10 162 rfl) rfl
theorem q2400 : (Jvm.Cond.instanceMethod ({ cls := "KeyringCourt", name := "audit", desc := "(I)I" } : Jvm.MethodName)) ∈ lw_all := lw_g (lw_at lw_m10 170 rfl) rfl
theorem q2401 : (Jvm.Cond.selects "KeyringCourt" ({ cls := "KeyringCourt", name := "audit", desc := "(I)I" } : Jvm.MethodName) ({ cls := "KeyringCourt", name := "audit", desc := "(I)I" } : Jvm.MethodName)) ∈ lw_all := lw_g (lw_at lw_m10 171 rfl) rfl
theorem q2402 : (Jvm.Cond.code ({ cls := "KeyringCourt", name := "audit", desc := "(I)I" } : Jvm.MethodName) prog_1_method_68_code (3 : Nat) (Option.some Jvm.ClassFile.FieldType.int)) ∈ lw_all := lw_g (lw_at lw_m10 172 rfl) rfl
theorem q2407 : (Jvm.Cond.instanceMethod ({ cls := "KeyringCourt", name := "sumAnew", desc := "(I)I" } : Jvm.MethodName)) ∈ lw_all := lw_g (lw_at lw_m10 177 rfl) rfl
theorem q2408 : (Jvm.Cond.selects "KeyringCourt" ({ cls := "KeyringCourt", name := "sumAnew", desc := "(I)I" } : Jvm.MethodName) ({ cls := "KeyringCourt", name := "sumAnew", desc := "(I)I" } : Jvm.MethodName)) ∈ lw_all := lw_g (lw_at lw_m10 178 rfl) rfl
theorem q2409 : (Jvm.Cond.code ({ cls := "KeyringCourt", name := "sumAnew", desc := "(I)I" } : Jvm.MethodName) prog_1_method_70_code (4 : Nat) (Option.some Jvm.ClassFile.FieldType.int)) ∈ lw_all := lw_g (lw_at lw_m10 179 rfl) rfl
theorem q3050 : (Jvm.Cond.castable "KeyringCourt" "java/lang/Object") ∈ lw_tbl := lw_at lw_m13 100 rfl
theorem in_X1 : ∀ w ∈ wsX10, w ∈ lw_all := lw_in wsX10 [715, 717, 719, 721, 723, 725, 727, 729, 731, 733, 735, 737, 739, 741, 743, 745, 747, 749, 751, 753, 755, 757, 759] (by decide +kernel) (by decide +kernel)
/-! KeyringCourt$Flow -/
set_option maxRecDepth 100000
def RX2 : String := "KeyringCourt$Flow"
def TX2 : u_T := fun k => match k with
  | _ => ("KeyringCourt$Flow", "steps", "Ljava/util/List;", true)
def tyX2 : Nat → FieldType := fun k => match k with
  | _ => .object "java/util/List"
abbrev wsX20 : List Cond := u_ws RX2 TX2 1
theorem nmX2 : ∀ a, a < 1 → ∀ b, b < 1 → a ≠ b → (TX2 a).2.1 ≠ (TX2 b).2.1 := by decide +kernel
theorem tyX2_ok : ∀ k, k < 1 → parseFieldDescriptor (TX2 k).2.2.1 = some (tyX2 k) := by decide +kernel
abbrev cX2_init : ByteArray := prog_5_method_1_code
def yX2_init : MethodName := ⟨RX2, "<init>", "()V"⟩
def dkwX2_init_0 : List UInt8 := [42, 183, 0, 3, 42, 187, 0, 9, 89, 16, 12, 183, 0, 11, 181, 0, 14, 177]
abbrev dktX2_init_0 : List UInt8 := dkwX2_init_0 ++ []
theorem dksX2_init_0 : cX2_init.data.toList.drop 0 = dktX2_init_0 := by decide +kernel
theorem dX2_init_0 : decode cX2_init 0 = .ok (.aload_n 0, 1) := dk_42 (dk_at dksX2_init_0 0 rfl rfl)
theorem dX2_init_1 : decode cX2_init 1 = .ok (.invokespecial 3, 3) := dk_183 0 3 (dk_at dksX2_init_0 1 rfl rfl)
theorem dX2_init_4 : decode cX2_init 4 = .ok (.aload_n 0, 1) := dk_42 (dk_at dksX2_init_0 4 rfl rfl)
theorem dX2_init_5 : decode cX2_init 5 = .ok (.new 9, 3) := dk_187 0 9 (dk_at dksX2_init_0 5 rfl rfl)
theorem dX2_init_8 : decode cX2_init 8 = .ok (.dup, 1) := dk_89 (dk_at dksX2_init_0 8 rfl rfl)
theorem dX2_init_9 : decode cX2_init 9 = .ok (.bipush 12, 2) := dk_16 12 (dk_at dksX2_init_0 9 rfl rfl)
theorem dX2_init_11 : decode cX2_init 11 = .ok (.invokespecial 11, 3) := dk_183 0 11 (dk_at dksX2_init_0 11 rfl rfl)
theorem dX2_init_14 : decode cX2_init 14 = .ok (.putfield 14, 3) := dk_181 0 14 (dk_at dksX2_init_0 14 rfl rfl)
theorem dX2_init_17 : decode cX2_init 17 = .ok (.return_, 1) := dk_177 (dk_at dksX2_init_0 17 rfl rfl)
abbrev cX2_isSound : ByteArray := prog_5_method_3_code
def yX2_isSound : MethodName := ⟨RX2, "isSound", "()Z"⟩
def dkwX2_isSound_5 : List UInt8 := [154, 0, 7, 4, 167, 0, 4, 3, 60, 132, 2, 1, 167, 255, 222, 27, 172]
abbrev dktX2_isSound_5 : List UInt8 := dkwX2_isSound_5 ++ []
def dkwX2_isSound_4 : List UInt8 := [27, 153, 0, 36, 28, 42, 180, 0, 14, 185, 0, 20, 1, 0, 162, 0, 23, 42, 28, 182, 0, 50]
abbrev dktX2_isSound_4 : List UInt8 := dkwX2_isSound_4 ++ dktX2_isSound_5
def dkwX2_isSound_3 : List UInt8 := [180, 0, 47, 182, 0, 43, 153, 0, 7, 4, 167, 0, 4, 3, 126, 60, 132, 2, 1, 167, 255, 189, 3, 61]
abbrev dktX2_isSound_3 : List UInt8 := dkwX2_isSound_3 ++ dktX2_isSound_4
def dkwX2_isSound_2 : List UInt8 := [78, 27, 45, 182, 0, 36, 154, 0, 25, 42, 45, 180, 0, 39, 182, 0, 43, 153, 0, 18, 42, 45]
abbrev dktX2_isSound_2 : List UInt8 := dkwX2_isSound_2 ++ dktX2_isSound_3
def dkwX2_isSound_1 : List UInt8 := [180, 0, 14, 185, 0, 20, 1, 0, 162, 0, 60, 42, 180, 0, 14, 28, 185, 0, 30, 2, 0, 192, 0, 34]
abbrev dktX2_isSound_1 : List UInt8 := dkwX2_isSound_1 ++ dktX2_isSound_2
def dkwX2_isSound_0 : List UInt8 := [42, 180, 0, 14, 185, 0, 26, 1, 0, 154, 0, 7, 4, 167, 0, 4, 3, 60, 3, 61, 28, 42]
abbrev dktX2_isSound_0 : List UInt8 := dkwX2_isSound_0 ++ dktX2_isSound_1
theorem dksX2_isSound_0 : cX2_isSound.data.toList.drop 0 = dktX2_isSound_0 := by decide +kernel
theorem dksX2_isSound_1 : cX2_isSound.data.toList.drop 22 = dktX2_isSound_1 := dk_seg dksX2_isSound_0 22 rfl rfl
theorem dksX2_isSound_2 : cX2_isSound.data.toList.drop 46 = dktX2_isSound_2 := dk_seg dksX2_isSound_1 24 rfl rfl
theorem dksX2_isSound_3 : cX2_isSound.data.toList.drop 68 = dktX2_isSound_3 := dk_seg dksX2_isSound_2 22 rfl rfl
theorem dksX2_isSound_4 : cX2_isSound.data.toList.drop 92 = dktX2_isSound_4 := dk_seg dksX2_isSound_3 24 rfl rfl
theorem dksX2_isSound_5 : cX2_isSound.data.toList.drop 114 = dktX2_isSound_5 := dk_seg dksX2_isSound_4 22 rfl rfl
theorem dX2_isSound_0 : decode cX2_isSound 0 = .ok (.aload_n 0, 1) := dk_42 (dk_at dksX2_isSound_0 0 rfl rfl)
theorem dX2_isSound_1 : decode cX2_isSound 1 = .ok (.getfield 14, 3) := dk_180 0 14 (dk_at dksX2_isSound_0 1 rfl rfl)
theorem dX2_isSound_4 : decode cX2_isSound 4 = .ok (.invokeinterface 26 1, 5) := by decide +kernel
theorem dX2_isSound_9 : decode cX2_isSound 9 = .ok (.ifCond .ne 7, 3) := dk_154 0 7 (dk_at dksX2_isSound_0 9 rfl rfl)
theorem dX2_isSound_12 : decode cX2_isSound 12 = .ok (.iconst 1, 1) := dk_4 (dk_at dksX2_isSound_0 12 rfl rfl)
theorem dX2_isSound_13 : decode cX2_isSound 13 = .ok (.goto 4, 3) := dk_167 0 4 (dk_at dksX2_isSound_0 13 rfl rfl)
theorem dX2_isSound_16 : decode cX2_isSound 16 = .ok (.iconst 0, 1) := dk_3 (dk_at dksX2_isSound_0 16 rfl rfl)
theorem dX2_isSound_17 : decode cX2_isSound 17 = .ok (.istore_n 1, 1) := dk_60 (dk_at dksX2_isSound_0 17 rfl rfl)
theorem dX2_isSound_18 : decode cX2_isSound 18 = .ok (.iconst 0, 1) := dk_3 (dk_at dksX2_isSound_0 18 rfl rfl)
theorem dX2_isSound_19 : decode cX2_isSound 19 = .ok (.istore_n 2, 1) := dk_61 (dk_at dksX2_isSound_0 19 rfl rfl)
theorem dX2_isSound_20 : decode cX2_isSound 20 = .ok (.iload_n 2, 1) := dk_28 (dk_at dksX2_isSound_0 20 rfl rfl)
theorem dX2_isSound_21 : decode cX2_isSound 21 = .ok (.aload_n 0, 1) := dk_42 (dk_at dksX2_isSound_0 21 rfl rfl)
theorem dX2_isSound_22 : decode cX2_isSound 22 = .ok (.getfield 14, 3) := dk_180 0 14 (dk_at dksX2_isSound_1 0 rfl rfl)
theorem dX2_isSound_25 : decode cX2_isSound 25 = .ok (.invokeinterface 20 1, 5) := by decide +kernel
theorem dX2_isSound_30 : decode cX2_isSound 30 = .ok (.if_icmp .ge 60, 3) := dk_162 0 60 (dk_at dksX2_isSound_1 8 rfl rfl)
theorem dX2_isSound_33 : decode cX2_isSound 33 = .ok (.aload_n 0, 1) := dk_42 (dk_at dksX2_isSound_1 11 rfl rfl)
theorem dX2_isSound_34 : decode cX2_isSound 34 = .ok (.getfield 14, 3) := dk_180 0 14 (dk_at dksX2_isSound_1 12 rfl rfl)
theorem dX2_isSound_37 : decode cX2_isSound 37 = .ok (.iload_n 2, 1) := dk_28 (dk_at dksX2_isSound_1 15 rfl rfl)
theorem dX2_isSound_38 : decode cX2_isSound 38 = .ok (.invokeinterface 30 2, 5) := by decide +kernel
theorem dX2_isSound_43 : decode cX2_isSound 43 = .ok (.checkcast 34, 3) := dk_192 0 34 (dk_at dksX2_isSound_1 21 rfl rfl)
theorem dX2_isSound_46 : decode cX2_isSound 46 = .ok (.astore_n 3, 1) := dk_78 (dk_at dksX2_isSound_2 0 rfl rfl)
theorem dX2_isSound_47 : decode cX2_isSound 47 = .ok (.iload_n 1, 1) := dk_27 (dk_at dksX2_isSound_2 1 rfl rfl)
theorem dX2_isSound_48 : decode cX2_isSound 48 = .ok (.aload_n 3, 1) := dk_45 (dk_at dksX2_isSound_2 2 rfl rfl)
theorem dX2_isSound_49 : decode cX2_isSound 49 = .ok (.invokevirtual 36, 3) := dk_182 0 36 (dk_at dksX2_isSound_2 3 rfl rfl)
theorem dX2_isSound_52 : decode cX2_isSound 52 = .ok (.ifCond .ne 25, 3) := dk_154 0 25 (dk_at dksX2_isSound_2 6 rfl rfl)
theorem dX2_isSound_55 : decode cX2_isSound 55 = .ok (.aload_n 0, 1) := dk_42 (dk_at dksX2_isSound_2 9 rfl rfl)
theorem dX2_isSound_56 : decode cX2_isSound 56 = .ok (.aload_n 3, 1) := dk_45 (dk_at dksX2_isSound_2 10 rfl rfl)
theorem dX2_isSound_57 : decode cX2_isSound 57 = .ok (.getfield 39, 3) := dk_180 0 39 (dk_at dksX2_isSound_2 11 rfl rfl)
theorem dX2_isSound_60 : decode cX2_isSound 60 = .ok (.invokevirtual 43, 3) := dk_182 0 43 (dk_at dksX2_isSound_2 14 rfl rfl)
theorem dX2_isSound_63 : decode cX2_isSound 63 = .ok (.ifCond .eq 18, 3) := dk_153 0 18 (dk_at dksX2_isSound_2 17 rfl rfl)
theorem dX2_isSound_66 : decode cX2_isSound 66 = .ok (.aload_n 0, 1) := dk_42 (dk_at dksX2_isSound_2 20 rfl rfl)
theorem dX2_isSound_67 : decode cX2_isSound 67 = .ok (.aload_n 3, 1) := dk_45 (dk_at dksX2_isSound_2 21 rfl rfl)
theorem dX2_isSound_68 : decode cX2_isSound 68 = .ok (.getfield 47, 3) := dk_180 0 47 (dk_at dksX2_isSound_3 0 rfl rfl)
theorem dX2_isSound_71 : decode cX2_isSound 71 = .ok (.invokevirtual 43, 3) := dk_182 0 43 (dk_at dksX2_isSound_3 3 rfl rfl)
theorem dX2_isSound_74 : decode cX2_isSound 74 = .ok (.ifCond .eq 7, 3) := dk_153 0 7 (dk_at dksX2_isSound_3 6 rfl rfl)
theorem dX2_isSound_77 : decode cX2_isSound 77 = .ok (.iconst 1, 1) := dk_4 (dk_at dksX2_isSound_3 9 rfl rfl)
theorem dX2_isSound_78 : decode cX2_isSound 78 = .ok (.goto 4, 3) := dk_167 0 4 (dk_at dksX2_isSound_3 10 rfl rfl)
theorem dX2_isSound_81 : decode cX2_isSound 81 = .ok (.iconst 0, 1) := dk_3 (dk_at dksX2_isSound_3 13 rfl rfl)
theorem dX2_isSound_82 : decode cX2_isSound 82 = .ok (.iand, 1) := dk_126 (dk_at dksX2_isSound_3 14 rfl rfl)
theorem dX2_isSound_83 : decode cX2_isSound 83 = .ok (.istore_n 1, 1) := dk_60 (dk_at dksX2_isSound_3 15 rfl rfl)
theorem dX2_isSound_84 : decode cX2_isSound 84 = .ok (.iinc 2 1, 3) := dk_132 2 1 (dk_at dksX2_isSound_3 16 rfl rfl)
theorem dX2_isSound_87 : decode cX2_isSound 87 = .ok (.goto (-67), 3) := dk_167 255 189 (dk_at dksX2_isSound_3 19 rfl rfl)
theorem dX2_isSound_90 : decode cX2_isSound 90 = .ok (.iconst 0, 1) := dk_3 (dk_at dksX2_isSound_3 22 rfl rfl)
theorem dX2_isSound_91 : decode cX2_isSound 91 = .ok (.istore_n 2, 1) := dk_61 (dk_at dksX2_isSound_3 23 rfl rfl)
theorem dX2_isSound_92 : decode cX2_isSound 92 = .ok (.iload_n 1, 1) := dk_27 (dk_at dksX2_isSound_4 0 rfl rfl)
theorem dX2_isSound_93 : decode cX2_isSound 93 = .ok (.ifCond .eq 36, 3) := dk_153 0 36 (dk_at dksX2_isSound_4 1 rfl rfl)
theorem dX2_isSound_96 : decode cX2_isSound 96 = .ok (.iload_n 2, 1) := dk_28 (dk_at dksX2_isSound_4 4 rfl rfl)
theorem dX2_isSound_97 : decode cX2_isSound 97 = .ok (.aload_n 0, 1) := dk_42 (dk_at dksX2_isSound_4 5 rfl rfl)
theorem dX2_isSound_98 : decode cX2_isSound 98 = .ok (.getfield 14, 3) := dk_180 0 14 (dk_at dksX2_isSound_4 6 rfl rfl)
theorem dX2_isSound_101 : decode cX2_isSound 101 = .ok (.invokeinterface 20 1, 5) := by decide +kernel
theorem dX2_isSound_106 : decode cX2_isSound 106 = .ok (.if_icmp .ge 23, 3) := dk_162 0 23 (dk_at dksX2_isSound_4 14 rfl rfl)
theorem dX2_isSound_109 : decode cX2_isSound 109 = .ok (.aload_n 0, 1) := dk_42 (dk_at dksX2_isSound_4 17 rfl rfl)
theorem dX2_isSound_110 : decode cX2_isSound 110 = .ok (.iload_n 2, 1) := dk_28 (dk_at dksX2_isSound_4 18 rfl rfl)
theorem dX2_isSound_111 : decode cX2_isSound 111 = .ok (.invokevirtual 50, 3) := dk_182 0 50 (dk_at dksX2_isSound_4 19 rfl rfl)
theorem dX2_isSound_114 : decode cX2_isSound 114 = .ok (.ifCond .ne 7, 3) := dk_154 0 7 (dk_at dksX2_isSound_5 0 rfl rfl)
theorem dX2_isSound_117 : decode cX2_isSound 117 = .ok (.iconst 1, 1) := dk_4 (dk_at dksX2_isSound_5 3 rfl rfl)
theorem dX2_isSound_118 : decode cX2_isSound 118 = .ok (.goto 4, 3) := dk_167 0 4 (dk_at dksX2_isSound_5 4 rfl rfl)
theorem dX2_isSound_121 : decode cX2_isSound 121 = .ok (.iconst 0, 1) := dk_3 (dk_at dksX2_isSound_5 7 rfl rfl)
theorem dX2_isSound_122 : decode cX2_isSound 122 = .ok (.istore_n 1, 1) := dk_60 (dk_at dksX2_isSound_5 8 rfl rfl)
theorem dX2_isSound_123 : decode cX2_isSound 123 = .ok (.iinc 2 1, 3) := dk_132 2 1 (dk_at dksX2_isSound_5 9 rfl rfl)
theorem dX2_isSound_126 : decode cX2_isSound 126 = .ok (.goto (-34), 3) := dk_167 255 222 (dk_at dksX2_isSound_5 12 rfl rfl)
theorem dX2_isSound_129 : decode cX2_isSound 129 = .ok (.iload_n 1, 1) := dk_27 (dk_at dksX2_isSound_5 15 rfl rfl)
theorem dX2_isSound_130 : decode cX2_isSound 130 = .ok (.ireturn, 1) := dk_172 (dk_at dksX2_isSound_5 16 rfl rfl)
abbrev cX2_isThere : ByteArray := prog_5_method_2_code
def yX2_isThere : MethodName := ⟨RX2, "isThere", "(I)Z"⟩
def dkwX2_isThere_0 : List UInt8 := [27, 42, 180, 0, 14, 185, 0, 20, 1, 0, 162, 0, 7, 4, 167, 0, 4, 3, 172]
abbrev dktX2_isThere_0 : List UInt8 := dkwX2_isThere_0 ++ []
theorem dksX2_isThere_0 : cX2_isThere.data.toList.drop 0 = dktX2_isThere_0 := by decide +kernel
theorem dX2_isThere_0 : decode cX2_isThere 0 = .ok (.iload_n 1, 1) := dk_27 (dk_at dksX2_isThere_0 0 rfl rfl)
theorem dX2_isThere_1 : decode cX2_isThere 1 = .ok (.aload_n 0, 1) := dk_42 (dk_at dksX2_isThere_0 1 rfl rfl)
theorem dX2_isThere_2 : decode cX2_isThere 2 = .ok (.getfield 14, 3) := dk_180 0 14 (dk_at dksX2_isThere_0 2 rfl rfl)
theorem dX2_isThere_5 : decode cX2_isThere 5 = .ok (.invokeinterface 20 1, 5) := by decide +kernel
theorem dX2_isThere_10 : decode cX2_isThere 10 = .ok (.if_icmp .ge 7, 3) := dk_162 0 7 (dk_at dksX2_isThere_0 10 rfl rfl)
theorem dX2_isThere_13 : decode cX2_isThere 13 = .ok (.iconst 1, 1) := dk_4 (dk_at dksX2_isThere_0 13 rfl rfl)
theorem dX2_isThere_14 : decode cX2_isThere 14 = .ok (.goto 4, 3) := dk_167 0 4 (dk_at dksX2_isThere_0 14 rfl rfl)
theorem dX2_isThere_17 : decode cX2_isThere 17 = .ok (.iconst 0, 1) := dk_3 (dk_at dksX2_isThere_0 17 rfl rfl)
theorem dX2_isThere_18 : decode cX2_isThere 18 = .ok (.ireturn, 1) := dk_172 (dk_at dksX2_isThere_0 18 rfl rfl)
abbrev cX2_isCircle : ByteArray := prog_5_method_4_code
def yX2_isCircle : MethodName := ⟨RX2, "isCircle", "(I)Z"⟩
def dkwX2_isCircle_6 : List UInt8 := [185, 0, 65, 2, 0, 87, 132, 5, 1, 167, 255, 178, 167, 255, 137, 3, 172]
abbrev dktX2_isCircle_6 : List UInt8 := dkwX2_isCircle_6 ++ []
def dkwX2_isCircle_5 : List UInt8 := [44, 21, 6, 182, 0, 82, 154, 0, 21, 44, 21, 6, 182, 0, 84, 45, 21, 6, 184, 0, 59]
abbrev dktX2_isCircle_5 : List UInt8 := dkwX2_isCircle_5 ++ dktX2_isCircle_6
def dkwX2_isCircle_4 : List UInt8 := [167, 0, 8, 25, 4, 180, 0, 47, 54, 6, 21, 6, 27, 160, 0, 5, 4, 172, 21, 6, 2, 159, 0, 30]
abbrev dktX2_isCircle_4 : List UInt8 := dkwX2_isCircle_4 ++ dktX2_isCircle_5
def dkwX2_isCircle_3 : List UInt8 := [25, 4, 182, 0, 79, 153, 0, 76, 21, 5, 5, 162, 0, 70, 21, 5, 154, 0, 11, 25, 4, 180, 0, 39]
abbrev dktX2_isCircle_3 : List UInt8 := dkwX2_isCircle_3 ++ dktX2_isCircle_4
def dkwX2_isCircle_2 : List UInt8 := [185, 0, 72, 1, 0, 192, 0, 60, 182, 0, 76, 185, 0, 30, 2, 0, 192, 0, 34, 58, 4, 3, 54, 5]
abbrev dktX2_isCircle_2 : List UInt8 := dkwX2_isCircle_2 ++ dktX2_isCircle_3
def dkwX2_isCircle_1 : List UInt8 := [185, 0, 65, 2, 0, 87, 45, 185, 0, 71, 1, 0, 154, 0, 116, 42, 180, 0, 14, 45]
abbrev dktX2_isCircle_1 : List UInt8 := dkwX2_isCircle_1 ++ dktX2_isCircle_2
def dkwX2_isCircle_0 : List UInt8 := [187, 0, 53, 89, 183, 0, 55, 77, 187, 0, 56, 89, 183, 0, 58, 78, 45, 27, 184, 0, 59]
abbrev dktX2_isCircle_0 : List UInt8 := dkwX2_isCircle_0 ++ dktX2_isCircle_1
theorem dksX2_isCircle_0 : cX2_isCircle.data.toList.drop 0 = dktX2_isCircle_0 := by decide +kernel
theorem dksX2_isCircle_1 : cX2_isCircle.data.toList.drop 21 = dktX2_isCircle_1 := dk_seg dksX2_isCircle_0 21 rfl rfl
theorem dksX2_isCircle_2 : cX2_isCircle.data.toList.drop 41 = dktX2_isCircle_2 := dk_seg dksX2_isCircle_1 20 rfl rfl
theorem dksX2_isCircle_3 : cX2_isCircle.data.toList.drop 65 = dktX2_isCircle_3 := dk_seg dksX2_isCircle_2 24 rfl rfl
theorem dksX2_isCircle_4 : cX2_isCircle.data.toList.drop 89 = dktX2_isCircle_4 := dk_seg dksX2_isCircle_3 24 rfl rfl
theorem dksX2_isCircle_5 : cX2_isCircle.data.toList.drop 113 = dktX2_isCircle_5 := dk_seg dksX2_isCircle_4 24 rfl rfl
theorem dksX2_isCircle_6 : cX2_isCircle.data.toList.drop 134 = dktX2_isCircle_6 := dk_seg dksX2_isCircle_5 21 rfl rfl
theorem dX2_isCircle_0 : decode cX2_isCircle 0 = .ok (.new 53, 3) := dk_187 0 53 (dk_at dksX2_isCircle_0 0 rfl rfl)
theorem dX2_isCircle_3 : decode cX2_isCircle 3 = .ok (.dup, 1) := dk_89 (dk_at dksX2_isCircle_0 3 rfl rfl)
theorem dX2_isCircle_4 : decode cX2_isCircle 4 = .ok (.invokespecial 55, 3) := dk_183 0 55 (dk_at dksX2_isCircle_0 4 rfl rfl)
theorem dX2_isCircle_7 : decode cX2_isCircle 7 = .ok (.astore_n 2, 1) := dk_77 (dk_at dksX2_isCircle_0 7 rfl rfl)
theorem dX2_isCircle_8 : decode cX2_isCircle 8 = .ok (.new 56, 3) := dk_187 0 56 (dk_at dksX2_isCircle_0 8 rfl rfl)
theorem dX2_isCircle_11 : decode cX2_isCircle 11 = .ok (.dup, 1) := dk_89 (dk_at dksX2_isCircle_0 11 rfl rfl)
theorem dX2_isCircle_12 : decode cX2_isCircle 12 = .ok (.invokespecial 58, 3) := dk_183 0 58 (dk_at dksX2_isCircle_0 12 rfl rfl)
theorem dX2_isCircle_15 : decode cX2_isCircle 15 = .ok (.astore_n 3, 1) := dk_78 (dk_at dksX2_isCircle_0 15 rfl rfl)
theorem dX2_isCircle_16 : decode cX2_isCircle 16 = .ok (.aload_n 3, 1) := dk_45 (dk_at dksX2_isCircle_0 16 rfl rfl)
theorem dX2_isCircle_17 : decode cX2_isCircle 17 = .ok (.iload_n 1, 1) := dk_27 (dk_at dksX2_isCircle_0 17 rfl rfl)
theorem dX2_isCircle_18 : decode cX2_isCircle 18 = .ok (.invokestatic 59, 3) := dk_184 0 59 (dk_at dksX2_isCircle_0 18 rfl rfl)
theorem dX2_isCircle_21 : decode cX2_isCircle 21 = .ok (.invokeinterface 65 2, 5) := by decide +kernel
theorem dX2_isCircle_26 : decode cX2_isCircle 26 = .ok (.pop, 1) := dk_87 (dk_at dksX2_isCircle_1 5 rfl rfl)
theorem dX2_isCircle_27 : decode cX2_isCircle 27 = .ok (.aload_n 3, 1) := dk_45 (dk_at dksX2_isCircle_1 6 rfl rfl)
theorem dX2_isCircle_28 : decode cX2_isCircle 28 = .ok (.invokeinterface 71 1, 5) := by decide +kernel
theorem dX2_isCircle_33 : decode cX2_isCircle 33 = .ok (.ifCond .ne 116, 3) := dk_154 0 116 (dk_at dksX2_isCircle_1 12 rfl rfl)
theorem dX2_isCircle_36 : decode cX2_isCircle 36 = .ok (.aload_n 0, 1) := dk_42 (dk_at dksX2_isCircle_1 15 rfl rfl)
theorem dX2_isCircle_37 : decode cX2_isCircle 37 = .ok (.getfield 14, 3) := dk_180 0 14 (dk_at dksX2_isCircle_1 16 rfl rfl)
theorem dX2_isCircle_40 : decode cX2_isCircle 40 = .ok (.aload_n 3, 1) := dk_45 (dk_at dksX2_isCircle_1 19 rfl rfl)
theorem dX2_isCircle_41 : decode cX2_isCircle 41 = .ok (.invokeinterface 72 1, 5) := by decide +kernel
theorem dX2_isCircle_46 : decode cX2_isCircle 46 = .ok (.checkcast 60, 3) := dk_192 0 60 (dk_at dksX2_isCircle_2 5 rfl rfl)
theorem dX2_isCircle_49 : decode cX2_isCircle 49 = .ok (.invokevirtual 76, 3) := dk_182 0 76 (dk_at dksX2_isCircle_2 8 rfl rfl)
theorem dX2_isCircle_52 : decode cX2_isCircle 52 = .ok (.invokeinterface 30 2, 5) := by decide +kernel
theorem dX2_isCircle_57 : decode cX2_isCircle 57 = .ok (.checkcast 34, 3) := dk_192 0 34 (dk_at dksX2_isCircle_2 16 rfl rfl)
theorem dX2_isCircle_60 : decode cX2_isCircle 60 = .ok (.astore 4, 2) := dk_58 4 (dk_at dksX2_isCircle_2 19 rfl rfl)
theorem dX2_isCircle_62 : decode cX2_isCircle 62 = .ok (.iconst 0, 1) := dk_3 (dk_at dksX2_isCircle_2 21 rfl rfl)
theorem dX2_isCircle_63 : decode cX2_isCircle 63 = .ok (.istore 5, 2) := dk_54 5 (dk_at dksX2_isCircle_2 22 rfl rfl)
theorem dX2_isCircle_65 : decode cX2_isCircle 65 = .ok (.aload 4, 2) := dk_25 4 (dk_at dksX2_isCircle_3 0 rfl rfl)
theorem dX2_isCircle_67 : decode cX2_isCircle 67 = .ok (.invokevirtual 79, 3) := dk_182 0 79 (dk_at dksX2_isCircle_3 2 rfl rfl)
theorem dX2_isCircle_70 : decode cX2_isCircle 70 = .ok (.ifCond .eq 76, 3) := dk_153 0 76 (dk_at dksX2_isCircle_3 5 rfl rfl)
theorem dX2_isCircle_73 : decode cX2_isCircle 73 = .ok (.iload 5, 2) := dk_21 5 (dk_at dksX2_isCircle_3 8 rfl rfl)
theorem dX2_isCircle_75 : decode cX2_isCircle 75 = .ok (.iconst 2, 1) := dk_5 (dk_at dksX2_isCircle_3 10 rfl rfl)
theorem dX2_isCircle_76 : decode cX2_isCircle 76 = .ok (.if_icmp .ge 70, 3) := dk_162 0 70 (dk_at dksX2_isCircle_3 11 rfl rfl)
theorem dX2_isCircle_79 : decode cX2_isCircle 79 = .ok (.iload 5, 2) := dk_21 5 (dk_at dksX2_isCircle_3 14 rfl rfl)
theorem dX2_isCircle_81 : decode cX2_isCircle 81 = .ok (.ifCond .ne 11, 3) := dk_154 0 11 (dk_at dksX2_isCircle_3 16 rfl rfl)
theorem dX2_isCircle_84 : decode cX2_isCircle 84 = .ok (.aload 4, 2) := dk_25 4 (dk_at dksX2_isCircle_3 19 rfl rfl)
theorem dX2_isCircle_86 : decode cX2_isCircle 86 = .ok (.getfield 39, 3) := dk_180 0 39 (dk_at dksX2_isCircle_3 21 rfl rfl)
theorem dX2_isCircle_89 : decode cX2_isCircle 89 = .ok (.goto 8, 3) := dk_167 0 8 (dk_at dksX2_isCircle_4 0 rfl rfl)
theorem dX2_isCircle_92 : decode cX2_isCircle 92 = .ok (.aload 4, 2) := dk_25 4 (dk_at dksX2_isCircle_4 3 rfl rfl)
theorem dX2_isCircle_94 : decode cX2_isCircle 94 = .ok (.getfield 47, 3) := dk_180 0 47 (dk_at dksX2_isCircle_4 5 rfl rfl)
theorem dX2_isCircle_97 : decode cX2_isCircle 97 = .ok (.istore 6, 2) := dk_54 6 (dk_at dksX2_isCircle_4 8 rfl rfl)
theorem dX2_isCircle_99 : decode cX2_isCircle 99 = .ok (.iload 6, 2) := dk_21 6 (dk_at dksX2_isCircle_4 10 rfl rfl)
theorem dX2_isCircle_101 : decode cX2_isCircle 101 = .ok (.iload_n 1, 1) := dk_27 (dk_at dksX2_isCircle_4 12 rfl rfl)
theorem dX2_isCircle_102 : decode cX2_isCircle 102 = .ok (.if_icmp .ne 5, 3) := dk_160 0 5 (dk_at dksX2_isCircle_4 13 rfl rfl)
theorem dX2_isCircle_105 : decode cX2_isCircle 105 = .ok (.iconst 1, 1) := dk_4 (dk_at dksX2_isCircle_4 16 rfl rfl)
theorem dX2_isCircle_106 : decode cX2_isCircle 106 = .ok (.ireturn, 1) := dk_172 (dk_at dksX2_isCircle_4 17 rfl rfl)
theorem dX2_isCircle_107 : decode cX2_isCircle 107 = .ok (.iload 6, 2) := dk_21 6 (dk_at dksX2_isCircle_4 18 rfl rfl)
theorem dX2_isCircle_109 : decode cX2_isCircle 109 = .ok (.iconst (-1), 1) := dk_2 (dk_at dksX2_isCircle_4 20 rfl rfl)
theorem dX2_isCircle_110 : decode cX2_isCircle 110 = .ok (.if_icmp .eq 30, 3) := dk_159 0 30 (dk_at dksX2_isCircle_4 21 rfl rfl)
theorem dX2_isCircle_113 : decode cX2_isCircle 113 = .ok (.aload_n 2, 1) := dk_44 (dk_at dksX2_isCircle_5 0 rfl rfl)
theorem dX2_isCircle_114 : decode cX2_isCircle 114 = .ok (.iload 6, 2) := dk_21 6 (dk_at dksX2_isCircle_5 1 rfl rfl)
theorem dX2_isCircle_116 : decode cX2_isCircle 116 = .ok (.invokevirtual 82, 3) := dk_182 0 82 (dk_at dksX2_isCircle_5 3 rfl rfl)
theorem dX2_isCircle_119 : decode cX2_isCircle 119 = .ok (.ifCond .ne 21, 3) := dk_154 0 21 (dk_at dksX2_isCircle_5 6 rfl rfl)
theorem dX2_isCircle_122 : decode cX2_isCircle 122 = .ok (.aload_n 2, 1) := dk_44 (dk_at dksX2_isCircle_5 9 rfl rfl)
theorem dX2_isCircle_123 : decode cX2_isCircle 123 = .ok (.iload 6, 2) := dk_21 6 (dk_at dksX2_isCircle_5 10 rfl rfl)
theorem dX2_isCircle_125 : decode cX2_isCircle 125 = .ok (.invokevirtual 84, 3) := dk_182 0 84 (dk_at dksX2_isCircle_5 12 rfl rfl)
theorem dX2_isCircle_128 : decode cX2_isCircle 128 = .ok (.aload_n 3, 1) := dk_45 (dk_at dksX2_isCircle_5 15 rfl rfl)
theorem dX2_isCircle_129 : decode cX2_isCircle 129 = .ok (.iload 6, 2) := dk_21 6 (dk_at dksX2_isCircle_5 16 rfl rfl)
theorem dX2_isCircle_131 : decode cX2_isCircle 131 = .ok (.invokestatic 59, 3) := dk_184 0 59 (dk_at dksX2_isCircle_5 18 rfl rfl)
theorem dX2_isCircle_134 : decode cX2_isCircle 134 = .ok (.invokeinterface 65 2, 5) := by decide +kernel
theorem dX2_isCircle_139 : decode cX2_isCircle 139 = .ok (.pop, 1) := dk_87 (dk_at dksX2_isCircle_6 5 rfl rfl)
theorem dX2_isCircle_140 : decode cX2_isCircle 140 = .ok (.iinc 5 1, 3) := dk_132 5 1 (dk_at dksX2_isCircle_6 6 rfl rfl)
theorem dX2_isCircle_143 : decode cX2_isCircle 143 = .ok (.goto (-78), 3) := dk_167 255 178 (dk_at dksX2_isCircle_6 9 rfl rfl)
theorem dX2_isCircle_146 : decode cX2_isCircle 146 = .ok (.goto (-119), 3) := dk_167 255 137 (dk_at dksX2_isCircle_6 12 rfl rfl)
theorem dX2_isCircle_149 : decode cX2_isCircle 149 = .ok (.iconst 0, 1) := dk_3 (dk_at dksX2_isCircle_6 15 rfl rfl)
theorem dX2_isCircle_150 : decode cX2_isCircle 150 = .ok (.ireturn, 1) := dk_172 (dk_at dksX2_isCircle_6 16 rfl rfl)
abbrev cX2_weakest : ByteArray := prog_5_method_6_code
def yX2_weakest : MethodName := ⟨RX2, "weakest", "()I"⟩
def dkwX2_weakest_10 : List UInt8 := [182, 0, 87, 167, 255, 46, 29, 172]
abbrev dktX2_weakest_10 : List UInt8 := dkwX2_weakest_10 ++ []
def dkwX2_weakest_9 : List UInt8 := [25, 5, 180, 0, 39, 21, 6, 43, 44, 182, 0, 87, 42, 25, 5, 180, 0, 47, 21, 6, 43, 44]
abbrev dktX2_weakest_9 : List UInt8 := dkwX2_weakest_9 ++ dktX2_weakest_10
def dkwX2_weakest_8 : List UInt8 := [180, 0, 47, 21, 6, 43, 44, 182, 0, 87, 167, 0, 39, 25, 5, 180, 0, 95, 16, 6, 159, 0, 29, 42]
abbrev dktX2_weakest_8 : List UInt8 := dkwX2_weakest_8 ++ dktX2_weakest_9
def dkwX2_weakest_7 : List UInt8 := [160, 0, 37, 42, 21, 7, 25, 5, 180, 0, 98, 161, 0, 11, 25, 5, 180, 0, 39, 167, 0, 8, 25, 5]
abbrev dktX2_weakest_7 : List UInt8 := dkwX2_weakest_7 ++ dktX2_weakest_8
def dkwX2_weakest_6 : List UInt8 := [42, 25, 5, 180, 0, 47, 21, 6, 43, 44, 182, 0, 87, 167, 0, 82, 25, 5, 180, 0, 95, 7]
abbrev dktX2_weakest_6 : List UInt8 := dkwX2_weakest_6 ++ dktX2_weakest_7
def dkwX2_weakest_5 : List UInt8 := [154, 0, 40, 42, 25, 5, 180, 0, 39, 21, 6, 4, 25, 5, 180, 0, 98, 120, 128, 43, 44, 182, 0, 87]
abbrev dktX2_weakest_5 : List UInt8 := dkwX2_weakest_5 ++ dktX2_weakest_6
def dkwX2_weakest_4 : List UInt8 := [159, 0, 9, 21, 7, 29, 162, 0, 8, 21, 7, 167, 0, 4, 29, 62, 167, 0, 127, 25, 5, 180, 0, 95]
abbrev dktX2_weakest_4 : List UInt8 := dkwX2_weakest_4 ++ dktX2_weakest_5
def dkwX2_weakest_3 : List UInt8 := [16, 8, 112, 54, 6, 21, 6, 184, 0, 91, 54, 7, 25, 5, 180, 0, 95, 8, 160, 0, 24, 29, 2]
abbrev dktX2_weakest_3 : List UInt8 := dkwX2_weakest_3 ++ dktX2_weakest_4
def dkwX2_weakest_2 : List UInt8 := [54, 4, 42, 180, 0, 14, 21, 4, 16, 8, 108, 185, 0, 30, 2, 0, 192, 0, 34, 58, 5, 21, 4]
abbrev dktX2_weakest_2 : List UInt8 := dkwX2_weakest_2 ++ dktX2_weakest_3
def dkwX2_weakest_1 : List UInt8 := [2, 62, 44, 185, 0, 71, 1, 0, 154, 0, 207, 44, 185, 0, 72, 1, 0, 192, 0, 60, 182, 0, 76]
abbrev dktX2_weakest_1 : List UInt8 := dkwX2_weakest_1 ++ dktX2_weakest_2
def dkwX2_weakest_0 : List UInt8 := [187, 0, 53, 89, 183, 0, 55, 76, 187, 0, 56, 89, 183, 0, 58, 77, 42, 3, 3, 43, 44, 182, 0, 87]
abbrev dktX2_weakest_0 : List UInt8 := dkwX2_weakest_0 ++ dktX2_weakest_1
theorem dksX2_weakest_0 : cX2_weakest.data.toList.drop 0 = dktX2_weakest_0 := by decide +kernel
theorem dksX2_weakest_1 : cX2_weakest.data.toList.drop 24 = dktX2_weakest_1 := dk_seg dksX2_weakest_0 24 rfl rfl
theorem dksX2_weakest_2 : cX2_weakest.data.toList.drop 47 = dktX2_weakest_2 := dk_seg dksX2_weakest_1 23 rfl rfl
theorem dksX2_weakest_3 : cX2_weakest.data.toList.drop 70 = dktX2_weakest_3 := dk_seg dksX2_weakest_2 23 rfl rfl
theorem dksX2_weakest_4 : cX2_weakest.data.toList.drop 93 = dktX2_weakest_4 := dk_seg dksX2_weakest_3 23 rfl rfl
theorem dksX2_weakest_5 : cX2_weakest.data.toList.drop 117 = dktX2_weakest_5 := dk_seg dksX2_weakest_4 24 rfl rfl
theorem dksX2_weakest_6 : cX2_weakest.data.toList.drop 141 = dktX2_weakest_6 := dk_seg dksX2_weakest_5 24 rfl rfl
theorem dksX2_weakest_7 : cX2_weakest.data.toList.drop 163 = dktX2_weakest_7 := dk_seg dksX2_weakest_6 22 rfl rfl
theorem dksX2_weakest_8 : cX2_weakest.data.toList.drop 187 = dktX2_weakest_8 := dk_seg dksX2_weakest_7 24 rfl rfl
theorem dksX2_weakest_9 : cX2_weakest.data.toList.drop 211 = dktX2_weakest_9 := dk_seg dksX2_weakest_8 24 rfl rfl
theorem dksX2_weakest_10 : cX2_weakest.data.toList.drop 233 = dktX2_weakest_10 := dk_seg dksX2_weakest_9 22 rfl rfl
theorem dX2_weakest_0 : decode cX2_weakest 0 = .ok (.new 53, 3) := dk_187 0 53 (dk_at dksX2_weakest_0 0 rfl rfl)
theorem dX2_weakest_3 : decode cX2_weakest 3 = .ok (.dup, 1) := dk_89 (dk_at dksX2_weakest_0 3 rfl rfl)
theorem dX2_weakest_4 : decode cX2_weakest 4 = .ok (.invokespecial 55, 3) := dk_183 0 55 (dk_at dksX2_weakest_0 4 rfl rfl)
theorem dX2_weakest_7 : decode cX2_weakest 7 = .ok (.astore_n 1, 1) := dk_76 (dk_at dksX2_weakest_0 7 rfl rfl)
theorem dX2_weakest_8 : decode cX2_weakest 8 = .ok (.new 56, 3) := dk_187 0 56 (dk_at dksX2_weakest_0 8 rfl rfl)
theorem dX2_weakest_11 : decode cX2_weakest 11 = .ok (.dup, 1) := dk_89 (dk_at dksX2_weakest_0 11 rfl rfl)
theorem dX2_weakest_12 : decode cX2_weakest 12 = .ok (.invokespecial 58, 3) := dk_183 0 58 (dk_at dksX2_weakest_0 12 rfl rfl)
theorem dX2_weakest_15 : decode cX2_weakest 15 = .ok (.astore_n 2, 1) := dk_77 (dk_at dksX2_weakest_0 15 rfl rfl)
theorem dX2_weakest_16 : decode cX2_weakest 16 = .ok (.aload_n 0, 1) := dk_42 (dk_at dksX2_weakest_0 16 rfl rfl)
theorem dX2_weakest_17 : decode cX2_weakest 17 = .ok (.iconst 0, 1) := dk_3 (dk_at dksX2_weakest_0 17 rfl rfl)
theorem dX2_weakest_18 : decode cX2_weakest 18 = .ok (.iconst 0, 1) := dk_3 (dk_at dksX2_weakest_0 18 rfl rfl)
theorem dX2_weakest_19 : decode cX2_weakest 19 = .ok (.aload_n 1, 1) := dk_43 (dk_at dksX2_weakest_0 19 rfl rfl)
theorem dX2_weakest_20 : decode cX2_weakest 20 = .ok (.aload_n 2, 1) := dk_44 (dk_at dksX2_weakest_0 20 rfl rfl)
theorem dX2_weakest_21 : decode cX2_weakest 21 = .ok (.invokevirtual 87, 3) := dk_182 0 87 (dk_at dksX2_weakest_0 21 rfl rfl)
theorem dX2_weakest_24 : decode cX2_weakest 24 = .ok (.iconst (-1), 1) := dk_2 (dk_at dksX2_weakest_1 0 rfl rfl)
theorem dX2_weakest_25 : decode cX2_weakest 25 = .ok (.istore_n 3, 1) := dk_62 (dk_at dksX2_weakest_1 1 rfl rfl)
theorem dX2_weakest_26 : decode cX2_weakest 26 = .ok (.aload_n 2, 1) := dk_44 (dk_at dksX2_weakest_1 2 rfl rfl)
theorem dX2_weakest_27 : decode cX2_weakest 27 = .ok (.invokeinterface 71 1, 5) := by decide +kernel
theorem dX2_weakest_32 : decode cX2_weakest 32 = .ok (.ifCond .ne 207, 3) := dk_154 0 207 (dk_at dksX2_weakest_1 8 rfl rfl)
theorem dX2_weakest_35 : decode cX2_weakest 35 = .ok (.aload_n 2, 1) := dk_44 (dk_at dksX2_weakest_1 11 rfl rfl)
theorem dX2_weakest_36 : decode cX2_weakest 36 = .ok (.invokeinterface 72 1, 5) := by decide +kernel
theorem dX2_weakest_41 : decode cX2_weakest 41 = .ok (.checkcast 60, 3) := dk_192 0 60 (dk_at dksX2_weakest_1 17 rfl rfl)
theorem dX2_weakest_44 : decode cX2_weakest 44 = .ok (.invokevirtual 76, 3) := dk_182 0 76 (dk_at dksX2_weakest_1 20 rfl rfl)
theorem dX2_weakest_47 : decode cX2_weakest 47 = .ok (.istore 4, 2) := dk_54 4 (dk_at dksX2_weakest_2 0 rfl rfl)
theorem dX2_weakest_49 : decode cX2_weakest 49 = .ok (.aload_n 0, 1) := dk_42 (dk_at dksX2_weakest_2 2 rfl rfl)
theorem dX2_weakest_50 : decode cX2_weakest 50 = .ok (.getfield 14, 3) := dk_180 0 14 (dk_at dksX2_weakest_2 3 rfl rfl)
theorem dX2_weakest_53 : decode cX2_weakest 53 = .ok (.iload 4, 2) := dk_21 4 (dk_at dksX2_weakest_2 6 rfl rfl)
theorem dX2_weakest_55 : decode cX2_weakest 55 = .ok (.bipush 8, 2) := dk_16 8 (dk_at dksX2_weakest_2 8 rfl rfl)
theorem dX2_weakest_57 : decode cX2_weakest 57 = .ok (.idiv, 1) := dk_108 (dk_at dksX2_weakest_2 10 rfl rfl)
theorem dX2_weakest_58 : decode cX2_weakest 58 = .ok (.invokeinterface 30 2, 5) := by decide +kernel
theorem dX2_weakest_63 : decode cX2_weakest 63 = .ok (.checkcast 34, 3) := dk_192 0 34 (dk_at dksX2_weakest_2 16 rfl rfl)
theorem dX2_weakest_66 : decode cX2_weakest 66 = .ok (.astore 5, 2) := dk_58 5 (dk_at dksX2_weakest_2 19 rfl rfl)
theorem dX2_weakest_68 : decode cX2_weakest 68 = .ok (.iload 4, 2) := dk_21 4 (dk_at dksX2_weakest_2 21 rfl rfl)
theorem dX2_weakest_70 : decode cX2_weakest 70 = .ok (.bipush 8, 2) := dk_16 8 (dk_at dksX2_weakest_3 0 rfl rfl)
theorem dX2_weakest_72 : decode cX2_weakest 72 = .ok (.irem, 1) := dk_112 (dk_at dksX2_weakest_3 2 rfl rfl)
theorem dX2_weakest_73 : decode cX2_weakest 73 = .ok (.istore 6, 2) := dk_54 6 (dk_at dksX2_weakest_3 3 rfl rfl)
theorem dX2_weakest_75 : decode cX2_weakest 75 = .ok (.iload 6, 2) := dk_21 6 (dk_at dksX2_weakest_3 5 rfl rfl)
theorem dX2_weakest_77 : decode cX2_weakest 77 = .ok (.invokestatic 91, 3) := dk_184 0 91 (dk_at dksX2_weakest_3 7 rfl rfl)
theorem dX2_weakest_80 : decode cX2_weakest 80 = .ok (.istore 7, 2) := dk_54 7 (dk_at dksX2_weakest_3 10 rfl rfl)
theorem dX2_weakest_82 : decode cX2_weakest 82 = .ok (.aload 5, 2) := dk_25 5 (dk_at dksX2_weakest_3 12 rfl rfl)
theorem dX2_weakest_84 : decode cX2_weakest 84 = .ok (.getfield 95, 3) := dk_180 0 95 (dk_at dksX2_weakest_3 14 rfl rfl)
theorem dX2_weakest_87 : decode cX2_weakest 87 = .ok (.iconst 5, 1) := dk_8 (dk_at dksX2_weakest_3 17 rfl rfl)
theorem dX2_weakest_88 : decode cX2_weakest 88 = .ok (.if_icmp .ne 24, 3) := dk_160 0 24 (dk_at dksX2_weakest_3 18 rfl rfl)
theorem dX2_weakest_91 : decode cX2_weakest 91 = .ok (.iload_n 3, 1) := dk_29 (dk_at dksX2_weakest_3 21 rfl rfl)
theorem dX2_weakest_92 : decode cX2_weakest 92 = .ok (.iconst (-1), 1) := dk_2 (dk_at dksX2_weakest_3 22 rfl rfl)
theorem dX2_weakest_93 : decode cX2_weakest 93 = .ok (.if_icmp .eq 9, 3) := dk_159 0 9 (dk_at dksX2_weakest_4 0 rfl rfl)
theorem dX2_weakest_96 : decode cX2_weakest 96 = .ok (.iload 7, 2) := dk_21 7 (dk_at dksX2_weakest_4 3 rfl rfl)
theorem dX2_weakest_98 : decode cX2_weakest 98 = .ok (.iload_n 3, 1) := dk_29 (dk_at dksX2_weakest_4 5 rfl rfl)
theorem dX2_weakest_99 : decode cX2_weakest 99 = .ok (.if_icmp .ge 8, 3) := dk_162 0 8 (dk_at dksX2_weakest_4 6 rfl rfl)
theorem dX2_weakest_102 : decode cX2_weakest 102 = .ok (.iload 7, 2) := dk_21 7 (dk_at dksX2_weakest_4 9 rfl rfl)
theorem dX2_weakest_104 : decode cX2_weakest 104 = .ok (.goto 4, 3) := dk_167 0 4 (dk_at dksX2_weakest_4 11 rfl rfl)
theorem dX2_weakest_107 : decode cX2_weakest 107 = .ok (.iload_n 3, 1) := dk_29 (dk_at dksX2_weakest_4 14 rfl rfl)
theorem dX2_weakest_108 : decode cX2_weakest 108 = .ok (.istore_n 3, 1) := dk_62 (dk_at dksX2_weakest_4 15 rfl rfl)
theorem dX2_weakest_109 : decode cX2_weakest 109 = .ok (.goto 127, 3) := dk_167 0 127 (dk_at dksX2_weakest_4 16 rfl rfl)
theorem dX2_weakest_112 : decode cX2_weakest 112 = .ok (.aload 5, 2) := dk_25 5 (dk_at dksX2_weakest_4 19 rfl rfl)
theorem dX2_weakest_114 : decode cX2_weakest 114 = .ok (.getfield 95, 3) := dk_180 0 95 (dk_at dksX2_weakest_4 21 rfl rfl)
theorem dX2_weakest_117 : decode cX2_weakest 117 = .ok (.ifCond .ne 40, 3) := dk_154 0 40 (dk_at dksX2_weakest_5 0 rfl rfl)
theorem dX2_weakest_120 : decode cX2_weakest 120 = .ok (.aload_n 0, 1) := dk_42 (dk_at dksX2_weakest_5 3 rfl rfl)
theorem dX2_weakest_121 : decode cX2_weakest 121 = .ok (.aload 5, 2) := dk_25 5 (dk_at dksX2_weakest_5 4 rfl rfl)
theorem dX2_weakest_123 : decode cX2_weakest 123 = .ok (.getfield 39, 3) := dk_180 0 39 (dk_at dksX2_weakest_5 6 rfl rfl)
theorem dX2_weakest_126 : decode cX2_weakest 126 = .ok (.iload 6, 2) := dk_21 6 (dk_at dksX2_weakest_5 9 rfl rfl)
theorem dX2_weakest_128 : decode cX2_weakest 128 = .ok (.iconst 1, 1) := dk_4 (dk_at dksX2_weakest_5 11 rfl rfl)
theorem dX2_weakest_129 : decode cX2_weakest 129 = .ok (.aload 5, 2) := dk_25 5 (dk_at dksX2_weakest_5 12 rfl rfl)
theorem dX2_weakest_131 : decode cX2_weakest 131 = .ok (.getfield 98, 3) := dk_180 0 98 (dk_at dksX2_weakest_5 14 rfl rfl)
theorem dX2_weakest_134 : decode cX2_weakest 134 = .ok (.ishl, 1) := dk_120 (dk_at dksX2_weakest_5 17 rfl rfl)
theorem dX2_weakest_135 : decode cX2_weakest 135 = .ok (.ior, 1) := dk_128 (dk_at dksX2_weakest_5 18 rfl rfl)
theorem dX2_weakest_136 : decode cX2_weakest 136 = .ok (.aload_n 1, 1) := dk_43 (dk_at dksX2_weakest_5 19 rfl rfl)
theorem dX2_weakest_137 : decode cX2_weakest 137 = .ok (.aload_n 2, 1) := dk_44 (dk_at dksX2_weakest_5 20 rfl rfl)
theorem dX2_weakest_138 : decode cX2_weakest 138 = .ok (.invokevirtual 87, 3) := dk_182 0 87 (dk_at dksX2_weakest_5 21 rfl rfl)
theorem dX2_weakest_141 : decode cX2_weakest 141 = .ok (.aload_n 0, 1) := dk_42 (dk_at dksX2_weakest_6 0 rfl rfl)
theorem dX2_weakest_142 : decode cX2_weakest 142 = .ok (.aload 5, 2) := dk_25 5 (dk_at dksX2_weakest_6 1 rfl rfl)
theorem dX2_weakest_144 : decode cX2_weakest 144 = .ok (.getfield 47, 3) := dk_180 0 47 (dk_at dksX2_weakest_6 3 rfl rfl)
theorem dX2_weakest_147 : decode cX2_weakest 147 = .ok (.iload 6, 2) := dk_21 6 (dk_at dksX2_weakest_6 6 rfl rfl)
theorem dX2_weakest_149 : decode cX2_weakest 149 = .ok (.aload_n 1, 1) := dk_43 (dk_at dksX2_weakest_6 8 rfl rfl)
theorem dX2_weakest_150 : decode cX2_weakest 150 = .ok (.aload_n 2, 1) := dk_44 (dk_at dksX2_weakest_6 9 rfl rfl)
theorem dX2_weakest_151 : decode cX2_weakest 151 = .ok (.invokevirtual 87, 3) := dk_182 0 87 (dk_at dksX2_weakest_6 10 rfl rfl)
theorem dX2_weakest_154 : decode cX2_weakest 154 = .ok (.goto 82, 3) := dk_167 0 82 (dk_at dksX2_weakest_6 13 rfl rfl)
theorem dX2_weakest_157 : decode cX2_weakest 157 = .ok (.aload 5, 2) := dk_25 5 (dk_at dksX2_weakest_6 16 rfl rfl)
theorem dX2_weakest_159 : decode cX2_weakest 159 = .ok (.getfield 95, 3) := dk_180 0 95 (dk_at dksX2_weakest_6 18 rfl rfl)
theorem dX2_weakest_162 : decode cX2_weakest 162 = .ok (.iconst 4, 1) := dk_7 (dk_at dksX2_weakest_6 21 rfl rfl)
theorem dX2_weakest_163 : decode cX2_weakest 163 = .ok (.if_icmp .ne 37, 3) := dk_160 0 37 (dk_at dksX2_weakest_7 0 rfl rfl)
theorem dX2_weakest_166 : decode cX2_weakest 166 = .ok (.aload_n 0, 1) := dk_42 (dk_at dksX2_weakest_7 3 rfl rfl)
theorem dX2_weakest_167 : decode cX2_weakest 167 = .ok (.iload 7, 2) := dk_21 7 (dk_at dksX2_weakest_7 4 rfl rfl)
theorem dX2_weakest_169 : decode cX2_weakest 169 = .ok (.aload 5, 2) := dk_25 5 (dk_at dksX2_weakest_7 6 rfl rfl)
theorem dX2_weakest_171 : decode cX2_weakest 171 = .ok (.getfield 98, 3) := dk_180 0 98 (dk_at dksX2_weakest_7 8 rfl rfl)
theorem dX2_weakest_174 : decode cX2_weakest 174 = .ok (.if_icmp .lt 11, 3) := dk_161 0 11 (dk_at dksX2_weakest_7 11 rfl rfl)
theorem dX2_weakest_177 : decode cX2_weakest 177 = .ok (.aload 5, 2) := dk_25 5 (dk_at dksX2_weakest_7 14 rfl rfl)
theorem dX2_weakest_179 : decode cX2_weakest 179 = .ok (.getfield 39, 3) := dk_180 0 39 (dk_at dksX2_weakest_7 16 rfl rfl)
theorem dX2_weakest_182 : decode cX2_weakest 182 = .ok (.goto 8, 3) := dk_167 0 8 (dk_at dksX2_weakest_7 19 rfl rfl)
theorem dX2_weakest_185 : decode cX2_weakest 185 = .ok (.aload 5, 2) := dk_25 5 (dk_at dksX2_weakest_7 22 rfl rfl)
theorem dX2_weakest_187 : decode cX2_weakest 187 = .ok (.getfield 47, 3) := dk_180 0 47 (dk_at dksX2_weakest_8 0 rfl rfl)
theorem dX2_weakest_190 : decode cX2_weakest 190 = .ok (.iload 6, 2) := dk_21 6 (dk_at dksX2_weakest_8 3 rfl rfl)
theorem dX2_weakest_192 : decode cX2_weakest 192 = .ok (.aload_n 1, 1) := dk_43 (dk_at dksX2_weakest_8 5 rfl rfl)
theorem dX2_weakest_193 : decode cX2_weakest 193 = .ok (.aload_n 2, 1) := dk_44 (dk_at dksX2_weakest_8 6 rfl rfl)
theorem dX2_weakest_194 : decode cX2_weakest 194 = .ok (.invokevirtual 87, 3) := dk_182 0 87 (dk_at dksX2_weakest_8 7 rfl rfl)
theorem dX2_weakest_197 : decode cX2_weakest 197 = .ok (.goto 39, 3) := dk_167 0 39 (dk_at dksX2_weakest_8 10 rfl rfl)
theorem dX2_weakest_200 : decode cX2_weakest 200 = .ok (.aload 5, 2) := dk_25 5 (dk_at dksX2_weakest_8 13 rfl rfl)
theorem dX2_weakest_202 : decode cX2_weakest 202 = .ok (.getfield 95, 3) := dk_180 0 95 (dk_at dksX2_weakest_8 15 rfl rfl)
theorem dX2_weakest_205 : decode cX2_weakest 205 = .ok (.bipush 6, 2) := dk_16 6 (dk_at dksX2_weakest_8 18 rfl rfl)
theorem dX2_weakest_207 : decode cX2_weakest 207 = .ok (.if_icmp .eq 29, 3) := dk_159 0 29 (dk_at dksX2_weakest_8 20 rfl rfl)
theorem dX2_weakest_210 : decode cX2_weakest 210 = .ok (.aload_n 0, 1) := dk_42 (dk_at dksX2_weakest_8 23 rfl rfl)
theorem dX2_weakest_211 : decode cX2_weakest 211 = .ok (.aload 5, 2) := dk_25 5 (dk_at dksX2_weakest_9 0 rfl rfl)
theorem dX2_weakest_213 : decode cX2_weakest 213 = .ok (.getfield 39, 3) := dk_180 0 39 (dk_at dksX2_weakest_9 2 rfl rfl)
theorem dX2_weakest_216 : decode cX2_weakest 216 = .ok (.iload 6, 2) := dk_21 6 (dk_at dksX2_weakest_9 5 rfl rfl)
theorem dX2_weakest_218 : decode cX2_weakest 218 = .ok (.aload_n 1, 1) := dk_43 (dk_at dksX2_weakest_9 7 rfl rfl)
theorem dX2_weakest_219 : decode cX2_weakest 219 = .ok (.aload_n 2, 1) := dk_44 (dk_at dksX2_weakest_9 8 rfl rfl)
theorem dX2_weakest_220 : decode cX2_weakest 220 = .ok (.invokevirtual 87, 3) := dk_182 0 87 (dk_at dksX2_weakest_9 9 rfl rfl)
theorem dX2_weakest_223 : decode cX2_weakest 223 = .ok (.aload_n 0, 1) := dk_42 (dk_at dksX2_weakest_9 12 rfl rfl)
theorem dX2_weakest_224 : decode cX2_weakest 224 = .ok (.aload 5, 2) := dk_25 5 (dk_at dksX2_weakest_9 13 rfl rfl)
theorem dX2_weakest_226 : decode cX2_weakest 226 = .ok (.getfield 47, 3) := dk_180 0 47 (dk_at dksX2_weakest_9 15 rfl rfl)
theorem dX2_weakest_229 : decode cX2_weakest 229 = .ok (.iload 6, 2) := dk_21 6 (dk_at dksX2_weakest_9 18 rfl rfl)
theorem dX2_weakest_231 : decode cX2_weakest 231 = .ok (.aload_n 1, 1) := dk_43 (dk_at dksX2_weakest_9 20 rfl rfl)
theorem dX2_weakest_232 : decode cX2_weakest 232 = .ok (.aload_n 2, 1) := dk_44 (dk_at dksX2_weakest_9 21 rfl rfl)
theorem dX2_weakest_233 : decode cX2_weakest 233 = .ok (.invokevirtual 87, 3) := dk_182 0 87 (dk_at dksX2_weakest_10 0 rfl rfl)
theorem dX2_weakest_236 : decode cX2_weakest 236 = .ok (.goto (-210), 3) := dk_167 255 46 (dk_at dksX2_weakest_10 3 rfl rfl)
theorem dX2_weakest_239 : decode cX2_weakest 239 = .ok (.iload_n 3, 1) := dk_29 (dk_at dksX2_weakest_10 6 rfl rfl)
theorem dX2_weakest_240 : decode cX2_weakest 240 = .ok (.ireturn, 1) := dk_172 (dk_at dksX2_weakest_10 7 rfl rfl)
abbrev cX2_go : ByteArray := prog_5_method_5_code
def yX2_go : MethodName := ⟨RX2, "go", "(IILjava/util/BitSet;Ljava/util/Deque;)V"⟩
def dkwX2_go_2 : List UInt8 := [185, 0, 65, 2, 0, 87, 177]
abbrev dktX2_go_2 : List UInt8 := dkwX2_go_2 ++ []
def dkwX2_go_1 : List UInt8 := [21, 5, 182, 0, 82, 154, 0, 22, 45, 21, 5, 182, 0, 84, 25, 4, 21, 5, 184, 0, 59]
abbrev dktX2_go_1 : List UInt8 := dkwX2_go_1 ++ dktX2_go_2
def dkwX2_go_0 : List UInt8 := [27, 2, 160, 0, 7, 2, 167, 0, 9, 16, 8, 27, 104, 28, 96, 54, 5, 21, 5, 2, 159, 0, 31, 45]
abbrev dktX2_go_0 : List UInt8 := dkwX2_go_0 ++ dktX2_go_1
theorem dksX2_go_0 : cX2_go.data.toList.drop 0 = dktX2_go_0 := by decide +kernel
theorem dksX2_go_1 : cX2_go.data.toList.drop 24 = dktX2_go_1 := dk_seg dksX2_go_0 24 rfl rfl
theorem dksX2_go_2 : cX2_go.data.toList.drop 45 = dktX2_go_2 := dk_seg dksX2_go_1 21 rfl rfl
theorem dX2_go_0 : decode cX2_go 0 = .ok (.iload_n 1, 1) := dk_27 (dk_at dksX2_go_0 0 rfl rfl)
theorem dX2_go_1 : decode cX2_go 1 = .ok (.iconst (-1), 1) := dk_2 (dk_at dksX2_go_0 1 rfl rfl)
theorem dX2_go_2 : decode cX2_go 2 = .ok (.if_icmp .ne 7, 3) := dk_160 0 7 (dk_at dksX2_go_0 2 rfl rfl)
theorem dX2_go_5 : decode cX2_go 5 = .ok (.iconst (-1), 1) := dk_2 (dk_at dksX2_go_0 5 rfl rfl)
theorem dX2_go_6 : decode cX2_go 6 = .ok (.goto 9, 3) := dk_167 0 9 (dk_at dksX2_go_0 6 rfl rfl)
theorem dX2_go_9 : decode cX2_go 9 = .ok (.bipush 8, 2) := dk_16 8 (dk_at dksX2_go_0 9 rfl rfl)
theorem dX2_go_11 : decode cX2_go 11 = .ok (.iload_n 1, 1) := dk_27 (dk_at dksX2_go_0 11 rfl rfl)
theorem dX2_go_12 : decode cX2_go 12 = .ok (.imul, 1) := dk_104 (dk_at dksX2_go_0 12 rfl rfl)
theorem dX2_go_13 : decode cX2_go 13 = .ok (.iload_n 2, 1) := dk_28 (dk_at dksX2_go_0 13 rfl rfl)
theorem dX2_go_14 : decode cX2_go 14 = .ok (.iadd, 1) := dk_96 (dk_at dksX2_go_0 14 rfl rfl)
theorem dX2_go_15 : decode cX2_go 15 = .ok (.istore 5, 2) := dk_54 5 (dk_at dksX2_go_0 15 rfl rfl)
theorem dX2_go_17 : decode cX2_go 17 = .ok (.iload 5, 2) := dk_21 5 (dk_at dksX2_go_0 17 rfl rfl)
theorem dX2_go_19 : decode cX2_go 19 = .ok (.iconst (-1), 1) := dk_2 (dk_at dksX2_go_0 19 rfl rfl)
theorem dX2_go_20 : decode cX2_go 20 = .ok (.if_icmp .eq 31, 3) := dk_159 0 31 (dk_at dksX2_go_0 20 rfl rfl)
theorem dX2_go_23 : decode cX2_go 23 = .ok (.aload_n 3, 1) := dk_45 (dk_at dksX2_go_0 23 rfl rfl)
theorem dX2_go_24 : decode cX2_go 24 = .ok (.iload 5, 2) := dk_21 5 (dk_at dksX2_go_1 0 rfl rfl)
theorem dX2_go_26 : decode cX2_go 26 = .ok (.invokevirtual 82, 3) := dk_182 0 82 (dk_at dksX2_go_1 2 rfl rfl)
theorem dX2_go_29 : decode cX2_go 29 = .ok (.ifCond .ne 22, 3) := dk_154 0 22 (dk_at dksX2_go_1 5 rfl rfl)
theorem dX2_go_32 : decode cX2_go 32 = .ok (.aload_n 3, 1) := dk_45 (dk_at dksX2_go_1 8 rfl rfl)
theorem dX2_go_33 : decode cX2_go 33 = .ok (.iload 5, 2) := dk_21 5 (dk_at dksX2_go_1 9 rfl rfl)
theorem dX2_go_35 : decode cX2_go 35 = .ok (.invokevirtual 84, 3) := dk_182 0 84 (dk_at dksX2_go_1 11 rfl rfl)
theorem dX2_go_38 : decode cX2_go 38 = .ok (.aload 4, 2) := dk_25 4 (dk_at dksX2_go_1 14 rfl rfl)
theorem dX2_go_40 : decode cX2_go 40 = .ok (.iload 5, 2) := dk_21 5 (dk_at dksX2_go_1 16 rfl rfl)
theorem dX2_go_42 : decode cX2_go 42 = .ok (.invokestatic 59, 3) := dk_184 0 59 (dk_at dksX2_go_1 18 rfl rfl)
theorem dX2_go_45 : decode cX2_go 45 = .ok (.invokeinterface 65 2, 5) := by decide +kernel
theorem dX2_go_50 : decode cX2_go 50 = .ok (.pop, 1) := dk_87 (dk_at dksX2_go_2 5 rfl rfl)
theorem dX2_go_51 : decode cX2_go 51 = .ok (.return_, 1) := dk_177 (dk_at dksX2_go_2 6 rfl rfl)
theorem q72 : (Jvm.Cond.initialized "KeyringCourt$Flow") ∈ lw_all := lw_g (lw_at lw_m1 2 rfl) rfl
theorem q133 : (Jvm.Cond.instantiable "KeyringCourt$Flow" (1 : Nat)) ∈ lw_all := lw_g (lw_at lw_m1 63 rfl) rfl
theorem q135 : (Jvm.Cond.instanceMethod ({ cls := "KeyringCourt$Flow", name := "<init>", desc := "()V" } : Jvm.MethodName)) ∈ lw_all := lw_g (lw_at lw_m1 65 rfl) rfl
theorem q136 : (Jvm.Cond.code ({ cls := "KeyringCourt$Flow", name := "<init>", desc := "()V" } : Jvm.MethodName) prog_5_method_1_code (1 : Nat) (Option.none : Option Jvm.ClassFile.FieldType)) ∈ lw_all := lw_g (lw_at lw_m1 66 rfl) rfl
theorem q137 : (Jvm.Cond.methodLink "KeyringCourt$Flow" (3 : Nat) ({ cls := "java/lang/Object", name := "<init>", desc := "()V" } : Jvm.MethodName)) ∈ lw_all := lw_g (lw_at lw_m1 67 rfl) rfl
theorem q138 : (Jvm.Cond.classLink "KeyringCourt$Flow" (9 : Nat) "java/util/ArrayList") ∈ lw_all := lw_g (lw_at lw_m1 68 rfl) rfl
theorem q140 : (Jvm.Cond.methodLink "KeyringCourt$Flow" (11 : Nat) ({ cls := "java/util/ArrayList", name := "<init>", desc := "(I)V" } : Jvm.MethodName)) ∈ lw_all := lw_g (lw_at lw_m1 70 rfl) rfl
theorem q488 : (Jvm.Cond.fieldLink "KeyringCourt$Flow" (14 : Nat) "KeyringCourt$Flow" "steps" "Ljava/util/List;") ∈ lw_all := lw_g (lw_at lw_m2 178 rfl) rfl
theorem q491 : (Jvm.Cond.laysFinal "KeyringCourt$Flow" "KeyringCourt$Flow" "steps" "Ljava/util/List;") ∈ lw_all := lw_g (lw_at lw_m2 181 rfl) rfl
theorem q492 : (Jvm.Cond.soleField "KeyringCourt$Flow" "steps") ∈ lw_all := lw_g (lw_at lw_m2 182 rfl) rfl
theorem q493 : (Jvm.Cond.superclass "KeyringCourt$Flow" "java/lang/Object") ∈ lw_all := lw_g (lw_at lw_m2 183 rfl) rfl
theorem q901 : (Jvm.Cond.selects "KeyringCourt$Flow" ({ cls := "java/lang/Object", name := "getClass", desc := "()Ljava/lang/Class;" } : Jvm.MethodName) ({ cls := "java/lang/Object", name := "getClass", desc := "()Ljava/lang/Class;" } : Jvm.MethodName)) ∈ lw_all := lw_g (lw_at lw_m4 111 rfl) rfl
theorem q1146 : (Jvm.Cond.fieldLink "KeyringCourt$Flow" (95 : Nat) "KeyringCourt$Step" "kind" "I") ∈ lw_all := lw_g (lw_at lw_m5 116 rfl) rfl
theorem q1149 : (Jvm.Cond.fieldLink "KeyringCourt$Flow" (98 : Nat) "KeyringCourt$Step" "a" "I") ∈ lw_all := lw_g (lw_at lw_m5 119 rfl) rfl
theorem q1153 : (Jvm.Cond.fieldLink "KeyringCourt$Flow" (39 : Nat) "KeyringCourt$Step" "yes" "I") ∈ lw_all := lw_g (lw_at lw_m5 123 rfl) rfl
theorem q1156 : (Jvm.Cond.fieldLink "KeyringCourt$Flow" (47 : Nat) "KeyringCourt$Step" "no" "I") ∈ lw_all := lw_g (lw_at lw_m5 126 rfl) rfl
theorem q1177 : (Jvm.Cond.instanceMethod ({ cls := "KeyringCourt$Flow", name := "isSound", desc := "()Z" } : Jvm.MethodName)) ∈ lw_all := lw_g (lw_at lw_m5 147 rfl) rfl
theorem q1178 : (Jvm.Cond.selects "KeyringCourt$Flow" ({ cls := "KeyringCourt$Flow", name := "isSound", desc := "()Z" } : Jvm.MethodName) ({ cls := "KeyringCourt$Flow", name := "isSound", desc := "()Z" } : Jvm.MethodName)) ∈ lw_all := lw_g (lw_at lw_m5 148 rfl) rfl
theorem q1179 : (Jvm.Cond.code ({ cls := "KeyringCourt$Flow", name := "isSound", desc := "()Z" } : Jvm.MethodName) prog_5_method_3_code (4 : Nat) (Option.some Jvm.ClassFile.FieldType.boolean)) ∈ lw_all := lw_g (lw_at lw_m5 149 rfl) rfl
theorem q1180 : (Jvm.Cond.interfaceEntry "KeyringCourt$Flow" (26 : Nat)) ∈ lw_tbl := lw_at lw_m5 150 rfl
theorem q1181 : (Jvm.Cond.methodLink "KeyringCourt$Flow" (26 : Nat) ({ cls := "java/util/List", name := "isEmpty", desc := "()Z" } : Jvm.MethodName)) ∈ lw_all := lw_g (lw_at lw_m5 151 rfl) rfl
theorem q1205 : (Jvm.Cond.interfaceEntry "KeyringCourt$Flow" (20 : Nat)) ∈ lw_tbl := lw_at lw_m5 175 rfl
theorem q1206 : (Jvm.Cond.methodLink "KeyringCourt$Flow" (20 : Nat) ({ cls := "java/util/List", name := "size", desc := "()I" } : Jvm.MethodName)) ∈ lw_all := lw_g (lw_at lw_m5 176 rfl) rfl
theorem q1207 : (Jvm.Cond.interfaceEntry "KeyringCourt$Flow" (30 : Nat)) ∈ lw_tbl := lw_at lw_m5 177 rfl
theorem q1208 : (Jvm.Cond.methodLink "KeyringCourt$Flow" (30 : Nat) ({ cls := "java/util/List", name := "get", desc := "(I)Ljava/lang/Object;" } : Jvm.MethodName)) ∈ lw_all := lw_g (lw_at lw_m5 178 rfl) rfl
theorem q1209 : (Jvm.Cond.classLink "KeyringCourt$Flow" (34 : Nat) "KeyringCourt$Step") ∈ lw_all := lw_g (lw_at lw_m5 179 rfl) rfl
theorem q1210 : (Jvm.Cond.methodLink "KeyringCourt$Flow" (36 : Nat) ({ cls := "KeyringCourt$Step", name := "isEnd", desc := "()Z" } : Jvm.MethodName)) ∈ lw_all := lw_g (lw_at lw_m5 180 rfl) rfl
theorem q1214 : (Jvm.Cond.methodLink "KeyringCourt$Flow" (43 : Nat) ({ cls := "KeyringCourt$Flow", name := "isThere", desc := "(I)Z" } : Jvm.MethodName)) ∈ lw_all := lw_g (lw_at lw_m5 184 rfl) rfl
theorem q1215 : (Jvm.Cond.privateMethod ({ cls := "KeyringCourt$Flow", name := "isThere", desc := "(I)Z" } : Jvm.MethodName)) ∈ lw_tbl := lw_at lw_m5 185 rfl
theorem q1216 : (Jvm.Cond.instanceMethod ({ cls := "KeyringCourt$Flow", name := "isThere", desc := "(I)Z" } : Jvm.MethodName)) ∈ lw_all := lw_g (lw_at lw_m5 186 rfl) rfl
theorem q1217 : (Jvm.Cond.code ({ cls := "KeyringCourt$Flow", name := "isThere", desc := "(I)Z" } : Jvm.MethodName) prog_5_method_2_code (2 : Nat) (Option.some Jvm.ClassFile.FieldType.boolean)) ∈ lw_all := lw_g (lw_at lw_m5 187 rfl) rfl
theorem q1218 : (Jvm.Cond.methodLink "KeyringCourt$Flow" (50 : Nat) ({ cls := "KeyringCourt$Flow", name := "isCircle", desc := "(I)Z" } : Jvm.MethodName)) ∈ lw_all := lw_g (lw_at lw_m5 188 rfl) rfl
theorem q1219 : (Jvm.Cond.privateMethod ({ cls := "KeyringCourt$Flow", name := "isCircle", desc := "(I)Z" } : Jvm.MethodName)) ∈ lw_tbl := lw_at lw_m5 189 rfl
theorem q1220 : (Jvm.Cond.instanceMethod ({ cls := "KeyringCourt$Flow", name := "isCircle", desc := "(I)Z" } : Jvm.MethodName)) ∈ lw_all := lw_g (lw_at lw_m5 190 rfl) rfl
theorem q1221 : (Jvm.Cond.code ({ cls := "KeyringCourt$Flow", name := "isCircle", desc := "(I)Z" } : Jvm.MethodName) prog_5_method_4_code (7 : Nat) (Option.some Jvm.ClassFile.FieldType.boolean)) ∈ lw_all := lw_g (lw_at lw_m5 191 rfl) rfl
theorem q1222 : (Jvm.Cond.classLink "KeyringCourt$Flow" (53 : Nat) "java/util/BitSet") ∈ lw_all := lw_g (lw_at lw_m5 192 rfl) rfl
theorem q1223 : (Jvm.Cond.methodLink "KeyringCourt$Flow" (55 : Nat) ({ cls := "java/util/BitSet", name := "<init>", desc := "()V" } : Jvm.MethodName)) ∈ lw_all := lw_g (lw_at lw_m5 193 rfl) rfl
theorem q1224 : (Jvm.Cond.classLink "KeyringCourt$Flow" (56 : Nat) "java/util/ArrayDeque") ∈ lw_all := lw_g (lw_at lw_m5 194 rfl) rfl
theorem q1226 : (Jvm.Cond.methodLink "KeyringCourt$Flow" (58 : Nat) ({ cls := "java/util/ArrayDeque", name := "<init>", desc := "()V" } : Jvm.MethodName)) ∈ lw_all := lw_g (lw_at lw_m5 196 rfl) rfl
theorem q1241 : (Jvm.Cond.methodLink "KeyringCourt$Flow" (59 : Nat) ({ cls := "java/lang/Integer", name := "valueOf", desc := "(I)Ljava/lang/Integer;" } : Jvm.MethodName)) ∈ lw_all := lw_g (lw_at lw_m5 211 rfl) rfl
theorem q1261 : (Jvm.Cond.interfaceEntry "KeyringCourt$Flow" (65 : Nat)) ∈ lw_tbl := lw_at lw_m5 231 rfl
theorem q1262 : (Jvm.Cond.methodLink "KeyringCourt$Flow" (65 : Nat) ({ cls := "java/util/Deque", name := "add", desc := "(Ljava/lang/Object;)Z" } : Jvm.MethodName)) ∈ lw_all := lw_g (lw_at lw_m5 232 rfl) rfl
theorem q1298 : (Jvm.Cond.interfaceEntry "KeyringCourt$Flow" (71 : Nat)) ∈ lw_tbl := lw_at lw_m6 28 rfl
theorem q1307 : (Jvm.Cond.interfaceEntry "KeyringCourt$Flow" (72 : Nat)) ∈ lw_tbl := lw_at lw_m6 37 rfl
theorem q1308 : (Jvm.Cond.methodLink "KeyringCourt$Flow" (72 : Nat) ({ cls := "java/util/Deque", name := "poll", desc := "()Ljava/lang/Object;" } : Jvm.MethodName)) ∈ lw_all := lw_g (lw_at lw_m6 38 rfl) rfl
theorem q1332 : (Jvm.Cond.classLink "KeyringCourt$Flow" (60 : Nat) "java/lang/Integer") ∈ lw_all := lw_g (lw_at lw_m6 62 rfl) rfl
theorem q1333 : (Jvm.Cond.methodLink "KeyringCourt$Flow" (76 : Nat) ({ cls := "java/lang/Integer", name := "intValue", desc := "()I" } : Jvm.MethodName)) ∈ lw_all := lw_g (lw_at lw_m6 63 rfl) rfl
theorem q1337 : (Jvm.Cond.methodLink "KeyringCourt$Flow" (79 : Nat) ({ cls := "KeyringCourt$Step", name := "isTest", desc := "()Z" } : Jvm.MethodName)) ∈ lw_all := lw_g (lw_at lw_m6 67 rfl) rfl
theorem q1341 : (Jvm.Cond.methodLink "KeyringCourt$Flow" (82 : Nat) ({ cls := "java/util/BitSet", name := "get", desc := "(I)Z" } : Jvm.MethodName)) ∈ lw_all := lw_g (lw_at lw_m6 71 rfl) rfl
theorem q1342 : (Jvm.Cond.methodLink "KeyringCourt$Flow" (84 : Nat) ({ cls := "java/util/BitSet", name := "set", desc := "(I)V" } : Jvm.MethodName)) ∈ lw_all := lw_g (lw_at lw_m6 72 rfl) rfl
theorem q1354 : (Jvm.Cond.instanceMethod ({ cls := "KeyringCourt$Flow", name := "weakest", desc := "()I" } : Jvm.MethodName)) ∈ lw_all := lw_g (lw_at lw_m6 84 rfl) rfl
theorem q1355 : (Jvm.Cond.selects "KeyringCourt$Flow" ({ cls := "KeyringCourt$Flow", name := "weakest", desc := "()I" } : Jvm.MethodName) ({ cls := "KeyringCourt$Flow", name := "weakest", desc := "()I" } : Jvm.MethodName)) ∈ lw_all := lw_g (lw_at lw_m6 85 rfl) rfl
theorem q1356 : (Jvm.Cond.code ({ cls := "KeyringCourt$Flow", name := "weakest", desc := "()I" } : Jvm.MethodName) prog_5_method_6_code (8 : Nat) (Option.some Jvm.ClassFile.FieldType.int)) ∈ lw_all := lw_g (lw_at lw_m6 86 rfl) rfl
theorem q1357 : (Jvm.Cond.methodLink "KeyringCourt$Flow" (87 : Nat) ({ cls := "KeyringCourt$Flow", name := "go", desc := "(IILjava/util/BitSet;Ljava/util/Deque;)V" } : Jvm.MethodName)) ∈ lw_all := lw_g (lw_at lw_m6 87 rfl) rfl
theorem q1358 : (Jvm.Cond.privateMethod ({ cls := "KeyringCourt$Flow", name := "go", desc := "(IILjava/util/BitSet;Ljava/util/Deque;)V" } : Jvm.MethodName)) ∈ lw_tbl := lw_at lw_m6 88 rfl
theorem q1359 : (Jvm.Cond.instanceMethod ({ cls := "KeyringCourt$Flow", name := "go", desc := "(IILjava/util/BitSet;Ljava/util/Deque;)V" } : Jvm.MethodName)) ∈ lw_all := lw_g (lw_at lw_m6 89 rfl) rfl
theorem q1360 : (Jvm.Cond.code ({ cls := "KeyringCourt$Flow", name := "go", desc := "(IILjava/util/BitSet;Ljava/util/Deque;)V" } : Jvm.MethodName) prog_5_method_5_code (6 : Nat) (Option.none : Option Jvm.ClassFile.FieldType)) ∈ lw_all := lw_g (lw_at lw_m6 90 rfl) rfl
theorem q1361 : (Jvm.Cond.methodLinkNest "KeyringCourt$Flow" (91 : Nat) ({ cls := "KeyringCourt", name := "levelOf", desc := "(I)I" } : Jvm.MethodName) "KeyringCourt") ∈ lw_tbl := lw_at lw_m6 91 rfl
theorem q3051 : (Jvm.Cond.castable "KeyringCourt$Flow" "java/lang/Object") ∈ lw_tbl := lw_at lw_m13 101 rfl
theorem in_X2 : ∀ w ∈ wsX20, w ∈ lw_all := lw_in wsX20 [491] (by decide +kernel) (by decide +kernel)
/-! KeyringCourt$Person -/
set_option maxRecDepth 100000
def RX3 : String := "KeyringCourt$Person"
def TX3 : u_T := fun k => match k with
  | 0 => ("KeyringCourt$Person", "number", "I", true)
  | 1 => ("KeyringCourt$Person", "states", "[I", true)
  | 2 => ("KeyringCourt$Person", "row", "[I", true)
  | 3 => ("KeyringCourt$Person", "counter", "I", false)
  | 4 => ("KeyringCourt$Person", "isAway", "Z", false)
  | 5 => ("KeyringCourt$Person", "isHelper", "Z", false)
  | 6 => ("KeyringCourt$Person", "devices", "Ljava/util/BitSet;", true)
  | 7 => ("KeyringCourt$Person", "places", "Ljava/util/BitSet;", true)
  | 8 => ("KeyringCourt$Person", "consents", "[I", true)
  | 9 => ("KeyringCourt$Person", "wrongs", "Ljava/util/LinkedList;", true)
  | _ => ("KeyringCourt$Person", "this$0", "LKeyringCourt;", true)
def tyX3 : Nat → FieldType := fun k => match k with
  | 0 => .int
  | 1 => .array .int
  | 2 => .array .int
  | 3 => .int
  | 4 => .boolean
  | 5 => .boolean
  | 6 => .object "java/util/BitSet"
  | 7 => .object "java/util/BitSet"
  | 8 => .array .int
  | 9 => .object "java/util/LinkedList"
  | _ => .object "KeyringCourt"
abbrev wsX30 : List Cond := u_ws RX3 TX3 11
theorem nmX3 : ∀ a, a < 11 → ∀ b, b < 11 → a ≠ b → (TX3 a).2.1 ≠ (TX3 b).2.1 := by decide +kernel
theorem tyX3_ok : ∀ k, k < 11 → parseFieldDescriptor (TX3 k).2.2.1 = some (tyX3 k) := by decide +kernel
abbrev cX3_init : ByteArray := prog_7_method_1_code
def yX3_init : MethodName := ⟨RX3, "<init>", "(LKeyringCourt;I)V"⟩
def dkwX3_init_2 : List UInt8 := [188, 10, 181, 0, 32, 42, 187, 0, 35, 89, 183, 0, 37, 181, 0, 38, 42, 28, 181, 0, 42, 177]
abbrev dktX3_init_2 : List UInt8 := dkwX3_init_2 ++ []
def dkwX3_init_1 : List UInt8 := [187, 0, 22, 89, 183, 0, 24, 181, 0, 25, 42, 187, 0, 22, 89, 183, 0, 24, 181, 0, 29, 42, 7]
abbrev dktX3_init_1 : List UInt8 := dkwX3_init_1 ++ dktX3_init_2
def dkwX3_init_0 : List UInt8 := [42, 43, 181, 0, 3, 42, 183, 0, 9, 42, 6, 188, 10, 181, 0, 15, 42, 6, 188, 10, 181, 0, 19, 42]
abbrev dktX3_init_0 : List UInt8 := dkwX3_init_0 ++ dktX3_init_1
theorem dksX3_init_0 : cX3_init.data.toList.drop 0 = dktX3_init_0 := by decide +kernel
theorem dksX3_init_1 : cX3_init.data.toList.drop 24 = dktX3_init_1 := dk_seg dksX3_init_0 24 rfl rfl
theorem dksX3_init_2 : cX3_init.data.toList.drop 47 = dktX3_init_2 := dk_seg dksX3_init_1 23 rfl rfl
theorem dX3_init_0 : decode cX3_init 0 = .ok (.aload_n 0, 1) := dk_42 (dk_at dksX3_init_0 0 rfl rfl)
theorem dX3_init_1 : decode cX3_init 1 = .ok (.aload_n 1, 1) := dk_43 (dk_at dksX3_init_0 1 rfl rfl)
theorem dX3_init_2 : decode cX3_init 2 = .ok (.putfield 3, 3) := dk_181 0 3 (dk_at dksX3_init_0 2 rfl rfl)
theorem dX3_init_5 : decode cX3_init 5 = .ok (.aload_n 0, 1) := dk_42 (dk_at dksX3_init_0 5 rfl rfl)
theorem dX3_init_6 : decode cX3_init 6 = .ok (.invokespecial 9, 3) := dk_183 0 9 (dk_at dksX3_init_0 6 rfl rfl)
theorem dX3_init_9 : decode cX3_init 9 = .ok (.aload_n 0, 1) := dk_42 (dk_at dksX3_init_0 9 rfl rfl)
theorem dX3_init_10 : decode cX3_init 10 = .ok (.iconst 3, 1) := dk_6 (dk_at dksX3_init_0 10 rfl rfl)
theorem dX3_init_11 : decode cX3_init 11 = .ok (.newarray .int, 2) := dk_188_10 (dk_at dksX3_init_0 11 rfl rfl)
theorem dX3_init_13 : decode cX3_init 13 = .ok (.putfield 15, 3) := dk_181 0 15 (dk_at dksX3_init_0 13 rfl rfl)
theorem dX3_init_16 : decode cX3_init 16 = .ok (.aload_n 0, 1) := dk_42 (dk_at dksX3_init_0 16 rfl rfl)
theorem dX3_init_17 : decode cX3_init 17 = .ok (.iconst 3, 1) := dk_6 (dk_at dksX3_init_0 17 rfl rfl)
theorem dX3_init_18 : decode cX3_init 18 = .ok (.newarray .int, 2) := dk_188_10 (dk_at dksX3_init_0 18 rfl rfl)
theorem dX3_init_20 : decode cX3_init 20 = .ok (.putfield 19, 3) := dk_181 0 19 (dk_at dksX3_init_0 20 rfl rfl)
theorem dX3_init_23 : decode cX3_init 23 = .ok (.aload_n 0, 1) := dk_42 (dk_at dksX3_init_0 23 rfl rfl)
theorem dX3_init_24 : decode cX3_init 24 = .ok (.new 22, 3) := dk_187 0 22 (dk_at dksX3_init_1 0 rfl rfl)
theorem dX3_init_27 : decode cX3_init 27 = .ok (.dup, 1) := dk_89 (dk_at dksX3_init_1 3 rfl rfl)
theorem dX3_init_28 : decode cX3_init 28 = .ok (.invokespecial 24, 3) := dk_183 0 24 (dk_at dksX3_init_1 4 rfl rfl)
theorem dX3_init_31 : decode cX3_init 31 = .ok (.putfield 25, 3) := dk_181 0 25 (dk_at dksX3_init_1 7 rfl rfl)
theorem dX3_init_34 : decode cX3_init 34 = .ok (.aload_n 0, 1) := dk_42 (dk_at dksX3_init_1 10 rfl rfl)
theorem dX3_init_35 : decode cX3_init 35 = .ok (.new 22, 3) := dk_187 0 22 (dk_at dksX3_init_1 11 rfl rfl)
theorem dX3_init_38 : decode cX3_init 38 = .ok (.dup, 1) := dk_89 (dk_at dksX3_init_1 14 rfl rfl)
theorem dX3_init_39 : decode cX3_init 39 = .ok (.invokespecial 24, 3) := dk_183 0 24 (dk_at dksX3_init_1 15 rfl rfl)
theorem dX3_init_42 : decode cX3_init 42 = .ok (.putfield 29, 3) := dk_181 0 29 (dk_at dksX3_init_1 18 rfl rfl)
theorem dX3_init_45 : decode cX3_init 45 = .ok (.aload_n 0, 1) := dk_42 (dk_at dksX3_init_1 21 rfl rfl)
theorem dX3_init_46 : decode cX3_init 46 = .ok (.iconst 4, 1) := dk_7 (dk_at dksX3_init_1 22 rfl rfl)
theorem dX3_init_47 : decode cX3_init 47 = .ok (.newarray .int, 2) := dk_188_10 (dk_at dksX3_init_2 0 rfl rfl)
theorem dX3_init_49 : decode cX3_init 49 = .ok (.putfield 32, 3) := dk_181 0 32 (dk_at dksX3_init_2 2 rfl rfl)
theorem dX3_init_52 : decode cX3_init 52 = .ok (.aload_n 0, 1) := dk_42 (dk_at dksX3_init_2 5 rfl rfl)
theorem dX3_init_53 : decode cX3_init 53 = .ok (.new 35, 3) := dk_187 0 35 (dk_at dksX3_init_2 6 rfl rfl)
theorem dX3_init_56 : decode cX3_init 56 = .ok (.dup, 1) := dk_89 (dk_at dksX3_init_2 9 rfl rfl)
theorem dX3_init_57 : decode cX3_init 57 = .ok (.invokespecial 37, 3) := dk_183 0 37 (dk_at dksX3_init_2 10 rfl rfl)
theorem dX3_init_60 : decode cX3_init 60 = .ok (.putfield 38, 3) := dk_181 0 38 (dk_at dksX3_init_2 13 rfl rfl)
theorem dX3_init_63 : decode cX3_init 63 = .ok (.aload_n 0, 1) := dk_42 (dk_at dksX3_init_2 16 rfl rfl)
theorem dX3_init_64 : decode cX3_init 64 = .ok (.iload_n 2, 1) := dk_28 (dk_at dksX3_init_2 17 rfl rfl)
theorem dX3_init_65 : decode cX3_init 65 = .ok (.putfield 42, 3) := dk_181 0 42 (dk_at dksX3_init_2 18 rfl rfl)
theorem dX3_init_68 : decode cX3_init 68 = .ok (.return_, 1) := dk_177 (dk_at dksX3_init_2 21 rfl rfl)
abbrev cX3_enroll : ByteArray := prog_7_method_2_code
def yX3_enroll : MethodName := ⟨RX3, "enroll", "(I)I"⟩
def dkwX3_enroll_1 : List UInt8 := [160, 0, 7, 3, 167, 0, 7, 42, 180, 0, 46, 181, 0, 46, 28, 172]
abbrev dktX3_enroll_1 : List UInt8 := dkwX3_enroll_1 ++ []
def dkwX3_enroll_0 : List UInt8 := [42, 180, 0, 15, 27, 46, 61, 42, 180, 0, 15, 27, 4, 79, 42, 180, 0, 19, 27, 3, 79, 42, 27, 5]
abbrev dktX3_enroll_0 : List UInt8 := dkwX3_enroll_0 ++ dktX3_enroll_1
theorem dksX3_enroll_0 : cX3_enroll.data.toList.drop 0 = dktX3_enroll_0 := by decide +kernel
theorem dksX3_enroll_1 : cX3_enroll.data.toList.drop 24 = dktX3_enroll_1 := dk_seg dksX3_enroll_0 24 rfl rfl
theorem dX3_enroll_0 : decode cX3_enroll 0 = .ok (.aload_n 0, 1) := dk_42 (dk_at dksX3_enroll_0 0 rfl rfl)
theorem dX3_enroll_1 : decode cX3_enroll 1 = .ok (.getfield 15, 3) := dk_180 0 15 (dk_at dksX3_enroll_0 1 rfl rfl)
theorem dX3_enroll_4 : decode cX3_enroll 4 = .ok (.iload_n 1, 1) := dk_27 (dk_at dksX3_enroll_0 4 rfl rfl)
theorem dX3_enroll_5 : decode cX3_enroll 5 = .ok (.iaload, 1) := dk_46 (dk_at dksX3_enroll_0 5 rfl rfl)
theorem dX3_enroll_6 : decode cX3_enroll 6 = .ok (.istore_n 2, 1) := dk_61 (dk_at dksX3_enroll_0 6 rfl rfl)
theorem dX3_enroll_7 : decode cX3_enroll 7 = .ok (.aload_n 0, 1) := dk_42 (dk_at dksX3_enroll_0 7 rfl rfl)
theorem dX3_enroll_8 : decode cX3_enroll 8 = .ok (.getfield 15, 3) := dk_180 0 15 (dk_at dksX3_enroll_0 8 rfl rfl)
theorem dX3_enroll_11 : decode cX3_enroll 11 = .ok (.iload_n 1, 1) := dk_27 (dk_at dksX3_enroll_0 11 rfl rfl)
theorem dX3_enroll_12 : decode cX3_enroll 12 = .ok (.iconst 1, 1) := dk_4 (dk_at dksX3_enroll_0 12 rfl rfl)
theorem dX3_enroll_13 : decode cX3_enroll 13 = .ok (.iastore, 1) := dk_79 (dk_at dksX3_enroll_0 13 rfl rfl)
theorem dX3_enroll_14 : decode cX3_enroll 14 = .ok (.aload_n 0, 1) := dk_42 (dk_at dksX3_enroll_0 14 rfl rfl)
theorem dX3_enroll_15 : decode cX3_enroll 15 = .ok (.getfield 19, 3) := dk_180 0 19 (dk_at dksX3_enroll_0 15 rfl rfl)
theorem dX3_enroll_18 : decode cX3_enroll 18 = .ok (.iload_n 1, 1) := dk_27 (dk_at dksX3_enroll_0 18 rfl rfl)
theorem dX3_enroll_19 : decode cX3_enroll 19 = .ok (.iconst 0, 1) := dk_3 (dk_at dksX3_enroll_0 19 rfl rfl)
theorem dX3_enroll_20 : decode cX3_enroll 20 = .ok (.iastore, 1) := dk_79 (dk_at dksX3_enroll_0 20 rfl rfl)
theorem dX3_enroll_21 : decode cX3_enroll 21 = .ok (.aload_n 0, 1) := dk_42 (dk_at dksX3_enroll_0 21 rfl rfl)
theorem dX3_enroll_22 : decode cX3_enroll 22 = .ok (.iload_n 1, 1) := dk_27 (dk_at dksX3_enroll_0 22 rfl rfl)
theorem dX3_enroll_23 : decode cX3_enroll 23 = .ok (.iconst 2, 1) := dk_5 (dk_at dksX3_enroll_0 23 rfl rfl)
theorem dX3_enroll_24 : decode cX3_enroll 24 = .ok (.if_icmp .ne 7, 3) := dk_160 0 7 (dk_at dksX3_enroll_1 0 rfl rfl)
theorem dX3_enroll_27 : decode cX3_enroll 27 = .ok (.iconst 0, 1) := dk_3 (dk_at dksX3_enroll_1 3 rfl rfl)
theorem dX3_enroll_28 : decode cX3_enroll 28 = .ok (.goto 7, 3) := dk_167 0 7 (dk_at dksX3_enroll_1 4 rfl rfl)
theorem dX3_enroll_31 : decode cX3_enroll 31 = .ok (.aload_n 0, 1) := dk_42 (dk_at dksX3_enroll_1 7 rfl rfl)
theorem dX3_enroll_32 : decode cX3_enroll 32 = .ok (.getfield 46, 3) := dk_180 0 46 (dk_at dksX3_enroll_1 8 rfl rfl)
theorem dX3_enroll_35 : decode cX3_enroll 35 = .ok (.putfield 46, 3) := dk_181 0 46 (dk_at dksX3_enroll_1 11 rfl rfl)
theorem dX3_enroll_38 : decode cX3_enroll 38 = .ok (.iload_n 2, 1) := dk_28 (dk_at dksX3_enroll_1 14 rfl rfl)
theorem dX3_enroll_39 : decode cX3_enroll 39 = .ok (.ireturn, 1) := dk_172 (dk_at dksX3_enroll_1 15 rfl rfl)
abbrev cX3_wrongsOfHour : ByteArray := prog_7_method_6_code
def yX3_wrongsOfHour : MethodName := ⟨RX3, "wrongsOfHour", "()I"⟩
def dkwX3_wrongsOfHour_2 : List UInt8 := [162, 0, 9, 132, 1, 1, 167, 255, 214, 27, 172]
abbrev dktX3_wrongsOfHour_2 : List UInt8 := dkwX3_wrongsOfHour_2 ++ []
def dkwX3_wrongsOfHour_1 : List UInt8 := [42, 180, 0, 3, 180, 0, 61, 44, 185, 0, 84, 1, 0, 192, 0, 65, 182, 0, 88, 100, 16, 60]
abbrev dktX3_wrongsOfHour_1 : List UInt8 := dkwX3_wrongsOfHour_1 ++ dktX3_wrongsOfHour_2
def dkwX3_wrongsOfHour_0 : List UInt8 := [3, 60, 42, 180, 0, 38, 182, 0, 74, 77, 27, 6, 162, 0, 43, 44, 185, 0, 78, 1, 0, 153, 0, 34]
abbrev dktX3_wrongsOfHour_0 : List UInt8 := dkwX3_wrongsOfHour_0 ++ dktX3_wrongsOfHour_1
theorem dksX3_wrongsOfHour_0 : cX3_wrongsOfHour.data.toList.drop 0 = dktX3_wrongsOfHour_0 := by decide +kernel
theorem dksX3_wrongsOfHour_1 : cX3_wrongsOfHour.data.toList.drop 24 = dktX3_wrongsOfHour_1 := dk_seg dksX3_wrongsOfHour_0 24 rfl rfl
theorem dksX3_wrongsOfHour_2 : cX3_wrongsOfHour.data.toList.drop 46 = dktX3_wrongsOfHour_2 := dk_seg dksX3_wrongsOfHour_1 22 rfl rfl
theorem dX3_wrongsOfHour_0 : decode cX3_wrongsOfHour 0 = .ok (.iconst 0, 1) := dk_3 (dk_at dksX3_wrongsOfHour_0 0 rfl rfl)
theorem dX3_wrongsOfHour_1 : decode cX3_wrongsOfHour 1 = .ok (.istore_n 1, 1) := dk_60 (dk_at dksX3_wrongsOfHour_0 1 rfl rfl)
theorem dX3_wrongsOfHour_2 : decode cX3_wrongsOfHour 2 = .ok (.aload_n 0, 1) := dk_42 (dk_at dksX3_wrongsOfHour_0 2 rfl rfl)
theorem dX3_wrongsOfHour_3 : decode cX3_wrongsOfHour 3 = .ok (.getfield 38, 3) := dk_180 0 38 (dk_at dksX3_wrongsOfHour_0 3 rfl rfl)
theorem dX3_wrongsOfHour_6 : decode cX3_wrongsOfHour 6 = .ok (.invokevirtual 74, 3) := dk_182 0 74 (dk_at dksX3_wrongsOfHour_0 6 rfl rfl)
theorem dX3_wrongsOfHour_9 : decode cX3_wrongsOfHour 9 = .ok (.astore_n 2, 1) := dk_77 (dk_at dksX3_wrongsOfHour_0 9 rfl rfl)
theorem dX3_wrongsOfHour_10 : decode cX3_wrongsOfHour 10 = .ok (.iload_n 1, 1) := dk_27 (dk_at dksX3_wrongsOfHour_0 10 rfl rfl)
theorem dX3_wrongsOfHour_11 : decode cX3_wrongsOfHour 11 = .ok (.iconst 3, 1) := dk_6 (dk_at dksX3_wrongsOfHour_0 11 rfl rfl)
theorem dX3_wrongsOfHour_12 : decode cX3_wrongsOfHour 12 = .ok (.if_icmp .ge 43, 3) := dk_162 0 43 (dk_at dksX3_wrongsOfHour_0 12 rfl rfl)
theorem dX3_wrongsOfHour_15 : decode cX3_wrongsOfHour 15 = .ok (.aload_n 2, 1) := dk_44 (dk_at dksX3_wrongsOfHour_0 15 rfl rfl)
theorem dX3_wrongsOfHour_16 : decode cX3_wrongsOfHour 16 = .ok (.invokeinterface 78 1, 5) := by decide +kernel
theorem dX3_wrongsOfHour_21 : decode cX3_wrongsOfHour 21 = .ok (.ifCond .eq 34, 3) := dk_153 0 34 (dk_at dksX3_wrongsOfHour_0 21 rfl rfl)
theorem dX3_wrongsOfHour_24 : decode cX3_wrongsOfHour 24 = .ok (.aload_n 0, 1) := dk_42 (dk_at dksX3_wrongsOfHour_1 0 rfl rfl)
theorem dX3_wrongsOfHour_25 : decode cX3_wrongsOfHour 25 = .ok (.getfield 3, 3) := dk_180 0 3 (dk_at dksX3_wrongsOfHour_1 1 rfl rfl)
theorem dX3_wrongsOfHour_28 : decode cX3_wrongsOfHour 28 = .ok (.getfield 61, 3) := dk_180 0 61 (dk_at dksX3_wrongsOfHour_1 4 rfl rfl)
theorem dX3_wrongsOfHour_31 : decode cX3_wrongsOfHour 31 = .ok (.aload_n 2, 1) := dk_44 (dk_at dksX3_wrongsOfHour_1 7 rfl rfl)
theorem dX3_wrongsOfHour_32 : decode cX3_wrongsOfHour 32 = .ok (.invokeinterface 84 1, 5) := by decide +kernel
theorem dX3_wrongsOfHour_37 : decode cX3_wrongsOfHour 37 = .ok (.checkcast 65, 3) := dk_192 0 65 (dk_at dksX3_wrongsOfHour_1 13 rfl rfl)
theorem dX3_wrongsOfHour_40 : decode cX3_wrongsOfHour 40 = .ok (.invokevirtual 88, 3) := dk_182 0 88 (dk_at dksX3_wrongsOfHour_1 16 rfl rfl)
theorem dX3_wrongsOfHour_43 : decode cX3_wrongsOfHour 43 = .ok (.isub, 1) := dk_100 (dk_at dksX3_wrongsOfHour_1 19 rfl rfl)
theorem dX3_wrongsOfHour_44 : decode cX3_wrongsOfHour 44 = .ok (.bipush 60, 2) := dk_16 60 (dk_at dksX3_wrongsOfHour_1 20 rfl rfl)
theorem dX3_wrongsOfHour_46 : decode cX3_wrongsOfHour 46 = .ok (.if_icmp .ge 9, 3) := dk_162 0 9 (dk_at dksX3_wrongsOfHour_2 0 rfl rfl)
theorem dX3_wrongsOfHour_49 : decode cX3_wrongsOfHour 49 = .ok (.iinc 1 1, 3) := dk_132 1 1 (dk_at dksX3_wrongsOfHour_2 3 rfl rfl)
theorem dX3_wrongsOfHour_52 : decode cX3_wrongsOfHour 52 = .ok (.goto (-42), 3) := dk_167 255 214 (dk_at dksX3_wrongsOfHour_2 6 rfl rfl)
theorem dX3_wrongsOfHour_55 : decode cX3_wrongsOfHour 55 = .ok (.iload_n 1, 1) := dk_27 (dk_at dksX3_wrongsOfHour_2 9 rfl rfl)
theorem dX3_wrongsOfHour_56 : decode cX3_wrongsOfHour 56 = .ok (.ireturn, 1) := dk_172 (dk_at dksX3_wrongsOfHour_2 10 rfl rfl)
abbrev cX3_answers : ByteArray := prog_7_method_5_code
def yX3_answers : MethodName := ⟨RX3, "answers", "(IZI)Z"⟩
def dkwX3_answers_1 : List UInt8 := [180, 0, 61, 184, 0, 64, 182, 0, 70, 87, 21, 4, 172]
abbrev dktX3_answers_1 : List UInt8 := dkwX3_answers_1 ++ []
def dkwX3_answers_0 : List UInt8 := [42, 27, 28, 29, 182, 0, 57, 54, 4, 21, 4, 154, 0, 21, 42, 180, 0, 38, 42, 180, 0, 3]
abbrev dktX3_answers_0 : List UInt8 := dkwX3_answers_0 ++ dktX3_answers_1
theorem dksX3_answers_0 : cX3_answers.data.toList.drop 0 = dktX3_answers_0 := by decide +kernel
theorem dksX3_answers_1 : cX3_answers.data.toList.drop 22 = dktX3_answers_1 := dk_seg dksX3_answers_0 22 rfl rfl
theorem dX3_answers_0 : decode cX3_answers 0 = .ok (.aload_n 0, 1) := dk_42 (dk_at dksX3_answers_0 0 rfl rfl)
theorem dX3_answers_1 : decode cX3_answers 1 = .ok (.iload_n 1, 1) := dk_27 (dk_at dksX3_answers_0 1 rfl rfl)
theorem dX3_answers_2 : decode cX3_answers 2 = .ok (.iload_n 2, 1) := dk_28 (dk_at dksX3_answers_0 2 rfl rfl)
theorem dX3_answers_3 : decode cX3_answers 3 = .ok (.iload_n 3, 1) := dk_29 (dk_at dksX3_answers_0 3 rfl rfl)
theorem dX3_answers_4 : decode cX3_answers 4 = .ok (.invokevirtual 57, 3) := dk_182 0 57 (dk_at dksX3_answers_0 4 rfl rfl)
theorem dX3_answers_7 : decode cX3_answers 7 = .ok (.istore 4, 2) := dk_54 4 (dk_at dksX3_answers_0 7 rfl rfl)
theorem dX3_answers_9 : decode cX3_answers 9 = .ok (.iload 4, 2) := dk_21 4 (dk_at dksX3_answers_0 9 rfl rfl)
theorem dX3_answers_11 : decode cX3_answers 11 = .ok (.ifCond .ne 21, 3) := dk_154 0 21 (dk_at dksX3_answers_0 11 rfl rfl)
theorem dX3_answers_14 : decode cX3_answers 14 = .ok (.aload_n 0, 1) := dk_42 (dk_at dksX3_answers_0 14 rfl rfl)
theorem dX3_answers_15 : decode cX3_answers 15 = .ok (.getfield 38, 3) := dk_180 0 38 (dk_at dksX3_answers_0 15 rfl rfl)
theorem dX3_answers_18 : decode cX3_answers 18 = .ok (.aload_n 0, 1) := dk_42 (dk_at dksX3_answers_0 18 rfl rfl)
theorem dX3_answers_19 : decode cX3_answers 19 = .ok (.getfield 3, 3) := dk_180 0 3 (dk_at dksX3_answers_0 19 rfl rfl)
theorem dX3_answers_22 : decode cX3_answers 22 = .ok (.getfield 61, 3) := dk_180 0 61 (dk_at dksX3_answers_1 0 rfl rfl)
theorem dX3_answers_25 : decode cX3_answers 25 = .ok (.invokestatic 64, 3) := dk_184 0 64 (dk_at dksX3_answers_1 3 rfl rfl)
theorem dX3_answers_28 : decode cX3_answers 28 = .ok (.invokevirtual 70, 3) := dk_182 0 70 (dk_at dksX3_answers_1 6 rfl rfl)
theorem dX3_answers_31 : decode cX3_answers 31 = .ok (.pop, 1) := dk_87 (dk_at dksX3_answers_1 9 rfl rfl)
theorem dX3_answers_32 : decode cX3_answers 32 = .ok (.iload 4, 2) := dk_21 4 (dk_at dksX3_answers_1 10 rfl rfl)
theorem dX3_answers_34 : decode cX3_answers 34 = .ok (.ireturn, 1) := dk_172 (dk_at dksX3_answers_1 12 rfl rfl)
abbrev cX3_isTaken : ByteArray := prog_7_method_4_code
def yX3_isTaken : MethodName := ⟨RX3, "isTaken", "(IZI)Z"⟩
def dkwX3_isTaken_4 : List UInt8 := [28, 172]
abbrev dktX3_isTaken_4 : List UInt8 := dkwX3_isTaken_4 ++ []
def dkwX3_isTaken_3 : List UInt8 := [182, 0, 53, 42, 28, 153, 0, 12, 27, 5, 160, 0, 7, 29, 167, 0, 7, 42, 180, 0, 46, 181, 0, 46]
abbrev dktX3_isTaken_3 : List UInt8 := dkwX3_isTaken_3 ++ dktX3_isTaken_4
def dkwX3_isTaken_2 : List UInt8 := [167, 0, 11, 42, 180, 0, 19, 27, 46, 4, 96, 79, 42, 180, 0, 19, 27, 46, 8, 160, 0, 8, 42, 27]
abbrev dktX3_isTaken_2 : List UInt8 := dkwX3_isTaken_2 ++ dktX3_isTaken_3
def dkwX3_isTaken_1 : List UInt8 := [180, 0, 46, 163, 0, 10, 42, 5, 182, 0, 53, 3, 172, 42, 180, 0, 19, 27, 28, 153, 0, 7, 3]
abbrev dktX3_isTaken_1 : List UInt8 := dkwX3_isTaken_1 ++ dktX3_isTaken_2
def dkwX3_isTaken_0 : List UInt8 := [42, 180, 0, 15, 27, 46, 4, 159, 0, 5, 3, 172, 28, 153, 0, 23, 27, 5, 160, 0, 18, 29, 42]
abbrev dktX3_isTaken_0 : List UInt8 := dkwX3_isTaken_0 ++ dktX3_isTaken_1
theorem dksX3_isTaken_0 : cX3_isTaken.data.toList.drop 0 = dktX3_isTaken_0 := by decide +kernel
theorem dksX3_isTaken_1 : cX3_isTaken.data.toList.drop 23 = dktX3_isTaken_1 := dk_seg dksX3_isTaken_0 23 rfl rfl
theorem dksX3_isTaken_2 : cX3_isTaken.data.toList.drop 46 = dktX3_isTaken_2 := dk_seg dksX3_isTaken_1 23 rfl rfl
theorem dksX3_isTaken_3 : cX3_isTaken.data.toList.drop 70 = dktX3_isTaken_3 := dk_seg dksX3_isTaken_2 24 rfl rfl
theorem dksX3_isTaken_4 : cX3_isTaken.data.toList.drop 94 = dktX3_isTaken_4 := dk_seg dksX3_isTaken_3 24 rfl rfl
theorem dX3_isTaken_0 : decode cX3_isTaken 0 = .ok (.aload_n 0, 1) := dk_42 (dk_at dksX3_isTaken_0 0 rfl rfl)
theorem dX3_isTaken_1 : decode cX3_isTaken 1 = .ok (.getfield 15, 3) := dk_180 0 15 (dk_at dksX3_isTaken_0 1 rfl rfl)
theorem dX3_isTaken_4 : decode cX3_isTaken 4 = .ok (.iload_n 1, 1) := dk_27 (dk_at dksX3_isTaken_0 4 rfl rfl)
theorem dX3_isTaken_5 : decode cX3_isTaken 5 = .ok (.iaload, 1) := dk_46 (dk_at dksX3_isTaken_0 5 rfl rfl)
theorem dX3_isTaken_6 : decode cX3_isTaken 6 = .ok (.iconst 1, 1) := dk_4 (dk_at dksX3_isTaken_0 6 rfl rfl)
theorem dX3_isTaken_7 : decode cX3_isTaken 7 = .ok (.if_icmp .eq 5, 3) := dk_159 0 5 (dk_at dksX3_isTaken_0 7 rfl rfl)
theorem dX3_isTaken_10 : decode cX3_isTaken 10 = .ok (.iconst 0, 1) := dk_3 (dk_at dksX3_isTaken_0 10 rfl rfl)
theorem dX3_isTaken_11 : decode cX3_isTaken 11 = .ok (.ireturn, 1) := dk_172 (dk_at dksX3_isTaken_0 11 rfl rfl)
theorem dX3_isTaken_12 : decode cX3_isTaken 12 = .ok (.iload_n 2, 1) := dk_28 (dk_at dksX3_isTaken_0 12 rfl rfl)
theorem dX3_isTaken_13 : decode cX3_isTaken 13 = .ok (.ifCond .eq 23, 3) := dk_153 0 23 (dk_at dksX3_isTaken_0 13 rfl rfl)
theorem dX3_isTaken_16 : decode cX3_isTaken 16 = .ok (.iload_n 1, 1) := dk_27 (dk_at dksX3_isTaken_0 16 rfl rfl)
theorem dX3_isTaken_17 : decode cX3_isTaken 17 = .ok (.iconst 2, 1) := dk_5 (dk_at dksX3_isTaken_0 17 rfl rfl)
theorem dX3_isTaken_18 : decode cX3_isTaken 18 = .ok (.if_icmp .ne 18, 3) := dk_160 0 18 (dk_at dksX3_isTaken_0 18 rfl rfl)
theorem dX3_isTaken_21 : decode cX3_isTaken 21 = .ok (.iload_n 3, 1) := dk_29 (dk_at dksX3_isTaken_0 21 rfl rfl)
theorem dX3_isTaken_22 : decode cX3_isTaken 22 = .ok (.aload_n 0, 1) := dk_42 (dk_at dksX3_isTaken_0 22 rfl rfl)
theorem dX3_isTaken_23 : decode cX3_isTaken 23 = .ok (.getfield 46, 3) := dk_180 0 46 (dk_at dksX3_isTaken_1 0 rfl rfl)
theorem dX3_isTaken_26 : decode cX3_isTaken 26 = .ok (.if_icmp .gt 10, 3) := dk_163 0 10 (dk_at dksX3_isTaken_1 3 rfl rfl)
theorem dX3_isTaken_29 : decode cX3_isTaken 29 = .ok (.aload_n 0, 1) := dk_42 (dk_at dksX3_isTaken_1 6 rfl rfl)
theorem dX3_isTaken_30 : decode cX3_isTaken 30 = .ok (.iconst 2, 1) := dk_5 (dk_at dksX3_isTaken_1 7 rfl rfl)
theorem dX3_isTaken_31 : decode cX3_isTaken 31 = .ok (.invokevirtual 53, 3) := dk_182 0 53 (dk_at dksX3_isTaken_1 8 rfl rfl)
theorem dX3_isTaken_34 : decode cX3_isTaken 34 = .ok (.iconst 0, 1) := dk_3 (dk_at dksX3_isTaken_1 11 rfl rfl)
theorem dX3_isTaken_35 : decode cX3_isTaken 35 = .ok (.ireturn, 1) := dk_172 (dk_at dksX3_isTaken_1 12 rfl rfl)
theorem dX3_isTaken_36 : decode cX3_isTaken 36 = .ok (.aload_n 0, 1) := dk_42 (dk_at dksX3_isTaken_1 13 rfl rfl)
theorem dX3_isTaken_37 : decode cX3_isTaken 37 = .ok (.getfield 19, 3) := dk_180 0 19 (dk_at dksX3_isTaken_1 14 rfl rfl)
theorem dX3_isTaken_40 : decode cX3_isTaken 40 = .ok (.iload_n 1, 1) := dk_27 (dk_at dksX3_isTaken_1 17 rfl rfl)
theorem dX3_isTaken_41 : decode cX3_isTaken 41 = .ok (.iload_n 2, 1) := dk_28 (dk_at dksX3_isTaken_1 18 rfl rfl)
theorem dX3_isTaken_42 : decode cX3_isTaken 42 = .ok (.ifCond .eq 7, 3) := dk_153 0 7 (dk_at dksX3_isTaken_1 19 rfl rfl)
theorem dX3_isTaken_45 : decode cX3_isTaken 45 = .ok (.iconst 0, 1) := dk_3 (dk_at dksX3_isTaken_1 22 rfl rfl)
theorem dX3_isTaken_46 : decode cX3_isTaken 46 = .ok (.goto 11, 3) := dk_167 0 11 (dk_at dksX3_isTaken_2 0 rfl rfl)
theorem dX3_isTaken_49 : decode cX3_isTaken 49 = .ok (.aload_n 0, 1) := dk_42 (dk_at dksX3_isTaken_2 3 rfl rfl)
theorem dX3_isTaken_50 : decode cX3_isTaken 50 = .ok (.getfield 19, 3) := dk_180 0 19 (dk_at dksX3_isTaken_2 4 rfl rfl)
theorem dX3_isTaken_53 : decode cX3_isTaken 53 = .ok (.iload_n 1, 1) := dk_27 (dk_at dksX3_isTaken_2 7 rfl rfl)
theorem dX3_isTaken_54 : decode cX3_isTaken 54 = .ok (.iaload, 1) := dk_46 (dk_at dksX3_isTaken_2 8 rfl rfl)
theorem dX3_isTaken_55 : decode cX3_isTaken 55 = .ok (.iconst 1, 1) := dk_4 (dk_at dksX3_isTaken_2 9 rfl rfl)
theorem dX3_isTaken_56 : decode cX3_isTaken 56 = .ok (.iadd, 1) := dk_96 (dk_at dksX3_isTaken_2 10 rfl rfl)
theorem dX3_isTaken_57 : decode cX3_isTaken 57 = .ok (.iastore, 1) := dk_79 (dk_at dksX3_isTaken_2 11 rfl rfl)
theorem dX3_isTaken_58 : decode cX3_isTaken 58 = .ok (.aload_n 0, 1) := dk_42 (dk_at dksX3_isTaken_2 12 rfl rfl)
theorem dX3_isTaken_59 : decode cX3_isTaken 59 = .ok (.getfield 19, 3) := dk_180 0 19 (dk_at dksX3_isTaken_2 13 rfl rfl)
theorem dX3_isTaken_62 : decode cX3_isTaken 62 = .ok (.iload_n 1, 1) := dk_27 (dk_at dksX3_isTaken_2 16 rfl rfl)
theorem dX3_isTaken_63 : decode cX3_isTaken 63 = .ok (.iaload, 1) := dk_46 (dk_at dksX3_isTaken_2 17 rfl rfl)
theorem dX3_isTaken_64 : decode cX3_isTaken 64 = .ok (.iconst 5, 1) := dk_8 (dk_at dksX3_isTaken_2 18 rfl rfl)
theorem dX3_isTaken_65 : decode cX3_isTaken 65 = .ok (.if_icmp .ne 8, 3) := dk_160 0 8 (dk_at dksX3_isTaken_2 19 rfl rfl)
theorem dX3_isTaken_68 : decode cX3_isTaken 68 = .ok (.aload_n 0, 1) := dk_42 (dk_at dksX3_isTaken_2 22 rfl rfl)
theorem dX3_isTaken_69 : decode cX3_isTaken 69 = .ok (.iload_n 1, 1) := dk_27 (dk_at dksX3_isTaken_2 23 rfl rfl)
theorem dX3_isTaken_70 : decode cX3_isTaken 70 = .ok (.invokevirtual 53, 3) := dk_182 0 53 (dk_at dksX3_isTaken_3 0 rfl rfl)
theorem dX3_isTaken_73 : decode cX3_isTaken 73 = .ok (.aload_n 0, 1) := dk_42 (dk_at dksX3_isTaken_3 3 rfl rfl)
theorem dX3_isTaken_74 : decode cX3_isTaken 74 = .ok (.iload_n 2, 1) := dk_28 (dk_at dksX3_isTaken_3 4 rfl rfl)
theorem dX3_isTaken_75 : decode cX3_isTaken 75 = .ok (.ifCond .eq 12, 3) := dk_153 0 12 (dk_at dksX3_isTaken_3 5 rfl rfl)
theorem dX3_isTaken_78 : decode cX3_isTaken 78 = .ok (.iload_n 1, 1) := dk_27 (dk_at dksX3_isTaken_3 8 rfl rfl)
theorem dX3_isTaken_79 : decode cX3_isTaken 79 = .ok (.iconst 2, 1) := dk_5 (dk_at dksX3_isTaken_3 9 rfl rfl)
theorem dX3_isTaken_80 : decode cX3_isTaken 80 = .ok (.if_icmp .ne 7, 3) := dk_160 0 7 (dk_at dksX3_isTaken_3 10 rfl rfl)
theorem dX3_isTaken_83 : decode cX3_isTaken 83 = .ok (.iload_n 3, 1) := dk_29 (dk_at dksX3_isTaken_3 13 rfl rfl)
theorem dX3_isTaken_84 : decode cX3_isTaken 84 = .ok (.goto 7, 3) := dk_167 0 7 (dk_at dksX3_isTaken_3 14 rfl rfl)
theorem dX3_isTaken_87 : decode cX3_isTaken 87 = .ok (.aload_n 0, 1) := dk_42 (dk_at dksX3_isTaken_3 17 rfl rfl)
theorem dX3_isTaken_88 : decode cX3_isTaken 88 = .ok (.getfield 46, 3) := dk_180 0 46 (dk_at dksX3_isTaken_3 18 rfl rfl)
theorem dX3_isTaken_91 : decode cX3_isTaken 91 = .ok (.putfield 46, 3) := dk_181 0 46 (dk_at dksX3_isTaken_3 21 rfl rfl)
theorem dX3_isTaken_94 : decode cX3_isTaken 94 = .ok (.iload_n 2, 1) := dk_28 (dk_at dksX3_isTaken_4 0 rfl rfl)
theorem dX3_isTaken_95 : decode cX3_isTaken 95 = .ok (.ireturn, 1) := dk_172 (dk_at dksX3_isTaken_4 1 rfl rfl)
abbrev cX3_suspend : ByteArray := prog_7_method_3_code
def yX3_suspend : MethodName := ⟨RX3, "suspend", "(I)V"⟩
def dkwX3_suspend_0 : List UInt8 := [42, 180, 0, 15, 27, 5, 79, 42, 180, 0, 3, 7, 6, 42, 180, 0, 42, 104, 27, 96, 182, 0, 49, 177]
abbrev dktX3_suspend_0 : List UInt8 := dkwX3_suspend_0 ++ []
theorem dksX3_suspend_0 : cX3_suspend.data.toList.drop 0 = dktX3_suspend_0 := by decide +kernel
theorem dX3_suspend_0 : decode cX3_suspend 0 = .ok (.aload_n 0, 1) := dk_42 (dk_at dksX3_suspend_0 0 rfl rfl)
theorem dX3_suspend_1 : decode cX3_suspend 1 = .ok (.getfield 15, 3) := dk_180 0 15 (dk_at dksX3_suspend_0 1 rfl rfl)
theorem dX3_suspend_4 : decode cX3_suspend 4 = .ok (.iload_n 1, 1) := dk_27 (dk_at dksX3_suspend_0 4 rfl rfl)
theorem dX3_suspend_5 : decode cX3_suspend 5 = .ok (.iconst 2, 1) := dk_5 (dk_at dksX3_suspend_0 5 rfl rfl)
theorem dX3_suspend_6 : decode cX3_suspend 6 = .ok (.iastore, 1) := dk_79 (dk_at dksX3_suspend_0 6 rfl rfl)
theorem dX3_suspend_7 : decode cX3_suspend 7 = .ok (.aload_n 0, 1) := dk_42 (dk_at dksX3_suspend_0 7 rfl rfl)
theorem dX3_suspend_8 : decode cX3_suspend 8 = .ok (.getfield 3, 3) := dk_180 0 3 (dk_at dksX3_suspend_0 8 rfl rfl)
theorem dX3_suspend_11 : decode cX3_suspend 11 = .ok (.iconst 4, 1) := dk_7 (dk_at dksX3_suspend_0 11 rfl rfl)
theorem dX3_suspend_12 : decode cX3_suspend 12 = .ok (.iconst 3, 1) := dk_6 (dk_at dksX3_suspend_0 12 rfl rfl)
theorem dX3_suspend_13 : decode cX3_suspend 13 = .ok (.aload_n 0, 1) := dk_42 (dk_at dksX3_suspend_0 13 rfl rfl)
theorem dX3_suspend_14 : decode cX3_suspend 14 = .ok (.getfield 42, 3) := dk_180 0 42 (dk_at dksX3_suspend_0 14 rfl rfl)
theorem dX3_suspend_17 : decode cX3_suspend 17 = .ok (.imul, 1) := dk_104 (dk_at dksX3_suspend_0 17 rfl rfl)
theorem dX3_suspend_18 : decode cX3_suspend 18 = .ok (.iload_n 1, 1) := dk_27 (dk_at dksX3_suspend_0 18 rfl rfl)
theorem dX3_suspend_19 : decode cX3_suspend 19 = .ok (.iadd, 1) := dk_96 (dk_at dksX3_suspend_0 19 rfl rfl)
theorem dX3_suspend_20 : decode cX3_suspend 20 = .ok (.invokevirtual 49, 3) := dk_182 0 49 (dk_at dksX3_suspend_0 20 rfl rfl)
theorem dX3_suspend_23 : decode cX3_suspend 23 = .ok (.return_, 1) := dk_177 (dk_at dksX3_suspend_0 23 rfl rfl)
abbrev cX3_enrolled : ByteArray := prog_7_method_7_code
def yX3_enrolled : MethodName := ⟨RX3, "enrolled", "()I"⟩
def dkwX3_enrolled_1 : List UInt8 := [28, 120, 128, 60, 132, 2, 1, 167, 255, 229, 27, 172]
abbrev dktX3_enrolled_1 : List UInt8 := dkwX3_enrolled_1 ++ []
def dkwX3_enrolled_0 : List UInt8 := [3, 60, 3, 61, 28, 6, 162, 0, 28, 27, 42, 180, 0, 15, 28, 46, 154, 0, 7, 3, 167, 0, 6, 4]
abbrev dktX3_enrolled_0 : List UInt8 := dkwX3_enrolled_0 ++ dktX3_enrolled_1
theorem dksX3_enrolled_0 : cX3_enrolled.data.toList.drop 0 = dktX3_enrolled_0 := by decide +kernel
theorem dksX3_enrolled_1 : cX3_enrolled.data.toList.drop 24 = dktX3_enrolled_1 := dk_seg dksX3_enrolled_0 24 rfl rfl
theorem dX3_enrolled_0 : decode cX3_enrolled 0 = .ok (.iconst 0, 1) := dk_3 (dk_at dksX3_enrolled_0 0 rfl rfl)
theorem dX3_enrolled_1 : decode cX3_enrolled 1 = .ok (.istore_n 1, 1) := dk_60 (dk_at dksX3_enrolled_0 1 rfl rfl)
theorem dX3_enrolled_2 : decode cX3_enrolled 2 = .ok (.iconst 0, 1) := dk_3 (dk_at dksX3_enrolled_0 2 rfl rfl)
theorem dX3_enrolled_3 : decode cX3_enrolled 3 = .ok (.istore_n 2, 1) := dk_61 (dk_at dksX3_enrolled_0 3 rfl rfl)
theorem dX3_enrolled_4 : decode cX3_enrolled 4 = .ok (.iload_n 2, 1) := dk_28 (dk_at dksX3_enrolled_0 4 rfl rfl)
theorem dX3_enrolled_5 : decode cX3_enrolled 5 = .ok (.iconst 3, 1) := dk_6 (dk_at dksX3_enrolled_0 5 rfl rfl)
theorem dX3_enrolled_6 : decode cX3_enrolled 6 = .ok (.if_icmp .ge 28, 3) := dk_162 0 28 (dk_at dksX3_enrolled_0 6 rfl rfl)
theorem dX3_enrolled_9 : decode cX3_enrolled 9 = .ok (.iload_n 1, 1) := dk_27 (dk_at dksX3_enrolled_0 9 rfl rfl)
theorem dX3_enrolled_10 : decode cX3_enrolled 10 = .ok (.aload_n 0, 1) := dk_42 (dk_at dksX3_enrolled_0 10 rfl rfl)
theorem dX3_enrolled_11 : decode cX3_enrolled 11 = .ok (.getfield 15, 3) := dk_180 0 15 (dk_at dksX3_enrolled_0 11 rfl rfl)
theorem dX3_enrolled_14 : decode cX3_enrolled 14 = .ok (.iload_n 2, 1) := dk_28 (dk_at dksX3_enrolled_0 14 rfl rfl)
theorem dX3_enrolled_15 : decode cX3_enrolled 15 = .ok (.iaload, 1) := dk_46 (dk_at dksX3_enrolled_0 15 rfl rfl)
theorem dX3_enrolled_16 : decode cX3_enrolled 16 = .ok (.ifCond .ne 7, 3) := dk_154 0 7 (dk_at dksX3_enrolled_0 16 rfl rfl)
theorem dX3_enrolled_19 : decode cX3_enrolled 19 = .ok (.iconst 0, 1) := dk_3 (dk_at dksX3_enrolled_0 19 rfl rfl)
theorem dX3_enrolled_20 : decode cX3_enrolled 20 = .ok (.goto 6, 3) := dk_167 0 6 (dk_at dksX3_enrolled_0 20 rfl rfl)
theorem dX3_enrolled_23 : decode cX3_enrolled 23 = .ok (.iconst 1, 1) := dk_4 (dk_at dksX3_enrolled_0 23 rfl rfl)
theorem dX3_enrolled_24 : decode cX3_enrolled 24 = .ok (.iload_n 2, 1) := dk_28 (dk_at dksX3_enrolled_1 0 rfl rfl)
theorem dX3_enrolled_25 : decode cX3_enrolled 25 = .ok (.ishl, 1) := dk_120 (dk_at dksX3_enrolled_1 1 rfl rfl)
theorem dX3_enrolled_26 : decode cX3_enrolled 26 = .ok (.ior, 1) := dk_128 (dk_at dksX3_enrolled_1 2 rfl rfl)
theorem dX3_enrolled_27 : decode cX3_enrolled 27 = .ok (.istore_n 1, 1) := dk_60 (dk_at dksX3_enrolled_1 3 rfl rfl)
theorem dX3_enrolled_28 : decode cX3_enrolled 28 = .ok (.iinc 2 1, 3) := dk_132 2 1 (dk_at dksX3_enrolled_1 4 rfl rfl)
theorem dX3_enrolled_31 : decode cX3_enrolled 31 = .ok (.goto (-27), 3) := dk_167 255 229 (dk_at dksX3_enrolled_1 7 rfl rfl)
theorem dX3_enrolled_34 : decode cX3_enrolled 34 = .ok (.iload_n 1, 1) := dk_27 (dk_at dksX3_enrolled_1 10 rfl rfl)
theorem dX3_enrolled_35 : decode cX3_enrolled 35 = .ok (.ireturn, 1) := dk_172 (dk_at dksX3_enrolled_1 11 rfl rfl)
theorem q93 : (Jvm.Cond.initialized "KeyringCourt$Person") ∈ lw_all := lw_g (lw_at lw_m1 23 rfl) rfl
theorem q528 : (Jvm.Cond.instantiable "KeyringCourt$Person" (11 : Nat)) ∈ lw_all := lw_g (lw_at lw_m2 218 rfl) rfl
theorem q530 : (Jvm.Cond.instanceMethod ({ cls := "KeyringCourt$Person", name := "<init>", desc := "(LKeyringCourt;I)V" } : Jvm.MethodName)) ∈ lw_all := lw_g (lw_at lw_m2 220 rfl) rfl
theorem q531 : (Jvm.Cond.code ({ cls := "KeyringCourt$Person", name := "<init>", desc := "(LKeyringCourt;I)V" } : Jvm.MethodName) prog_7_method_1_code (3 : Nat) (Option.none : Option Jvm.ClassFile.FieldType)) ∈ lw_all := lw_g (lw_at lw_m2 221 rfl) rfl
theorem q532 : (Jvm.Cond.methodLink "KeyringCourt$Person" (9 : Nat) ({ cls := "java/lang/Object", name := "<init>", desc := "()V" } : Jvm.MethodName)) ∈ lw_all := lw_g (lw_at lw_m2 222 rfl) rfl
theorem q533 : (Jvm.Cond.classLink "KeyringCourt$Person" (22 : Nat) "java/util/BitSet") ∈ lw_all := lw_g (lw_at lw_m2 223 rfl) rfl
theorem q534 : (Jvm.Cond.methodLink "KeyringCourt$Person" (24 : Nat) ({ cls := "java/util/BitSet", name := "<init>", desc := "()V" } : Jvm.MethodName)) ∈ lw_all := lw_g (lw_at lw_m2 224 rfl) rfl
theorem q535 : (Jvm.Cond.classLink "KeyringCourt$Person" (35 : Nat) "java/util/LinkedList") ∈ lw_all := lw_g (lw_at lw_m2 225 rfl) rfl
theorem q537 : (Jvm.Cond.methodLink "KeyringCourt$Person" (37 : Nat) ({ cls := "java/util/LinkedList", name := "<init>", desc := "()V" } : Jvm.MethodName)) ∈ lw_all := lw_g (lw_at lw_m2 227 rfl) rfl
theorem q557 : (Jvm.Cond.fieldLink "KeyringCourt$Person" (42 : Nat) "KeyringCourt$Person" "number" "I") ∈ lw_all := lw_g (lw_at lw_m3 7 rfl) rfl
theorem q560 : (Jvm.Cond.fieldLink "KeyringCourt$Person" (15 : Nat) "KeyringCourt$Person" "states" "[I") ∈ lw_all := lw_g (lw_at lw_m3 10 rfl) rfl
theorem q564 : (Jvm.Cond.fieldLink "KeyringCourt$Person" (19 : Nat) "KeyringCourt$Person" "row" "[I") ∈ lw_all := lw_g (lw_at lw_m3 14 rfl) rfl
theorem q565 : (Jvm.Cond.fieldLink "KeyringCourt$Person" (46 : Nat) "KeyringCourt$Person" "counter" "I") ∈ lw_all := lw_g (lw_at lw_m3 15 rfl) rfl
theorem q568 : (Jvm.Cond.fieldLink "KeyringCourt$Person" (25 : Nat) "KeyringCourt$Person" "devices" "Ljava/util/BitSet;") ∈ lw_all := lw_g (lw_at lw_m3 18 rfl) rfl
theorem q570 : (Jvm.Cond.fieldLink "KeyringCourt$Person" (29 : Nat) "KeyringCourt$Person" "places" "Ljava/util/BitSet;") ∈ lw_all := lw_g (lw_at lw_m3 20 rfl) rfl
theorem q572 : (Jvm.Cond.fieldLink "KeyringCourt$Person" (32 : Nat) "KeyringCourt$Person" "consents" "[I") ∈ lw_all := lw_g (lw_at lw_m3 22 rfl) rfl
theorem q574 : (Jvm.Cond.fieldLink "KeyringCourt$Person" (38 : Nat) "KeyringCourt$Person" "wrongs" "Ljava/util/LinkedList;") ∈ lw_all := lw_g (lw_at lw_m3 24 rfl) rfl
theorem q575 : (Jvm.Cond.fieldLink "KeyringCourt$Person" (3 : Nat) "KeyringCourt$Person" "this$0" "LKeyringCourt;") ∈ lw_all := lw_g (lw_at lw_m3 25 rfl) rfl
theorem q576 : (Jvm.Cond.laysFinal "KeyringCourt$Person" "KeyringCourt$Person" "number" "I") ∈ lw_all := lw_g (lw_at lw_m3 26 rfl) rfl
theorem q577 : (Jvm.Cond.soleField "KeyringCourt$Person" "number") ∈ lw_all := lw_g (lw_at lw_m3 27 rfl) rfl
theorem q578 : (Jvm.Cond.laysFinal "KeyringCourt$Person" "KeyringCourt$Person" "states" "[I") ∈ lw_all := lw_g (lw_at lw_m3 28 rfl) rfl
theorem q579 : (Jvm.Cond.soleField "KeyringCourt$Person" "states") ∈ lw_all := lw_g (lw_at lw_m3 29 rfl) rfl
theorem q580 : (Jvm.Cond.laysFinal "KeyringCourt$Person" "KeyringCourt$Person" "row" "[I") ∈ lw_all := lw_g (lw_at lw_m3 30 rfl) rfl
theorem q581 : (Jvm.Cond.soleField "KeyringCourt$Person" "row") ∈ lw_all := lw_g (lw_at lw_m3 31 rfl) rfl
theorem q582 : (Jvm.Cond.lays "KeyringCourt$Person" "KeyringCourt$Person" "counter" "I") ∈ lw_all := lw_g (lw_at lw_m3 32 rfl) rfl
theorem q583 : (Jvm.Cond.soleField "KeyringCourt$Person" "counter") ∈ lw_all := lw_g (lw_at lw_m3 33 rfl) rfl
theorem q584 : (Jvm.Cond.lays "KeyringCourt$Person" "KeyringCourt$Person" "isAway" "Z") ∈ lw_all := lw_g (lw_at lw_m3 34 rfl) rfl
theorem q585 : (Jvm.Cond.soleField "KeyringCourt$Person" "isAway") ∈ lw_all := lw_g (lw_at lw_m3 35 rfl) rfl
theorem q586 : (Jvm.Cond.lays "KeyringCourt$Person" "KeyringCourt$Person" "isHelper" "Z") ∈ lw_all := lw_g (lw_at lw_m3 36 rfl) rfl
theorem q587 : (Jvm.Cond.soleField "KeyringCourt$Person" "isHelper") ∈ lw_all := lw_g (lw_at lw_m3 37 rfl) rfl
theorem q588 : (Jvm.Cond.laysFinal "KeyringCourt$Person" "KeyringCourt$Person" "devices" "Ljava/util/BitSet;") ∈ lw_all := lw_g (lw_at lw_m3 38 rfl) rfl
theorem q589 : (Jvm.Cond.soleField "KeyringCourt$Person" "devices") ∈ lw_all := lw_g (lw_at lw_m3 39 rfl) rfl
theorem q590 : (Jvm.Cond.laysFinal "KeyringCourt$Person" "KeyringCourt$Person" "places" "Ljava/util/BitSet;") ∈ lw_all := lw_g (lw_at lw_m3 40 rfl) rfl
theorem q591 : (Jvm.Cond.soleField "KeyringCourt$Person" "places") ∈ lw_all := lw_g (lw_at lw_m3 41 rfl) rfl
theorem q592 : (Jvm.Cond.laysFinal "KeyringCourt$Person" "KeyringCourt$Person" "consents" "[I") ∈ lw_all := lw_g (lw_at lw_m3 42 rfl) rfl
theorem q593 : (Jvm.Cond.soleField "KeyringCourt$Person" "consents") ∈ lw_all := lw_g (lw_at lw_m3 43 rfl) rfl
theorem q594 : (Jvm.Cond.laysFinal "KeyringCourt$Person" "KeyringCourt$Person" "wrongs" "Ljava/util/LinkedList;") ∈ lw_all := lw_g (lw_at lw_m3 44 rfl) rfl
theorem q595 : (Jvm.Cond.soleField "KeyringCourt$Person" "wrongs") ∈ lw_all := lw_g (lw_at lw_m3 45 rfl) rfl
theorem q596 : (Jvm.Cond.laysFinal "KeyringCourt$Person" "KeyringCourt$Person" "this$0" "LKeyringCourt;") ∈ lw_all := lw_g (lw_at lw_m3 46 rfl) rfl
theorem q597 : (Jvm.Cond.soleField "KeyringCourt$Person" "this$0") ∈ lw_all := lw_g (lw_at lw_m3 47 rfl) rfl
theorem q598 : (Jvm.Cond.superclass "KeyringCourt$Person" "java/lang/Object") ∈ lw_all := lw_g (lw_at lw_m3 48 rfl) rfl
theorem q705 : (Jvm.Cond.fieldLinkNest "KeyringCourt$Person" (61 : Nat) "KeyringCourt" "now" "I" "KeyringCourt") ∈ lw_tbl := lw_at lw_m3 155 rfl
theorem q903 : (Jvm.Cond.selects "KeyringCourt$Person" ({ cls := "java/lang/Object", name := "getClass", desc := "()Ljava/lang/Class;" } : Jvm.MethodName) ({ cls := "java/lang/Object", name := "getClass", desc := "()Ljava/lang/Class;" } : Jvm.MethodName)) ∈ lw_all := lw_g (lw_at lw_m4 113 rfl) rfl
theorem q1118 : (Jvm.Cond.instanceMethod ({ cls := "KeyringCourt$Person", name := "enroll", desc := "(I)I" } : Jvm.MethodName)) ∈ lw_all := lw_g (lw_at lw_m5 88 rfl) rfl
theorem q1119 : (Jvm.Cond.selects "KeyringCourt$Person" ({ cls := "KeyringCourt$Person", name := "enroll", desc := "(I)I" } : Jvm.MethodName) ({ cls := "KeyringCourt$Person", name := "enroll", desc := "(I)I" } : Jvm.MethodName)) ∈ lw_all := lw_g (lw_at lw_m5 89 rfl) rfl
theorem q1120 : (Jvm.Cond.code ({ cls := "KeyringCourt$Person", name := "enroll", desc := "(I)I" } : Jvm.MethodName) prog_7_method_2_code (3 : Nat) (Option.some Jvm.ClassFile.FieldType.int)) ∈ lw_all := lw_g (lw_at lw_m5 90 rfl) rfl
theorem q1408 : (Jvm.Cond.instanceMethod ({ cls := "KeyringCourt$Person", name := "wrongsOfHour", desc := "()I" } : Jvm.MethodName)) ∈ lw_all := lw_g (lw_at lw_m6 138 rfl) rfl
theorem q1409 : (Jvm.Cond.selects "KeyringCourt$Person" ({ cls := "KeyringCourt$Person", name := "wrongsOfHour", desc := "()I" } : Jvm.MethodName) ({ cls := "KeyringCourt$Person", name := "wrongsOfHour", desc := "()I" } : Jvm.MethodName)) ∈ lw_all := lw_g (lw_at lw_m6 139 rfl) rfl
theorem q1410 : (Jvm.Cond.code ({ cls := "KeyringCourt$Person", name := "wrongsOfHour", desc := "()I" } : Jvm.MethodName) prog_7_method_6_code (3 : Nat) (Option.some Jvm.ClassFile.FieldType.int)) ∈ lw_all := lw_g (lw_at lw_m6 140 rfl) rfl
theorem q1411 : (Jvm.Cond.methodLink "KeyringCourt$Person" (74 : Nat) ({ cls := "java/util/LinkedList", name := "descendingIterator", desc := "()Ljava/util/Iterator;" } : Jvm.MethodName)) ∈ lw_all := lw_g (lw_at lw_m6 141 rfl) rfl
theorem q1452 : (Jvm.Cond.interfaceEntry "KeyringCourt$Person" (78 : Nat)) ∈ lw_tbl := lw_at lw_m6 182 rfl
theorem q1453 : (Jvm.Cond.methodLink "KeyringCourt$Person" (78 : Nat) ({ cls := "java/util/Iterator", name := "hasNext", desc := "()Z" } : Jvm.MethodName)) ∈ lw_all := lw_g (lw_at lw_m6 183 rfl) rfl
theorem q1488 : (Jvm.Cond.interfaceEntry "KeyringCourt$Person" (84 : Nat)) ∈ lw_tbl := lw_at lw_m6 218 rfl
theorem q1489 : (Jvm.Cond.methodLink "KeyringCourt$Person" (84 : Nat) ({ cls := "java/util/Iterator", name := "next", desc := "()Ljava/lang/Object;" } : Jvm.MethodName)) ∈ lw_all := lw_g (lw_at lw_m6 219 rfl) rfl
theorem q1596 : (Jvm.Cond.classLink "KeyringCourt$Person" (65 : Nat) "java/lang/Integer") ∈ lw_all := lw_g (lw_at lw_m7 86 rfl) rfl
theorem q1597 : (Jvm.Cond.methodLink "KeyringCourt$Person" (88 : Nat) ({ cls := "java/lang/Integer", name := "intValue", desc := "()I" } : Jvm.MethodName)) ∈ lw_all := lw_g (lw_at lw_m7 87 rfl) rfl
theorem q1708 : (Jvm.Cond.instanceMethod ({ cls := "KeyringCourt$Person", name := "answers", desc := "(IZI)Z" } : Jvm.MethodName)) ∈ lw_all := lw_g (lw_at lw_m7 198 rfl) rfl
theorem q1709 : (Jvm.Cond.selects "KeyringCourt$Person" ({ cls := "KeyringCourt$Person", name := "answers", desc := "(IZI)Z" } : Jvm.MethodName) ({ cls := "KeyringCourt$Person", name := "answers", desc := "(IZI)Z" } : Jvm.MethodName)) ∈ lw_all := lw_g (lw_at lw_m7 199 rfl) rfl
theorem q1710 : (Jvm.Cond.code ({ cls := "KeyringCourt$Person", name := "answers", desc := "(IZI)Z" } : Jvm.MethodName) prog_7_method_5_code (5 : Nat) (Option.some Jvm.ClassFile.FieldType.boolean)) ∈ lw_all := lw_g (lw_at lw_m7 200 rfl) rfl
theorem q1711 : (Jvm.Cond.methodLink "KeyringCourt$Person" (57 : Nat) ({ cls := "KeyringCourt$Person", name := "isTaken", desc := "(IZI)Z" } : Jvm.MethodName)) ∈ lw_all := lw_g (lw_at lw_m7 201 rfl) rfl
theorem q1712 : (Jvm.Cond.privateMethod ({ cls := "KeyringCourt$Person", name := "isTaken", desc := "(IZI)Z" } : Jvm.MethodName)) ∈ lw_tbl := lw_at lw_m7 202 rfl
theorem q1713 : (Jvm.Cond.instanceMethod ({ cls := "KeyringCourt$Person", name := "isTaken", desc := "(IZI)Z" } : Jvm.MethodName)) ∈ lw_all := lw_g (lw_at lw_m7 203 rfl) rfl
theorem q1714 : (Jvm.Cond.code ({ cls := "KeyringCourt$Person", name := "isTaken", desc := "(IZI)Z" } : Jvm.MethodName) prog_7_method_4_code (4 : Nat) (Option.some Jvm.ClassFile.FieldType.boolean)) ∈ lw_all := lw_g (lw_at lw_m7 204 rfl) rfl
theorem q1715 : (Jvm.Cond.methodLink "KeyringCourt$Person" (53 : Nat) ({ cls := "KeyringCourt$Person", name := "suspend", desc := "(I)V" } : Jvm.MethodName)) ∈ lw_all := lw_g (lw_at lw_m7 205 rfl) rfl
theorem q1716 : (Jvm.Cond.privateMethod ({ cls := "KeyringCourt$Person", name := "suspend", desc := "(I)V" } : Jvm.MethodName)) ∈ lw_tbl := lw_at lw_m7 206 rfl
theorem q1717 : (Jvm.Cond.instanceMethod ({ cls := "KeyringCourt$Person", name := "suspend", desc := "(I)V" } : Jvm.MethodName)) ∈ lw_all := lw_g (lw_at lw_m7 207 rfl) rfl
theorem q1718 : (Jvm.Cond.code ({ cls := "KeyringCourt$Person", name := "suspend", desc := "(I)V" } : Jvm.MethodName) prog_7_method_3_code (2 : Nat) (Option.none : Option Jvm.ClassFile.FieldType)) ∈ lw_all := lw_g (lw_at lw_m7 208 rfl) rfl
theorem q1719 : (Jvm.Cond.methodLinkNest "KeyringCourt$Person" (49 : Nat) ({ cls := "KeyringCourt", name := "write", desc := "(II)V" } : Jvm.MethodName) "KeyringCourt") ∈ lw_tbl := lw_at lw_m7 209 rfl
theorem q1720 : (Jvm.Cond.methodLink "KeyringCourt$Person" (64 : Nat) ({ cls := "java/lang/Integer", name := "valueOf", desc := "(I)Ljava/lang/Integer;" } : Jvm.MethodName)) ∈ lw_all := lw_g (lw_at lw_m7 210 rfl) rfl
theorem q1721 : (Jvm.Cond.methodLink "KeyringCourt$Person" (70 : Nat) ({ cls := "java/util/LinkedList", name := "add", desc := "(Ljava/lang/Object;)Z" } : Jvm.MethodName)) ∈ lw_all := lw_g (lw_at lw_m7 211 rfl) rfl
theorem q2357 : (Jvm.Cond.instanceMethod ({ cls := "KeyringCourt$Person", name := "enrolled", desc := "()I" } : Jvm.MethodName)) ∈ lw_all := lw_g (lw_at lw_m10 127 rfl) rfl
theorem q2358 : (Jvm.Cond.selects "KeyringCourt$Person" ({ cls := "KeyringCourt$Person", name := "enrolled", desc := "()I" } : Jvm.MethodName) ({ cls := "KeyringCourt$Person", name := "enrolled", desc := "()I" } : Jvm.MethodName)) ∈ lw_all := lw_g (lw_at lw_m10 128 rfl) rfl
theorem q2359 : (Jvm.Cond.code ({ cls := "KeyringCourt$Person", name := "enrolled", desc := "()I" } : Jvm.MethodName) prog_7_method_7_code (3 : Nat) (Option.some Jvm.ClassFile.FieldType.int)) ∈ lw_all := lw_g (lw_at lw_m10 129 rfl) rfl
theorem q3048 : (Jvm.Cond.castable "KeyringCourt$Person" "java/lang/Object") ∈ lw_tbl := lw_at lw_m13 98 rfl
theorem in_X3 : ∀ w ∈ wsX30, w ∈ lw_all := lw_in wsX30 [576, 578, 580, 582, 584, 586, 588, 590, 592, 594, 596] (by decide +kernel) (by decide +kernel)
/-! KeyringCourt$Service -/
set_option maxRecDepth 100000
def RX4 : String := "KeyringCourt$Service"
def TX4 : u_T := fun k => match k with
  | 0 => ("KeyringCourt$Service", "isDown", "Z", false)
  | 1 => ("KeyringCourt$Service", "cache", "Ljava/util/BitSet;", false)
  | 2 => ("KeyringCourt$Service", "fetched", "I", false)
  | 3 => ("KeyringCourt$Service", "told", "Ljava/util/BitSet;", true)
  | 4 => ("KeyringCourt$Service", "untold", "Ljava/util/LinkedList;", true)
  | 5 => ("KeyringCourt$Service", "need", "I", false)
  | _ => ("KeyringCourt$Service", "this$0", "LKeyringCourt;", true)
def tyX4 : Nat → FieldType := fun k => match k with
  | 0 => .boolean
  | 1 => .object "java/util/BitSet"
  | 2 => .int
  | 3 => .object "java/util/BitSet"
  | 4 => .object "java/util/LinkedList"
  | 5 => .int
  | _ => .object "KeyringCourt"
abbrev wsX40 : List Cond := u_ws RX4 TX4 7
theorem nmX4 : ∀ a, a < 7 → ∀ b, b < 7 → a ≠ b → (TX4 a).2.1 ≠ (TX4 b).2.1 := by decide +kernel
theorem tyX4_ok : ∀ k, k < 7 → parseFieldDescriptor (TX4 k).2.2.1 = some (tyX4 k) := by decide +kernel
abbrev cX4_init : ByteArray := prog_9_method_1_code
def yX4_init : MethodName := ⟨RX4, "<init>", "(LKeyringCourt;)V"⟩
def dkwX4_init_2 : List UInt8 := [182, 0, 32, 177]
abbrev dktX4_init_2 : List UInt8 := dkwX4_init_2 ++ []
def dkwX4_init_1 : List UInt8 := [89, 183, 0, 17, 181, 0, 22, 42, 187, 0, 25, 89, 183, 0, 27, 181, 0, 28, 42, 180, 0, 18, 3]
abbrev dktX4_init_1 : List UInt8 := dkwX4_init_1 ++ dktX4_init_2
def dkwX4_init_0 : List UInt8 := [42, 43, 181, 0, 3, 42, 183, 0, 9, 42, 187, 0, 15, 89, 183, 0, 17, 181, 0, 18, 42, 187, 0, 15]
abbrev dktX4_init_0 : List UInt8 := dkwX4_init_0 ++ dktX4_init_1
theorem dksX4_init_0 : cX4_init.data.toList.drop 0 = dktX4_init_0 := by decide +kernel
theorem dksX4_init_1 : cX4_init.data.toList.drop 24 = dktX4_init_1 := dk_seg dksX4_init_0 24 rfl rfl
theorem dksX4_init_2 : cX4_init.data.toList.drop 47 = dktX4_init_2 := dk_seg dksX4_init_1 23 rfl rfl
theorem dX4_init_0 : decode cX4_init 0 = .ok (.aload_n 0, 1) := dk_42 (dk_at dksX4_init_0 0 rfl rfl)
theorem dX4_init_1 : decode cX4_init 1 = .ok (.aload_n 1, 1) := dk_43 (dk_at dksX4_init_0 1 rfl rfl)
theorem dX4_init_2 : decode cX4_init 2 = .ok (.putfield 3, 3) := dk_181 0 3 (dk_at dksX4_init_0 2 rfl rfl)
theorem dX4_init_5 : decode cX4_init 5 = .ok (.aload_n 0, 1) := dk_42 (dk_at dksX4_init_0 5 rfl rfl)
theorem dX4_init_6 : decode cX4_init 6 = .ok (.invokespecial 9, 3) := dk_183 0 9 (dk_at dksX4_init_0 6 rfl rfl)
theorem dX4_init_9 : decode cX4_init 9 = .ok (.aload_n 0, 1) := dk_42 (dk_at dksX4_init_0 9 rfl rfl)
theorem dX4_init_10 : decode cX4_init 10 = .ok (.new 15, 3) := dk_187 0 15 (dk_at dksX4_init_0 10 rfl rfl)
theorem dX4_init_13 : decode cX4_init 13 = .ok (.dup, 1) := dk_89 (dk_at dksX4_init_0 13 rfl rfl)
theorem dX4_init_14 : decode cX4_init 14 = .ok (.invokespecial 17, 3) := dk_183 0 17 (dk_at dksX4_init_0 14 rfl rfl)
theorem dX4_init_17 : decode cX4_init 17 = .ok (.putfield 18, 3) := dk_181 0 18 (dk_at dksX4_init_0 17 rfl rfl)
theorem dX4_init_20 : decode cX4_init 20 = .ok (.aload_n 0, 1) := dk_42 (dk_at dksX4_init_0 20 rfl rfl)
theorem dX4_init_21 : decode cX4_init 21 = .ok (.new 15, 3) := dk_187 0 15 (dk_at dksX4_init_0 21 rfl rfl)
theorem dX4_init_24 : decode cX4_init 24 = .ok (.dup, 1) := dk_89 (dk_at dksX4_init_1 0 rfl rfl)
theorem dX4_init_25 : decode cX4_init 25 = .ok (.invokespecial 17, 3) := dk_183 0 17 (dk_at dksX4_init_1 1 rfl rfl)
theorem dX4_init_28 : decode cX4_init 28 = .ok (.putfield 22, 3) := dk_181 0 22 (dk_at dksX4_init_1 4 rfl rfl)
theorem dX4_init_31 : decode cX4_init 31 = .ok (.aload_n 0, 1) := dk_42 (dk_at dksX4_init_1 7 rfl rfl)
theorem dX4_init_32 : decode cX4_init 32 = .ok (.new 25, 3) := dk_187 0 25 (dk_at dksX4_init_1 8 rfl rfl)
theorem dX4_init_35 : decode cX4_init 35 = .ok (.dup, 1) := dk_89 (dk_at dksX4_init_1 11 rfl rfl)
theorem dX4_init_36 : decode cX4_init 36 = .ok (.invokespecial 27, 3) := dk_183 0 27 (dk_at dksX4_init_1 12 rfl rfl)
theorem dX4_init_39 : decode cX4_init 39 = .ok (.putfield 28, 3) := dk_181 0 28 (dk_at dksX4_init_1 15 rfl rfl)
theorem dX4_init_42 : decode cX4_init 42 = .ok (.aload_n 0, 1) := dk_42 (dk_at dksX4_init_1 18 rfl rfl)
theorem dX4_init_43 : decode cX4_init 43 = .ok (.getfield 18, 3) := dk_180 0 18 (dk_at dksX4_init_1 19 rfl rfl)
theorem dX4_init_46 : decode cX4_init 46 = .ok (.iconst 0, 1) := dk_3 (dk_at dksX4_init_1 22 rfl rfl)
theorem dX4_init_47 : decode cX4_init 47 = .ok (.invokevirtual 32, 3) := dk_182 0 32 (dk_at dksX4_init_2 0 rfl rfl)
theorem dX4_init_50 : decode cX4_init 50 = .ok (.return_, 1) := dk_177 (dk_at dksX4_init_2 3 rfl rfl)
abbrev cX4_tell : ByteArray := prog_9_method_2_code
def yX4_tell : MethodName := ⟨RX4, "tell", "(LKeyringCourt$Family;)V"⟩
def dkwX4_tell_1 : List UInt8 := [180, 0, 44, 182, 0, 32, 177]
abbrev dktX4_tell_1 : List UInt8 := dkwX4_tell_1 ++ []
def dkwX4_tell_0 : List UInt8 := [42, 180, 0, 36, 153, 0, 15, 42, 180, 0, 28, 43, 182, 0, 40, 87, 167, 0, 14, 42, 180, 0, 22, 43]
abbrev dktX4_tell_0 : List UInt8 := dkwX4_tell_0 ++ dktX4_tell_1
theorem dksX4_tell_0 : cX4_tell.data.toList.drop 0 = dktX4_tell_0 := by decide +kernel
theorem dksX4_tell_1 : cX4_tell.data.toList.drop 24 = dktX4_tell_1 := dk_seg dksX4_tell_0 24 rfl rfl
theorem dX4_tell_0 : decode cX4_tell 0 = .ok (.aload_n 0, 1) := dk_42 (dk_at dksX4_tell_0 0 rfl rfl)
theorem dX4_tell_1 : decode cX4_tell 1 = .ok (.getfield 36, 3) := dk_180 0 36 (dk_at dksX4_tell_0 1 rfl rfl)
theorem dX4_tell_4 : decode cX4_tell 4 = .ok (.ifCond .eq 15, 3) := dk_153 0 15 (dk_at dksX4_tell_0 4 rfl rfl)
theorem dX4_tell_7 : decode cX4_tell 7 = .ok (.aload_n 0, 1) := dk_42 (dk_at dksX4_tell_0 7 rfl rfl)
theorem dX4_tell_8 : decode cX4_tell 8 = .ok (.getfield 28, 3) := dk_180 0 28 (dk_at dksX4_tell_0 8 rfl rfl)
theorem dX4_tell_11 : decode cX4_tell 11 = .ok (.aload_n 1, 1) := dk_43 (dk_at dksX4_tell_0 11 rfl rfl)
theorem dX4_tell_12 : decode cX4_tell 12 = .ok (.invokevirtual 40, 3) := dk_182 0 40 (dk_at dksX4_tell_0 12 rfl rfl)
theorem dX4_tell_15 : decode cX4_tell 15 = .ok (.pop, 1) := dk_87 (dk_at dksX4_tell_0 15 rfl rfl)
theorem dX4_tell_16 : decode cX4_tell 16 = .ok (.goto 14, 3) := dk_167 0 14 (dk_at dksX4_tell_0 16 rfl rfl)
theorem dX4_tell_19 : decode cX4_tell 19 = .ok (.aload_n 0, 1) := dk_42 (dk_at dksX4_tell_0 19 rfl rfl)
theorem dX4_tell_20 : decode cX4_tell 20 = .ok (.getfield 22, 3) := dk_180 0 22 (dk_at dksX4_tell_0 20 rfl rfl)
theorem dX4_tell_23 : decode cX4_tell 23 = .ok (.aload_n 1, 1) := dk_43 (dk_at dksX4_tell_0 23 rfl rfl)
theorem dX4_tell_24 : decode cX4_tell 24 = .ok (.getfield 44, 3) := dk_180 0 44 (dk_at dksX4_tell_1 0 rfl rfl)
theorem dX4_tell_27 : decode cX4_tell 27 = .ok (.invokevirtual 32, 3) := dk_182 0 32 (dk_at dksX4_tell_1 3 rfl rfl)
theorem dX4_tell_30 : decode cX4_tell 30 = .ok (.return_, 1) := dk_177 (dk_at dksX4_tell_1 6 rfl rfl)
abbrev cX4_turnLine : ByteArray := prog_9_method_4_code
def yX4_turnLine : MethodName := ⟨RX4, "turnLine", "()I"⟩
def dkwX4_turnLine_3 : List UInt8 := [167, 255, 212, 27, 172]
abbrev dktX4_turnLine_3 : List UInt8 := dkwX4_turnLine_3 ++ []
def dkwX4_turnLine_2 : List UInt8 := [44, 185, 0, 64, 1, 0, 192, 0, 45, 180, 0, 44, 182, 0, 32, 44, 185, 0, 68, 1, 0, 132, 1, 1]
abbrev dktX4_turnLine_2 : List UInt8 := dkwX4_turnLine_2 ++ dktX4_turnLine_3
def dkwX4_turnLine_1 : List UInt8 := [182, 0, 54, 77, 42, 180, 0, 36, 154, 0, 43, 44, 185, 0, 58, 1, 0, 153, 0, 34, 42, 180, 0, 22]
abbrev dktX4_turnLine_1 : List UInt8 := dkwX4_turnLine_1 ++ dktX4_turnLine_2
def dkwX4_turnLine_0 : List UInt8 := [42, 42, 180, 0, 36, 154, 0, 7, 4, 167, 0, 4, 3, 181, 0, 36, 3, 60, 42, 180, 0, 28]
abbrev dktX4_turnLine_0 : List UInt8 := dkwX4_turnLine_0 ++ dktX4_turnLine_1
theorem dksX4_turnLine_0 : cX4_turnLine.data.toList.drop 0 = dktX4_turnLine_0 := by decide +kernel
theorem dksX4_turnLine_1 : cX4_turnLine.data.toList.drop 22 = dktX4_turnLine_1 := dk_seg dksX4_turnLine_0 22 rfl rfl
theorem dksX4_turnLine_2 : cX4_turnLine.data.toList.drop 46 = dktX4_turnLine_2 := dk_seg dksX4_turnLine_1 24 rfl rfl
theorem dksX4_turnLine_3 : cX4_turnLine.data.toList.drop 70 = dktX4_turnLine_3 := dk_seg dksX4_turnLine_2 24 rfl rfl
theorem dX4_turnLine_0 : decode cX4_turnLine 0 = .ok (.aload_n 0, 1) := dk_42 (dk_at dksX4_turnLine_0 0 rfl rfl)
theorem dX4_turnLine_1 : decode cX4_turnLine 1 = .ok (.aload_n 0, 1) := dk_42 (dk_at dksX4_turnLine_0 1 rfl rfl)
theorem dX4_turnLine_2 : decode cX4_turnLine 2 = .ok (.getfield 36, 3) := dk_180 0 36 (dk_at dksX4_turnLine_0 2 rfl rfl)
theorem dX4_turnLine_5 : decode cX4_turnLine 5 = .ok (.ifCond .ne 7, 3) := dk_154 0 7 (dk_at dksX4_turnLine_0 5 rfl rfl)
theorem dX4_turnLine_8 : decode cX4_turnLine 8 = .ok (.iconst 1, 1) := dk_4 (dk_at dksX4_turnLine_0 8 rfl rfl)
theorem dX4_turnLine_9 : decode cX4_turnLine 9 = .ok (.goto 4, 3) := dk_167 0 4 (dk_at dksX4_turnLine_0 9 rfl rfl)
theorem dX4_turnLine_12 : decode cX4_turnLine 12 = .ok (.iconst 0, 1) := dk_3 (dk_at dksX4_turnLine_0 12 rfl rfl)
theorem dX4_turnLine_13 : decode cX4_turnLine 13 = .ok (.putfield 36, 3) := dk_181 0 36 (dk_at dksX4_turnLine_0 13 rfl rfl)
theorem dX4_turnLine_16 : decode cX4_turnLine 16 = .ok (.iconst 0, 1) := dk_3 (dk_at dksX4_turnLine_0 16 rfl rfl)
theorem dX4_turnLine_17 : decode cX4_turnLine 17 = .ok (.istore_n 1, 1) := dk_60 (dk_at dksX4_turnLine_0 17 rfl rfl)
theorem dX4_turnLine_18 : decode cX4_turnLine 18 = .ok (.aload_n 0, 1) := dk_42 (dk_at dksX4_turnLine_0 18 rfl rfl)
theorem dX4_turnLine_19 : decode cX4_turnLine 19 = .ok (.getfield 28, 3) := dk_180 0 28 (dk_at dksX4_turnLine_0 19 rfl rfl)
theorem dX4_turnLine_22 : decode cX4_turnLine 22 = .ok (.invokevirtual 54, 3) := dk_182 0 54 (dk_at dksX4_turnLine_1 0 rfl rfl)
theorem dX4_turnLine_25 : decode cX4_turnLine 25 = .ok (.astore_n 2, 1) := dk_77 (dk_at dksX4_turnLine_1 3 rfl rfl)
theorem dX4_turnLine_26 : decode cX4_turnLine 26 = .ok (.aload_n 0, 1) := dk_42 (dk_at dksX4_turnLine_1 4 rfl rfl)
theorem dX4_turnLine_27 : decode cX4_turnLine 27 = .ok (.getfield 36, 3) := dk_180 0 36 (dk_at dksX4_turnLine_1 5 rfl rfl)
theorem dX4_turnLine_30 : decode cX4_turnLine 30 = .ok (.ifCond .ne 43, 3) := dk_154 0 43 (dk_at dksX4_turnLine_1 8 rfl rfl)
theorem dX4_turnLine_33 : decode cX4_turnLine 33 = .ok (.aload_n 2, 1) := dk_44 (dk_at dksX4_turnLine_1 11 rfl rfl)
theorem dX4_turnLine_34 : decode cX4_turnLine 34 = .ok (.invokeinterface 58 1, 5) := by decide +kernel
theorem dX4_turnLine_39 : decode cX4_turnLine 39 = .ok (.ifCond .eq 34, 3) := dk_153 0 34 (dk_at dksX4_turnLine_1 17 rfl rfl)
theorem dX4_turnLine_42 : decode cX4_turnLine 42 = .ok (.aload_n 0, 1) := dk_42 (dk_at dksX4_turnLine_1 20 rfl rfl)
theorem dX4_turnLine_43 : decode cX4_turnLine 43 = .ok (.getfield 22, 3) := dk_180 0 22 (dk_at dksX4_turnLine_1 21 rfl rfl)
theorem dX4_turnLine_46 : decode cX4_turnLine 46 = .ok (.aload_n 2, 1) := dk_44 (dk_at dksX4_turnLine_2 0 rfl rfl)
theorem dX4_turnLine_47 : decode cX4_turnLine 47 = .ok (.invokeinterface 64 1, 5) := by decide +kernel
theorem dX4_turnLine_52 : decode cX4_turnLine 52 = .ok (.checkcast 45, 3) := dk_192 0 45 (dk_at dksX4_turnLine_2 6 rfl rfl)
theorem dX4_turnLine_55 : decode cX4_turnLine 55 = .ok (.getfield 44, 3) := dk_180 0 44 (dk_at dksX4_turnLine_2 9 rfl rfl)
theorem dX4_turnLine_58 : decode cX4_turnLine 58 = .ok (.invokevirtual 32, 3) := dk_182 0 32 (dk_at dksX4_turnLine_2 12 rfl rfl)
theorem dX4_turnLine_61 : decode cX4_turnLine 61 = .ok (.aload_n 2, 1) := dk_44 (dk_at dksX4_turnLine_2 15 rfl rfl)
theorem dX4_turnLine_62 : decode cX4_turnLine 62 = .ok (.invokeinterface 68 1, 5) := by decide +kernel
theorem dX4_turnLine_67 : decode cX4_turnLine 67 = .ok (.iinc 1 1, 3) := dk_132 1 1 (dk_at dksX4_turnLine_2 21 rfl rfl)
theorem dX4_turnLine_70 : decode cX4_turnLine 70 = .ok (.goto (-44), 3) := dk_167 255 212 (dk_at dksX4_turnLine_3 0 rfl rfl)
theorem dX4_turnLine_73 : decode cX4_turnLine 73 = .ok (.iload_n 1, 1) := dk_27 (dk_at dksX4_turnLine_3 3 rfl rfl)
theorem dX4_turnLine_74 : decode cX4_turnLine 74 = .ok (.ireturn, 1) := dk_172 (dk_at dksX4_turnLine_3 4 rfl rfl)
abbrev cX4_check : ByteArray := prog_9_method_5_code
def yX4_check : MethodName := ⟨RX4, "check", "(LKeyringCourt$Token;I)I"⟩
def dkwX4_check_5 : List UInt8 := [160, 0, 7, 3, 167, 0, 4, 8, 172]
abbrev dktX4_check_5 : List UInt8 := dkwX4_check_5 ++ []
def dkwX4_check_4 : List UInt8 := [6, 172, 42, 43, 180, 0, 91, 182, 0, 95, 153, 0, 5, 7, 172, 43, 180, 0, 99, 28, 122, 4, 126, 4]
abbrev dktX4_check_4 : List UInt8 := dkwX4_check_4 ++ dktX4_check_5
def dkwX4_check_3 : List UInt8 := [42, 180, 0, 3, 180, 0, 71, 181, 0, 79, 42, 180, 0, 18, 43, 180, 0, 82, 182, 0, 50, 154, 0, 5]
abbrev dktX4_check_3 : List UInt8 := dkwX4_check_3 ++ dktX4_check_4
def dkwX4_check_2 : List UInt8 := [182, 0, 50, 154, 0, 31, 42, 42, 180, 0, 3, 180, 0, 85, 182, 0, 88, 192, 0, 15, 181, 0, 18, 42]
abbrev dktX4_check_2 : List UInt8 := dkwX4_check_2 ++ dktX4_check_3
def dkwX4_check_1 : List UInt8 := [180, 0, 3, 180, 0, 71, 42, 180, 0, 79, 100, 16, 15, 163, 0, 17, 42, 180, 0, 18, 43, 180, 0, 82]
abbrev dktX4_check_1 : List UInt8 := dkwX4_check_1 ++ dktX4_check_2
def dkwX4_check_0 : List UInt8 := [42, 180, 0, 3, 180, 0, 71, 43, 180, 0, 74, 164, 0, 5, 5, 172, 42, 180, 0, 36, 154, 0, 62, 42]
abbrev dktX4_check_0 : List UInt8 := dkwX4_check_0 ++ dktX4_check_1
theorem dksX4_check_0 : cX4_check.data.toList.drop 0 = dktX4_check_0 := by decide +kernel
theorem dksX4_check_1 : cX4_check.data.toList.drop 24 = dktX4_check_1 := dk_seg dksX4_check_0 24 rfl rfl
theorem dksX4_check_2 : cX4_check.data.toList.drop 48 = dktX4_check_2 := dk_seg dksX4_check_1 24 rfl rfl
theorem dksX4_check_3 : cX4_check.data.toList.drop 72 = dktX4_check_3 := dk_seg dksX4_check_2 24 rfl rfl
theorem dksX4_check_4 : cX4_check.data.toList.drop 96 = dktX4_check_4 := dk_seg dksX4_check_3 24 rfl rfl
theorem dksX4_check_5 : cX4_check.data.toList.drop 120 = dktX4_check_5 := dk_seg dksX4_check_4 24 rfl rfl
theorem dX4_check_0 : decode cX4_check 0 = .ok (.aload_n 0, 1) := dk_42 (dk_at dksX4_check_0 0 rfl rfl)
theorem dX4_check_1 : decode cX4_check 1 = .ok (.getfield 3, 3) := dk_180 0 3 (dk_at dksX4_check_0 1 rfl rfl)
theorem dX4_check_4 : decode cX4_check 4 = .ok (.getfield 71, 3) := dk_180 0 71 (dk_at dksX4_check_0 4 rfl rfl)
theorem dX4_check_7 : decode cX4_check 7 = .ok (.aload_n 1, 1) := dk_43 (dk_at dksX4_check_0 7 rfl rfl)
theorem dX4_check_8 : decode cX4_check 8 = .ok (.getfield 74, 3) := dk_180 0 74 (dk_at dksX4_check_0 8 rfl rfl)
theorem dX4_check_11 : decode cX4_check 11 = .ok (.if_icmp .le 5, 3) := dk_164 0 5 (dk_at dksX4_check_0 11 rfl rfl)
theorem dX4_check_14 : decode cX4_check 14 = .ok (.iconst 2, 1) := dk_5 (dk_at dksX4_check_0 14 rfl rfl)
theorem dX4_check_15 : decode cX4_check 15 = .ok (.ireturn, 1) := dk_172 (dk_at dksX4_check_0 15 rfl rfl)
theorem dX4_check_16 : decode cX4_check 16 = .ok (.aload_n 0, 1) := dk_42 (dk_at dksX4_check_0 16 rfl rfl)
theorem dX4_check_17 : decode cX4_check 17 = .ok (.getfield 36, 3) := dk_180 0 36 (dk_at dksX4_check_0 17 rfl rfl)
theorem dX4_check_20 : decode cX4_check 20 = .ok (.ifCond .ne 62, 3) := dk_154 0 62 (dk_at dksX4_check_0 20 rfl rfl)
theorem dX4_check_23 : decode cX4_check 23 = .ok (.aload_n 0, 1) := dk_42 (dk_at dksX4_check_0 23 rfl rfl)
theorem dX4_check_24 : decode cX4_check 24 = .ok (.getfield 3, 3) := dk_180 0 3 (dk_at dksX4_check_1 0 rfl rfl)
theorem dX4_check_27 : decode cX4_check 27 = .ok (.getfield 71, 3) := dk_180 0 71 (dk_at dksX4_check_1 3 rfl rfl)
theorem dX4_check_30 : decode cX4_check 30 = .ok (.aload_n 0, 1) := dk_42 (dk_at dksX4_check_1 6 rfl rfl)
theorem dX4_check_31 : decode cX4_check 31 = .ok (.getfield 79, 3) := dk_180 0 79 (dk_at dksX4_check_1 7 rfl rfl)
theorem dX4_check_34 : decode cX4_check 34 = .ok (.isub, 1) := dk_100 (dk_at dksX4_check_1 10 rfl rfl)
theorem dX4_check_35 : decode cX4_check 35 = .ok (.bipush 15, 2) := dk_16 15 (dk_at dksX4_check_1 11 rfl rfl)
theorem dX4_check_37 : decode cX4_check 37 = .ok (.if_icmp .gt 17, 3) := dk_163 0 17 (dk_at dksX4_check_1 13 rfl rfl)
theorem dX4_check_40 : decode cX4_check 40 = .ok (.aload_n 0, 1) := dk_42 (dk_at dksX4_check_1 16 rfl rfl)
theorem dX4_check_41 : decode cX4_check 41 = .ok (.getfield 18, 3) := dk_180 0 18 (dk_at dksX4_check_1 17 rfl rfl)
theorem dX4_check_44 : decode cX4_check 44 = .ok (.aload_n 1, 1) := dk_43 (dk_at dksX4_check_1 20 rfl rfl)
theorem dX4_check_45 : decode cX4_check 45 = .ok (.getfield 82, 3) := dk_180 0 82 (dk_at dksX4_check_1 21 rfl rfl)
theorem dX4_check_48 : decode cX4_check 48 = .ok (.invokevirtual 50, 3) := dk_182 0 50 (dk_at dksX4_check_2 0 rfl rfl)
theorem dX4_check_51 : decode cX4_check 51 = .ok (.ifCond .ne 31, 3) := dk_154 0 31 (dk_at dksX4_check_2 3 rfl rfl)
theorem dX4_check_54 : decode cX4_check 54 = .ok (.aload_n 0, 1) := dk_42 (dk_at dksX4_check_2 6 rfl rfl)
theorem dX4_check_55 : decode cX4_check 55 = .ok (.aload_n 0, 1) := dk_42 (dk_at dksX4_check_2 7 rfl rfl)
theorem dX4_check_56 : decode cX4_check 56 = .ok (.getfield 3, 3) := dk_180 0 3 (dk_at dksX4_check_2 8 rfl rfl)
theorem dX4_check_59 : decode cX4_check 59 = .ok (.getfield 85, 3) := dk_180 0 85 (dk_at dksX4_check_2 11 rfl rfl)
theorem dX4_check_62 : decode cX4_check 62 = .ok (.invokevirtual 88, 3) := dk_182 0 88 (dk_at dksX4_check_2 14 rfl rfl)
theorem dX4_check_65 : decode cX4_check 65 = .ok (.checkcast 15, 3) := dk_192 0 15 (dk_at dksX4_check_2 17 rfl rfl)
theorem dX4_check_68 : decode cX4_check 68 = .ok (.putfield 18, 3) := dk_181 0 18 (dk_at dksX4_check_2 20 rfl rfl)
theorem dX4_check_71 : decode cX4_check 71 = .ok (.aload_n 0, 1) := dk_42 (dk_at dksX4_check_2 23 rfl rfl)
theorem dX4_check_72 : decode cX4_check 72 = .ok (.aload_n 0, 1) := dk_42 (dk_at dksX4_check_3 0 rfl rfl)
theorem dX4_check_73 : decode cX4_check 73 = .ok (.getfield 3, 3) := dk_180 0 3 (dk_at dksX4_check_3 1 rfl rfl)
theorem dX4_check_76 : decode cX4_check 76 = .ok (.getfield 71, 3) := dk_180 0 71 (dk_at dksX4_check_3 4 rfl rfl)
theorem dX4_check_79 : decode cX4_check 79 = .ok (.putfield 79, 3) := dk_181 0 79 (dk_at dksX4_check_3 7 rfl rfl)
theorem dX4_check_82 : decode cX4_check 82 = .ok (.aload_n 0, 1) := dk_42 (dk_at dksX4_check_3 10 rfl rfl)
theorem dX4_check_83 : decode cX4_check 83 = .ok (.getfield 18, 3) := dk_180 0 18 (dk_at dksX4_check_3 11 rfl rfl)
theorem dX4_check_86 : decode cX4_check 86 = .ok (.aload_n 1, 1) := dk_43 (dk_at dksX4_check_3 14 rfl rfl)
theorem dX4_check_87 : decode cX4_check 87 = .ok (.getfield 82, 3) := dk_180 0 82 (dk_at dksX4_check_3 15 rfl rfl)
theorem dX4_check_90 : decode cX4_check 90 = .ok (.invokevirtual 50, 3) := dk_182 0 50 (dk_at dksX4_check_3 18 rfl rfl)
theorem dX4_check_93 : decode cX4_check 93 = .ok (.ifCond .ne 5, 3) := dk_154 0 5 (dk_at dksX4_check_3 21 rfl rfl)
theorem dX4_check_96 : decode cX4_check 96 = .ok (.iconst 3, 1) := dk_6 (dk_at dksX4_check_4 0 rfl rfl)
theorem dX4_check_97 : decode cX4_check 97 = .ok (.ireturn, 1) := dk_172 (dk_at dksX4_check_4 1 rfl rfl)
theorem dX4_check_98 : decode cX4_check 98 = .ok (.aload_n 0, 1) := dk_42 (dk_at dksX4_check_4 2 rfl rfl)
theorem dX4_check_99 : decode cX4_check 99 = .ok (.aload_n 1, 1) := dk_43 (dk_at dksX4_check_4 3 rfl rfl)
theorem dX4_check_100 : decode cX4_check 100 = .ok (.getfield 91, 3) := dk_180 0 91 (dk_at dksX4_check_4 4 rfl rfl)
theorem dX4_check_103 : decode cX4_check 103 = .ok (.invokevirtual 95, 3) := dk_182 0 95 (dk_at dksX4_check_4 7 rfl rfl)
theorem dX4_check_106 : decode cX4_check 106 = .ok (.ifCond .eq 5, 3) := dk_153 0 5 (dk_at dksX4_check_4 10 rfl rfl)
theorem dX4_check_109 : decode cX4_check 109 = .ok (.iconst 4, 1) := dk_7 (dk_at dksX4_check_4 13 rfl rfl)
theorem dX4_check_110 : decode cX4_check 110 = .ok (.ireturn, 1) := dk_172 (dk_at dksX4_check_4 14 rfl rfl)
theorem dX4_check_111 : decode cX4_check 111 = .ok (.aload_n 1, 1) := dk_43 (dk_at dksX4_check_4 15 rfl rfl)
theorem dX4_check_112 : decode cX4_check 112 = .ok (.getfield 99, 3) := dk_180 0 99 (dk_at dksX4_check_4 16 rfl rfl)
theorem dX4_check_115 : decode cX4_check 115 = .ok (.iload_n 2, 1) := dk_28 (dk_at dksX4_check_4 19 rfl rfl)
theorem dX4_check_116 : decode cX4_check 116 = .ok (.ishr, 1) := dk_122 (dk_at dksX4_check_4 20 rfl rfl)
theorem dX4_check_117 : decode cX4_check 117 = .ok (.iconst 1, 1) := dk_4 (dk_at dksX4_check_4 21 rfl rfl)
theorem dX4_check_118 : decode cX4_check 118 = .ok (.iand, 1) := dk_126 (dk_at dksX4_check_4 22 rfl rfl)
theorem dX4_check_119 : decode cX4_check 119 = .ok (.iconst 1, 1) := dk_4 (dk_at dksX4_check_4 23 rfl rfl)
theorem dX4_check_120 : decode cX4_check 120 = .ok (.if_icmp .ne 7, 3) := dk_160 0 7 (dk_at dksX4_check_5 0 rfl rfl)
theorem dX4_check_123 : decode cX4_check 123 = .ok (.iconst 0, 1) := dk_3 (dk_at dksX4_check_5 3 rfl rfl)
theorem dX4_check_124 : decode cX4_check 124 = .ok (.goto 4, 3) := dk_167 0 4 (dk_at dksX4_check_5 4 rfl rfl)
theorem dX4_check_127 : decode cX4_check 127 = .ok (.iconst 5, 1) := dk_8 (dk_at dksX4_check_5 7 rfl rfl)
theorem dX4_check_128 : decode cX4_check 128 = .ok (.ireturn, 1) := dk_172 (dk_at dksX4_check_5 8 rfl rfl)
abbrev cX4_isTold : ByteArray := prog_9_method_3_code
def yX4_isTold : MethodName := ⟨RX4, "isTold", "(LKeyringCourt$Family;)Z"⟩
def dkwX4_isTold_0 : List UInt8 := [42, 180, 0, 22, 43, 180, 0, 44, 182, 0, 50, 172]
abbrev dktX4_isTold_0 : List UInt8 := dkwX4_isTold_0 ++ []
theorem dksX4_isTold_0 : cX4_isTold.data.toList.drop 0 = dktX4_isTold_0 := by decide +kernel
theorem dX4_isTold_0 : decode cX4_isTold 0 = .ok (.aload_n 0, 1) := dk_42 (dk_at dksX4_isTold_0 0 rfl rfl)
theorem dX4_isTold_1 : decode cX4_isTold 1 = .ok (.getfield 22, 3) := dk_180 0 22 (dk_at dksX4_isTold_0 1 rfl rfl)
theorem dX4_isTold_4 : decode cX4_isTold 4 = .ok (.aload_n 1, 1) := dk_43 (dk_at dksX4_isTold_0 4 rfl rfl)
theorem dX4_isTold_5 : decode cX4_isTold 5 = .ok (.getfield 44, 3) := dk_180 0 44 (dk_at dksX4_isTold_0 5 rfl rfl)
theorem dX4_isTold_8 : decode cX4_isTold 8 = .ok (.invokevirtual 50, 3) := dk_182 0 50 (dk_at dksX4_isTold_0 8 rfl rfl)
theorem dX4_isTold_11 : decode cX4_isTold 11 = .ok (.ireturn, 1) := dk_172 (dk_at dksX4_isTold_0 11 rfl rfl)
theorem q97 : (Jvm.Cond.initialized "KeyringCourt$Service") ∈ lw_all := lw_g (lw_at lw_m1 27 rfl) rfl
theorem q647 : (Jvm.Cond.instantiable "KeyringCourt$Service" (7 : Nat)) ∈ lw_all := lw_g (lw_at lw_m3 97 rfl) rfl
theorem q649 : (Jvm.Cond.instanceMethod ({ cls := "KeyringCourt$Service", name := "<init>", desc := "(LKeyringCourt;)V" } : Jvm.MethodName)) ∈ lw_all := lw_g (lw_at lw_m3 99 rfl) rfl
theorem q650 : (Jvm.Cond.code ({ cls := "KeyringCourt$Service", name := "<init>", desc := "(LKeyringCourt;)V" } : Jvm.MethodName) prog_9_method_1_code (2 : Nat) (Option.none : Option Jvm.ClassFile.FieldType)) ∈ lw_all := lw_g (lw_at lw_m3 100 rfl) rfl
theorem q651 : (Jvm.Cond.methodLink "KeyringCourt$Service" (9 : Nat) ({ cls := "java/lang/Object", name := "<init>", desc := "()V" } : Jvm.MethodName)) ∈ lw_all := lw_g (lw_at lw_m3 101 rfl) rfl
theorem q652 : (Jvm.Cond.classLink "KeyringCourt$Service" (15 : Nat) "java/util/BitSet") ∈ lw_all := lw_g (lw_at lw_m3 102 rfl) rfl
theorem q653 : (Jvm.Cond.methodLink "KeyringCourt$Service" (17 : Nat) ({ cls := "java/util/BitSet", name := "<init>", desc := "()V" } : Jvm.MethodName)) ∈ lw_all := lw_g (lw_at lw_m3 103 rfl) rfl
theorem q654 : (Jvm.Cond.classLink "KeyringCourt$Service" (25 : Nat) "java/util/LinkedList") ∈ lw_all := lw_g (lw_at lw_m3 104 rfl) rfl
theorem q655 : (Jvm.Cond.methodLink "KeyringCourt$Service" (27 : Nat) ({ cls := "java/util/LinkedList", name := "<init>", desc := "()V" } : Jvm.MethodName)) ∈ lw_all := lw_g (lw_at lw_m3 105 rfl) rfl
theorem q656 : (Jvm.Cond.methodLink "KeyringCourt$Service" (32 : Nat) ({ cls := "java/util/BitSet", name := "set", desc := "(I)V" } : Jvm.MethodName)) ∈ lw_all := lw_g (lw_at lw_m3 106 rfl) rfl
theorem q657 : (Jvm.Cond.fieldLink "KeyringCourt$Service" (36 : Nat) "KeyringCourt$Service" "isDown" "Z") ∈ lw_all := lw_g (lw_at lw_m3 107 rfl) rfl
theorem q658 : (Jvm.Cond.fieldLink "KeyringCourt$Service" (18 : Nat) "KeyringCourt$Service" "cache" "Ljava/util/BitSet;") ∈ lw_all := lw_g (lw_at lw_m3 108 rfl) rfl
theorem q659 : (Jvm.Cond.fieldLink "KeyringCourt$Service" (79 : Nat) "KeyringCourt$Service" "fetched" "I") ∈ lw_all := lw_g (lw_at lw_m3 109 rfl) rfl
theorem q660 : (Jvm.Cond.fieldLink "KeyringCourt$Service" (22 : Nat) "KeyringCourt$Service" "told" "Ljava/util/BitSet;") ∈ lw_all := lw_g (lw_at lw_m3 110 rfl) rfl
theorem q661 : (Jvm.Cond.fieldLink "KeyringCourt$Service" (28 : Nat) "KeyringCourt$Service" "untold" "Ljava/util/LinkedList;") ∈ lw_all := lw_g (lw_at lw_m3 111 rfl) rfl
theorem q663 : (Jvm.Cond.fieldLink "KeyringCourt$Service" (3 : Nat) "KeyringCourt$Service" "this$0" "LKeyringCourt;") ∈ lw_all := lw_g (lw_at lw_m3 113 rfl) rfl
theorem q664 : (Jvm.Cond.lays "KeyringCourt$Service" "KeyringCourt$Service" "isDown" "Z") ∈ lw_all := lw_g (lw_at lw_m3 114 rfl) rfl
theorem q665 : (Jvm.Cond.soleField "KeyringCourt$Service" "isDown") ∈ lw_all := lw_g (lw_at lw_m3 115 rfl) rfl
theorem q666 : (Jvm.Cond.lays "KeyringCourt$Service" "KeyringCourt$Service" "cache" "Ljava/util/BitSet;") ∈ lw_all := lw_g (lw_at lw_m3 116 rfl) rfl
theorem q667 : (Jvm.Cond.soleField "KeyringCourt$Service" "cache") ∈ lw_all := lw_g (lw_at lw_m3 117 rfl) rfl
theorem q668 : (Jvm.Cond.lays "KeyringCourt$Service" "KeyringCourt$Service" "fetched" "I") ∈ lw_all := lw_g (lw_at lw_m3 118 rfl) rfl
theorem q669 : (Jvm.Cond.soleField "KeyringCourt$Service" "fetched") ∈ lw_all := lw_g (lw_at lw_m3 119 rfl) rfl
theorem q670 : (Jvm.Cond.laysFinal "KeyringCourt$Service" "KeyringCourt$Service" "told" "Ljava/util/BitSet;") ∈ lw_all := lw_g (lw_at lw_m3 120 rfl) rfl
theorem q671 : (Jvm.Cond.soleField "KeyringCourt$Service" "told") ∈ lw_all := lw_g (lw_at lw_m3 121 rfl) rfl
theorem q672 : (Jvm.Cond.laysFinal "KeyringCourt$Service" "KeyringCourt$Service" "untold" "Ljava/util/LinkedList;") ∈ lw_all := lw_g (lw_at lw_m3 122 rfl) rfl
theorem q673 : (Jvm.Cond.soleField "KeyringCourt$Service" "untold") ∈ lw_all := lw_g (lw_at lw_m3 123 rfl) rfl
theorem q674 : (Jvm.Cond.lays "KeyringCourt$Service" "KeyringCourt$Service" "need" "I") ∈ lw_all := lw_g (lw_at lw_m3 124 rfl) rfl
theorem q675 : (Jvm.Cond.soleField "KeyringCourt$Service" "need") ∈ lw_all := lw_g (lw_at lw_m3 125 rfl) rfl
theorem q676 : (Jvm.Cond.laysFinal "KeyringCourt$Service" "KeyringCourt$Service" "this$0" "LKeyringCourt;") ∈ lw_all := lw_g (lw_at lw_m3 126 rfl) rfl
theorem q677 : (Jvm.Cond.soleField "KeyringCourt$Service" "this$0") ∈ lw_all := lw_g (lw_at lw_m3 127 rfl) rfl
theorem q678 : (Jvm.Cond.superclass "KeyringCourt$Service" "java/lang/Object") ∈ lw_all := lw_g (lw_at lw_m3 128 rfl) rfl
theorem q704 : (Jvm.Cond.fieldLinkNest "KeyringCourt$Service" (71 : Nat) "KeyringCourt" "now" "I" "KeyringCourt") ∈ lw_tbl := lw_at lw_m3 154 rfl
theorem q707 : (Jvm.Cond.fieldLinkNest "KeyringCourt$Service" (85 : Nat) "KeyringCourt" "published" "Ljava/util/BitSet;" "KeyringCourt") ∈ lw_tbl := lw_at lw_m3 157 rfl
theorem q905 : (Jvm.Cond.selects "KeyringCourt$Service" ({ cls := "java/lang/Object", name := "getClass", desc := "()Ljava/lang/Class;" } : Jvm.MethodName) ({ cls := "java/lang/Object", name := "getClass", desc := "()Ljava/lang/Class;" } : Jvm.MethodName)) ∈ lw_all := lw_g (lw_at lw_m4 115 rfl) rfl
theorem q1075 : (Jvm.Cond.instanceMethod ({ cls := "KeyringCourt$Service", name := "tell", desc := "(LKeyringCourt$Family;)V" } : Jvm.MethodName)) ∈ lw_all := lw_g (lw_at lw_m5 45 rfl) rfl
theorem q1076 : (Jvm.Cond.selects "KeyringCourt$Service" ({ cls := "KeyringCourt$Service", name := "tell", desc := "(LKeyringCourt$Family;)V" } : Jvm.MethodName) ({ cls := "KeyringCourt$Service", name := "tell", desc := "(LKeyringCourt$Family;)V" } : Jvm.MethodName)) ∈ lw_all := lw_g (lw_at lw_m5 46 rfl) rfl
theorem q1077 : (Jvm.Cond.code ({ cls := "KeyringCourt$Service", name := "tell", desc := "(LKeyringCourt$Family;)V" } : Jvm.MethodName) prog_9_method_2_code (2 : Nat) (Option.none : Option Jvm.ClassFile.FieldType)) ∈ lw_all := lw_g (lw_at lw_m5 47 rfl) rfl
theorem q1078 : (Jvm.Cond.methodLink "KeyringCourt$Service" (40 : Nat) ({ cls := "java/util/LinkedList", name := "add", desc := "(Ljava/lang/Object;)Z" } : Jvm.MethodName)) ∈ lw_all := lw_g (lw_at lw_m5 48 rfl) rfl
theorem q1902 : (Jvm.Cond.fieldLink "KeyringCourt$Service" (44 : Nat) "KeyringCourt$Family" "number" "I") ∈ lw_all := lw_g (lw_at lw_m8 152 rfl) rfl
theorem q1958 : (Jvm.Cond.fieldLink "KeyringCourt$Service" (91 : Nat) "KeyringCourt$Token" "family" "LKeyringCourt$Family;") ∈ lw_all := lw_g (lw_at lw_m8 208 rfl) rfl
theorem q1965 : (Jvm.Cond.fieldLink "KeyringCourt$Service" (99 : Nat) "KeyringCourt$Token" "scopes" "I") ∈ lw_all := lw_g (lw_at lw_m8 215 rfl) rfl
theorem q1970 : (Jvm.Cond.fieldLink "KeyringCourt$Service" (82 : Nat) "KeyringCourt$Token" "key" "I") ∈ lw_all := lw_g (lw_at lw_m8 220 rfl) rfl
theorem q1972 : (Jvm.Cond.fieldLink "KeyringCourt$Service" (74 : Nat) "KeyringCourt$Token" "end" "I") ∈ lw_all := lw_g (lw_at lw_m8 222 rfl) rfl
theorem q2075 : (Jvm.Cond.instanceMethod ({ cls := "KeyringCourt$Service", name := "turnLine", desc := "()I" } : Jvm.MethodName)) ∈ lw_all := lw_g (lw_at lw_m9 85 rfl) rfl
theorem q2076 : (Jvm.Cond.selects "KeyringCourt$Service" ({ cls := "KeyringCourt$Service", name := "turnLine", desc := "()I" } : Jvm.MethodName) ({ cls := "KeyringCourt$Service", name := "turnLine", desc := "()I" } : Jvm.MethodName)) ∈ lw_all := lw_g (lw_at lw_m9 86 rfl) rfl
theorem q2077 : (Jvm.Cond.code ({ cls := "KeyringCourt$Service", name := "turnLine", desc := "()I" } : Jvm.MethodName) prog_9_method_4_code (3 : Nat) (Option.some Jvm.ClassFile.FieldType.int)) ∈ lw_all := lw_g (lw_at lw_m9 87 rfl) rfl
theorem q2078 : (Jvm.Cond.methodLink "KeyringCourt$Service" (54 : Nat) ({ cls := "java/util/LinkedList", name := "iterator", desc := "()Ljava/util/Iterator;" } : Jvm.MethodName)) ∈ lw_all := lw_g (lw_at lw_m9 88 rfl) rfl
theorem q2149 : (Jvm.Cond.interfaceEntry "KeyringCourt$Service" (58 : Nat)) ∈ lw_tbl := lw_at lw_m9 159 rfl
theorem q2150 : (Jvm.Cond.methodLink "KeyringCourt$Service" (58 : Nat) ({ cls := "java/util/Iterator", name := "hasNext", desc := "()Z" } : Jvm.MethodName)) ∈ lw_all := lw_g (lw_at lw_m9 160 rfl) rfl
theorem q2151 : (Jvm.Cond.interfaceEntry "KeyringCourt$Service" (64 : Nat)) ∈ lw_tbl := lw_at lw_m9 161 rfl
theorem q2152 : (Jvm.Cond.methodLink "KeyringCourt$Service" (64 : Nat) ({ cls := "java/util/Iterator", name := "next", desc := "()Ljava/lang/Object;" } : Jvm.MethodName)) ∈ lw_all := lw_g (lw_at lw_m9 162 rfl) rfl
theorem q2153 : (Jvm.Cond.classLink "KeyringCourt$Service" (45 : Nat) "KeyringCourt$Family") ∈ lw_all := lw_g (lw_at lw_m9 163 rfl) rfl
theorem q2154 : (Jvm.Cond.interfaceEntry "KeyringCourt$Service" (68 : Nat)) ∈ lw_tbl := lw_at lw_m9 164 rfl
theorem q2155 : (Jvm.Cond.methodLink "KeyringCourt$Service" (68 : Nat) ({ cls := "java/util/Iterator", name := "remove", desc := "()V" } : Jvm.MethodName)) ∈ lw_all := lw_g (lw_at lw_m9 165 rfl) rfl
theorem q2232 : (Jvm.Cond.instanceMethod ({ cls := "KeyringCourt$Service", name := "check", desc := "(LKeyringCourt$Token;I)I" } : Jvm.MethodName)) ∈ lw_all := lw_g (lw_at lw_m10 2 rfl) rfl
theorem q2233 : (Jvm.Cond.selects "KeyringCourt$Service" ({ cls := "KeyringCourt$Service", name := "check", desc := "(LKeyringCourt$Token;I)I" } : Jvm.MethodName) ({ cls := "KeyringCourt$Service", name := "check", desc := "(LKeyringCourt$Token;I)I" } : Jvm.MethodName)) ∈ lw_all := lw_g (lw_at lw_m10 3 rfl) rfl
theorem q2234 : (Jvm.Cond.code ({ cls := "KeyringCourt$Service", name := "check", desc := "(LKeyringCourt$Token;I)I" } : Jvm.MethodName) prog_9_method_5_code (3 : Nat) (Option.some Jvm.ClassFile.FieldType.int)) ∈ lw_all := lw_g (lw_at lw_m10 4 rfl) rfl
theorem q2235 : (Jvm.Cond.methodLink "KeyringCourt$Service" (50 : Nat) ({ cls := "java/util/BitSet", name := "get", desc := "(I)Z" } : Jvm.MethodName)) ∈ lw_all := lw_g (lw_at lw_m10 5 rfl) rfl
theorem q2236 : (Jvm.Cond.methodLink "KeyringCourt$Service" (88 : Nat) ({ cls := "java/util/BitSet", name := "clone", desc := "()Ljava/lang/Object;" } : Jvm.MethodName)) ∈ lw_all := lw_g (lw_at lw_m10 6 rfl) rfl
theorem q2248 : (Jvm.Cond.methodLink "KeyringCourt$Service" (95 : Nat) ({ cls := "KeyringCourt$Service", name := "isTold", desc := "(LKeyringCourt$Family;)Z" } : Jvm.MethodName)) ∈ lw_all := lw_g (lw_at lw_m10 18 rfl) rfl
theorem q2249 : (Jvm.Cond.instanceMethod ({ cls := "KeyringCourt$Service", name := "isTold", desc := "(LKeyringCourt$Family;)Z" } : Jvm.MethodName)) ∈ lw_all := lw_g (lw_at lw_m10 19 rfl) rfl
theorem q2250 : (Jvm.Cond.selects "KeyringCourt$Service" ({ cls := "KeyringCourt$Service", name := "isTold", desc := "(LKeyringCourt$Family;)Z" } : Jvm.MethodName) ({ cls := "KeyringCourt$Service", name := "isTold", desc := "(LKeyringCourt$Family;)Z" } : Jvm.MethodName)) ∈ lw_all := lw_g (lw_at lw_m10 20 rfl) rfl
theorem q2251 : (Jvm.Cond.code ({ cls := "KeyringCourt$Service", name := "isTold", desc := "(LKeyringCourt$Family;)Z" } : Jvm.MethodName) prog_9_method_3_code (2 : Nat) (Option.some Jvm.ClassFile.FieldType.boolean)) ∈ lw_all := lw_g (lw_at lw_m10 21 rfl) rfl
theorem q3049 : (Jvm.Cond.castable "KeyringCourt$Service" "java/lang/Object") ∈ lw_tbl := lw_at lw_m13 99 rfl
theorem in_X4 : ∀ w ∈ wsX40, w ∈ lw_all := lw_in wsX40 [664, 666, 668, 670, 672, 674, 676] (by decide +kernel) (by decide +kernel)
/-! KeyringCourt$Entry -/
set_option maxRecDepth 100000
def RX6 : String := "KeyringCourt$Entry"
def TX6 : u_T := fun k => match k with
  | 0 => ("KeyringCourt$Entry", "kind", "I", true)
  | 1 => ("KeyringCourt$Entry", "number", "I", true)
  | _ => ("KeyringCourt$Entry", "minute", "I", true)
def tyX6 : Nat → FieldType := fun k => match k with
  | 0 => .int
  | 1 => .int
  | _ => .int
abbrev wsX60 : List Cond := u_ws RX6 TX6 3
theorem nmX6 : ∀ a, a < 3 → ∀ b, b < 3 → a ≠ b → (TX6 a).2.1 ≠ (TX6 b).2.1 := by decide +kernel
theorem tyX6_ok : ∀ k, k < 3 → parseFieldDescriptor (TX6 k).2.2.1 = some (tyX6 k) := by decide +kernel
abbrev cX6_init : ByteArray := prog_3_method_1_code
def yX6_init : MethodName := ⟨RX6, "<init>", "(III)V"⟩
def dkwX6_init_0 : List UInt8 := [42, 183, 0, 3, 42, 27, 181, 0, 9, 42, 28, 181, 0, 15, 42, 29, 181, 0, 18, 177]
abbrev dktX6_init_0 : List UInt8 := dkwX6_init_0 ++ []
theorem dksX6_init_0 : cX6_init.data.toList.drop 0 = dktX6_init_0 := by decide +kernel
theorem dX6_init_0 : decode cX6_init 0 = .ok (.aload_n 0, 1) := dk_42 (dk_at dksX6_init_0 0 rfl rfl)
theorem dX6_init_1 : decode cX6_init 1 = .ok (.invokespecial 3, 3) := dk_183 0 3 (dk_at dksX6_init_0 1 rfl rfl)
theorem dX6_init_4 : decode cX6_init 4 = .ok (.aload_n 0, 1) := dk_42 (dk_at dksX6_init_0 4 rfl rfl)
theorem dX6_init_5 : decode cX6_init 5 = .ok (.iload_n 1, 1) := dk_27 (dk_at dksX6_init_0 5 rfl rfl)
theorem dX6_init_6 : decode cX6_init 6 = .ok (.putfield 9, 3) := dk_181 0 9 (dk_at dksX6_init_0 6 rfl rfl)
theorem dX6_init_9 : decode cX6_init 9 = .ok (.aload_n 0, 1) := dk_42 (dk_at dksX6_init_0 9 rfl rfl)
theorem dX6_init_10 : decode cX6_init 10 = .ok (.iload_n 2, 1) := dk_28 (dk_at dksX6_init_0 10 rfl rfl)
theorem dX6_init_11 : decode cX6_init 11 = .ok (.putfield 15, 3) := dk_181 0 15 (dk_at dksX6_init_0 11 rfl rfl)
theorem dX6_init_14 : decode cX6_init 14 = .ok (.aload_n 0, 1) := dk_42 (dk_at dksX6_init_0 14 rfl rfl)
theorem dX6_init_15 : decode cX6_init 15 = .ok (.iload_n 3, 1) := dk_29 (dk_at dksX6_init_0 15 rfl rfl)
theorem dX6_init_16 : decode cX6_init 16 = .ok (.putfield 18, 3) := dk_181 0 18 (dk_at dksX6_init_0 16 rfl rfl)
theorem dX6_init_19 : decode cX6_init 19 = .ok (.return_, 1) := dk_177 (dk_at dksX6_init_0 19 rfl rfl)
abbrev cX6_after : ByteArray := prog_3_method_2_code
def yX6_after : MethodName := ⟨RX6, "after", "(I)I"⟩
def dkwX6_after_1 : List UInt8 := [180, 0, 18, 133, 97, 20, 0, 25, 113, 136, 172]
abbrev dktX6_after_1 : List UInt8 := dkwX6_after_1 ++ []
def dkwX6_after_0 : List UInt8 := [20, 0, 21, 27, 133, 105, 20, 0, 23, 42, 180, 0, 9, 133, 105, 97, 42, 180, 0, 15, 133, 97, 42]
abbrev dktX6_after_0 : List UInt8 := dkwX6_after_0 ++ dktX6_after_1
theorem dksX6_after_0 : cX6_after.data.toList.drop 0 = dktX6_after_0 := by decide +kernel
theorem dksX6_after_1 : cX6_after.data.toList.drop 23 = dktX6_after_1 := dk_seg dksX6_after_0 23 rfl rfl
theorem dX6_after_0 : decode cX6_after 0 = .ok (.ldc2_w 21, 3) := dk_20 0 21 (dk_at dksX6_after_0 0 rfl rfl)
theorem dX6_after_3 : decode cX6_after 3 = .ok (.iload_n 1, 1) := dk_27 (dk_at dksX6_after_0 3 rfl rfl)
theorem dX6_after_4 : decode cX6_after 4 = .ok (.i2l, 1) := dk_133 (dk_at dksX6_after_0 4 rfl rfl)
theorem dX6_after_5 : decode cX6_after 5 = .ok (.lmul, 1) := dk_105 (dk_at dksX6_after_0 5 rfl rfl)
theorem dX6_after_6 : decode cX6_after 6 = .ok (.ldc2_w 23, 3) := dk_20 0 23 (dk_at dksX6_after_0 6 rfl rfl)
theorem dX6_after_9 : decode cX6_after 9 = .ok (.aload_n 0, 1) := dk_42 (dk_at dksX6_after_0 9 rfl rfl)
theorem dX6_after_10 : decode cX6_after 10 = .ok (.getfield 9, 3) := dk_180 0 9 (dk_at dksX6_after_0 10 rfl rfl)
theorem dX6_after_13 : decode cX6_after 13 = .ok (.i2l, 1) := dk_133 (dk_at dksX6_after_0 13 rfl rfl)
theorem dX6_after_14 : decode cX6_after 14 = .ok (.lmul, 1) := dk_105 (dk_at dksX6_after_0 14 rfl rfl)
theorem dX6_after_15 : decode cX6_after 15 = .ok (.ladd, 1) := dk_97 (dk_at dksX6_after_0 15 rfl rfl)
theorem dX6_after_16 : decode cX6_after 16 = .ok (.aload_n 0, 1) := dk_42 (dk_at dksX6_after_0 16 rfl rfl)
theorem dX6_after_17 : decode cX6_after 17 = .ok (.getfield 15, 3) := dk_180 0 15 (dk_at dksX6_after_0 17 rfl rfl)
theorem dX6_after_20 : decode cX6_after 20 = .ok (.i2l, 1) := dk_133 (dk_at dksX6_after_0 20 rfl rfl)
theorem dX6_after_21 : decode cX6_after 21 = .ok (.ladd, 1) := dk_97 (dk_at dksX6_after_0 21 rfl rfl)
theorem dX6_after_22 : decode cX6_after 22 = .ok (.aload_n 0, 1) := dk_42 (dk_at dksX6_after_0 22 rfl rfl)
theorem dX6_after_23 : decode cX6_after 23 = .ok (.getfield 18, 3) := dk_180 0 18 (dk_at dksX6_after_1 0 rfl rfl)
theorem dX6_after_26 : decode cX6_after 26 = .ok (.i2l, 1) := dk_133 (dk_at dksX6_after_1 3 rfl rfl)
theorem dX6_after_27 : decode cX6_after 27 = .ok (.ladd, 1) := dk_97 (dk_at dksX6_after_1 4 rfl rfl)
theorem dX6_after_28 : decode cX6_after 28 = .ok (.ldc2_w 25, 3) := dk_20 0 25 (dk_at dksX6_after_1 5 rfl rfl)
theorem dX6_after_31 : decode cX6_after 31 = .ok (.lrem, 1) := dk_113 (dk_at dksX6_after_1 8 rfl rfl)
theorem dX6_after_32 : decode cX6_after 32 = .ok (.l2i, 1) := dk_136 (dk_at dksX6_after_1 9 rfl rfl)
theorem dX6_after_33 : decode cX6_after 33 = .ok (.ireturn, 1) := dk_172 (dk_at dksX6_after_1 10 rfl rfl)
theorem q100 : (Jvm.Cond.initialized "KeyringCourt$Entry") ∈ lw_all := lw_g (lw_at lw_m1 30 rfl) rfl
theorem q852 : (Jvm.Cond.instantiable "KeyringCourt$Entry" (3 : Nat)) ∈ lw_all := lw_g (lw_at lw_m4 62 rfl) rfl
theorem q854 : (Jvm.Cond.instanceMethod ({ cls := "KeyringCourt$Entry", name := "<init>", desc := "(III)V" } : Jvm.MethodName)) ∈ lw_all := lw_g (lw_at lw_m4 64 rfl) rfl
theorem q855 : (Jvm.Cond.code ({ cls := "KeyringCourt$Entry", name := "<init>", desc := "(III)V" } : Jvm.MethodName) prog_3_method_1_code (4 : Nat) (Option.none : Option Jvm.ClassFile.FieldType)) ∈ lw_all := lw_g (lw_at lw_m4 65 rfl) rfl
theorem q856 : (Jvm.Cond.methodLink "KeyringCourt$Entry" (3 : Nat) ({ cls := "java/lang/Object", name := "<init>", desc := "()V" } : Jvm.MethodName)) ∈ lw_all := lw_g (lw_at lw_m4 66 rfl) rfl
theorem q857 : (Jvm.Cond.fieldLink "KeyringCourt$Entry" (9 : Nat) "KeyringCourt$Entry" "kind" "I") ∈ lw_all := lw_g (lw_at lw_m4 67 rfl) rfl
theorem q859 : (Jvm.Cond.fieldLink "KeyringCourt$Entry" (15 : Nat) "KeyringCourt$Entry" "number" "I") ∈ lw_all := lw_g (lw_at lw_m4 69 rfl) rfl
theorem q861 : (Jvm.Cond.fieldLink "KeyringCourt$Entry" (18 : Nat) "KeyringCourt$Entry" "minute" "I") ∈ lw_all := lw_g (lw_at lw_m4 71 rfl) rfl
theorem q862 : (Jvm.Cond.laysFinal "KeyringCourt$Entry" "KeyringCourt$Entry" "kind" "I") ∈ lw_all := lw_g (lw_at lw_m4 72 rfl) rfl
theorem q863 : (Jvm.Cond.soleField "KeyringCourt$Entry" "kind") ∈ lw_all := lw_g (lw_at lw_m4 73 rfl) rfl
theorem q864 : (Jvm.Cond.laysFinal "KeyringCourt$Entry" "KeyringCourt$Entry" "number" "I") ∈ lw_all := lw_g (lw_at lw_m4 74 rfl) rfl
theorem q865 : (Jvm.Cond.soleField "KeyringCourt$Entry" "number") ∈ lw_all := lw_g (lw_at lw_m4 75 rfl) rfl
theorem q866 : (Jvm.Cond.laysFinal "KeyringCourt$Entry" "KeyringCourt$Entry" "minute" "I") ∈ lw_all := lw_g (lw_at lw_m4 76 rfl) rfl
theorem q867 : (Jvm.Cond.soleField "KeyringCourt$Entry" "minute") ∈ lw_all := lw_g (lw_at lw_m4 77 rfl) rfl
theorem q868 : (Jvm.Cond.superclass "KeyringCourt$Entry" "java/lang/Object") ∈ lw_all := lw_g (lw_at lw_m4 78 rfl) rfl
theorem q899 : (Jvm.Cond.selects "KeyringCourt$Entry" ({ cls := "java/lang/Object", name := "getClass", desc := "()Ljava/lang/Class;" } : Jvm.MethodName) ({ cls := "java/lang/Object", name := "getClass", desc := "()Ljava/lang/Class;" } : Jvm.MethodName)) ∈ lw_all := lw_g (lw_at lw_m4 109 rfl) rfl
theorem q967 : (Jvm.Cond.instanceMethod ({ cls := "KeyringCourt$Entry", name := "after", desc := "(I)I" } : Jvm.MethodName)) ∈ lw_all := lw_g (lw_at lw_m4 177 rfl) rfl
theorem q968 : (Jvm.Cond.selects "KeyringCourt$Entry" ({ cls := "KeyringCourt$Entry", name := "after", desc := "(I)I" } : Jvm.MethodName) ({ cls := "KeyringCourt$Entry", name := "after", desc := "(I)I" } : Jvm.MethodName)) ∈ lw_all := lw_g (lw_at lw_m4 178 rfl) rfl
theorem q969 : (Jvm.Cond.code ({ cls := "KeyringCourt$Entry", name := "after", desc := "(I)I" } : Jvm.MethodName) prog_3_method_2_code (2 : Nat) (Option.some Jvm.ClassFile.FieldType.int)) ∈ lw_all := lw_g (lw_at lw_m4 179 rfl) rfl
theorem q970 : (Jvm.Cond.constantLong "KeyringCourt$Entry" (21 : Nat) (31 : Int64)) ∈ lw_all := lw_g (lw_at lw_m4 180 rfl) rfl
theorem q971 : (Jvm.Cond.constantLong "KeyringCourt$Entry" (23 : Nat) (100 : Int64)) ∈ lw_all := lw_g (lw_at lw_m4 181 rfl) rfl
theorem q972 : (Jvm.Cond.constantLong "KeyringCourt$Entry" (25 : Nat) (65521 : Int64)) ∈ lw_all := lw_g (lw_at lw_m4 182 rfl) rfl
theorem q3061 : (Jvm.Cond.castable "KeyringCourt$Entry" "java/lang/Object") ∈ lw_tbl := lw_at lw_m13 111 rfl
theorem in_X6 : ∀ w ∈ wsX60, w ∈ lw_all := lw_in wsX60 [862, 864, 866] (by decide +kernel) (by decide +kernel)
/-! KeyringCourt$Step -/
set_option maxRecDepth 100000
def RX7 : String := "KeyringCourt$Step"
def TX7 : u_T := fun k => match k with
  | 0 => ("KeyringCourt$Step", "kind", "I", true)
  | 1 => ("KeyringCourt$Step", "a", "I", true)
  | 2 => ("KeyringCourt$Step", "b", "I", true)
  | 3 => ("KeyringCourt$Step", "yes", "I", true)
  | _ => ("KeyringCourt$Step", "no", "I", true)
def tyX7 : Nat → FieldType := fun k => match k with
  | 0 => .int
  | 1 => .int
  | 2 => .int
  | 3 => .int
  | _ => .int
abbrev wsX70 : List Cond := u_ws RX7 TX7 5
theorem nmX7 : ∀ a, a < 5 → ∀ b, b < 5 → a ≠ b → (TX7 a).2.1 ≠ (TX7 b).2.1 := by decide +kernel
theorem tyX7_ok : ∀ k, k < 5 → parseFieldDescriptor (TX7 k).2.2.1 = some (tyX7 k) := by decide +kernel
abbrev cX7_init : ByteArray := prog_11_method_1_code
def yX7_init : MethodName := ⟨RX7, "<init>", "(IIIII)V"⟩
def dkwX7_init_1 : List UInt8 := [181, 0, 21, 42, 21, 5, 181, 0, 24, 177]
abbrev dktX7_init_1 : List UInt8 := dkwX7_init_1 ++ []
def dkwX7_init_0 : List UInt8 := [42, 183, 0, 3, 42, 27, 181, 0, 9, 42, 28, 181, 0, 15, 42, 29, 181, 0, 18, 42, 21, 4]
abbrev dktX7_init_0 : List UInt8 := dkwX7_init_0 ++ dktX7_init_1
theorem dksX7_init_0 : cX7_init.data.toList.drop 0 = dktX7_init_0 := by decide +kernel
theorem dksX7_init_1 : cX7_init.data.toList.drop 22 = dktX7_init_1 := dk_seg dksX7_init_0 22 rfl rfl
theorem dX7_init_0 : decode cX7_init 0 = .ok (.aload_n 0, 1) := dk_42 (dk_at dksX7_init_0 0 rfl rfl)
theorem dX7_init_1 : decode cX7_init 1 = .ok (.invokespecial 3, 3) := dk_183 0 3 (dk_at dksX7_init_0 1 rfl rfl)
theorem dX7_init_4 : decode cX7_init 4 = .ok (.aload_n 0, 1) := dk_42 (dk_at dksX7_init_0 4 rfl rfl)
theorem dX7_init_5 : decode cX7_init 5 = .ok (.iload_n 1, 1) := dk_27 (dk_at dksX7_init_0 5 rfl rfl)
theorem dX7_init_6 : decode cX7_init 6 = .ok (.putfield 9, 3) := dk_181 0 9 (dk_at dksX7_init_0 6 rfl rfl)
theorem dX7_init_9 : decode cX7_init 9 = .ok (.aload_n 0, 1) := dk_42 (dk_at dksX7_init_0 9 rfl rfl)
theorem dX7_init_10 : decode cX7_init 10 = .ok (.iload_n 2, 1) := dk_28 (dk_at dksX7_init_0 10 rfl rfl)
theorem dX7_init_11 : decode cX7_init 11 = .ok (.putfield 15, 3) := dk_181 0 15 (dk_at dksX7_init_0 11 rfl rfl)
theorem dX7_init_14 : decode cX7_init 14 = .ok (.aload_n 0, 1) := dk_42 (dk_at dksX7_init_0 14 rfl rfl)
theorem dX7_init_15 : decode cX7_init 15 = .ok (.iload_n 3, 1) := dk_29 (dk_at dksX7_init_0 15 rfl rfl)
theorem dX7_init_16 : decode cX7_init 16 = .ok (.putfield 18, 3) := dk_181 0 18 (dk_at dksX7_init_0 16 rfl rfl)
theorem dX7_init_19 : decode cX7_init 19 = .ok (.aload_n 0, 1) := dk_42 (dk_at dksX7_init_0 19 rfl rfl)
theorem dX7_init_20 : decode cX7_init 20 = .ok (.iload 4, 2) := dk_21 4 (dk_at dksX7_init_0 20 rfl rfl)
theorem dX7_init_22 : decode cX7_init 22 = .ok (.putfield 21, 3) := dk_181 0 21 (dk_at dksX7_init_1 0 rfl rfl)
theorem dX7_init_25 : decode cX7_init 25 = .ok (.aload_n 0, 1) := dk_42 (dk_at dksX7_init_1 3 rfl rfl)
theorem dX7_init_26 : decode cX7_init 26 = .ok (.iload 5, 2) := dk_21 5 (dk_at dksX7_init_1 4 rfl rfl)
theorem dX7_init_28 : decode cX7_init 28 = .ok (.putfield 24, 3) := dk_181 0 24 (dk_at dksX7_init_1 6 rfl rfl)
theorem dX7_init_31 : decode cX7_init 31 = .ok (.return_, 1) := dk_177 (dk_at dksX7_init_1 9 rfl rfl)
abbrev cX7_isEnd : ByteArray := prog_11_method_3_code
def yX7_isEnd : MethodName := ⟨RX7, "isEnd", "()Z"⟩
def dkwX7_isEnd_0 : List UInt8 := [42, 180, 0, 9, 8, 161, 0, 7, 4, 167, 0, 4, 3, 172]
abbrev dktX7_isEnd_0 : List UInt8 := dkwX7_isEnd_0 ++ []
theorem dksX7_isEnd_0 : cX7_isEnd.data.toList.drop 0 = dktX7_isEnd_0 := by decide +kernel
theorem dX7_isEnd_0 : decode cX7_isEnd 0 = .ok (.aload_n 0, 1) := dk_42 (dk_at dksX7_isEnd_0 0 rfl rfl)
theorem dX7_isEnd_1 : decode cX7_isEnd 1 = .ok (.getfield 9, 3) := dk_180 0 9 (dk_at dksX7_isEnd_0 1 rfl rfl)
theorem dX7_isEnd_4 : decode cX7_isEnd 4 = .ok (.iconst 5, 1) := dk_8 (dk_at dksX7_isEnd_0 4 rfl rfl)
theorem dX7_isEnd_5 : decode cX7_isEnd 5 = .ok (.if_icmp .lt 7, 3) := dk_161 0 7 (dk_at dksX7_isEnd_0 5 rfl rfl)
theorem dX7_isEnd_8 : decode cX7_isEnd 8 = .ok (.iconst 1, 1) := dk_4 (dk_at dksX7_isEnd_0 8 rfl rfl)
theorem dX7_isEnd_9 : decode cX7_isEnd 9 = .ok (.goto 4, 3) := dk_167 0 4 (dk_at dksX7_isEnd_0 9 rfl rfl)
theorem dX7_isEnd_12 : decode cX7_isEnd 12 = .ok (.iconst 0, 1) := dk_3 (dk_at dksX7_isEnd_0 12 rfl rfl)
theorem dX7_isEnd_13 : decode cX7_isEnd 13 = .ok (.ireturn, 1) := dk_172 (dk_at dksX7_isEnd_0 13 rfl rfl)
abbrev cX7_isTest : ByteArray := prog_11_method_2_code
def yX7_isTest : MethodName := ⟨RX7, "isTest", "()Z"⟩
def dkwX7_isTest_0 : List UInt8 := [42, 180, 0, 9, 158, 0, 15, 42, 180, 0, 9, 8, 162, 0, 7, 4, 167, 0, 4, 3, 172]
abbrev dktX7_isTest_0 : List UInt8 := dkwX7_isTest_0 ++ []
theorem dksX7_isTest_0 : cX7_isTest.data.toList.drop 0 = dktX7_isTest_0 := by decide +kernel
theorem dX7_isTest_0 : decode cX7_isTest 0 = .ok (.aload_n 0, 1) := dk_42 (dk_at dksX7_isTest_0 0 rfl rfl)
theorem dX7_isTest_1 : decode cX7_isTest 1 = .ok (.getfield 9, 3) := dk_180 0 9 (dk_at dksX7_isTest_0 1 rfl rfl)
theorem dX7_isTest_4 : decode cX7_isTest 4 = .ok (.ifCond .le 15, 3) := dk_158 0 15 (dk_at dksX7_isTest_0 4 rfl rfl)
theorem dX7_isTest_7 : decode cX7_isTest 7 = .ok (.aload_n 0, 1) := dk_42 (dk_at dksX7_isTest_0 7 rfl rfl)
theorem dX7_isTest_8 : decode cX7_isTest 8 = .ok (.getfield 9, 3) := dk_180 0 9 (dk_at dksX7_isTest_0 8 rfl rfl)
theorem dX7_isTest_11 : decode cX7_isTest 11 = .ok (.iconst 5, 1) := dk_8 (dk_at dksX7_isTest_0 11 rfl rfl)
theorem dX7_isTest_12 : decode cX7_isTest 12 = .ok (.if_icmp .ge 7, 3) := dk_162 0 7 (dk_at dksX7_isTest_0 12 rfl rfl)
theorem dX7_isTest_15 : decode cX7_isTest 15 = .ok (.iconst 1, 1) := dk_4 (dk_at dksX7_isTest_0 15 rfl rfl)
theorem dX7_isTest_16 : decode cX7_isTest 16 = .ok (.goto 4, 3) := dk_167 0 4 (dk_at dksX7_isTest_0 16 rfl rfl)
theorem dX7_isTest_19 : decode cX7_isTest 19 = .ok (.iconst 0, 1) := dk_3 (dk_at dksX7_isTest_0 19 rfl rfl)
theorem dX7_isTest_20 : decode cX7_isTest 20 = .ok (.ireturn, 1) := dk_172 (dk_at dksX7_isTest_0 20 rfl rfl)
theorem q105 : (Jvm.Cond.initialized "KeyringCourt$Step") ∈ lw_all := lw_g (lw_at lw_m1 35 rfl) rfl
theorem q907 : (Jvm.Cond.selects "KeyringCourt$Step" ({ cls := "java/lang/Object", name := "getClass", desc := "()Ljava/lang/Class;" } : Jvm.MethodName) ({ cls := "java/lang/Object", name := "getClass", desc := "()Ljava/lang/Class;" } : Jvm.MethodName)) ∈ lw_all := lw_g (lw_at lw_m4 117 rfl) rfl
theorem q1139 : (Jvm.Cond.instantiable "KeyringCourt$Step" (5 : Nat)) ∈ lw_all := lw_g (lw_at lw_m5 109 rfl) rfl
theorem q1141 : (Jvm.Cond.instanceMethod ({ cls := "KeyringCourt$Step", name := "<init>", desc := "(IIIII)V" } : Jvm.MethodName)) ∈ lw_all := lw_g (lw_at lw_m5 111 rfl) rfl
theorem q1142 : (Jvm.Cond.code ({ cls := "KeyringCourt$Step", name := "<init>", desc := "(IIIII)V" } : Jvm.MethodName) prog_11_method_1_code (6 : Nat) (Option.none : Option Jvm.ClassFile.FieldType)) ∈ lw_all := lw_g (lw_at lw_m5 112 rfl) rfl
theorem q1143 : (Jvm.Cond.methodLink "KeyringCourt$Step" (3 : Nat) ({ cls := "java/lang/Object", name := "<init>", desc := "()V" } : Jvm.MethodName)) ∈ lw_all := lw_g (lw_at lw_m5 113 rfl) rfl
theorem q1144 : (Jvm.Cond.fieldLink "KeyringCourt$Step" (9 : Nat) "KeyringCourt$Step" "kind" "I") ∈ lw_all := lw_g (lw_at lw_m5 114 rfl) rfl
theorem q1147 : (Jvm.Cond.fieldLink "KeyringCourt$Step" (15 : Nat) "KeyringCourt$Step" "a" "I") ∈ lw_all := lw_g (lw_at lw_m5 117 rfl) rfl
theorem q1150 : (Jvm.Cond.fieldLink "KeyringCourt$Step" (18 : Nat) "KeyringCourt$Step" "b" "I") ∈ lw_all := lw_g (lw_at lw_m5 120 rfl) rfl
theorem q1152 : (Jvm.Cond.fieldLink "KeyringCourt$Step" (21 : Nat) "KeyringCourt$Step" "yes" "I") ∈ lw_all := lw_g (lw_at lw_m5 122 rfl) rfl
theorem q1155 : (Jvm.Cond.fieldLink "KeyringCourt$Step" (24 : Nat) "KeyringCourt$Step" "no" "I") ∈ lw_all := lw_g (lw_at lw_m5 125 rfl) rfl
theorem q1158 : (Jvm.Cond.laysFinal "KeyringCourt$Step" "KeyringCourt$Step" "kind" "I") ∈ lw_all := lw_g (lw_at lw_m5 128 rfl) rfl
theorem q1159 : (Jvm.Cond.soleField "KeyringCourt$Step" "kind") ∈ lw_all := lw_g (lw_at lw_m5 129 rfl) rfl
theorem q1160 : (Jvm.Cond.laysFinal "KeyringCourt$Step" "KeyringCourt$Step" "a" "I") ∈ lw_all := lw_g (lw_at lw_m5 130 rfl) rfl
theorem q1161 : (Jvm.Cond.soleField "KeyringCourt$Step" "a") ∈ lw_all := lw_g (lw_at lw_m5 131 rfl) rfl
theorem q1162 : (Jvm.Cond.laysFinal "KeyringCourt$Step" "KeyringCourt$Step" "b" "I") ∈ lw_all := lw_g (lw_at lw_m5 132 rfl) rfl
theorem q1163 : (Jvm.Cond.soleField "KeyringCourt$Step" "b") ∈ lw_all := lw_g (lw_at lw_m5 133 rfl) rfl
theorem q1164 : (Jvm.Cond.laysFinal "KeyringCourt$Step" "KeyringCourt$Step" "yes" "I") ∈ lw_all := lw_g (lw_at lw_m5 134 rfl) rfl
theorem q1165 : (Jvm.Cond.soleField "KeyringCourt$Step" "yes") ∈ lw_all := lw_g (lw_at lw_m5 135 rfl) rfl
theorem q1166 : (Jvm.Cond.laysFinal "KeyringCourt$Step" "KeyringCourt$Step" "no" "I") ∈ lw_all := lw_g (lw_at lw_m5 136 rfl) rfl
theorem q1167 : (Jvm.Cond.soleField "KeyringCourt$Step" "no") ∈ lw_all := lw_g (lw_at lw_m5 137 rfl) rfl
theorem q1168 : (Jvm.Cond.superclass "KeyringCourt$Step" "java/lang/Object") ∈ lw_all := lw_g (lw_at lw_m5 138 rfl) rfl
theorem q1211 : (Jvm.Cond.instanceMethod ({ cls := "KeyringCourt$Step", name := "isEnd", desc := "()Z" } : Jvm.MethodName)) ∈ lw_all := lw_g (lw_at lw_m5 181 rfl) rfl
theorem q1212 : (Jvm.Cond.selects "KeyringCourt$Step" ({ cls := "KeyringCourt$Step", name := "isEnd", desc := "()Z" } : Jvm.MethodName) ({ cls := "KeyringCourt$Step", name := "isEnd", desc := "()Z" } : Jvm.MethodName)) ∈ lw_all := lw_g (lw_at lw_m5 182 rfl) rfl
theorem q1213 : (Jvm.Cond.code ({ cls := "KeyringCourt$Step", name := "isEnd", desc := "()Z" } : Jvm.MethodName) prog_11_method_3_code (1 : Nat) (Option.some Jvm.ClassFile.FieldType.boolean)) ∈ lw_all := lw_g (lw_at lw_m5 183 rfl) rfl
theorem q1338 : (Jvm.Cond.instanceMethod ({ cls := "KeyringCourt$Step", name := "isTest", desc := "()Z" } : Jvm.MethodName)) ∈ lw_all := lw_g (lw_at lw_m6 68 rfl) rfl
theorem q1339 : (Jvm.Cond.selects "KeyringCourt$Step" ({ cls := "KeyringCourt$Step", name := "isTest", desc := "()Z" } : Jvm.MethodName) ({ cls := "KeyringCourt$Step", name := "isTest", desc := "()Z" } : Jvm.MethodName)) ∈ lw_all := lw_g (lw_at lw_m6 69 rfl) rfl
theorem q1340 : (Jvm.Cond.code ({ cls := "KeyringCourt$Step", name := "isTest", desc := "()Z" } : Jvm.MethodName) prog_11_method_2_code (1 : Nat) (Option.some Jvm.ClassFile.FieldType.boolean)) ∈ lw_all := lw_g (lw_at lw_m6 70 rfl) rfl
theorem q3064 : (Jvm.Cond.castable "KeyringCourt$Step" "java/lang/Object") ∈ lw_tbl := lw_at lw_m13 114 rfl
theorem in_X7 : ∀ w ∈ wsX70, w ∈ lw_all := lw_in wsX70 [1158, 1160, 1162, 1164, 1166] (by decide +kernel) (by decide +kernel)
/-! KeyringCourt$Attempt -/
set_option maxRecDepth 100000
def RX8 : String := "KeyringCourt$Attempt"
def TX8 : u_T := fun k => match k with
  | 0 => ("KeyringCourt$Attempt", "person", "LKeyringCourt$Person;", true)
  | 1 => ("KeyringCourt$Attempt", "device", "I", true)
  | 2 => ("KeyringCourt$Attempt", "place", "I", true)
  | 3 => ("KeyringCourt$Attempt", "flow", "LKeyringCourt$Flow;", true)
  | 4 => ("KeyringCourt$Attempt", "step", "LKeyringCourt$Step;", false)
  | 5 => ("KeyringCourt$Attempt", "wrong", "I", false)
  | 6 => ("KeyringCourt$Attempt", "answers", "I", false)
  | 7 => ("KeyringCourt$Attempt", "state", "I", false)
  | 8 => ("KeyringCourt$Attempt", "shown", "[I", true)
  | 9 => ("KeyringCourt$Attempt", "set", "I", false)
  | 10 => ("KeyringCourt$Attempt", "session", "I", false)
  | _ => ("KeyringCourt$Attempt", "this$0", "LKeyringCourt;", true)
def tyX8 : Nat → FieldType := fun k => match k with
  | 0 => .object "KeyringCourt$Person"
  | 1 => .int
  | 2 => .int
  | 3 => .object "KeyringCourt$Flow"
  | 4 => .object "KeyringCourt$Step"
  | 5 => .int
  | 6 => .int
  | 7 => .int
  | 8 => .array .int
  | 9 => .int
  | 10 => .int
  | _ => .object "KeyringCourt"
abbrev wsX80 : List Cond := u_ws RX8 TX8 12
theorem nmX8 : ∀ a, a < 12 → ∀ b, b < 12 → a ≠ b → (TX8 a).2.1 ≠ (TX8 b).2.1 := by decide +kernel
theorem tyX8_ok : ∀ k, k < 12 → parseFieldDescriptor (TX8 k).2.2.1 = some (tyX8 k) := by decide +kernel
abbrev cX8_init : ByteArray := prog_2_method_1_code
def yX8_init : MethodName := ⟨RX8, "<init>", "(LKeyringCourt;LKeyringCourt$Person;IILKeyringCourt$Flow;)V"⟩
def dkwX8_init_2 : List UInt8 := [181, 0, 36, 42, 3, 182, 0, 40, 177]
abbrev dktX8_init_2 : List UInt8 := dkwX8_init_2 ++ []
def dkwX8_init_1 : List UInt8 := [181, 0, 23, 42, 44, 181, 0, 26, 42, 29, 181, 0, 30, 42, 21, 4, 181, 0, 33, 42, 25, 5]
abbrev dktX8_init_1 : List UInt8 := dkwX8_init_1 ++ dktX8_init_2
def dkwX8_init_0 : List UInt8 := [42, 43, 181, 0, 3, 42, 183, 0, 9, 42, 3, 181, 0, 15, 42, 6, 188, 10, 181, 0, 19, 42, 2]
abbrev dktX8_init_0 : List UInt8 := dkwX8_init_0 ++ dktX8_init_1
theorem dksX8_init_0 : cX8_init.data.toList.drop 0 = dktX8_init_0 := by decide +kernel
theorem dksX8_init_1 : cX8_init.data.toList.drop 23 = dktX8_init_1 := dk_seg dksX8_init_0 23 rfl rfl
theorem dksX8_init_2 : cX8_init.data.toList.drop 45 = dktX8_init_2 := dk_seg dksX8_init_1 22 rfl rfl
theorem dX8_init_0 : decode cX8_init 0 = .ok (.aload_n 0, 1) := dk_42 (dk_at dksX8_init_0 0 rfl rfl)
theorem dX8_init_1 : decode cX8_init 1 = .ok (.aload_n 1, 1) := dk_43 (dk_at dksX8_init_0 1 rfl rfl)
theorem dX8_init_2 : decode cX8_init 2 = .ok (.putfield 3, 3) := dk_181 0 3 (dk_at dksX8_init_0 2 rfl rfl)
theorem dX8_init_5 : decode cX8_init 5 = .ok (.aload_n 0, 1) := dk_42 (dk_at dksX8_init_0 5 rfl rfl)
theorem dX8_init_6 : decode cX8_init 6 = .ok (.invokespecial 9, 3) := dk_183 0 9 (dk_at dksX8_init_0 6 rfl rfl)
theorem dX8_init_9 : decode cX8_init 9 = .ok (.aload_n 0, 1) := dk_42 (dk_at dksX8_init_0 9 rfl rfl)
theorem dX8_init_10 : decode cX8_init 10 = .ok (.iconst 0, 1) := dk_3 (dk_at dksX8_init_0 10 rfl rfl)
theorem dX8_init_11 : decode cX8_init 11 = .ok (.putfield 15, 3) := dk_181 0 15 (dk_at dksX8_init_0 11 rfl rfl)
theorem dX8_init_14 : decode cX8_init 14 = .ok (.aload_n 0, 1) := dk_42 (dk_at dksX8_init_0 14 rfl rfl)
theorem dX8_init_15 : decode cX8_init 15 = .ok (.iconst 3, 1) := dk_6 (dk_at dksX8_init_0 15 rfl rfl)
theorem dX8_init_16 : decode cX8_init 16 = .ok (.newarray .int, 2) := dk_188_10 (dk_at dksX8_init_0 16 rfl rfl)
theorem dX8_init_18 : decode cX8_init 18 = .ok (.putfield 19, 3) := dk_181 0 19 (dk_at dksX8_init_0 18 rfl rfl)
theorem dX8_init_21 : decode cX8_init 21 = .ok (.aload_n 0, 1) := dk_42 (dk_at dksX8_init_0 21 rfl rfl)
theorem dX8_init_22 : decode cX8_init 22 = .ok (.iconst (-1), 1) := dk_2 (dk_at dksX8_init_0 22 rfl rfl)
theorem dX8_init_23 : decode cX8_init 23 = .ok (.putfield 23, 3) := dk_181 0 23 (dk_at dksX8_init_1 0 rfl rfl)
theorem dX8_init_26 : decode cX8_init 26 = .ok (.aload_n 0, 1) := dk_42 (dk_at dksX8_init_1 3 rfl rfl)
theorem dX8_init_27 : decode cX8_init 27 = .ok (.aload_n 2, 1) := dk_44 (dk_at dksX8_init_1 4 rfl rfl)
theorem dX8_init_28 : decode cX8_init 28 = .ok (.putfield 26, 3) := dk_181 0 26 (dk_at dksX8_init_1 5 rfl rfl)
theorem dX8_init_31 : decode cX8_init 31 = .ok (.aload_n 0, 1) := dk_42 (dk_at dksX8_init_1 8 rfl rfl)
theorem dX8_init_32 : decode cX8_init 32 = .ok (.iload_n 3, 1) := dk_29 (dk_at dksX8_init_1 9 rfl rfl)
theorem dX8_init_33 : decode cX8_init 33 = .ok (.putfield 30, 3) := dk_181 0 30 (dk_at dksX8_init_1 10 rfl rfl)
theorem dX8_init_36 : decode cX8_init 36 = .ok (.aload_n 0, 1) := dk_42 (dk_at dksX8_init_1 13 rfl rfl)
theorem dX8_init_37 : decode cX8_init 37 = .ok (.iload 4, 2) := dk_21 4 (dk_at dksX8_init_1 14 rfl rfl)
theorem dX8_init_39 : decode cX8_init 39 = .ok (.putfield 33, 3) := dk_181 0 33 (dk_at dksX8_init_1 16 rfl rfl)
theorem dX8_init_42 : decode cX8_init 42 = .ok (.aload_n 0, 1) := dk_42 (dk_at dksX8_init_1 19 rfl rfl)
theorem dX8_init_43 : decode cX8_init 43 = .ok (.aload 5, 2) := dk_25 5 (dk_at dksX8_init_1 20 rfl rfl)
theorem dX8_init_45 : decode cX8_init 45 = .ok (.putfield 36, 3) := dk_181 0 36 (dk_at dksX8_init_2 0 rfl rfl)
theorem dX8_init_48 : decode cX8_init 48 = .ok (.aload_n 0, 1) := dk_42 (dk_at dksX8_init_2 3 rfl rfl)
theorem dX8_init_49 : decode cX8_init 49 = .ok (.iconst 0, 1) := dk_3 (dk_at dksX8_init_2 4 rfl rfl)
theorem dX8_init_50 : decode cX8_init 50 = .ok (.invokevirtual 40, 3) := dk_182 0 40 (dk_at dksX8_init_2 5 rfl rfl)
theorem dX8_init_53 : decode cX8_init 53 = .ok (.return_, 1) := dk_177 (dk_at dksX8_init_2 8 rfl rfl)
abbrev cX8_go : ByteArray := prog_2_method_4_code
def yX8_go : MethodName := ⟨RX8, "go", "(I)V"⟩
def dkwX8_go_9 : List UInt8 := [182, 0, 131, 42, 180, 0, 26, 180, 0, 60, 42, 180, 0, 33, 182, 0, 131, 177]
abbrev dktX8_go_9 : List UInt8 := dkwX8_go_9 ++ []
def dkwX8_go_8 : List UInt8 := [180, 0, 19, 42, 180, 0, 82, 182, 0, 127, 181, 0, 23, 42, 180, 0, 26, 180, 0, 44, 42, 180, 0, 30]
abbrev dktX8_go_8 : List UInt8 := dkwX8_go_8 ++ dktX8_go_9
def dkwX8_go_7 : List UInt8 := [180, 0, 67, 8, 160, 0, 60, 42, 4, 181, 0, 15, 42, 42, 180, 0, 3, 42, 180, 0, 26, 1, 42]
abbrev dktX8_go_7 : List UInt8 := dkwX8_go_7 ++ dktX8_go_8
def dkwX8_go_6 : List UInt8 := [185, 0, 124, 1, 0, 16, 60, 160, 0, 11, 42, 5, 181, 0, 15, 167, 0, 71, 42, 180, 0, 114]
abbrev dktX8_go_6 : List UInt8 := dkwX8_go_6 ++ dktX8_go_7
def dkwX8_go_5 : List UInt8 := [159, 0, 31, 42, 180, 0, 114, 180, 0, 67, 8, 160, 0, 28, 42, 180, 0, 3, 180, 0, 121]
abbrev dktX8_go_5 : List UInt8 := dkwX8_go_5 ++ dktX8_go_6
def dkwX8_go_4 : List UInt8 := [181, 0, 114, 42, 3, 181, 0, 118, 42, 180, 0, 114, 198, 0, 43, 42, 180, 0, 114, 180, 0, 67, 16, 6]
abbrev dktX8_go_4 : List UInt8 := dkwX8_go_4 ++ dktX8_go_5
def dkwX8_go_3 : List UInt8 := [2, 160, 0, 7, 1, 167, 0, 19, 42, 180, 0, 36, 180, 0, 89, 28, 185, 0, 95, 2, 0, 192, 0, 68]
abbrev dktX8_go_3 : List UInt8 := dkwX8_go_3 ++ dktX8_go_4
def dkwX8_go_2 : List UInt8 := [45, 182, 0, 104, 153, 0, 10, 45, 180, 0, 108, 167, 0, 7, 45, 180, 0, 111, 61, 167, 255, 192, 42, 28]
abbrev dktX8_go_2 : List UInt8 := dkwX8_go_2 ++ dktX8_go_3
def dkwX8_go_1 : List UInt8 := [182, 0, 100, 153, 0, 43, 42, 180, 0, 36, 180, 0, 89, 28, 185, 0, 95, 2, 0, 192, 0, 68, 78, 42]
abbrev dktX8_go_1 : List UInt8 := dkwX8_go_1 ++ dktX8_go_2
def dkwX8_go_0 : List UInt8 := [27, 61, 28, 2, 159, 0, 65, 42, 180, 0, 36, 180, 0, 89, 28, 185, 0, 95, 2, 0, 192, 0, 68]
abbrev dktX8_go_0 : List UInt8 := dkwX8_go_0 ++ dktX8_go_1
theorem dksX8_go_0 : cX8_go.data.toList.drop 0 = dktX8_go_0 := by decide +kernel
theorem dksX8_go_1 : cX8_go.data.toList.drop 23 = dktX8_go_1 := dk_seg dksX8_go_0 23 rfl rfl
theorem dksX8_go_2 : cX8_go.data.toList.drop 47 = dktX8_go_2 := dk_seg dksX8_go_1 24 rfl rfl
theorem dksX8_go_3 : cX8_go.data.toList.drop 71 = dktX8_go_3 := dk_seg dksX8_go_2 24 rfl rfl
theorem dksX8_go_4 : cX8_go.data.toList.drop 95 = dktX8_go_4 := dk_seg dksX8_go_3 24 rfl rfl
theorem dksX8_go_5 : cX8_go.data.toList.drop 119 = dktX8_go_5 := dk_seg dksX8_go_4 24 rfl rfl
theorem dksX8_go_6 : cX8_go.data.toList.drop 140 = dktX8_go_6 := dk_seg dksX8_go_5 21 rfl rfl
theorem dksX8_go_7 : cX8_go.data.toList.drop 162 = dktX8_go_7 := dk_seg dksX8_go_6 22 rfl rfl
theorem dksX8_go_8 : cX8_go.data.toList.drop 185 = dktX8_go_8 := dk_seg dksX8_go_7 23 rfl rfl
theorem dksX8_go_9 : cX8_go.data.toList.drop 209 = dktX8_go_9 := dk_seg dksX8_go_8 24 rfl rfl
theorem dX8_go_0 : decode cX8_go 0 = .ok (.iload_n 1, 1) := dk_27 (dk_at dksX8_go_0 0 rfl rfl)
theorem dX8_go_1 : decode cX8_go 1 = .ok (.istore_n 2, 1) := dk_61 (dk_at dksX8_go_0 1 rfl rfl)
theorem dX8_go_2 : decode cX8_go 2 = .ok (.iload_n 2, 1) := dk_28 (dk_at dksX8_go_0 2 rfl rfl)
theorem dX8_go_3 : decode cX8_go 3 = .ok (.iconst (-1), 1) := dk_2 (dk_at dksX8_go_0 3 rfl rfl)
theorem dX8_go_4 : decode cX8_go 4 = .ok (.if_icmp .eq 65, 3) := dk_159 0 65 (dk_at dksX8_go_0 4 rfl rfl)
theorem dX8_go_7 : decode cX8_go 7 = .ok (.aload_n 0, 1) := dk_42 (dk_at dksX8_go_0 7 rfl rfl)
theorem dX8_go_8 : decode cX8_go 8 = .ok (.getfield 36, 3) := dk_180 0 36 (dk_at dksX8_go_0 8 rfl rfl)
theorem dX8_go_11 : decode cX8_go 11 = .ok (.getfield 89, 3) := dk_180 0 89 (dk_at dksX8_go_0 11 rfl rfl)
theorem dX8_go_14 : decode cX8_go 14 = .ok (.iload_n 2, 1) := dk_28 (dk_at dksX8_go_0 14 rfl rfl)
theorem dX8_go_15 : decode cX8_go 15 = .ok (.invokeinterface 95 2, 5) := by decide +kernel
theorem dX8_go_20 : decode cX8_go 20 = .ok (.checkcast 68, 3) := dk_192 0 68 (dk_at dksX8_go_0 20 rfl rfl)
theorem dX8_go_23 : decode cX8_go 23 = .ok (.invokevirtual 100, 3) := dk_182 0 100 (dk_at dksX8_go_1 0 rfl rfl)
theorem dX8_go_26 : decode cX8_go 26 = .ok (.ifCond .eq 43, 3) := dk_153 0 43 (dk_at dksX8_go_1 3 rfl rfl)
theorem dX8_go_29 : decode cX8_go 29 = .ok (.aload_n 0, 1) := dk_42 (dk_at dksX8_go_1 6 rfl rfl)
theorem dX8_go_30 : decode cX8_go 30 = .ok (.getfield 36, 3) := dk_180 0 36 (dk_at dksX8_go_1 7 rfl rfl)
theorem dX8_go_33 : decode cX8_go 33 = .ok (.getfield 89, 3) := dk_180 0 89 (dk_at dksX8_go_1 10 rfl rfl)
theorem dX8_go_36 : decode cX8_go 36 = .ok (.iload_n 2, 1) := dk_28 (dk_at dksX8_go_1 13 rfl rfl)
theorem dX8_go_37 : decode cX8_go 37 = .ok (.invokeinterface 95 2, 5) := by decide +kernel
theorem dX8_go_42 : decode cX8_go 42 = .ok (.checkcast 68, 3) := dk_192 0 68 (dk_at dksX8_go_1 19 rfl rfl)
theorem dX8_go_45 : decode cX8_go 45 = .ok (.astore_n 3, 1) := dk_78 (dk_at dksX8_go_1 22 rfl rfl)
theorem dX8_go_46 : decode cX8_go 46 = .ok (.aload_n 0, 1) := dk_42 (dk_at dksX8_go_1 23 rfl rfl)
theorem dX8_go_47 : decode cX8_go 47 = .ok (.aload_n 3, 1) := dk_45 (dk_at dksX8_go_2 0 rfl rfl)
theorem dX8_go_48 : decode cX8_go 48 = .ok (.invokevirtual 104, 3) := dk_182 0 104 (dk_at dksX8_go_2 1 rfl rfl)
theorem dX8_go_51 : decode cX8_go 51 = .ok (.ifCond .eq 10, 3) := dk_153 0 10 (dk_at dksX8_go_2 4 rfl rfl)
theorem dX8_go_54 : decode cX8_go 54 = .ok (.aload_n 3, 1) := dk_45 (dk_at dksX8_go_2 7 rfl rfl)
theorem dX8_go_55 : decode cX8_go 55 = .ok (.getfield 108, 3) := dk_180 0 108 (dk_at dksX8_go_2 8 rfl rfl)
theorem dX8_go_58 : decode cX8_go 58 = .ok (.goto 7, 3) := dk_167 0 7 (dk_at dksX8_go_2 11 rfl rfl)
theorem dX8_go_61 : decode cX8_go 61 = .ok (.aload_n 3, 1) := dk_45 (dk_at dksX8_go_2 14 rfl rfl)
theorem dX8_go_62 : decode cX8_go 62 = .ok (.getfield 111, 3) := dk_180 0 111 (dk_at dksX8_go_2 15 rfl rfl)
theorem dX8_go_65 : decode cX8_go 65 = .ok (.istore_n 2, 1) := dk_61 (dk_at dksX8_go_2 18 rfl rfl)
theorem dX8_go_66 : decode cX8_go 66 = .ok (.goto (-64), 3) := dk_167 255 192 (dk_at dksX8_go_2 19 rfl rfl)
theorem dX8_go_69 : decode cX8_go 69 = .ok (.aload_n 0, 1) := dk_42 (dk_at dksX8_go_2 22 rfl rfl)
theorem dX8_go_70 : decode cX8_go 70 = .ok (.iload_n 2, 1) := dk_28 (dk_at dksX8_go_2 23 rfl rfl)
theorem dX8_go_71 : decode cX8_go 71 = .ok (.iconst (-1), 1) := dk_2 (dk_at dksX8_go_3 0 rfl rfl)
theorem dX8_go_72 : decode cX8_go 72 = .ok (.if_icmp .ne 7, 3) := dk_160 0 7 (dk_at dksX8_go_3 1 rfl rfl)
theorem dX8_go_75 : decode cX8_go 75 = .ok (.aconst_null, 1) := dk_1 (dk_at dksX8_go_3 4 rfl rfl)
theorem dX8_go_76 : decode cX8_go 76 = .ok (.goto 19, 3) := dk_167 0 19 (dk_at dksX8_go_3 5 rfl rfl)
theorem dX8_go_79 : decode cX8_go 79 = .ok (.aload_n 0, 1) := dk_42 (dk_at dksX8_go_3 8 rfl rfl)
theorem dX8_go_80 : decode cX8_go 80 = .ok (.getfield 36, 3) := dk_180 0 36 (dk_at dksX8_go_3 9 rfl rfl)
theorem dX8_go_83 : decode cX8_go 83 = .ok (.getfield 89, 3) := dk_180 0 89 (dk_at dksX8_go_3 12 rfl rfl)
theorem dX8_go_86 : decode cX8_go 86 = .ok (.iload_n 2, 1) := dk_28 (dk_at dksX8_go_3 15 rfl rfl)
theorem dX8_go_87 : decode cX8_go 87 = .ok (.invokeinterface 95 2, 5) := by decide +kernel
theorem dX8_go_92 : decode cX8_go 92 = .ok (.checkcast 68, 3) := dk_192 0 68 (dk_at dksX8_go_3 21 rfl rfl)
theorem dX8_go_95 : decode cX8_go 95 = .ok (.putfield 114, 3) := dk_181 0 114 (dk_at dksX8_go_4 0 rfl rfl)
theorem dX8_go_98 : decode cX8_go 98 = .ok (.aload_n 0, 1) := dk_42 (dk_at dksX8_go_4 3 rfl rfl)
theorem dX8_go_99 : decode cX8_go 99 = .ok (.iconst 0, 1) := dk_3 (dk_at dksX8_go_4 4 rfl rfl)
theorem dX8_go_100 : decode cX8_go 100 = .ok (.putfield 118, 3) := dk_181 0 118 (dk_at dksX8_go_4 5 rfl rfl)
theorem dX8_go_103 : decode cX8_go 103 = .ok (.aload_n 0, 1) := dk_42 (dk_at dksX8_go_4 8 rfl rfl)
theorem dX8_go_104 : decode cX8_go 104 = .ok (.getfield 114, 3) := dk_180 0 114 (dk_at dksX8_go_4 9 rfl rfl)
theorem dX8_go_107 : decode cX8_go 107 = .ok (.ifnull 43, 3) := dk_198 0 43 (dk_at dksX8_go_4 12 rfl rfl)
theorem dX8_go_110 : decode cX8_go 110 = .ok (.aload_n 0, 1) := dk_42 (dk_at dksX8_go_4 15 rfl rfl)
theorem dX8_go_111 : decode cX8_go 111 = .ok (.getfield 114, 3) := dk_180 0 114 (dk_at dksX8_go_4 16 rfl rfl)
theorem dX8_go_114 : decode cX8_go 114 = .ok (.getfield 67, 3) := dk_180 0 67 (dk_at dksX8_go_4 19 rfl rfl)
theorem dX8_go_117 : decode cX8_go 117 = .ok (.bipush 6, 2) := dk_16 6 (dk_at dksX8_go_4 22 rfl rfl)
theorem dX8_go_119 : decode cX8_go 119 = .ok (.if_icmp .eq 31, 3) := dk_159 0 31 (dk_at dksX8_go_5 0 rfl rfl)
theorem dX8_go_122 : decode cX8_go 122 = .ok (.aload_n 0, 1) := dk_42 (dk_at dksX8_go_5 3 rfl rfl)
theorem dX8_go_123 : decode cX8_go 123 = .ok (.getfield 114, 3) := dk_180 0 114 (dk_at dksX8_go_5 4 rfl rfl)
theorem dX8_go_126 : decode cX8_go 126 = .ok (.getfield 67, 3) := dk_180 0 67 (dk_at dksX8_go_5 7 rfl rfl)
theorem dX8_go_129 : decode cX8_go 129 = .ok (.iconst 5, 1) := dk_8 (dk_at dksX8_go_5 10 rfl rfl)
theorem dX8_go_130 : decode cX8_go 130 = .ok (.if_icmp .ne 28, 3) := dk_160 0 28 (dk_at dksX8_go_5 11 rfl rfl)
theorem dX8_go_133 : decode cX8_go 133 = .ok (.aload_n 0, 1) := dk_42 (dk_at dksX8_go_5 14 rfl rfl)
theorem dX8_go_134 : decode cX8_go 134 = .ok (.getfield 3, 3) := dk_180 0 3 (dk_at dksX8_go_5 15 rfl rfl)
theorem dX8_go_137 : decode cX8_go 137 = .ok (.getfield 121, 3) := dk_180 0 121 (dk_at dksX8_go_5 18 rfl rfl)
theorem dX8_go_140 : decode cX8_go 140 = .ok (.invokeinterface 124 1, 5) := by decide +kernel
theorem dX8_go_145 : decode cX8_go 145 = .ok (.bipush 60, 2) := dk_16 60 (dk_at dksX8_go_6 5 rfl rfl)
theorem dX8_go_147 : decode cX8_go 147 = .ok (.if_icmp .ne 11, 3) := dk_160 0 11 (dk_at dksX8_go_6 7 rfl rfl)
theorem dX8_go_150 : decode cX8_go 150 = .ok (.aload_n 0, 1) := dk_42 (dk_at dksX8_go_6 10 rfl rfl)
theorem dX8_go_151 : decode cX8_go 151 = .ok (.iconst 2, 1) := dk_5 (dk_at dksX8_go_6 11 rfl rfl)
theorem dX8_go_152 : decode cX8_go 152 = .ok (.putfield 15, 3) := dk_181 0 15 (dk_at dksX8_go_6 12 rfl rfl)
theorem dX8_go_155 : decode cX8_go 155 = .ok (.goto 71, 3) := dk_167 0 71 (dk_at dksX8_go_6 15 rfl rfl)
theorem dX8_go_158 : decode cX8_go 158 = .ok (.aload_n 0, 1) := dk_42 (dk_at dksX8_go_6 18 rfl rfl)
theorem dX8_go_159 : decode cX8_go 159 = .ok (.getfield 114, 3) := dk_180 0 114 (dk_at dksX8_go_6 19 rfl rfl)
theorem dX8_go_162 : decode cX8_go 162 = .ok (.getfield 67, 3) := dk_180 0 67 (dk_at dksX8_go_7 0 rfl rfl)
theorem dX8_go_165 : decode cX8_go 165 = .ok (.iconst 5, 1) := dk_8 (dk_at dksX8_go_7 3 rfl rfl)
theorem dX8_go_166 : decode cX8_go 166 = .ok (.if_icmp .ne 60, 3) := dk_160 0 60 (dk_at dksX8_go_7 4 rfl rfl)
theorem dX8_go_169 : decode cX8_go 169 = .ok (.aload_n 0, 1) := dk_42 (dk_at dksX8_go_7 7 rfl rfl)
theorem dX8_go_170 : decode cX8_go 170 = .ok (.iconst 1, 1) := dk_4 (dk_at dksX8_go_7 8 rfl rfl)
theorem dX8_go_171 : decode cX8_go 171 = .ok (.putfield 15, 3) := dk_181 0 15 (dk_at dksX8_go_7 9 rfl rfl)
theorem dX8_go_174 : decode cX8_go 174 = .ok (.aload_n 0, 1) := dk_42 (dk_at dksX8_go_7 12 rfl rfl)
theorem dX8_go_175 : decode cX8_go 175 = .ok (.aload_n 0, 1) := dk_42 (dk_at dksX8_go_7 13 rfl rfl)
theorem dX8_go_176 : decode cX8_go 176 = .ok (.getfield 3, 3) := dk_180 0 3 (dk_at dksX8_go_7 14 rfl rfl)
theorem dX8_go_179 : decode cX8_go 179 = .ok (.aload_n 0, 1) := dk_42 (dk_at dksX8_go_7 17 rfl rfl)
theorem dX8_go_180 : decode cX8_go 180 = .ok (.getfield 26, 3) := dk_180 0 26 (dk_at dksX8_go_7 18 rfl rfl)
theorem dX8_go_183 : decode cX8_go 183 = .ok (.aconst_null, 1) := dk_1 (dk_at dksX8_go_7 21 rfl rfl)
theorem dX8_go_184 : decode cX8_go 184 = .ok (.aload_n 0, 1) := dk_42 (dk_at dksX8_go_7 22 rfl rfl)
theorem dX8_go_185 : decode cX8_go 185 = .ok (.getfield 19, 3) := dk_180 0 19 (dk_at dksX8_go_8 0 rfl rfl)
theorem dX8_go_188 : decode cX8_go 188 = .ok (.aload_n 0, 1) := dk_42 (dk_at dksX8_go_8 3 rfl rfl)
theorem dX8_go_189 : decode cX8_go 189 = .ok (.getfield 82, 3) := dk_180 0 82 (dk_at dksX8_go_8 4 rfl rfl)
theorem dX8_go_192 : decode cX8_go 192 = .ok (.invokevirtual 127, 3) := dk_182 0 127 (dk_at dksX8_go_8 7 rfl rfl)
theorem dX8_go_195 : decode cX8_go 195 = .ok (.putfield 23, 3) := dk_181 0 23 (dk_at dksX8_go_8 10 rfl rfl)
theorem dX8_go_198 : decode cX8_go 198 = .ok (.aload_n 0, 1) := dk_42 (dk_at dksX8_go_8 13 rfl rfl)
theorem dX8_go_199 : decode cX8_go 199 = .ok (.getfield 26, 3) := dk_180 0 26 (dk_at dksX8_go_8 14 rfl rfl)
theorem dX8_go_202 : decode cX8_go 202 = .ok (.getfield 44, 3) := dk_180 0 44 (dk_at dksX8_go_8 17 rfl rfl)
theorem dX8_go_205 : decode cX8_go 205 = .ok (.aload_n 0, 1) := dk_42 (dk_at dksX8_go_8 20 rfl rfl)
theorem dX8_go_206 : decode cX8_go 206 = .ok (.getfield 30, 3) := dk_180 0 30 (dk_at dksX8_go_8 21 rfl rfl)
theorem dX8_go_209 : decode cX8_go 209 = .ok (.invokevirtual 131, 3) := dk_182 0 131 (dk_at dksX8_go_9 0 rfl rfl)
theorem dX8_go_212 : decode cX8_go 212 = .ok (.aload_n 0, 1) := dk_42 (dk_at dksX8_go_9 3 rfl rfl)
theorem dX8_go_213 : decode cX8_go 213 = .ok (.getfield 26, 3) := dk_180 0 26 (dk_at dksX8_go_9 4 rfl rfl)
theorem dX8_go_216 : decode cX8_go 216 = .ok (.getfield 60, 3) := dk_180 0 60 (dk_at dksX8_go_9 7 rfl rfl)
theorem dX8_go_219 : decode cX8_go 219 = .ok (.aload_n 0, 1) := dk_42 (dk_at dksX8_go_9 10 rfl rfl)
theorem dX8_go_220 : decode cX8_go 220 = .ok (.getfield 33, 3) := dk_180 0 33 (dk_at dksX8_go_9 11 rfl rfl)
theorem dX8_go_223 : decode cX8_go 223 = .ok (.invokevirtual 131, 3) := dk_182 0 131 (dk_at dksX8_go_9 14 rfl rfl)
theorem dX8_go_226 : decode cX8_go 226 = .ok (.return_, 1) := dk_177 (dk_at dksX8_go_9 17 rfl rfl)
abbrev cX8_holds : ByteArray := prog_2_method_3_code
def yX8_holds : MethodName := ⟨RX8, "holds", "(LKeyringCourt$Step;)Z"⟩
def dkwX8_holds_5 : List UInt8 := [167, 0, 4, 3, 172]
abbrev dktX8_holds_5 : List UInt8 := dkwX8_holds_5 ++ []
def dkwX8_holds_4 : List UInt8 := [160, 0, 7, 4, 167, 0, 4, 3, 172, 42, 180, 0, 82, 184, 0, 85, 43, 180, 0, 76, 161, 0, 7, 4]
abbrev dktX8_holds_4 : List UInt8 := dkwX8_holds_4 ++ dktX8_holds_5
def dkwX8_holds_3 : List UInt8 := [161, 0, 7, 4, 167, 0, 4, 3, 172, 42, 180, 0, 26, 180, 0, 79, 43, 180, 0, 76, 46, 4]
abbrev dktX8_holds_3 : List UInt8 := dkwX8_holds_3 ++ dktX8_holds_4
def dkwX8_holds_2 : List UInt8 := [42, 180, 0, 26, 180, 0, 44, 42, 180, 0, 30, 182, 0, 50, 172, 42, 3, 182, 0, 72, 43, 180, 0, 76]
abbrev dktX8_holds_2 : List UInt8 := dkwX8_holds_2 ++ dktX8_holds_3
def dkwX8_holds_1 : List UInt8 := [170, 0, 0, 0, 0, 0, 0, 83, 0, 0, 0, 1, 0, 0, 0, 3, 0, 0, 0, 28, 0, 0, 0, 43, 0, 0, 0, 61]
abbrev dktX8_holds_1 : List UInt8 := dkwX8_holds_1 ++ dktX8_holds_2
def dkwX8_holds_0 : List UInt8 := [43, 180, 0, 67]
abbrev dktX8_holds_0 : List UInt8 := dkwX8_holds_0 ++ dktX8_holds_1
theorem dksX8_holds_0 : cX8_holds.data.toList.drop 0 = dktX8_holds_0 := by decide +kernel
theorem dksX8_holds_1 : cX8_holds.data.toList.drop 4 = dktX8_holds_1 := dk_seg dksX8_holds_0 4 rfl rfl
theorem dksX8_holds_2 : cX8_holds.data.toList.drop 32 = dktX8_holds_2 := dk_seg dksX8_holds_1 28 rfl rfl
theorem dksX8_holds_3 : cX8_holds.data.toList.drop 56 = dktX8_holds_3 := dk_seg dksX8_holds_2 24 rfl rfl
theorem dksX8_holds_4 : cX8_holds.data.toList.drop 78 = dktX8_holds_4 := dk_seg dksX8_holds_3 22 rfl rfl
theorem dksX8_holds_5 : cX8_holds.data.toList.drop 102 = dktX8_holds_5 := dk_seg dksX8_holds_4 24 rfl rfl
theorem dX8_holds_0 : decode cX8_holds 0 = .ok (.aload_n 1, 1) := dk_43 (dk_at dksX8_holds_0 0 rfl rfl)
theorem dX8_holds_1 : decode cX8_holds 1 = .ok (.getfield 67, 3) := dk_180 0 67 (dk_at dksX8_holds_0 1 rfl rfl)
theorem dX8_holds_4 : decode cX8_holds 4 = .ok (.tableswitch 83 1 3 #[28, 43, 61], 28) := by decide +kernel
theorem dX8_holds_32 : decode cX8_holds 32 = .ok (.aload_n 0, 1) := dk_42 (dk_at dksX8_holds_2 0 rfl rfl)
theorem dX8_holds_33 : decode cX8_holds 33 = .ok (.getfield 26, 3) := dk_180 0 26 (dk_at dksX8_holds_2 1 rfl rfl)
theorem dX8_holds_36 : decode cX8_holds 36 = .ok (.getfield 44, 3) := dk_180 0 44 (dk_at dksX8_holds_2 4 rfl rfl)
theorem dX8_holds_39 : decode cX8_holds 39 = .ok (.aload_n 0, 1) := dk_42 (dk_at dksX8_holds_2 7 rfl rfl)
theorem dX8_holds_40 : decode cX8_holds 40 = .ok (.getfield 30, 3) := dk_180 0 30 (dk_at dksX8_holds_2 8 rfl rfl)
theorem dX8_holds_43 : decode cX8_holds 43 = .ok (.invokevirtual 50, 3) := dk_182 0 50 (dk_at dksX8_holds_2 11 rfl rfl)
theorem dX8_holds_46 : decode cX8_holds 46 = .ok (.ireturn, 1) := dk_172 (dk_at dksX8_holds_2 14 rfl rfl)
theorem dX8_holds_47 : decode cX8_holds 47 = .ok (.aload_n 0, 1) := dk_42 (dk_at dksX8_holds_2 15 rfl rfl)
theorem dX8_holds_48 : decode cX8_holds 48 = .ok (.iconst 0, 1) := dk_3 (dk_at dksX8_holds_2 16 rfl rfl)
theorem dX8_holds_49 : decode cX8_holds 49 = .ok (.invokevirtual 72, 3) := dk_182 0 72 (dk_at dksX8_holds_2 17 rfl rfl)
theorem dX8_holds_52 : decode cX8_holds 52 = .ok (.aload_n 1, 1) := dk_43 (dk_at dksX8_holds_2 20 rfl rfl)
theorem dX8_holds_53 : decode cX8_holds 53 = .ok (.getfield 76, 3) := dk_180 0 76 (dk_at dksX8_holds_2 21 rfl rfl)
theorem dX8_holds_56 : decode cX8_holds 56 = .ok (.if_icmp .lt 7, 3) := dk_161 0 7 (dk_at dksX8_holds_3 0 rfl rfl)
theorem dX8_holds_59 : decode cX8_holds 59 = .ok (.iconst 1, 1) := dk_4 (dk_at dksX8_holds_3 3 rfl rfl)
theorem dX8_holds_60 : decode cX8_holds 60 = .ok (.goto 4, 3) := dk_167 0 4 (dk_at dksX8_holds_3 4 rfl rfl)
theorem dX8_holds_63 : decode cX8_holds 63 = .ok (.iconst 0, 1) := dk_3 (dk_at dksX8_holds_3 7 rfl rfl)
theorem dX8_holds_64 : decode cX8_holds 64 = .ok (.ireturn, 1) := dk_172 (dk_at dksX8_holds_3 8 rfl rfl)
theorem dX8_holds_65 : decode cX8_holds 65 = .ok (.aload_n 0, 1) := dk_42 (dk_at dksX8_holds_3 9 rfl rfl)
theorem dX8_holds_66 : decode cX8_holds 66 = .ok (.getfield 26, 3) := dk_180 0 26 (dk_at dksX8_holds_3 10 rfl rfl)
theorem dX8_holds_69 : decode cX8_holds 69 = .ok (.getfield 79, 3) := dk_180 0 79 (dk_at dksX8_holds_3 13 rfl rfl)
theorem dX8_holds_72 : decode cX8_holds 72 = .ok (.aload_n 1, 1) := dk_43 (dk_at dksX8_holds_3 16 rfl rfl)
theorem dX8_holds_73 : decode cX8_holds 73 = .ok (.getfield 76, 3) := dk_180 0 76 (dk_at dksX8_holds_3 17 rfl rfl)
theorem dX8_holds_76 : decode cX8_holds 76 = .ok (.iaload, 1) := dk_46 (dk_at dksX8_holds_3 20 rfl rfl)
theorem dX8_holds_77 : decode cX8_holds 77 = .ok (.iconst 1, 1) := dk_4 (dk_at dksX8_holds_3 21 rfl rfl)
theorem dX8_holds_78 : decode cX8_holds 78 = .ok (.if_icmp .ne 7, 3) := dk_160 0 7 (dk_at dksX8_holds_4 0 rfl rfl)
theorem dX8_holds_81 : decode cX8_holds 81 = .ok (.iconst 1, 1) := dk_4 (dk_at dksX8_holds_4 3 rfl rfl)
theorem dX8_holds_82 : decode cX8_holds 82 = .ok (.goto 4, 3) := dk_167 0 4 (dk_at dksX8_holds_4 4 rfl rfl)
theorem dX8_holds_85 : decode cX8_holds 85 = .ok (.iconst 0, 1) := dk_3 (dk_at dksX8_holds_4 7 rfl rfl)
theorem dX8_holds_86 : decode cX8_holds 86 = .ok (.ireturn, 1) := dk_172 (dk_at dksX8_holds_4 8 rfl rfl)
theorem dX8_holds_87 : decode cX8_holds 87 = .ok (.aload_n 0, 1) := dk_42 (dk_at dksX8_holds_4 9 rfl rfl)
theorem dX8_holds_88 : decode cX8_holds 88 = .ok (.getfield 82, 3) := dk_180 0 82 (dk_at dksX8_holds_4 10 rfl rfl)
theorem dX8_holds_91 : decode cX8_holds 91 = .ok (.invokestatic 85, 3) := dk_184 0 85 (dk_at dksX8_holds_4 13 rfl rfl)
theorem dX8_holds_94 : decode cX8_holds 94 = .ok (.aload_n 1, 1) := dk_43 (dk_at dksX8_holds_4 16 rfl rfl)
theorem dX8_holds_95 : decode cX8_holds 95 = .ok (.getfield 76, 3) := dk_180 0 76 (dk_at dksX8_holds_4 17 rfl rfl)
theorem dX8_holds_98 : decode cX8_holds 98 = .ok (.if_icmp .lt 7, 3) := dk_161 0 7 (dk_at dksX8_holds_4 20 rfl rfl)
theorem dX8_holds_101 : decode cX8_holds 101 = .ok (.iconst 1, 1) := dk_4 (dk_at dksX8_holds_4 23 rfl rfl)
theorem dX8_holds_102 : decode cX8_holds 102 = .ok (.goto 4, 3) := dk_167 0 4 (dk_at dksX8_holds_5 0 rfl rfl)
theorem dX8_holds_105 : decode cX8_holds 105 = .ok (.iconst 0, 1) := dk_3 (dk_at dksX8_holds_5 3 rfl rfl)
theorem dX8_holds_106 : decode cX8_holds 106 = .ok (.ireturn, 1) := dk_172 (dk_at dksX8_holds_5 4 rfl rfl)
abbrev cX8_risk : ByteArray := prog_2_method_2_code
def yX8_risk : MethodName := ⟨RX8, "risk", "(Z)I"⟩
def dkwX8_risk_3 : List UInt8 := [182, 0, 63, 42, 180, 0, 3, 5, 27, 182, 0, 56, 104, 96, 172]
abbrev dktX8_risk_3 : List UInt8 := dkwX8_risk_3 ++ []
def dkwX8_risk_2 : List UInt8 := [153, 0, 7, 3, 167, 0, 12, 42, 180, 0, 3, 4, 27, 182, 0, 56, 96, 61, 28, 42, 180, 0, 26]
abbrev dktX8_risk_2 : List UInt8 := dkwX8_risk_2 ++ dktX8_risk_3
def dkwX8_risk_1 : List UInt8 := [180, 0, 3, 3, 27, 182, 0, 56, 61, 28, 42, 180, 0, 26, 180, 0, 60, 42, 180, 0, 33, 182, 0, 50]
abbrev dktX8_risk_1 : List UInt8 := dkwX8_risk_1 ++ dktX8_risk_2
def dkwX8_risk_0 : List UInt8 := [42, 180, 0, 26, 180, 0, 44, 42, 180, 0, 30, 182, 0, 50, 153, 0, 7, 3, 167, 0, 12, 42]
abbrev dktX8_risk_0 : List UInt8 := dkwX8_risk_0 ++ dktX8_risk_1
theorem dksX8_risk_0 : cX8_risk.data.toList.drop 0 = dktX8_risk_0 := by decide +kernel
theorem dksX8_risk_1 : cX8_risk.data.toList.drop 22 = dktX8_risk_1 := dk_seg dksX8_risk_0 22 rfl rfl
theorem dksX8_risk_2 : cX8_risk.data.toList.drop 46 = dktX8_risk_2 := dk_seg dksX8_risk_1 24 rfl rfl
theorem dksX8_risk_3 : cX8_risk.data.toList.drop 69 = dktX8_risk_3 := dk_seg dksX8_risk_2 23 rfl rfl
theorem dX8_risk_0 : decode cX8_risk 0 = .ok (.aload_n 0, 1) := dk_42 (dk_at dksX8_risk_0 0 rfl rfl)
theorem dX8_risk_1 : decode cX8_risk 1 = .ok (.getfield 26, 3) := dk_180 0 26 (dk_at dksX8_risk_0 1 rfl rfl)
theorem dX8_risk_4 : decode cX8_risk 4 = .ok (.getfield 44, 3) := dk_180 0 44 (dk_at dksX8_risk_0 4 rfl rfl)
theorem dX8_risk_7 : decode cX8_risk 7 = .ok (.aload_n 0, 1) := dk_42 (dk_at dksX8_risk_0 7 rfl rfl)
theorem dX8_risk_8 : decode cX8_risk 8 = .ok (.getfield 30, 3) := dk_180 0 30 (dk_at dksX8_risk_0 8 rfl rfl)
theorem dX8_risk_11 : decode cX8_risk 11 = .ok (.invokevirtual 50, 3) := dk_182 0 50 (dk_at dksX8_risk_0 11 rfl rfl)
theorem dX8_risk_14 : decode cX8_risk 14 = .ok (.ifCond .eq 7, 3) := dk_153 0 7 (dk_at dksX8_risk_0 14 rfl rfl)
theorem dX8_risk_17 : decode cX8_risk 17 = .ok (.iconst 0, 1) := dk_3 (dk_at dksX8_risk_0 17 rfl rfl)
theorem dX8_risk_18 : decode cX8_risk 18 = .ok (.goto 12, 3) := dk_167 0 12 (dk_at dksX8_risk_0 18 rfl rfl)
theorem dX8_risk_21 : decode cX8_risk 21 = .ok (.aload_n 0, 1) := dk_42 (dk_at dksX8_risk_0 21 rfl rfl)
theorem dX8_risk_22 : decode cX8_risk 22 = .ok (.getfield 3, 3) := dk_180 0 3 (dk_at dksX8_risk_1 0 rfl rfl)
theorem dX8_risk_25 : decode cX8_risk 25 = .ok (.iconst 0, 1) := dk_3 (dk_at dksX8_risk_1 3 rfl rfl)
theorem dX8_risk_26 : decode cX8_risk 26 = .ok (.iload_n 1, 1) := dk_27 (dk_at dksX8_risk_1 4 rfl rfl)
theorem dX8_risk_27 : decode cX8_risk 27 = .ok (.invokevirtual 56, 3) := dk_182 0 56 (dk_at dksX8_risk_1 5 rfl rfl)
theorem dX8_risk_30 : decode cX8_risk 30 = .ok (.istore_n 2, 1) := dk_61 (dk_at dksX8_risk_1 8 rfl rfl)
theorem dX8_risk_31 : decode cX8_risk 31 = .ok (.iload_n 2, 1) := dk_28 (dk_at dksX8_risk_1 9 rfl rfl)
theorem dX8_risk_32 : decode cX8_risk 32 = .ok (.aload_n 0, 1) := dk_42 (dk_at dksX8_risk_1 10 rfl rfl)
theorem dX8_risk_33 : decode cX8_risk 33 = .ok (.getfield 26, 3) := dk_180 0 26 (dk_at dksX8_risk_1 11 rfl rfl)
theorem dX8_risk_36 : decode cX8_risk 36 = .ok (.getfield 60, 3) := dk_180 0 60 (dk_at dksX8_risk_1 14 rfl rfl)
theorem dX8_risk_39 : decode cX8_risk 39 = .ok (.aload_n 0, 1) := dk_42 (dk_at dksX8_risk_1 17 rfl rfl)
theorem dX8_risk_40 : decode cX8_risk 40 = .ok (.getfield 33, 3) := dk_180 0 33 (dk_at dksX8_risk_1 18 rfl rfl)
theorem dX8_risk_43 : decode cX8_risk 43 = .ok (.invokevirtual 50, 3) := dk_182 0 50 (dk_at dksX8_risk_1 21 rfl rfl)
theorem dX8_risk_46 : decode cX8_risk 46 = .ok (.ifCond .eq 7, 3) := dk_153 0 7 (dk_at dksX8_risk_2 0 rfl rfl)
theorem dX8_risk_49 : decode cX8_risk 49 = .ok (.iconst 0, 1) := dk_3 (dk_at dksX8_risk_2 3 rfl rfl)
theorem dX8_risk_50 : decode cX8_risk 50 = .ok (.goto 12, 3) := dk_167 0 12 (dk_at dksX8_risk_2 4 rfl rfl)
theorem dX8_risk_53 : decode cX8_risk 53 = .ok (.aload_n 0, 1) := dk_42 (dk_at dksX8_risk_2 7 rfl rfl)
theorem dX8_risk_54 : decode cX8_risk 54 = .ok (.getfield 3, 3) := dk_180 0 3 (dk_at dksX8_risk_2 8 rfl rfl)
theorem dX8_risk_57 : decode cX8_risk 57 = .ok (.iconst 1, 1) := dk_4 (dk_at dksX8_risk_2 11 rfl rfl)
theorem dX8_risk_58 : decode cX8_risk 58 = .ok (.iload_n 1, 1) := dk_27 (dk_at dksX8_risk_2 12 rfl rfl)
theorem dX8_risk_59 : decode cX8_risk 59 = .ok (.invokevirtual 56, 3) := dk_182 0 56 (dk_at dksX8_risk_2 13 rfl rfl)
theorem dX8_risk_62 : decode cX8_risk 62 = .ok (.iadd, 1) := dk_96 (dk_at dksX8_risk_2 16 rfl rfl)
theorem dX8_risk_63 : decode cX8_risk 63 = .ok (.istore_n 2, 1) := dk_61 (dk_at dksX8_risk_2 17 rfl rfl)
theorem dX8_risk_64 : decode cX8_risk 64 = .ok (.iload_n 2, 1) := dk_28 (dk_at dksX8_risk_2 18 rfl rfl)
theorem dX8_risk_65 : decode cX8_risk 65 = .ok (.aload_n 0, 1) := dk_42 (dk_at dksX8_risk_2 19 rfl rfl)
theorem dX8_risk_66 : decode cX8_risk 66 = .ok (.getfield 26, 3) := dk_180 0 26 (dk_at dksX8_risk_2 20 rfl rfl)
theorem dX8_risk_69 : decode cX8_risk 69 = .ok (.invokevirtual 63, 3) := dk_182 0 63 (dk_at dksX8_risk_3 0 rfl rfl)
theorem dX8_risk_72 : decode cX8_risk 72 = .ok (.aload_n 0, 1) := dk_42 (dk_at dksX8_risk_3 3 rfl rfl)
theorem dX8_risk_73 : decode cX8_risk 73 = .ok (.getfield 3, 3) := dk_180 0 3 (dk_at dksX8_risk_3 4 rfl rfl)
theorem dX8_risk_76 : decode cX8_risk 76 = .ok (.iconst 2, 1) := dk_5 (dk_at dksX8_risk_3 7 rfl rfl)
theorem dX8_risk_77 : decode cX8_risk 77 = .ok (.iload_n 1, 1) := dk_27 (dk_at dksX8_risk_3 8 rfl rfl)
theorem dX8_risk_78 : decode cX8_risk 78 = .ok (.invokevirtual 56, 3) := dk_182 0 56 (dk_at dksX8_risk_3 9 rfl rfl)
theorem dX8_risk_81 : decode cX8_risk 81 = .ok (.imul, 1) := dk_104 (dk_at dksX8_risk_3 12 rfl rfl)
theorem dX8_risk_82 : decode cX8_risk 82 = .ok (.iadd, 1) := dk_96 (dk_at dksX8_risk_3 13 rfl rfl)
theorem dX8_risk_83 : decode cX8_risk 83 = .ok (.ireturn, 1) := dk_172 (dk_at dksX8_risk_3 14 rfl rfl)
abbrev cX8_answer : ByteArray := prog_2_method_6_code
def yX8_answer : MethodName := ⟨RX8, "answer", "(ZI)I"⟩
def dkwX8_answer_5 : List UInt8 := [160, 0, 7, 5, 167, 0, 7, 42, 180, 0, 15, 181, 0, 15, 42, 180, 0, 15, 172]
abbrev dktX8_answer_5 : List UInt8 := dkwX8_answer_5 ++ []
def dkwX8_answer_4 : List UInt8 := [180, 0, 114, 180, 0, 111, 182, 0, 40, 42, 42, 180, 0, 15, 154, 0, 16, 42, 180, 0, 133, 16, 12]
abbrev dktX8_answer_4 : List UInt8 := dkwX8_answer_4 ++ dktX8_answer_5
def dkwX8_answer_3 : List UInt8 := [180, 0, 118, 4, 96, 181, 0, 118, 42, 180, 0, 118, 42, 180, 0, 114, 180, 0, 142, 160, 0, 14, 42, 42]
abbrev dktX8_answer_3 : List UInt8 := dkwX8_answer_3 ++ dktX8_answer_4
def dkwX8_answer_2 : List UInt8 := [42, 180, 0, 3, 180, 0, 139, 79, 42, 42, 180, 0, 114, 180, 0, 108, 182, 0, 40, 167, 0, 38, 42, 89]
abbrev dktX8_answer_2 : List UInt8 := dkwX8_answer_2 ++ dktX8_answer_3
def dkwX8_answer_1 : List UInt8 := [28, 182, 0, 136, 153, 0, 42, 42, 89, 180, 0, 82, 4, 29, 120, 128, 181, 0, 82, 42, 180, 0, 19, 29]
abbrev dktX8_answer_1 : List UInt8 := dkwX8_answer_1 ++ dktX8_answer_2
def dkwX8_answer_0 : List UInt8 := [42, 180, 0, 114, 180, 0, 76, 62, 42, 89, 180, 0, 133, 4, 96, 181, 0, 133, 42, 180, 0, 26, 29, 27]
abbrev dktX8_answer_0 : List UInt8 := dkwX8_answer_0 ++ dktX8_answer_1
theorem dksX8_answer_0 : cX8_answer.data.toList.drop 0 = dktX8_answer_0 := by decide +kernel
theorem dksX8_answer_1 : cX8_answer.data.toList.drop 24 = dktX8_answer_1 := dk_seg dksX8_answer_0 24 rfl rfl
theorem dksX8_answer_2 : cX8_answer.data.toList.drop 48 = dktX8_answer_2 := dk_seg dksX8_answer_1 24 rfl rfl
theorem dksX8_answer_3 : cX8_answer.data.toList.drop 72 = dktX8_answer_3 := dk_seg dksX8_answer_2 24 rfl rfl
theorem dksX8_answer_4 : cX8_answer.data.toList.drop 96 = dktX8_answer_4 := dk_seg dksX8_answer_3 24 rfl rfl
theorem dksX8_answer_5 : cX8_answer.data.toList.drop 119 = dktX8_answer_5 := dk_seg dksX8_answer_4 23 rfl rfl
theorem dX8_answer_0 : decode cX8_answer 0 = .ok (.aload_n 0, 1) := dk_42 (dk_at dksX8_answer_0 0 rfl rfl)
theorem dX8_answer_1 : decode cX8_answer 1 = .ok (.getfield 114, 3) := dk_180 0 114 (dk_at dksX8_answer_0 1 rfl rfl)
theorem dX8_answer_4 : decode cX8_answer 4 = .ok (.getfield 76, 3) := dk_180 0 76 (dk_at dksX8_answer_0 4 rfl rfl)
theorem dX8_answer_7 : decode cX8_answer 7 = .ok (.istore_n 3, 1) := dk_62 (dk_at dksX8_answer_0 7 rfl rfl)
theorem dX8_answer_8 : decode cX8_answer 8 = .ok (.aload_n 0, 1) := dk_42 (dk_at dksX8_answer_0 8 rfl rfl)
theorem dX8_answer_9 : decode cX8_answer 9 = .ok (.dup, 1) := dk_89 (dk_at dksX8_answer_0 9 rfl rfl)
theorem dX8_answer_10 : decode cX8_answer 10 = .ok (.getfield 133, 3) := dk_180 0 133 (dk_at dksX8_answer_0 10 rfl rfl)
theorem dX8_answer_13 : decode cX8_answer 13 = .ok (.iconst 1, 1) := dk_4 (dk_at dksX8_answer_0 13 rfl rfl)
theorem dX8_answer_14 : decode cX8_answer 14 = .ok (.iadd, 1) := dk_96 (dk_at dksX8_answer_0 14 rfl rfl)
theorem dX8_answer_15 : decode cX8_answer 15 = .ok (.putfield 133, 3) := dk_181 0 133 (dk_at dksX8_answer_0 15 rfl rfl)
theorem dX8_answer_18 : decode cX8_answer 18 = .ok (.aload_n 0, 1) := dk_42 (dk_at dksX8_answer_0 18 rfl rfl)
theorem dX8_answer_19 : decode cX8_answer 19 = .ok (.getfield 26, 3) := dk_180 0 26 (dk_at dksX8_answer_0 19 rfl rfl)
theorem dX8_answer_22 : decode cX8_answer 22 = .ok (.iload_n 3, 1) := dk_29 (dk_at dksX8_answer_0 22 rfl rfl)
theorem dX8_answer_23 : decode cX8_answer 23 = .ok (.iload_n 1, 1) := dk_27 (dk_at dksX8_answer_0 23 rfl rfl)
theorem dX8_answer_24 : decode cX8_answer 24 = .ok (.iload_n 2, 1) := dk_28 (dk_at dksX8_answer_1 0 rfl rfl)
theorem dX8_answer_25 : decode cX8_answer 25 = .ok (.invokevirtual 136, 3) := dk_182 0 136 (dk_at dksX8_answer_1 1 rfl rfl)
theorem dX8_answer_28 : decode cX8_answer 28 = .ok (.ifCond .eq 42, 3) := dk_153 0 42 (dk_at dksX8_answer_1 4 rfl rfl)
theorem dX8_answer_31 : decode cX8_answer 31 = .ok (.aload_n 0, 1) := dk_42 (dk_at dksX8_answer_1 7 rfl rfl)
theorem dX8_answer_32 : decode cX8_answer 32 = .ok (.dup, 1) := dk_89 (dk_at dksX8_answer_1 8 rfl rfl)
theorem dX8_answer_33 : decode cX8_answer 33 = .ok (.getfield 82, 3) := dk_180 0 82 (dk_at dksX8_answer_1 9 rfl rfl)
theorem dX8_answer_36 : decode cX8_answer 36 = .ok (.iconst 1, 1) := dk_4 (dk_at dksX8_answer_1 12 rfl rfl)
theorem dX8_answer_37 : decode cX8_answer 37 = .ok (.iload_n 3, 1) := dk_29 (dk_at dksX8_answer_1 13 rfl rfl)
theorem dX8_answer_38 : decode cX8_answer 38 = .ok (.ishl, 1) := dk_120 (dk_at dksX8_answer_1 14 rfl rfl)
theorem dX8_answer_39 : decode cX8_answer 39 = .ok (.ior, 1) := dk_128 (dk_at dksX8_answer_1 15 rfl rfl)
theorem dX8_answer_40 : decode cX8_answer 40 = .ok (.putfield 82, 3) := dk_181 0 82 (dk_at dksX8_answer_1 16 rfl rfl)
theorem dX8_answer_43 : decode cX8_answer 43 = .ok (.aload_n 0, 1) := dk_42 (dk_at dksX8_answer_1 19 rfl rfl)
theorem dX8_answer_44 : decode cX8_answer 44 = .ok (.getfield 19, 3) := dk_180 0 19 (dk_at dksX8_answer_1 20 rfl rfl)
theorem dX8_answer_47 : decode cX8_answer 47 = .ok (.iload_n 3, 1) := dk_29 (dk_at dksX8_answer_1 23 rfl rfl)
theorem dX8_answer_48 : decode cX8_answer 48 = .ok (.aload_n 0, 1) := dk_42 (dk_at dksX8_answer_2 0 rfl rfl)
theorem dX8_answer_49 : decode cX8_answer 49 = .ok (.getfield 3, 3) := dk_180 0 3 (dk_at dksX8_answer_2 1 rfl rfl)
theorem dX8_answer_52 : decode cX8_answer 52 = .ok (.getfield 139, 3) := dk_180 0 139 (dk_at dksX8_answer_2 4 rfl rfl)
theorem dX8_answer_55 : decode cX8_answer 55 = .ok (.iastore, 1) := dk_79 (dk_at dksX8_answer_2 7 rfl rfl)
theorem dX8_answer_56 : decode cX8_answer 56 = .ok (.aload_n 0, 1) := dk_42 (dk_at dksX8_answer_2 8 rfl rfl)
theorem dX8_answer_57 : decode cX8_answer 57 = .ok (.aload_n 0, 1) := dk_42 (dk_at dksX8_answer_2 9 rfl rfl)
theorem dX8_answer_58 : decode cX8_answer 58 = .ok (.getfield 114, 3) := dk_180 0 114 (dk_at dksX8_answer_2 10 rfl rfl)
theorem dX8_answer_61 : decode cX8_answer 61 = .ok (.getfield 108, 3) := dk_180 0 108 (dk_at dksX8_answer_2 13 rfl rfl)
theorem dX8_answer_64 : decode cX8_answer 64 = .ok (.invokevirtual 40, 3) := dk_182 0 40 (dk_at dksX8_answer_2 16 rfl rfl)
theorem dX8_answer_67 : decode cX8_answer 67 = .ok (.goto 38, 3) := dk_167 0 38 (dk_at dksX8_answer_2 19 rfl rfl)
theorem dX8_answer_70 : decode cX8_answer 70 = .ok (.aload_n 0, 1) := dk_42 (dk_at dksX8_answer_2 22 rfl rfl)
theorem dX8_answer_71 : decode cX8_answer 71 = .ok (.dup, 1) := dk_89 (dk_at dksX8_answer_2 23 rfl rfl)
theorem dX8_answer_72 : decode cX8_answer 72 = .ok (.getfield 118, 3) := dk_180 0 118 (dk_at dksX8_answer_3 0 rfl rfl)
theorem dX8_answer_75 : decode cX8_answer 75 = .ok (.iconst 1, 1) := dk_4 (dk_at dksX8_answer_3 3 rfl rfl)
theorem dX8_answer_76 : decode cX8_answer 76 = .ok (.iadd, 1) := dk_96 (dk_at dksX8_answer_3 4 rfl rfl)
theorem dX8_answer_77 : decode cX8_answer 77 = .ok (.putfield 118, 3) := dk_181 0 118 (dk_at dksX8_answer_3 5 rfl rfl)
theorem dX8_answer_80 : decode cX8_answer 80 = .ok (.aload_n 0, 1) := dk_42 (dk_at dksX8_answer_3 8 rfl rfl)
theorem dX8_answer_81 : decode cX8_answer 81 = .ok (.getfield 118, 3) := dk_180 0 118 (dk_at dksX8_answer_3 9 rfl rfl)
theorem dX8_answer_84 : decode cX8_answer 84 = .ok (.aload_n 0, 1) := dk_42 (dk_at dksX8_answer_3 12 rfl rfl)
theorem dX8_answer_85 : decode cX8_answer 85 = .ok (.getfield 114, 3) := dk_180 0 114 (dk_at dksX8_answer_3 13 rfl rfl)
theorem dX8_answer_88 : decode cX8_answer 88 = .ok (.getfield 142, 3) := dk_180 0 142 (dk_at dksX8_answer_3 16 rfl rfl)
theorem dX8_answer_91 : decode cX8_answer 91 = .ok (.if_icmp .ne 14, 3) := dk_160 0 14 (dk_at dksX8_answer_3 19 rfl rfl)
theorem dX8_answer_94 : decode cX8_answer 94 = .ok (.aload_n 0, 1) := dk_42 (dk_at dksX8_answer_3 22 rfl rfl)
theorem dX8_answer_95 : decode cX8_answer 95 = .ok (.aload_n 0, 1) := dk_42 (dk_at dksX8_answer_3 23 rfl rfl)
theorem dX8_answer_96 : decode cX8_answer 96 = .ok (.getfield 114, 3) := dk_180 0 114 (dk_at dksX8_answer_4 0 rfl rfl)
theorem dX8_answer_99 : decode cX8_answer 99 = .ok (.getfield 111, 3) := dk_180 0 111 (dk_at dksX8_answer_4 3 rfl rfl)
theorem dX8_answer_102 : decode cX8_answer 102 = .ok (.invokevirtual 40, 3) := dk_182 0 40 (dk_at dksX8_answer_4 6 rfl rfl)
theorem dX8_answer_105 : decode cX8_answer 105 = .ok (.aload_n 0, 1) := dk_42 (dk_at dksX8_answer_4 9 rfl rfl)
theorem dX8_answer_106 : decode cX8_answer 106 = .ok (.aload_n 0, 1) := dk_42 (dk_at dksX8_answer_4 10 rfl rfl)
theorem dX8_answer_107 : decode cX8_answer 107 = .ok (.getfield 15, 3) := dk_180 0 15 (dk_at dksX8_answer_4 11 rfl rfl)
theorem dX8_answer_110 : decode cX8_answer 110 = .ok (.ifCond .ne 16, 3) := dk_154 0 16 (dk_at dksX8_answer_4 14 rfl rfl)
theorem dX8_answer_113 : decode cX8_answer 113 = .ok (.aload_n 0, 1) := dk_42 (dk_at dksX8_answer_4 17 rfl rfl)
theorem dX8_answer_114 : decode cX8_answer 114 = .ok (.getfield 133, 3) := dk_180 0 133 (dk_at dksX8_answer_4 18 rfl rfl)
theorem dX8_answer_117 : decode cX8_answer 117 = .ok (.bipush 12, 2) := dk_16 12 (dk_at dksX8_answer_4 21 rfl rfl)
theorem dX8_answer_119 : decode cX8_answer 119 = .ok (.if_icmp .ne 7, 3) := dk_160 0 7 (dk_at dksX8_answer_5 0 rfl rfl)
theorem dX8_answer_122 : decode cX8_answer 122 = .ok (.iconst 2, 1) := dk_5 (dk_at dksX8_answer_5 3 rfl rfl)
theorem dX8_answer_123 : decode cX8_answer 123 = .ok (.goto 7, 3) := dk_167 0 7 (dk_at dksX8_answer_5 4 rfl rfl)
theorem dX8_answer_126 : decode cX8_answer 126 = .ok (.aload_n 0, 1) := dk_42 (dk_at dksX8_answer_5 7 rfl rfl)
theorem dX8_answer_127 : decode cX8_answer 127 = .ok (.getfield 15, 3) := dk_180 0 15 (dk_at dksX8_answer_5 8 rfl rfl)
theorem dX8_answer_130 : decode cX8_answer 130 = .ok (.putfield 15, 3) := dk_181 0 15 (dk_at dksX8_answer_5 11 rfl rfl)
theorem dX8_answer_133 : decode cX8_answer 133 = .ok (.aload_n 0, 1) := dk_42 (dk_at dksX8_answer_5 14 rfl rfl)
theorem dX8_answer_134 : decode cX8_answer 134 = .ok (.getfield 15, 3) := dk_180 0 15 (dk_at dksX8_answer_5 15 rfl rfl)
theorem dX8_answer_137 : decode cX8_answer 137 = .ok (.ireturn, 1) := dk_172 (dk_at dksX8_answer_5 18 rfl rfl)
abbrev cX8_asked : ByteArray := prog_2_method_5_code
def yX8_asked : MethodName := ⟨RX8, "asked", "()I"⟩
def dkwX8_asked_0 : List UInt8 := [42, 180, 0, 15, 154, 0, 13, 42, 180, 0, 114, 180, 0, 76, 167, 0, 4, 2, 172]
abbrev dktX8_asked_0 : List UInt8 := dkwX8_asked_0 ++ []
theorem dksX8_asked_0 : cX8_asked.data.toList.drop 0 = dktX8_asked_0 := by decide +kernel
theorem dX8_asked_0 : decode cX8_asked 0 = .ok (.aload_n 0, 1) := dk_42 (dk_at dksX8_asked_0 0 rfl rfl)
theorem dX8_asked_1 : decode cX8_asked 1 = .ok (.getfield 15, 3) := dk_180 0 15 (dk_at dksX8_asked_0 1 rfl rfl)
theorem dX8_asked_4 : decode cX8_asked 4 = .ok (.ifCond .ne 13, 3) := dk_154 0 13 (dk_at dksX8_asked_0 4 rfl rfl)
theorem dX8_asked_7 : decode cX8_asked 7 = .ok (.aload_n 0, 1) := dk_42 (dk_at dksX8_asked_0 7 rfl rfl)
theorem dX8_asked_8 : decode cX8_asked 8 = .ok (.getfield 114, 3) := dk_180 0 114 (dk_at dksX8_asked_0 8 rfl rfl)
theorem dX8_asked_11 : decode cX8_asked 11 = .ok (.getfield 76, 3) := dk_180 0 76 (dk_at dksX8_asked_0 11 rfl rfl)
theorem dX8_asked_14 : decode cX8_asked 14 = .ok (.goto 4, 3) := dk_167 0 4 (dk_at dksX8_asked_0 14 rfl rfl)
theorem dX8_asked_17 : decode cX8_asked 17 = .ok (.iconst (-1), 1) := dk_2 (dk_at dksX8_asked_0 17 rfl rfl)
theorem dX8_asked_18 : decode cX8_asked 18 = .ok (.ireturn, 1) := dk_172 (dk_at dksX8_asked_0 18 rfl rfl)
abbrev cX8_deny : ByteArray := prog_2_method_7_code
def yX8_deny : MethodName := ⟨RX8, "deny", "()V"⟩
def dkwX8_deny_0 : List UInt8 := [42, 42, 180, 0, 15, 154, 0, 7, 5, 167, 0, 7, 42, 180, 0, 15, 181, 0, 15, 177]
abbrev dktX8_deny_0 : List UInt8 := dkwX8_deny_0 ++ []
theorem dksX8_deny_0 : cX8_deny.data.toList.drop 0 = dktX8_deny_0 := by decide +kernel
theorem dX8_deny_0 : decode cX8_deny 0 = .ok (.aload_n 0, 1) := dk_42 (dk_at dksX8_deny_0 0 rfl rfl)
theorem dX8_deny_1 : decode cX8_deny 1 = .ok (.aload_n 0, 1) := dk_42 (dk_at dksX8_deny_0 1 rfl rfl)
theorem dX8_deny_2 : decode cX8_deny 2 = .ok (.getfield 15, 3) := dk_180 0 15 (dk_at dksX8_deny_0 2 rfl rfl)
theorem dX8_deny_5 : decode cX8_deny 5 = .ok (.ifCond .ne 7, 3) := dk_154 0 7 (dk_at dksX8_deny_0 5 rfl rfl)
theorem dX8_deny_8 : decode cX8_deny 8 = .ok (.iconst 2, 1) := dk_5 (dk_at dksX8_deny_0 8 rfl rfl)
theorem dX8_deny_9 : decode cX8_deny 9 = .ok (.goto 7, 3) := dk_167 0 7 (dk_at dksX8_deny_0 9 rfl rfl)
theorem dX8_deny_12 : decode cX8_deny 12 = .ok (.aload_n 0, 1) := dk_42 (dk_at dksX8_deny_0 12 rfl rfl)
theorem dX8_deny_13 : decode cX8_deny 13 = .ok (.getfield 15, 3) := dk_180 0 15 (dk_at dksX8_deny_0 13 rfl rfl)
theorem dX8_deny_16 : decode cX8_deny 16 = .ok (.putfield 15, 3) := dk_181 0 15 (dk_at dksX8_deny_0 16 rfl rfl)
theorem dX8_deny_19 : decode cX8_deny 19 = .ok (.return_, 1) := dk_177 (dk_at dksX8_deny_0 19 rfl rfl)
theorem q108 : (Jvm.Cond.initialized "KeyringCourt$Attempt") ∈ lw_all := lw_g (lw_at lw_m1 38 rfl) rfl
theorem q489 : (Jvm.Cond.fieldLink "KeyringCourt$Attempt" (89 : Nat) "KeyringCourt$Flow" "steps" "Ljava/util/List;") ∈ lw_all := lw_g (lw_at lw_m2 179 rfl) rfl
theorem q561 : (Jvm.Cond.fieldLink "KeyringCourt$Attempt" (79 : Nat) "KeyringCourt$Person" "states" "[I") ∈ lw_all := lw_g (lw_at lw_m3 11 rfl) rfl
theorem q569 : (Jvm.Cond.fieldLink "KeyringCourt$Attempt" (44 : Nat) "KeyringCourt$Person" "devices" "Ljava/util/BitSet;") ∈ lw_all := lw_g (lw_at lw_m3 19 rfl) rfl
theorem q571 : (Jvm.Cond.fieldLink "KeyringCourt$Attempt" (60 : Nat) "KeyringCourt$Person" "places" "Ljava/util/BitSet;") ∈ lw_all := lw_g (lw_at lw_m3 21 rfl) rfl
theorem q684 : (Jvm.Cond.fieldLinkNest "KeyringCourt$Attempt" (121 : Nat) "KeyringCourt" "sessions" "Ljava/util/List;" "KeyringCourt") ∈ lw_tbl := lw_at lw_m3 134 rfl
theorem q706 : (Jvm.Cond.fieldLinkNest "KeyringCourt$Attempt" (139 : Nat) "KeyringCourt" "now" "I" "KeyringCourt") ∈ lw_tbl := lw_at lw_m3 156 rfl
theorem q898 : (Jvm.Cond.selects "KeyringCourt$Attempt" ({ cls := "java/lang/Object", name := "getClass", desc := "()Ljava/lang/Class;" } : Jvm.MethodName) ({ cls := "java/lang/Object", name := "getClass", desc := "()Ljava/lang/Class;" } : Jvm.MethodName)) ∈ lw_all := lw_g (lw_at lw_m4 108 rfl) rfl
theorem q1145 : (Jvm.Cond.fieldLink "KeyringCourt$Attempt" (67 : Nat) "KeyringCourt$Step" "kind" "I") ∈ lw_all := lw_g (lw_at lw_m5 115 rfl) rfl
theorem q1148 : (Jvm.Cond.fieldLink "KeyringCourt$Attempt" (76 : Nat) "KeyringCourt$Step" "a" "I") ∈ lw_all := lw_g (lw_at lw_m5 118 rfl) rfl
theorem q1151 : (Jvm.Cond.fieldLink "KeyringCourt$Attempt" (142 : Nat) "KeyringCourt$Step" "b" "I") ∈ lw_all := lw_g (lw_at lw_m5 121 rfl) rfl
theorem q1154 : (Jvm.Cond.fieldLink "KeyringCourt$Attempt" (108 : Nat) "KeyringCourt$Step" "yes" "I") ∈ lw_all := lw_g (lw_at lw_m5 124 rfl) rfl
theorem q1157 : (Jvm.Cond.fieldLink "KeyringCourt$Attempt" (111 : Nat) "KeyringCourt$Step" "no" "I") ∈ lw_all := lw_g (lw_at lw_m5 127 rfl) rfl
theorem q1381 : (Jvm.Cond.instantiable "KeyringCourt$Attempt" (12 : Nat)) ∈ lw_all := lw_g (lw_at lw_m6 111 rfl) rfl
theorem q1383 : (Jvm.Cond.instanceMethod ({ cls := "KeyringCourt$Attempt", name := "<init>", desc := "(LKeyringCourt;LKeyringCourt$Person;IILKeyringCourt$Flow;)V" } : Jvm.MethodName)) ∈ lw_all := lw_g (lw_at lw_m6 113 rfl) rfl
theorem q1384 : (Jvm.Cond.code ({ cls := "KeyringCourt$Attempt", name := "<init>", desc := "(LKeyringCourt;LKeyringCourt$Person;IILKeyringCourt$Flow;)V" } : Jvm.MethodName) prog_2_method_1_code (6 : Nat) (Option.none : Option Jvm.ClassFile.FieldType)) ∈ lw_all := lw_g (lw_at lw_m6 114 rfl) rfl
theorem q1385 : (Jvm.Cond.methodLink "KeyringCourt$Attempt" (9 : Nat) ({ cls := "java/lang/Object", name := "<init>", desc := "()V" } : Jvm.MethodName)) ∈ lw_all := lw_g (lw_at lw_m6 115 rfl) rfl
theorem q1386 : (Jvm.Cond.methodLink "KeyringCourt$Attempt" (40 : Nat) ({ cls := "KeyringCourt$Attempt", name := "go", desc := "(I)V" } : Jvm.MethodName)) ∈ lw_all := lw_g (lw_at lw_m6 116 rfl) rfl
theorem q1387 : (Jvm.Cond.privateMethod ({ cls := "KeyringCourt$Attempt", name := "go", desc := "(I)V" } : Jvm.MethodName)) ∈ lw_tbl := lw_at lw_m6 117 rfl
theorem q1388 : (Jvm.Cond.instanceMethod ({ cls := "KeyringCourt$Attempt", name := "go", desc := "(I)V" } : Jvm.MethodName)) ∈ lw_all := lw_g (lw_at lw_m6 118 rfl) rfl
theorem q1389 : (Jvm.Cond.code ({ cls := "KeyringCourt$Attempt", name := "go", desc := "(I)V" } : Jvm.MethodName) prog_2_method_4_code (4 : Nat) (Option.none : Option Jvm.ClassFile.FieldType)) ∈ lw_all := lw_g (lw_at lw_m6 119 rfl) rfl
theorem q1390 : (Jvm.Cond.interfaceEntry "KeyringCourt$Attempt" (95 : Nat)) ∈ lw_tbl := lw_at lw_m6 120 rfl
theorem q1391 : (Jvm.Cond.methodLink "KeyringCourt$Attempt" (95 : Nat) ({ cls := "java/util/List", name := "get", desc := "(I)Ljava/lang/Object;" } : Jvm.MethodName)) ∈ lw_all := lw_g (lw_at lw_m6 121 rfl) rfl
theorem q1392 : (Jvm.Cond.classLink "KeyringCourt$Attempt" (68 : Nat) "KeyringCourt$Step") ∈ lw_all := lw_g (lw_at lw_m6 122 rfl) rfl
theorem q1393 : (Jvm.Cond.methodLink "KeyringCourt$Attempt" (100 : Nat) ({ cls := "KeyringCourt$Step", name := "isTest", desc := "()Z" } : Jvm.MethodName)) ∈ lw_all := lw_g (lw_at lw_m6 123 rfl) rfl
theorem q1394 : (Jvm.Cond.methodLink "KeyringCourt$Attempt" (104 : Nat) ({ cls := "KeyringCourt$Attempt", name := "holds", desc := "(LKeyringCourt$Step;)Z" } : Jvm.MethodName)) ∈ lw_all := lw_g (lw_at lw_m6 124 rfl) rfl
theorem q1395 : (Jvm.Cond.privateMethod ({ cls := "KeyringCourt$Attempt", name := "holds", desc := "(LKeyringCourt$Step;)Z" } : Jvm.MethodName)) ∈ lw_tbl := lw_at lw_m6 125 rfl
theorem q1396 : (Jvm.Cond.instanceMethod ({ cls := "KeyringCourt$Attempt", name := "holds", desc := "(LKeyringCourt$Step;)Z" } : Jvm.MethodName)) ∈ lw_all := lw_g (lw_at lw_m6 126 rfl) rfl
theorem q1397 : (Jvm.Cond.code ({ cls := "KeyringCourt$Attempt", name := "holds", desc := "(LKeyringCourt$Step;)Z" } : Jvm.MethodName) prog_2_method_3_code (2 : Nat) (Option.some Jvm.ClassFile.FieldType.boolean)) ∈ lw_all := lw_g (lw_at lw_m6 127 rfl) rfl
theorem q1398 : (Jvm.Cond.methodLink "KeyringCourt$Attempt" (50 : Nat) ({ cls := "java/util/BitSet", name := "get", desc := "(I)Z" } : Jvm.MethodName)) ∈ lw_all := lw_g (lw_at lw_m6 128 rfl) rfl
theorem q1399 : (Jvm.Cond.methodLink "KeyringCourt$Attempt" (72 : Nat) ({ cls := "KeyringCourt$Attempt", name := "risk", desc := "(Z)I" } : Jvm.MethodName)) ∈ lw_all := lw_g (lw_at lw_m6 129 rfl) rfl
theorem q1400 : (Jvm.Cond.instanceMethod ({ cls := "KeyringCourt$Attempt", name := "risk", desc := "(Z)I" } : Jvm.MethodName)) ∈ lw_all := lw_g (lw_at lw_m6 130 rfl) rfl
theorem q1401 : (Jvm.Cond.selects "KeyringCourt$Attempt" ({ cls := "KeyringCourt$Attempt", name := "risk", desc := "(Z)I" } : Jvm.MethodName) ({ cls := "KeyringCourt$Attempt", name := "risk", desc := "(Z)I" } : Jvm.MethodName)) ∈ lw_all := lw_g (lw_at lw_m6 131 rfl) rfl
theorem q1402 : (Jvm.Cond.code ({ cls := "KeyringCourt$Attempt", name := "risk", desc := "(Z)I" } : Jvm.MethodName) prog_2_method_2_code (3 : Nat) (Option.some Jvm.ClassFile.FieldType.int)) ∈ lw_all := lw_g (lw_at lw_m6 132 rfl) rfl
theorem q1403 : (Jvm.Cond.methodLinkNest "KeyringCourt$Attempt" (56 : Nat) ({ cls := "KeyringCourt", name := "pointsOf", desc := "(IZ)I" } : Jvm.MethodName) "KeyringCourt") ∈ lw_tbl := lw_at lw_m6 133 rfl
theorem q1407 : (Jvm.Cond.methodLink "KeyringCourt$Attempt" (63 : Nat) ({ cls := "KeyringCourt$Person", name := "wrongsOfHour", desc := "()I" } : Jvm.MethodName)) ∈ lw_all := lw_g (lw_at lw_m6 137 rfl) rfl
theorem q1598 : (Jvm.Cond.methodLinkNest "KeyringCourt$Attempt" (85 : Nat) ({ cls := "KeyringCourt", name := "levelOf", desc := "(I)I" } : Jvm.MethodName) "KeyringCourt") ∈ lw_tbl := lw_at lw_m7 88 rfl
theorem q1599 : (Jvm.Cond.interfaceEntry "KeyringCourt$Attempt" (124 : Nat)) ∈ lw_tbl := lw_at lw_m7 89 rfl
theorem q1600 : (Jvm.Cond.methodLink "KeyringCourt$Attempt" (124 : Nat) ({ cls := "java/util/List", name := "size", desc := "()I" } : Jvm.MethodName)) ∈ lw_all := lw_g (lw_at lw_m7 90 rfl) rfl
theorem q1601 : (Jvm.Cond.methodLinkNest "KeyringCourt$Attempt" (127 : Nat) ({ cls := "KeyringCourt", name := "beginSession", desc := "(LKeyringCourt$Person;LKeyringCourt$Session;[II)I" } : Jvm.MethodName) "KeyringCourt") ∈ lw_tbl := lw_at lw_m7 91 rfl
theorem q1655 : (Jvm.Cond.methodLink "KeyringCourt$Attempt" (131 : Nat) ({ cls := "java/util/BitSet", name := "set", desc := "(I)V" } : Jvm.MethodName)) ∈ lw_all := lw_g (lw_at lw_m7 145 rfl) rfl
theorem q1656 : (Jvm.Cond.fieldLink "KeyringCourt$Attempt" (26 : Nat) "KeyringCourt$Attempt" "person" "LKeyringCourt$Person;") ∈ lw_all := lw_g (lw_at lw_m7 146 rfl) rfl
theorem q1658 : (Jvm.Cond.fieldLink "KeyringCourt$Attempt" (30 : Nat) "KeyringCourt$Attempt" "device" "I") ∈ lw_all := lw_g (lw_at lw_m7 148 rfl) rfl
theorem q1659 : (Jvm.Cond.fieldLink "KeyringCourt$Attempt" (33 : Nat) "KeyringCourt$Attempt" "place" "I") ∈ lw_all := lw_g (lw_at lw_m7 149 rfl) rfl
theorem q1660 : (Jvm.Cond.fieldLink "KeyringCourt$Attempt" (36 : Nat) "KeyringCourt$Attempt" "flow" "LKeyringCourt$Flow;") ∈ lw_all := lw_g (lw_at lw_m7 150 rfl) rfl
theorem q1661 : (Jvm.Cond.fieldLink "KeyringCourt$Attempt" (114 : Nat) "KeyringCourt$Attempt" "step" "LKeyringCourt$Step;") ∈ lw_all := lw_g (lw_at lw_m7 151 rfl) rfl
theorem q1662 : (Jvm.Cond.fieldLink "KeyringCourt$Attempt" (118 : Nat) "KeyringCourt$Attempt" "wrong" "I") ∈ lw_all := lw_g (lw_at lw_m7 152 rfl) rfl
theorem q1663 : (Jvm.Cond.fieldLink "KeyringCourt$Attempt" (133 : Nat) "KeyringCourt$Attempt" "answers" "I") ∈ lw_all := lw_g (lw_at lw_m7 153 rfl) rfl
theorem q1664 : (Jvm.Cond.fieldLink "KeyringCourt$Attempt" (15 : Nat) "KeyringCourt$Attempt" "state" "I") ∈ lw_all := lw_g (lw_at lw_m7 154 rfl) rfl
theorem q1666 : (Jvm.Cond.fieldLink "KeyringCourt$Attempt" (19 : Nat) "KeyringCourt$Attempt" "shown" "[I") ∈ lw_all := lw_g (lw_at lw_m7 156 rfl) rfl
theorem q1667 : (Jvm.Cond.fieldLink "KeyringCourt$Attempt" (82 : Nat) "KeyringCourt$Attempt" "set" "I") ∈ lw_all := lw_g (lw_at lw_m7 157 rfl) rfl
theorem q1668 : (Jvm.Cond.fieldLink "KeyringCourt$Attempt" (23 : Nat) "KeyringCourt$Attempt" "session" "I") ∈ lw_all := lw_g (lw_at lw_m7 158 rfl) rfl
theorem q1670 : (Jvm.Cond.fieldLink "KeyringCourt$Attempt" (3 : Nat) "KeyringCourt$Attempt" "this$0" "LKeyringCourt;") ∈ lw_all := lw_g (lw_at lw_m7 160 rfl) rfl
theorem q1671 : (Jvm.Cond.laysFinal "KeyringCourt$Attempt" "KeyringCourt$Attempt" "person" "LKeyringCourt$Person;") ∈ lw_all := lw_g (lw_at lw_m7 161 rfl) rfl
theorem q1672 : (Jvm.Cond.soleField "KeyringCourt$Attempt" "person") ∈ lw_all := lw_g (lw_at lw_m7 162 rfl) rfl
theorem q1673 : (Jvm.Cond.laysFinal "KeyringCourt$Attempt" "KeyringCourt$Attempt" "device" "I") ∈ lw_all := lw_g (lw_at lw_m7 163 rfl) rfl
theorem q1674 : (Jvm.Cond.soleField "KeyringCourt$Attempt" "device") ∈ lw_all := lw_g (lw_at lw_m7 164 rfl) rfl
theorem q1675 : (Jvm.Cond.laysFinal "KeyringCourt$Attempt" "KeyringCourt$Attempt" "place" "I") ∈ lw_all := lw_g (lw_at lw_m7 165 rfl) rfl
theorem q1676 : (Jvm.Cond.soleField "KeyringCourt$Attempt" "place") ∈ lw_all := lw_g (lw_at lw_m7 166 rfl) rfl
theorem q1677 : (Jvm.Cond.laysFinal "KeyringCourt$Attempt" "KeyringCourt$Attempt" "flow" "LKeyringCourt$Flow;") ∈ lw_all := lw_g (lw_at lw_m7 167 rfl) rfl
theorem q1678 : (Jvm.Cond.soleField "KeyringCourt$Attempt" "flow") ∈ lw_all := lw_g (lw_at lw_m7 168 rfl) rfl
theorem q1679 : (Jvm.Cond.lays "KeyringCourt$Attempt" "KeyringCourt$Attempt" "step" "LKeyringCourt$Step;") ∈ lw_all := lw_g (lw_at lw_m7 169 rfl) rfl
theorem q1680 : (Jvm.Cond.soleField "KeyringCourt$Attempt" "step") ∈ lw_all := lw_g (lw_at lw_m7 170 rfl) rfl
theorem q1681 : (Jvm.Cond.lays "KeyringCourt$Attempt" "KeyringCourt$Attempt" "wrong" "I") ∈ lw_all := lw_g (lw_at lw_m7 171 rfl) rfl
theorem q1682 : (Jvm.Cond.soleField "KeyringCourt$Attempt" "wrong") ∈ lw_all := lw_g (lw_at lw_m7 172 rfl) rfl
theorem q1683 : (Jvm.Cond.lays "KeyringCourt$Attempt" "KeyringCourt$Attempt" "answers" "I") ∈ lw_all := lw_g (lw_at lw_m7 173 rfl) rfl
theorem q1684 : (Jvm.Cond.soleField "KeyringCourt$Attempt" "answers") ∈ lw_all := lw_g (lw_at lw_m7 174 rfl) rfl
theorem q1685 : (Jvm.Cond.lays "KeyringCourt$Attempt" "KeyringCourt$Attempt" "state" "I") ∈ lw_all := lw_g (lw_at lw_m7 175 rfl) rfl
theorem q1686 : (Jvm.Cond.soleField "KeyringCourt$Attempt" "state") ∈ lw_all := lw_g (lw_at lw_m7 176 rfl) rfl
theorem q1687 : (Jvm.Cond.laysFinal "KeyringCourt$Attempt" "KeyringCourt$Attempt" "shown" "[I") ∈ lw_all := lw_g (lw_at lw_m7 177 rfl) rfl
theorem q1688 : (Jvm.Cond.soleField "KeyringCourt$Attempt" "shown") ∈ lw_all := lw_g (lw_at lw_m7 178 rfl) rfl
theorem q1689 : (Jvm.Cond.lays "KeyringCourt$Attempt" "KeyringCourt$Attempt" "set" "I") ∈ lw_all := lw_g (lw_at lw_m7 179 rfl) rfl
theorem q1690 : (Jvm.Cond.soleField "KeyringCourt$Attempt" "set") ∈ lw_all := lw_g (lw_at lw_m7 180 rfl) rfl
theorem q1691 : (Jvm.Cond.lays "KeyringCourt$Attempt" "KeyringCourt$Attempt" "session" "I") ∈ lw_all := lw_g (lw_at lw_m7 181 rfl) rfl
theorem q1692 : (Jvm.Cond.soleField "KeyringCourt$Attempt" "session") ∈ lw_all := lw_g (lw_at lw_m7 182 rfl) rfl
theorem q1693 : (Jvm.Cond.laysFinal "KeyringCourt$Attempt" "KeyringCourt$Attempt" "this$0" "LKeyringCourt;") ∈ lw_all := lw_g (lw_at lw_m7 183 rfl) rfl
theorem q1694 : (Jvm.Cond.soleField "KeyringCourt$Attempt" "this$0") ∈ lw_all := lw_g (lw_at lw_m7 184 rfl) rfl
theorem q1695 : (Jvm.Cond.superclass "KeyringCourt$Attempt" "java/lang/Object") ∈ lw_all := lw_g (lw_at lw_m7 185 rfl) rfl
theorem q1704 : (Jvm.Cond.instanceMethod ({ cls := "KeyringCourt$Attempt", name := "answer", desc := "(ZI)I" } : Jvm.MethodName)) ∈ lw_all := lw_g (lw_at lw_m7 194 rfl) rfl
theorem q1705 : (Jvm.Cond.selects "KeyringCourt$Attempt" ({ cls := "KeyringCourt$Attempt", name := "answer", desc := "(ZI)I" } : Jvm.MethodName) ({ cls := "KeyringCourt$Attempt", name := "answer", desc := "(ZI)I" } : Jvm.MethodName)) ∈ lw_all := lw_g (lw_at lw_m7 195 rfl) rfl
theorem q1706 : (Jvm.Cond.code ({ cls := "KeyringCourt$Attempt", name := "answer", desc := "(ZI)I" } : Jvm.MethodName) prog_2_method_6_code (4 : Nat) (Option.some Jvm.ClassFile.FieldType.int)) ∈ lw_all := lw_g (lw_at lw_m7 196 rfl) rfl
theorem q1707 : (Jvm.Cond.methodLink "KeyringCourt$Attempt" (136 : Nat) ({ cls := "KeyringCourt$Person", name := "answers", desc := "(IZI)Z" } : Jvm.MethodName)) ∈ lw_all := lw_g (lw_at lw_m7 197 rfl) rfl
theorem q1737 : (Jvm.Cond.instanceMethod ({ cls := "KeyringCourt$Attempt", name := "asked", desc := "()I" } : Jvm.MethodName)) ∈ lw_all := lw_g (lw_at lw_m7 227 rfl) rfl
theorem q1738 : (Jvm.Cond.selects "KeyringCourt$Attempt" ({ cls := "KeyringCourt$Attempt", name := "asked", desc := "()I" } : Jvm.MethodName) ({ cls := "KeyringCourt$Attempt", name := "asked", desc := "()I" } : Jvm.MethodName)) ∈ lw_all := lw_g (lw_at lw_m7 228 rfl) rfl
theorem q1739 : (Jvm.Cond.code ({ cls := "KeyringCourt$Attempt", name := "asked", desc := "()I" } : Jvm.MethodName) prog_2_method_5_code (1 : Nat) (Option.some Jvm.ClassFile.FieldType.int)) ∈ lw_all := lw_g (lw_at lw_m7 229 rfl) rfl
theorem q2393 : (Jvm.Cond.instanceMethod ({ cls := "KeyringCourt$Attempt", name := "deny", desc := "()V" } : Jvm.MethodName)) ∈ lw_all := lw_g (lw_at lw_m10 163 rfl) rfl
theorem q2394 : (Jvm.Cond.selects "KeyringCourt$Attempt" ({ cls := "KeyringCourt$Attempt", name := "deny", desc := "()V" } : Jvm.MethodName) ({ cls := "KeyringCourt$Attempt", name := "deny", desc := "()V" } : Jvm.MethodName)) ∈ lw_all := lw_g (lw_at lw_m10 164 rfl) rfl
theorem q2395 : (Jvm.Cond.code ({ cls := "KeyringCourt$Attempt", name := "deny", desc := "()V" } : Jvm.MethodName) prog_2_method_7_code (1 : Nat) (Option.none : Option Jvm.ClassFile.FieldType)) ∈ lw_all := lw_g (lw_at lw_m10 165 rfl) rfl
theorem q3067 : (Jvm.Cond.castable "KeyringCourt$Attempt" "java/lang/Object") ∈ lw_tbl := lw_at lw_m13 117 rfl
theorem in_X8 : ∀ w ∈ wsX80, w ∈ lw_all := lw_in wsX80 [1671, 1673, 1675, 1677, 1679, 1681, 1683, 1685, 1687, 1689, 1691, 1693] (by decide +kernel) (by decide +kernel)
/-! KeyringCourt$Session -/
set_option maxRecDepth 100000
def RX9 : String := "KeyringCourt$Session"
def TX9 : u_T := fun k => match k with
  | 0 => ("KeyringCourt$Session", "number", "I", true)
  | 1 => ("KeyringCourt$Session", "person", "LKeyringCourt$Person;", true)
  | 2 => ("KeyringCourt$Session", "parent", "LKeyringCourt$Session;", true)
  | 3 => ("KeyringCourt$Session", "begun", "I", true)
  | 4 => ("KeyringCourt$Session", "used", "I", false)
  | 5 => ("KeyringCourt$Session", "isLive", "Z", false)
  | 6 => ("KeyringCourt$Session", "shown", "[I", true)
  | 7 => ("KeyringCourt$Session", "set", "I", false)
  | _ => ("KeyringCourt$Session", "this$0", "LKeyringCourt;", true)
def tyX9 : Nat → FieldType := fun k => match k with
  | 0 => .int
  | 1 => .object "KeyringCourt$Person"
  | 2 => .object "KeyringCourt$Session"
  | 3 => .int
  | 4 => .int
  | 5 => .boolean
  | 6 => .array .int
  | 7 => .int
  | _ => .object "KeyringCourt"
abbrev wsX90 : List Cond := u_ws RX9 TX9 9
theorem nmX9 : ∀ a, a < 9 → ∀ b, b < 9 → a ≠ b → (TX9 a).2.1 ≠ (TX9 b).2.1 := by decide +kernel
theorem tyX9_ok : ∀ k, k < 9 → parseFieldDescriptor (TX9 k).2.2.1 = some (tyX9 k) := by decide +kernel
abbrev cX9_isOut : ByteArray := prog_10_method_3_code
def yX9_isOut : MethodName := ⟨RX9, "isOut", "()Z"⟩
def dkwX9_isOut_1 : List UInt8 := [42, 180, 0, 19, 100, 17, 1, 224, 164, 0, 7, 4, 167, 0, 4, 3, 172]
abbrev dktX9_isOut_1 : List UInt8 := dkwX9_isOut_1 ++ []
def dkwX9_isOut_0 : List UInt8 := [42, 180, 0, 3, 180, 0, 15, 42, 180, 0, 22, 100, 16, 30, 163, 0, 21, 42, 180, 0, 3, 180, 0, 15]
abbrev dktX9_isOut_0 : List UInt8 := dkwX9_isOut_0 ++ dktX9_isOut_1
theorem dksX9_isOut_0 : cX9_isOut.data.toList.drop 0 = dktX9_isOut_0 := by decide +kernel
theorem dksX9_isOut_1 : cX9_isOut.data.toList.drop 24 = dktX9_isOut_1 := dk_seg dksX9_isOut_0 24 rfl rfl
theorem dX9_isOut_0 : decode cX9_isOut 0 = .ok (.aload_n 0, 1) := dk_42 (dk_at dksX9_isOut_0 0 rfl rfl)
theorem dX9_isOut_1 : decode cX9_isOut 1 = .ok (.getfield 3, 3) := dk_180 0 3 (dk_at dksX9_isOut_0 1 rfl rfl)
theorem dX9_isOut_4 : decode cX9_isOut 4 = .ok (.getfield 15, 3) := dk_180 0 15 (dk_at dksX9_isOut_0 4 rfl rfl)
theorem dX9_isOut_7 : decode cX9_isOut 7 = .ok (.aload_n 0, 1) := dk_42 (dk_at dksX9_isOut_0 7 rfl rfl)
theorem dX9_isOut_8 : decode cX9_isOut 8 = .ok (.getfield 22, 3) := dk_180 0 22 (dk_at dksX9_isOut_0 8 rfl rfl)
theorem dX9_isOut_11 : decode cX9_isOut 11 = .ok (.isub, 1) := dk_100 (dk_at dksX9_isOut_0 11 rfl rfl)
theorem dX9_isOut_12 : decode cX9_isOut 12 = .ok (.bipush 30, 2) := dk_16 30 (dk_at dksX9_isOut_0 12 rfl rfl)
theorem dX9_isOut_14 : decode cX9_isOut 14 = .ok (.if_icmp .gt 21, 3) := dk_163 0 21 (dk_at dksX9_isOut_0 14 rfl rfl)
theorem dX9_isOut_17 : decode cX9_isOut 17 = .ok (.aload_n 0, 1) := dk_42 (dk_at dksX9_isOut_0 17 rfl rfl)
theorem dX9_isOut_18 : decode cX9_isOut 18 = .ok (.getfield 3, 3) := dk_180 0 3 (dk_at dksX9_isOut_0 18 rfl rfl)
theorem dX9_isOut_21 : decode cX9_isOut 21 = .ok (.getfield 15, 3) := dk_180 0 15 (dk_at dksX9_isOut_0 21 rfl rfl)
theorem dX9_isOut_24 : decode cX9_isOut 24 = .ok (.aload_n 0, 1) := dk_42 (dk_at dksX9_isOut_1 0 rfl rfl)
theorem dX9_isOut_25 : decode cX9_isOut 25 = .ok (.getfield 19, 3) := dk_180 0 19 (dk_at dksX9_isOut_1 1 rfl rfl)
theorem dX9_isOut_28 : decode cX9_isOut 28 = .ok (.isub, 1) := dk_100 (dk_at dksX9_isOut_1 4 rfl rfl)
theorem dX9_isOut_29 : decode cX9_isOut 29 = .ok (.sipush 480, 3) := dk_17 1 224 (dk_at dksX9_isOut_1 5 rfl rfl)
theorem dX9_isOut_32 : decode cX9_isOut 32 = .ok (.if_icmp .le 7, 3) := dk_164 0 7 (dk_at dksX9_isOut_1 8 rfl rfl)
theorem dX9_isOut_35 : decode cX9_isOut 35 = .ok (.iconst 1, 1) := dk_4 (dk_at dksX9_isOut_1 11 rfl rfl)
theorem dX9_isOut_36 : decode cX9_isOut 36 = .ok (.goto 4, 3) := dk_167 0 4 (dk_at dksX9_isOut_1 12 rfl rfl)
theorem dX9_isOut_39 : decode cX9_isOut 39 = .ok (.iconst 0, 1) := dk_3 (dk_at dksX9_isOut_1 15 rfl rfl)
theorem dX9_isOut_40 : decode cX9_isOut 40 = .ok (.ireturn, 1) := dk_172 (dk_at dksX9_isOut_1 16 rfl rfl)
abbrev cX9_end : ByteArray := prog_10_method_5_code
def yX9_end : MethodName := ⟨RX9, "end", "()I"⟩
def dkwX9_end_7 : List UInt8 := [185, 0, 70, 2, 0, 192, 0, 80, 182, 0, 85, 87, 132, 2, 1, 167, 255, 194, 27, 172]
abbrev dktX9_end_7 : List UInt8 := dkwX9_end_7 ++ []
def dkwX9_end_6 : List UInt8 := [185, 0, 70, 2, 0, 192, 0, 80, 180, 0, 82, 42, 166, 0, 23, 42, 180, 0, 3, 180, 0, 77, 28]
abbrev dktX9_end_6 : List UInt8 := dkwX9_end_6 ++ dktX9_end_7
def dkwX9_end_5 : List UInt8 := [180, 0, 3, 180, 0, 77, 185, 0, 64, 1, 0, 162, 0, 52, 42, 180, 0, 3, 180, 0, 77, 28]
abbrev dktX9_end_5 : List UInt8 := dkwX9_end_5 ++ dktX9_end_6
def dkwX9_end_4 : List UInt8 := [192, 0, 4, 182, 0, 74, 167, 0, 4, 3, 96, 60, 132, 2, 1, 167, 255, 188, 3, 61, 28, 42]
abbrev dktX9_end_4 : List UInt8 := dkwX9_end_4 ++ dktX9_end_5
def dkwX9_end_3 : List UInt8 := [192, 0, 4, 180, 0, 36, 42, 166, 0, 25, 42, 180, 0, 3, 180, 0, 60, 28, 185, 0, 70, 2, 0]
abbrev dktX9_end_3 : List UInt8 := dkwX9_end_3 ++ dktX9_end_4
def dkwX9_end_2 : List UInt8 := [185, 0, 64, 1, 0, 162, 0, 58, 27, 42, 180, 0, 3, 180, 0, 60, 28, 185, 0, 70, 2, 0]
abbrev dktX9_end_2 : List UInt8 := dkwX9_end_2 ++ dktX9_end_3
def dkwX9_end_1 : List UInt8 := [182, 0, 56, 4, 60, 42, 180, 0, 29, 4, 96, 61, 28, 42, 180, 0, 3, 180, 0, 60]
abbrev dktX9_end_1 : List UInt8 := dkwX9_end_1 ++ dktX9_end_2
def dkwX9_end_0 : List UInt8 := [42, 180, 0, 25, 154, 0, 5, 3, 172, 42, 3, 181, 0, 25, 42, 180, 0, 3, 4, 42, 180, 0, 29]
abbrev dktX9_end_0 : List UInt8 := dkwX9_end_0 ++ dktX9_end_1
theorem dksX9_end_0 : cX9_end.data.toList.drop 0 = dktX9_end_0 := by decide +kernel
theorem dksX9_end_1 : cX9_end.data.toList.drop 23 = dktX9_end_1 := dk_seg dksX9_end_0 23 rfl rfl
theorem dksX9_end_2 : cX9_end.data.toList.drop 43 = dktX9_end_2 := dk_seg dksX9_end_1 20 rfl rfl
theorem dksX9_end_3 : cX9_end.data.toList.drop 65 = dktX9_end_3 := dk_seg dksX9_end_2 22 rfl rfl
theorem dksX9_end_4 : cX9_end.data.toList.drop 88 = dktX9_end_4 := dk_seg dksX9_end_3 23 rfl rfl
theorem dksX9_end_5 : cX9_end.data.toList.drop 110 = dktX9_end_5 := dk_seg dksX9_end_4 22 rfl rfl
theorem dksX9_end_6 : cX9_end.data.toList.drop 132 = dktX9_end_6 := dk_seg dksX9_end_5 22 rfl rfl
theorem dksX9_end_7 : cX9_end.data.toList.drop 155 = dktX9_end_7 := dk_seg dksX9_end_6 23 rfl rfl
theorem dX9_end_0 : decode cX9_end 0 = .ok (.aload_n 0, 1) := dk_42 (dk_at dksX9_end_0 0 rfl rfl)
theorem dX9_end_1 : decode cX9_end 1 = .ok (.getfield 25, 3) := dk_180 0 25 (dk_at dksX9_end_0 1 rfl rfl)
theorem dX9_end_4 : decode cX9_end 4 = .ok (.ifCond .ne 5, 3) := dk_154 0 5 (dk_at dksX9_end_0 4 rfl rfl)
theorem dX9_end_7 : decode cX9_end 7 = .ok (.iconst 0, 1) := dk_3 (dk_at dksX9_end_0 7 rfl rfl)
theorem dX9_end_8 : decode cX9_end 8 = .ok (.ireturn, 1) := dk_172 (dk_at dksX9_end_0 8 rfl rfl)
theorem dX9_end_9 : decode cX9_end 9 = .ok (.aload_n 0, 1) := dk_42 (dk_at dksX9_end_0 9 rfl rfl)
theorem dX9_end_10 : decode cX9_end 10 = .ok (.iconst 0, 1) := dk_3 (dk_at dksX9_end_0 10 rfl rfl)
theorem dX9_end_11 : decode cX9_end 11 = .ok (.putfield 25, 3) := dk_181 0 25 (dk_at dksX9_end_0 11 rfl rfl)
theorem dX9_end_14 : decode cX9_end 14 = .ok (.aload_n 0, 1) := dk_42 (dk_at dksX9_end_0 14 rfl rfl)
theorem dX9_end_15 : decode cX9_end 15 = .ok (.getfield 3, 3) := dk_180 0 3 (dk_at dksX9_end_0 15 rfl rfl)
theorem dX9_end_18 : decode cX9_end 18 = .ok (.iconst 1, 1) := dk_4 (dk_at dksX9_end_0 18 rfl rfl)
theorem dX9_end_19 : decode cX9_end 19 = .ok (.aload_n 0, 1) := dk_42 (dk_at dksX9_end_0 19 rfl rfl)
theorem dX9_end_20 : decode cX9_end 20 = .ok (.getfield 29, 3) := dk_180 0 29 (dk_at dksX9_end_0 20 rfl rfl)
theorem dX9_end_23 : decode cX9_end 23 = .ok (.invokevirtual 56, 3) := dk_182 0 56 (dk_at dksX9_end_1 0 rfl rfl)
theorem dX9_end_26 : decode cX9_end 26 = .ok (.iconst 1, 1) := dk_4 (dk_at dksX9_end_1 3 rfl rfl)
theorem dX9_end_27 : decode cX9_end 27 = .ok (.istore_n 1, 1) := dk_60 (dk_at dksX9_end_1 4 rfl rfl)
theorem dX9_end_28 : decode cX9_end 28 = .ok (.aload_n 0, 1) := dk_42 (dk_at dksX9_end_1 5 rfl rfl)
theorem dX9_end_29 : decode cX9_end 29 = .ok (.getfield 29, 3) := dk_180 0 29 (dk_at dksX9_end_1 6 rfl rfl)
theorem dX9_end_32 : decode cX9_end 32 = .ok (.iconst 1, 1) := dk_4 (dk_at dksX9_end_1 9 rfl rfl)
theorem dX9_end_33 : decode cX9_end 33 = .ok (.iadd, 1) := dk_96 (dk_at dksX9_end_1 10 rfl rfl)
theorem dX9_end_34 : decode cX9_end 34 = .ok (.istore_n 2, 1) := dk_61 (dk_at dksX9_end_1 11 rfl rfl)
theorem dX9_end_35 : decode cX9_end 35 = .ok (.iload_n 2, 1) := dk_28 (dk_at dksX9_end_1 12 rfl rfl)
theorem dX9_end_36 : decode cX9_end 36 = .ok (.aload_n 0, 1) := dk_42 (dk_at dksX9_end_1 13 rfl rfl)
theorem dX9_end_37 : decode cX9_end 37 = .ok (.getfield 3, 3) := dk_180 0 3 (dk_at dksX9_end_1 14 rfl rfl)
theorem dX9_end_40 : decode cX9_end 40 = .ok (.getfield 60, 3) := dk_180 0 60 (dk_at dksX9_end_1 17 rfl rfl)
theorem dX9_end_43 : decode cX9_end 43 = .ok (.invokeinterface 64 1, 5) := by decide +kernel
theorem dX9_end_48 : decode cX9_end 48 = .ok (.if_icmp .ge 58, 3) := dk_162 0 58 (dk_at dksX9_end_2 5 rfl rfl)
theorem dX9_end_51 : decode cX9_end 51 = .ok (.iload_n 1, 1) := dk_27 (dk_at dksX9_end_2 8 rfl rfl)
theorem dX9_end_52 : decode cX9_end 52 = .ok (.aload_n 0, 1) := dk_42 (dk_at dksX9_end_2 9 rfl rfl)
theorem dX9_end_53 : decode cX9_end 53 = .ok (.getfield 3, 3) := dk_180 0 3 (dk_at dksX9_end_2 10 rfl rfl)
theorem dX9_end_56 : decode cX9_end 56 = .ok (.getfield 60, 3) := dk_180 0 60 (dk_at dksX9_end_2 13 rfl rfl)
theorem dX9_end_59 : decode cX9_end 59 = .ok (.iload_n 2, 1) := dk_28 (dk_at dksX9_end_2 16 rfl rfl)
theorem dX9_end_60 : decode cX9_end 60 = .ok (.invokeinterface 70 2, 5) := by decide +kernel
theorem dX9_end_65 : decode cX9_end 65 = .ok (.checkcast 4, 3) := dk_192 0 4 (dk_at dksX9_end_3 0 rfl rfl)
theorem dX9_end_68 : decode cX9_end 68 = .ok (.getfield 36, 3) := dk_180 0 36 (dk_at dksX9_end_3 3 rfl rfl)
theorem dX9_end_71 : decode cX9_end 71 = .ok (.aload_n 0, 1) := dk_42 (dk_at dksX9_end_3 6 rfl rfl)
theorem dX9_end_72 : decode cX9_end 72 = .ok (.if_acmp .ne 25, 3) := dk_166 0 25 (dk_at dksX9_end_3 7 rfl rfl)
theorem dX9_end_75 : decode cX9_end 75 = .ok (.aload_n 0, 1) := dk_42 (dk_at dksX9_end_3 10 rfl rfl)
theorem dX9_end_76 : decode cX9_end 76 = .ok (.getfield 3, 3) := dk_180 0 3 (dk_at dksX9_end_3 11 rfl rfl)
theorem dX9_end_79 : decode cX9_end 79 = .ok (.getfield 60, 3) := dk_180 0 60 (dk_at dksX9_end_3 14 rfl rfl)
theorem dX9_end_82 : decode cX9_end 82 = .ok (.iload_n 2, 1) := dk_28 (dk_at dksX9_end_3 17 rfl rfl)
theorem dX9_end_83 : decode cX9_end 83 = .ok (.invokeinterface 70 2, 5) := by decide +kernel
theorem dX9_end_88 : decode cX9_end 88 = .ok (.checkcast 4, 3) := dk_192 0 4 (dk_at dksX9_end_4 0 rfl rfl)
theorem dX9_end_91 : decode cX9_end 91 = .ok (.invokevirtual 74, 3) := dk_182 0 74 (dk_at dksX9_end_4 3 rfl rfl)
theorem dX9_end_94 : decode cX9_end 94 = .ok (.goto 4, 3) := dk_167 0 4 (dk_at dksX9_end_4 6 rfl rfl)
theorem dX9_end_97 : decode cX9_end 97 = .ok (.iconst 0, 1) := dk_3 (dk_at dksX9_end_4 9 rfl rfl)
theorem dX9_end_98 : decode cX9_end 98 = .ok (.iadd, 1) := dk_96 (dk_at dksX9_end_4 10 rfl rfl)
theorem dX9_end_99 : decode cX9_end 99 = .ok (.istore_n 1, 1) := dk_60 (dk_at dksX9_end_4 11 rfl rfl)
theorem dX9_end_100 : decode cX9_end 100 = .ok (.iinc 2 1, 3) := dk_132 2 1 (dk_at dksX9_end_4 12 rfl rfl)
theorem dX9_end_103 : decode cX9_end 103 = .ok (.goto (-68), 3) := dk_167 255 188 (dk_at dksX9_end_4 15 rfl rfl)
theorem dX9_end_106 : decode cX9_end 106 = .ok (.iconst 0, 1) := dk_3 (dk_at dksX9_end_4 18 rfl rfl)
theorem dX9_end_107 : decode cX9_end 107 = .ok (.istore_n 2, 1) := dk_61 (dk_at dksX9_end_4 19 rfl rfl)
theorem dX9_end_108 : decode cX9_end 108 = .ok (.iload_n 2, 1) := dk_28 (dk_at dksX9_end_4 20 rfl rfl)
theorem dX9_end_109 : decode cX9_end 109 = .ok (.aload_n 0, 1) := dk_42 (dk_at dksX9_end_4 21 rfl rfl)
theorem dX9_end_110 : decode cX9_end 110 = .ok (.getfield 3, 3) := dk_180 0 3 (dk_at dksX9_end_5 0 rfl rfl)
theorem dX9_end_113 : decode cX9_end 113 = .ok (.getfield 77, 3) := dk_180 0 77 (dk_at dksX9_end_5 3 rfl rfl)
theorem dX9_end_116 : decode cX9_end 116 = .ok (.invokeinterface 64 1, 5) := by decide +kernel
theorem dX9_end_121 : decode cX9_end 121 = .ok (.if_icmp .ge 52, 3) := dk_162 0 52 (dk_at dksX9_end_5 11 rfl rfl)
theorem dX9_end_124 : decode cX9_end 124 = .ok (.aload_n 0, 1) := dk_42 (dk_at dksX9_end_5 14 rfl rfl)
theorem dX9_end_125 : decode cX9_end 125 = .ok (.getfield 3, 3) := dk_180 0 3 (dk_at dksX9_end_5 15 rfl rfl)
theorem dX9_end_128 : decode cX9_end 128 = .ok (.getfield 77, 3) := dk_180 0 77 (dk_at dksX9_end_5 18 rfl rfl)
theorem dX9_end_131 : decode cX9_end 131 = .ok (.iload_n 2, 1) := dk_28 (dk_at dksX9_end_5 21 rfl rfl)
theorem dX9_end_132 : decode cX9_end 132 = .ok (.invokeinterface 70 2, 5) := by decide +kernel
theorem dX9_end_137 : decode cX9_end 137 = .ok (.checkcast 80, 3) := dk_192 0 80 (dk_at dksX9_end_6 5 rfl rfl)
theorem dX9_end_140 : decode cX9_end 140 = .ok (.getfield 82, 3) := dk_180 0 82 (dk_at dksX9_end_6 8 rfl rfl)
theorem dX9_end_143 : decode cX9_end 143 = .ok (.aload_n 0, 1) := dk_42 (dk_at dksX9_end_6 11 rfl rfl)
theorem dX9_end_144 : decode cX9_end 144 = .ok (.if_acmp .ne 23, 3) := dk_166 0 23 (dk_at dksX9_end_6 12 rfl rfl)
theorem dX9_end_147 : decode cX9_end 147 = .ok (.aload_n 0, 1) := dk_42 (dk_at dksX9_end_6 15 rfl rfl)
theorem dX9_end_148 : decode cX9_end 148 = .ok (.getfield 3, 3) := dk_180 0 3 (dk_at dksX9_end_6 16 rfl rfl)
theorem dX9_end_151 : decode cX9_end 151 = .ok (.getfield 77, 3) := dk_180 0 77 (dk_at dksX9_end_6 19 rfl rfl)
theorem dX9_end_154 : decode cX9_end 154 = .ok (.iload_n 2, 1) := dk_28 (dk_at dksX9_end_6 22 rfl rfl)
theorem dX9_end_155 : decode cX9_end 155 = .ok (.invokeinterface 70 2, 5) := by decide +kernel
theorem dX9_end_160 : decode cX9_end 160 = .ok (.checkcast 80, 3) := dk_192 0 80 (dk_at dksX9_end_7 5 rfl rfl)
theorem dX9_end_163 : decode cX9_end 163 = .ok (.invokevirtual 85, 3) := dk_182 0 85 (dk_at dksX9_end_7 8 rfl rfl)
theorem dX9_end_166 : decode cX9_end 166 = .ok (.pop, 1) := dk_87 (dk_at dksX9_end_7 11 rfl rfl)
theorem dX9_end_167 : decode cX9_end 167 = .ok (.iinc 2 1, 3) := dk_132 2 1 (dk_at dksX9_end_7 12 rfl rfl)
theorem dX9_end_170 : decode cX9_end 170 = .ok (.goto (-62), 3) := dk_167 255 194 (dk_at dksX9_end_7 15 rfl rfl)
theorem dX9_end_173 : decode cX9_end 173 = .ok (.iload_n 1, 1) := dk_27 (dk_at dksX9_end_7 18 rfl rfl)
theorem dX9_end_174 : decode cX9_end 174 = .ok (.ireturn, 1) := dk_172 (dk_at dksX9_end_7 19 rfl rfl)
abbrev cX9_init : ByteArray := prog_10_method_1_code
def yX9_init : MethodName := ⟨RX9, "<init>", "(LKeyringCourt;ILKeyringCourt$Person;LKeyringCourt$Session;[II)V"⟩
def dkwX9_init_3 : List UInt8 := [177]
abbrev dktX9_init_3 : List UInt8 := dkwX9_init_3 ++ []
def dkwX9_init_2 : List UInt8 := [42, 25, 4, 181, 0, 36, 42, 25, 5, 182, 0, 40, 192, 0, 41, 181, 0, 46, 42, 21, 6, 181, 0, 49]
abbrev dktX9_init_2 : List UInt8 := dkwX9_init_2 ++ dktX9_init_3
def dkwX9_init_1 : List UInt8 := [180, 0, 3, 180, 0, 15, 181, 0, 22, 42, 4, 181, 0, 25, 42, 28, 181, 0, 29, 42, 45, 181, 0, 32]
abbrev dktX9_init_1 : List UInt8 := dkwX9_init_1 ++ dktX9_init_2
def dkwX9_init_0 : List UInt8 := [42, 43, 181, 0, 3, 42, 183, 0, 9, 42, 42, 180, 0, 3, 180, 0, 15, 181, 0, 19, 42, 42]
abbrev dktX9_init_0 : List UInt8 := dkwX9_init_0 ++ dktX9_init_1
theorem dksX9_init_0 : cX9_init.data.toList.drop 0 = dktX9_init_0 := by decide +kernel
theorem dksX9_init_1 : cX9_init.data.toList.drop 22 = dktX9_init_1 := dk_seg dksX9_init_0 22 rfl rfl
theorem dksX9_init_2 : cX9_init.data.toList.drop 46 = dktX9_init_2 := dk_seg dksX9_init_1 24 rfl rfl
theorem dksX9_init_3 : cX9_init.data.toList.drop 70 = dktX9_init_3 := dk_seg dksX9_init_2 24 rfl rfl
theorem dX9_init_0 : decode cX9_init 0 = .ok (.aload_n 0, 1) := dk_42 (dk_at dksX9_init_0 0 rfl rfl)
theorem dX9_init_1 : decode cX9_init 1 = .ok (.aload_n 1, 1) := dk_43 (dk_at dksX9_init_0 1 rfl rfl)
theorem dX9_init_2 : decode cX9_init 2 = .ok (.putfield 3, 3) := dk_181 0 3 (dk_at dksX9_init_0 2 rfl rfl)
theorem dX9_init_5 : decode cX9_init 5 = .ok (.aload_n 0, 1) := dk_42 (dk_at dksX9_init_0 5 rfl rfl)
theorem dX9_init_6 : decode cX9_init 6 = .ok (.invokespecial 9, 3) := dk_183 0 9 (dk_at dksX9_init_0 6 rfl rfl)
theorem dX9_init_9 : decode cX9_init 9 = .ok (.aload_n 0, 1) := dk_42 (dk_at dksX9_init_0 9 rfl rfl)
theorem dX9_init_10 : decode cX9_init 10 = .ok (.aload_n 0, 1) := dk_42 (dk_at dksX9_init_0 10 rfl rfl)
theorem dX9_init_11 : decode cX9_init 11 = .ok (.getfield 3, 3) := dk_180 0 3 (dk_at dksX9_init_0 11 rfl rfl)
theorem dX9_init_14 : decode cX9_init 14 = .ok (.getfield 15, 3) := dk_180 0 15 (dk_at dksX9_init_0 14 rfl rfl)
theorem dX9_init_17 : decode cX9_init 17 = .ok (.putfield 19, 3) := dk_181 0 19 (dk_at dksX9_init_0 17 rfl rfl)
theorem dX9_init_20 : decode cX9_init 20 = .ok (.aload_n 0, 1) := dk_42 (dk_at dksX9_init_0 20 rfl rfl)
theorem dX9_init_21 : decode cX9_init 21 = .ok (.aload_n 0, 1) := dk_42 (dk_at dksX9_init_0 21 rfl rfl)
theorem dX9_init_22 : decode cX9_init 22 = .ok (.getfield 3, 3) := dk_180 0 3 (dk_at dksX9_init_1 0 rfl rfl)
theorem dX9_init_25 : decode cX9_init 25 = .ok (.getfield 15, 3) := dk_180 0 15 (dk_at dksX9_init_1 3 rfl rfl)
theorem dX9_init_28 : decode cX9_init 28 = .ok (.putfield 22, 3) := dk_181 0 22 (dk_at dksX9_init_1 6 rfl rfl)
theorem dX9_init_31 : decode cX9_init 31 = .ok (.aload_n 0, 1) := dk_42 (dk_at dksX9_init_1 9 rfl rfl)
theorem dX9_init_32 : decode cX9_init 32 = .ok (.iconst 1, 1) := dk_4 (dk_at dksX9_init_1 10 rfl rfl)
theorem dX9_init_33 : decode cX9_init 33 = .ok (.putfield 25, 3) := dk_181 0 25 (dk_at dksX9_init_1 11 rfl rfl)
theorem dX9_init_36 : decode cX9_init 36 = .ok (.aload_n 0, 1) := dk_42 (dk_at dksX9_init_1 14 rfl rfl)
theorem dX9_init_37 : decode cX9_init 37 = .ok (.iload_n 2, 1) := dk_28 (dk_at dksX9_init_1 15 rfl rfl)
theorem dX9_init_38 : decode cX9_init 38 = .ok (.putfield 29, 3) := dk_181 0 29 (dk_at dksX9_init_1 16 rfl rfl)
theorem dX9_init_41 : decode cX9_init 41 = .ok (.aload_n 0, 1) := dk_42 (dk_at dksX9_init_1 19 rfl rfl)
theorem dX9_init_42 : decode cX9_init 42 = .ok (.aload_n 3, 1) := dk_45 (dk_at dksX9_init_1 20 rfl rfl)
theorem dX9_init_43 : decode cX9_init 43 = .ok (.putfield 32, 3) := dk_181 0 32 (dk_at dksX9_init_1 21 rfl rfl)
theorem dX9_init_46 : decode cX9_init 46 = .ok (.aload_n 0, 1) := dk_42 (dk_at dksX9_init_2 0 rfl rfl)
theorem dX9_init_47 : decode cX9_init 47 = .ok (.aload 4, 2) := dk_25 4 (dk_at dksX9_init_2 1 rfl rfl)
theorem dX9_init_49 : decode cX9_init 49 = .ok (.putfield 36, 3) := dk_181 0 36 (dk_at dksX9_init_2 3 rfl rfl)
theorem dX9_init_52 : decode cX9_init 52 = .ok (.aload_n 0, 1) := dk_42 (dk_at dksX9_init_2 6 rfl rfl)
theorem dX9_init_53 : decode cX9_init 53 = .ok (.aload 5, 2) := dk_25 5 (dk_at dksX9_init_2 7 rfl rfl)
theorem dX9_init_55 : decode cX9_init 55 = .ok (.invokevirtual 40, 3) := dk_182 0 40 (dk_at dksX9_init_2 9 rfl rfl)
theorem dX9_init_58 : decode cX9_init 58 = .ok (.checkcast 41, 3) := dk_192 0 41 (dk_at dksX9_init_2 12 rfl rfl)
theorem dX9_init_61 : decode cX9_init 61 = .ok (.putfield 46, 3) := dk_181 0 46 (dk_at dksX9_init_2 15 rfl rfl)
theorem dX9_init_64 : decode cX9_init 64 = .ok (.aload_n 0, 1) := dk_42 (dk_at dksX9_init_2 18 rfl rfl)
theorem dX9_init_65 : decode cX9_init 65 = .ok (.iload 6, 2) := dk_21 6 (dk_at dksX9_init_2 19 rfl rfl)
theorem dX9_init_67 : decode cX9_init 67 = .ok (.putfield 49, 3) := dk_181 0 49 (dk_at dksX9_init_2 21 rfl rfl)
theorem dX9_init_70 : decode cX9_init 70 = .ok (.return_, 1) := dk_177 (dk_at dksX9_init_3 0 rfl rfl)
abbrev cX9_level : ByteArray := prog_10_method_2_code
def yX9_level : MethodName := ⟨RX9, "level", "()I"⟩
def dkwX9_level_2 : List UInt8 := [3, 128, 60, 132, 2, 1, 167, 255, 207, 27, 184, 0, 52, 172]
abbrev dktX9_level_2 : List UInt8 := dkwX9_level_2 ++ []
def dkwX9_level_1 : List UInt8 := [180, 0, 3, 180, 0, 15, 42, 180, 0, 46, 28, 46, 100, 16, 120, 163, 0, 9, 4, 28, 120, 167, 0, 4]
abbrev dktX9_level_1 : List UInt8 := dkwX9_level_1 ++ dktX9_level_2
def dkwX9_level_0 : List UInt8 := [3, 60, 3, 61, 28, 6, 162, 0, 50, 27, 42, 180, 0, 49, 28, 122, 4, 126, 4, 160, 0, 28, 42]
abbrev dktX9_level_0 : List UInt8 := dkwX9_level_0 ++ dktX9_level_1
theorem dksX9_level_0 : cX9_level.data.toList.drop 0 = dktX9_level_0 := by decide +kernel
theorem dksX9_level_1 : cX9_level.data.toList.drop 23 = dktX9_level_1 := dk_seg dksX9_level_0 23 rfl rfl
theorem dksX9_level_2 : cX9_level.data.toList.drop 47 = dktX9_level_2 := dk_seg dksX9_level_1 24 rfl rfl
theorem dX9_level_0 : decode cX9_level 0 = .ok (.iconst 0, 1) := dk_3 (dk_at dksX9_level_0 0 rfl rfl)
theorem dX9_level_1 : decode cX9_level 1 = .ok (.istore_n 1, 1) := dk_60 (dk_at dksX9_level_0 1 rfl rfl)
theorem dX9_level_2 : decode cX9_level 2 = .ok (.iconst 0, 1) := dk_3 (dk_at dksX9_level_0 2 rfl rfl)
theorem dX9_level_3 : decode cX9_level 3 = .ok (.istore_n 2, 1) := dk_61 (dk_at dksX9_level_0 3 rfl rfl)
theorem dX9_level_4 : decode cX9_level 4 = .ok (.iload_n 2, 1) := dk_28 (dk_at dksX9_level_0 4 rfl rfl)
theorem dX9_level_5 : decode cX9_level 5 = .ok (.iconst 3, 1) := dk_6 (dk_at dksX9_level_0 5 rfl rfl)
theorem dX9_level_6 : decode cX9_level 6 = .ok (.if_icmp .ge 50, 3) := dk_162 0 50 (dk_at dksX9_level_0 6 rfl rfl)
theorem dX9_level_9 : decode cX9_level 9 = .ok (.iload_n 1, 1) := dk_27 (dk_at dksX9_level_0 9 rfl rfl)
theorem dX9_level_10 : decode cX9_level 10 = .ok (.aload_n 0, 1) := dk_42 (dk_at dksX9_level_0 10 rfl rfl)
theorem dX9_level_11 : decode cX9_level 11 = .ok (.getfield 49, 3) := dk_180 0 49 (dk_at dksX9_level_0 11 rfl rfl)
theorem dX9_level_14 : decode cX9_level 14 = .ok (.iload_n 2, 1) := dk_28 (dk_at dksX9_level_0 14 rfl rfl)
theorem dX9_level_15 : decode cX9_level 15 = .ok (.ishr, 1) := dk_122 (dk_at dksX9_level_0 15 rfl rfl)
theorem dX9_level_16 : decode cX9_level 16 = .ok (.iconst 1, 1) := dk_4 (dk_at dksX9_level_0 16 rfl rfl)
theorem dX9_level_17 : decode cX9_level 17 = .ok (.iand, 1) := dk_126 (dk_at dksX9_level_0 17 rfl rfl)
theorem dX9_level_18 : decode cX9_level 18 = .ok (.iconst 1, 1) := dk_4 (dk_at dksX9_level_0 18 rfl rfl)
theorem dX9_level_19 : decode cX9_level 19 = .ok (.if_icmp .ne 28, 3) := dk_160 0 28 (dk_at dksX9_level_0 19 rfl rfl)
theorem dX9_level_22 : decode cX9_level 22 = .ok (.aload_n 0, 1) := dk_42 (dk_at dksX9_level_0 22 rfl rfl)
theorem dX9_level_23 : decode cX9_level 23 = .ok (.getfield 3, 3) := dk_180 0 3 (dk_at dksX9_level_1 0 rfl rfl)
theorem dX9_level_26 : decode cX9_level 26 = .ok (.getfield 15, 3) := dk_180 0 15 (dk_at dksX9_level_1 3 rfl rfl)
theorem dX9_level_29 : decode cX9_level 29 = .ok (.aload_n 0, 1) := dk_42 (dk_at dksX9_level_1 6 rfl rfl)
theorem dX9_level_30 : decode cX9_level 30 = .ok (.getfield 46, 3) := dk_180 0 46 (dk_at dksX9_level_1 7 rfl rfl)
theorem dX9_level_33 : decode cX9_level 33 = .ok (.iload_n 2, 1) := dk_28 (dk_at dksX9_level_1 10 rfl rfl)
theorem dX9_level_34 : decode cX9_level 34 = .ok (.iaload, 1) := dk_46 (dk_at dksX9_level_1 11 rfl rfl)
theorem dX9_level_35 : decode cX9_level 35 = .ok (.isub, 1) := dk_100 (dk_at dksX9_level_1 12 rfl rfl)
theorem dX9_level_36 : decode cX9_level 36 = .ok (.bipush 120, 2) := dk_16 120 (dk_at dksX9_level_1 13 rfl rfl)
theorem dX9_level_38 : decode cX9_level 38 = .ok (.if_icmp .gt 9, 3) := dk_163 0 9 (dk_at dksX9_level_1 15 rfl rfl)
theorem dX9_level_41 : decode cX9_level 41 = .ok (.iconst 1, 1) := dk_4 (dk_at dksX9_level_1 18 rfl rfl)
theorem dX9_level_42 : decode cX9_level 42 = .ok (.iload_n 2, 1) := dk_28 (dk_at dksX9_level_1 19 rfl rfl)
theorem dX9_level_43 : decode cX9_level 43 = .ok (.ishl, 1) := dk_120 (dk_at dksX9_level_1 20 rfl rfl)
theorem dX9_level_44 : decode cX9_level 44 = .ok (.goto 4, 3) := dk_167 0 4 (dk_at dksX9_level_1 21 rfl rfl)
theorem dX9_level_47 : decode cX9_level 47 = .ok (.iconst 0, 1) := dk_3 (dk_at dksX9_level_2 0 rfl rfl)
theorem dX9_level_48 : decode cX9_level 48 = .ok (.ior, 1) := dk_128 (dk_at dksX9_level_2 1 rfl rfl)
theorem dX9_level_49 : decode cX9_level 49 = .ok (.istore_n 1, 1) := dk_60 (dk_at dksX9_level_2 2 rfl rfl)
theorem dX9_level_50 : decode cX9_level 50 = .ok (.iinc 2 1, 3) := dk_132 2 1 (dk_at dksX9_level_2 3 rfl rfl)
theorem dX9_level_53 : decode cX9_level 53 = .ok (.goto (-49), 3) := dk_167 255 207 (dk_at dksX9_level_2 6 rfl rfl)
theorem dX9_level_56 : decode cX9_level 56 = .ok (.iload_n 1, 1) := dk_27 (dk_at dksX9_level_2 9 rfl rfl)
theorem dX9_level_57 : decode cX9_level 57 = .ok (.invokestatic 52, 3) := dk_184 0 52 (dk_at dksX9_level_2 10 rfl rfl)
theorem dX9_level_60 : decode cX9_level 60 = .ok (.ireturn, 1) := dk_172 (dk_at dksX9_level_2 13 rfl rfl)
abbrev cX9_show : ByteArray := prog_10_method_4_code
def yX9_show : MethodName := ⟨RX9, "show", "(I)V"⟩
def dkwX9_show_1 : List UInt8 := [79, 177]
abbrev dktX9_show_1 : List UInt8 := dkwX9_show_1 ++ []
def dkwX9_show_0 : List UInt8 := [42, 89, 180, 0, 49, 4, 27, 120, 128, 181, 0, 49, 42, 180, 0, 46, 27, 42, 180, 0, 3, 180, 0, 15]
abbrev dktX9_show_0 : List UInt8 := dkwX9_show_0 ++ dktX9_show_1
theorem dksX9_show_0 : cX9_show.data.toList.drop 0 = dktX9_show_0 := by decide +kernel
theorem dksX9_show_1 : cX9_show.data.toList.drop 24 = dktX9_show_1 := dk_seg dksX9_show_0 24 rfl rfl
theorem dX9_show_0 : decode cX9_show 0 = .ok (.aload_n 0, 1) := dk_42 (dk_at dksX9_show_0 0 rfl rfl)
theorem dX9_show_1 : decode cX9_show 1 = .ok (.dup, 1) := dk_89 (dk_at dksX9_show_0 1 rfl rfl)
theorem dX9_show_2 : decode cX9_show 2 = .ok (.getfield 49, 3) := dk_180 0 49 (dk_at dksX9_show_0 2 rfl rfl)
theorem dX9_show_5 : decode cX9_show 5 = .ok (.iconst 1, 1) := dk_4 (dk_at dksX9_show_0 5 rfl rfl)
theorem dX9_show_6 : decode cX9_show 6 = .ok (.iload_n 1, 1) := dk_27 (dk_at dksX9_show_0 6 rfl rfl)
theorem dX9_show_7 : decode cX9_show 7 = .ok (.ishl, 1) := dk_120 (dk_at dksX9_show_0 7 rfl rfl)
theorem dX9_show_8 : decode cX9_show 8 = .ok (.ior, 1) := dk_128 (dk_at dksX9_show_0 8 rfl rfl)
theorem dX9_show_9 : decode cX9_show 9 = .ok (.putfield 49, 3) := dk_181 0 49 (dk_at dksX9_show_0 9 rfl rfl)
theorem dX9_show_12 : decode cX9_show 12 = .ok (.aload_n 0, 1) := dk_42 (dk_at dksX9_show_0 12 rfl rfl)
theorem dX9_show_13 : decode cX9_show 13 = .ok (.getfield 46, 3) := dk_180 0 46 (dk_at dksX9_show_0 13 rfl rfl)
theorem dX9_show_16 : decode cX9_show 16 = .ok (.iload_n 1, 1) := dk_27 (dk_at dksX9_show_0 16 rfl rfl)
theorem dX9_show_17 : decode cX9_show 17 = .ok (.aload_n 0, 1) := dk_42 (dk_at dksX9_show_0 17 rfl rfl)
theorem dX9_show_18 : decode cX9_show 18 = .ok (.getfield 3, 3) := dk_180 0 3 (dk_at dksX9_show_0 18 rfl rfl)
theorem dX9_show_21 : decode cX9_show 21 = .ok (.getfield 15, 3) := dk_180 0 15 (dk_at dksX9_show_0 21 rfl rfl)
theorem dX9_show_24 : decode cX9_show 24 = .ok (.iastore, 1) := dk_79 (dk_at dksX9_show_1 0 rfl rfl)
theorem dX9_show_25 : decode cX9_show 25 = .ok (.return_, 1) := dk_177 (dk_at dksX9_show_1 1 rfl rfl)
theorem q112 : (Jvm.Cond.initialized "KeyringCourt$Session") ∈ lw_all := lw_g (lw_at lw_m1 42 rfl) rfl
theorem q685 : (Jvm.Cond.fieldLinkNest "KeyringCourt$Session" (60 : Nat) "KeyringCourt" "sessions" "Ljava/util/List;" "KeyringCourt") ∈ lw_tbl := lw_at lw_m3 135 rfl
theorem q688 : (Jvm.Cond.fieldLinkNest "KeyringCourt$Session" (77 : Nat) "KeyringCourt" "families" "Ljava/util/List;" "KeyringCourt") ∈ lw_tbl := lw_at lw_m3 138 rfl
theorem q700 : (Jvm.Cond.fieldLinkNest "KeyringCourt$Session" (15 : Nat) "KeyringCourt" "now" "I" "KeyringCourt") ∈ lw_tbl := lw_at lw_m3 150 rfl
theorem q906 : (Jvm.Cond.selects "KeyringCourt$Session" ({ cls := "java/lang/Object", name := "getClass", desc := "()Ljava/lang/Class;" } : Jvm.MethodName) ({ cls := "java/lang/Object", name := "getClass", desc := "()Ljava/lang/Class;" } : Jvm.MethodName)) ∈ lw_all := lw_g (lw_at lw_m4 116 rfl) rfl
theorem q1042 : (Jvm.Cond.instanceMethod ({ cls := "KeyringCourt$Session", name := "isOut", desc := "()Z" } : Jvm.MethodName)) ∈ lw_all := lw_g (lw_at lw_m5 12 rfl) rfl
theorem q1043 : (Jvm.Cond.selects "KeyringCourt$Session" ({ cls := "KeyringCourt$Session", name := "isOut", desc := "()Z" } : Jvm.MethodName) ({ cls := "KeyringCourt$Session", name := "isOut", desc := "()Z" } : Jvm.MethodName)) ∈ lw_all := lw_g (lw_at lw_m5 13 rfl) rfl
theorem q1044 : (Jvm.Cond.code ({ cls := "KeyringCourt$Session", name := "isOut", desc := "()Z" } : Jvm.MethodName) prog_10_method_3_code (1 : Nat) (Option.some Jvm.ClassFile.FieldType.boolean)) ∈ lw_all := lw_g (lw_at lw_m5 14 rfl) rfl
theorem q1046 : (Jvm.Cond.instanceMethod ({ cls := "KeyringCourt$Session", name := "end", desc := "()I" } : Jvm.MethodName)) ∈ lw_all := lw_g (lw_at lw_m5 16 rfl) rfl
theorem q1047 : (Jvm.Cond.selects "KeyringCourt$Session" ({ cls := "KeyringCourt$Session", name := "end", desc := "()I" } : Jvm.MethodName) ({ cls := "KeyringCourt$Session", name := "end", desc := "()I" } : Jvm.MethodName)) ∈ lw_all := lw_g (lw_at lw_m5 17 rfl) rfl
theorem q1048 : (Jvm.Cond.code ({ cls := "KeyringCourt$Session", name := "end", desc := "()I" } : Jvm.MethodName) prog_10_method_5_code (3 : Nat) (Option.some Jvm.ClassFile.FieldType.int)) ∈ lw_all := lw_g (lw_at lw_m5 18 rfl) rfl
theorem q1049 : (Jvm.Cond.methodLinkNest "KeyringCourt$Session" (56 : Nat) ({ cls := "KeyringCourt", name := "write", desc := "(II)V" } : Jvm.MethodName) "KeyringCourt") ∈ lw_tbl := lw_at lw_m5 19 rfl
theorem q1050 : (Jvm.Cond.interfaceEntry "KeyringCourt$Session" (64 : Nat)) ∈ lw_tbl := lw_at lw_m5 20 rfl
theorem q1051 : (Jvm.Cond.methodLink "KeyringCourt$Session" (64 : Nat) ({ cls := "java/util/List", name := "size", desc := "()I" } : Jvm.MethodName)) ∈ lw_all := lw_g (lw_at lw_m5 21 rfl) rfl
theorem q1052 : (Jvm.Cond.interfaceEntry "KeyringCourt$Session" (70 : Nat)) ∈ lw_tbl := lw_at lw_m5 22 rfl
theorem q1053 : (Jvm.Cond.methodLink "KeyringCourt$Session" (70 : Nat) ({ cls := "java/util/List", name := "get", desc := "(I)Ljava/lang/Object;" } : Jvm.MethodName)) ∈ lw_all := lw_g (lw_at lw_m5 23 rfl) rfl
theorem q1054 : (Jvm.Cond.classLink "KeyringCourt$Session" (4 : Nat) "KeyringCourt$Session") ∈ lw_all := lw_g (lw_at lw_m5 24 rfl) rfl
theorem q1055 : (Jvm.Cond.methodLink "KeyringCourt$Session" (74 : Nat) ({ cls := "KeyringCourt$Session", name := "end", desc := "()I" } : Jvm.MethodName)) ∈ lw_all := lw_g (lw_at lw_m5 25 rfl) rfl
theorem q1056 : (Jvm.Cond.classLink "KeyringCourt$Session" (80 : Nat) "KeyringCourt$Family") ∈ lw_all := lw_g (lw_at lw_m5 26 rfl) rfl
theorem q1057 : (Jvm.Cond.methodLink "KeyringCourt$Session" (85 : Nat) ({ cls := "KeyringCourt$Family", name := "end", desc := "()Z" } : Jvm.MethodName)) ∈ lw_all := lw_g (lw_at lw_m5 27 rfl) rfl
theorem q1605 : (Jvm.Cond.instantiable "KeyringCourt$Session" (9 : Nat)) ∈ lw_all := lw_g (lw_at lw_m7 95 rfl) rfl
theorem q1607 : (Jvm.Cond.instanceMethod ({ cls := "KeyringCourt$Session", name := "<init>", desc := "(LKeyringCourt;ILKeyringCourt$Person;LKeyringCourt$Session;[II)V" } : Jvm.MethodName)) ∈ lw_all := lw_g (lw_at lw_m7 97 rfl) rfl
theorem q1608 : (Jvm.Cond.code ({ cls := "KeyringCourt$Session", name := "<init>", desc := "(LKeyringCourt;ILKeyringCourt$Person;LKeyringCourt$Session;[II)V" } : Jvm.MethodName) prog_10_method_1_code (7 : Nat) (Option.none : Option Jvm.ClassFile.FieldType)) ∈ lw_all := lw_g (lw_at lw_m7 98 rfl) rfl
theorem q1609 : (Jvm.Cond.methodLink "KeyringCourt$Session" (9 : Nat) ({ cls := "java/lang/Object", name := "<init>", desc := "()V" } : Jvm.MethodName)) ∈ lw_all := lw_g (lw_at lw_m7 99 rfl) rfl
theorem q1610 : (Jvm.Cond.methodLink "KeyringCourt$Session" (40 : Nat) ({ cls := "[I", name := "clone", desc := "()Ljava/lang/Object;" } : Jvm.MethodName)) ∈ lw_all := lw_g (lw_at lw_m7 100 rfl) rfl
theorem q1614 : (Jvm.Cond.classLink "KeyringCourt$Session" (41 : Nat) "[I") ∈ lw_all := lw_g (lw_at lw_m7 104 rfl) rfl
theorem q1615 : (Jvm.Cond.fieldLink "KeyringCourt$Session" (29 : Nat) "KeyringCourt$Session" "number" "I") ∈ lw_all := lw_g (lw_at lw_m7 105 rfl) rfl
theorem q1617 : (Jvm.Cond.fieldLink "KeyringCourt$Session" (32 : Nat) "KeyringCourt$Session" "person" "LKeyringCourt$Person;") ∈ lw_all := lw_g (lw_at lw_m7 107 rfl) rfl
theorem q1620 : (Jvm.Cond.fieldLink "KeyringCourt$Session" (36 : Nat) "KeyringCourt$Session" "parent" "LKeyringCourt$Session;") ∈ lw_all := lw_g (lw_at lw_m7 110 rfl) rfl
theorem q1623 : (Jvm.Cond.fieldLink "KeyringCourt$Session" (19 : Nat) "KeyringCourt$Session" "begun" "I") ∈ lw_all := lw_g (lw_at lw_m7 113 rfl) rfl
theorem q1624 : (Jvm.Cond.fieldLink "KeyringCourt$Session" (22 : Nat) "KeyringCourt$Session" "used" "I") ∈ lw_all := lw_g (lw_at lw_m7 114 rfl) rfl
theorem q1627 : (Jvm.Cond.fieldLink "KeyringCourt$Session" (25 : Nat) "KeyringCourt$Session" "isLive" "Z") ∈ lw_all := lw_g (lw_at lw_m7 117 rfl) rfl
theorem q1631 : (Jvm.Cond.fieldLink "KeyringCourt$Session" (46 : Nat) "KeyringCourt$Session" "shown" "[I") ∈ lw_all := lw_g (lw_at lw_m7 121 rfl) rfl
theorem q1633 : (Jvm.Cond.fieldLink "KeyringCourt$Session" (49 : Nat) "KeyringCourt$Session" "set" "I") ∈ lw_all := lw_g (lw_at lw_m7 123 rfl) rfl
theorem q1635 : (Jvm.Cond.fieldLink "KeyringCourt$Session" (3 : Nat) "KeyringCourt$Session" "this$0" "LKeyringCourt;") ∈ lw_all := lw_g (lw_at lw_m7 125 rfl) rfl
theorem q1636 : (Jvm.Cond.laysFinal "KeyringCourt$Session" "KeyringCourt$Session" "number" "I") ∈ lw_all := lw_g (lw_at lw_m7 126 rfl) rfl
theorem q1637 : (Jvm.Cond.soleField "KeyringCourt$Session" "number") ∈ lw_all := lw_g (lw_at lw_m7 127 rfl) rfl
theorem q1638 : (Jvm.Cond.laysFinal "KeyringCourt$Session" "KeyringCourt$Session" "person" "LKeyringCourt$Person;") ∈ lw_all := lw_g (lw_at lw_m7 128 rfl) rfl
theorem q1639 : (Jvm.Cond.soleField "KeyringCourt$Session" "person") ∈ lw_all := lw_g (lw_at lw_m7 129 rfl) rfl
theorem q1640 : (Jvm.Cond.laysFinal "KeyringCourt$Session" "KeyringCourt$Session" "parent" "LKeyringCourt$Session;") ∈ lw_all := lw_g (lw_at lw_m7 130 rfl) rfl
theorem q1641 : (Jvm.Cond.soleField "KeyringCourt$Session" "parent") ∈ lw_all := lw_g (lw_at lw_m7 131 rfl) rfl
theorem q1642 : (Jvm.Cond.laysFinal "KeyringCourt$Session" "KeyringCourt$Session" "begun" "I") ∈ lw_all := lw_g (lw_at lw_m7 132 rfl) rfl
theorem q1643 : (Jvm.Cond.soleField "KeyringCourt$Session" "begun") ∈ lw_all := lw_g (lw_at lw_m7 133 rfl) rfl
theorem q1644 : (Jvm.Cond.lays "KeyringCourt$Session" "KeyringCourt$Session" "used" "I") ∈ lw_all := lw_g (lw_at lw_m7 134 rfl) rfl
theorem q1645 : (Jvm.Cond.soleField "KeyringCourt$Session" "used") ∈ lw_all := lw_g (lw_at lw_m7 135 rfl) rfl
theorem q1646 : (Jvm.Cond.lays "KeyringCourt$Session" "KeyringCourt$Session" "isLive" "Z") ∈ lw_all := lw_g (lw_at lw_m7 136 rfl) rfl
theorem q1647 : (Jvm.Cond.soleField "KeyringCourt$Session" "isLive") ∈ lw_all := lw_g (lw_at lw_m7 137 rfl) rfl
theorem q1648 : (Jvm.Cond.laysFinal "KeyringCourt$Session" "KeyringCourt$Session" "shown" "[I") ∈ lw_all := lw_g (lw_at lw_m7 138 rfl) rfl
theorem q1649 : (Jvm.Cond.soleField "KeyringCourt$Session" "shown") ∈ lw_all := lw_g (lw_at lw_m7 139 rfl) rfl
theorem q1650 : (Jvm.Cond.lays "KeyringCourt$Session" "KeyringCourt$Session" "set" "I") ∈ lw_all := lw_g (lw_at lw_m7 140 rfl) rfl
theorem q1651 : (Jvm.Cond.soleField "KeyringCourt$Session" "set") ∈ lw_all := lw_g (lw_at lw_m7 141 rfl) rfl
theorem q1652 : (Jvm.Cond.laysFinal "KeyringCourt$Session" "KeyringCourt$Session" "this$0" "LKeyringCourt;") ∈ lw_all := lw_g (lw_at lw_m7 142 rfl) rfl
theorem q1653 : (Jvm.Cond.soleField "KeyringCourt$Session" "this$0") ∈ lw_all := lw_g (lw_at lw_m7 143 rfl) rfl
theorem q1654 : (Jvm.Cond.superclass "KeyringCourt$Session" "java/lang/Object") ∈ lw_all := lw_g (lw_at lw_m7 144 rfl) rfl
theorem q1784 : (Jvm.Cond.instanceMethod ({ cls := "KeyringCourt$Session", name := "level", desc := "()I" } : Jvm.MethodName)) ∈ lw_all := lw_g (lw_at lw_m8 34 rfl) rfl
theorem q1785 : (Jvm.Cond.selects "KeyringCourt$Session" ({ cls := "KeyringCourt$Session", name := "level", desc := "()I" } : Jvm.MethodName) ({ cls := "KeyringCourt$Session", name := "level", desc := "()I" } : Jvm.MethodName)) ∈ lw_all := lw_g (lw_at lw_m8 35 rfl) rfl
theorem q1786 : (Jvm.Cond.code ({ cls := "KeyringCourt$Session", name := "level", desc := "()I" } : Jvm.MethodName) prog_10_method_2_code (3 : Nat) (Option.some Jvm.ClassFile.FieldType.int)) ∈ lw_all := lw_g (lw_at lw_m8 36 rfl) rfl
theorem q1787 : (Jvm.Cond.methodLinkNest "KeyringCourt$Session" (52 : Nat) ({ cls := "KeyringCourt", name := "levelOf", desc := "(I)I" } : Jvm.MethodName) "KeyringCourt") ∈ lw_tbl := lw_at lw_m8 37 rfl
theorem q1797 : (Jvm.Cond.instanceMethod ({ cls := "KeyringCourt$Session", name := "show", desc := "(I)V" } : Jvm.MethodName)) ∈ lw_all := lw_g (lw_at lw_m8 47 rfl) rfl
theorem q1798 : (Jvm.Cond.selects "KeyringCourt$Session" ({ cls := "KeyringCourt$Session", name := "show", desc := "(I)V" } : Jvm.MethodName) ({ cls := "KeyringCourt$Session", name := "show", desc := "(I)V" } : Jvm.MethodName)) ∈ lw_all := lw_g (lw_at lw_m8 48 rfl) rfl
theorem q1799 : (Jvm.Cond.code ({ cls := "KeyringCourt$Session", name := "show", desc := "(I)V" } : Jvm.MethodName) prog_10_method_4_code (2 : Nat) (Option.none : Option Jvm.ClassFile.FieldType)) ∈ lw_all := lw_g (lw_at lw_m8 49 rfl) rfl
theorem q1905 : (Jvm.Cond.fieldLink "KeyringCourt$Session" (82 : Nat) "KeyringCourt$Family" "session" "LKeyringCourt$Session;") ∈ lw_all := lw_g (lw_at lw_m8 155 rfl) rfl
theorem q3070 : (Jvm.Cond.castable "KeyringCourt$Session" "java/lang/Object") ∈ lw_tbl := lw_at lw_m13 120 rfl
theorem in_X9 : ∀ w ∈ wsX90, w ∈ lw_all := lw_in wsX90 [1636, 1638, 1640, 1642, 1644, 1646, 1648, 1650, 1652] (by decide +kernel) (by decide +kernel)
/-! KeyringCourt$Grant -/
set_option maxRecDepth 100000
def RX10 : String := "KeyringCourt$Grant"
def TX10 : u_T := fun k => match k with
  | 0 => ("KeyringCourt$Grant", "session", "LKeyringCourt$Session;", true)
  | 1 => ("KeyringCourt$Grant", "client", "I", true)
  | 2 => ("KeyringCourt$Grant", "audience", "I", true)
  | 3 => ("KeyringCourt$Grant", "scopes", "I", true)
  | 4 => ("KeyringCourt$Grant", "made", "I", true)
  | _ => ("KeyringCourt$Grant", "family", "LKeyringCourt$Family;", false)
def tyX10 : Nat → FieldType := fun k => match k with
  | 0 => .object "KeyringCourt$Session"
  | 1 => .int
  | 2 => .int
  | 3 => .int
  | 4 => .int
  | _ => .object "KeyringCourt$Family"
abbrev wsX100 : List Cond := u_ws RX10 TX10 6
theorem nmX10 : ∀ a, a < 6 → ∀ b, b < 6 → a ≠ b → (TX10 a).2.1 ≠ (TX10 b).2.1 := by decide +kernel
theorem tyX10_ok : ∀ k, k < 6 → parseFieldDescriptor (TX10 k).2.2.1 = some (tyX10 k) := by decide +kernel
abbrev cX10_init : ByteArray := prog_6_method_1_code
def yX10_init : MethodName := ⟨RX10, "<init>", "(LKeyringCourt$Session;IIII)V"⟩
def dkwX10_init_1 : List UInt8 := [181, 0, 20, 42, 21, 5, 181, 0, 23, 177]
abbrev dktX10_init_1 : List UInt8 := dkwX10_init_1 ++ []
def dkwX10_init_0 : List UInt8 := [42, 183, 0, 1, 42, 43, 181, 0, 7, 42, 28, 181, 0, 13, 42, 29, 181, 0, 17, 42, 21, 4]
abbrev dktX10_init_0 : List UInt8 := dkwX10_init_0 ++ dktX10_init_1
theorem dksX10_init_0 : cX10_init.data.toList.drop 0 = dktX10_init_0 := by decide +kernel
theorem dksX10_init_1 : cX10_init.data.toList.drop 22 = dktX10_init_1 := dk_seg dksX10_init_0 22 rfl rfl
theorem dX10_init_0 : decode cX10_init 0 = .ok (.aload_n 0, 1) := dk_42 (dk_at dksX10_init_0 0 rfl rfl)
theorem dX10_init_1 : decode cX10_init 1 = .ok (.invokespecial 1, 3) := dk_183 0 1 (dk_at dksX10_init_0 1 rfl rfl)
theorem dX10_init_4 : decode cX10_init 4 = .ok (.aload_n 0, 1) := dk_42 (dk_at dksX10_init_0 4 rfl rfl)
theorem dX10_init_5 : decode cX10_init 5 = .ok (.aload_n 1, 1) := dk_43 (dk_at dksX10_init_0 5 rfl rfl)
theorem dX10_init_6 : decode cX10_init 6 = .ok (.putfield 7, 3) := dk_181 0 7 (dk_at dksX10_init_0 6 rfl rfl)
theorem dX10_init_9 : decode cX10_init 9 = .ok (.aload_n 0, 1) := dk_42 (dk_at dksX10_init_0 9 rfl rfl)
theorem dX10_init_10 : decode cX10_init 10 = .ok (.iload_n 2, 1) := dk_28 (dk_at dksX10_init_0 10 rfl rfl)
theorem dX10_init_11 : decode cX10_init 11 = .ok (.putfield 13, 3) := dk_181 0 13 (dk_at dksX10_init_0 11 rfl rfl)
theorem dX10_init_14 : decode cX10_init 14 = .ok (.aload_n 0, 1) := dk_42 (dk_at dksX10_init_0 14 rfl rfl)
theorem dX10_init_15 : decode cX10_init 15 = .ok (.iload_n 3, 1) := dk_29 (dk_at dksX10_init_0 15 rfl rfl)
theorem dX10_init_16 : decode cX10_init 16 = .ok (.putfield 17, 3) := dk_181 0 17 (dk_at dksX10_init_0 16 rfl rfl)
theorem dX10_init_19 : decode cX10_init 19 = .ok (.aload_n 0, 1) := dk_42 (dk_at dksX10_init_0 19 rfl rfl)
theorem dX10_init_20 : decode cX10_init 20 = .ok (.iload 4, 2) := dk_21 4 (dk_at dksX10_init_0 20 rfl rfl)
theorem dX10_init_22 : decode cX10_init 22 = .ok (.putfield 20, 3) := dk_181 0 20 (dk_at dksX10_init_1 0 rfl rfl)
theorem dX10_init_25 : decode cX10_init 25 = .ok (.aload_n 0, 1) := dk_42 (dk_at dksX10_init_1 3 rfl rfl)
theorem dX10_init_26 : decode cX10_init 26 = .ok (.iload 5, 2) := dk_21 5 (dk_at dksX10_init_1 4 rfl rfl)
theorem dX10_init_28 : decode cX10_init 28 = .ok (.putfield 23, 3) := dk_181 0 23 (dk_at dksX10_init_1 6 rfl rfl)
theorem dX10_init_31 : decode cX10_init 31 = .ok (.return_, 1) := dk_177 (dk_at dksX10_init_1 9 rfl rfl)
theorem q113 : (Jvm.Cond.initialized "KeyringCourt$Grant") ∈ lw_all := lw_g (lw_at lw_m1 43 rfl) rfl
theorem q902 : (Jvm.Cond.selects "KeyringCourt$Grant" ({ cls := "java/lang/Object", name := "getClass", desc := "()Ljava/lang/Class;" } : Jvm.MethodName) ({ cls := "java/lang/Object", name := "getClass", desc := "()Ljava/lang/Class;" } : Jvm.MethodName)) ∈ lw_all := lw_g (lw_at lw_m4 112 rfl) rfl
theorem q1857 : (Jvm.Cond.instantiable "KeyringCourt$Grant" (6 : Nat)) ∈ lw_all := lw_g (lw_at lw_m8 107 rfl) rfl
theorem q1859 : (Jvm.Cond.instanceMethod ({ cls := "KeyringCourt$Grant", name := "<init>", desc := "(LKeyringCourt$Session;IIII)V" } : Jvm.MethodName)) ∈ lw_all := lw_g (lw_at lw_m8 109 rfl) rfl
theorem q1860 : (Jvm.Cond.code ({ cls := "KeyringCourt$Grant", name := "<init>", desc := "(LKeyringCourt$Session;IIII)V" } : Jvm.MethodName) prog_6_method_1_code (6 : Nat) (Option.none : Option Jvm.ClassFile.FieldType)) ∈ lw_all := lw_g (lw_at lw_m8 110 rfl) rfl
theorem q1861 : (Jvm.Cond.methodLink "KeyringCourt$Grant" (1 : Nat) ({ cls := "java/lang/Object", name := "<init>", desc := "()V" } : Jvm.MethodName)) ∈ lw_all := lw_g (lw_at lw_m8 111 rfl) rfl
theorem q1862 : (Jvm.Cond.fieldLink "KeyringCourt$Grant" (7 : Nat) "KeyringCourt$Grant" "session" "LKeyringCourt$Session;") ∈ lw_all := lw_g (lw_at lw_m8 112 rfl) rfl
theorem q1865 : (Jvm.Cond.fieldLink "KeyringCourt$Grant" (13 : Nat) "KeyringCourt$Grant" "client" "I") ∈ lw_all := lw_g (lw_at lw_m8 115 rfl) rfl
theorem q1867 : (Jvm.Cond.fieldLink "KeyringCourt$Grant" (17 : Nat) "KeyringCourt$Grant" "audience" "I") ∈ lw_all := lw_g (lw_at lw_m8 117 rfl) rfl
theorem q1869 : (Jvm.Cond.fieldLink "KeyringCourt$Grant" (20 : Nat) "KeyringCourt$Grant" "scopes" "I") ∈ lw_all := lw_g (lw_at lw_m8 119 rfl) rfl
theorem q1871 : (Jvm.Cond.fieldLink "KeyringCourt$Grant" (23 : Nat) "KeyringCourt$Grant" "made" "I") ∈ lw_all := lw_g (lw_at lw_m8 121 rfl) rfl
theorem q1874 : (Jvm.Cond.laysFinal "KeyringCourt$Grant" "KeyringCourt$Grant" "session" "LKeyringCourt$Session;") ∈ lw_all := lw_g (lw_at lw_m8 124 rfl) rfl
theorem q1875 : (Jvm.Cond.soleField "KeyringCourt$Grant" "session") ∈ lw_all := lw_g (lw_at lw_m8 125 rfl) rfl
theorem q1876 : (Jvm.Cond.laysFinal "KeyringCourt$Grant" "KeyringCourt$Grant" "client" "I") ∈ lw_all := lw_g (lw_at lw_m8 126 rfl) rfl
theorem q1877 : (Jvm.Cond.soleField "KeyringCourt$Grant" "client") ∈ lw_all := lw_g (lw_at lw_m8 127 rfl) rfl
theorem q1878 : (Jvm.Cond.laysFinal "KeyringCourt$Grant" "KeyringCourt$Grant" "audience" "I") ∈ lw_all := lw_g (lw_at lw_m8 128 rfl) rfl
theorem q1879 : (Jvm.Cond.soleField "KeyringCourt$Grant" "audience") ∈ lw_all := lw_g (lw_at lw_m8 129 rfl) rfl
theorem q1880 : (Jvm.Cond.laysFinal "KeyringCourt$Grant" "KeyringCourt$Grant" "scopes" "I") ∈ lw_all := lw_g (lw_at lw_m8 130 rfl) rfl
theorem q1881 : (Jvm.Cond.soleField "KeyringCourt$Grant" "scopes") ∈ lw_all := lw_g (lw_at lw_m8 131 rfl) rfl
theorem q1882 : (Jvm.Cond.laysFinal "KeyringCourt$Grant" "KeyringCourt$Grant" "made" "I") ∈ lw_all := lw_g (lw_at lw_m8 132 rfl) rfl
theorem q1883 : (Jvm.Cond.soleField "KeyringCourt$Grant" "made") ∈ lw_all := lw_g (lw_at lw_m8 133 rfl) rfl
theorem q1884 : (Jvm.Cond.lays "KeyringCourt$Grant" "KeyringCourt$Grant" "family" "LKeyringCourt$Family;") ∈ lw_all := lw_g (lw_at lw_m8 134 rfl) rfl
theorem q1885 : (Jvm.Cond.soleField "KeyringCourt$Grant" "family") ∈ lw_all := lw_g (lw_at lw_m8 135 rfl) rfl
theorem q1886 : (Jvm.Cond.superclass "KeyringCourt$Grant" "java/lang/Object") ∈ lw_all := lw_g (lw_at lw_m8 136 rfl) rfl
theorem q3071 : (Jvm.Cond.castable "KeyringCourt$Grant" "java/lang/Object") ∈ lw_tbl := lw_at lw_m13 121 rfl
theorem in_X10 : ∀ w ∈ wsX100, w ∈ lw_all := lw_in wsX100 [1874, 1876, 1878, 1880, 1882, 1884] (by decide +kernel) (by decide +kernel)
/-! KeyringCourt$Family -/
set_option maxRecDepth 100000
def RX11 : String := "KeyringCourt$Family"
def TX11 : u_T := fun k => match k with
  | 0 => ("KeyringCourt$Family", "number", "I", true)
  | 1 => ("KeyringCourt$Family", "session", "LKeyringCourt$Session;", true)
  | 2 => ("KeyringCourt$Family", "client", "I", true)
  | 3 => ("KeyringCourt$Family", "audience", "I", true)
  | 4 => ("KeyringCourt$Family", "scopes", "I", true)
  | 5 => ("KeyringCourt$Family", "isGood", "Z", false)
  | 6 => ("KeyringCourt$Family", "current", "I", false)
  | 7 => ("KeyringCourt$Family", "turned", "I", false)
  | 8 => ("KeyringCourt$Family", "audiences", "Ljava/util/BitSet;", true)
  | 9 => ("KeyringCourt$Family", "latest", "I", false)
  | _ => ("KeyringCourt$Family", "this$0", "LKeyringCourt;", true)
def tyX11 : Nat → FieldType := fun k => match k with
  | 0 => .int
  | 1 => .object "KeyringCourt$Session"
  | 2 => .int
  | 3 => .int
  | 4 => .int
  | 5 => .boolean
  | 6 => .int
  | 7 => .int
  | 8 => .object "java/util/BitSet"
  | 9 => .int
  | _ => .object "KeyringCourt"
abbrev wsX110 : List Cond := u_ws RX11 TX11 11
theorem nmX11 : ∀ a, a < 11 → ∀ b, b < 11 → a ≠ b → (TX11 a).2.1 ≠ (TX11 b).2.1 := by decide +kernel
theorem tyX11_ok : ∀ k, k < 11 → parseFieldDescriptor (TX11 k).2.2.1 = some (tyX11 k) := by decide +kernel
abbrev cX11_end : ByteArray := prog_4_method_5_code
def yX11_end : MethodName := ⟨RX11, "end", "()Z"⟩
def dkwX11_end_2 : List UInt8 := [50, 42, 182, 0, 121, 42, 180, 0, 26, 27, 4, 96, 182, 0, 113, 60, 167, 255, 228, 4, 172]
abbrev dktX11_end_2 : List UInt8 := dkwX11_end_2 ++ []
def dkwX11_end_1 : List UInt8 := [182, 0, 109, 42, 180, 0, 26, 3, 182, 0, 113, 60, 27, 155, 0, 30, 42, 180, 0, 3, 180, 0, 117, 27]
abbrev dktX11_end_1 : List UInt8 := dkwX11_end_1 ++ dktX11_end_2
def dkwX11_end_0 : List UInt8 := [42, 180, 0, 15, 154, 0, 5, 3, 172, 42, 3, 181, 0, 15, 42, 180, 0, 3, 6, 42, 180, 0, 30]
abbrev dktX11_end_0 : List UInt8 := dkwX11_end_0 ++ dktX11_end_1
theorem dksX11_end_0 : cX11_end.data.toList.drop 0 = dktX11_end_0 := by decide +kernel
theorem dksX11_end_1 : cX11_end.data.toList.drop 23 = dktX11_end_1 := dk_seg dksX11_end_0 23 rfl rfl
theorem dksX11_end_2 : cX11_end.data.toList.drop 47 = dktX11_end_2 := dk_seg dksX11_end_1 24 rfl rfl
theorem dX11_end_0 : decode cX11_end 0 = .ok (.aload_n 0, 1) := dk_42 (dk_at dksX11_end_0 0 rfl rfl)
theorem dX11_end_1 : decode cX11_end 1 = .ok (.getfield 15, 3) := dk_180 0 15 (dk_at dksX11_end_0 1 rfl rfl)
theorem dX11_end_4 : decode cX11_end 4 = .ok (.ifCond .ne 5, 3) := dk_154 0 5 (dk_at dksX11_end_0 4 rfl rfl)
theorem dX11_end_7 : decode cX11_end 7 = .ok (.iconst 0, 1) := dk_3 (dk_at dksX11_end_0 7 rfl rfl)
theorem dX11_end_8 : decode cX11_end 8 = .ok (.ireturn, 1) := dk_172 (dk_at dksX11_end_0 8 rfl rfl)
theorem dX11_end_9 : decode cX11_end 9 = .ok (.aload_n 0, 1) := dk_42 (dk_at dksX11_end_0 9 rfl rfl)
theorem dX11_end_10 : decode cX11_end 10 = .ok (.iconst 0, 1) := dk_3 (dk_at dksX11_end_0 10 rfl rfl)
theorem dX11_end_11 : decode cX11_end 11 = .ok (.putfield 15, 3) := dk_181 0 15 (dk_at dksX11_end_0 11 rfl rfl)
theorem dX11_end_14 : decode cX11_end 14 = .ok (.aload_n 0, 1) := dk_42 (dk_at dksX11_end_0 14 rfl rfl)
theorem dX11_end_15 : decode cX11_end 15 = .ok (.getfield 3, 3) := dk_180 0 3 (dk_at dksX11_end_0 15 rfl rfl)
theorem dX11_end_18 : decode cX11_end 18 = .ok (.iconst 3, 1) := dk_6 (dk_at dksX11_end_0 18 rfl rfl)
theorem dX11_end_19 : decode cX11_end 19 = .ok (.aload_n 0, 1) := dk_42 (dk_at dksX11_end_0 19 rfl rfl)
theorem dX11_end_20 : decode cX11_end 20 = .ok (.getfield 30, 3) := dk_180 0 30 (dk_at dksX11_end_0 20 rfl rfl)
theorem dX11_end_23 : decode cX11_end 23 = .ok (.invokevirtual 109, 3) := dk_182 0 109 (dk_at dksX11_end_1 0 rfl rfl)
theorem dX11_end_26 : decode cX11_end 26 = .ok (.aload_n 0, 1) := dk_42 (dk_at dksX11_end_1 3 rfl rfl)
theorem dX11_end_27 : decode cX11_end 27 = .ok (.getfield 26, 3) := dk_180 0 26 (dk_at dksX11_end_1 4 rfl rfl)
theorem dX11_end_30 : decode cX11_end 30 = .ok (.iconst 0, 1) := dk_3 (dk_at dksX11_end_1 7 rfl rfl)
theorem dX11_end_31 : decode cX11_end 31 = .ok (.invokevirtual 113, 3) := dk_182 0 113 (dk_at dksX11_end_1 8 rfl rfl)
theorem dX11_end_34 : decode cX11_end 34 = .ok (.istore_n 1, 1) := dk_60 (dk_at dksX11_end_1 11 rfl rfl)
theorem dX11_end_35 : decode cX11_end 35 = .ok (.iload_n 1, 1) := dk_27 (dk_at dksX11_end_1 12 rfl rfl)
theorem dX11_end_36 : decode cX11_end 36 = .ok (.ifCond .lt 30, 3) := dk_155 0 30 (dk_at dksX11_end_1 13 rfl rfl)
theorem dX11_end_39 : decode cX11_end 39 = .ok (.aload_n 0, 1) := dk_42 (dk_at dksX11_end_1 16 rfl rfl)
theorem dX11_end_40 : decode cX11_end 40 = .ok (.getfield 3, 3) := dk_180 0 3 (dk_at dksX11_end_1 17 rfl rfl)
theorem dX11_end_43 : decode cX11_end 43 = .ok (.getfield 117, 3) := dk_180 0 117 (dk_at dksX11_end_1 20 rfl rfl)
theorem dX11_end_46 : decode cX11_end 46 = .ok (.iload_n 1, 1) := dk_27 (dk_at dksX11_end_1 23 rfl rfl)
theorem dX11_end_47 : decode cX11_end 47 = .ok (.aaload, 1) := dk_50 (dk_at dksX11_end_2 0 rfl rfl)
theorem dX11_end_48 : decode cX11_end 48 = .ok (.aload_n 0, 1) := dk_42 (dk_at dksX11_end_2 1 rfl rfl)
theorem dX11_end_49 : decode cX11_end 49 = .ok (.invokevirtual 121, 3) := dk_182 0 121 (dk_at dksX11_end_2 2 rfl rfl)
theorem dX11_end_52 : decode cX11_end 52 = .ok (.aload_n 0, 1) := dk_42 (dk_at dksX11_end_2 5 rfl rfl)
theorem dX11_end_53 : decode cX11_end 53 = .ok (.getfield 26, 3) := dk_180 0 26 (dk_at dksX11_end_2 6 rfl rfl)
theorem dX11_end_56 : decode cX11_end 56 = .ok (.iload_n 1, 1) := dk_27 (dk_at dksX11_end_2 9 rfl rfl)
theorem dX11_end_57 : decode cX11_end 57 = .ok (.iconst 1, 1) := dk_4 (dk_at dksX11_end_2 10 rfl rfl)
theorem dX11_end_58 : decode cX11_end 58 = .ok (.iadd, 1) := dk_96 (dk_at dksX11_end_2 11 rfl rfl)
theorem dX11_end_59 : decode cX11_end 59 = .ok (.invokevirtual 113, 3) := dk_182 0 113 (dk_at dksX11_end_2 12 rfl rfl)
theorem dX11_end_62 : decode cX11_end 62 = .ok (.istore_n 1, 1) := dk_60 (dk_at dksX11_end_2 15 rfl rfl)
theorem dX11_end_63 : decode cX11_end 63 = .ok (.goto (-28), 3) := dk_167 255 228 (dk_at dksX11_end_2 16 rfl rfl)
theorem dX11_end_66 : decode cX11_end 66 = .ok (.iconst 1, 1) := dk_4 (dk_at dksX11_end_2 19 rfl rfl)
theorem dX11_end_67 : decode cX11_end 67 = .ok (.ireturn, 1) := dk_172 (dk_at dksX11_end_2 20 rfl rfl)
abbrev cX11_init : ByteArray := prog_4_method_1_code
def yX11_init : MethodName := ⟨RX11, "<init>", "(LKeyringCourt;ILKeyringCourt$Grant;)V"⟩
def dkwX11_init_2 : List UInt8 := [181, 0, 43, 42, 45, 180, 0, 44, 181, 0, 47, 42, 45, 180, 0, 48, 181, 0, 51, 177]
abbrev dktX11_init_2 : List UInt8 := dkwX11_init_2 ++ []
def dkwX11_init_1 : List UInt8 := [183, 0, 25, 181, 0, 26, 42, 28, 181, 0, 30, 42, 45, 180, 0, 33, 181, 0, 39, 42, 45, 180, 0, 40]
abbrev dktX11_init_1 : List UInt8 := dkwX11_init_1 ++ dktX11_init_2
def dkwX11_init_0 : List UInt8 := [42, 43, 181, 0, 3, 42, 183, 0, 9, 42, 4, 181, 0, 15, 42, 2, 181, 0, 19, 42, 187, 0, 23, 89]
abbrev dktX11_init_0 : List UInt8 := dkwX11_init_0 ++ dktX11_init_1
theorem dksX11_init_0 : cX11_init.data.toList.drop 0 = dktX11_init_0 := by decide +kernel
theorem dksX11_init_1 : cX11_init.data.toList.drop 24 = dktX11_init_1 := dk_seg dksX11_init_0 24 rfl rfl
theorem dksX11_init_2 : cX11_init.data.toList.drop 48 = dktX11_init_2 := dk_seg dksX11_init_1 24 rfl rfl
theorem dX11_init_0 : decode cX11_init 0 = .ok (.aload_n 0, 1) := dk_42 (dk_at dksX11_init_0 0 rfl rfl)
theorem dX11_init_1 : decode cX11_init 1 = .ok (.aload_n 1, 1) := dk_43 (dk_at dksX11_init_0 1 rfl rfl)
theorem dX11_init_2 : decode cX11_init 2 = .ok (.putfield 3, 3) := dk_181 0 3 (dk_at dksX11_init_0 2 rfl rfl)
theorem dX11_init_5 : decode cX11_init 5 = .ok (.aload_n 0, 1) := dk_42 (dk_at dksX11_init_0 5 rfl rfl)
theorem dX11_init_6 : decode cX11_init 6 = .ok (.invokespecial 9, 3) := dk_183 0 9 (dk_at dksX11_init_0 6 rfl rfl)
theorem dX11_init_9 : decode cX11_init 9 = .ok (.aload_n 0, 1) := dk_42 (dk_at dksX11_init_0 9 rfl rfl)
theorem dX11_init_10 : decode cX11_init 10 = .ok (.iconst 1, 1) := dk_4 (dk_at dksX11_init_0 10 rfl rfl)
theorem dX11_init_11 : decode cX11_init 11 = .ok (.putfield 15, 3) := dk_181 0 15 (dk_at dksX11_init_0 11 rfl rfl)
theorem dX11_init_14 : decode cX11_init 14 = .ok (.aload_n 0, 1) := dk_42 (dk_at dksX11_init_0 14 rfl rfl)
theorem dX11_init_15 : decode cX11_init 15 = .ok (.iconst (-1), 1) := dk_2 (dk_at dksX11_init_0 15 rfl rfl)
theorem dX11_init_16 : decode cX11_init 16 = .ok (.putfield 19, 3) := dk_181 0 19 (dk_at dksX11_init_0 16 rfl rfl)
theorem dX11_init_19 : decode cX11_init 19 = .ok (.aload_n 0, 1) := dk_42 (dk_at dksX11_init_0 19 rfl rfl)
theorem dX11_init_20 : decode cX11_init 20 = .ok (.new 23, 3) := dk_187 0 23 (dk_at dksX11_init_0 20 rfl rfl)
theorem dX11_init_23 : decode cX11_init 23 = .ok (.dup, 1) := dk_89 (dk_at dksX11_init_0 23 rfl rfl)
theorem dX11_init_24 : decode cX11_init 24 = .ok (.invokespecial 25, 3) := dk_183 0 25 (dk_at dksX11_init_1 0 rfl rfl)
theorem dX11_init_27 : decode cX11_init 27 = .ok (.putfield 26, 3) := dk_181 0 26 (dk_at dksX11_init_1 3 rfl rfl)
theorem dX11_init_30 : decode cX11_init 30 = .ok (.aload_n 0, 1) := dk_42 (dk_at dksX11_init_1 6 rfl rfl)
theorem dX11_init_31 : decode cX11_init 31 = .ok (.iload_n 2, 1) := dk_28 (dk_at dksX11_init_1 7 rfl rfl)
theorem dX11_init_32 : decode cX11_init 32 = .ok (.putfield 30, 3) := dk_181 0 30 (dk_at dksX11_init_1 8 rfl rfl)
theorem dX11_init_35 : decode cX11_init 35 = .ok (.aload_n 0, 1) := dk_42 (dk_at dksX11_init_1 11 rfl rfl)
theorem dX11_init_36 : decode cX11_init 36 = .ok (.aload_n 3, 1) := dk_45 (dk_at dksX11_init_1 12 rfl rfl)
theorem dX11_init_37 : decode cX11_init 37 = .ok (.getfield 33, 3) := dk_180 0 33 (dk_at dksX11_init_1 13 rfl rfl)
theorem dX11_init_40 : decode cX11_init 40 = .ok (.putfield 39, 3) := dk_181 0 39 (dk_at dksX11_init_1 16 rfl rfl)
theorem dX11_init_43 : decode cX11_init 43 = .ok (.aload_n 0, 1) := dk_42 (dk_at dksX11_init_1 19 rfl rfl)
theorem dX11_init_44 : decode cX11_init 44 = .ok (.aload_n 3, 1) := dk_45 (dk_at dksX11_init_1 20 rfl rfl)
theorem dX11_init_45 : decode cX11_init 45 = .ok (.getfield 40, 3) := dk_180 0 40 (dk_at dksX11_init_1 21 rfl rfl)
theorem dX11_init_48 : decode cX11_init 48 = .ok (.putfield 43, 3) := dk_181 0 43 (dk_at dksX11_init_2 0 rfl rfl)
theorem dX11_init_51 : decode cX11_init 51 = .ok (.aload_n 0, 1) := dk_42 (dk_at dksX11_init_2 3 rfl rfl)
theorem dX11_init_52 : decode cX11_init 52 = .ok (.aload_n 3, 1) := dk_45 (dk_at dksX11_init_2 4 rfl rfl)
theorem dX11_init_53 : decode cX11_init 53 = .ok (.getfield 44, 3) := dk_180 0 44 (dk_at dksX11_init_2 5 rfl rfl)
theorem dX11_init_56 : decode cX11_init 56 = .ok (.putfield 47, 3) := dk_181 0 47 (dk_at dksX11_init_2 8 rfl rfl)
theorem dX11_init_59 : decode cX11_init 59 = .ok (.aload_n 0, 1) := dk_42 (dk_at dksX11_init_2 11 rfl rfl)
theorem dX11_init_60 : decode cX11_init 60 = .ok (.aload_n 3, 1) := dk_45 (dk_at dksX11_init_2 12 rfl rfl)
theorem dX11_init_61 : decode cX11_init 61 = .ok (.getfield 48, 3) := dk_180 0 48 (dk_at dksX11_init_2 13 rfl rfl)
theorem dX11_init_64 : decode cX11_init 64 = .ok (.putfield 51, 3) := dk_181 0 51 (dk_at dksX11_init_2 16 rfl rfl)
theorem dX11_init_67 : decode cX11_init 67 = .ok (.return_, 1) := dk_177 (dk_at dksX11_init_2 19 rfl rfl)
abbrev cX11_make : ByteArray := prog_4_method_3_code
def yX11_make : MethodName := ⟨RX11, "make", "()V"⟩
def dkwX11_make_1 : List UInt8 := [182, 0, 84, 87, 177]
abbrev dktX11_make_1 : List UInt8 := dkwX11_make_1 ++ []
def dkwX11_make_0 : List UInt8 := [42, 42, 180, 0, 43, 42, 180, 0, 47, 42, 180, 0, 51, 3, 42, 180, 0, 3, 180, 0, 81, 16, 10, 96]
abbrev dktX11_make_0 : List UInt8 := dkwX11_make_0 ++ dktX11_make_1
theorem dksX11_make_0 : cX11_make.data.toList.drop 0 = dktX11_make_0 := by decide +kernel
theorem dksX11_make_1 : cX11_make.data.toList.drop 24 = dktX11_make_1 := dk_seg dksX11_make_0 24 rfl rfl
theorem dX11_make_0 : decode cX11_make 0 = .ok (.aload_n 0, 1) := dk_42 (dk_at dksX11_make_0 0 rfl rfl)
theorem dX11_make_1 : decode cX11_make 1 = .ok (.aload_n 0, 1) := dk_42 (dk_at dksX11_make_0 1 rfl rfl)
theorem dX11_make_2 : decode cX11_make 2 = .ok (.getfield 43, 3) := dk_180 0 43 (dk_at dksX11_make_0 2 rfl rfl)
theorem dX11_make_5 : decode cX11_make 5 = .ok (.aload_n 0, 1) := dk_42 (dk_at dksX11_make_0 5 rfl rfl)
theorem dX11_make_6 : decode cX11_make 6 = .ok (.getfield 47, 3) := dk_180 0 47 (dk_at dksX11_make_0 6 rfl rfl)
theorem dX11_make_9 : decode cX11_make 9 = .ok (.aload_n 0, 1) := dk_42 (dk_at dksX11_make_0 9 rfl rfl)
theorem dX11_make_10 : decode cX11_make 10 = .ok (.getfield 51, 3) := dk_180 0 51 (dk_at dksX11_make_0 10 rfl rfl)
theorem dX11_make_13 : decode cX11_make 13 = .ok (.iconst 0, 1) := dk_3 (dk_at dksX11_make_0 13 rfl rfl)
theorem dX11_make_14 : decode cX11_make 14 = .ok (.aload_n 0, 1) := dk_42 (dk_at dksX11_make_0 14 rfl rfl)
theorem dX11_make_15 : decode cX11_make 15 = .ok (.getfield 3, 3) := dk_180 0 3 (dk_at dksX11_make_0 15 rfl rfl)
theorem dX11_make_18 : decode cX11_make 18 = .ok (.getfield 81, 3) := dk_180 0 81 (dk_at dksX11_make_0 18 rfl rfl)
theorem dX11_make_21 : decode cX11_make 21 = .ok (.bipush 10, 2) := dk_16 10 (dk_at dksX11_make_0 21 rfl rfl)
theorem dX11_make_23 : decode cX11_make 23 = .ok (.iadd, 1) := dk_96 (dk_at dksX11_make_0 23 rfl rfl)
theorem dX11_make_24 : decode cX11_make 24 = .ok (.invokevirtual 84, 3) := dk_182 0 84 (dk_at dksX11_make_1 0 rfl rfl)
theorem dX11_make_27 : decode cX11_make 27 = .ok (.pop, 1) := dk_87 (dk_at dksX11_make_1 3 rfl rfl)
theorem dX11_make_28 : decode cX11_make 28 = .ok (.return_, 1) := dk_177 (dk_at dksX11_make_1 4 rfl rfl)
abbrev cX11_make_2 : ByteArray := prog_4_method_2_code
def yX11_make_2 : MethodName := ⟨RX11, "make", "(IIIII)I"⟩
def dkwX11_make_2_2 : List UInt8 := [180, 0, 52, 185, 0, 74, 1, 0, 4, 100, 181, 0, 78, 42, 180, 0, 78, 172]
abbrev dktX11_make_2_2 : List UInt8 := dkwX11_make_2_2 ++ []
def dkwX11_make_2_1 : List UInt8 := [21, 5, 183, 0, 61, 185, 0, 64, 2, 0, 87, 42, 180, 0, 26, 28, 182, 0, 70, 42, 42, 180, 0, 3]
abbrev dktX11_make_2_1 : List UInt8 := dkwX11_make_2_1 ++ dktX11_make_2_2
def dkwX11_make_2_0 : List UInt8 := [42, 180, 0, 3, 180, 0, 52, 187, 0, 56, 89, 42, 27, 28, 29, 21, 4, 42, 180, 0, 3, 180, 0, 58]
abbrev dktX11_make_2_0 : List UInt8 := dkwX11_make_2_0 ++ dktX11_make_2_1
theorem dksX11_make_2_0 : cX11_make_2.data.toList.drop 0 = dktX11_make_2_0 := by decide +kernel
theorem dksX11_make_2_1 : cX11_make_2.data.toList.drop 24 = dktX11_make_2_1 := dk_seg dksX11_make_2_0 24 rfl rfl
theorem dksX11_make_2_2 : cX11_make_2.data.toList.drop 48 = dktX11_make_2_2 := dk_seg dksX11_make_2_1 24 rfl rfl
theorem dX11_make_2_0 : decode cX11_make_2 0 = .ok (.aload_n 0, 1) := dk_42 (dk_at dksX11_make_2_0 0 rfl rfl)
theorem dX11_make_2_1 : decode cX11_make_2 1 = .ok (.getfield 3, 3) := dk_180 0 3 (dk_at dksX11_make_2_0 1 rfl rfl)
theorem dX11_make_2_4 : decode cX11_make_2 4 = .ok (.getfield 52, 3) := dk_180 0 52 (dk_at dksX11_make_2_0 4 rfl rfl)
theorem dX11_make_2_7 : decode cX11_make_2 7 = .ok (.new 56, 3) := dk_187 0 56 (dk_at dksX11_make_2_0 7 rfl rfl)
theorem dX11_make_2_10 : decode cX11_make_2 10 = .ok (.dup, 1) := dk_89 (dk_at dksX11_make_2_0 10 rfl rfl)
theorem dX11_make_2_11 : decode cX11_make_2 11 = .ok (.aload_n 0, 1) := dk_42 (dk_at dksX11_make_2_0 11 rfl rfl)
theorem dX11_make_2_12 : decode cX11_make_2 12 = .ok (.iload_n 1, 1) := dk_27 (dk_at dksX11_make_2_0 12 rfl rfl)
theorem dX11_make_2_13 : decode cX11_make_2 13 = .ok (.iload_n 2, 1) := dk_28 (dk_at dksX11_make_2_0 13 rfl rfl)
theorem dX11_make_2_14 : decode cX11_make_2 14 = .ok (.iload_n 3, 1) := dk_29 (dk_at dksX11_make_2_0 14 rfl rfl)
theorem dX11_make_2_15 : decode cX11_make_2 15 = .ok (.iload 4, 2) := dk_21 4 (dk_at dksX11_make_2_0 15 rfl rfl)
theorem dX11_make_2_17 : decode cX11_make_2 17 = .ok (.aload_n 0, 1) := dk_42 (dk_at dksX11_make_2_0 17 rfl rfl)
theorem dX11_make_2_18 : decode cX11_make_2 18 = .ok (.getfield 3, 3) := dk_180 0 3 (dk_at dksX11_make_2_0 18 rfl rfl)
theorem dX11_make_2_21 : decode cX11_make_2 21 = .ok (.getfield 58, 3) := dk_180 0 58 (dk_at dksX11_make_2_0 21 rfl rfl)
theorem dX11_make_2_24 : decode cX11_make_2 24 = .ok (.iload 5, 2) := dk_21 5 (dk_at dksX11_make_2_1 0 rfl rfl)
theorem dX11_make_2_26 : decode cX11_make_2 26 = .ok (.invokespecial 61, 3) := dk_183 0 61 (dk_at dksX11_make_2_1 2 rfl rfl)
theorem dX11_make_2_29 : decode cX11_make_2 29 = .ok (.invokeinterface 64 2, 5) := by decide +kernel
theorem dX11_make_2_34 : decode cX11_make_2 34 = .ok (.pop, 1) := dk_87 (dk_at dksX11_make_2_1 10 rfl rfl)
theorem dX11_make_2_35 : decode cX11_make_2 35 = .ok (.aload_n 0, 1) := dk_42 (dk_at dksX11_make_2_1 11 rfl rfl)
theorem dX11_make_2_36 : decode cX11_make_2 36 = .ok (.getfield 26, 3) := dk_180 0 26 (dk_at dksX11_make_2_1 12 rfl rfl)
theorem dX11_make_2_39 : decode cX11_make_2 39 = .ok (.iload_n 2, 1) := dk_28 (dk_at dksX11_make_2_1 15 rfl rfl)
theorem dX11_make_2_40 : decode cX11_make_2 40 = .ok (.invokevirtual 70, 3) := dk_182 0 70 (dk_at dksX11_make_2_1 16 rfl rfl)
theorem dX11_make_2_43 : decode cX11_make_2 43 = .ok (.aload_n 0, 1) := dk_42 (dk_at dksX11_make_2_1 19 rfl rfl)
theorem dX11_make_2_44 : decode cX11_make_2 44 = .ok (.aload_n 0, 1) := dk_42 (dk_at dksX11_make_2_1 20 rfl rfl)
theorem dX11_make_2_45 : decode cX11_make_2 45 = .ok (.getfield 3, 3) := dk_180 0 3 (dk_at dksX11_make_2_1 21 rfl rfl)
theorem dX11_make_2_48 : decode cX11_make_2 48 = .ok (.getfield 52, 3) := dk_180 0 52 (dk_at dksX11_make_2_2 0 rfl rfl)
theorem dX11_make_2_51 : decode cX11_make_2 51 = .ok (.invokeinterface 74 1, 5) := by decide +kernel
theorem dX11_make_2_56 : decode cX11_make_2 56 = .ok (.iconst 1, 1) := dk_4 (dk_at dksX11_make_2_2 8 rfl rfl)
theorem dX11_make_2_57 : decode cX11_make_2 57 = .ok (.isub, 1) := dk_100 (dk_at dksX11_make_2_2 9 rfl rfl)
theorem dX11_make_2_58 : decode cX11_make_2 58 = .ok (.putfield 78, 3) := dk_181 0 78 (dk_at dksX11_make_2_2 10 rfl rfl)
theorem dX11_make_2_61 : decode cX11_make_2 61 = .ok (.aload_n 0, 1) := dk_42 (dk_at dksX11_make_2_2 13 rfl rfl)
theorem dX11_make_2_62 : decode cX11_make_2 62 = .ok (.getfield 78, 3) := dk_180 0 78 (dk_at dksX11_make_2_2 14 rfl rfl)
theorem dX11_make_2_65 : decode cX11_make_2 65 = .ok (.ireturn, 1) := dk_172 (dk_at dksX11_make_2_2 17 rfl rfl)
abbrev cX11_refresh : ByteArray := prog_4_method_4_code
def yX11_refresh : MethodName := ⟨RX11, "refresh", "(I)I"⟩
def dkwX11_refresh_5 : List UInt8 := [180, 0, 19, 100, 4, 163, 0, 8, 42, 180, 0, 93, 172, 42, 182, 0, 105, 87, 2, 172]
abbrev dktX11_refresh_5 : List UInt8 := dkwX11_refresh_5 ++ []
def dkwX11_refresh_4 : List UInt8 := [42, 180, 0, 93, 172, 27, 42, 180, 0, 93, 4, 100, 160, 0, 24, 42, 180, 0, 3, 180, 0, 81, 42]
abbrev dktX11_refresh_4 : List UInt8 := dkwX11_refresh_4 ++ dktX11_refresh_5
def dkwX11_refresh_3 : List UInt8 := [180, 0, 81, 181, 0, 19, 42, 182, 0, 100, 42, 180, 0, 39, 42, 180, 0, 3, 180, 0, 81, 181, 0, 102]
abbrev dktX11_refresh_3 : List UInt8 := dkwX11_refresh_3 ++ dktX11_refresh_4
def dkwX11_refresh_2 : List UInt8 := [167, 0, 4, 3, 184, 0, 96, 42, 89, 180, 0, 93, 4, 96, 181, 0, 93, 42, 42, 180, 0, 3]
abbrev dktX11_refresh_2 : List UInt8 := dkwX11_refresh_2 ++ dktX11_refresh_3
def dkwX11_refresh_1 : List UInt8 := [160, 0, 73, 42, 180, 0, 3, 180, 0, 52, 185, 0, 74, 1, 0, 17, 0, 200, 162, 0, 7, 4]
abbrev dktX11_refresh_1 : List UInt8 := dkwX11_refresh_1 ++ dktX11_refresh_2
def dkwX11_refresh_0 : List UInt8 := [42, 180, 0, 15, 153, 0, 13, 42, 180, 0, 39, 180, 0, 88, 154, 0, 5, 2, 172, 27, 42, 180, 0, 93]
abbrev dktX11_refresh_0 : List UInt8 := dkwX11_refresh_0 ++ dktX11_refresh_1
theorem dksX11_refresh_0 : cX11_refresh.data.toList.drop 0 = dktX11_refresh_0 := by decide +kernel
theorem dksX11_refresh_1 : cX11_refresh.data.toList.drop 24 = dktX11_refresh_1 := dk_seg dksX11_refresh_0 24 rfl rfl
theorem dksX11_refresh_2 : cX11_refresh.data.toList.drop 46 = dktX11_refresh_2 := dk_seg dksX11_refresh_1 22 rfl rfl
theorem dksX11_refresh_3 : cX11_refresh.data.toList.drop 68 = dktX11_refresh_3 := dk_seg dksX11_refresh_2 22 rfl rfl
theorem dksX11_refresh_4 : cX11_refresh.data.toList.drop 92 = dktX11_refresh_4 := dk_seg dksX11_refresh_3 24 rfl rfl
theorem dksX11_refresh_5 : cX11_refresh.data.toList.drop 115 = dktX11_refresh_5 := dk_seg dksX11_refresh_4 23 rfl rfl
theorem dX11_refresh_0 : decode cX11_refresh 0 = .ok (.aload_n 0, 1) := dk_42 (dk_at dksX11_refresh_0 0 rfl rfl)
theorem dX11_refresh_1 : decode cX11_refresh 1 = .ok (.getfield 15, 3) := dk_180 0 15 (dk_at dksX11_refresh_0 1 rfl rfl)
theorem dX11_refresh_4 : decode cX11_refresh 4 = .ok (.ifCond .eq 13, 3) := dk_153 0 13 (dk_at dksX11_refresh_0 4 rfl rfl)
theorem dX11_refresh_7 : decode cX11_refresh 7 = .ok (.aload_n 0, 1) := dk_42 (dk_at dksX11_refresh_0 7 rfl rfl)
theorem dX11_refresh_8 : decode cX11_refresh 8 = .ok (.getfield 39, 3) := dk_180 0 39 (dk_at dksX11_refresh_0 8 rfl rfl)
theorem dX11_refresh_11 : decode cX11_refresh 11 = .ok (.getfield 88, 3) := dk_180 0 88 (dk_at dksX11_refresh_0 11 rfl rfl)
theorem dX11_refresh_14 : decode cX11_refresh 14 = .ok (.ifCond .ne 5, 3) := dk_154 0 5 (dk_at dksX11_refresh_0 14 rfl rfl)
theorem dX11_refresh_17 : decode cX11_refresh 17 = .ok (.iconst (-1), 1) := dk_2 (dk_at dksX11_refresh_0 17 rfl rfl)
theorem dX11_refresh_18 : decode cX11_refresh 18 = .ok (.ireturn, 1) := dk_172 (dk_at dksX11_refresh_0 18 rfl rfl)
theorem dX11_refresh_19 : decode cX11_refresh 19 = .ok (.iload_n 1, 1) := dk_27 (dk_at dksX11_refresh_0 19 rfl rfl)
theorem dX11_refresh_20 : decode cX11_refresh 20 = .ok (.aload_n 0, 1) := dk_42 (dk_at dksX11_refresh_0 20 rfl rfl)
theorem dX11_refresh_21 : decode cX11_refresh 21 = .ok (.getfield 93, 3) := dk_180 0 93 (dk_at dksX11_refresh_0 21 rfl rfl)
theorem dX11_refresh_24 : decode cX11_refresh 24 = .ok (.if_icmp .ne 73, 3) := dk_160 0 73 (dk_at dksX11_refresh_1 0 rfl rfl)
theorem dX11_refresh_27 : decode cX11_refresh 27 = .ok (.aload_n 0, 1) := dk_42 (dk_at dksX11_refresh_1 3 rfl rfl)
theorem dX11_refresh_28 : decode cX11_refresh 28 = .ok (.getfield 3, 3) := dk_180 0 3 (dk_at dksX11_refresh_1 4 rfl rfl)
theorem dX11_refresh_31 : decode cX11_refresh 31 = .ok (.getfield 52, 3) := dk_180 0 52 (dk_at dksX11_refresh_1 7 rfl rfl)
theorem dX11_refresh_34 : decode cX11_refresh 34 = .ok (.invokeinterface 74 1, 5) := by decide +kernel
theorem dX11_refresh_39 : decode cX11_refresh 39 = .ok (.sipush 200, 3) := dk_17 0 200 (dk_at dksX11_refresh_1 15 rfl rfl)
theorem dX11_refresh_42 : decode cX11_refresh 42 = .ok (.if_icmp .ge 7, 3) := dk_162 0 7 (dk_at dksX11_refresh_1 18 rfl rfl)
theorem dX11_refresh_45 : decode cX11_refresh 45 = .ok (.iconst 1, 1) := dk_4 (dk_at dksX11_refresh_1 21 rfl rfl)
theorem dX11_refresh_46 : decode cX11_refresh 46 = .ok (.goto 4, 3) := dk_167 0 4 (dk_at dksX11_refresh_2 0 rfl rfl)
theorem dX11_refresh_49 : decode cX11_refresh 49 = .ok (.iconst 0, 1) := dk_3 (dk_at dksX11_refresh_2 3 rfl rfl)
theorem dX11_refresh_50 : decode cX11_refresh 50 = .ok (.invokestatic 96, 3) := dk_184 0 96 (dk_at dksX11_refresh_2 4 rfl rfl)
theorem dX11_refresh_53 : decode cX11_refresh 53 = .ok (.aload_n 0, 1) := dk_42 (dk_at dksX11_refresh_2 7 rfl rfl)
theorem dX11_refresh_54 : decode cX11_refresh 54 = .ok (.dup, 1) := dk_89 (dk_at dksX11_refresh_2 8 rfl rfl)
theorem dX11_refresh_55 : decode cX11_refresh 55 = .ok (.getfield 93, 3) := dk_180 0 93 (dk_at dksX11_refresh_2 9 rfl rfl)
theorem dX11_refresh_58 : decode cX11_refresh 58 = .ok (.iconst 1, 1) := dk_4 (dk_at dksX11_refresh_2 12 rfl rfl)
theorem dX11_refresh_59 : decode cX11_refresh 59 = .ok (.iadd, 1) := dk_96 (dk_at dksX11_refresh_2 13 rfl rfl)
theorem dX11_refresh_60 : decode cX11_refresh 60 = .ok (.putfield 93, 3) := dk_181 0 93 (dk_at dksX11_refresh_2 14 rfl rfl)
theorem dX11_refresh_63 : decode cX11_refresh 63 = .ok (.aload_n 0, 1) := dk_42 (dk_at dksX11_refresh_2 17 rfl rfl)
theorem dX11_refresh_64 : decode cX11_refresh 64 = .ok (.aload_n 0, 1) := dk_42 (dk_at dksX11_refresh_2 18 rfl rfl)
theorem dX11_refresh_65 : decode cX11_refresh 65 = .ok (.getfield 3, 3) := dk_180 0 3 (dk_at dksX11_refresh_2 19 rfl rfl)
theorem dX11_refresh_68 : decode cX11_refresh 68 = .ok (.getfield 81, 3) := dk_180 0 81 (dk_at dksX11_refresh_3 0 rfl rfl)
theorem dX11_refresh_71 : decode cX11_refresh 71 = .ok (.putfield 19, 3) := dk_181 0 19 (dk_at dksX11_refresh_3 3 rfl rfl)
theorem dX11_refresh_74 : decode cX11_refresh 74 = .ok (.aload_n 0, 1) := dk_42 (dk_at dksX11_refresh_3 6 rfl rfl)
theorem dX11_refresh_75 : decode cX11_refresh 75 = .ok (.invokevirtual 100, 3) := dk_182 0 100 (dk_at dksX11_refresh_3 7 rfl rfl)
theorem dX11_refresh_78 : decode cX11_refresh 78 = .ok (.aload_n 0, 1) := dk_42 (dk_at dksX11_refresh_3 10 rfl rfl)
theorem dX11_refresh_79 : decode cX11_refresh 79 = .ok (.getfield 39, 3) := dk_180 0 39 (dk_at dksX11_refresh_3 11 rfl rfl)
theorem dX11_refresh_82 : decode cX11_refresh 82 = .ok (.aload_n 0, 1) := dk_42 (dk_at dksX11_refresh_3 14 rfl rfl)
theorem dX11_refresh_83 : decode cX11_refresh 83 = .ok (.getfield 3, 3) := dk_180 0 3 (dk_at dksX11_refresh_3 15 rfl rfl)
theorem dX11_refresh_86 : decode cX11_refresh 86 = .ok (.getfield 81, 3) := dk_180 0 81 (dk_at dksX11_refresh_3 18 rfl rfl)
theorem dX11_refresh_89 : decode cX11_refresh 89 = .ok (.putfield 102, 3) := dk_181 0 102 (dk_at dksX11_refresh_3 21 rfl rfl)
theorem dX11_refresh_92 : decode cX11_refresh 92 = .ok (.aload_n 0, 1) := dk_42 (dk_at dksX11_refresh_4 0 rfl rfl)
theorem dX11_refresh_93 : decode cX11_refresh 93 = .ok (.getfield 93, 3) := dk_180 0 93 (dk_at dksX11_refresh_4 1 rfl rfl)
theorem dX11_refresh_96 : decode cX11_refresh 96 = .ok (.ireturn, 1) := dk_172 (dk_at dksX11_refresh_4 4 rfl rfl)
theorem dX11_refresh_97 : decode cX11_refresh 97 = .ok (.iload_n 1, 1) := dk_27 (dk_at dksX11_refresh_4 5 rfl rfl)
theorem dX11_refresh_98 : decode cX11_refresh 98 = .ok (.aload_n 0, 1) := dk_42 (dk_at dksX11_refresh_4 6 rfl rfl)
theorem dX11_refresh_99 : decode cX11_refresh 99 = .ok (.getfield 93, 3) := dk_180 0 93 (dk_at dksX11_refresh_4 7 rfl rfl)
theorem dX11_refresh_102 : decode cX11_refresh 102 = .ok (.iconst 1, 1) := dk_4 (dk_at dksX11_refresh_4 10 rfl rfl)
theorem dX11_refresh_103 : decode cX11_refresh 103 = .ok (.isub, 1) := dk_100 (dk_at dksX11_refresh_4 11 rfl rfl)
theorem dX11_refresh_104 : decode cX11_refresh 104 = .ok (.if_icmp .ne 24, 3) := dk_160 0 24 (dk_at dksX11_refresh_4 12 rfl rfl)
theorem dX11_refresh_107 : decode cX11_refresh 107 = .ok (.aload_n 0, 1) := dk_42 (dk_at dksX11_refresh_4 15 rfl rfl)
theorem dX11_refresh_108 : decode cX11_refresh 108 = .ok (.getfield 3, 3) := dk_180 0 3 (dk_at dksX11_refresh_4 16 rfl rfl)
theorem dX11_refresh_111 : decode cX11_refresh 111 = .ok (.getfield 81, 3) := dk_180 0 81 (dk_at dksX11_refresh_4 19 rfl rfl)
theorem dX11_refresh_114 : decode cX11_refresh 114 = .ok (.aload_n 0, 1) := dk_42 (dk_at dksX11_refresh_4 22 rfl rfl)
theorem dX11_refresh_115 : decode cX11_refresh 115 = .ok (.getfield 19, 3) := dk_180 0 19 (dk_at dksX11_refresh_5 0 rfl rfl)
theorem dX11_refresh_118 : decode cX11_refresh 118 = .ok (.isub, 1) := dk_100 (dk_at dksX11_refresh_5 3 rfl rfl)
theorem dX11_refresh_119 : decode cX11_refresh 119 = .ok (.iconst 1, 1) := dk_4 (dk_at dksX11_refresh_5 4 rfl rfl)
theorem dX11_refresh_120 : decode cX11_refresh 120 = .ok (.if_icmp .gt 8, 3) := dk_163 0 8 (dk_at dksX11_refresh_5 5 rfl rfl)
theorem dX11_refresh_123 : decode cX11_refresh 123 = .ok (.aload_n 0, 1) := dk_42 (dk_at dksX11_refresh_5 8 rfl rfl)
theorem dX11_refresh_124 : decode cX11_refresh 124 = .ok (.getfield 93, 3) := dk_180 0 93 (dk_at dksX11_refresh_5 9 rfl rfl)
theorem dX11_refresh_127 : decode cX11_refresh 127 = .ok (.ireturn, 1) := dk_172 (dk_at dksX11_refresh_5 12 rfl rfl)
theorem dX11_refresh_128 : decode cX11_refresh 128 = .ok (.aload_n 0, 1) := dk_42 (dk_at dksX11_refresh_5 13 rfl rfl)
theorem dX11_refresh_129 : decode cX11_refresh 129 = .ok (.invokevirtual 105, 3) := dk_182 0 105 (dk_at dksX11_refresh_5 14 rfl rfl)
theorem dX11_refresh_132 : decode cX11_refresh 132 = .ok (.pop, 1) := dk_87 (dk_at dksX11_refresh_5 17 rfl rfl)
theorem dX11_refresh_133 : decode cX11_refresh 133 = .ok (.iconst (-1), 1) := dk_2 (dk_at dksX11_refresh_5 18 rfl rfl)
theorem dX11_refresh_134 : decode cX11_refresh 134 = .ok (.ireturn, 1) := dk_172 (dk_at dksX11_refresh_5 19 rfl rfl)
theorem q114 : (Jvm.Cond.initialized "KeyringCourt$Family") ∈ lw_all := lw_g (lw_at lw_m1 44 rfl) rfl
theorem q689 : (Jvm.Cond.fieldLinkNest "KeyringCourt$Family" (52 : Nat) "KeyringCourt" "tokens" "Ljava/util/List;" "KeyringCourt") ∈ lw_tbl := lw_at lw_m3 139 rfl
theorem q692 : (Jvm.Cond.fieldLinkNest "KeyringCourt$Family" (117 : Nat) "KeyringCourt" "services" "[LKeyringCourt$Service;" "KeyringCourt") ∈ lw_tbl := lw_at lw_m3 142 rfl
theorem q702 : (Jvm.Cond.fieldLinkNest "KeyringCourt$Family" (81 : Nat) "KeyringCourt" "now" "I" "KeyringCourt") ∈ lw_tbl := lw_at lw_m3 152 rfl
theorem q711 : (Jvm.Cond.fieldLinkNest "KeyringCourt$Family" (58 : Nat) "KeyringCourt" "signing" "I" "KeyringCourt") ∈ lw_tbl := lw_at lw_m3 161 rfl
theorem q900 : (Jvm.Cond.selects "KeyringCourt$Family" ({ cls := "java/lang/Object", name := "getClass", desc := "()Ljava/lang/Class;" } : Jvm.MethodName) ({ cls := "java/lang/Object", name := "getClass", desc := "()Ljava/lang/Class;" } : Jvm.MethodName)) ∈ lw_all := lw_g (lw_at lw_m4 110 rfl) rfl
theorem q1058 : (Jvm.Cond.instanceMethod ({ cls := "KeyringCourt$Family", name := "end", desc := "()Z" } : Jvm.MethodName)) ∈ lw_all := lw_g (lw_at lw_m5 28 rfl) rfl
theorem q1059 : (Jvm.Cond.selects "KeyringCourt$Family" ({ cls := "KeyringCourt$Family", name := "end", desc := "()Z" } : Jvm.MethodName) ({ cls := "KeyringCourt$Family", name := "end", desc := "()Z" } : Jvm.MethodName)) ∈ lw_all := lw_g (lw_at lw_m5 29 rfl) rfl
theorem q1060 : (Jvm.Cond.code ({ cls := "KeyringCourt$Family", name := "end", desc := "()Z" } : Jvm.MethodName) prog_4_method_5_code (2 : Nat) (Option.some Jvm.ClassFile.FieldType.boolean)) ∈ lw_all := lw_g (lw_at lw_m5 30 rfl) rfl
theorem q1061 : (Jvm.Cond.methodLinkNest "KeyringCourt$Family" (109 : Nat) ({ cls := "KeyringCourt", name := "write", desc := "(II)V" } : Jvm.MethodName) "KeyringCourt") ∈ lw_tbl := lw_at lw_m5 31 rfl
theorem q1062 : (Jvm.Cond.methodLink "KeyringCourt$Family" (113 : Nat) ({ cls := "java/util/BitSet", name := "nextSetBit", desc := "(I)I" } : Jvm.MethodName)) ∈ lw_all := lw_g (lw_at lw_m5 32 rfl) rfl
theorem q1074 : (Jvm.Cond.methodLink "KeyringCourt$Family" (121 : Nat) ({ cls := "KeyringCourt$Service", name := "tell", desc := "(LKeyringCourt$Family;)V" } : Jvm.MethodName)) ∈ lw_all := lw_g (lw_at lw_m5 44 rfl) rfl
theorem q1625 : (Jvm.Cond.fieldLink "KeyringCourt$Family" (102 : Nat) "KeyringCourt$Session" "used" "I") ∈ lw_all := lw_g (lw_at lw_m7 115 rfl) rfl
theorem q1629 : (Jvm.Cond.fieldLink "KeyringCourt$Family" (88 : Nat) "KeyringCourt$Session" "isLive" "Z") ∈ lw_all := lw_g (lw_at lw_m7 119 rfl) rfl
theorem q1863 : (Jvm.Cond.fieldLink "KeyringCourt$Family" (33 : Nat) "KeyringCourt$Grant" "session" "LKeyringCourt$Session;") ∈ lw_all := lw_g (lw_at lw_m8 113 rfl) rfl
theorem q1866 : (Jvm.Cond.fieldLink "KeyringCourt$Family" (40 : Nat) "KeyringCourt$Grant" "client" "I") ∈ lw_all := lw_g (lw_at lw_m8 116 rfl) rfl
theorem q1868 : (Jvm.Cond.fieldLink "KeyringCourt$Family" (44 : Nat) "KeyringCourt$Grant" "audience" "I") ∈ lw_all := lw_g (lw_at lw_m8 118 rfl) rfl
theorem q1870 : (Jvm.Cond.fieldLink "KeyringCourt$Family" (48 : Nat) "KeyringCourt$Grant" "scopes" "I") ∈ lw_all := lw_g (lw_at lw_m8 120 rfl) rfl
theorem q1894 : (Jvm.Cond.instantiable "KeyringCourt$Family" (11 : Nat)) ∈ lw_all := lw_g (lw_at lw_m8 144 rfl) rfl
theorem q1896 : (Jvm.Cond.instanceMethod ({ cls := "KeyringCourt$Family", name := "<init>", desc := "(LKeyringCourt;ILKeyringCourt$Grant;)V" } : Jvm.MethodName)) ∈ lw_all := lw_g (lw_at lw_m8 146 rfl) rfl
theorem q1897 : (Jvm.Cond.code ({ cls := "KeyringCourt$Family", name := "<init>", desc := "(LKeyringCourt;ILKeyringCourt$Grant;)V" } : Jvm.MethodName) prog_4_method_1_code (4 : Nat) (Option.none : Option Jvm.ClassFile.FieldType)) ∈ lw_all := lw_g (lw_at lw_m8 147 rfl) rfl
theorem q1898 : (Jvm.Cond.methodLink "KeyringCourt$Family" (9 : Nat) ({ cls := "java/lang/Object", name := "<init>", desc := "()V" } : Jvm.MethodName)) ∈ lw_all := lw_g (lw_at lw_m8 148 rfl) rfl
theorem q1899 : (Jvm.Cond.classLink "KeyringCourt$Family" (23 : Nat) "java/util/BitSet") ∈ lw_all := lw_g (lw_at lw_m8 149 rfl) rfl
theorem q1900 : (Jvm.Cond.methodLink "KeyringCourt$Family" (25 : Nat) ({ cls := "java/util/BitSet", name := "<init>", desc := "()V" } : Jvm.MethodName)) ∈ lw_all := lw_g (lw_at lw_m8 150 rfl) rfl
theorem q1901 : (Jvm.Cond.fieldLink "KeyringCourt$Family" (30 : Nat) "KeyringCourt$Family" "number" "I") ∈ lw_all := lw_g (lw_at lw_m8 151 rfl) rfl
theorem q1904 : (Jvm.Cond.fieldLink "KeyringCourt$Family" (39 : Nat) "KeyringCourt$Family" "session" "LKeyringCourt$Session;") ∈ lw_all := lw_g (lw_at lw_m8 154 rfl) rfl
theorem q1907 : (Jvm.Cond.fieldLink "KeyringCourt$Family" (43 : Nat) "KeyringCourt$Family" "client" "I") ∈ lw_all := lw_g (lw_at lw_m8 157 rfl) rfl
theorem q1909 : (Jvm.Cond.fieldLink "KeyringCourt$Family" (47 : Nat) "KeyringCourt$Family" "audience" "I") ∈ lw_all := lw_g (lw_at lw_m8 159 rfl) rfl
theorem q1910 : (Jvm.Cond.fieldLink "KeyringCourt$Family" (51 : Nat) "KeyringCourt$Family" "scopes" "I") ∈ lw_all := lw_g (lw_at lw_m8 160 rfl) rfl
theorem q1911 : (Jvm.Cond.fieldLink "KeyringCourt$Family" (15 : Nat) "KeyringCourt$Family" "isGood" "Z") ∈ lw_all := lw_g (lw_at lw_m8 161 rfl) rfl
theorem q1913 : (Jvm.Cond.fieldLink "KeyringCourt$Family" (93 : Nat) "KeyringCourt$Family" "current" "I") ∈ lw_all := lw_g (lw_at lw_m8 163 rfl) rfl
theorem q1915 : (Jvm.Cond.fieldLink "KeyringCourt$Family" (19 : Nat) "KeyringCourt$Family" "turned" "I") ∈ lw_all := lw_g (lw_at lw_m8 165 rfl) rfl
theorem q1916 : (Jvm.Cond.fieldLink "KeyringCourt$Family" (26 : Nat) "KeyringCourt$Family" "audiences" "Ljava/util/BitSet;") ∈ lw_all := lw_g (lw_at lw_m8 166 rfl) rfl
theorem q1917 : (Jvm.Cond.fieldLink "KeyringCourt$Family" (78 : Nat) "KeyringCourt$Family" "latest" "I") ∈ lw_all := lw_g (lw_at lw_m8 167 rfl) rfl
theorem q1919 : (Jvm.Cond.fieldLink "KeyringCourt$Family" (3 : Nat) "KeyringCourt$Family" "this$0" "LKeyringCourt;") ∈ lw_all := lw_g (lw_at lw_m8 169 rfl) rfl
theorem q1920 : (Jvm.Cond.laysFinal "KeyringCourt$Family" "KeyringCourt$Family" "number" "I") ∈ lw_all := lw_g (lw_at lw_m8 170 rfl) rfl
theorem q1921 : (Jvm.Cond.soleField "KeyringCourt$Family" "number") ∈ lw_all := lw_g (lw_at lw_m8 171 rfl) rfl
theorem q1922 : (Jvm.Cond.laysFinal "KeyringCourt$Family" "KeyringCourt$Family" "session" "LKeyringCourt$Session;") ∈ lw_all := lw_g (lw_at lw_m8 172 rfl) rfl
theorem q1923 : (Jvm.Cond.soleField "KeyringCourt$Family" "session") ∈ lw_all := lw_g (lw_at lw_m8 173 rfl) rfl
theorem q1924 : (Jvm.Cond.laysFinal "KeyringCourt$Family" "KeyringCourt$Family" "client" "I") ∈ lw_all := lw_g (lw_at lw_m8 174 rfl) rfl
theorem q1925 : (Jvm.Cond.soleField "KeyringCourt$Family" "client") ∈ lw_all := lw_g (lw_at lw_m8 175 rfl) rfl
theorem q1926 : (Jvm.Cond.laysFinal "KeyringCourt$Family" "KeyringCourt$Family" "audience" "I") ∈ lw_all := lw_g (lw_at lw_m8 176 rfl) rfl
theorem q1927 : (Jvm.Cond.soleField "KeyringCourt$Family" "audience") ∈ lw_all := lw_g (lw_at lw_m8 177 rfl) rfl
theorem q1928 : (Jvm.Cond.laysFinal "KeyringCourt$Family" "KeyringCourt$Family" "scopes" "I") ∈ lw_all := lw_g (lw_at lw_m8 178 rfl) rfl
theorem q1929 : (Jvm.Cond.soleField "KeyringCourt$Family" "scopes") ∈ lw_all := lw_g (lw_at lw_m8 179 rfl) rfl
theorem q1930 : (Jvm.Cond.lays "KeyringCourt$Family" "KeyringCourt$Family" "isGood" "Z") ∈ lw_all := lw_g (lw_at lw_m8 180 rfl) rfl
theorem q1931 : (Jvm.Cond.soleField "KeyringCourt$Family" "isGood") ∈ lw_all := lw_g (lw_at lw_m8 181 rfl) rfl
theorem q1932 : (Jvm.Cond.lays "KeyringCourt$Family" "KeyringCourt$Family" "current" "I") ∈ lw_all := lw_g (lw_at lw_m8 182 rfl) rfl
theorem q1933 : (Jvm.Cond.soleField "KeyringCourt$Family" "current") ∈ lw_all := lw_g (lw_at lw_m8 183 rfl) rfl
theorem q1934 : (Jvm.Cond.lays "KeyringCourt$Family" "KeyringCourt$Family" "turned" "I") ∈ lw_all := lw_g (lw_at lw_m8 184 rfl) rfl
theorem q1935 : (Jvm.Cond.soleField "KeyringCourt$Family" "turned") ∈ lw_all := lw_g (lw_at lw_m8 185 rfl) rfl
theorem q1936 : (Jvm.Cond.laysFinal "KeyringCourt$Family" "KeyringCourt$Family" "audiences" "Ljava/util/BitSet;") ∈ lw_all := lw_g (lw_at lw_m8 186 rfl) rfl
theorem q1937 : (Jvm.Cond.soleField "KeyringCourt$Family" "audiences") ∈ lw_all := lw_g (lw_at lw_m8 187 rfl) rfl
theorem q1938 : (Jvm.Cond.lays "KeyringCourt$Family" "KeyringCourt$Family" "latest" "I") ∈ lw_all := lw_g (lw_at lw_m8 188 rfl) rfl
theorem q1939 : (Jvm.Cond.soleField "KeyringCourt$Family" "latest") ∈ lw_all := lw_g (lw_at lw_m8 189 rfl) rfl
theorem q1940 : (Jvm.Cond.laysFinal "KeyringCourt$Family" "KeyringCourt$Family" "this$0" "LKeyringCourt;") ∈ lw_all := lw_g (lw_at lw_m8 190 rfl) rfl
theorem q1941 : (Jvm.Cond.soleField "KeyringCourt$Family" "this$0") ∈ lw_all := lw_g (lw_at lw_m8 191 rfl) rfl
theorem q1942 : (Jvm.Cond.superclass "KeyringCourt$Family" "java/lang/Object") ∈ lw_all := lw_g (lw_at lw_m8 192 rfl) rfl
theorem q1944 : (Jvm.Cond.instanceMethod ({ cls := "KeyringCourt$Family", name := "make", desc := "()V" } : Jvm.MethodName)) ∈ lw_all := lw_g (lw_at lw_m8 194 rfl) rfl
theorem q1945 : (Jvm.Cond.selects "KeyringCourt$Family" ({ cls := "KeyringCourt$Family", name := "make", desc := "()V" } : Jvm.MethodName) ({ cls := "KeyringCourt$Family", name := "make", desc := "()V" } : Jvm.MethodName)) ∈ lw_all := lw_g (lw_at lw_m8 195 rfl) rfl
theorem q1946 : (Jvm.Cond.code ({ cls := "KeyringCourt$Family", name := "make", desc := "()V" } : Jvm.MethodName) prog_4_method_3_code (1 : Nat) (Option.none : Option Jvm.ClassFile.FieldType)) ∈ lw_all := lw_g (lw_at lw_m8 196 rfl) rfl
theorem q1947 : (Jvm.Cond.methodLink "KeyringCourt$Family" (84 : Nat) ({ cls := "KeyringCourt$Family", name := "make", desc := "(IIIII)I" } : Jvm.MethodName)) ∈ lw_all := lw_g (lw_at lw_m8 197 rfl) rfl
theorem q1948 : (Jvm.Cond.instanceMethod ({ cls := "KeyringCourt$Family", name := "make", desc := "(IIIII)I" } : Jvm.MethodName)) ∈ lw_all := lw_g (lw_at lw_m8 198 rfl) rfl
theorem q1949 : (Jvm.Cond.selects "KeyringCourt$Family" ({ cls := "KeyringCourt$Family", name := "make", desc := "(IIIII)I" } : Jvm.MethodName) ({ cls := "KeyringCourt$Family", name := "make", desc := "(IIIII)I" } : Jvm.MethodName)) ∈ lw_all := lw_g (lw_at lw_m8 199 rfl) rfl
theorem q1950 : (Jvm.Cond.code ({ cls := "KeyringCourt$Family", name := "make", desc := "(IIIII)I" } : Jvm.MethodName) prog_4_method_2_code (6 : Nat) (Option.some Jvm.ClassFile.FieldType.int)) ∈ lw_all := lw_g (lw_at lw_m8 200 rfl) rfl
theorem q1951 : (Jvm.Cond.classLink "KeyringCourt$Family" (56 : Nat) "KeyringCourt$Token") ∈ lw_all := lw_g (lw_at lw_m8 201 rfl) rfl
theorem q1953 : (Jvm.Cond.methodLink "KeyringCourt$Family" (61 : Nat) ({ cls := "KeyringCourt$Token", name := "<init>", desc := "(LKeyringCourt$Family;IIIIII)V" } : Jvm.MethodName)) ∈ lw_all := lw_g (lw_at lw_m8 203 rfl) rfl
theorem q1989 : (Jvm.Cond.interfaceEntry "KeyringCourt$Family" (64 : Nat)) ∈ lw_tbl := lw_at lw_m8 239 rfl
theorem q1990 : (Jvm.Cond.methodLink "KeyringCourt$Family" (64 : Nat) ({ cls := "java/util/List", name := "add", desc := "(Ljava/lang/Object;)Z" } : Jvm.MethodName)) ∈ lw_all := lw_g (lw_at lw_m9 0 rfl) rfl
theorem q1991 : (Jvm.Cond.methodLink "KeyringCourt$Family" (70 : Nat) ({ cls := "java/util/BitSet", name := "set", desc := "(I)V" } : Jvm.MethodName)) ∈ lw_all := lw_g (lw_at lw_m9 1 rfl) rfl
theorem q1992 : (Jvm.Cond.interfaceEntry "KeyringCourt$Family" (74 : Nat)) ∈ lw_tbl := lw_at lw_m9 2 rfl
theorem q1993 : (Jvm.Cond.methodLink "KeyringCourt$Family" (74 : Nat) ({ cls := "java/util/List", name := "size", desc := "()I" } : Jvm.MethodName)) ∈ lw_all := lw_g (lw_at lw_m9 3 rfl) rfl
theorem q2002 : (Jvm.Cond.instanceMethod ({ cls := "KeyringCourt$Family", name := "refresh", desc := "(I)I" } : Jvm.MethodName)) ∈ lw_all := lw_g (lw_at lw_m9 12 rfl) rfl
theorem q2003 : (Jvm.Cond.selects "KeyringCourt$Family" ({ cls := "KeyringCourt$Family", name := "refresh", desc := "(I)I" } : Jvm.MethodName) ({ cls := "KeyringCourt$Family", name := "refresh", desc := "(I)I" } : Jvm.MethodName)) ∈ lw_all := lw_g (lw_at lw_m9 13 rfl) rfl
theorem q2004 : (Jvm.Cond.code ({ cls := "KeyringCourt$Family", name := "refresh", desc := "(I)I" } : Jvm.MethodName) prog_4_method_4_code (2 : Nat) (Option.some Jvm.ClassFile.FieldType.int)) ∈ lw_all := lw_g (lw_at lw_m9 14 rfl) rfl
theorem q2005 : (Jvm.Cond.methodLinkNest "KeyringCourt$Family" (96 : Nat) ({ cls := "KeyringCourt", name := "can", desc := "(Z)V" } : Jvm.MethodName) "KeyringCourt") ∈ lw_tbl := lw_at lw_m9 15 rfl
theorem q2006 : (Jvm.Cond.methodLink "KeyringCourt$Family" (100 : Nat) ({ cls := "KeyringCourt$Family", name := "make", desc := "()V" } : Jvm.MethodName)) ∈ lw_all := lw_g (lw_at lw_m9 16 rfl) rfl
theorem q2007 : (Jvm.Cond.methodLink "KeyringCourt$Family" (105 : Nat) ({ cls := "KeyringCourt$Family", name := "end", desc := "()Z" } : Jvm.MethodName)) ∈ lw_all := lw_g (lw_at lw_m9 17 rfl) rfl
theorem q3072 : (Jvm.Cond.castable "KeyringCourt$Family" "java/lang/Object") ∈ lw_tbl := lw_at lw_m13 122 rfl
theorem in_X11 : ∀ w ∈ wsX110, w ∈ lw_all := lw_in wsX110 [1920, 1922, 1924, 1926, 1928, 1930, 1932, 1934, 1936, 1938, 1940] (by decide +kernel) (by decide +kernel)
/-! KeyringCourt$Token -/
set_option maxRecDepth 100000
def RX12 : String := "KeyringCourt$Token"
def TX12 : u_T := fun k => match k with
  | 0 => ("KeyringCourt$Token", "family", "LKeyringCourt$Family;", true)
  | 1 => ("KeyringCourt$Token", "client", "I", true)
  | 2 => ("KeyringCourt$Token", "audience", "I", true)
  | 3 => ("KeyringCourt$Token", "scopes", "I", true)
  | 4 => ("KeyringCourt$Token", "acted", "I", true)
  | 5 => ("KeyringCourt$Token", "key", "I", true)
  | _ => ("KeyringCourt$Token", "end", "I", true)
def tyX12 : Nat → FieldType := fun k => match k with
  | 0 => .object "KeyringCourt$Family"
  | 1 => .int
  | 2 => .int
  | 3 => .int
  | 4 => .int
  | 5 => .int
  | _ => .int
abbrev wsX120 : List Cond := u_ws RX12 TX12 7
theorem nmX12 : ∀ a, a < 7 → ∀ b, b < 7 → a ≠ b → (TX12 a).2.1 ≠ (TX12 b).2.1 := by decide +kernel
theorem tyX12_ok : ∀ k, k < 7 → parseFieldDescriptor (TX12 k).2.2.1 = some (tyX12 k) := by decide +kernel
abbrev cX12_init : ByteArray := prog_12_method_1_code
def yX12_init : MethodName := ⟨RX12, "<init>", "(LKeyringCourt$Family;IIIIII)V"⟩
def dkwX12_init_1 : List UInt8 := [181, 0, 20, 42, 21, 5, 181, 0, 23, 42, 21, 6, 181, 0, 26, 42, 21, 7, 181, 0, 29, 177]
abbrev dktX12_init_1 : List UInt8 := dkwX12_init_1 ++ []
def dkwX12_init_0 : List UInt8 := [42, 183, 0, 1, 42, 43, 181, 0, 7, 42, 28, 181, 0, 13, 42, 29, 181, 0, 17, 42, 21, 4]
abbrev dktX12_init_0 : List UInt8 := dkwX12_init_0 ++ dktX12_init_1
theorem dksX12_init_0 : cX12_init.data.toList.drop 0 = dktX12_init_0 := by decide +kernel
theorem dksX12_init_1 : cX12_init.data.toList.drop 22 = dktX12_init_1 := dk_seg dksX12_init_0 22 rfl rfl
theorem dX12_init_0 : decode cX12_init 0 = .ok (.aload_n 0, 1) := dk_42 (dk_at dksX12_init_0 0 rfl rfl)
theorem dX12_init_1 : decode cX12_init 1 = .ok (.invokespecial 1, 3) := dk_183 0 1 (dk_at dksX12_init_0 1 rfl rfl)
theorem dX12_init_4 : decode cX12_init 4 = .ok (.aload_n 0, 1) := dk_42 (dk_at dksX12_init_0 4 rfl rfl)
theorem dX12_init_5 : decode cX12_init 5 = .ok (.aload_n 1, 1) := dk_43 (dk_at dksX12_init_0 5 rfl rfl)
theorem dX12_init_6 : decode cX12_init 6 = .ok (.putfield 7, 3) := dk_181 0 7 (dk_at dksX12_init_0 6 rfl rfl)
theorem dX12_init_9 : decode cX12_init 9 = .ok (.aload_n 0, 1) := dk_42 (dk_at dksX12_init_0 9 rfl rfl)
theorem dX12_init_10 : decode cX12_init 10 = .ok (.iload_n 2, 1) := dk_28 (dk_at dksX12_init_0 10 rfl rfl)
theorem dX12_init_11 : decode cX12_init 11 = .ok (.putfield 13, 3) := dk_181 0 13 (dk_at dksX12_init_0 11 rfl rfl)
theorem dX12_init_14 : decode cX12_init 14 = .ok (.aload_n 0, 1) := dk_42 (dk_at dksX12_init_0 14 rfl rfl)
theorem dX12_init_15 : decode cX12_init 15 = .ok (.iload_n 3, 1) := dk_29 (dk_at dksX12_init_0 15 rfl rfl)
theorem dX12_init_16 : decode cX12_init 16 = .ok (.putfield 17, 3) := dk_181 0 17 (dk_at dksX12_init_0 16 rfl rfl)
theorem dX12_init_19 : decode cX12_init 19 = .ok (.aload_n 0, 1) := dk_42 (dk_at dksX12_init_0 19 rfl rfl)
theorem dX12_init_20 : decode cX12_init 20 = .ok (.iload 4, 2) := dk_21 4 (dk_at dksX12_init_0 20 rfl rfl)
theorem dX12_init_22 : decode cX12_init 22 = .ok (.putfield 20, 3) := dk_181 0 20 (dk_at dksX12_init_1 0 rfl rfl)
theorem dX12_init_25 : decode cX12_init 25 = .ok (.aload_n 0, 1) := dk_42 (dk_at dksX12_init_1 3 rfl rfl)
theorem dX12_init_26 : decode cX12_init 26 = .ok (.iload 5, 2) := dk_21 5 (dk_at dksX12_init_1 4 rfl rfl)
theorem dX12_init_28 : decode cX12_init 28 = .ok (.putfield 23, 3) := dk_181 0 23 (dk_at dksX12_init_1 6 rfl rfl)
theorem dX12_init_31 : decode cX12_init 31 = .ok (.aload_n 0, 1) := dk_42 (dk_at dksX12_init_1 9 rfl rfl)
theorem dX12_init_32 : decode cX12_init 32 = .ok (.iload 6, 2) := dk_21 6 (dk_at dksX12_init_1 10 rfl rfl)
theorem dX12_init_34 : decode cX12_init 34 = .ok (.putfield 26, 3) := dk_181 0 26 (dk_at dksX12_init_1 12 rfl rfl)
theorem dX12_init_37 : decode cX12_init 37 = .ok (.aload_n 0, 1) := dk_42 (dk_at dksX12_init_1 15 rfl rfl)
theorem dX12_init_38 : decode cX12_init 38 = .ok (.iload 7, 2) := dk_21 7 (dk_at dksX12_init_1 16 rfl rfl)
theorem dX12_init_40 : decode cX12_init 40 = .ok (.putfield 29, 3) := dk_181 0 29 (dk_at dksX12_init_1 18 rfl rfl)
theorem dX12_init_43 : decode cX12_init 43 = .ok (.return_, 1) := dk_177 (dk_at dksX12_init_1 21 rfl rfl)
theorem q115 : (Jvm.Cond.initialized "KeyringCourt$Token") ∈ lw_all := lw_g (lw_at lw_m1 45 rfl) rfl
theorem q908 : (Jvm.Cond.selects "KeyringCourt$Token" ({ cls := "java/lang/Object", name := "getClass", desc := "()Ljava/lang/Class;" } : Jvm.MethodName) ({ cls := "java/lang/Object", name := "getClass", desc := "()Ljava/lang/Class;" } : Jvm.MethodName)) ∈ lw_all := lw_g (lw_at lw_m4 118 rfl) rfl
theorem q1952 : (Jvm.Cond.instantiable "KeyringCourt$Token" (7 : Nat)) ∈ lw_all := lw_g (lw_at lw_m8 202 rfl) rfl
theorem q1954 : (Jvm.Cond.instanceMethod ({ cls := "KeyringCourt$Token", name := "<init>", desc := "(LKeyringCourt$Family;IIIIII)V" } : Jvm.MethodName)) ∈ lw_all := lw_g (lw_at lw_m8 204 rfl) rfl
theorem q1955 : (Jvm.Cond.code ({ cls := "KeyringCourt$Token", name := "<init>", desc := "(LKeyringCourt$Family;IIIIII)V" } : Jvm.MethodName) prog_12_method_1_code (8 : Nat) (Option.none : Option Jvm.ClassFile.FieldType)) ∈ lw_all := lw_g (lw_at lw_m8 205 rfl) rfl
theorem q1956 : (Jvm.Cond.methodLink "KeyringCourt$Token" (1 : Nat) ({ cls := "java/lang/Object", name := "<init>", desc := "()V" } : Jvm.MethodName)) ∈ lw_all := lw_g (lw_at lw_m8 206 rfl) rfl
theorem q1957 : (Jvm.Cond.fieldLink "KeyringCourt$Token" (7 : Nat) "KeyringCourt$Token" "family" "LKeyringCourt$Family;") ∈ lw_all := lw_g (lw_at lw_m8 207 rfl) rfl
theorem q1960 : (Jvm.Cond.fieldLink "KeyringCourt$Token" (13 : Nat) "KeyringCourt$Token" "client" "I") ∈ lw_all := lw_g (lw_at lw_m8 210 rfl) rfl
theorem q1962 : (Jvm.Cond.fieldLink "KeyringCourt$Token" (17 : Nat) "KeyringCourt$Token" "audience" "I") ∈ lw_all := lw_g (lw_at lw_m8 212 rfl) rfl
theorem q1964 : (Jvm.Cond.fieldLink "KeyringCourt$Token" (20 : Nat) "KeyringCourt$Token" "scopes" "I") ∈ lw_all := lw_g (lw_at lw_m8 214 rfl) rfl
theorem q1967 : (Jvm.Cond.fieldLink "KeyringCourt$Token" (23 : Nat) "KeyringCourt$Token" "acted" "I") ∈ lw_all := lw_g (lw_at lw_m8 217 rfl) rfl
theorem q1969 : (Jvm.Cond.fieldLink "KeyringCourt$Token" (26 : Nat) "KeyringCourt$Token" "key" "I") ∈ lw_all := lw_g (lw_at lw_m8 219 rfl) rfl
theorem q1971 : (Jvm.Cond.fieldLink "KeyringCourt$Token" (29 : Nat) "KeyringCourt$Token" "end" "I") ∈ lw_all := lw_g (lw_at lw_m8 221 rfl) rfl
theorem q1974 : (Jvm.Cond.laysFinal "KeyringCourt$Token" "KeyringCourt$Token" "family" "LKeyringCourt$Family;") ∈ lw_all := lw_g (lw_at lw_m8 224 rfl) rfl
theorem q1975 : (Jvm.Cond.soleField "KeyringCourt$Token" "family") ∈ lw_all := lw_g (lw_at lw_m8 225 rfl) rfl
theorem q1976 : (Jvm.Cond.laysFinal "KeyringCourt$Token" "KeyringCourt$Token" "client" "I") ∈ lw_all := lw_g (lw_at lw_m8 226 rfl) rfl
theorem q1977 : (Jvm.Cond.soleField "KeyringCourt$Token" "client") ∈ lw_all := lw_g (lw_at lw_m8 227 rfl) rfl
theorem q1978 : (Jvm.Cond.laysFinal "KeyringCourt$Token" "KeyringCourt$Token" "audience" "I") ∈ lw_all := lw_g (lw_at lw_m8 228 rfl) rfl
theorem q1979 : (Jvm.Cond.soleField "KeyringCourt$Token" "audience") ∈ lw_all := lw_g (lw_at lw_m8 229 rfl) rfl
theorem q1980 : (Jvm.Cond.laysFinal "KeyringCourt$Token" "KeyringCourt$Token" "scopes" "I") ∈ lw_all := lw_g (lw_at lw_m8 230 rfl) rfl
theorem q1981 : (Jvm.Cond.soleField "KeyringCourt$Token" "scopes") ∈ lw_all := lw_g (lw_at lw_m8 231 rfl) rfl
theorem q1982 : (Jvm.Cond.laysFinal "KeyringCourt$Token" "KeyringCourt$Token" "acted" "I") ∈ lw_all := lw_g (lw_at lw_m8 232 rfl) rfl
theorem q1983 : (Jvm.Cond.soleField "KeyringCourt$Token" "acted") ∈ lw_all := lw_g (lw_at lw_m8 233 rfl) rfl
theorem q1984 : (Jvm.Cond.laysFinal "KeyringCourt$Token" "KeyringCourt$Token" "key" "I") ∈ lw_all := lw_g (lw_at lw_m8 234 rfl) rfl
theorem q1985 : (Jvm.Cond.soleField "KeyringCourt$Token" "key") ∈ lw_all := lw_g (lw_at lw_m8 235 rfl) rfl
theorem q1986 : (Jvm.Cond.laysFinal "KeyringCourt$Token" "KeyringCourt$Token" "end" "I") ∈ lw_all := lw_g (lw_at lw_m8 236 rfl) rfl
theorem q1987 : (Jvm.Cond.soleField "KeyringCourt$Token" "end") ∈ lw_all := lw_g (lw_at lw_m8 237 rfl) rfl
theorem q1988 : (Jvm.Cond.superclass "KeyringCourt$Token" "java/lang/Object") ∈ lw_all := lw_g (lw_at lw_m8 238 rfl) rfl
theorem q3073 : (Jvm.Cond.castable "KeyringCourt$Token" "java/lang/Object") ∈ lw_tbl := lw_at lw_m13 123 rfl
theorem in_X12 : ∀ w ∈ wsX120, w ∈ lw_all := lw_in wsX120 [1974, 1976, 1978, 1980, 1982, 1984, 1986] (by decide +kernel) (by decide +kernel)
/-! KeyringCourt$Recovery -/
set_option maxRecDepth 100000
def RX13 : String := "KeyringCourt$Recovery"
def TX13 : u_T := fun k => match k with
  | 0 => ("KeyringCourt$Recovery", "person", "LKeyringCourt$Person;", true)
  | 1 => ("KeyringCourt$Recovery", "begun", "I", true)
  | 2 => ("KeyringCourt$Recovery", "isOpen", "Z", false)
  | 3 => ("KeyringCourt$Recovery", "people", "Ljava/util/BitSet;", true)
  | 4 => ("KeyringCourt$Recovery", "levels", "I", false)
  | _ => ("KeyringCourt$Recovery", "this$0", "LKeyringCourt;", true)
def tyX13 : Nat → FieldType := fun k => match k with
  | 0 => .object "KeyringCourt$Person"
  | 1 => .int
  | 2 => .boolean
  | 3 => .object "java/util/BitSet"
  | 4 => .int
  | _ => .object "KeyringCourt"
abbrev wsX130 : List Cond := u_ws RX13 TX13 6
theorem nmX13 : ∀ a, a < 6 → ∀ b, b < 6 → a ≠ b → (TX13 a).2.1 ≠ (TX13 b).2.1 := by decide +kernel
theorem tyX13_ok : ∀ k, k < 6 → parseFieldDescriptor (TX13 k).2.2.1 = some (tyX13 k) := by decide +kernel
abbrev cX13_init : ByteArray := prog_8_method_1_code
def yX13_init : MethodName := ⟨RX13, "<init>", "(LKeyringCourt;LKeyringCourt$Person;)V"⟩
def dkwX13_init_1 : List UInt8 := [181, 0, 22, 42, 187, 0, 26, 89, 183, 0, 28, 181, 0, 29, 42, 44, 181, 0, 33, 177]
abbrev dktX13_init_1 : List UInt8 := dkwX13_init_1 ++ []
def dkwX13_init_0 : List UInt8 := [42, 43, 181, 0, 3, 42, 183, 0, 9, 42, 42, 180, 0, 3, 180, 0, 15, 181, 0, 19, 42, 4]
abbrev dktX13_init_0 : List UInt8 := dkwX13_init_0 ++ dktX13_init_1
theorem dksX13_init_0 : cX13_init.data.toList.drop 0 = dktX13_init_0 := by decide +kernel
theorem dksX13_init_1 : cX13_init.data.toList.drop 22 = dktX13_init_1 := dk_seg dksX13_init_0 22 rfl rfl
theorem dX13_init_0 : decode cX13_init 0 = .ok (.aload_n 0, 1) := dk_42 (dk_at dksX13_init_0 0 rfl rfl)
theorem dX13_init_1 : decode cX13_init 1 = .ok (.aload_n 1, 1) := dk_43 (dk_at dksX13_init_0 1 rfl rfl)
theorem dX13_init_2 : decode cX13_init 2 = .ok (.putfield 3, 3) := dk_181 0 3 (dk_at dksX13_init_0 2 rfl rfl)
theorem dX13_init_5 : decode cX13_init 5 = .ok (.aload_n 0, 1) := dk_42 (dk_at dksX13_init_0 5 rfl rfl)
theorem dX13_init_6 : decode cX13_init 6 = .ok (.invokespecial 9, 3) := dk_183 0 9 (dk_at dksX13_init_0 6 rfl rfl)
theorem dX13_init_9 : decode cX13_init 9 = .ok (.aload_n 0, 1) := dk_42 (dk_at dksX13_init_0 9 rfl rfl)
theorem dX13_init_10 : decode cX13_init 10 = .ok (.aload_n 0, 1) := dk_42 (dk_at dksX13_init_0 10 rfl rfl)
theorem dX13_init_11 : decode cX13_init 11 = .ok (.getfield 3, 3) := dk_180 0 3 (dk_at dksX13_init_0 11 rfl rfl)
theorem dX13_init_14 : decode cX13_init 14 = .ok (.getfield 15, 3) := dk_180 0 15 (dk_at dksX13_init_0 14 rfl rfl)
theorem dX13_init_17 : decode cX13_init 17 = .ok (.putfield 19, 3) := dk_181 0 19 (dk_at dksX13_init_0 17 rfl rfl)
theorem dX13_init_20 : decode cX13_init 20 = .ok (.aload_n 0, 1) := dk_42 (dk_at dksX13_init_0 20 rfl rfl)
theorem dX13_init_21 : decode cX13_init 21 = .ok (.iconst 1, 1) := dk_4 (dk_at dksX13_init_0 21 rfl rfl)
theorem dX13_init_22 : decode cX13_init 22 = .ok (.putfield 22, 3) := dk_181 0 22 (dk_at dksX13_init_1 0 rfl rfl)
theorem dX13_init_25 : decode cX13_init 25 = .ok (.aload_n 0, 1) := dk_42 (dk_at dksX13_init_1 3 rfl rfl)
theorem dX13_init_26 : decode cX13_init 26 = .ok (.new 26, 3) := dk_187 0 26 (dk_at dksX13_init_1 4 rfl rfl)
theorem dX13_init_29 : decode cX13_init 29 = .ok (.dup, 1) := dk_89 (dk_at dksX13_init_1 7 rfl rfl)
theorem dX13_init_30 : decode cX13_init 30 = .ok (.invokespecial 28, 3) := dk_183 0 28 (dk_at dksX13_init_1 8 rfl rfl)
theorem dX13_init_33 : decode cX13_init 33 = .ok (.putfield 29, 3) := dk_181 0 29 (dk_at dksX13_init_1 11 rfl rfl)
theorem dX13_init_36 : decode cX13_init 36 = .ok (.aload_n 0, 1) := dk_42 (dk_at dksX13_init_1 14 rfl rfl)
theorem dX13_init_37 : decode cX13_init 37 = .ok (.aload_n 2, 1) := dk_44 (dk_at dksX13_init_1 15 rfl rfl)
theorem dX13_init_38 : decode cX13_init 38 = .ok (.putfield 33, 3) := dk_181 0 33 (dk_at dksX13_init_1 16 rfl rfl)
theorem dX13_init_41 : decode cX13_init 41 = .ok (.return_, 1) := dk_177 (dk_at dksX13_init_1 19 rfl rfl)
abbrev cX13_isVouchedBy : ByteArray := prog_8_method_3_code
def yX13_isVouchedBy : MethodName := ⟨RX13, "isVouchedBy", "(LKeyringCourt$Session;)Z"⟩
def dkwX13_isVouchedBy_2 : List UInt8 := [180, 0, 29, 43, 180, 0, 46, 180, 0, 51, 182, 0, 56, 154, 0, 7, 4, 167, 0, 4, 3, 172]
abbrev dktX13_isVouchedBy_2 : List UInt8 := dkwX13_isVouchedBy_2 ++ []
def dkwX13_isVouchedBy_1 : List UInt8 := [165, 0, 15, 43, 182, 0, 47, 6, 161, 0, 7, 4, 167, 0, 4, 3, 61, 28, 153, 0, 24, 42]
abbrev dktX13_isVouchedBy_1 : List UInt8 := dkwX13_isVouchedBy_1 ++ dktX13_isVouchedBy_2
def dkwX13_isVouchedBy_0 : List UInt8 := [43, 180, 0, 37, 153, 0, 33, 43, 180, 0, 42, 199, 0, 26, 43, 180, 0, 46, 42, 180, 0, 33]
abbrev dktX13_isVouchedBy_0 : List UInt8 := dkwX13_isVouchedBy_0 ++ dktX13_isVouchedBy_1
theorem dksX13_isVouchedBy_0 : cX13_isVouchedBy.data.toList.drop 0 = dktX13_isVouchedBy_0 := by decide +kernel
theorem dksX13_isVouchedBy_1 : cX13_isVouchedBy.data.toList.drop 22 = dktX13_isVouchedBy_1 := dk_seg dksX13_isVouchedBy_0 22 rfl rfl
theorem dksX13_isVouchedBy_2 : cX13_isVouchedBy.data.toList.drop 44 = dktX13_isVouchedBy_2 := dk_seg dksX13_isVouchedBy_1 22 rfl rfl
theorem dX13_isVouchedBy_0 : decode cX13_isVouchedBy 0 = .ok (.aload_n 1, 1) := dk_43 (dk_at dksX13_isVouchedBy_0 0 rfl rfl)
theorem dX13_isVouchedBy_1 : decode cX13_isVouchedBy 1 = .ok (.getfield 37, 3) := dk_180 0 37 (dk_at dksX13_isVouchedBy_0 1 rfl rfl)
theorem dX13_isVouchedBy_4 : decode cX13_isVouchedBy 4 = .ok (.ifCond .eq 33, 3) := dk_153 0 33 (dk_at dksX13_isVouchedBy_0 4 rfl rfl)
theorem dX13_isVouchedBy_7 : decode cX13_isVouchedBy 7 = .ok (.aload_n 1, 1) := dk_43 (dk_at dksX13_isVouchedBy_0 7 rfl rfl)
theorem dX13_isVouchedBy_8 : decode cX13_isVouchedBy 8 = .ok (.getfield 42, 3) := dk_180 0 42 (dk_at dksX13_isVouchedBy_0 8 rfl rfl)
theorem dX13_isVouchedBy_11 : decode cX13_isVouchedBy 11 = .ok (.ifnonnull 26, 3) := dk_199 0 26 (dk_at dksX13_isVouchedBy_0 11 rfl rfl)
theorem dX13_isVouchedBy_14 : decode cX13_isVouchedBy 14 = .ok (.aload_n 1, 1) := dk_43 (dk_at dksX13_isVouchedBy_0 14 rfl rfl)
theorem dX13_isVouchedBy_15 : decode cX13_isVouchedBy 15 = .ok (.getfield 46, 3) := dk_180 0 46 (dk_at dksX13_isVouchedBy_0 15 rfl rfl)
theorem dX13_isVouchedBy_18 : decode cX13_isVouchedBy 18 = .ok (.aload_n 0, 1) := dk_42 (dk_at dksX13_isVouchedBy_0 18 rfl rfl)
theorem dX13_isVouchedBy_19 : decode cX13_isVouchedBy 19 = .ok (.getfield 33, 3) := dk_180 0 33 (dk_at dksX13_isVouchedBy_0 19 rfl rfl)
theorem dX13_isVouchedBy_22 : decode cX13_isVouchedBy 22 = .ok (.if_acmp .eq 15, 3) := dk_165 0 15 (dk_at dksX13_isVouchedBy_1 0 rfl rfl)
theorem dX13_isVouchedBy_25 : decode cX13_isVouchedBy 25 = .ok (.aload_n 1, 1) := dk_43 (dk_at dksX13_isVouchedBy_1 3 rfl rfl)
theorem dX13_isVouchedBy_26 : decode cX13_isVouchedBy 26 = .ok (.invokevirtual 47, 3) := dk_182 0 47 (dk_at dksX13_isVouchedBy_1 4 rfl rfl)
theorem dX13_isVouchedBy_29 : decode cX13_isVouchedBy 29 = .ok (.iconst 3, 1) := dk_6 (dk_at dksX13_isVouchedBy_1 7 rfl rfl)
theorem dX13_isVouchedBy_30 : decode cX13_isVouchedBy 30 = .ok (.if_icmp .lt 7, 3) := dk_161 0 7 (dk_at dksX13_isVouchedBy_1 8 rfl rfl)
theorem dX13_isVouchedBy_33 : decode cX13_isVouchedBy 33 = .ok (.iconst 1, 1) := dk_4 (dk_at dksX13_isVouchedBy_1 11 rfl rfl)
theorem dX13_isVouchedBy_34 : decode cX13_isVouchedBy 34 = .ok (.goto 4, 3) := dk_167 0 4 (dk_at dksX13_isVouchedBy_1 12 rfl rfl)
theorem dX13_isVouchedBy_37 : decode cX13_isVouchedBy 37 = .ok (.iconst 0, 1) := dk_3 (dk_at dksX13_isVouchedBy_1 15 rfl rfl)
theorem dX13_isVouchedBy_38 : decode cX13_isVouchedBy 38 = .ok (.istore_n 2, 1) := dk_61 (dk_at dksX13_isVouchedBy_1 16 rfl rfl)
theorem dX13_isVouchedBy_39 : decode cX13_isVouchedBy 39 = .ok (.iload_n 2, 1) := dk_28 (dk_at dksX13_isVouchedBy_1 17 rfl rfl)
theorem dX13_isVouchedBy_40 : decode cX13_isVouchedBy 40 = .ok (.ifCond .eq 24, 3) := dk_153 0 24 (dk_at dksX13_isVouchedBy_1 18 rfl rfl)
theorem dX13_isVouchedBy_43 : decode cX13_isVouchedBy 43 = .ok (.aload_n 0, 1) := dk_42 (dk_at dksX13_isVouchedBy_1 21 rfl rfl)
theorem dX13_isVouchedBy_44 : decode cX13_isVouchedBy 44 = .ok (.getfield 29, 3) := dk_180 0 29 (dk_at dksX13_isVouchedBy_2 0 rfl rfl)
theorem dX13_isVouchedBy_47 : decode cX13_isVouchedBy 47 = .ok (.aload_n 1, 1) := dk_43 (dk_at dksX13_isVouchedBy_2 3 rfl rfl)
theorem dX13_isVouchedBy_48 : decode cX13_isVouchedBy 48 = .ok (.getfield 46, 3) := dk_180 0 46 (dk_at dksX13_isVouchedBy_2 4 rfl rfl)
theorem dX13_isVouchedBy_51 : decode cX13_isVouchedBy 51 = .ok (.getfield 51, 3) := dk_180 0 51 (dk_at dksX13_isVouchedBy_2 7 rfl rfl)
theorem dX13_isVouchedBy_54 : decode cX13_isVouchedBy 54 = .ok (.invokevirtual 56, 3) := dk_182 0 56 (dk_at dksX13_isVouchedBy_2 10 rfl rfl)
theorem dX13_isVouchedBy_57 : decode cX13_isVouchedBy 57 = .ok (.ifCond .ne 7, 3) := dk_154 0 7 (dk_at dksX13_isVouchedBy_2 13 rfl rfl)
theorem dX13_isVouchedBy_60 : decode cX13_isVouchedBy 60 = .ok (.iconst 1, 1) := dk_4 (dk_at dksX13_isVouchedBy_2 16 rfl rfl)
theorem dX13_isVouchedBy_61 : decode cX13_isVouchedBy 61 = .ok (.goto 4, 3) := dk_167 0 4 (dk_at dksX13_isVouchedBy_2 17 rfl rfl)
theorem dX13_isVouchedBy_64 : decode cX13_isVouchedBy 64 = .ok (.iconst 0, 1) := dk_3 (dk_at dksX13_isVouchedBy_2 20 rfl rfl)
theorem dX13_isVouchedBy_65 : decode cX13_isVouchedBy 65 = .ok (.ireturn, 1) := dk_172 (dk_at dksX13_isVouchedBy_2 21 rfl rfl)
abbrev cX13_vouch : ByteArray := prog_8_method_4_code
def yX13_vouch : MethodName := ⟨RX13, "vouch", "(LKeyringCourt$Session;)I"⟩
def dkwX13_vouch_1 : List UInt8 := [181, 0, 64, 42, 180, 0, 64, 172]
abbrev dktX13_vouch_1 : List UInt8 := dkwX13_vouch_1 ++ []
def dkwX13_vouch_0 : List UInt8 := [42, 180, 0, 29, 43, 180, 0, 46, 180, 0, 51, 182, 0, 60, 42, 89, 180, 0, 64, 43, 182, 0, 47, 96]
abbrev dktX13_vouch_0 : List UInt8 := dkwX13_vouch_0 ++ dktX13_vouch_1
theorem dksX13_vouch_0 : cX13_vouch.data.toList.drop 0 = dktX13_vouch_0 := by decide +kernel
theorem dksX13_vouch_1 : cX13_vouch.data.toList.drop 24 = dktX13_vouch_1 := dk_seg dksX13_vouch_0 24 rfl rfl
theorem dX13_vouch_0 : decode cX13_vouch 0 = .ok (.aload_n 0, 1) := dk_42 (dk_at dksX13_vouch_0 0 rfl rfl)
theorem dX13_vouch_1 : decode cX13_vouch 1 = .ok (.getfield 29, 3) := dk_180 0 29 (dk_at dksX13_vouch_0 1 rfl rfl)
theorem dX13_vouch_4 : decode cX13_vouch 4 = .ok (.aload_n 1, 1) := dk_43 (dk_at dksX13_vouch_0 4 rfl rfl)
theorem dX13_vouch_5 : decode cX13_vouch 5 = .ok (.getfield 46, 3) := dk_180 0 46 (dk_at dksX13_vouch_0 5 rfl rfl)
theorem dX13_vouch_8 : decode cX13_vouch 8 = .ok (.getfield 51, 3) := dk_180 0 51 (dk_at dksX13_vouch_0 8 rfl rfl)
theorem dX13_vouch_11 : decode cX13_vouch 11 = .ok (.invokevirtual 60, 3) := dk_182 0 60 (dk_at dksX13_vouch_0 11 rfl rfl)
theorem dX13_vouch_14 : decode cX13_vouch 14 = .ok (.aload_n 0, 1) := dk_42 (dk_at dksX13_vouch_0 14 rfl rfl)
theorem dX13_vouch_15 : decode cX13_vouch 15 = .ok (.dup, 1) := dk_89 (dk_at dksX13_vouch_0 15 rfl rfl)
theorem dX13_vouch_16 : decode cX13_vouch 16 = .ok (.getfield 64, 3) := dk_180 0 64 (dk_at dksX13_vouch_0 16 rfl rfl)
theorem dX13_vouch_19 : decode cX13_vouch 19 = .ok (.aload_n 1, 1) := dk_43 (dk_at dksX13_vouch_0 19 rfl rfl)
theorem dX13_vouch_20 : decode cX13_vouch 20 = .ok (.invokevirtual 47, 3) := dk_182 0 47 (dk_at dksX13_vouch_0 20 rfl rfl)
theorem dX13_vouch_23 : decode cX13_vouch 23 = .ok (.iadd, 1) := dk_96 (dk_at dksX13_vouch_0 23 rfl rfl)
theorem dX13_vouch_24 : decode cX13_vouch 24 = .ok (.putfield 64, 3) := dk_181 0 64 (dk_at dksX13_vouch_1 0 rfl rfl)
theorem dX13_vouch_27 : decode cX13_vouch 27 = .ok (.aload_n 0, 1) := dk_42 (dk_at dksX13_vouch_1 3 rfl rfl)
theorem dX13_vouch_28 : decode cX13_vouch 28 = .ok (.getfield 64, 3) := dk_180 0 64 (dk_at dksX13_vouch_1 4 rfl rfl)
theorem dX13_vouch_31 : decode cX13_vouch 31 = .ok (.ireturn, 1) := dk_172 (dk_at dksX13_vouch_1 7 rfl rfl)
abbrev cX13_isBy : ByteArray := prog_8_method_2_code
def yX13_isBy : MethodName := ⟨RX13, "isBy", "(LKeyringCourt$Session;)Z"⟩
def dkwX13_isBy_1 : List UInt8 := [166, 0, 7, 4, 167, 0, 4, 3, 172]
abbrev dktX13_isBy_1 : List UInt8 := dkwX13_isBy_1 ++ []
def dkwX13_isBy_0 : List UInt8 := [43, 180, 0, 37, 153, 0, 25, 43, 180, 0, 42, 199, 0, 18, 43, 180, 0, 46, 42, 180, 0, 33]
abbrev dktX13_isBy_0 : List UInt8 := dkwX13_isBy_0 ++ dktX13_isBy_1
theorem dksX13_isBy_0 : cX13_isBy.data.toList.drop 0 = dktX13_isBy_0 := by decide +kernel
theorem dksX13_isBy_1 : cX13_isBy.data.toList.drop 22 = dktX13_isBy_1 := dk_seg dksX13_isBy_0 22 rfl rfl
theorem dX13_isBy_0 : decode cX13_isBy 0 = .ok (.aload_n 1, 1) := dk_43 (dk_at dksX13_isBy_0 0 rfl rfl)
theorem dX13_isBy_1 : decode cX13_isBy 1 = .ok (.getfield 37, 3) := dk_180 0 37 (dk_at dksX13_isBy_0 1 rfl rfl)
theorem dX13_isBy_4 : decode cX13_isBy 4 = .ok (.ifCond .eq 25, 3) := dk_153 0 25 (dk_at dksX13_isBy_0 4 rfl rfl)
theorem dX13_isBy_7 : decode cX13_isBy 7 = .ok (.aload_n 1, 1) := dk_43 (dk_at dksX13_isBy_0 7 rfl rfl)
theorem dX13_isBy_8 : decode cX13_isBy 8 = .ok (.getfield 42, 3) := dk_180 0 42 (dk_at dksX13_isBy_0 8 rfl rfl)
theorem dX13_isBy_11 : decode cX13_isBy 11 = .ok (.ifnonnull 18, 3) := dk_199 0 18 (dk_at dksX13_isBy_0 11 rfl rfl)
theorem dX13_isBy_14 : decode cX13_isBy 14 = .ok (.aload_n 1, 1) := dk_43 (dk_at dksX13_isBy_0 14 rfl rfl)
theorem dX13_isBy_15 : decode cX13_isBy 15 = .ok (.getfield 46, 3) := dk_180 0 46 (dk_at dksX13_isBy_0 15 rfl rfl)
theorem dX13_isBy_18 : decode cX13_isBy 18 = .ok (.aload_n 0, 1) := dk_42 (dk_at dksX13_isBy_0 18 rfl rfl)
theorem dX13_isBy_19 : decode cX13_isBy 19 = .ok (.getfield 33, 3) := dk_180 0 33 (dk_at dksX13_isBy_0 19 rfl rfl)
theorem dX13_isBy_22 : decode cX13_isBy 22 = .ok (.if_acmp .ne 7, 3) := dk_166 0 7 (dk_at dksX13_isBy_1 0 rfl rfl)
theorem dX13_isBy_25 : decode cX13_isBy 25 = .ok (.iconst 1, 1) := dk_4 (dk_at dksX13_isBy_1 3 rfl rfl)
theorem dX13_isBy_26 : decode cX13_isBy 26 = .ok (.goto 4, 3) := dk_167 0 4 (dk_at dksX13_isBy_1 4 rfl rfl)
theorem dX13_isBy_29 : decode cX13_isBy 29 = .ok (.iconst 0, 1) := dk_3 (dk_at dksX13_isBy_1 7 rfl rfl)
theorem dX13_isBy_30 : decode cX13_isBy 30 = .ok (.ireturn, 1) := dk_172 (dk_at dksX13_isBy_1 8 rfl rfl)
abbrev cX13_many : ByteArray := prog_8_method_5_code
def yX13_many : MethodName := ⟨RX13, "many", "()I"⟩
def dkwX13_many_0 : List UInt8 := [42, 180, 0, 29, 182, 0, 67, 172]
abbrev dktX13_many_0 : List UInt8 := dkwX13_many_0 ++ []
theorem dksX13_many_0 : cX13_many.data.toList.drop 0 = dktX13_many_0 := by decide +kernel
theorem dX13_many_0 : decode cX13_many 0 = .ok (.aload_n 0, 1) := dk_42 (dk_at dksX13_many_0 0 rfl rfl)
theorem dX13_many_1 : decode cX13_many 1 = .ok (.getfield 29, 3) := dk_180 0 29 (dk_at dksX13_many_0 1 rfl rfl)
theorem dX13_many_4 : decode cX13_many 4 = .ok (.invokevirtual 67, 3) := dk_182 0 67 (dk_at dksX13_many_0 4 rfl rfl)
theorem dX13_many_7 : decode cX13_many 7 = .ok (.ireturn, 1) := dk_172 (dk_at dksX13_many_0 7 rfl rfl)
abbrev cX13_isReady : ByteArray := prog_8_method_6_code
def yX13_isReady : MethodName := ⟨RX13, "isReady", "()Z"⟩
def dkwX13_isReady_2 : List UInt8 := [161, 0, 7, 4, 167, 0, 4, 3, 172]
abbrev dktX13_isReady_2 : List UInt8 := dkwX13_isReady_2 ++ []
def dkwX13_isReady_1 : List UInt8 := [42, 182, 0, 70, 5, 161, 0, 24, 42, 180, 0, 64, 42, 180, 0, 33, 182, 0, 73, 184, 0, 76]
abbrev dktX13_isReady_1 : List UInt8 := dkwX13_isReady_1 ++ dktX13_isReady_2
def dkwX13_isReady_0 : List UInt8 := [42, 180, 0, 22, 153, 0, 49, 42, 180, 0, 3, 180, 0, 15, 42, 180, 0, 19, 100, 16, 60, 161, 0, 32]
abbrev dktX13_isReady_0 : List UInt8 := dkwX13_isReady_0 ++ dktX13_isReady_1
theorem dksX13_isReady_0 : cX13_isReady.data.toList.drop 0 = dktX13_isReady_0 := by decide +kernel
theorem dksX13_isReady_1 : cX13_isReady.data.toList.drop 24 = dktX13_isReady_1 := dk_seg dksX13_isReady_0 24 rfl rfl
theorem dksX13_isReady_2 : cX13_isReady.data.toList.drop 46 = dktX13_isReady_2 := dk_seg dksX13_isReady_1 22 rfl rfl
theorem dX13_isReady_0 : decode cX13_isReady 0 = .ok (.aload_n 0, 1) := dk_42 (dk_at dksX13_isReady_0 0 rfl rfl)
theorem dX13_isReady_1 : decode cX13_isReady 1 = .ok (.getfield 22, 3) := dk_180 0 22 (dk_at dksX13_isReady_0 1 rfl rfl)
theorem dX13_isReady_4 : decode cX13_isReady 4 = .ok (.ifCond .eq 49, 3) := dk_153 0 49 (dk_at dksX13_isReady_0 4 rfl rfl)
theorem dX13_isReady_7 : decode cX13_isReady 7 = .ok (.aload_n 0, 1) := dk_42 (dk_at dksX13_isReady_0 7 rfl rfl)
theorem dX13_isReady_8 : decode cX13_isReady 8 = .ok (.getfield 3, 3) := dk_180 0 3 (dk_at dksX13_isReady_0 8 rfl rfl)
theorem dX13_isReady_11 : decode cX13_isReady 11 = .ok (.getfield 15, 3) := dk_180 0 15 (dk_at dksX13_isReady_0 11 rfl rfl)
theorem dX13_isReady_14 : decode cX13_isReady 14 = .ok (.aload_n 0, 1) := dk_42 (dk_at dksX13_isReady_0 14 rfl rfl)
theorem dX13_isReady_15 : decode cX13_isReady 15 = .ok (.getfield 19, 3) := dk_180 0 19 (dk_at dksX13_isReady_0 15 rfl rfl)
theorem dX13_isReady_18 : decode cX13_isReady 18 = .ok (.isub, 1) := dk_100 (dk_at dksX13_isReady_0 18 rfl rfl)
theorem dX13_isReady_19 : decode cX13_isReady 19 = .ok (.bipush 60, 2) := dk_16 60 (dk_at dksX13_isReady_0 19 rfl rfl)
theorem dX13_isReady_21 : decode cX13_isReady 21 = .ok (.if_icmp .lt 32, 3) := dk_161 0 32 (dk_at dksX13_isReady_0 21 rfl rfl)
theorem dX13_isReady_24 : decode cX13_isReady 24 = .ok (.aload_n 0, 1) := dk_42 (dk_at dksX13_isReady_1 0 rfl rfl)
theorem dX13_isReady_25 : decode cX13_isReady 25 = .ok (.invokevirtual 70, 3) := dk_182 0 70 (dk_at dksX13_isReady_1 1 rfl rfl)
theorem dX13_isReady_28 : decode cX13_isReady 28 = .ok (.iconst 2, 1) := dk_5 (dk_at dksX13_isReady_1 4 rfl rfl)
theorem dX13_isReady_29 : decode cX13_isReady 29 = .ok (.if_icmp .lt 24, 3) := dk_161 0 24 (dk_at dksX13_isReady_1 5 rfl rfl)
theorem dX13_isReady_32 : decode cX13_isReady 32 = .ok (.aload_n 0, 1) := dk_42 (dk_at dksX13_isReady_1 8 rfl rfl)
theorem dX13_isReady_33 : decode cX13_isReady 33 = .ok (.getfield 64, 3) := dk_180 0 64 (dk_at dksX13_isReady_1 9 rfl rfl)
theorem dX13_isReady_36 : decode cX13_isReady 36 = .ok (.aload_n 0, 1) := dk_42 (dk_at dksX13_isReady_1 12 rfl rfl)
theorem dX13_isReady_37 : decode cX13_isReady 37 = .ok (.getfield 33, 3) := dk_180 0 33 (dk_at dksX13_isReady_1 13 rfl rfl)
theorem dX13_isReady_40 : decode cX13_isReady 40 = .ok (.invokevirtual 73, 3) := dk_182 0 73 (dk_at dksX13_isReady_1 16 rfl rfl)
theorem dX13_isReady_43 : decode cX13_isReady 43 = .ok (.invokestatic 76, 3) := dk_184 0 76 (dk_at dksX13_isReady_1 19 rfl rfl)
theorem dX13_isReady_46 : decode cX13_isReady 46 = .ok (.if_icmp .lt 7, 3) := dk_161 0 7 (dk_at dksX13_isReady_2 0 rfl rfl)
theorem dX13_isReady_49 : decode cX13_isReady 49 = .ok (.iconst 1, 1) := dk_4 (dk_at dksX13_isReady_2 3 rfl rfl)
theorem dX13_isReady_50 : decode cX13_isReady 50 = .ok (.goto 4, 3) := dk_167 0 4 (dk_at dksX13_isReady_2 4 rfl rfl)
theorem dX13_isReady_53 : decode cX13_isReady 53 = .ok (.iconst 0, 1) := dk_3 (dk_at dksX13_isReady_2 7 rfl rfl)
theorem dX13_isReady_54 : decode cX13_isReady 54 = .ok (.ireturn, 1) := dk_172 (dk_at dksX13_isReady_2 8 rfl rfl)
abbrev cX13_finish : ByteArray := prog_8_method_7_code
def yX13_finish : MethodName := ⟨RX13, "finish", "()I"⟩
def dkwX13_finish_2 : List UInt8 := [87, 27, 172]
abbrev dktX13_finish_2 : List UInt8 := dkwX13_finish_2 ++ []
def dkwX13_finish_1 : List UInt8 := [42, 180, 0, 33, 180, 0, 84, 28, 3, 79, 132, 2, 1, 167, 255, 238, 42, 180, 0, 33, 3, 182, 0, 88]
abbrev dktX13_finish_1 : List UInt8 := dkwX13_finish_1 ++ dktX13_finish_2
def dkwX13_finish_0 : List UInt8 := [42, 3, 181, 0, 22, 42, 180, 0, 3, 42, 180, 0, 33, 182, 0, 80, 60, 3, 61, 28, 6, 162, 0, 19]
abbrev dktX13_finish_0 : List UInt8 := dkwX13_finish_0 ++ dktX13_finish_1
theorem dksX13_finish_0 : cX13_finish.data.toList.drop 0 = dktX13_finish_0 := by decide +kernel
theorem dksX13_finish_1 : cX13_finish.data.toList.drop 24 = dktX13_finish_1 := dk_seg dksX13_finish_0 24 rfl rfl
theorem dksX13_finish_2 : cX13_finish.data.toList.drop 48 = dktX13_finish_2 := dk_seg dksX13_finish_1 24 rfl rfl
theorem dX13_finish_0 : decode cX13_finish 0 = .ok (.aload_n 0, 1) := dk_42 (dk_at dksX13_finish_0 0 rfl rfl)
theorem dX13_finish_1 : decode cX13_finish 1 = .ok (.iconst 0, 1) := dk_3 (dk_at dksX13_finish_0 1 rfl rfl)
theorem dX13_finish_2 : decode cX13_finish 2 = .ok (.putfield 22, 3) := dk_181 0 22 (dk_at dksX13_finish_0 2 rfl rfl)
theorem dX13_finish_5 : decode cX13_finish 5 = .ok (.aload_n 0, 1) := dk_42 (dk_at dksX13_finish_0 5 rfl rfl)
theorem dX13_finish_6 : decode cX13_finish 6 = .ok (.getfield 3, 3) := dk_180 0 3 (dk_at dksX13_finish_0 6 rfl rfl)
theorem dX13_finish_9 : decode cX13_finish 9 = .ok (.aload_n 0, 1) := dk_42 (dk_at dksX13_finish_0 9 rfl rfl)
theorem dX13_finish_10 : decode cX13_finish 10 = .ok (.getfield 33, 3) := dk_180 0 33 (dk_at dksX13_finish_0 10 rfl rfl)
theorem dX13_finish_13 : decode cX13_finish 13 = .ok (.invokevirtual 80, 3) := dk_182 0 80 (dk_at dksX13_finish_0 13 rfl rfl)
theorem dX13_finish_16 : decode cX13_finish 16 = .ok (.istore_n 1, 1) := dk_60 (dk_at dksX13_finish_0 16 rfl rfl)
theorem dX13_finish_17 : decode cX13_finish 17 = .ok (.iconst 0, 1) := dk_3 (dk_at dksX13_finish_0 17 rfl rfl)
theorem dX13_finish_18 : decode cX13_finish 18 = .ok (.istore_n 2, 1) := dk_61 (dk_at dksX13_finish_0 18 rfl rfl)
theorem dX13_finish_19 : decode cX13_finish 19 = .ok (.iload_n 2, 1) := dk_28 (dk_at dksX13_finish_0 19 rfl rfl)
theorem dX13_finish_20 : decode cX13_finish 20 = .ok (.iconst 3, 1) := dk_6 (dk_at dksX13_finish_0 20 rfl rfl)
theorem dX13_finish_21 : decode cX13_finish 21 = .ok (.if_icmp .ge 19, 3) := dk_162 0 19 (dk_at dksX13_finish_0 21 rfl rfl)
theorem dX13_finish_24 : decode cX13_finish 24 = .ok (.aload_n 0, 1) := dk_42 (dk_at dksX13_finish_1 0 rfl rfl)
theorem dX13_finish_25 : decode cX13_finish 25 = .ok (.getfield 33, 3) := dk_180 0 33 (dk_at dksX13_finish_1 1 rfl rfl)
theorem dX13_finish_28 : decode cX13_finish 28 = .ok (.getfield 84, 3) := dk_180 0 84 (dk_at dksX13_finish_1 4 rfl rfl)
theorem dX13_finish_31 : decode cX13_finish 31 = .ok (.iload_n 2, 1) := dk_28 (dk_at dksX13_finish_1 7 rfl rfl)
theorem dX13_finish_32 : decode cX13_finish 32 = .ok (.iconst 0, 1) := dk_3 (dk_at dksX13_finish_1 8 rfl rfl)
theorem dX13_finish_33 : decode cX13_finish 33 = .ok (.iastore, 1) := dk_79 (dk_at dksX13_finish_1 9 rfl rfl)
theorem dX13_finish_34 : decode cX13_finish 34 = .ok (.iinc 2 1, 3) := dk_132 2 1 (dk_at dksX13_finish_1 10 rfl rfl)
theorem dX13_finish_37 : decode cX13_finish 37 = .ok (.goto (-18), 3) := dk_167 255 238 (dk_at dksX13_finish_1 13 rfl rfl)
theorem dX13_finish_40 : decode cX13_finish 40 = .ok (.aload_n 0, 1) := dk_42 (dk_at dksX13_finish_1 16 rfl rfl)
theorem dX13_finish_41 : decode cX13_finish 41 = .ok (.getfield 33, 3) := dk_180 0 33 (dk_at dksX13_finish_1 17 rfl rfl)
theorem dX13_finish_44 : decode cX13_finish 44 = .ok (.iconst 0, 1) := dk_3 (dk_at dksX13_finish_1 20 rfl rfl)
theorem dX13_finish_45 : decode cX13_finish 45 = .ok (.invokevirtual 88, 3) := dk_182 0 88 (dk_at dksX13_finish_1 21 rfl rfl)
theorem dX13_finish_48 : decode cX13_finish 48 = .ok (.pop, 1) := dk_87 (dk_at dksX13_finish_2 0 rfl rfl)
theorem dX13_finish_49 : decode cX13_finish 49 = .ok (.iload_n 1, 1) := dk_27 (dk_at dksX13_finish_2 1 rfl rfl)
theorem dX13_finish_50 : decode cX13_finish 50 = .ok (.ireturn, 1) := dk_172 (dk_at dksX13_finish_2 2 rfl rfl)
theorem q121 : (Jvm.Cond.initialized "KeyringCourt$Recovery") ∈ lw_all := lw_g (lw_at lw_m1 51 rfl) rfl
theorem q558 : (Jvm.Cond.fieldLink "KeyringCourt$Recovery" (51 : Nat) "KeyringCourt$Person" "number" "I") ∈ lw_all := lw_g (lw_at lw_m3 8 rfl) rfl
theorem q562 : (Jvm.Cond.fieldLink "KeyringCourt$Recovery" (84 : Nat) "KeyringCourt$Person" "states" "[I") ∈ lw_all := lw_g (lw_at lw_m3 12 rfl) rfl
theorem q701 : (Jvm.Cond.fieldLinkNest "KeyringCourt$Recovery" (15 : Nat) "KeyringCourt" "now" "I" "KeyringCourt") ∈ lw_tbl := lw_at lw_m3 151 rfl
theorem q904 : (Jvm.Cond.selects "KeyringCourt$Recovery" ({ cls := "java/lang/Object", name := "getClass", desc := "()Ljava/lang/Class;" } : Jvm.MethodName) ({ cls := "java/lang/Object", name := "getClass", desc := "()Ljava/lang/Class;" } : Jvm.MethodName)) ∈ lw_all := lw_g (lw_at lw_m4 114 rfl) rfl
theorem q1618 : (Jvm.Cond.fieldLink "KeyringCourt$Recovery" (46 : Nat) "KeyringCourt$Session" "person" "LKeyringCourt$Person;") ∈ lw_all := lw_g (lw_at lw_m7 108 rfl) rfl
theorem q1621 : (Jvm.Cond.fieldLink "KeyringCourt$Recovery" (42 : Nat) "KeyringCourt$Session" "parent" "LKeyringCourt$Session;") ∈ lw_all := lw_g (lw_at lw_m7 111 rfl) rfl
theorem q1628 : (Jvm.Cond.fieldLink "KeyringCourt$Recovery" (37 : Nat) "KeyringCourt$Session" "isLive" "Z") ∈ lw_all := lw_g (lw_at lw_m7 118 rfl) rfl
theorem q2273 : (Jvm.Cond.instantiable "KeyringCourt$Recovery" (6 : Nat)) ∈ lw_all := lw_g (lw_at lw_m10 43 rfl) rfl
theorem q2275 : (Jvm.Cond.instanceMethod ({ cls := "KeyringCourt$Recovery", name := "<init>", desc := "(LKeyringCourt;LKeyringCourt$Person;)V" } : Jvm.MethodName)) ∈ lw_all := lw_g (lw_at lw_m10 45 rfl) rfl
theorem q2276 : (Jvm.Cond.code ({ cls := "KeyringCourt$Recovery", name := "<init>", desc := "(LKeyringCourt;LKeyringCourt$Person;)V" } : Jvm.MethodName) prog_8_method_1_code (3 : Nat) (Option.none : Option Jvm.ClassFile.FieldType)) ∈ lw_all := lw_g (lw_at lw_m10 46 rfl) rfl
theorem q2277 : (Jvm.Cond.methodLink "KeyringCourt$Recovery" (9 : Nat) ({ cls := "java/lang/Object", name := "<init>", desc := "()V" } : Jvm.MethodName)) ∈ lw_all := lw_g (lw_at lw_m10 47 rfl) rfl
theorem q2278 : (Jvm.Cond.classLink "KeyringCourt$Recovery" (26 : Nat) "java/util/BitSet") ∈ lw_all := lw_g (lw_at lw_m10 48 rfl) rfl
theorem q2279 : (Jvm.Cond.methodLink "KeyringCourt$Recovery" (28 : Nat) ({ cls := "java/util/BitSet", name := "<init>", desc := "()V" } : Jvm.MethodName)) ∈ lw_all := lw_g (lw_at lw_m10 49 rfl) rfl
theorem q2280 : (Jvm.Cond.fieldLink "KeyringCourt$Recovery" (33 : Nat) "KeyringCourt$Recovery" "person" "LKeyringCourt$Person;") ∈ lw_all := lw_g (lw_at lw_m10 50 rfl) rfl
theorem q2282 : (Jvm.Cond.fieldLink "KeyringCourt$Recovery" (19 : Nat) "KeyringCourt$Recovery" "begun" "I") ∈ lw_all := lw_g (lw_at lw_m10 52 rfl) rfl
theorem q2283 : (Jvm.Cond.fieldLink "KeyringCourt$Recovery" (22 : Nat) "KeyringCourt$Recovery" "isOpen" "Z") ∈ lw_all := lw_g (lw_at lw_m10 53 rfl) rfl
theorem q2285 : (Jvm.Cond.fieldLink "KeyringCourt$Recovery" (29 : Nat) "KeyringCourt$Recovery" "people" "Ljava/util/BitSet;") ∈ lw_all := lw_g (lw_at lw_m10 55 rfl) rfl
theorem q2286 : (Jvm.Cond.fieldLink "KeyringCourt$Recovery" (64 : Nat) "KeyringCourt$Recovery" "levels" "I") ∈ lw_all := lw_g (lw_at lw_m10 56 rfl) rfl
theorem q2287 : (Jvm.Cond.fieldLink "KeyringCourt$Recovery" (3 : Nat) "KeyringCourt$Recovery" "this$0" "LKeyringCourt;") ∈ lw_all := lw_g (lw_at lw_m10 57 rfl) rfl
theorem q2288 : (Jvm.Cond.laysFinal "KeyringCourt$Recovery" "KeyringCourt$Recovery" "person" "LKeyringCourt$Person;") ∈ lw_all := lw_g (lw_at lw_m10 58 rfl) rfl
theorem q2289 : (Jvm.Cond.soleField "KeyringCourt$Recovery" "person") ∈ lw_all := lw_g (lw_at lw_m10 59 rfl) rfl
theorem q2290 : (Jvm.Cond.laysFinal "KeyringCourt$Recovery" "KeyringCourt$Recovery" "begun" "I") ∈ lw_all := lw_g (lw_at lw_m10 60 rfl) rfl
theorem q2291 : (Jvm.Cond.soleField "KeyringCourt$Recovery" "begun") ∈ lw_all := lw_g (lw_at lw_m10 61 rfl) rfl
theorem q2292 : (Jvm.Cond.lays "KeyringCourt$Recovery" "KeyringCourt$Recovery" "isOpen" "Z") ∈ lw_all := lw_g (lw_at lw_m10 62 rfl) rfl
theorem q2293 : (Jvm.Cond.soleField "KeyringCourt$Recovery" "isOpen") ∈ lw_all := lw_g (lw_at lw_m10 63 rfl) rfl
theorem q2294 : (Jvm.Cond.laysFinal "KeyringCourt$Recovery" "KeyringCourt$Recovery" "people" "Ljava/util/BitSet;") ∈ lw_all := lw_g (lw_at lw_m10 64 rfl) rfl
theorem q2295 : (Jvm.Cond.soleField "KeyringCourt$Recovery" "people") ∈ lw_all := lw_g (lw_at lw_m10 65 rfl) rfl
theorem q2296 : (Jvm.Cond.lays "KeyringCourt$Recovery" "KeyringCourt$Recovery" "levels" "I") ∈ lw_all := lw_g (lw_at lw_m10 66 rfl) rfl
theorem q2297 : (Jvm.Cond.soleField "KeyringCourt$Recovery" "levels") ∈ lw_all := lw_g (lw_at lw_m10 67 rfl) rfl
theorem q2298 : (Jvm.Cond.laysFinal "KeyringCourt$Recovery" "KeyringCourt$Recovery" "this$0" "LKeyringCourt;") ∈ lw_all := lw_g (lw_at lw_m10 68 rfl) rfl
theorem q2299 : (Jvm.Cond.soleField "KeyringCourt$Recovery" "this$0") ∈ lw_all := lw_g (lw_at lw_m10 69 rfl) rfl
theorem q2300 : (Jvm.Cond.superclass "KeyringCourt$Recovery" "java/lang/Object") ∈ lw_all := lw_g (lw_at lw_m10 70 rfl) rfl
theorem q2309 : (Jvm.Cond.instanceMethod ({ cls := "KeyringCourt$Recovery", name := "isVouchedBy", desc := "(LKeyringCourt$Session;)Z" } : Jvm.MethodName)) ∈ lw_all := lw_g (lw_at lw_m10 79 rfl) rfl
theorem q2310 : (Jvm.Cond.selects "KeyringCourt$Recovery" ({ cls := "KeyringCourt$Recovery", name := "isVouchedBy", desc := "(LKeyringCourt$Session;)Z" } : Jvm.MethodName) ({ cls := "KeyringCourt$Recovery", name := "isVouchedBy", desc := "(LKeyringCourt$Session;)Z" } : Jvm.MethodName)) ∈ lw_all := lw_g (lw_at lw_m10 80 rfl) rfl
theorem q2311 : (Jvm.Cond.code ({ cls := "KeyringCourt$Recovery", name := "isVouchedBy", desc := "(LKeyringCourt$Session;)Z" } : Jvm.MethodName) prog_8_method_3_code (3 : Nat) (Option.some Jvm.ClassFile.FieldType.boolean)) ∈ lw_all := lw_g (lw_at lw_m10 81 rfl) rfl
theorem q2312 : (Jvm.Cond.methodLink "KeyringCourt$Recovery" (47 : Nat) ({ cls := "KeyringCourt$Session", name := "level", desc := "()I" } : Jvm.MethodName)) ∈ lw_all := lw_g (lw_at lw_m10 82 rfl) rfl
theorem q2313 : (Jvm.Cond.methodLink "KeyringCourt$Recovery" (56 : Nat) ({ cls := "java/util/BitSet", name := "get", desc := "(I)Z" } : Jvm.MethodName)) ∈ lw_all := lw_g (lw_at lw_m10 83 rfl) rfl
theorem q2315 : (Jvm.Cond.instanceMethod ({ cls := "KeyringCourt$Recovery", name := "vouch", desc := "(LKeyringCourt$Session;)I" } : Jvm.MethodName)) ∈ lw_all := lw_g (lw_at lw_m10 85 rfl) rfl
theorem q2316 : (Jvm.Cond.selects "KeyringCourt$Recovery" ({ cls := "KeyringCourt$Recovery", name := "vouch", desc := "(LKeyringCourt$Session;)I" } : Jvm.MethodName) ({ cls := "KeyringCourt$Recovery", name := "vouch", desc := "(LKeyringCourt$Session;)I" } : Jvm.MethodName)) ∈ lw_all := lw_g (lw_at lw_m10 86 rfl) rfl
theorem q2317 : (Jvm.Cond.code ({ cls := "KeyringCourt$Recovery", name := "vouch", desc := "(LKeyringCourt$Session;)I" } : Jvm.MethodName) prog_8_method_4_code (2 : Nat) (Option.some Jvm.ClassFile.FieldType.int)) ∈ lw_all := lw_g (lw_at lw_m10 87 rfl) rfl
theorem q2318 : (Jvm.Cond.methodLink "KeyringCourt$Recovery" (60 : Nat) ({ cls := "java/util/BitSet", name := "set", desc := "(I)V" } : Jvm.MethodName)) ∈ lw_all := lw_g (lw_at lw_m10 88 rfl) rfl
theorem q2327 : (Jvm.Cond.instanceMethod ({ cls := "KeyringCourt$Recovery", name := "isBy", desc := "(LKeyringCourt$Session;)Z" } : Jvm.MethodName)) ∈ lw_all := lw_g (lw_at lw_m10 97 rfl) rfl
theorem q2328 : (Jvm.Cond.selects "KeyringCourt$Recovery" ({ cls := "KeyringCourt$Recovery", name := "isBy", desc := "(LKeyringCourt$Session;)Z" } : Jvm.MethodName) ({ cls := "KeyringCourt$Recovery", name := "isBy", desc := "(LKeyringCourt$Session;)Z" } : Jvm.MethodName)) ∈ lw_all := lw_g (lw_at lw_m10 98 rfl) rfl
theorem q2329 : (Jvm.Cond.code ({ cls := "KeyringCourt$Recovery", name := "isBy", desc := "(LKeyringCourt$Session;)Z" } : Jvm.MethodName) prog_8_method_2_code (2 : Nat) (Option.some Jvm.ClassFile.FieldType.boolean)) ∈ lw_all := lw_g (lw_at lw_m10 99 rfl) rfl
theorem q2331 : (Jvm.Cond.instanceMethod ({ cls := "KeyringCourt$Recovery", name := "many", desc := "()I" } : Jvm.MethodName)) ∈ lw_all := lw_g (lw_at lw_m10 101 rfl) rfl
theorem q2332 : (Jvm.Cond.selects "KeyringCourt$Recovery" ({ cls := "KeyringCourt$Recovery", name := "many", desc := "()I" } : Jvm.MethodName) ({ cls := "KeyringCourt$Recovery", name := "many", desc := "()I" } : Jvm.MethodName)) ∈ lw_all := lw_g (lw_at lw_m10 102 rfl) rfl
theorem q2333 : (Jvm.Cond.code ({ cls := "KeyringCourt$Recovery", name := "many", desc := "()I" } : Jvm.MethodName) prog_8_method_5_code (1 : Nat) (Option.some Jvm.ClassFile.FieldType.int)) ∈ lw_all := lw_g (lw_at lw_m10 103 rfl) rfl
theorem q2334 : (Jvm.Cond.methodLink "KeyringCourt$Recovery" (67 : Nat) ({ cls := "java/util/BitSet", name := "cardinality", desc := "()I" } : Jvm.MethodName)) ∈ lw_all := lw_g (lw_at lw_m10 104 rfl) rfl
theorem q2352 : (Jvm.Cond.instanceMethod ({ cls := "KeyringCourt$Recovery", name := "isReady", desc := "()Z" } : Jvm.MethodName)) ∈ lw_all := lw_g (lw_at lw_m10 122 rfl) rfl
theorem q2353 : (Jvm.Cond.selects "KeyringCourt$Recovery" ({ cls := "KeyringCourt$Recovery", name := "isReady", desc := "()Z" } : Jvm.MethodName) ({ cls := "KeyringCourt$Recovery", name := "isReady", desc := "()Z" } : Jvm.MethodName)) ∈ lw_all := lw_g (lw_at lw_m10 123 rfl) rfl
theorem q2354 : (Jvm.Cond.code ({ cls := "KeyringCourt$Recovery", name := "isReady", desc := "()Z" } : Jvm.MethodName) prog_8_method_6_code (1 : Nat) (Option.some Jvm.ClassFile.FieldType.boolean)) ∈ lw_all := lw_g (lw_at lw_m10 124 rfl) rfl
theorem q2355 : (Jvm.Cond.methodLink "KeyringCourt$Recovery" (70 : Nat) ({ cls := "KeyringCourt$Recovery", name := "many", desc := "()I" } : Jvm.MethodName)) ∈ lw_all := lw_g (lw_at lw_m10 125 rfl) rfl
theorem q2356 : (Jvm.Cond.methodLink "KeyringCourt$Recovery" (73 : Nat) ({ cls := "KeyringCourt$Person", name := "enrolled", desc := "()I" } : Jvm.MethodName)) ∈ lw_all := lw_g (lw_at lw_m10 126 rfl) rfl
theorem q2360 : (Jvm.Cond.methodLinkNest "KeyringCourt$Recovery" (76 : Nat) ({ cls := "KeyringCourt", name := "levelOf", desc := "(I)I" } : Jvm.MethodName) "KeyringCourt") ∈ lw_tbl := lw_at lw_m10 130 rfl
theorem q2362 : (Jvm.Cond.instanceMethod ({ cls := "KeyringCourt$Recovery", name := "finish", desc := "()I" } : Jvm.MethodName)) ∈ lw_all := lw_g (lw_at lw_m10 132 rfl) rfl
theorem q2363 : (Jvm.Cond.selects "KeyringCourt$Recovery" ({ cls := "KeyringCourt$Recovery", name := "finish", desc := "()I" } : Jvm.MethodName) ({ cls := "KeyringCourt$Recovery", name := "finish", desc := "()I" } : Jvm.MethodName)) ∈ lw_all := lw_g (lw_at lw_m10 133 rfl) rfl
theorem q2364 : (Jvm.Cond.code ({ cls := "KeyringCourt$Recovery", name := "finish", desc := "()I" } : Jvm.MethodName) prog_8_method_7_code (3 : Nat) (Option.some Jvm.ClassFile.FieldType.int)) ∈ lw_all := lw_g (lw_at lw_m10 134 rfl) rfl
theorem q2365 : (Jvm.Cond.methodLinkNest "KeyringCourt$Recovery" (80 : Nat) ({ cls := "KeyringCourt", name := "endAll", desc := "(LKeyringCourt$Person;)I" } : Jvm.MethodName) "KeyringCourt") ∈ lw_tbl := lw_at lw_m10 135 rfl
theorem q2369 : (Jvm.Cond.methodLink "KeyringCourt$Recovery" (88 : Nat) ({ cls := "KeyringCourt$Person", name := "enroll", desc := "(I)I" } : Jvm.MethodName)) ∈ lw_all := lw_g (lw_at lw_m10 139 rfl) rfl
theorem q3078 : (Jvm.Cond.castable "KeyringCourt$Recovery" "java/lang/Object") ∈ lw_tbl := lw_at lw_m13 128 rfl
theorem in_X13 : ∀ w ∈ wsX130, w ∈ lw_all := lw_in wsX130 [2288, 2290, 2292, 2294, 2296, 2298] (by decide +kernel) (by decide +kernel)
