/-! GraphModulesModel -/
set_option maxRecDepth 100000
def RX3 : String := "GraphModulesModel"
def TX3 : u_T := fun k => match k with
  | 0 => ("GraphModulesModel", "g", "[I", true)
  | 1 => ("GraphModulesModel", "past", "[I", true)
  | 2 => ("GraphModulesModel", "pasts", "I", false)
  | 3 => ("GraphModulesModel", "line", "[I", true)
  | 4 => ("GraphModulesModel", "lined", "I", false)
  | 5 => ("GraphModulesModel", "text", "[I", true)
  | 6 => ("GraphModulesModel", "typed", "I", false)
  | 7 => ("GraphModulesModel", "areFound", "Z", false)
  | 8 => ("GraphModulesModel", "isOne", "[Z", true)
  | 9 => ("GraphModulesModel", "list", "[I", true)
  | 10 => ("GraphModulesModel", "modules", "I", false)
  | 11 => ("GraphModulesModel", "strong", "[I", true)
  | 12 => ("GraphModulesModel", "parent", "[I", true)
  | 13 => ("GraphModulesModel", "strongs", "I", false)
  | 14 => ("GraphModulesModel", "left", "[I", true)
  | 15 => ("GraphModulesModel", "inClass", "[Z", true)
  | 16 => ("GraphModulesModel", "queue", "[I", true)
  | 17 => ("GraphModulesModel", "queued", "I", false)
  | 18 => ("GraphModulesModel", "met", "[Z", true)
  | 19 => ("GraphModulesModel", "isOriented", "Z", false)
  | 20 => ("GraphModulesModel", "canBe", "Z", false)
  | 21 => ("GraphModulesModel", "steps", "I", false)
  | 22 => ("GraphModulesModel", "step", "[I", true)
  | 23 => ("GraphModulesModel", "order", "[I", true)
  | 24 => ("GraphModulesModel", "far", "[I", true)
  | 25 => ("GraphModulesModel", "opened", "[I", true)
  | 26 => ("GraphModulesModel", "sign", "[I", true)
  | 27 => ("GraphModulesModel", "graphs", "[I", true)
  | 28 => ("GraphModulesModel", "together", "[I", true)
  | 29 => ("GraphModulesModel", "latest", "[I", true)
  | 30 => ("GraphModulesModel", "read", "[I", true)
  | 31 => ("GraphModulesModel", "depth", "I", false)
  | 32 => ("GraphModulesModel", "dots", "I", false)
  | 33 => ("GraphModulesModel", "isWhole", "Z", false)
  | 34 => ("GraphModulesModel", "place", "I", false)
  | 35 => ("GraphModulesModel", "isAwaited", "Z", false)
  | 36 => ("GraphModulesModel", "pile", "[I", true)
  | 37 => ("GraphModulesModel", "written", "[I", true)
  | _ => ("GraphModulesModel", "path", "[I", true)
def tyX3 : Nat → FieldType := fun k => match k with
  | 0 => .array .int
  | 1 => .array .int
  | 2 => .int
  | 3 => .array .int
  | 4 => .int
  | 5 => .array .int
  | 6 => .int
  | 7 => .boolean
  | 8 => .array .boolean
  | 9 => .array .int
  | 10 => .int
  | 11 => .array .int
  | 12 => .array .int
  | 13 => .int
  | 14 => .array .int
  | 15 => .array .boolean
  | 16 => .array .int
  | 17 => .int
  | 18 => .array .boolean
  | 19 => .boolean
  | 20 => .boolean
  | 21 => .int
  | 22 => .array .int
  | 23 => .array .int
  | 24 => .array .int
  | 25 => .array .int
  | 26 => .array .int
  | 27 => .array .int
  | 28 => .array .int
  | 29 => .array .int
  | 30 => .array .int
  | 31 => .int
  | 32 => .int
  | 33 => .boolean
  | 34 => .int
  | 35 => .boolean
  | 36 => .array .int
  | 37 => .array .int
  | _ => .array .int
abbrev wsX30 : List Cond := u_ws RX3 TX3 39
set_option maxRecDepth 100000 in
theorem nmX3 : ∀ a, a < 39 → ∀ b, b < 39 → a ≠ b → (TX3 a).2.1 ≠ (TX3 b).2.1 := by decide +kernel
set_option maxRecDepth 100000 in
theorem tyX3_ok : ∀ k, k < 39 → parseFieldDescriptor (TX3 k).2.2.1 = some (tyX3 k) := by decide +kernel
abbrev cX3_init : ByteArray := prog_18_method_1_code
def yX3_init : MethodName := ⟨RX3, "<init>", "()V"⟩
def dkwX3_init_8 : List UInt8 := [181, 0, 77, 42, 16, 10, 188, 10, 181, 0, 80, 42, 180, 0, 7, 3, 16, 6, 79, 177]
abbrev dktX3_init_8 : List UInt8 := dkwX3_init_8 ++ []
def dkwX3_init_7 : List UInt8 := [42, 16, 10, 188, 10, 181, 0, 71, 42, 17, 0, 200, 188, 10, 181, 0, 74, 42, 16, 60, 188, 10]
abbrev dktX3_init_7 : List UInt8 := dkwX3_init_7 ++ dktX3_init_8
def dkwX3_init_6 : List UInt8 := [42, 16, 60, 188, 10, 181, 0, 62, 42, 16, 60, 188, 10, 181, 0, 65, 42, 16, 60, 188, 10, 181, 0, 68]
abbrev dktX3_init_6 : List UInt8 := dkwX3_init_6 ++ dktX3_init_7
def dkwX3_init_5 : List UInt8 := [42, 16, 10, 188, 10, 181, 0, 53, 42, 16, 60, 188, 10, 181, 0, 56, 42, 16, 60, 188, 10, 181, 0, 59]
abbrev dktX3_init_5 : List UInt8 := dkwX3_init_5 ++ dktX3_init_6
def dkwX3_init_4 : List UInt8 := [42, 16, 100, 188, 4, 181, 0, 44, 42, 16, 100, 188, 10, 181, 0, 47, 42, 16, 10, 188, 10, 181, 0, 50]
abbrev dktX3_init_4 : List UInt8 := dkwX3_init_4 ++ dktX3_init_5
def dkwX3_init_3 : List UInt8 := [42, 16, 10, 188, 10, 181, 0, 35, 42, 16, 100, 188, 4, 181, 0, 38, 42, 16, 100, 188, 10, 181, 0, 41]
abbrev dktX3_init_3 : List UInt8 := dkwX3_init_3 ++ dktX3_init_4
def dkwX3_init_2 : List UInt8 := [17, 4, 0, 188, 10, 181, 0, 26, 42, 16, 19, 188, 10, 181, 0, 29, 42, 16, 19, 188, 10, 181, 0, 32]
abbrev dktX3_init_2 : List UInt8 := dkwX3_init_2 ++ dktX3_init_3
def dkwX3_init_1 : List UInt8 := [188, 10, 181, 0, 16, 42, 16, 60, 188, 10, 181, 0, 19, 42, 17, 4, 0, 188, 4, 181, 0, 22, 42]
abbrev dktX3_init_1 : List UInt8 := dkwX3_init_1 ++ dktX3_init_2
def dkwX3_init_0 : List UInt8 := [42, 183, 0, 1, 42, 16, 11, 188, 10, 181, 0, 7, 42, 16, 44, 188, 10, 181, 0, 13, 42, 16, 10]
abbrev dktX3_init_0 : List UInt8 := dkwX3_init_0 ++ dktX3_init_1
theorem dksX3_init_0 : cX3_init.data.toList.drop 0 = dktX3_init_0 := by decide +kernel
theorem dksX3_init_1 : cX3_init.data.toList.drop 23 = dktX3_init_1 := dk_seg dksX3_init_0 23 rfl rfl
theorem dksX3_init_2 : cX3_init.data.toList.drop 46 = dktX3_init_2 := dk_seg dksX3_init_1 23 rfl rfl
theorem dksX3_init_3 : cX3_init.data.toList.drop 70 = dktX3_init_3 := dk_seg dksX3_init_2 24 rfl rfl
theorem dksX3_init_4 : cX3_init.data.toList.drop 94 = dktX3_init_4 := dk_seg dksX3_init_3 24 rfl rfl
theorem dksX3_init_5 : cX3_init.data.toList.drop 118 = dktX3_init_5 := dk_seg dksX3_init_4 24 rfl rfl
theorem dksX3_init_6 : cX3_init.data.toList.drop 142 = dktX3_init_6 := dk_seg dksX3_init_5 24 rfl rfl
theorem dksX3_init_7 : cX3_init.data.toList.drop 166 = dktX3_init_7 := dk_seg dksX3_init_6 24 rfl rfl
theorem dksX3_init_8 : cX3_init.data.toList.drop 188 = dktX3_init_8 := dk_seg dksX3_init_7 22 rfl rfl
theorem dX3_init_0 : decode cX3_init 0 = .ok (.aload_n 0, 1) := dk_42 (dk_at dksX3_init_0 0 rfl rfl)
theorem dX3_init_1 : decode cX3_init 1 = .ok (.invokespecial 1, 3) := dk_183 0 1 (dk_at dksX3_init_0 1 rfl rfl)
theorem dX3_init_4 : decode cX3_init 4 = .ok (.aload_n 0, 1) := dk_42 (dk_at dksX3_init_0 4 rfl rfl)
theorem dX3_init_5 : decode cX3_init 5 = .ok (.bipush 11, 2) := dk_16 11 (dk_at dksX3_init_0 5 rfl rfl)
theorem dX3_init_7 : decode cX3_init 7 = .ok (.newarray .int, 2) := dk_188_10 (dk_at dksX3_init_0 7 rfl rfl)
theorem dX3_init_9 : decode cX3_init 9 = .ok (.putfield 7, 3) := dk_181 0 7 (dk_at dksX3_init_0 9 rfl rfl)
theorem dX3_init_12 : decode cX3_init 12 = .ok (.aload_n 0, 1) := dk_42 (dk_at dksX3_init_0 12 rfl rfl)
theorem dX3_init_13 : decode cX3_init 13 = .ok (.bipush 44, 2) := dk_16 44 (dk_at dksX3_init_0 13 rfl rfl)
theorem dX3_init_15 : decode cX3_init 15 = .ok (.newarray .int, 2) := dk_188_10 (dk_at dksX3_init_0 15 rfl rfl)
theorem dX3_init_17 : decode cX3_init 17 = .ok (.putfield 13, 3) := dk_181 0 13 (dk_at dksX3_init_0 17 rfl rfl)
theorem dX3_init_20 : decode cX3_init 20 = .ok (.aload_n 0, 1) := dk_42 (dk_at dksX3_init_0 20 rfl rfl)
theorem dX3_init_21 : decode cX3_init 21 = .ok (.bipush 10, 2) := dk_16 10 (dk_at dksX3_init_0 21 rfl rfl)
theorem dX3_init_23 : decode cX3_init 23 = .ok (.newarray .int, 2) := dk_188_10 (dk_at dksX3_init_1 0 rfl rfl)
theorem dX3_init_25 : decode cX3_init 25 = .ok (.putfield 16, 3) := dk_181 0 16 (dk_at dksX3_init_1 2 rfl rfl)
theorem dX3_init_28 : decode cX3_init 28 = .ok (.aload_n 0, 1) := dk_42 (dk_at dksX3_init_1 5 rfl rfl)
theorem dX3_init_29 : decode cX3_init 29 = .ok (.bipush 60, 2) := dk_16 60 (dk_at dksX3_init_1 6 rfl rfl)
theorem dX3_init_31 : decode cX3_init 31 = .ok (.newarray .int, 2) := dk_188_10 (dk_at dksX3_init_1 8 rfl rfl)
theorem dX3_init_33 : decode cX3_init 33 = .ok (.putfield 19, 3) := dk_181 0 19 (dk_at dksX3_init_1 10 rfl rfl)
theorem dX3_init_36 : decode cX3_init 36 = .ok (.aload_n 0, 1) := dk_42 (dk_at dksX3_init_1 13 rfl rfl)
theorem dX3_init_37 : decode cX3_init 37 = .ok (.sipush 1024, 3) := dk_17 4 0 (dk_at dksX3_init_1 14 rfl rfl)
theorem dX3_init_40 : decode cX3_init 40 = .ok (.newarray .boolean, 2) := dk_188_4 (dk_at dksX3_init_1 17 rfl rfl)
theorem dX3_init_42 : decode cX3_init 42 = .ok (.putfield 22, 3) := dk_181 0 22 (dk_at dksX3_init_1 19 rfl rfl)
theorem dX3_init_45 : decode cX3_init 45 = .ok (.aload_n 0, 1) := dk_42 (dk_at dksX3_init_1 22 rfl rfl)
theorem dX3_init_46 : decode cX3_init 46 = .ok (.sipush 1024, 3) := dk_17 4 0 (dk_at dksX3_init_2 0 rfl rfl)
theorem dX3_init_49 : decode cX3_init 49 = .ok (.newarray .int, 2) := dk_188_10 (dk_at dksX3_init_2 3 rfl rfl)
theorem dX3_init_51 : decode cX3_init 51 = .ok (.putfield 26, 3) := dk_181 0 26 (dk_at dksX3_init_2 5 rfl rfl)
theorem dX3_init_54 : decode cX3_init 54 = .ok (.aload_n 0, 1) := dk_42 (dk_at dksX3_init_2 8 rfl rfl)
theorem dX3_init_55 : decode cX3_init 55 = .ok (.bipush 19, 2) := dk_16 19 (dk_at dksX3_init_2 9 rfl rfl)
theorem dX3_init_57 : decode cX3_init 57 = .ok (.newarray .int, 2) := dk_188_10 (dk_at dksX3_init_2 11 rfl rfl)
theorem dX3_init_59 : decode cX3_init 59 = .ok (.putfield 29, 3) := dk_181 0 29 (dk_at dksX3_init_2 13 rfl rfl)
theorem dX3_init_62 : decode cX3_init 62 = .ok (.aload_n 0, 1) := dk_42 (dk_at dksX3_init_2 16 rfl rfl)
theorem dX3_init_63 : decode cX3_init 63 = .ok (.bipush 19, 2) := dk_16 19 (dk_at dksX3_init_2 17 rfl rfl)
theorem dX3_init_65 : decode cX3_init 65 = .ok (.newarray .int, 2) := dk_188_10 (dk_at dksX3_init_2 19 rfl rfl)
theorem dX3_init_67 : decode cX3_init 67 = .ok (.putfield 32, 3) := dk_181 0 32 (dk_at dksX3_init_2 21 rfl rfl)
theorem dX3_init_70 : decode cX3_init 70 = .ok (.aload_n 0, 1) := dk_42 (dk_at dksX3_init_3 0 rfl rfl)
theorem dX3_init_71 : decode cX3_init 71 = .ok (.bipush 10, 2) := dk_16 10 (dk_at dksX3_init_3 1 rfl rfl)
theorem dX3_init_73 : decode cX3_init 73 = .ok (.newarray .int, 2) := dk_188_10 (dk_at dksX3_init_3 3 rfl rfl)
theorem dX3_init_75 : decode cX3_init 75 = .ok (.putfield 35, 3) := dk_181 0 35 (dk_at dksX3_init_3 5 rfl rfl)
theorem dX3_init_78 : decode cX3_init 78 = .ok (.aload_n 0, 1) := dk_42 (dk_at dksX3_init_3 8 rfl rfl)
theorem dX3_init_79 : decode cX3_init 79 = .ok (.bipush 100, 2) := dk_16 100 (dk_at dksX3_init_3 9 rfl rfl)
theorem dX3_init_81 : decode cX3_init 81 = .ok (.newarray .boolean, 2) := dk_188_4 (dk_at dksX3_init_3 11 rfl rfl)
theorem dX3_init_83 : decode cX3_init 83 = .ok (.putfield 38, 3) := dk_181 0 38 (dk_at dksX3_init_3 13 rfl rfl)
theorem dX3_init_86 : decode cX3_init 86 = .ok (.aload_n 0, 1) := dk_42 (dk_at dksX3_init_3 16 rfl rfl)
theorem dX3_init_87 : decode cX3_init 87 = .ok (.bipush 100, 2) := dk_16 100 (dk_at dksX3_init_3 17 rfl rfl)
theorem dX3_init_89 : decode cX3_init 89 = .ok (.newarray .int, 2) := dk_188_10 (dk_at dksX3_init_3 19 rfl rfl)
theorem dX3_init_91 : decode cX3_init 91 = .ok (.putfield 41, 3) := dk_181 0 41 (dk_at dksX3_init_3 21 rfl rfl)
theorem dX3_init_94 : decode cX3_init 94 = .ok (.aload_n 0, 1) := dk_42 (dk_at dksX3_init_4 0 rfl rfl)
theorem dX3_init_95 : decode cX3_init 95 = .ok (.bipush 100, 2) := dk_16 100 (dk_at dksX3_init_4 1 rfl rfl)
theorem dX3_init_97 : decode cX3_init 97 = .ok (.newarray .boolean, 2) := dk_188_4 (dk_at dksX3_init_4 3 rfl rfl)
theorem dX3_init_99 : decode cX3_init 99 = .ok (.putfield 44, 3) := dk_181 0 44 (dk_at dksX3_init_4 5 rfl rfl)
theorem dX3_init_102 : decode cX3_init 102 = .ok (.aload_n 0, 1) := dk_42 (dk_at dksX3_init_4 8 rfl rfl)
theorem dX3_init_103 : decode cX3_init 103 = .ok (.bipush 100, 2) := dk_16 100 (dk_at dksX3_init_4 9 rfl rfl)
theorem dX3_init_105 : decode cX3_init 105 = .ok (.newarray .int, 2) := dk_188_10 (dk_at dksX3_init_4 11 rfl rfl)
theorem dX3_init_107 : decode cX3_init 107 = .ok (.putfield 47, 3) := dk_181 0 47 (dk_at dksX3_init_4 13 rfl rfl)
theorem dX3_init_110 : decode cX3_init 110 = .ok (.aload_n 0, 1) := dk_42 (dk_at dksX3_init_4 16 rfl rfl)
theorem dX3_init_111 : decode cX3_init 111 = .ok (.bipush 10, 2) := dk_16 10 (dk_at dksX3_init_4 17 rfl rfl)
theorem dX3_init_113 : decode cX3_init 113 = .ok (.newarray .int, 2) := dk_188_10 (dk_at dksX3_init_4 19 rfl rfl)
theorem dX3_init_115 : decode cX3_init 115 = .ok (.putfield 50, 3) := dk_181 0 50 (dk_at dksX3_init_4 21 rfl rfl)
theorem dX3_init_118 : decode cX3_init 118 = .ok (.aload_n 0, 1) := dk_42 (dk_at dksX3_init_5 0 rfl rfl)
theorem dX3_init_119 : decode cX3_init 119 = .ok (.bipush 10, 2) := dk_16 10 (dk_at dksX3_init_5 1 rfl rfl)
theorem dX3_init_121 : decode cX3_init 121 = .ok (.newarray .int, 2) := dk_188_10 (dk_at dksX3_init_5 3 rfl rfl)
theorem dX3_init_123 : decode cX3_init 123 = .ok (.putfield 53, 3) := dk_181 0 53 (dk_at dksX3_init_5 5 rfl rfl)
theorem dX3_init_126 : decode cX3_init 126 = .ok (.aload_n 0, 1) := dk_42 (dk_at dksX3_init_5 8 rfl rfl)
theorem dX3_init_127 : decode cX3_init 127 = .ok (.bipush 60, 2) := dk_16 60 (dk_at dksX3_init_5 9 rfl rfl)
theorem dX3_init_129 : decode cX3_init 129 = .ok (.newarray .int, 2) := dk_188_10 (dk_at dksX3_init_5 11 rfl rfl)
theorem dX3_init_131 : decode cX3_init 131 = .ok (.putfield 56, 3) := dk_181 0 56 (dk_at dksX3_init_5 13 rfl rfl)
theorem dX3_init_134 : decode cX3_init 134 = .ok (.aload_n 0, 1) := dk_42 (dk_at dksX3_init_5 16 rfl rfl)
theorem dX3_init_135 : decode cX3_init 135 = .ok (.bipush 60, 2) := dk_16 60 (dk_at dksX3_init_5 17 rfl rfl)
theorem dX3_init_137 : decode cX3_init 137 = .ok (.newarray .int, 2) := dk_188_10 (dk_at dksX3_init_5 19 rfl rfl)
theorem dX3_init_139 : decode cX3_init 139 = .ok (.putfield 59, 3) := dk_181 0 59 (dk_at dksX3_init_5 21 rfl rfl)
theorem dX3_init_142 : decode cX3_init 142 = .ok (.aload_n 0, 1) := dk_42 (dk_at dksX3_init_6 0 rfl rfl)
theorem dX3_init_143 : decode cX3_init 143 = .ok (.bipush 60, 2) := dk_16 60 (dk_at dksX3_init_6 1 rfl rfl)
theorem dX3_init_145 : decode cX3_init 145 = .ok (.newarray .int, 2) := dk_188_10 (dk_at dksX3_init_6 3 rfl rfl)
theorem dX3_init_147 : decode cX3_init 147 = .ok (.putfield 62, 3) := dk_181 0 62 (dk_at dksX3_init_6 5 rfl rfl)
theorem dX3_init_150 : decode cX3_init 150 = .ok (.aload_n 0, 1) := dk_42 (dk_at dksX3_init_6 8 rfl rfl)
theorem dX3_init_151 : decode cX3_init 151 = .ok (.bipush 60, 2) := dk_16 60 (dk_at dksX3_init_6 9 rfl rfl)
theorem dX3_init_153 : decode cX3_init 153 = .ok (.newarray .int, 2) := dk_188_10 (dk_at dksX3_init_6 11 rfl rfl)
theorem dX3_init_155 : decode cX3_init 155 = .ok (.putfield 65, 3) := dk_181 0 65 (dk_at dksX3_init_6 13 rfl rfl)
theorem dX3_init_158 : decode cX3_init 158 = .ok (.aload_n 0, 1) := dk_42 (dk_at dksX3_init_6 16 rfl rfl)
theorem dX3_init_159 : decode cX3_init 159 = .ok (.bipush 60, 2) := dk_16 60 (dk_at dksX3_init_6 17 rfl rfl)
theorem dX3_init_161 : decode cX3_init 161 = .ok (.newarray .int, 2) := dk_188_10 (dk_at dksX3_init_6 19 rfl rfl)
theorem dX3_init_163 : decode cX3_init 163 = .ok (.putfield 68, 3) := dk_181 0 68 (dk_at dksX3_init_6 21 rfl rfl)
theorem dX3_init_166 : decode cX3_init 166 = .ok (.aload_n 0, 1) := dk_42 (dk_at dksX3_init_7 0 rfl rfl)
theorem dX3_init_167 : decode cX3_init 167 = .ok (.bipush 10, 2) := dk_16 10 (dk_at dksX3_init_7 1 rfl rfl)
theorem dX3_init_169 : decode cX3_init 169 = .ok (.newarray .int, 2) := dk_188_10 (dk_at dksX3_init_7 3 rfl rfl)
theorem dX3_init_171 : decode cX3_init 171 = .ok (.putfield 71, 3) := dk_181 0 71 (dk_at dksX3_init_7 5 rfl rfl)
theorem dX3_init_174 : decode cX3_init 174 = .ok (.aload_n 0, 1) := dk_42 (dk_at dksX3_init_7 8 rfl rfl)
theorem dX3_init_175 : decode cX3_init 175 = .ok (.sipush 200, 3) := dk_17 0 200 (dk_at dksX3_init_7 9 rfl rfl)
theorem dX3_init_178 : decode cX3_init 178 = .ok (.newarray .int, 2) := dk_188_10 (dk_at dksX3_init_7 12 rfl rfl)
theorem dX3_init_180 : decode cX3_init 180 = .ok (.putfield 74, 3) := dk_181 0 74 (dk_at dksX3_init_7 14 rfl rfl)
theorem dX3_init_183 : decode cX3_init 183 = .ok (.aload_n 0, 1) := dk_42 (dk_at dksX3_init_7 17 rfl rfl)
theorem dX3_init_184 : decode cX3_init 184 = .ok (.bipush 60, 2) := dk_16 60 (dk_at dksX3_init_7 18 rfl rfl)
theorem dX3_init_186 : decode cX3_init 186 = .ok (.newarray .int, 2) := dk_188_10 (dk_at dksX3_init_7 20 rfl rfl)
theorem dX3_init_188 : decode cX3_init 188 = .ok (.putfield 77, 3) := dk_181 0 77 (dk_at dksX3_init_8 0 rfl rfl)
theorem dX3_init_191 : decode cX3_init 191 = .ok (.aload_n 0, 1) := dk_42 (dk_at dksX3_init_8 3 rfl rfl)
theorem dX3_init_192 : decode cX3_init 192 = .ok (.bipush 10, 2) := dk_16 10 (dk_at dksX3_init_8 4 rfl rfl)
theorem dX3_init_194 : decode cX3_init 194 = .ok (.newarray .int, 2) := dk_188_10 (dk_at dksX3_init_8 6 rfl rfl)
theorem dX3_init_196 : decode cX3_init 196 = .ok (.putfield 80, 3) := dk_181 0 80 (dk_at dksX3_init_8 8 rfl rfl)
theorem dX3_init_199 : decode cX3_init 199 = .ok (.aload_n 0, 1) := dk_42 (dk_at dksX3_init_8 11 rfl rfl)
theorem dX3_init_200 : decode cX3_init 200 = .ok (.getfield 7, 3) := dk_180 0 7 (dk_at dksX3_init_8 12 rfl rfl)
theorem dX3_init_203 : decode cX3_init 203 = .ok (.iconst 0, 1) := dk_3 (dk_at dksX3_init_8 15 rfl rfl)
theorem dX3_init_204 : decode cX3_init 204 = .ok (.bipush 6, 2) := dk_16 6 (dk_at dksX3_init_8 16 rfl rfl)
theorem dX3_init_206 : decode cX3_init 206 = .ok (.iastore, 1) := dk_79 (dk_at dksX3_init_8 18 rfl rfl)
theorem dX3_init_207 : decode cX3_init 207 = .ok (.return_, 1) := dk_177 (dk_at dksX3_init_8 19 rfl rfl)
abbrev cX3_begin : ByteArray := prog_18_method_16_code
def yX3_begin : MethodName := ⟨RX3, "begin", "(I)I"⟩
def dkwX3_begin_1 : List UInt8 := [42, 180, 0, 7, 28, 3, 79, 132, 2, 1, 167, 255, 240, 42, 180, 0, 7, 3, 27, 79, 27, 172]
abbrev dktX3_begin_1 : List UInt8 := dkwX3_begin_1 ++ []
def dkwX3_begin_0 : List UInt8 := [27, 4, 16, 10, 184, 0, 87, 154, 0, 5, 2, 172, 42, 182, 0, 119, 3, 61, 28, 16, 11, 162, 0, 16]
abbrev dktX3_begin_0 : List UInt8 := dkwX3_begin_0 ++ dktX3_begin_1
theorem dksX3_begin_0 : cX3_begin.data.toList.drop 0 = dktX3_begin_0 := by decide +kernel
theorem dksX3_begin_1 : cX3_begin.data.toList.drop 24 = dktX3_begin_1 := dk_seg dksX3_begin_0 24 rfl rfl
theorem dX3_begin_0 : decode cX3_begin 0 = .ok (.iload_n 1, 1) := dk_27 (dk_at dksX3_begin_0 0 rfl rfl)
theorem dX3_begin_1 : decode cX3_begin 1 = .ok (.iconst 1, 1) := dk_4 (dk_at dksX3_begin_0 1 rfl rfl)
theorem dX3_begin_2 : decode cX3_begin 2 = .ok (.bipush 10, 2) := dk_16 10 (dk_at dksX3_begin_0 2 rfl rfl)
theorem dX3_begin_4 : decode cX3_begin 4 = .ok (.invokestatic 87, 3) := dk_184 0 87 (dk_at dksX3_begin_0 4 rfl rfl)
theorem dX3_begin_7 : decode cX3_begin 7 = .ok (.ifCond .ne 5, 3) := dk_154 0 5 (dk_at dksX3_begin_0 7 rfl rfl)
theorem dX3_begin_10 : decode cX3_begin 10 = .ok (.iconst (-1), 1) := dk_2 (dk_at dksX3_begin_0 10 rfl rfl)
theorem dX3_begin_11 : decode cX3_begin 11 = .ok (.ireturn, 1) := dk_172 (dk_at dksX3_begin_0 11 rfl rfl)
theorem dX3_begin_12 : decode cX3_begin 12 = .ok (.aload_n 0, 1) := dk_42 (dk_at dksX3_begin_0 12 rfl rfl)
theorem dX3_begin_13 : decode cX3_begin 13 = .ok (.invokevirtual 119, 3) := dk_182 0 119 (dk_at dksX3_begin_0 13 rfl rfl)
theorem dX3_begin_16 : decode cX3_begin 16 = .ok (.iconst 0, 1) := dk_3 (dk_at dksX3_begin_0 16 rfl rfl)
theorem dX3_begin_17 : decode cX3_begin 17 = .ok (.istore_n 2, 1) := dk_61 (dk_at dksX3_begin_0 17 rfl rfl)
theorem dX3_begin_18 : decode cX3_begin 18 = .ok (.iload_n 2, 1) := dk_28 (dk_at dksX3_begin_0 18 rfl rfl)
theorem dX3_begin_19 : decode cX3_begin 19 = .ok (.bipush 11, 2) := dk_16 11 (dk_at dksX3_begin_0 19 rfl rfl)
theorem dX3_begin_21 : decode cX3_begin 21 = .ok (.if_icmp .ge 16, 3) := dk_162 0 16 (dk_at dksX3_begin_0 21 rfl rfl)
theorem dX3_begin_24 : decode cX3_begin 24 = .ok (.aload_n 0, 1) := dk_42 (dk_at dksX3_begin_1 0 rfl rfl)
theorem dX3_begin_25 : decode cX3_begin 25 = .ok (.getfield 7, 3) := dk_180 0 7 (dk_at dksX3_begin_1 1 rfl rfl)
theorem dX3_begin_28 : decode cX3_begin 28 = .ok (.iload_n 2, 1) := dk_28 (dk_at dksX3_begin_1 4 rfl rfl)
theorem dX3_begin_29 : decode cX3_begin 29 = .ok (.iconst 0, 1) := dk_3 (dk_at dksX3_begin_1 5 rfl rfl)
theorem dX3_begin_30 : decode cX3_begin 30 = .ok (.iastore, 1) := dk_79 (dk_at dksX3_begin_1 6 rfl rfl)
theorem dX3_begin_31 : decode cX3_begin 31 = .ok (.iinc 2 1, 3) := dk_132 2 1 (dk_at dksX3_begin_1 7 rfl rfl)
theorem dX3_begin_34 : decode cX3_begin 34 = .ok (.goto (-16), 3) := dk_167 255 240 (dk_at dksX3_begin_1 10 rfl rfl)
theorem dX3_begin_37 : decode cX3_begin 37 = .ok (.aload_n 0, 1) := dk_42 (dk_at dksX3_begin_1 13 rfl rfl)
theorem dX3_begin_38 : decode cX3_begin 38 = .ok (.getfield 7, 3) := dk_180 0 7 (dk_at dksX3_begin_1 14 rfl rfl)
theorem dX3_begin_41 : decode cX3_begin 41 = .ok (.iconst 0, 1) := dk_3 (dk_at dksX3_begin_1 17 rfl rfl)
theorem dX3_begin_42 : decode cX3_begin 42 = .ok (.iload_n 1, 1) := dk_27 (dk_at dksX3_begin_1 18 rfl rfl)
theorem dX3_begin_43 : decode cX3_begin 43 = .ok (.iastore, 1) := dk_79 (dk_at dksX3_begin_1 19 rfl rfl)
theorem dX3_begin_44 : decode cX3_begin 44 = .ok (.iload_n 1, 1) := dk_27 (dk_at dksX3_begin_1 20 rfl rfl)
theorem dX3_begin_45 : decode cX3_begin 45 = .ok (.ireturn, 1) := dk_172 (dk_at dksX3_begin_1 21 rfl rfl)
abbrev cX3_in : ByteArray := prog_18_method_3_code
def yX3_in : MethodName := ⟨RX3, "in", "(III)Z"⟩
def dkwX3_in_0 : List UInt8 := [26, 27, 161, 0, 12, 26, 28, 163, 0, 7, 4, 167, 0, 4, 3, 172]
abbrev dktX3_in_0 : List UInt8 := dkwX3_in_0 ++ []
theorem dksX3_in_0 : cX3_in.data.toList.drop 0 = dktX3_in_0 := by decide +kernel
theorem dX3_in_0 : decode cX3_in 0 = .ok (.iload_n 0, 1) := dk_26 (dk_at dksX3_in_0 0 rfl rfl)
theorem dX3_in_1 : decode cX3_in 1 = .ok (.iload_n 1, 1) := dk_27 (dk_at dksX3_in_0 1 rfl rfl)
theorem dX3_in_2 : decode cX3_in 2 = .ok (.if_icmp .lt 12, 3) := dk_161 0 12 (dk_at dksX3_in_0 2 rfl rfl)
theorem dX3_in_5 : decode cX3_in 5 = .ok (.iload_n 0, 1) := dk_26 (dk_at dksX3_in_0 5 rfl rfl)
theorem dX3_in_6 : decode cX3_in 6 = .ok (.iload_n 2, 1) := dk_28 (dk_at dksX3_in_0 6 rfl rfl)
theorem dX3_in_7 : decode cX3_in 7 = .ok (.if_icmp .gt 7, 3) := dk_163 0 7 (dk_at dksX3_in_0 7 rfl rfl)
theorem dX3_in_10 : decode cX3_in 10 = .ok (.iconst 1, 1) := dk_4 (dk_at dksX3_in_0 10 rfl rfl)
theorem dX3_in_11 : decode cX3_in 11 = .ok (.goto 4, 3) := dk_167 0 4 (dk_at dksX3_in_0 11 rfl rfl)
theorem dX3_in_14 : decode cX3_in 14 = .ok (.iconst 0, 1) := dk_3 (dk_at dksX3_in_0 14 rfl rfl)
theorem dX3_in_15 : decode cX3_in 15 = .ok (.ireturn, 1) := dk_172 (dk_at dksX3_in_0 15 rfl rfl)
abbrev cX3_changes : ByteArray := prog_18_method_13_code
def yX3_changes : MethodName := ⟨RX3, "changes", "()V"⟩
def dkwX3_changes_4 : List UInt8 := [182, 0, 106, 177]
abbrev dktX3_changes_4 : List UInt8 := dkwX3_changes_4 ++ []
def dkwX3_changes_3 : List UInt8 := [42, 180, 0, 7, 27, 46, 79, 132, 1, 1, 167, 255, 227, 42, 89, 180, 0, 102, 4, 96, 181, 0, 102, 42]
abbrev dktX3_changes_3 : List UInt8 := dkwX3_changes_3 ++ dktX3_changes_4
def dkwX3_changes_2 : List UInt8 := [181, 0, 102, 3, 60, 27, 16, 11, 162, 0, 29, 42, 180, 0, 13, 16, 11, 42, 180, 0, 102, 104, 27, 96]
abbrev dktX3_changes_2 : List UInt8 := dkwX3_changes_2 ++ dktX3_changes_3
def dkwX3_changes_1 : List UInt8 := [180, 0, 13, 27, 16, 11, 96, 46, 79, 132, 1, 1, 167, 255, 232, 42, 89, 180, 0, 102, 4, 100]
abbrev dktX3_changes_1 : List UInt8 := dkwX3_changes_1 ++ dktX3_changes_2
def dkwX3_changes_0 : List UInt8 := [42, 180, 0, 102, 7, 160, 0, 42, 3, 60, 27, 16, 33, 162, 0, 24, 42, 180, 0, 13, 27, 42]
abbrev dktX3_changes_0 : List UInt8 := dkwX3_changes_0 ++ dktX3_changes_1
theorem dksX3_changes_0 : cX3_changes.data.toList.drop 0 = dktX3_changes_0 := by decide +kernel
theorem dksX3_changes_1 : cX3_changes.data.toList.drop 22 = dktX3_changes_1 := dk_seg dksX3_changes_0 22 rfl rfl
theorem dksX3_changes_2 : cX3_changes.data.toList.drop 44 = dktX3_changes_2 := dk_seg dksX3_changes_1 22 rfl rfl
theorem dksX3_changes_3 : cX3_changes.data.toList.drop 68 = dktX3_changes_3 := dk_seg dksX3_changes_2 24 rfl rfl
theorem dksX3_changes_4 : cX3_changes.data.toList.drop 92 = dktX3_changes_4 := dk_seg dksX3_changes_3 24 rfl rfl
theorem dX3_changes_0 : decode cX3_changes 0 = .ok (.aload_n 0, 1) := dk_42 (dk_at dksX3_changes_0 0 rfl rfl)
theorem dX3_changes_1 : decode cX3_changes 1 = .ok (.getfield 102, 3) := dk_180 0 102 (dk_at dksX3_changes_0 1 rfl rfl)
theorem dX3_changes_4 : decode cX3_changes 4 = .ok (.iconst 4, 1) := dk_7 (dk_at dksX3_changes_0 4 rfl rfl)
theorem dX3_changes_5 : decode cX3_changes 5 = .ok (.if_icmp .ne 42, 3) := dk_160 0 42 (dk_at dksX3_changes_0 5 rfl rfl)
theorem dX3_changes_8 : decode cX3_changes 8 = .ok (.iconst 0, 1) := dk_3 (dk_at dksX3_changes_0 8 rfl rfl)
theorem dX3_changes_9 : decode cX3_changes 9 = .ok (.istore_n 1, 1) := dk_60 (dk_at dksX3_changes_0 9 rfl rfl)
theorem dX3_changes_10 : decode cX3_changes 10 = .ok (.iload_n 1, 1) := dk_27 (dk_at dksX3_changes_0 10 rfl rfl)
theorem dX3_changes_11 : decode cX3_changes 11 = .ok (.bipush 33, 2) := dk_16 33 (dk_at dksX3_changes_0 11 rfl rfl)
theorem dX3_changes_13 : decode cX3_changes 13 = .ok (.if_icmp .ge 24, 3) := dk_162 0 24 (dk_at dksX3_changes_0 13 rfl rfl)
theorem dX3_changes_16 : decode cX3_changes 16 = .ok (.aload_n 0, 1) := dk_42 (dk_at dksX3_changes_0 16 rfl rfl)
theorem dX3_changes_17 : decode cX3_changes 17 = .ok (.getfield 13, 3) := dk_180 0 13 (dk_at dksX3_changes_0 17 rfl rfl)
theorem dX3_changes_20 : decode cX3_changes 20 = .ok (.iload_n 1, 1) := dk_27 (dk_at dksX3_changes_0 20 rfl rfl)
theorem dX3_changes_21 : decode cX3_changes 21 = .ok (.aload_n 0, 1) := dk_42 (dk_at dksX3_changes_0 21 rfl rfl)
theorem dX3_changes_22 : decode cX3_changes 22 = .ok (.getfield 13, 3) := dk_180 0 13 (dk_at dksX3_changes_1 0 rfl rfl)
theorem dX3_changes_25 : decode cX3_changes 25 = .ok (.iload_n 1, 1) := dk_27 (dk_at dksX3_changes_1 3 rfl rfl)
theorem dX3_changes_26 : decode cX3_changes 26 = .ok (.bipush 11, 2) := dk_16 11 (dk_at dksX3_changes_1 4 rfl rfl)
theorem dX3_changes_28 : decode cX3_changes 28 = .ok (.iadd, 1) := dk_96 (dk_at dksX3_changes_1 6 rfl rfl)
theorem dX3_changes_29 : decode cX3_changes 29 = .ok (.iaload, 1) := dk_46 (dk_at dksX3_changes_1 7 rfl rfl)
theorem dX3_changes_30 : decode cX3_changes 30 = .ok (.iastore, 1) := dk_79 (dk_at dksX3_changes_1 8 rfl rfl)
theorem dX3_changes_31 : decode cX3_changes 31 = .ok (.iinc 1 1, 3) := dk_132 1 1 (dk_at dksX3_changes_1 9 rfl rfl)
theorem dX3_changes_34 : decode cX3_changes 34 = .ok (.goto (-24), 3) := dk_167 255 232 (dk_at dksX3_changes_1 12 rfl rfl)
theorem dX3_changes_37 : decode cX3_changes 37 = .ok (.aload_n 0, 1) := dk_42 (dk_at dksX3_changes_1 15 rfl rfl)
theorem dX3_changes_38 : decode cX3_changes 38 = .ok (.dup, 1) := dk_89 (dk_at dksX3_changes_1 16 rfl rfl)
theorem dX3_changes_39 : decode cX3_changes 39 = .ok (.getfield 102, 3) := dk_180 0 102 (dk_at dksX3_changes_1 17 rfl rfl)
theorem dX3_changes_42 : decode cX3_changes 42 = .ok (.iconst 1, 1) := dk_4 (dk_at dksX3_changes_1 20 rfl rfl)
theorem dX3_changes_43 : decode cX3_changes 43 = .ok (.isub, 1) := dk_100 (dk_at dksX3_changes_1 21 rfl rfl)
theorem dX3_changes_44 : decode cX3_changes 44 = .ok (.putfield 102, 3) := dk_181 0 102 (dk_at dksX3_changes_2 0 rfl rfl)
theorem dX3_changes_47 : decode cX3_changes 47 = .ok (.iconst 0, 1) := dk_3 (dk_at dksX3_changes_2 3 rfl rfl)
theorem dX3_changes_48 : decode cX3_changes 48 = .ok (.istore_n 1, 1) := dk_60 (dk_at dksX3_changes_2 4 rfl rfl)
theorem dX3_changes_49 : decode cX3_changes 49 = .ok (.iload_n 1, 1) := dk_27 (dk_at dksX3_changes_2 5 rfl rfl)
theorem dX3_changes_50 : decode cX3_changes 50 = .ok (.bipush 11, 2) := dk_16 11 (dk_at dksX3_changes_2 6 rfl rfl)
theorem dX3_changes_52 : decode cX3_changes 52 = .ok (.if_icmp .ge 29, 3) := dk_162 0 29 (dk_at dksX3_changes_2 8 rfl rfl)
theorem dX3_changes_55 : decode cX3_changes 55 = .ok (.aload_n 0, 1) := dk_42 (dk_at dksX3_changes_2 11 rfl rfl)
theorem dX3_changes_56 : decode cX3_changes 56 = .ok (.getfield 13, 3) := dk_180 0 13 (dk_at dksX3_changes_2 12 rfl rfl)
theorem dX3_changes_59 : decode cX3_changes 59 = .ok (.bipush 11, 2) := dk_16 11 (dk_at dksX3_changes_2 15 rfl rfl)
theorem dX3_changes_61 : decode cX3_changes 61 = .ok (.aload_n 0, 1) := dk_42 (dk_at dksX3_changes_2 17 rfl rfl)
theorem dX3_changes_62 : decode cX3_changes 62 = .ok (.getfield 102, 3) := dk_180 0 102 (dk_at dksX3_changes_2 18 rfl rfl)
theorem dX3_changes_65 : decode cX3_changes 65 = .ok (.imul, 1) := dk_104 (dk_at dksX3_changes_2 21 rfl rfl)
theorem dX3_changes_66 : decode cX3_changes 66 = .ok (.iload_n 1, 1) := dk_27 (dk_at dksX3_changes_2 22 rfl rfl)
theorem dX3_changes_67 : decode cX3_changes 67 = .ok (.iadd, 1) := dk_96 (dk_at dksX3_changes_2 23 rfl rfl)
theorem dX3_changes_68 : decode cX3_changes 68 = .ok (.aload_n 0, 1) := dk_42 (dk_at dksX3_changes_3 0 rfl rfl)
theorem dX3_changes_69 : decode cX3_changes 69 = .ok (.getfield 7, 3) := dk_180 0 7 (dk_at dksX3_changes_3 1 rfl rfl)
theorem dX3_changes_72 : decode cX3_changes 72 = .ok (.iload_n 1, 1) := dk_27 (dk_at dksX3_changes_3 4 rfl rfl)
theorem dX3_changes_73 : decode cX3_changes 73 = .ok (.iaload, 1) := dk_46 (dk_at dksX3_changes_3 5 rfl rfl)
theorem dX3_changes_74 : decode cX3_changes 74 = .ok (.iastore, 1) := dk_79 (dk_at dksX3_changes_3 6 rfl rfl)
theorem dX3_changes_75 : decode cX3_changes 75 = .ok (.iinc 1 1, 3) := dk_132 1 1 (dk_at dksX3_changes_3 7 rfl rfl)
theorem dX3_changes_78 : decode cX3_changes 78 = .ok (.goto (-29), 3) := dk_167 255 227 (dk_at dksX3_changes_3 10 rfl rfl)
theorem dX3_changes_81 : decode cX3_changes 81 = .ok (.aload_n 0, 1) := dk_42 (dk_at dksX3_changes_3 13 rfl rfl)
theorem dX3_changes_82 : decode cX3_changes 82 = .ok (.dup, 1) := dk_89 (dk_at dksX3_changes_3 14 rfl rfl)
theorem dX3_changes_83 : decode cX3_changes 83 = .ok (.getfield 102, 3) := dk_180 0 102 (dk_at dksX3_changes_3 15 rfl rfl)
theorem dX3_changes_86 : decode cX3_changes 86 = .ok (.iconst 1, 1) := dk_4 (dk_at dksX3_changes_3 18 rfl rfl)
theorem dX3_changes_87 : decode cX3_changes 87 = .ok (.iadd, 1) := dk_96 (dk_at dksX3_changes_3 19 rfl rfl)
theorem dX3_changes_88 : decode cX3_changes 88 = .ok (.putfield 102, 3) := dk_181 0 102 (dk_at dksX3_changes_3 20 rfl rfl)
theorem dX3_changes_91 : decode cX3_changes 91 = .ok (.aload_n 0, 1) := dk_42 (dk_at dksX3_changes_3 23 rfl rfl)
theorem dX3_changes_92 : decode cX3_changes 92 = .ok (.invokevirtual 106, 3) := dk_182 0 106 (dk_at dksX3_changes_4 0 rfl rfl)
theorem dX3_changes_95 : decode cX3_changes 95 = .ok (.return_, 1) := dk_177 (dk_at dksX3_changes_4 3 rfl rfl)
abbrev cX3_isOther : ByteArray := prog_18_method_14_code
def yX3_isOther : MethodName := ⟨RX3, "isOther", "()V"⟩
def dkwX3_isOther_0 : List UInt8 := [42, 3, 181, 0, 109, 42, 3, 181, 0, 112, 42, 3, 181, 0, 116, 177]
abbrev dktX3_isOther_0 : List UInt8 := dkwX3_isOther_0 ++ []
theorem dksX3_isOther_0 : cX3_isOther.data.toList.drop 0 = dktX3_isOther_0 := by decide +kernel
theorem dX3_isOther_0 : decode cX3_isOther 0 = .ok (.aload_n 0, 1) := dk_42 (dk_at dksX3_isOther_0 0 rfl rfl)
theorem dX3_isOther_1 : decode cX3_isOther 1 = .ok (.iconst 0, 1) := dk_3 (dk_at dksX3_isOther_0 1 rfl rfl)
theorem dX3_isOther_2 : decode cX3_isOther 2 = .ok (.putfield 109, 3) := dk_181 0 109 (dk_at dksX3_isOther_0 2 rfl rfl)
theorem dX3_isOther_5 : decode cX3_isOther 5 = .ok (.aload_n 0, 1) := dk_42 (dk_at dksX3_isOther_0 5 rfl rfl)
theorem dX3_isOther_6 : decode cX3_isOther 6 = .ok (.iconst 0, 1) := dk_3 (dk_at dksX3_isOther_0 6 rfl rfl)
theorem dX3_isOther_7 : decode cX3_isOther 7 = .ok (.putfield 112, 3) := dk_181 0 112 (dk_at dksX3_isOther_0 7 rfl rfl)
theorem dX3_isOther_10 : decode cX3_isOther 10 = .ok (.aload_n 0, 1) := dk_42 (dk_at dksX3_isOther_0 10 rfl rfl)
theorem dX3_isOther_11 : decode cX3_isOther 11 = .ok (.iconst 0, 1) := dk_3 (dk_at dksX3_isOther_0 11 rfl rfl)
theorem dX3_isOther_12 : decode cX3_isOther 12 = .ok (.putfield 116, 3) := dk_181 0 116 (dk_at dksX3_isOther_0 12 rfl rfl)
theorem dX3_isOther_15 : decode cX3_isOther 15 = .ok (.return_, 1) := dk_177 (dk_at dksX3_isOther_0 15 rfl rfl)
abbrev cX3_set : ByteArray := prog_18_method_17_code
def yX3_set : MethodName := ⟨RX3, "set", "(III)I"⟩
def dkwX3_set_3 : List UInt8 := [42, 180, 0, 7, 4, 28, 96, 92, 46, 4, 27, 120, 130, 79, 42, 182, 0, 129, 172]
abbrev dktX3_set_3 : List UInt8 := dkwX3_set_3 ++ []
def dkwX3_set_2 : List UInt8 := [160, 0, 6, 16, 254, 172, 42, 182, 0, 119, 42, 180, 0, 7, 4, 27, 96, 92, 46, 4, 28, 120, 130, 79]
abbrev dktX3_set_2 : List UInt8 := dkwX3_set_2 ++ dktX3_set_3
def dkwX3_set_1 : List UInt8 := [184, 0, 87, 154, 0, 5, 2, 172, 42, 27, 28, 182, 0, 126, 29, 4, 160, 0, 7, 4, 167, 0, 4, 3]
abbrev dktX3_set_1 : List UInt8 := dkwX3_set_1 ++ dktX3_set_2
def dkwX3_set_0 : List UInt8 := [42, 27, 182, 0, 122, 153, 0, 25, 42, 28, 182, 0, 122, 153, 0, 17, 27, 28, 159, 0, 12, 29, 3, 4]
abbrev dktX3_set_0 : List UInt8 := dkwX3_set_0 ++ dktX3_set_1
theorem dksX3_set_0 : cX3_set.data.toList.drop 0 = dktX3_set_0 := by decide +kernel
theorem dksX3_set_1 : cX3_set.data.toList.drop 24 = dktX3_set_1 := dk_seg dksX3_set_0 24 rfl rfl
theorem dksX3_set_2 : cX3_set.data.toList.drop 48 = dktX3_set_2 := dk_seg dksX3_set_1 24 rfl rfl
theorem dksX3_set_3 : cX3_set.data.toList.drop 72 = dktX3_set_3 := dk_seg dksX3_set_2 24 rfl rfl
theorem dX3_set_0 : decode cX3_set 0 = .ok (.aload_n 0, 1) := dk_42 (dk_at dksX3_set_0 0 rfl rfl)
theorem dX3_set_1 : decode cX3_set 1 = .ok (.iload_n 1, 1) := dk_27 (dk_at dksX3_set_0 1 rfl rfl)
theorem dX3_set_2 : decode cX3_set 2 = .ok (.invokevirtual 122, 3) := dk_182 0 122 (dk_at dksX3_set_0 2 rfl rfl)
theorem dX3_set_5 : decode cX3_set 5 = .ok (.ifCond .eq 25, 3) := dk_153 0 25 (dk_at dksX3_set_0 5 rfl rfl)
theorem dX3_set_8 : decode cX3_set 8 = .ok (.aload_n 0, 1) := dk_42 (dk_at dksX3_set_0 8 rfl rfl)
theorem dX3_set_9 : decode cX3_set 9 = .ok (.iload_n 2, 1) := dk_28 (dk_at dksX3_set_0 9 rfl rfl)
theorem dX3_set_10 : decode cX3_set 10 = .ok (.invokevirtual 122, 3) := dk_182 0 122 (dk_at dksX3_set_0 10 rfl rfl)
theorem dX3_set_13 : decode cX3_set 13 = .ok (.ifCond .eq 17, 3) := dk_153 0 17 (dk_at dksX3_set_0 13 rfl rfl)
theorem dX3_set_16 : decode cX3_set 16 = .ok (.iload_n 1, 1) := dk_27 (dk_at dksX3_set_0 16 rfl rfl)
theorem dX3_set_17 : decode cX3_set 17 = .ok (.iload_n 2, 1) := dk_28 (dk_at dksX3_set_0 17 rfl rfl)
theorem dX3_set_18 : decode cX3_set 18 = .ok (.if_icmp .eq 12, 3) := dk_159 0 12 (dk_at dksX3_set_0 18 rfl rfl)
theorem dX3_set_21 : decode cX3_set 21 = .ok (.iload_n 3, 1) := dk_29 (dk_at dksX3_set_0 21 rfl rfl)
theorem dX3_set_22 : decode cX3_set 22 = .ok (.iconst 0, 1) := dk_3 (dk_at dksX3_set_0 22 rfl rfl)
theorem dX3_set_23 : decode cX3_set 23 = .ok (.iconst 1, 1) := dk_4 (dk_at dksX3_set_0 23 rfl rfl)
theorem dX3_set_24 : decode cX3_set 24 = .ok (.invokestatic 87, 3) := dk_184 0 87 (dk_at dksX3_set_1 0 rfl rfl)
theorem dX3_set_27 : decode cX3_set 27 = .ok (.ifCond .ne 5, 3) := dk_154 0 5 (dk_at dksX3_set_1 3 rfl rfl)
theorem dX3_set_30 : decode cX3_set 30 = .ok (.iconst (-1), 1) := dk_2 (dk_at dksX3_set_1 6 rfl rfl)
theorem dX3_set_31 : decode cX3_set 31 = .ok (.ireturn, 1) := dk_172 (dk_at dksX3_set_1 7 rfl rfl)
theorem dX3_set_32 : decode cX3_set 32 = .ok (.aload_n 0, 1) := dk_42 (dk_at dksX3_set_1 8 rfl rfl)
theorem dX3_set_33 : decode cX3_set 33 = .ok (.iload_n 1, 1) := dk_27 (dk_at dksX3_set_1 9 rfl rfl)
theorem dX3_set_34 : decode cX3_set 34 = .ok (.iload_n 2, 1) := dk_28 (dk_at dksX3_set_1 10 rfl rfl)
theorem dX3_set_35 : decode cX3_set 35 = .ok (.invokevirtual 126, 3) := dk_182 0 126 (dk_at dksX3_set_1 11 rfl rfl)
theorem dX3_set_38 : decode cX3_set 38 = .ok (.iload_n 3, 1) := dk_29 (dk_at dksX3_set_1 14 rfl rfl)
theorem dX3_set_39 : decode cX3_set 39 = .ok (.iconst 1, 1) := dk_4 (dk_at dksX3_set_1 15 rfl rfl)
theorem dX3_set_40 : decode cX3_set 40 = .ok (.if_icmp .ne 7, 3) := dk_160 0 7 (dk_at dksX3_set_1 16 rfl rfl)
theorem dX3_set_43 : decode cX3_set 43 = .ok (.iconst 1, 1) := dk_4 (dk_at dksX3_set_1 19 rfl rfl)
theorem dX3_set_44 : decode cX3_set 44 = .ok (.goto 4, 3) := dk_167 0 4 (dk_at dksX3_set_1 20 rfl rfl)
theorem dX3_set_47 : decode cX3_set 47 = .ok (.iconst 0, 1) := dk_3 (dk_at dksX3_set_1 23 rfl rfl)
theorem dX3_set_48 : decode cX3_set 48 = .ok (.if_icmp .ne 6, 3) := dk_160 0 6 (dk_at dksX3_set_2 0 rfl rfl)
theorem dX3_set_51 : decode cX3_set 51 = .ok (.bipush (-2), 2) := dk_16 254 (dk_at dksX3_set_2 3 rfl rfl)
theorem dX3_set_53 : decode cX3_set 53 = .ok (.ireturn, 1) := dk_172 (dk_at dksX3_set_2 5 rfl rfl)
theorem dX3_set_54 : decode cX3_set 54 = .ok (.aload_n 0, 1) := dk_42 (dk_at dksX3_set_2 6 rfl rfl)
theorem dX3_set_55 : decode cX3_set 55 = .ok (.invokevirtual 119, 3) := dk_182 0 119 (dk_at dksX3_set_2 7 rfl rfl)
theorem dX3_set_58 : decode cX3_set 58 = .ok (.aload_n 0, 1) := dk_42 (dk_at dksX3_set_2 10 rfl rfl)
theorem dX3_set_59 : decode cX3_set 59 = .ok (.getfield 7, 3) := dk_180 0 7 (dk_at dksX3_set_2 11 rfl rfl)
theorem dX3_set_62 : decode cX3_set 62 = .ok (.iconst 1, 1) := dk_4 (dk_at dksX3_set_2 14 rfl rfl)
theorem dX3_set_63 : decode cX3_set 63 = .ok (.iload_n 1, 1) := dk_27 (dk_at dksX3_set_2 15 rfl rfl)
theorem dX3_set_64 : decode cX3_set 64 = .ok (.iadd, 1) := dk_96 (dk_at dksX3_set_2 16 rfl rfl)
theorem dX3_set_65 : decode cX3_set 65 = .ok (.dup2, 1) := dk_92 (dk_at dksX3_set_2 17 rfl rfl)
theorem dX3_set_66 : decode cX3_set 66 = .ok (.iaload, 1) := dk_46 (dk_at dksX3_set_2 18 rfl rfl)
theorem dX3_set_67 : decode cX3_set 67 = .ok (.iconst 1, 1) := dk_4 (dk_at dksX3_set_2 19 rfl rfl)
theorem dX3_set_68 : decode cX3_set 68 = .ok (.iload_n 2, 1) := dk_28 (dk_at dksX3_set_2 20 rfl rfl)
theorem dX3_set_69 : decode cX3_set 69 = .ok (.ishl, 1) := dk_120 (dk_at dksX3_set_2 21 rfl rfl)
theorem dX3_set_70 : decode cX3_set 70 = .ok (.ixor, 1) := dk_130 (dk_at dksX3_set_2 22 rfl rfl)
theorem dX3_set_71 : decode cX3_set 71 = .ok (.iastore, 1) := dk_79 (dk_at dksX3_set_2 23 rfl rfl)
theorem dX3_set_72 : decode cX3_set 72 = .ok (.aload_n 0, 1) := dk_42 (dk_at dksX3_set_3 0 rfl rfl)
theorem dX3_set_73 : decode cX3_set 73 = .ok (.getfield 7, 3) := dk_180 0 7 (dk_at dksX3_set_3 1 rfl rfl)
theorem dX3_set_76 : decode cX3_set 76 = .ok (.iconst 1, 1) := dk_4 (dk_at dksX3_set_3 4 rfl rfl)
theorem dX3_set_77 : decode cX3_set 77 = .ok (.iload_n 2, 1) := dk_28 (dk_at dksX3_set_3 5 rfl rfl)
theorem dX3_set_78 : decode cX3_set 78 = .ok (.iadd, 1) := dk_96 (dk_at dksX3_set_3 6 rfl rfl)
theorem dX3_set_79 : decode cX3_set 79 = .ok (.dup2, 1) := dk_92 (dk_at dksX3_set_3 7 rfl rfl)
theorem dX3_set_80 : decode cX3_set 80 = .ok (.iaload, 1) := dk_46 (dk_at dksX3_set_3 8 rfl rfl)
theorem dX3_set_81 : decode cX3_set 81 = .ok (.iconst 1, 1) := dk_4 (dk_at dksX3_set_3 9 rfl rfl)
theorem dX3_set_82 : decode cX3_set 82 = .ok (.iload_n 1, 1) := dk_27 (dk_at dksX3_set_3 10 rfl rfl)
theorem dX3_set_83 : decode cX3_set 83 = .ok (.ishl, 1) := dk_120 (dk_at dksX3_set_3 11 rfl rfl)
theorem dX3_set_84 : decode cX3_set 84 = .ok (.ixor, 1) := dk_130 (dk_at dksX3_set_3 12 rfl rfl)
theorem dX3_set_85 : decode cX3_set 85 = .ok (.iastore, 1) := dk_79 (dk_at dksX3_set_3 13 rfl rfl)
theorem dX3_set_86 : decode cX3_set 86 = .ok (.aload_n 0, 1) := dk_42 (dk_at dksX3_set_3 14 rfl rfl)
theorem dX3_set_87 : decode cX3_set 87 = .ok (.invokevirtual 129, 3) := dk_182 0 129 (dk_at dksX3_set_3 15 rfl rfl)
theorem dX3_set_90 : decode cX3_set 90 = .ok (.ireturn, 1) := dk_172 (dk_at dksX3_set_3 18 rfl rfl)
abbrev cX3_isVertex : ByteArray := prog_18_method_4_code
def yX3_isVertex : MethodName := ⟨RX3, "isVertex", "(I)Z"⟩
def dkwX3_isVertex_0 : List UInt8 := [27, 155, 0, 17, 27, 42, 180, 0, 7, 3, 46, 162, 0, 7, 4, 167, 0, 4, 3, 172]
abbrev dktX3_isVertex_0 : List UInt8 := dkwX3_isVertex_0 ++ []
theorem dksX3_isVertex_0 : cX3_isVertex.data.toList.drop 0 = dktX3_isVertex_0 := by decide +kernel
theorem dX3_isVertex_0 : decode cX3_isVertex 0 = .ok (.iload_n 1, 1) := dk_27 (dk_at dksX3_isVertex_0 0 rfl rfl)
theorem dX3_isVertex_1 : decode cX3_isVertex 1 = .ok (.ifCond .lt 17, 3) := dk_155 0 17 (dk_at dksX3_isVertex_0 1 rfl rfl)
theorem dX3_isVertex_4 : decode cX3_isVertex 4 = .ok (.iload_n 1, 1) := dk_27 (dk_at dksX3_isVertex_0 4 rfl rfl)
theorem dX3_isVertex_5 : decode cX3_isVertex 5 = .ok (.aload_n 0, 1) := dk_42 (dk_at dksX3_isVertex_0 5 rfl rfl)
theorem dX3_isVertex_6 : decode cX3_isVertex 6 = .ok (.getfield 7, 3) := dk_180 0 7 (dk_at dksX3_isVertex_0 6 rfl rfl)
theorem dX3_isVertex_9 : decode cX3_isVertex 9 = .ok (.iconst 0, 1) := dk_3 (dk_at dksX3_isVertex_0 9 rfl rfl)
theorem dX3_isVertex_10 : decode cX3_isVertex 10 = .ok (.iaload, 1) := dk_46 (dk_at dksX3_isVertex_0 10 rfl rfl)
theorem dX3_isVertex_11 : decode cX3_isVertex 11 = .ok (.if_icmp .ge 7, 3) := dk_162 0 7 (dk_at dksX3_isVertex_0 11 rfl rfl)
theorem dX3_isVertex_14 : decode cX3_isVertex 14 = .ok (.iconst 1, 1) := dk_4 (dk_at dksX3_isVertex_0 14 rfl rfl)
theorem dX3_isVertex_15 : decode cX3_isVertex 15 = .ok (.goto 4, 3) := dk_167 0 4 (dk_at dksX3_isVertex_0 15 rfl rfl)
theorem dX3_isVertex_18 : decode cX3_isVertex 18 = .ok (.iconst 0, 1) := dk_3 (dk_at dksX3_isVertex_0 18 rfl rfl)
theorem dX3_isVertex_19 : decode cX3_isVertex 19 = .ok (.ireturn, 1) := dk_172 (dk_at dksX3_isVertex_0 19 rfl rfl)
abbrev cX3_areLinked : ByteArray := prog_18_method_11_code
def yX3_areLinked : MethodName := ⟨RX3, "areLinked", "(II)Z"⟩
def dkwX3_areLinked_0 : List UInt8 := [42, 27, 182, 0, 95, 28, 184, 0, 91, 172]
abbrev dktX3_areLinked_0 : List UInt8 := dkwX3_areLinked_0 ++ []
theorem dksX3_areLinked_0 : cX3_areLinked.data.toList.drop 0 = dktX3_areLinked_0 := by decide +kernel
theorem dX3_areLinked_0 : decode cX3_areLinked 0 = .ok (.aload_n 0, 1) := dk_42 (dk_at dksX3_areLinked_0 0 rfl rfl)
theorem dX3_areLinked_1 : decode cX3_areLinked 1 = .ok (.iload_n 1, 1) := dk_27 (dk_at dksX3_areLinked_0 1 rfl rfl)
theorem dX3_areLinked_2 : decode cX3_areLinked 2 = .ok (.invokevirtual 95, 3) := dk_182 0 95 (dk_at dksX3_areLinked_0 2 rfl rfl)
theorem dX3_areLinked_5 : decode cX3_areLinked 5 = .ok (.iload_n 2, 1) := dk_28 (dk_at dksX3_areLinked_0 5 rfl rfl)
theorem dX3_areLinked_6 : decode cX3_areLinked 6 = .ok (.invokestatic 91, 3) := dk_184 0 91 (dk_at dksX3_areLinked_0 6 rfl rfl)
theorem dX3_areLinked_9 : decode cX3_areLinked 9 = .ok (.ireturn, 1) := dk_172 (dk_at dksX3_areLinked_0 9 rfl rfl)
abbrev cX3_near : ByteArray := prog_18_method_10_code
def yX3_near : MethodName := ⟨RX3, "near", "(I)I"⟩
def dkwX3_near_0 : List UInt8 := [42, 180, 0, 7, 4, 27, 96, 46, 172]
abbrev dktX3_near_0 : List UInt8 := dkwX3_near_0 ++ []
theorem dksX3_near_0 : cX3_near.data.toList.drop 0 = dktX3_near_0 := by decide +kernel
theorem dX3_near_0 : decode cX3_near 0 = .ok (.aload_n 0, 1) := dk_42 (dk_at dksX3_near_0 0 rfl rfl)
theorem dX3_near_1 : decode cX3_near 1 = .ok (.getfield 7, 3) := dk_180 0 7 (dk_at dksX3_near_0 1 rfl rfl)
theorem dX3_near_4 : decode cX3_near 4 = .ok (.iconst 1, 1) := dk_4 (dk_at dksX3_near_0 4 rfl rfl)
theorem dX3_near_5 : decode cX3_near 5 = .ok (.iload_n 1, 1) := dk_27 (dk_at dksX3_near_0 5 rfl rfl)
theorem dX3_near_6 : decode cX3_near 6 = .ok (.iadd, 1) := dk_96 (dk_at dksX3_near_0 6 rfl rfl)
theorem dX3_near_7 : decode cX3_near 7 = .ok (.iaload, 1) := dk_46 (dk_at dksX3_near_0 7 rfl rfl)
theorem dX3_near_8 : decode cX3_near 8 = .ok (.ireturn, 1) := dk_172 (dk_at dksX3_near_0 8 rfl rfl)
abbrev cX3_has : ByteArray := prog_18_method_7_code
def yX3_has : MethodName := ⟨RX3, "has", "(II)Z"⟩
def dkwX3_has_0 : List UInt8 := [26, 27, 122, 4, 126, 4, 160, 0, 7, 4, 167, 0, 4, 3, 172]
abbrev dktX3_has_0 : List UInt8 := dkwX3_has_0 ++ []
theorem dksX3_has_0 : cX3_has.data.toList.drop 0 = dktX3_has_0 := by decide +kernel
theorem dX3_has_0 : decode cX3_has 0 = .ok (.iload_n 0, 1) := dk_26 (dk_at dksX3_has_0 0 rfl rfl)
theorem dX3_has_1 : decode cX3_has 1 = .ok (.iload_n 1, 1) := dk_27 (dk_at dksX3_has_0 1 rfl rfl)
theorem dX3_has_2 : decode cX3_has 2 = .ok (.ishr, 1) := dk_122 (dk_at dksX3_has_0 2 rfl rfl)
theorem dX3_has_3 : decode cX3_has 3 = .ok (.iconst 1, 1) := dk_4 (dk_at dksX3_has_0 3 rfl rfl)
theorem dX3_has_4 : decode cX3_has 4 = .ok (.iand, 1) := dk_126 (dk_at dksX3_has_0 4 rfl rfl)
theorem dX3_has_5 : decode cX3_has 5 = .ok (.iconst 1, 1) := dk_4 (dk_at dksX3_has_0 5 rfl rfl)
theorem dX3_has_6 : decode cX3_has 6 = .ok (.if_icmp .ne 7, 3) := dk_160 0 7 (dk_at dksX3_has_0 6 rfl rfl)
theorem dX3_has_9 : decode cX3_has 9 = .ok (.iconst 1, 1) := dk_4 (dk_at dksX3_has_0 9 rfl rfl)
theorem dX3_has_10 : decode cX3_has 10 = .ok (.goto 4, 3) := dk_167 0 4 (dk_at dksX3_has_0 10 rfl rfl)
theorem dX3_has_13 : decode cX3_has 13 = .ok (.iconst 0, 1) := dk_3 (dk_at dksX3_has_0 13 rfl rfl)
theorem dX3_has_14 : decode cX3_has 14 = .ok (.ireturn, 1) := dk_172 (dk_at dksX3_has_0 14 rfl rfl)
abbrev cX3_edges : ByteArray := prog_18_method_12_code
def yX3_edges : MethodName := ⟨RX3, "edges", "()I"⟩
def dkwX3_edges_1 : List UInt8 := [60, 132, 2, 1, 167, 255, 232, 27, 5, 108, 172]
abbrev dktX3_edges_1 : List UInt8 := dkwX3_edges_1 ++ []
def dkwX3_edges_0 : List UInt8 := [3, 60, 3, 61, 28, 42, 180, 0, 7, 3, 46, 162, 0, 20, 27, 42, 28, 182, 0, 95, 184, 0, 99, 96]
abbrev dktX3_edges_0 : List UInt8 := dkwX3_edges_0 ++ dktX3_edges_1
theorem dksX3_edges_0 : cX3_edges.data.toList.drop 0 = dktX3_edges_0 := by decide +kernel
theorem dksX3_edges_1 : cX3_edges.data.toList.drop 24 = dktX3_edges_1 := dk_seg dksX3_edges_0 24 rfl rfl
theorem dX3_edges_0 : decode cX3_edges 0 = .ok (.iconst 0, 1) := dk_3 (dk_at dksX3_edges_0 0 rfl rfl)
theorem dX3_edges_1 : decode cX3_edges 1 = .ok (.istore_n 1, 1) := dk_60 (dk_at dksX3_edges_0 1 rfl rfl)
theorem dX3_edges_2 : decode cX3_edges 2 = .ok (.iconst 0, 1) := dk_3 (dk_at dksX3_edges_0 2 rfl rfl)
theorem dX3_edges_3 : decode cX3_edges 3 = .ok (.istore_n 2, 1) := dk_61 (dk_at dksX3_edges_0 3 rfl rfl)
theorem dX3_edges_4 : decode cX3_edges 4 = .ok (.iload_n 2, 1) := dk_28 (dk_at dksX3_edges_0 4 rfl rfl)
theorem dX3_edges_5 : decode cX3_edges 5 = .ok (.aload_n 0, 1) := dk_42 (dk_at dksX3_edges_0 5 rfl rfl)
theorem dX3_edges_6 : decode cX3_edges 6 = .ok (.getfield 7, 3) := dk_180 0 7 (dk_at dksX3_edges_0 6 rfl rfl)
theorem dX3_edges_9 : decode cX3_edges 9 = .ok (.iconst 0, 1) := dk_3 (dk_at dksX3_edges_0 9 rfl rfl)
theorem dX3_edges_10 : decode cX3_edges 10 = .ok (.iaload, 1) := dk_46 (dk_at dksX3_edges_0 10 rfl rfl)
theorem dX3_edges_11 : decode cX3_edges 11 = .ok (.if_icmp .ge 20, 3) := dk_162 0 20 (dk_at dksX3_edges_0 11 rfl rfl)
theorem dX3_edges_14 : decode cX3_edges 14 = .ok (.iload_n 1, 1) := dk_27 (dk_at dksX3_edges_0 14 rfl rfl)
theorem dX3_edges_15 : decode cX3_edges 15 = .ok (.aload_n 0, 1) := dk_42 (dk_at dksX3_edges_0 15 rfl rfl)
theorem dX3_edges_16 : decode cX3_edges 16 = .ok (.iload_n 2, 1) := dk_28 (dk_at dksX3_edges_0 16 rfl rfl)
theorem dX3_edges_17 : decode cX3_edges 17 = .ok (.invokevirtual 95, 3) := dk_182 0 95 (dk_at dksX3_edges_0 17 rfl rfl)
theorem dX3_edges_20 : decode cX3_edges 20 = .ok (.invokestatic 99, 3) := dk_184 0 99 (dk_at dksX3_edges_0 20 rfl rfl)
theorem dX3_edges_23 : decode cX3_edges 23 = .ok (.iadd, 1) := dk_96 (dk_at dksX3_edges_0 23 rfl rfl)
theorem dX3_edges_24 : decode cX3_edges 24 = .ok (.istore_n 1, 1) := dk_60 (dk_at dksX3_edges_1 0 rfl rfl)
theorem dX3_edges_25 : decode cX3_edges 25 = .ok (.iinc 2 1, 3) := dk_132 2 1 (dk_at dksX3_edges_1 1 rfl rfl)
theorem dX3_edges_28 : decode cX3_edges 28 = .ok (.goto (-24), 3) := dk_167 255 232 (dk_at dksX3_edges_1 4 rfl rfl)
theorem dX3_edges_31 : decode cX3_edges 31 = .ok (.iload_n 1, 1) := dk_27 (dk_at dksX3_edges_1 7 rfl rfl)
theorem dX3_edges_32 : decode cX3_edges 32 = .ok (.iconst 2, 1) := dk_5 (dk_at dksX3_edges_1 8 rfl rfl)
theorem dX3_edges_33 : decode cX3_edges 33 = .ok (.idiv, 1) := dk_108 (dk_at dksX3_edges_1 9 rfl rfl)
theorem dX3_edges_34 : decode cX3_edges 34 = .ok (.ireturn, 1) := dk_172 (dk_at dksX3_edges_1 10 rfl rfl)
abbrev cX3_ones : ByteArray := prog_18_method_8_code
def yX3_ones : MethodName := ⟨RX3, "ones", "(I)I"⟩
def dkwX3_ones_1 : List UInt8 := [27, 172]
abbrev dktX3_ones_1 : List UInt8 := dkwX3_ones_1 ++ []
def dkwX3_ones_0 : List UInt8 := [3, 60, 3, 61, 28, 16, 10, 162, 0, 17, 27, 26, 28, 122, 4, 126, 96, 60, 132, 2, 1, 167, 255, 239]
abbrev dktX3_ones_0 : List UInt8 := dkwX3_ones_0 ++ dktX3_ones_1
theorem dksX3_ones_0 : cX3_ones.data.toList.drop 0 = dktX3_ones_0 := by decide +kernel
theorem dksX3_ones_1 : cX3_ones.data.toList.drop 24 = dktX3_ones_1 := dk_seg dksX3_ones_0 24 rfl rfl
theorem dX3_ones_0 : decode cX3_ones 0 = .ok (.iconst 0, 1) := dk_3 (dk_at dksX3_ones_0 0 rfl rfl)
theorem dX3_ones_1 : decode cX3_ones 1 = .ok (.istore_n 1, 1) := dk_60 (dk_at dksX3_ones_0 1 rfl rfl)
theorem dX3_ones_2 : decode cX3_ones 2 = .ok (.iconst 0, 1) := dk_3 (dk_at dksX3_ones_0 2 rfl rfl)
theorem dX3_ones_3 : decode cX3_ones 3 = .ok (.istore_n 2, 1) := dk_61 (dk_at dksX3_ones_0 3 rfl rfl)
theorem dX3_ones_4 : decode cX3_ones 4 = .ok (.iload_n 2, 1) := dk_28 (dk_at dksX3_ones_0 4 rfl rfl)
theorem dX3_ones_5 : decode cX3_ones 5 = .ok (.bipush 10, 2) := dk_16 10 (dk_at dksX3_ones_0 5 rfl rfl)
theorem dX3_ones_7 : decode cX3_ones 7 = .ok (.if_icmp .ge 17, 3) := dk_162 0 17 (dk_at dksX3_ones_0 7 rfl rfl)
theorem dX3_ones_10 : decode cX3_ones 10 = .ok (.iload_n 1, 1) := dk_27 (dk_at dksX3_ones_0 10 rfl rfl)
theorem dX3_ones_11 : decode cX3_ones 11 = .ok (.iload_n 0, 1) := dk_26 (dk_at dksX3_ones_0 11 rfl rfl)
theorem dX3_ones_12 : decode cX3_ones 12 = .ok (.iload_n 2, 1) := dk_28 (dk_at dksX3_ones_0 12 rfl rfl)
theorem dX3_ones_13 : decode cX3_ones 13 = .ok (.ishr, 1) := dk_122 (dk_at dksX3_ones_0 13 rfl rfl)
theorem dX3_ones_14 : decode cX3_ones 14 = .ok (.iconst 1, 1) := dk_4 (dk_at dksX3_ones_0 14 rfl rfl)
theorem dX3_ones_15 : decode cX3_ones 15 = .ok (.iand, 1) := dk_126 (dk_at dksX3_ones_0 15 rfl rfl)
theorem dX3_ones_16 : decode cX3_ones 16 = .ok (.iadd, 1) := dk_96 (dk_at dksX3_ones_0 16 rfl rfl)
theorem dX3_ones_17 : decode cX3_ones 17 = .ok (.istore_n 1, 1) := dk_60 (dk_at dksX3_ones_0 17 rfl rfl)
theorem dX3_ones_18 : decode cX3_ones 18 = .ok (.iinc 2 1, 3) := dk_132 2 1 (dk_at dksX3_ones_0 18 rfl rfl)
theorem dX3_ones_21 : decode cX3_ones 21 = .ok (.goto (-17), 3) := dk_167 255 239 (dk_at dksX3_ones_0 21 rfl rfl)
theorem dX3_ones_24 : decode cX3_ones 24 = .ok (.iload_n 1, 1) := dk_27 (dk_at dksX3_ones_1 0 rfl rfl)
theorem dX3_ones_25 : decode cX3_ones 25 = .ok (.ireturn, 1) := dk_172 (dk_at dksX3_ones_1 1 rfl rfl)
abbrev cX3_complement : ByteArray := prog_18_method_18_code
def yX3_complement : MethodName := ⟨RX3, "complement", "()I"⟩
def dkwX3_complement_2 : List UInt8 := [42, 182, 0, 129, 172]
abbrev dktX3_complement_2 : List UInt8 := dkwX3_complement_2 ++ []
def dkwX3_complement_1 : List UInt8 := [182, 0, 83, 42, 27, 182, 0, 95, 2, 130, 126, 4, 27, 120, 2, 130, 126, 79, 132, 1, 1, 167, 255, 217]
abbrev dktX3_complement_1 : List UInt8 := dkwX3_complement_1 ++ dktX3_complement_2
def dkwX3_complement_0 : List UInt8 := [42, 182, 0, 119, 3, 60, 27, 42, 180, 0, 7, 3, 46, 162, 0, 35, 42, 180, 0, 7, 4, 27, 96, 42]
abbrev dktX3_complement_0 : List UInt8 := dkwX3_complement_0 ++ dktX3_complement_1
theorem dksX3_complement_0 : cX3_complement.data.toList.drop 0 = dktX3_complement_0 := by decide +kernel
theorem dksX3_complement_1 : cX3_complement.data.toList.drop 24 = dktX3_complement_1 := dk_seg dksX3_complement_0 24 rfl rfl
theorem dksX3_complement_2 : cX3_complement.data.toList.drop 48 = dktX3_complement_2 := dk_seg dksX3_complement_1 24 rfl rfl
theorem dX3_complement_0 : decode cX3_complement 0 = .ok (.aload_n 0, 1) := dk_42 (dk_at dksX3_complement_0 0 rfl rfl)
theorem dX3_complement_1 : decode cX3_complement 1 = .ok (.invokevirtual 119, 3) := dk_182 0 119 (dk_at dksX3_complement_0 1 rfl rfl)
theorem dX3_complement_4 : decode cX3_complement 4 = .ok (.iconst 0, 1) := dk_3 (dk_at dksX3_complement_0 4 rfl rfl)
theorem dX3_complement_5 : decode cX3_complement 5 = .ok (.istore_n 1, 1) := dk_60 (dk_at dksX3_complement_0 5 rfl rfl)
theorem dX3_complement_6 : decode cX3_complement 6 = .ok (.iload_n 1, 1) := dk_27 (dk_at dksX3_complement_0 6 rfl rfl)
theorem dX3_complement_7 : decode cX3_complement 7 = .ok (.aload_n 0, 1) := dk_42 (dk_at dksX3_complement_0 7 rfl rfl)
theorem dX3_complement_8 : decode cX3_complement 8 = .ok (.getfield 7, 3) := dk_180 0 7 (dk_at dksX3_complement_0 8 rfl rfl)
theorem dX3_complement_11 : decode cX3_complement 11 = .ok (.iconst 0, 1) := dk_3 (dk_at dksX3_complement_0 11 rfl rfl)
theorem dX3_complement_12 : decode cX3_complement 12 = .ok (.iaload, 1) := dk_46 (dk_at dksX3_complement_0 12 rfl rfl)
theorem dX3_complement_13 : decode cX3_complement 13 = .ok (.if_icmp .ge 35, 3) := dk_162 0 35 (dk_at dksX3_complement_0 13 rfl rfl)
theorem dX3_complement_16 : decode cX3_complement 16 = .ok (.aload_n 0, 1) := dk_42 (dk_at dksX3_complement_0 16 rfl rfl)
theorem dX3_complement_17 : decode cX3_complement 17 = .ok (.getfield 7, 3) := dk_180 0 7 (dk_at dksX3_complement_0 17 rfl rfl)
theorem dX3_complement_20 : decode cX3_complement 20 = .ok (.iconst 1, 1) := dk_4 (dk_at dksX3_complement_0 20 rfl rfl)
theorem dX3_complement_21 : decode cX3_complement 21 = .ok (.iload_n 1, 1) := dk_27 (dk_at dksX3_complement_0 21 rfl rfl)
theorem dX3_complement_22 : decode cX3_complement 22 = .ok (.iadd, 1) := dk_96 (dk_at dksX3_complement_0 22 rfl rfl)
theorem dX3_complement_23 : decode cX3_complement 23 = .ok (.aload_n 0, 1) := dk_42 (dk_at dksX3_complement_0 23 rfl rfl)
theorem dX3_complement_24 : decode cX3_complement 24 = .ok (.invokevirtual 83, 3) := dk_182 0 83 (dk_at dksX3_complement_1 0 rfl rfl)
theorem dX3_complement_27 : decode cX3_complement 27 = .ok (.aload_n 0, 1) := dk_42 (dk_at dksX3_complement_1 3 rfl rfl)
theorem dX3_complement_28 : decode cX3_complement 28 = .ok (.iload_n 1, 1) := dk_27 (dk_at dksX3_complement_1 4 rfl rfl)
theorem dX3_complement_29 : decode cX3_complement 29 = .ok (.invokevirtual 95, 3) := dk_182 0 95 (dk_at dksX3_complement_1 5 rfl rfl)
theorem dX3_complement_32 : decode cX3_complement 32 = .ok (.iconst (-1), 1) := dk_2 (dk_at dksX3_complement_1 8 rfl rfl)
theorem dX3_complement_33 : decode cX3_complement 33 = .ok (.ixor, 1) := dk_130 (dk_at dksX3_complement_1 9 rfl rfl)
theorem dX3_complement_34 : decode cX3_complement 34 = .ok (.iand, 1) := dk_126 (dk_at dksX3_complement_1 10 rfl rfl)
theorem dX3_complement_35 : decode cX3_complement 35 = .ok (.iconst 1, 1) := dk_4 (dk_at dksX3_complement_1 11 rfl rfl)
theorem dX3_complement_36 : decode cX3_complement 36 = .ok (.iload_n 1, 1) := dk_27 (dk_at dksX3_complement_1 12 rfl rfl)
theorem dX3_complement_37 : decode cX3_complement 37 = .ok (.ishl, 1) := dk_120 (dk_at dksX3_complement_1 13 rfl rfl)
theorem dX3_complement_38 : decode cX3_complement 38 = .ok (.iconst (-1), 1) := dk_2 (dk_at dksX3_complement_1 14 rfl rfl)
theorem dX3_complement_39 : decode cX3_complement 39 = .ok (.ixor, 1) := dk_130 (dk_at dksX3_complement_1 15 rfl rfl)
theorem dX3_complement_40 : decode cX3_complement 40 = .ok (.iand, 1) := dk_126 (dk_at dksX3_complement_1 16 rfl rfl)
theorem dX3_complement_41 : decode cX3_complement 41 = .ok (.iastore, 1) := dk_79 (dk_at dksX3_complement_1 17 rfl rfl)
theorem dX3_complement_42 : decode cX3_complement 42 = .ok (.iinc 1 1, 3) := dk_132 1 1 (dk_at dksX3_complement_1 18 rfl rfl)
theorem dX3_complement_45 : decode cX3_complement 45 = .ok (.goto (-39), 3) := dk_167 255 217 (dk_at dksX3_complement_1 21 rfl rfl)
theorem dX3_complement_48 : decode cX3_complement 48 = .ok (.aload_n 0, 1) := dk_42 (dk_at dksX3_complement_2 0 rfl rfl)
theorem dX3_complement_49 : decode cX3_complement 49 = .ok (.invokevirtual 129, 3) := dk_182 0 129 (dk_at dksX3_complement_2 1 rfl rfl)
theorem dX3_complement_52 : decode cX3_complement 52 = .ok (.ireturn, 1) := dk_172 (dk_at dksX3_complement_2 4 rfl rfl)
abbrev cX3_all : ByteArray := prog_18_method_5_code
def yX3_all : MethodName := ⟨RX3, "all", "()I"⟩
def dkwX3_all_0 : List UInt8 := [4, 42, 180, 0, 7, 3, 46, 120, 4, 100, 172]
abbrev dktX3_all_0 : List UInt8 := dkwX3_all_0 ++ []
theorem dksX3_all_0 : cX3_all.data.toList.drop 0 = dktX3_all_0 := by decide +kernel
theorem dX3_all_0 : decode cX3_all 0 = .ok (.iconst 1, 1) := dk_4 (dk_at dksX3_all_0 0 rfl rfl)
theorem dX3_all_1 : decode cX3_all 1 = .ok (.aload_n 0, 1) := dk_42 (dk_at dksX3_all_0 1 rfl rfl)
theorem dX3_all_2 : decode cX3_all 2 = .ok (.getfield 7, 3) := dk_180 0 7 (dk_at dksX3_all_0 2 rfl rfl)
theorem dX3_all_5 : decode cX3_all 5 = .ok (.iconst 0, 1) := dk_3 (dk_at dksX3_all_0 5 rfl rfl)
theorem dX3_all_6 : decode cX3_all 6 = .ok (.iaload, 1) := dk_46 (dk_at dksX3_all_0 6 rfl rfl)
theorem dX3_all_7 : decode cX3_all 7 = .ok (.ishl, 1) := dk_120 (dk_at dksX3_all_0 7 rfl rfl)
theorem dX3_all_8 : decode cX3_all 8 = .ok (.iconst 1, 1) := dk_4 (dk_at dksX3_all_0 8 rfl rfl)
theorem dX3_all_9 : decode cX3_all 9 = .ok (.isub, 1) := dk_100 (dk_at dksX3_all_0 9 rfl rfl)
theorem dX3_all_10 : decode cX3_all 10 = .ok (.ireturn, 1) := dk_172 (dk_at dksX3_all_0 10 rfl rfl)
abbrev cX3_twin : ByteArray := prog_18_method_19_code
def yX3_twin : MethodName := ⟨RX3, "twin", "(II)I"⟩
def dkwX3_twin_4 : List UInt8 := [21, 4, 182, 0, 132, 132, 4, 1, 167, 255, 219, 29, 172]
abbrev dktX3_twin_4 : List UInt8 := dkwX3_twin_4 ++ []
def dkwX3_twin_3 : List UInt8 := [42, 27, 21, 4, 182, 0, 126, 154, 0, 14, 21, 4, 27, 160, 0, 15, 28, 4, 160, 0, 10, 42, 29]
abbrev dktX3_twin_3 : List UInt8 := dkwX3_twin_3 ++ dktX3_twin_4
def dkwX3_twin_2 : List UInt8 := [3, 92, 46, 4, 96, 79, 42, 180, 0, 7, 4, 29, 96, 3, 79, 3, 54, 4, 21, 4, 29, 162, 0, 37]
abbrev dktX3_twin_2 : List UInt8 := dkwX3_twin_2 ++ dktX3_twin_3
def dkwX3_twin_1 : List UInt8 := [46, 16, 10, 160, 0, 6, 16, 253, 172, 42, 182, 0, 119, 42, 180, 0, 7, 3, 46, 62, 42, 180, 0, 7]
abbrev dktX3_twin_1 : List UInt8 := dkwX3_twin_1 ++ dktX3_twin_2
def dkwX3_twin_0 : List UInt8 := [42, 27, 182, 0, 122, 153, 0, 12, 28, 3, 4, 184, 0, 87, 154, 0, 5, 2, 172, 42, 180, 0, 7, 3]
abbrev dktX3_twin_0 : List UInt8 := dkwX3_twin_0 ++ dktX3_twin_1
theorem dksX3_twin_0 : cX3_twin.data.toList.drop 0 = dktX3_twin_0 := by decide +kernel
theorem dksX3_twin_1 : cX3_twin.data.toList.drop 24 = dktX3_twin_1 := dk_seg dksX3_twin_0 24 rfl rfl
theorem dksX3_twin_2 : cX3_twin.data.toList.drop 48 = dktX3_twin_2 := dk_seg dksX3_twin_1 24 rfl rfl
theorem dksX3_twin_3 : cX3_twin.data.toList.drop 72 = dktX3_twin_3 := dk_seg dksX3_twin_2 24 rfl rfl
theorem dksX3_twin_4 : cX3_twin.data.toList.drop 95 = dktX3_twin_4 := dk_seg dksX3_twin_3 23 rfl rfl
theorem dX3_twin_0 : decode cX3_twin 0 = .ok (.aload_n 0, 1) := dk_42 (dk_at dksX3_twin_0 0 rfl rfl)
theorem dX3_twin_1 : decode cX3_twin 1 = .ok (.iload_n 1, 1) := dk_27 (dk_at dksX3_twin_0 1 rfl rfl)
theorem dX3_twin_2 : decode cX3_twin 2 = .ok (.invokevirtual 122, 3) := dk_182 0 122 (dk_at dksX3_twin_0 2 rfl rfl)
theorem dX3_twin_5 : decode cX3_twin 5 = .ok (.ifCond .eq 12, 3) := dk_153 0 12 (dk_at dksX3_twin_0 5 rfl rfl)
theorem dX3_twin_8 : decode cX3_twin 8 = .ok (.iload_n 2, 1) := dk_28 (dk_at dksX3_twin_0 8 rfl rfl)
theorem dX3_twin_9 : decode cX3_twin 9 = .ok (.iconst 0, 1) := dk_3 (dk_at dksX3_twin_0 9 rfl rfl)
theorem dX3_twin_10 : decode cX3_twin 10 = .ok (.iconst 1, 1) := dk_4 (dk_at dksX3_twin_0 10 rfl rfl)
theorem dX3_twin_11 : decode cX3_twin 11 = .ok (.invokestatic 87, 3) := dk_184 0 87 (dk_at dksX3_twin_0 11 rfl rfl)
theorem dX3_twin_14 : decode cX3_twin 14 = .ok (.ifCond .ne 5, 3) := dk_154 0 5 (dk_at dksX3_twin_0 14 rfl rfl)
theorem dX3_twin_17 : decode cX3_twin 17 = .ok (.iconst (-1), 1) := dk_2 (dk_at dksX3_twin_0 17 rfl rfl)
theorem dX3_twin_18 : decode cX3_twin 18 = .ok (.ireturn, 1) := dk_172 (dk_at dksX3_twin_0 18 rfl rfl)
theorem dX3_twin_19 : decode cX3_twin 19 = .ok (.aload_n 0, 1) := dk_42 (dk_at dksX3_twin_0 19 rfl rfl)
theorem dX3_twin_20 : decode cX3_twin 20 = .ok (.getfield 7, 3) := dk_180 0 7 (dk_at dksX3_twin_0 20 rfl rfl)
theorem dX3_twin_23 : decode cX3_twin 23 = .ok (.iconst 0, 1) := dk_3 (dk_at dksX3_twin_0 23 rfl rfl)
theorem dX3_twin_24 : decode cX3_twin 24 = .ok (.iaload, 1) := dk_46 (dk_at dksX3_twin_1 0 rfl rfl)
theorem dX3_twin_25 : decode cX3_twin 25 = .ok (.bipush 10, 2) := dk_16 10 (dk_at dksX3_twin_1 1 rfl rfl)
theorem dX3_twin_27 : decode cX3_twin 27 = .ok (.if_icmp .ne 6, 3) := dk_160 0 6 (dk_at dksX3_twin_1 3 rfl rfl)
theorem dX3_twin_30 : decode cX3_twin 30 = .ok (.bipush (-3), 2) := dk_16 253 (dk_at dksX3_twin_1 6 rfl rfl)
theorem dX3_twin_32 : decode cX3_twin 32 = .ok (.ireturn, 1) := dk_172 (dk_at dksX3_twin_1 8 rfl rfl)
theorem dX3_twin_33 : decode cX3_twin 33 = .ok (.aload_n 0, 1) := dk_42 (dk_at dksX3_twin_1 9 rfl rfl)
theorem dX3_twin_34 : decode cX3_twin 34 = .ok (.invokevirtual 119, 3) := dk_182 0 119 (dk_at dksX3_twin_1 10 rfl rfl)
theorem dX3_twin_37 : decode cX3_twin 37 = .ok (.aload_n 0, 1) := dk_42 (dk_at dksX3_twin_1 13 rfl rfl)
theorem dX3_twin_38 : decode cX3_twin 38 = .ok (.getfield 7, 3) := dk_180 0 7 (dk_at dksX3_twin_1 14 rfl rfl)
theorem dX3_twin_41 : decode cX3_twin 41 = .ok (.iconst 0, 1) := dk_3 (dk_at dksX3_twin_1 17 rfl rfl)
theorem dX3_twin_42 : decode cX3_twin 42 = .ok (.iaload, 1) := dk_46 (dk_at dksX3_twin_1 18 rfl rfl)
theorem dX3_twin_43 : decode cX3_twin 43 = .ok (.istore_n 3, 1) := dk_62 (dk_at dksX3_twin_1 19 rfl rfl)
theorem dX3_twin_44 : decode cX3_twin 44 = .ok (.aload_n 0, 1) := dk_42 (dk_at dksX3_twin_1 20 rfl rfl)
theorem dX3_twin_45 : decode cX3_twin 45 = .ok (.getfield 7, 3) := dk_180 0 7 (dk_at dksX3_twin_1 21 rfl rfl)
theorem dX3_twin_48 : decode cX3_twin 48 = .ok (.iconst 0, 1) := dk_3 (dk_at dksX3_twin_2 0 rfl rfl)
theorem dX3_twin_49 : decode cX3_twin 49 = .ok (.dup2, 1) := dk_92 (dk_at dksX3_twin_2 1 rfl rfl)
theorem dX3_twin_50 : decode cX3_twin 50 = .ok (.iaload, 1) := dk_46 (dk_at dksX3_twin_2 2 rfl rfl)
theorem dX3_twin_51 : decode cX3_twin 51 = .ok (.iconst 1, 1) := dk_4 (dk_at dksX3_twin_2 3 rfl rfl)
theorem dX3_twin_52 : decode cX3_twin 52 = .ok (.iadd, 1) := dk_96 (dk_at dksX3_twin_2 4 rfl rfl)
theorem dX3_twin_53 : decode cX3_twin 53 = .ok (.iastore, 1) := dk_79 (dk_at dksX3_twin_2 5 rfl rfl)
theorem dX3_twin_54 : decode cX3_twin 54 = .ok (.aload_n 0, 1) := dk_42 (dk_at dksX3_twin_2 6 rfl rfl)
theorem dX3_twin_55 : decode cX3_twin 55 = .ok (.getfield 7, 3) := dk_180 0 7 (dk_at dksX3_twin_2 7 rfl rfl)
theorem dX3_twin_58 : decode cX3_twin 58 = .ok (.iconst 1, 1) := dk_4 (dk_at dksX3_twin_2 10 rfl rfl)
theorem dX3_twin_59 : decode cX3_twin 59 = .ok (.iload_n 3, 1) := dk_29 (dk_at dksX3_twin_2 11 rfl rfl)
theorem dX3_twin_60 : decode cX3_twin 60 = .ok (.iadd, 1) := dk_96 (dk_at dksX3_twin_2 12 rfl rfl)
theorem dX3_twin_61 : decode cX3_twin 61 = .ok (.iconst 0, 1) := dk_3 (dk_at dksX3_twin_2 13 rfl rfl)
theorem dX3_twin_62 : decode cX3_twin 62 = .ok (.iastore, 1) := dk_79 (dk_at dksX3_twin_2 14 rfl rfl)
theorem dX3_twin_63 : decode cX3_twin 63 = .ok (.iconst 0, 1) := dk_3 (dk_at dksX3_twin_2 15 rfl rfl)
theorem dX3_twin_64 : decode cX3_twin 64 = .ok (.istore 4, 2) := dk_54 4 (dk_at dksX3_twin_2 16 rfl rfl)
theorem dX3_twin_66 : decode cX3_twin 66 = .ok (.iload 4, 2) := dk_21 4 (dk_at dksX3_twin_2 18 rfl rfl)
theorem dX3_twin_68 : decode cX3_twin 68 = .ok (.iload_n 3, 1) := dk_29 (dk_at dksX3_twin_2 20 rfl rfl)
theorem dX3_twin_69 : decode cX3_twin 69 = .ok (.if_icmp .ge 37, 3) := dk_162 0 37 (dk_at dksX3_twin_2 21 rfl rfl)
theorem dX3_twin_72 : decode cX3_twin 72 = .ok (.aload_n 0, 1) := dk_42 (dk_at dksX3_twin_3 0 rfl rfl)
theorem dX3_twin_73 : decode cX3_twin 73 = .ok (.iload_n 1, 1) := dk_27 (dk_at dksX3_twin_3 1 rfl rfl)
theorem dX3_twin_74 : decode cX3_twin 74 = .ok (.iload 4, 2) := dk_21 4 (dk_at dksX3_twin_3 2 rfl rfl)
theorem dX3_twin_76 : decode cX3_twin 76 = .ok (.invokevirtual 126, 3) := dk_182 0 126 (dk_at dksX3_twin_3 4 rfl rfl)
theorem dX3_twin_79 : decode cX3_twin 79 = .ok (.ifCond .ne 14, 3) := dk_154 0 14 (dk_at dksX3_twin_3 7 rfl rfl)
theorem dX3_twin_82 : decode cX3_twin 82 = .ok (.iload 4, 2) := dk_21 4 (dk_at dksX3_twin_3 10 rfl rfl)
theorem dX3_twin_84 : decode cX3_twin 84 = .ok (.iload_n 1, 1) := dk_27 (dk_at dksX3_twin_3 12 rfl rfl)
theorem dX3_twin_85 : decode cX3_twin 85 = .ok (.if_icmp .ne 15, 3) := dk_160 0 15 (dk_at dksX3_twin_3 13 rfl rfl)
theorem dX3_twin_88 : decode cX3_twin 88 = .ok (.iload_n 2, 1) := dk_28 (dk_at dksX3_twin_3 16 rfl rfl)
theorem dX3_twin_89 : decode cX3_twin 89 = .ok (.iconst 1, 1) := dk_4 (dk_at dksX3_twin_3 17 rfl rfl)
theorem dX3_twin_90 : decode cX3_twin 90 = .ok (.if_icmp .ne 10, 3) := dk_160 0 10 (dk_at dksX3_twin_3 18 rfl rfl)
theorem dX3_twin_93 : decode cX3_twin 93 = .ok (.aload_n 0, 1) := dk_42 (dk_at dksX3_twin_3 21 rfl rfl)
theorem dX3_twin_94 : decode cX3_twin 94 = .ok (.iload_n 3, 1) := dk_29 (dk_at dksX3_twin_3 22 rfl rfl)
theorem dX3_twin_95 : decode cX3_twin 95 = .ok (.iload 4, 2) := dk_21 4 (dk_at dksX3_twin_4 0 rfl rfl)
theorem dX3_twin_97 : decode cX3_twin 97 = .ok (.invokevirtual 132, 3) := dk_182 0 132 (dk_at dksX3_twin_4 2 rfl rfl)
theorem dX3_twin_100 : decode cX3_twin 100 = .ok (.iinc 4 1, 3) := dk_132 4 1 (dk_at dksX3_twin_4 5 rfl rfl)
theorem dX3_twin_103 : decode cX3_twin 103 = .ok (.goto (-37), 3) := dk_167 255 219 (dk_at dksX3_twin_4 8 rfl rfl)
theorem dX3_twin_106 : decode cX3_twin 106 = .ok (.iload_n 3, 1) := dk_29 (dk_at dksX3_twin_4 11 rfl rfl)
theorem dX3_twin_107 : decode cX3_twin 107 = .ok (.ireturn, 1) := dk_172 (dk_at dksX3_twin_4 12 rfl rfl)
abbrev cX3_links : ByteArray := prog_18_method_15_code
def yX3_links : MethodName := ⟨RX3, "links", "(II)V"⟩
def dkwX3_links_1 : List UInt8 := [27, 120, 128, 79, 177]
abbrev dktX3_links_1 : List UInt8 := dkwX3_links_1 ++ []
def dkwX3_links_0 : List UInt8 := [42, 180, 0, 7, 4, 27, 96, 92, 46, 4, 28, 120, 128, 79, 42, 180, 0, 7, 4, 28, 96, 92, 46, 4]
abbrev dktX3_links_0 : List UInt8 := dkwX3_links_0 ++ dktX3_links_1
theorem dksX3_links_0 : cX3_links.data.toList.drop 0 = dktX3_links_0 := by decide +kernel
theorem dksX3_links_1 : cX3_links.data.toList.drop 24 = dktX3_links_1 := dk_seg dksX3_links_0 24 rfl rfl
theorem dX3_links_0 : decode cX3_links 0 = .ok (.aload_n 0, 1) := dk_42 (dk_at dksX3_links_0 0 rfl rfl)
theorem dX3_links_1 : decode cX3_links 1 = .ok (.getfield 7, 3) := dk_180 0 7 (dk_at dksX3_links_0 1 rfl rfl)
theorem dX3_links_4 : decode cX3_links 4 = .ok (.iconst 1, 1) := dk_4 (dk_at dksX3_links_0 4 rfl rfl)
theorem dX3_links_5 : decode cX3_links 5 = .ok (.iload_n 1, 1) := dk_27 (dk_at dksX3_links_0 5 rfl rfl)
theorem dX3_links_6 : decode cX3_links 6 = .ok (.iadd, 1) := dk_96 (dk_at dksX3_links_0 6 rfl rfl)
theorem dX3_links_7 : decode cX3_links 7 = .ok (.dup2, 1) := dk_92 (dk_at dksX3_links_0 7 rfl rfl)
theorem dX3_links_8 : decode cX3_links 8 = .ok (.iaload, 1) := dk_46 (dk_at dksX3_links_0 8 rfl rfl)
theorem dX3_links_9 : decode cX3_links 9 = .ok (.iconst 1, 1) := dk_4 (dk_at dksX3_links_0 9 rfl rfl)
theorem dX3_links_10 : decode cX3_links 10 = .ok (.iload_n 2, 1) := dk_28 (dk_at dksX3_links_0 10 rfl rfl)
theorem dX3_links_11 : decode cX3_links 11 = .ok (.ishl, 1) := dk_120 (dk_at dksX3_links_0 11 rfl rfl)
theorem dX3_links_12 : decode cX3_links 12 = .ok (.ior, 1) := dk_128 (dk_at dksX3_links_0 12 rfl rfl)
theorem dX3_links_13 : decode cX3_links 13 = .ok (.iastore, 1) := dk_79 (dk_at dksX3_links_0 13 rfl rfl)
theorem dX3_links_14 : decode cX3_links 14 = .ok (.aload_n 0, 1) := dk_42 (dk_at dksX3_links_0 14 rfl rfl)
theorem dX3_links_15 : decode cX3_links 15 = .ok (.getfield 7, 3) := dk_180 0 7 (dk_at dksX3_links_0 15 rfl rfl)
theorem dX3_links_18 : decode cX3_links 18 = .ok (.iconst 1, 1) := dk_4 (dk_at dksX3_links_0 18 rfl rfl)
theorem dX3_links_19 : decode cX3_links 19 = .ok (.iload_n 2, 1) := dk_28 (dk_at dksX3_links_0 19 rfl rfl)
theorem dX3_links_20 : decode cX3_links 20 = .ok (.iadd, 1) := dk_96 (dk_at dksX3_links_0 20 rfl rfl)
theorem dX3_links_21 : decode cX3_links 21 = .ok (.dup2, 1) := dk_92 (dk_at dksX3_links_0 21 rfl rfl)
theorem dX3_links_22 : decode cX3_links 22 = .ok (.iaload, 1) := dk_46 (dk_at dksX3_links_0 22 rfl rfl)
theorem dX3_links_23 : decode cX3_links 23 = .ok (.iconst 1, 1) := dk_4 (dk_at dksX3_links_0 23 rfl rfl)
theorem dX3_links_24 : decode cX3_links 24 = .ok (.iload_n 1, 1) := dk_27 (dk_at dksX3_links_1 0 rfl rfl)
theorem dX3_links_25 : decode cX3_links 25 = .ok (.ishl, 1) := dk_120 (dk_at dksX3_links_1 1 rfl rfl)
theorem dX3_links_26 : decode cX3_links 26 = .ok (.ior, 1) := dk_128 (dk_at dksX3_links_1 2 rfl rfl)
theorem dX3_links_27 : decode cX3_links 27 = .ok (.iastore, 1) := dk_79 (dk_at dksX3_links_1 3 rfl rfl)
theorem dX3_links_28 : decode cX3_links 28 = .ok (.return_, 1) := dk_177 (dk_at dksX3_links_1 4 rfl rfl)
abbrev cX3_remove : ByteArray := prog_18_method_20_code
def yX3_remove : MethodName := ⟨RX3, "remove", "(I)I"⟩
def dkwX3_remove_6 : List UInt8 := [3, 46, 172]
abbrev dktX3_remove_6 : List UInt8 := dkwX3_remove_6 ++ []
def dkwX3_remove_5 : List UInt8 := [126, 42, 29, 182, 0, 95, 4, 122, 28, 2, 130, 126, 128, 79, 132, 3, 1, 167, 255, 216, 42, 180, 0, 7]
abbrev dktX3_remove_5 : List UInt8 := dkwX3_remove_5 ++ dktX3_remove_6
def dkwX3_remove_4 : List UInt8 := [62, 29, 42, 180, 0, 7, 3, 46, 162, 0, 36, 42, 180, 0, 7, 4, 29, 96, 42, 29, 182, 0, 95, 28]
abbrev dktX3_remove_4 : List UInt8 := dkwX3_remove_4 ++ dktX3_remove_5
def dkwX3_remove_3 : List UInt8 := [167, 255, 227, 42, 180, 0, 7, 4, 42, 180, 0, 7, 3, 46, 96, 3, 79, 4, 27, 120, 4, 100, 61, 3]
abbrev dktX3_remove_3 : List UInt8 := dkwX3_remove_3 ++ dktX3_remove_4
def dkwX3_remove_2 : List UInt8 := [162, 0, 25, 42, 180, 0, 7, 4, 28, 96, 42, 180, 0, 7, 5, 28, 96, 46, 79, 132, 2, 1]
abbrev dktX3_remove_2 : List UInt8 := dkwX3_remove_2 ++ dktX3_remove_3
def dkwX3_remove_1 : List UInt8 := [182, 0, 119, 42, 180, 0, 7, 3, 92, 46, 4, 100, 79, 27, 61, 28, 42, 180, 0, 7, 3, 46]
abbrev dktX3_remove_1 : List UInt8 := dkwX3_remove_1 ++ dktX3_remove_2
def dkwX3_remove_0 : List UInt8 := [42, 27, 182, 0, 122, 154, 0, 5, 2, 172, 42, 180, 0, 7, 3, 46, 4, 160, 0, 6, 16, 254, 172, 42]
abbrev dktX3_remove_0 : List UInt8 := dkwX3_remove_0 ++ dktX3_remove_1
theorem dksX3_remove_0 : cX3_remove.data.toList.drop 0 = dktX3_remove_0 := by decide +kernel
theorem dksX3_remove_1 : cX3_remove.data.toList.drop 24 = dktX3_remove_1 := dk_seg dksX3_remove_0 24 rfl rfl
theorem dksX3_remove_2 : cX3_remove.data.toList.drop 46 = dktX3_remove_2 := dk_seg dksX3_remove_1 22 rfl rfl
theorem dksX3_remove_3 : cX3_remove.data.toList.drop 68 = dktX3_remove_3 := dk_seg dksX3_remove_2 22 rfl rfl
theorem dksX3_remove_4 : cX3_remove.data.toList.drop 92 = dktX3_remove_4 := dk_seg dksX3_remove_3 24 rfl rfl
theorem dksX3_remove_5 : cX3_remove.data.toList.drop 116 = dktX3_remove_5 := dk_seg dksX3_remove_4 24 rfl rfl
theorem dksX3_remove_6 : cX3_remove.data.toList.drop 140 = dktX3_remove_6 := dk_seg dksX3_remove_5 24 rfl rfl
theorem dX3_remove_0 : decode cX3_remove 0 = .ok (.aload_n 0, 1) := dk_42 (dk_at dksX3_remove_0 0 rfl rfl)
theorem dX3_remove_1 : decode cX3_remove 1 = .ok (.iload_n 1, 1) := dk_27 (dk_at dksX3_remove_0 1 rfl rfl)
theorem dX3_remove_2 : decode cX3_remove 2 = .ok (.invokevirtual 122, 3) := dk_182 0 122 (dk_at dksX3_remove_0 2 rfl rfl)
theorem dX3_remove_5 : decode cX3_remove 5 = .ok (.ifCond .ne 5, 3) := dk_154 0 5 (dk_at dksX3_remove_0 5 rfl rfl)
theorem dX3_remove_8 : decode cX3_remove 8 = .ok (.iconst (-1), 1) := dk_2 (dk_at dksX3_remove_0 8 rfl rfl)
theorem dX3_remove_9 : decode cX3_remove 9 = .ok (.ireturn, 1) := dk_172 (dk_at dksX3_remove_0 9 rfl rfl)
theorem dX3_remove_10 : decode cX3_remove 10 = .ok (.aload_n 0, 1) := dk_42 (dk_at dksX3_remove_0 10 rfl rfl)
theorem dX3_remove_11 : decode cX3_remove 11 = .ok (.getfield 7, 3) := dk_180 0 7 (dk_at dksX3_remove_0 11 rfl rfl)
theorem dX3_remove_14 : decode cX3_remove 14 = .ok (.iconst 0, 1) := dk_3 (dk_at dksX3_remove_0 14 rfl rfl)
theorem dX3_remove_15 : decode cX3_remove 15 = .ok (.iaload, 1) := dk_46 (dk_at dksX3_remove_0 15 rfl rfl)
theorem dX3_remove_16 : decode cX3_remove 16 = .ok (.iconst 1, 1) := dk_4 (dk_at dksX3_remove_0 16 rfl rfl)
theorem dX3_remove_17 : decode cX3_remove 17 = .ok (.if_icmp .ne 6, 3) := dk_160 0 6 (dk_at dksX3_remove_0 17 rfl rfl)
theorem dX3_remove_20 : decode cX3_remove 20 = .ok (.bipush (-2), 2) := dk_16 254 (dk_at dksX3_remove_0 20 rfl rfl)
theorem dX3_remove_22 : decode cX3_remove 22 = .ok (.ireturn, 1) := dk_172 (dk_at dksX3_remove_0 22 rfl rfl)
theorem dX3_remove_23 : decode cX3_remove 23 = .ok (.aload_n 0, 1) := dk_42 (dk_at dksX3_remove_0 23 rfl rfl)
theorem dX3_remove_24 : decode cX3_remove 24 = .ok (.invokevirtual 119, 3) := dk_182 0 119 (dk_at dksX3_remove_1 0 rfl rfl)
theorem dX3_remove_27 : decode cX3_remove 27 = .ok (.aload_n 0, 1) := dk_42 (dk_at dksX3_remove_1 3 rfl rfl)
theorem dX3_remove_28 : decode cX3_remove 28 = .ok (.getfield 7, 3) := dk_180 0 7 (dk_at dksX3_remove_1 4 rfl rfl)
theorem dX3_remove_31 : decode cX3_remove 31 = .ok (.iconst 0, 1) := dk_3 (dk_at dksX3_remove_1 7 rfl rfl)
theorem dX3_remove_32 : decode cX3_remove 32 = .ok (.dup2, 1) := dk_92 (dk_at dksX3_remove_1 8 rfl rfl)
theorem dX3_remove_33 : decode cX3_remove 33 = .ok (.iaload, 1) := dk_46 (dk_at dksX3_remove_1 9 rfl rfl)
theorem dX3_remove_34 : decode cX3_remove 34 = .ok (.iconst 1, 1) := dk_4 (dk_at dksX3_remove_1 10 rfl rfl)
theorem dX3_remove_35 : decode cX3_remove 35 = .ok (.isub, 1) := dk_100 (dk_at dksX3_remove_1 11 rfl rfl)
theorem dX3_remove_36 : decode cX3_remove 36 = .ok (.iastore, 1) := dk_79 (dk_at dksX3_remove_1 12 rfl rfl)
theorem dX3_remove_37 : decode cX3_remove 37 = .ok (.iload_n 1, 1) := dk_27 (dk_at dksX3_remove_1 13 rfl rfl)
theorem dX3_remove_38 : decode cX3_remove 38 = .ok (.istore_n 2, 1) := dk_61 (dk_at dksX3_remove_1 14 rfl rfl)
theorem dX3_remove_39 : decode cX3_remove 39 = .ok (.iload_n 2, 1) := dk_28 (dk_at dksX3_remove_1 15 rfl rfl)
theorem dX3_remove_40 : decode cX3_remove 40 = .ok (.aload_n 0, 1) := dk_42 (dk_at dksX3_remove_1 16 rfl rfl)
theorem dX3_remove_41 : decode cX3_remove 41 = .ok (.getfield 7, 3) := dk_180 0 7 (dk_at dksX3_remove_1 17 rfl rfl)
theorem dX3_remove_44 : decode cX3_remove 44 = .ok (.iconst 0, 1) := dk_3 (dk_at dksX3_remove_1 20 rfl rfl)
theorem dX3_remove_45 : decode cX3_remove 45 = .ok (.iaload, 1) := dk_46 (dk_at dksX3_remove_1 21 rfl rfl)
theorem dX3_remove_46 : decode cX3_remove 46 = .ok (.if_icmp .ge 25, 3) := dk_162 0 25 (dk_at dksX3_remove_2 0 rfl rfl)
theorem dX3_remove_49 : decode cX3_remove 49 = .ok (.aload_n 0, 1) := dk_42 (dk_at dksX3_remove_2 3 rfl rfl)
theorem dX3_remove_50 : decode cX3_remove 50 = .ok (.getfield 7, 3) := dk_180 0 7 (dk_at dksX3_remove_2 4 rfl rfl)
theorem dX3_remove_53 : decode cX3_remove 53 = .ok (.iconst 1, 1) := dk_4 (dk_at dksX3_remove_2 7 rfl rfl)
theorem dX3_remove_54 : decode cX3_remove 54 = .ok (.iload_n 2, 1) := dk_28 (dk_at dksX3_remove_2 8 rfl rfl)
theorem dX3_remove_55 : decode cX3_remove 55 = .ok (.iadd, 1) := dk_96 (dk_at dksX3_remove_2 9 rfl rfl)
theorem dX3_remove_56 : decode cX3_remove 56 = .ok (.aload_n 0, 1) := dk_42 (dk_at dksX3_remove_2 10 rfl rfl)
theorem dX3_remove_57 : decode cX3_remove 57 = .ok (.getfield 7, 3) := dk_180 0 7 (dk_at dksX3_remove_2 11 rfl rfl)
theorem dX3_remove_60 : decode cX3_remove 60 = .ok (.iconst 2, 1) := dk_5 (dk_at dksX3_remove_2 14 rfl rfl)
theorem dX3_remove_61 : decode cX3_remove 61 = .ok (.iload_n 2, 1) := dk_28 (dk_at dksX3_remove_2 15 rfl rfl)
theorem dX3_remove_62 : decode cX3_remove 62 = .ok (.iadd, 1) := dk_96 (dk_at dksX3_remove_2 16 rfl rfl)
theorem dX3_remove_63 : decode cX3_remove 63 = .ok (.iaload, 1) := dk_46 (dk_at dksX3_remove_2 17 rfl rfl)
theorem dX3_remove_64 : decode cX3_remove 64 = .ok (.iastore, 1) := dk_79 (dk_at dksX3_remove_2 18 rfl rfl)
theorem dX3_remove_65 : decode cX3_remove 65 = .ok (.iinc 2 1, 3) := dk_132 2 1 (dk_at dksX3_remove_2 19 rfl rfl)
theorem dX3_remove_68 : decode cX3_remove 68 = .ok (.goto (-29), 3) := dk_167 255 227 (dk_at dksX3_remove_3 0 rfl rfl)
theorem dX3_remove_71 : decode cX3_remove 71 = .ok (.aload_n 0, 1) := dk_42 (dk_at dksX3_remove_3 3 rfl rfl)
theorem dX3_remove_72 : decode cX3_remove 72 = .ok (.getfield 7, 3) := dk_180 0 7 (dk_at dksX3_remove_3 4 rfl rfl)
theorem dX3_remove_75 : decode cX3_remove 75 = .ok (.iconst 1, 1) := dk_4 (dk_at dksX3_remove_3 7 rfl rfl)
theorem dX3_remove_76 : decode cX3_remove 76 = .ok (.aload_n 0, 1) := dk_42 (dk_at dksX3_remove_3 8 rfl rfl)
theorem dX3_remove_77 : decode cX3_remove 77 = .ok (.getfield 7, 3) := dk_180 0 7 (dk_at dksX3_remove_3 9 rfl rfl)
theorem dX3_remove_80 : decode cX3_remove 80 = .ok (.iconst 0, 1) := dk_3 (dk_at dksX3_remove_3 12 rfl rfl)
theorem dX3_remove_81 : decode cX3_remove 81 = .ok (.iaload, 1) := dk_46 (dk_at dksX3_remove_3 13 rfl rfl)
theorem dX3_remove_82 : decode cX3_remove 82 = .ok (.iadd, 1) := dk_96 (dk_at dksX3_remove_3 14 rfl rfl)
theorem dX3_remove_83 : decode cX3_remove 83 = .ok (.iconst 0, 1) := dk_3 (dk_at dksX3_remove_3 15 rfl rfl)
theorem dX3_remove_84 : decode cX3_remove 84 = .ok (.iastore, 1) := dk_79 (dk_at dksX3_remove_3 16 rfl rfl)
theorem dX3_remove_85 : decode cX3_remove 85 = .ok (.iconst 1, 1) := dk_4 (dk_at dksX3_remove_3 17 rfl rfl)
theorem dX3_remove_86 : decode cX3_remove 86 = .ok (.iload_n 1, 1) := dk_27 (dk_at dksX3_remove_3 18 rfl rfl)
theorem dX3_remove_87 : decode cX3_remove 87 = .ok (.ishl, 1) := dk_120 (dk_at dksX3_remove_3 19 rfl rfl)
theorem dX3_remove_88 : decode cX3_remove 88 = .ok (.iconst 1, 1) := dk_4 (dk_at dksX3_remove_3 20 rfl rfl)
theorem dX3_remove_89 : decode cX3_remove 89 = .ok (.isub, 1) := dk_100 (dk_at dksX3_remove_3 21 rfl rfl)
theorem dX3_remove_90 : decode cX3_remove 90 = .ok (.istore_n 2, 1) := dk_61 (dk_at dksX3_remove_3 22 rfl rfl)
theorem dX3_remove_91 : decode cX3_remove 91 = .ok (.iconst 0, 1) := dk_3 (dk_at dksX3_remove_3 23 rfl rfl)
theorem dX3_remove_92 : decode cX3_remove 92 = .ok (.istore_n 3, 1) := dk_62 (dk_at dksX3_remove_4 0 rfl rfl)
theorem dX3_remove_93 : decode cX3_remove 93 = .ok (.iload_n 3, 1) := dk_29 (dk_at dksX3_remove_4 1 rfl rfl)
theorem dX3_remove_94 : decode cX3_remove 94 = .ok (.aload_n 0, 1) := dk_42 (dk_at dksX3_remove_4 2 rfl rfl)
theorem dX3_remove_95 : decode cX3_remove 95 = .ok (.getfield 7, 3) := dk_180 0 7 (dk_at dksX3_remove_4 3 rfl rfl)
theorem dX3_remove_98 : decode cX3_remove 98 = .ok (.iconst 0, 1) := dk_3 (dk_at dksX3_remove_4 6 rfl rfl)
theorem dX3_remove_99 : decode cX3_remove 99 = .ok (.iaload, 1) := dk_46 (dk_at dksX3_remove_4 7 rfl rfl)
theorem dX3_remove_100 : decode cX3_remove 100 = .ok (.if_icmp .ge 36, 3) := dk_162 0 36 (dk_at dksX3_remove_4 8 rfl rfl)
theorem dX3_remove_103 : decode cX3_remove 103 = .ok (.aload_n 0, 1) := dk_42 (dk_at dksX3_remove_4 11 rfl rfl)
theorem dX3_remove_104 : decode cX3_remove 104 = .ok (.getfield 7, 3) := dk_180 0 7 (dk_at dksX3_remove_4 12 rfl rfl)
theorem dX3_remove_107 : decode cX3_remove 107 = .ok (.iconst 1, 1) := dk_4 (dk_at dksX3_remove_4 15 rfl rfl)
theorem dX3_remove_108 : decode cX3_remove 108 = .ok (.iload_n 3, 1) := dk_29 (dk_at dksX3_remove_4 16 rfl rfl)
theorem dX3_remove_109 : decode cX3_remove 109 = .ok (.iadd, 1) := dk_96 (dk_at dksX3_remove_4 17 rfl rfl)
theorem dX3_remove_110 : decode cX3_remove 110 = .ok (.aload_n 0, 1) := dk_42 (dk_at dksX3_remove_4 18 rfl rfl)
theorem dX3_remove_111 : decode cX3_remove 111 = .ok (.iload_n 3, 1) := dk_29 (dk_at dksX3_remove_4 19 rfl rfl)
theorem dX3_remove_112 : decode cX3_remove 112 = .ok (.invokevirtual 95, 3) := dk_182 0 95 (dk_at dksX3_remove_4 20 rfl rfl)
theorem dX3_remove_115 : decode cX3_remove 115 = .ok (.iload_n 2, 1) := dk_28 (dk_at dksX3_remove_4 23 rfl rfl)
theorem dX3_remove_116 : decode cX3_remove 116 = .ok (.iand, 1) := dk_126 (dk_at dksX3_remove_5 0 rfl rfl)
theorem dX3_remove_117 : decode cX3_remove 117 = .ok (.aload_n 0, 1) := dk_42 (dk_at dksX3_remove_5 1 rfl rfl)
theorem dX3_remove_118 : decode cX3_remove 118 = .ok (.iload_n 3, 1) := dk_29 (dk_at dksX3_remove_5 2 rfl rfl)
theorem dX3_remove_119 : decode cX3_remove 119 = .ok (.invokevirtual 95, 3) := dk_182 0 95 (dk_at dksX3_remove_5 3 rfl rfl)
theorem dX3_remove_122 : decode cX3_remove 122 = .ok (.iconst 1, 1) := dk_4 (dk_at dksX3_remove_5 6 rfl rfl)
theorem dX3_remove_123 : decode cX3_remove 123 = .ok (.ishr, 1) := dk_122 (dk_at dksX3_remove_5 7 rfl rfl)
theorem dX3_remove_124 : decode cX3_remove 124 = .ok (.iload_n 2, 1) := dk_28 (dk_at dksX3_remove_5 8 rfl rfl)
theorem dX3_remove_125 : decode cX3_remove 125 = .ok (.iconst (-1), 1) := dk_2 (dk_at dksX3_remove_5 9 rfl rfl)
theorem dX3_remove_126 : decode cX3_remove 126 = .ok (.ixor, 1) := dk_130 (dk_at dksX3_remove_5 10 rfl rfl)
theorem dX3_remove_127 : decode cX3_remove 127 = .ok (.iand, 1) := dk_126 (dk_at dksX3_remove_5 11 rfl rfl)
theorem dX3_remove_128 : decode cX3_remove 128 = .ok (.ior, 1) := dk_128 (dk_at dksX3_remove_5 12 rfl rfl)
theorem dX3_remove_129 : decode cX3_remove 129 = .ok (.iastore, 1) := dk_79 (dk_at dksX3_remove_5 13 rfl rfl)
theorem dX3_remove_130 : decode cX3_remove 130 = .ok (.iinc 3 1, 3) := dk_132 3 1 (dk_at dksX3_remove_5 14 rfl rfl)
theorem dX3_remove_133 : decode cX3_remove 133 = .ok (.goto (-40), 3) := dk_167 255 216 (dk_at dksX3_remove_5 17 rfl rfl)
theorem dX3_remove_136 : decode cX3_remove 136 = .ok (.aload_n 0, 1) := dk_42 (dk_at dksX3_remove_5 20 rfl rfl)
theorem dX3_remove_137 : decode cX3_remove 137 = .ok (.getfield 7, 3) := dk_180 0 7 (dk_at dksX3_remove_5 21 rfl rfl)
theorem dX3_remove_140 : decode cX3_remove 140 = .ok (.iconst 0, 1) := dk_3 (dk_at dksX3_remove_6 0 rfl rfl)
theorem dX3_remove_141 : decode cX3_remove 141 = .ok (.iaload, 1) := dk_46 (dk_at dksX3_remove_6 1 rfl rfl)
theorem dX3_remove_142 : decode cX3_remove 142 = .ok (.ireturn, 1) := dk_172 (dk_at dksX3_remove_6 2 rfl rfl)
abbrev cX3_linked : ByteArray := prog_18_method_21_code
def yX3_linked : MethodName := ⟨RX3, "linked", "(II)I"⟩
def dkwX3_linked_1 : List UInt8 := [182, 0, 126, 153, 0, 7, 4, 167, 0, 4, 3, 172]
abbrev dktX3_linked_1 : List UInt8 := dkwX3_linked_1 ++ []
def dkwX3_linked_0 : List UInt8 := [42, 27, 182, 0, 122, 153, 0, 11, 42, 28, 182, 0, 122, 154, 0, 7, 2, 167, 0, 17, 42, 27, 28]
abbrev dktX3_linked_0 : List UInt8 := dkwX3_linked_0 ++ dktX3_linked_1
theorem dksX3_linked_0 : cX3_linked.data.toList.drop 0 = dktX3_linked_0 := by decide +kernel
theorem dksX3_linked_1 : cX3_linked.data.toList.drop 23 = dktX3_linked_1 := dk_seg dksX3_linked_0 23 rfl rfl
theorem dX3_linked_0 : decode cX3_linked 0 = .ok (.aload_n 0, 1) := dk_42 (dk_at dksX3_linked_0 0 rfl rfl)
theorem dX3_linked_1 : decode cX3_linked 1 = .ok (.iload_n 1, 1) := dk_27 (dk_at dksX3_linked_0 1 rfl rfl)
theorem dX3_linked_2 : decode cX3_linked 2 = .ok (.invokevirtual 122, 3) := dk_182 0 122 (dk_at dksX3_linked_0 2 rfl rfl)
theorem dX3_linked_5 : decode cX3_linked 5 = .ok (.ifCond .eq 11, 3) := dk_153 0 11 (dk_at dksX3_linked_0 5 rfl rfl)
theorem dX3_linked_8 : decode cX3_linked 8 = .ok (.aload_n 0, 1) := dk_42 (dk_at dksX3_linked_0 8 rfl rfl)
theorem dX3_linked_9 : decode cX3_linked 9 = .ok (.iload_n 2, 1) := dk_28 (dk_at dksX3_linked_0 9 rfl rfl)
theorem dX3_linked_10 : decode cX3_linked 10 = .ok (.invokevirtual 122, 3) := dk_182 0 122 (dk_at dksX3_linked_0 10 rfl rfl)
theorem dX3_linked_13 : decode cX3_linked 13 = .ok (.ifCond .ne 7, 3) := dk_154 0 7 (dk_at dksX3_linked_0 13 rfl rfl)
theorem dX3_linked_16 : decode cX3_linked 16 = .ok (.iconst (-1), 1) := dk_2 (dk_at dksX3_linked_0 16 rfl rfl)
theorem dX3_linked_17 : decode cX3_linked 17 = .ok (.goto 17, 3) := dk_167 0 17 (dk_at dksX3_linked_0 17 rfl rfl)
theorem dX3_linked_20 : decode cX3_linked 20 = .ok (.aload_n 0, 1) := dk_42 (dk_at dksX3_linked_0 20 rfl rfl)
theorem dX3_linked_21 : decode cX3_linked 21 = .ok (.iload_n 1, 1) := dk_27 (dk_at dksX3_linked_0 21 rfl rfl)
theorem dX3_linked_22 : decode cX3_linked 22 = .ok (.iload_n 2, 1) := dk_28 (dk_at dksX3_linked_0 22 rfl rfl)
theorem dX3_linked_23 : decode cX3_linked 23 = .ok (.invokevirtual 126, 3) := dk_182 0 126 (dk_at dksX3_linked_1 0 rfl rfl)
theorem dX3_linked_26 : decode cX3_linked 26 = .ok (.ifCond .eq 7, 3) := dk_153 0 7 (dk_at dksX3_linked_1 3 rfl rfl)
theorem dX3_linked_29 : decode cX3_linked 29 = .ok (.iconst 1, 1) := dk_4 (dk_at dksX3_linked_1 6 rfl rfl)
theorem dX3_linked_30 : decode cX3_linked 30 = .ok (.goto 4, 3) := dk_167 0 4 (dk_at dksX3_linked_1 7 rfl rfl)
theorem dX3_linked_33 : decode cX3_linked 33 = .ok (.iconst 0, 1) := dk_3 (dk_at dksX3_linked_1 10 rfl rfl)
theorem dX3_linked_34 : decode cX3_linked 34 = .ok (.ireturn, 1) := dk_172 (dk_at dksX3_linked_1 11 rfl rfl)
abbrev cX3_undo : ByteArray := prog_18_method_22_code
def yX3_undo : MethodName := ⟨RX3, "undo", "()I"⟩
def dkwX3_undo_2 : List UInt8 := [79, 132, 1, 1, 167, 255, 227, 42, 182, 0, 106, 42, 180, 0, 102, 172]
abbrev dktX3_undo_2 : List UInt8 := dkwX3_undo_2 ++ []
def dkwX3_undo_1 : List UInt8 := [16, 11, 162, 0, 29, 42, 180, 0, 7, 27, 42, 180, 0, 13, 16, 11, 42, 180, 0, 102, 104, 27, 96, 46]
abbrev dktX3_undo_1 : List UInt8 := dkwX3_undo_1 ++ dktX3_undo_2
def dkwX3_undo_0 : List UInt8 := [42, 180, 0, 102, 154, 0, 6, 16, 254, 172, 42, 89, 180, 0, 102, 4, 100, 181, 0, 102, 3, 60, 27]
abbrev dktX3_undo_0 : List UInt8 := dkwX3_undo_0 ++ dktX3_undo_1
theorem dksX3_undo_0 : cX3_undo.data.toList.drop 0 = dktX3_undo_0 := by decide +kernel
theorem dksX3_undo_1 : cX3_undo.data.toList.drop 23 = dktX3_undo_1 := dk_seg dksX3_undo_0 23 rfl rfl
theorem dksX3_undo_2 : cX3_undo.data.toList.drop 47 = dktX3_undo_2 := dk_seg dksX3_undo_1 24 rfl rfl
theorem dX3_undo_0 : decode cX3_undo 0 = .ok (.aload_n 0, 1) := dk_42 (dk_at dksX3_undo_0 0 rfl rfl)
theorem dX3_undo_1 : decode cX3_undo 1 = .ok (.getfield 102, 3) := dk_180 0 102 (dk_at dksX3_undo_0 1 rfl rfl)
theorem dX3_undo_4 : decode cX3_undo 4 = .ok (.ifCond .ne 6, 3) := dk_154 0 6 (dk_at dksX3_undo_0 4 rfl rfl)
theorem dX3_undo_7 : decode cX3_undo 7 = .ok (.bipush (-2), 2) := dk_16 254 (dk_at dksX3_undo_0 7 rfl rfl)
theorem dX3_undo_9 : decode cX3_undo 9 = .ok (.ireturn, 1) := dk_172 (dk_at dksX3_undo_0 9 rfl rfl)
theorem dX3_undo_10 : decode cX3_undo 10 = .ok (.aload_n 0, 1) := dk_42 (dk_at dksX3_undo_0 10 rfl rfl)
theorem dX3_undo_11 : decode cX3_undo 11 = .ok (.dup, 1) := dk_89 (dk_at dksX3_undo_0 11 rfl rfl)
theorem dX3_undo_12 : decode cX3_undo 12 = .ok (.getfield 102, 3) := dk_180 0 102 (dk_at dksX3_undo_0 12 rfl rfl)
theorem dX3_undo_15 : decode cX3_undo 15 = .ok (.iconst 1, 1) := dk_4 (dk_at dksX3_undo_0 15 rfl rfl)
theorem dX3_undo_16 : decode cX3_undo 16 = .ok (.isub, 1) := dk_100 (dk_at dksX3_undo_0 16 rfl rfl)
theorem dX3_undo_17 : decode cX3_undo 17 = .ok (.putfield 102, 3) := dk_181 0 102 (dk_at dksX3_undo_0 17 rfl rfl)
theorem dX3_undo_20 : decode cX3_undo 20 = .ok (.iconst 0, 1) := dk_3 (dk_at dksX3_undo_0 20 rfl rfl)
theorem dX3_undo_21 : decode cX3_undo 21 = .ok (.istore_n 1, 1) := dk_60 (dk_at dksX3_undo_0 21 rfl rfl)
theorem dX3_undo_22 : decode cX3_undo 22 = .ok (.iload_n 1, 1) := dk_27 (dk_at dksX3_undo_0 22 rfl rfl)
theorem dX3_undo_23 : decode cX3_undo 23 = .ok (.bipush 11, 2) := dk_16 11 (dk_at dksX3_undo_1 0 rfl rfl)
theorem dX3_undo_25 : decode cX3_undo 25 = .ok (.if_icmp .ge 29, 3) := dk_162 0 29 (dk_at dksX3_undo_1 2 rfl rfl)
theorem dX3_undo_28 : decode cX3_undo 28 = .ok (.aload_n 0, 1) := dk_42 (dk_at dksX3_undo_1 5 rfl rfl)
theorem dX3_undo_29 : decode cX3_undo 29 = .ok (.getfield 7, 3) := dk_180 0 7 (dk_at dksX3_undo_1 6 rfl rfl)
theorem dX3_undo_32 : decode cX3_undo 32 = .ok (.iload_n 1, 1) := dk_27 (dk_at dksX3_undo_1 9 rfl rfl)
theorem dX3_undo_33 : decode cX3_undo 33 = .ok (.aload_n 0, 1) := dk_42 (dk_at dksX3_undo_1 10 rfl rfl)
theorem dX3_undo_34 : decode cX3_undo 34 = .ok (.getfield 13, 3) := dk_180 0 13 (dk_at dksX3_undo_1 11 rfl rfl)
theorem dX3_undo_37 : decode cX3_undo 37 = .ok (.bipush 11, 2) := dk_16 11 (dk_at dksX3_undo_1 14 rfl rfl)
theorem dX3_undo_39 : decode cX3_undo 39 = .ok (.aload_n 0, 1) := dk_42 (dk_at dksX3_undo_1 16 rfl rfl)
theorem dX3_undo_40 : decode cX3_undo 40 = .ok (.getfield 102, 3) := dk_180 0 102 (dk_at dksX3_undo_1 17 rfl rfl)
theorem dX3_undo_43 : decode cX3_undo 43 = .ok (.imul, 1) := dk_104 (dk_at dksX3_undo_1 20 rfl rfl)
theorem dX3_undo_44 : decode cX3_undo 44 = .ok (.iload_n 1, 1) := dk_27 (dk_at dksX3_undo_1 21 rfl rfl)
theorem dX3_undo_45 : decode cX3_undo 45 = .ok (.iadd, 1) := dk_96 (dk_at dksX3_undo_1 22 rfl rfl)
theorem dX3_undo_46 : decode cX3_undo 46 = .ok (.iaload, 1) := dk_46 (dk_at dksX3_undo_1 23 rfl rfl)
theorem dX3_undo_47 : decode cX3_undo 47 = .ok (.iastore, 1) := dk_79 (dk_at dksX3_undo_2 0 rfl rfl)
theorem dX3_undo_48 : decode cX3_undo 48 = .ok (.iinc 1 1, 3) := dk_132 1 1 (dk_at dksX3_undo_2 1 rfl rfl)
theorem dX3_undo_51 : decode cX3_undo 51 = .ok (.goto (-29), 3) := dk_167 255 227 (dk_at dksX3_undo_2 4 rfl rfl)
theorem dX3_undo_54 : decode cX3_undo 54 = .ok (.aload_n 0, 1) := dk_42 (dk_at dksX3_undo_2 7 rfl rfl)
theorem dX3_undo_55 : decode cX3_undo 55 = .ok (.invokevirtual 106, 3) := dk_182 0 106 (dk_at dksX3_undo_2 8 rfl rfl)
theorem dX3_undo_58 : decode cX3_undo 58 = .ok (.aload_n 0, 1) := dk_42 (dk_at dksX3_undo_2 11 rfl rfl)
theorem dX3_undo_59 : decode cX3_undo 59 = .ok (.getfield 102, 3) := dk_180 0 102 (dk_at dksX3_undo_2 12 rfl rfl)
theorem dX3_undo_62 : decode cX3_undo 62 = .ok (.ireturn, 1) := dk_172 (dk_at dksX3_undo_2 15 rfl rfl)
abbrev cX3_count : ByteArray := prog_18_method_35_code
def yX3_count : MethodName := ⟨RX3, "count", "(I)I"⟩
def dkwX3_count_4 : List UInt8 := [180, 0, 178, 172, 42, 180, 0, 109, 172, 2, 172]
abbrev dktX3_count_4 : List UInt8 := dkwX3_count_4 ++ []
def dkwX3_count_3 : List UInt8 := [6, 100, 182, 0, 169, 172, 42, 182, 0, 172, 172, 42, 182, 0, 175, 172, 42, 180, 0, 102, 172, 42]
abbrev dktX3_count_3 : List UInt8 := dkwX3_count_3 ++ dktX3_count_4
def dkwX3_count_2 : List UInt8 := [42, 180, 0, 7, 3, 46, 172, 42, 182, 0, 129, 172, 42, 180, 0, 136, 172, 42, 180, 0, 139, 172, 42, 27]
abbrev dktX3_count_2 : List UInt8 := dkwX3_count_2 ++ dktX3_count_3
def dkwX3_count_1 : List UInt8 := [170, 0, 0, 0, 0, 0, 118, 0, 0, 0, 0, 0, 0, 0, 11, 0, 0, 0, 63, 0, 0, 0, 70, 0, 0, 0, 75, 0, 0, 0, 80, 0, 0, 0, 85, 0, 0, 0, 85, 0, 0, 0, 85, 0, 0, 0, 93, 0, 0, 0, 98, 0, 0, 0, 103, 0, 0, 0, 108, 0, 0, 0, 113]
abbrev dktX3_count_1 : List UInt8 := dkwX3_count_1 ++ dktX3_count_2
def dkwX3_count_0 : List UInt8 := [42, 182, 0, 148, 27]
abbrev dktX3_count_0 : List UInt8 := dkwX3_count_0 ++ dktX3_count_1
theorem dksX3_count_0 : cX3_count.data.toList.drop 0 = dktX3_count_0 := by decide +kernel
theorem dksX3_count_1 : cX3_count.data.toList.drop 5 = dktX3_count_1 := dk_seg dksX3_count_0 5 rfl rfl
theorem dksX3_count_2 : cX3_count.data.toList.drop 68 = dktX3_count_2 := dk_seg dksX3_count_1 63 rfl rfl
theorem dksX3_count_3 : cX3_count.data.toList.drop 92 = dktX3_count_3 := dk_seg dksX3_count_2 24 rfl rfl
theorem dksX3_count_4 : cX3_count.data.toList.drop 114 = dktX3_count_4 := dk_seg dksX3_count_3 22 rfl rfl
theorem dX3_count_0 : decode cX3_count 0 = .ok (.aload_n 0, 1) := dk_42 (dk_at dksX3_count_0 0 rfl rfl)
theorem dX3_count_1 : decode cX3_count 1 = .ok (.invokevirtual 148, 3) := dk_182 0 148 (dk_at dksX3_count_0 1 rfl rfl)
theorem dX3_count_4 : decode cX3_count 4 = .ok (.iload_n 1, 1) := dk_27 (dk_at dksX3_count_0 4 rfl rfl)
theorem dX3_count_5 : decode cX3_count 5 = .ok (.tableswitch 118 0 11 #[63, 70, 75, 80, 85, 85, 85, 93, 98, 103, 108, 113], 63) := by decide +kernel
theorem dX3_count_68 : decode cX3_count 68 = .ok (.aload_n 0, 1) := dk_42 (dk_at dksX3_count_2 0 rfl rfl)
theorem dX3_count_69 : decode cX3_count 69 = .ok (.getfield 7, 3) := dk_180 0 7 (dk_at dksX3_count_2 1 rfl rfl)
theorem dX3_count_72 : decode cX3_count 72 = .ok (.iconst 0, 1) := dk_3 (dk_at dksX3_count_2 4 rfl rfl)
theorem dX3_count_73 : decode cX3_count 73 = .ok (.iaload, 1) := dk_46 (dk_at dksX3_count_2 5 rfl rfl)
theorem dX3_count_74 : decode cX3_count 74 = .ok (.ireturn, 1) := dk_172 (dk_at dksX3_count_2 6 rfl rfl)
theorem dX3_count_75 : decode cX3_count 75 = .ok (.aload_n 0, 1) := dk_42 (dk_at dksX3_count_2 7 rfl rfl)
theorem dX3_count_76 : decode cX3_count 76 = .ok (.invokevirtual 129, 3) := dk_182 0 129 (dk_at dksX3_count_2 8 rfl rfl)
theorem dX3_count_79 : decode cX3_count 79 = .ok (.ireturn, 1) := dk_172 (dk_at dksX3_count_2 11 rfl rfl)
theorem dX3_count_80 : decode cX3_count 80 = .ok (.aload_n 0, 1) := dk_42 (dk_at dksX3_count_2 12 rfl rfl)
theorem dX3_count_81 : decode cX3_count 81 = .ok (.getfield 136, 3) := dk_180 0 136 (dk_at dksX3_count_2 13 rfl rfl)
theorem dX3_count_84 : decode cX3_count 84 = .ok (.ireturn, 1) := dk_172 (dk_at dksX3_count_2 16 rfl rfl)
theorem dX3_count_85 : decode cX3_count 85 = .ok (.aload_n 0, 1) := dk_42 (dk_at dksX3_count_2 17 rfl rfl)
theorem dX3_count_86 : decode cX3_count 86 = .ok (.getfield 139, 3) := dk_180 0 139 (dk_at dksX3_count_2 18 rfl rfl)
theorem dX3_count_89 : decode cX3_count 89 = .ok (.ireturn, 1) := dk_172 (dk_at dksX3_count_2 21 rfl rfl)
theorem dX3_count_90 : decode cX3_count 90 = .ok (.aload_n 0, 1) := dk_42 (dk_at dksX3_count_2 22 rfl rfl)
theorem dX3_count_91 : decode cX3_count 91 = .ok (.iload_n 1, 1) := dk_27 (dk_at dksX3_count_2 23 rfl rfl)
theorem dX3_count_92 : decode cX3_count 92 = .ok (.iconst 3, 1) := dk_6 (dk_at dksX3_count_3 0 rfl rfl)
theorem dX3_count_93 : decode cX3_count 93 = .ok (.isub, 1) := dk_100 (dk_at dksX3_count_3 1 rfl rfl)
theorem dX3_count_94 : decode cX3_count 94 = .ok (.invokevirtual 169, 3) := dk_182 0 169 (dk_at dksX3_count_3 2 rfl rfl)
theorem dX3_count_97 : decode cX3_count 97 = .ok (.ireturn, 1) := dk_172 (dk_at dksX3_count_3 5 rfl rfl)
theorem dX3_count_98 : decode cX3_count 98 = .ok (.aload_n 0, 1) := dk_42 (dk_at dksX3_count_3 6 rfl rfl)
theorem dX3_count_99 : decode cX3_count 99 = .ok (.invokevirtual 172, 3) := dk_182 0 172 (dk_at dksX3_count_3 7 rfl rfl)
theorem dX3_count_102 : decode cX3_count 102 = .ok (.ireturn, 1) := dk_172 (dk_at dksX3_count_3 10 rfl rfl)
theorem dX3_count_103 : decode cX3_count 103 = .ok (.aload_n 0, 1) := dk_42 (dk_at dksX3_count_3 11 rfl rfl)
theorem dX3_count_104 : decode cX3_count 104 = .ok (.invokevirtual 175, 3) := dk_182 0 175 (dk_at dksX3_count_3 12 rfl rfl)
theorem dX3_count_107 : decode cX3_count 107 = .ok (.ireturn, 1) := dk_172 (dk_at dksX3_count_3 15 rfl rfl)
theorem dX3_count_108 : decode cX3_count 108 = .ok (.aload_n 0, 1) := dk_42 (dk_at dksX3_count_3 16 rfl rfl)
theorem dX3_count_109 : decode cX3_count 109 = .ok (.getfield 102, 3) := dk_180 0 102 (dk_at dksX3_count_3 17 rfl rfl)
theorem dX3_count_112 : decode cX3_count 112 = .ok (.ireturn, 1) := dk_172 (dk_at dksX3_count_3 20 rfl rfl)
theorem dX3_count_113 : decode cX3_count 113 = .ok (.aload_n 0, 1) := dk_42 (dk_at dksX3_count_3 21 rfl rfl)
theorem dX3_count_114 : decode cX3_count 114 = .ok (.getfield 178, 3) := dk_180 0 178 (dk_at dksX3_count_4 0 rfl rfl)
theorem dX3_count_117 : decode cX3_count 117 = .ok (.ireturn, 1) := dk_172 (dk_at dksX3_count_4 3 rfl rfl)
theorem dX3_count_118 : decode cX3_count 118 = .ok (.aload_n 0, 1) := dk_42 (dk_at dksX3_count_4 4 rfl rfl)
theorem dX3_count_119 : decode cX3_count 119 = .ok (.getfield 109, 3) := dk_180 0 109 (dk_at dksX3_count_4 5 rfl rfl)
theorem dX3_count_122 : decode cX3_count 122 = .ok (.ireturn, 1) := dk_172 (dk_at dksX3_count_4 8 rfl rfl)
theorem dX3_count_123 : decode cX3_count 123 = .ok (.iconst (-1), 1) := dk_2 (dk_at dksX3_count_4 9 rfl rfl)
theorem dX3_count_124 : decode cX3_count 124 = .ok (.ireturn, 1) := dk_172 (dk_at dksX3_count_4 10 rfl rfl)
abbrev cX3_finds : ByteArray := prog_18_method_25_code
def yX3_finds : MethodName := ⟨RX3, "finds", "()V"⟩
def dkwX3_finds_11 : List UInt8 := [132, 1, 1, 167, 255, 135, 177]
abbrev dktX3_finds_11 : List UInt8 := dkwX3_finds_11 ++ []
def dkwX3_finds_10 : List UInt8 := [46, 184, 0, 99, 162, 0, 7, 28, 167, 0, 9, 42, 180, 0, 32, 27, 46, 79, 132, 2, 1, 167, 255, 159]
abbrev dktX3_finds_10 : List UInt8 := dkwX3_finds_10 ++ dktX3_finds_11
def dkwX3_finds_9 : List UInt8 := [16, 252, 159, 0, 29, 42, 180, 0, 29, 28, 46, 184, 0, 99, 42, 180, 0, 29, 42, 180, 0, 32, 27, 46]
abbrev dktX3_finds_9 : List UInt8 := dkwX3_finds_9 ++ dktX3_finds_10
def dkwX3_finds_8 : List UInt8 := [154, 0, 7, 4, 167, 0, 4, 3, 62, 42, 180, 0, 32, 27, 29, 153, 0, 44, 42, 180, 0, 32, 27, 46]
abbrev dktX3_finds_8 : List UInt8 := dkwX3_finds_8 ++ dktX3_finds_9
def dkwX3_finds_7 : List UInt8 := [162, 0, 95, 28, 27, 159, 0, 25, 42, 180, 0, 29, 27, 46, 42, 180, 0, 29, 28, 46, 2, 130, 126]
abbrev dktX3_finds_7 : List UInt8 := dkwX3_finds_7 ++ dktX3_finds_8
def dkwX3_finds_6 : List UInt8 := [60, 27, 42, 180, 0, 139, 162, 0, 119, 42, 180, 0, 32, 27, 16, 252, 79, 3, 61, 28, 42, 180, 0, 139]
abbrev dktX3_finds_6 : List UInt8 := dkwX3_finds_6 ++ dktX3_finds_7
def dkwX3_finds_5 : List UInt8 := [42, 180, 0, 26, 27, 46, 79, 42, 89, 180, 0, 139, 4, 96, 181, 0, 139, 132, 1, 1, 167, 255, 207, 3]
abbrev dktX3_finds_5 : List UInt8 := dkwX3_finds_5 ++ dktX3_finds_6
def dkwX3_finds_4 : List UInt8 := [162, 0, 47, 42, 42, 180, 0, 26, 27, 46, 182, 0, 145, 153, 0, 28, 42, 180, 0, 29, 42, 180, 0, 139]
abbrev dktX3_finds_4 : List UInt8 := dkwX3_finds_4 ++ dktX3_finds_5
def dkwX3_finds_3 : List UInt8 := [42, 89, 180, 0, 136, 4, 96, 181, 0, 136, 132, 1, 1, 167, 255, 197, 3, 60, 27, 42, 180, 0, 136]
abbrev dktX3_finds_3 : List UInt8 := dkwX3_finds_3 ++ dktX3_finds_4
def dkwX3_finds_2 : List UInt8 := [167, 0, 4, 3, 84, 42, 180, 0, 22, 27, 51, 153, 0, 23, 42, 180, 0, 26, 42, 180, 0, 136, 27, 79]
abbrev dktX3_finds_2 : List UInt8 := dkwX3_finds_2 ++ dktX3_finds_3
def dkwX3_finds_1 : List UInt8 := [60, 27, 42, 182, 0, 83, 163, 0, 57, 42, 180, 0, 22, 27, 42, 27, 182, 0, 142, 154, 0, 7, 4]
abbrev dktX3_finds_1 : List UInt8 := dkwX3_finds_1 ++ dktX3_finds_2
def dkwX3_finds_0 : List UInt8 := [42, 180, 0, 112, 153, 0, 4, 177, 42, 4, 181, 0, 112, 42, 3, 181, 0, 136, 42, 3, 181, 0, 139, 4]
abbrev dktX3_finds_0 : List UInt8 := dkwX3_finds_0 ++ dktX3_finds_1
theorem dksX3_finds_0 : cX3_finds.data.toList.drop 0 = dktX3_finds_0 := by decide +kernel
theorem dksX3_finds_1 : cX3_finds.data.toList.drop 24 = dktX3_finds_1 := dk_seg dksX3_finds_0 24 rfl rfl
theorem dksX3_finds_2 : cX3_finds.data.toList.drop 47 = dktX3_finds_2 := dk_seg dksX3_finds_1 23 rfl rfl
theorem dksX3_finds_3 : cX3_finds.data.toList.drop 71 = dktX3_finds_3 := dk_seg dksX3_finds_2 24 rfl rfl
theorem dksX3_finds_4 : cX3_finds.data.toList.drop 94 = dktX3_finds_4 := dk_seg dksX3_finds_3 23 rfl rfl
theorem dksX3_finds_5 : cX3_finds.data.toList.drop 118 = dktX3_finds_5 := dk_seg dksX3_finds_4 24 rfl rfl
theorem dksX3_finds_6 : cX3_finds.data.toList.drop 142 = dktX3_finds_6 := dk_seg dksX3_finds_5 24 rfl rfl
theorem dksX3_finds_7 : cX3_finds.data.toList.drop 166 = dktX3_finds_7 := dk_seg dksX3_finds_6 24 rfl rfl
theorem dksX3_finds_8 : cX3_finds.data.toList.drop 189 = dktX3_finds_8 := dk_seg dksX3_finds_7 23 rfl rfl
theorem dksX3_finds_9 : cX3_finds.data.toList.drop 213 = dktX3_finds_9 := dk_seg dksX3_finds_8 24 rfl rfl
theorem dksX3_finds_10 : cX3_finds.data.toList.drop 237 = dktX3_finds_10 := dk_seg dksX3_finds_9 24 rfl rfl
theorem dksX3_finds_11 : cX3_finds.data.toList.drop 261 = dktX3_finds_11 := dk_seg dksX3_finds_10 24 rfl rfl
theorem dX3_finds_0 : decode cX3_finds 0 = .ok (.aload_n 0, 1) := dk_42 (dk_at dksX3_finds_0 0 rfl rfl)
theorem dX3_finds_1 : decode cX3_finds 1 = .ok (.getfield 112, 3) := dk_180 0 112 (dk_at dksX3_finds_0 1 rfl rfl)
theorem dX3_finds_4 : decode cX3_finds 4 = .ok (.ifCond .eq 4, 3) := dk_153 0 4 (dk_at dksX3_finds_0 4 rfl rfl)
theorem dX3_finds_7 : decode cX3_finds 7 = .ok (.return_, 1) := dk_177 (dk_at dksX3_finds_0 7 rfl rfl)
theorem dX3_finds_8 : decode cX3_finds 8 = .ok (.aload_n 0, 1) := dk_42 (dk_at dksX3_finds_0 8 rfl rfl)
theorem dX3_finds_9 : decode cX3_finds 9 = .ok (.iconst 1, 1) := dk_4 (dk_at dksX3_finds_0 9 rfl rfl)
theorem dX3_finds_10 : decode cX3_finds 10 = .ok (.putfield 112, 3) := dk_181 0 112 (dk_at dksX3_finds_0 10 rfl rfl)
theorem dX3_finds_13 : decode cX3_finds 13 = .ok (.aload_n 0, 1) := dk_42 (dk_at dksX3_finds_0 13 rfl rfl)
theorem dX3_finds_14 : decode cX3_finds 14 = .ok (.iconst 0, 1) := dk_3 (dk_at dksX3_finds_0 14 rfl rfl)
theorem dX3_finds_15 : decode cX3_finds 15 = .ok (.putfield 136, 3) := dk_181 0 136 (dk_at dksX3_finds_0 15 rfl rfl)
theorem dX3_finds_18 : decode cX3_finds 18 = .ok (.aload_n 0, 1) := dk_42 (dk_at dksX3_finds_0 18 rfl rfl)
theorem dX3_finds_19 : decode cX3_finds 19 = .ok (.iconst 0, 1) := dk_3 (dk_at dksX3_finds_0 19 rfl rfl)
theorem dX3_finds_20 : decode cX3_finds 20 = .ok (.putfield 139, 3) := dk_181 0 139 (dk_at dksX3_finds_0 20 rfl rfl)
theorem dX3_finds_23 : decode cX3_finds 23 = .ok (.iconst 1, 1) := dk_4 (dk_at dksX3_finds_0 23 rfl rfl)
theorem dX3_finds_24 : decode cX3_finds 24 = .ok (.istore_n 1, 1) := dk_60 (dk_at dksX3_finds_1 0 rfl rfl)
theorem dX3_finds_25 : decode cX3_finds 25 = .ok (.iload_n 1, 1) := dk_27 (dk_at dksX3_finds_1 1 rfl rfl)
theorem dX3_finds_26 : decode cX3_finds 26 = .ok (.aload_n 0, 1) := dk_42 (dk_at dksX3_finds_1 2 rfl rfl)
theorem dX3_finds_27 : decode cX3_finds 27 = .ok (.invokevirtual 83, 3) := dk_182 0 83 (dk_at dksX3_finds_1 3 rfl rfl)
theorem dX3_finds_30 : decode cX3_finds 30 = .ok (.if_icmp .gt 57, 3) := dk_163 0 57 (dk_at dksX3_finds_1 6 rfl rfl)
theorem dX3_finds_33 : decode cX3_finds 33 = .ok (.aload_n 0, 1) := dk_42 (dk_at dksX3_finds_1 9 rfl rfl)
theorem dX3_finds_34 : decode cX3_finds 34 = .ok (.getfield 22, 3) := dk_180 0 22 (dk_at dksX3_finds_1 10 rfl rfl)
theorem dX3_finds_37 : decode cX3_finds 37 = .ok (.iload_n 1, 1) := dk_27 (dk_at dksX3_finds_1 13 rfl rfl)
theorem dX3_finds_38 : decode cX3_finds 38 = .ok (.aload_n 0, 1) := dk_42 (dk_at dksX3_finds_1 14 rfl rfl)
theorem dX3_finds_39 : decode cX3_finds 39 = .ok (.iload_n 1, 1) := dk_27 (dk_at dksX3_finds_1 15 rfl rfl)
theorem dX3_finds_40 : decode cX3_finds 40 = .ok (.invokevirtual 142, 3) := dk_182 0 142 (dk_at dksX3_finds_1 16 rfl rfl)
theorem dX3_finds_43 : decode cX3_finds 43 = .ok (.ifCond .ne 7, 3) := dk_154 0 7 (dk_at dksX3_finds_1 19 rfl rfl)
theorem dX3_finds_46 : decode cX3_finds 46 = .ok (.iconst 1, 1) := dk_4 (dk_at dksX3_finds_1 22 rfl rfl)
theorem dX3_finds_47 : decode cX3_finds 47 = .ok (.goto 4, 3) := dk_167 0 4 (dk_at dksX3_finds_2 0 rfl rfl)
theorem dX3_finds_50 : decode cX3_finds 50 = .ok (.iconst 0, 1) := dk_3 (dk_at dksX3_finds_2 3 rfl rfl)
theorem dX3_finds_51 : decode cX3_finds 51 = .ok (.bastore, 1) := dk_84 (dk_at dksX3_finds_2 4 rfl rfl)
theorem dX3_finds_52 : decode cX3_finds 52 = .ok (.aload_n 0, 1) := dk_42 (dk_at dksX3_finds_2 5 rfl rfl)
theorem dX3_finds_53 : decode cX3_finds 53 = .ok (.getfield 22, 3) := dk_180 0 22 (dk_at dksX3_finds_2 6 rfl rfl)
theorem dX3_finds_56 : decode cX3_finds 56 = .ok (.iload_n 1, 1) := dk_27 (dk_at dksX3_finds_2 9 rfl rfl)
theorem dX3_finds_57 : decode cX3_finds 57 = .ok (.baload, 1) := dk_51 (dk_at dksX3_finds_2 10 rfl rfl)
theorem dX3_finds_58 : decode cX3_finds 58 = .ok (.ifCond .eq 23, 3) := dk_153 0 23 (dk_at dksX3_finds_2 11 rfl rfl)
theorem dX3_finds_61 : decode cX3_finds 61 = .ok (.aload_n 0, 1) := dk_42 (dk_at dksX3_finds_2 14 rfl rfl)
theorem dX3_finds_62 : decode cX3_finds 62 = .ok (.getfield 26, 3) := dk_180 0 26 (dk_at dksX3_finds_2 15 rfl rfl)
theorem dX3_finds_65 : decode cX3_finds 65 = .ok (.aload_n 0, 1) := dk_42 (dk_at dksX3_finds_2 18 rfl rfl)
theorem dX3_finds_66 : decode cX3_finds 66 = .ok (.getfield 136, 3) := dk_180 0 136 (dk_at dksX3_finds_2 19 rfl rfl)
theorem dX3_finds_69 : decode cX3_finds 69 = .ok (.iload_n 1, 1) := dk_27 (dk_at dksX3_finds_2 22 rfl rfl)
theorem dX3_finds_70 : decode cX3_finds 70 = .ok (.iastore, 1) := dk_79 (dk_at dksX3_finds_2 23 rfl rfl)
theorem dX3_finds_71 : decode cX3_finds 71 = .ok (.aload_n 0, 1) := dk_42 (dk_at dksX3_finds_3 0 rfl rfl)
theorem dX3_finds_72 : decode cX3_finds 72 = .ok (.dup, 1) := dk_89 (dk_at dksX3_finds_3 1 rfl rfl)
theorem dX3_finds_73 : decode cX3_finds 73 = .ok (.getfield 136, 3) := dk_180 0 136 (dk_at dksX3_finds_3 2 rfl rfl)
theorem dX3_finds_76 : decode cX3_finds 76 = .ok (.iconst 1, 1) := dk_4 (dk_at dksX3_finds_3 5 rfl rfl)
theorem dX3_finds_77 : decode cX3_finds 77 = .ok (.iadd, 1) := dk_96 (dk_at dksX3_finds_3 6 rfl rfl)
theorem dX3_finds_78 : decode cX3_finds 78 = .ok (.putfield 136, 3) := dk_181 0 136 (dk_at dksX3_finds_3 7 rfl rfl)
theorem dX3_finds_81 : decode cX3_finds 81 = .ok (.iinc 1 1, 3) := dk_132 1 1 (dk_at dksX3_finds_3 10 rfl rfl)
theorem dX3_finds_84 : decode cX3_finds 84 = .ok (.goto (-59), 3) := dk_167 255 197 (dk_at dksX3_finds_3 13 rfl rfl)
theorem dX3_finds_87 : decode cX3_finds 87 = .ok (.iconst 0, 1) := dk_3 (dk_at dksX3_finds_3 16 rfl rfl)
theorem dX3_finds_88 : decode cX3_finds 88 = .ok (.istore_n 1, 1) := dk_60 (dk_at dksX3_finds_3 17 rfl rfl)
theorem dX3_finds_89 : decode cX3_finds 89 = .ok (.iload_n 1, 1) := dk_27 (dk_at dksX3_finds_3 18 rfl rfl)
theorem dX3_finds_90 : decode cX3_finds 90 = .ok (.aload_n 0, 1) := dk_42 (dk_at dksX3_finds_3 19 rfl rfl)
theorem dX3_finds_91 : decode cX3_finds 91 = .ok (.getfield 136, 3) := dk_180 0 136 (dk_at dksX3_finds_3 20 rfl rfl)
theorem dX3_finds_94 : decode cX3_finds 94 = .ok (.if_icmp .ge 47, 3) := dk_162 0 47 (dk_at dksX3_finds_4 0 rfl rfl)
theorem dX3_finds_97 : decode cX3_finds 97 = .ok (.aload_n 0, 1) := dk_42 (dk_at dksX3_finds_4 3 rfl rfl)
theorem dX3_finds_98 : decode cX3_finds 98 = .ok (.aload_n 0, 1) := dk_42 (dk_at dksX3_finds_4 4 rfl rfl)
theorem dX3_finds_99 : decode cX3_finds 99 = .ok (.getfield 26, 3) := dk_180 0 26 (dk_at dksX3_finds_4 5 rfl rfl)
theorem dX3_finds_102 : decode cX3_finds 102 = .ok (.iload_n 1, 1) := dk_27 (dk_at dksX3_finds_4 8 rfl rfl)
theorem dX3_finds_103 : decode cX3_finds 103 = .ok (.iaload, 1) := dk_46 (dk_at dksX3_finds_4 9 rfl rfl)
theorem dX3_finds_104 : decode cX3_finds 104 = .ok (.invokevirtual 145, 3) := dk_182 0 145 (dk_at dksX3_finds_4 10 rfl rfl)
theorem dX3_finds_107 : decode cX3_finds 107 = .ok (.ifCond .eq 28, 3) := dk_153 0 28 (dk_at dksX3_finds_4 13 rfl rfl)
theorem dX3_finds_110 : decode cX3_finds 110 = .ok (.aload_n 0, 1) := dk_42 (dk_at dksX3_finds_4 16 rfl rfl)
theorem dX3_finds_111 : decode cX3_finds 111 = .ok (.getfield 29, 3) := dk_180 0 29 (dk_at dksX3_finds_4 17 rfl rfl)
theorem dX3_finds_114 : decode cX3_finds 114 = .ok (.aload_n 0, 1) := dk_42 (dk_at dksX3_finds_4 20 rfl rfl)
theorem dX3_finds_115 : decode cX3_finds 115 = .ok (.getfield 139, 3) := dk_180 0 139 (dk_at dksX3_finds_4 21 rfl rfl)
theorem dX3_finds_118 : decode cX3_finds 118 = .ok (.aload_n 0, 1) := dk_42 (dk_at dksX3_finds_5 0 rfl rfl)
theorem dX3_finds_119 : decode cX3_finds 119 = .ok (.getfield 26, 3) := dk_180 0 26 (dk_at dksX3_finds_5 1 rfl rfl)
theorem dX3_finds_122 : decode cX3_finds 122 = .ok (.iload_n 1, 1) := dk_27 (dk_at dksX3_finds_5 4 rfl rfl)
theorem dX3_finds_123 : decode cX3_finds 123 = .ok (.iaload, 1) := dk_46 (dk_at dksX3_finds_5 5 rfl rfl)
theorem dX3_finds_124 : decode cX3_finds 124 = .ok (.iastore, 1) := dk_79 (dk_at dksX3_finds_5 6 rfl rfl)
theorem dX3_finds_125 : decode cX3_finds 125 = .ok (.aload_n 0, 1) := dk_42 (dk_at dksX3_finds_5 7 rfl rfl)
theorem dX3_finds_126 : decode cX3_finds 126 = .ok (.dup, 1) := dk_89 (dk_at dksX3_finds_5 8 rfl rfl)
theorem dX3_finds_127 : decode cX3_finds 127 = .ok (.getfield 139, 3) := dk_180 0 139 (dk_at dksX3_finds_5 9 rfl rfl)
theorem dX3_finds_130 : decode cX3_finds 130 = .ok (.iconst 1, 1) := dk_4 (dk_at dksX3_finds_5 12 rfl rfl)
theorem dX3_finds_131 : decode cX3_finds 131 = .ok (.iadd, 1) := dk_96 (dk_at dksX3_finds_5 13 rfl rfl)
theorem dX3_finds_132 : decode cX3_finds 132 = .ok (.putfield 139, 3) := dk_181 0 139 (dk_at dksX3_finds_5 14 rfl rfl)
theorem dX3_finds_135 : decode cX3_finds 135 = .ok (.iinc 1 1, 3) := dk_132 1 1 (dk_at dksX3_finds_5 17 rfl rfl)
theorem dX3_finds_138 : decode cX3_finds 138 = .ok (.goto (-49), 3) := dk_167 255 207 (dk_at dksX3_finds_5 20 rfl rfl)
theorem dX3_finds_141 : decode cX3_finds 141 = .ok (.iconst 0, 1) := dk_3 (dk_at dksX3_finds_5 23 rfl rfl)
theorem dX3_finds_142 : decode cX3_finds 142 = .ok (.istore_n 1, 1) := dk_60 (dk_at dksX3_finds_6 0 rfl rfl)
theorem dX3_finds_143 : decode cX3_finds 143 = .ok (.iload_n 1, 1) := dk_27 (dk_at dksX3_finds_6 1 rfl rfl)
theorem dX3_finds_144 : decode cX3_finds 144 = .ok (.aload_n 0, 1) := dk_42 (dk_at dksX3_finds_6 2 rfl rfl)
theorem dX3_finds_145 : decode cX3_finds 145 = .ok (.getfield 139, 3) := dk_180 0 139 (dk_at dksX3_finds_6 3 rfl rfl)
theorem dX3_finds_148 : decode cX3_finds 148 = .ok (.if_icmp .ge 119, 3) := dk_162 0 119 (dk_at dksX3_finds_6 6 rfl rfl)
theorem dX3_finds_151 : decode cX3_finds 151 = .ok (.aload_n 0, 1) := dk_42 (dk_at dksX3_finds_6 9 rfl rfl)
theorem dX3_finds_152 : decode cX3_finds 152 = .ok (.getfield 32, 3) := dk_180 0 32 (dk_at dksX3_finds_6 10 rfl rfl)
theorem dX3_finds_155 : decode cX3_finds 155 = .ok (.iload_n 1, 1) := dk_27 (dk_at dksX3_finds_6 13 rfl rfl)
theorem dX3_finds_156 : decode cX3_finds 156 = .ok (.bipush (-4), 2) := dk_16 252 (dk_at dksX3_finds_6 14 rfl rfl)
theorem dX3_finds_158 : decode cX3_finds 158 = .ok (.iastore, 1) := dk_79 (dk_at dksX3_finds_6 16 rfl rfl)
theorem dX3_finds_159 : decode cX3_finds 159 = .ok (.iconst 0, 1) := dk_3 (dk_at dksX3_finds_6 17 rfl rfl)
theorem dX3_finds_160 : decode cX3_finds 160 = .ok (.istore_n 2, 1) := dk_61 (dk_at dksX3_finds_6 18 rfl rfl)
theorem dX3_finds_161 : decode cX3_finds 161 = .ok (.iload_n 2, 1) := dk_28 (dk_at dksX3_finds_6 19 rfl rfl)
theorem dX3_finds_162 : decode cX3_finds 162 = .ok (.aload_n 0, 1) := dk_42 (dk_at dksX3_finds_6 20 rfl rfl)
theorem dX3_finds_163 : decode cX3_finds 163 = .ok (.getfield 139, 3) := dk_180 0 139 (dk_at dksX3_finds_6 21 rfl rfl)
theorem dX3_finds_166 : decode cX3_finds 166 = .ok (.if_icmp .ge 95, 3) := dk_162 0 95 (dk_at dksX3_finds_7 0 rfl rfl)
theorem dX3_finds_169 : decode cX3_finds 169 = .ok (.iload_n 2, 1) := dk_28 (dk_at dksX3_finds_7 3 rfl rfl)
theorem dX3_finds_170 : decode cX3_finds 170 = .ok (.iload_n 1, 1) := dk_27 (dk_at dksX3_finds_7 4 rfl rfl)
theorem dX3_finds_171 : decode cX3_finds 171 = .ok (.if_icmp .eq 25, 3) := dk_159 0 25 (dk_at dksX3_finds_7 5 rfl rfl)
theorem dX3_finds_174 : decode cX3_finds 174 = .ok (.aload_n 0, 1) := dk_42 (dk_at dksX3_finds_7 8 rfl rfl)
theorem dX3_finds_175 : decode cX3_finds 175 = .ok (.getfield 29, 3) := dk_180 0 29 (dk_at dksX3_finds_7 9 rfl rfl)
theorem dX3_finds_178 : decode cX3_finds 178 = .ok (.iload_n 1, 1) := dk_27 (dk_at dksX3_finds_7 12 rfl rfl)
theorem dX3_finds_179 : decode cX3_finds 179 = .ok (.iaload, 1) := dk_46 (dk_at dksX3_finds_7 13 rfl rfl)
theorem dX3_finds_180 : decode cX3_finds 180 = .ok (.aload_n 0, 1) := dk_42 (dk_at dksX3_finds_7 14 rfl rfl)
theorem dX3_finds_181 : decode cX3_finds 181 = .ok (.getfield 29, 3) := dk_180 0 29 (dk_at dksX3_finds_7 15 rfl rfl)
theorem dX3_finds_184 : decode cX3_finds 184 = .ok (.iload_n 2, 1) := dk_28 (dk_at dksX3_finds_7 18 rfl rfl)
theorem dX3_finds_185 : decode cX3_finds 185 = .ok (.iaload, 1) := dk_46 (dk_at dksX3_finds_7 19 rfl rfl)
theorem dX3_finds_186 : decode cX3_finds 186 = .ok (.iconst (-1), 1) := dk_2 (dk_at dksX3_finds_7 20 rfl rfl)
theorem dX3_finds_187 : decode cX3_finds 187 = .ok (.ixor, 1) := dk_130 (dk_at dksX3_finds_7 21 rfl rfl)
theorem dX3_finds_188 : decode cX3_finds 188 = .ok (.iand, 1) := dk_126 (dk_at dksX3_finds_7 22 rfl rfl)
theorem dX3_finds_189 : decode cX3_finds 189 = .ok (.ifCond .ne 7, 3) := dk_154 0 7 (dk_at dksX3_finds_8 0 rfl rfl)
theorem dX3_finds_192 : decode cX3_finds 192 = .ok (.iconst 1, 1) := dk_4 (dk_at dksX3_finds_8 3 rfl rfl)
theorem dX3_finds_193 : decode cX3_finds 193 = .ok (.goto 4, 3) := dk_167 0 4 (dk_at dksX3_finds_8 4 rfl rfl)
theorem dX3_finds_196 : decode cX3_finds 196 = .ok (.iconst 0, 1) := dk_3 (dk_at dksX3_finds_8 7 rfl rfl)
theorem dX3_finds_197 : decode cX3_finds 197 = .ok (.istore_n 3, 1) := dk_62 (dk_at dksX3_finds_8 8 rfl rfl)
theorem dX3_finds_198 : decode cX3_finds 198 = .ok (.aload_n 0, 1) := dk_42 (dk_at dksX3_finds_8 9 rfl rfl)
theorem dX3_finds_199 : decode cX3_finds 199 = .ok (.getfield 32, 3) := dk_180 0 32 (dk_at dksX3_finds_8 10 rfl rfl)
theorem dX3_finds_202 : decode cX3_finds 202 = .ok (.iload_n 1, 1) := dk_27 (dk_at dksX3_finds_8 13 rfl rfl)
theorem dX3_finds_203 : decode cX3_finds 203 = .ok (.iload_n 3, 1) := dk_29 (dk_at dksX3_finds_8 14 rfl rfl)
theorem dX3_finds_204 : decode cX3_finds 204 = .ok (.ifCond .eq 44, 3) := dk_153 0 44 (dk_at dksX3_finds_8 15 rfl rfl)
theorem dX3_finds_207 : decode cX3_finds 207 = .ok (.aload_n 0, 1) := dk_42 (dk_at dksX3_finds_8 18 rfl rfl)
theorem dX3_finds_208 : decode cX3_finds 208 = .ok (.getfield 32, 3) := dk_180 0 32 (dk_at dksX3_finds_8 19 rfl rfl)
theorem dX3_finds_211 : decode cX3_finds 211 = .ok (.iload_n 1, 1) := dk_27 (dk_at dksX3_finds_8 22 rfl rfl)
theorem dX3_finds_212 : decode cX3_finds 212 = .ok (.iaload, 1) := dk_46 (dk_at dksX3_finds_8 23 rfl rfl)
theorem dX3_finds_213 : decode cX3_finds 213 = .ok (.bipush (-4), 2) := dk_16 252 (dk_at dksX3_finds_9 0 rfl rfl)
theorem dX3_finds_215 : decode cX3_finds 215 = .ok (.if_icmp .eq 29, 3) := dk_159 0 29 (dk_at dksX3_finds_9 2 rfl rfl)
theorem dX3_finds_218 : decode cX3_finds 218 = .ok (.aload_n 0, 1) := dk_42 (dk_at dksX3_finds_9 5 rfl rfl)
theorem dX3_finds_219 : decode cX3_finds 219 = .ok (.getfield 29, 3) := dk_180 0 29 (dk_at dksX3_finds_9 6 rfl rfl)
theorem dX3_finds_222 : decode cX3_finds 222 = .ok (.iload_n 2, 1) := dk_28 (dk_at dksX3_finds_9 9 rfl rfl)
theorem dX3_finds_223 : decode cX3_finds 223 = .ok (.iaload, 1) := dk_46 (dk_at dksX3_finds_9 10 rfl rfl)
theorem dX3_finds_224 : decode cX3_finds 224 = .ok (.invokestatic 99, 3) := dk_184 0 99 (dk_at dksX3_finds_9 11 rfl rfl)
theorem dX3_finds_227 : decode cX3_finds 227 = .ok (.aload_n 0, 1) := dk_42 (dk_at dksX3_finds_9 14 rfl rfl)
theorem dX3_finds_228 : decode cX3_finds 228 = .ok (.getfield 29, 3) := dk_180 0 29 (dk_at dksX3_finds_9 15 rfl rfl)
theorem dX3_finds_231 : decode cX3_finds 231 = .ok (.aload_n 0, 1) := dk_42 (dk_at dksX3_finds_9 18 rfl rfl)
theorem dX3_finds_232 : decode cX3_finds 232 = .ok (.getfield 32, 3) := dk_180 0 32 (dk_at dksX3_finds_9 19 rfl rfl)
theorem dX3_finds_235 : decode cX3_finds 235 = .ok (.iload_n 1, 1) := dk_27 (dk_at dksX3_finds_9 22 rfl rfl)
theorem dX3_finds_236 : decode cX3_finds 236 = .ok (.iaload, 1) := dk_46 (dk_at dksX3_finds_9 23 rfl rfl)
theorem dX3_finds_237 : decode cX3_finds 237 = .ok (.iaload, 1) := dk_46 (dk_at dksX3_finds_10 0 rfl rfl)
theorem dX3_finds_238 : decode cX3_finds 238 = .ok (.invokestatic 99, 3) := dk_184 0 99 (dk_at dksX3_finds_10 1 rfl rfl)
theorem dX3_finds_241 : decode cX3_finds 241 = .ok (.if_icmp .ge 7, 3) := dk_162 0 7 (dk_at dksX3_finds_10 4 rfl rfl)
theorem dX3_finds_244 : decode cX3_finds 244 = .ok (.iload_n 2, 1) := dk_28 (dk_at dksX3_finds_10 7 rfl rfl)
theorem dX3_finds_245 : decode cX3_finds 245 = .ok (.goto 9, 3) := dk_167 0 9 (dk_at dksX3_finds_10 8 rfl rfl)
theorem dX3_finds_248 : decode cX3_finds 248 = .ok (.aload_n 0, 1) := dk_42 (dk_at dksX3_finds_10 11 rfl rfl)
theorem dX3_finds_249 : decode cX3_finds 249 = .ok (.getfield 32, 3) := dk_180 0 32 (dk_at dksX3_finds_10 12 rfl rfl)
theorem dX3_finds_252 : decode cX3_finds 252 = .ok (.iload_n 1, 1) := dk_27 (dk_at dksX3_finds_10 15 rfl rfl)
theorem dX3_finds_253 : decode cX3_finds 253 = .ok (.iaload, 1) := dk_46 (dk_at dksX3_finds_10 16 rfl rfl)
theorem dX3_finds_254 : decode cX3_finds 254 = .ok (.iastore, 1) := dk_79 (dk_at dksX3_finds_10 17 rfl rfl)
theorem dX3_finds_255 : decode cX3_finds 255 = .ok (.iinc 2 1, 3) := dk_132 2 1 (dk_at dksX3_finds_10 18 rfl rfl)
theorem dX3_finds_258 : decode cX3_finds 258 = .ok (.goto (-97), 3) := dk_167 255 159 (dk_at dksX3_finds_10 21 rfl rfl)
theorem dX3_finds_261 : decode cX3_finds 261 = .ok (.iinc 1 1, 3) := dk_132 1 1 (dk_at dksX3_finds_11 0 rfl rfl)
theorem dX3_finds_264 : decode cX3_finds 264 = .ok (.goto (-121), 3) := dk_167 255 135 (dk_at dksX3_finds_11 3 rfl rfl)
theorem dX3_finds_267 : decode cX3_finds 267 = .ok (.return_, 1) := dk_177 (dk_at dksX3_finds_11 6 rfl rfl)
abbrev cX3_splittersOf : ByteArray := prog_18_method_23_code
def yX3_splittersOf : MethodName := ⟨RX3, "splittersOf", "(I)I"⟩
def dkwX3_splittersOf_2 : List UInt8 := [167, 0, 4, 3, 128, 61, 132, 3, 1, 167, 255, 205, 28, 172]
abbrev dktX3_splittersOf_2 : List UInt8 := dkwX3_splittersOf_2 ++ []
def dkwX3_splittersOf_1 : List UInt8 := [27, 29, 184, 0, 91, 154, 0, 20, 21, 4, 153, 0, 15, 21, 4, 27, 159, 0, 9, 4, 29, 120]
abbrev dktX3_splittersOf_1 : List UInt8 := dkwX3_splittersOf_1 ++ dktX3_splittersOf_2
def dkwX3_splittersOf_0 : List UInt8 := [3, 61, 3, 62, 29, 42, 180, 0, 7, 3, 46, 162, 0, 47, 42, 29, 182, 0, 95, 27, 126, 54, 4, 28]
abbrev dktX3_splittersOf_0 : List UInt8 := dkwX3_splittersOf_0 ++ dktX3_splittersOf_1
theorem dksX3_splittersOf_0 : cX3_splittersOf.data.toList.drop 0 = dktX3_splittersOf_0 := by decide +kernel
theorem dksX3_splittersOf_1 : cX3_splittersOf.data.toList.drop 24 = dktX3_splittersOf_1 := dk_seg dksX3_splittersOf_0 24 rfl rfl
theorem dksX3_splittersOf_2 : cX3_splittersOf.data.toList.drop 46 = dktX3_splittersOf_2 := dk_seg dksX3_splittersOf_1 22 rfl rfl
theorem dX3_splittersOf_0 : decode cX3_splittersOf 0 = .ok (.iconst 0, 1) := dk_3 (dk_at dksX3_splittersOf_0 0 rfl rfl)
theorem dX3_splittersOf_1 : decode cX3_splittersOf 1 = .ok (.istore_n 2, 1) := dk_61 (dk_at dksX3_splittersOf_0 1 rfl rfl)
theorem dX3_splittersOf_2 : decode cX3_splittersOf 2 = .ok (.iconst 0, 1) := dk_3 (dk_at dksX3_splittersOf_0 2 rfl rfl)
theorem dX3_splittersOf_3 : decode cX3_splittersOf 3 = .ok (.istore_n 3, 1) := dk_62 (dk_at dksX3_splittersOf_0 3 rfl rfl)
theorem dX3_splittersOf_4 : decode cX3_splittersOf 4 = .ok (.iload_n 3, 1) := dk_29 (dk_at dksX3_splittersOf_0 4 rfl rfl)
theorem dX3_splittersOf_5 : decode cX3_splittersOf 5 = .ok (.aload_n 0, 1) := dk_42 (dk_at dksX3_splittersOf_0 5 rfl rfl)
theorem dX3_splittersOf_6 : decode cX3_splittersOf 6 = .ok (.getfield 7, 3) := dk_180 0 7 (dk_at dksX3_splittersOf_0 6 rfl rfl)
theorem dX3_splittersOf_9 : decode cX3_splittersOf 9 = .ok (.iconst 0, 1) := dk_3 (dk_at dksX3_splittersOf_0 9 rfl rfl)
theorem dX3_splittersOf_10 : decode cX3_splittersOf 10 = .ok (.iaload, 1) := dk_46 (dk_at dksX3_splittersOf_0 10 rfl rfl)
theorem dX3_splittersOf_11 : decode cX3_splittersOf 11 = .ok (.if_icmp .ge 47, 3) := dk_162 0 47 (dk_at dksX3_splittersOf_0 11 rfl rfl)
theorem dX3_splittersOf_14 : decode cX3_splittersOf 14 = .ok (.aload_n 0, 1) := dk_42 (dk_at dksX3_splittersOf_0 14 rfl rfl)
theorem dX3_splittersOf_15 : decode cX3_splittersOf 15 = .ok (.iload_n 3, 1) := dk_29 (dk_at dksX3_splittersOf_0 15 rfl rfl)
theorem dX3_splittersOf_16 : decode cX3_splittersOf 16 = .ok (.invokevirtual 95, 3) := dk_182 0 95 (dk_at dksX3_splittersOf_0 16 rfl rfl)
theorem dX3_splittersOf_19 : decode cX3_splittersOf 19 = .ok (.iload_n 1, 1) := dk_27 (dk_at dksX3_splittersOf_0 19 rfl rfl)
theorem dX3_splittersOf_20 : decode cX3_splittersOf 20 = .ok (.iand, 1) := dk_126 (dk_at dksX3_splittersOf_0 20 rfl rfl)
theorem dX3_splittersOf_21 : decode cX3_splittersOf 21 = .ok (.istore 4, 2) := dk_54 4 (dk_at dksX3_splittersOf_0 21 rfl rfl)
theorem dX3_splittersOf_23 : decode cX3_splittersOf 23 = .ok (.iload_n 2, 1) := dk_28 (dk_at dksX3_splittersOf_0 23 rfl rfl)
theorem dX3_splittersOf_24 : decode cX3_splittersOf 24 = .ok (.iload_n 1, 1) := dk_27 (dk_at dksX3_splittersOf_1 0 rfl rfl)
theorem dX3_splittersOf_25 : decode cX3_splittersOf 25 = .ok (.iload_n 3, 1) := dk_29 (dk_at dksX3_splittersOf_1 1 rfl rfl)
theorem dX3_splittersOf_26 : decode cX3_splittersOf 26 = .ok (.invokestatic 91, 3) := dk_184 0 91 (dk_at dksX3_splittersOf_1 2 rfl rfl)
theorem dX3_splittersOf_29 : decode cX3_splittersOf 29 = .ok (.ifCond .ne 20, 3) := dk_154 0 20 (dk_at dksX3_splittersOf_1 5 rfl rfl)
theorem dX3_splittersOf_32 : decode cX3_splittersOf 32 = .ok (.iload 4, 2) := dk_21 4 (dk_at dksX3_splittersOf_1 8 rfl rfl)
theorem dX3_splittersOf_34 : decode cX3_splittersOf 34 = .ok (.ifCond .eq 15, 3) := dk_153 0 15 (dk_at dksX3_splittersOf_1 10 rfl rfl)
theorem dX3_splittersOf_37 : decode cX3_splittersOf 37 = .ok (.iload 4, 2) := dk_21 4 (dk_at dksX3_splittersOf_1 13 rfl rfl)
theorem dX3_splittersOf_39 : decode cX3_splittersOf 39 = .ok (.iload_n 1, 1) := dk_27 (dk_at dksX3_splittersOf_1 15 rfl rfl)
theorem dX3_splittersOf_40 : decode cX3_splittersOf 40 = .ok (.if_icmp .eq 9, 3) := dk_159 0 9 (dk_at dksX3_splittersOf_1 16 rfl rfl)
theorem dX3_splittersOf_43 : decode cX3_splittersOf 43 = .ok (.iconst 1, 1) := dk_4 (dk_at dksX3_splittersOf_1 19 rfl rfl)
theorem dX3_splittersOf_44 : decode cX3_splittersOf 44 = .ok (.iload_n 3, 1) := dk_29 (dk_at dksX3_splittersOf_1 20 rfl rfl)
theorem dX3_splittersOf_45 : decode cX3_splittersOf 45 = .ok (.ishl, 1) := dk_120 (dk_at dksX3_splittersOf_1 21 rfl rfl)
theorem dX3_splittersOf_46 : decode cX3_splittersOf 46 = .ok (.goto 4, 3) := dk_167 0 4 (dk_at dksX3_splittersOf_2 0 rfl rfl)
theorem dX3_splittersOf_49 : decode cX3_splittersOf 49 = .ok (.iconst 0, 1) := dk_3 (dk_at dksX3_splittersOf_2 3 rfl rfl)
theorem dX3_splittersOf_50 : decode cX3_splittersOf 50 = .ok (.ior, 1) := dk_128 (dk_at dksX3_splittersOf_2 4 rfl rfl)
theorem dX3_splittersOf_51 : decode cX3_splittersOf 51 = .ok (.istore_n 2, 1) := dk_61 (dk_at dksX3_splittersOf_2 5 rfl rfl)
theorem dX3_splittersOf_52 : decode cX3_splittersOf 52 = .ok (.iinc 3 1, 3) := dk_132 3 1 (dk_at dksX3_splittersOf_2 6 rfl rfl)
theorem dX3_splittersOf_55 : decode cX3_splittersOf 55 = .ok (.goto (-51), 3) := dk_167 255 205 (dk_at dksX3_splittersOf_2 9 rfl rfl)
theorem dX3_splittersOf_58 : decode cX3_splittersOf 58 = .ok (.iload_n 2, 1) := dk_28 (dk_at dksX3_splittersOf_2 12 rfl rfl)
theorem dX3_splittersOf_59 : decode cX3_splittersOf 59 = .ok (.ireturn, 1) := dk_172 (dk_at dksX3_splittersOf_2 13 rfl rfl)
abbrev cX3_isStrong : ByteArray := prog_18_method_24_code
def yX3_isStrong : MethodName := ⟨RX3, "isStrong", "(I)Z"⟩
def dkwX3_isStrong_2 : List UInt8 := [172]
abbrev dktX3_isStrong_2 : List UInt8 := dkwX3_isStrong_2 ++ []
def dkwX3_isStrong_1 : List UInt8 := [29, 2, 130, 126, 153, 0, 13, 29, 27, 2, 130, 126, 153, 0, 5, 3, 172, 132, 2, 1, 167, 255, 214, 4]
abbrev dktX3_isStrong_1 : List UInt8 := dkwX3_isStrong_1 ++ dktX3_isStrong_2
def dkwX3_isStrong_0 : List UInt8 := [3, 61, 28, 42, 180, 0, 136, 162, 0, 40, 42, 180, 0, 26, 28, 46, 62, 27, 29, 126, 153, 0, 21, 27]
abbrev dktX3_isStrong_0 : List UInt8 := dkwX3_isStrong_0 ++ dktX3_isStrong_1
theorem dksX3_isStrong_0 : cX3_isStrong.data.toList.drop 0 = dktX3_isStrong_0 := by decide +kernel
theorem dksX3_isStrong_1 : cX3_isStrong.data.toList.drop 24 = dktX3_isStrong_1 := dk_seg dksX3_isStrong_0 24 rfl rfl
theorem dksX3_isStrong_2 : cX3_isStrong.data.toList.drop 48 = dktX3_isStrong_2 := dk_seg dksX3_isStrong_1 24 rfl rfl
theorem dX3_isStrong_0 : decode cX3_isStrong 0 = .ok (.iconst 0, 1) := dk_3 (dk_at dksX3_isStrong_0 0 rfl rfl)
theorem dX3_isStrong_1 : decode cX3_isStrong 1 = .ok (.istore_n 2, 1) := dk_61 (dk_at dksX3_isStrong_0 1 rfl rfl)
theorem dX3_isStrong_2 : decode cX3_isStrong 2 = .ok (.iload_n 2, 1) := dk_28 (dk_at dksX3_isStrong_0 2 rfl rfl)
theorem dX3_isStrong_3 : decode cX3_isStrong 3 = .ok (.aload_n 0, 1) := dk_42 (dk_at dksX3_isStrong_0 3 rfl rfl)
theorem dX3_isStrong_4 : decode cX3_isStrong 4 = .ok (.getfield 136, 3) := dk_180 0 136 (dk_at dksX3_isStrong_0 4 rfl rfl)
theorem dX3_isStrong_7 : decode cX3_isStrong 7 = .ok (.if_icmp .ge 40, 3) := dk_162 0 40 (dk_at dksX3_isStrong_0 7 rfl rfl)
theorem dX3_isStrong_10 : decode cX3_isStrong 10 = .ok (.aload_n 0, 1) := dk_42 (dk_at dksX3_isStrong_0 10 rfl rfl)
theorem dX3_isStrong_11 : decode cX3_isStrong 11 = .ok (.getfield 26, 3) := dk_180 0 26 (dk_at dksX3_isStrong_0 11 rfl rfl)
theorem dX3_isStrong_14 : decode cX3_isStrong 14 = .ok (.iload_n 2, 1) := dk_28 (dk_at dksX3_isStrong_0 14 rfl rfl)
theorem dX3_isStrong_15 : decode cX3_isStrong 15 = .ok (.iaload, 1) := dk_46 (dk_at dksX3_isStrong_0 15 rfl rfl)
theorem dX3_isStrong_16 : decode cX3_isStrong 16 = .ok (.istore_n 3, 1) := dk_62 (dk_at dksX3_isStrong_0 16 rfl rfl)
theorem dX3_isStrong_17 : decode cX3_isStrong 17 = .ok (.iload_n 1, 1) := dk_27 (dk_at dksX3_isStrong_0 17 rfl rfl)
theorem dX3_isStrong_18 : decode cX3_isStrong 18 = .ok (.iload_n 3, 1) := dk_29 (dk_at dksX3_isStrong_0 18 rfl rfl)
theorem dX3_isStrong_19 : decode cX3_isStrong 19 = .ok (.iand, 1) := dk_126 (dk_at dksX3_isStrong_0 19 rfl rfl)
theorem dX3_isStrong_20 : decode cX3_isStrong 20 = .ok (.ifCond .eq 21, 3) := dk_153 0 21 (dk_at dksX3_isStrong_0 20 rfl rfl)
theorem dX3_isStrong_23 : decode cX3_isStrong 23 = .ok (.iload_n 1, 1) := dk_27 (dk_at dksX3_isStrong_0 23 rfl rfl)
theorem dX3_isStrong_24 : decode cX3_isStrong 24 = .ok (.iload_n 3, 1) := dk_29 (dk_at dksX3_isStrong_1 0 rfl rfl)
theorem dX3_isStrong_25 : decode cX3_isStrong 25 = .ok (.iconst (-1), 1) := dk_2 (dk_at dksX3_isStrong_1 1 rfl rfl)
theorem dX3_isStrong_26 : decode cX3_isStrong 26 = .ok (.ixor, 1) := dk_130 (dk_at dksX3_isStrong_1 2 rfl rfl)
theorem dX3_isStrong_27 : decode cX3_isStrong 27 = .ok (.iand, 1) := dk_126 (dk_at dksX3_isStrong_1 3 rfl rfl)
theorem dX3_isStrong_28 : decode cX3_isStrong 28 = .ok (.ifCond .eq 13, 3) := dk_153 0 13 (dk_at dksX3_isStrong_1 4 rfl rfl)
theorem dX3_isStrong_31 : decode cX3_isStrong 31 = .ok (.iload_n 3, 1) := dk_29 (dk_at dksX3_isStrong_1 7 rfl rfl)
theorem dX3_isStrong_32 : decode cX3_isStrong 32 = .ok (.iload_n 1, 1) := dk_27 (dk_at dksX3_isStrong_1 8 rfl rfl)
theorem dX3_isStrong_33 : decode cX3_isStrong 33 = .ok (.iconst (-1), 1) := dk_2 (dk_at dksX3_isStrong_1 9 rfl rfl)
theorem dX3_isStrong_34 : decode cX3_isStrong 34 = .ok (.ixor, 1) := dk_130 (dk_at dksX3_isStrong_1 10 rfl rfl)
theorem dX3_isStrong_35 : decode cX3_isStrong 35 = .ok (.iand, 1) := dk_126 (dk_at dksX3_isStrong_1 11 rfl rfl)
theorem dX3_isStrong_36 : decode cX3_isStrong 36 = .ok (.ifCond .eq 5, 3) := dk_153 0 5 (dk_at dksX3_isStrong_1 12 rfl rfl)
theorem dX3_isStrong_39 : decode cX3_isStrong 39 = .ok (.iconst 0, 1) := dk_3 (dk_at dksX3_isStrong_1 15 rfl rfl)
theorem dX3_isStrong_40 : decode cX3_isStrong 40 = .ok (.ireturn, 1) := dk_172 (dk_at dksX3_isStrong_1 16 rfl rfl)
theorem dX3_isStrong_41 : decode cX3_isStrong 41 = .ok (.iinc 2 1, 3) := dk_132 2 1 (dk_at dksX3_isStrong_1 17 rfl rfl)
theorem dX3_isStrong_44 : decode cX3_isStrong 44 = .ok (.goto (-42), 3) := dk_167 255 214 (dk_at dksX3_isStrong_1 20 rfl rfl)
theorem dX3_isStrong_47 : decode cX3_isStrong 47 = .ok (.iconst 1, 1) := dk_4 (dk_at dksX3_isStrong_1 23 rfl rfl)
theorem dX3_isStrong_48 : decode cX3_isStrong 48 = .ok (.ireturn, 1) := dk_172 (dk_at dksX3_isStrong_2 0 rfl rfl)
abbrev cX3_ofKind : ByteArray := prog_18_method_33_code
def yX3_ofKind : MethodName := ⟨RX3, "ofKind", "(I)I"⟩
def dkwX3_ofKind_1 : List UInt8 := [167, 0, 4, 3, 96, 61, 132, 3, 1, 167, 255, 228, 28, 172]
abbrev dktX3_ofKind_1 : List UInt8 := dkwX3_ofKind_1 ++ []
def dkwX3_ofKind_0 : List UInt8 := [3, 61, 3, 62, 29, 42, 180, 0, 139, 162, 0, 26, 28, 42, 29, 182, 0, 163, 27, 160, 0, 7, 4]
abbrev dktX3_ofKind_0 : List UInt8 := dkwX3_ofKind_0 ++ dktX3_ofKind_1
theorem dksX3_ofKind_0 : cX3_ofKind.data.toList.drop 0 = dktX3_ofKind_0 := by decide +kernel
theorem dksX3_ofKind_1 : cX3_ofKind.data.toList.drop 23 = dktX3_ofKind_1 := dk_seg dksX3_ofKind_0 23 rfl rfl
theorem dX3_ofKind_0 : decode cX3_ofKind 0 = .ok (.iconst 0, 1) := dk_3 (dk_at dksX3_ofKind_0 0 rfl rfl)
theorem dX3_ofKind_1 : decode cX3_ofKind 1 = .ok (.istore_n 2, 1) := dk_61 (dk_at dksX3_ofKind_0 1 rfl rfl)
theorem dX3_ofKind_2 : decode cX3_ofKind 2 = .ok (.iconst 0, 1) := dk_3 (dk_at dksX3_ofKind_0 2 rfl rfl)
theorem dX3_ofKind_3 : decode cX3_ofKind 3 = .ok (.istore_n 3, 1) := dk_62 (dk_at dksX3_ofKind_0 3 rfl rfl)
theorem dX3_ofKind_4 : decode cX3_ofKind 4 = .ok (.iload_n 3, 1) := dk_29 (dk_at dksX3_ofKind_0 4 rfl rfl)
theorem dX3_ofKind_5 : decode cX3_ofKind 5 = .ok (.aload_n 0, 1) := dk_42 (dk_at dksX3_ofKind_0 5 rfl rfl)
theorem dX3_ofKind_6 : decode cX3_ofKind 6 = .ok (.getfield 139, 3) := dk_180 0 139 (dk_at dksX3_ofKind_0 6 rfl rfl)
theorem dX3_ofKind_9 : decode cX3_ofKind 9 = .ok (.if_icmp .ge 26, 3) := dk_162 0 26 (dk_at dksX3_ofKind_0 9 rfl rfl)
theorem dX3_ofKind_12 : decode cX3_ofKind 12 = .ok (.iload_n 2, 1) := dk_28 (dk_at dksX3_ofKind_0 12 rfl rfl)
theorem dX3_ofKind_13 : decode cX3_ofKind 13 = .ok (.aload_n 0, 1) := dk_42 (dk_at dksX3_ofKind_0 13 rfl rfl)
theorem dX3_ofKind_14 : decode cX3_ofKind 14 = .ok (.iload_n 3, 1) := dk_29 (dk_at dksX3_ofKind_0 14 rfl rfl)
theorem dX3_ofKind_15 : decode cX3_ofKind 15 = .ok (.invokevirtual 163, 3) := dk_182 0 163 (dk_at dksX3_ofKind_0 15 rfl rfl)
theorem dX3_ofKind_18 : decode cX3_ofKind 18 = .ok (.iload_n 1, 1) := dk_27 (dk_at dksX3_ofKind_0 18 rfl rfl)
theorem dX3_ofKind_19 : decode cX3_ofKind 19 = .ok (.if_icmp .ne 7, 3) := dk_160 0 7 (dk_at dksX3_ofKind_0 19 rfl rfl)
theorem dX3_ofKind_22 : decode cX3_ofKind 22 = .ok (.iconst 1, 1) := dk_4 (dk_at dksX3_ofKind_0 22 rfl rfl)
theorem dX3_ofKind_23 : decode cX3_ofKind 23 = .ok (.goto 4, 3) := dk_167 0 4 (dk_at dksX3_ofKind_1 0 rfl rfl)
theorem dX3_ofKind_26 : decode cX3_ofKind 26 = .ok (.iconst 0, 1) := dk_3 (dk_at dksX3_ofKind_1 3 rfl rfl)
theorem dX3_ofKind_27 : decode cX3_ofKind 27 = .ok (.iadd, 1) := dk_96 (dk_at dksX3_ofKind_1 4 rfl rfl)
theorem dX3_ofKind_28 : decode cX3_ofKind 28 = .ok (.istore_n 2, 1) := dk_61 (dk_at dksX3_ofKind_1 5 rfl rfl)
theorem dX3_ofKind_29 : decode cX3_ofKind 29 = .ok (.iinc 3 1, 3) := dk_132 3 1 (dk_at dksX3_ofKind_1 6 rfl rfl)
theorem dX3_ofKind_32 : decode cX3_ofKind 32 = .ok (.goto (-28), 3) := dk_167 255 228 (dk_at dksX3_ofKind_1 9 rfl rfl)
theorem dX3_ofKind_35 : decode cX3_ofKind 35 = .ok (.iload_n 2, 1) := dk_28 (dk_at dksX3_ofKind_1 12 rfl rfl)
theorem dX3_ofKind_36 : decode cX3_ofKind 36 = .ok (.ireturn, 1) := dk_172 (dk_at dksX3_ofKind_1 13 rfl rfl)
abbrev cX3_kindOf : ByteArray := prog_18_method_32_code
def yX3_kindOf : MethodName := ⟨RX3, "kindOf", "(I)I"⟩
def dkwX3_kindOf_1 : List UInt8 := [4, 167, 0, 19, 29, 28, 28, 4, 100, 104, 5, 108, 160, 0, 7, 5, 167, 0, 4, 6, 172]
abbrev dktX3_kindOf_1 : List UInt8 := dkwX3_kindOf_1 ++ []
def dkwX3_kindOf_0 : List UInt8 := [42, 27, 182, 0, 157, 61, 42, 27, 182, 0, 160, 62, 28, 154, 0, 7, 3, 167, 0, 27, 29, 154, 0, 7]
abbrev dktX3_kindOf_0 : List UInt8 := dkwX3_kindOf_0 ++ dktX3_kindOf_1
theorem dksX3_kindOf_0 : cX3_kindOf.data.toList.drop 0 = dktX3_kindOf_0 := by decide +kernel
theorem dksX3_kindOf_1 : cX3_kindOf.data.toList.drop 24 = dktX3_kindOf_1 := dk_seg dksX3_kindOf_0 24 rfl rfl
theorem dX3_kindOf_0 : decode cX3_kindOf 0 = .ok (.aload_n 0, 1) := dk_42 (dk_at dksX3_kindOf_0 0 rfl rfl)
theorem dX3_kindOf_1 : decode cX3_kindOf 1 = .ok (.iload_n 1, 1) := dk_27 (dk_at dksX3_kindOf_0 1 rfl rfl)
theorem dX3_kindOf_2 : decode cX3_kindOf 2 = .ok (.invokevirtual 157, 3) := dk_182 0 157 (dk_at dksX3_kindOf_0 2 rfl rfl)
theorem dX3_kindOf_5 : decode cX3_kindOf 5 = .ok (.istore_n 2, 1) := dk_61 (dk_at dksX3_kindOf_0 5 rfl rfl)
theorem dX3_kindOf_6 : decode cX3_kindOf 6 = .ok (.aload_n 0, 1) := dk_42 (dk_at dksX3_kindOf_0 6 rfl rfl)
theorem dX3_kindOf_7 : decode cX3_kindOf 7 = .ok (.iload_n 1, 1) := dk_27 (dk_at dksX3_kindOf_0 7 rfl rfl)
theorem dX3_kindOf_8 : decode cX3_kindOf 8 = .ok (.invokevirtual 160, 3) := dk_182 0 160 (dk_at dksX3_kindOf_0 8 rfl rfl)
theorem dX3_kindOf_11 : decode cX3_kindOf 11 = .ok (.istore_n 3, 1) := dk_62 (dk_at dksX3_kindOf_0 11 rfl rfl)
theorem dX3_kindOf_12 : decode cX3_kindOf 12 = .ok (.iload_n 2, 1) := dk_28 (dk_at dksX3_kindOf_0 12 rfl rfl)
theorem dX3_kindOf_13 : decode cX3_kindOf 13 = .ok (.ifCond .ne 7, 3) := dk_154 0 7 (dk_at dksX3_kindOf_0 13 rfl rfl)
theorem dX3_kindOf_16 : decode cX3_kindOf 16 = .ok (.iconst 0, 1) := dk_3 (dk_at dksX3_kindOf_0 16 rfl rfl)
theorem dX3_kindOf_17 : decode cX3_kindOf 17 = .ok (.goto 27, 3) := dk_167 0 27 (dk_at dksX3_kindOf_0 17 rfl rfl)
theorem dX3_kindOf_20 : decode cX3_kindOf 20 = .ok (.iload_n 3, 1) := dk_29 (dk_at dksX3_kindOf_0 20 rfl rfl)
theorem dX3_kindOf_21 : decode cX3_kindOf 21 = .ok (.ifCond .ne 7, 3) := dk_154 0 7 (dk_at dksX3_kindOf_0 21 rfl rfl)
theorem dX3_kindOf_24 : decode cX3_kindOf 24 = .ok (.iconst 1, 1) := dk_4 (dk_at dksX3_kindOf_1 0 rfl rfl)
theorem dX3_kindOf_25 : decode cX3_kindOf 25 = .ok (.goto 19, 3) := dk_167 0 19 (dk_at dksX3_kindOf_1 1 rfl rfl)
theorem dX3_kindOf_28 : decode cX3_kindOf 28 = .ok (.iload_n 3, 1) := dk_29 (dk_at dksX3_kindOf_1 4 rfl rfl)
theorem dX3_kindOf_29 : decode cX3_kindOf 29 = .ok (.iload_n 2, 1) := dk_28 (dk_at dksX3_kindOf_1 5 rfl rfl)
theorem dX3_kindOf_30 : decode cX3_kindOf 30 = .ok (.iload_n 2, 1) := dk_28 (dk_at dksX3_kindOf_1 6 rfl rfl)
theorem dX3_kindOf_31 : decode cX3_kindOf 31 = .ok (.iconst 1, 1) := dk_4 (dk_at dksX3_kindOf_1 7 rfl rfl)
theorem dX3_kindOf_32 : decode cX3_kindOf 32 = .ok (.isub, 1) := dk_100 (dk_at dksX3_kindOf_1 8 rfl rfl)
theorem dX3_kindOf_33 : decode cX3_kindOf 33 = .ok (.imul, 1) := dk_104 (dk_at dksX3_kindOf_1 9 rfl rfl)
theorem dX3_kindOf_34 : decode cX3_kindOf 34 = .ok (.iconst 2, 1) := dk_5 (dk_at dksX3_kindOf_1 10 rfl rfl)
theorem dX3_kindOf_35 : decode cX3_kindOf 35 = .ok (.idiv, 1) := dk_108 (dk_at dksX3_kindOf_1 11 rfl rfl)
theorem dX3_kindOf_36 : decode cX3_kindOf 36 = .ok (.if_icmp .ne 7, 3) := dk_160 0 7 (dk_at dksX3_kindOf_1 12 rfl rfl)
theorem dX3_kindOf_39 : decode cX3_kindOf 39 = .ok (.iconst 2, 1) := dk_5 (dk_at dksX3_kindOf_1 15 rfl rfl)
theorem dX3_kindOf_40 : decode cX3_kindOf 40 = .ok (.goto 4, 3) := dk_167 0 4 (dk_at dksX3_kindOf_1 16 rfl rfl)
theorem dX3_kindOf_43 : decode cX3_kindOf 43 = .ok (.iconst 3, 1) := dk_6 (dk_at dksX3_kindOf_1 19 rfl rfl)
theorem dX3_kindOf_44 : decode cX3_kindOf 44 = .ok (.ireturn, 1) := dk_172 (dk_at dksX3_kindOf_1 20 rfl rfl)
abbrev cX3_children : ByteArray := prog_18_method_28_code
def yX3_children : MethodName := ⟨RX3, "children", "(I)I"⟩
def dkwX3_children_1 : List UInt8 := [167, 0, 4, 3, 96, 61, 132, 3, 1, 167, 255, 227, 28, 172]
abbrev dktX3_children_1 : List UInt8 := dkwX3_children_1 ++ []
def dkwX3_children_0 : List UInt8 := [3, 61, 3, 62, 29, 42, 180, 0, 139, 162, 0, 27, 28, 42, 180, 0, 32, 29, 46, 27, 160, 0, 7, 4]
abbrev dktX3_children_0 : List UInt8 := dkwX3_children_0 ++ dktX3_children_1
theorem dksX3_children_0 : cX3_children.data.toList.drop 0 = dktX3_children_0 := by decide +kernel
theorem dksX3_children_1 : cX3_children.data.toList.drop 24 = dktX3_children_1 := dk_seg dksX3_children_0 24 rfl rfl
theorem dX3_children_0 : decode cX3_children 0 = .ok (.iconst 0, 1) := dk_3 (dk_at dksX3_children_0 0 rfl rfl)
theorem dX3_children_1 : decode cX3_children 1 = .ok (.istore_n 2, 1) := dk_61 (dk_at dksX3_children_0 1 rfl rfl)
theorem dX3_children_2 : decode cX3_children 2 = .ok (.iconst 0, 1) := dk_3 (dk_at dksX3_children_0 2 rfl rfl)
theorem dX3_children_3 : decode cX3_children 3 = .ok (.istore_n 3, 1) := dk_62 (dk_at dksX3_children_0 3 rfl rfl)
theorem dX3_children_4 : decode cX3_children 4 = .ok (.iload_n 3, 1) := dk_29 (dk_at dksX3_children_0 4 rfl rfl)
theorem dX3_children_5 : decode cX3_children 5 = .ok (.aload_n 0, 1) := dk_42 (dk_at dksX3_children_0 5 rfl rfl)
theorem dX3_children_6 : decode cX3_children 6 = .ok (.getfield 139, 3) := dk_180 0 139 (dk_at dksX3_children_0 6 rfl rfl)
theorem dX3_children_9 : decode cX3_children 9 = .ok (.if_icmp .ge 27, 3) := dk_162 0 27 (dk_at dksX3_children_0 9 rfl rfl)
theorem dX3_children_12 : decode cX3_children 12 = .ok (.iload_n 2, 1) := dk_28 (dk_at dksX3_children_0 12 rfl rfl)
theorem dX3_children_13 : decode cX3_children 13 = .ok (.aload_n 0, 1) := dk_42 (dk_at dksX3_children_0 13 rfl rfl)
theorem dX3_children_14 : decode cX3_children 14 = .ok (.getfield 32, 3) := dk_180 0 32 (dk_at dksX3_children_0 14 rfl rfl)
theorem dX3_children_17 : decode cX3_children 17 = .ok (.iload_n 3, 1) := dk_29 (dk_at dksX3_children_0 17 rfl rfl)
theorem dX3_children_18 : decode cX3_children 18 = .ok (.iaload, 1) := dk_46 (dk_at dksX3_children_0 18 rfl rfl)
theorem dX3_children_19 : decode cX3_children 19 = .ok (.iload_n 1, 1) := dk_27 (dk_at dksX3_children_0 19 rfl rfl)
theorem dX3_children_20 : decode cX3_children 20 = .ok (.if_icmp .ne 7, 3) := dk_160 0 7 (dk_at dksX3_children_0 20 rfl rfl)
theorem dX3_children_23 : decode cX3_children 23 = .ok (.iconst 1, 1) := dk_4 (dk_at dksX3_children_0 23 rfl rfl)
theorem dX3_children_24 : decode cX3_children 24 = .ok (.goto 4, 3) := dk_167 0 4 (dk_at dksX3_children_1 0 rfl rfl)
theorem dX3_children_27 : decode cX3_children 27 = .ok (.iconst 0, 1) := dk_3 (dk_at dksX3_children_1 3 rfl rfl)
theorem dX3_children_28 : decode cX3_children 28 = .ok (.iadd, 1) := dk_96 (dk_at dksX3_children_1 4 rfl rfl)
theorem dX3_children_29 : decode cX3_children 29 = .ok (.istore_n 2, 1) := dk_61 (dk_at dksX3_children_1 5 rfl rfl)
theorem dX3_children_30 : decode cX3_children 30 = .ok (.iinc 3 1, 3) := dk_132 3 1 (dk_at dksX3_children_1 6 rfl rfl)
theorem dX3_children_33 : decode cX3_children 33 = .ok (.goto (-29), 3) := dk_167 255 227 (dk_at dksX3_children_1 9 rfl rfl)
theorem dX3_children_36 : decode cX3_children 36 = .ok (.iload_n 2, 1) := dk_28 (dk_at dksX3_children_1 12 rfl rfl)
theorem dX3_children_37 : decode cX3_children 37 = .ok (.ireturn, 1) := dk_172 (dk_at dksX3_children_1 13 rfl rfl)
abbrev cX3_linksWithin : ByteArray := prog_18_method_31_code
def yX3_linksWithin : MethodName := ⟨RX3, "linksWithin", "(I)I"⟩
def dkwX3_linksWithin_3 : List UInt8 := [167, 255, 191, 28, 172]
abbrev dktX3_linksWithin_3 : List UInt8 := dkwX3_linksWithin_3 ++ []
def dkwX3_linksWithin_2 : List UInt8 := [182, 0, 154, 153, 0, 7, 4, 167, 0, 4, 3, 96, 61, 132, 4, 1, 167, 255, 208, 132, 3, 1]
abbrev dktX3_linksWithin_2 : List UInt8 := dkwX3_linksWithin_2 ++ dktX3_linksWithin_3
def dkwX3_linksWithin_1 : List UInt8 := [180, 0, 32, 29, 46, 27, 160, 0, 28, 42, 180, 0, 32, 21, 4, 46, 27, 160, 0, 17, 42, 29, 21, 4]
abbrev dktX3_linksWithin_1 : List UInt8 := dkwX3_linksWithin_1 ++ dktX3_linksWithin_2
def dkwX3_linksWithin_0 : List UInt8 := [3, 61, 3, 62, 29, 42, 180, 0, 139, 162, 0, 63, 3, 54, 4, 21, 4, 29, 162, 0, 48, 28, 42]
abbrev dktX3_linksWithin_0 : List UInt8 := dkwX3_linksWithin_0 ++ dktX3_linksWithin_1
theorem dksX3_linksWithin_0 : cX3_linksWithin.data.toList.drop 0 = dktX3_linksWithin_0 := by decide +kernel
theorem dksX3_linksWithin_1 : cX3_linksWithin.data.toList.drop 23 = dktX3_linksWithin_1 := dk_seg dksX3_linksWithin_0 23 rfl rfl
theorem dksX3_linksWithin_2 : cX3_linksWithin.data.toList.drop 47 = dktX3_linksWithin_2 := dk_seg dksX3_linksWithin_1 24 rfl rfl
theorem dksX3_linksWithin_3 : cX3_linksWithin.data.toList.drop 69 = dktX3_linksWithin_3 := dk_seg dksX3_linksWithin_2 22 rfl rfl
theorem dX3_linksWithin_0 : decode cX3_linksWithin 0 = .ok (.iconst 0, 1) := dk_3 (dk_at dksX3_linksWithin_0 0 rfl rfl)
theorem dX3_linksWithin_1 : decode cX3_linksWithin 1 = .ok (.istore_n 2, 1) := dk_61 (dk_at dksX3_linksWithin_0 1 rfl rfl)
theorem dX3_linksWithin_2 : decode cX3_linksWithin 2 = .ok (.iconst 0, 1) := dk_3 (dk_at dksX3_linksWithin_0 2 rfl rfl)
theorem dX3_linksWithin_3 : decode cX3_linksWithin 3 = .ok (.istore_n 3, 1) := dk_62 (dk_at dksX3_linksWithin_0 3 rfl rfl)
theorem dX3_linksWithin_4 : decode cX3_linksWithin 4 = .ok (.iload_n 3, 1) := dk_29 (dk_at dksX3_linksWithin_0 4 rfl rfl)
theorem dX3_linksWithin_5 : decode cX3_linksWithin 5 = .ok (.aload_n 0, 1) := dk_42 (dk_at dksX3_linksWithin_0 5 rfl rfl)
theorem dX3_linksWithin_6 : decode cX3_linksWithin 6 = .ok (.getfield 139, 3) := dk_180 0 139 (dk_at dksX3_linksWithin_0 6 rfl rfl)
theorem dX3_linksWithin_9 : decode cX3_linksWithin 9 = .ok (.if_icmp .ge 63, 3) := dk_162 0 63 (dk_at dksX3_linksWithin_0 9 rfl rfl)
theorem dX3_linksWithin_12 : decode cX3_linksWithin 12 = .ok (.iconst 0, 1) := dk_3 (dk_at dksX3_linksWithin_0 12 rfl rfl)
theorem dX3_linksWithin_13 : decode cX3_linksWithin 13 = .ok (.istore 4, 2) := dk_54 4 (dk_at dksX3_linksWithin_0 13 rfl rfl)
theorem dX3_linksWithin_15 : decode cX3_linksWithin 15 = .ok (.iload 4, 2) := dk_21 4 (dk_at dksX3_linksWithin_0 15 rfl rfl)
theorem dX3_linksWithin_17 : decode cX3_linksWithin 17 = .ok (.iload_n 3, 1) := dk_29 (dk_at dksX3_linksWithin_0 17 rfl rfl)
theorem dX3_linksWithin_18 : decode cX3_linksWithin 18 = .ok (.if_icmp .ge 48, 3) := dk_162 0 48 (dk_at dksX3_linksWithin_0 18 rfl rfl)
theorem dX3_linksWithin_21 : decode cX3_linksWithin 21 = .ok (.iload_n 2, 1) := dk_28 (dk_at dksX3_linksWithin_0 21 rfl rfl)
theorem dX3_linksWithin_22 : decode cX3_linksWithin 22 = .ok (.aload_n 0, 1) := dk_42 (dk_at dksX3_linksWithin_0 22 rfl rfl)
theorem dX3_linksWithin_23 : decode cX3_linksWithin 23 = .ok (.getfield 32, 3) := dk_180 0 32 (dk_at dksX3_linksWithin_1 0 rfl rfl)
theorem dX3_linksWithin_26 : decode cX3_linksWithin 26 = .ok (.iload_n 3, 1) := dk_29 (dk_at dksX3_linksWithin_1 3 rfl rfl)
theorem dX3_linksWithin_27 : decode cX3_linksWithin 27 = .ok (.iaload, 1) := dk_46 (dk_at dksX3_linksWithin_1 4 rfl rfl)
theorem dX3_linksWithin_28 : decode cX3_linksWithin 28 = .ok (.iload_n 1, 1) := dk_27 (dk_at dksX3_linksWithin_1 5 rfl rfl)
theorem dX3_linksWithin_29 : decode cX3_linksWithin 29 = .ok (.if_icmp .ne 28, 3) := dk_160 0 28 (dk_at dksX3_linksWithin_1 6 rfl rfl)
theorem dX3_linksWithin_32 : decode cX3_linksWithin 32 = .ok (.aload_n 0, 1) := dk_42 (dk_at dksX3_linksWithin_1 9 rfl rfl)
theorem dX3_linksWithin_33 : decode cX3_linksWithin 33 = .ok (.getfield 32, 3) := dk_180 0 32 (dk_at dksX3_linksWithin_1 10 rfl rfl)
theorem dX3_linksWithin_36 : decode cX3_linksWithin 36 = .ok (.iload 4, 2) := dk_21 4 (dk_at dksX3_linksWithin_1 13 rfl rfl)
theorem dX3_linksWithin_38 : decode cX3_linksWithin 38 = .ok (.iaload, 1) := dk_46 (dk_at dksX3_linksWithin_1 15 rfl rfl)
theorem dX3_linksWithin_39 : decode cX3_linksWithin 39 = .ok (.iload_n 1, 1) := dk_27 (dk_at dksX3_linksWithin_1 16 rfl rfl)
theorem dX3_linksWithin_40 : decode cX3_linksWithin 40 = .ok (.if_icmp .ne 17, 3) := dk_160 0 17 (dk_at dksX3_linksWithin_1 17 rfl rfl)
theorem dX3_linksWithin_43 : decode cX3_linksWithin 43 = .ok (.aload_n 0, 1) := dk_42 (dk_at dksX3_linksWithin_1 20 rfl rfl)
theorem dX3_linksWithin_44 : decode cX3_linksWithin 44 = .ok (.iload_n 3, 1) := dk_29 (dk_at dksX3_linksWithin_1 21 rfl rfl)
theorem dX3_linksWithin_45 : decode cX3_linksWithin 45 = .ok (.iload 4, 2) := dk_21 4 (dk_at dksX3_linksWithin_1 22 rfl rfl)
theorem dX3_linksWithin_47 : decode cX3_linksWithin 47 = .ok (.invokevirtual 154, 3) := dk_182 0 154 (dk_at dksX3_linksWithin_2 0 rfl rfl)
theorem dX3_linksWithin_50 : decode cX3_linksWithin 50 = .ok (.ifCond .eq 7, 3) := dk_153 0 7 (dk_at dksX3_linksWithin_2 3 rfl rfl)
theorem dX3_linksWithin_53 : decode cX3_linksWithin 53 = .ok (.iconst 1, 1) := dk_4 (dk_at dksX3_linksWithin_2 6 rfl rfl)
theorem dX3_linksWithin_54 : decode cX3_linksWithin 54 = .ok (.goto 4, 3) := dk_167 0 4 (dk_at dksX3_linksWithin_2 7 rfl rfl)
theorem dX3_linksWithin_57 : decode cX3_linksWithin 57 = .ok (.iconst 0, 1) := dk_3 (dk_at dksX3_linksWithin_2 10 rfl rfl)
theorem dX3_linksWithin_58 : decode cX3_linksWithin 58 = .ok (.iadd, 1) := dk_96 (dk_at dksX3_linksWithin_2 11 rfl rfl)
theorem dX3_linksWithin_59 : decode cX3_linksWithin 59 = .ok (.istore_n 2, 1) := dk_61 (dk_at dksX3_linksWithin_2 12 rfl rfl)
theorem dX3_linksWithin_60 : decode cX3_linksWithin 60 = .ok (.iinc 4 1, 3) := dk_132 4 1 (dk_at dksX3_linksWithin_2 13 rfl rfl)
theorem dX3_linksWithin_63 : decode cX3_linksWithin 63 = .ok (.goto (-48), 3) := dk_167 255 208 (dk_at dksX3_linksWithin_2 16 rfl rfl)
theorem dX3_linksWithin_66 : decode cX3_linksWithin 66 = .ok (.iinc 3 1, 3) := dk_132 3 1 (dk_at dksX3_linksWithin_2 19 rfl rfl)
theorem dX3_linksWithin_69 : decode cX3_linksWithin 69 = .ok (.goto (-65), 3) := dk_167 255 191 (dk_at dksX3_linksWithin_3 0 rfl rfl)
theorem dX3_linksWithin_72 : decode cX3_linksWithin 72 = .ok (.iload_n 2, 1) := dk_28 (dk_at dksX3_linksWithin_3 3 rfl rfl)
theorem dX3_linksWithin_73 : decode cX3_linksWithin 73 = .ok (.ireturn, 1) := dk_172 (dk_at dksX3_linksWithin_3 4 rfl rfl)
abbrev cX3_areLinkedModules : ByteArray := prog_18_method_30_code
def yX3_areLinkedModules : MethodName := ⟨RX3, "areLinkedModules", "(II)Z"⟩
def dkwX3_areLinkedModules_0 : List UInt8 := [42, 42, 180, 0, 29, 27, 46, 184, 0, 151, 42, 180, 0, 29, 28, 46, 184, 0, 151, 182, 0, 126, 172]
abbrev dktX3_areLinkedModules_0 : List UInt8 := dkwX3_areLinkedModules_0 ++ []
theorem dksX3_areLinkedModules_0 : cX3_areLinkedModules.data.toList.drop 0 = dktX3_areLinkedModules_0 := by decide +kernel
theorem dX3_areLinkedModules_0 : decode cX3_areLinkedModules 0 = .ok (.aload_n 0, 1) := dk_42 (dk_at dksX3_areLinkedModules_0 0 rfl rfl)
theorem dX3_areLinkedModules_1 : decode cX3_areLinkedModules 1 = .ok (.aload_n 0, 1) := dk_42 (dk_at dksX3_areLinkedModules_0 1 rfl rfl)
theorem dX3_areLinkedModules_2 : decode cX3_areLinkedModules 2 = .ok (.getfield 29, 3) := dk_180 0 29 (dk_at dksX3_areLinkedModules_0 2 rfl rfl)
theorem dX3_areLinkedModules_5 : decode cX3_areLinkedModules 5 = .ok (.iload_n 1, 1) := dk_27 (dk_at dksX3_areLinkedModules_0 5 rfl rfl)
theorem dX3_areLinkedModules_6 : decode cX3_areLinkedModules 6 = .ok (.iaload, 1) := dk_46 (dk_at dksX3_areLinkedModules_0 6 rfl rfl)
theorem dX3_areLinkedModules_7 : decode cX3_areLinkedModules 7 = .ok (.invokestatic 151, 3) := dk_184 0 151 (dk_at dksX3_areLinkedModules_0 7 rfl rfl)
theorem dX3_areLinkedModules_10 : decode cX3_areLinkedModules 10 = .ok (.aload_n 0, 1) := dk_42 (dk_at dksX3_areLinkedModules_0 10 rfl rfl)
theorem dX3_areLinkedModules_11 : decode cX3_areLinkedModules 11 = .ok (.getfield 29, 3) := dk_180 0 29 (dk_at dksX3_areLinkedModules_0 11 rfl rfl)
theorem dX3_areLinkedModules_14 : decode cX3_areLinkedModules 14 = .ok (.iload_n 2, 1) := dk_28 (dk_at dksX3_areLinkedModules_0 14 rfl rfl)
theorem dX3_areLinkedModules_15 : decode cX3_areLinkedModules 15 = .ok (.iaload, 1) := dk_46 (dk_at dksX3_areLinkedModules_0 15 rfl rfl)
theorem dX3_areLinkedModules_16 : decode cX3_areLinkedModules 16 = .ok (.invokestatic 151, 3) := dk_184 0 151 (dk_at dksX3_areLinkedModules_0 16 rfl rfl)
theorem dX3_areLinkedModules_19 : decode cX3_areLinkedModules 19 = .ok (.invokevirtual 126, 3) := dk_182 0 126 (dk_at dksX3_areLinkedModules_0 19 rfl rfl)
theorem dX3_areLinkedModules_22 : decode cX3_areLinkedModules 22 = .ok (.ireturn, 1) := dk_172 (dk_at dksX3_areLinkedModules_0 22 rfl rfl)
abbrev cX3_lowest : ByteArray := prog_18_method_9_code
def yX3_lowest : MethodName := ⟨RX3, "lowest", "(I)I"⟩
def dkwX3_lowest_0 : List UInt8 := [3, 60, 26, 27, 184, 0, 91, 154, 0, 9, 132, 1, 1, 167, 255, 245, 27, 172]
abbrev dktX3_lowest_0 : List UInt8 := dkwX3_lowest_0 ++ []
theorem dksX3_lowest_0 : cX3_lowest.data.toList.drop 0 = dktX3_lowest_0 := by decide +kernel
theorem dX3_lowest_0 : decode cX3_lowest 0 = .ok (.iconst 0, 1) := dk_3 (dk_at dksX3_lowest_0 0 rfl rfl)
theorem dX3_lowest_1 : decode cX3_lowest 1 = .ok (.istore_n 1, 1) := dk_60 (dk_at dksX3_lowest_0 1 rfl rfl)
theorem dX3_lowest_2 : decode cX3_lowest 2 = .ok (.iload_n 0, 1) := dk_26 (dk_at dksX3_lowest_0 2 rfl rfl)
theorem dX3_lowest_3 : decode cX3_lowest 3 = .ok (.iload_n 1, 1) := dk_27 (dk_at dksX3_lowest_0 3 rfl rfl)
theorem dX3_lowest_4 : decode cX3_lowest 4 = .ok (.invokestatic 91, 3) := dk_184 0 91 (dk_at dksX3_lowest_0 4 rfl rfl)
theorem dX3_lowest_7 : decode cX3_lowest 7 = .ok (.ifCond .ne 9, 3) := dk_154 0 9 (dk_at dksX3_lowest_0 7 rfl rfl)
theorem dX3_lowest_10 : decode cX3_lowest 10 = .ok (.iinc 1 1, 3) := dk_132 1 1 (dk_at dksX3_lowest_0 10 rfl rfl)
theorem dX3_lowest_13 : decode cX3_lowest 13 = .ok (.goto (-11), 3) := dk_167 255 245 (dk_at dksX3_lowest_0 13 rfl rfl)
theorem dX3_lowest_16 : decode cX3_lowest 16 = .ok (.iload_n 1, 1) := dk_27 (dk_at dksX3_lowest_0 16 rfl rfl)
theorem dX3_lowest_17 : decode cX3_lowest 17 = .ok (.ireturn, 1) := dk_172 (dk_at dksX3_lowest_0 17 rfl rfl)
abbrev cX3_deepest : ByteArray := prog_18_method_34_code
def yX3_deepest : MethodName := ⟨RX3, "deepest", "()I"⟩
def dkwX3_deepest_1 : List UInt8 := [182, 0, 166, 167, 0, 4, 27, 60, 132, 2, 1, 167, 255, 226, 27, 172]
abbrev dktX3_deepest_1 : List UInt8 := dkwX3_deepest_1 ++ []
def dkwX3_deepest_0 : List UInt8 := [3, 60, 3, 61, 28, 42, 180, 0, 139, 162, 0, 28, 42, 28, 182, 0, 166, 27, 164, 0, 11, 42, 28]
abbrev dktX3_deepest_0 : List UInt8 := dkwX3_deepest_0 ++ dktX3_deepest_1
theorem dksX3_deepest_0 : cX3_deepest.data.toList.drop 0 = dktX3_deepest_0 := by decide +kernel
theorem dksX3_deepest_1 : cX3_deepest.data.toList.drop 23 = dktX3_deepest_1 := dk_seg dksX3_deepest_0 23 rfl rfl
theorem dX3_deepest_0 : decode cX3_deepest 0 = .ok (.iconst 0, 1) := dk_3 (dk_at dksX3_deepest_0 0 rfl rfl)
theorem dX3_deepest_1 : decode cX3_deepest 1 = .ok (.istore_n 1, 1) := dk_60 (dk_at dksX3_deepest_0 1 rfl rfl)
theorem dX3_deepest_2 : decode cX3_deepest 2 = .ok (.iconst 0, 1) := dk_3 (dk_at dksX3_deepest_0 2 rfl rfl)
theorem dX3_deepest_3 : decode cX3_deepest 3 = .ok (.istore_n 2, 1) := dk_61 (dk_at dksX3_deepest_0 3 rfl rfl)
theorem dX3_deepest_4 : decode cX3_deepest 4 = .ok (.iload_n 2, 1) := dk_28 (dk_at dksX3_deepest_0 4 rfl rfl)
theorem dX3_deepest_5 : decode cX3_deepest 5 = .ok (.aload_n 0, 1) := dk_42 (dk_at dksX3_deepest_0 5 rfl rfl)
theorem dX3_deepest_6 : decode cX3_deepest 6 = .ok (.getfield 139, 3) := dk_180 0 139 (dk_at dksX3_deepest_0 6 rfl rfl)
theorem dX3_deepest_9 : decode cX3_deepest 9 = .ok (.if_icmp .ge 28, 3) := dk_162 0 28 (dk_at dksX3_deepest_0 9 rfl rfl)
theorem dX3_deepest_12 : decode cX3_deepest 12 = .ok (.aload_n 0, 1) := dk_42 (dk_at dksX3_deepest_0 12 rfl rfl)
theorem dX3_deepest_13 : decode cX3_deepest 13 = .ok (.iload_n 2, 1) := dk_28 (dk_at dksX3_deepest_0 13 rfl rfl)
theorem dX3_deepest_14 : decode cX3_deepest 14 = .ok (.invokevirtual 166, 3) := dk_182 0 166 (dk_at dksX3_deepest_0 14 rfl rfl)
theorem dX3_deepest_17 : decode cX3_deepest 17 = .ok (.iload_n 1, 1) := dk_27 (dk_at dksX3_deepest_0 17 rfl rfl)
theorem dX3_deepest_18 : decode cX3_deepest 18 = .ok (.if_icmp .le 11, 3) := dk_164 0 11 (dk_at dksX3_deepest_0 18 rfl rfl)
theorem dX3_deepest_21 : decode cX3_deepest 21 = .ok (.aload_n 0, 1) := dk_42 (dk_at dksX3_deepest_0 21 rfl rfl)
theorem dX3_deepest_22 : decode cX3_deepest 22 = .ok (.iload_n 2, 1) := dk_28 (dk_at dksX3_deepest_0 22 rfl rfl)
theorem dX3_deepest_23 : decode cX3_deepest 23 = .ok (.invokevirtual 166, 3) := dk_182 0 166 (dk_at dksX3_deepest_1 0 rfl rfl)
theorem dX3_deepest_26 : decode cX3_deepest 26 = .ok (.goto 4, 3) := dk_167 0 4 (dk_at dksX3_deepest_1 3 rfl rfl)
theorem dX3_deepest_29 : decode cX3_deepest 29 = .ok (.iload_n 1, 1) := dk_27 (dk_at dksX3_deepest_1 6 rfl rfl)
theorem dX3_deepest_30 : decode cX3_deepest 30 = .ok (.istore_n 1, 1) := dk_60 (dk_at dksX3_deepest_1 7 rfl rfl)
theorem dX3_deepest_31 : decode cX3_deepest 31 = .ok (.iinc 2 1, 3) := dk_132 2 1 (dk_at dksX3_deepest_1 8 rfl rfl)
theorem dX3_deepest_34 : decode cX3_deepest 34 = .ok (.goto (-30), 3) := dk_167 255 226 (dk_at dksX3_deepest_1 11 rfl rfl)
theorem dX3_deepest_37 : decode cX3_deepest 37 = .ok (.iload_n 1, 1) := dk_27 (dk_at dksX3_deepest_1 14 rfl rfl)
theorem dX3_deepest_38 : decode cX3_deepest 38 = .ok (.ireturn, 1) := dk_172 (dk_at dksX3_deepest_1 15 rfl rfl)
abbrev cX3_depthOf : ByteArray := prog_18_method_27_code
def yX3_depthOf : MethodName := ⟨RX3, "depthOf", "(I)I"⟩
def dkwX3_depthOf_1 : List UInt8 := [132, 2, 1, 167, 255, 235, 28, 172]
abbrev dktX3_depthOf_1 : List UInt8 := dkwX3_depthOf_1 ++ []
def dkwX3_depthOf_0 : List UInt8 := [3, 61, 27, 62, 42, 180, 0, 32, 29, 46, 16, 252, 159, 0, 16, 42, 180, 0, 32, 29, 46, 62]
abbrev dktX3_depthOf_0 : List UInt8 := dkwX3_depthOf_0 ++ dktX3_depthOf_1
theorem dksX3_depthOf_0 : cX3_depthOf.data.toList.drop 0 = dktX3_depthOf_0 := by decide +kernel
theorem dksX3_depthOf_1 : cX3_depthOf.data.toList.drop 22 = dktX3_depthOf_1 := dk_seg dksX3_depthOf_0 22 rfl rfl
theorem dX3_depthOf_0 : decode cX3_depthOf 0 = .ok (.iconst 0, 1) := dk_3 (dk_at dksX3_depthOf_0 0 rfl rfl)
theorem dX3_depthOf_1 : decode cX3_depthOf 1 = .ok (.istore_n 2, 1) := dk_61 (dk_at dksX3_depthOf_0 1 rfl rfl)
theorem dX3_depthOf_2 : decode cX3_depthOf 2 = .ok (.iload_n 1, 1) := dk_27 (dk_at dksX3_depthOf_0 2 rfl rfl)
theorem dX3_depthOf_3 : decode cX3_depthOf 3 = .ok (.istore_n 3, 1) := dk_62 (dk_at dksX3_depthOf_0 3 rfl rfl)
theorem dX3_depthOf_4 : decode cX3_depthOf 4 = .ok (.aload_n 0, 1) := dk_42 (dk_at dksX3_depthOf_0 4 rfl rfl)
theorem dX3_depthOf_5 : decode cX3_depthOf 5 = .ok (.getfield 32, 3) := dk_180 0 32 (dk_at dksX3_depthOf_0 5 rfl rfl)
theorem dX3_depthOf_8 : decode cX3_depthOf 8 = .ok (.iload_n 3, 1) := dk_29 (dk_at dksX3_depthOf_0 8 rfl rfl)
theorem dX3_depthOf_9 : decode cX3_depthOf 9 = .ok (.iaload, 1) := dk_46 (dk_at dksX3_depthOf_0 9 rfl rfl)
theorem dX3_depthOf_10 : decode cX3_depthOf 10 = .ok (.bipush (-4), 2) := dk_16 252 (dk_at dksX3_depthOf_0 10 rfl rfl)
theorem dX3_depthOf_12 : decode cX3_depthOf 12 = .ok (.if_icmp .eq 16, 3) := dk_159 0 16 (dk_at dksX3_depthOf_0 12 rfl rfl)
theorem dX3_depthOf_15 : decode cX3_depthOf 15 = .ok (.aload_n 0, 1) := dk_42 (dk_at dksX3_depthOf_0 15 rfl rfl)
theorem dX3_depthOf_16 : decode cX3_depthOf 16 = .ok (.getfield 32, 3) := dk_180 0 32 (dk_at dksX3_depthOf_0 16 rfl rfl)
theorem dX3_depthOf_19 : decode cX3_depthOf 19 = .ok (.iload_n 3, 1) := dk_29 (dk_at dksX3_depthOf_0 19 rfl rfl)
theorem dX3_depthOf_20 : decode cX3_depthOf 20 = .ok (.iaload, 1) := dk_46 (dk_at dksX3_depthOf_0 20 rfl rfl)
theorem dX3_depthOf_21 : decode cX3_depthOf 21 = .ok (.istore_n 3, 1) := dk_62 (dk_at dksX3_depthOf_0 21 rfl rfl)
theorem dX3_depthOf_22 : decode cX3_depthOf 22 = .ok (.iinc 2 1, 3) := dk_132 2 1 (dk_at dksX3_depthOf_1 0 rfl rfl)
theorem dX3_depthOf_25 : decode cX3_depthOf 25 = .ok (.goto (-21), 3) := dk_167 255 235 (dk_at dksX3_depthOf_1 3 rfl rfl)
theorem dX3_depthOf_28 : decode cX3_depthOf 28 = .ok (.iload_n 2, 1) := dk_28 (dk_at dksX3_depthOf_1 6 rfl rfl)
theorem dX3_depthOf_29 : decode cX3_depthOf 29 = .ok (.ireturn, 1) := dk_172 (dk_at dksX3_depthOf_1 7 rfl rfl)
abbrev cX3_classes : ByteArray := prog_18_method_63_code
def yX3_classes : MethodName := ⟨RX3, "classes", "()I"⟩
def dkwX3_classes_4 : List UInt8 := [42, 180, 0, 41, 29, 46, 4, 84, 132, 3, 1, 167, 255, 233, 132, 2, 1, 167, 255, 176, 27, 172]
abbrev dktX3_classes_4 : List UInt8 := dkwX3_classes_4 ++ []
def dkwX3_classes_3 : List UInt8 := [16, 10, 108, 28, 16, 10, 112, 182, 0, 222, 3, 62, 29, 42, 180, 0, 213, 162, 0, 21, 42, 180, 0, 44]
abbrev dktX3_classes_3 : List UInt8 := dkwX3_classes_3 ++ dktX3_classes_4
def dkwX3_classes_2 : List UInt8 := [16, 10, 112, 184, 0, 91, 153, 0, 55, 42, 180, 0, 44, 28, 51, 154, 0, 46, 132, 1, 1, 42, 28]
abbrev dktX3_classes_2 : List UInt8 := dkwX3_classes_2 ++ dktX3_classes_3
def dkwX3_classes_1 : List UInt8 := [167, 255, 240, 3, 60, 3, 61, 28, 16, 100, 162, 0, 80, 42, 180, 0, 35, 28, 16, 10, 108, 46, 28]
abbrev dktX3_classes_1 : List UInt8 := dkwX3_classes_1 ++ dktX3_classes_2
def dkwX3_classes_0 : List UInt8 := [42, 182, 0, 219, 3, 60, 27, 16, 100, 162, 0, 16, 42, 180, 0, 44, 27, 3, 84, 132, 1, 1]
abbrev dktX3_classes_0 : List UInt8 := dkwX3_classes_0 ++ dktX3_classes_1
theorem dksX3_classes_0 : cX3_classes.data.toList.drop 0 = dktX3_classes_0 := by decide +kernel
theorem dksX3_classes_1 : cX3_classes.data.toList.drop 22 = dktX3_classes_1 := dk_seg dksX3_classes_0 22 rfl rfl
theorem dksX3_classes_2 : cX3_classes.data.toList.drop 45 = dktX3_classes_2 := dk_seg dksX3_classes_1 23 rfl rfl
theorem dksX3_classes_3 : cX3_classes.data.toList.drop 68 = dktX3_classes_3 := dk_seg dksX3_classes_2 23 rfl rfl
theorem dksX3_classes_4 : cX3_classes.data.toList.drop 92 = dktX3_classes_4 := dk_seg dksX3_classes_3 24 rfl rfl
theorem dX3_classes_0 : decode cX3_classes 0 = .ok (.aload_n 0, 1) := dk_42 (dk_at dksX3_classes_0 0 rfl rfl)
theorem dX3_classes_1 : decode cX3_classes 1 = .ok (.invokevirtual 219, 3) := dk_182 0 219 (dk_at dksX3_classes_0 1 rfl rfl)
theorem dX3_classes_4 : decode cX3_classes 4 = .ok (.iconst 0, 1) := dk_3 (dk_at dksX3_classes_0 4 rfl rfl)
theorem dX3_classes_5 : decode cX3_classes 5 = .ok (.istore_n 1, 1) := dk_60 (dk_at dksX3_classes_0 5 rfl rfl)
theorem dX3_classes_6 : decode cX3_classes 6 = .ok (.iload_n 1, 1) := dk_27 (dk_at dksX3_classes_0 6 rfl rfl)
theorem dX3_classes_7 : decode cX3_classes 7 = .ok (.bipush 100, 2) := dk_16 100 (dk_at dksX3_classes_0 7 rfl rfl)
theorem dX3_classes_9 : decode cX3_classes 9 = .ok (.if_icmp .ge 16, 3) := dk_162 0 16 (dk_at dksX3_classes_0 9 rfl rfl)
theorem dX3_classes_12 : decode cX3_classes 12 = .ok (.aload_n 0, 1) := dk_42 (dk_at dksX3_classes_0 12 rfl rfl)
theorem dX3_classes_13 : decode cX3_classes 13 = .ok (.getfield 44, 3) := dk_180 0 44 (dk_at dksX3_classes_0 13 rfl rfl)
theorem dX3_classes_16 : decode cX3_classes 16 = .ok (.iload_n 1, 1) := dk_27 (dk_at dksX3_classes_0 16 rfl rfl)
theorem dX3_classes_17 : decode cX3_classes 17 = .ok (.iconst 0, 1) := dk_3 (dk_at dksX3_classes_0 17 rfl rfl)
theorem dX3_classes_18 : decode cX3_classes 18 = .ok (.bastore, 1) := dk_84 (dk_at dksX3_classes_0 18 rfl rfl)
theorem dX3_classes_19 : decode cX3_classes 19 = .ok (.iinc 1 1, 3) := dk_132 1 1 (dk_at dksX3_classes_0 19 rfl rfl)
theorem dX3_classes_22 : decode cX3_classes 22 = .ok (.goto (-16), 3) := dk_167 255 240 (dk_at dksX3_classes_1 0 rfl rfl)
theorem dX3_classes_25 : decode cX3_classes 25 = .ok (.iconst 0, 1) := dk_3 (dk_at dksX3_classes_1 3 rfl rfl)
theorem dX3_classes_26 : decode cX3_classes 26 = .ok (.istore_n 1, 1) := dk_60 (dk_at dksX3_classes_1 4 rfl rfl)
theorem dX3_classes_27 : decode cX3_classes 27 = .ok (.iconst 0, 1) := dk_3 (dk_at dksX3_classes_1 5 rfl rfl)
theorem dX3_classes_28 : decode cX3_classes 28 = .ok (.istore_n 2, 1) := dk_61 (dk_at dksX3_classes_1 6 rfl rfl)
theorem dX3_classes_29 : decode cX3_classes 29 = .ok (.iload_n 2, 1) := dk_28 (dk_at dksX3_classes_1 7 rfl rfl)
theorem dX3_classes_30 : decode cX3_classes 30 = .ok (.bipush 100, 2) := dk_16 100 (dk_at dksX3_classes_1 8 rfl rfl)
theorem dX3_classes_32 : decode cX3_classes 32 = .ok (.if_icmp .ge 80, 3) := dk_162 0 80 (dk_at dksX3_classes_1 10 rfl rfl)
theorem dX3_classes_35 : decode cX3_classes 35 = .ok (.aload_n 0, 1) := dk_42 (dk_at dksX3_classes_1 13 rfl rfl)
theorem dX3_classes_36 : decode cX3_classes 36 = .ok (.getfield 35, 3) := dk_180 0 35 (dk_at dksX3_classes_1 14 rfl rfl)
theorem dX3_classes_39 : decode cX3_classes 39 = .ok (.iload_n 2, 1) := dk_28 (dk_at dksX3_classes_1 17 rfl rfl)
theorem dX3_classes_40 : decode cX3_classes 40 = .ok (.bipush 10, 2) := dk_16 10 (dk_at dksX3_classes_1 18 rfl rfl)
theorem dX3_classes_42 : decode cX3_classes 42 = .ok (.idiv, 1) := dk_108 (dk_at dksX3_classes_1 20 rfl rfl)
theorem dX3_classes_43 : decode cX3_classes 43 = .ok (.iaload, 1) := dk_46 (dk_at dksX3_classes_1 21 rfl rfl)
theorem dX3_classes_44 : decode cX3_classes 44 = .ok (.iload_n 2, 1) := dk_28 (dk_at dksX3_classes_1 22 rfl rfl)
theorem dX3_classes_45 : decode cX3_classes 45 = .ok (.bipush 10, 2) := dk_16 10 (dk_at dksX3_classes_2 0 rfl rfl)
theorem dX3_classes_47 : decode cX3_classes 47 = .ok (.irem, 1) := dk_112 (dk_at dksX3_classes_2 2 rfl rfl)
theorem dX3_classes_48 : decode cX3_classes 48 = .ok (.invokestatic 91, 3) := dk_184 0 91 (dk_at dksX3_classes_2 3 rfl rfl)
theorem dX3_classes_51 : decode cX3_classes 51 = .ok (.ifCond .eq 55, 3) := dk_153 0 55 (dk_at dksX3_classes_2 6 rfl rfl)
theorem dX3_classes_54 : decode cX3_classes 54 = .ok (.aload_n 0, 1) := dk_42 (dk_at dksX3_classes_2 9 rfl rfl)
theorem dX3_classes_55 : decode cX3_classes 55 = .ok (.getfield 44, 3) := dk_180 0 44 (dk_at dksX3_classes_2 10 rfl rfl)
theorem dX3_classes_58 : decode cX3_classes 58 = .ok (.iload_n 2, 1) := dk_28 (dk_at dksX3_classes_2 13 rfl rfl)
theorem dX3_classes_59 : decode cX3_classes 59 = .ok (.baload, 1) := dk_51 (dk_at dksX3_classes_2 14 rfl rfl)
theorem dX3_classes_60 : decode cX3_classes 60 = .ok (.ifCond .ne 46, 3) := dk_154 0 46 (dk_at dksX3_classes_2 15 rfl rfl)
theorem dX3_classes_63 : decode cX3_classes 63 = .ok (.iinc 1 1, 3) := dk_132 1 1 (dk_at dksX3_classes_2 18 rfl rfl)
theorem dX3_classes_66 : decode cX3_classes 66 = .ok (.aload_n 0, 1) := dk_42 (dk_at dksX3_classes_2 21 rfl rfl)
theorem dX3_classes_67 : decode cX3_classes 67 = .ok (.iload_n 2, 1) := dk_28 (dk_at dksX3_classes_2 22 rfl rfl)
theorem dX3_classes_68 : decode cX3_classes 68 = .ok (.bipush 10, 2) := dk_16 10 (dk_at dksX3_classes_3 0 rfl rfl)
theorem dX3_classes_70 : decode cX3_classes 70 = .ok (.idiv, 1) := dk_108 (dk_at dksX3_classes_3 2 rfl rfl)
theorem dX3_classes_71 : decode cX3_classes 71 = .ok (.iload_n 2, 1) := dk_28 (dk_at dksX3_classes_3 3 rfl rfl)
theorem dX3_classes_72 : decode cX3_classes 72 = .ok (.bipush 10, 2) := dk_16 10 (dk_at dksX3_classes_3 4 rfl rfl)
theorem dX3_classes_74 : decode cX3_classes 74 = .ok (.irem, 1) := dk_112 (dk_at dksX3_classes_3 6 rfl rfl)
theorem dX3_classes_75 : decode cX3_classes 75 = .ok (.invokevirtual 222, 3) := dk_182 0 222 (dk_at dksX3_classes_3 7 rfl rfl)
theorem dX3_classes_78 : decode cX3_classes 78 = .ok (.iconst 0, 1) := dk_3 (dk_at dksX3_classes_3 10 rfl rfl)
theorem dX3_classes_79 : decode cX3_classes 79 = .ok (.istore_n 3, 1) := dk_62 (dk_at dksX3_classes_3 11 rfl rfl)
theorem dX3_classes_80 : decode cX3_classes 80 = .ok (.iload_n 3, 1) := dk_29 (dk_at dksX3_classes_3 12 rfl rfl)
theorem dX3_classes_81 : decode cX3_classes 81 = .ok (.aload_n 0, 1) := dk_42 (dk_at dksX3_classes_3 13 rfl rfl)
theorem dX3_classes_82 : decode cX3_classes 82 = .ok (.getfield 213, 3) := dk_180 0 213 (dk_at dksX3_classes_3 14 rfl rfl)
theorem dX3_classes_85 : decode cX3_classes 85 = .ok (.if_icmp .ge 21, 3) := dk_162 0 21 (dk_at dksX3_classes_3 17 rfl rfl)
theorem dX3_classes_88 : decode cX3_classes 88 = .ok (.aload_n 0, 1) := dk_42 (dk_at dksX3_classes_3 20 rfl rfl)
theorem dX3_classes_89 : decode cX3_classes 89 = .ok (.getfield 44, 3) := dk_180 0 44 (dk_at dksX3_classes_3 21 rfl rfl)
theorem dX3_classes_92 : decode cX3_classes 92 = .ok (.aload_n 0, 1) := dk_42 (dk_at dksX3_classes_4 0 rfl rfl)
theorem dX3_classes_93 : decode cX3_classes 93 = .ok (.getfield 41, 3) := dk_180 0 41 (dk_at dksX3_classes_4 1 rfl rfl)
theorem dX3_classes_96 : decode cX3_classes 96 = .ok (.iload_n 3, 1) := dk_29 (dk_at dksX3_classes_4 4 rfl rfl)
theorem dX3_classes_97 : decode cX3_classes 97 = .ok (.iaload, 1) := dk_46 (dk_at dksX3_classes_4 5 rfl rfl)
theorem dX3_classes_98 : decode cX3_classes 98 = .ok (.iconst 1, 1) := dk_4 (dk_at dksX3_classes_4 6 rfl rfl)
theorem dX3_classes_99 : decode cX3_classes 99 = .ok (.bastore, 1) := dk_84 (dk_at dksX3_classes_4 7 rfl rfl)
theorem dX3_classes_100 : decode cX3_classes 100 = .ok (.iinc 3 1, 3) := dk_132 3 1 (dk_at dksX3_classes_4 8 rfl rfl)
theorem dX3_classes_103 : decode cX3_classes 103 = .ok (.goto (-23), 3) := dk_167 255 233 (dk_at dksX3_classes_4 11 rfl rfl)
theorem dX3_classes_106 : decode cX3_classes 106 = .ok (.iinc 2 1, 3) := dk_132 2 1 (dk_at dksX3_classes_4 14 rfl rfl)
theorem dX3_classes_109 : decode cX3_classes 109 = .ok (.goto (-80), 3) := dk_167 255 176 (dk_at dksX3_classes_4 17 rfl rfl)
theorem dX3_classes_112 : decode cX3_classes 112 = .ok (.iload_n 1, 1) := dk_27 (dk_at dksX3_classes_4 20 rfl rfl)
theorem dX3_classes_113 : decode cX3_classes 113 = .ok (.ireturn, 1) := dk_172 (dk_at dksX3_classes_4 21 rfl rfl)
abbrev cX3_leavesAll : ByteArray := prog_18_method_61_code
def yX3_leavesAll : MethodName := ⟨RX3, "leavesAll", "()V"⟩
def dkwX3_leavesAll_1 : List UInt8 := [27, 182, 0, 95, 167, 0, 4, 3, 79, 132, 1, 1, 167, 255, 222, 177]
abbrev dktX3_leavesAll_1 : List UInt8 := dkwX3_leavesAll_1 ++ []
def dkwX3_leavesAll_0 : List UInt8 := [3, 60, 27, 16, 10, 162, 0, 34, 42, 180, 0, 35, 27, 27, 42, 180, 0, 7, 3, 46, 162, 0, 11, 42]
abbrev dktX3_leavesAll_0 : List UInt8 := dkwX3_leavesAll_0 ++ dktX3_leavesAll_1
theorem dksX3_leavesAll_0 : cX3_leavesAll.data.toList.drop 0 = dktX3_leavesAll_0 := by decide +kernel
theorem dksX3_leavesAll_1 : cX3_leavesAll.data.toList.drop 24 = dktX3_leavesAll_1 := dk_seg dksX3_leavesAll_0 24 rfl rfl
theorem dX3_leavesAll_0 : decode cX3_leavesAll 0 = .ok (.iconst 0, 1) := dk_3 (dk_at dksX3_leavesAll_0 0 rfl rfl)
theorem dX3_leavesAll_1 : decode cX3_leavesAll 1 = .ok (.istore_n 1, 1) := dk_60 (dk_at dksX3_leavesAll_0 1 rfl rfl)
theorem dX3_leavesAll_2 : decode cX3_leavesAll 2 = .ok (.iload_n 1, 1) := dk_27 (dk_at dksX3_leavesAll_0 2 rfl rfl)
theorem dX3_leavesAll_3 : decode cX3_leavesAll 3 = .ok (.bipush 10, 2) := dk_16 10 (dk_at dksX3_leavesAll_0 3 rfl rfl)
theorem dX3_leavesAll_5 : decode cX3_leavesAll 5 = .ok (.if_icmp .ge 34, 3) := dk_162 0 34 (dk_at dksX3_leavesAll_0 5 rfl rfl)
theorem dX3_leavesAll_8 : decode cX3_leavesAll 8 = .ok (.aload_n 0, 1) := dk_42 (dk_at dksX3_leavesAll_0 8 rfl rfl)
theorem dX3_leavesAll_9 : decode cX3_leavesAll 9 = .ok (.getfield 35, 3) := dk_180 0 35 (dk_at dksX3_leavesAll_0 9 rfl rfl)
theorem dX3_leavesAll_12 : decode cX3_leavesAll 12 = .ok (.iload_n 1, 1) := dk_27 (dk_at dksX3_leavesAll_0 12 rfl rfl)
theorem dX3_leavesAll_13 : decode cX3_leavesAll 13 = .ok (.iload_n 1, 1) := dk_27 (dk_at dksX3_leavesAll_0 13 rfl rfl)
theorem dX3_leavesAll_14 : decode cX3_leavesAll 14 = .ok (.aload_n 0, 1) := dk_42 (dk_at dksX3_leavesAll_0 14 rfl rfl)
theorem dX3_leavesAll_15 : decode cX3_leavesAll 15 = .ok (.getfield 7, 3) := dk_180 0 7 (dk_at dksX3_leavesAll_0 15 rfl rfl)
theorem dX3_leavesAll_18 : decode cX3_leavesAll 18 = .ok (.iconst 0, 1) := dk_3 (dk_at dksX3_leavesAll_0 18 rfl rfl)
theorem dX3_leavesAll_19 : decode cX3_leavesAll 19 = .ok (.iaload, 1) := dk_46 (dk_at dksX3_leavesAll_0 19 rfl rfl)
theorem dX3_leavesAll_20 : decode cX3_leavesAll 20 = .ok (.if_icmp .ge 11, 3) := dk_162 0 11 (dk_at dksX3_leavesAll_0 20 rfl rfl)
theorem dX3_leavesAll_23 : decode cX3_leavesAll 23 = .ok (.aload_n 0, 1) := dk_42 (dk_at dksX3_leavesAll_0 23 rfl rfl)
theorem dX3_leavesAll_24 : decode cX3_leavesAll 24 = .ok (.iload_n 1, 1) := dk_27 (dk_at dksX3_leavesAll_1 0 rfl rfl)
theorem dX3_leavesAll_25 : decode cX3_leavesAll 25 = .ok (.invokevirtual 95, 3) := dk_182 0 95 (dk_at dksX3_leavesAll_1 1 rfl rfl)
theorem dX3_leavesAll_28 : decode cX3_leavesAll 28 = .ok (.goto 4, 3) := dk_167 0 4 (dk_at dksX3_leavesAll_1 4 rfl rfl)
theorem dX3_leavesAll_31 : decode cX3_leavesAll 31 = .ok (.iconst 0, 1) := dk_3 (dk_at dksX3_leavesAll_1 7 rfl rfl)
theorem dX3_leavesAll_32 : decode cX3_leavesAll 32 = .ok (.iastore, 1) := dk_79 (dk_at dksX3_leavesAll_1 8 rfl rfl)
theorem dX3_leavesAll_33 : decode cX3_leavesAll 33 = .ok (.iinc 1 1, 3) := dk_132 1 1 (dk_at dksX3_leavesAll_1 9 rfl rfl)
theorem dX3_leavesAll_36 : decode cX3_leavesAll 36 = .ok (.goto (-34), 3) := dk_167 255 222 (dk_at dksX3_leavesAll_1 12 rfl rfl)
theorem dX3_leavesAll_39 : decode cX3_leavesAll 39 = .ok (.return_, 1) := dk_177 (dk_at dksX3_leavesAll_1 15 rfl rfl)
abbrev cX3_laysClass : ByteArray := prog_18_method_62_code
def yX3_laysClass : MethodName := ⟨RX3, "laysClass", "(II)V"⟩
def dkwX3_laysClass_7 : List UInt8 := [182, 0, 216, 132, 6, 1, 167, 255, 152, 132, 3, 1, 167, 255, 113, 177]
abbrev dktX3_laysClass_7 : List UInt8 := dkwX3_laysClass_7 ++ []
def dkwX3_laysClass_6 : List UInt8 := [21, 4, 46, 21, 6, 184, 0, 91, 154, 0, 18, 21, 6, 21, 4, 159, 0, 11, 42, 21, 6, 21, 5]
abbrev dktX3_laysClass_6 : List UInt8 := dkwX3_laysClass_6 ++ dktX3_laysClass_7
def dkwX3_laysClass_5 : List UInt8 := [21, 6, 182, 0, 216, 42, 180, 0, 35, 21, 5, 46, 21, 6, 184, 0, 91, 153, 0, 33, 42, 180, 0, 35]
abbrev dktX3_laysClass_5 : List UInt8 := dkwX3_laysClass_5 ++ dktX3_laysClass_6
def dkwX3_laysClass_4 : List UInt8 := [180, 0, 35, 21, 5, 46, 21, 6, 184, 0, 91, 154, 0, 18, 21, 6, 21, 5, 159, 0, 11, 42, 21, 4]
abbrev dktX3_laysClass_4 : List UInt8 := dkwX3_laysClass_4 ++ dktX3_laysClass_5
def dkwX3_laysClass_3 : List UInt8 := [180, 0, 7, 3, 46, 162, 0, 99, 42, 180, 0, 35, 21, 4, 46, 21, 6, 184, 0, 91, 153, 0, 33, 42]
abbrev dktX3_laysClass_3 : List UInt8 := dkwX3_laysClass_3 ++ dktX3_laysClass_4
def dkwX3_laysClass_2 : List UInt8 := [46, 16, 10, 108, 54, 4, 42, 180, 0, 41, 29, 46, 16, 10, 112, 54, 5, 3, 54, 6, 21, 6, 42]
abbrev dktX3_laysClass_2 : List UInt8 := dkwX3_laysClass_2 ++ dktX3_laysClass_3
def dkwX3_laysClass_1 : List UInt8 := [181, 0, 213, 42, 27, 28, 182, 0, 216, 3, 62, 29, 42, 180, 0, 213, 162, 0, 141, 42, 180, 0, 41, 29]
abbrev dktX3_laysClass_1 : List UInt8 := dkwX3_laysClass_1 ++ dktX3_laysClass_2
def dkwX3_laysClass_0 : List UInt8 := [3, 62, 29, 16, 100, 162, 0, 16, 42, 180, 0, 38, 29, 3, 84, 132, 3, 1, 167, 255, 240, 42, 3]
abbrev dktX3_laysClass_0 : List UInt8 := dkwX3_laysClass_0 ++ dktX3_laysClass_1
theorem dksX3_laysClass_0 : cX3_laysClass.data.toList.drop 0 = dktX3_laysClass_0 := by decide +kernel
theorem dksX3_laysClass_1 : cX3_laysClass.data.toList.drop 23 = dktX3_laysClass_1 := dk_seg dksX3_laysClass_0 23 rfl rfl
theorem dksX3_laysClass_2 : cX3_laysClass.data.toList.drop 47 = dktX3_laysClass_2 := dk_seg dksX3_laysClass_1 24 rfl rfl
theorem dksX3_laysClass_3 : cX3_laysClass.data.toList.drop 70 = dktX3_laysClass_3 := dk_seg dksX3_laysClass_2 23 rfl rfl
theorem dksX3_laysClass_4 : cX3_laysClass.data.toList.drop 94 = dktX3_laysClass_4 := dk_seg dksX3_laysClass_3 24 rfl rfl
theorem dksX3_laysClass_5 : cX3_laysClass.data.toList.drop 118 = dktX3_laysClass_5 := dk_seg dksX3_laysClass_4 24 rfl rfl
theorem dksX3_laysClass_6 : cX3_laysClass.data.toList.drop 142 = dktX3_laysClass_6 := dk_seg dksX3_laysClass_5 24 rfl rfl
theorem dksX3_laysClass_7 : cX3_laysClass.data.toList.drop 165 = dktX3_laysClass_7 := dk_seg dksX3_laysClass_6 23 rfl rfl
theorem dX3_laysClass_0 : decode cX3_laysClass 0 = .ok (.iconst 0, 1) := dk_3 (dk_at dksX3_laysClass_0 0 rfl rfl)
theorem dX3_laysClass_1 : decode cX3_laysClass 1 = .ok (.istore_n 3, 1) := dk_62 (dk_at dksX3_laysClass_0 1 rfl rfl)
theorem dX3_laysClass_2 : decode cX3_laysClass 2 = .ok (.iload_n 3, 1) := dk_29 (dk_at dksX3_laysClass_0 2 rfl rfl)
theorem dX3_laysClass_3 : decode cX3_laysClass 3 = .ok (.bipush 100, 2) := dk_16 100 (dk_at dksX3_laysClass_0 3 rfl rfl)
theorem dX3_laysClass_5 : decode cX3_laysClass 5 = .ok (.if_icmp .ge 16, 3) := dk_162 0 16 (dk_at dksX3_laysClass_0 5 rfl rfl)
theorem dX3_laysClass_8 : decode cX3_laysClass 8 = .ok (.aload_n 0, 1) := dk_42 (dk_at dksX3_laysClass_0 8 rfl rfl)
theorem dX3_laysClass_9 : decode cX3_laysClass 9 = .ok (.getfield 38, 3) := dk_180 0 38 (dk_at dksX3_laysClass_0 9 rfl rfl)
theorem dX3_laysClass_12 : decode cX3_laysClass 12 = .ok (.iload_n 3, 1) := dk_29 (dk_at dksX3_laysClass_0 12 rfl rfl)
theorem dX3_laysClass_13 : decode cX3_laysClass 13 = .ok (.iconst 0, 1) := dk_3 (dk_at dksX3_laysClass_0 13 rfl rfl)
theorem dX3_laysClass_14 : decode cX3_laysClass 14 = .ok (.bastore, 1) := dk_84 (dk_at dksX3_laysClass_0 14 rfl rfl)
theorem dX3_laysClass_15 : decode cX3_laysClass 15 = .ok (.iinc 3 1, 3) := dk_132 3 1 (dk_at dksX3_laysClass_0 15 rfl rfl)
theorem dX3_laysClass_18 : decode cX3_laysClass 18 = .ok (.goto (-16), 3) := dk_167 255 240 (dk_at dksX3_laysClass_0 18 rfl rfl)
theorem dX3_laysClass_21 : decode cX3_laysClass 21 = .ok (.aload_n 0, 1) := dk_42 (dk_at dksX3_laysClass_0 21 rfl rfl)
theorem dX3_laysClass_22 : decode cX3_laysClass 22 = .ok (.iconst 0, 1) := dk_3 (dk_at dksX3_laysClass_0 22 rfl rfl)
theorem dX3_laysClass_23 : decode cX3_laysClass 23 = .ok (.putfield 213, 3) := dk_181 0 213 (dk_at dksX3_laysClass_1 0 rfl rfl)
theorem dX3_laysClass_26 : decode cX3_laysClass 26 = .ok (.aload_n 0, 1) := dk_42 (dk_at dksX3_laysClass_1 3 rfl rfl)
theorem dX3_laysClass_27 : decode cX3_laysClass 27 = .ok (.iload_n 1, 1) := dk_27 (dk_at dksX3_laysClass_1 4 rfl rfl)
theorem dX3_laysClass_28 : decode cX3_laysClass 28 = .ok (.iload_n 2, 1) := dk_28 (dk_at dksX3_laysClass_1 5 rfl rfl)
theorem dX3_laysClass_29 : decode cX3_laysClass 29 = .ok (.invokevirtual 216, 3) := dk_182 0 216 (dk_at dksX3_laysClass_1 6 rfl rfl)
theorem dX3_laysClass_32 : decode cX3_laysClass 32 = .ok (.iconst 0, 1) := dk_3 (dk_at dksX3_laysClass_1 9 rfl rfl)
theorem dX3_laysClass_33 : decode cX3_laysClass 33 = .ok (.istore_n 3, 1) := dk_62 (dk_at dksX3_laysClass_1 10 rfl rfl)
theorem dX3_laysClass_34 : decode cX3_laysClass 34 = .ok (.iload_n 3, 1) := dk_29 (dk_at dksX3_laysClass_1 11 rfl rfl)
theorem dX3_laysClass_35 : decode cX3_laysClass 35 = .ok (.aload_n 0, 1) := dk_42 (dk_at dksX3_laysClass_1 12 rfl rfl)
theorem dX3_laysClass_36 : decode cX3_laysClass 36 = .ok (.getfield 213, 3) := dk_180 0 213 (dk_at dksX3_laysClass_1 13 rfl rfl)
theorem dX3_laysClass_39 : decode cX3_laysClass 39 = .ok (.if_icmp .ge 141, 3) := dk_162 0 141 (dk_at dksX3_laysClass_1 16 rfl rfl)
theorem dX3_laysClass_42 : decode cX3_laysClass 42 = .ok (.aload_n 0, 1) := dk_42 (dk_at dksX3_laysClass_1 19 rfl rfl)
theorem dX3_laysClass_43 : decode cX3_laysClass 43 = .ok (.getfield 41, 3) := dk_180 0 41 (dk_at dksX3_laysClass_1 20 rfl rfl)
theorem dX3_laysClass_46 : decode cX3_laysClass 46 = .ok (.iload_n 3, 1) := dk_29 (dk_at dksX3_laysClass_1 23 rfl rfl)
theorem dX3_laysClass_47 : decode cX3_laysClass 47 = .ok (.iaload, 1) := dk_46 (dk_at dksX3_laysClass_2 0 rfl rfl)
theorem dX3_laysClass_48 : decode cX3_laysClass 48 = .ok (.bipush 10, 2) := dk_16 10 (dk_at dksX3_laysClass_2 1 rfl rfl)
theorem dX3_laysClass_50 : decode cX3_laysClass 50 = .ok (.idiv, 1) := dk_108 (dk_at dksX3_laysClass_2 3 rfl rfl)
theorem dX3_laysClass_51 : decode cX3_laysClass 51 = .ok (.istore 4, 2) := dk_54 4 (dk_at dksX3_laysClass_2 4 rfl rfl)
theorem dX3_laysClass_53 : decode cX3_laysClass 53 = .ok (.aload_n 0, 1) := dk_42 (dk_at dksX3_laysClass_2 6 rfl rfl)
theorem dX3_laysClass_54 : decode cX3_laysClass 54 = .ok (.getfield 41, 3) := dk_180 0 41 (dk_at dksX3_laysClass_2 7 rfl rfl)
theorem dX3_laysClass_57 : decode cX3_laysClass 57 = .ok (.iload_n 3, 1) := dk_29 (dk_at dksX3_laysClass_2 10 rfl rfl)
theorem dX3_laysClass_58 : decode cX3_laysClass 58 = .ok (.iaload, 1) := dk_46 (dk_at dksX3_laysClass_2 11 rfl rfl)
theorem dX3_laysClass_59 : decode cX3_laysClass 59 = .ok (.bipush 10, 2) := dk_16 10 (dk_at dksX3_laysClass_2 12 rfl rfl)
theorem dX3_laysClass_61 : decode cX3_laysClass 61 = .ok (.irem, 1) := dk_112 (dk_at dksX3_laysClass_2 14 rfl rfl)
theorem dX3_laysClass_62 : decode cX3_laysClass 62 = .ok (.istore 5, 2) := dk_54 5 (dk_at dksX3_laysClass_2 15 rfl rfl)
theorem dX3_laysClass_64 : decode cX3_laysClass 64 = .ok (.iconst 0, 1) := dk_3 (dk_at dksX3_laysClass_2 17 rfl rfl)
theorem dX3_laysClass_65 : decode cX3_laysClass 65 = .ok (.istore 6, 2) := dk_54 6 (dk_at dksX3_laysClass_2 18 rfl rfl)
theorem dX3_laysClass_67 : decode cX3_laysClass 67 = .ok (.iload 6, 2) := dk_21 6 (dk_at dksX3_laysClass_2 20 rfl rfl)
theorem dX3_laysClass_69 : decode cX3_laysClass 69 = .ok (.aload_n 0, 1) := dk_42 (dk_at dksX3_laysClass_2 22 rfl rfl)
theorem dX3_laysClass_70 : decode cX3_laysClass 70 = .ok (.getfield 7, 3) := dk_180 0 7 (dk_at dksX3_laysClass_3 0 rfl rfl)
theorem dX3_laysClass_73 : decode cX3_laysClass 73 = .ok (.iconst 0, 1) := dk_3 (dk_at dksX3_laysClass_3 3 rfl rfl)
theorem dX3_laysClass_74 : decode cX3_laysClass 74 = .ok (.iaload, 1) := dk_46 (dk_at dksX3_laysClass_3 4 rfl rfl)
theorem dX3_laysClass_75 : decode cX3_laysClass 75 = .ok (.if_icmp .ge 99, 3) := dk_162 0 99 (dk_at dksX3_laysClass_3 5 rfl rfl)
theorem dX3_laysClass_78 : decode cX3_laysClass 78 = .ok (.aload_n 0, 1) := dk_42 (dk_at dksX3_laysClass_3 8 rfl rfl)
theorem dX3_laysClass_79 : decode cX3_laysClass 79 = .ok (.getfield 35, 3) := dk_180 0 35 (dk_at dksX3_laysClass_3 9 rfl rfl)
theorem dX3_laysClass_82 : decode cX3_laysClass 82 = .ok (.iload 4, 2) := dk_21 4 (dk_at dksX3_laysClass_3 12 rfl rfl)
theorem dX3_laysClass_84 : decode cX3_laysClass 84 = .ok (.iaload, 1) := dk_46 (dk_at dksX3_laysClass_3 14 rfl rfl)
theorem dX3_laysClass_85 : decode cX3_laysClass 85 = .ok (.iload 6, 2) := dk_21 6 (dk_at dksX3_laysClass_3 15 rfl rfl)
theorem dX3_laysClass_87 : decode cX3_laysClass 87 = .ok (.invokestatic 91, 3) := dk_184 0 91 (dk_at dksX3_laysClass_3 17 rfl rfl)
theorem dX3_laysClass_90 : decode cX3_laysClass 90 = .ok (.ifCond .eq 33, 3) := dk_153 0 33 (dk_at dksX3_laysClass_3 20 rfl rfl)
theorem dX3_laysClass_93 : decode cX3_laysClass 93 = .ok (.aload_n 0, 1) := dk_42 (dk_at dksX3_laysClass_3 23 rfl rfl)
theorem dX3_laysClass_94 : decode cX3_laysClass 94 = .ok (.getfield 35, 3) := dk_180 0 35 (dk_at dksX3_laysClass_4 0 rfl rfl)
theorem dX3_laysClass_97 : decode cX3_laysClass 97 = .ok (.iload 5, 2) := dk_21 5 (dk_at dksX3_laysClass_4 3 rfl rfl)
theorem dX3_laysClass_99 : decode cX3_laysClass 99 = .ok (.iaload, 1) := dk_46 (dk_at dksX3_laysClass_4 5 rfl rfl)
theorem dX3_laysClass_100 : decode cX3_laysClass 100 = .ok (.iload 6, 2) := dk_21 6 (dk_at dksX3_laysClass_4 6 rfl rfl)
theorem dX3_laysClass_102 : decode cX3_laysClass 102 = .ok (.invokestatic 91, 3) := dk_184 0 91 (dk_at dksX3_laysClass_4 8 rfl rfl)
theorem dX3_laysClass_105 : decode cX3_laysClass 105 = .ok (.ifCond .ne 18, 3) := dk_154 0 18 (dk_at dksX3_laysClass_4 11 rfl rfl)
theorem dX3_laysClass_108 : decode cX3_laysClass 108 = .ok (.iload 6, 2) := dk_21 6 (dk_at dksX3_laysClass_4 14 rfl rfl)
theorem dX3_laysClass_110 : decode cX3_laysClass 110 = .ok (.iload 5, 2) := dk_21 5 (dk_at dksX3_laysClass_4 16 rfl rfl)
theorem dX3_laysClass_112 : decode cX3_laysClass 112 = .ok (.if_icmp .eq 11, 3) := dk_159 0 11 (dk_at dksX3_laysClass_4 18 rfl rfl)
theorem dX3_laysClass_115 : decode cX3_laysClass 115 = .ok (.aload_n 0, 1) := dk_42 (dk_at dksX3_laysClass_4 21 rfl rfl)
theorem dX3_laysClass_116 : decode cX3_laysClass 116 = .ok (.iload 4, 2) := dk_21 4 (dk_at dksX3_laysClass_4 22 rfl rfl)
theorem dX3_laysClass_118 : decode cX3_laysClass 118 = .ok (.iload 6, 2) := dk_21 6 (dk_at dksX3_laysClass_5 0 rfl rfl)
theorem dX3_laysClass_120 : decode cX3_laysClass 120 = .ok (.invokevirtual 216, 3) := dk_182 0 216 (dk_at dksX3_laysClass_5 2 rfl rfl)
theorem dX3_laysClass_123 : decode cX3_laysClass 123 = .ok (.aload_n 0, 1) := dk_42 (dk_at dksX3_laysClass_5 5 rfl rfl)
theorem dX3_laysClass_124 : decode cX3_laysClass 124 = .ok (.getfield 35, 3) := dk_180 0 35 (dk_at dksX3_laysClass_5 6 rfl rfl)
theorem dX3_laysClass_127 : decode cX3_laysClass 127 = .ok (.iload 5, 2) := dk_21 5 (dk_at dksX3_laysClass_5 9 rfl rfl)
theorem dX3_laysClass_129 : decode cX3_laysClass 129 = .ok (.iaload, 1) := dk_46 (dk_at dksX3_laysClass_5 11 rfl rfl)
theorem dX3_laysClass_130 : decode cX3_laysClass 130 = .ok (.iload 6, 2) := dk_21 6 (dk_at dksX3_laysClass_5 12 rfl rfl)
theorem dX3_laysClass_132 : decode cX3_laysClass 132 = .ok (.invokestatic 91, 3) := dk_184 0 91 (dk_at dksX3_laysClass_5 14 rfl rfl)
theorem dX3_laysClass_135 : decode cX3_laysClass 135 = .ok (.ifCond .eq 33, 3) := dk_153 0 33 (dk_at dksX3_laysClass_5 17 rfl rfl)
theorem dX3_laysClass_138 : decode cX3_laysClass 138 = .ok (.aload_n 0, 1) := dk_42 (dk_at dksX3_laysClass_5 20 rfl rfl)
theorem dX3_laysClass_139 : decode cX3_laysClass 139 = .ok (.getfield 35, 3) := dk_180 0 35 (dk_at dksX3_laysClass_5 21 rfl rfl)
theorem dX3_laysClass_142 : decode cX3_laysClass 142 = .ok (.iload 4, 2) := dk_21 4 (dk_at dksX3_laysClass_6 0 rfl rfl)
theorem dX3_laysClass_144 : decode cX3_laysClass 144 = .ok (.iaload, 1) := dk_46 (dk_at dksX3_laysClass_6 2 rfl rfl)
theorem dX3_laysClass_145 : decode cX3_laysClass 145 = .ok (.iload 6, 2) := dk_21 6 (dk_at dksX3_laysClass_6 3 rfl rfl)
theorem dX3_laysClass_147 : decode cX3_laysClass 147 = .ok (.invokestatic 91, 3) := dk_184 0 91 (dk_at dksX3_laysClass_6 5 rfl rfl)
theorem dX3_laysClass_150 : decode cX3_laysClass 150 = .ok (.ifCond .ne 18, 3) := dk_154 0 18 (dk_at dksX3_laysClass_6 8 rfl rfl)
theorem dX3_laysClass_153 : decode cX3_laysClass 153 = .ok (.iload 6, 2) := dk_21 6 (dk_at dksX3_laysClass_6 11 rfl rfl)
theorem dX3_laysClass_155 : decode cX3_laysClass 155 = .ok (.iload 4, 2) := dk_21 4 (dk_at dksX3_laysClass_6 13 rfl rfl)
theorem dX3_laysClass_157 : decode cX3_laysClass 157 = .ok (.if_icmp .eq 11, 3) := dk_159 0 11 (dk_at dksX3_laysClass_6 15 rfl rfl)
theorem dX3_laysClass_160 : decode cX3_laysClass 160 = .ok (.aload_n 0, 1) := dk_42 (dk_at dksX3_laysClass_6 18 rfl rfl)
theorem dX3_laysClass_161 : decode cX3_laysClass 161 = .ok (.iload 6, 2) := dk_21 6 (dk_at dksX3_laysClass_6 19 rfl rfl)
theorem dX3_laysClass_163 : decode cX3_laysClass 163 = .ok (.iload 5, 2) := dk_21 5 (dk_at dksX3_laysClass_6 21 rfl rfl)
theorem dX3_laysClass_165 : decode cX3_laysClass 165 = .ok (.invokevirtual 216, 3) := dk_182 0 216 (dk_at dksX3_laysClass_7 0 rfl rfl)
theorem dX3_laysClass_168 : decode cX3_laysClass 168 = .ok (.iinc 6 1, 3) := dk_132 6 1 (dk_at dksX3_laysClass_7 3 rfl rfl)
theorem dX3_laysClass_171 : decode cX3_laysClass 171 = .ok (.goto (-104), 3) := dk_167 255 152 (dk_at dksX3_laysClass_7 6 rfl rfl)
theorem dX3_laysClass_174 : decode cX3_laysClass 174 = .ok (.iinc 3 1, 3) := dk_132 3 1 (dk_at dksX3_laysClass_7 9 rfl rfl)
theorem dX3_laysClass_177 : decode cX3_laysClass 177 = .ok (.goto (-143), 3) := dk_167 255 113 (dk_at dksX3_laysClass_7 12 rfl rfl)
theorem dX3_laysClass_180 : decode cX3_laysClass 180 = .ok (.return_, 1) := dk_177 (dk_at dksX3_laysClass_7 15 rfl rfl)
abbrev cX3_joins : ByteArray := prog_18_method_60_code
def yX3_joins : MethodName := ⟨RX3, "joins", "(II)V"⟩
def dkwX3_joins_2 : List UInt8 := [181, 0, 213, 177]
abbrev dktX3_joins_2 : List UInt8 := dkwX3_joins_2 ++ []
def dkwX3_joins_1 : List UInt8 := [4, 84, 42, 180, 0, 41, 42, 180, 0, 213, 16, 10, 27, 104, 28, 96, 79, 42, 89, 180, 0, 213, 4, 96]
abbrev dktX3_joins_1 : List UInt8 := dkwX3_joins_1 ++ dktX3_joins_2
def dkwX3_joins_0 : List UInt8 := [42, 180, 0, 38, 16, 10, 27, 104, 28, 96, 51, 154, 0, 40, 42, 180, 0, 38, 16, 10, 27, 104, 28, 96]
abbrev dktX3_joins_0 : List UInt8 := dkwX3_joins_0 ++ dktX3_joins_1
theorem dksX3_joins_0 : cX3_joins.data.toList.drop 0 = dktX3_joins_0 := by decide +kernel
theorem dksX3_joins_1 : cX3_joins.data.toList.drop 24 = dktX3_joins_1 := dk_seg dksX3_joins_0 24 rfl rfl
theorem dksX3_joins_2 : cX3_joins.data.toList.drop 48 = dktX3_joins_2 := dk_seg dksX3_joins_1 24 rfl rfl
theorem dX3_joins_0 : decode cX3_joins 0 = .ok (.aload_n 0, 1) := dk_42 (dk_at dksX3_joins_0 0 rfl rfl)
theorem dX3_joins_1 : decode cX3_joins 1 = .ok (.getfield 38, 3) := dk_180 0 38 (dk_at dksX3_joins_0 1 rfl rfl)
theorem dX3_joins_4 : decode cX3_joins 4 = .ok (.bipush 10, 2) := dk_16 10 (dk_at dksX3_joins_0 4 rfl rfl)
theorem dX3_joins_6 : decode cX3_joins 6 = .ok (.iload_n 1, 1) := dk_27 (dk_at dksX3_joins_0 6 rfl rfl)
theorem dX3_joins_7 : decode cX3_joins 7 = .ok (.imul, 1) := dk_104 (dk_at dksX3_joins_0 7 rfl rfl)
theorem dX3_joins_8 : decode cX3_joins 8 = .ok (.iload_n 2, 1) := dk_28 (dk_at dksX3_joins_0 8 rfl rfl)
theorem dX3_joins_9 : decode cX3_joins 9 = .ok (.iadd, 1) := dk_96 (dk_at dksX3_joins_0 9 rfl rfl)
theorem dX3_joins_10 : decode cX3_joins 10 = .ok (.baload, 1) := dk_51 (dk_at dksX3_joins_0 10 rfl rfl)
theorem dX3_joins_11 : decode cX3_joins 11 = .ok (.ifCond .ne 40, 3) := dk_154 0 40 (dk_at dksX3_joins_0 11 rfl rfl)
theorem dX3_joins_14 : decode cX3_joins 14 = .ok (.aload_n 0, 1) := dk_42 (dk_at dksX3_joins_0 14 rfl rfl)
theorem dX3_joins_15 : decode cX3_joins 15 = .ok (.getfield 38, 3) := dk_180 0 38 (dk_at dksX3_joins_0 15 rfl rfl)
theorem dX3_joins_18 : decode cX3_joins 18 = .ok (.bipush 10, 2) := dk_16 10 (dk_at dksX3_joins_0 18 rfl rfl)
theorem dX3_joins_20 : decode cX3_joins 20 = .ok (.iload_n 1, 1) := dk_27 (dk_at dksX3_joins_0 20 rfl rfl)
theorem dX3_joins_21 : decode cX3_joins 21 = .ok (.imul, 1) := dk_104 (dk_at dksX3_joins_0 21 rfl rfl)
theorem dX3_joins_22 : decode cX3_joins 22 = .ok (.iload_n 2, 1) := dk_28 (dk_at dksX3_joins_0 22 rfl rfl)
theorem dX3_joins_23 : decode cX3_joins 23 = .ok (.iadd, 1) := dk_96 (dk_at dksX3_joins_0 23 rfl rfl)
theorem dX3_joins_24 : decode cX3_joins 24 = .ok (.iconst 1, 1) := dk_4 (dk_at dksX3_joins_1 0 rfl rfl)
theorem dX3_joins_25 : decode cX3_joins 25 = .ok (.bastore, 1) := dk_84 (dk_at dksX3_joins_1 1 rfl rfl)
theorem dX3_joins_26 : decode cX3_joins 26 = .ok (.aload_n 0, 1) := dk_42 (dk_at dksX3_joins_1 2 rfl rfl)
theorem dX3_joins_27 : decode cX3_joins 27 = .ok (.getfield 41, 3) := dk_180 0 41 (dk_at dksX3_joins_1 3 rfl rfl)
theorem dX3_joins_30 : decode cX3_joins 30 = .ok (.aload_n 0, 1) := dk_42 (dk_at dksX3_joins_1 6 rfl rfl)
theorem dX3_joins_31 : decode cX3_joins 31 = .ok (.getfield 213, 3) := dk_180 0 213 (dk_at dksX3_joins_1 7 rfl rfl)
theorem dX3_joins_34 : decode cX3_joins 34 = .ok (.bipush 10, 2) := dk_16 10 (dk_at dksX3_joins_1 10 rfl rfl)
theorem dX3_joins_36 : decode cX3_joins 36 = .ok (.iload_n 1, 1) := dk_27 (dk_at dksX3_joins_1 12 rfl rfl)
theorem dX3_joins_37 : decode cX3_joins 37 = .ok (.imul, 1) := dk_104 (dk_at dksX3_joins_1 13 rfl rfl)
theorem dX3_joins_38 : decode cX3_joins 38 = .ok (.iload_n 2, 1) := dk_28 (dk_at dksX3_joins_1 14 rfl rfl)
theorem dX3_joins_39 : decode cX3_joins 39 = .ok (.iadd, 1) := dk_96 (dk_at dksX3_joins_1 15 rfl rfl)
theorem dX3_joins_40 : decode cX3_joins 40 = .ok (.iastore, 1) := dk_79 (dk_at dksX3_joins_1 16 rfl rfl)
theorem dX3_joins_41 : decode cX3_joins 41 = .ok (.aload_n 0, 1) := dk_42 (dk_at dksX3_joins_1 17 rfl rfl)
theorem dX3_joins_42 : decode cX3_joins 42 = .ok (.dup, 1) := dk_89 (dk_at dksX3_joins_1 18 rfl rfl)
theorem dX3_joins_43 : decode cX3_joins 43 = .ok (.getfield 213, 3) := dk_180 0 213 (dk_at dksX3_joins_1 19 rfl rfl)
theorem dX3_joins_46 : decode cX3_joins 46 = .ok (.iconst 1, 1) := dk_4 (dk_at dksX3_joins_1 22 rfl rfl)
theorem dX3_joins_47 : decode cX3_joins 47 = .ok (.iadd, 1) := dk_96 (dk_at dksX3_joins_1 23 rfl rfl)
theorem dX3_joins_48 : decode cX3_joins 48 = .ok (.putfield 213, 3) := dk_181 0 213 (dk_at dksX3_joins_2 0 rfl rfl)
theorem dX3_joins_51 : decode cX3_joins 51 = .ok (.return_, 1) := dk_177 (dk_at dksX3_joins_2 3 rfl rfl)
abbrev cX3_isModule : ByteArray := prog_18_method_36_code
def yX3_isModule : MethodName := ⟨RX3, "isModule", "(I)I"⟩
def dkwX3_isModule_1 : List UInt8 := [3, 172]
abbrev dktX3_isModule_1 : List UInt8 := dkwX3_isModule_1 ++ []
def dkwX3_isModule_0 : List UInt8 := [42, 27, 182, 0, 181, 154, 0, 7, 2, 167, 0, 16, 42, 27, 182, 0, 142, 154, 0, 7, 4, 167, 0, 4]
abbrev dktX3_isModule_0 : List UInt8 := dkwX3_isModule_0 ++ dktX3_isModule_1
theorem dksX3_isModule_0 : cX3_isModule.data.toList.drop 0 = dktX3_isModule_0 := by decide +kernel
theorem dksX3_isModule_1 : cX3_isModule.data.toList.drop 24 = dktX3_isModule_1 := dk_seg dksX3_isModule_0 24 rfl rfl
theorem dX3_isModule_0 : decode cX3_isModule 0 = .ok (.aload_n 0, 1) := dk_42 (dk_at dksX3_isModule_0 0 rfl rfl)
theorem dX3_isModule_1 : decode cX3_isModule 1 = .ok (.iload_n 1, 1) := dk_27 (dk_at dksX3_isModule_0 1 rfl rfl)
theorem dX3_isModule_2 : decode cX3_isModule 2 = .ok (.invokevirtual 181, 3) := dk_182 0 181 (dk_at dksX3_isModule_0 2 rfl rfl)
theorem dX3_isModule_5 : decode cX3_isModule 5 = .ok (.ifCond .ne 7, 3) := dk_154 0 7 (dk_at dksX3_isModule_0 5 rfl rfl)
theorem dX3_isModule_8 : decode cX3_isModule 8 = .ok (.iconst (-1), 1) := dk_2 (dk_at dksX3_isModule_0 8 rfl rfl)
theorem dX3_isModule_9 : decode cX3_isModule 9 = .ok (.goto 16, 3) := dk_167 0 16 (dk_at dksX3_isModule_0 9 rfl rfl)
theorem dX3_isModule_12 : decode cX3_isModule 12 = .ok (.aload_n 0, 1) := dk_42 (dk_at dksX3_isModule_0 12 rfl rfl)
theorem dX3_isModule_13 : decode cX3_isModule 13 = .ok (.iload_n 1, 1) := dk_27 (dk_at dksX3_isModule_0 13 rfl rfl)
theorem dX3_isModule_14 : decode cX3_isModule 14 = .ok (.invokevirtual 142, 3) := dk_182 0 142 (dk_at dksX3_isModule_0 14 rfl rfl)
theorem dX3_isModule_17 : decode cX3_isModule 17 = .ok (.ifCond .ne 7, 3) := dk_154 0 7 (dk_at dksX3_isModule_0 17 rfl rfl)
theorem dX3_isModule_20 : decode cX3_isModule 20 = .ok (.iconst 1, 1) := dk_4 (dk_at dksX3_isModule_0 20 rfl rfl)
theorem dX3_isModule_21 : decode cX3_isModule 21 = .ok (.goto 4, 3) := dk_167 0 4 (dk_at dksX3_isModule_0 21 rfl rfl)
theorem dX3_isModule_24 : decode cX3_isModule 24 = .ok (.iconst 0, 1) := dk_3 (dk_at dksX3_isModule_1 0 rfl rfl)
theorem dX3_isModule_25 : decode cX3_isModule 25 = .ok (.ireturn, 1) := dk_172 (dk_at dksX3_isModule_1 1 rfl rfl)
abbrev cX3_isSet : ByteArray := prog_18_method_6_code
def yX3_isSet : MethodName := ⟨RX3, "isSet", "(I)Z"⟩
def dkwX3_isSet_0 : List UInt8 := [27, 4, 42, 182, 0, 83, 184, 0, 87, 172]
abbrev dktX3_isSet_0 : List UInt8 := dkwX3_isSet_0 ++ []
theorem dksX3_isSet_0 : cX3_isSet.data.toList.drop 0 = dktX3_isSet_0 := by decide +kernel
theorem dX3_isSet_0 : decode cX3_isSet 0 = .ok (.iload_n 1, 1) := dk_27 (dk_at dksX3_isSet_0 0 rfl rfl)
theorem dX3_isSet_1 : decode cX3_isSet 1 = .ok (.iconst 1, 1) := dk_4 (dk_at dksX3_isSet_0 1 rfl rfl)
theorem dX3_isSet_2 : decode cX3_isSet 2 = .ok (.aload_n 0, 1) := dk_42 (dk_at dksX3_isSet_0 2 rfl rfl)
theorem dX3_isSet_3 : decode cX3_isSet 3 = .ok (.invokevirtual 83, 3) := dk_182 0 83 (dk_at dksX3_isSet_0 3 rfl rfl)
theorem dX3_isSet_6 : decode cX3_isSet 6 = .ok (.invokestatic 87, 3) := dk_184 0 87 (dk_at dksX3_isSet_0 6 rfl rfl)
theorem dX3_isSet_9 : decode cX3_isSet 9 = .ok (.ireturn, 1) := dk_172 (dk_at dksX3_isSet_0 9 rfl rfl)
abbrev cX3_splitters : ByteArray := prog_18_method_37_code
def yX3_splitters : MethodName := ⟨RX3, "splitters", "(I)I"⟩
def dkwX3_splitters_0 : List UInt8 := [42, 27, 182, 0, 181, 153, 0, 11, 42, 27, 182, 0, 142, 167, 0, 4, 2, 172]
abbrev dktX3_splitters_0 : List UInt8 := dkwX3_splitters_0 ++ []
theorem dksX3_splitters_0 : cX3_splitters.data.toList.drop 0 = dktX3_splitters_0 := by decide +kernel
theorem dX3_splitters_0 : decode cX3_splitters 0 = .ok (.aload_n 0, 1) := dk_42 (dk_at dksX3_splitters_0 0 rfl rfl)
theorem dX3_splitters_1 : decode cX3_splitters 1 = .ok (.iload_n 1, 1) := dk_27 (dk_at dksX3_splitters_0 1 rfl rfl)
theorem dX3_splitters_2 : decode cX3_splitters 2 = .ok (.invokevirtual 181, 3) := dk_182 0 181 (dk_at dksX3_splitters_0 2 rfl rfl)
theorem dX3_splitters_5 : decode cX3_splitters 5 = .ok (.ifCond .eq 11, 3) := dk_153 0 11 (dk_at dksX3_splitters_0 5 rfl rfl)
theorem dX3_splitters_8 : decode cX3_splitters 8 = .ok (.aload_n 0, 1) := dk_42 (dk_at dksX3_splitters_0 8 rfl rfl)
theorem dX3_splitters_9 : decode cX3_splitters 9 = .ok (.iload_n 1, 1) := dk_27 (dk_at dksX3_splitters_0 9 rfl rfl)
theorem dX3_splitters_10 : decode cX3_splitters 10 = .ok (.invokevirtual 142, 3) := dk_182 0 142 (dk_at dksX3_splitters_0 10 rfl rfl)
theorem dX3_splitters_13 : decode cX3_splitters 13 = .ok (.goto 4, 3) := dk_167 0 4 (dk_at dksX3_splitters_0 13 rfl rfl)
theorem dX3_splitters_16 : decode cX3_splitters 16 = .ok (.iconst (-1), 1) := dk_2 (dk_at dksX3_splitters_0 16 rfl rfl)
theorem dX3_splitters_17 : decode cX3_splitters 17 = .ok (.ireturn, 1) := dk_172 (dk_at dksX3_splitters_0 17 rfl rfl)
abbrev cX3_module : ByteArray := prog_18_method_38_code
def yX3_module : MethodName := ⟨RX3, "module", "(I)I"⟩
def dkwX3_module_1 : List UInt8 := [182, 0, 142, 128, 61, 167, 255, 240, 28, 172]
abbrev dktX3_module_1 : List UInt8 := dkwX3_module_1 ++ []
def dkwX3_module_0 : List UInt8 := [42, 27, 182, 0, 181, 154, 0, 5, 2, 172, 27, 61, 42, 28, 182, 0, 142, 153, 0, 14, 28, 42, 28]
abbrev dktX3_module_0 : List UInt8 := dkwX3_module_0 ++ dktX3_module_1
theorem dksX3_module_0 : cX3_module.data.toList.drop 0 = dktX3_module_0 := by decide +kernel
theorem dksX3_module_1 : cX3_module.data.toList.drop 23 = dktX3_module_1 := dk_seg dksX3_module_0 23 rfl rfl
theorem dX3_module_0 : decode cX3_module 0 = .ok (.aload_n 0, 1) := dk_42 (dk_at dksX3_module_0 0 rfl rfl)
theorem dX3_module_1 : decode cX3_module 1 = .ok (.iload_n 1, 1) := dk_27 (dk_at dksX3_module_0 1 rfl rfl)
theorem dX3_module_2 : decode cX3_module 2 = .ok (.invokevirtual 181, 3) := dk_182 0 181 (dk_at dksX3_module_0 2 rfl rfl)
theorem dX3_module_5 : decode cX3_module 5 = .ok (.ifCond .ne 5, 3) := dk_154 0 5 (dk_at dksX3_module_0 5 rfl rfl)
theorem dX3_module_8 : decode cX3_module 8 = .ok (.iconst (-1), 1) := dk_2 (dk_at dksX3_module_0 8 rfl rfl)
theorem dX3_module_9 : decode cX3_module 9 = .ok (.ireturn, 1) := dk_172 (dk_at dksX3_module_0 9 rfl rfl)
theorem dX3_module_10 : decode cX3_module 10 = .ok (.iload_n 1, 1) := dk_27 (dk_at dksX3_module_0 10 rfl rfl)
theorem dX3_module_11 : decode cX3_module 11 = .ok (.istore_n 2, 1) := dk_61 (dk_at dksX3_module_0 11 rfl rfl)
theorem dX3_module_12 : decode cX3_module 12 = .ok (.aload_n 0, 1) := dk_42 (dk_at dksX3_module_0 12 rfl rfl)
theorem dX3_module_13 : decode cX3_module 13 = .ok (.iload_n 2, 1) := dk_28 (dk_at dksX3_module_0 13 rfl rfl)
theorem dX3_module_14 : decode cX3_module 14 = .ok (.invokevirtual 142, 3) := dk_182 0 142 (dk_at dksX3_module_0 14 rfl rfl)
theorem dX3_module_17 : decode cX3_module 17 = .ok (.ifCond .eq 14, 3) := dk_153 0 14 (dk_at dksX3_module_0 17 rfl rfl)
theorem dX3_module_20 : decode cX3_module 20 = .ok (.iload_n 2, 1) := dk_28 (dk_at dksX3_module_0 20 rfl rfl)
theorem dX3_module_21 : decode cX3_module 21 = .ok (.aload_n 0, 1) := dk_42 (dk_at dksX3_module_0 21 rfl rfl)
theorem dX3_module_22 : decode cX3_module 22 = .ok (.iload_n 2, 1) := dk_28 (dk_at dksX3_module_0 22 rfl rfl)
theorem dX3_module_23 : decode cX3_module 23 = .ok (.invokevirtual 142, 3) := dk_182 0 142 (dk_at dksX3_module_1 0 rfl rfl)
theorem dX3_module_26 : decode cX3_module 26 = .ok (.ior, 1) := dk_128 (dk_at dksX3_module_1 3 rfl rfl)
theorem dX3_module_27 : decode cX3_module 27 = .ok (.istore_n 2, 1) := dk_61 (dk_at dksX3_module_1 4 rfl rfl)
theorem dX3_module_28 : decode cX3_module 28 = .ok (.goto (-16), 3) := dk_167 255 240 (dk_at dksX3_module_1 5 rfl rfl)
theorem dX3_module_31 : decode cX3_module 31 = .ok (.iload_n 2, 1) := dk_28 (dk_at dksX3_module_1 8 rfl rfl)
theorem dX3_module_32 : decode cX3_module 32 = .ok (.ireturn, 1) := dk_172 (dk_at dksX3_module_1 9 rfl rfl)
abbrev cX3_modules : ByteArray := prog_18_method_39_code
def yX3_modules : MethodName := ⟨RX3, "modules", "(I)I"⟩
def dkwX3_modules_2 : List UInt8 := [167, 0, 4, 3, 96, 61, 132, 3, 1, 167, 255, 224, 28, 172]
abbrev dktX3_modules_2 : List UInt8 := dkwX3_modules_2 ++ []
def dkwX3_modules_1 : List UInt8 := [29, 42, 180, 0, 136, 162, 0, 30, 28, 42, 180, 0, 26, 29, 46, 184, 0, 99, 27, 160, 0, 7, 4]
abbrev dktX3_modules_1 : List UInt8 := dkwX3_modules_1 ++ dktX3_modules_2
def dkwX3_modules_0 : List UInt8 := [27, 4, 42, 180, 0, 7, 3, 46, 184, 0, 87, 154, 0, 5, 2, 172, 42, 182, 0, 148, 3, 61, 3, 62]
abbrev dktX3_modules_0 : List UInt8 := dkwX3_modules_0 ++ dktX3_modules_1
theorem dksX3_modules_0 : cX3_modules.data.toList.drop 0 = dktX3_modules_0 := by decide +kernel
theorem dksX3_modules_1 : cX3_modules.data.toList.drop 24 = dktX3_modules_1 := dk_seg dksX3_modules_0 24 rfl rfl
theorem dksX3_modules_2 : cX3_modules.data.toList.drop 47 = dktX3_modules_2 := dk_seg dksX3_modules_1 23 rfl rfl
theorem dX3_modules_0 : decode cX3_modules 0 = .ok (.iload_n 1, 1) := dk_27 (dk_at dksX3_modules_0 0 rfl rfl)
theorem dX3_modules_1 : decode cX3_modules 1 = .ok (.iconst 1, 1) := dk_4 (dk_at dksX3_modules_0 1 rfl rfl)
theorem dX3_modules_2 : decode cX3_modules 2 = .ok (.aload_n 0, 1) := dk_42 (dk_at dksX3_modules_0 2 rfl rfl)
theorem dX3_modules_3 : decode cX3_modules 3 = .ok (.getfield 7, 3) := dk_180 0 7 (dk_at dksX3_modules_0 3 rfl rfl)
theorem dX3_modules_6 : decode cX3_modules 6 = .ok (.iconst 0, 1) := dk_3 (dk_at dksX3_modules_0 6 rfl rfl)
theorem dX3_modules_7 : decode cX3_modules 7 = .ok (.iaload, 1) := dk_46 (dk_at dksX3_modules_0 7 rfl rfl)
theorem dX3_modules_8 : decode cX3_modules 8 = .ok (.invokestatic 87, 3) := dk_184 0 87 (dk_at dksX3_modules_0 8 rfl rfl)
theorem dX3_modules_11 : decode cX3_modules 11 = .ok (.ifCond .ne 5, 3) := dk_154 0 5 (dk_at dksX3_modules_0 11 rfl rfl)
theorem dX3_modules_14 : decode cX3_modules 14 = .ok (.iconst (-1), 1) := dk_2 (dk_at dksX3_modules_0 14 rfl rfl)
theorem dX3_modules_15 : decode cX3_modules 15 = .ok (.ireturn, 1) := dk_172 (dk_at dksX3_modules_0 15 rfl rfl)
theorem dX3_modules_16 : decode cX3_modules 16 = .ok (.aload_n 0, 1) := dk_42 (dk_at dksX3_modules_0 16 rfl rfl)
theorem dX3_modules_17 : decode cX3_modules 17 = .ok (.invokevirtual 148, 3) := dk_182 0 148 (dk_at dksX3_modules_0 17 rfl rfl)
theorem dX3_modules_20 : decode cX3_modules 20 = .ok (.iconst 0, 1) := dk_3 (dk_at dksX3_modules_0 20 rfl rfl)
theorem dX3_modules_21 : decode cX3_modules 21 = .ok (.istore_n 2, 1) := dk_61 (dk_at dksX3_modules_0 21 rfl rfl)
theorem dX3_modules_22 : decode cX3_modules 22 = .ok (.iconst 0, 1) := dk_3 (dk_at dksX3_modules_0 22 rfl rfl)
theorem dX3_modules_23 : decode cX3_modules 23 = .ok (.istore_n 3, 1) := dk_62 (dk_at dksX3_modules_0 23 rfl rfl)
theorem dX3_modules_24 : decode cX3_modules 24 = .ok (.iload_n 3, 1) := dk_29 (dk_at dksX3_modules_1 0 rfl rfl)
theorem dX3_modules_25 : decode cX3_modules 25 = .ok (.aload_n 0, 1) := dk_42 (dk_at dksX3_modules_1 1 rfl rfl)
theorem dX3_modules_26 : decode cX3_modules 26 = .ok (.getfield 136, 3) := dk_180 0 136 (dk_at dksX3_modules_1 2 rfl rfl)
theorem dX3_modules_29 : decode cX3_modules 29 = .ok (.if_icmp .ge 30, 3) := dk_162 0 30 (dk_at dksX3_modules_1 5 rfl rfl)
theorem dX3_modules_32 : decode cX3_modules 32 = .ok (.iload_n 2, 1) := dk_28 (dk_at dksX3_modules_1 8 rfl rfl)
theorem dX3_modules_33 : decode cX3_modules 33 = .ok (.aload_n 0, 1) := dk_42 (dk_at dksX3_modules_1 9 rfl rfl)
theorem dX3_modules_34 : decode cX3_modules 34 = .ok (.getfield 26, 3) := dk_180 0 26 (dk_at dksX3_modules_1 10 rfl rfl)
theorem dX3_modules_37 : decode cX3_modules 37 = .ok (.iload_n 3, 1) := dk_29 (dk_at dksX3_modules_1 13 rfl rfl)
theorem dX3_modules_38 : decode cX3_modules 38 = .ok (.iaload, 1) := dk_46 (dk_at dksX3_modules_1 14 rfl rfl)
theorem dX3_modules_39 : decode cX3_modules 39 = .ok (.invokestatic 99, 3) := dk_184 0 99 (dk_at dksX3_modules_1 15 rfl rfl)
theorem dX3_modules_42 : decode cX3_modules 42 = .ok (.iload_n 1, 1) := dk_27 (dk_at dksX3_modules_1 18 rfl rfl)
theorem dX3_modules_43 : decode cX3_modules 43 = .ok (.if_icmp .ne 7, 3) := dk_160 0 7 (dk_at dksX3_modules_1 19 rfl rfl)
theorem dX3_modules_46 : decode cX3_modules 46 = .ok (.iconst 1, 1) := dk_4 (dk_at dksX3_modules_1 22 rfl rfl)
theorem dX3_modules_47 : decode cX3_modules 47 = .ok (.goto 4, 3) := dk_167 0 4 (dk_at dksX3_modules_2 0 rfl rfl)
theorem dX3_modules_50 : decode cX3_modules 50 = .ok (.iconst 0, 1) := dk_3 (dk_at dksX3_modules_2 3 rfl rfl)
theorem dX3_modules_51 : decode cX3_modules 51 = .ok (.iadd, 1) := dk_96 (dk_at dksX3_modules_2 4 rfl rfl)
theorem dX3_modules_52 : decode cX3_modules 52 = .ok (.istore_n 2, 1) := dk_61 (dk_at dksX3_modules_2 5 rfl rfl)
theorem dX3_modules_53 : decode cX3_modules 53 = .ok (.iinc 3 1, 3) := dk_132 3 1 (dk_at dksX3_modules_2 6 rfl rfl)
theorem dX3_modules_56 : decode cX3_modules 56 = .ok (.goto (-32), 3) := dk_167 255 224 (dk_at dksX3_modules_2 9 rfl rfl)
theorem dX3_modules_59 : decode cX3_modules 59 = .ok (.iload_n 2, 1) := dk_28 (dk_at dksX3_modules_2 12 rfl rfl)
theorem dX3_modules_60 : decode cX3_modules 60 = .ok (.ireturn, 1) := dk_172 (dk_at dksX3_modules_2 13 rfl rfl)
abbrev cX3_strong : ByteArray := prog_18_method_40_code
def yX3_strong : MethodName := ⟨RX3, "strong", "(I)I"⟩
def dkwX3_strong_1 : List UInt8 := [16, 252, 172]
abbrev dktX3_strong_1 : List UInt8 := dkwX3_strong_1 ++ []
def dkwX3_strong_0 : List UInt8 := [27, 156, 0, 5, 2, 172, 42, 27, 182, 0, 184, 153, 0, 12, 42, 180, 0, 29, 27, 46, 167, 0, 5]
abbrev dktX3_strong_0 : List UInt8 := dkwX3_strong_0 ++ dktX3_strong_1
theorem dksX3_strong_0 : cX3_strong.data.toList.drop 0 = dktX3_strong_0 := by decide +kernel
theorem dksX3_strong_1 : cX3_strong.data.toList.drop 23 = dktX3_strong_1 := dk_seg dksX3_strong_0 23 rfl rfl
theorem dX3_strong_0 : decode cX3_strong 0 = .ok (.iload_n 1, 1) := dk_27 (dk_at dksX3_strong_0 0 rfl rfl)
theorem dX3_strong_1 : decode cX3_strong 1 = .ok (.ifCond .ge 5, 3) := dk_156 0 5 (dk_at dksX3_strong_0 1 rfl rfl)
theorem dX3_strong_4 : decode cX3_strong 4 = .ok (.iconst (-1), 1) := dk_2 (dk_at dksX3_strong_0 4 rfl rfl)
theorem dX3_strong_5 : decode cX3_strong 5 = .ok (.ireturn, 1) := dk_172 (dk_at dksX3_strong_0 5 rfl rfl)
theorem dX3_strong_6 : decode cX3_strong 6 = .ok (.aload_n 0, 1) := dk_42 (dk_at dksX3_strong_0 6 rfl rfl)
theorem dX3_strong_7 : decode cX3_strong 7 = .ok (.iload_n 1, 1) := dk_27 (dk_at dksX3_strong_0 7 rfl rfl)
theorem dX3_strong_8 : decode cX3_strong 8 = .ok (.invokevirtual 184, 3) := dk_182 0 184 (dk_at dksX3_strong_0 8 rfl rfl)
theorem dX3_strong_11 : decode cX3_strong 11 = .ok (.ifCond .eq 12, 3) := dk_153 0 12 (dk_at dksX3_strong_0 11 rfl rfl)
theorem dX3_strong_14 : decode cX3_strong 14 = .ok (.aload_n 0, 1) := dk_42 (dk_at dksX3_strong_0 14 rfl rfl)
theorem dX3_strong_15 : decode cX3_strong 15 = .ok (.getfield 29, 3) := dk_180 0 29 (dk_at dksX3_strong_0 15 rfl rfl)
theorem dX3_strong_18 : decode cX3_strong 18 = .ok (.iload_n 1, 1) := dk_27 (dk_at dksX3_strong_0 18 rfl rfl)
theorem dX3_strong_19 : decode cX3_strong 19 = .ok (.iaload, 1) := dk_46 (dk_at dksX3_strong_0 19 rfl rfl)
theorem dX3_strong_20 : decode cX3_strong 20 = .ok (.goto 5, 3) := dk_167 0 5 (dk_at dksX3_strong_0 20 rfl rfl)
theorem dX3_strong_23 : decode cX3_strong 23 = .ok (.bipush (-4), 2) := dk_16 252 (dk_at dksX3_strong_1 0 rfl rfl)
theorem dX3_strong_25 : decode cX3_strong 25 = .ok (.ireturn, 1) := dk_172 (dk_at dksX3_strong_1 2 rfl rfl)
abbrev cX3_isStrongNumber : ByteArray := prog_18_method_26_code
def yX3_isStrongNumber : MethodName := ⟨RX3, "isStrongNumber", "(I)Z"⟩
def dkwX3_isStrongNumber_0 : List UInt8 := [42, 182, 0, 148, 27, 155, 0, 15, 27, 42, 180, 0, 139, 162, 0, 7, 4, 167, 0, 4, 3, 172]
abbrev dktX3_isStrongNumber_0 : List UInt8 := dkwX3_isStrongNumber_0 ++ []
theorem dksX3_isStrongNumber_0 : cX3_isStrongNumber.data.toList.drop 0 = dktX3_isStrongNumber_0 := by decide +kernel
theorem dX3_isStrongNumber_0 : decode cX3_isStrongNumber 0 = .ok (.aload_n 0, 1) := dk_42 (dk_at dksX3_isStrongNumber_0 0 rfl rfl)
theorem dX3_isStrongNumber_1 : decode cX3_isStrongNumber 1 = .ok (.invokevirtual 148, 3) := dk_182 0 148 (dk_at dksX3_isStrongNumber_0 1 rfl rfl)
theorem dX3_isStrongNumber_4 : decode cX3_isStrongNumber 4 = .ok (.iload_n 1, 1) := dk_27 (dk_at dksX3_isStrongNumber_0 4 rfl rfl)
theorem dX3_isStrongNumber_5 : decode cX3_isStrongNumber 5 = .ok (.ifCond .lt 15, 3) := dk_155 0 15 (dk_at dksX3_isStrongNumber_0 5 rfl rfl)
theorem dX3_isStrongNumber_8 : decode cX3_isStrongNumber 8 = .ok (.iload_n 1, 1) := dk_27 (dk_at dksX3_isStrongNumber_0 8 rfl rfl)
theorem dX3_isStrongNumber_9 : decode cX3_isStrongNumber 9 = .ok (.aload_n 0, 1) := dk_42 (dk_at dksX3_isStrongNumber_0 9 rfl rfl)
theorem dX3_isStrongNumber_10 : decode cX3_isStrongNumber 10 = .ok (.getfield 139, 3) := dk_180 0 139 (dk_at dksX3_isStrongNumber_0 10 rfl rfl)
theorem dX3_isStrongNumber_13 : decode cX3_isStrongNumber 13 = .ok (.if_icmp .ge 7, 3) := dk_162 0 7 (dk_at dksX3_isStrongNumber_0 13 rfl rfl)
theorem dX3_isStrongNumber_16 : decode cX3_isStrongNumber 16 = .ok (.iconst 1, 1) := dk_4 (dk_at dksX3_isStrongNumber_0 16 rfl rfl)
theorem dX3_isStrongNumber_17 : decode cX3_isStrongNumber 17 = .ok (.goto 4, 3) := dk_167 0 4 (dk_at dksX3_isStrongNumber_0 17 rfl rfl)
theorem dX3_isStrongNumber_20 : decode cX3_isStrongNumber 20 = .ok (.iconst 0, 1) := dk_3 (dk_at dksX3_isStrongNumber_0 20 rfl rfl)
theorem dX3_isStrongNumber_21 : decode cX3_isStrongNumber 21 = .ok (.ireturn, 1) := dk_172 (dk_at dksX3_isStrongNumber_0 21 rfl rfl)
abbrev cX3_node : ByteArray := prog_18_method_41_code
def yX3_node : MethodName := ⟨RX3, "node", "(II)I"⟩
def dkwX3_node_2 : List UInt8 := [160, 0, 11, 42, 27, 182, 0, 157, 167, 0, 8, 42, 27, 182, 0, 166, 172]
abbrev dktX3_node_2 : List UInt8 := dkwX3_node_2 ++ []
def dkwX3_node_1 : List UInt8 := [180, 0, 32, 27, 46, 167, 0, 34, 28, 4, 160, 0, 11, 42, 27, 182, 0, 163, 167, 0, 21, 28, 5]
abbrev dktX3_node_1 : List UInt8 := dkwX3_node_1 ++ dktX3_node_2
def dkwX3_node_0 : List UInt8 := [42, 27, 182, 0, 184, 153, 0, 12, 28, 3, 6, 184, 0, 87, 154, 0, 5, 2, 172, 28, 154, 0, 12, 42]
abbrev dktX3_node_0 : List UInt8 := dkwX3_node_0 ++ dktX3_node_1
theorem dksX3_node_0 : cX3_node.data.toList.drop 0 = dktX3_node_0 := by decide +kernel
theorem dksX3_node_1 : cX3_node.data.toList.drop 24 = dktX3_node_1 := dk_seg dksX3_node_0 24 rfl rfl
theorem dksX3_node_2 : cX3_node.data.toList.drop 47 = dktX3_node_2 := dk_seg dksX3_node_1 23 rfl rfl
theorem dX3_node_0 : decode cX3_node 0 = .ok (.aload_n 0, 1) := dk_42 (dk_at dksX3_node_0 0 rfl rfl)
theorem dX3_node_1 : decode cX3_node 1 = .ok (.iload_n 1, 1) := dk_27 (dk_at dksX3_node_0 1 rfl rfl)
theorem dX3_node_2 : decode cX3_node 2 = .ok (.invokevirtual 184, 3) := dk_182 0 184 (dk_at dksX3_node_0 2 rfl rfl)
theorem dX3_node_5 : decode cX3_node 5 = .ok (.ifCond .eq 12, 3) := dk_153 0 12 (dk_at dksX3_node_0 5 rfl rfl)
theorem dX3_node_8 : decode cX3_node 8 = .ok (.iload_n 2, 1) := dk_28 (dk_at dksX3_node_0 8 rfl rfl)
theorem dX3_node_9 : decode cX3_node 9 = .ok (.iconst 0, 1) := dk_3 (dk_at dksX3_node_0 9 rfl rfl)
theorem dX3_node_10 : decode cX3_node 10 = .ok (.iconst 3, 1) := dk_6 (dk_at dksX3_node_0 10 rfl rfl)
theorem dX3_node_11 : decode cX3_node 11 = .ok (.invokestatic 87, 3) := dk_184 0 87 (dk_at dksX3_node_0 11 rfl rfl)
theorem dX3_node_14 : decode cX3_node 14 = .ok (.ifCond .ne 5, 3) := dk_154 0 5 (dk_at dksX3_node_0 14 rfl rfl)
theorem dX3_node_17 : decode cX3_node 17 = .ok (.iconst (-1), 1) := dk_2 (dk_at dksX3_node_0 17 rfl rfl)
theorem dX3_node_18 : decode cX3_node 18 = .ok (.ireturn, 1) := dk_172 (dk_at dksX3_node_0 18 rfl rfl)
theorem dX3_node_19 : decode cX3_node 19 = .ok (.iload_n 2, 1) := dk_28 (dk_at dksX3_node_0 19 rfl rfl)
theorem dX3_node_20 : decode cX3_node 20 = .ok (.ifCond .ne 12, 3) := dk_154 0 12 (dk_at dksX3_node_0 20 rfl rfl)
theorem dX3_node_23 : decode cX3_node 23 = .ok (.aload_n 0, 1) := dk_42 (dk_at dksX3_node_0 23 rfl rfl)
theorem dX3_node_24 : decode cX3_node 24 = .ok (.getfield 32, 3) := dk_180 0 32 (dk_at dksX3_node_1 0 rfl rfl)
theorem dX3_node_27 : decode cX3_node 27 = .ok (.iload_n 1, 1) := dk_27 (dk_at dksX3_node_1 3 rfl rfl)
theorem dX3_node_28 : decode cX3_node 28 = .ok (.iaload, 1) := dk_46 (dk_at dksX3_node_1 4 rfl rfl)
theorem dX3_node_29 : decode cX3_node 29 = .ok (.goto 34, 3) := dk_167 0 34 (dk_at dksX3_node_1 5 rfl rfl)
theorem dX3_node_32 : decode cX3_node 32 = .ok (.iload_n 2, 1) := dk_28 (dk_at dksX3_node_1 8 rfl rfl)
theorem dX3_node_33 : decode cX3_node 33 = .ok (.iconst 1, 1) := dk_4 (dk_at dksX3_node_1 9 rfl rfl)
theorem dX3_node_34 : decode cX3_node 34 = .ok (.if_icmp .ne 11, 3) := dk_160 0 11 (dk_at dksX3_node_1 10 rfl rfl)
theorem dX3_node_37 : decode cX3_node 37 = .ok (.aload_n 0, 1) := dk_42 (dk_at dksX3_node_1 13 rfl rfl)
theorem dX3_node_38 : decode cX3_node 38 = .ok (.iload_n 1, 1) := dk_27 (dk_at dksX3_node_1 14 rfl rfl)
theorem dX3_node_39 : decode cX3_node 39 = .ok (.invokevirtual 163, 3) := dk_182 0 163 (dk_at dksX3_node_1 15 rfl rfl)
theorem dX3_node_42 : decode cX3_node 42 = .ok (.goto 21, 3) := dk_167 0 21 (dk_at dksX3_node_1 18 rfl rfl)
theorem dX3_node_45 : decode cX3_node 45 = .ok (.iload_n 2, 1) := dk_28 (dk_at dksX3_node_1 21 rfl rfl)
theorem dX3_node_46 : decode cX3_node 46 = .ok (.iconst 2, 1) := dk_5 (dk_at dksX3_node_1 22 rfl rfl)
theorem dX3_node_47 : decode cX3_node 47 = .ok (.if_icmp .ne 11, 3) := dk_160 0 11 (dk_at dksX3_node_2 0 rfl rfl)
theorem dX3_node_50 : decode cX3_node 50 = .ok (.aload_n 0, 1) := dk_42 (dk_at dksX3_node_2 3 rfl rfl)
theorem dX3_node_51 : decode cX3_node 51 = .ok (.iload_n 1, 1) := dk_27 (dk_at dksX3_node_2 4 rfl rfl)
theorem dX3_node_52 : decode cX3_node 52 = .ok (.invokevirtual 157, 3) := dk_182 0 157 (dk_at dksX3_node_2 5 rfl rfl)
theorem dX3_node_55 : decode cX3_node 55 = .ok (.goto 8, 3) := dk_167 0 8 (dk_at dksX3_node_2 8 rfl rfl)
theorem dX3_node_58 : decode cX3_node 58 = .ok (.aload_n 0, 1) := dk_42 (dk_at dksX3_node_2 11 rfl rfl)
theorem dX3_node_59 : decode cX3_node 59 = .ok (.iload_n 1, 1) := dk_27 (dk_at dksX3_node_2 12 rfl rfl)
theorem dX3_node_60 : decode cX3_node 60 = .ok (.invokevirtual 166, 3) := dk_182 0 166 (dk_at dksX3_node_2 13 rfl rfl)
theorem dX3_node_63 : decode cX3_node 63 = .ok (.ireturn, 1) := dk_172 (dk_at dksX3_node_2 16 rfl rfl)
abbrev cX3_child : ByteArray := prog_18_method_42_code
def yX3_child : MethodName := ⟨RX3, "child", "(II)I"⟩
def dkwX3_child_0 : List UInt8 := [42, 27, 182, 0, 184, 153, 0, 7, 28, 156, 0, 7, 2, 167, 0, 9, 42, 27, 28, 182, 0, 187, 172]
abbrev dktX3_child_0 : List UInt8 := dkwX3_child_0 ++ []
theorem dksX3_child_0 : cX3_child.data.toList.drop 0 = dktX3_child_0 := by decide +kernel
theorem dX3_child_0 : decode cX3_child 0 = .ok (.aload_n 0, 1) := dk_42 (dk_at dksX3_child_0 0 rfl rfl)
theorem dX3_child_1 : decode cX3_child 1 = .ok (.iload_n 1, 1) := dk_27 (dk_at dksX3_child_0 1 rfl rfl)
theorem dX3_child_2 : decode cX3_child 2 = .ok (.invokevirtual 184, 3) := dk_182 0 184 (dk_at dksX3_child_0 2 rfl rfl)
theorem dX3_child_5 : decode cX3_child 5 = .ok (.ifCond .eq 7, 3) := dk_153 0 7 (dk_at dksX3_child_0 5 rfl rfl)
theorem dX3_child_8 : decode cX3_child 8 = .ok (.iload_n 2, 1) := dk_28 (dk_at dksX3_child_0 8 rfl rfl)
theorem dX3_child_9 : decode cX3_child 9 = .ok (.ifCond .ge 7, 3) := dk_156 0 7 (dk_at dksX3_child_0 9 rfl rfl)
theorem dX3_child_12 : decode cX3_child 12 = .ok (.iconst (-1), 1) := dk_2 (dk_at dksX3_child_0 12 rfl rfl)
theorem dX3_child_13 : decode cX3_child 13 = .ok (.goto 9, 3) := dk_167 0 9 (dk_at dksX3_child_0 13 rfl rfl)
theorem dX3_child_16 : decode cX3_child 16 = .ok (.aload_n 0, 1) := dk_42 (dk_at dksX3_child_0 16 rfl rfl)
theorem dX3_child_17 : decode cX3_child 17 = .ok (.iload_n 1, 1) := dk_27 (dk_at dksX3_child_0 17 rfl rfl)
theorem dX3_child_18 : decode cX3_child 18 = .ok (.iload_n 2, 1) := dk_28 (dk_at dksX3_child_0 18 rfl rfl)
theorem dX3_child_19 : decode cX3_child 19 = .ok (.invokevirtual 187, 3) := dk_182 0 187 (dk_at dksX3_child_0 19 rfl rfl)
theorem dX3_child_22 : decode cX3_child 22 = .ok (.ireturn, 1) := dk_172 (dk_at dksX3_child_0 22 rfl rfl)
abbrev cX3_childAt : ByteArray := prog_18_method_29_code
def yX3_childAt : MethodName := ⟨RX3, "childAt", "(II)I"⟩
def dkwX3_childAt_3 : List UInt8 := [132, 4, 1, 167, 255, 188, 16, 252, 172]
abbrev dktX3_childAt_3 : List UInt8 := dkwX3_childAt_3 ++ []
def dkwX3_childAt_2 : List UInt8 := [184, 0, 151, 21, 4, 160, 0, 13, 29, 154, 0, 6, 21, 5, 172, 132, 3, 255, 132, 5, 1, 167, 255, 208]
abbrev dktX3_childAt_2 : List UInt8 := dkwX3_childAt_2 ++ dktX3_childAt_3
def dkwX3_childAt_1 : List UInt8 := [180, 0, 139, 162, 0, 45, 42, 180, 0, 32, 21, 5, 46, 27, 160, 0, 28, 42, 180, 0, 29, 21, 5, 46]
abbrev dktX3_childAt_1 : List UInt8 := dkwX3_childAt_1 ++ dktX3_childAt_2
def dkwX3_childAt_0 : List UInt8 := [28, 62, 3, 54, 4, 21, 4, 42, 180, 0, 7, 3, 46, 162, 0, 63, 3, 54, 5, 21, 5, 42]
abbrev dktX3_childAt_0 : List UInt8 := dkwX3_childAt_0 ++ dktX3_childAt_1
theorem dksX3_childAt_0 : cX3_childAt.data.toList.drop 0 = dktX3_childAt_0 := by decide +kernel
theorem dksX3_childAt_1 : cX3_childAt.data.toList.drop 22 = dktX3_childAt_1 := dk_seg dksX3_childAt_0 22 rfl rfl
theorem dksX3_childAt_2 : cX3_childAt.data.toList.drop 46 = dktX3_childAt_2 := dk_seg dksX3_childAt_1 24 rfl rfl
theorem dksX3_childAt_3 : cX3_childAt.data.toList.drop 70 = dktX3_childAt_3 := dk_seg dksX3_childAt_2 24 rfl rfl
theorem dX3_childAt_0 : decode cX3_childAt 0 = .ok (.iload_n 2, 1) := dk_28 (dk_at dksX3_childAt_0 0 rfl rfl)
theorem dX3_childAt_1 : decode cX3_childAt 1 = .ok (.istore_n 3, 1) := dk_62 (dk_at dksX3_childAt_0 1 rfl rfl)
theorem dX3_childAt_2 : decode cX3_childAt 2 = .ok (.iconst 0, 1) := dk_3 (dk_at dksX3_childAt_0 2 rfl rfl)
theorem dX3_childAt_3 : decode cX3_childAt 3 = .ok (.istore 4, 2) := dk_54 4 (dk_at dksX3_childAt_0 3 rfl rfl)
theorem dX3_childAt_5 : decode cX3_childAt 5 = .ok (.iload 4, 2) := dk_21 4 (dk_at dksX3_childAt_0 5 rfl rfl)
theorem dX3_childAt_7 : decode cX3_childAt 7 = .ok (.aload_n 0, 1) := dk_42 (dk_at dksX3_childAt_0 7 rfl rfl)
theorem dX3_childAt_8 : decode cX3_childAt 8 = .ok (.getfield 7, 3) := dk_180 0 7 (dk_at dksX3_childAt_0 8 rfl rfl)
theorem dX3_childAt_11 : decode cX3_childAt 11 = .ok (.iconst 0, 1) := dk_3 (dk_at dksX3_childAt_0 11 rfl rfl)
theorem dX3_childAt_12 : decode cX3_childAt 12 = .ok (.iaload, 1) := dk_46 (dk_at dksX3_childAt_0 12 rfl rfl)
theorem dX3_childAt_13 : decode cX3_childAt 13 = .ok (.if_icmp .ge 63, 3) := dk_162 0 63 (dk_at dksX3_childAt_0 13 rfl rfl)
theorem dX3_childAt_16 : decode cX3_childAt 16 = .ok (.iconst 0, 1) := dk_3 (dk_at dksX3_childAt_0 16 rfl rfl)
theorem dX3_childAt_17 : decode cX3_childAt 17 = .ok (.istore 5, 2) := dk_54 5 (dk_at dksX3_childAt_0 17 rfl rfl)
theorem dX3_childAt_19 : decode cX3_childAt 19 = .ok (.iload 5, 2) := dk_21 5 (dk_at dksX3_childAt_0 19 rfl rfl)
theorem dX3_childAt_21 : decode cX3_childAt 21 = .ok (.aload_n 0, 1) := dk_42 (dk_at dksX3_childAt_0 21 rfl rfl)
theorem dX3_childAt_22 : decode cX3_childAt 22 = .ok (.getfield 139, 3) := dk_180 0 139 (dk_at dksX3_childAt_1 0 rfl rfl)
theorem dX3_childAt_25 : decode cX3_childAt 25 = .ok (.if_icmp .ge 45, 3) := dk_162 0 45 (dk_at dksX3_childAt_1 3 rfl rfl)
theorem dX3_childAt_28 : decode cX3_childAt 28 = .ok (.aload_n 0, 1) := dk_42 (dk_at dksX3_childAt_1 6 rfl rfl)
theorem dX3_childAt_29 : decode cX3_childAt 29 = .ok (.getfield 32, 3) := dk_180 0 32 (dk_at dksX3_childAt_1 7 rfl rfl)
theorem dX3_childAt_32 : decode cX3_childAt 32 = .ok (.iload 5, 2) := dk_21 5 (dk_at dksX3_childAt_1 10 rfl rfl)
theorem dX3_childAt_34 : decode cX3_childAt 34 = .ok (.iaload, 1) := dk_46 (dk_at dksX3_childAt_1 12 rfl rfl)
theorem dX3_childAt_35 : decode cX3_childAt 35 = .ok (.iload_n 1, 1) := dk_27 (dk_at dksX3_childAt_1 13 rfl rfl)
theorem dX3_childAt_36 : decode cX3_childAt 36 = .ok (.if_icmp .ne 28, 3) := dk_160 0 28 (dk_at dksX3_childAt_1 14 rfl rfl)
theorem dX3_childAt_39 : decode cX3_childAt 39 = .ok (.aload_n 0, 1) := dk_42 (dk_at dksX3_childAt_1 17 rfl rfl)
theorem dX3_childAt_40 : decode cX3_childAt 40 = .ok (.getfield 29, 3) := dk_180 0 29 (dk_at dksX3_childAt_1 18 rfl rfl)
theorem dX3_childAt_43 : decode cX3_childAt 43 = .ok (.iload 5, 2) := dk_21 5 (dk_at dksX3_childAt_1 21 rfl rfl)
theorem dX3_childAt_45 : decode cX3_childAt 45 = .ok (.iaload, 1) := dk_46 (dk_at dksX3_childAt_1 23 rfl rfl)
theorem dX3_childAt_46 : decode cX3_childAt 46 = .ok (.invokestatic 151, 3) := dk_184 0 151 (dk_at dksX3_childAt_2 0 rfl rfl)
theorem dX3_childAt_49 : decode cX3_childAt 49 = .ok (.iload 4, 2) := dk_21 4 (dk_at dksX3_childAt_2 3 rfl rfl)
theorem dX3_childAt_51 : decode cX3_childAt 51 = .ok (.if_icmp .ne 13, 3) := dk_160 0 13 (dk_at dksX3_childAt_2 5 rfl rfl)
theorem dX3_childAt_54 : decode cX3_childAt 54 = .ok (.iload_n 3, 1) := dk_29 (dk_at dksX3_childAt_2 8 rfl rfl)
theorem dX3_childAt_55 : decode cX3_childAt 55 = .ok (.ifCond .ne 6, 3) := dk_154 0 6 (dk_at dksX3_childAt_2 9 rfl rfl)
theorem dX3_childAt_58 : decode cX3_childAt 58 = .ok (.iload 5, 2) := dk_21 5 (dk_at dksX3_childAt_2 12 rfl rfl)
theorem dX3_childAt_60 : decode cX3_childAt 60 = .ok (.ireturn, 1) := dk_172 (dk_at dksX3_childAt_2 14 rfl rfl)
theorem dX3_childAt_61 : decode cX3_childAt 61 = .ok (.iinc 3 (-1), 3) := dk_132 3 255 (dk_at dksX3_childAt_2 15 rfl rfl)
theorem dX3_childAt_64 : decode cX3_childAt 64 = .ok (.iinc 5 1, 3) := dk_132 5 1 (dk_at dksX3_childAt_2 18 rfl rfl)
theorem dX3_childAt_67 : decode cX3_childAt 67 = .ok (.goto (-48), 3) := dk_167 255 208 (dk_at dksX3_childAt_2 21 rfl rfl)
theorem dX3_childAt_70 : decode cX3_childAt 70 = .ok (.iinc 4 1, 3) := dk_132 4 1 (dk_at dksX3_childAt_3 0 rfl rfl)
theorem dX3_childAt_73 : decode cX3_childAt 73 = .ok (.goto (-68), 3) := dk_167 255 188 (dk_at dksX3_childAt_3 3 rfl rfl)
theorem dX3_childAt_76 : decode cX3_childAt 76 = .ok (.bipush (-4), 2) := dk_16 252 (dk_at dksX3_childAt_3 6 rfl rfl)
theorem dX3_childAt_78 : decode cX3_childAt 78 = .ok (.ireturn, 1) := dk_172 (dk_at dksX3_childAt_3 8 rfl rfl)
abbrev cX3_together : ByteArray := prog_18_method_44_code
def yX3_together : MethodName := ⟨RX3, "together", "(II)I"⟩
def dkwX3_together_1 : List UInt8 := [27, 120, 4, 28, 120, 128, 182, 0, 191, 172]
abbrev dktX3_together_1 : List UInt8 := dkwX3_together_1 ++ []
def dkwX3_together_0 : List UInt8 := [42, 27, 182, 0, 122, 153, 0, 11, 42, 28, 182, 0, 122, 154, 0, 5, 2, 172, 42, 182, 0, 148, 42, 4]
abbrev dktX3_together_0 : List UInt8 := dkwX3_together_0 ++ dktX3_together_1
theorem dksX3_together_0 : cX3_together.data.toList.drop 0 = dktX3_together_0 := by decide +kernel
theorem dksX3_together_1 : cX3_together.data.toList.drop 24 = dktX3_together_1 := dk_seg dksX3_together_0 24 rfl rfl
theorem dX3_together_0 : decode cX3_together 0 = .ok (.aload_n 0, 1) := dk_42 (dk_at dksX3_together_0 0 rfl rfl)
theorem dX3_together_1 : decode cX3_together 1 = .ok (.iload_n 1, 1) := dk_27 (dk_at dksX3_together_0 1 rfl rfl)
theorem dX3_together_2 : decode cX3_together 2 = .ok (.invokevirtual 122, 3) := dk_182 0 122 (dk_at dksX3_together_0 2 rfl rfl)
theorem dX3_together_5 : decode cX3_together 5 = .ok (.ifCond .eq 11, 3) := dk_153 0 11 (dk_at dksX3_together_0 5 rfl rfl)
theorem dX3_together_8 : decode cX3_together 8 = .ok (.aload_n 0, 1) := dk_42 (dk_at dksX3_together_0 8 rfl rfl)
theorem dX3_together_9 : decode cX3_together 9 = .ok (.iload_n 2, 1) := dk_28 (dk_at dksX3_together_0 9 rfl rfl)
theorem dX3_together_10 : decode cX3_together 10 = .ok (.invokevirtual 122, 3) := dk_182 0 122 (dk_at dksX3_together_0 10 rfl rfl)
theorem dX3_together_13 : decode cX3_together 13 = .ok (.ifCond .ne 5, 3) := dk_154 0 5 (dk_at dksX3_together_0 13 rfl rfl)
theorem dX3_together_16 : decode cX3_together 16 = .ok (.iconst (-1), 1) := dk_2 (dk_at dksX3_together_0 16 rfl rfl)
theorem dX3_together_17 : decode cX3_together 17 = .ok (.ireturn, 1) := dk_172 (dk_at dksX3_together_0 17 rfl rfl)
theorem dX3_together_18 : decode cX3_together 18 = .ok (.aload_n 0, 1) := dk_42 (dk_at dksX3_together_0 18 rfl rfl)
theorem dX3_together_19 : decode cX3_together 19 = .ok (.invokevirtual 148, 3) := dk_182 0 148 (dk_at dksX3_together_0 19 rfl rfl)
theorem dX3_together_22 : decode cX3_together 22 = .ok (.aload_n 0, 1) := dk_42 (dk_at dksX3_together_0 22 rfl rfl)
theorem dX3_together_23 : decode cX3_together 23 = .ok (.iconst 1, 1) := dk_4 (dk_at dksX3_together_0 23 rfl rfl)
theorem dX3_together_24 : decode cX3_together 24 = .ok (.iload_n 1, 1) := dk_27 (dk_at dksX3_together_1 0 rfl rfl)
theorem dX3_together_25 : decode cX3_together 25 = .ok (.ishl, 1) := dk_120 (dk_at dksX3_together_1 1 rfl rfl)
theorem dX3_together_26 : decode cX3_together 26 = .ok (.iconst 1, 1) := dk_4 (dk_at dksX3_together_1 2 rfl rfl)
theorem dX3_together_27 : decode cX3_together 27 = .ok (.iload_n 2, 1) := dk_28 (dk_at dksX3_together_1 3 rfl rfl)
theorem dX3_together_28 : decode cX3_together 28 = .ok (.ishl, 1) := dk_120 (dk_at dksX3_together_1 4 rfl rfl)
theorem dX3_together_29 : decode cX3_together 29 = .ok (.ior, 1) := dk_128 (dk_at dksX3_together_1 5 rfl rfl)
theorem dX3_together_30 : decode cX3_together 30 = .ok (.invokevirtual 191, 3) := dk_182 0 191 (dk_at dksX3_together_1 6 rfl rfl)
theorem dX3_together_33 : decode cX3_together 33 = .ok (.ireturn, 1) := dk_172 (dk_at dksX3_together_1 9 rfl rfl)
abbrev cX3_smallestWith : ByteArray := prog_18_method_43_code
def yX3_smallestWith : MethodName := ⟨RX3, "smallestWith", "(I)I"⟩
def dkwX3_smallestWith_3 : List UInt8 := [28, 61, 132, 3, 1, 167, 255, 187, 28, 172]
abbrev dktX3_smallestWith_3 : List UInt8 := dkwX3_smallestWith_3 ++ []
def dkwX3_smallestWith_2 : List UInt8 := [180, 0, 29, 29, 46, 184, 0, 99, 42, 180, 0, 29, 28, 46, 184, 0, 99, 162, 0, 7, 29, 167, 0, 4]
abbrev dktX3_smallestWith_2 : List UInt8 := dkwX3_smallestWith_2 ++ dktX3_smallestWith_3
def dkwX3_smallestWith_1 : List UInt8 := [154, 0, 7, 4, 167, 0, 4, 3, 54, 4, 21, 4, 153, 0, 34, 28, 16, 252, 159, 0, 24, 42]
abbrev dktX3_smallestWith_1 : List UInt8 := dkwX3_smallestWith_1 ++ dktX3_smallestWith_2
def dkwX3_smallestWith_0 : List UInt8 := [16, 252, 61, 3, 62, 29, 42, 180, 0, 139, 162, 0, 67, 27, 42, 180, 0, 29, 29, 46, 2, 130, 126]
abbrev dktX3_smallestWith_0 : List UInt8 := dkwX3_smallestWith_0 ++ dktX3_smallestWith_1
theorem dksX3_smallestWith_0 : cX3_smallestWith.data.toList.drop 0 = dktX3_smallestWith_0 := by decide +kernel
theorem dksX3_smallestWith_1 : cX3_smallestWith.data.toList.drop 23 = dktX3_smallestWith_1 := dk_seg dksX3_smallestWith_0 23 rfl rfl
theorem dksX3_smallestWith_2 : cX3_smallestWith.data.toList.drop 45 = dktX3_smallestWith_2 := dk_seg dksX3_smallestWith_1 22 rfl rfl
theorem dksX3_smallestWith_3 : cX3_smallestWith.data.toList.drop 69 = dktX3_smallestWith_3 := dk_seg dksX3_smallestWith_2 24 rfl rfl
theorem dX3_smallestWith_0 : decode cX3_smallestWith 0 = .ok (.bipush (-4), 2) := dk_16 252 (dk_at dksX3_smallestWith_0 0 rfl rfl)
theorem dX3_smallestWith_2 : decode cX3_smallestWith 2 = .ok (.istore_n 2, 1) := dk_61 (dk_at dksX3_smallestWith_0 2 rfl rfl)
theorem dX3_smallestWith_3 : decode cX3_smallestWith 3 = .ok (.iconst 0, 1) := dk_3 (dk_at dksX3_smallestWith_0 3 rfl rfl)
theorem dX3_smallestWith_4 : decode cX3_smallestWith 4 = .ok (.istore_n 3, 1) := dk_62 (dk_at dksX3_smallestWith_0 4 rfl rfl)
theorem dX3_smallestWith_5 : decode cX3_smallestWith 5 = .ok (.iload_n 3, 1) := dk_29 (dk_at dksX3_smallestWith_0 5 rfl rfl)
theorem dX3_smallestWith_6 : decode cX3_smallestWith 6 = .ok (.aload_n 0, 1) := dk_42 (dk_at dksX3_smallestWith_0 6 rfl rfl)
theorem dX3_smallestWith_7 : decode cX3_smallestWith 7 = .ok (.getfield 139, 3) := dk_180 0 139 (dk_at dksX3_smallestWith_0 7 rfl rfl)
theorem dX3_smallestWith_10 : decode cX3_smallestWith 10 = .ok (.if_icmp .ge 67, 3) := dk_162 0 67 (dk_at dksX3_smallestWith_0 10 rfl rfl)
theorem dX3_smallestWith_13 : decode cX3_smallestWith 13 = .ok (.iload_n 1, 1) := dk_27 (dk_at dksX3_smallestWith_0 13 rfl rfl)
theorem dX3_smallestWith_14 : decode cX3_smallestWith 14 = .ok (.aload_n 0, 1) := dk_42 (dk_at dksX3_smallestWith_0 14 rfl rfl)
theorem dX3_smallestWith_15 : decode cX3_smallestWith 15 = .ok (.getfield 29, 3) := dk_180 0 29 (dk_at dksX3_smallestWith_0 15 rfl rfl)
theorem dX3_smallestWith_18 : decode cX3_smallestWith 18 = .ok (.iload_n 3, 1) := dk_29 (dk_at dksX3_smallestWith_0 18 rfl rfl)
theorem dX3_smallestWith_19 : decode cX3_smallestWith 19 = .ok (.iaload, 1) := dk_46 (dk_at dksX3_smallestWith_0 19 rfl rfl)
theorem dX3_smallestWith_20 : decode cX3_smallestWith 20 = .ok (.iconst (-1), 1) := dk_2 (dk_at dksX3_smallestWith_0 20 rfl rfl)
theorem dX3_smallestWith_21 : decode cX3_smallestWith 21 = .ok (.ixor, 1) := dk_130 (dk_at dksX3_smallestWith_0 21 rfl rfl)
theorem dX3_smallestWith_22 : decode cX3_smallestWith 22 = .ok (.iand, 1) := dk_126 (dk_at dksX3_smallestWith_0 22 rfl rfl)
theorem dX3_smallestWith_23 : decode cX3_smallestWith 23 = .ok (.ifCond .ne 7, 3) := dk_154 0 7 (dk_at dksX3_smallestWith_1 0 rfl rfl)
theorem dX3_smallestWith_26 : decode cX3_smallestWith 26 = .ok (.iconst 1, 1) := dk_4 (dk_at dksX3_smallestWith_1 3 rfl rfl)
theorem dX3_smallestWith_27 : decode cX3_smallestWith 27 = .ok (.goto 4, 3) := dk_167 0 4 (dk_at dksX3_smallestWith_1 4 rfl rfl)
theorem dX3_smallestWith_30 : decode cX3_smallestWith 30 = .ok (.iconst 0, 1) := dk_3 (dk_at dksX3_smallestWith_1 7 rfl rfl)
theorem dX3_smallestWith_31 : decode cX3_smallestWith 31 = .ok (.istore 4, 2) := dk_54 4 (dk_at dksX3_smallestWith_1 8 rfl rfl)
theorem dX3_smallestWith_33 : decode cX3_smallestWith 33 = .ok (.iload 4, 2) := dk_21 4 (dk_at dksX3_smallestWith_1 10 rfl rfl)
theorem dX3_smallestWith_35 : decode cX3_smallestWith 35 = .ok (.ifCond .eq 34, 3) := dk_153 0 34 (dk_at dksX3_smallestWith_1 12 rfl rfl)
theorem dX3_smallestWith_38 : decode cX3_smallestWith 38 = .ok (.iload_n 2, 1) := dk_28 (dk_at dksX3_smallestWith_1 15 rfl rfl)
theorem dX3_smallestWith_39 : decode cX3_smallestWith 39 = .ok (.bipush (-4), 2) := dk_16 252 (dk_at dksX3_smallestWith_1 16 rfl rfl)
theorem dX3_smallestWith_41 : decode cX3_smallestWith 41 = .ok (.if_icmp .eq 24, 3) := dk_159 0 24 (dk_at dksX3_smallestWith_1 18 rfl rfl)
theorem dX3_smallestWith_44 : decode cX3_smallestWith 44 = .ok (.aload_n 0, 1) := dk_42 (dk_at dksX3_smallestWith_1 21 rfl rfl)
theorem dX3_smallestWith_45 : decode cX3_smallestWith 45 = .ok (.getfield 29, 3) := dk_180 0 29 (dk_at dksX3_smallestWith_2 0 rfl rfl)
theorem dX3_smallestWith_48 : decode cX3_smallestWith 48 = .ok (.iload_n 3, 1) := dk_29 (dk_at dksX3_smallestWith_2 3 rfl rfl)
theorem dX3_smallestWith_49 : decode cX3_smallestWith 49 = .ok (.iaload, 1) := dk_46 (dk_at dksX3_smallestWith_2 4 rfl rfl)
theorem dX3_smallestWith_50 : decode cX3_smallestWith 50 = .ok (.invokestatic 99, 3) := dk_184 0 99 (dk_at dksX3_smallestWith_2 5 rfl rfl)
theorem dX3_smallestWith_53 : decode cX3_smallestWith 53 = .ok (.aload_n 0, 1) := dk_42 (dk_at dksX3_smallestWith_2 8 rfl rfl)
theorem dX3_smallestWith_54 : decode cX3_smallestWith 54 = .ok (.getfield 29, 3) := dk_180 0 29 (dk_at dksX3_smallestWith_2 9 rfl rfl)
theorem dX3_smallestWith_57 : decode cX3_smallestWith 57 = .ok (.iload_n 2, 1) := dk_28 (dk_at dksX3_smallestWith_2 12 rfl rfl)
theorem dX3_smallestWith_58 : decode cX3_smallestWith 58 = .ok (.iaload, 1) := dk_46 (dk_at dksX3_smallestWith_2 13 rfl rfl)
theorem dX3_smallestWith_59 : decode cX3_smallestWith 59 = .ok (.invokestatic 99, 3) := dk_184 0 99 (dk_at dksX3_smallestWith_2 14 rfl rfl)
theorem dX3_smallestWith_62 : decode cX3_smallestWith 62 = .ok (.if_icmp .ge 7, 3) := dk_162 0 7 (dk_at dksX3_smallestWith_2 17 rfl rfl)
theorem dX3_smallestWith_65 : decode cX3_smallestWith 65 = .ok (.iload_n 3, 1) := dk_29 (dk_at dksX3_smallestWith_2 20 rfl rfl)
theorem dX3_smallestWith_66 : decode cX3_smallestWith 66 = .ok (.goto 4, 3) := dk_167 0 4 (dk_at dksX3_smallestWith_2 21 rfl rfl)
theorem dX3_smallestWith_69 : decode cX3_smallestWith 69 = .ok (.iload_n 2, 1) := dk_28 (dk_at dksX3_smallestWith_3 0 rfl rfl)
theorem dX3_smallestWith_70 : decode cX3_smallestWith 70 = .ok (.istore_n 2, 1) := dk_61 (dk_at dksX3_smallestWith_3 1 rfl rfl)
theorem dX3_smallestWith_71 : decode cX3_smallestWith 71 = .ok (.iinc 3 1, 3) := dk_132 3 1 (dk_at dksX3_smallestWith_3 2 rfl rfl)
theorem dX3_smallestWith_74 : decode cX3_smallestWith 74 = .ok (.goto (-69), 3) := dk_167 255 187 (dk_at dksX3_smallestWith_3 5 rfl rfl)
theorem dX3_smallestWith_77 : decode cX3_smallestWith 77 = .ok (.iload_n 2, 1) := dk_28 (dk_at dksX3_smallestWith_3 8 rfl rfl)
theorem dX3_smallestWith_78 : decode cX3_smallestWith 78 = .ok (.ireturn, 1) := dk_172 (dk_at dksX3_smallestWith_3 9 rfl rfl)
abbrev cX3_quotient : ByteArray := prog_18_method_45_code
def yX3_quotient : MethodName := ⟨RX3, "quotient", "(III)I"⟩
def dkwX3_quotient_2 : List UInt8 := [42, 27, 28, 182, 0, 187, 42, 27, 29, 182, 0, 187, 182, 0, 154, 153, 0, 7, 4, 167, 0, 4, 3, 172]
abbrev dktX3_quotient_2 : List UInt8 := dkwX3_quotient_2 ++ []
def dkwX3_quotient_1 : List UInt8 := [184, 0, 87, 153, 0, 18, 29, 3, 42, 27, 182, 0, 157, 4, 100, 184, 0, 87, 154, 0, 5, 2, 172, 42]
abbrev dktX3_quotient_1 : List UInt8 := dkwX3_quotient_1 ++ dktX3_quotient_2
def dkwX3_quotient_0 : List UInt8 := [42, 27, 182, 0, 184, 153, 0, 38, 28, 29, 159, 0, 33, 28, 3, 42, 27, 182, 0, 157, 4, 100]
abbrev dktX3_quotient_0 : List UInt8 := dkwX3_quotient_0 ++ dktX3_quotient_1
theorem dksX3_quotient_0 : cX3_quotient.data.toList.drop 0 = dktX3_quotient_0 := by decide +kernel
theorem dksX3_quotient_1 : cX3_quotient.data.toList.drop 22 = dktX3_quotient_1 := dk_seg dksX3_quotient_0 22 rfl rfl
theorem dksX3_quotient_2 : cX3_quotient.data.toList.drop 46 = dktX3_quotient_2 := dk_seg dksX3_quotient_1 24 rfl rfl
theorem dX3_quotient_0 : decode cX3_quotient 0 = .ok (.aload_n 0, 1) := dk_42 (dk_at dksX3_quotient_0 0 rfl rfl)
theorem dX3_quotient_1 : decode cX3_quotient 1 = .ok (.iload_n 1, 1) := dk_27 (dk_at dksX3_quotient_0 1 rfl rfl)
theorem dX3_quotient_2 : decode cX3_quotient 2 = .ok (.invokevirtual 184, 3) := dk_182 0 184 (dk_at dksX3_quotient_0 2 rfl rfl)
theorem dX3_quotient_5 : decode cX3_quotient 5 = .ok (.ifCond .eq 38, 3) := dk_153 0 38 (dk_at dksX3_quotient_0 5 rfl rfl)
theorem dX3_quotient_8 : decode cX3_quotient 8 = .ok (.iload_n 2, 1) := dk_28 (dk_at dksX3_quotient_0 8 rfl rfl)
theorem dX3_quotient_9 : decode cX3_quotient 9 = .ok (.iload_n 3, 1) := dk_29 (dk_at dksX3_quotient_0 9 rfl rfl)
theorem dX3_quotient_10 : decode cX3_quotient 10 = .ok (.if_icmp .eq 33, 3) := dk_159 0 33 (dk_at dksX3_quotient_0 10 rfl rfl)
theorem dX3_quotient_13 : decode cX3_quotient 13 = .ok (.iload_n 2, 1) := dk_28 (dk_at dksX3_quotient_0 13 rfl rfl)
theorem dX3_quotient_14 : decode cX3_quotient 14 = .ok (.iconst 0, 1) := dk_3 (dk_at dksX3_quotient_0 14 rfl rfl)
theorem dX3_quotient_15 : decode cX3_quotient 15 = .ok (.aload_n 0, 1) := dk_42 (dk_at dksX3_quotient_0 15 rfl rfl)
theorem dX3_quotient_16 : decode cX3_quotient 16 = .ok (.iload_n 1, 1) := dk_27 (dk_at dksX3_quotient_0 16 rfl rfl)
theorem dX3_quotient_17 : decode cX3_quotient 17 = .ok (.invokevirtual 157, 3) := dk_182 0 157 (dk_at dksX3_quotient_0 17 rfl rfl)
theorem dX3_quotient_20 : decode cX3_quotient 20 = .ok (.iconst 1, 1) := dk_4 (dk_at dksX3_quotient_0 20 rfl rfl)
theorem dX3_quotient_21 : decode cX3_quotient 21 = .ok (.isub, 1) := dk_100 (dk_at dksX3_quotient_0 21 rfl rfl)
theorem dX3_quotient_22 : decode cX3_quotient 22 = .ok (.invokestatic 87, 3) := dk_184 0 87 (dk_at dksX3_quotient_1 0 rfl rfl)
theorem dX3_quotient_25 : decode cX3_quotient 25 = .ok (.ifCond .eq 18, 3) := dk_153 0 18 (dk_at dksX3_quotient_1 3 rfl rfl)
theorem dX3_quotient_28 : decode cX3_quotient 28 = .ok (.iload_n 3, 1) := dk_29 (dk_at dksX3_quotient_1 6 rfl rfl)
theorem dX3_quotient_29 : decode cX3_quotient 29 = .ok (.iconst 0, 1) := dk_3 (dk_at dksX3_quotient_1 7 rfl rfl)
theorem dX3_quotient_30 : decode cX3_quotient 30 = .ok (.aload_n 0, 1) := dk_42 (dk_at dksX3_quotient_1 8 rfl rfl)
theorem dX3_quotient_31 : decode cX3_quotient 31 = .ok (.iload_n 1, 1) := dk_27 (dk_at dksX3_quotient_1 9 rfl rfl)
theorem dX3_quotient_32 : decode cX3_quotient 32 = .ok (.invokevirtual 157, 3) := dk_182 0 157 (dk_at dksX3_quotient_1 10 rfl rfl)
theorem dX3_quotient_35 : decode cX3_quotient 35 = .ok (.iconst 1, 1) := dk_4 (dk_at dksX3_quotient_1 13 rfl rfl)
theorem dX3_quotient_36 : decode cX3_quotient 36 = .ok (.isub, 1) := dk_100 (dk_at dksX3_quotient_1 14 rfl rfl)
theorem dX3_quotient_37 : decode cX3_quotient 37 = .ok (.invokestatic 87, 3) := dk_184 0 87 (dk_at dksX3_quotient_1 15 rfl rfl)
theorem dX3_quotient_40 : decode cX3_quotient 40 = .ok (.ifCond .ne 5, 3) := dk_154 0 5 (dk_at dksX3_quotient_1 18 rfl rfl)
theorem dX3_quotient_43 : decode cX3_quotient 43 = .ok (.iconst (-1), 1) := dk_2 (dk_at dksX3_quotient_1 21 rfl rfl)
theorem dX3_quotient_44 : decode cX3_quotient 44 = .ok (.ireturn, 1) := dk_172 (dk_at dksX3_quotient_1 22 rfl rfl)
theorem dX3_quotient_45 : decode cX3_quotient 45 = .ok (.aload_n 0, 1) := dk_42 (dk_at dksX3_quotient_1 23 rfl rfl)
theorem dX3_quotient_46 : decode cX3_quotient 46 = .ok (.aload_n 0, 1) := dk_42 (dk_at dksX3_quotient_2 0 rfl rfl)
theorem dX3_quotient_47 : decode cX3_quotient 47 = .ok (.iload_n 1, 1) := dk_27 (dk_at dksX3_quotient_2 1 rfl rfl)
theorem dX3_quotient_48 : decode cX3_quotient 48 = .ok (.iload_n 2, 1) := dk_28 (dk_at dksX3_quotient_2 2 rfl rfl)
theorem dX3_quotient_49 : decode cX3_quotient 49 = .ok (.invokevirtual 187, 3) := dk_182 0 187 (dk_at dksX3_quotient_2 3 rfl rfl)
theorem dX3_quotient_52 : decode cX3_quotient 52 = .ok (.aload_n 0, 1) := dk_42 (dk_at dksX3_quotient_2 6 rfl rfl)
theorem dX3_quotient_53 : decode cX3_quotient 53 = .ok (.iload_n 1, 1) := dk_27 (dk_at dksX3_quotient_2 7 rfl rfl)
theorem dX3_quotient_54 : decode cX3_quotient 54 = .ok (.iload_n 3, 1) := dk_29 (dk_at dksX3_quotient_2 8 rfl rfl)
theorem dX3_quotient_55 : decode cX3_quotient 55 = .ok (.invokevirtual 187, 3) := dk_182 0 187 (dk_at dksX3_quotient_2 9 rfl rfl)
theorem dX3_quotient_58 : decode cX3_quotient 58 = .ok (.invokevirtual 154, 3) := dk_182 0 154 (dk_at dksX3_quotient_2 12 rfl rfl)
theorem dX3_quotient_61 : decode cX3_quotient 61 = .ok (.ifCond .eq 7, 3) := dk_153 0 7 (dk_at dksX3_quotient_2 15 rfl rfl)
theorem dX3_quotient_64 : decode cX3_quotient 64 = .ok (.iconst 1, 1) := dk_4 (dk_at dksX3_quotient_2 18 rfl rfl)
theorem dX3_quotient_65 : decode cX3_quotient 65 = .ok (.goto 4, 3) := dk_167 0 4 (dk_at dksX3_quotient_2 19 rfl rfl)
theorem dX3_quotient_68 : decode cX3_quotient 68 = .ok (.iconst 0, 1) := dk_3 (dk_at dksX3_quotient_2 22 rfl rfl)
theorem dX3_quotient_69 : decode cX3_quotient 69 = .ok (.ireturn, 1) := dk_172 (dk_at dksX3_quotient_2 23 rfl rfl)
abbrev cX3_pathOfFour : ByteArray := prog_18_method_47_code
def yX3_pathOfFour : MethodName := ⟨RX3, "pathOfFour", "(I)I"⟩
def dkwX3_pathOfFour_5 : List UInt8 := [172]
abbrev dktX3_pathOfFour_5 : List UInt8 := dkwX3_pathOfFour_5 ++ []
def dkwX3_pathOfFour_4 : List UInt8 := [167, 0, 15, 27, 5, 160, 0, 8, 21, 6, 167, 0, 5, 21, 7, 172, 132, 3, 1, 167, 255, 165, 16, 252]
abbrev dktX3_pathOfFour_4 : List UInt8 := dkwX3_pathOfFour_4 ++ dktX3_pathOfFour_5
def dkwX3_pathOfFour_3 : List UInt8 := [182, 0, 194, 153, 0, 35, 27, 154, 0, 8, 21, 4, 167, 0, 25, 27, 4, 160, 0, 8, 21, 5]
abbrev dktX3_pathOfFour_3 : List UInt8 := dkwX3_pathOfFour_3 ++ dktX3_pathOfFour_4
def dkwX3_pathOfFour_2 : List UInt8 := [54, 5, 29, 28, 108, 28, 112, 54, 6, 29, 28, 112, 54, 7, 42, 21, 4, 21, 5, 21, 6, 21, 7]
abbrev dktX3_pathOfFour_2 : List UInt8 := dkwX3_pathOfFour_2 ++ dktX3_pathOfFour_3
def dkwX3_pathOfFour_1 : List UInt8 := [28, 104, 28, 104, 162, 0, 86, 29, 28, 28, 104, 28, 104, 108, 54, 4, 29, 28, 28, 104, 108, 28, 112]
abbrev dktX3_pathOfFour_1 : List UInt8 := dkwX3_pathOfFour_1 ++ dktX3_pathOfFour_2
def dkwX3_pathOfFour_0 : List UInt8 := [27, 3, 6, 184, 0, 87, 154, 0, 5, 2, 172, 42, 180, 0, 7, 3, 46, 61, 3, 62, 29, 28, 28, 104]
abbrev dktX3_pathOfFour_0 : List UInt8 := dkwX3_pathOfFour_0 ++ dktX3_pathOfFour_1
theorem dksX3_pathOfFour_0 : cX3_pathOfFour.data.toList.drop 0 = dktX3_pathOfFour_0 := by decide +kernel
theorem dksX3_pathOfFour_1 : cX3_pathOfFour.data.toList.drop 24 = dktX3_pathOfFour_1 := dk_seg dksX3_pathOfFour_0 24 rfl rfl
theorem dksX3_pathOfFour_2 : cX3_pathOfFour.data.toList.drop 47 = dktX3_pathOfFour_2 := dk_seg dksX3_pathOfFour_1 23 rfl rfl
theorem dksX3_pathOfFour_3 : cX3_pathOfFour.data.toList.drop 70 = dktX3_pathOfFour_3 := dk_seg dksX3_pathOfFour_2 23 rfl rfl
theorem dksX3_pathOfFour_4 : cX3_pathOfFour.data.toList.drop 92 = dktX3_pathOfFour_4 := dk_seg dksX3_pathOfFour_3 22 rfl rfl
theorem dksX3_pathOfFour_5 : cX3_pathOfFour.data.toList.drop 116 = dktX3_pathOfFour_5 := dk_seg dksX3_pathOfFour_4 24 rfl rfl
theorem dX3_pathOfFour_0 : decode cX3_pathOfFour 0 = .ok (.iload_n 1, 1) := dk_27 (dk_at dksX3_pathOfFour_0 0 rfl rfl)
theorem dX3_pathOfFour_1 : decode cX3_pathOfFour 1 = .ok (.iconst 0, 1) := dk_3 (dk_at dksX3_pathOfFour_0 1 rfl rfl)
theorem dX3_pathOfFour_2 : decode cX3_pathOfFour 2 = .ok (.iconst 3, 1) := dk_6 (dk_at dksX3_pathOfFour_0 2 rfl rfl)
theorem dX3_pathOfFour_3 : decode cX3_pathOfFour 3 = .ok (.invokestatic 87, 3) := dk_184 0 87 (dk_at dksX3_pathOfFour_0 3 rfl rfl)
theorem dX3_pathOfFour_6 : decode cX3_pathOfFour 6 = .ok (.ifCond .ne 5, 3) := dk_154 0 5 (dk_at dksX3_pathOfFour_0 6 rfl rfl)
theorem dX3_pathOfFour_9 : decode cX3_pathOfFour 9 = .ok (.iconst (-1), 1) := dk_2 (dk_at dksX3_pathOfFour_0 9 rfl rfl)
theorem dX3_pathOfFour_10 : decode cX3_pathOfFour 10 = .ok (.ireturn, 1) := dk_172 (dk_at dksX3_pathOfFour_0 10 rfl rfl)
theorem dX3_pathOfFour_11 : decode cX3_pathOfFour 11 = .ok (.aload_n 0, 1) := dk_42 (dk_at dksX3_pathOfFour_0 11 rfl rfl)
theorem dX3_pathOfFour_12 : decode cX3_pathOfFour 12 = .ok (.getfield 7, 3) := dk_180 0 7 (dk_at dksX3_pathOfFour_0 12 rfl rfl)
theorem dX3_pathOfFour_15 : decode cX3_pathOfFour 15 = .ok (.iconst 0, 1) := dk_3 (dk_at dksX3_pathOfFour_0 15 rfl rfl)
theorem dX3_pathOfFour_16 : decode cX3_pathOfFour 16 = .ok (.iaload, 1) := dk_46 (dk_at dksX3_pathOfFour_0 16 rfl rfl)
theorem dX3_pathOfFour_17 : decode cX3_pathOfFour 17 = .ok (.istore_n 2, 1) := dk_61 (dk_at dksX3_pathOfFour_0 17 rfl rfl)
theorem dX3_pathOfFour_18 : decode cX3_pathOfFour 18 = .ok (.iconst 0, 1) := dk_3 (dk_at dksX3_pathOfFour_0 18 rfl rfl)
theorem dX3_pathOfFour_19 : decode cX3_pathOfFour 19 = .ok (.istore_n 3, 1) := dk_62 (dk_at dksX3_pathOfFour_0 19 rfl rfl)
theorem dX3_pathOfFour_20 : decode cX3_pathOfFour 20 = .ok (.iload_n 3, 1) := dk_29 (dk_at dksX3_pathOfFour_0 20 rfl rfl)
theorem dX3_pathOfFour_21 : decode cX3_pathOfFour 21 = .ok (.iload_n 2, 1) := dk_28 (dk_at dksX3_pathOfFour_0 21 rfl rfl)
theorem dX3_pathOfFour_22 : decode cX3_pathOfFour 22 = .ok (.iload_n 2, 1) := dk_28 (dk_at dksX3_pathOfFour_0 22 rfl rfl)
theorem dX3_pathOfFour_23 : decode cX3_pathOfFour 23 = .ok (.imul, 1) := dk_104 (dk_at dksX3_pathOfFour_0 23 rfl rfl)
theorem dX3_pathOfFour_24 : decode cX3_pathOfFour 24 = .ok (.iload_n 2, 1) := dk_28 (dk_at dksX3_pathOfFour_1 0 rfl rfl)
theorem dX3_pathOfFour_25 : decode cX3_pathOfFour 25 = .ok (.imul, 1) := dk_104 (dk_at dksX3_pathOfFour_1 1 rfl rfl)
theorem dX3_pathOfFour_26 : decode cX3_pathOfFour 26 = .ok (.iload_n 2, 1) := dk_28 (dk_at dksX3_pathOfFour_1 2 rfl rfl)
theorem dX3_pathOfFour_27 : decode cX3_pathOfFour 27 = .ok (.imul, 1) := dk_104 (dk_at dksX3_pathOfFour_1 3 rfl rfl)
theorem dX3_pathOfFour_28 : decode cX3_pathOfFour 28 = .ok (.if_icmp .ge 86, 3) := dk_162 0 86 (dk_at dksX3_pathOfFour_1 4 rfl rfl)
theorem dX3_pathOfFour_31 : decode cX3_pathOfFour 31 = .ok (.iload_n 3, 1) := dk_29 (dk_at dksX3_pathOfFour_1 7 rfl rfl)
theorem dX3_pathOfFour_32 : decode cX3_pathOfFour 32 = .ok (.iload_n 2, 1) := dk_28 (dk_at dksX3_pathOfFour_1 8 rfl rfl)
theorem dX3_pathOfFour_33 : decode cX3_pathOfFour 33 = .ok (.iload_n 2, 1) := dk_28 (dk_at dksX3_pathOfFour_1 9 rfl rfl)
theorem dX3_pathOfFour_34 : decode cX3_pathOfFour 34 = .ok (.imul, 1) := dk_104 (dk_at dksX3_pathOfFour_1 10 rfl rfl)
theorem dX3_pathOfFour_35 : decode cX3_pathOfFour 35 = .ok (.iload_n 2, 1) := dk_28 (dk_at dksX3_pathOfFour_1 11 rfl rfl)
theorem dX3_pathOfFour_36 : decode cX3_pathOfFour 36 = .ok (.imul, 1) := dk_104 (dk_at dksX3_pathOfFour_1 12 rfl rfl)
theorem dX3_pathOfFour_37 : decode cX3_pathOfFour 37 = .ok (.idiv, 1) := dk_108 (dk_at dksX3_pathOfFour_1 13 rfl rfl)
theorem dX3_pathOfFour_38 : decode cX3_pathOfFour 38 = .ok (.istore 4, 2) := dk_54 4 (dk_at dksX3_pathOfFour_1 14 rfl rfl)
theorem dX3_pathOfFour_40 : decode cX3_pathOfFour 40 = .ok (.iload_n 3, 1) := dk_29 (dk_at dksX3_pathOfFour_1 16 rfl rfl)
theorem dX3_pathOfFour_41 : decode cX3_pathOfFour 41 = .ok (.iload_n 2, 1) := dk_28 (dk_at dksX3_pathOfFour_1 17 rfl rfl)
theorem dX3_pathOfFour_42 : decode cX3_pathOfFour 42 = .ok (.iload_n 2, 1) := dk_28 (dk_at dksX3_pathOfFour_1 18 rfl rfl)
theorem dX3_pathOfFour_43 : decode cX3_pathOfFour 43 = .ok (.imul, 1) := dk_104 (dk_at dksX3_pathOfFour_1 19 rfl rfl)
theorem dX3_pathOfFour_44 : decode cX3_pathOfFour 44 = .ok (.idiv, 1) := dk_108 (dk_at dksX3_pathOfFour_1 20 rfl rfl)
theorem dX3_pathOfFour_45 : decode cX3_pathOfFour 45 = .ok (.iload_n 2, 1) := dk_28 (dk_at dksX3_pathOfFour_1 21 rfl rfl)
theorem dX3_pathOfFour_46 : decode cX3_pathOfFour 46 = .ok (.irem, 1) := dk_112 (dk_at dksX3_pathOfFour_1 22 rfl rfl)
theorem dX3_pathOfFour_47 : decode cX3_pathOfFour 47 = .ok (.istore 5, 2) := dk_54 5 (dk_at dksX3_pathOfFour_2 0 rfl rfl)
theorem dX3_pathOfFour_49 : decode cX3_pathOfFour 49 = .ok (.iload_n 3, 1) := dk_29 (dk_at dksX3_pathOfFour_2 2 rfl rfl)
theorem dX3_pathOfFour_50 : decode cX3_pathOfFour 50 = .ok (.iload_n 2, 1) := dk_28 (dk_at dksX3_pathOfFour_2 3 rfl rfl)
theorem dX3_pathOfFour_51 : decode cX3_pathOfFour 51 = .ok (.idiv, 1) := dk_108 (dk_at dksX3_pathOfFour_2 4 rfl rfl)
theorem dX3_pathOfFour_52 : decode cX3_pathOfFour 52 = .ok (.iload_n 2, 1) := dk_28 (dk_at dksX3_pathOfFour_2 5 rfl rfl)
theorem dX3_pathOfFour_53 : decode cX3_pathOfFour 53 = .ok (.irem, 1) := dk_112 (dk_at dksX3_pathOfFour_2 6 rfl rfl)
theorem dX3_pathOfFour_54 : decode cX3_pathOfFour 54 = .ok (.istore 6, 2) := dk_54 6 (dk_at dksX3_pathOfFour_2 7 rfl rfl)
theorem dX3_pathOfFour_56 : decode cX3_pathOfFour 56 = .ok (.iload_n 3, 1) := dk_29 (dk_at dksX3_pathOfFour_2 9 rfl rfl)
theorem dX3_pathOfFour_57 : decode cX3_pathOfFour 57 = .ok (.iload_n 2, 1) := dk_28 (dk_at dksX3_pathOfFour_2 10 rfl rfl)
theorem dX3_pathOfFour_58 : decode cX3_pathOfFour 58 = .ok (.irem, 1) := dk_112 (dk_at dksX3_pathOfFour_2 11 rfl rfl)
theorem dX3_pathOfFour_59 : decode cX3_pathOfFour 59 = .ok (.istore 7, 2) := dk_54 7 (dk_at dksX3_pathOfFour_2 12 rfl rfl)
theorem dX3_pathOfFour_61 : decode cX3_pathOfFour 61 = .ok (.aload_n 0, 1) := dk_42 (dk_at dksX3_pathOfFour_2 14 rfl rfl)
theorem dX3_pathOfFour_62 : decode cX3_pathOfFour 62 = .ok (.iload 4, 2) := dk_21 4 (dk_at dksX3_pathOfFour_2 15 rfl rfl)
theorem dX3_pathOfFour_64 : decode cX3_pathOfFour 64 = .ok (.iload 5, 2) := dk_21 5 (dk_at dksX3_pathOfFour_2 17 rfl rfl)
theorem dX3_pathOfFour_66 : decode cX3_pathOfFour 66 = .ok (.iload 6, 2) := dk_21 6 (dk_at dksX3_pathOfFour_2 19 rfl rfl)
theorem dX3_pathOfFour_68 : decode cX3_pathOfFour 68 = .ok (.iload 7, 2) := dk_21 7 (dk_at dksX3_pathOfFour_2 21 rfl rfl)
theorem dX3_pathOfFour_70 : decode cX3_pathOfFour 70 = .ok (.invokevirtual 194, 3) := dk_182 0 194 (dk_at dksX3_pathOfFour_3 0 rfl rfl)
theorem dX3_pathOfFour_73 : decode cX3_pathOfFour 73 = .ok (.ifCond .eq 35, 3) := dk_153 0 35 (dk_at dksX3_pathOfFour_3 3 rfl rfl)
theorem dX3_pathOfFour_76 : decode cX3_pathOfFour 76 = .ok (.iload_n 1, 1) := dk_27 (dk_at dksX3_pathOfFour_3 6 rfl rfl)
theorem dX3_pathOfFour_77 : decode cX3_pathOfFour 77 = .ok (.ifCond .ne 8, 3) := dk_154 0 8 (dk_at dksX3_pathOfFour_3 7 rfl rfl)
theorem dX3_pathOfFour_80 : decode cX3_pathOfFour 80 = .ok (.iload 4, 2) := dk_21 4 (dk_at dksX3_pathOfFour_3 10 rfl rfl)
theorem dX3_pathOfFour_82 : decode cX3_pathOfFour 82 = .ok (.goto 25, 3) := dk_167 0 25 (dk_at dksX3_pathOfFour_3 12 rfl rfl)
theorem dX3_pathOfFour_85 : decode cX3_pathOfFour 85 = .ok (.iload_n 1, 1) := dk_27 (dk_at dksX3_pathOfFour_3 15 rfl rfl)
theorem dX3_pathOfFour_86 : decode cX3_pathOfFour 86 = .ok (.iconst 1, 1) := dk_4 (dk_at dksX3_pathOfFour_3 16 rfl rfl)
theorem dX3_pathOfFour_87 : decode cX3_pathOfFour 87 = .ok (.if_icmp .ne 8, 3) := dk_160 0 8 (dk_at dksX3_pathOfFour_3 17 rfl rfl)
theorem dX3_pathOfFour_90 : decode cX3_pathOfFour 90 = .ok (.iload 5, 2) := dk_21 5 (dk_at dksX3_pathOfFour_3 20 rfl rfl)
theorem dX3_pathOfFour_92 : decode cX3_pathOfFour 92 = .ok (.goto 15, 3) := dk_167 0 15 (dk_at dksX3_pathOfFour_4 0 rfl rfl)
theorem dX3_pathOfFour_95 : decode cX3_pathOfFour 95 = .ok (.iload_n 1, 1) := dk_27 (dk_at dksX3_pathOfFour_4 3 rfl rfl)
theorem dX3_pathOfFour_96 : decode cX3_pathOfFour 96 = .ok (.iconst 2, 1) := dk_5 (dk_at dksX3_pathOfFour_4 4 rfl rfl)
theorem dX3_pathOfFour_97 : decode cX3_pathOfFour 97 = .ok (.if_icmp .ne 8, 3) := dk_160 0 8 (dk_at dksX3_pathOfFour_4 5 rfl rfl)
theorem dX3_pathOfFour_100 : decode cX3_pathOfFour 100 = .ok (.iload 6, 2) := dk_21 6 (dk_at dksX3_pathOfFour_4 8 rfl rfl)
theorem dX3_pathOfFour_102 : decode cX3_pathOfFour 102 = .ok (.goto 5, 3) := dk_167 0 5 (dk_at dksX3_pathOfFour_4 10 rfl rfl)
theorem dX3_pathOfFour_105 : decode cX3_pathOfFour 105 = .ok (.iload 7, 2) := dk_21 7 (dk_at dksX3_pathOfFour_4 13 rfl rfl)
theorem dX3_pathOfFour_107 : decode cX3_pathOfFour 107 = .ok (.ireturn, 1) := dk_172 (dk_at dksX3_pathOfFour_4 15 rfl rfl)
theorem dX3_pathOfFour_108 : decode cX3_pathOfFour 108 = .ok (.iinc 3 1, 3) := dk_132 3 1 (dk_at dksX3_pathOfFour_4 16 rfl rfl)
theorem dX3_pathOfFour_111 : decode cX3_pathOfFour 111 = .ok (.goto (-91), 3) := dk_167 255 165 (dk_at dksX3_pathOfFour_4 19 rfl rfl)
theorem dX3_pathOfFour_114 : decode cX3_pathOfFour 114 = .ok (.bipush (-4), 2) := dk_16 252 (dk_at dksX3_pathOfFour_4 22 rfl rfl)
theorem dX3_pathOfFour_116 : decode cX3_pathOfFour 116 = .ok (.ireturn, 1) := dk_172 (dk_at dksX3_pathOfFour_5 0 rfl rfl)
abbrev cX3_isPath : ByteArray := prog_18_method_46_code
def yX3_isPath : MethodName := ⟨RX3, "isPath", "(IIII)Z"⟩
def dkwX3_isPath_4 : List UInt8 := [21, 4, 182, 0, 126, 154, 0, 7, 4, 167, 0, 4, 3, 172]
abbrev dktX3_isPath_4 : List UInt8 := dkwX3_isPath_4 ++ []
def dkwX3_isPath_3 : List UInt8 := [153, 0, 36, 42, 27, 29, 182, 0, 126, 154, 0, 27, 42, 27, 21, 4, 182, 0, 126, 154, 0, 17, 42, 28]
abbrev dktX3_isPath_3 : List UInt8 := dkwX3_isPath_3 ++ dktX3_isPath_4
def dkwX3_isPath_2 : List UInt8 := [182, 0, 126, 153, 0, 55, 42, 28, 29, 182, 0, 126, 153, 0, 46, 42, 29, 21, 4, 182, 0, 126]
abbrev dktX3_isPath_2 : List UInt8 := dkwX3_isPath_2 ++ dktX3_isPath_3
def dkwX3_isPath_1 : List UInt8 := [159, 0, 13, 29, 21, 4, 159, 0, 7, 4, 167, 0, 4, 3, 54, 5, 21, 5, 153, 0, 64, 42, 27, 28]
abbrev dktX3_isPath_1 : List UInt8 := dkwX3_isPath_1 ++ dktX3_isPath_2
def dkwX3_isPath_0 : List UInt8 := [27, 21, 4, 162, 0, 34, 27, 28, 159, 0, 29, 27, 29, 159, 0, 24, 28, 29, 159, 0, 19, 28, 21, 4]
abbrev dktX3_isPath_0 : List UInt8 := dkwX3_isPath_0 ++ dktX3_isPath_1
theorem dksX3_isPath_0 : cX3_isPath.data.toList.drop 0 = dktX3_isPath_0 := by decide +kernel
theorem dksX3_isPath_1 : cX3_isPath.data.toList.drop 24 = dktX3_isPath_1 := dk_seg dksX3_isPath_0 24 rfl rfl
theorem dksX3_isPath_2 : cX3_isPath.data.toList.drop 48 = dktX3_isPath_2 := dk_seg dksX3_isPath_1 24 rfl rfl
theorem dksX3_isPath_3 : cX3_isPath.data.toList.drop 70 = dktX3_isPath_3 := dk_seg dksX3_isPath_2 22 rfl rfl
theorem dksX3_isPath_4 : cX3_isPath.data.toList.drop 94 = dktX3_isPath_4 := dk_seg dksX3_isPath_3 24 rfl rfl
theorem dX3_isPath_0 : decode cX3_isPath 0 = .ok (.iload_n 1, 1) := dk_27 (dk_at dksX3_isPath_0 0 rfl rfl)
theorem dX3_isPath_1 : decode cX3_isPath 1 = .ok (.iload 4, 2) := dk_21 4 (dk_at dksX3_isPath_0 1 rfl rfl)
theorem dX3_isPath_3 : decode cX3_isPath 3 = .ok (.if_icmp .ge 34, 3) := dk_162 0 34 (dk_at dksX3_isPath_0 3 rfl rfl)
theorem dX3_isPath_6 : decode cX3_isPath 6 = .ok (.iload_n 1, 1) := dk_27 (dk_at dksX3_isPath_0 6 rfl rfl)
theorem dX3_isPath_7 : decode cX3_isPath 7 = .ok (.iload_n 2, 1) := dk_28 (dk_at dksX3_isPath_0 7 rfl rfl)
theorem dX3_isPath_8 : decode cX3_isPath 8 = .ok (.if_icmp .eq 29, 3) := dk_159 0 29 (dk_at dksX3_isPath_0 8 rfl rfl)
theorem dX3_isPath_11 : decode cX3_isPath 11 = .ok (.iload_n 1, 1) := dk_27 (dk_at dksX3_isPath_0 11 rfl rfl)
theorem dX3_isPath_12 : decode cX3_isPath 12 = .ok (.iload_n 3, 1) := dk_29 (dk_at dksX3_isPath_0 12 rfl rfl)
theorem dX3_isPath_13 : decode cX3_isPath 13 = .ok (.if_icmp .eq 24, 3) := dk_159 0 24 (dk_at dksX3_isPath_0 13 rfl rfl)
theorem dX3_isPath_16 : decode cX3_isPath 16 = .ok (.iload_n 2, 1) := dk_28 (dk_at dksX3_isPath_0 16 rfl rfl)
theorem dX3_isPath_17 : decode cX3_isPath 17 = .ok (.iload_n 3, 1) := dk_29 (dk_at dksX3_isPath_0 17 rfl rfl)
theorem dX3_isPath_18 : decode cX3_isPath 18 = .ok (.if_icmp .eq 19, 3) := dk_159 0 19 (dk_at dksX3_isPath_0 18 rfl rfl)
theorem dX3_isPath_21 : decode cX3_isPath 21 = .ok (.iload_n 2, 1) := dk_28 (dk_at dksX3_isPath_0 21 rfl rfl)
theorem dX3_isPath_22 : decode cX3_isPath 22 = .ok (.iload 4, 2) := dk_21 4 (dk_at dksX3_isPath_0 22 rfl rfl)
theorem dX3_isPath_24 : decode cX3_isPath 24 = .ok (.if_icmp .eq 13, 3) := dk_159 0 13 (dk_at dksX3_isPath_1 0 rfl rfl)
theorem dX3_isPath_27 : decode cX3_isPath 27 = .ok (.iload_n 3, 1) := dk_29 (dk_at dksX3_isPath_1 3 rfl rfl)
theorem dX3_isPath_28 : decode cX3_isPath 28 = .ok (.iload 4, 2) := dk_21 4 (dk_at dksX3_isPath_1 4 rfl rfl)
theorem dX3_isPath_30 : decode cX3_isPath 30 = .ok (.if_icmp .eq 7, 3) := dk_159 0 7 (dk_at dksX3_isPath_1 6 rfl rfl)
theorem dX3_isPath_33 : decode cX3_isPath 33 = .ok (.iconst 1, 1) := dk_4 (dk_at dksX3_isPath_1 9 rfl rfl)
theorem dX3_isPath_34 : decode cX3_isPath 34 = .ok (.goto 4, 3) := dk_167 0 4 (dk_at dksX3_isPath_1 10 rfl rfl)
theorem dX3_isPath_37 : decode cX3_isPath 37 = .ok (.iconst 0, 1) := dk_3 (dk_at dksX3_isPath_1 13 rfl rfl)
theorem dX3_isPath_38 : decode cX3_isPath 38 = .ok (.istore 5, 2) := dk_54 5 (dk_at dksX3_isPath_1 14 rfl rfl)
theorem dX3_isPath_40 : decode cX3_isPath 40 = .ok (.iload 5, 2) := dk_21 5 (dk_at dksX3_isPath_1 16 rfl rfl)
theorem dX3_isPath_42 : decode cX3_isPath 42 = .ok (.ifCond .eq 64, 3) := dk_153 0 64 (dk_at dksX3_isPath_1 18 rfl rfl)
theorem dX3_isPath_45 : decode cX3_isPath 45 = .ok (.aload_n 0, 1) := dk_42 (dk_at dksX3_isPath_1 21 rfl rfl)
theorem dX3_isPath_46 : decode cX3_isPath 46 = .ok (.iload_n 1, 1) := dk_27 (dk_at dksX3_isPath_1 22 rfl rfl)
theorem dX3_isPath_47 : decode cX3_isPath 47 = .ok (.iload_n 2, 1) := dk_28 (dk_at dksX3_isPath_1 23 rfl rfl)
theorem dX3_isPath_48 : decode cX3_isPath 48 = .ok (.invokevirtual 126, 3) := dk_182 0 126 (dk_at dksX3_isPath_2 0 rfl rfl)
theorem dX3_isPath_51 : decode cX3_isPath 51 = .ok (.ifCond .eq 55, 3) := dk_153 0 55 (dk_at dksX3_isPath_2 3 rfl rfl)
theorem dX3_isPath_54 : decode cX3_isPath 54 = .ok (.aload_n 0, 1) := dk_42 (dk_at dksX3_isPath_2 6 rfl rfl)
theorem dX3_isPath_55 : decode cX3_isPath 55 = .ok (.iload_n 2, 1) := dk_28 (dk_at dksX3_isPath_2 7 rfl rfl)
theorem dX3_isPath_56 : decode cX3_isPath 56 = .ok (.iload_n 3, 1) := dk_29 (dk_at dksX3_isPath_2 8 rfl rfl)
theorem dX3_isPath_57 : decode cX3_isPath 57 = .ok (.invokevirtual 126, 3) := dk_182 0 126 (dk_at dksX3_isPath_2 9 rfl rfl)
theorem dX3_isPath_60 : decode cX3_isPath 60 = .ok (.ifCond .eq 46, 3) := dk_153 0 46 (dk_at dksX3_isPath_2 12 rfl rfl)
theorem dX3_isPath_63 : decode cX3_isPath 63 = .ok (.aload_n 0, 1) := dk_42 (dk_at dksX3_isPath_2 15 rfl rfl)
theorem dX3_isPath_64 : decode cX3_isPath 64 = .ok (.iload_n 3, 1) := dk_29 (dk_at dksX3_isPath_2 16 rfl rfl)
theorem dX3_isPath_65 : decode cX3_isPath 65 = .ok (.iload 4, 2) := dk_21 4 (dk_at dksX3_isPath_2 17 rfl rfl)
theorem dX3_isPath_67 : decode cX3_isPath 67 = .ok (.invokevirtual 126, 3) := dk_182 0 126 (dk_at dksX3_isPath_2 19 rfl rfl)
theorem dX3_isPath_70 : decode cX3_isPath 70 = .ok (.ifCond .eq 36, 3) := dk_153 0 36 (dk_at dksX3_isPath_3 0 rfl rfl)
theorem dX3_isPath_73 : decode cX3_isPath 73 = .ok (.aload_n 0, 1) := dk_42 (dk_at dksX3_isPath_3 3 rfl rfl)
theorem dX3_isPath_74 : decode cX3_isPath 74 = .ok (.iload_n 1, 1) := dk_27 (dk_at dksX3_isPath_3 4 rfl rfl)
theorem dX3_isPath_75 : decode cX3_isPath 75 = .ok (.iload_n 3, 1) := dk_29 (dk_at dksX3_isPath_3 5 rfl rfl)
theorem dX3_isPath_76 : decode cX3_isPath 76 = .ok (.invokevirtual 126, 3) := dk_182 0 126 (dk_at dksX3_isPath_3 6 rfl rfl)
theorem dX3_isPath_79 : decode cX3_isPath 79 = .ok (.ifCond .ne 27, 3) := dk_154 0 27 (dk_at dksX3_isPath_3 9 rfl rfl)
theorem dX3_isPath_82 : decode cX3_isPath 82 = .ok (.aload_n 0, 1) := dk_42 (dk_at dksX3_isPath_3 12 rfl rfl)
theorem dX3_isPath_83 : decode cX3_isPath 83 = .ok (.iload_n 1, 1) := dk_27 (dk_at dksX3_isPath_3 13 rfl rfl)
theorem dX3_isPath_84 : decode cX3_isPath 84 = .ok (.iload 4, 2) := dk_21 4 (dk_at dksX3_isPath_3 14 rfl rfl)
theorem dX3_isPath_86 : decode cX3_isPath 86 = .ok (.invokevirtual 126, 3) := dk_182 0 126 (dk_at dksX3_isPath_3 16 rfl rfl)
theorem dX3_isPath_89 : decode cX3_isPath 89 = .ok (.ifCond .ne 17, 3) := dk_154 0 17 (dk_at dksX3_isPath_3 19 rfl rfl)
theorem dX3_isPath_92 : decode cX3_isPath 92 = .ok (.aload_n 0, 1) := dk_42 (dk_at dksX3_isPath_3 22 rfl rfl)
theorem dX3_isPath_93 : decode cX3_isPath 93 = .ok (.iload_n 2, 1) := dk_28 (dk_at dksX3_isPath_3 23 rfl rfl)
theorem dX3_isPath_94 : decode cX3_isPath 94 = .ok (.iload 4, 2) := dk_21 4 (dk_at dksX3_isPath_4 0 rfl rfl)
theorem dX3_isPath_96 : decode cX3_isPath 96 = .ok (.invokevirtual 126, 3) := dk_182 0 126 (dk_at dksX3_isPath_4 2 rfl rfl)
theorem dX3_isPath_99 : decode cX3_isPath 99 = .ok (.ifCond .ne 7, 3) := dk_154 0 7 (dk_at dksX3_isPath_4 5 rfl rfl)
theorem dX3_isPath_102 : decode cX3_isPath 102 = .ok (.iconst 1, 1) := dk_4 (dk_at dksX3_isPath_4 8 rfl rfl)
theorem dX3_isPath_103 : decode cX3_isPath 103 = .ok (.goto 4, 3) := dk_167 0 4 (dk_at dksX3_isPath_4 9 rfl rfl)
theorem dX3_isPath_106 : decode cX3_isPath 106 = .ok (.iconst 0, 1) := dk_3 (dk_at dksX3_isPath_4 12 rfl rfl)
theorem dX3_isPath_107 : decode cX3_isPath 107 = .ok (.ireturn, 1) := dk_172 (dk_at dksX3_isPath_4 13 rfl rfl)
abbrev cX3_parts : ByteArray := prog_18_method_49_code
def yX3_parts : MethodName := ⟨RX3, "parts", "(I)I"⟩
def dkwX3_parts_2 : List UInt8 := [167, 0, 4, 3, 96, 61, 132, 3, 1, 167, 255, 217, 28, 172]
abbrev dktX3_parts_2 : List UInt8 := dkwX3_parts_2 ++ []
def dkwX3_parts_1 : List UInt8 := [46, 162, 0, 35, 28, 29, 27, 159, 0, 20, 42, 27, 29, 182, 0, 198, 184, 0, 151, 29, 160, 0, 7, 4]
abbrev dktX3_parts_1 : List UInt8 := dkwX3_parts_1 ++ dktX3_parts_2
def dkwX3_parts_0 : List UInt8 := [42, 27, 182, 0, 122, 154, 0, 5, 2, 172, 42, 182, 0, 148, 3, 61, 3, 62, 29, 42, 180, 0, 7, 3]
abbrev dktX3_parts_0 : List UInt8 := dkwX3_parts_0 ++ dktX3_parts_1
theorem dksX3_parts_0 : cX3_parts.data.toList.drop 0 = dktX3_parts_0 := by decide +kernel
theorem dksX3_parts_1 : cX3_parts.data.toList.drop 24 = dktX3_parts_1 := dk_seg dksX3_parts_0 24 rfl rfl
theorem dksX3_parts_2 : cX3_parts.data.toList.drop 48 = dktX3_parts_2 := dk_seg dksX3_parts_1 24 rfl rfl
theorem dX3_parts_0 : decode cX3_parts 0 = .ok (.aload_n 0, 1) := dk_42 (dk_at dksX3_parts_0 0 rfl rfl)
theorem dX3_parts_1 : decode cX3_parts 1 = .ok (.iload_n 1, 1) := dk_27 (dk_at dksX3_parts_0 1 rfl rfl)
theorem dX3_parts_2 : decode cX3_parts 2 = .ok (.invokevirtual 122, 3) := dk_182 0 122 (dk_at dksX3_parts_0 2 rfl rfl)
theorem dX3_parts_5 : decode cX3_parts 5 = .ok (.ifCond .ne 5, 3) := dk_154 0 5 (dk_at dksX3_parts_0 5 rfl rfl)
theorem dX3_parts_8 : decode cX3_parts 8 = .ok (.iconst (-1), 1) := dk_2 (dk_at dksX3_parts_0 8 rfl rfl)
theorem dX3_parts_9 : decode cX3_parts 9 = .ok (.ireturn, 1) := dk_172 (dk_at dksX3_parts_0 9 rfl rfl)
theorem dX3_parts_10 : decode cX3_parts 10 = .ok (.aload_n 0, 1) := dk_42 (dk_at dksX3_parts_0 10 rfl rfl)
theorem dX3_parts_11 : decode cX3_parts 11 = .ok (.invokevirtual 148, 3) := dk_182 0 148 (dk_at dksX3_parts_0 11 rfl rfl)
theorem dX3_parts_14 : decode cX3_parts 14 = .ok (.iconst 0, 1) := dk_3 (dk_at dksX3_parts_0 14 rfl rfl)
theorem dX3_parts_15 : decode cX3_parts 15 = .ok (.istore_n 2, 1) := dk_61 (dk_at dksX3_parts_0 15 rfl rfl)
theorem dX3_parts_16 : decode cX3_parts 16 = .ok (.iconst 0, 1) := dk_3 (dk_at dksX3_parts_0 16 rfl rfl)
theorem dX3_parts_17 : decode cX3_parts 17 = .ok (.istore_n 3, 1) := dk_62 (dk_at dksX3_parts_0 17 rfl rfl)
theorem dX3_parts_18 : decode cX3_parts 18 = .ok (.iload_n 3, 1) := dk_29 (dk_at dksX3_parts_0 18 rfl rfl)
theorem dX3_parts_19 : decode cX3_parts 19 = .ok (.aload_n 0, 1) := dk_42 (dk_at dksX3_parts_0 19 rfl rfl)
theorem dX3_parts_20 : decode cX3_parts 20 = .ok (.getfield 7, 3) := dk_180 0 7 (dk_at dksX3_parts_0 20 rfl rfl)
theorem dX3_parts_23 : decode cX3_parts 23 = .ok (.iconst 0, 1) := dk_3 (dk_at dksX3_parts_0 23 rfl rfl)
theorem dX3_parts_24 : decode cX3_parts 24 = .ok (.iaload, 1) := dk_46 (dk_at dksX3_parts_1 0 rfl rfl)
theorem dX3_parts_25 : decode cX3_parts 25 = .ok (.if_icmp .ge 35, 3) := dk_162 0 35 (dk_at dksX3_parts_1 1 rfl rfl)
theorem dX3_parts_28 : decode cX3_parts 28 = .ok (.iload_n 2, 1) := dk_28 (dk_at dksX3_parts_1 4 rfl rfl)
theorem dX3_parts_29 : decode cX3_parts 29 = .ok (.iload_n 3, 1) := dk_29 (dk_at dksX3_parts_1 5 rfl rfl)
theorem dX3_parts_30 : decode cX3_parts 30 = .ok (.iload_n 1, 1) := dk_27 (dk_at dksX3_parts_1 6 rfl rfl)
theorem dX3_parts_31 : decode cX3_parts 31 = .ok (.if_icmp .eq 20, 3) := dk_159 0 20 (dk_at dksX3_parts_1 7 rfl rfl)
theorem dX3_parts_34 : decode cX3_parts 34 = .ok (.aload_n 0, 1) := dk_42 (dk_at dksX3_parts_1 10 rfl rfl)
theorem dX3_parts_35 : decode cX3_parts 35 = .ok (.iload_n 1, 1) := dk_27 (dk_at dksX3_parts_1 11 rfl rfl)
theorem dX3_parts_36 : decode cX3_parts 36 = .ok (.iload_n 3, 1) := dk_29 (dk_at dksX3_parts_1 12 rfl rfl)
theorem dX3_parts_37 : decode cX3_parts 37 = .ok (.invokevirtual 198, 3) := dk_182 0 198 (dk_at dksX3_parts_1 13 rfl rfl)
theorem dX3_parts_40 : decode cX3_parts 40 = .ok (.invokestatic 151, 3) := dk_184 0 151 (dk_at dksX3_parts_1 16 rfl rfl)
theorem dX3_parts_43 : decode cX3_parts 43 = .ok (.iload_n 3, 1) := dk_29 (dk_at dksX3_parts_1 19 rfl rfl)
theorem dX3_parts_44 : decode cX3_parts 44 = .ok (.if_icmp .ne 7, 3) := dk_160 0 7 (dk_at dksX3_parts_1 20 rfl rfl)
theorem dX3_parts_47 : decode cX3_parts 47 = .ok (.iconst 1, 1) := dk_4 (dk_at dksX3_parts_1 23 rfl rfl)
theorem dX3_parts_48 : decode cX3_parts 48 = .ok (.goto 4, 3) := dk_167 0 4 (dk_at dksX3_parts_2 0 rfl rfl)
theorem dX3_parts_51 : decode cX3_parts 51 = .ok (.iconst 0, 1) := dk_3 (dk_at dksX3_parts_2 3 rfl rfl)
theorem dX3_parts_52 : decode cX3_parts 52 = .ok (.iadd, 1) := dk_96 (dk_at dksX3_parts_2 4 rfl rfl)
theorem dX3_parts_53 : decode cX3_parts 53 = .ok (.istore_n 2, 1) := dk_61 (dk_at dksX3_parts_2 5 rfl rfl)
theorem dX3_parts_54 : decode cX3_parts 54 = .ok (.iinc 3 1, 3) := dk_132 3 1 (dk_at dksX3_parts_2 6 rfl rfl)
theorem dX3_parts_57 : decode cX3_parts 57 = .ok (.goto (-39), 3) := dk_167 255 217 (dk_at dksX3_parts_2 9 rfl rfl)
theorem dX3_parts_60 : decode cX3_parts 60 = .ok (.iload_n 2, 1) := dk_28 (dk_at dksX3_parts_2 12 rfl rfl)
theorem dX3_parts_61 : decode cX3_parts 61 = .ok (.ireturn, 1) := dk_172 (dk_at dksX3_parts_2 13 rfl rfl)
abbrev cX3_partOf : ByteArray := prog_18_method_48_code
def yX3_partOf : MethodName := ⟨RX3, "partOf", "(II)I"⟩
def dkwX3_partOf_2 : List UInt8 := [21, 4, 46, 167, 0, 4, 3, 128, 62, 132, 4, 1, 167, 255, 202, 29, 172]
abbrev dktX3_partOf_2 : List UInt8 := dkwX3_partOf_2 ++ []
def dkwX3_partOf_1 : List UInt8 := [184, 0, 91, 154, 0, 27, 42, 180, 0, 26, 21, 4, 46, 28, 184, 0, 91, 153, 0, 13, 42, 180, 0, 26]
abbrev dktX3_partOf_1 : List UInt8 := dkwX3_partOf_1 ++ dktX3_partOf_2
def dkwX3_partOf_0 : List UInt8 := [3, 62, 3, 54, 4, 21, 4, 42, 180, 0, 136, 162, 0, 51, 29, 42, 180, 0, 26, 21, 4, 46, 27]
abbrev dktX3_partOf_0 : List UInt8 := dkwX3_partOf_0 ++ dktX3_partOf_1
theorem dksX3_partOf_0 : cX3_partOf.data.toList.drop 0 = dktX3_partOf_0 := by decide +kernel
theorem dksX3_partOf_1 : cX3_partOf.data.toList.drop 23 = dktX3_partOf_1 := dk_seg dksX3_partOf_0 23 rfl rfl
theorem dksX3_partOf_2 : cX3_partOf.data.toList.drop 47 = dktX3_partOf_2 := dk_seg dksX3_partOf_1 24 rfl rfl
theorem dX3_partOf_0 : decode cX3_partOf 0 = .ok (.iconst 0, 1) := dk_3 (dk_at dksX3_partOf_0 0 rfl rfl)
theorem dX3_partOf_1 : decode cX3_partOf 1 = .ok (.istore_n 3, 1) := dk_62 (dk_at dksX3_partOf_0 1 rfl rfl)
theorem dX3_partOf_2 : decode cX3_partOf 2 = .ok (.iconst 0, 1) := dk_3 (dk_at dksX3_partOf_0 2 rfl rfl)
theorem dX3_partOf_3 : decode cX3_partOf 3 = .ok (.istore 4, 2) := dk_54 4 (dk_at dksX3_partOf_0 3 rfl rfl)
theorem dX3_partOf_5 : decode cX3_partOf 5 = .ok (.iload 4, 2) := dk_21 4 (dk_at dksX3_partOf_0 5 rfl rfl)
theorem dX3_partOf_7 : decode cX3_partOf 7 = .ok (.aload_n 0, 1) := dk_42 (dk_at dksX3_partOf_0 7 rfl rfl)
theorem dX3_partOf_8 : decode cX3_partOf 8 = .ok (.getfield 136, 3) := dk_180 0 136 (dk_at dksX3_partOf_0 8 rfl rfl)
theorem dX3_partOf_11 : decode cX3_partOf 11 = .ok (.if_icmp .ge 51, 3) := dk_162 0 51 (dk_at dksX3_partOf_0 11 rfl rfl)
theorem dX3_partOf_14 : decode cX3_partOf 14 = .ok (.iload_n 3, 1) := dk_29 (dk_at dksX3_partOf_0 14 rfl rfl)
theorem dX3_partOf_15 : decode cX3_partOf 15 = .ok (.aload_n 0, 1) := dk_42 (dk_at dksX3_partOf_0 15 rfl rfl)
theorem dX3_partOf_16 : decode cX3_partOf 16 = .ok (.getfield 26, 3) := dk_180 0 26 (dk_at dksX3_partOf_0 16 rfl rfl)
theorem dX3_partOf_19 : decode cX3_partOf 19 = .ok (.iload 4, 2) := dk_21 4 (dk_at dksX3_partOf_0 19 rfl rfl)
theorem dX3_partOf_21 : decode cX3_partOf 21 = .ok (.iaload, 1) := dk_46 (dk_at dksX3_partOf_0 21 rfl rfl)
theorem dX3_partOf_22 : decode cX3_partOf 22 = .ok (.iload_n 1, 1) := dk_27 (dk_at dksX3_partOf_0 22 rfl rfl)
theorem dX3_partOf_23 : decode cX3_partOf 23 = .ok (.invokestatic 91, 3) := dk_184 0 91 (dk_at dksX3_partOf_1 0 rfl rfl)
theorem dX3_partOf_26 : decode cX3_partOf 26 = .ok (.ifCond .ne 27, 3) := dk_154 0 27 (dk_at dksX3_partOf_1 3 rfl rfl)
theorem dX3_partOf_29 : decode cX3_partOf 29 = .ok (.aload_n 0, 1) := dk_42 (dk_at dksX3_partOf_1 6 rfl rfl)
theorem dX3_partOf_30 : decode cX3_partOf 30 = .ok (.getfield 26, 3) := dk_180 0 26 (dk_at dksX3_partOf_1 7 rfl rfl)
theorem dX3_partOf_33 : decode cX3_partOf 33 = .ok (.iload 4, 2) := dk_21 4 (dk_at dksX3_partOf_1 10 rfl rfl)
theorem dX3_partOf_35 : decode cX3_partOf 35 = .ok (.iaload, 1) := dk_46 (dk_at dksX3_partOf_1 12 rfl rfl)
theorem dX3_partOf_36 : decode cX3_partOf 36 = .ok (.iload_n 2, 1) := dk_28 (dk_at dksX3_partOf_1 13 rfl rfl)
theorem dX3_partOf_37 : decode cX3_partOf 37 = .ok (.invokestatic 91, 3) := dk_184 0 91 (dk_at dksX3_partOf_1 14 rfl rfl)
theorem dX3_partOf_40 : decode cX3_partOf 40 = .ok (.ifCond .eq 13, 3) := dk_153 0 13 (dk_at dksX3_partOf_1 17 rfl rfl)
theorem dX3_partOf_43 : decode cX3_partOf 43 = .ok (.aload_n 0, 1) := dk_42 (dk_at dksX3_partOf_1 20 rfl rfl)
theorem dX3_partOf_44 : decode cX3_partOf 44 = .ok (.getfield 26, 3) := dk_180 0 26 (dk_at dksX3_partOf_1 21 rfl rfl)
theorem dX3_partOf_47 : decode cX3_partOf 47 = .ok (.iload 4, 2) := dk_21 4 (dk_at dksX3_partOf_2 0 rfl rfl)
theorem dX3_partOf_49 : decode cX3_partOf 49 = .ok (.iaload, 1) := dk_46 (dk_at dksX3_partOf_2 2 rfl rfl)
theorem dX3_partOf_50 : decode cX3_partOf 50 = .ok (.goto 4, 3) := dk_167 0 4 (dk_at dksX3_partOf_2 3 rfl rfl)
theorem dX3_partOf_53 : decode cX3_partOf 53 = .ok (.iconst 0, 1) := dk_3 (dk_at dksX3_partOf_2 6 rfl rfl)
theorem dX3_partOf_54 : decode cX3_partOf 54 = .ok (.ior, 1) := dk_128 (dk_at dksX3_partOf_2 7 rfl rfl)
theorem dX3_partOf_55 : decode cX3_partOf 55 = .ok (.istore_n 3, 1) := dk_62 (dk_at dksX3_partOf_2 8 rfl rfl)
theorem dX3_partOf_56 : decode cX3_partOf 56 = .ok (.iinc 4 1, 3) := dk_132 4 1 (dk_at dksX3_partOf_2 9 rfl rfl)
theorem dX3_partOf_59 : decode cX3_partOf 59 = .ok (.goto (-54), 3) := dk_167 255 202 (dk_at dksX3_partOf_2 12 rfl rfl)
theorem dX3_partOf_62 : decode cX3_partOf 62 = .ok (.iload_n 3, 1) := dk_29 (dk_at dksX3_partOf_2 15 rfl rfl)
theorem dX3_partOf_63 : decode cX3_partOf 63 = .ok (.ireturn, 1) := dk_172 (dk_at dksX3_partOf_2 16 rfl rfl)
abbrev cX3_part : ByteArray := prog_18_method_50_code
def yX3_part : MethodName := ⟨RX3, "part", "(II)I"⟩
def dkwX3_part_1 : List UInt8 := [182, 0, 148, 42, 27, 28, 182, 0, 198, 172]
abbrev dktX3_part_1 : List UInt8 := dkwX3_part_1 ++ []
def dkwX3_part_0 : List UInt8 := [42, 27, 182, 0, 122, 153, 0, 16, 42, 28, 182, 0, 122, 153, 0, 8, 27, 28, 160, 0, 5, 2, 172, 42]
abbrev dktX3_part_0 : List UInt8 := dkwX3_part_0 ++ dktX3_part_1
theorem dksX3_part_0 : cX3_part.data.toList.drop 0 = dktX3_part_0 := by decide +kernel
theorem dksX3_part_1 : cX3_part.data.toList.drop 24 = dktX3_part_1 := dk_seg dksX3_part_0 24 rfl rfl
theorem dX3_part_0 : decode cX3_part 0 = .ok (.aload_n 0, 1) := dk_42 (dk_at dksX3_part_0 0 rfl rfl)
theorem dX3_part_1 : decode cX3_part 1 = .ok (.iload_n 1, 1) := dk_27 (dk_at dksX3_part_0 1 rfl rfl)
theorem dX3_part_2 : decode cX3_part 2 = .ok (.invokevirtual 122, 3) := dk_182 0 122 (dk_at dksX3_part_0 2 rfl rfl)
theorem dX3_part_5 : decode cX3_part 5 = .ok (.ifCond .eq 16, 3) := dk_153 0 16 (dk_at dksX3_part_0 5 rfl rfl)
theorem dX3_part_8 : decode cX3_part 8 = .ok (.aload_n 0, 1) := dk_42 (dk_at dksX3_part_0 8 rfl rfl)
theorem dX3_part_9 : decode cX3_part 9 = .ok (.iload_n 2, 1) := dk_28 (dk_at dksX3_part_0 9 rfl rfl)
theorem dX3_part_10 : decode cX3_part 10 = .ok (.invokevirtual 122, 3) := dk_182 0 122 (dk_at dksX3_part_0 10 rfl rfl)
theorem dX3_part_13 : decode cX3_part 13 = .ok (.ifCond .eq 8, 3) := dk_153 0 8 (dk_at dksX3_part_0 13 rfl rfl)
theorem dX3_part_16 : decode cX3_part 16 = .ok (.iload_n 1, 1) := dk_27 (dk_at dksX3_part_0 16 rfl rfl)
theorem dX3_part_17 : decode cX3_part 17 = .ok (.iload_n 2, 1) := dk_28 (dk_at dksX3_part_0 17 rfl rfl)
theorem dX3_part_18 : decode cX3_part 18 = .ok (.if_icmp .ne 5, 3) := dk_160 0 5 (dk_at dksX3_part_0 18 rfl rfl)
theorem dX3_part_21 : decode cX3_part 21 = .ok (.iconst (-1), 1) := dk_2 (dk_at dksX3_part_0 21 rfl rfl)
theorem dX3_part_22 : decode cX3_part 22 = .ok (.ireturn, 1) := dk_172 (dk_at dksX3_part_0 22 rfl rfl)
theorem dX3_part_23 : decode cX3_part 23 = .ok (.aload_n 0, 1) := dk_42 (dk_at dksX3_part_0 23 rfl rfl)
theorem dX3_part_24 : decode cX3_part 24 = .ok (.invokevirtual 148, 3) := dk_182 0 148 (dk_at dksX3_part_1 0 rfl rfl)
theorem dX3_part_27 : decode cX3_part 27 = .ok (.aload_n 0, 1) := dk_42 (dk_at dksX3_part_1 3 rfl rfl)
theorem dX3_part_28 : decode cX3_part 28 = .ok (.iload_n 1, 1) := dk_27 (dk_at dksX3_part_1 4 rfl rfl)
theorem dX3_part_29 : decode cX3_part 29 = .ok (.iload_n 2, 1) := dk_28 (dk_at dksX3_part_1 5 rfl rfl)
theorem dX3_part_30 : decode cX3_part 30 = .ok (.invokevirtual 198, 3) := dk_182 0 198 (dk_at dksX3_part_1 6 rfl rfl)
theorem dX3_part_33 : decode cX3_part 33 = .ok (.ireturn, 1) := dk_172 (dk_at dksX3_part_1 9 rfl rfl)
abbrev cX3_place : ByteArray := prog_18_method_52_code
def yX3_place : MethodName := ⟨RX3, "place", "(I)I"⟩
def dkwX3_place_2 : List UInt8 := [172]
abbrev dktX3_place_2 : List UInt8 := dkwX3_place_2 ++ []
def dkwX3_place_1 : List UInt8 := [42, 180, 0, 16, 42, 180, 0, 109, 27, 79, 42, 89, 180, 0, 109, 4, 96, 181, 0, 109, 42, 180, 0, 109]
abbrev dktX3_place_1 : List UInt8 := dkwX3_place_1 ++ dktX3_place_2
def dkwX3_place_0 : List UInt8 := [42, 27, 182, 0, 122, 154, 0, 5, 2, 172, 42, 182, 0, 201, 27, 184, 0, 91, 153, 0, 6, 16, 254, 172]
abbrev dktX3_place_0 : List UInt8 := dkwX3_place_0 ++ dktX3_place_1
theorem dksX3_place_0 : cX3_place.data.toList.drop 0 = dktX3_place_0 := by decide +kernel
theorem dksX3_place_1 : cX3_place.data.toList.drop 24 = dktX3_place_1 := dk_seg dksX3_place_0 24 rfl rfl
theorem dksX3_place_2 : cX3_place.data.toList.drop 48 = dktX3_place_2 := dk_seg dksX3_place_1 24 rfl rfl
theorem dX3_place_0 : decode cX3_place 0 = .ok (.aload_n 0, 1) := dk_42 (dk_at dksX3_place_0 0 rfl rfl)
theorem dX3_place_1 : decode cX3_place 1 = .ok (.iload_n 1, 1) := dk_27 (dk_at dksX3_place_0 1 rfl rfl)
theorem dX3_place_2 : decode cX3_place 2 = .ok (.invokevirtual 122, 3) := dk_182 0 122 (dk_at dksX3_place_0 2 rfl rfl)
theorem dX3_place_5 : decode cX3_place 5 = .ok (.ifCond .ne 5, 3) := dk_154 0 5 (dk_at dksX3_place_0 5 rfl rfl)
theorem dX3_place_8 : decode cX3_place 8 = .ok (.iconst (-1), 1) := dk_2 (dk_at dksX3_place_0 8 rfl rfl)
theorem dX3_place_9 : decode cX3_place 9 = .ok (.ireturn, 1) := dk_172 (dk_at dksX3_place_0 9 rfl rfl)
theorem dX3_place_10 : decode cX3_place 10 = .ok (.aload_n 0, 1) := dk_42 (dk_at dksX3_place_0 10 rfl rfl)
theorem dX3_place_11 : decode cX3_place 11 = .ok (.invokevirtual 201, 3) := dk_182 0 201 (dk_at dksX3_place_0 11 rfl rfl)
theorem dX3_place_14 : decode cX3_place 14 = .ok (.iload_n 1, 1) := dk_27 (dk_at dksX3_place_0 14 rfl rfl)
theorem dX3_place_15 : decode cX3_place 15 = .ok (.invokestatic 91, 3) := dk_184 0 91 (dk_at dksX3_place_0 15 rfl rfl)
theorem dX3_place_18 : decode cX3_place 18 = .ok (.ifCond .eq 6, 3) := dk_153 0 6 (dk_at dksX3_place_0 18 rfl rfl)
theorem dX3_place_21 : decode cX3_place 21 = .ok (.bipush (-2), 2) := dk_16 254 (dk_at dksX3_place_0 21 rfl rfl)
theorem dX3_place_23 : decode cX3_place 23 = .ok (.ireturn, 1) := dk_172 (dk_at dksX3_place_0 23 rfl rfl)
theorem dX3_place_24 : decode cX3_place 24 = .ok (.aload_n 0, 1) := dk_42 (dk_at dksX3_place_1 0 rfl rfl)
theorem dX3_place_25 : decode cX3_place 25 = .ok (.getfield 16, 3) := dk_180 0 16 (dk_at dksX3_place_1 1 rfl rfl)
theorem dX3_place_28 : decode cX3_place 28 = .ok (.aload_n 0, 1) := dk_42 (dk_at dksX3_place_1 4 rfl rfl)
theorem dX3_place_29 : decode cX3_place 29 = .ok (.getfield 109, 3) := dk_180 0 109 (dk_at dksX3_place_1 5 rfl rfl)
theorem dX3_place_32 : decode cX3_place 32 = .ok (.iload_n 1, 1) := dk_27 (dk_at dksX3_place_1 8 rfl rfl)
theorem dX3_place_33 : decode cX3_place 33 = .ok (.iastore, 1) := dk_79 (dk_at dksX3_place_1 9 rfl rfl)
theorem dX3_place_34 : decode cX3_place 34 = .ok (.aload_n 0, 1) := dk_42 (dk_at dksX3_place_1 10 rfl rfl)
theorem dX3_place_35 : decode cX3_place 35 = .ok (.dup, 1) := dk_89 (dk_at dksX3_place_1 11 rfl rfl)
theorem dX3_place_36 : decode cX3_place 36 = .ok (.getfield 109, 3) := dk_180 0 109 (dk_at dksX3_place_1 12 rfl rfl)
theorem dX3_place_39 : decode cX3_place 39 = .ok (.iconst 1, 1) := dk_4 (dk_at dksX3_place_1 15 rfl rfl)
theorem dX3_place_40 : decode cX3_place 40 = .ok (.iadd, 1) := dk_96 (dk_at dksX3_place_1 16 rfl rfl)
theorem dX3_place_41 : decode cX3_place 41 = .ok (.putfield 109, 3) := dk_181 0 109 (dk_at dksX3_place_1 17 rfl rfl)
theorem dX3_place_44 : decode cX3_place 44 = .ok (.aload_n 0, 1) := dk_42 (dk_at dksX3_place_1 20 rfl rfl)
theorem dX3_place_45 : decode cX3_place 45 = .ok (.getfield 109, 3) := dk_180 0 109 (dk_at dksX3_place_1 21 rfl rfl)
theorem dX3_place_48 : decode cX3_place 48 = .ok (.ireturn, 1) := dk_172 (dk_at dksX3_place_2 0 rfl rfl)
abbrev cX3_lineSet : ByteArray := prog_18_method_51_code
def yX3_lineSet : MethodName := ⟨RX3, "lineSet", "()I"⟩
def dkwX3_lineSet_1 : List UInt8 := [132, 2, 1, 167, 255, 234, 27, 172]
abbrev dktX3_lineSet_1 : List UInt8 := dkwX3_lineSet_1 ++ []
def dkwX3_lineSet_0 : List UInt8 := [3, 60, 3, 61, 28, 42, 180, 0, 109, 162, 0, 20, 27, 4, 42, 180, 0, 16, 28, 46, 120, 128, 60]
abbrev dktX3_lineSet_0 : List UInt8 := dkwX3_lineSet_0 ++ dktX3_lineSet_1
theorem dksX3_lineSet_0 : cX3_lineSet.data.toList.drop 0 = dktX3_lineSet_0 := by decide +kernel
theorem dksX3_lineSet_1 : cX3_lineSet.data.toList.drop 23 = dktX3_lineSet_1 := dk_seg dksX3_lineSet_0 23 rfl rfl
theorem dX3_lineSet_0 : decode cX3_lineSet 0 = .ok (.iconst 0, 1) := dk_3 (dk_at dksX3_lineSet_0 0 rfl rfl)
theorem dX3_lineSet_1 : decode cX3_lineSet 1 = .ok (.istore_n 1, 1) := dk_60 (dk_at dksX3_lineSet_0 1 rfl rfl)
theorem dX3_lineSet_2 : decode cX3_lineSet 2 = .ok (.iconst 0, 1) := dk_3 (dk_at dksX3_lineSet_0 2 rfl rfl)
theorem dX3_lineSet_3 : decode cX3_lineSet 3 = .ok (.istore_n 2, 1) := dk_61 (dk_at dksX3_lineSet_0 3 rfl rfl)
theorem dX3_lineSet_4 : decode cX3_lineSet 4 = .ok (.iload_n 2, 1) := dk_28 (dk_at dksX3_lineSet_0 4 rfl rfl)
theorem dX3_lineSet_5 : decode cX3_lineSet 5 = .ok (.aload_n 0, 1) := dk_42 (dk_at dksX3_lineSet_0 5 rfl rfl)
theorem dX3_lineSet_6 : decode cX3_lineSet 6 = .ok (.getfield 109, 3) := dk_180 0 109 (dk_at dksX3_lineSet_0 6 rfl rfl)
theorem dX3_lineSet_9 : decode cX3_lineSet 9 = .ok (.if_icmp .ge 20, 3) := dk_162 0 20 (dk_at dksX3_lineSet_0 9 rfl rfl)
theorem dX3_lineSet_12 : decode cX3_lineSet 12 = .ok (.iload_n 1, 1) := dk_27 (dk_at dksX3_lineSet_0 12 rfl rfl)
theorem dX3_lineSet_13 : decode cX3_lineSet 13 = .ok (.iconst 1, 1) := dk_4 (dk_at dksX3_lineSet_0 13 rfl rfl)
theorem dX3_lineSet_14 : decode cX3_lineSet 14 = .ok (.aload_n 0, 1) := dk_42 (dk_at dksX3_lineSet_0 14 rfl rfl)
theorem dX3_lineSet_15 : decode cX3_lineSet 15 = .ok (.getfield 16, 3) := dk_180 0 16 (dk_at dksX3_lineSet_0 15 rfl rfl)
theorem dX3_lineSet_18 : decode cX3_lineSet 18 = .ok (.iload_n 2, 1) := dk_28 (dk_at dksX3_lineSet_0 18 rfl rfl)
theorem dX3_lineSet_19 : decode cX3_lineSet 19 = .ok (.iaload, 1) := dk_46 (dk_at dksX3_lineSet_0 19 rfl rfl)
theorem dX3_lineSet_20 : decode cX3_lineSet 20 = .ok (.ishl, 1) := dk_120 (dk_at dksX3_lineSet_0 20 rfl rfl)
theorem dX3_lineSet_21 : decode cX3_lineSet 21 = .ok (.ior, 1) := dk_128 (dk_at dksX3_lineSet_0 21 rfl rfl)
theorem dX3_lineSet_22 : decode cX3_lineSet 22 = .ok (.istore_n 1, 1) := dk_60 (dk_at dksX3_lineSet_0 22 rfl rfl)
theorem dX3_lineSet_23 : decode cX3_lineSet 23 = .ok (.iinc 2 1, 3) := dk_132 2 1 (dk_at dksX3_lineSet_1 0 rfl rfl)
theorem dX3_lineSet_26 : decode cX3_lineSet 26 = .ok (.goto (-22), 3) := dk_167 255 234 (dk_at dksX3_lineSet_1 3 rfl rfl)
theorem dX3_lineSet_29 : decode cX3_lineSet 29 = .ok (.iload_n 1, 1) := dk_27 (dk_at dksX3_lineSet_1 6 rfl rfl)
theorem dX3_lineSet_30 : decode cX3_lineSet 30 = .ok (.ireturn, 1) := dk_172 (dk_at dksX3_lineSet_1 7 rfl rfl)
abbrev cX3_clearRow : ByteArray := prog_18_method_53_code
def yX3_clearRow : MethodName := ⟨RX3, "clearRow", "()I"⟩
def dkwX3_clearRow_0 : List UInt8 := [42, 180, 0, 109, 60, 42, 3, 181, 0, 109, 27, 172]
abbrev dktX3_clearRow_0 : List UInt8 := dkwX3_clearRow_0 ++ []
theorem dksX3_clearRow_0 : cX3_clearRow.data.toList.drop 0 = dktX3_clearRow_0 := by decide +kernel
theorem dX3_clearRow_0 : decode cX3_clearRow 0 = .ok (.aload_n 0, 1) := dk_42 (dk_at dksX3_clearRow_0 0 rfl rfl)
theorem dX3_clearRow_1 : decode cX3_clearRow 1 = .ok (.getfield 109, 3) := dk_180 0 109 (dk_at dksX3_clearRow_0 1 rfl rfl)
theorem dX3_clearRow_4 : decode cX3_clearRow 4 = .ok (.istore_n 1, 1) := dk_60 (dk_at dksX3_clearRow_0 4 rfl rfl)
theorem dX3_clearRow_5 : decode cX3_clearRow 5 = .ok (.aload_n 0, 1) := dk_42 (dk_at dksX3_clearRow_0 5 rfl rfl)
theorem dX3_clearRow_6 : decode cX3_clearRow 6 = .ok (.iconst 0, 1) := dk_3 (dk_at dksX3_clearRow_0 6 rfl rfl)
theorem dX3_clearRow_7 : decode cX3_clearRow 7 = .ok (.putfield 109, 3) := dk_181 0 109 (dk_at dksX3_clearRow_0 7 rfl rfl)
theorem dX3_clearRow_10 : decode cX3_clearRow 10 = .ok (.iload_n 1, 1) := dk_27 (dk_at dksX3_clearRow_0 10 rfl rfl)
theorem dX3_clearRow_11 : decode cX3_clearRow 11 = .ok (.ireturn, 1) := dk_172 (dk_at dksX3_clearRow_0 11 rfl rfl)
abbrev cX3_kept : ByteArray := prog_18_method_55_code
def yX3_kept : MethodName := ⟨RX3, "kept", "(I)I"⟩
def dkwX3_kept_4 : List UInt8 := [167, 0, 4, 3, 96, 61, 132, 3, 1, 167, 255, 188, 28, 172]
abbrev dktX3_kept_4 : List UInt8 := dkwX3_kept_4 ++ []
def dkwX3_kept_3 : List UInt8 := [3, 167, 0, 25, 4, 167, 0, 21, 42, 42, 180, 0, 26, 29, 46, 182, 0, 204, 153, 0, 7, 4]
abbrev dktX3_kept_3 : List UInt8 := dkwX3_kept_3 ++ dktX3_kept_4
def dkwX3_kept_2 : List UInt8 := [180, 0, 136, 162, 0, 55, 28, 27, 154, 0, 24, 42, 42, 180, 0, 29, 29, 46, 182, 0, 204, 153, 0, 7]
abbrev dktX3_kept_2 : List UInt8 := dkwX3_kept_2 ++ dktX3_kept_3
def dkwX3_kept_1 : List UInt8 := [16, 254, 172, 42, 182, 0, 148, 3, 61, 3, 62, 29, 27, 154, 0, 10, 42, 180, 0, 139, 167, 0, 7, 42]
abbrev dktX3_kept_1 : List UInt8 := dkwX3_kept_1 ++ dktX3_kept_2
def dkwX3_kept_0 : List UInt8 := [27, 3, 4, 184, 0, 87, 154, 0, 5, 2, 172, 42, 180, 0, 109, 42, 180, 0, 7, 3, 46, 162, 0, 6]
abbrev dktX3_kept_0 : List UInt8 := dkwX3_kept_0 ++ dktX3_kept_1
theorem dksX3_kept_0 : cX3_kept.data.toList.drop 0 = dktX3_kept_0 := by decide +kernel
theorem dksX3_kept_1 : cX3_kept.data.toList.drop 24 = dktX3_kept_1 := dk_seg dksX3_kept_0 24 rfl rfl
theorem dksX3_kept_2 : cX3_kept.data.toList.drop 48 = dktX3_kept_2 := dk_seg dksX3_kept_1 24 rfl rfl
theorem dksX3_kept_3 : cX3_kept.data.toList.drop 72 = dktX3_kept_3 := dk_seg dksX3_kept_2 24 rfl rfl
theorem dksX3_kept_4 : cX3_kept.data.toList.drop 94 = dktX3_kept_4 := dk_seg dksX3_kept_3 22 rfl rfl
theorem dX3_kept_0 : decode cX3_kept 0 = .ok (.iload_n 1, 1) := dk_27 (dk_at dksX3_kept_0 0 rfl rfl)
theorem dX3_kept_1 : decode cX3_kept 1 = .ok (.iconst 0, 1) := dk_3 (dk_at dksX3_kept_0 1 rfl rfl)
theorem dX3_kept_2 : decode cX3_kept 2 = .ok (.iconst 1, 1) := dk_4 (dk_at dksX3_kept_0 2 rfl rfl)
theorem dX3_kept_3 : decode cX3_kept 3 = .ok (.invokestatic 87, 3) := dk_184 0 87 (dk_at dksX3_kept_0 3 rfl rfl)
theorem dX3_kept_6 : decode cX3_kept 6 = .ok (.ifCond .ne 5, 3) := dk_154 0 5 (dk_at dksX3_kept_0 6 rfl rfl)
theorem dX3_kept_9 : decode cX3_kept 9 = .ok (.iconst (-1), 1) := dk_2 (dk_at dksX3_kept_0 9 rfl rfl)
theorem dX3_kept_10 : decode cX3_kept 10 = .ok (.ireturn, 1) := dk_172 (dk_at dksX3_kept_0 10 rfl rfl)
theorem dX3_kept_11 : decode cX3_kept 11 = .ok (.aload_n 0, 1) := dk_42 (dk_at dksX3_kept_0 11 rfl rfl)
theorem dX3_kept_12 : decode cX3_kept 12 = .ok (.getfield 109, 3) := dk_180 0 109 (dk_at dksX3_kept_0 12 rfl rfl)
theorem dX3_kept_15 : decode cX3_kept 15 = .ok (.aload_n 0, 1) := dk_42 (dk_at dksX3_kept_0 15 rfl rfl)
theorem dX3_kept_16 : decode cX3_kept 16 = .ok (.getfield 7, 3) := dk_180 0 7 (dk_at dksX3_kept_0 16 rfl rfl)
theorem dX3_kept_19 : decode cX3_kept 19 = .ok (.iconst 0, 1) := dk_3 (dk_at dksX3_kept_0 19 rfl rfl)
theorem dX3_kept_20 : decode cX3_kept 20 = .ok (.iaload, 1) := dk_46 (dk_at dksX3_kept_0 20 rfl rfl)
theorem dX3_kept_21 : decode cX3_kept 21 = .ok (.if_icmp .ge 6, 3) := dk_162 0 6 (dk_at dksX3_kept_0 21 rfl rfl)
theorem dX3_kept_24 : decode cX3_kept 24 = .ok (.bipush (-2), 2) := dk_16 254 (dk_at dksX3_kept_1 0 rfl rfl)
theorem dX3_kept_26 : decode cX3_kept 26 = .ok (.ireturn, 1) := dk_172 (dk_at dksX3_kept_1 2 rfl rfl)
theorem dX3_kept_27 : decode cX3_kept 27 = .ok (.aload_n 0, 1) := dk_42 (dk_at dksX3_kept_1 3 rfl rfl)
theorem dX3_kept_28 : decode cX3_kept 28 = .ok (.invokevirtual 148, 3) := dk_182 0 148 (dk_at dksX3_kept_1 4 rfl rfl)
theorem dX3_kept_31 : decode cX3_kept 31 = .ok (.iconst 0, 1) := dk_3 (dk_at dksX3_kept_1 7 rfl rfl)
theorem dX3_kept_32 : decode cX3_kept 32 = .ok (.istore_n 2, 1) := dk_61 (dk_at dksX3_kept_1 8 rfl rfl)
theorem dX3_kept_33 : decode cX3_kept 33 = .ok (.iconst 0, 1) := dk_3 (dk_at dksX3_kept_1 9 rfl rfl)
theorem dX3_kept_34 : decode cX3_kept 34 = .ok (.istore_n 3, 1) := dk_62 (dk_at dksX3_kept_1 10 rfl rfl)
theorem dX3_kept_35 : decode cX3_kept 35 = .ok (.iload_n 3, 1) := dk_29 (dk_at dksX3_kept_1 11 rfl rfl)
theorem dX3_kept_36 : decode cX3_kept 36 = .ok (.iload_n 1, 1) := dk_27 (dk_at dksX3_kept_1 12 rfl rfl)
theorem dX3_kept_37 : decode cX3_kept 37 = .ok (.ifCond .ne 10, 3) := dk_154 0 10 (dk_at dksX3_kept_1 13 rfl rfl)
theorem dX3_kept_40 : decode cX3_kept 40 = .ok (.aload_n 0, 1) := dk_42 (dk_at dksX3_kept_1 16 rfl rfl)
theorem dX3_kept_41 : decode cX3_kept 41 = .ok (.getfield 139, 3) := dk_180 0 139 (dk_at dksX3_kept_1 17 rfl rfl)
theorem dX3_kept_44 : decode cX3_kept 44 = .ok (.goto 7, 3) := dk_167 0 7 (dk_at dksX3_kept_1 20 rfl rfl)
theorem dX3_kept_47 : decode cX3_kept 47 = .ok (.aload_n 0, 1) := dk_42 (dk_at dksX3_kept_1 23 rfl rfl)
theorem dX3_kept_48 : decode cX3_kept 48 = .ok (.getfield 136, 3) := dk_180 0 136 (dk_at dksX3_kept_2 0 rfl rfl)
theorem dX3_kept_51 : decode cX3_kept 51 = .ok (.if_icmp .ge 55, 3) := dk_162 0 55 (dk_at dksX3_kept_2 3 rfl rfl)
theorem dX3_kept_54 : decode cX3_kept 54 = .ok (.iload_n 2, 1) := dk_28 (dk_at dksX3_kept_2 6 rfl rfl)
theorem dX3_kept_55 : decode cX3_kept 55 = .ok (.iload_n 1, 1) := dk_27 (dk_at dksX3_kept_2 7 rfl rfl)
theorem dX3_kept_56 : decode cX3_kept 56 = .ok (.ifCond .ne 24, 3) := dk_154 0 24 (dk_at dksX3_kept_2 8 rfl rfl)
theorem dX3_kept_59 : decode cX3_kept 59 = .ok (.aload_n 0, 1) := dk_42 (dk_at dksX3_kept_2 11 rfl rfl)
theorem dX3_kept_60 : decode cX3_kept 60 = .ok (.aload_n 0, 1) := dk_42 (dk_at dksX3_kept_2 12 rfl rfl)
theorem dX3_kept_61 : decode cX3_kept 61 = .ok (.getfield 29, 3) := dk_180 0 29 (dk_at dksX3_kept_2 13 rfl rfl)
theorem dX3_kept_64 : decode cX3_kept 64 = .ok (.iload_n 3, 1) := dk_29 (dk_at dksX3_kept_2 16 rfl rfl)
theorem dX3_kept_65 : decode cX3_kept 65 = .ok (.iaload, 1) := dk_46 (dk_at dksX3_kept_2 17 rfl rfl)
theorem dX3_kept_66 : decode cX3_kept 66 = .ok (.invokevirtual 204, 3) := dk_182 0 204 (dk_at dksX3_kept_2 18 rfl rfl)
theorem dX3_kept_69 : decode cX3_kept 69 = .ok (.ifCond .eq 7, 3) := dk_153 0 7 (dk_at dksX3_kept_2 21 rfl rfl)
theorem dX3_kept_72 : decode cX3_kept 72 = .ok (.iconst 0, 1) := dk_3 (dk_at dksX3_kept_3 0 rfl rfl)
theorem dX3_kept_73 : decode cX3_kept 73 = .ok (.goto 25, 3) := dk_167 0 25 (dk_at dksX3_kept_3 1 rfl rfl)
theorem dX3_kept_76 : decode cX3_kept 76 = .ok (.iconst 1, 1) := dk_4 (dk_at dksX3_kept_3 4 rfl rfl)
theorem dX3_kept_77 : decode cX3_kept 77 = .ok (.goto 21, 3) := dk_167 0 21 (dk_at dksX3_kept_3 5 rfl rfl)
theorem dX3_kept_80 : decode cX3_kept 80 = .ok (.aload_n 0, 1) := dk_42 (dk_at dksX3_kept_3 8 rfl rfl)
theorem dX3_kept_81 : decode cX3_kept 81 = .ok (.aload_n 0, 1) := dk_42 (dk_at dksX3_kept_3 9 rfl rfl)
theorem dX3_kept_82 : decode cX3_kept 82 = .ok (.getfield 26, 3) := dk_180 0 26 (dk_at dksX3_kept_3 10 rfl rfl)
theorem dX3_kept_85 : decode cX3_kept 85 = .ok (.iload_n 3, 1) := dk_29 (dk_at dksX3_kept_3 13 rfl rfl)
theorem dX3_kept_86 : decode cX3_kept 86 = .ok (.iaload, 1) := dk_46 (dk_at dksX3_kept_3 14 rfl rfl)
theorem dX3_kept_87 : decode cX3_kept 87 = .ok (.invokevirtual 204, 3) := dk_182 0 204 (dk_at dksX3_kept_3 15 rfl rfl)
theorem dX3_kept_90 : decode cX3_kept 90 = .ok (.ifCond .eq 7, 3) := dk_153 0 7 (dk_at dksX3_kept_3 18 rfl rfl)
theorem dX3_kept_93 : decode cX3_kept 93 = .ok (.iconst 1, 1) := dk_4 (dk_at dksX3_kept_3 21 rfl rfl)
theorem dX3_kept_94 : decode cX3_kept 94 = .ok (.goto 4, 3) := dk_167 0 4 (dk_at dksX3_kept_4 0 rfl rfl)
theorem dX3_kept_97 : decode cX3_kept 97 = .ok (.iconst 0, 1) := dk_3 (dk_at dksX3_kept_4 3 rfl rfl)
theorem dX3_kept_98 : decode cX3_kept 98 = .ok (.iadd, 1) := dk_96 (dk_at dksX3_kept_4 4 rfl rfl)
theorem dX3_kept_99 : decode cX3_kept 99 = .ok (.istore_n 2, 1) := dk_61 (dk_at dksX3_kept_4 5 rfl rfl)
theorem dX3_kept_100 : decode cX3_kept 100 = .ok (.iinc 3 1, 3) := dk_132 3 1 (dk_at dksX3_kept_4 6 rfl rfl)
theorem dX3_kept_103 : decode cX3_kept 103 = .ok (.goto (-68), 3) := dk_167 255 188 (dk_at dksX3_kept_4 9 rfl rfl)
theorem dX3_kept_106 : decode cX3_kept 106 = .ok (.iload_n 2, 1) := dk_28 (dk_at dksX3_kept_4 12 rfl rfl)
theorem dX3_kept_107 : decode cX3_kept 107 = .ok (.ireturn, 1) := dk_172 (dk_at dksX3_kept_4 13 rfl rfl)
abbrev cX3_areTogether : ByteArray := prog_18_method_54_code
def yX3_areTogether : MethodName := ⟨RX3, "areTogether", "(I)Z"⟩
def dkwX3_areTogether_2 : List UInt8 := [167, 0, 4, 3, 96, 61, 132, 3, 1, 167, 255, 205, 28, 4, 160, 0, 7, 4, 167, 0, 4, 3, 172]
abbrev dktX3_areTogether_2 : List UInt8 := dkwX3_areTogether_2 ++ []
def dkwX3_areTogether_1 : List UInt8 := [153, 0, 26, 29, 153, 0, 18, 27, 42, 180, 0, 16, 29, 4, 100, 46, 184, 0, 91, 154, 0, 7, 4]
abbrev dktX3_areTogether_1 : List UInt8 := dkwX3_areTogether_1 ++ dktX3_areTogether_2
def dkwX3_areTogether_0 : List UInt8 := [3, 61, 3, 62, 29, 42, 180, 0, 109, 162, 0, 49, 28, 27, 42, 180, 0, 16, 29, 46, 184, 0, 91]
abbrev dktX3_areTogether_0 : List UInt8 := dkwX3_areTogether_0 ++ dktX3_areTogether_1
theorem dksX3_areTogether_0 : cX3_areTogether.data.toList.drop 0 = dktX3_areTogether_0 := by decide +kernel
theorem dksX3_areTogether_1 : cX3_areTogether.data.toList.drop 23 = dktX3_areTogether_1 := dk_seg dksX3_areTogether_0 23 rfl rfl
theorem dksX3_areTogether_2 : cX3_areTogether.data.toList.drop 46 = dktX3_areTogether_2 := dk_seg dksX3_areTogether_1 23 rfl rfl
theorem dX3_areTogether_0 : decode cX3_areTogether 0 = .ok (.iconst 0, 1) := dk_3 (dk_at dksX3_areTogether_0 0 rfl rfl)
theorem dX3_areTogether_1 : decode cX3_areTogether 1 = .ok (.istore_n 2, 1) := dk_61 (dk_at dksX3_areTogether_0 1 rfl rfl)
theorem dX3_areTogether_2 : decode cX3_areTogether 2 = .ok (.iconst 0, 1) := dk_3 (dk_at dksX3_areTogether_0 2 rfl rfl)
theorem dX3_areTogether_3 : decode cX3_areTogether 3 = .ok (.istore_n 3, 1) := dk_62 (dk_at dksX3_areTogether_0 3 rfl rfl)
theorem dX3_areTogether_4 : decode cX3_areTogether 4 = .ok (.iload_n 3, 1) := dk_29 (dk_at dksX3_areTogether_0 4 rfl rfl)
theorem dX3_areTogether_5 : decode cX3_areTogether 5 = .ok (.aload_n 0, 1) := dk_42 (dk_at dksX3_areTogether_0 5 rfl rfl)
theorem dX3_areTogether_6 : decode cX3_areTogether 6 = .ok (.getfield 109, 3) := dk_180 0 109 (dk_at dksX3_areTogether_0 6 rfl rfl)
theorem dX3_areTogether_9 : decode cX3_areTogether 9 = .ok (.if_icmp .ge 49, 3) := dk_162 0 49 (dk_at dksX3_areTogether_0 9 rfl rfl)
theorem dX3_areTogether_12 : decode cX3_areTogether 12 = .ok (.iload_n 2, 1) := dk_28 (dk_at dksX3_areTogether_0 12 rfl rfl)
theorem dX3_areTogether_13 : decode cX3_areTogether 13 = .ok (.iload_n 1, 1) := dk_27 (dk_at dksX3_areTogether_0 13 rfl rfl)
theorem dX3_areTogether_14 : decode cX3_areTogether 14 = .ok (.aload_n 0, 1) := dk_42 (dk_at dksX3_areTogether_0 14 rfl rfl)
theorem dX3_areTogether_15 : decode cX3_areTogether 15 = .ok (.getfield 16, 3) := dk_180 0 16 (dk_at dksX3_areTogether_0 15 rfl rfl)
theorem dX3_areTogether_18 : decode cX3_areTogether 18 = .ok (.iload_n 3, 1) := dk_29 (dk_at dksX3_areTogether_0 18 rfl rfl)
theorem dX3_areTogether_19 : decode cX3_areTogether 19 = .ok (.iaload, 1) := dk_46 (dk_at dksX3_areTogether_0 19 rfl rfl)
theorem dX3_areTogether_20 : decode cX3_areTogether 20 = .ok (.invokestatic 91, 3) := dk_184 0 91 (dk_at dksX3_areTogether_0 20 rfl rfl)
theorem dX3_areTogether_23 : decode cX3_areTogether 23 = .ok (.ifCond .eq 26, 3) := dk_153 0 26 (dk_at dksX3_areTogether_1 0 rfl rfl)
theorem dX3_areTogether_26 : decode cX3_areTogether 26 = .ok (.iload_n 3, 1) := dk_29 (dk_at dksX3_areTogether_1 3 rfl rfl)
theorem dX3_areTogether_27 : decode cX3_areTogether 27 = .ok (.ifCond .eq 18, 3) := dk_153 0 18 (dk_at dksX3_areTogether_1 4 rfl rfl)
theorem dX3_areTogether_30 : decode cX3_areTogether 30 = .ok (.iload_n 1, 1) := dk_27 (dk_at dksX3_areTogether_1 7 rfl rfl)
theorem dX3_areTogether_31 : decode cX3_areTogether 31 = .ok (.aload_n 0, 1) := dk_42 (dk_at dksX3_areTogether_1 8 rfl rfl)
theorem dX3_areTogether_32 : decode cX3_areTogether 32 = .ok (.getfield 16, 3) := dk_180 0 16 (dk_at dksX3_areTogether_1 9 rfl rfl)
theorem dX3_areTogether_35 : decode cX3_areTogether 35 = .ok (.iload_n 3, 1) := dk_29 (dk_at dksX3_areTogether_1 12 rfl rfl)
theorem dX3_areTogether_36 : decode cX3_areTogether 36 = .ok (.iconst 1, 1) := dk_4 (dk_at dksX3_areTogether_1 13 rfl rfl)
theorem dX3_areTogether_37 : decode cX3_areTogether 37 = .ok (.isub, 1) := dk_100 (dk_at dksX3_areTogether_1 14 rfl rfl)
theorem dX3_areTogether_38 : decode cX3_areTogether 38 = .ok (.iaload, 1) := dk_46 (dk_at dksX3_areTogether_1 15 rfl rfl)
theorem dX3_areTogether_39 : decode cX3_areTogether 39 = .ok (.invokestatic 91, 3) := dk_184 0 91 (dk_at dksX3_areTogether_1 16 rfl rfl)
theorem dX3_areTogether_42 : decode cX3_areTogether 42 = .ok (.ifCond .ne 7, 3) := dk_154 0 7 (dk_at dksX3_areTogether_1 19 rfl rfl)
theorem dX3_areTogether_45 : decode cX3_areTogether 45 = .ok (.iconst 1, 1) := dk_4 (dk_at dksX3_areTogether_1 22 rfl rfl)
theorem dX3_areTogether_46 : decode cX3_areTogether 46 = .ok (.goto 4, 3) := dk_167 0 4 (dk_at dksX3_areTogether_2 0 rfl rfl)
theorem dX3_areTogether_49 : decode cX3_areTogether 49 = .ok (.iconst 0, 1) := dk_3 (dk_at dksX3_areTogether_2 3 rfl rfl)
theorem dX3_areTogether_50 : decode cX3_areTogether 50 = .ok (.iadd, 1) := dk_96 (dk_at dksX3_areTogether_2 4 rfl rfl)
theorem dX3_areTogether_51 : decode cX3_areTogether 51 = .ok (.istore_n 2, 1) := dk_61 (dk_at dksX3_areTogether_2 5 rfl rfl)
theorem dX3_areTogether_52 : decode cX3_areTogether 52 = .ok (.iinc 3 1, 3) := dk_132 3 1 (dk_at dksX3_areTogether_2 6 rfl rfl)
theorem dX3_areTogether_55 : decode cX3_areTogether 55 = .ok (.goto (-51), 3) := dk_167 255 205 (dk_at dksX3_areTogether_2 9 rfl rfl)
theorem dX3_areTogether_58 : decode cX3_areTogether 58 = .ok (.iload_n 2, 1) := dk_28 (dk_at dksX3_areTogether_2 12 rfl rfl)
theorem dX3_areTogether_59 : decode cX3_areTogether 59 = .ok (.iconst 1, 1) := dk_4 (dk_at dksX3_areTogether_2 13 rfl rfl)
theorem dX3_areTogether_60 : decode cX3_areTogether 60 = .ok (.if_icmp .ne 7, 3) := dk_160 0 7 (dk_at dksX3_areTogether_2 14 rfl rfl)
theorem dX3_areTogether_63 : decode cX3_areTogether 63 = .ok (.iconst 1, 1) := dk_4 (dk_at dksX3_areTogether_2 17 rfl rfl)
theorem dX3_areTogether_64 : decode cX3_areTogether 64 = .ok (.goto 4, 3) := dk_167 0 4 (dk_at dksX3_areTogether_2 18 rfl rfl)
theorem dX3_areTogether_67 : decode cX3_areTogether 67 = .ok (.iconst 0, 1) := dk_3 (dk_at dksX3_areTogether_2 21 rfl rfl)
theorem dX3_areTogether_68 : decode cX3_areTogether 68 = .ok (.ireturn, 1) := dk_172 (dk_at dksX3_areTogether_2 22 rfl rfl)
abbrev cX3_treeRow : ByteArray := prog_18_method_58_code
def yX3_treeRow : MethodName := ⟨RX3, "treeRow", "(I)I"⟩
def dkwX3_treeRow_3 : List UInt8 := [160, 0, 5, 28, 172, 132, 2, 1, 167, 255, 190, 16, 252, 172]
abbrev dktX3_treeRow_3 : List UInt8 := dkwX3_treeRow_3 ++ []
def dkwX3_treeRow_2 : List UInt8 := [28, 182, 0, 210, 153, 0, 7, 4, 167, 0, 4, 3, 96, 62, 132, 4, 1, 167, 255, 218, 29, 27]
abbrev dktX3_treeRow_2 : List UInt8 := dkwX3_treeRow_2 ++ dktX3_treeRow_3
def dkwX3_treeRow_1 : List UInt8 := [3, 54, 4, 21, 4, 42, 180, 0, 7, 3, 46, 162, 0, 33, 29, 21, 4, 28, 159, 0, 17, 42, 21, 4]
abbrev dktX3_treeRow_1 : List UInt8 := dkwX3_treeRow_1 ++ dktX3_treeRow_2
def dkwX3_treeRow_0 : List UInt8 := [27, 156, 0, 5, 2, 172, 42, 182, 0, 148, 3, 61, 28, 42, 180, 0, 7, 3, 46, 162, 0, 62, 3, 62]
abbrev dktX3_treeRow_0 : List UInt8 := dkwX3_treeRow_0 ++ dktX3_treeRow_1
theorem dksX3_treeRow_0 : cX3_treeRow.data.toList.drop 0 = dktX3_treeRow_0 := by decide +kernel
theorem dksX3_treeRow_1 : cX3_treeRow.data.toList.drop 24 = dktX3_treeRow_1 := dk_seg dksX3_treeRow_0 24 rfl rfl
theorem dksX3_treeRow_2 : cX3_treeRow.data.toList.drop 48 = dktX3_treeRow_2 := dk_seg dksX3_treeRow_1 24 rfl rfl
theorem dksX3_treeRow_3 : cX3_treeRow.data.toList.drop 70 = dktX3_treeRow_3 := dk_seg dksX3_treeRow_2 22 rfl rfl
theorem dX3_treeRow_0 : decode cX3_treeRow 0 = .ok (.iload_n 1, 1) := dk_27 (dk_at dksX3_treeRow_0 0 rfl rfl)
theorem dX3_treeRow_1 : decode cX3_treeRow 1 = .ok (.ifCond .ge 5, 3) := dk_156 0 5 (dk_at dksX3_treeRow_0 1 rfl rfl)
theorem dX3_treeRow_4 : decode cX3_treeRow 4 = .ok (.iconst (-1), 1) := dk_2 (dk_at dksX3_treeRow_0 4 rfl rfl)
theorem dX3_treeRow_5 : decode cX3_treeRow 5 = .ok (.ireturn, 1) := dk_172 (dk_at dksX3_treeRow_0 5 rfl rfl)
theorem dX3_treeRow_6 : decode cX3_treeRow 6 = .ok (.aload_n 0, 1) := dk_42 (dk_at dksX3_treeRow_0 6 rfl rfl)
theorem dX3_treeRow_7 : decode cX3_treeRow 7 = .ok (.invokevirtual 148, 3) := dk_182 0 148 (dk_at dksX3_treeRow_0 7 rfl rfl)
theorem dX3_treeRow_10 : decode cX3_treeRow 10 = .ok (.iconst 0, 1) := dk_3 (dk_at dksX3_treeRow_0 10 rfl rfl)
theorem dX3_treeRow_11 : decode cX3_treeRow 11 = .ok (.istore_n 2, 1) := dk_61 (dk_at dksX3_treeRow_0 11 rfl rfl)
theorem dX3_treeRow_12 : decode cX3_treeRow 12 = .ok (.iload_n 2, 1) := dk_28 (dk_at dksX3_treeRow_0 12 rfl rfl)
theorem dX3_treeRow_13 : decode cX3_treeRow 13 = .ok (.aload_n 0, 1) := dk_42 (dk_at dksX3_treeRow_0 13 rfl rfl)
theorem dX3_treeRow_14 : decode cX3_treeRow 14 = .ok (.getfield 7, 3) := dk_180 0 7 (dk_at dksX3_treeRow_0 14 rfl rfl)
theorem dX3_treeRow_17 : decode cX3_treeRow 17 = .ok (.iconst 0, 1) := dk_3 (dk_at dksX3_treeRow_0 17 rfl rfl)
theorem dX3_treeRow_18 : decode cX3_treeRow 18 = .ok (.iaload, 1) := dk_46 (dk_at dksX3_treeRow_0 18 rfl rfl)
theorem dX3_treeRow_19 : decode cX3_treeRow 19 = .ok (.if_icmp .ge 62, 3) := dk_162 0 62 (dk_at dksX3_treeRow_0 19 rfl rfl)
theorem dX3_treeRow_22 : decode cX3_treeRow 22 = .ok (.iconst 0, 1) := dk_3 (dk_at dksX3_treeRow_0 22 rfl rfl)
theorem dX3_treeRow_23 : decode cX3_treeRow 23 = .ok (.istore_n 3, 1) := dk_62 (dk_at dksX3_treeRow_0 23 rfl rfl)
theorem dX3_treeRow_24 : decode cX3_treeRow 24 = .ok (.iconst 0, 1) := dk_3 (dk_at dksX3_treeRow_1 0 rfl rfl)
theorem dX3_treeRow_25 : decode cX3_treeRow 25 = .ok (.istore 4, 2) := dk_54 4 (dk_at dksX3_treeRow_1 1 rfl rfl)
theorem dX3_treeRow_27 : decode cX3_treeRow 27 = .ok (.iload 4, 2) := dk_21 4 (dk_at dksX3_treeRow_1 3 rfl rfl)
theorem dX3_treeRow_29 : decode cX3_treeRow 29 = .ok (.aload_n 0, 1) := dk_42 (dk_at dksX3_treeRow_1 5 rfl rfl)
theorem dX3_treeRow_30 : decode cX3_treeRow 30 = .ok (.getfield 7, 3) := dk_180 0 7 (dk_at dksX3_treeRow_1 6 rfl rfl)
theorem dX3_treeRow_33 : decode cX3_treeRow 33 = .ok (.iconst 0, 1) := dk_3 (dk_at dksX3_treeRow_1 9 rfl rfl)
theorem dX3_treeRow_34 : decode cX3_treeRow 34 = .ok (.iaload, 1) := dk_46 (dk_at dksX3_treeRow_1 10 rfl rfl)
theorem dX3_treeRow_35 : decode cX3_treeRow 35 = .ok (.if_icmp .ge 33, 3) := dk_162 0 33 (dk_at dksX3_treeRow_1 11 rfl rfl)
theorem dX3_treeRow_38 : decode cX3_treeRow 38 = .ok (.iload_n 3, 1) := dk_29 (dk_at dksX3_treeRow_1 14 rfl rfl)
theorem dX3_treeRow_39 : decode cX3_treeRow 39 = .ok (.iload 4, 2) := dk_21 4 (dk_at dksX3_treeRow_1 15 rfl rfl)
theorem dX3_treeRow_41 : decode cX3_treeRow 41 = .ok (.iload_n 2, 1) := dk_28 (dk_at dksX3_treeRow_1 17 rfl rfl)
theorem dX3_treeRow_42 : decode cX3_treeRow 42 = .ok (.if_icmp .eq 17, 3) := dk_159 0 17 (dk_at dksX3_treeRow_1 18 rfl rfl)
theorem dX3_treeRow_45 : decode cX3_treeRow 45 = .ok (.aload_n 0, 1) := dk_42 (dk_at dksX3_treeRow_1 21 rfl rfl)
theorem dX3_treeRow_46 : decode cX3_treeRow 46 = .ok (.iload 4, 2) := dk_21 4 (dk_at dksX3_treeRow_1 22 rfl rfl)
theorem dX3_treeRow_48 : decode cX3_treeRow 48 = .ok (.iload_n 2, 1) := dk_28 (dk_at dksX3_treeRow_2 0 rfl rfl)
theorem dX3_treeRow_49 : decode cX3_treeRow 49 = .ok (.invokevirtual 210, 3) := dk_182 0 210 (dk_at dksX3_treeRow_2 1 rfl rfl)
theorem dX3_treeRow_52 : decode cX3_treeRow 52 = .ok (.ifCond .eq 7, 3) := dk_153 0 7 (dk_at dksX3_treeRow_2 4 rfl rfl)
theorem dX3_treeRow_55 : decode cX3_treeRow 55 = .ok (.iconst 1, 1) := dk_4 (dk_at dksX3_treeRow_2 7 rfl rfl)
theorem dX3_treeRow_56 : decode cX3_treeRow 56 = .ok (.goto 4, 3) := dk_167 0 4 (dk_at dksX3_treeRow_2 8 rfl rfl)
theorem dX3_treeRow_59 : decode cX3_treeRow 59 = .ok (.iconst 0, 1) := dk_3 (dk_at dksX3_treeRow_2 11 rfl rfl)
theorem dX3_treeRow_60 : decode cX3_treeRow 60 = .ok (.iadd, 1) := dk_96 (dk_at dksX3_treeRow_2 12 rfl rfl)
theorem dX3_treeRow_61 : decode cX3_treeRow 61 = .ok (.istore_n 3, 1) := dk_62 (dk_at dksX3_treeRow_2 13 rfl rfl)
theorem dX3_treeRow_62 : decode cX3_treeRow 62 = .ok (.iinc 4 1, 3) := dk_132 4 1 (dk_at dksX3_treeRow_2 14 rfl rfl)
theorem dX3_treeRow_65 : decode cX3_treeRow 65 = .ok (.goto (-38), 3) := dk_167 255 218 (dk_at dksX3_treeRow_2 17 rfl rfl)
theorem dX3_treeRow_68 : decode cX3_treeRow 68 = .ok (.iload_n 3, 1) := dk_29 (dk_at dksX3_treeRow_2 20 rfl rfl)
theorem dX3_treeRow_69 : decode cX3_treeRow 69 = .ok (.iload_n 1, 1) := dk_27 (dk_at dksX3_treeRow_2 21 rfl rfl)
theorem dX3_treeRow_70 : decode cX3_treeRow 70 = .ok (.if_icmp .ne 5, 3) := dk_160 0 5 (dk_at dksX3_treeRow_3 0 rfl rfl)
theorem dX3_treeRow_73 : decode cX3_treeRow 73 = .ok (.iload_n 2, 1) := dk_28 (dk_at dksX3_treeRow_3 3 rfl rfl)
theorem dX3_treeRow_74 : decode cX3_treeRow 74 = .ok (.ireturn, 1) := dk_172 (dk_at dksX3_treeRow_3 4 rfl rfl)
theorem dX3_treeRow_75 : decode cX3_treeRow 75 = .ok (.iinc 2 1, 3) := dk_132 2 1 (dk_at dksX3_treeRow_3 5 rfl rfl)
theorem dX3_treeRow_78 : decode cX3_treeRow 78 = .ok (.goto (-66), 3) := dk_167 255 190 (dk_at dksX3_treeRow_3 8 rfl rfl)
theorem dX3_treeRow_81 : decode cX3_treeRow 81 = .ok (.bipush (-4), 2) := dk_16 252 (dk_at dksX3_treeRow_3 11 rfl rfl)
theorem dX3_treeRow_83 : decode cX3_treeRow 83 = .ok (.ireturn, 1) := dk_172 (dk_at dksX3_treeRow_3 13 rfl rfl)
abbrev cX3_isAhead : ByteArray := prog_18_method_57_code
def yX3_isAhead : MethodName := ⟨RX3, "isAhead", "(II)Z"⟩
def dkwX3_isAhead_1 : List UInt8 := [162, 0, 7, 4, 167, 0, 4, 3, 172]
abbrev dktX3_isAhead_1 : List UInt8 := dkwX3_isAhead_1 ++ []
def dkwX3_isAhead_0 : List UInt8 := [42, 4, 27, 120, 4, 28, 120, 128, 182, 0, 191, 62, 42, 29, 27, 182, 0, 207, 42, 29, 28, 182, 0, 207]
abbrev dktX3_isAhead_0 : List UInt8 := dkwX3_isAhead_0 ++ dktX3_isAhead_1
theorem dksX3_isAhead_0 : cX3_isAhead.data.toList.drop 0 = dktX3_isAhead_0 := by decide +kernel
theorem dksX3_isAhead_1 : cX3_isAhead.data.toList.drop 24 = dktX3_isAhead_1 := dk_seg dksX3_isAhead_0 24 rfl rfl
theorem dX3_isAhead_0 : decode cX3_isAhead 0 = .ok (.aload_n 0, 1) := dk_42 (dk_at dksX3_isAhead_0 0 rfl rfl)
theorem dX3_isAhead_1 : decode cX3_isAhead 1 = .ok (.iconst 1, 1) := dk_4 (dk_at dksX3_isAhead_0 1 rfl rfl)
theorem dX3_isAhead_2 : decode cX3_isAhead 2 = .ok (.iload_n 1, 1) := dk_27 (dk_at dksX3_isAhead_0 2 rfl rfl)
theorem dX3_isAhead_3 : decode cX3_isAhead 3 = .ok (.ishl, 1) := dk_120 (dk_at dksX3_isAhead_0 3 rfl rfl)
theorem dX3_isAhead_4 : decode cX3_isAhead 4 = .ok (.iconst 1, 1) := dk_4 (dk_at dksX3_isAhead_0 4 rfl rfl)
theorem dX3_isAhead_5 : decode cX3_isAhead 5 = .ok (.iload_n 2, 1) := dk_28 (dk_at dksX3_isAhead_0 5 rfl rfl)
theorem dX3_isAhead_6 : decode cX3_isAhead 6 = .ok (.ishl, 1) := dk_120 (dk_at dksX3_isAhead_0 6 rfl rfl)
theorem dX3_isAhead_7 : decode cX3_isAhead 7 = .ok (.ior, 1) := dk_128 (dk_at dksX3_isAhead_0 7 rfl rfl)
theorem dX3_isAhead_8 : decode cX3_isAhead 8 = .ok (.invokevirtual 191, 3) := dk_182 0 191 (dk_at dksX3_isAhead_0 8 rfl rfl)
theorem dX3_isAhead_11 : decode cX3_isAhead 11 = .ok (.istore_n 3, 1) := dk_62 (dk_at dksX3_isAhead_0 11 rfl rfl)
theorem dX3_isAhead_12 : decode cX3_isAhead 12 = .ok (.aload_n 0, 1) := dk_42 (dk_at dksX3_isAhead_0 12 rfl rfl)
theorem dX3_isAhead_13 : decode cX3_isAhead 13 = .ok (.iload_n 3, 1) := dk_29 (dk_at dksX3_isAhead_0 13 rfl rfl)
theorem dX3_isAhead_14 : decode cX3_isAhead 14 = .ok (.iload_n 1, 1) := dk_27 (dk_at dksX3_isAhead_0 14 rfl rfl)
theorem dX3_isAhead_15 : decode cX3_isAhead 15 = .ok (.invokevirtual 207, 3) := dk_182 0 207 (dk_at dksX3_isAhead_0 15 rfl rfl)
theorem dX3_isAhead_18 : decode cX3_isAhead 18 = .ok (.aload_n 0, 1) := dk_42 (dk_at dksX3_isAhead_0 18 rfl rfl)
theorem dX3_isAhead_19 : decode cX3_isAhead 19 = .ok (.iload_n 3, 1) := dk_29 (dk_at dksX3_isAhead_0 19 rfl rfl)
theorem dX3_isAhead_20 : decode cX3_isAhead 20 = .ok (.iload_n 2, 1) := dk_28 (dk_at dksX3_isAhead_0 20 rfl rfl)
theorem dX3_isAhead_21 : decode cX3_isAhead 21 = .ok (.invokevirtual 207, 3) := dk_182 0 207 (dk_at dksX3_isAhead_0 21 rfl rfl)
theorem dX3_isAhead_24 : decode cX3_isAhead 24 = .ok (.if_icmp .ge 7, 3) := dk_162 0 7 (dk_at dksX3_isAhead_1 0 rfl rfl)
theorem dX3_isAhead_27 : decode cX3_isAhead 27 = .ok (.iconst 1, 1) := dk_4 (dk_at dksX3_isAhead_1 3 rfl rfl)
theorem dX3_isAhead_28 : decode cX3_isAhead 28 = .ok (.goto 4, 3) := dk_167 0 4 (dk_at dksX3_isAhead_1 4 rfl rfl)
theorem dX3_isAhead_31 : decode cX3_isAhead 31 = .ok (.iconst 0, 1) := dk_3 (dk_at dksX3_isAhead_1 7 rfl rfl)
theorem dX3_isAhead_32 : decode cX3_isAhead 32 = .ok (.ireturn, 1) := dk_172 (dk_at dksX3_isAhead_1 8 rfl rfl)
abbrev cX3_lowestInChild : ByteArray := prog_18_method_56_code
def yX3_lowestInChild : MethodName := ⟨RX3, "lowestInChild", "(II)I"⟩
def dkwX3_lowestInChild_2 : List UInt8 := [184, 0, 151, 167, 0, 4, 29, 62, 132, 4, 1, 167, 255, 204, 29, 172]
abbrev dktX3_lowestInChild_2 : List UInt8 := dkwX3_lowestInChild_2 ++ []
def dkwX3_lowestInChild_1 : List UInt8 := [160, 0, 30, 42, 180, 0, 29, 21, 4, 46, 28, 184, 0, 91, 153, 0, 16, 42, 180, 0, 29, 21, 4, 46]
abbrev dktX3_lowestInChild_1 : List UInt8 := dkwX3_lowestInChild_1 ++ dktX3_lowestInChild_2
def dkwX3_lowestInChild_0 : List UInt8 := [28, 62, 3, 54, 4, 21, 4, 42, 180, 0, 139, 162, 0, 49, 42, 180, 0, 32, 21, 4, 46, 27]
abbrev dktX3_lowestInChild_0 : List UInt8 := dkwX3_lowestInChild_0 ++ dktX3_lowestInChild_1
theorem dksX3_lowestInChild_0 : cX3_lowestInChild.data.toList.drop 0 = dktX3_lowestInChild_0 := by decide +kernel
theorem dksX3_lowestInChild_1 : cX3_lowestInChild.data.toList.drop 22 = dktX3_lowestInChild_1 := dk_seg dksX3_lowestInChild_0 22 rfl rfl
theorem dksX3_lowestInChild_2 : cX3_lowestInChild.data.toList.drop 46 = dktX3_lowestInChild_2 := dk_seg dksX3_lowestInChild_1 24 rfl rfl
theorem dX3_lowestInChild_0 : decode cX3_lowestInChild 0 = .ok (.iload_n 2, 1) := dk_28 (dk_at dksX3_lowestInChild_0 0 rfl rfl)
theorem dX3_lowestInChild_1 : decode cX3_lowestInChild 1 = .ok (.istore_n 3, 1) := dk_62 (dk_at dksX3_lowestInChild_0 1 rfl rfl)
theorem dX3_lowestInChild_2 : decode cX3_lowestInChild 2 = .ok (.iconst 0, 1) := dk_3 (dk_at dksX3_lowestInChild_0 2 rfl rfl)
theorem dX3_lowestInChild_3 : decode cX3_lowestInChild 3 = .ok (.istore 4, 2) := dk_54 4 (dk_at dksX3_lowestInChild_0 3 rfl rfl)
theorem dX3_lowestInChild_5 : decode cX3_lowestInChild 5 = .ok (.iload 4, 2) := dk_21 4 (dk_at dksX3_lowestInChild_0 5 rfl rfl)
theorem dX3_lowestInChild_7 : decode cX3_lowestInChild 7 = .ok (.aload_n 0, 1) := dk_42 (dk_at dksX3_lowestInChild_0 7 rfl rfl)
theorem dX3_lowestInChild_8 : decode cX3_lowestInChild 8 = .ok (.getfield 139, 3) := dk_180 0 139 (dk_at dksX3_lowestInChild_0 8 rfl rfl)
theorem dX3_lowestInChild_11 : decode cX3_lowestInChild 11 = .ok (.if_icmp .ge 49, 3) := dk_162 0 49 (dk_at dksX3_lowestInChild_0 11 rfl rfl)
theorem dX3_lowestInChild_14 : decode cX3_lowestInChild 14 = .ok (.aload_n 0, 1) := dk_42 (dk_at dksX3_lowestInChild_0 14 rfl rfl)
theorem dX3_lowestInChild_15 : decode cX3_lowestInChild 15 = .ok (.getfield 32, 3) := dk_180 0 32 (dk_at dksX3_lowestInChild_0 15 rfl rfl)
theorem dX3_lowestInChild_18 : decode cX3_lowestInChild 18 = .ok (.iload 4, 2) := dk_21 4 (dk_at dksX3_lowestInChild_0 18 rfl rfl)
theorem dX3_lowestInChild_20 : decode cX3_lowestInChild 20 = .ok (.iaload, 1) := dk_46 (dk_at dksX3_lowestInChild_0 20 rfl rfl)
theorem dX3_lowestInChild_21 : decode cX3_lowestInChild 21 = .ok (.iload_n 1, 1) := dk_27 (dk_at dksX3_lowestInChild_0 21 rfl rfl)
theorem dX3_lowestInChild_22 : decode cX3_lowestInChild 22 = .ok (.if_icmp .ne 30, 3) := dk_160 0 30 (dk_at dksX3_lowestInChild_1 0 rfl rfl)
theorem dX3_lowestInChild_25 : decode cX3_lowestInChild 25 = .ok (.aload_n 0, 1) := dk_42 (dk_at dksX3_lowestInChild_1 3 rfl rfl)
theorem dX3_lowestInChild_26 : decode cX3_lowestInChild 26 = .ok (.getfield 29, 3) := dk_180 0 29 (dk_at dksX3_lowestInChild_1 4 rfl rfl)
theorem dX3_lowestInChild_29 : decode cX3_lowestInChild 29 = .ok (.iload 4, 2) := dk_21 4 (dk_at dksX3_lowestInChild_1 7 rfl rfl)
theorem dX3_lowestInChild_31 : decode cX3_lowestInChild 31 = .ok (.iaload, 1) := dk_46 (dk_at dksX3_lowestInChild_1 9 rfl rfl)
theorem dX3_lowestInChild_32 : decode cX3_lowestInChild 32 = .ok (.iload_n 2, 1) := dk_28 (dk_at dksX3_lowestInChild_1 10 rfl rfl)
theorem dX3_lowestInChild_33 : decode cX3_lowestInChild 33 = .ok (.invokestatic 91, 3) := dk_184 0 91 (dk_at dksX3_lowestInChild_1 11 rfl rfl)
theorem dX3_lowestInChild_36 : decode cX3_lowestInChild 36 = .ok (.ifCond .eq 16, 3) := dk_153 0 16 (dk_at dksX3_lowestInChild_1 14 rfl rfl)
theorem dX3_lowestInChild_39 : decode cX3_lowestInChild 39 = .ok (.aload_n 0, 1) := dk_42 (dk_at dksX3_lowestInChild_1 17 rfl rfl)
theorem dX3_lowestInChild_40 : decode cX3_lowestInChild 40 = .ok (.getfield 29, 3) := dk_180 0 29 (dk_at dksX3_lowestInChild_1 18 rfl rfl)
theorem dX3_lowestInChild_43 : decode cX3_lowestInChild 43 = .ok (.iload 4, 2) := dk_21 4 (dk_at dksX3_lowestInChild_1 21 rfl rfl)
theorem dX3_lowestInChild_45 : decode cX3_lowestInChild 45 = .ok (.iaload, 1) := dk_46 (dk_at dksX3_lowestInChild_1 23 rfl rfl)
theorem dX3_lowestInChild_46 : decode cX3_lowestInChild 46 = .ok (.invokestatic 151, 3) := dk_184 0 151 (dk_at dksX3_lowestInChild_2 0 rfl rfl)
theorem dX3_lowestInChild_49 : decode cX3_lowestInChild 49 = .ok (.goto 4, 3) := dk_167 0 4 (dk_at dksX3_lowestInChild_2 3 rfl rfl)
theorem dX3_lowestInChild_52 : decode cX3_lowestInChild 52 = .ok (.iload_n 3, 1) := dk_29 (dk_at dksX3_lowestInChild_2 6 rfl rfl)
theorem dX3_lowestInChild_53 : decode cX3_lowestInChild 53 = .ok (.istore_n 3, 1) := dk_62 (dk_at dksX3_lowestInChild_2 7 rfl rfl)
theorem dX3_lowestInChild_54 : decode cX3_lowestInChild 54 = .ok (.iinc 4 1, 3) := dk_132 4 1 (dk_at dksX3_lowestInChild_2 8 rfl rfl)
theorem dX3_lowestInChild_57 : decode cX3_lowestInChild 57 = .ok (.goto (-52), 3) := dk_167 255 204 (dk_at dksX3_lowestInChild_2 11 rfl rfl)
theorem dX3_lowestInChild_60 : decode cX3_lowestInChild 60 = .ok (.iload_n 3, 1) := dk_29 (dk_at dksX3_lowestInChild_2 14 rfl rfl)
theorem dX3_lowestInChild_61 : decode cX3_lowestInChild 61 = .ok (.ireturn, 1) := dk_172 (dk_at dksX3_lowestInChild_2 15 rfl rfl)
abbrev cX3_rows : ByteArray := prog_18_method_59_code
def yX3_rows : MethodName := ⟨RX3, "rows", "()I"⟩
def dkwX3_rows_1 : List UInt8 := [164, 0, 13, 27, 29, 104, 60, 132, 3, 255, 167, 255, 244, 132, 2, 1, 167, 255, 224, 27, 172]
abbrev dktX3_rows_1 : List UInt8 := dkwX3_rows_1 ++ []
def dkwX3_rows_0 : List UInt8 := [42, 182, 0, 148, 4, 60, 3, 61, 28, 42, 180, 0, 139, 162, 0, 30, 42, 28, 182, 0, 157, 62, 29, 4]
abbrev dktX3_rows_0 : List UInt8 := dkwX3_rows_0 ++ dktX3_rows_1
theorem dksX3_rows_0 : cX3_rows.data.toList.drop 0 = dktX3_rows_0 := by decide +kernel
theorem dksX3_rows_1 : cX3_rows.data.toList.drop 24 = dktX3_rows_1 := dk_seg dksX3_rows_0 24 rfl rfl
theorem dX3_rows_0 : decode cX3_rows 0 = .ok (.aload_n 0, 1) := dk_42 (dk_at dksX3_rows_0 0 rfl rfl)
theorem dX3_rows_1 : decode cX3_rows 1 = .ok (.invokevirtual 148, 3) := dk_182 0 148 (dk_at dksX3_rows_0 1 rfl rfl)
theorem dX3_rows_4 : decode cX3_rows 4 = .ok (.iconst 1, 1) := dk_4 (dk_at dksX3_rows_0 4 rfl rfl)
theorem dX3_rows_5 : decode cX3_rows 5 = .ok (.istore_n 1, 1) := dk_60 (dk_at dksX3_rows_0 5 rfl rfl)
theorem dX3_rows_6 : decode cX3_rows 6 = .ok (.iconst 0, 1) := dk_3 (dk_at dksX3_rows_0 6 rfl rfl)
theorem dX3_rows_7 : decode cX3_rows 7 = .ok (.istore_n 2, 1) := dk_61 (dk_at dksX3_rows_0 7 rfl rfl)
theorem dX3_rows_8 : decode cX3_rows 8 = .ok (.iload_n 2, 1) := dk_28 (dk_at dksX3_rows_0 8 rfl rfl)
theorem dX3_rows_9 : decode cX3_rows 9 = .ok (.aload_n 0, 1) := dk_42 (dk_at dksX3_rows_0 9 rfl rfl)
theorem dX3_rows_10 : decode cX3_rows 10 = .ok (.getfield 139, 3) := dk_180 0 139 (dk_at dksX3_rows_0 10 rfl rfl)
theorem dX3_rows_13 : decode cX3_rows 13 = .ok (.if_icmp .ge 30, 3) := dk_162 0 30 (dk_at dksX3_rows_0 13 rfl rfl)
theorem dX3_rows_16 : decode cX3_rows 16 = .ok (.aload_n 0, 1) := dk_42 (dk_at dksX3_rows_0 16 rfl rfl)
theorem dX3_rows_17 : decode cX3_rows 17 = .ok (.iload_n 2, 1) := dk_28 (dk_at dksX3_rows_0 17 rfl rfl)
theorem dX3_rows_18 : decode cX3_rows 18 = .ok (.invokevirtual 157, 3) := dk_182 0 157 (dk_at dksX3_rows_0 18 rfl rfl)
theorem dX3_rows_21 : decode cX3_rows 21 = .ok (.istore_n 3, 1) := dk_62 (dk_at dksX3_rows_0 21 rfl rfl)
theorem dX3_rows_22 : decode cX3_rows 22 = .ok (.iload_n 3, 1) := dk_29 (dk_at dksX3_rows_0 22 rfl rfl)
theorem dX3_rows_23 : decode cX3_rows 23 = .ok (.iconst 1, 1) := dk_4 (dk_at dksX3_rows_0 23 rfl rfl)
theorem dX3_rows_24 : decode cX3_rows 24 = .ok (.if_icmp .le 13, 3) := dk_164 0 13 (dk_at dksX3_rows_1 0 rfl rfl)
theorem dX3_rows_27 : decode cX3_rows 27 = .ok (.iload_n 1, 1) := dk_27 (dk_at dksX3_rows_1 3 rfl rfl)
theorem dX3_rows_28 : decode cX3_rows 28 = .ok (.iload_n 3, 1) := dk_29 (dk_at dksX3_rows_1 4 rfl rfl)
theorem dX3_rows_29 : decode cX3_rows 29 = .ok (.imul, 1) := dk_104 (dk_at dksX3_rows_1 5 rfl rfl)
theorem dX3_rows_30 : decode cX3_rows 30 = .ok (.istore_n 1, 1) := dk_60 (dk_at dksX3_rows_1 6 rfl rfl)
theorem dX3_rows_31 : decode cX3_rows 31 = .ok (.iinc 3 (-1), 3) := dk_132 3 255 (dk_at dksX3_rows_1 7 rfl rfl)
theorem dX3_rows_34 : decode cX3_rows 34 = .ok (.goto (-12), 3) := dk_167 255 244 (dk_at dksX3_rows_1 10 rfl rfl)
theorem dX3_rows_37 : decode cX3_rows 37 = .ok (.iinc 2 1, 3) := dk_132 2 1 (dk_at dksX3_rows_1 13 rfl rfl)
theorem dX3_rows_40 : decode cX3_rows 40 = .ok (.goto (-32), 3) := dk_167 255 224 (dk_at dksX3_rows_1 16 rfl rfl)
theorem dX3_rows_43 : decode cX3_rows 43 = .ok (.iload_n 1, 1) := dk_27 (dk_at dksX3_rows_1 19 rfl rfl)
theorem dX3_rows_44 : decode cX3_rows 44 = .ok (.ireturn, 1) := dk_172 (dk_at dksX3_rows_1 20 rfl rfl)
abbrev cX3_forced : ByteArray := prog_18_method_65_code
def yX3_forced : MethodName := ⟨RX3, "forced", "(II)I"⟩
def dkwX3_forced_1 : List UInt8 := [180, 0, 213, 172]
abbrev dktX3_forced_1 : List UInt8 := dkwX3_forced_1 ++ []
def dkwX3_forced_0 : List UInt8 := [42, 27, 28, 182, 0, 225, 62, 29, 153, 0, 5, 29, 172, 42, 182, 0, 219, 42, 27, 28, 182, 0, 222, 42]
abbrev dktX3_forced_0 : List UInt8 := dkwX3_forced_0 ++ dktX3_forced_1
theorem dksX3_forced_0 : cX3_forced.data.toList.drop 0 = dktX3_forced_0 := by decide +kernel
theorem dksX3_forced_1 : cX3_forced.data.toList.drop 24 = dktX3_forced_1 := dk_seg dksX3_forced_0 24 rfl rfl
theorem dX3_forced_0 : decode cX3_forced 0 = .ok (.aload_n 0, 1) := dk_42 (dk_at dksX3_forced_0 0 rfl rfl)
theorem dX3_forced_1 : decode cX3_forced 1 = .ok (.iload_n 1, 1) := dk_27 (dk_at dksX3_forced_0 1 rfl rfl)
theorem dX3_forced_2 : decode cX3_forced 2 = .ok (.iload_n 2, 1) := dk_28 (dk_at dksX3_forced_0 2 rfl rfl)
theorem dX3_forced_3 : decode cX3_forced 3 = .ok (.invokevirtual 225, 3) := dk_182 0 225 (dk_at dksX3_forced_0 3 rfl rfl)
theorem dX3_forced_6 : decode cX3_forced 6 = .ok (.istore_n 3, 1) := dk_62 (dk_at dksX3_forced_0 6 rfl rfl)
theorem dX3_forced_7 : decode cX3_forced 7 = .ok (.iload_n 3, 1) := dk_29 (dk_at dksX3_forced_0 7 rfl rfl)
theorem dX3_forced_8 : decode cX3_forced 8 = .ok (.ifCond .eq 5, 3) := dk_153 0 5 (dk_at dksX3_forced_0 8 rfl rfl)
theorem dX3_forced_11 : decode cX3_forced 11 = .ok (.iload_n 3, 1) := dk_29 (dk_at dksX3_forced_0 11 rfl rfl)
theorem dX3_forced_12 : decode cX3_forced 12 = .ok (.ireturn, 1) := dk_172 (dk_at dksX3_forced_0 12 rfl rfl)
theorem dX3_forced_13 : decode cX3_forced 13 = .ok (.aload_n 0, 1) := dk_42 (dk_at dksX3_forced_0 13 rfl rfl)
theorem dX3_forced_14 : decode cX3_forced 14 = .ok (.invokevirtual 219, 3) := dk_182 0 219 (dk_at dksX3_forced_0 14 rfl rfl)
theorem dX3_forced_17 : decode cX3_forced 17 = .ok (.aload_n 0, 1) := dk_42 (dk_at dksX3_forced_0 17 rfl rfl)
theorem dX3_forced_18 : decode cX3_forced 18 = .ok (.iload_n 1, 1) := dk_27 (dk_at dksX3_forced_0 18 rfl rfl)
theorem dX3_forced_19 : decode cX3_forced 19 = .ok (.iload_n 2, 1) := dk_28 (dk_at dksX3_forced_0 19 rfl rfl)
theorem dX3_forced_20 : decode cX3_forced 20 = .ok (.invokevirtual 222, 3) := dk_182 0 222 (dk_at dksX3_forced_0 20 rfl rfl)
theorem dX3_forced_23 : decode cX3_forced 23 = .ok (.aload_n 0, 1) := dk_42 (dk_at dksX3_forced_0 23 rfl rfl)
theorem dX3_forced_24 : decode cX3_forced 24 = .ok (.getfield 213, 3) := dk_180 0 213 (dk_at dksX3_forced_1 0 rfl rfl)
theorem dX3_forced_27 : decode cX3_forced 27 = .ok (.ireturn, 1) := dk_172 (dk_at dksX3_forced_1 3 rfl rfl)
abbrev cX3_notLinked : ByteArray := prog_18_method_64_code
def yX3_notLinked : MethodName := ⟨RX3, "notLinked", "(II)I"⟩
def dkwX3_notLinked_1 : List UInt8 := [182, 0, 126, 153, 0, 7, 3, 167, 0, 5, 16, 254, 172]
abbrev dktX3_notLinked_1 : List UInt8 := dkwX3_notLinked_1 ++ []
def dkwX3_notLinked_0 : List UInt8 := [42, 27, 182, 0, 122, 153, 0, 11, 42, 28, 182, 0, 122, 154, 0, 7, 2, 167, 0, 18, 42, 27, 28]
abbrev dktX3_notLinked_0 : List UInt8 := dkwX3_notLinked_0 ++ dktX3_notLinked_1
theorem dksX3_notLinked_0 : cX3_notLinked.data.toList.drop 0 = dktX3_notLinked_0 := by decide +kernel
theorem dksX3_notLinked_1 : cX3_notLinked.data.toList.drop 23 = dktX3_notLinked_1 := dk_seg dksX3_notLinked_0 23 rfl rfl
theorem dX3_notLinked_0 : decode cX3_notLinked 0 = .ok (.aload_n 0, 1) := dk_42 (dk_at dksX3_notLinked_0 0 rfl rfl)
theorem dX3_notLinked_1 : decode cX3_notLinked 1 = .ok (.iload_n 1, 1) := dk_27 (dk_at dksX3_notLinked_0 1 rfl rfl)
theorem dX3_notLinked_2 : decode cX3_notLinked 2 = .ok (.invokevirtual 122, 3) := dk_182 0 122 (dk_at dksX3_notLinked_0 2 rfl rfl)
theorem dX3_notLinked_5 : decode cX3_notLinked 5 = .ok (.ifCond .eq 11, 3) := dk_153 0 11 (dk_at dksX3_notLinked_0 5 rfl rfl)
theorem dX3_notLinked_8 : decode cX3_notLinked 8 = .ok (.aload_n 0, 1) := dk_42 (dk_at dksX3_notLinked_0 8 rfl rfl)
theorem dX3_notLinked_9 : decode cX3_notLinked 9 = .ok (.iload_n 2, 1) := dk_28 (dk_at dksX3_notLinked_0 9 rfl rfl)
theorem dX3_notLinked_10 : decode cX3_notLinked 10 = .ok (.invokevirtual 122, 3) := dk_182 0 122 (dk_at dksX3_notLinked_0 10 rfl rfl)
theorem dX3_notLinked_13 : decode cX3_notLinked 13 = .ok (.ifCond .ne 7, 3) := dk_154 0 7 (dk_at dksX3_notLinked_0 13 rfl rfl)
theorem dX3_notLinked_16 : decode cX3_notLinked 16 = .ok (.iconst (-1), 1) := dk_2 (dk_at dksX3_notLinked_0 16 rfl rfl)
theorem dX3_notLinked_17 : decode cX3_notLinked 17 = .ok (.goto 18, 3) := dk_167 0 18 (dk_at dksX3_notLinked_0 17 rfl rfl)
theorem dX3_notLinked_20 : decode cX3_notLinked 20 = .ok (.aload_n 0, 1) := dk_42 (dk_at dksX3_notLinked_0 20 rfl rfl)
theorem dX3_notLinked_21 : decode cX3_notLinked 21 = .ok (.iload_n 1, 1) := dk_27 (dk_at dksX3_notLinked_0 21 rfl rfl)
theorem dX3_notLinked_22 : decode cX3_notLinked 22 = .ok (.iload_n 2, 1) := dk_28 (dk_at dksX3_notLinked_0 22 rfl rfl)
theorem dX3_notLinked_23 : decode cX3_notLinked 23 = .ok (.invokevirtual 126, 3) := dk_182 0 126 (dk_at dksX3_notLinked_1 0 rfl rfl)
theorem dX3_notLinked_26 : decode cX3_notLinked 26 = .ok (.ifCond .eq 7, 3) := dk_153 0 7 (dk_at dksX3_notLinked_1 3 rfl rfl)
theorem dX3_notLinked_29 : decode cX3_notLinked 29 = .ok (.iconst 0, 1) := dk_3 (dk_at dksX3_notLinked_1 6 rfl rfl)
theorem dX3_notLinked_30 : decode cX3_notLinked 30 = .ok (.goto 5, 3) := dk_167 0 5 (dk_at dksX3_notLinked_1 7 rfl rfl)
theorem dX3_notLinked_33 : decode cX3_notLinked 33 = .ok (.bipush (-2), 2) := dk_16 254 (dk_at dksX3_notLinked_1 10 rfl rfl)
theorem dX3_notLinked_35 : decode cX3_notLinked 35 = .ok (.ireturn, 1) := dk_172 (dk_at dksX3_notLinked_1 12 rfl rfl)
abbrev cX3_firstForced : ByteArray := prog_18_method_66_code
def yX3_firstForced : MethodName := ⟨RX3, "firstForced", "(II)I"⟩
def dkwX3_firstForced_1 : List UInt8 := [54, 4, 42, 180, 0, 38, 21, 4, 51, 154, 0, 9, 132, 4, 1, 167, 255, 243, 21, 4, 172]
abbrev dktX3_firstForced_1 : List UInt8 := dkwX3_firstForced_1 ++ []
def dkwX3_firstForced_0 : List UInt8 := [42, 27, 28, 182, 0, 225, 62, 29, 153, 0, 5, 29, 172, 42, 182, 0, 219, 42, 27, 28, 182, 0, 222, 3]
abbrev dktX3_firstForced_0 : List UInt8 := dkwX3_firstForced_0 ++ dktX3_firstForced_1
theorem dksX3_firstForced_0 : cX3_firstForced.data.toList.drop 0 = dktX3_firstForced_0 := by decide +kernel
theorem dksX3_firstForced_1 : cX3_firstForced.data.toList.drop 24 = dktX3_firstForced_1 := dk_seg dksX3_firstForced_0 24 rfl rfl
theorem dX3_firstForced_0 : decode cX3_firstForced 0 = .ok (.aload_n 0, 1) := dk_42 (dk_at dksX3_firstForced_0 0 rfl rfl)
theorem dX3_firstForced_1 : decode cX3_firstForced 1 = .ok (.iload_n 1, 1) := dk_27 (dk_at dksX3_firstForced_0 1 rfl rfl)
theorem dX3_firstForced_2 : decode cX3_firstForced 2 = .ok (.iload_n 2, 1) := dk_28 (dk_at dksX3_firstForced_0 2 rfl rfl)
theorem dX3_firstForced_3 : decode cX3_firstForced 3 = .ok (.invokevirtual 225, 3) := dk_182 0 225 (dk_at dksX3_firstForced_0 3 rfl rfl)
theorem dX3_firstForced_6 : decode cX3_firstForced 6 = .ok (.istore_n 3, 1) := dk_62 (dk_at dksX3_firstForced_0 6 rfl rfl)
theorem dX3_firstForced_7 : decode cX3_firstForced 7 = .ok (.iload_n 3, 1) := dk_29 (dk_at dksX3_firstForced_0 7 rfl rfl)
theorem dX3_firstForced_8 : decode cX3_firstForced 8 = .ok (.ifCond .eq 5, 3) := dk_153 0 5 (dk_at dksX3_firstForced_0 8 rfl rfl)
theorem dX3_firstForced_11 : decode cX3_firstForced 11 = .ok (.iload_n 3, 1) := dk_29 (dk_at dksX3_firstForced_0 11 rfl rfl)
theorem dX3_firstForced_12 : decode cX3_firstForced 12 = .ok (.ireturn, 1) := dk_172 (dk_at dksX3_firstForced_0 12 rfl rfl)
theorem dX3_firstForced_13 : decode cX3_firstForced 13 = .ok (.aload_n 0, 1) := dk_42 (dk_at dksX3_firstForced_0 13 rfl rfl)
theorem dX3_firstForced_14 : decode cX3_firstForced 14 = .ok (.invokevirtual 219, 3) := dk_182 0 219 (dk_at dksX3_firstForced_0 14 rfl rfl)
theorem dX3_firstForced_17 : decode cX3_firstForced 17 = .ok (.aload_n 0, 1) := dk_42 (dk_at dksX3_firstForced_0 17 rfl rfl)
theorem dX3_firstForced_18 : decode cX3_firstForced 18 = .ok (.iload_n 1, 1) := dk_27 (dk_at dksX3_firstForced_0 18 rfl rfl)
theorem dX3_firstForced_19 : decode cX3_firstForced 19 = .ok (.iload_n 2, 1) := dk_28 (dk_at dksX3_firstForced_0 19 rfl rfl)
theorem dX3_firstForced_20 : decode cX3_firstForced 20 = .ok (.invokevirtual 222, 3) := dk_182 0 222 (dk_at dksX3_firstForced_0 20 rfl rfl)
theorem dX3_firstForced_23 : decode cX3_firstForced 23 = .ok (.iconst 0, 1) := dk_3 (dk_at dksX3_firstForced_0 23 rfl rfl)
theorem dX3_firstForced_24 : decode cX3_firstForced 24 = .ok (.istore 4, 2) := dk_54 4 (dk_at dksX3_firstForced_1 0 rfl rfl)
theorem dX3_firstForced_26 : decode cX3_firstForced 26 = .ok (.aload_n 0, 1) := dk_42 (dk_at dksX3_firstForced_1 2 rfl rfl)
theorem dX3_firstForced_27 : decode cX3_firstForced 27 = .ok (.getfield 38, 3) := dk_180 0 38 (dk_at dksX3_firstForced_1 3 rfl rfl)
theorem dX3_firstForced_30 : decode cX3_firstForced 30 = .ok (.iload 4, 2) := dk_21 4 (dk_at dksX3_firstForced_1 6 rfl rfl)
theorem dX3_firstForced_32 : decode cX3_firstForced 32 = .ok (.baload, 1) := dk_51 (dk_at dksX3_firstForced_1 8 rfl rfl)
theorem dX3_firstForced_33 : decode cX3_firstForced 33 = .ok (.ifCond .ne 9, 3) := dk_154 0 9 (dk_at dksX3_firstForced_1 9 rfl rfl)
theorem dX3_firstForced_36 : decode cX3_firstForced 36 = .ok (.iinc 4 1, 3) := dk_132 4 1 (dk_at dksX3_firstForced_1 12 rfl rfl)
theorem dX3_firstForced_39 : decode cX3_firstForced 39 = .ok (.goto (-13), 3) := dk_167 255 243 (dk_at dksX3_firstForced_1 15 rfl rfl)
theorem dX3_firstForced_42 : decode cX3_firstForced 42 = .ok (.iload 4, 2) := dk_21 4 (dk_at dksX3_firstForced_1 18 rfl rfl)
theorem dX3_firstForced_44 : decode cX3_firstForced 44 = .ok (.ireturn, 1) := dk_172 (dk_at dksX3_firstForced_1 20 rfl rfl)
abbrev cX3_steps : ByteArray := prog_18_method_70_code
def yX3_steps : MethodName := ⟨RX3, "steps", "()I"⟩
def dkwX3_steps_0 : List UInt8 := [42, 182, 0, 240, 153, 0, 10, 42, 180, 0, 228, 167, 0, 5, 16, 254, 172]
abbrev dktX3_steps_0 : List UInt8 := dkwX3_steps_0 ++ []
theorem dksX3_steps_0 : cX3_steps.data.toList.drop 0 = dktX3_steps_0 := by decide +kernel
theorem dX3_steps_0 : decode cX3_steps 0 = .ok (.aload_n 0, 1) := dk_42 (dk_at dksX3_steps_0 0 rfl rfl)
theorem dX3_steps_1 : decode cX3_steps 1 = .ok (.invokevirtual 240, 3) := dk_182 0 240 (dk_at dksX3_steps_0 1 rfl rfl)
theorem dX3_steps_4 : decode cX3_steps 4 = .ok (.ifCond .eq 10, 3) := dk_153 0 10 (dk_at dksX3_steps_0 4 rfl rfl)
theorem dX3_steps_7 : decode cX3_steps 7 = .ok (.aload_n 0, 1) := dk_42 (dk_at dksX3_steps_0 7 rfl rfl)
theorem dX3_steps_8 : decode cX3_steps 8 = .ok (.getfield 228, 3) := dk_180 0 228 (dk_at dksX3_steps_0 8 rfl rfl)
theorem dX3_steps_11 : decode cX3_steps 11 = .ok (.goto 5, 3) := dk_167 0 5 (dk_at dksX3_steps_0 11 rfl rfl)
theorem dX3_steps_14 : decode cX3_steps 14 = .ok (.bipush (-2), 2) := dk_16 254 (dk_at dksX3_steps_0 14 rfl rfl)
theorem dX3_steps_16 : decode cX3_steps 16 = .ok (.ireturn, 1) := dk_172 (dk_at dksX3_steps_0 16 rfl rfl)
abbrev cX3_orients : ByteArray := prog_18_method_69_code
def yX3_orients : MethodName := ⟨RX3, "orients", "()Z"⟩
def dkwX3_orients_3 : List UInt8 := [182, 0, 234, 182, 0, 237, 181, 0, 231, 167, 255, 228, 42, 180, 0, 231, 172]
abbrev dktX3_orients_3 : List UInt8 := dkwX3_orients_3 ++ []
def dkwX3_orients_2 : List UInt8 := [4, 181, 0, 231, 42, 180, 0, 231, 153, 0, 27, 42, 182, 0, 234, 16, 100, 162, 0, 18, 42, 42, 42]
abbrev dktX3_orients_2 : List UInt8 := dkwX3_orients_2 ++ dktX3_orients_3
def dkwX3_orients_1 : List UInt8 := [27, 16, 100, 162, 0, 16, 42, 180, 0, 47, 27, 3, 79, 132, 1, 1, 167, 255, 240, 42, 182, 0, 219, 42]
abbrev dktX3_orients_1 : List UInt8 := dkwX3_orients_1 ++ dktX3_orients_2
def dkwX3_orients_0 : List UInt8 := [42, 180, 0, 116, 153, 0, 8, 42, 180, 0, 231, 172, 42, 4, 181, 0, 116, 42, 3, 181, 0, 228, 3, 60]
abbrev dktX3_orients_0 : List UInt8 := dkwX3_orients_0 ++ dktX3_orients_1
theorem dksX3_orients_0 : cX3_orients.data.toList.drop 0 = dktX3_orients_0 := by decide +kernel
theorem dksX3_orients_1 : cX3_orients.data.toList.drop 24 = dktX3_orients_1 := dk_seg dksX3_orients_0 24 rfl rfl
theorem dksX3_orients_2 : cX3_orients.data.toList.drop 48 = dktX3_orients_2 := dk_seg dksX3_orients_1 24 rfl rfl
theorem dksX3_orients_3 : cX3_orients.data.toList.drop 71 = dktX3_orients_3 := dk_seg dksX3_orients_2 23 rfl rfl
theorem dX3_orients_0 : decode cX3_orients 0 = .ok (.aload_n 0, 1) := dk_42 (dk_at dksX3_orients_0 0 rfl rfl)
theorem dX3_orients_1 : decode cX3_orients 1 = .ok (.getfield 116, 3) := dk_180 0 116 (dk_at dksX3_orients_0 1 rfl rfl)
theorem dX3_orients_4 : decode cX3_orients 4 = .ok (.ifCond .eq 8, 3) := dk_153 0 8 (dk_at dksX3_orients_0 4 rfl rfl)
theorem dX3_orients_7 : decode cX3_orients 7 = .ok (.aload_n 0, 1) := dk_42 (dk_at dksX3_orients_0 7 rfl rfl)
theorem dX3_orients_8 : decode cX3_orients 8 = .ok (.getfield 231, 3) := dk_180 0 231 (dk_at dksX3_orients_0 8 rfl rfl)
theorem dX3_orients_11 : decode cX3_orients 11 = .ok (.ireturn, 1) := dk_172 (dk_at dksX3_orients_0 11 rfl rfl)
theorem dX3_orients_12 : decode cX3_orients 12 = .ok (.aload_n 0, 1) := dk_42 (dk_at dksX3_orients_0 12 rfl rfl)
theorem dX3_orients_13 : decode cX3_orients 13 = .ok (.iconst 1, 1) := dk_4 (dk_at dksX3_orients_0 13 rfl rfl)
theorem dX3_orients_14 : decode cX3_orients 14 = .ok (.putfield 116, 3) := dk_181 0 116 (dk_at dksX3_orients_0 14 rfl rfl)
theorem dX3_orients_17 : decode cX3_orients 17 = .ok (.aload_n 0, 1) := dk_42 (dk_at dksX3_orients_0 17 rfl rfl)
theorem dX3_orients_18 : decode cX3_orients 18 = .ok (.iconst 0, 1) := dk_3 (dk_at dksX3_orients_0 18 rfl rfl)
theorem dX3_orients_19 : decode cX3_orients 19 = .ok (.putfield 228, 3) := dk_181 0 228 (dk_at dksX3_orients_0 19 rfl rfl)
theorem dX3_orients_22 : decode cX3_orients 22 = .ok (.iconst 0, 1) := dk_3 (dk_at dksX3_orients_0 22 rfl rfl)
theorem dX3_orients_23 : decode cX3_orients 23 = .ok (.istore_n 1, 1) := dk_60 (dk_at dksX3_orients_0 23 rfl rfl)
theorem dX3_orients_24 : decode cX3_orients 24 = .ok (.iload_n 1, 1) := dk_27 (dk_at dksX3_orients_1 0 rfl rfl)
theorem dX3_orients_25 : decode cX3_orients 25 = .ok (.bipush 100, 2) := dk_16 100 (dk_at dksX3_orients_1 1 rfl rfl)
theorem dX3_orients_27 : decode cX3_orients 27 = .ok (.if_icmp .ge 16, 3) := dk_162 0 16 (dk_at dksX3_orients_1 3 rfl rfl)
theorem dX3_orients_30 : decode cX3_orients 30 = .ok (.aload_n 0, 1) := dk_42 (dk_at dksX3_orients_1 6 rfl rfl)
theorem dX3_orients_31 : decode cX3_orients 31 = .ok (.getfield 47, 3) := dk_180 0 47 (dk_at dksX3_orients_1 7 rfl rfl)
theorem dX3_orients_34 : decode cX3_orients 34 = .ok (.iload_n 1, 1) := dk_27 (dk_at dksX3_orients_1 10 rfl rfl)
theorem dX3_orients_35 : decode cX3_orients 35 = .ok (.iconst 0, 1) := dk_3 (dk_at dksX3_orients_1 11 rfl rfl)
theorem dX3_orients_36 : decode cX3_orients 36 = .ok (.iastore, 1) := dk_79 (dk_at dksX3_orients_1 12 rfl rfl)
theorem dX3_orients_37 : decode cX3_orients 37 = .ok (.iinc 1 1, 3) := dk_132 1 1 (dk_at dksX3_orients_1 13 rfl rfl)
theorem dX3_orients_40 : decode cX3_orients 40 = .ok (.goto (-16), 3) := dk_167 255 240 (dk_at dksX3_orients_1 16 rfl rfl)
theorem dX3_orients_43 : decode cX3_orients 43 = .ok (.aload_n 0, 1) := dk_42 (dk_at dksX3_orients_1 19 rfl rfl)
theorem dX3_orients_44 : decode cX3_orients 44 = .ok (.invokevirtual 219, 3) := dk_182 0 219 (dk_at dksX3_orients_1 20 rfl rfl)
theorem dX3_orients_47 : decode cX3_orients 47 = .ok (.aload_n 0, 1) := dk_42 (dk_at dksX3_orients_1 23 rfl rfl)
theorem dX3_orients_48 : decode cX3_orients 48 = .ok (.iconst 1, 1) := dk_4 (dk_at dksX3_orients_2 0 rfl rfl)
theorem dX3_orients_49 : decode cX3_orients 49 = .ok (.putfield 231, 3) := dk_181 0 231 (dk_at dksX3_orients_2 1 rfl rfl)
theorem dX3_orients_52 : decode cX3_orients 52 = .ok (.aload_n 0, 1) := dk_42 (dk_at dksX3_orients_2 4 rfl rfl)
theorem dX3_orients_53 : decode cX3_orients 53 = .ok (.getfield 231, 3) := dk_180 0 231 (dk_at dksX3_orients_2 5 rfl rfl)
theorem dX3_orients_56 : decode cX3_orients 56 = .ok (.ifCond .eq 27, 3) := dk_153 0 27 (dk_at dksX3_orients_2 8 rfl rfl)
theorem dX3_orients_59 : decode cX3_orients 59 = .ok (.aload_n 0, 1) := dk_42 (dk_at dksX3_orients_2 11 rfl rfl)
theorem dX3_orients_60 : decode cX3_orients 60 = .ok (.invokevirtual 234, 3) := dk_182 0 234 (dk_at dksX3_orients_2 12 rfl rfl)
theorem dX3_orients_63 : decode cX3_orients 63 = .ok (.bipush 100, 2) := dk_16 100 (dk_at dksX3_orients_2 15 rfl rfl)
theorem dX3_orients_65 : decode cX3_orients 65 = .ok (.if_icmp .ge 18, 3) := dk_162 0 18 (dk_at dksX3_orients_2 17 rfl rfl)
theorem dX3_orients_68 : decode cX3_orients 68 = .ok (.aload_n 0, 1) := dk_42 (dk_at dksX3_orients_2 20 rfl rfl)
theorem dX3_orients_69 : decode cX3_orients 69 = .ok (.aload_n 0, 1) := dk_42 (dk_at dksX3_orients_2 21 rfl rfl)
theorem dX3_orients_70 : decode cX3_orients 70 = .ok (.aload_n 0, 1) := dk_42 (dk_at dksX3_orients_2 22 rfl rfl)
theorem dX3_orients_71 : decode cX3_orients 71 = .ok (.invokevirtual 234, 3) := dk_182 0 234 (dk_at dksX3_orients_3 0 rfl rfl)
theorem dX3_orients_74 : decode cX3_orients 74 = .ok (.invokevirtual 237, 3) := dk_182 0 237 (dk_at dksX3_orients_3 3 rfl rfl)
theorem dX3_orients_77 : decode cX3_orients 77 = .ok (.putfield 231, 3) := dk_181 0 231 (dk_at dksX3_orients_3 6 rfl rfl)
theorem dX3_orients_80 : decode cX3_orients 80 = .ok (.goto (-28), 3) := dk_167 255 228 (dk_at dksX3_orients_3 9 rfl rfl)
theorem dX3_orients_83 : decode cX3_orients 83 = .ok (.aload_n 0, 1) := dk_42 (dk_at dksX3_orients_3 12 rfl rfl)
theorem dX3_orients_84 : decode cX3_orients 84 = .ok (.getfield 231, 3) := dk_180 0 231 (dk_at dksX3_orients_3 13 rfl rfl)
theorem dX3_orients_87 : decode cX3_orients 87 = .ok (.ireturn, 1) := dk_172 (dk_at dksX3_orients_3 16 rfl rfl)
abbrev cX3_firstLeft : ByteArray := prog_18_method_67_code
def yX3_firstLeft : MethodName := ⟨RX3, "firstLeft", "()I"⟩
def dkwX3_firstLeft_1 : List UInt8 := [154, 0, 9, 132, 1, 1, 167, 255, 228, 27, 172]
abbrev dktX3_firstLeft_1 : List UInt8 := dkwX3_firstLeft_1 ++ []
def dkwX3_firstLeft_0 : List UInt8 := [3, 60, 27, 16, 100, 162, 0, 28, 42, 180, 0, 35, 27, 16, 10, 108, 46, 27, 16, 10, 112, 184, 0, 91]
abbrev dktX3_firstLeft_0 : List UInt8 := dkwX3_firstLeft_0 ++ dktX3_firstLeft_1
theorem dksX3_firstLeft_0 : cX3_firstLeft.data.toList.drop 0 = dktX3_firstLeft_0 := by decide +kernel
theorem dksX3_firstLeft_1 : cX3_firstLeft.data.toList.drop 24 = dktX3_firstLeft_1 := dk_seg dksX3_firstLeft_0 24 rfl rfl
theorem dX3_firstLeft_0 : decode cX3_firstLeft 0 = .ok (.iconst 0, 1) := dk_3 (dk_at dksX3_firstLeft_0 0 rfl rfl)
theorem dX3_firstLeft_1 : decode cX3_firstLeft 1 = .ok (.istore_n 1, 1) := dk_60 (dk_at dksX3_firstLeft_0 1 rfl rfl)
theorem dX3_firstLeft_2 : decode cX3_firstLeft 2 = .ok (.iload_n 1, 1) := dk_27 (dk_at dksX3_firstLeft_0 2 rfl rfl)
theorem dX3_firstLeft_3 : decode cX3_firstLeft 3 = .ok (.bipush 100, 2) := dk_16 100 (dk_at dksX3_firstLeft_0 3 rfl rfl)
theorem dX3_firstLeft_5 : decode cX3_firstLeft 5 = .ok (.if_icmp .ge 28, 3) := dk_162 0 28 (dk_at dksX3_firstLeft_0 5 rfl rfl)
theorem dX3_firstLeft_8 : decode cX3_firstLeft 8 = .ok (.aload_n 0, 1) := dk_42 (dk_at dksX3_firstLeft_0 8 rfl rfl)
theorem dX3_firstLeft_9 : decode cX3_firstLeft 9 = .ok (.getfield 35, 3) := dk_180 0 35 (dk_at dksX3_firstLeft_0 9 rfl rfl)
theorem dX3_firstLeft_12 : decode cX3_firstLeft 12 = .ok (.iload_n 1, 1) := dk_27 (dk_at dksX3_firstLeft_0 12 rfl rfl)
theorem dX3_firstLeft_13 : decode cX3_firstLeft 13 = .ok (.bipush 10, 2) := dk_16 10 (dk_at dksX3_firstLeft_0 13 rfl rfl)
theorem dX3_firstLeft_15 : decode cX3_firstLeft 15 = .ok (.idiv, 1) := dk_108 (dk_at dksX3_firstLeft_0 15 rfl rfl)
theorem dX3_firstLeft_16 : decode cX3_firstLeft 16 = .ok (.iaload, 1) := dk_46 (dk_at dksX3_firstLeft_0 16 rfl rfl)
theorem dX3_firstLeft_17 : decode cX3_firstLeft 17 = .ok (.iload_n 1, 1) := dk_27 (dk_at dksX3_firstLeft_0 17 rfl rfl)
theorem dX3_firstLeft_18 : decode cX3_firstLeft 18 = .ok (.bipush 10, 2) := dk_16 10 (dk_at dksX3_firstLeft_0 18 rfl rfl)
theorem dX3_firstLeft_20 : decode cX3_firstLeft 20 = .ok (.irem, 1) := dk_112 (dk_at dksX3_firstLeft_0 20 rfl rfl)
theorem dX3_firstLeft_21 : decode cX3_firstLeft 21 = .ok (.invokestatic 91, 3) := dk_184 0 91 (dk_at dksX3_firstLeft_0 21 rfl rfl)
theorem dX3_firstLeft_24 : decode cX3_firstLeft 24 = .ok (.ifCond .ne 9, 3) := dk_154 0 9 (dk_at dksX3_firstLeft_1 0 rfl rfl)
theorem dX3_firstLeft_27 : decode cX3_firstLeft 27 = .ok (.iinc 1 1, 3) := dk_132 1 1 (dk_at dksX3_firstLeft_1 3 rfl rfl)
theorem dX3_firstLeft_30 : decode cX3_firstLeft 30 = .ok (.goto (-28), 3) := dk_167 255 228 (dk_at dksX3_firstLeft_1 6 rfl rfl)
theorem dX3_firstLeft_33 : decode cX3_firstLeft 33 = .ok (.iload_n 1, 1) := dk_27 (dk_at dksX3_firstLeft_1 9 rfl rfl)
theorem dX3_firstLeft_34 : decode cX3_firstLeft 34 = .ok (.ireturn, 1) := dk_172 (dk_at dksX3_firstLeft_1 10 rfl rfl)
abbrev cX3_goesOn : ByteArray := prog_18_method_68_code
def yX3_goesOn : MethodName := ⟨RX3, "goesOn", "(I)Z"⟩
def dkwX3_goesOn_6 : List UInt8 := [21, 4, 92, 46, 4, 29, 120, 2, 130, 126, 79, 132, 2, 1, 167, 255, 179, 4, 172]
abbrev dktX3_goesOn_6 : List UInt8 := dkwX3_goesOn_6 ++ []
def dkwX3_goesOn_5 : List UInt8 := [180, 0, 228, 79, 42, 180, 0, 35, 29, 92, 46, 4, 21, 4, 120, 2, 130, 126, 79, 42, 180, 0, 35]
abbrev dktX3_goesOn_5 : List UInt8 := dkwX3_goesOn_5 ++ dktX3_goesOn_6
def dkwX3_goesOn_4 : List UInt8 := [62, 42, 180, 0, 41, 28, 46, 16, 10, 112, 54, 4, 42, 180, 0, 47, 42, 180, 0, 41, 28, 46, 42]
abbrev dktX3_goesOn_4 : List UInt8 := dkwX3_goesOn_4 ++ dktX3_goesOn_5
def dkwX3_goesOn_3 : List UInt8 := [4, 96, 181, 0, 228, 3, 61, 28, 42, 180, 0, 213, 162, 0, 75, 42, 180, 0, 41, 28, 46, 16, 10, 108]
abbrev dktX3_goesOn_3 : List UInt8 := dkwX3_goesOn_3 ++ dktX3_goesOn_4
def dkwX3_goesOn_2 : List UInt8 := [16, 10, 21, 4, 104, 29, 96, 51, 153, 0, 5, 3, 172, 132, 2, 1, 167, 255, 207, 42, 89, 180, 0, 228]
abbrev dktX3_goesOn_2 : List UInt8 := dkwX3_goesOn_2 ++ dktX3_goesOn_3
def dkwX3_goesOn_1 : List UInt8 := [180, 0, 41, 28, 46, 16, 10, 108, 62, 42, 180, 0, 41, 28, 46, 16, 10, 112, 54, 4, 42, 180, 0, 38]
abbrev dktX3_goesOn_1 : List UInt8 := dkwX3_goesOn_1 ++ dktX3_goesOn_2
def dkwX3_goesOn_0 : List UInt8 := [42, 27, 16, 10, 108, 27, 16, 10, 112, 182, 0, 222, 3, 61, 28, 42, 180, 0, 213, 162, 0, 47, 42]
abbrev dktX3_goesOn_0 : List UInt8 := dkwX3_goesOn_0 ++ dktX3_goesOn_1
theorem dksX3_goesOn_0 : cX3_goesOn.data.toList.drop 0 = dktX3_goesOn_0 := by decide +kernel
theorem dksX3_goesOn_1 : cX3_goesOn.data.toList.drop 23 = dktX3_goesOn_1 := dk_seg dksX3_goesOn_0 23 rfl rfl
theorem dksX3_goesOn_2 : cX3_goesOn.data.toList.drop 47 = dktX3_goesOn_2 := dk_seg dksX3_goesOn_1 24 rfl rfl
theorem dksX3_goesOn_3 : cX3_goesOn.data.toList.drop 71 = dktX3_goesOn_3 := dk_seg dksX3_goesOn_2 24 rfl rfl
theorem dksX3_goesOn_4 : cX3_goesOn.data.toList.drop 95 = dktX3_goesOn_4 := dk_seg dksX3_goesOn_3 24 rfl rfl
theorem dksX3_goesOn_5 : cX3_goesOn.data.toList.drop 118 = dktX3_goesOn_5 := dk_seg dksX3_goesOn_4 23 rfl rfl
theorem dksX3_goesOn_6 : cX3_goesOn.data.toList.drop 141 = dktX3_goesOn_6 := dk_seg dksX3_goesOn_5 23 rfl rfl
theorem dX3_goesOn_0 : decode cX3_goesOn 0 = .ok (.aload_n 0, 1) := dk_42 (dk_at dksX3_goesOn_0 0 rfl rfl)
theorem dX3_goesOn_1 : decode cX3_goesOn 1 = .ok (.iload_n 1, 1) := dk_27 (dk_at dksX3_goesOn_0 1 rfl rfl)
theorem dX3_goesOn_2 : decode cX3_goesOn 2 = .ok (.bipush 10, 2) := dk_16 10 (dk_at dksX3_goesOn_0 2 rfl rfl)
theorem dX3_goesOn_4 : decode cX3_goesOn 4 = .ok (.idiv, 1) := dk_108 (dk_at dksX3_goesOn_0 4 rfl rfl)
theorem dX3_goesOn_5 : decode cX3_goesOn 5 = .ok (.iload_n 1, 1) := dk_27 (dk_at dksX3_goesOn_0 5 rfl rfl)
theorem dX3_goesOn_6 : decode cX3_goesOn 6 = .ok (.bipush 10, 2) := dk_16 10 (dk_at dksX3_goesOn_0 6 rfl rfl)
theorem dX3_goesOn_8 : decode cX3_goesOn 8 = .ok (.irem, 1) := dk_112 (dk_at dksX3_goesOn_0 8 rfl rfl)
theorem dX3_goesOn_9 : decode cX3_goesOn 9 = .ok (.invokevirtual 222, 3) := dk_182 0 222 (dk_at dksX3_goesOn_0 9 rfl rfl)
theorem dX3_goesOn_12 : decode cX3_goesOn 12 = .ok (.iconst 0, 1) := dk_3 (dk_at dksX3_goesOn_0 12 rfl rfl)
theorem dX3_goesOn_13 : decode cX3_goesOn 13 = .ok (.istore_n 2, 1) := dk_61 (dk_at dksX3_goesOn_0 13 rfl rfl)
theorem dX3_goesOn_14 : decode cX3_goesOn 14 = .ok (.iload_n 2, 1) := dk_28 (dk_at dksX3_goesOn_0 14 rfl rfl)
theorem dX3_goesOn_15 : decode cX3_goesOn 15 = .ok (.aload_n 0, 1) := dk_42 (dk_at dksX3_goesOn_0 15 rfl rfl)
theorem dX3_goesOn_16 : decode cX3_goesOn 16 = .ok (.getfield 213, 3) := dk_180 0 213 (dk_at dksX3_goesOn_0 16 rfl rfl)
theorem dX3_goesOn_19 : decode cX3_goesOn 19 = .ok (.if_icmp .ge 47, 3) := dk_162 0 47 (dk_at dksX3_goesOn_0 19 rfl rfl)
theorem dX3_goesOn_22 : decode cX3_goesOn 22 = .ok (.aload_n 0, 1) := dk_42 (dk_at dksX3_goesOn_0 22 rfl rfl)
theorem dX3_goesOn_23 : decode cX3_goesOn 23 = .ok (.getfield 41, 3) := dk_180 0 41 (dk_at dksX3_goesOn_1 0 rfl rfl)
theorem dX3_goesOn_26 : decode cX3_goesOn 26 = .ok (.iload_n 2, 1) := dk_28 (dk_at dksX3_goesOn_1 3 rfl rfl)
theorem dX3_goesOn_27 : decode cX3_goesOn 27 = .ok (.iaload, 1) := dk_46 (dk_at dksX3_goesOn_1 4 rfl rfl)
theorem dX3_goesOn_28 : decode cX3_goesOn 28 = .ok (.bipush 10, 2) := dk_16 10 (dk_at dksX3_goesOn_1 5 rfl rfl)
theorem dX3_goesOn_30 : decode cX3_goesOn 30 = .ok (.idiv, 1) := dk_108 (dk_at dksX3_goesOn_1 7 rfl rfl)
theorem dX3_goesOn_31 : decode cX3_goesOn 31 = .ok (.istore_n 3, 1) := dk_62 (dk_at dksX3_goesOn_1 8 rfl rfl)
theorem dX3_goesOn_32 : decode cX3_goesOn 32 = .ok (.aload_n 0, 1) := dk_42 (dk_at dksX3_goesOn_1 9 rfl rfl)
theorem dX3_goesOn_33 : decode cX3_goesOn 33 = .ok (.getfield 41, 3) := dk_180 0 41 (dk_at dksX3_goesOn_1 10 rfl rfl)
theorem dX3_goesOn_36 : decode cX3_goesOn 36 = .ok (.iload_n 2, 1) := dk_28 (dk_at dksX3_goesOn_1 13 rfl rfl)
theorem dX3_goesOn_37 : decode cX3_goesOn 37 = .ok (.iaload, 1) := dk_46 (dk_at dksX3_goesOn_1 14 rfl rfl)
theorem dX3_goesOn_38 : decode cX3_goesOn 38 = .ok (.bipush 10, 2) := dk_16 10 (dk_at dksX3_goesOn_1 15 rfl rfl)
theorem dX3_goesOn_40 : decode cX3_goesOn 40 = .ok (.irem, 1) := dk_112 (dk_at dksX3_goesOn_1 17 rfl rfl)
theorem dX3_goesOn_41 : decode cX3_goesOn 41 = .ok (.istore 4, 2) := dk_54 4 (dk_at dksX3_goesOn_1 18 rfl rfl)
theorem dX3_goesOn_43 : decode cX3_goesOn 43 = .ok (.aload_n 0, 1) := dk_42 (dk_at dksX3_goesOn_1 20 rfl rfl)
theorem dX3_goesOn_44 : decode cX3_goesOn 44 = .ok (.getfield 38, 3) := dk_180 0 38 (dk_at dksX3_goesOn_1 21 rfl rfl)
theorem dX3_goesOn_47 : decode cX3_goesOn 47 = .ok (.bipush 10, 2) := dk_16 10 (dk_at dksX3_goesOn_2 0 rfl rfl)
theorem dX3_goesOn_49 : decode cX3_goesOn 49 = .ok (.iload 4, 2) := dk_21 4 (dk_at dksX3_goesOn_2 2 rfl rfl)
theorem dX3_goesOn_51 : decode cX3_goesOn 51 = .ok (.imul, 1) := dk_104 (dk_at dksX3_goesOn_2 4 rfl rfl)
theorem dX3_goesOn_52 : decode cX3_goesOn 52 = .ok (.iload_n 3, 1) := dk_29 (dk_at dksX3_goesOn_2 5 rfl rfl)
theorem dX3_goesOn_53 : decode cX3_goesOn 53 = .ok (.iadd, 1) := dk_96 (dk_at dksX3_goesOn_2 6 rfl rfl)
theorem dX3_goesOn_54 : decode cX3_goesOn 54 = .ok (.baload, 1) := dk_51 (dk_at dksX3_goesOn_2 7 rfl rfl)
theorem dX3_goesOn_55 : decode cX3_goesOn 55 = .ok (.ifCond .eq 5, 3) := dk_153 0 5 (dk_at dksX3_goesOn_2 8 rfl rfl)
theorem dX3_goesOn_58 : decode cX3_goesOn 58 = .ok (.iconst 0, 1) := dk_3 (dk_at dksX3_goesOn_2 11 rfl rfl)
theorem dX3_goesOn_59 : decode cX3_goesOn 59 = .ok (.ireturn, 1) := dk_172 (dk_at dksX3_goesOn_2 12 rfl rfl)
theorem dX3_goesOn_60 : decode cX3_goesOn 60 = .ok (.iinc 2 1, 3) := dk_132 2 1 (dk_at dksX3_goesOn_2 13 rfl rfl)
theorem dX3_goesOn_63 : decode cX3_goesOn 63 = .ok (.goto (-49), 3) := dk_167 255 207 (dk_at dksX3_goesOn_2 16 rfl rfl)
theorem dX3_goesOn_66 : decode cX3_goesOn 66 = .ok (.aload_n 0, 1) := dk_42 (dk_at dksX3_goesOn_2 19 rfl rfl)
theorem dX3_goesOn_67 : decode cX3_goesOn 67 = .ok (.dup, 1) := dk_89 (dk_at dksX3_goesOn_2 20 rfl rfl)
theorem dX3_goesOn_68 : decode cX3_goesOn 68 = .ok (.getfield 228, 3) := dk_180 0 228 (dk_at dksX3_goesOn_2 21 rfl rfl)
theorem dX3_goesOn_71 : decode cX3_goesOn 71 = .ok (.iconst 1, 1) := dk_4 (dk_at dksX3_goesOn_3 0 rfl rfl)
theorem dX3_goesOn_72 : decode cX3_goesOn 72 = .ok (.iadd, 1) := dk_96 (dk_at dksX3_goesOn_3 1 rfl rfl)
theorem dX3_goesOn_73 : decode cX3_goesOn 73 = .ok (.putfield 228, 3) := dk_181 0 228 (dk_at dksX3_goesOn_3 2 rfl rfl)
theorem dX3_goesOn_76 : decode cX3_goesOn 76 = .ok (.iconst 0, 1) := dk_3 (dk_at dksX3_goesOn_3 5 rfl rfl)
theorem dX3_goesOn_77 : decode cX3_goesOn 77 = .ok (.istore_n 2, 1) := dk_61 (dk_at dksX3_goesOn_3 6 rfl rfl)
theorem dX3_goesOn_78 : decode cX3_goesOn 78 = .ok (.iload_n 2, 1) := dk_28 (dk_at dksX3_goesOn_3 7 rfl rfl)
theorem dX3_goesOn_79 : decode cX3_goesOn 79 = .ok (.aload_n 0, 1) := dk_42 (dk_at dksX3_goesOn_3 8 rfl rfl)
theorem dX3_goesOn_80 : decode cX3_goesOn 80 = .ok (.getfield 213, 3) := dk_180 0 213 (dk_at dksX3_goesOn_3 9 rfl rfl)
theorem dX3_goesOn_83 : decode cX3_goesOn 83 = .ok (.if_icmp .ge 75, 3) := dk_162 0 75 (dk_at dksX3_goesOn_3 12 rfl rfl)
theorem dX3_goesOn_86 : decode cX3_goesOn 86 = .ok (.aload_n 0, 1) := dk_42 (dk_at dksX3_goesOn_3 15 rfl rfl)
theorem dX3_goesOn_87 : decode cX3_goesOn 87 = .ok (.getfield 41, 3) := dk_180 0 41 (dk_at dksX3_goesOn_3 16 rfl rfl)
theorem dX3_goesOn_90 : decode cX3_goesOn 90 = .ok (.iload_n 2, 1) := dk_28 (dk_at dksX3_goesOn_3 19 rfl rfl)
theorem dX3_goesOn_91 : decode cX3_goesOn 91 = .ok (.iaload, 1) := dk_46 (dk_at dksX3_goesOn_3 20 rfl rfl)
theorem dX3_goesOn_92 : decode cX3_goesOn 92 = .ok (.bipush 10, 2) := dk_16 10 (dk_at dksX3_goesOn_3 21 rfl rfl)
theorem dX3_goesOn_94 : decode cX3_goesOn 94 = .ok (.idiv, 1) := dk_108 (dk_at dksX3_goesOn_3 23 rfl rfl)
theorem dX3_goesOn_95 : decode cX3_goesOn 95 = .ok (.istore_n 3, 1) := dk_62 (dk_at dksX3_goesOn_4 0 rfl rfl)
theorem dX3_goesOn_96 : decode cX3_goesOn 96 = .ok (.aload_n 0, 1) := dk_42 (dk_at dksX3_goesOn_4 1 rfl rfl)
theorem dX3_goesOn_97 : decode cX3_goesOn 97 = .ok (.getfield 41, 3) := dk_180 0 41 (dk_at dksX3_goesOn_4 2 rfl rfl)
theorem dX3_goesOn_100 : decode cX3_goesOn 100 = .ok (.iload_n 2, 1) := dk_28 (dk_at dksX3_goesOn_4 5 rfl rfl)
theorem dX3_goesOn_101 : decode cX3_goesOn 101 = .ok (.iaload, 1) := dk_46 (dk_at dksX3_goesOn_4 6 rfl rfl)
theorem dX3_goesOn_102 : decode cX3_goesOn 102 = .ok (.bipush 10, 2) := dk_16 10 (dk_at dksX3_goesOn_4 7 rfl rfl)
theorem dX3_goesOn_104 : decode cX3_goesOn 104 = .ok (.irem, 1) := dk_112 (dk_at dksX3_goesOn_4 9 rfl rfl)
theorem dX3_goesOn_105 : decode cX3_goesOn 105 = .ok (.istore 4, 2) := dk_54 4 (dk_at dksX3_goesOn_4 10 rfl rfl)
theorem dX3_goesOn_107 : decode cX3_goesOn 107 = .ok (.aload_n 0, 1) := dk_42 (dk_at dksX3_goesOn_4 12 rfl rfl)
theorem dX3_goesOn_108 : decode cX3_goesOn 108 = .ok (.getfield 47, 3) := dk_180 0 47 (dk_at dksX3_goesOn_4 13 rfl rfl)
theorem dX3_goesOn_111 : decode cX3_goesOn 111 = .ok (.aload_n 0, 1) := dk_42 (dk_at dksX3_goesOn_4 16 rfl rfl)
theorem dX3_goesOn_112 : decode cX3_goesOn 112 = .ok (.getfield 41, 3) := dk_180 0 41 (dk_at dksX3_goesOn_4 17 rfl rfl)
theorem dX3_goesOn_115 : decode cX3_goesOn 115 = .ok (.iload_n 2, 1) := dk_28 (dk_at dksX3_goesOn_4 20 rfl rfl)
theorem dX3_goesOn_116 : decode cX3_goesOn 116 = .ok (.iaload, 1) := dk_46 (dk_at dksX3_goesOn_4 21 rfl rfl)
theorem dX3_goesOn_117 : decode cX3_goesOn 117 = .ok (.aload_n 0, 1) := dk_42 (dk_at dksX3_goesOn_4 22 rfl rfl)
theorem dX3_goesOn_118 : decode cX3_goesOn 118 = .ok (.getfield 228, 3) := dk_180 0 228 (dk_at dksX3_goesOn_5 0 rfl rfl)
theorem dX3_goesOn_121 : decode cX3_goesOn 121 = .ok (.iastore, 1) := dk_79 (dk_at dksX3_goesOn_5 3 rfl rfl)
theorem dX3_goesOn_122 : decode cX3_goesOn 122 = .ok (.aload_n 0, 1) := dk_42 (dk_at dksX3_goesOn_5 4 rfl rfl)
theorem dX3_goesOn_123 : decode cX3_goesOn 123 = .ok (.getfield 35, 3) := dk_180 0 35 (dk_at dksX3_goesOn_5 5 rfl rfl)
theorem dX3_goesOn_126 : decode cX3_goesOn 126 = .ok (.iload_n 3, 1) := dk_29 (dk_at dksX3_goesOn_5 8 rfl rfl)
theorem dX3_goesOn_127 : decode cX3_goesOn 127 = .ok (.dup2, 1) := dk_92 (dk_at dksX3_goesOn_5 9 rfl rfl)
theorem dX3_goesOn_128 : decode cX3_goesOn 128 = .ok (.iaload, 1) := dk_46 (dk_at dksX3_goesOn_5 10 rfl rfl)
theorem dX3_goesOn_129 : decode cX3_goesOn 129 = .ok (.iconst 1, 1) := dk_4 (dk_at dksX3_goesOn_5 11 rfl rfl)
theorem dX3_goesOn_130 : decode cX3_goesOn 130 = .ok (.iload 4, 2) := dk_21 4 (dk_at dksX3_goesOn_5 12 rfl rfl)
theorem dX3_goesOn_132 : decode cX3_goesOn 132 = .ok (.ishl, 1) := dk_120 (dk_at dksX3_goesOn_5 14 rfl rfl)
theorem dX3_goesOn_133 : decode cX3_goesOn 133 = .ok (.iconst (-1), 1) := dk_2 (dk_at dksX3_goesOn_5 15 rfl rfl)
theorem dX3_goesOn_134 : decode cX3_goesOn 134 = .ok (.ixor, 1) := dk_130 (dk_at dksX3_goesOn_5 16 rfl rfl)
theorem dX3_goesOn_135 : decode cX3_goesOn 135 = .ok (.iand, 1) := dk_126 (dk_at dksX3_goesOn_5 17 rfl rfl)
theorem dX3_goesOn_136 : decode cX3_goesOn 136 = .ok (.iastore, 1) := dk_79 (dk_at dksX3_goesOn_5 18 rfl rfl)
theorem dX3_goesOn_137 : decode cX3_goesOn 137 = .ok (.aload_n 0, 1) := dk_42 (dk_at dksX3_goesOn_5 19 rfl rfl)
theorem dX3_goesOn_138 : decode cX3_goesOn 138 = .ok (.getfield 35, 3) := dk_180 0 35 (dk_at dksX3_goesOn_5 20 rfl rfl)
theorem dX3_goesOn_141 : decode cX3_goesOn 141 = .ok (.iload 4, 2) := dk_21 4 (dk_at dksX3_goesOn_6 0 rfl rfl)
theorem dX3_goesOn_143 : decode cX3_goesOn 143 = .ok (.dup2, 1) := dk_92 (dk_at dksX3_goesOn_6 2 rfl rfl)
theorem dX3_goesOn_144 : decode cX3_goesOn 144 = .ok (.iaload, 1) := dk_46 (dk_at dksX3_goesOn_6 3 rfl rfl)
theorem dX3_goesOn_145 : decode cX3_goesOn 145 = .ok (.iconst 1, 1) := dk_4 (dk_at dksX3_goesOn_6 4 rfl rfl)
theorem dX3_goesOn_146 : decode cX3_goesOn 146 = .ok (.iload_n 3, 1) := dk_29 (dk_at dksX3_goesOn_6 5 rfl rfl)
theorem dX3_goesOn_147 : decode cX3_goesOn 147 = .ok (.ishl, 1) := dk_120 (dk_at dksX3_goesOn_6 6 rfl rfl)
theorem dX3_goesOn_148 : decode cX3_goesOn 148 = .ok (.iconst (-1), 1) := dk_2 (dk_at dksX3_goesOn_6 7 rfl rfl)
theorem dX3_goesOn_149 : decode cX3_goesOn 149 = .ok (.ixor, 1) := dk_130 (dk_at dksX3_goesOn_6 8 rfl rfl)
theorem dX3_goesOn_150 : decode cX3_goesOn 150 = .ok (.iand, 1) := dk_126 (dk_at dksX3_goesOn_6 9 rfl rfl)
theorem dX3_goesOn_151 : decode cX3_goesOn 151 = .ok (.iastore, 1) := dk_79 (dk_at dksX3_goesOn_6 10 rfl rfl)
theorem dX3_goesOn_152 : decode cX3_goesOn 152 = .ok (.iinc 2 1, 3) := dk_132 2 1 (dk_at dksX3_goesOn_6 11 rfl rfl)
theorem dX3_goesOn_155 : decode cX3_goesOn 155 = .ok (.goto (-77), 3) := dk_167 255 179 (dk_at dksX3_goesOn_6 14 rfl rfl)
theorem dX3_goesOn_158 : decode cX3_goesOn 158 = .ok (.iconst 1, 1) := dk_4 (dk_at dksX3_goesOn_6 17 rfl rfl)
theorem dX3_goesOn_159 : decode cX3_goesOn 159 = .ok (.ireturn, 1) := dk_172 (dk_at dksX3_goesOn_6 18 rfl rfl)
abbrev cX3_directed : ByteArray := prog_18_method_71_code
def yX3_directed : MethodName := ⟨RX3, "directed", "(II)I"⟩
def dkwX3_directed_1 : List UInt8 := [180, 0, 47, 16, 10, 27, 104, 28, 96, 46, 167, 0, 5, 16, 254, 172]
abbrev dktX3_directed_1 : List UInt8 := dkwX3_directed_1 ++ []
def dkwX3_directed_0 : List UInt8 := [42, 27, 28, 182, 0, 225, 62, 29, 153, 0, 7, 29, 167, 0, 26, 42, 182, 0, 240, 153, 0, 17, 42]
abbrev dktX3_directed_0 : List UInt8 := dkwX3_directed_0 ++ dktX3_directed_1
theorem dksX3_directed_0 : cX3_directed.data.toList.drop 0 = dktX3_directed_0 := by decide +kernel
theorem dksX3_directed_1 : cX3_directed.data.toList.drop 23 = dktX3_directed_1 := dk_seg dksX3_directed_0 23 rfl rfl
theorem dX3_directed_0 : decode cX3_directed 0 = .ok (.aload_n 0, 1) := dk_42 (dk_at dksX3_directed_0 0 rfl rfl)
theorem dX3_directed_1 : decode cX3_directed 1 = .ok (.iload_n 1, 1) := dk_27 (dk_at dksX3_directed_0 1 rfl rfl)
theorem dX3_directed_2 : decode cX3_directed 2 = .ok (.iload_n 2, 1) := dk_28 (dk_at dksX3_directed_0 2 rfl rfl)
theorem dX3_directed_3 : decode cX3_directed 3 = .ok (.invokevirtual 225, 3) := dk_182 0 225 (dk_at dksX3_directed_0 3 rfl rfl)
theorem dX3_directed_6 : decode cX3_directed 6 = .ok (.istore_n 3, 1) := dk_62 (dk_at dksX3_directed_0 6 rfl rfl)
theorem dX3_directed_7 : decode cX3_directed 7 = .ok (.iload_n 3, 1) := dk_29 (dk_at dksX3_directed_0 7 rfl rfl)
theorem dX3_directed_8 : decode cX3_directed 8 = .ok (.ifCond .eq 7, 3) := dk_153 0 7 (dk_at dksX3_directed_0 8 rfl rfl)
theorem dX3_directed_11 : decode cX3_directed 11 = .ok (.iload_n 3, 1) := dk_29 (dk_at dksX3_directed_0 11 rfl rfl)
theorem dX3_directed_12 : decode cX3_directed 12 = .ok (.goto 26, 3) := dk_167 0 26 (dk_at dksX3_directed_0 12 rfl rfl)
theorem dX3_directed_15 : decode cX3_directed 15 = .ok (.aload_n 0, 1) := dk_42 (dk_at dksX3_directed_0 15 rfl rfl)
theorem dX3_directed_16 : decode cX3_directed 16 = .ok (.invokevirtual 240, 3) := dk_182 0 240 (dk_at dksX3_directed_0 16 rfl rfl)
theorem dX3_directed_19 : decode cX3_directed 19 = .ok (.ifCond .eq 17, 3) := dk_153 0 17 (dk_at dksX3_directed_0 19 rfl rfl)
theorem dX3_directed_22 : decode cX3_directed 22 = .ok (.aload_n 0, 1) := dk_42 (dk_at dksX3_directed_0 22 rfl rfl)
theorem dX3_directed_23 : decode cX3_directed 23 = .ok (.getfield 47, 3) := dk_180 0 47 (dk_at dksX3_directed_1 0 rfl rfl)
theorem dX3_directed_26 : decode cX3_directed 26 = .ok (.bipush 10, 2) := dk_16 10 (dk_at dksX3_directed_1 3 rfl rfl)
theorem dX3_directed_28 : decode cX3_directed 28 = .ok (.iload_n 1, 1) := dk_27 (dk_at dksX3_directed_1 5 rfl rfl)
theorem dX3_directed_29 : decode cX3_directed 29 = .ok (.imul, 1) := dk_104 (dk_at dksX3_directed_1 6 rfl rfl)
theorem dX3_directed_30 : decode cX3_directed 30 = .ok (.iload_n 2, 1) := dk_28 (dk_at dksX3_directed_1 7 rfl rfl)
theorem dX3_directed_31 : decode cX3_directed 31 = .ok (.iadd, 1) := dk_96 (dk_at dksX3_directed_1 8 rfl rfl)
theorem dX3_directed_32 : decode cX3_directed 32 = .ok (.iaload, 1) := dk_46 (dk_at dksX3_directed_1 9 rfl rfl)
theorem dX3_directed_33 : decode cX3_directed 33 = .ok (.goto 5, 3) := dk_167 0 5 (dk_at dksX3_directed_1 10 rfl rfl)
theorem dX3_directed_36 : decode cX3_directed 36 = .ok (.bipush (-2), 2) := dk_16 254 (dk_at dksX3_directed_1 13 rfl rfl)
theorem dX3_directed_38 : decode cX3_directed 38 = .ok (.ireturn, 1) := dk_172 (dk_at dksX3_directed_1 15 rfl rfl)
abbrev cX3_inOrder : ByteArray := prog_18_method_73_code
def yX3_inOrder : MethodName := ⟨RX3, "inOrder", "(I)I"⟩
def dkwX3_inOrder_1 : List UInt8 := [180, 0, 7, 3, 46, 162, 0, 12, 42, 180, 0, 50, 27, 46, 167, 0, 5, 16, 252, 172]
abbrev dktX3_inOrder_1 : List UInt8 := dkwX3_inOrder_1 ++ []
def dkwX3_inOrder_0 : List UInt8 := [27, 156, 0, 5, 2, 172, 42, 182, 0, 240, 154, 0, 6, 16, 254, 172, 42, 182, 0, 244, 27, 42]
abbrev dktX3_inOrder_0 : List UInt8 := dkwX3_inOrder_0 ++ dktX3_inOrder_1
theorem dksX3_inOrder_0 : cX3_inOrder.data.toList.drop 0 = dktX3_inOrder_0 := by decide +kernel
theorem dksX3_inOrder_1 : cX3_inOrder.data.toList.drop 22 = dktX3_inOrder_1 := dk_seg dksX3_inOrder_0 22 rfl rfl
theorem dX3_inOrder_0 : decode cX3_inOrder 0 = .ok (.iload_n 1, 1) := dk_27 (dk_at dksX3_inOrder_0 0 rfl rfl)
theorem dX3_inOrder_1 : decode cX3_inOrder 1 = .ok (.ifCond .ge 5, 3) := dk_156 0 5 (dk_at dksX3_inOrder_0 1 rfl rfl)
theorem dX3_inOrder_4 : decode cX3_inOrder 4 = .ok (.iconst (-1), 1) := dk_2 (dk_at dksX3_inOrder_0 4 rfl rfl)
theorem dX3_inOrder_5 : decode cX3_inOrder 5 = .ok (.ireturn, 1) := dk_172 (dk_at dksX3_inOrder_0 5 rfl rfl)
theorem dX3_inOrder_6 : decode cX3_inOrder 6 = .ok (.aload_n 0, 1) := dk_42 (dk_at dksX3_inOrder_0 6 rfl rfl)
theorem dX3_inOrder_7 : decode cX3_inOrder 7 = .ok (.invokevirtual 240, 3) := dk_182 0 240 (dk_at dksX3_inOrder_0 7 rfl rfl)
theorem dX3_inOrder_10 : decode cX3_inOrder 10 = .ok (.ifCond .ne 6, 3) := dk_154 0 6 (dk_at dksX3_inOrder_0 10 rfl rfl)
theorem dX3_inOrder_13 : decode cX3_inOrder 13 = .ok (.bipush (-2), 2) := dk_16 254 (dk_at dksX3_inOrder_0 13 rfl rfl)
theorem dX3_inOrder_15 : decode cX3_inOrder 15 = .ok (.ireturn, 1) := dk_172 (dk_at dksX3_inOrder_0 15 rfl rfl)
theorem dX3_inOrder_16 : decode cX3_inOrder 16 = .ok (.aload_n 0, 1) := dk_42 (dk_at dksX3_inOrder_0 16 rfl rfl)
theorem dX3_inOrder_17 : decode cX3_inOrder 17 = .ok (.invokevirtual 244, 3) := dk_182 0 244 (dk_at dksX3_inOrder_0 17 rfl rfl)
theorem dX3_inOrder_20 : decode cX3_inOrder 20 = .ok (.iload_n 1, 1) := dk_27 (dk_at dksX3_inOrder_0 20 rfl rfl)
theorem dX3_inOrder_21 : decode cX3_inOrder 21 = .ok (.aload_n 0, 1) := dk_42 (dk_at dksX3_inOrder_0 21 rfl rfl)
theorem dX3_inOrder_22 : decode cX3_inOrder 22 = .ok (.getfield 7, 3) := dk_180 0 7 (dk_at dksX3_inOrder_1 0 rfl rfl)
theorem dX3_inOrder_25 : decode cX3_inOrder 25 = .ok (.iconst 0, 1) := dk_3 (dk_at dksX3_inOrder_1 3 rfl rfl)
theorem dX3_inOrder_26 : decode cX3_inOrder 26 = .ok (.iaload, 1) := dk_46 (dk_at dksX3_inOrder_1 4 rfl rfl)
theorem dX3_inOrder_27 : decode cX3_inOrder 27 = .ok (.if_icmp .ge 12, 3) := dk_162 0 12 (dk_at dksX3_inOrder_1 5 rfl rfl)
theorem dX3_inOrder_30 : decode cX3_inOrder 30 = .ok (.aload_n 0, 1) := dk_42 (dk_at dksX3_inOrder_1 8 rfl rfl)
theorem dX3_inOrder_31 : decode cX3_inOrder 31 = .ok (.getfield 50, 3) := dk_180 0 50 (dk_at dksX3_inOrder_1 9 rfl rfl)
theorem dX3_inOrder_34 : decode cX3_inOrder 34 = .ok (.iload_n 1, 1) := dk_27 (dk_at dksX3_inOrder_1 12 rfl rfl)
theorem dX3_inOrder_35 : decode cX3_inOrder 35 = .ok (.iaload, 1) := dk_46 (dk_at dksX3_inOrder_1 13 rfl rfl)
theorem dX3_inOrder_36 : decode cX3_inOrder 36 = .ok (.goto 5, 3) := dk_167 0 5 (dk_at dksX3_inOrder_1 14 rfl rfl)
theorem dX3_inOrder_39 : decode cX3_inOrder 39 = .ok (.bipush (-4), 2) := dk_16 252 (dk_at dksX3_inOrder_1 17 rfl rfl)
theorem dX3_inOrder_41 : decode cX3_inOrder 41 = .ok (.ireturn, 1) := dk_172 (dk_at dksX3_inOrder_1 19 rfl rfl)
abbrev cX3_laysOrder : ByteArray := prog_18_method_72_code
def yX3_laysOrder : MethodName := ⟨RX3, "laysOrder", "()V"⟩
def dkwX3_laysOrder_6 : List UInt8 := [167, 255, 121, 177]
abbrev dktX3_laysOrder_6 : List UInt8 := dkwX3_laysOrder_6 ++ []
def dkwX3_laysOrder_5 : List UInt8 := [132, 4, 255, 167, 255, 163, 42, 180, 0, 50, 28, 29, 79, 27, 4, 29, 120, 128, 60, 132, 2, 1]
abbrev dktX3_laysOrder_5 : List UInt8 := dkwX3_laysOrder_5 ++ dktX3_laysOrder_6
def dkwX3_laysOrder_4 : List UInt8 := [167, 0, 4, 3, 54, 5, 132, 6, 1, 167, 255, 205, 21, 5, 153, 0, 8, 21, 4, 167, 0, 4, 29, 62]
abbrev dktX3_laysOrder_4 : List UInt8 := dkwX3_laysOrder_4 ++ dktX3_laysOrder_5
def dkwX3_laysOrder_3 : List UInt8 := [184, 0, 91, 154, 0, 19, 42, 180, 0, 47, 16, 10, 21, 6, 104, 21, 4, 96, 46, 154, 0, 7, 4]
abbrev dktX3_laysOrder_3 : List UInt8 := dkwX3_laysOrder_3 ++ dktX3_laysOrder_4
def dkwX3_laysOrder_2 : List UInt8 := [3, 54, 6, 21, 6, 42, 180, 0, 7, 3, 46, 162, 0, 46, 21, 5, 153, 0, 32, 27, 21, 6]
abbrev dktX3_laysOrder_2 : List UInt8 := dkwX3_laysOrder_2 ++ dktX3_laysOrder_3
def dkwX3_laysOrder_1 : List UInt8 := [100, 54, 4, 21, 4, 155, 0, 94, 27, 21, 4, 184, 0, 91, 154, 0, 7, 4, 167, 0, 4, 3, 54, 5]
abbrev dktX3_laysOrder_1 : List UInt8 := dkwX3_laysOrder_1 ++ dktX3_laysOrder_2
def dkwX3_laysOrder_0 : List UInt8 := [3, 60, 3, 61, 28, 42, 180, 0, 7, 3, 46, 162, 0, 131, 16, 252, 62, 42, 180, 0, 7, 3, 46, 4]
abbrev dktX3_laysOrder_0 : List UInt8 := dkwX3_laysOrder_0 ++ dktX3_laysOrder_1
theorem dksX3_laysOrder_0 : cX3_laysOrder.data.toList.drop 0 = dktX3_laysOrder_0 := by decide +kernel
theorem dksX3_laysOrder_1 : cX3_laysOrder.data.toList.drop 24 = dktX3_laysOrder_1 := dk_seg dksX3_laysOrder_0 24 rfl rfl
theorem dksX3_laysOrder_2 : cX3_laysOrder.data.toList.drop 48 = dktX3_laysOrder_2 := dk_seg dksX3_laysOrder_1 24 rfl rfl
theorem dksX3_laysOrder_3 : cX3_laysOrder.data.toList.drop 70 = dktX3_laysOrder_3 := dk_seg dksX3_laysOrder_2 22 rfl rfl
theorem dksX3_laysOrder_4 : cX3_laysOrder.data.toList.drop 93 = dktX3_laysOrder_4 := dk_seg dksX3_laysOrder_3 23 rfl rfl
theorem dksX3_laysOrder_5 : cX3_laysOrder.data.toList.drop 117 = dktX3_laysOrder_5 := dk_seg dksX3_laysOrder_4 24 rfl rfl
theorem dksX3_laysOrder_6 : cX3_laysOrder.data.toList.drop 139 = dktX3_laysOrder_6 := dk_seg dksX3_laysOrder_5 22 rfl rfl
theorem dX3_laysOrder_0 : decode cX3_laysOrder 0 = .ok (.iconst 0, 1) := dk_3 (dk_at dksX3_laysOrder_0 0 rfl rfl)
theorem dX3_laysOrder_1 : decode cX3_laysOrder 1 = .ok (.istore_n 1, 1) := dk_60 (dk_at dksX3_laysOrder_0 1 rfl rfl)
theorem dX3_laysOrder_2 : decode cX3_laysOrder 2 = .ok (.iconst 0, 1) := dk_3 (dk_at dksX3_laysOrder_0 2 rfl rfl)
theorem dX3_laysOrder_3 : decode cX3_laysOrder 3 = .ok (.istore_n 2, 1) := dk_61 (dk_at dksX3_laysOrder_0 3 rfl rfl)
theorem dX3_laysOrder_4 : decode cX3_laysOrder 4 = .ok (.iload_n 2, 1) := dk_28 (dk_at dksX3_laysOrder_0 4 rfl rfl)
theorem dX3_laysOrder_5 : decode cX3_laysOrder 5 = .ok (.aload_n 0, 1) := dk_42 (dk_at dksX3_laysOrder_0 5 rfl rfl)
theorem dX3_laysOrder_6 : decode cX3_laysOrder 6 = .ok (.getfield 7, 3) := dk_180 0 7 (dk_at dksX3_laysOrder_0 6 rfl rfl)
theorem dX3_laysOrder_9 : decode cX3_laysOrder 9 = .ok (.iconst 0, 1) := dk_3 (dk_at dksX3_laysOrder_0 9 rfl rfl)
theorem dX3_laysOrder_10 : decode cX3_laysOrder 10 = .ok (.iaload, 1) := dk_46 (dk_at dksX3_laysOrder_0 10 rfl rfl)
theorem dX3_laysOrder_11 : decode cX3_laysOrder 11 = .ok (.if_icmp .ge 131, 3) := dk_162 0 131 (dk_at dksX3_laysOrder_0 11 rfl rfl)
theorem dX3_laysOrder_14 : decode cX3_laysOrder 14 = .ok (.bipush (-4), 2) := dk_16 252 (dk_at dksX3_laysOrder_0 14 rfl rfl)
theorem dX3_laysOrder_16 : decode cX3_laysOrder 16 = .ok (.istore_n 3, 1) := dk_62 (dk_at dksX3_laysOrder_0 16 rfl rfl)
theorem dX3_laysOrder_17 : decode cX3_laysOrder 17 = .ok (.aload_n 0, 1) := dk_42 (dk_at dksX3_laysOrder_0 17 rfl rfl)
theorem dX3_laysOrder_18 : decode cX3_laysOrder 18 = .ok (.getfield 7, 3) := dk_180 0 7 (dk_at dksX3_laysOrder_0 18 rfl rfl)
theorem dX3_laysOrder_21 : decode cX3_laysOrder 21 = .ok (.iconst 0, 1) := dk_3 (dk_at dksX3_laysOrder_0 21 rfl rfl)
theorem dX3_laysOrder_22 : decode cX3_laysOrder 22 = .ok (.iaload, 1) := dk_46 (dk_at dksX3_laysOrder_0 22 rfl rfl)
theorem dX3_laysOrder_23 : decode cX3_laysOrder 23 = .ok (.iconst 1, 1) := dk_4 (dk_at dksX3_laysOrder_0 23 rfl rfl)
theorem dX3_laysOrder_24 : decode cX3_laysOrder 24 = .ok (.isub, 1) := dk_100 (dk_at dksX3_laysOrder_1 0 rfl rfl)
theorem dX3_laysOrder_25 : decode cX3_laysOrder 25 = .ok (.istore 4, 2) := dk_54 4 (dk_at dksX3_laysOrder_1 1 rfl rfl)
theorem dX3_laysOrder_27 : decode cX3_laysOrder 27 = .ok (.iload 4, 2) := dk_21 4 (dk_at dksX3_laysOrder_1 3 rfl rfl)
theorem dX3_laysOrder_29 : decode cX3_laysOrder 29 = .ok (.ifCond .lt 94, 3) := dk_155 0 94 (dk_at dksX3_laysOrder_1 5 rfl rfl)
theorem dX3_laysOrder_32 : decode cX3_laysOrder 32 = .ok (.iload_n 1, 1) := dk_27 (dk_at dksX3_laysOrder_1 8 rfl rfl)
theorem dX3_laysOrder_33 : decode cX3_laysOrder 33 = .ok (.iload 4, 2) := dk_21 4 (dk_at dksX3_laysOrder_1 9 rfl rfl)
theorem dX3_laysOrder_35 : decode cX3_laysOrder 35 = .ok (.invokestatic 91, 3) := dk_184 0 91 (dk_at dksX3_laysOrder_1 11 rfl rfl)
theorem dX3_laysOrder_38 : decode cX3_laysOrder 38 = .ok (.ifCond .ne 7, 3) := dk_154 0 7 (dk_at dksX3_laysOrder_1 14 rfl rfl)
theorem dX3_laysOrder_41 : decode cX3_laysOrder 41 = .ok (.iconst 1, 1) := dk_4 (dk_at dksX3_laysOrder_1 17 rfl rfl)
theorem dX3_laysOrder_42 : decode cX3_laysOrder 42 = .ok (.goto 4, 3) := dk_167 0 4 (dk_at dksX3_laysOrder_1 18 rfl rfl)
theorem dX3_laysOrder_45 : decode cX3_laysOrder 45 = .ok (.iconst 0, 1) := dk_3 (dk_at dksX3_laysOrder_1 21 rfl rfl)
theorem dX3_laysOrder_46 : decode cX3_laysOrder 46 = .ok (.istore 5, 2) := dk_54 5 (dk_at dksX3_laysOrder_1 22 rfl rfl)
theorem dX3_laysOrder_48 : decode cX3_laysOrder 48 = .ok (.iconst 0, 1) := dk_3 (dk_at dksX3_laysOrder_2 0 rfl rfl)
theorem dX3_laysOrder_49 : decode cX3_laysOrder 49 = .ok (.istore 6, 2) := dk_54 6 (dk_at dksX3_laysOrder_2 1 rfl rfl)
theorem dX3_laysOrder_51 : decode cX3_laysOrder 51 = .ok (.iload 6, 2) := dk_21 6 (dk_at dksX3_laysOrder_2 3 rfl rfl)
theorem dX3_laysOrder_53 : decode cX3_laysOrder 53 = .ok (.aload_n 0, 1) := dk_42 (dk_at dksX3_laysOrder_2 5 rfl rfl)
theorem dX3_laysOrder_54 : decode cX3_laysOrder 54 = .ok (.getfield 7, 3) := dk_180 0 7 (dk_at dksX3_laysOrder_2 6 rfl rfl)
theorem dX3_laysOrder_57 : decode cX3_laysOrder 57 = .ok (.iconst 0, 1) := dk_3 (dk_at dksX3_laysOrder_2 9 rfl rfl)
theorem dX3_laysOrder_58 : decode cX3_laysOrder 58 = .ok (.iaload, 1) := dk_46 (dk_at dksX3_laysOrder_2 10 rfl rfl)
theorem dX3_laysOrder_59 : decode cX3_laysOrder 59 = .ok (.if_icmp .ge 46, 3) := dk_162 0 46 (dk_at dksX3_laysOrder_2 11 rfl rfl)
theorem dX3_laysOrder_62 : decode cX3_laysOrder 62 = .ok (.iload 5, 2) := dk_21 5 (dk_at dksX3_laysOrder_2 14 rfl rfl)
theorem dX3_laysOrder_64 : decode cX3_laysOrder 64 = .ok (.ifCond .eq 32, 3) := dk_153 0 32 (dk_at dksX3_laysOrder_2 16 rfl rfl)
theorem dX3_laysOrder_67 : decode cX3_laysOrder 67 = .ok (.iload_n 1, 1) := dk_27 (dk_at dksX3_laysOrder_2 19 rfl rfl)
theorem dX3_laysOrder_68 : decode cX3_laysOrder 68 = .ok (.iload 6, 2) := dk_21 6 (dk_at dksX3_laysOrder_2 20 rfl rfl)
theorem dX3_laysOrder_70 : decode cX3_laysOrder 70 = .ok (.invokestatic 91, 3) := dk_184 0 91 (dk_at dksX3_laysOrder_3 0 rfl rfl)
theorem dX3_laysOrder_73 : decode cX3_laysOrder 73 = .ok (.ifCond .ne 19, 3) := dk_154 0 19 (dk_at dksX3_laysOrder_3 3 rfl rfl)
theorem dX3_laysOrder_76 : decode cX3_laysOrder 76 = .ok (.aload_n 0, 1) := dk_42 (dk_at dksX3_laysOrder_3 6 rfl rfl)
theorem dX3_laysOrder_77 : decode cX3_laysOrder 77 = .ok (.getfield 47, 3) := dk_180 0 47 (dk_at dksX3_laysOrder_3 7 rfl rfl)
theorem dX3_laysOrder_80 : decode cX3_laysOrder 80 = .ok (.bipush 10, 2) := dk_16 10 (dk_at dksX3_laysOrder_3 10 rfl rfl)
theorem dX3_laysOrder_82 : decode cX3_laysOrder 82 = .ok (.iload 6, 2) := dk_21 6 (dk_at dksX3_laysOrder_3 12 rfl rfl)
theorem dX3_laysOrder_84 : decode cX3_laysOrder 84 = .ok (.imul, 1) := dk_104 (dk_at dksX3_laysOrder_3 14 rfl rfl)
theorem dX3_laysOrder_85 : decode cX3_laysOrder 85 = .ok (.iload 4, 2) := dk_21 4 (dk_at dksX3_laysOrder_3 15 rfl rfl)
theorem dX3_laysOrder_87 : decode cX3_laysOrder 87 = .ok (.iadd, 1) := dk_96 (dk_at dksX3_laysOrder_3 17 rfl rfl)
theorem dX3_laysOrder_88 : decode cX3_laysOrder 88 = .ok (.iaload, 1) := dk_46 (dk_at dksX3_laysOrder_3 18 rfl rfl)
theorem dX3_laysOrder_89 : decode cX3_laysOrder 89 = .ok (.ifCond .ne 7, 3) := dk_154 0 7 (dk_at dksX3_laysOrder_3 19 rfl rfl)
theorem dX3_laysOrder_92 : decode cX3_laysOrder 92 = .ok (.iconst 1, 1) := dk_4 (dk_at dksX3_laysOrder_3 22 rfl rfl)
theorem dX3_laysOrder_93 : decode cX3_laysOrder 93 = .ok (.goto 4, 3) := dk_167 0 4 (dk_at dksX3_laysOrder_4 0 rfl rfl)
theorem dX3_laysOrder_96 : decode cX3_laysOrder 96 = .ok (.iconst 0, 1) := dk_3 (dk_at dksX3_laysOrder_4 3 rfl rfl)
theorem dX3_laysOrder_97 : decode cX3_laysOrder 97 = .ok (.istore 5, 2) := dk_54 5 (dk_at dksX3_laysOrder_4 4 rfl rfl)
theorem dX3_laysOrder_99 : decode cX3_laysOrder 99 = .ok (.iinc 6 1, 3) := dk_132 6 1 (dk_at dksX3_laysOrder_4 6 rfl rfl)
theorem dX3_laysOrder_102 : decode cX3_laysOrder 102 = .ok (.goto (-51), 3) := dk_167 255 205 (dk_at dksX3_laysOrder_4 9 rfl rfl)
theorem dX3_laysOrder_105 : decode cX3_laysOrder 105 = .ok (.iload 5, 2) := dk_21 5 (dk_at dksX3_laysOrder_4 12 rfl rfl)
theorem dX3_laysOrder_107 : decode cX3_laysOrder 107 = .ok (.ifCond .eq 8, 3) := dk_153 0 8 (dk_at dksX3_laysOrder_4 14 rfl rfl)
theorem dX3_laysOrder_110 : decode cX3_laysOrder 110 = .ok (.iload 4, 2) := dk_21 4 (dk_at dksX3_laysOrder_4 17 rfl rfl)
theorem dX3_laysOrder_112 : decode cX3_laysOrder 112 = .ok (.goto 4, 3) := dk_167 0 4 (dk_at dksX3_laysOrder_4 19 rfl rfl)
theorem dX3_laysOrder_115 : decode cX3_laysOrder 115 = .ok (.iload_n 3, 1) := dk_29 (dk_at dksX3_laysOrder_4 22 rfl rfl)
theorem dX3_laysOrder_116 : decode cX3_laysOrder 116 = .ok (.istore_n 3, 1) := dk_62 (dk_at dksX3_laysOrder_4 23 rfl rfl)
theorem dX3_laysOrder_117 : decode cX3_laysOrder 117 = .ok (.iinc 4 (-1), 3) := dk_132 4 255 (dk_at dksX3_laysOrder_5 0 rfl rfl)
theorem dX3_laysOrder_120 : decode cX3_laysOrder 120 = .ok (.goto (-93), 3) := dk_167 255 163 (dk_at dksX3_laysOrder_5 3 rfl rfl)
theorem dX3_laysOrder_123 : decode cX3_laysOrder 123 = .ok (.aload_n 0, 1) := dk_42 (dk_at dksX3_laysOrder_5 6 rfl rfl)
theorem dX3_laysOrder_124 : decode cX3_laysOrder 124 = .ok (.getfield 50, 3) := dk_180 0 50 (dk_at dksX3_laysOrder_5 7 rfl rfl)
theorem dX3_laysOrder_127 : decode cX3_laysOrder 127 = .ok (.iload_n 2, 1) := dk_28 (dk_at dksX3_laysOrder_5 10 rfl rfl)
theorem dX3_laysOrder_128 : decode cX3_laysOrder 128 = .ok (.iload_n 3, 1) := dk_29 (dk_at dksX3_laysOrder_5 11 rfl rfl)
theorem dX3_laysOrder_129 : decode cX3_laysOrder 129 = .ok (.iastore, 1) := dk_79 (dk_at dksX3_laysOrder_5 12 rfl rfl)
theorem dX3_laysOrder_130 : decode cX3_laysOrder 130 = .ok (.iload_n 1, 1) := dk_27 (dk_at dksX3_laysOrder_5 13 rfl rfl)
theorem dX3_laysOrder_131 : decode cX3_laysOrder 131 = .ok (.iconst 1, 1) := dk_4 (dk_at dksX3_laysOrder_5 14 rfl rfl)
theorem dX3_laysOrder_132 : decode cX3_laysOrder 132 = .ok (.iload_n 3, 1) := dk_29 (dk_at dksX3_laysOrder_5 15 rfl rfl)
theorem dX3_laysOrder_133 : decode cX3_laysOrder 133 = .ok (.ishl, 1) := dk_120 (dk_at dksX3_laysOrder_5 16 rfl rfl)
theorem dX3_laysOrder_134 : decode cX3_laysOrder 134 = .ok (.ior, 1) := dk_128 (dk_at dksX3_laysOrder_5 17 rfl rfl)
theorem dX3_laysOrder_135 : decode cX3_laysOrder 135 = .ok (.istore_n 1, 1) := dk_60 (dk_at dksX3_laysOrder_5 18 rfl rfl)
theorem dX3_laysOrder_136 : decode cX3_laysOrder 136 = .ok (.iinc 2 1, 3) := dk_132 2 1 (dk_at dksX3_laysOrder_5 19 rfl rfl)
theorem dX3_laysOrder_139 : decode cX3_laysOrder 139 = .ok (.goto (-135), 3) := dk_167 255 121 (dk_at dksX3_laysOrder_6 0 rfl rfl)
theorem dX3_laysOrder_142 : decode cX3_laysOrder 142 = .ok (.return_, 1) := dk_177 (dk_at dksX3_laysOrder_6 3 rfl rfl)
abbrev cX3_longest : ByteArray := prog_18_method_74_code
def yX3_longest : MethodName := ⟨RX3, "longest", "()I"⟩
def dkwX3_longest_6 : List UInt8 := [46, 167, 0, 4, 27, 60, 132, 2, 1, 167, 255, 121, 27, 172]
abbrev dktX3_longest_6 : List UInt8 := dkwX3_longest_6 ++ []
def dkwX3_longest_5 : List UInt8 := [29, 46, 79, 132, 4, 1, 167, 255, 175, 42, 180, 0, 53, 29, 46, 27, 164, 0, 12, 42, 180, 0, 53, 29]
abbrev dktX3_longest_5 : List UInt8 := dkwX3_longest_5 ++ dktX3_longest_6
def dkwX3_longest_4 : List UInt8 := [164, 0, 20, 42, 180, 0, 53, 42, 180, 0, 50, 21, 4, 46, 46, 4, 96, 167, 0, 9, 42, 180, 0, 53]
abbrev dktX3_longest_4 : List UInt8 := dkwX3_longest_4 ++ dktX3_longest_5
def dkwX3_longest_3 : List UInt8 := [46, 158, 0, 43, 42, 180, 0, 53, 42, 180, 0, 50, 21, 4, 46, 46, 4, 96, 42, 180, 0, 53, 29, 46]
abbrev dktX3_longest_3 : List UInt8 := dkwX3_longest_3 ++ dktX3_longest_4
def dkwX3_longest_2 : List UInt8 := [162, 0, 81, 42, 180, 0, 53, 29, 42, 180, 0, 47, 16, 10, 42, 180, 0, 50, 21, 4, 46, 104, 29, 96]
abbrev dktX3_longest_2 : List UInt8 := dkwX3_longest_2 ++ dktX3_longest_3
def dkwX3_longest_1 : List UInt8 := [46, 162, 0, 131, 42, 180, 0, 50, 28, 46, 62, 42, 180, 0, 53, 29, 4, 79, 3, 54, 4, 21, 4, 28]
abbrev dktX3_longest_1 : List UInt8 := dkwX3_longest_1 ++ dktX3_longest_2
def dkwX3_longest_0 : List UInt8 := [42, 182, 0, 240, 154, 0, 6, 16, 254, 172, 42, 182, 0, 244, 3, 60, 3, 61, 28, 42, 180, 0, 7, 3]
abbrev dktX3_longest_0 : List UInt8 := dkwX3_longest_0 ++ dktX3_longest_1
theorem dksX3_longest_0 : cX3_longest.data.toList.drop 0 = dktX3_longest_0 := by decide +kernel
theorem dksX3_longest_1 : cX3_longest.data.toList.drop 24 = dktX3_longest_1 := dk_seg dksX3_longest_0 24 rfl rfl
theorem dksX3_longest_2 : cX3_longest.data.toList.drop 48 = dktX3_longest_2 := dk_seg dksX3_longest_1 24 rfl rfl
theorem dksX3_longest_3 : cX3_longest.data.toList.drop 72 = dktX3_longest_3 := dk_seg dksX3_longest_2 24 rfl rfl
theorem dksX3_longest_4 : cX3_longest.data.toList.drop 96 = dktX3_longest_4 := dk_seg dksX3_longest_3 24 rfl rfl
theorem dksX3_longest_5 : cX3_longest.data.toList.drop 120 = dktX3_longest_5 := dk_seg dksX3_longest_4 24 rfl rfl
theorem dksX3_longest_6 : cX3_longest.data.toList.drop 144 = dktX3_longest_6 := dk_seg dksX3_longest_5 24 rfl rfl
theorem dX3_longest_0 : decode cX3_longest 0 = .ok (.aload_n 0, 1) := dk_42 (dk_at dksX3_longest_0 0 rfl rfl)
theorem dX3_longest_1 : decode cX3_longest 1 = .ok (.invokevirtual 240, 3) := dk_182 0 240 (dk_at dksX3_longest_0 1 rfl rfl)
theorem dX3_longest_4 : decode cX3_longest 4 = .ok (.ifCond .ne 6, 3) := dk_154 0 6 (dk_at dksX3_longest_0 4 rfl rfl)
theorem dX3_longest_7 : decode cX3_longest 7 = .ok (.bipush (-2), 2) := dk_16 254 (dk_at dksX3_longest_0 7 rfl rfl)
theorem dX3_longest_9 : decode cX3_longest 9 = .ok (.ireturn, 1) := dk_172 (dk_at dksX3_longest_0 9 rfl rfl)
theorem dX3_longest_10 : decode cX3_longest 10 = .ok (.aload_n 0, 1) := dk_42 (dk_at dksX3_longest_0 10 rfl rfl)
theorem dX3_longest_11 : decode cX3_longest 11 = .ok (.invokevirtual 244, 3) := dk_182 0 244 (dk_at dksX3_longest_0 11 rfl rfl)
theorem dX3_longest_14 : decode cX3_longest 14 = .ok (.iconst 0, 1) := dk_3 (dk_at dksX3_longest_0 14 rfl rfl)
theorem dX3_longest_15 : decode cX3_longest 15 = .ok (.istore_n 1, 1) := dk_60 (dk_at dksX3_longest_0 15 rfl rfl)
theorem dX3_longest_16 : decode cX3_longest 16 = .ok (.iconst 0, 1) := dk_3 (dk_at dksX3_longest_0 16 rfl rfl)
theorem dX3_longest_17 : decode cX3_longest 17 = .ok (.istore_n 2, 1) := dk_61 (dk_at dksX3_longest_0 17 rfl rfl)
theorem dX3_longest_18 : decode cX3_longest 18 = .ok (.iload_n 2, 1) := dk_28 (dk_at dksX3_longest_0 18 rfl rfl)
theorem dX3_longest_19 : decode cX3_longest 19 = .ok (.aload_n 0, 1) := dk_42 (dk_at dksX3_longest_0 19 rfl rfl)
theorem dX3_longest_20 : decode cX3_longest 20 = .ok (.getfield 7, 3) := dk_180 0 7 (dk_at dksX3_longest_0 20 rfl rfl)
theorem dX3_longest_23 : decode cX3_longest 23 = .ok (.iconst 0, 1) := dk_3 (dk_at dksX3_longest_0 23 rfl rfl)
theorem dX3_longest_24 : decode cX3_longest 24 = .ok (.iaload, 1) := dk_46 (dk_at dksX3_longest_1 0 rfl rfl)
theorem dX3_longest_25 : decode cX3_longest 25 = .ok (.if_icmp .ge 131, 3) := dk_162 0 131 (dk_at dksX3_longest_1 1 rfl rfl)
theorem dX3_longest_28 : decode cX3_longest 28 = .ok (.aload_n 0, 1) := dk_42 (dk_at dksX3_longest_1 4 rfl rfl)
theorem dX3_longest_29 : decode cX3_longest 29 = .ok (.getfield 50, 3) := dk_180 0 50 (dk_at dksX3_longest_1 5 rfl rfl)
theorem dX3_longest_32 : decode cX3_longest 32 = .ok (.iload_n 2, 1) := dk_28 (dk_at dksX3_longest_1 8 rfl rfl)
theorem dX3_longest_33 : decode cX3_longest 33 = .ok (.iaload, 1) := dk_46 (dk_at dksX3_longest_1 9 rfl rfl)
theorem dX3_longest_34 : decode cX3_longest 34 = .ok (.istore_n 3, 1) := dk_62 (dk_at dksX3_longest_1 10 rfl rfl)
theorem dX3_longest_35 : decode cX3_longest 35 = .ok (.aload_n 0, 1) := dk_42 (dk_at dksX3_longest_1 11 rfl rfl)
theorem dX3_longest_36 : decode cX3_longest 36 = .ok (.getfield 53, 3) := dk_180 0 53 (dk_at dksX3_longest_1 12 rfl rfl)
theorem dX3_longest_39 : decode cX3_longest 39 = .ok (.iload_n 3, 1) := dk_29 (dk_at dksX3_longest_1 15 rfl rfl)
theorem dX3_longest_40 : decode cX3_longest 40 = .ok (.iconst 1, 1) := dk_4 (dk_at dksX3_longest_1 16 rfl rfl)
theorem dX3_longest_41 : decode cX3_longest 41 = .ok (.iastore, 1) := dk_79 (dk_at dksX3_longest_1 17 rfl rfl)
theorem dX3_longest_42 : decode cX3_longest 42 = .ok (.iconst 0, 1) := dk_3 (dk_at dksX3_longest_1 18 rfl rfl)
theorem dX3_longest_43 : decode cX3_longest 43 = .ok (.istore 4, 2) := dk_54 4 (dk_at dksX3_longest_1 19 rfl rfl)
theorem dX3_longest_45 : decode cX3_longest 45 = .ok (.iload 4, 2) := dk_21 4 (dk_at dksX3_longest_1 21 rfl rfl)
theorem dX3_longest_47 : decode cX3_longest 47 = .ok (.iload_n 2, 1) := dk_28 (dk_at dksX3_longest_1 23 rfl rfl)
theorem dX3_longest_48 : decode cX3_longest 48 = .ok (.if_icmp .ge 81, 3) := dk_162 0 81 (dk_at dksX3_longest_2 0 rfl rfl)
theorem dX3_longest_51 : decode cX3_longest 51 = .ok (.aload_n 0, 1) := dk_42 (dk_at dksX3_longest_2 3 rfl rfl)
theorem dX3_longest_52 : decode cX3_longest 52 = .ok (.getfield 53, 3) := dk_180 0 53 (dk_at dksX3_longest_2 4 rfl rfl)
theorem dX3_longest_55 : decode cX3_longest 55 = .ok (.iload_n 3, 1) := dk_29 (dk_at dksX3_longest_2 7 rfl rfl)
theorem dX3_longest_56 : decode cX3_longest 56 = .ok (.aload_n 0, 1) := dk_42 (dk_at dksX3_longest_2 8 rfl rfl)
theorem dX3_longest_57 : decode cX3_longest 57 = .ok (.getfield 47, 3) := dk_180 0 47 (dk_at dksX3_longest_2 9 rfl rfl)
theorem dX3_longest_60 : decode cX3_longest 60 = .ok (.bipush 10, 2) := dk_16 10 (dk_at dksX3_longest_2 12 rfl rfl)
theorem dX3_longest_62 : decode cX3_longest 62 = .ok (.aload_n 0, 1) := dk_42 (dk_at dksX3_longest_2 14 rfl rfl)
theorem dX3_longest_63 : decode cX3_longest 63 = .ok (.getfield 50, 3) := dk_180 0 50 (dk_at dksX3_longest_2 15 rfl rfl)
theorem dX3_longest_66 : decode cX3_longest 66 = .ok (.iload 4, 2) := dk_21 4 (dk_at dksX3_longest_2 18 rfl rfl)
theorem dX3_longest_68 : decode cX3_longest 68 = .ok (.iaload, 1) := dk_46 (dk_at dksX3_longest_2 20 rfl rfl)
theorem dX3_longest_69 : decode cX3_longest 69 = .ok (.imul, 1) := dk_104 (dk_at dksX3_longest_2 21 rfl rfl)
theorem dX3_longest_70 : decode cX3_longest 70 = .ok (.iload_n 3, 1) := dk_29 (dk_at dksX3_longest_2 22 rfl rfl)
theorem dX3_longest_71 : decode cX3_longest 71 = .ok (.iadd, 1) := dk_96 (dk_at dksX3_longest_2 23 rfl rfl)
theorem dX3_longest_72 : decode cX3_longest 72 = .ok (.iaload, 1) := dk_46 (dk_at dksX3_longest_3 0 rfl rfl)
theorem dX3_longest_73 : decode cX3_longest 73 = .ok (.ifCond .le 43, 3) := dk_158 0 43 (dk_at dksX3_longest_3 1 rfl rfl)
theorem dX3_longest_76 : decode cX3_longest 76 = .ok (.aload_n 0, 1) := dk_42 (dk_at dksX3_longest_3 4 rfl rfl)
theorem dX3_longest_77 : decode cX3_longest 77 = .ok (.getfield 53, 3) := dk_180 0 53 (dk_at dksX3_longest_3 5 rfl rfl)
theorem dX3_longest_80 : decode cX3_longest 80 = .ok (.aload_n 0, 1) := dk_42 (dk_at dksX3_longest_3 8 rfl rfl)
theorem dX3_longest_81 : decode cX3_longest 81 = .ok (.getfield 50, 3) := dk_180 0 50 (dk_at dksX3_longest_3 9 rfl rfl)
theorem dX3_longest_84 : decode cX3_longest 84 = .ok (.iload 4, 2) := dk_21 4 (dk_at dksX3_longest_3 12 rfl rfl)
theorem dX3_longest_86 : decode cX3_longest 86 = .ok (.iaload, 1) := dk_46 (dk_at dksX3_longest_3 14 rfl rfl)
theorem dX3_longest_87 : decode cX3_longest 87 = .ok (.iaload, 1) := dk_46 (dk_at dksX3_longest_3 15 rfl rfl)
theorem dX3_longest_88 : decode cX3_longest 88 = .ok (.iconst 1, 1) := dk_4 (dk_at dksX3_longest_3 16 rfl rfl)
theorem dX3_longest_89 : decode cX3_longest 89 = .ok (.iadd, 1) := dk_96 (dk_at dksX3_longest_3 17 rfl rfl)
theorem dX3_longest_90 : decode cX3_longest 90 = .ok (.aload_n 0, 1) := dk_42 (dk_at dksX3_longest_3 18 rfl rfl)
theorem dX3_longest_91 : decode cX3_longest 91 = .ok (.getfield 53, 3) := dk_180 0 53 (dk_at dksX3_longest_3 19 rfl rfl)
theorem dX3_longest_94 : decode cX3_longest 94 = .ok (.iload_n 3, 1) := dk_29 (dk_at dksX3_longest_3 22 rfl rfl)
theorem dX3_longest_95 : decode cX3_longest 95 = .ok (.iaload, 1) := dk_46 (dk_at dksX3_longest_3 23 rfl rfl)
theorem dX3_longest_96 : decode cX3_longest 96 = .ok (.if_icmp .le 20, 3) := dk_164 0 20 (dk_at dksX3_longest_4 0 rfl rfl)
theorem dX3_longest_99 : decode cX3_longest 99 = .ok (.aload_n 0, 1) := dk_42 (dk_at dksX3_longest_4 3 rfl rfl)
theorem dX3_longest_100 : decode cX3_longest 100 = .ok (.getfield 53, 3) := dk_180 0 53 (dk_at dksX3_longest_4 4 rfl rfl)
theorem dX3_longest_103 : decode cX3_longest 103 = .ok (.aload_n 0, 1) := dk_42 (dk_at dksX3_longest_4 7 rfl rfl)
theorem dX3_longest_104 : decode cX3_longest 104 = .ok (.getfield 50, 3) := dk_180 0 50 (dk_at dksX3_longest_4 8 rfl rfl)
theorem dX3_longest_107 : decode cX3_longest 107 = .ok (.iload 4, 2) := dk_21 4 (dk_at dksX3_longest_4 11 rfl rfl)
theorem dX3_longest_109 : decode cX3_longest 109 = .ok (.iaload, 1) := dk_46 (dk_at dksX3_longest_4 13 rfl rfl)
theorem dX3_longest_110 : decode cX3_longest 110 = .ok (.iaload, 1) := dk_46 (dk_at dksX3_longest_4 14 rfl rfl)
theorem dX3_longest_111 : decode cX3_longest 111 = .ok (.iconst 1, 1) := dk_4 (dk_at dksX3_longest_4 15 rfl rfl)
theorem dX3_longest_112 : decode cX3_longest 112 = .ok (.iadd, 1) := dk_96 (dk_at dksX3_longest_4 16 rfl rfl)
theorem dX3_longest_113 : decode cX3_longest 113 = .ok (.goto 9, 3) := dk_167 0 9 (dk_at dksX3_longest_4 17 rfl rfl)
theorem dX3_longest_116 : decode cX3_longest 116 = .ok (.aload_n 0, 1) := dk_42 (dk_at dksX3_longest_4 20 rfl rfl)
theorem dX3_longest_117 : decode cX3_longest 117 = .ok (.getfield 53, 3) := dk_180 0 53 (dk_at dksX3_longest_4 21 rfl rfl)
theorem dX3_longest_120 : decode cX3_longest 120 = .ok (.iload_n 3, 1) := dk_29 (dk_at dksX3_longest_5 0 rfl rfl)
theorem dX3_longest_121 : decode cX3_longest 121 = .ok (.iaload, 1) := dk_46 (dk_at dksX3_longest_5 1 rfl rfl)
theorem dX3_longest_122 : decode cX3_longest 122 = .ok (.iastore, 1) := dk_79 (dk_at dksX3_longest_5 2 rfl rfl)
theorem dX3_longest_123 : decode cX3_longest 123 = .ok (.iinc 4 1, 3) := dk_132 4 1 (dk_at dksX3_longest_5 3 rfl rfl)
theorem dX3_longest_126 : decode cX3_longest 126 = .ok (.goto (-81), 3) := dk_167 255 175 (dk_at dksX3_longest_5 6 rfl rfl)
theorem dX3_longest_129 : decode cX3_longest 129 = .ok (.aload_n 0, 1) := dk_42 (dk_at dksX3_longest_5 9 rfl rfl)
theorem dX3_longest_130 : decode cX3_longest 130 = .ok (.getfield 53, 3) := dk_180 0 53 (dk_at dksX3_longest_5 10 rfl rfl)
theorem dX3_longest_133 : decode cX3_longest 133 = .ok (.iload_n 3, 1) := dk_29 (dk_at dksX3_longest_5 13 rfl rfl)
theorem dX3_longest_134 : decode cX3_longest 134 = .ok (.iaload, 1) := dk_46 (dk_at dksX3_longest_5 14 rfl rfl)
theorem dX3_longest_135 : decode cX3_longest 135 = .ok (.iload_n 1, 1) := dk_27 (dk_at dksX3_longest_5 15 rfl rfl)
theorem dX3_longest_136 : decode cX3_longest 136 = .ok (.if_icmp .le 12, 3) := dk_164 0 12 (dk_at dksX3_longest_5 16 rfl rfl)
theorem dX3_longest_139 : decode cX3_longest 139 = .ok (.aload_n 0, 1) := dk_42 (dk_at dksX3_longest_5 19 rfl rfl)
theorem dX3_longest_140 : decode cX3_longest 140 = .ok (.getfield 53, 3) := dk_180 0 53 (dk_at dksX3_longest_5 20 rfl rfl)
theorem dX3_longest_143 : decode cX3_longest 143 = .ok (.iload_n 3, 1) := dk_29 (dk_at dksX3_longest_5 23 rfl rfl)
theorem dX3_longest_144 : decode cX3_longest 144 = .ok (.iaload, 1) := dk_46 (dk_at dksX3_longest_6 0 rfl rfl)
theorem dX3_longest_145 : decode cX3_longest 145 = .ok (.goto 4, 3) := dk_167 0 4 (dk_at dksX3_longest_6 1 rfl rfl)
theorem dX3_longest_148 : decode cX3_longest 148 = .ok (.iload_n 1, 1) := dk_27 (dk_at dksX3_longest_6 4 rfl rfl)
theorem dX3_longest_149 : decode cX3_longest 149 = .ok (.istore_n 1, 1) := dk_60 (dk_at dksX3_longest_6 5 rfl rfl)
theorem dX3_longest_150 : decode cX3_longest 150 = .ok (.iinc 2 1, 3) := dk_132 2 1 (dk_at dksX3_longest_6 6 rfl rfl)
theorem dX3_longest_153 : decode cX3_longest 153 = .ok (.goto (-135), 3) := dk_167 255 121 (dk_at dksX3_longest_6 9 rfl rfl)
theorem dX3_longest_156 : decode cX3_longest 156 = .ok (.iload_n 1, 1) := dk_27 (dk_at dksX3_longest_6 12 rfl rfl)
theorem dX3_longest_157 : decode cX3_longest 157 = .ok (.ireturn, 1) := dk_172 (dk_at dksX3_longest_6 13 rfl rfl)
abbrev cX3_type : ByteArray := prog_18_method_75_code
def yX3_type : MethodName := ⟨RX3, "type", "(I)I"⟩
def dkwX3_type_2 : List UInt8 := [180, 0, 178, 172]
abbrev dktX3_type_2 : List UInt8 := dkwX3_type_2 ++ []
def dkwX3_type_1 : List UInt8 := [172, 42, 180, 0, 19, 42, 180, 0, 178, 27, 79, 42, 89, 180, 0, 178, 4, 96, 181, 0, 178, 42]
abbrev dktX3_type_1 : List UInt8 := dkwX3_type_1 ++ dktX3_type_2
def dkwX3_type_0 : List UInt8 := [27, 16, 32, 16, 126, 184, 0, 87, 154, 0, 5, 2, 172, 42, 180, 0, 178, 16, 60, 160, 0, 6, 16, 253]
abbrev dktX3_type_0 : List UInt8 := dkwX3_type_0 ++ dktX3_type_1
theorem dksX3_type_0 : cX3_type.data.toList.drop 0 = dktX3_type_0 := by decide +kernel
theorem dksX3_type_1 : cX3_type.data.toList.drop 24 = dktX3_type_1 := dk_seg dksX3_type_0 24 rfl rfl
theorem dksX3_type_2 : cX3_type.data.toList.drop 46 = dktX3_type_2 := dk_seg dksX3_type_1 22 rfl rfl
theorem dX3_type_0 : decode cX3_type 0 = .ok (.iload_n 1, 1) := dk_27 (dk_at dksX3_type_0 0 rfl rfl)
theorem dX3_type_1 : decode cX3_type 1 = .ok (.bipush 32, 2) := dk_16 32 (dk_at dksX3_type_0 1 rfl rfl)
theorem dX3_type_3 : decode cX3_type 3 = .ok (.bipush 126, 2) := dk_16 126 (dk_at dksX3_type_0 3 rfl rfl)
theorem dX3_type_5 : decode cX3_type 5 = .ok (.invokestatic 87, 3) := dk_184 0 87 (dk_at dksX3_type_0 5 rfl rfl)
theorem dX3_type_8 : decode cX3_type 8 = .ok (.ifCond .ne 5, 3) := dk_154 0 5 (dk_at dksX3_type_0 8 rfl rfl)
theorem dX3_type_11 : decode cX3_type 11 = .ok (.iconst (-1), 1) := dk_2 (dk_at dksX3_type_0 11 rfl rfl)
theorem dX3_type_12 : decode cX3_type 12 = .ok (.ireturn, 1) := dk_172 (dk_at dksX3_type_0 12 rfl rfl)
theorem dX3_type_13 : decode cX3_type 13 = .ok (.aload_n 0, 1) := dk_42 (dk_at dksX3_type_0 13 rfl rfl)
theorem dX3_type_14 : decode cX3_type 14 = .ok (.getfield 178, 3) := dk_180 0 178 (dk_at dksX3_type_0 14 rfl rfl)
theorem dX3_type_17 : decode cX3_type 17 = .ok (.bipush 60, 2) := dk_16 60 (dk_at dksX3_type_0 17 rfl rfl)
theorem dX3_type_19 : decode cX3_type 19 = .ok (.if_icmp .ne 6, 3) := dk_160 0 6 (dk_at dksX3_type_0 19 rfl rfl)
theorem dX3_type_22 : decode cX3_type 22 = .ok (.bipush (-3), 2) := dk_16 253 (dk_at dksX3_type_0 22 rfl rfl)
theorem dX3_type_24 : decode cX3_type 24 = .ok (.ireturn, 1) := dk_172 (dk_at dksX3_type_1 0 rfl rfl)
theorem dX3_type_25 : decode cX3_type 25 = .ok (.aload_n 0, 1) := dk_42 (dk_at dksX3_type_1 1 rfl rfl)
theorem dX3_type_26 : decode cX3_type 26 = .ok (.getfield 19, 3) := dk_180 0 19 (dk_at dksX3_type_1 2 rfl rfl)
theorem dX3_type_29 : decode cX3_type 29 = .ok (.aload_n 0, 1) := dk_42 (dk_at dksX3_type_1 5 rfl rfl)
theorem dX3_type_30 : decode cX3_type 30 = .ok (.getfield 178, 3) := dk_180 0 178 (dk_at dksX3_type_1 6 rfl rfl)
theorem dX3_type_33 : decode cX3_type 33 = .ok (.iload_n 1, 1) := dk_27 (dk_at dksX3_type_1 9 rfl rfl)
theorem dX3_type_34 : decode cX3_type 34 = .ok (.iastore, 1) := dk_79 (dk_at dksX3_type_1 10 rfl rfl)
theorem dX3_type_35 : decode cX3_type 35 = .ok (.aload_n 0, 1) := dk_42 (dk_at dksX3_type_1 11 rfl rfl)
theorem dX3_type_36 : decode cX3_type 36 = .ok (.dup, 1) := dk_89 (dk_at dksX3_type_1 12 rfl rfl)
theorem dX3_type_37 : decode cX3_type 37 = .ok (.getfield 178, 3) := dk_180 0 178 (dk_at dksX3_type_1 13 rfl rfl)
theorem dX3_type_40 : decode cX3_type 40 = .ok (.iconst 1, 1) := dk_4 (dk_at dksX3_type_1 16 rfl rfl)
theorem dX3_type_41 : decode cX3_type 41 = .ok (.iadd, 1) := dk_96 (dk_at dksX3_type_1 17 rfl rfl)
theorem dX3_type_42 : decode cX3_type 42 = .ok (.putfield 178, 3) := dk_181 0 178 (dk_at dksX3_type_1 18 rfl rfl)
theorem dX3_type_45 : decode cX3_type 45 = .ok (.aload_n 0, 1) := dk_42 (dk_at dksX3_type_1 21 rfl rfl)
theorem dX3_type_46 : decode cX3_type 46 = .ok (.getfield 178, 3) := dk_180 0 178 (dk_at dksX3_type_2 0 rfl rfl)
theorem dX3_type_49 : decode cX3_type 49 = .ok (.ireturn, 1) := dk_172 (dk_at dksX3_type_2 3 rfl rfl)
abbrev cX3_clearText : ByteArray := prog_18_method_76_code
def yX3_clearText : MethodName := ⟨RX3, "clearText", "()I"⟩
def dkwX3_clearText_0 : List UInt8 := [42, 180, 0, 178, 60, 42, 3, 181, 0, 178, 27, 172]
abbrev dktX3_clearText_0 : List UInt8 := dkwX3_clearText_0 ++ []
theorem dksX3_clearText_0 : cX3_clearText.data.toList.drop 0 = dktX3_clearText_0 := by decide +kernel
theorem dX3_clearText_0 : decode cX3_clearText 0 = .ok (.aload_n 0, 1) := dk_42 (dk_at dksX3_clearText_0 0 rfl rfl)
theorem dX3_clearText_1 : decode cX3_clearText 1 = .ok (.getfield 178, 3) := dk_180 0 178 (dk_at dksX3_clearText_0 1 rfl rfl)
theorem dX3_clearText_4 : decode cX3_clearText 4 = .ok (.istore_n 1, 1) := dk_60 (dk_at dksX3_clearText_0 4 rfl rfl)
theorem dX3_clearText_5 : decode cX3_clearText 5 = .ok (.aload_n 0, 1) := dk_42 (dk_at dksX3_clearText_0 5 rfl rfl)
theorem dX3_clearText_6 : decode cX3_clearText 6 = .ok (.iconst 0, 1) := dk_3 (dk_at dksX3_clearText_0 6 rfl rfl)
theorem dX3_clearText_7 : decode cX3_clearText 7 = .ok (.putfield 178, 3) := dk_181 0 178 (dk_at dksX3_clearText_0 7 rfl rfl)
theorem dX3_clearText_10 : decode cX3_clearText 10 = .ok (.iload_n 1, 1) := dk_27 (dk_at dksX3_clearText_0 10 rfl rfl)
theorem dX3_clearText_11 : decode cX3_clearText 11 = .ok (.ireturn, 1) := dk_172 (dk_at dksX3_clearText_0 11 rfl rfl)
abbrev cX3_fault : ByteArray := prog_18_method_84_code
def yX3_fault : MethodName := ⟨RX3, "fault", "(I)I"⟩
def dkwX3_fault_1 : List UInt8 := [167, 0, 15, 27, 154, 0, 10, 42, 180, 1, 19, 167, 0, 4, 28, 172]
abbrev dktX3_fault_1 : List UInt8 := dkwX3_fault_1 ++ []
def dkwX3_fault_0 : List UInt8 := [27, 3, 4, 184, 0, 87, 154, 0, 5, 2, 172, 42, 182, 1, 25, 61, 28, 154, 0, 8, 16, 252]
abbrev dktX3_fault_0 : List UInt8 := dkwX3_fault_0 ++ dktX3_fault_1
theorem dksX3_fault_0 : cX3_fault.data.toList.drop 0 = dktX3_fault_0 := by decide +kernel
theorem dksX3_fault_1 : cX3_fault.data.toList.drop 22 = dktX3_fault_1 := dk_seg dksX3_fault_0 22 rfl rfl
theorem dX3_fault_0 : decode cX3_fault 0 = .ok (.iload_n 1, 1) := dk_27 (dk_at dksX3_fault_0 0 rfl rfl)
theorem dX3_fault_1 : decode cX3_fault 1 = .ok (.iconst 0, 1) := dk_3 (dk_at dksX3_fault_0 1 rfl rfl)
theorem dX3_fault_2 : decode cX3_fault 2 = .ok (.iconst 1, 1) := dk_4 (dk_at dksX3_fault_0 2 rfl rfl)
theorem dX3_fault_3 : decode cX3_fault 3 = .ok (.invokestatic 87, 3) := dk_184 0 87 (dk_at dksX3_fault_0 3 rfl rfl)
theorem dX3_fault_6 : decode cX3_fault 6 = .ok (.ifCond .ne 5, 3) := dk_154 0 5 (dk_at dksX3_fault_0 6 rfl rfl)
theorem dX3_fault_9 : decode cX3_fault 9 = .ok (.iconst (-1), 1) := dk_2 (dk_at dksX3_fault_0 9 rfl rfl)
theorem dX3_fault_10 : decode cX3_fault 10 = .ok (.ireturn, 1) := dk_172 (dk_at dksX3_fault_0 10 rfl rfl)
theorem dX3_fault_11 : decode cX3_fault 11 = .ok (.aload_n 0, 1) := dk_42 (dk_at dksX3_fault_0 11 rfl rfl)
theorem dX3_fault_12 : decode cX3_fault 12 = .ok (.invokevirtual 281, 3) := dk_182 1 25 (dk_at dksX3_fault_0 12 rfl rfl)
theorem dX3_fault_15 : decode cX3_fault 15 = .ok (.istore_n 2, 1) := dk_61 (dk_at dksX3_fault_0 15 rfl rfl)
theorem dX3_fault_16 : decode cX3_fault 16 = .ok (.iload_n 2, 1) := dk_28 (dk_at dksX3_fault_0 16 rfl rfl)
theorem dX3_fault_17 : decode cX3_fault 17 = .ok (.ifCond .ne 8, 3) := dk_154 0 8 (dk_at dksX3_fault_0 17 rfl rfl)
theorem dX3_fault_20 : decode cX3_fault 20 = .ok (.bipush (-4), 2) := dk_16 252 (dk_at dksX3_fault_0 20 rfl rfl)
theorem dX3_fault_22 : decode cX3_fault 22 = .ok (.goto 15, 3) := dk_167 0 15 (dk_at dksX3_fault_1 0 rfl rfl)
theorem dX3_fault_25 : decode cX3_fault 25 = .ok (.iload_n 1, 1) := dk_27 (dk_at dksX3_fault_1 3 rfl rfl)
theorem dX3_fault_26 : decode cX3_fault 26 = .ok (.ifCond .ne 10, 3) := dk_154 0 10 (dk_at dksX3_fault_1 4 rfl rfl)
theorem dX3_fault_29 : decode cX3_fault 29 = .ok (.aload_n 0, 1) := dk_42 (dk_at dksX3_fault_1 7 rfl rfl)
theorem dX3_fault_30 : decode cX3_fault 30 = .ok (.getfield 275, 3) := dk_180 1 19 (dk_at dksX3_fault_1 8 rfl rfl)
theorem dX3_fault_33 : decode cX3_fault 33 = .ok (.goto 4, 3) := dk_167 0 4 (dk_at dksX3_fault_1 11 rfl rfl)
theorem dX3_fault_36 : decode cX3_fault 36 = .ok (.iload_n 2, 1) := dk_28 (dk_at dksX3_fault_1 14 rfl rfl)
theorem dX3_fault_37 : decode cX3_fault 37 = .ok (.ireturn, 1) := dk_172 (dk_at dksX3_fault_1 15 rfl rfl)
abbrev cX3_reads : ByteArray := prog_18_method_83_code
def yX3_reads : MethodName := ⟨RX3, "reads", "()I"⟩
def dkwX3_reads_4 : List UInt8 := [153, 0, 7, 3, 167, 0, 4, 8, 172]
abbrev dktX3_reads_4 : List UInt8 := dkwX3_reads_4 ++ []
def dkwX3_reads_3 : List UInt8 := [27, 153, 0, 5, 27, 172, 42, 89, 180, 1, 19, 4, 96, 181, 1, 19, 167, 255, 215, 42, 180, 0, 250]
abbrev dktX3_reads_3 : List UInt8 := dkwX3_reads_3 ++ dktX3_reads_4
def dkwX3_reads_2 : List UInt8 := [180, 1, 19, 42, 180, 0, 178, 162, 0, 36, 42, 42, 180, 0, 19, 42, 180, 1, 19, 46, 182, 1, 22, 60]
abbrev dktX3_reads_2 : List UInt8 := dkwX3_reads_2 ++ dktX3_reads_3
def dkwX3_reads_1 : List UInt8 := [16, 10, 162, 0, 16, 42, 180, 0, 71, 27, 3, 79, 132, 1, 1, 167, 255, 240, 42, 3, 181, 1, 19, 42]
abbrev dktX3_reads_1 : List UInt8 := dkwX3_reads_1 ++ dktX3_reads_2
def dkwX3_reads_0 : List UInt8 := [42, 3, 181, 0, 247, 42, 3, 181, 1, 10, 42, 3, 181, 0, 250, 42, 4, 181, 1, 4, 3, 60, 27]
abbrev dktX3_reads_0 : List UInt8 := dkwX3_reads_0 ++ dktX3_reads_1
theorem dksX3_reads_0 : cX3_reads.data.toList.drop 0 = dktX3_reads_0 := by decide +kernel
theorem dksX3_reads_1 : cX3_reads.data.toList.drop 23 = dktX3_reads_1 := dk_seg dksX3_reads_0 23 rfl rfl
theorem dksX3_reads_2 : cX3_reads.data.toList.drop 47 = dktX3_reads_2 := dk_seg dksX3_reads_1 24 rfl rfl
theorem dksX3_reads_3 : cX3_reads.data.toList.drop 71 = dktX3_reads_3 := dk_seg dksX3_reads_2 24 rfl rfl
theorem dksX3_reads_4 : cX3_reads.data.toList.drop 94 = dktX3_reads_4 := dk_seg dksX3_reads_3 23 rfl rfl
theorem dX3_reads_0 : decode cX3_reads 0 = .ok (.aload_n 0, 1) := dk_42 (dk_at dksX3_reads_0 0 rfl rfl)
theorem dX3_reads_1 : decode cX3_reads 1 = .ok (.iconst 0, 1) := dk_3 (dk_at dksX3_reads_0 1 rfl rfl)
theorem dX3_reads_2 : decode cX3_reads 2 = .ok (.putfield 247, 3) := dk_181 0 247 (dk_at dksX3_reads_0 2 rfl rfl)
theorem dX3_reads_5 : decode cX3_reads 5 = .ok (.aload_n 0, 1) := dk_42 (dk_at dksX3_reads_0 5 rfl rfl)
theorem dX3_reads_6 : decode cX3_reads 6 = .ok (.iconst 0, 1) := dk_3 (dk_at dksX3_reads_0 6 rfl rfl)
theorem dX3_reads_7 : decode cX3_reads 7 = .ok (.putfield 266, 3) := dk_181 1 10 (dk_at dksX3_reads_0 7 rfl rfl)
theorem dX3_reads_10 : decode cX3_reads 10 = .ok (.aload_n 0, 1) := dk_42 (dk_at dksX3_reads_0 10 rfl rfl)
theorem dX3_reads_11 : decode cX3_reads 11 = .ok (.iconst 0, 1) := dk_3 (dk_at dksX3_reads_0 11 rfl rfl)
theorem dX3_reads_12 : decode cX3_reads 12 = .ok (.putfield 250, 3) := dk_181 0 250 (dk_at dksX3_reads_0 12 rfl rfl)
theorem dX3_reads_15 : decode cX3_reads 15 = .ok (.aload_n 0, 1) := dk_42 (dk_at dksX3_reads_0 15 rfl rfl)
theorem dX3_reads_16 : decode cX3_reads 16 = .ok (.iconst 1, 1) := dk_4 (dk_at dksX3_reads_0 16 rfl rfl)
theorem dX3_reads_17 : decode cX3_reads 17 = .ok (.putfield 260, 3) := dk_181 1 4 (dk_at dksX3_reads_0 17 rfl rfl)
theorem dX3_reads_20 : decode cX3_reads 20 = .ok (.iconst 0, 1) := dk_3 (dk_at dksX3_reads_0 20 rfl rfl)
theorem dX3_reads_21 : decode cX3_reads 21 = .ok (.istore_n 1, 1) := dk_60 (dk_at dksX3_reads_0 21 rfl rfl)
theorem dX3_reads_22 : decode cX3_reads 22 = .ok (.iload_n 1, 1) := dk_27 (dk_at dksX3_reads_0 22 rfl rfl)
theorem dX3_reads_23 : decode cX3_reads 23 = .ok (.bipush 10, 2) := dk_16 10 (dk_at dksX3_reads_1 0 rfl rfl)
theorem dX3_reads_25 : decode cX3_reads 25 = .ok (.if_icmp .ge 16, 3) := dk_162 0 16 (dk_at dksX3_reads_1 2 rfl rfl)
theorem dX3_reads_28 : decode cX3_reads 28 = .ok (.aload_n 0, 1) := dk_42 (dk_at dksX3_reads_1 5 rfl rfl)
theorem dX3_reads_29 : decode cX3_reads 29 = .ok (.getfield 71, 3) := dk_180 0 71 (dk_at dksX3_reads_1 6 rfl rfl)
theorem dX3_reads_32 : decode cX3_reads 32 = .ok (.iload_n 1, 1) := dk_27 (dk_at dksX3_reads_1 9 rfl rfl)
theorem dX3_reads_33 : decode cX3_reads 33 = .ok (.iconst 0, 1) := dk_3 (dk_at dksX3_reads_1 10 rfl rfl)
theorem dX3_reads_34 : decode cX3_reads 34 = .ok (.iastore, 1) := dk_79 (dk_at dksX3_reads_1 11 rfl rfl)
theorem dX3_reads_35 : decode cX3_reads 35 = .ok (.iinc 1 1, 3) := dk_132 1 1 (dk_at dksX3_reads_1 12 rfl rfl)
theorem dX3_reads_38 : decode cX3_reads 38 = .ok (.goto (-16), 3) := dk_167 255 240 (dk_at dksX3_reads_1 15 rfl rfl)
theorem dX3_reads_41 : decode cX3_reads 41 = .ok (.aload_n 0, 1) := dk_42 (dk_at dksX3_reads_1 18 rfl rfl)
theorem dX3_reads_42 : decode cX3_reads 42 = .ok (.iconst 0, 1) := dk_3 (dk_at dksX3_reads_1 19 rfl rfl)
theorem dX3_reads_43 : decode cX3_reads 43 = .ok (.putfield 275, 3) := dk_181 1 19 (dk_at dksX3_reads_1 20 rfl rfl)
theorem dX3_reads_46 : decode cX3_reads 46 = .ok (.aload_n 0, 1) := dk_42 (dk_at dksX3_reads_1 23 rfl rfl)
theorem dX3_reads_47 : decode cX3_reads 47 = .ok (.getfield 275, 3) := dk_180 1 19 (dk_at dksX3_reads_2 0 rfl rfl)
theorem dX3_reads_50 : decode cX3_reads 50 = .ok (.aload_n 0, 1) := dk_42 (dk_at dksX3_reads_2 3 rfl rfl)
theorem dX3_reads_51 : decode cX3_reads 51 = .ok (.getfield 178, 3) := dk_180 0 178 (dk_at dksX3_reads_2 4 rfl rfl)
theorem dX3_reads_54 : decode cX3_reads 54 = .ok (.if_icmp .ge 36, 3) := dk_162 0 36 (dk_at dksX3_reads_2 7 rfl rfl)
theorem dX3_reads_57 : decode cX3_reads 57 = .ok (.aload_n 0, 1) := dk_42 (dk_at dksX3_reads_2 10 rfl rfl)
theorem dX3_reads_58 : decode cX3_reads 58 = .ok (.aload_n 0, 1) := dk_42 (dk_at dksX3_reads_2 11 rfl rfl)
theorem dX3_reads_59 : decode cX3_reads 59 = .ok (.getfield 19, 3) := dk_180 0 19 (dk_at dksX3_reads_2 12 rfl rfl)
theorem dX3_reads_62 : decode cX3_reads 62 = .ok (.aload_n 0, 1) := dk_42 (dk_at dksX3_reads_2 15 rfl rfl)
theorem dX3_reads_63 : decode cX3_reads 63 = .ok (.getfield 275, 3) := dk_180 1 19 (dk_at dksX3_reads_2 16 rfl rfl)
theorem dX3_reads_66 : decode cX3_reads 66 = .ok (.iaload, 1) := dk_46 (dk_at dksX3_reads_2 19 rfl rfl)
theorem dX3_reads_67 : decode cX3_reads 67 = .ok (.invokevirtual 278, 3) := dk_182 1 22 (dk_at dksX3_reads_2 20 rfl rfl)
theorem dX3_reads_70 : decode cX3_reads 70 = .ok (.istore_n 1, 1) := dk_60 (dk_at dksX3_reads_2 23 rfl rfl)
theorem dX3_reads_71 : decode cX3_reads 71 = .ok (.iload_n 1, 1) := dk_27 (dk_at dksX3_reads_3 0 rfl rfl)
theorem dX3_reads_72 : decode cX3_reads 72 = .ok (.ifCond .eq 5, 3) := dk_153 0 5 (dk_at dksX3_reads_3 1 rfl rfl)
theorem dX3_reads_75 : decode cX3_reads 75 = .ok (.iload_n 1, 1) := dk_27 (dk_at dksX3_reads_3 4 rfl rfl)
theorem dX3_reads_76 : decode cX3_reads 76 = .ok (.ireturn, 1) := dk_172 (dk_at dksX3_reads_3 5 rfl rfl)
theorem dX3_reads_77 : decode cX3_reads 77 = .ok (.aload_n 0, 1) := dk_42 (dk_at dksX3_reads_3 6 rfl rfl)
theorem dX3_reads_78 : decode cX3_reads 78 = .ok (.dup, 1) := dk_89 (dk_at dksX3_reads_3 7 rfl rfl)
theorem dX3_reads_79 : decode cX3_reads 79 = .ok (.getfield 275, 3) := dk_180 1 19 (dk_at dksX3_reads_3 8 rfl rfl)
theorem dX3_reads_82 : decode cX3_reads 82 = .ok (.iconst 1, 1) := dk_4 (dk_at dksX3_reads_3 11 rfl rfl)
theorem dX3_reads_83 : decode cX3_reads 83 = .ok (.iadd, 1) := dk_96 (dk_at dksX3_reads_3 12 rfl rfl)
theorem dX3_reads_84 : decode cX3_reads 84 = .ok (.putfield 275, 3) := dk_181 1 19 (dk_at dksX3_reads_3 13 rfl rfl)
theorem dX3_reads_87 : decode cX3_reads 87 = .ok (.goto (-41), 3) := dk_167 255 215 (dk_at dksX3_reads_3 16 rfl rfl)
theorem dX3_reads_90 : decode cX3_reads 90 = .ok (.aload_n 0, 1) := dk_42 (dk_at dksX3_reads_3 19 rfl rfl)
theorem dX3_reads_91 : decode cX3_reads 91 = .ok (.getfield 250, 3) := dk_180 0 250 (dk_at dksX3_reads_3 20 rfl rfl)
theorem dX3_reads_94 : decode cX3_reads 94 = .ok (.ifCond .eq 7, 3) := dk_153 0 7 (dk_at dksX3_reads_4 0 rfl rfl)
theorem dX3_reads_97 : decode cX3_reads 97 = .ok (.iconst 0, 1) := dk_3 (dk_at dksX3_reads_4 3 rfl rfl)
theorem dX3_reads_98 : decode cX3_reads 98 = .ok (.goto 4, 3) := dk_167 0 4 (dk_at dksX3_reads_4 4 rfl rfl)
theorem dX3_reads_101 : decode cX3_reads 101 = .ok (.iconst 5, 1) := dk_8 (dk_at dksX3_reads_4 7 rfl rfl)
theorem dX3_reads_102 : decode cX3_reads 102 = .ok (.ireturn, 1) := dk_172 (dk_at dksX3_reads_4 8 rfl rfl)
abbrev cX3_reason : ByteArray := prog_18_method_82_code
def yX3_reason : MethodName := ⟨RX3, "reason", "(I)I"⟩
def dkwX3_reason_8 : List UInt8 := [180, 0, 59, 29, 27, 79, 42, 4, 181, 1, 4, 21, 4, 153, 0, 7, 6, 167, 0, 4, 3, 172]
abbrev dktX3_reason_8 : List UInt8 := dkwX3_reason_8 ++ []
def dkwX3_reason_7 : List UInt8 := [46, 153, 0, 17, 42, 180, 0, 59, 29, 46, 27, 159, 0, 7, 4, 167, 0, 4, 3, 54, 4, 42]
abbrev dktX3_reason_7 : List UInt8 := dkwX3_reason_7 ++ dktX3_reason_8
def dkwX3_reason_6 : List UInt8 := [42, 182, 1, 16, 172, 27, 16, 43, 159, 0, 11, 27, 16, 42, 159, 0, 5, 4, 172, 42, 180, 0, 59, 29]
abbrev dktX3_reason_6 : List UInt8 := dkwX3_reason_6 ++ dktX3_reason_7
def dkwX3_reason_5 : List UInt8 := [182, 1, 16, 172, 27, 16, 41, 160, 0, 22, 42, 180, 0, 62, 29, 46, 5, 162, 0, 7, 7, 167, 0, 7]
abbrev dktX3_reason_5 : List UInt8 := dkwX3_reason_5 ++ dktX3_reason_6
def dkwX3_reason_4 : List UInt8 := [159, 0, 7, 4, 167, 0, 21, 42, 180, 0, 62, 29, 46, 7, 162, 0, 7, 7, 167, 0, 7, 42]
abbrev dktX3_reason_4 : List UInt8 := dkwX3_reason_4 ++ dktX3_reason_5
def dkwX3_reason_3 : List UInt8 := [29, 46, 16, 60, 160, 0, 44, 28, 153, 0, 11, 42, 27, 182, 1, 13, 167, 0, 31, 27, 16, 62]
abbrev dktX3_reason_3 : List UInt8 := dkwX3_reason_3 ++ dktX3_reason_4
def dkwX3_reason_2 : List UInt8 := [153, 0, 11, 42, 27, 182, 1, 13, 167, 0, 4, 4, 172, 42, 180, 0, 247, 4, 100, 62, 42, 180, 0, 56]
abbrev dktX3_reason_2 : List UInt8 := dkwX3_reason_2 ++ dktX3_reason_3
def dkwX3_reason_1 : List UInt8 := [42, 180, 0, 250, 153, 0, 5, 4, 172, 42, 180, 1, 4, 154, 0, 10, 42, 180, 0, 247, 154, 0, 17, 28]
abbrev dktX3_reason_1 : List UInt8 := dkwX3_reason_1 ++ dktX3_reason_2
def dkwX3_reason_0 : List UInt8 := [27, 16, 46, 159, 0, 15, 27, 16, 40, 159, 0, 9, 27, 16, 60, 160, 0, 7, 4, 167, 0, 4, 3, 61]
abbrev dktX3_reason_0 : List UInt8 := dkwX3_reason_0 ++ dktX3_reason_1
theorem dksX3_reason_0 : cX3_reason.data.toList.drop 0 = dktX3_reason_0 := by decide +kernel
theorem dksX3_reason_1 : cX3_reason.data.toList.drop 24 = dktX3_reason_1 := dk_seg dksX3_reason_0 24 rfl rfl
theorem dksX3_reason_2 : cX3_reason.data.toList.drop 48 = dktX3_reason_2 := dk_seg dksX3_reason_1 24 rfl rfl
theorem dksX3_reason_3 : cX3_reason.data.toList.drop 72 = dktX3_reason_3 := dk_seg dksX3_reason_2 24 rfl rfl
theorem dksX3_reason_4 : cX3_reason.data.toList.drop 94 = dktX3_reason_4 := dk_seg dksX3_reason_3 22 rfl rfl
theorem dksX3_reason_5 : cX3_reason.data.toList.drop 116 = dktX3_reason_5 := dk_seg dksX3_reason_4 22 rfl rfl
theorem dksX3_reason_6 : cX3_reason.data.toList.drop 140 = dktX3_reason_6 := dk_seg dksX3_reason_5 24 rfl rfl
theorem dksX3_reason_7 : cX3_reason.data.toList.drop 164 = dktX3_reason_7 := dk_seg dksX3_reason_6 24 rfl rfl
theorem dksX3_reason_8 : cX3_reason.data.toList.drop 186 = dktX3_reason_8 := dk_seg dksX3_reason_7 22 rfl rfl
theorem dX3_reason_0 : decode cX3_reason 0 = .ok (.iload_n 1, 1) := dk_27 (dk_at dksX3_reason_0 0 rfl rfl)
theorem dX3_reason_1 : decode cX3_reason 1 = .ok (.bipush 46, 2) := dk_16 46 (dk_at dksX3_reason_0 1 rfl rfl)
theorem dX3_reason_3 : decode cX3_reason 3 = .ok (.if_icmp .eq 15, 3) := dk_159 0 15 (dk_at dksX3_reason_0 3 rfl rfl)
theorem dX3_reason_6 : decode cX3_reason 6 = .ok (.iload_n 1, 1) := dk_27 (dk_at dksX3_reason_0 6 rfl rfl)
theorem dX3_reason_7 : decode cX3_reason 7 = .ok (.bipush 40, 2) := dk_16 40 (dk_at dksX3_reason_0 7 rfl rfl)
theorem dX3_reason_9 : decode cX3_reason 9 = .ok (.if_icmp .eq 9, 3) := dk_159 0 9 (dk_at dksX3_reason_0 9 rfl rfl)
theorem dX3_reason_12 : decode cX3_reason 12 = .ok (.iload_n 1, 1) := dk_27 (dk_at dksX3_reason_0 12 rfl rfl)
theorem dX3_reason_13 : decode cX3_reason 13 = .ok (.bipush 60, 2) := dk_16 60 (dk_at dksX3_reason_0 13 rfl rfl)
theorem dX3_reason_15 : decode cX3_reason 15 = .ok (.if_icmp .ne 7, 3) := dk_160 0 7 (dk_at dksX3_reason_0 15 rfl rfl)
theorem dX3_reason_18 : decode cX3_reason 18 = .ok (.iconst 1, 1) := dk_4 (dk_at dksX3_reason_0 18 rfl rfl)
theorem dX3_reason_19 : decode cX3_reason 19 = .ok (.goto 4, 3) := dk_167 0 4 (dk_at dksX3_reason_0 19 rfl rfl)
theorem dX3_reason_22 : decode cX3_reason 22 = .ok (.iconst 0, 1) := dk_3 (dk_at dksX3_reason_0 22 rfl rfl)
theorem dX3_reason_23 : decode cX3_reason 23 = .ok (.istore_n 2, 1) := dk_61 (dk_at dksX3_reason_0 23 rfl rfl)
theorem dX3_reason_24 : decode cX3_reason 24 = .ok (.aload_n 0, 1) := dk_42 (dk_at dksX3_reason_1 0 rfl rfl)
theorem dX3_reason_25 : decode cX3_reason 25 = .ok (.getfield 250, 3) := dk_180 0 250 (dk_at dksX3_reason_1 1 rfl rfl)
theorem dX3_reason_28 : decode cX3_reason 28 = .ok (.ifCond .eq 5, 3) := dk_153 0 5 (dk_at dksX3_reason_1 4 rfl rfl)
theorem dX3_reason_31 : decode cX3_reason 31 = .ok (.iconst 1, 1) := dk_4 (dk_at dksX3_reason_1 7 rfl rfl)
theorem dX3_reason_32 : decode cX3_reason 32 = .ok (.ireturn, 1) := dk_172 (dk_at dksX3_reason_1 8 rfl rfl)
theorem dX3_reason_33 : decode cX3_reason 33 = .ok (.aload_n 0, 1) := dk_42 (dk_at dksX3_reason_1 9 rfl rfl)
theorem dX3_reason_34 : decode cX3_reason 34 = .ok (.getfield 260, 3) := dk_180 1 4 (dk_at dksX3_reason_1 10 rfl rfl)
theorem dX3_reason_37 : decode cX3_reason 37 = .ok (.ifCond .ne 10, 3) := dk_154 0 10 (dk_at dksX3_reason_1 13 rfl rfl)
theorem dX3_reason_40 : decode cX3_reason 40 = .ok (.aload_n 0, 1) := dk_42 (dk_at dksX3_reason_1 16 rfl rfl)
theorem dX3_reason_41 : decode cX3_reason 41 = .ok (.getfield 247, 3) := dk_180 0 247 (dk_at dksX3_reason_1 17 rfl rfl)
theorem dX3_reason_44 : decode cX3_reason 44 = .ok (.ifCond .ne 17, 3) := dk_154 0 17 (dk_at dksX3_reason_1 20 rfl rfl)
theorem dX3_reason_47 : decode cX3_reason 47 = .ok (.iload_n 2, 1) := dk_28 (dk_at dksX3_reason_1 23 rfl rfl)
theorem dX3_reason_48 : decode cX3_reason 48 = .ok (.ifCond .eq 11, 3) := dk_153 0 11 (dk_at dksX3_reason_2 0 rfl rfl)
theorem dX3_reason_51 : decode cX3_reason 51 = .ok (.aload_n 0, 1) := dk_42 (dk_at dksX3_reason_2 3 rfl rfl)
theorem dX3_reason_52 : decode cX3_reason 52 = .ok (.iload_n 1, 1) := dk_27 (dk_at dksX3_reason_2 4 rfl rfl)
theorem dX3_reason_53 : decode cX3_reason 53 = .ok (.invokevirtual 269, 3) := dk_182 1 13 (dk_at dksX3_reason_2 5 rfl rfl)
theorem dX3_reason_56 : decode cX3_reason 56 = .ok (.goto 4, 3) := dk_167 0 4 (dk_at dksX3_reason_2 8 rfl rfl)
theorem dX3_reason_59 : decode cX3_reason 59 = .ok (.iconst 1, 1) := dk_4 (dk_at dksX3_reason_2 11 rfl rfl)
theorem dX3_reason_60 : decode cX3_reason 60 = .ok (.ireturn, 1) := dk_172 (dk_at dksX3_reason_2 12 rfl rfl)
theorem dX3_reason_61 : decode cX3_reason 61 = .ok (.aload_n 0, 1) := dk_42 (dk_at dksX3_reason_2 13 rfl rfl)
theorem dX3_reason_62 : decode cX3_reason 62 = .ok (.getfield 247, 3) := dk_180 0 247 (dk_at dksX3_reason_2 14 rfl rfl)
theorem dX3_reason_65 : decode cX3_reason 65 = .ok (.iconst 1, 1) := dk_4 (dk_at dksX3_reason_2 17 rfl rfl)
theorem dX3_reason_66 : decode cX3_reason 66 = .ok (.isub, 1) := dk_100 (dk_at dksX3_reason_2 18 rfl rfl)
theorem dX3_reason_67 : decode cX3_reason 67 = .ok (.istore_n 3, 1) := dk_62 (dk_at dksX3_reason_2 19 rfl rfl)
theorem dX3_reason_68 : decode cX3_reason 68 = .ok (.aload_n 0, 1) := dk_42 (dk_at dksX3_reason_2 20 rfl rfl)
theorem dX3_reason_69 : decode cX3_reason 69 = .ok (.getfield 56, 3) := dk_180 0 56 (dk_at dksX3_reason_2 21 rfl rfl)
theorem dX3_reason_72 : decode cX3_reason 72 = .ok (.iload_n 3, 1) := dk_29 (dk_at dksX3_reason_3 0 rfl rfl)
theorem dX3_reason_73 : decode cX3_reason 73 = .ok (.iaload, 1) := dk_46 (dk_at dksX3_reason_3 1 rfl rfl)
theorem dX3_reason_74 : decode cX3_reason 74 = .ok (.bipush 60, 2) := dk_16 60 (dk_at dksX3_reason_3 2 rfl rfl)
theorem dX3_reason_76 : decode cX3_reason 76 = .ok (.if_icmp .ne 44, 3) := dk_160 0 44 (dk_at dksX3_reason_3 4 rfl rfl)
theorem dX3_reason_79 : decode cX3_reason 79 = .ok (.iload_n 2, 1) := dk_28 (dk_at dksX3_reason_3 7 rfl rfl)
theorem dX3_reason_80 : decode cX3_reason 80 = .ok (.ifCond .eq 11, 3) := dk_153 0 11 (dk_at dksX3_reason_3 8 rfl rfl)
theorem dX3_reason_83 : decode cX3_reason 83 = .ok (.aload_n 0, 1) := dk_42 (dk_at dksX3_reason_3 11 rfl rfl)
theorem dX3_reason_84 : decode cX3_reason 84 = .ok (.iload_n 1, 1) := dk_27 (dk_at dksX3_reason_3 12 rfl rfl)
theorem dX3_reason_85 : decode cX3_reason 85 = .ok (.invokevirtual 269, 3) := dk_182 1 13 (dk_at dksX3_reason_3 13 rfl rfl)
theorem dX3_reason_88 : decode cX3_reason 88 = .ok (.goto 31, 3) := dk_167 0 31 (dk_at dksX3_reason_3 16 rfl rfl)
theorem dX3_reason_91 : decode cX3_reason 91 = .ok (.iload_n 1, 1) := dk_27 (dk_at dksX3_reason_3 19 rfl rfl)
theorem dX3_reason_92 : decode cX3_reason 92 = .ok (.bipush 62, 2) := dk_16 62 (dk_at dksX3_reason_3 20 rfl rfl)
theorem dX3_reason_94 : decode cX3_reason 94 = .ok (.if_icmp .eq 7, 3) := dk_159 0 7 (dk_at dksX3_reason_4 0 rfl rfl)
theorem dX3_reason_97 : decode cX3_reason 97 = .ok (.iconst 1, 1) := dk_4 (dk_at dksX3_reason_4 3 rfl rfl)
theorem dX3_reason_98 : decode cX3_reason 98 = .ok (.goto 21, 3) := dk_167 0 21 (dk_at dksX3_reason_4 4 rfl rfl)
theorem dX3_reason_101 : decode cX3_reason 101 = .ok (.aload_n 0, 1) := dk_42 (dk_at dksX3_reason_4 7 rfl rfl)
theorem dX3_reason_102 : decode cX3_reason 102 = .ok (.getfield 62, 3) := dk_180 0 62 (dk_at dksX3_reason_4 8 rfl rfl)
theorem dX3_reason_105 : decode cX3_reason 105 = .ok (.iload_n 3, 1) := dk_29 (dk_at dksX3_reason_4 11 rfl rfl)
theorem dX3_reason_106 : decode cX3_reason 106 = .ok (.iaload, 1) := dk_46 (dk_at dksX3_reason_4 12 rfl rfl)
theorem dX3_reason_107 : decode cX3_reason 107 = .ok (.iconst 4, 1) := dk_7 (dk_at dksX3_reason_4 13 rfl rfl)
theorem dX3_reason_108 : decode cX3_reason 108 = .ok (.if_icmp .ge 7, 3) := dk_162 0 7 (dk_at dksX3_reason_4 14 rfl rfl)
theorem dX3_reason_111 : decode cX3_reason 111 = .ok (.iconst 4, 1) := dk_7 (dk_at dksX3_reason_4 17 rfl rfl)
theorem dX3_reason_112 : decode cX3_reason 112 = .ok (.goto 7, 3) := dk_167 0 7 (dk_at dksX3_reason_4 18 rfl rfl)
theorem dX3_reason_115 : decode cX3_reason 115 = .ok (.aload_n 0, 1) := dk_42 (dk_at dksX3_reason_4 21 rfl rfl)
theorem dX3_reason_116 : decode cX3_reason 116 = .ok (.invokevirtual 272, 3) := dk_182 1 16 (dk_at dksX3_reason_5 0 rfl rfl)
theorem dX3_reason_119 : decode cX3_reason 119 = .ok (.ireturn, 1) := dk_172 (dk_at dksX3_reason_5 3 rfl rfl)
theorem dX3_reason_120 : decode cX3_reason 120 = .ok (.iload_n 1, 1) := dk_27 (dk_at dksX3_reason_5 4 rfl rfl)
theorem dX3_reason_121 : decode cX3_reason 121 = .ok (.bipush 41, 2) := dk_16 41 (dk_at dksX3_reason_5 5 rfl rfl)
theorem dX3_reason_123 : decode cX3_reason 123 = .ok (.if_icmp .ne 22, 3) := dk_160 0 22 (dk_at dksX3_reason_5 7 rfl rfl)
theorem dX3_reason_126 : decode cX3_reason 126 = .ok (.aload_n 0, 1) := dk_42 (dk_at dksX3_reason_5 10 rfl rfl)
theorem dX3_reason_127 : decode cX3_reason 127 = .ok (.getfield 62, 3) := dk_180 0 62 (dk_at dksX3_reason_5 11 rfl rfl)
theorem dX3_reason_130 : decode cX3_reason 130 = .ok (.iload_n 3, 1) := dk_29 (dk_at dksX3_reason_5 14 rfl rfl)
theorem dX3_reason_131 : decode cX3_reason 131 = .ok (.iaload, 1) := dk_46 (dk_at dksX3_reason_5 15 rfl rfl)
theorem dX3_reason_132 : decode cX3_reason 132 = .ok (.iconst 2, 1) := dk_5 (dk_at dksX3_reason_5 16 rfl rfl)
theorem dX3_reason_133 : decode cX3_reason 133 = .ok (.if_icmp .ge 7, 3) := dk_162 0 7 (dk_at dksX3_reason_5 17 rfl rfl)
theorem dX3_reason_136 : decode cX3_reason 136 = .ok (.iconst 4, 1) := dk_7 (dk_at dksX3_reason_5 20 rfl rfl)
theorem dX3_reason_137 : decode cX3_reason 137 = .ok (.goto 7, 3) := dk_167 0 7 (dk_at dksX3_reason_5 21 rfl rfl)
theorem dX3_reason_140 : decode cX3_reason 140 = .ok (.aload_n 0, 1) := dk_42 (dk_at dksX3_reason_6 0 rfl rfl)
theorem dX3_reason_141 : decode cX3_reason 141 = .ok (.invokevirtual 272, 3) := dk_182 1 16 (dk_at dksX3_reason_6 1 rfl rfl)
theorem dX3_reason_144 : decode cX3_reason 144 = .ok (.ireturn, 1) := dk_172 (dk_at dksX3_reason_6 4 rfl rfl)
theorem dX3_reason_145 : decode cX3_reason 145 = .ok (.iload_n 1, 1) := dk_27 (dk_at dksX3_reason_6 5 rfl rfl)
theorem dX3_reason_146 : decode cX3_reason 146 = .ok (.bipush 43, 2) := dk_16 43 (dk_at dksX3_reason_6 6 rfl rfl)
theorem dX3_reason_148 : decode cX3_reason 148 = .ok (.if_icmp .eq 11, 3) := dk_159 0 11 (dk_at dksX3_reason_6 8 rfl rfl)
theorem dX3_reason_151 : decode cX3_reason 151 = .ok (.iload_n 1, 1) := dk_27 (dk_at dksX3_reason_6 11 rfl rfl)
theorem dX3_reason_152 : decode cX3_reason 152 = .ok (.bipush 42, 2) := dk_16 42 (dk_at dksX3_reason_6 12 rfl rfl)
theorem dX3_reason_154 : decode cX3_reason 154 = .ok (.if_icmp .eq 5, 3) := dk_159 0 5 (dk_at dksX3_reason_6 14 rfl rfl)
theorem dX3_reason_157 : decode cX3_reason 157 = .ok (.iconst 1, 1) := dk_4 (dk_at dksX3_reason_6 17 rfl rfl)
theorem dX3_reason_158 : decode cX3_reason 158 = .ok (.ireturn, 1) := dk_172 (dk_at dksX3_reason_6 18 rfl rfl)
theorem dX3_reason_159 : decode cX3_reason 159 = .ok (.aload_n 0, 1) := dk_42 (dk_at dksX3_reason_6 19 rfl rfl)
theorem dX3_reason_160 : decode cX3_reason 160 = .ok (.getfield 59, 3) := dk_180 0 59 (dk_at dksX3_reason_6 20 rfl rfl)
theorem dX3_reason_163 : decode cX3_reason 163 = .ok (.iload_n 3, 1) := dk_29 (dk_at dksX3_reason_6 23 rfl rfl)
theorem dX3_reason_164 : decode cX3_reason 164 = .ok (.iaload, 1) := dk_46 (dk_at dksX3_reason_7 0 rfl rfl)
theorem dX3_reason_165 : decode cX3_reason 165 = .ok (.ifCond .eq 17, 3) := dk_153 0 17 (dk_at dksX3_reason_7 1 rfl rfl)
theorem dX3_reason_168 : decode cX3_reason 168 = .ok (.aload_n 0, 1) := dk_42 (dk_at dksX3_reason_7 4 rfl rfl)
theorem dX3_reason_169 : decode cX3_reason 169 = .ok (.getfield 59, 3) := dk_180 0 59 (dk_at dksX3_reason_7 5 rfl rfl)
theorem dX3_reason_172 : decode cX3_reason 172 = .ok (.iload_n 3, 1) := dk_29 (dk_at dksX3_reason_7 8 rfl rfl)
theorem dX3_reason_173 : decode cX3_reason 173 = .ok (.iaload, 1) := dk_46 (dk_at dksX3_reason_7 9 rfl rfl)
theorem dX3_reason_174 : decode cX3_reason 174 = .ok (.iload_n 1, 1) := dk_27 (dk_at dksX3_reason_7 10 rfl rfl)
theorem dX3_reason_175 : decode cX3_reason 175 = .ok (.if_icmp .eq 7, 3) := dk_159 0 7 (dk_at dksX3_reason_7 11 rfl rfl)
theorem dX3_reason_178 : decode cX3_reason 178 = .ok (.iconst 1, 1) := dk_4 (dk_at dksX3_reason_7 14 rfl rfl)
theorem dX3_reason_179 : decode cX3_reason 179 = .ok (.goto 4, 3) := dk_167 0 4 (dk_at dksX3_reason_7 15 rfl rfl)
theorem dX3_reason_182 : decode cX3_reason 182 = .ok (.iconst 0, 1) := dk_3 (dk_at dksX3_reason_7 18 rfl rfl)
theorem dX3_reason_183 : decode cX3_reason 183 = .ok (.istore 4, 2) := dk_54 4 (dk_at dksX3_reason_7 19 rfl rfl)
theorem dX3_reason_185 : decode cX3_reason 185 = .ok (.aload_n 0, 1) := dk_42 (dk_at dksX3_reason_7 21 rfl rfl)
theorem dX3_reason_186 : decode cX3_reason 186 = .ok (.getfield 59, 3) := dk_180 0 59 (dk_at dksX3_reason_8 0 rfl rfl)
theorem dX3_reason_189 : decode cX3_reason 189 = .ok (.iload_n 3, 1) := dk_29 (dk_at dksX3_reason_8 3 rfl rfl)
theorem dX3_reason_190 : decode cX3_reason 190 = .ok (.iload_n 1, 1) := dk_27 (dk_at dksX3_reason_8 4 rfl rfl)
theorem dX3_reason_191 : decode cX3_reason 191 = .ok (.iastore, 1) := dk_79 (dk_at dksX3_reason_8 5 rfl rfl)
theorem dX3_reason_192 : decode cX3_reason 192 = .ok (.aload_n 0, 1) := dk_42 (dk_at dksX3_reason_8 6 rfl rfl)
theorem dX3_reason_193 : decode cX3_reason 193 = .ok (.iconst 1, 1) := dk_4 (dk_at dksX3_reason_8 7 rfl rfl)
theorem dX3_reason_194 : decode cX3_reason 194 = .ok (.putfield 260, 3) := dk_181 1 4 (dk_at dksX3_reason_8 8 rfl rfl)
theorem dX3_reason_197 : decode cX3_reason 197 = .ok (.iload 4, 2) := dk_21 4 (dk_at dksX3_reason_8 11 rfl rfl)
theorem dX3_reason_199 : decode cX3_reason 199 = .ok (.ifCond .eq 7, 3) := dk_153 0 7 (dk_at dksX3_reason_8 13 rfl rfl)
theorem dX3_reason_202 : decode cX3_reason 202 = .ok (.iconst 3, 1) := dk_6 (dk_at dksX3_reason_8 16 rfl rfl)
theorem dX3_reason_203 : decode cX3_reason 203 = .ok (.goto 4, 3) := dk_167 0 4 (dk_at dksX3_reason_8 17 rfl rfl)
theorem dX3_reason_206 : decode cX3_reason 206 = .ok (.iconst 0, 1) := dk_3 (dk_at dksX3_reason_8 20 rfl rfl)
theorem dX3_reason_207 : decode cX3_reason 207 = .ok (.ireturn, 1) := dk_172 (dk_at dksX3_reason_8 21 rfl rfl)
abbrev cX3_begins : ByteArray := prog_18_method_81_code
def yX3_begins : MethodName := ⟨RX3, "begins", "(I)I"⟩
def dkwX3_begins_3 : List UInt8 := [3, 172]
abbrev dktX3_begins_3 : List UInt8 := dkwX3_begins_3 ++ []
def dkwX3_begins_2 : List UInt8 := [5, 172, 42, 89, 180, 1, 10, 4, 96, 181, 1, 10, 42, 4, 42, 180, 1, 10, 4, 100, 120, 182, 1, 0]
abbrev dktX3_begins_2 : List UInt8 := dkwX3_begins_2 ++ dktX3_begins_3
def dkwX3_begins_1 : List UInt8 := [16, 40, 160, 0, 7, 4, 167, 0, 4, 3, 181, 1, 4, 3, 172, 42, 180, 1, 10, 16, 10, 160, 0, 5]
abbrev dktX3_begins_1 : List UInt8 := dkwX3_begins_1 ++ dktX3_begins_2
def dkwX3_begins_0 : List UInt8 := [42, 3, 181, 1, 4, 27, 16, 40, 159, 0, 9, 27, 16, 60, 160, 0, 25, 42, 27, 182, 1, 7, 42, 27]
abbrev dktX3_begins_0 : List UInt8 := dkwX3_begins_0 ++ dktX3_begins_1
theorem dksX3_begins_0 : cX3_begins.data.toList.drop 0 = dktX3_begins_0 := by decide +kernel
theorem dksX3_begins_1 : cX3_begins.data.toList.drop 24 = dktX3_begins_1 := dk_seg dksX3_begins_0 24 rfl rfl
theorem dksX3_begins_2 : cX3_begins.data.toList.drop 48 = dktX3_begins_2 := dk_seg dksX3_begins_1 24 rfl rfl
theorem dksX3_begins_3 : cX3_begins.data.toList.drop 72 = dktX3_begins_3 := dk_seg dksX3_begins_2 24 rfl rfl
theorem dX3_begins_0 : decode cX3_begins 0 = .ok (.aload_n 0, 1) := dk_42 (dk_at dksX3_begins_0 0 rfl rfl)
theorem dX3_begins_1 : decode cX3_begins 1 = .ok (.iconst 0, 1) := dk_3 (dk_at dksX3_begins_0 1 rfl rfl)
theorem dX3_begins_2 : decode cX3_begins 2 = .ok (.putfield 260, 3) := dk_181 1 4 (dk_at dksX3_begins_0 2 rfl rfl)
theorem dX3_begins_5 : decode cX3_begins 5 = .ok (.iload_n 1, 1) := dk_27 (dk_at dksX3_begins_0 5 rfl rfl)
theorem dX3_begins_6 : decode cX3_begins 6 = .ok (.bipush 40, 2) := dk_16 40 (dk_at dksX3_begins_0 6 rfl rfl)
theorem dX3_begins_8 : decode cX3_begins 8 = .ok (.if_icmp .eq 9, 3) := dk_159 0 9 (dk_at dksX3_begins_0 8 rfl rfl)
theorem dX3_begins_11 : decode cX3_begins 11 = .ok (.iload_n 1, 1) := dk_27 (dk_at dksX3_begins_0 11 rfl rfl)
theorem dX3_begins_12 : decode cX3_begins 12 = .ok (.bipush 60, 2) := dk_16 60 (dk_at dksX3_begins_0 12 rfl rfl)
theorem dX3_begins_14 : decode cX3_begins 14 = .ok (.if_icmp .ne 25, 3) := dk_160 0 25 (dk_at dksX3_begins_0 14 rfl rfl)
theorem dX3_begins_17 : decode cX3_begins 17 = .ok (.aload_n 0, 1) := dk_42 (dk_at dksX3_begins_0 17 rfl rfl)
theorem dX3_begins_18 : decode cX3_begins 18 = .ok (.iload_n 1, 1) := dk_27 (dk_at dksX3_begins_0 18 rfl rfl)
theorem dX3_begins_19 : decode cX3_begins 19 = .ok (.invokevirtual 263, 3) := dk_182 1 7 (dk_at dksX3_begins_0 19 rfl rfl)
theorem dX3_begins_22 : decode cX3_begins 22 = .ok (.aload_n 0, 1) := dk_42 (dk_at dksX3_begins_0 22 rfl rfl)
theorem dX3_begins_23 : decode cX3_begins 23 = .ok (.iload_n 1, 1) := dk_27 (dk_at dksX3_begins_0 23 rfl rfl)
theorem dX3_begins_24 : decode cX3_begins 24 = .ok (.bipush 40, 2) := dk_16 40 (dk_at dksX3_begins_1 0 rfl rfl)
theorem dX3_begins_26 : decode cX3_begins 26 = .ok (.if_icmp .ne 7, 3) := dk_160 0 7 (dk_at dksX3_begins_1 2 rfl rfl)
theorem dX3_begins_29 : decode cX3_begins 29 = .ok (.iconst 1, 1) := dk_4 (dk_at dksX3_begins_1 5 rfl rfl)
theorem dX3_begins_30 : decode cX3_begins 30 = .ok (.goto 4, 3) := dk_167 0 4 (dk_at dksX3_begins_1 6 rfl rfl)
theorem dX3_begins_33 : decode cX3_begins 33 = .ok (.iconst 0, 1) := dk_3 (dk_at dksX3_begins_1 9 rfl rfl)
theorem dX3_begins_34 : decode cX3_begins 34 = .ok (.putfield 260, 3) := dk_181 1 4 (dk_at dksX3_begins_1 10 rfl rfl)
theorem dX3_begins_37 : decode cX3_begins 37 = .ok (.iconst 0, 1) := dk_3 (dk_at dksX3_begins_1 13 rfl rfl)
theorem dX3_begins_38 : decode cX3_begins 38 = .ok (.ireturn, 1) := dk_172 (dk_at dksX3_begins_1 14 rfl rfl)
theorem dX3_begins_39 : decode cX3_begins 39 = .ok (.aload_n 0, 1) := dk_42 (dk_at dksX3_begins_1 15 rfl rfl)
theorem dX3_begins_40 : decode cX3_begins 40 = .ok (.getfield 266, 3) := dk_180 1 10 (dk_at dksX3_begins_1 16 rfl rfl)
theorem dX3_begins_43 : decode cX3_begins 43 = .ok (.bipush 10, 2) := dk_16 10 (dk_at dksX3_begins_1 19 rfl rfl)
theorem dX3_begins_45 : decode cX3_begins 45 = .ok (.if_icmp .ne 5, 3) := dk_160 0 5 (dk_at dksX3_begins_1 21 rfl rfl)
theorem dX3_begins_48 : decode cX3_begins 48 = .ok (.iconst 2, 1) := dk_5 (dk_at dksX3_begins_2 0 rfl rfl)
theorem dX3_begins_49 : decode cX3_begins 49 = .ok (.ireturn, 1) := dk_172 (dk_at dksX3_begins_2 1 rfl rfl)
theorem dX3_begins_50 : decode cX3_begins 50 = .ok (.aload_n 0, 1) := dk_42 (dk_at dksX3_begins_2 2 rfl rfl)
theorem dX3_begins_51 : decode cX3_begins 51 = .ok (.dup, 1) := dk_89 (dk_at dksX3_begins_2 3 rfl rfl)
theorem dX3_begins_52 : decode cX3_begins 52 = .ok (.getfield 266, 3) := dk_180 1 10 (dk_at dksX3_begins_2 4 rfl rfl)
theorem dX3_begins_55 : decode cX3_begins 55 = .ok (.iconst 1, 1) := dk_4 (dk_at dksX3_begins_2 7 rfl rfl)
theorem dX3_begins_56 : decode cX3_begins 56 = .ok (.iadd, 1) := dk_96 (dk_at dksX3_begins_2 8 rfl rfl)
theorem dX3_begins_57 : decode cX3_begins 57 = .ok (.putfield 266, 3) := dk_181 1 10 (dk_at dksX3_begins_2 9 rfl rfl)
theorem dX3_begins_60 : decode cX3_begins 60 = .ok (.aload_n 0, 1) := dk_42 (dk_at dksX3_begins_2 12 rfl rfl)
theorem dX3_begins_61 : decode cX3_begins 61 = .ok (.iconst 1, 1) := dk_4 (dk_at dksX3_begins_2 13 rfl rfl)
theorem dX3_begins_62 : decode cX3_begins 62 = .ok (.aload_n 0, 1) := dk_42 (dk_at dksX3_begins_2 14 rfl rfl)
theorem dX3_begins_63 : decode cX3_begins 63 = .ok (.getfield 266, 3) := dk_180 1 10 (dk_at dksX3_begins_2 15 rfl rfl)
theorem dX3_begins_66 : decode cX3_begins 66 = .ok (.iconst 1, 1) := dk_4 (dk_at dksX3_begins_2 18 rfl rfl)
theorem dX3_begins_67 : decode cX3_begins 67 = .ok (.isub, 1) := dk_100 (dk_at dksX3_begins_2 19 rfl rfl)
theorem dX3_begins_68 : decode cX3_begins 68 = .ok (.ishl, 1) := dk_120 (dk_at dksX3_begins_2 20 rfl rfl)
theorem dX3_begins_69 : decode cX3_begins 69 = .ok (.invokevirtual 256, 3) := dk_182 1 0 (dk_at dksX3_begins_2 21 rfl rfl)
theorem dX3_begins_72 : decode cX3_begins 72 = .ok (.iconst 0, 1) := dk_3 (dk_at dksX3_begins_3 0 rfl rfl)
theorem dX3_begins_73 : decode cX3_begins 73 = .ok (.ireturn, 1) := dk_172 (dk_at dksX3_begins_3 1 rfl rfl)
abbrev cX3_opens : ByteArray := prog_18_method_79_code
def yX3_opens : MethodName := ⟨RX3, "opens", "(I)V"⟩
def dkwX3_opens_2 : List UInt8 := [3, 79, 42, 89, 180, 0, 247, 4, 96, 181, 0, 247, 177]
abbrev dktX3_opens_2 : List UInt8 := dkwX3_opens_2 ++ []
def dkwX3_opens_1 : List UInt8 := [42, 180, 0, 247, 3, 79, 42, 180, 0, 65, 42, 180, 0, 247, 3, 79, 42, 180, 0, 68, 42, 180, 0, 247]
abbrev dktX3_opens_1 : List UInt8 := dkwX3_opens_1 ++ dktX3_opens_2
def dkwX3_opens_0 : List UInt8 := [42, 180, 0, 56, 42, 180, 0, 247, 27, 79, 42, 180, 0, 59, 42, 180, 0, 247, 3, 79, 42, 180, 0, 62]
abbrev dktX3_opens_0 : List UInt8 := dkwX3_opens_0 ++ dktX3_opens_1
theorem dksX3_opens_0 : cX3_opens.data.toList.drop 0 = dktX3_opens_0 := by decide +kernel
theorem dksX3_opens_1 : cX3_opens.data.toList.drop 24 = dktX3_opens_1 := dk_seg dksX3_opens_0 24 rfl rfl
theorem dksX3_opens_2 : cX3_opens.data.toList.drop 48 = dktX3_opens_2 := dk_seg dksX3_opens_1 24 rfl rfl
theorem dX3_opens_0 : decode cX3_opens 0 = .ok (.aload_n 0, 1) := dk_42 (dk_at dksX3_opens_0 0 rfl rfl)
theorem dX3_opens_1 : decode cX3_opens 1 = .ok (.getfield 56, 3) := dk_180 0 56 (dk_at dksX3_opens_0 1 rfl rfl)
theorem dX3_opens_4 : decode cX3_opens 4 = .ok (.aload_n 0, 1) := dk_42 (dk_at dksX3_opens_0 4 rfl rfl)
theorem dX3_opens_5 : decode cX3_opens 5 = .ok (.getfield 247, 3) := dk_180 0 247 (dk_at dksX3_opens_0 5 rfl rfl)
theorem dX3_opens_8 : decode cX3_opens 8 = .ok (.iload_n 1, 1) := dk_27 (dk_at dksX3_opens_0 8 rfl rfl)
theorem dX3_opens_9 : decode cX3_opens 9 = .ok (.iastore, 1) := dk_79 (dk_at dksX3_opens_0 9 rfl rfl)
theorem dX3_opens_10 : decode cX3_opens 10 = .ok (.aload_n 0, 1) := dk_42 (dk_at dksX3_opens_0 10 rfl rfl)
theorem dX3_opens_11 : decode cX3_opens 11 = .ok (.getfield 59, 3) := dk_180 0 59 (dk_at dksX3_opens_0 11 rfl rfl)
theorem dX3_opens_14 : decode cX3_opens 14 = .ok (.aload_n 0, 1) := dk_42 (dk_at dksX3_opens_0 14 rfl rfl)
theorem dX3_opens_15 : decode cX3_opens 15 = .ok (.getfield 247, 3) := dk_180 0 247 (dk_at dksX3_opens_0 15 rfl rfl)
theorem dX3_opens_18 : decode cX3_opens 18 = .ok (.iconst 0, 1) := dk_3 (dk_at dksX3_opens_0 18 rfl rfl)
theorem dX3_opens_19 : decode cX3_opens 19 = .ok (.iastore, 1) := dk_79 (dk_at dksX3_opens_0 19 rfl rfl)
theorem dX3_opens_20 : decode cX3_opens 20 = .ok (.aload_n 0, 1) := dk_42 (dk_at dksX3_opens_0 20 rfl rfl)
theorem dX3_opens_21 : decode cX3_opens 21 = .ok (.getfield 62, 3) := dk_180 0 62 (dk_at dksX3_opens_0 21 rfl rfl)
theorem dX3_opens_24 : decode cX3_opens 24 = .ok (.aload_n 0, 1) := dk_42 (dk_at dksX3_opens_1 0 rfl rfl)
theorem dX3_opens_25 : decode cX3_opens 25 = .ok (.getfield 247, 3) := dk_180 0 247 (dk_at dksX3_opens_1 1 rfl rfl)
theorem dX3_opens_28 : decode cX3_opens 28 = .ok (.iconst 0, 1) := dk_3 (dk_at dksX3_opens_1 4 rfl rfl)
theorem dX3_opens_29 : decode cX3_opens 29 = .ok (.iastore, 1) := dk_79 (dk_at dksX3_opens_1 5 rfl rfl)
theorem dX3_opens_30 : decode cX3_opens 30 = .ok (.aload_n 0, 1) := dk_42 (dk_at dksX3_opens_1 6 rfl rfl)
theorem dX3_opens_31 : decode cX3_opens 31 = .ok (.getfield 65, 3) := dk_180 0 65 (dk_at dksX3_opens_1 7 rfl rfl)
theorem dX3_opens_34 : decode cX3_opens 34 = .ok (.aload_n 0, 1) := dk_42 (dk_at dksX3_opens_1 10 rfl rfl)
theorem dX3_opens_35 : decode cX3_opens 35 = .ok (.getfield 247, 3) := dk_180 0 247 (dk_at dksX3_opens_1 11 rfl rfl)
theorem dX3_opens_38 : decode cX3_opens 38 = .ok (.iconst 0, 1) := dk_3 (dk_at dksX3_opens_1 14 rfl rfl)
theorem dX3_opens_39 : decode cX3_opens 39 = .ok (.iastore, 1) := dk_79 (dk_at dksX3_opens_1 15 rfl rfl)
theorem dX3_opens_40 : decode cX3_opens 40 = .ok (.aload_n 0, 1) := dk_42 (dk_at dksX3_opens_1 16 rfl rfl)
theorem dX3_opens_41 : decode cX3_opens 41 = .ok (.getfield 68, 3) := dk_180 0 68 (dk_at dksX3_opens_1 17 rfl rfl)
theorem dX3_opens_44 : decode cX3_opens 44 = .ok (.aload_n 0, 1) := dk_42 (dk_at dksX3_opens_1 20 rfl rfl)
theorem dX3_opens_45 : decode cX3_opens 45 = .ok (.getfield 247, 3) := dk_180 0 247 (dk_at dksX3_opens_1 21 rfl rfl)
theorem dX3_opens_48 : decode cX3_opens 48 = .ok (.iconst 0, 1) := dk_3 (dk_at dksX3_opens_2 0 rfl rfl)
theorem dX3_opens_49 : decode cX3_opens 49 = .ok (.iastore, 1) := dk_79 (dk_at dksX3_opens_2 1 rfl rfl)
theorem dX3_opens_50 : decode cX3_opens 50 = .ok (.aload_n 0, 1) := dk_42 (dk_at dksX3_opens_2 2 rfl rfl)
theorem dX3_opens_51 : decode cX3_opens 51 = .ok (.dup, 1) := dk_89 (dk_at dksX3_opens_2 3 rfl rfl)
theorem dX3_opens_52 : decode cX3_opens 52 = .ok (.getfield 247, 3) := dk_180 0 247 (dk_at dksX3_opens_2 4 rfl rfl)
theorem dX3_opens_55 : decode cX3_opens 55 = .ok (.iconst 1, 1) := dk_4 (dk_at dksX3_opens_2 7 rfl rfl)
theorem dX3_opens_56 : decode cX3_opens 56 = .ok (.iadd, 1) := dk_96 (dk_at dksX3_opens_2 8 rfl rfl)
theorem dX3_opens_57 : decode cX3_opens 57 = .ok (.putfield 247, 3) := dk_181 0 247 (dk_at dksX3_opens_2 9 rfl rfl)
theorem dX3_opens_60 : decode cX3_opens 60 = .ok (.return_, 1) := dk_177 (dk_at dksX3_opens_2 12 rfl rfl)
abbrev cX3_completes : ByteArray := prog_18_method_78_code
def yX3_completes : MethodName := ⟨RX3, "completes", "(I)V"⟩
def dkwX3_completes_4 : List UInt8 := [28, 92, 46, 4, 96, 79, 177]
abbrev dktX3_completes_4 : List UInt8 := dkwX3_completes_4 ++ []
def dkwX3_completes_3 : List UInt8 := [182, 0, 253, 42, 180, 0, 65, 28, 92, 46, 27, 128, 79, 42, 180, 0, 68, 28, 27, 79, 42, 180, 0, 62]
abbrev dktX3_completes_3 : List UInt8 := dkwX3_completes_3 ++ dktX3_completes_4
def dkwX3_completes_2 : List UInt8 := [28, 46, 16, 60, 160, 0, 12, 42, 180, 0, 68, 28, 46, 167, 0, 9, 42, 180, 0, 65, 28, 46]
abbrev dktX3_completes_2 : List UInt8 := dkwX3_completes_2 ++ dktX3_completes_3
def dkwX3_completes_1 : List UInt8 := [28, 46, 16, 60, 159, 0, 14, 42, 180, 0, 59, 28, 46, 16, 42, 160, 0, 34, 42, 27, 42, 180, 0, 56]
abbrev dktX3_completes_1 : List UInt8 := dkwX3_completes_1 ++ dktX3_completes_2
def dkwX3_completes_0 : List UInt8 := [42, 180, 0, 247, 154, 0, 9, 42, 4, 181, 0, 250, 177, 42, 180, 0, 247, 4, 100, 61, 42, 180, 0, 56]
abbrev dktX3_completes_0 : List UInt8 := dkwX3_completes_0 ++ dktX3_completes_1
theorem dksX3_completes_0 : cX3_completes.data.toList.drop 0 = dktX3_completes_0 := by decide +kernel
theorem dksX3_completes_1 : cX3_completes.data.toList.drop 24 = dktX3_completes_1 := dk_seg dksX3_completes_0 24 rfl rfl
theorem dksX3_completes_2 : cX3_completes.data.toList.drop 48 = dktX3_completes_2 := dk_seg dksX3_completes_1 24 rfl rfl
theorem dksX3_completes_3 : cX3_completes.data.toList.drop 70 = dktX3_completes_3 := dk_seg dksX3_completes_2 22 rfl rfl
theorem dksX3_completes_4 : cX3_completes.data.toList.drop 94 = dktX3_completes_4 := dk_seg dksX3_completes_3 24 rfl rfl
theorem dX3_completes_0 : decode cX3_completes 0 = .ok (.aload_n 0, 1) := dk_42 (dk_at dksX3_completes_0 0 rfl rfl)
theorem dX3_completes_1 : decode cX3_completes 1 = .ok (.getfield 247, 3) := dk_180 0 247 (dk_at dksX3_completes_0 1 rfl rfl)
theorem dX3_completes_4 : decode cX3_completes 4 = .ok (.ifCond .ne 9, 3) := dk_154 0 9 (dk_at dksX3_completes_0 4 rfl rfl)
theorem dX3_completes_7 : decode cX3_completes 7 = .ok (.aload_n 0, 1) := dk_42 (dk_at dksX3_completes_0 7 rfl rfl)
theorem dX3_completes_8 : decode cX3_completes 8 = .ok (.iconst 1, 1) := dk_4 (dk_at dksX3_completes_0 8 rfl rfl)
theorem dX3_completes_9 : decode cX3_completes 9 = .ok (.putfield 250, 3) := dk_181 0 250 (dk_at dksX3_completes_0 9 rfl rfl)
theorem dX3_completes_12 : decode cX3_completes 12 = .ok (.return_, 1) := dk_177 (dk_at dksX3_completes_0 12 rfl rfl)
theorem dX3_completes_13 : decode cX3_completes 13 = .ok (.aload_n 0, 1) := dk_42 (dk_at dksX3_completes_0 13 rfl rfl)
theorem dX3_completes_14 : decode cX3_completes 14 = .ok (.getfield 247, 3) := dk_180 0 247 (dk_at dksX3_completes_0 14 rfl rfl)
theorem dX3_completes_17 : decode cX3_completes 17 = .ok (.iconst 1, 1) := dk_4 (dk_at dksX3_completes_0 17 rfl rfl)
theorem dX3_completes_18 : decode cX3_completes 18 = .ok (.isub, 1) := dk_100 (dk_at dksX3_completes_0 18 rfl rfl)
theorem dX3_completes_19 : decode cX3_completes 19 = .ok (.istore_n 2, 1) := dk_61 (dk_at dksX3_completes_0 19 rfl rfl)
theorem dX3_completes_20 : decode cX3_completes 20 = .ok (.aload_n 0, 1) := dk_42 (dk_at dksX3_completes_0 20 rfl rfl)
theorem dX3_completes_21 : decode cX3_completes 21 = .ok (.getfield 56, 3) := dk_180 0 56 (dk_at dksX3_completes_0 21 rfl rfl)
theorem dX3_completes_24 : decode cX3_completes 24 = .ok (.iload_n 2, 1) := dk_28 (dk_at dksX3_completes_1 0 rfl rfl)
theorem dX3_completes_25 : decode cX3_completes 25 = .ok (.iaload, 1) := dk_46 (dk_at dksX3_completes_1 1 rfl rfl)
theorem dX3_completes_26 : decode cX3_completes 26 = .ok (.bipush 60, 2) := dk_16 60 (dk_at dksX3_completes_1 2 rfl rfl)
theorem dX3_completes_28 : decode cX3_completes 28 = .ok (.if_icmp .eq 14, 3) := dk_159 0 14 (dk_at dksX3_completes_1 4 rfl rfl)
theorem dX3_completes_31 : decode cX3_completes 31 = .ok (.aload_n 0, 1) := dk_42 (dk_at dksX3_completes_1 7 rfl rfl)
theorem dX3_completes_32 : decode cX3_completes 32 = .ok (.getfield 59, 3) := dk_180 0 59 (dk_at dksX3_completes_1 8 rfl rfl)
theorem dX3_completes_35 : decode cX3_completes 35 = .ok (.iload_n 2, 1) := dk_28 (dk_at dksX3_completes_1 11 rfl rfl)
theorem dX3_completes_36 : decode cX3_completes 36 = .ok (.iaload, 1) := dk_46 (dk_at dksX3_completes_1 12 rfl rfl)
theorem dX3_completes_37 : decode cX3_completes 37 = .ok (.bipush 42, 2) := dk_16 42 (dk_at dksX3_completes_1 13 rfl rfl)
theorem dX3_completes_39 : decode cX3_completes 39 = .ok (.if_icmp .ne 34, 3) := dk_160 0 34 (dk_at dksX3_completes_1 15 rfl rfl)
theorem dX3_completes_42 : decode cX3_completes 42 = .ok (.aload_n 0, 1) := dk_42 (dk_at dksX3_completes_1 18 rfl rfl)
theorem dX3_completes_43 : decode cX3_completes 43 = .ok (.iload_n 1, 1) := dk_27 (dk_at dksX3_completes_1 19 rfl rfl)
theorem dX3_completes_44 : decode cX3_completes 44 = .ok (.aload_n 0, 1) := dk_42 (dk_at dksX3_completes_1 20 rfl rfl)
theorem dX3_completes_45 : decode cX3_completes 45 = .ok (.getfield 56, 3) := dk_180 0 56 (dk_at dksX3_completes_1 21 rfl rfl)
theorem dX3_completes_48 : decode cX3_completes 48 = .ok (.iload_n 2, 1) := dk_28 (dk_at dksX3_completes_2 0 rfl rfl)
theorem dX3_completes_49 : decode cX3_completes 49 = .ok (.iaload, 1) := dk_46 (dk_at dksX3_completes_2 1 rfl rfl)
theorem dX3_completes_50 : decode cX3_completes 50 = .ok (.bipush 60, 2) := dk_16 60 (dk_at dksX3_completes_2 2 rfl rfl)
theorem dX3_completes_52 : decode cX3_completes 52 = .ok (.if_icmp .ne 12, 3) := dk_160 0 12 (dk_at dksX3_completes_2 4 rfl rfl)
theorem dX3_completes_55 : decode cX3_completes 55 = .ok (.aload_n 0, 1) := dk_42 (dk_at dksX3_completes_2 7 rfl rfl)
theorem dX3_completes_56 : decode cX3_completes 56 = .ok (.getfield 68, 3) := dk_180 0 68 (dk_at dksX3_completes_2 8 rfl rfl)
theorem dX3_completes_59 : decode cX3_completes 59 = .ok (.iload_n 2, 1) := dk_28 (dk_at dksX3_completes_2 11 rfl rfl)
theorem dX3_completes_60 : decode cX3_completes 60 = .ok (.iaload, 1) := dk_46 (dk_at dksX3_completes_2 12 rfl rfl)
theorem dX3_completes_61 : decode cX3_completes 61 = .ok (.goto 9, 3) := dk_167 0 9 (dk_at dksX3_completes_2 13 rfl rfl)
theorem dX3_completes_64 : decode cX3_completes 64 = .ok (.aload_n 0, 1) := dk_42 (dk_at dksX3_completes_2 16 rfl rfl)
theorem dX3_completes_65 : decode cX3_completes 65 = .ok (.getfield 65, 3) := dk_180 0 65 (dk_at dksX3_completes_2 17 rfl rfl)
theorem dX3_completes_68 : decode cX3_completes 68 = .ok (.iload_n 2, 1) := dk_28 (dk_at dksX3_completes_2 20 rfl rfl)
theorem dX3_completes_69 : decode cX3_completes 69 = .ok (.iaload, 1) := dk_46 (dk_at dksX3_completes_2 21 rfl rfl)
theorem dX3_completes_70 : decode cX3_completes 70 = .ok (.invokevirtual 253, 3) := dk_182 0 253 (dk_at dksX3_completes_3 0 rfl rfl)
theorem dX3_completes_73 : decode cX3_completes 73 = .ok (.aload_n 0, 1) := dk_42 (dk_at dksX3_completes_3 3 rfl rfl)
theorem dX3_completes_74 : decode cX3_completes 74 = .ok (.getfield 65, 3) := dk_180 0 65 (dk_at dksX3_completes_3 4 rfl rfl)
theorem dX3_completes_77 : decode cX3_completes 77 = .ok (.iload_n 2, 1) := dk_28 (dk_at dksX3_completes_3 7 rfl rfl)
theorem dX3_completes_78 : decode cX3_completes 78 = .ok (.dup2, 1) := dk_92 (dk_at dksX3_completes_3 8 rfl rfl)
theorem dX3_completes_79 : decode cX3_completes 79 = .ok (.iaload, 1) := dk_46 (dk_at dksX3_completes_3 9 rfl rfl)
theorem dX3_completes_80 : decode cX3_completes 80 = .ok (.iload_n 1, 1) := dk_27 (dk_at dksX3_completes_3 10 rfl rfl)
theorem dX3_completes_81 : decode cX3_completes 81 = .ok (.ior, 1) := dk_128 (dk_at dksX3_completes_3 11 rfl rfl)
theorem dX3_completes_82 : decode cX3_completes 82 = .ok (.iastore, 1) := dk_79 (dk_at dksX3_completes_3 12 rfl rfl)
theorem dX3_completes_83 : decode cX3_completes 83 = .ok (.aload_n 0, 1) := dk_42 (dk_at dksX3_completes_3 13 rfl rfl)
theorem dX3_completes_84 : decode cX3_completes 84 = .ok (.getfield 68, 3) := dk_180 0 68 (dk_at dksX3_completes_3 14 rfl rfl)
theorem dX3_completes_87 : decode cX3_completes 87 = .ok (.iload_n 2, 1) := dk_28 (dk_at dksX3_completes_3 17 rfl rfl)
theorem dX3_completes_88 : decode cX3_completes 88 = .ok (.iload_n 1, 1) := dk_27 (dk_at dksX3_completes_3 18 rfl rfl)
theorem dX3_completes_89 : decode cX3_completes 89 = .ok (.iastore, 1) := dk_79 (dk_at dksX3_completes_3 19 rfl rfl)
theorem dX3_completes_90 : decode cX3_completes 90 = .ok (.aload_n 0, 1) := dk_42 (dk_at dksX3_completes_3 20 rfl rfl)
theorem dX3_completes_91 : decode cX3_completes 91 = .ok (.getfield 62, 3) := dk_180 0 62 (dk_at dksX3_completes_3 21 rfl rfl)
theorem dX3_completes_94 : decode cX3_completes 94 = .ok (.iload_n 2, 1) := dk_28 (dk_at dksX3_completes_4 0 rfl rfl)
theorem dX3_completes_95 : decode cX3_completes 95 = .ok (.dup2, 1) := dk_92 (dk_at dksX3_completes_4 1 rfl rfl)
theorem dX3_completes_96 : decode cX3_completes 96 = .ok (.iaload, 1) := dk_46 (dk_at dksX3_completes_4 2 rfl rfl)
theorem dX3_completes_97 : decode cX3_completes 97 = .ok (.iconst 1, 1) := dk_4 (dk_at dksX3_completes_4 3 rfl rfl)
theorem dX3_completes_98 : decode cX3_completes 98 = .ok (.iadd, 1) := dk_96 (dk_at dksX3_completes_4 4 rfl rfl)
theorem dX3_completes_99 : decode cX3_completes 99 = .ok (.iastore, 1) := dk_79 (dk_at dksX3_completes_4 5 rfl rfl)
theorem dX3_completes_100 : decode cX3_completes 100 = .ok (.return_, 1) := dk_177 (dk_at dksX3_completes_4 6 rfl rfl)
abbrev cX3_linksRead : ByteArray := prog_18_method_77_code
def yX3_linksRead : MethodName := ⟨RX3, "linksRead", "(II)V"⟩
def dkwX3_linksRead_2 : List UInt8 := [167, 255, 211, 177]
abbrev dktX3_linksRead_2 : List UInt8 := dkwX3_linksRead_2 ++ []
def dkwX3_linksRead_1 : List UInt8 := [167, 0, 4, 3, 28, 29, 184, 0, 91, 153, 0, 7, 27, 167, 0, 4, 3, 128, 128, 79, 132, 3, 1]
abbrev dktX3_linksRead_1 : List UInt8 := dkwX3_linksRead_1 ++ dktX3_linksRead_2
def dkwX3_linksRead_0 : List UInt8 := [3, 62, 29, 16, 10, 162, 0, 45, 42, 180, 0, 71, 29, 92, 46, 27, 29, 184, 0, 91, 153, 0, 7, 28]
abbrev dktX3_linksRead_0 : List UInt8 := dkwX3_linksRead_0 ++ dktX3_linksRead_1
theorem dksX3_linksRead_0 : cX3_linksRead.data.toList.drop 0 = dktX3_linksRead_0 := by decide +kernel
theorem dksX3_linksRead_1 : cX3_linksRead.data.toList.drop 24 = dktX3_linksRead_1 := dk_seg dksX3_linksRead_0 24 rfl rfl
theorem dksX3_linksRead_2 : cX3_linksRead.data.toList.drop 47 = dktX3_linksRead_2 := dk_seg dksX3_linksRead_1 23 rfl rfl
theorem dX3_linksRead_0 : decode cX3_linksRead 0 = .ok (.iconst 0, 1) := dk_3 (dk_at dksX3_linksRead_0 0 rfl rfl)
theorem dX3_linksRead_1 : decode cX3_linksRead 1 = .ok (.istore_n 3, 1) := dk_62 (dk_at dksX3_linksRead_0 1 rfl rfl)
theorem dX3_linksRead_2 : decode cX3_linksRead 2 = .ok (.iload_n 3, 1) := dk_29 (dk_at dksX3_linksRead_0 2 rfl rfl)
theorem dX3_linksRead_3 : decode cX3_linksRead 3 = .ok (.bipush 10, 2) := dk_16 10 (dk_at dksX3_linksRead_0 3 rfl rfl)
theorem dX3_linksRead_5 : decode cX3_linksRead 5 = .ok (.if_icmp .ge 45, 3) := dk_162 0 45 (dk_at dksX3_linksRead_0 5 rfl rfl)
theorem dX3_linksRead_8 : decode cX3_linksRead 8 = .ok (.aload_n 0, 1) := dk_42 (dk_at dksX3_linksRead_0 8 rfl rfl)
theorem dX3_linksRead_9 : decode cX3_linksRead 9 = .ok (.getfield 71, 3) := dk_180 0 71 (dk_at dksX3_linksRead_0 9 rfl rfl)
theorem dX3_linksRead_12 : decode cX3_linksRead 12 = .ok (.iload_n 3, 1) := dk_29 (dk_at dksX3_linksRead_0 12 rfl rfl)
theorem dX3_linksRead_13 : decode cX3_linksRead 13 = .ok (.dup2, 1) := dk_92 (dk_at dksX3_linksRead_0 13 rfl rfl)
theorem dX3_linksRead_14 : decode cX3_linksRead 14 = .ok (.iaload, 1) := dk_46 (dk_at dksX3_linksRead_0 14 rfl rfl)
theorem dX3_linksRead_15 : decode cX3_linksRead 15 = .ok (.iload_n 1, 1) := dk_27 (dk_at dksX3_linksRead_0 15 rfl rfl)
theorem dX3_linksRead_16 : decode cX3_linksRead 16 = .ok (.iload_n 3, 1) := dk_29 (dk_at dksX3_linksRead_0 16 rfl rfl)
theorem dX3_linksRead_17 : decode cX3_linksRead 17 = .ok (.invokestatic 91, 3) := dk_184 0 91 (dk_at dksX3_linksRead_0 17 rfl rfl)
theorem dX3_linksRead_20 : decode cX3_linksRead 20 = .ok (.ifCond .eq 7, 3) := dk_153 0 7 (dk_at dksX3_linksRead_0 20 rfl rfl)
theorem dX3_linksRead_23 : decode cX3_linksRead 23 = .ok (.iload_n 2, 1) := dk_28 (dk_at dksX3_linksRead_0 23 rfl rfl)
theorem dX3_linksRead_24 : decode cX3_linksRead 24 = .ok (.goto 4, 3) := dk_167 0 4 (dk_at dksX3_linksRead_1 0 rfl rfl)
theorem dX3_linksRead_27 : decode cX3_linksRead 27 = .ok (.iconst 0, 1) := dk_3 (dk_at dksX3_linksRead_1 3 rfl rfl)
theorem dX3_linksRead_28 : decode cX3_linksRead 28 = .ok (.iload_n 2, 1) := dk_28 (dk_at dksX3_linksRead_1 4 rfl rfl)
theorem dX3_linksRead_29 : decode cX3_linksRead 29 = .ok (.iload_n 3, 1) := dk_29 (dk_at dksX3_linksRead_1 5 rfl rfl)
theorem dX3_linksRead_30 : decode cX3_linksRead 30 = .ok (.invokestatic 91, 3) := dk_184 0 91 (dk_at dksX3_linksRead_1 6 rfl rfl)
theorem dX3_linksRead_33 : decode cX3_linksRead 33 = .ok (.ifCond .eq 7, 3) := dk_153 0 7 (dk_at dksX3_linksRead_1 9 rfl rfl)
theorem dX3_linksRead_36 : decode cX3_linksRead 36 = .ok (.iload_n 1, 1) := dk_27 (dk_at dksX3_linksRead_1 12 rfl rfl)
theorem dX3_linksRead_37 : decode cX3_linksRead 37 = .ok (.goto 4, 3) := dk_167 0 4 (dk_at dksX3_linksRead_1 13 rfl rfl)
theorem dX3_linksRead_40 : decode cX3_linksRead 40 = .ok (.iconst 0, 1) := dk_3 (dk_at dksX3_linksRead_1 16 rfl rfl)
theorem dX3_linksRead_41 : decode cX3_linksRead 41 = .ok (.ior, 1) := dk_128 (dk_at dksX3_linksRead_1 17 rfl rfl)
theorem dX3_linksRead_42 : decode cX3_linksRead 42 = .ok (.ior, 1) := dk_128 (dk_at dksX3_linksRead_1 18 rfl rfl)
theorem dX3_linksRead_43 : decode cX3_linksRead 43 = .ok (.iastore, 1) := dk_79 (dk_at dksX3_linksRead_1 19 rfl rfl)
theorem dX3_linksRead_44 : decode cX3_linksRead 44 = .ok (.iinc 3 1, 3) := dk_132 3 1 (dk_at dksX3_linksRead_1 20 rfl rfl)
theorem dX3_linksRead_47 : decode cX3_linksRead 47 = .ok (.goto (-45), 3) := dk_167 255 211 (dk_at dksX3_linksRead_2 0 rfl rfl)
theorem dX3_linksRead_50 : decode cX3_linksRead 50 = .ok (.return_, 1) := dk_177 (dk_at dksX3_linksRead_2 3 rfl rfl)
abbrev cX3_closes : ByteArray := prog_18_method_80_code
def yX3_closes : MethodName := ⟨RX3, "closes", "()I"⟩
def dkwX3_closes_1 : List UInt8 := [172]
abbrev dktX3_closes_1 : List UInt8 := dkwX3_closes_1 ++ []
def dkwX3_closes_0 : List UInt8 := [42, 89, 180, 0, 247, 4, 100, 181, 0, 247, 42, 42, 180, 0, 65, 42, 180, 0, 247, 46, 182, 1, 0, 3]
abbrev dktX3_closes_0 : List UInt8 := dkwX3_closes_0 ++ dktX3_closes_1
theorem dksX3_closes_0 : cX3_closes.data.toList.drop 0 = dktX3_closes_0 := by decide +kernel
theorem dksX3_closes_1 : cX3_closes.data.toList.drop 24 = dktX3_closes_1 := dk_seg dksX3_closes_0 24 rfl rfl
theorem dX3_closes_0 : decode cX3_closes 0 = .ok (.aload_n 0, 1) := dk_42 (dk_at dksX3_closes_0 0 rfl rfl)
theorem dX3_closes_1 : decode cX3_closes 1 = .ok (.dup, 1) := dk_89 (dk_at dksX3_closes_0 1 rfl rfl)
theorem dX3_closes_2 : decode cX3_closes 2 = .ok (.getfield 247, 3) := dk_180 0 247 (dk_at dksX3_closes_0 2 rfl rfl)
theorem dX3_closes_5 : decode cX3_closes 5 = .ok (.iconst 1, 1) := dk_4 (dk_at dksX3_closes_0 5 rfl rfl)
theorem dX3_closes_6 : decode cX3_closes 6 = .ok (.isub, 1) := dk_100 (dk_at dksX3_closes_0 6 rfl rfl)
theorem dX3_closes_7 : decode cX3_closes 7 = .ok (.putfield 247, 3) := dk_181 0 247 (dk_at dksX3_closes_0 7 rfl rfl)
theorem dX3_closes_10 : decode cX3_closes 10 = .ok (.aload_n 0, 1) := dk_42 (dk_at dksX3_closes_0 10 rfl rfl)
theorem dX3_closes_11 : decode cX3_closes 11 = .ok (.aload_n 0, 1) := dk_42 (dk_at dksX3_closes_0 11 rfl rfl)
theorem dX3_closes_12 : decode cX3_closes 12 = .ok (.getfield 65, 3) := dk_180 0 65 (dk_at dksX3_closes_0 12 rfl rfl)
theorem dX3_closes_15 : decode cX3_closes 15 = .ok (.aload_n 0, 1) := dk_42 (dk_at dksX3_closes_0 15 rfl rfl)
theorem dX3_closes_16 : decode cX3_closes 16 = .ok (.getfield 247, 3) := dk_180 0 247 (dk_at dksX3_closes_0 16 rfl rfl)
theorem dX3_closes_19 : decode cX3_closes 19 = .ok (.iaload, 1) := dk_46 (dk_at dksX3_closes_0 19 rfl rfl)
theorem dX3_closes_20 : decode cX3_closes 20 = .ok (.invokevirtual 256, 3) := dk_182 1 0 (dk_at dksX3_closes_0 20 rfl rfl)
theorem dX3_closes_23 : decode cX3_closes 23 = .ok (.iconst 0, 1) := dk_3 (dk_at dksX3_closes_0 23 rfl rfl)
theorem dX3_closes_24 : decode cX3_closes 24 = .ok (.ireturn, 1) := dk_172 (dk_at dksX3_closes_1 0 rfl rfl)
abbrev cX3_load : ByteArray := prog_18_method_85_code
def yX3_load : MethodName := ⟨RX3, "load", "()I"⟩
def dkwX3_load_2 : List UInt8 := [42, 180, 1, 10, 79, 42, 180, 1, 10, 172]
abbrev dktX3_load_2 : List UInt8 := dkwX3_load_2 ++ []
def dkwX3_load_1 : List UInt8 := [180, 0, 7, 4, 27, 96, 42, 180, 0, 71, 27, 46, 79, 132, 1, 1, 167, 255, 233, 42, 180, 0, 7, 3]
abbrev dktX3_load_1 : List UInt8 := dkwX3_load_1 ++ dktX3_load_2
def dkwX3_load_0 : List UInt8 := [42, 182, 1, 25, 153, 0, 6, 16, 254, 172, 42, 182, 0, 119, 3, 60, 27, 16, 10, 162, 0, 23, 42]
abbrev dktX3_load_0 : List UInt8 := dkwX3_load_0 ++ dktX3_load_1
theorem dksX3_load_0 : cX3_load.data.toList.drop 0 = dktX3_load_0 := by decide +kernel
theorem dksX3_load_1 : cX3_load.data.toList.drop 23 = dktX3_load_1 := dk_seg dksX3_load_0 23 rfl rfl
theorem dksX3_load_2 : cX3_load.data.toList.drop 47 = dktX3_load_2 := dk_seg dksX3_load_1 24 rfl rfl
theorem dX3_load_0 : decode cX3_load 0 = .ok (.aload_n 0, 1) := dk_42 (dk_at dksX3_load_0 0 rfl rfl)
theorem dX3_load_1 : decode cX3_load 1 = .ok (.invokevirtual 281, 3) := dk_182 1 25 (dk_at dksX3_load_0 1 rfl rfl)
theorem dX3_load_4 : decode cX3_load 4 = .ok (.ifCond .eq 6, 3) := dk_153 0 6 (dk_at dksX3_load_0 4 rfl rfl)
theorem dX3_load_7 : decode cX3_load 7 = .ok (.bipush (-2), 2) := dk_16 254 (dk_at dksX3_load_0 7 rfl rfl)
theorem dX3_load_9 : decode cX3_load 9 = .ok (.ireturn, 1) := dk_172 (dk_at dksX3_load_0 9 rfl rfl)
theorem dX3_load_10 : decode cX3_load 10 = .ok (.aload_n 0, 1) := dk_42 (dk_at dksX3_load_0 10 rfl rfl)
theorem dX3_load_11 : decode cX3_load 11 = .ok (.invokevirtual 119, 3) := dk_182 0 119 (dk_at dksX3_load_0 11 rfl rfl)
theorem dX3_load_14 : decode cX3_load 14 = .ok (.iconst 0, 1) := dk_3 (dk_at dksX3_load_0 14 rfl rfl)
theorem dX3_load_15 : decode cX3_load 15 = .ok (.istore_n 1, 1) := dk_60 (dk_at dksX3_load_0 15 rfl rfl)
theorem dX3_load_16 : decode cX3_load 16 = .ok (.iload_n 1, 1) := dk_27 (dk_at dksX3_load_0 16 rfl rfl)
theorem dX3_load_17 : decode cX3_load 17 = .ok (.bipush 10, 2) := dk_16 10 (dk_at dksX3_load_0 17 rfl rfl)
theorem dX3_load_19 : decode cX3_load 19 = .ok (.if_icmp .ge 23, 3) := dk_162 0 23 (dk_at dksX3_load_0 19 rfl rfl)
theorem dX3_load_22 : decode cX3_load 22 = .ok (.aload_n 0, 1) := dk_42 (dk_at dksX3_load_0 22 rfl rfl)
theorem dX3_load_23 : decode cX3_load 23 = .ok (.getfield 7, 3) := dk_180 0 7 (dk_at dksX3_load_1 0 rfl rfl)
theorem dX3_load_26 : decode cX3_load 26 = .ok (.iconst 1, 1) := dk_4 (dk_at dksX3_load_1 3 rfl rfl)
theorem dX3_load_27 : decode cX3_load 27 = .ok (.iload_n 1, 1) := dk_27 (dk_at dksX3_load_1 4 rfl rfl)
theorem dX3_load_28 : decode cX3_load 28 = .ok (.iadd, 1) := dk_96 (dk_at dksX3_load_1 5 rfl rfl)
theorem dX3_load_29 : decode cX3_load 29 = .ok (.aload_n 0, 1) := dk_42 (dk_at dksX3_load_1 6 rfl rfl)
theorem dX3_load_30 : decode cX3_load 30 = .ok (.getfield 71, 3) := dk_180 0 71 (dk_at dksX3_load_1 7 rfl rfl)
theorem dX3_load_33 : decode cX3_load 33 = .ok (.iload_n 1, 1) := dk_27 (dk_at dksX3_load_1 10 rfl rfl)
theorem dX3_load_34 : decode cX3_load 34 = .ok (.iaload, 1) := dk_46 (dk_at dksX3_load_1 11 rfl rfl)
theorem dX3_load_35 : decode cX3_load 35 = .ok (.iastore, 1) := dk_79 (dk_at dksX3_load_1 12 rfl rfl)
theorem dX3_load_36 : decode cX3_load 36 = .ok (.iinc 1 1, 3) := dk_132 1 1 (dk_at dksX3_load_1 13 rfl rfl)
theorem dX3_load_39 : decode cX3_load 39 = .ok (.goto (-23), 3) := dk_167 255 233 (dk_at dksX3_load_1 16 rfl rfl)
theorem dX3_load_42 : decode cX3_load 42 = .ok (.aload_n 0, 1) := dk_42 (dk_at dksX3_load_1 19 rfl rfl)
theorem dX3_load_43 : decode cX3_load 43 = .ok (.getfield 7, 3) := dk_180 0 7 (dk_at dksX3_load_1 20 rfl rfl)
theorem dX3_load_46 : decode cX3_load 46 = .ok (.iconst 0, 1) := dk_3 (dk_at dksX3_load_1 23 rfl rfl)
theorem dX3_load_47 : decode cX3_load 47 = .ok (.aload_n 0, 1) := dk_42 (dk_at dksX3_load_2 0 rfl rfl)
theorem dX3_load_48 : decode cX3_load 48 = .ok (.getfield 266, 3) := dk_180 1 10 (dk_at dksX3_load_2 1 rfl rfl)
theorem dX3_load_51 : decode cX3_load 51 = .ok (.iastore, 1) := dk_79 (dk_at dksX3_load_2 4 rfl rfl)
theorem dX3_load_52 : decode cX3_load 52 = .ok (.aload_n 0, 1) := dk_42 (dk_at dksX3_load_2 5 rfl rfl)
theorem dX3_load_53 : decode cX3_load 53 = .ok (.getfield 266, 3) := dk_180 1 10 (dk_at dksX3_load_2 6 rfl rfl)
theorem dX3_load_56 : decode cX3_load 56 = .ok (.ireturn, 1) := dk_172 (dk_at dksX3_load_2 9 rfl rfl)
abbrev cX3_substitute : ByteArray := prog_18_method_86_code
def yX3_substitute : MethodName := ⟨RX3, "substitute", "(I)I"⟩
def dkwX3_substitute_9 : List UInt8 := [167, 255, 210, 132, 4, 1, 167, 255, 143, 42, 180, 0, 7, 3, 46, 172]
abbrev dktX3_substitute_9 : List UInt8 := dkwX3_substitute_9 ++ []
def dkwX3_substitute_8 : List UInt8 := [42, 21, 5, 21, 6, 154, 0, 7, 27, 167, 0, 9, 28, 4, 100, 21, 6, 96, 182, 0, 132, 132, 6, 1]
abbrev dktX3_substitute_8 : List UInt8 := dkwX3_substitute_8 ++ dktX3_substitute_9
def dkwX3_substitute_7 : List UInt8 := [54, 6, 21, 6, 21, 4, 162, 0, 45, 42, 180, 0, 71, 21, 4, 46, 21, 6, 184, 0, 91, 153, 0, 24]
abbrev dktX3_substitute_7 : List UInt8 := dkwX3_substitute_7 ++ dktX3_substitute_8
def dkwX3_substitute_6 : List UInt8 := [29, 21, 6, 184, 0, 91, 153, 0, 11, 42, 21, 5, 21, 6, 182, 0, 132, 132, 6, 1, 167, 255, 230, 3]
abbrev dktX3_substitute_6 : List UInt8 := dkwX3_substitute_6 ++ dktX3_substitute_7
def dkwX3_substitute_5 : List UInt8 := [154, 0, 7, 27, 167, 0, 9, 28, 4, 100, 21, 4, 96, 54, 5, 3, 54, 6, 21, 6, 28, 162, 0, 26]
abbrev dktX3_substitute_5 : List UInt8 := dkwX3_substitute_5 ++ dktX3_substitute_6
def dkwX3_substitute_4 : List UInt8 := [3, 79, 132, 4, 1, 167, 255, 232, 3, 54, 4, 21, 4, 42, 180, 1, 10, 162, 0, 110, 21, 4]
abbrev dktX3_substitute_4 : List UInt8 := dkwX3_substitute_4 ++ dktX3_substitute_5
def dkwX3_substitute_3 : List UInt8 := [96, 79, 28, 54, 4, 21, 4, 42, 180, 0, 7, 3, 46, 162, 0, 19, 42, 180, 0, 7, 4, 21, 4, 96]
abbrev dktX3_substitute_3 : List UInt8 := dkwX3_substitute_3 ++ dktX3_substitute_4
def dkwX3_substitute_2 : List UInt8 := [180, 0, 7, 3, 46, 61, 42, 27, 182, 0, 95, 62, 42, 180, 0, 7, 3, 28, 4, 100, 42, 180, 1, 10]
abbrev dktX3_substitute_2 : List UInt8 := dkwX3_substitute_2 ++ dktX3_substitute_3
def dkwX3_substitute_1 : List UInt8 := [3, 46, 4, 100, 42, 180, 1, 10, 96, 16, 10, 164, 0, 6, 16, 253, 172, 42, 182, 0, 119, 42]
abbrev dktX3_substitute_1 : List UInt8 := dkwX3_substitute_1 ++ dktX3_substitute_2
def dkwX3_substitute_0 : List UInt8 := [42, 27, 182, 0, 122, 154, 0, 5, 2, 172, 42, 182, 1, 25, 153, 0, 6, 16, 254, 172, 42, 180, 0, 7]
abbrev dktX3_substitute_0 : List UInt8 := dkwX3_substitute_0 ++ dktX3_substitute_1
theorem dksX3_substitute_0 : cX3_substitute.data.toList.drop 0 = dktX3_substitute_0 := by decide +kernel
theorem dksX3_substitute_1 : cX3_substitute.data.toList.drop 24 = dktX3_substitute_1 := dk_seg dksX3_substitute_0 24 rfl rfl
theorem dksX3_substitute_2 : cX3_substitute.data.toList.drop 46 = dktX3_substitute_2 := dk_seg dksX3_substitute_1 22 rfl rfl
theorem dksX3_substitute_3 : cX3_substitute.data.toList.drop 70 = dktX3_substitute_3 := dk_seg dksX3_substitute_2 24 rfl rfl
theorem dksX3_substitute_4 : cX3_substitute.data.toList.drop 94 = dktX3_substitute_4 := dk_seg dksX3_substitute_3 24 rfl rfl
theorem dksX3_substitute_5 : cX3_substitute.data.toList.drop 116 = dktX3_substitute_5 := dk_seg dksX3_substitute_4 22 rfl rfl
theorem dksX3_substitute_6 : cX3_substitute.data.toList.drop 140 = dktX3_substitute_6 := dk_seg dksX3_substitute_5 24 rfl rfl
theorem dksX3_substitute_7 : cX3_substitute.data.toList.drop 164 = dktX3_substitute_7 := dk_seg dksX3_substitute_6 24 rfl rfl
theorem dksX3_substitute_8 : cX3_substitute.data.toList.drop 188 = dktX3_substitute_8 := dk_seg dksX3_substitute_7 24 rfl rfl
theorem dksX3_substitute_9 : cX3_substitute.data.toList.drop 212 = dktX3_substitute_9 := dk_seg dksX3_substitute_8 24 rfl rfl
theorem dX3_substitute_0 : decode cX3_substitute 0 = .ok (.aload_n 0, 1) := dk_42 (dk_at dksX3_substitute_0 0 rfl rfl)
theorem dX3_substitute_1 : decode cX3_substitute 1 = .ok (.iload_n 1, 1) := dk_27 (dk_at dksX3_substitute_0 1 rfl rfl)
theorem dX3_substitute_2 : decode cX3_substitute 2 = .ok (.invokevirtual 122, 3) := dk_182 0 122 (dk_at dksX3_substitute_0 2 rfl rfl)
theorem dX3_substitute_5 : decode cX3_substitute 5 = .ok (.ifCond .ne 5, 3) := dk_154 0 5 (dk_at dksX3_substitute_0 5 rfl rfl)
theorem dX3_substitute_8 : decode cX3_substitute 8 = .ok (.iconst (-1), 1) := dk_2 (dk_at dksX3_substitute_0 8 rfl rfl)
theorem dX3_substitute_9 : decode cX3_substitute 9 = .ok (.ireturn, 1) := dk_172 (dk_at dksX3_substitute_0 9 rfl rfl)
theorem dX3_substitute_10 : decode cX3_substitute 10 = .ok (.aload_n 0, 1) := dk_42 (dk_at dksX3_substitute_0 10 rfl rfl)
theorem dX3_substitute_11 : decode cX3_substitute 11 = .ok (.invokevirtual 281, 3) := dk_182 1 25 (dk_at dksX3_substitute_0 11 rfl rfl)
theorem dX3_substitute_14 : decode cX3_substitute 14 = .ok (.ifCond .eq 6, 3) := dk_153 0 6 (dk_at dksX3_substitute_0 14 rfl rfl)
theorem dX3_substitute_17 : decode cX3_substitute 17 = .ok (.bipush (-2), 2) := dk_16 254 (dk_at dksX3_substitute_0 17 rfl rfl)
theorem dX3_substitute_19 : decode cX3_substitute 19 = .ok (.ireturn, 1) := dk_172 (dk_at dksX3_substitute_0 19 rfl rfl)
theorem dX3_substitute_20 : decode cX3_substitute 20 = .ok (.aload_n 0, 1) := dk_42 (dk_at dksX3_substitute_0 20 rfl rfl)
theorem dX3_substitute_21 : decode cX3_substitute 21 = .ok (.getfield 7, 3) := dk_180 0 7 (dk_at dksX3_substitute_0 21 rfl rfl)
theorem dX3_substitute_24 : decode cX3_substitute 24 = .ok (.iconst 0, 1) := dk_3 (dk_at dksX3_substitute_1 0 rfl rfl)
theorem dX3_substitute_25 : decode cX3_substitute 25 = .ok (.iaload, 1) := dk_46 (dk_at dksX3_substitute_1 1 rfl rfl)
theorem dX3_substitute_26 : decode cX3_substitute 26 = .ok (.iconst 1, 1) := dk_4 (dk_at dksX3_substitute_1 2 rfl rfl)
theorem dX3_substitute_27 : decode cX3_substitute 27 = .ok (.isub, 1) := dk_100 (dk_at dksX3_substitute_1 3 rfl rfl)
theorem dX3_substitute_28 : decode cX3_substitute 28 = .ok (.aload_n 0, 1) := dk_42 (dk_at dksX3_substitute_1 4 rfl rfl)
theorem dX3_substitute_29 : decode cX3_substitute 29 = .ok (.getfield 266, 3) := dk_180 1 10 (dk_at dksX3_substitute_1 5 rfl rfl)
theorem dX3_substitute_32 : decode cX3_substitute 32 = .ok (.iadd, 1) := dk_96 (dk_at dksX3_substitute_1 8 rfl rfl)
theorem dX3_substitute_33 : decode cX3_substitute 33 = .ok (.bipush 10, 2) := dk_16 10 (dk_at dksX3_substitute_1 9 rfl rfl)
theorem dX3_substitute_35 : decode cX3_substitute 35 = .ok (.if_icmp .le 6, 3) := dk_164 0 6 (dk_at dksX3_substitute_1 11 rfl rfl)
theorem dX3_substitute_38 : decode cX3_substitute 38 = .ok (.bipush (-3), 2) := dk_16 253 (dk_at dksX3_substitute_1 14 rfl rfl)
theorem dX3_substitute_40 : decode cX3_substitute 40 = .ok (.ireturn, 1) := dk_172 (dk_at dksX3_substitute_1 16 rfl rfl)
theorem dX3_substitute_41 : decode cX3_substitute 41 = .ok (.aload_n 0, 1) := dk_42 (dk_at dksX3_substitute_1 17 rfl rfl)
theorem dX3_substitute_42 : decode cX3_substitute 42 = .ok (.invokevirtual 119, 3) := dk_182 0 119 (dk_at dksX3_substitute_1 18 rfl rfl)
theorem dX3_substitute_45 : decode cX3_substitute 45 = .ok (.aload_n 0, 1) := dk_42 (dk_at dksX3_substitute_1 21 rfl rfl)
theorem dX3_substitute_46 : decode cX3_substitute 46 = .ok (.getfield 7, 3) := dk_180 0 7 (dk_at dksX3_substitute_2 0 rfl rfl)
theorem dX3_substitute_49 : decode cX3_substitute 49 = .ok (.iconst 0, 1) := dk_3 (dk_at dksX3_substitute_2 3 rfl rfl)
theorem dX3_substitute_50 : decode cX3_substitute 50 = .ok (.iaload, 1) := dk_46 (dk_at dksX3_substitute_2 4 rfl rfl)
theorem dX3_substitute_51 : decode cX3_substitute 51 = .ok (.istore_n 2, 1) := dk_61 (dk_at dksX3_substitute_2 5 rfl rfl)
theorem dX3_substitute_52 : decode cX3_substitute 52 = .ok (.aload_n 0, 1) := dk_42 (dk_at dksX3_substitute_2 6 rfl rfl)
theorem dX3_substitute_53 : decode cX3_substitute 53 = .ok (.iload_n 1, 1) := dk_27 (dk_at dksX3_substitute_2 7 rfl rfl)
theorem dX3_substitute_54 : decode cX3_substitute 54 = .ok (.invokevirtual 95, 3) := dk_182 0 95 (dk_at dksX3_substitute_2 8 rfl rfl)
theorem dX3_substitute_57 : decode cX3_substitute 57 = .ok (.istore_n 3, 1) := dk_62 (dk_at dksX3_substitute_2 11 rfl rfl)
theorem dX3_substitute_58 : decode cX3_substitute 58 = .ok (.aload_n 0, 1) := dk_42 (dk_at dksX3_substitute_2 12 rfl rfl)
theorem dX3_substitute_59 : decode cX3_substitute 59 = .ok (.getfield 7, 3) := dk_180 0 7 (dk_at dksX3_substitute_2 13 rfl rfl)
theorem dX3_substitute_62 : decode cX3_substitute 62 = .ok (.iconst 0, 1) := dk_3 (dk_at dksX3_substitute_2 16 rfl rfl)
theorem dX3_substitute_63 : decode cX3_substitute 63 = .ok (.iload_n 2, 1) := dk_28 (dk_at dksX3_substitute_2 17 rfl rfl)
theorem dX3_substitute_64 : decode cX3_substitute 64 = .ok (.iconst 1, 1) := dk_4 (dk_at dksX3_substitute_2 18 rfl rfl)
theorem dX3_substitute_65 : decode cX3_substitute 65 = .ok (.isub, 1) := dk_100 (dk_at dksX3_substitute_2 19 rfl rfl)
theorem dX3_substitute_66 : decode cX3_substitute 66 = .ok (.aload_n 0, 1) := dk_42 (dk_at dksX3_substitute_2 20 rfl rfl)
theorem dX3_substitute_67 : decode cX3_substitute 67 = .ok (.getfield 266, 3) := dk_180 1 10 (dk_at dksX3_substitute_2 21 rfl rfl)
theorem dX3_substitute_70 : decode cX3_substitute 70 = .ok (.iadd, 1) := dk_96 (dk_at dksX3_substitute_3 0 rfl rfl)
theorem dX3_substitute_71 : decode cX3_substitute 71 = .ok (.iastore, 1) := dk_79 (dk_at dksX3_substitute_3 1 rfl rfl)
theorem dX3_substitute_72 : decode cX3_substitute 72 = .ok (.iload_n 2, 1) := dk_28 (dk_at dksX3_substitute_3 2 rfl rfl)
theorem dX3_substitute_73 : decode cX3_substitute 73 = .ok (.istore 4, 2) := dk_54 4 (dk_at dksX3_substitute_3 3 rfl rfl)
theorem dX3_substitute_75 : decode cX3_substitute 75 = .ok (.iload 4, 2) := dk_21 4 (dk_at dksX3_substitute_3 5 rfl rfl)
theorem dX3_substitute_77 : decode cX3_substitute 77 = .ok (.aload_n 0, 1) := dk_42 (dk_at dksX3_substitute_3 7 rfl rfl)
theorem dX3_substitute_78 : decode cX3_substitute 78 = .ok (.getfield 7, 3) := dk_180 0 7 (dk_at dksX3_substitute_3 8 rfl rfl)
theorem dX3_substitute_81 : decode cX3_substitute 81 = .ok (.iconst 0, 1) := dk_3 (dk_at dksX3_substitute_3 11 rfl rfl)
theorem dX3_substitute_82 : decode cX3_substitute 82 = .ok (.iaload, 1) := dk_46 (dk_at dksX3_substitute_3 12 rfl rfl)
theorem dX3_substitute_83 : decode cX3_substitute 83 = .ok (.if_icmp .ge 19, 3) := dk_162 0 19 (dk_at dksX3_substitute_3 13 rfl rfl)
theorem dX3_substitute_86 : decode cX3_substitute 86 = .ok (.aload_n 0, 1) := dk_42 (dk_at dksX3_substitute_3 16 rfl rfl)
theorem dX3_substitute_87 : decode cX3_substitute 87 = .ok (.getfield 7, 3) := dk_180 0 7 (dk_at dksX3_substitute_3 17 rfl rfl)
theorem dX3_substitute_90 : decode cX3_substitute 90 = .ok (.iconst 1, 1) := dk_4 (dk_at dksX3_substitute_3 20 rfl rfl)
theorem dX3_substitute_91 : decode cX3_substitute 91 = .ok (.iload 4, 2) := dk_21 4 (dk_at dksX3_substitute_3 21 rfl rfl)
theorem dX3_substitute_93 : decode cX3_substitute 93 = .ok (.iadd, 1) := dk_96 (dk_at dksX3_substitute_3 23 rfl rfl)
theorem dX3_substitute_94 : decode cX3_substitute 94 = .ok (.iconst 0, 1) := dk_3 (dk_at dksX3_substitute_4 0 rfl rfl)
theorem dX3_substitute_95 : decode cX3_substitute 95 = .ok (.iastore, 1) := dk_79 (dk_at dksX3_substitute_4 1 rfl rfl)
theorem dX3_substitute_96 : decode cX3_substitute 96 = .ok (.iinc 4 1, 3) := dk_132 4 1 (dk_at dksX3_substitute_4 2 rfl rfl)
theorem dX3_substitute_99 : decode cX3_substitute 99 = .ok (.goto (-24), 3) := dk_167 255 232 (dk_at dksX3_substitute_4 5 rfl rfl)
theorem dX3_substitute_102 : decode cX3_substitute 102 = .ok (.iconst 0, 1) := dk_3 (dk_at dksX3_substitute_4 8 rfl rfl)
theorem dX3_substitute_103 : decode cX3_substitute 103 = .ok (.istore 4, 2) := dk_54 4 (dk_at dksX3_substitute_4 9 rfl rfl)
theorem dX3_substitute_105 : decode cX3_substitute 105 = .ok (.iload 4, 2) := dk_21 4 (dk_at dksX3_substitute_4 11 rfl rfl)
theorem dX3_substitute_107 : decode cX3_substitute 107 = .ok (.aload_n 0, 1) := dk_42 (dk_at dksX3_substitute_4 13 rfl rfl)
theorem dX3_substitute_108 : decode cX3_substitute 108 = .ok (.getfield 266, 3) := dk_180 1 10 (dk_at dksX3_substitute_4 14 rfl rfl)
theorem dX3_substitute_111 : decode cX3_substitute 111 = .ok (.if_icmp .ge 110, 3) := dk_162 0 110 (dk_at dksX3_substitute_4 17 rfl rfl)
theorem dX3_substitute_114 : decode cX3_substitute 114 = .ok (.iload 4, 2) := dk_21 4 (dk_at dksX3_substitute_4 20 rfl rfl)
theorem dX3_substitute_116 : decode cX3_substitute 116 = .ok (.ifCond .ne 7, 3) := dk_154 0 7 (dk_at dksX3_substitute_5 0 rfl rfl)
theorem dX3_substitute_119 : decode cX3_substitute 119 = .ok (.iload_n 1, 1) := dk_27 (dk_at dksX3_substitute_5 3 rfl rfl)
theorem dX3_substitute_120 : decode cX3_substitute 120 = .ok (.goto 9, 3) := dk_167 0 9 (dk_at dksX3_substitute_5 4 rfl rfl)
theorem dX3_substitute_123 : decode cX3_substitute 123 = .ok (.iload_n 2, 1) := dk_28 (dk_at dksX3_substitute_5 7 rfl rfl)
theorem dX3_substitute_124 : decode cX3_substitute 124 = .ok (.iconst 1, 1) := dk_4 (dk_at dksX3_substitute_5 8 rfl rfl)
theorem dX3_substitute_125 : decode cX3_substitute 125 = .ok (.isub, 1) := dk_100 (dk_at dksX3_substitute_5 9 rfl rfl)
theorem dX3_substitute_126 : decode cX3_substitute 126 = .ok (.iload 4, 2) := dk_21 4 (dk_at dksX3_substitute_5 10 rfl rfl)
theorem dX3_substitute_128 : decode cX3_substitute 128 = .ok (.iadd, 1) := dk_96 (dk_at dksX3_substitute_5 12 rfl rfl)
theorem dX3_substitute_129 : decode cX3_substitute 129 = .ok (.istore 5, 2) := dk_54 5 (dk_at dksX3_substitute_5 13 rfl rfl)
theorem dX3_substitute_131 : decode cX3_substitute 131 = .ok (.iconst 0, 1) := dk_3 (dk_at dksX3_substitute_5 15 rfl rfl)
theorem dX3_substitute_132 : decode cX3_substitute 132 = .ok (.istore 6, 2) := dk_54 6 (dk_at dksX3_substitute_5 16 rfl rfl)
theorem dX3_substitute_134 : decode cX3_substitute 134 = .ok (.iload 6, 2) := dk_21 6 (dk_at dksX3_substitute_5 18 rfl rfl)
theorem dX3_substitute_136 : decode cX3_substitute 136 = .ok (.iload_n 2, 1) := dk_28 (dk_at dksX3_substitute_5 20 rfl rfl)
theorem dX3_substitute_137 : decode cX3_substitute 137 = .ok (.if_icmp .ge 26, 3) := dk_162 0 26 (dk_at dksX3_substitute_5 21 rfl rfl)
theorem dX3_substitute_140 : decode cX3_substitute 140 = .ok (.iload_n 3, 1) := dk_29 (dk_at dksX3_substitute_6 0 rfl rfl)
theorem dX3_substitute_141 : decode cX3_substitute 141 = .ok (.iload 6, 2) := dk_21 6 (dk_at dksX3_substitute_6 1 rfl rfl)
theorem dX3_substitute_143 : decode cX3_substitute 143 = .ok (.invokestatic 91, 3) := dk_184 0 91 (dk_at dksX3_substitute_6 3 rfl rfl)
theorem dX3_substitute_146 : decode cX3_substitute 146 = .ok (.ifCond .eq 11, 3) := dk_153 0 11 (dk_at dksX3_substitute_6 6 rfl rfl)
theorem dX3_substitute_149 : decode cX3_substitute 149 = .ok (.aload_n 0, 1) := dk_42 (dk_at dksX3_substitute_6 9 rfl rfl)
theorem dX3_substitute_150 : decode cX3_substitute 150 = .ok (.iload 5, 2) := dk_21 5 (dk_at dksX3_substitute_6 10 rfl rfl)
theorem dX3_substitute_152 : decode cX3_substitute 152 = .ok (.iload 6, 2) := dk_21 6 (dk_at dksX3_substitute_6 12 rfl rfl)
theorem dX3_substitute_154 : decode cX3_substitute 154 = .ok (.invokevirtual 132, 3) := dk_182 0 132 (dk_at dksX3_substitute_6 14 rfl rfl)
theorem dX3_substitute_157 : decode cX3_substitute 157 = .ok (.iinc 6 1, 3) := dk_132 6 1 (dk_at dksX3_substitute_6 17 rfl rfl)
theorem dX3_substitute_160 : decode cX3_substitute 160 = .ok (.goto (-26), 3) := dk_167 255 230 (dk_at dksX3_substitute_6 20 rfl rfl)
theorem dX3_substitute_163 : decode cX3_substitute 163 = .ok (.iconst 0, 1) := dk_3 (dk_at dksX3_substitute_6 23 rfl rfl)
theorem dX3_substitute_164 : decode cX3_substitute 164 = .ok (.istore 6, 2) := dk_54 6 (dk_at dksX3_substitute_7 0 rfl rfl)
theorem dX3_substitute_166 : decode cX3_substitute 166 = .ok (.iload 6, 2) := dk_21 6 (dk_at dksX3_substitute_7 2 rfl rfl)
theorem dX3_substitute_168 : decode cX3_substitute 168 = .ok (.iload 4, 2) := dk_21 4 (dk_at dksX3_substitute_7 4 rfl rfl)
theorem dX3_substitute_170 : decode cX3_substitute 170 = .ok (.if_icmp .ge 45, 3) := dk_162 0 45 (dk_at dksX3_substitute_7 6 rfl rfl)
theorem dX3_substitute_173 : decode cX3_substitute 173 = .ok (.aload_n 0, 1) := dk_42 (dk_at dksX3_substitute_7 9 rfl rfl)
theorem dX3_substitute_174 : decode cX3_substitute 174 = .ok (.getfield 71, 3) := dk_180 0 71 (dk_at dksX3_substitute_7 10 rfl rfl)
theorem dX3_substitute_177 : decode cX3_substitute 177 = .ok (.iload 4, 2) := dk_21 4 (dk_at dksX3_substitute_7 13 rfl rfl)
theorem dX3_substitute_179 : decode cX3_substitute 179 = .ok (.iaload, 1) := dk_46 (dk_at dksX3_substitute_7 15 rfl rfl)
theorem dX3_substitute_180 : decode cX3_substitute 180 = .ok (.iload 6, 2) := dk_21 6 (dk_at dksX3_substitute_7 16 rfl rfl)
theorem dX3_substitute_182 : decode cX3_substitute 182 = .ok (.invokestatic 91, 3) := dk_184 0 91 (dk_at dksX3_substitute_7 18 rfl rfl)
theorem dX3_substitute_185 : decode cX3_substitute 185 = .ok (.ifCond .eq 24, 3) := dk_153 0 24 (dk_at dksX3_substitute_7 21 rfl rfl)
theorem dX3_substitute_188 : decode cX3_substitute 188 = .ok (.aload_n 0, 1) := dk_42 (dk_at dksX3_substitute_8 0 rfl rfl)
theorem dX3_substitute_189 : decode cX3_substitute 189 = .ok (.iload 5, 2) := dk_21 5 (dk_at dksX3_substitute_8 1 rfl rfl)
theorem dX3_substitute_191 : decode cX3_substitute 191 = .ok (.iload 6, 2) := dk_21 6 (dk_at dksX3_substitute_8 3 rfl rfl)
theorem dX3_substitute_193 : decode cX3_substitute 193 = .ok (.ifCond .ne 7, 3) := dk_154 0 7 (dk_at dksX3_substitute_8 5 rfl rfl)
theorem dX3_substitute_196 : decode cX3_substitute 196 = .ok (.iload_n 1, 1) := dk_27 (dk_at dksX3_substitute_8 8 rfl rfl)
theorem dX3_substitute_197 : decode cX3_substitute 197 = .ok (.goto 9, 3) := dk_167 0 9 (dk_at dksX3_substitute_8 9 rfl rfl)
theorem dX3_substitute_200 : decode cX3_substitute 200 = .ok (.iload_n 2, 1) := dk_28 (dk_at dksX3_substitute_8 12 rfl rfl)
theorem dX3_substitute_201 : decode cX3_substitute 201 = .ok (.iconst 1, 1) := dk_4 (dk_at dksX3_substitute_8 13 rfl rfl)
theorem dX3_substitute_202 : decode cX3_substitute 202 = .ok (.isub, 1) := dk_100 (dk_at dksX3_substitute_8 14 rfl rfl)
theorem dX3_substitute_203 : decode cX3_substitute 203 = .ok (.iload 6, 2) := dk_21 6 (dk_at dksX3_substitute_8 15 rfl rfl)
theorem dX3_substitute_205 : decode cX3_substitute 205 = .ok (.iadd, 1) := dk_96 (dk_at dksX3_substitute_8 17 rfl rfl)
theorem dX3_substitute_206 : decode cX3_substitute 206 = .ok (.invokevirtual 132, 3) := dk_182 0 132 (dk_at dksX3_substitute_8 18 rfl rfl)
theorem dX3_substitute_209 : decode cX3_substitute 209 = .ok (.iinc 6 1, 3) := dk_132 6 1 (dk_at dksX3_substitute_8 21 rfl rfl)
theorem dX3_substitute_212 : decode cX3_substitute 212 = .ok (.goto (-46), 3) := dk_167 255 210 (dk_at dksX3_substitute_9 0 rfl rfl)
theorem dX3_substitute_215 : decode cX3_substitute 215 = .ok (.iinc 4 1, 3) := dk_132 4 1 (dk_at dksX3_substitute_9 3 rfl rfl)
theorem dX3_substitute_218 : decode cX3_substitute 218 = .ok (.goto (-113), 3) := dk_167 255 143 (dk_at dksX3_substitute_9 6 rfl rfl)
theorem dX3_substitute_221 : decode cX3_substitute 221 = .ok (.aload_n 0, 1) := dk_42 (dk_at dksX3_substitute_9 9 rfl rfl)
theorem dX3_substitute_222 : decode cX3_substitute 222 = .ok (.getfield 7, 3) := dk_180 0 7 (dk_at dksX3_substitute_9 10 rfl rfl)
theorem dX3_substitute_225 : decode cX3_substitute 225 = .ok (.iconst 0, 1) := dk_3 (dk_at dksX3_substitute_9 13 rfl rfl)
theorem dX3_substitute_226 : decode cX3_substitute 226 = .ok (.iaload, 1) := dk_46 (dk_at dksX3_substitute_9 14 rfl rfl)
theorem dX3_substitute_227 : decode cX3_substitute 227 = .ok (.ireturn, 1) := dk_172 (dk_at dksX3_substitute_9 15 rfl rfl)
abbrev cX3_write : ByteArray := prog_18_method_90_code
def yX3_write : MethodName := ⟨RX3, "write", "()I"⟩
def dkwX3_write_6 : List UInt8 := [181, 0, 178, 28, 172]
abbrev dktX3_write_6 : List UInt8 := dkwX3_write_6 ++ []
def dkwX3_write_5 : List UInt8 := [162, 0, 21, 42, 180, 0, 19, 29, 42, 180, 0, 77, 29, 46, 79, 132, 3, 1, 167, 255, 236, 42, 28]
abbrev dktX3_write_5 : List UInt8 := dkwX3_write_5 ++ dktX3_write_6
def dkwX3_write_4 : List UInt8 := [182, 1, 31, 154, 0, 6, 16, 254, 172, 42, 29, 27, 182, 1, 34, 60, 167, 255, 169, 3, 62, 29, 28]
abbrev dktX3_write_4 : List UInt8 := dkwX3_write_4 ++ dktX3_write_5
def dkwX3_write_3 : List UInt8 := [180, 0, 77, 28, 16, 46, 79, 132, 2, 1, 167, 0, 30, 42, 29, 182, 0, 163, 6, 160, 0, 14, 42, 29]
abbrev dktX3_write_3 : List UInt8 := dkwX3_write_3 ++ dktX3_write_4
def dkwX3_write_2 : List UInt8 := [28, 29, 17, 3, 232, 100, 79, 132, 2, 1, 167, 0, 52, 42, 29, 182, 0, 163, 154, 0, 17, 42]
abbrev dktX3_write_2 : List UInt8 := dkwX3_write_2 ++ dktX3_write_3
def dkwX3_write_1 : List UInt8 := [158, 0, 89, 132, 1, 255, 42, 180, 0, 74, 27, 46, 62, 29, 17, 3, 232, 161, 0, 20, 42, 180, 0, 77]
abbrev dktX3_write_1 : List UInt8 := dkwX3_write_1 ++ dktX3_write_2
def dkwX3_write_0 : List UInt8 := [42, 182, 0, 148, 42, 180, 0, 74, 3, 42, 42, 182, 0, 83, 182, 0, 191, 79, 4, 60, 3, 61, 27]
abbrev dktX3_write_0 : List UInt8 := dkwX3_write_0 ++ dktX3_write_1
theorem dksX3_write_0 : cX3_write.data.toList.drop 0 = dktX3_write_0 := by decide +kernel
theorem dksX3_write_1 : cX3_write.data.toList.drop 23 = dktX3_write_1 := dk_seg dksX3_write_0 23 rfl rfl
theorem dksX3_write_2 : cX3_write.data.toList.drop 47 = dktX3_write_2 := dk_seg dksX3_write_1 24 rfl rfl
theorem dksX3_write_3 : cX3_write.data.toList.drop 69 = dktX3_write_3 := dk_seg dksX3_write_2 22 rfl rfl
theorem dksX3_write_4 : cX3_write.data.toList.drop 93 = dktX3_write_4 := dk_seg dksX3_write_3 24 rfl rfl
theorem dksX3_write_5 : cX3_write.data.toList.drop 116 = dktX3_write_5 := dk_seg dksX3_write_4 23 rfl rfl
theorem dksX3_write_6 : cX3_write.data.toList.drop 139 = dktX3_write_6 := dk_seg dksX3_write_5 23 rfl rfl
theorem dX3_write_0 : decode cX3_write 0 = .ok (.aload_n 0, 1) := dk_42 (dk_at dksX3_write_0 0 rfl rfl)
theorem dX3_write_1 : decode cX3_write 1 = .ok (.invokevirtual 148, 3) := dk_182 0 148 (dk_at dksX3_write_0 1 rfl rfl)
theorem dX3_write_4 : decode cX3_write 4 = .ok (.aload_n 0, 1) := dk_42 (dk_at dksX3_write_0 4 rfl rfl)
theorem dX3_write_5 : decode cX3_write 5 = .ok (.getfield 74, 3) := dk_180 0 74 (dk_at dksX3_write_0 5 rfl rfl)
theorem dX3_write_8 : decode cX3_write 8 = .ok (.iconst 0, 1) := dk_3 (dk_at dksX3_write_0 8 rfl rfl)
theorem dX3_write_9 : decode cX3_write 9 = .ok (.aload_n 0, 1) := dk_42 (dk_at dksX3_write_0 9 rfl rfl)
theorem dX3_write_10 : decode cX3_write 10 = .ok (.aload_n 0, 1) := dk_42 (dk_at dksX3_write_0 10 rfl rfl)
theorem dX3_write_11 : decode cX3_write 11 = .ok (.invokevirtual 83, 3) := dk_182 0 83 (dk_at dksX3_write_0 11 rfl rfl)
theorem dX3_write_14 : decode cX3_write 14 = .ok (.invokevirtual 191, 3) := dk_182 0 191 (dk_at dksX3_write_0 14 rfl rfl)
theorem dX3_write_17 : decode cX3_write 17 = .ok (.iastore, 1) := dk_79 (dk_at dksX3_write_0 17 rfl rfl)
theorem dX3_write_18 : decode cX3_write 18 = .ok (.iconst 1, 1) := dk_4 (dk_at dksX3_write_0 18 rfl rfl)
theorem dX3_write_19 : decode cX3_write 19 = .ok (.istore_n 1, 1) := dk_60 (dk_at dksX3_write_0 19 rfl rfl)
theorem dX3_write_20 : decode cX3_write 20 = .ok (.iconst 0, 1) := dk_3 (dk_at dksX3_write_0 20 rfl rfl)
theorem dX3_write_21 : decode cX3_write 21 = .ok (.istore_n 2, 1) := dk_61 (dk_at dksX3_write_0 21 rfl rfl)
theorem dX3_write_22 : decode cX3_write 22 = .ok (.iload_n 1, 1) := dk_27 (dk_at dksX3_write_0 22 rfl rfl)
theorem dX3_write_23 : decode cX3_write 23 = .ok (.ifCond .le 89, 3) := dk_158 0 89 (dk_at dksX3_write_1 0 rfl rfl)
theorem dX3_write_26 : decode cX3_write 26 = .ok (.iinc 1 (-1), 3) := dk_132 1 255 (dk_at dksX3_write_1 3 rfl rfl)
theorem dX3_write_29 : decode cX3_write 29 = .ok (.aload_n 0, 1) := dk_42 (dk_at dksX3_write_1 6 rfl rfl)
theorem dX3_write_30 : decode cX3_write 30 = .ok (.getfield 74, 3) := dk_180 0 74 (dk_at dksX3_write_1 7 rfl rfl)
theorem dX3_write_33 : decode cX3_write 33 = .ok (.iload_n 1, 1) := dk_27 (dk_at dksX3_write_1 10 rfl rfl)
theorem dX3_write_34 : decode cX3_write 34 = .ok (.iaload, 1) := dk_46 (dk_at dksX3_write_1 11 rfl rfl)
theorem dX3_write_35 : decode cX3_write 35 = .ok (.istore_n 3, 1) := dk_62 (dk_at dksX3_write_1 12 rfl rfl)
theorem dX3_write_36 : decode cX3_write 36 = .ok (.iload_n 3, 1) := dk_29 (dk_at dksX3_write_1 13 rfl rfl)
theorem dX3_write_37 : decode cX3_write 37 = .ok (.sipush 1000, 3) := dk_17 3 232 (dk_at dksX3_write_1 14 rfl rfl)
theorem dX3_write_40 : decode cX3_write 40 = .ok (.if_icmp .lt 20, 3) := dk_161 0 20 (dk_at dksX3_write_1 17 rfl rfl)
theorem dX3_write_43 : decode cX3_write 43 = .ok (.aload_n 0, 1) := dk_42 (dk_at dksX3_write_1 20 rfl rfl)
theorem dX3_write_44 : decode cX3_write 44 = .ok (.getfield 77, 3) := dk_180 0 77 (dk_at dksX3_write_1 21 rfl rfl)
theorem dX3_write_47 : decode cX3_write 47 = .ok (.iload_n 2, 1) := dk_28 (dk_at dksX3_write_2 0 rfl rfl)
theorem dX3_write_48 : decode cX3_write 48 = .ok (.iload_n 3, 1) := dk_29 (dk_at dksX3_write_2 1 rfl rfl)
theorem dX3_write_49 : decode cX3_write 49 = .ok (.sipush 1000, 3) := dk_17 3 232 (dk_at dksX3_write_2 2 rfl rfl)
theorem dX3_write_52 : decode cX3_write 52 = .ok (.isub, 1) := dk_100 (dk_at dksX3_write_2 5 rfl rfl)
theorem dX3_write_53 : decode cX3_write 53 = .ok (.iastore, 1) := dk_79 (dk_at dksX3_write_2 6 rfl rfl)
theorem dX3_write_54 : decode cX3_write 54 = .ok (.iinc 2 1, 3) := dk_132 2 1 (dk_at dksX3_write_2 7 rfl rfl)
theorem dX3_write_57 : decode cX3_write 57 = .ok (.goto 52, 3) := dk_167 0 52 (dk_at dksX3_write_2 10 rfl rfl)
theorem dX3_write_60 : decode cX3_write 60 = .ok (.aload_n 0, 1) := dk_42 (dk_at dksX3_write_2 13 rfl rfl)
theorem dX3_write_61 : decode cX3_write 61 = .ok (.iload_n 3, 1) := dk_29 (dk_at dksX3_write_2 14 rfl rfl)
theorem dX3_write_62 : decode cX3_write 62 = .ok (.invokevirtual 163, 3) := dk_182 0 163 (dk_at dksX3_write_2 15 rfl rfl)
theorem dX3_write_65 : decode cX3_write 65 = .ok (.ifCond .ne 17, 3) := dk_154 0 17 (dk_at dksX3_write_2 18 rfl rfl)
theorem dX3_write_68 : decode cX3_write 68 = .ok (.aload_n 0, 1) := dk_42 (dk_at dksX3_write_2 21 rfl rfl)
theorem dX3_write_69 : decode cX3_write 69 = .ok (.getfield 77, 3) := dk_180 0 77 (dk_at dksX3_write_3 0 rfl rfl)
theorem dX3_write_72 : decode cX3_write 72 = .ok (.iload_n 2, 1) := dk_28 (dk_at dksX3_write_3 3 rfl rfl)
theorem dX3_write_73 : decode cX3_write 73 = .ok (.bipush 46, 2) := dk_16 46 (dk_at dksX3_write_3 4 rfl rfl)
theorem dX3_write_75 : decode cX3_write 75 = .ok (.iastore, 1) := dk_79 (dk_at dksX3_write_3 6 rfl rfl)
theorem dX3_write_76 : decode cX3_write 76 = .ok (.iinc 2 1, 3) := dk_132 2 1 (dk_at dksX3_write_3 7 rfl rfl)
theorem dX3_write_79 : decode cX3_write 79 = .ok (.goto 30, 3) := dk_167 0 30 (dk_at dksX3_write_3 10 rfl rfl)
theorem dX3_write_82 : decode cX3_write 82 = .ok (.aload_n 0, 1) := dk_42 (dk_at dksX3_write_3 13 rfl rfl)
theorem dX3_write_83 : decode cX3_write 83 = .ok (.iload_n 3, 1) := dk_29 (dk_at dksX3_write_3 14 rfl rfl)
theorem dX3_write_84 : decode cX3_write 84 = .ok (.invokevirtual 163, 3) := dk_182 0 163 (dk_at dksX3_write_3 15 rfl rfl)
theorem dX3_write_87 : decode cX3_write 87 = .ok (.iconst 3, 1) := dk_6 (dk_at dksX3_write_3 18 rfl rfl)
theorem dX3_write_88 : decode cX3_write 88 = .ok (.if_icmp .ne 14, 3) := dk_160 0 14 (dk_at dksX3_write_3 19 rfl rfl)
theorem dX3_write_91 : decode cX3_write 91 = .ok (.aload_n 0, 1) := dk_42 (dk_at dksX3_write_3 22 rfl rfl)
theorem dX3_write_92 : decode cX3_write 92 = .ok (.iload_n 3, 1) := dk_29 (dk_at dksX3_write_3 23 rfl rfl)
theorem dX3_write_93 : decode cX3_write 93 = .ok (.invokevirtual 287, 3) := dk_182 1 31 (dk_at dksX3_write_4 0 rfl rfl)
theorem dX3_write_96 : decode cX3_write 96 = .ok (.ifCond .ne 6, 3) := dk_154 0 6 (dk_at dksX3_write_4 3 rfl rfl)
theorem dX3_write_99 : decode cX3_write 99 = .ok (.bipush (-2), 2) := dk_16 254 (dk_at dksX3_write_4 6 rfl rfl)
theorem dX3_write_101 : decode cX3_write 101 = .ok (.ireturn, 1) := dk_172 (dk_at dksX3_write_4 8 rfl rfl)
theorem dX3_write_102 : decode cX3_write 102 = .ok (.aload_n 0, 1) := dk_42 (dk_at dksX3_write_4 9 rfl rfl)
theorem dX3_write_103 : decode cX3_write 103 = .ok (.iload_n 3, 1) := dk_29 (dk_at dksX3_write_4 10 rfl rfl)
theorem dX3_write_104 : decode cX3_write 104 = .ok (.iload_n 1, 1) := dk_27 (dk_at dksX3_write_4 11 rfl rfl)
theorem dX3_write_105 : decode cX3_write 105 = .ok (.invokevirtual 290, 3) := dk_182 1 34 (dk_at dksX3_write_4 12 rfl rfl)
theorem dX3_write_108 : decode cX3_write 108 = .ok (.istore_n 1, 1) := dk_60 (dk_at dksX3_write_4 15 rfl rfl)
theorem dX3_write_109 : decode cX3_write 109 = .ok (.goto (-87), 3) := dk_167 255 169 (dk_at dksX3_write_4 16 rfl rfl)
theorem dX3_write_112 : decode cX3_write 112 = .ok (.iconst 0, 1) := dk_3 (dk_at dksX3_write_4 19 rfl rfl)
theorem dX3_write_113 : decode cX3_write 113 = .ok (.istore_n 3, 1) := dk_62 (dk_at dksX3_write_4 20 rfl rfl)
theorem dX3_write_114 : decode cX3_write 114 = .ok (.iload_n 3, 1) := dk_29 (dk_at dksX3_write_4 21 rfl rfl)
theorem dX3_write_115 : decode cX3_write 115 = .ok (.iload_n 2, 1) := dk_28 (dk_at dksX3_write_4 22 rfl rfl)
theorem dX3_write_116 : decode cX3_write 116 = .ok (.if_icmp .ge 21, 3) := dk_162 0 21 (dk_at dksX3_write_5 0 rfl rfl)
theorem dX3_write_119 : decode cX3_write 119 = .ok (.aload_n 0, 1) := dk_42 (dk_at dksX3_write_5 3 rfl rfl)
theorem dX3_write_120 : decode cX3_write 120 = .ok (.getfield 19, 3) := dk_180 0 19 (dk_at dksX3_write_5 4 rfl rfl)
theorem dX3_write_123 : decode cX3_write 123 = .ok (.iload_n 3, 1) := dk_29 (dk_at dksX3_write_5 7 rfl rfl)
theorem dX3_write_124 : decode cX3_write 124 = .ok (.aload_n 0, 1) := dk_42 (dk_at dksX3_write_5 8 rfl rfl)
theorem dX3_write_125 : decode cX3_write 125 = .ok (.getfield 77, 3) := dk_180 0 77 (dk_at dksX3_write_5 9 rfl rfl)
theorem dX3_write_128 : decode cX3_write 128 = .ok (.iload_n 3, 1) := dk_29 (dk_at dksX3_write_5 12 rfl rfl)
theorem dX3_write_129 : decode cX3_write 129 = .ok (.iaload, 1) := dk_46 (dk_at dksX3_write_5 13 rfl rfl)
theorem dX3_write_130 : decode cX3_write 130 = .ok (.iastore, 1) := dk_79 (dk_at dksX3_write_5 14 rfl rfl)
theorem dX3_write_131 : decode cX3_write 131 = .ok (.iinc 3 1, 3) := dk_132 3 1 (dk_at dksX3_write_5 15 rfl rfl)
theorem dX3_write_134 : decode cX3_write 134 = .ok (.goto (-20), 3) := dk_167 255 236 (dk_at dksX3_write_5 18 rfl rfl)
theorem dX3_write_137 : decode cX3_write 137 = .ok (.aload_n 0, 1) := dk_42 (dk_at dksX3_write_5 21 rfl rfl)
theorem dX3_write_138 : decode cX3_write 138 = .ok (.iload_n 2, 1) := dk_28 (dk_at dksX3_write_5 22 rfl rfl)
theorem dX3_write_139 : decode cX3_write 139 = .ok (.putfield 178, 3) := dk_181 0 178 (dk_at dksX3_write_6 0 rfl rfl)
theorem dX3_write_142 : decode cX3_write 142 = .ok (.iload_n 2, 1) := dk_28 (dk_at dksX3_write_6 3 rfl rfl)
theorem dX3_write_143 : decode cX3_write 143 = .ok (.ireturn, 1) := dk_172 (dk_at dksX3_write_6 4 rfl rfl)
abbrev cX3_laysPath : ByteArray := prog_18_method_88_code
def yX3_laysPath : MethodName := ⟨RX3, "laysPath", "(I)Z"⟩
def dkwX3_laysPath_8 : List UInt8 := [21, 5, 79, 132, 4, 1, 167, 255, 149, 4, 172]
abbrev dktX3_laysPath_8 : List UInt8 := dkwX3_laysPath_8 ++ []
def dkwX3_laysPath_7 : List UInt8 := [54, 5, 132, 6, 1, 167, 255, 186, 21, 5, 16, 252, 160, 0, 5, 3, 172, 42, 180, 0, 80, 21, 4]
abbrev dktX3_laysPath_7 : List UInt8 := dkwX3_laysPath_7 ++ dktX3_laysPath_8
def dkwX3_laysPath_6 : List UInt8 := [159, 0, 17, 21, 6, 42, 180, 0, 80, 21, 4, 5, 100, 46, 159, 0, 8, 21, 6, 167, 0, 5, 21, 5]
abbrev dktX3_laysPath_6 : List UInt8 := dkwX3_laysPath_6 ++ dktX3_laysPath_7
def dkwX3_laysPath_5 : List UInt8 := [160, 0, 46, 42, 42, 180, 0, 80, 21, 4, 4, 100, 46, 21, 6, 182, 0, 154, 153, 0, 28, 21, 4, 4]
abbrev dktX3_laysPath_5 : List UInt8 := dkwX3_laysPath_5 ++ dktX3_laysPath_6
def dkwX3_laysPath_4 : List UInt8 := [54, 5, 3, 54, 6, 21, 6, 42, 180, 0, 139, 162, 0, 67, 42, 180, 0, 32, 21, 6, 46, 27]
abbrev dktX3_laysPath_4 : List UInt8 := dkwX3_laysPath_4 ++ dktX3_laysPath_5
def dkwX3_laysPath_3 : List UInt8 := [160, 0, 5, 3, 172, 42, 180, 0, 80, 3, 29, 79, 4, 54, 4, 21, 4, 28, 162, 0, 107, 16, 252]
abbrev dktX3_laysPath_3 : List UInt8 := dkwX3_laysPath_3 ++ dktX3_laysPath_4
def dkwX3_laysPath_2 : List UInt8 := [182, 1, 28, 4, 160, 0, 8, 21, 5, 167, 0, 4, 29, 62, 132, 4, 255, 167, 255, 208, 29, 16, 252]
abbrev dktX3_laysPath_2 : List UInt8 := dkwX3_laysPath_2 ++ dktX3_laysPath_3
def dkwX3_laysPath_1 : List UInt8 := [182, 0, 187, 54, 5, 42, 27, 21, 5, 182, 1, 28, 5, 164, 0, 5, 3, 172, 42, 27, 21, 5]
abbrev dktX3_laysPath_1 : List UInt8 := dkwX3_laysPath_1 ++ dktX3_laysPath_2
def dkwX3_laysPath_0 : List UInt8 := [42, 27, 182, 0, 157, 61, 16, 252, 62, 28, 4, 100, 54, 4, 21, 4, 155, 0, 49, 42, 27, 21, 4]
abbrev dktX3_laysPath_0 : List UInt8 := dkwX3_laysPath_0 ++ dktX3_laysPath_1
theorem dksX3_laysPath_0 : cX3_laysPath.data.toList.drop 0 = dktX3_laysPath_0 := by decide +kernel
theorem dksX3_laysPath_1 : cX3_laysPath.data.toList.drop 23 = dktX3_laysPath_1 := dk_seg dksX3_laysPath_0 23 rfl rfl
theorem dksX3_laysPath_2 : cX3_laysPath.data.toList.drop 45 = dktX3_laysPath_2 := dk_seg dksX3_laysPath_1 22 rfl rfl
theorem dksX3_laysPath_3 : cX3_laysPath.data.toList.drop 68 = dktX3_laysPath_3 := dk_seg dksX3_laysPath_2 23 rfl rfl
theorem dksX3_laysPath_4 : cX3_laysPath.data.toList.drop 91 = dktX3_laysPath_4 := dk_seg dksX3_laysPath_3 23 rfl rfl
theorem dksX3_laysPath_5 : cX3_laysPath.data.toList.drop 113 = dktX3_laysPath_5 := dk_seg dksX3_laysPath_4 22 rfl rfl
theorem dksX3_laysPath_6 : cX3_laysPath.data.toList.drop 137 = dktX3_laysPath_6 := dk_seg dksX3_laysPath_5 24 rfl rfl
theorem dksX3_laysPath_7 : cX3_laysPath.data.toList.drop 161 = dktX3_laysPath_7 := dk_seg dksX3_laysPath_6 24 rfl rfl
theorem dksX3_laysPath_8 : cX3_laysPath.data.toList.drop 184 = dktX3_laysPath_8 := dk_seg dksX3_laysPath_7 23 rfl rfl
theorem dX3_laysPath_0 : decode cX3_laysPath 0 = .ok (.aload_n 0, 1) := dk_42 (dk_at dksX3_laysPath_0 0 rfl rfl)
theorem dX3_laysPath_1 : decode cX3_laysPath 1 = .ok (.iload_n 1, 1) := dk_27 (dk_at dksX3_laysPath_0 1 rfl rfl)
theorem dX3_laysPath_2 : decode cX3_laysPath 2 = .ok (.invokevirtual 157, 3) := dk_182 0 157 (dk_at dksX3_laysPath_0 2 rfl rfl)
theorem dX3_laysPath_5 : decode cX3_laysPath 5 = .ok (.istore_n 2, 1) := dk_61 (dk_at dksX3_laysPath_0 5 rfl rfl)
theorem dX3_laysPath_6 : decode cX3_laysPath 6 = .ok (.bipush (-4), 2) := dk_16 252 (dk_at dksX3_laysPath_0 6 rfl rfl)
theorem dX3_laysPath_8 : decode cX3_laysPath 8 = .ok (.istore_n 3, 1) := dk_62 (dk_at dksX3_laysPath_0 8 rfl rfl)
theorem dX3_laysPath_9 : decode cX3_laysPath 9 = .ok (.iload_n 2, 1) := dk_28 (dk_at dksX3_laysPath_0 9 rfl rfl)
theorem dX3_laysPath_10 : decode cX3_laysPath 10 = .ok (.iconst 1, 1) := dk_4 (dk_at dksX3_laysPath_0 10 rfl rfl)
theorem dX3_laysPath_11 : decode cX3_laysPath 11 = .ok (.isub, 1) := dk_100 (dk_at dksX3_laysPath_0 11 rfl rfl)
theorem dX3_laysPath_12 : decode cX3_laysPath 12 = .ok (.istore 4, 2) := dk_54 4 (dk_at dksX3_laysPath_0 12 rfl rfl)
theorem dX3_laysPath_14 : decode cX3_laysPath 14 = .ok (.iload 4, 2) := dk_21 4 (dk_at dksX3_laysPath_0 14 rfl rfl)
theorem dX3_laysPath_16 : decode cX3_laysPath 16 = .ok (.ifCond .lt 49, 3) := dk_155 0 49 (dk_at dksX3_laysPath_0 16 rfl rfl)
theorem dX3_laysPath_19 : decode cX3_laysPath 19 = .ok (.aload_n 0, 1) := dk_42 (dk_at dksX3_laysPath_0 19 rfl rfl)
theorem dX3_laysPath_20 : decode cX3_laysPath 20 = .ok (.iload_n 1, 1) := dk_27 (dk_at dksX3_laysPath_0 20 rfl rfl)
theorem dX3_laysPath_21 : decode cX3_laysPath 21 = .ok (.iload 4, 2) := dk_21 4 (dk_at dksX3_laysPath_0 21 rfl rfl)
theorem dX3_laysPath_23 : decode cX3_laysPath 23 = .ok (.invokevirtual 187, 3) := dk_182 0 187 (dk_at dksX3_laysPath_1 0 rfl rfl)
theorem dX3_laysPath_26 : decode cX3_laysPath 26 = .ok (.istore 5, 2) := dk_54 5 (dk_at dksX3_laysPath_1 3 rfl rfl)
theorem dX3_laysPath_28 : decode cX3_laysPath 28 = .ok (.aload_n 0, 1) := dk_42 (dk_at dksX3_laysPath_1 5 rfl rfl)
theorem dX3_laysPath_29 : decode cX3_laysPath 29 = .ok (.iload_n 1, 1) := dk_27 (dk_at dksX3_laysPath_1 6 rfl rfl)
theorem dX3_laysPath_30 : decode cX3_laysPath 30 = .ok (.iload 5, 2) := dk_21 5 (dk_at dksX3_laysPath_1 7 rfl rfl)
theorem dX3_laysPath_32 : decode cX3_laysPath 32 = .ok (.invokevirtual 284, 3) := dk_182 1 28 (dk_at dksX3_laysPath_1 9 rfl rfl)
theorem dX3_laysPath_35 : decode cX3_laysPath 35 = .ok (.iconst 2, 1) := dk_5 (dk_at dksX3_laysPath_1 12 rfl rfl)
theorem dX3_laysPath_36 : decode cX3_laysPath 36 = .ok (.if_icmp .le 5, 3) := dk_164 0 5 (dk_at dksX3_laysPath_1 13 rfl rfl)
theorem dX3_laysPath_39 : decode cX3_laysPath 39 = .ok (.iconst 0, 1) := dk_3 (dk_at dksX3_laysPath_1 16 rfl rfl)
theorem dX3_laysPath_40 : decode cX3_laysPath 40 = .ok (.ireturn, 1) := dk_172 (dk_at dksX3_laysPath_1 17 rfl rfl)
theorem dX3_laysPath_41 : decode cX3_laysPath 41 = .ok (.aload_n 0, 1) := dk_42 (dk_at dksX3_laysPath_1 18 rfl rfl)
theorem dX3_laysPath_42 : decode cX3_laysPath 42 = .ok (.iload_n 1, 1) := dk_27 (dk_at dksX3_laysPath_1 19 rfl rfl)
theorem dX3_laysPath_43 : decode cX3_laysPath 43 = .ok (.iload 5, 2) := dk_21 5 (dk_at dksX3_laysPath_1 20 rfl rfl)
theorem dX3_laysPath_45 : decode cX3_laysPath 45 = .ok (.invokevirtual 284, 3) := dk_182 1 28 (dk_at dksX3_laysPath_2 0 rfl rfl)
theorem dX3_laysPath_48 : decode cX3_laysPath 48 = .ok (.iconst 1, 1) := dk_4 (dk_at dksX3_laysPath_2 3 rfl rfl)
theorem dX3_laysPath_49 : decode cX3_laysPath 49 = .ok (.if_icmp .ne 8, 3) := dk_160 0 8 (dk_at dksX3_laysPath_2 4 rfl rfl)
theorem dX3_laysPath_52 : decode cX3_laysPath 52 = .ok (.iload 5, 2) := dk_21 5 (dk_at dksX3_laysPath_2 7 rfl rfl)
theorem dX3_laysPath_54 : decode cX3_laysPath 54 = .ok (.goto 4, 3) := dk_167 0 4 (dk_at dksX3_laysPath_2 9 rfl rfl)
theorem dX3_laysPath_57 : decode cX3_laysPath 57 = .ok (.iload_n 3, 1) := dk_29 (dk_at dksX3_laysPath_2 12 rfl rfl)
theorem dX3_laysPath_58 : decode cX3_laysPath 58 = .ok (.istore_n 3, 1) := dk_62 (dk_at dksX3_laysPath_2 13 rfl rfl)
theorem dX3_laysPath_59 : decode cX3_laysPath 59 = .ok (.iinc 4 (-1), 3) := dk_132 4 255 (dk_at dksX3_laysPath_2 14 rfl rfl)
theorem dX3_laysPath_62 : decode cX3_laysPath 62 = .ok (.goto (-48), 3) := dk_167 255 208 (dk_at dksX3_laysPath_2 17 rfl rfl)
theorem dX3_laysPath_65 : decode cX3_laysPath 65 = .ok (.iload_n 3, 1) := dk_29 (dk_at dksX3_laysPath_2 20 rfl rfl)
theorem dX3_laysPath_66 : decode cX3_laysPath 66 = .ok (.bipush (-4), 2) := dk_16 252 (dk_at dksX3_laysPath_2 21 rfl rfl)
theorem dX3_laysPath_68 : decode cX3_laysPath 68 = .ok (.if_icmp .ne 5, 3) := dk_160 0 5 (dk_at dksX3_laysPath_3 0 rfl rfl)
theorem dX3_laysPath_71 : decode cX3_laysPath 71 = .ok (.iconst 0, 1) := dk_3 (dk_at dksX3_laysPath_3 3 rfl rfl)
theorem dX3_laysPath_72 : decode cX3_laysPath 72 = .ok (.ireturn, 1) := dk_172 (dk_at dksX3_laysPath_3 4 rfl rfl)
theorem dX3_laysPath_73 : decode cX3_laysPath 73 = .ok (.aload_n 0, 1) := dk_42 (dk_at dksX3_laysPath_3 5 rfl rfl)
theorem dX3_laysPath_74 : decode cX3_laysPath 74 = .ok (.getfield 80, 3) := dk_180 0 80 (dk_at dksX3_laysPath_3 6 rfl rfl)
theorem dX3_laysPath_77 : decode cX3_laysPath 77 = .ok (.iconst 0, 1) := dk_3 (dk_at dksX3_laysPath_3 9 rfl rfl)
theorem dX3_laysPath_78 : decode cX3_laysPath 78 = .ok (.iload_n 3, 1) := dk_29 (dk_at dksX3_laysPath_3 10 rfl rfl)
theorem dX3_laysPath_79 : decode cX3_laysPath 79 = .ok (.iastore, 1) := dk_79 (dk_at dksX3_laysPath_3 11 rfl rfl)
theorem dX3_laysPath_80 : decode cX3_laysPath 80 = .ok (.iconst 1, 1) := dk_4 (dk_at dksX3_laysPath_3 12 rfl rfl)
theorem dX3_laysPath_81 : decode cX3_laysPath 81 = .ok (.istore 4, 2) := dk_54 4 (dk_at dksX3_laysPath_3 13 rfl rfl)
theorem dX3_laysPath_83 : decode cX3_laysPath 83 = .ok (.iload 4, 2) := dk_21 4 (dk_at dksX3_laysPath_3 15 rfl rfl)
theorem dX3_laysPath_85 : decode cX3_laysPath 85 = .ok (.iload_n 2, 1) := dk_28 (dk_at dksX3_laysPath_3 17 rfl rfl)
theorem dX3_laysPath_86 : decode cX3_laysPath 86 = .ok (.if_icmp .ge 107, 3) := dk_162 0 107 (dk_at dksX3_laysPath_3 18 rfl rfl)
theorem dX3_laysPath_89 : decode cX3_laysPath 89 = .ok (.bipush (-4), 2) := dk_16 252 (dk_at dksX3_laysPath_3 21 rfl rfl)
theorem dX3_laysPath_91 : decode cX3_laysPath 91 = .ok (.istore 5, 2) := dk_54 5 (dk_at dksX3_laysPath_4 0 rfl rfl)
theorem dX3_laysPath_93 : decode cX3_laysPath 93 = .ok (.iconst 0, 1) := dk_3 (dk_at dksX3_laysPath_4 2 rfl rfl)
theorem dX3_laysPath_94 : decode cX3_laysPath 94 = .ok (.istore 6, 2) := dk_54 6 (dk_at dksX3_laysPath_4 3 rfl rfl)
theorem dX3_laysPath_96 : decode cX3_laysPath 96 = .ok (.iload 6, 2) := dk_21 6 (dk_at dksX3_laysPath_4 5 rfl rfl)
theorem dX3_laysPath_98 : decode cX3_laysPath 98 = .ok (.aload_n 0, 1) := dk_42 (dk_at dksX3_laysPath_4 7 rfl rfl)
theorem dX3_laysPath_99 : decode cX3_laysPath 99 = .ok (.getfield 139, 3) := dk_180 0 139 (dk_at dksX3_laysPath_4 8 rfl rfl)
theorem dX3_laysPath_102 : decode cX3_laysPath 102 = .ok (.if_icmp .ge 67, 3) := dk_162 0 67 (dk_at dksX3_laysPath_4 11 rfl rfl)
theorem dX3_laysPath_105 : decode cX3_laysPath 105 = .ok (.aload_n 0, 1) := dk_42 (dk_at dksX3_laysPath_4 14 rfl rfl)
theorem dX3_laysPath_106 : decode cX3_laysPath 106 = .ok (.getfield 32, 3) := dk_180 0 32 (dk_at dksX3_laysPath_4 15 rfl rfl)
theorem dX3_laysPath_109 : decode cX3_laysPath 109 = .ok (.iload 6, 2) := dk_21 6 (dk_at dksX3_laysPath_4 18 rfl rfl)
theorem dX3_laysPath_111 : decode cX3_laysPath 111 = .ok (.iaload, 1) := dk_46 (dk_at dksX3_laysPath_4 20 rfl rfl)
theorem dX3_laysPath_112 : decode cX3_laysPath 112 = .ok (.iload_n 1, 1) := dk_27 (dk_at dksX3_laysPath_4 21 rfl rfl)
theorem dX3_laysPath_113 : decode cX3_laysPath 113 = .ok (.if_icmp .ne 46, 3) := dk_160 0 46 (dk_at dksX3_laysPath_5 0 rfl rfl)
theorem dX3_laysPath_116 : decode cX3_laysPath 116 = .ok (.aload_n 0, 1) := dk_42 (dk_at dksX3_laysPath_5 3 rfl rfl)
theorem dX3_laysPath_117 : decode cX3_laysPath 117 = .ok (.aload_n 0, 1) := dk_42 (dk_at dksX3_laysPath_5 4 rfl rfl)
theorem dX3_laysPath_118 : decode cX3_laysPath 118 = .ok (.getfield 80, 3) := dk_180 0 80 (dk_at dksX3_laysPath_5 5 rfl rfl)
theorem dX3_laysPath_121 : decode cX3_laysPath 121 = .ok (.iload 4, 2) := dk_21 4 (dk_at dksX3_laysPath_5 8 rfl rfl)
theorem dX3_laysPath_123 : decode cX3_laysPath 123 = .ok (.iconst 1, 1) := dk_4 (dk_at dksX3_laysPath_5 10 rfl rfl)
theorem dX3_laysPath_124 : decode cX3_laysPath 124 = .ok (.isub, 1) := dk_100 (dk_at dksX3_laysPath_5 11 rfl rfl)
theorem dX3_laysPath_125 : decode cX3_laysPath 125 = .ok (.iaload, 1) := dk_46 (dk_at dksX3_laysPath_5 12 rfl rfl)
theorem dX3_laysPath_126 : decode cX3_laysPath 126 = .ok (.iload 6, 2) := dk_21 6 (dk_at dksX3_laysPath_5 13 rfl rfl)
theorem dX3_laysPath_128 : decode cX3_laysPath 128 = .ok (.invokevirtual 154, 3) := dk_182 0 154 (dk_at dksX3_laysPath_5 15 rfl rfl)
theorem dX3_laysPath_131 : decode cX3_laysPath 131 = .ok (.ifCond .eq 28, 3) := dk_153 0 28 (dk_at dksX3_laysPath_5 18 rfl rfl)
theorem dX3_laysPath_134 : decode cX3_laysPath 134 = .ok (.iload 4, 2) := dk_21 4 (dk_at dksX3_laysPath_5 21 rfl rfl)
theorem dX3_laysPath_136 : decode cX3_laysPath 136 = .ok (.iconst 1, 1) := dk_4 (dk_at dksX3_laysPath_5 23 rfl rfl)
theorem dX3_laysPath_137 : decode cX3_laysPath 137 = .ok (.if_icmp .eq 17, 3) := dk_159 0 17 (dk_at dksX3_laysPath_6 0 rfl rfl)
theorem dX3_laysPath_140 : decode cX3_laysPath 140 = .ok (.iload 6, 2) := dk_21 6 (dk_at dksX3_laysPath_6 3 rfl rfl)
theorem dX3_laysPath_142 : decode cX3_laysPath 142 = .ok (.aload_n 0, 1) := dk_42 (dk_at dksX3_laysPath_6 5 rfl rfl)
theorem dX3_laysPath_143 : decode cX3_laysPath 143 = .ok (.getfield 80, 3) := dk_180 0 80 (dk_at dksX3_laysPath_6 6 rfl rfl)
theorem dX3_laysPath_146 : decode cX3_laysPath 146 = .ok (.iload 4, 2) := dk_21 4 (dk_at dksX3_laysPath_6 9 rfl rfl)
theorem dX3_laysPath_148 : decode cX3_laysPath 148 = .ok (.iconst 2, 1) := dk_5 (dk_at dksX3_laysPath_6 11 rfl rfl)
theorem dX3_laysPath_149 : decode cX3_laysPath 149 = .ok (.isub, 1) := dk_100 (dk_at dksX3_laysPath_6 12 rfl rfl)
theorem dX3_laysPath_150 : decode cX3_laysPath 150 = .ok (.iaload, 1) := dk_46 (dk_at dksX3_laysPath_6 13 rfl rfl)
theorem dX3_laysPath_151 : decode cX3_laysPath 151 = .ok (.if_icmp .eq 8, 3) := dk_159 0 8 (dk_at dksX3_laysPath_6 14 rfl rfl)
theorem dX3_laysPath_154 : decode cX3_laysPath 154 = .ok (.iload 6, 2) := dk_21 6 (dk_at dksX3_laysPath_6 17 rfl rfl)
theorem dX3_laysPath_156 : decode cX3_laysPath 156 = .ok (.goto 5, 3) := dk_167 0 5 (dk_at dksX3_laysPath_6 19 rfl rfl)
theorem dX3_laysPath_159 : decode cX3_laysPath 159 = .ok (.iload 5, 2) := dk_21 5 (dk_at dksX3_laysPath_6 22 rfl rfl)
theorem dX3_laysPath_161 : decode cX3_laysPath 161 = .ok (.istore 5, 2) := dk_54 5 (dk_at dksX3_laysPath_7 0 rfl rfl)
theorem dX3_laysPath_163 : decode cX3_laysPath 163 = .ok (.iinc 6 1, 3) := dk_132 6 1 (dk_at dksX3_laysPath_7 2 rfl rfl)
theorem dX3_laysPath_166 : decode cX3_laysPath 166 = .ok (.goto (-70), 3) := dk_167 255 186 (dk_at dksX3_laysPath_7 5 rfl rfl)
theorem dX3_laysPath_169 : decode cX3_laysPath 169 = .ok (.iload 5, 2) := dk_21 5 (dk_at dksX3_laysPath_7 8 rfl rfl)
theorem dX3_laysPath_171 : decode cX3_laysPath 171 = .ok (.bipush (-4), 2) := dk_16 252 (dk_at dksX3_laysPath_7 10 rfl rfl)
theorem dX3_laysPath_173 : decode cX3_laysPath 173 = .ok (.if_icmp .ne 5, 3) := dk_160 0 5 (dk_at dksX3_laysPath_7 12 rfl rfl)
theorem dX3_laysPath_176 : decode cX3_laysPath 176 = .ok (.iconst 0, 1) := dk_3 (dk_at dksX3_laysPath_7 15 rfl rfl)
theorem dX3_laysPath_177 : decode cX3_laysPath 177 = .ok (.ireturn, 1) := dk_172 (dk_at dksX3_laysPath_7 16 rfl rfl)
theorem dX3_laysPath_178 : decode cX3_laysPath 178 = .ok (.aload_n 0, 1) := dk_42 (dk_at dksX3_laysPath_7 17 rfl rfl)
theorem dX3_laysPath_179 : decode cX3_laysPath 179 = .ok (.getfield 80, 3) := dk_180 0 80 (dk_at dksX3_laysPath_7 18 rfl rfl)
theorem dX3_laysPath_182 : decode cX3_laysPath 182 = .ok (.iload 4, 2) := dk_21 4 (dk_at dksX3_laysPath_7 21 rfl rfl)
theorem dX3_laysPath_184 : decode cX3_laysPath 184 = .ok (.iload 5, 2) := dk_21 5 (dk_at dksX3_laysPath_8 0 rfl rfl)
theorem dX3_laysPath_186 : decode cX3_laysPath 186 = .ok (.iastore, 1) := dk_79 (dk_at dksX3_laysPath_8 2 rfl rfl)
theorem dX3_laysPath_187 : decode cX3_laysPath 187 = .ok (.iinc 4 1, 3) := dk_132 4 1 (dk_at dksX3_laysPath_8 3 rfl rfl)
theorem dX3_laysPath_190 : decode cX3_laysPath 190 = .ok (.goto (-107), 3) := dk_167 255 149 (dk_at dksX3_laysPath_8 6 rfl rfl)
theorem dX3_laysPath_193 : decode cX3_laysPath 193 = .ok (.iconst 1, 1) := dk_4 (dk_at dksX3_laysPath_8 9 rfl rfl)
theorem dX3_laysPath_194 : decode cX3_laysPath 194 = .ok (.ireturn, 1) := dk_172 (dk_at dksX3_laysPath_8 10 rfl rfl)
abbrev cX3_degree : ByteArray := prog_18_method_87_code
def yX3_degree : MethodName := ⟨RX3, "degree", "(II)I"⟩
def dkwX3_degree_2 : List UInt8 := [96, 62, 132, 4, 1, 167, 255, 209, 29, 172]
abbrev dktX3_degree_2 : List UInt8 := dkwX3_degree_2 ++ []
def dkwX3_degree_1 : List UInt8 := [160, 0, 23, 21, 4, 28, 159, 0, 17, 42, 28, 21, 4, 182, 0, 154, 153, 0, 7, 4, 167, 0, 4, 3]
abbrev dktX3_degree_1 : List UInt8 := dkwX3_degree_1 ++ dktX3_degree_2
def dkwX3_degree_0 : List UInt8 := [3, 62, 3, 54, 4, 21, 4, 42, 180, 0, 139, 162, 0, 44, 29, 42, 180, 0, 32, 21, 4, 46, 27]
abbrev dktX3_degree_0 : List UInt8 := dkwX3_degree_0 ++ dktX3_degree_1
theorem dksX3_degree_0 : cX3_degree.data.toList.drop 0 = dktX3_degree_0 := by decide +kernel
theorem dksX3_degree_1 : cX3_degree.data.toList.drop 23 = dktX3_degree_1 := dk_seg dksX3_degree_0 23 rfl rfl
theorem dksX3_degree_2 : cX3_degree.data.toList.drop 47 = dktX3_degree_2 := dk_seg dksX3_degree_1 24 rfl rfl
theorem dX3_degree_0 : decode cX3_degree 0 = .ok (.iconst 0, 1) := dk_3 (dk_at dksX3_degree_0 0 rfl rfl)
theorem dX3_degree_1 : decode cX3_degree 1 = .ok (.istore_n 3, 1) := dk_62 (dk_at dksX3_degree_0 1 rfl rfl)
theorem dX3_degree_2 : decode cX3_degree 2 = .ok (.iconst 0, 1) := dk_3 (dk_at dksX3_degree_0 2 rfl rfl)
theorem dX3_degree_3 : decode cX3_degree 3 = .ok (.istore 4, 2) := dk_54 4 (dk_at dksX3_degree_0 3 rfl rfl)
theorem dX3_degree_5 : decode cX3_degree 5 = .ok (.iload 4, 2) := dk_21 4 (dk_at dksX3_degree_0 5 rfl rfl)
theorem dX3_degree_7 : decode cX3_degree 7 = .ok (.aload_n 0, 1) := dk_42 (dk_at dksX3_degree_0 7 rfl rfl)
theorem dX3_degree_8 : decode cX3_degree 8 = .ok (.getfield 139, 3) := dk_180 0 139 (dk_at dksX3_degree_0 8 rfl rfl)
theorem dX3_degree_11 : decode cX3_degree 11 = .ok (.if_icmp .ge 44, 3) := dk_162 0 44 (dk_at dksX3_degree_0 11 rfl rfl)
theorem dX3_degree_14 : decode cX3_degree 14 = .ok (.iload_n 3, 1) := dk_29 (dk_at dksX3_degree_0 14 rfl rfl)
theorem dX3_degree_15 : decode cX3_degree 15 = .ok (.aload_n 0, 1) := dk_42 (dk_at dksX3_degree_0 15 rfl rfl)
theorem dX3_degree_16 : decode cX3_degree 16 = .ok (.getfield 32, 3) := dk_180 0 32 (dk_at dksX3_degree_0 16 rfl rfl)
theorem dX3_degree_19 : decode cX3_degree 19 = .ok (.iload 4, 2) := dk_21 4 (dk_at dksX3_degree_0 19 rfl rfl)
theorem dX3_degree_21 : decode cX3_degree 21 = .ok (.iaload, 1) := dk_46 (dk_at dksX3_degree_0 21 rfl rfl)
theorem dX3_degree_22 : decode cX3_degree 22 = .ok (.iload_n 1, 1) := dk_27 (dk_at dksX3_degree_0 22 rfl rfl)
theorem dX3_degree_23 : decode cX3_degree 23 = .ok (.if_icmp .ne 23, 3) := dk_160 0 23 (dk_at dksX3_degree_1 0 rfl rfl)
theorem dX3_degree_26 : decode cX3_degree 26 = .ok (.iload 4, 2) := dk_21 4 (dk_at dksX3_degree_1 3 rfl rfl)
theorem dX3_degree_28 : decode cX3_degree 28 = .ok (.iload_n 2, 1) := dk_28 (dk_at dksX3_degree_1 5 rfl rfl)
theorem dX3_degree_29 : decode cX3_degree 29 = .ok (.if_icmp .eq 17, 3) := dk_159 0 17 (dk_at dksX3_degree_1 6 rfl rfl)
theorem dX3_degree_32 : decode cX3_degree 32 = .ok (.aload_n 0, 1) := dk_42 (dk_at dksX3_degree_1 9 rfl rfl)
theorem dX3_degree_33 : decode cX3_degree 33 = .ok (.iload_n 2, 1) := dk_28 (dk_at dksX3_degree_1 10 rfl rfl)
theorem dX3_degree_34 : decode cX3_degree 34 = .ok (.iload 4, 2) := dk_21 4 (dk_at dksX3_degree_1 11 rfl rfl)
theorem dX3_degree_36 : decode cX3_degree 36 = .ok (.invokevirtual 154, 3) := dk_182 0 154 (dk_at dksX3_degree_1 13 rfl rfl)
theorem dX3_degree_39 : decode cX3_degree 39 = .ok (.ifCond .eq 7, 3) := dk_153 0 7 (dk_at dksX3_degree_1 16 rfl rfl)
theorem dX3_degree_42 : decode cX3_degree 42 = .ok (.iconst 1, 1) := dk_4 (dk_at dksX3_degree_1 19 rfl rfl)
theorem dX3_degree_43 : decode cX3_degree 43 = .ok (.goto 4, 3) := dk_167 0 4 (dk_at dksX3_degree_1 20 rfl rfl)
theorem dX3_degree_46 : decode cX3_degree 46 = .ok (.iconst 0, 1) := dk_3 (dk_at dksX3_degree_1 23 rfl rfl)
theorem dX3_degree_47 : decode cX3_degree 47 = .ok (.iadd, 1) := dk_96 (dk_at dksX3_degree_2 0 rfl rfl)
theorem dX3_degree_48 : decode cX3_degree 48 = .ok (.istore_n 3, 1) := dk_62 (dk_at dksX3_degree_2 1 rfl rfl)
theorem dX3_degree_49 : decode cX3_degree 49 = .ok (.iinc 4 1, 3) := dk_132 4 1 (dk_at dksX3_degree_2 2 rfl rfl)
theorem dX3_degree_52 : decode cX3_degree 52 = .ok (.goto (-47), 3) := dk_167 255 209 (dk_at dksX3_degree_2 5 rfl rfl)
theorem dX3_degree_55 : decode cX3_degree 55 = .ok (.iload_n 3, 1) := dk_29 (dk_at dksX3_degree_2 8 rfl rfl)
theorem dX3_degree_56 : decode cX3_degree 56 = .ok (.ireturn, 1) := dk_172 (dk_at dksX3_degree_2 9 rfl rfl)
abbrev cX3_piles : ByteArray := prog_18_method_89_code
def yX3_piles : MethodName := ⟨RX3, "piles", "(II)I"⟩
def dkwX3_piles_6 : List UInt8 := [16, 60, 167, 0, 5, 16, 40, 96, 79, 21, 4, 4, 96, 172]
abbrev dktX3_piles_6 : List UInt8 := dkwX3_piles_6 ++ []
def dkwX3_piles_5 : List UInt8 := [132, 4, 1, 132, 5, 255, 167, 255, 180, 42, 180, 0, 74, 21, 4, 17, 3, 232, 29, 6, 160, 0, 8]
abbrev dktX3_piles_5 : List UInt8 := dkwX3_piles_5 ++ dktX3_piles_6
def dkwX3_piles_4 : List UInt8 := [180, 0, 74, 21, 4, 17, 3, 232, 29, 4, 160, 0, 8, 16, 43, 167, 0, 5, 16, 42, 96, 79]
abbrev dktX3_piles_4 : List UInt8 := dkwX3_piles_4 ++ dktX3_piles_5
def dkwX3_piles_3 : List UInt8 := [42, 27, 21, 5, 182, 0, 187, 79, 132, 4, 1, 29, 6, 162, 0, 34, 21, 5, 158, 0, 29, 42]
abbrev dktX3_piles_3 : List UInt8 := dkwX3_piles_3 ++ dktX3_piles_4
def dkwX3_piles_2 : List UInt8 := [155, 0, 77, 42, 180, 0, 74, 21, 4, 29, 6, 160, 0, 13, 42, 180, 0, 80, 21, 5, 46, 167, 0, 10]
abbrev dktX3_piles_2 : List UInt8 := dkwX3_piles_2 ++ dktX3_piles_3
def dkwX3_piles_1 : List UInt8 := [16, 62, 167, 0, 5, 16, 41, 96, 79, 132, 4, 1, 42, 27, 182, 0, 157, 4, 100, 54, 5, 21, 5]
abbrev dktX3_piles_1 : List UInt8 := dkwX3_piles_1 ++ dktX3_piles_2
def dkwX3_piles_0 : List UInt8 := [42, 27, 182, 0, 163, 62, 28, 54, 4, 42, 180, 0, 74, 21, 4, 17, 3, 232, 29, 6, 160, 0, 8]
abbrev dktX3_piles_0 : List UInt8 := dkwX3_piles_0 ++ dktX3_piles_1
theorem dksX3_piles_0 : cX3_piles.data.toList.drop 0 = dktX3_piles_0 := by decide +kernel
theorem dksX3_piles_1 : cX3_piles.data.toList.drop 23 = dktX3_piles_1 := dk_seg dksX3_piles_0 23 rfl rfl
theorem dksX3_piles_2 : cX3_piles.data.toList.drop 46 = dktX3_piles_2 := dk_seg dksX3_piles_1 23 rfl rfl
theorem dksX3_piles_3 : cX3_piles.data.toList.drop 70 = dktX3_piles_3 := dk_seg dksX3_piles_2 24 rfl rfl
theorem dksX3_piles_4 : cX3_piles.data.toList.drop 92 = dktX3_piles_4 := dk_seg dksX3_piles_3 22 rfl rfl
theorem dksX3_piles_5 : cX3_piles.data.toList.drop 114 = dktX3_piles_5 := dk_seg dksX3_piles_4 22 rfl rfl
theorem dksX3_piles_6 : cX3_piles.data.toList.drop 137 = dktX3_piles_6 := dk_seg dksX3_piles_5 23 rfl rfl
theorem dX3_piles_0 : decode cX3_piles 0 = .ok (.aload_n 0, 1) := dk_42 (dk_at dksX3_piles_0 0 rfl rfl)
theorem dX3_piles_1 : decode cX3_piles 1 = .ok (.iload_n 1, 1) := dk_27 (dk_at dksX3_piles_0 1 rfl rfl)
theorem dX3_piles_2 : decode cX3_piles 2 = .ok (.invokevirtual 163, 3) := dk_182 0 163 (dk_at dksX3_piles_0 2 rfl rfl)
theorem dX3_piles_5 : decode cX3_piles 5 = .ok (.istore_n 3, 1) := dk_62 (dk_at dksX3_piles_0 5 rfl rfl)
theorem dX3_piles_6 : decode cX3_piles 6 = .ok (.iload_n 2, 1) := dk_28 (dk_at dksX3_piles_0 6 rfl rfl)
theorem dX3_piles_7 : decode cX3_piles 7 = .ok (.istore 4, 2) := dk_54 4 (dk_at dksX3_piles_0 7 rfl rfl)
theorem dX3_piles_9 : decode cX3_piles 9 = .ok (.aload_n 0, 1) := dk_42 (dk_at dksX3_piles_0 9 rfl rfl)
theorem dX3_piles_10 : decode cX3_piles 10 = .ok (.getfield 74, 3) := dk_180 0 74 (dk_at dksX3_piles_0 10 rfl rfl)
theorem dX3_piles_13 : decode cX3_piles 13 = .ok (.iload 4, 2) := dk_21 4 (dk_at dksX3_piles_0 13 rfl rfl)
theorem dX3_piles_15 : decode cX3_piles 15 = .ok (.sipush 1000, 3) := dk_17 3 232 (dk_at dksX3_piles_0 15 rfl rfl)
theorem dX3_piles_18 : decode cX3_piles 18 = .ok (.iload_n 3, 1) := dk_29 (dk_at dksX3_piles_0 18 rfl rfl)
theorem dX3_piles_19 : decode cX3_piles 19 = .ok (.iconst 3, 1) := dk_6 (dk_at dksX3_piles_0 19 rfl rfl)
theorem dX3_piles_20 : decode cX3_piles 20 = .ok (.if_icmp .ne 8, 3) := dk_160 0 8 (dk_at dksX3_piles_0 20 rfl rfl)
theorem dX3_piles_23 : decode cX3_piles 23 = .ok (.bipush 62, 2) := dk_16 62 (dk_at dksX3_piles_1 0 rfl rfl)
theorem dX3_piles_25 : decode cX3_piles 25 = .ok (.goto 5, 3) := dk_167 0 5 (dk_at dksX3_piles_1 2 rfl rfl)
theorem dX3_piles_28 : decode cX3_piles 28 = .ok (.bipush 41, 2) := dk_16 41 (dk_at dksX3_piles_1 5 rfl rfl)
theorem dX3_piles_30 : decode cX3_piles 30 = .ok (.iadd, 1) := dk_96 (dk_at dksX3_piles_1 7 rfl rfl)
theorem dX3_piles_31 : decode cX3_piles 31 = .ok (.iastore, 1) := dk_79 (dk_at dksX3_piles_1 8 rfl rfl)
theorem dX3_piles_32 : decode cX3_piles 32 = .ok (.iinc 4 1, 3) := dk_132 4 1 (dk_at dksX3_piles_1 9 rfl rfl)
theorem dX3_piles_35 : decode cX3_piles 35 = .ok (.aload_n 0, 1) := dk_42 (dk_at dksX3_piles_1 12 rfl rfl)
theorem dX3_piles_36 : decode cX3_piles 36 = .ok (.iload_n 1, 1) := dk_27 (dk_at dksX3_piles_1 13 rfl rfl)
theorem dX3_piles_37 : decode cX3_piles 37 = .ok (.invokevirtual 157, 3) := dk_182 0 157 (dk_at dksX3_piles_1 14 rfl rfl)
theorem dX3_piles_40 : decode cX3_piles 40 = .ok (.iconst 1, 1) := dk_4 (dk_at dksX3_piles_1 17 rfl rfl)
theorem dX3_piles_41 : decode cX3_piles 41 = .ok (.isub, 1) := dk_100 (dk_at dksX3_piles_1 18 rfl rfl)
theorem dX3_piles_42 : decode cX3_piles 42 = .ok (.istore 5, 2) := dk_54 5 (dk_at dksX3_piles_1 19 rfl rfl)
theorem dX3_piles_44 : decode cX3_piles 44 = .ok (.iload 5, 2) := dk_21 5 (dk_at dksX3_piles_1 21 rfl rfl)
theorem dX3_piles_46 : decode cX3_piles 46 = .ok (.ifCond .lt 77, 3) := dk_155 0 77 (dk_at dksX3_piles_2 0 rfl rfl)
theorem dX3_piles_49 : decode cX3_piles 49 = .ok (.aload_n 0, 1) := dk_42 (dk_at dksX3_piles_2 3 rfl rfl)
theorem dX3_piles_50 : decode cX3_piles 50 = .ok (.getfield 74, 3) := dk_180 0 74 (dk_at dksX3_piles_2 4 rfl rfl)
theorem dX3_piles_53 : decode cX3_piles 53 = .ok (.iload 4, 2) := dk_21 4 (dk_at dksX3_piles_2 7 rfl rfl)
theorem dX3_piles_55 : decode cX3_piles 55 = .ok (.iload_n 3, 1) := dk_29 (dk_at dksX3_piles_2 9 rfl rfl)
theorem dX3_piles_56 : decode cX3_piles 56 = .ok (.iconst 3, 1) := dk_6 (dk_at dksX3_piles_2 10 rfl rfl)
theorem dX3_piles_57 : decode cX3_piles 57 = .ok (.if_icmp .ne 13, 3) := dk_160 0 13 (dk_at dksX3_piles_2 11 rfl rfl)
theorem dX3_piles_60 : decode cX3_piles 60 = .ok (.aload_n 0, 1) := dk_42 (dk_at dksX3_piles_2 14 rfl rfl)
theorem dX3_piles_61 : decode cX3_piles 61 = .ok (.getfield 80, 3) := dk_180 0 80 (dk_at dksX3_piles_2 15 rfl rfl)
theorem dX3_piles_64 : decode cX3_piles 64 = .ok (.iload 5, 2) := dk_21 5 (dk_at dksX3_piles_2 18 rfl rfl)
theorem dX3_piles_66 : decode cX3_piles 66 = .ok (.iaload, 1) := dk_46 (dk_at dksX3_piles_2 20 rfl rfl)
theorem dX3_piles_67 : decode cX3_piles 67 = .ok (.goto 10, 3) := dk_167 0 10 (dk_at dksX3_piles_2 21 rfl rfl)
theorem dX3_piles_70 : decode cX3_piles 70 = .ok (.aload_n 0, 1) := dk_42 (dk_at dksX3_piles_3 0 rfl rfl)
theorem dX3_piles_71 : decode cX3_piles 71 = .ok (.iload_n 1, 1) := dk_27 (dk_at dksX3_piles_3 1 rfl rfl)
theorem dX3_piles_72 : decode cX3_piles 72 = .ok (.iload 5, 2) := dk_21 5 (dk_at dksX3_piles_3 2 rfl rfl)
theorem dX3_piles_74 : decode cX3_piles 74 = .ok (.invokevirtual 187, 3) := dk_182 0 187 (dk_at dksX3_piles_3 4 rfl rfl)
theorem dX3_piles_77 : decode cX3_piles 77 = .ok (.iastore, 1) := dk_79 (dk_at dksX3_piles_3 7 rfl rfl)
theorem dX3_piles_78 : decode cX3_piles 78 = .ok (.iinc 4 1, 3) := dk_132 4 1 (dk_at dksX3_piles_3 8 rfl rfl)
theorem dX3_piles_81 : decode cX3_piles 81 = .ok (.iload_n 3, 1) := dk_29 (dk_at dksX3_piles_3 11 rfl rfl)
theorem dX3_piles_82 : decode cX3_piles 82 = .ok (.iconst 3, 1) := dk_6 (dk_at dksX3_piles_3 12 rfl rfl)
theorem dX3_piles_83 : decode cX3_piles 83 = .ok (.if_icmp .ge 34, 3) := dk_162 0 34 (dk_at dksX3_piles_3 13 rfl rfl)
theorem dX3_piles_86 : decode cX3_piles 86 = .ok (.iload 5, 2) := dk_21 5 (dk_at dksX3_piles_3 16 rfl rfl)
theorem dX3_piles_88 : decode cX3_piles 88 = .ok (.ifCond .le 29, 3) := dk_158 0 29 (dk_at dksX3_piles_3 18 rfl rfl)
theorem dX3_piles_91 : decode cX3_piles 91 = .ok (.aload_n 0, 1) := dk_42 (dk_at dksX3_piles_3 21 rfl rfl)
theorem dX3_piles_92 : decode cX3_piles 92 = .ok (.getfield 74, 3) := dk_180 0 74 (dk_at dksX3_piles_4 0 rfl rfl)
theorem dX3_piles_95 : decode cX3_piles 95 = .ok (.iload 4, 2) := dk_21 4 (dk_at dksX3_piles_4 3 rfl rfl)
theorem dX3_piles_97 : decode cX3_piles 97 = .ok (.sipush 1000, 3) := dk_17 3 232 (dk_at dksX3_piles_4 5 rfl rfl)
theorem dX3_piles_100 : decode cX3_piles 100 = .ok (.iload_n 3, 1) := dk_29 (dk_at dksX3_piles_4 8 rfl rfl)
theorem dX3_piles_101 : decode cX3_piles 101 = .ok (.iconst 1, 1) := dk_4 (dk_at dksX3_piles_4 9 rfl rfl)
theorem dX3_piles_102 : decode cX3_piles 102 = .ok (.if_icmp .ne 8, 3) := dk_160 0 8 (dk_at dksX3_piles_4 10 rfl rfl)
theorem dX3_piles_105 : decode cX3_piles 105 = .ok (.bipush 43, 2) := dk_16 43 (dk_at dksX3_piles_4 13 rfl rfl)
theorem dX3_piles_107 : decode cX3_piles 107 = .ok (.goto 5, 3) := dk_167 0 5 (dk_at dksX3_piles_4 15 rfl rfl)
theorem dX3_piles_110 : decode cX3_piles 110 = .ok (.bipush 42, 2) := dk_16 42 (dk_at dksX3_piles_4 18 rfl rfl)
theorem dX3_piles_112 : decode cX3_piles 112 = .ok (.iadd, 1) := dk_96 (dk_at dksX3_piles_4 20 rfl rfl)
theorem dX3_piles_113 : decode cX3_piles 113 = .ok (.iastore, 1) := dk_79 (dk_at dksX3_piles_4 21 rfl rfl)
theorem dX3_piles_114 : decode cX3_piles 114 = .ok (.iinc 4 1, 3) := dk_132 4 1 (dk_at dksX3_piles_5 0 rfl rfl)
theorem dX3_piles_117 : decode cX3_piles 117 = .ok (.iinc 5 (-1), 3) := dk_132 5 255 (dk_at dksX3_piles_5 3 rfl rfl)
theorem dX3_piles_120 : decode cX3_piles 120 = .ok (.goto (-76), 3) := dk_167 255 180 (dk_at dksX3_piles_5 6 rfl rfl)
theorem dX3_piles_123 : decode cX3_piles 123 = .ok (.aload_n 0, 1) := dk_42 (dk_at dksX3_piles_5 9 rfl rfl)
theorem dX3_piles_124 : decode cX3_piles 124 = .ok (.getfield 74, 3) := dk_180 0 74 (dk_at dksX3_piles_5 10 rfl rfl)
theorem dX3_piles_127 : decode cX3_piles 127 = .ok (.iload 4, 2) := dk_21 4 (dk_at dksX3_piles_5 13 rfl rfl)
theorem dX3_piles_129 : decode cX3_piles 129 = .ok (.sipush 1000, 3) := dk_17 3 232 (dk_at dksX3_piles_5 15 rfl rfl)
theorem dX3_piles_132 : decode cX3_piles 132 = .ok (.iload_n 3, 1) := dk_29 (dk_at dksX3_piles_5 18 rfl rfl)
theorem dX3_piles_133 : decode cX3_piles 133 = .ok (.iconst 3, 1) := dk_6 (dk_at dksX3_piles_5 19 rfl rfl)
theorem dX3_piles_134 : decode cX3_piles 134 = .ok (.if_icmp .ne 8, 3) := dk_160 0 8 (dk_at dksX3_piles_5 20 rfl rfl)
theorem dX3_piles_137 : decode cX3_piles 137 = .ok (.bipush 60, 2) := dk_16 60 (dk_at dksX3_piles_6 0 rfl rfl)
theorem dX3_piles_139 : decode cX3_piles 139 = .ok (.goto 5, 3) := dk_167 0 5 (dk_at dksX3_piles_6 2 rfl rfl)
theorem dX3_piles_142 : decode cX3_piles 142 = .ok (.bipush 40, 2) := dk_16 40 (dk_at dksX3_piles_6 5 rfl rfl)
theorem dX3_piles_144 : decode cX3_piles 144 = .ok (.iadd, 1) := dk_96 (dk_at dksX3_piles_6 7 rfl rfl)
theorem dX3_piles_145 : decode cX3_piles 145 = .ok (.iastore, 1) := dk_79 (dk_at dksX3_piles_6 8 rfl rfl)
theorem dX3_piles_146 : decode cX3_piles 146 = .ok (.iload 4, 2) := dk_21 4 (dk_at dksX3_piles_6 9 rfl rfl)
theorem dX3_piles_148 : decode cX3_piles 148 = .ok (.iconst 1, 1) := dk_4 (dk_at dksX3_piles_6 11 rfl rfl)
theorem dX3_piles_149 : decode cX3_piles 149 = .ok (.iadd, 1) := dk_96 (dk_at dksX3_piles_6 12 rfl rfl)
theorem dX3_piles_150 : decode cX3_piles 150 = .ok (.ireturn, 1) := dk_172 (dk_at dksX3_piles_6 13 rfl rfl)
theorem q95 : (Jvm.Cond.initialized "GraphModulesModel") ∈ lw_all := lw_g (lw_at lw_m1 4 rfl) rfl
theorem q576 : (Jvm.Cond.selects "GraphModulesModel" ({ cls := "java/lang/Object", name := "getClass", desc := "()Ljava/lang/Class;" } : Jvm.MethodName) ({ cls := "java/lang/Object", name := "getClass", desc := "()Ljava/lang/Class;" } : Jvm.MethodName)) ∈ lw_all := lw_g (lw_at lw_m3 5 rfl) rfl
theorem q1371 : (Jvm.Cond.instantiable "GraphModulesModel" (39 : Nat)) ∈ lw_all := lw_g (lw_at lw_m6 80 rfl) rfl
theorem q1373 : (Jvm.Cond.instanceMethod ({ cls := "GraphModulesModel", name := "<init>", desc := "()V" } : Jvm.MethodName)) ∈ lw_all := lw_g (lw_at lw_m6 82 rfl) rfl
theorem q1374 : (Jvm.Cond.code ({ cls := "GraphModulesModel", name := "<init>", desc := "()V" } : Jvm.MethodName) prog_18_method_1_code (1 : Nat) (Option.none : Option Jvm.ClassFile.FieldType)) ∈ lw_all := lw_g (lw_at lw_m6 83 rfl) rfl
theorem q1375 : (Jvm.Cond.methodLink "GraphModulesModel" (1 : Nat) ({ cls := "java/lang/Object", name := "<init>", desc := "()V" } : Jvm.MethodName)) ∈ lw_all := lw_g (lw_at lw_m6 84 rfl) rfl
theorem q1376 : (Jvm.Cond.fieldLink "GraphModulesModel" (7 : Nat) "GraphModulesModel" "g" "[I") ∈ lw_all := lw_g (lw_at lw_m6 85 rfl) rfl
theorem q1377 : (Jvm.Cond.fieldLink "GraphModulesModel" (13 : Nat) "GraphModulesModel" "past" "[I") ∈ lw_all := lw_g (lw_at lw_m6 86 rfl) rfl
theorem q1378 : (Jvm.Cond.fieldLink "GraphModulesModel" (102 : Nat) "GraphModulesModel" "pasts" "I") ∈ lw_all := lw_g (lw_at lw_m6 87 rfl) rfl
theorem q1379 : (Jvm.Cond.fieldLink "GraphModulesModel" (16 : Nat) "GraphModulesModel" "line" "[I") ∈ lw_all := lw_g (lw_at lw_m6 88 rfl) rfl
theorem q1380 : (Jvm.Cond.fieldLink "GraphModulesModel" (109 : Nat) "GraphModulesModel" "lined" "I") ∈ lw_all := lw_g (lw_at lw_m6 89 rfl) rfl
theorem q1381 : (Jvm.Cond.fieldLink "GraphModulesModel" (19 : Nat) "GraphModulesModel" "text" "[I") ∈ lw_all := lw_g (lw_at lw_m6 90 rfl) rfl
theorem q1382 : (Jvm.Cond.fieldLink "GraphModulesModel" (178 : Nat) "GraphModulesModel" "typed" "I") ∈ lw_all := lw_g (lw_at lw_m6 91 rfl) rfl
theorem q1383 : (Jvm.Cond.fieldLink "GraphModulesModel" (112 : Nat) "GraphModulesModel" "areFound" "Z") ∈ lw_all := lw_g (lw_at lw_m6 92 rfl) rfl
theorem q1384 : (Jvm.Cond.fieldLink "GraphModulesModel" (22 : Nat) "GraphModulesModel" "isOne" "[Z") ∈ lw_all := lw_g (lw_at lw_m6 93 rfl) rfl
theorem q1385 : (Jvm.Cond.fieldLink "GraphModulesModel" (26 : Nat) "GraphModulesModel" "list" "[I") ∈ lw_all := lw_g (lw_at lw_m6 94 rfl) rfl
theorem q1386 : (Jvm.Cond.fieldLink "GraphModulesModel" (136 : Nat) "GraphModulesModel" "modules" "I") ∈ lw_all := lw_g (lw_at lw_m6 95 rfl) rfl
theorem q1387 : (Jvm.Cond.fieldLink "GraphModulesModel" (29 : Nat) "GraphModulesModel" "strong" "[I") ∈ lw_all := lw_g (lw_at lw_m6 96 rfl) rfl
theorem q1388 : (Jvm.Cond.fieldLink "GraphModulesModel" (32 : Nat) "GraphModulesModel" "parent" "[I") ∈ lw_all := lw_g (lw_at lw_m6 97 rfl) rfl
theorem q1389 : (Jvm.Cond.fieldLink "GraphModulesModel" (139 : Nat) "GraphModulesModel" "strongs" "I") ∈ lw_all := lw_g (lw_at lw_m6 98 rfl) rfl
theorem q1390 : (Jvm.Cond.fieldLink "GraphModulesModel" (35 : Nat) "GraphModulesModel" "left" "[I") ∈ lw_all := lw_g (lw_at lw_m6 99 rfl) rfl
theorem q1391 : (Jvm.Cond.fieldLink "GraphModulesModel" (38 : Nat) "GraphModulesModel" "inClass" "[Z") ∈ lw_all := lw_g (lw_at lw_m6 100 rfl) rfl
theorem q1392 : (Jvm.Cond.fieldLink "GraphModulesModel" (41 : Nat) "GraphModulesModel" "queue" "[I") ∈ lw_all := lw_g (lw_at lw_m6 101 rfl) rfl
theorem q1393 : (Jvm.Cond.fieldLink "GraphModulesModel" (213 : Nat) "GraphModulesModel" "queued" "I") ∈ lw_all := lw_g (lw_at lw_m6 102 rfl) rfl
theorem q1394 : (Jvm.Cond.fieldLink "GraphModulesModel" (44 : Nat) "GraphModulesModel" "met" "[Z") ∈ lw_all := lw_g (lw_at lw_m6 103 rfl) rfl
theorem q1395 : (Jvm.Cond.fieldLink "GraphModulesModel" (116 : Nat) "GraphModulesModel" "isOriented" "Z") ∈ lw_all := lw_g (lw_at lw_m6 104 rfl) rfl
theorem q1396 : (Jvm.Cond.fieldLink "GraphModulesModel" (231 : Nat) "GraphModulesModel" "canBe" "Z") ∈ lw_all := lw_g (lw_at lw_m6 105 rfl) rfl
theorem q1397 : (Jvm.Cond.fieldLink "GraphModulesModel" (228 : Nat) "GraphModulesModel" "steps" "I") ∈ lw_all := lw_g (lw_at lw_m6 106 rfl) rfl
theorem q1398 : (Jvm.Cond.fieldLink "GraphModulesModel" (47 : Nat) "GraphModulesModel" "step" "[I") ∈ lw_all := lw_g (lw_at lw_m6 107 rfl) rfl
theorem q1399 : (Jvm.Cond.fieldLink "GraphModulesModel" (50 : Nat) "GraphModulesModel" "order" "[I") ∈ lw_all := lw_g (lw_at lw_m6 108 rfl) rfl
theorem q1400 : (Jvm.Cond.fieldLink "GraphModulesModel" (53 : Nat) "GraphModulesModel" "far" "[I") ∈ lw_all := lw_g (lw_at lw_m6 109 rfl) rfl
theorem q1401 : (Jvm.Cond.fieldLink "GraphModulesModel" (56 : Nat) "GraphModulesModel" "opened" "[I") ∈ lw_all := lw_g (lw_at lw_m6 110 rfl) rfl
theorem q1402 : (Jvm.Cond.fieldLink "GraphModulesModel" (59 : Nat) "GraphModulesModel" "sign" "[I") ∈ lw_all := lw_g (lw_at lw_m6 111 rfl) rfl
theorem q1403 : (Jvm.Cond.fieldLink "GraphModulesModel" (62 : Nat) "GraphModulesModel" "graphs" "[I") ∈ lw_all := lw_g (lw_at lw_m6 112 rfl) rfl
theorem q1404 : (Jvm.Cond.fieldLink "GraphModulesModel" (65 : Nat) "GraphModulesModel" "together" "[I") ∈ lw_all := lw_g (lw_at lw_m6 113 rfl) rfl
theorem q1405 : (Jvm.Cond.fieldLink "GraphModulesModel" (68 : Nat) "GraphModulesModel" "latest" "[I") ∈ lw_all := lw_g (lw_at lw_m6 114 rfl) rfl
theorem q1406 : (Jvm.Cond.fieldLink "GraphModulesModel" (71 : Nat) "GraphModulesModel" "read" "[I") ∈ lw_all := lw_g (lw_at lw_m6 115 rfl) rfl
theorem q1407 : (Jvm.Cond.fieldLink "GraphModulesModel" (247 : Nat) "GraphModulesModel" "depth" "I") ∈ lw_all := lw_g (lw_at lw_m6 116 rfl) rfl
theorem q1408 : (Jvm.Cond.fieldLink "GraphModulesModel" (266 : Nat) "GraphModulesModel" "dots" "I") ∈ lw_all := lw_g (lw_at lw_m6 117 rfl) rfl
theorem q1409 : (Jvm.Cond.fieldLink "GraphModulesModel" (250 : Nat) "GraphModulesModel" "isWhole" "Z") ∈ lw_all := lw_g (lw_at lw_m6 118 rfl) rfl
theorem q1410 : (Jvm.Cond.fieldLink "GraphModulesModel" (275 : Nat) "GraphModulesModel" "place" "I") ∈ lw_all := lw_g (lw_at lw_m6 119 rfl) rfl
theorem q1411 : (Jvm.Cond.fieldLink "GraphModulesModel" (260 : Nat) "GraphModulesModel" "isAwaited" "Z") ∈ lw_all := lw_g (lw_at lw_m6 120 rfl) rfl
theorem q1412 : (Jvm.Cond.fieldLink "GraphModulesModel" (74 : Nat) "GraphModulesModel" "pile" "[I") ∈ lw_all := lw_g (lw_at lw_m6 121 rfl) rfl
theorem q1413 : (Jvm.Cond.fieldLink "GraphModulesModel" (77 : Nat) "GraphModulesModel" "written" "[I") ∈ lw_all := lw_g (lw_at lw_m6 122 rfl) rfl
theorem q1414 : (Jvm.Cond.fieldLink "GraphModulesModel" (80 : Nat) "GraphModulesModel" "path" "[I") ∈ lw_all := lw_g (lw_at lw_m6 123 rfl) rfl
theorem q1415 : (Jvm.Cond.laysFinal "GraphModulesModel" "GraphModulesModel" "g" "[I") ∈ lw_all := lw_g (lw_at lw_m6 124 rfl) rfl
theorem q1416 : (Jvm.Cond.soleField "GraphModulesModel" "g") ∈ lw_all := lw_g (lw_at lw_m6 125 rfl) rfl
theorem q1417 : (Jvm.Cond.laysFinal "GraphModulesModel" "GraphModulesModel" "past" "[I") ∈ lw_all := lw_g (lw_at lw_m6 126 rfl) rfl
theorem q1418 : (Jvm.Cond.soleField "GraphModulesModel" "past") ∈ lw_all := lw_g (lw_at lw_m6 127 rfl) rfl
theorem q1419 : (Jvm.Cond.lays "GraphModulesModel" "GraphModulesModel" "pasts" "I") ∈ lw_all := lw_g (lw_at lw_m6 128 rfl) rfl
theorem q1420 : (Jvm.Cond.soleField "GraphModulesModel" "pasts") ∈ lw_all := lw_g (lw_at lw_m6 129 rfl) rfl
theorem q1421 : (Jvm.Cond.laysFinal "GraphModulesModel" "GraphModulesModel" "line" "[I") ∈ lw_all := lw_g (lw_at lw_m6 130 rfl) rfl
theorem q1422 : (Jvm.Cond.soleField "GraphModulesModel" "line") ∈ lw_all := lw_g (lw_at lw_m6 131 rfl) rfl
theorem q1423 : (Jvm.Cond.lays "GraphModulesModel" "GraphModulesModel" "lined" "I") ∈ lw_all := lw_g (lw_at lw_m6 132 rfl) rfl
theorem q1424 : (Jvm.Cond.soleField "GraphModulesModel" "lined") ∈ lw_all := lw_g (lw_at lw_m6 133 rfl) rfl
theorem q1425 : (Jvm.Cond.laysFinal "GraphModulesModel" "GraphModulesModel" "text" "[I") ∈ lw_all := lw_g (lw_at lw_m6 134 rfl) rfl
theorem q1426 : (Jvm.Cond.soleField "GraphModulesModel" "text") ∈ lw_all := lw_g (lw_at lw_m6 135 rfl) rfl
theorem q1427 : (Jvm.Cond.lays "GraphModulesModel" "GraphModulesModel" "typed" "I") ∈ lw_all := lw_g (lw_at lw_m6 136 rfl) rfl
theorem q1428 : (Jvm.Cond.soleField "GraphModulesModel" "typed") ∈ lw_all := lw_g (lw_at lw_m6 137 rfl) rfl
theorem q1429 : (Jvm.Cond.lays "GraphModulesModel" "GraphModulesModel" "areFound" "Z") ∈ lw_all := lw_g (lw_at lw_m6 138 rfl) rfl
theorem q1430 : (Jvm.Cond.soleField "GraphModulesModel" "areFound") ∈ lw_all := lw_g (lw_at lw_m6 139 rfl) rfl
theorem q1431 : (Jvm.Cond.laysFinal "GraphModulesModel" "GraphModulesModel" "isOne" "[Z") ∈ lw_all := lw_g (lw_at lw_m6 140 rfl) rfl
theorem q1432 : (Jvm.Cond.soleField "GraphModulesModel" "isOne") ∈ lw_all := lw_g (lw_at lw_m6 141 rfl) rfl
theorem q1433 : (Jvm.Cond.laysFinal "GraphModulesModel" "GraphModulesModel" "list" "[I") ∈ lw_all := lw_g (lw_at lw_m6 142 rfl) rfl
theorem q1434 : (Jvm.Cond.soleField "GraphModulesModel" "list") ∈ lw_all := lw_g (lw_at lw_m6 143 rfl) rfl
theorem q1435 : (Jvm.Cond.lays "GraphModulesModel" "GraphModulesModel" "modules" "I") ∈ lw_all := lw_g (lw_at lw_m6 144 rfl) rfl
theorem q1436 : (Jvm.Cond.soleField "GraphModulesModel" "modules") ∈ lw_all := lw_g (lw_at lw_m6 145 rfl) rfl
theorem q1437 : (Jvm.Cond.laysFinal "GraphModulesModel" "GraphModulesModel" "strong" "[I") ∈ lw_all := lw_g (lw_at lw_m6 146 rfl) rfl
theorem q1438 : (Jvm.Cond.soleField "GraphModulesModel" "strong") ∈ lw_all := lw_g (lw_at lw_m6 147 rfl) rfl
theorem q1439 : (Jvm.Cond.laysFinal "GraphModulesModel" "GraphModulesModel" "parent" "[I") ∈ lw_all := lw_g (lw_at lw_m6 148 rfl) rfl
theorem q1440 : (Jvm.Cond.soleField "GraphModulesModel" "parent") ∈ lw_all := lw_g (lw_at lw_m6 149 rfl) rfl
theorem q1441 : (Jvm.Cond.lays "GraphModulesModel" "GraphModulesModel" "strongs" "I") ∈ lw_all := lw_g (lw_at lw_m6 150 rfl) rfl
theorem q1442 : (Jvm.Cond.soleField "GraphModulesModel" "strongs") ∈ lw_all := lw_g (lw_at lw_m6 151 rfl) rfl
theorem q1443 : (Jvm.Cond.laysFinal "GraphModulesModel" "GraphModulesModel" "left" "[I") ∈ lw_all := lw_g (lw_at lw_m6 152 rfl) rfl
theorem q1444 : (Jvm.Cond.soleField "GraphModulesModel" "left") ∈ lw_all := lw_g (lw_at lw_m6 153 rfl) rfl
theorem q1445 : (Jvm.Cond.laysFinal "GraphModulesModel" "GraphModulesModel" "inClass" "[Z") ∈ lw_all := lw_g (lw_at lw_m6 154 rfl) rfl
theorem q1446 : (Jvm.Cond.soleField "GraphModulesModel" "inClass") ∈ lw_all := lw_g (lw_at lw_m6 155 rfl) rfl
theorem q1447 : (Jvm.Cond.laysFinal "GraphModulesModel" "GraphModulesModel" "queue" "[I") ∈ lw_all := lw_g (lw_at lw_m6 156 rfl) rfl
theorem q1448 : (Jvm.Cond.soleField "GraphModulesModel" "queue") ∈ lw_all := lw_g (lw_at lw_m6 157 rfl) rfl
theorem q1449 : (Jvm.Cond.lays "GraphModulesModel" "GraphModulesModel" "queued" "I") ∈ lw_all := lw_g (lw_at lw_m6 158 rfl) rfl
theorem q1450 : (Jvm.Cond.soleField "GraphModulesModel" "queued") ∈ lw_all := lw_g (lw_at lw_m6 159 rfl) rfl
theorem q1451 : (Jvm.Cond.laysFinal "GraphModulesModel" "GraphModulesModel" "met" "[Z") ∈ lw_all := lw_g (lw_at lw_m6 160 rfl) rfl
theorem q1452 : (Jvm.Cond.soleField "GraphModulesModel" "met") ∈ lw_all := lw_g (lw_at lw_m6 161 rfl) rfl
theorem q1453 : (Jvm.Cond.lays "GraphModulesModel" "GraphModulesModel" "isOriented" "Z") ∈ lw_all := lw_g (lw_at lw_m6 162 rfl) rfl
theorem q1454 : (Jvm.Cond.soleField "GraphModulesModel" "isOriented") ∈ lw_all := lw_g (lw_at lw_m6 163 rfl) rfl
theorem q1455 : (Jvm.Cond.lays "GraphModulesModel" "GraphModulesModel" "canBe" "Z") ∈ lw_all := lw_g (lw_at lw_m6 164 rfl) rfl
theorem q1456 : (Jvm.Cond.soleField "GraphModulesModel" "canBe") ∈ lw_all := lw_g (lw_at lw_m6 165 rfl) rfl
theorem q1457 : (Jvm.Cond.lays "GraphModulesModel" "GraphModulesModel" "steps" "I") ∈ lw_all := lw_g (lw_at lw_m6 166 rfl) rfl
theorem q1458 : (Jvm.Cond.soleField "GraphModulesModel" "steps") ∈ lw_all := lw_g (lw_at lw_m6 167 rfl) rfl
theorem q1459 : (Jvm.Cond.laysFinal "GraphModulesModel" "GraphModulesModel" "step" "[I") ∈ lw_all := lw_g (lw_at lw_m6 168 rfl) rfl
theorem q1460 : (Jvm.Cond.soleField "GraphModulesModel" "step") ∈ lw_all := lw_g (lw_at lw_m6 169 rfl) rfl
theorem q1461 : (Jvm.Cond.laysFinal "GraphModulesModel" "GraphModulesModel" "order" "[I") ∈ lw_all := lw_g (lw_at lw_m6 170 rfl) rfl
theorem q1462 : (Jvm.Cond.soleField "GraphModulesModel" "order") ∈ lw_all := lw_g (lw_at lw_m6 171 rfl) rfl
theorem q1463 : (Jvm.Cond.laysFinal "GraphModulesModel" "GraphModulesModel" "far" "[I") ∈ lw_all := lw_g (lw_at lw_m6 172 rfl) rfl
theorem q1464 : (Jvm.Cond.soleField "GraphModulesModel" "far") ∈ lw_all := lw_g (lw_at lw_m6 173 rfl) rfl
theorem q1465 : (Jvm.Cond.laysFinal "GraphModulesModel" "GraphModulesModel" "opened" "[I") ∈ lw_all := lw_g (lw_at lw_m6 174 rfl) rfl
theorem q1466 : (Jvm.Cond.soleField "GraphModulesModel" "opened") ∈ lw_all := lw_g (lw_at lw_m6 175 rfl) rfl
theorem q1467 : (Jvm.Cond.laysFinal "GraphModulesModel" "GraphModulesModel" "sign" "[I") ∈ lw_all := lw_g (lw_at lw_m6 176 rfl) rfl
theorem q1468 : (Jvm.Cond.soleField "GraphModulesModel" "sign") ∈ lw_all := lw_g (lw_at lw_m6 177 rfl) rfl
theorem q1469 : (Jvm.Cond.laysFinal "GraphModulesModel" "GraphModulesModel" "graphs" "[I") ∈ lw_all := lw_g (lw_at lw_m6 178 rfl) rfl
theorem q1470 : (Jvm.Cond.soleField "GraphModulesModel" "graphs") ∈ lw_all := lw_g (lw_at lw_m6 179 rfl) rfl
theorem q1471 : (Jvm.Cond.laysFinal "GraphModulesModel" "GraphModulesModel" "together" "[I") ∈ lw_all := lw_g (lw_at lw_m6 180 rfl) rfl
theorem q1472 : (Jvm.Cond.soleField "GraphModulesModel" "together") ∈ lw_all := lw_g (lw_at lw_m6 181 rfl) rfl
theorem q1473 : (Jvm.Cond.laysFinal "GraphModulesModel" "GraphModulesModel" "latest" "[I") ∈ lw_all := lw_g (lw_at lw_m6 182 rfl) rfl
theorem q1474 : (Jvm.Cond.soleField "GraphModulesModel" "latest") ∈ lw_all := lw_g (lw_at lw_m6 183 rfl) rfl
theorem q1475 : (Jvm.Cond.laysFinal "GraphModulesModel" "GraphModulesModel" "read" "[I") ∈ lw_all := lw_g (lw_at lw_m6 184 rfl) rfl
theorem q1476 : (Jvm.Cond.soleField "GraphModulesModel" "read") ∈ lw_all := lw_g (lw_at lw_m6 185 rfl) rfl
theorem q1477 : (Jvm.Cond.lays "GraphModulesModel" "GraphModulesModel" "depth" "I") ∈ lw_all := lw_g (lw_at lw_m6 186 rfl) rfl
theorem q1478 : (Jvm.Cond.soleField "GraphModulesModel" "depth") ∈ lw_all := lw_g (lw_at lw_m6 187 rfl) rfl
theorem q1479 : (Jvm.Cond.lays "GraphModulesModel" "GraphModulesModel" "dots" "I") ∈ lw_all := lw_g (lw_at lw_m6 188 rfl) rfl
theorem q1480 : (Jvm.Cond.soleField "GraphModulesModel" "dots") ∈ lw_all := lw_g (lw_at lw_m6 189 rfl) rfl
theorem q1481 : (Jvm.Cond.lays "GraphModulesModel" "GraphModulesModel" "isWhole" "Z") ∈ lw_all := lw_g (lw_at lw_m6 190 rfl) rfl
theorem q1482 : (Jvm.Cond.soleField "GraphModulesModel" "isWhole") ∈ lw_all := lw_g (lw_at lw_m6 191 rfl) rfl
theorem q1483 : (Jvm.Cond.lays "GraphModulesModel" "GraphModulesModel" "place" "I") ∈ lw_all := lw_g (lw_at lw_m6 192 rfl) rfl
theorem q1484 : (Jvm.Cond.soleField "GraphModulesModel" "place") ∈ lw_all := lw_g (lw_at lw_m6 193 rfl) rfl
theorem q1485 : (Jvm.Cond.lays "GraphModulesModel" "GraphModulesModel" "isAwaited" "Z") ∈ lw_all := lw_g (lw_at lw_m6 194 rfl) rfl
theorem q1486 : (Jvm.Cond.soleField "GraphModulesModel" "isAwaited") ∈ lw_all := lw_g (lw_at lw_m6 195 rfl) rfl
theorem q1487 : (Jvm.Cond.laysFinal "GraphModulesModel" "GraphModulesModel" "pile" "[I") ∈ lw_all := lw_g (lw_at lw_m6 196 rfl) rfl
theorem q1488 : (Jvm.Cond.soleField "GraphModulesModel" "pile") ∈ lw_all := lw_g (lw_at lw_m6 197 rfl) rfl
theorem q1489 : (Jvm.Cond.laysFinal "GraphModulesModel" "GraphModulesModel" "written" "[I") ∈ lw_all := lw_g (lw_at lw_m6 198 rfl) rfl
theorem q1490 : (Jvm.Cond.soleField "GraphModulesModel" "written") ∈ lw_all := lw_g (lw_at lw_m6 199 rfl) rfl
theorem q1491 : (Jvm.Cond.laysFinal "GraphModulesModel" "GraphModulesModel" "path" "[I") ∈ lw_all := lw_g (lw_at lw_m6 200 rfl) rfl
theorem q1492 : (Jvm.Cond.soleField "GraphModulesModel" "path") ∈ lw_all := lw_g (lw_at lw_m6 201 rfl) rfl
theorem q1493 : (Jvm.Cond.superclass "GraphModulesModel" "java/lang/Object") ∈ lw_all := lw_g (lw_at lw_m6 202 rfl) rfl
theorem q1495 : (Jvm.Cond.instanceMethod ({ cls := "GraphModulesModel", name := "begin", desc := "(I)I" } : Jvm.MethodName)) ∈ lw_all := lw_g (lw_at lw_m6 204 rfl) rfl
theorem q1496 : (Jvm.Cond.selects "GraphModulesModel" ({ cls := "GraphModulesModel", name := "begin", desc := "(I)I" } : Jvm.MethodName) ({ cls := "GraphModulesModel", name := "begin", desc := "(I)I" } : Jvm.MethodName)) ∈ lw_all := lw_g (lw_at lw_m6 205 rfl) rfl
theorem q1497 : (Jvm.Cond.code ({ cls := "GraphModulesModel", name := "begin", desc := "(I)I" } : Jvm.MethodName) prog_18_method_16_code (3 : Nat) (Option.some Jvm.ClassFile.FieldType.int)) ∈ lw_all := lw_g (lw_at lw_m6 206 rfl) rfl
theorem q1498 : (Jvm.Cond.methodLink "GraphModulesModel" (87 : Nat) ({ cls := "GraphModulesModel", name := "in", desc := "(III)Z" } : Jvm.MethodName)) ∈ lw_all := lw_g (lw_at lw_m6 207 rfl) rfl
theorem q1499 : (Jvm.Cond.static ({ cls := "GraphModulesModel", name := "in", desc := "(III)Z" } : Jvm.MethodName)) ∈ lw_all := lw_g (lw_at lw_m6 208 rfl) rfl
theorem q1500 : (Jvm.Cond.code ({ cls := "GraphModulesModel", name := "in", desc := "(III)Z" } : Jvm.MethodName) prog_18_method_3_code (3 : Nat) (Option.some Jvm.ClassFile.FieldType.boolean)) ∈ lw_all := lw_g (lw_at lw_m6 209 rfl) rfl
theorem q1501 : (Jvm.Cond.methodLink "GraphModulesModel" (119 : Nat) ({ cls := "GraphModulesModel", name := "changes", desc := "()V" } : Jvm.MethodName)) ∈ lw_all := lw_g (lw_at lw_m6 210 rfl) rfl
theorem q1502 : (Jvm.Cond.privateMethod ({ cls := "GraphModulesModel", name := "changes", desc := "()V" } : Jvm.MethodName)) ∈ lw_tbl := lw_at lw_m6 211 rfl
theorem q1503 : (Jvm.Cond.instanceMethod ({ cls := "GraphModulesModel", name := "changes", desc := "()V" } : Jvm.MethodName)) ∈ lw_all := lw_g (lw_at lw_m6 212 rfl) rfl
theorem q1504 : (Jvm.Cond.code ({ cls := "GraphModulesModel", name := "changes", desc := "()V" } : Jvm.MethodName) prog_18_method_13_code (2 : Nat) (Option.none : Option Jvm.ClassFile.FieldType)) ∈ lw_all := lw_g (lw_at lw_m6 213 rfl) rfl
theorem q1505 : (Jvm.Cond.methodLink "GraphModulesModel" (106 : Nat) ({ cls := "GraphModulesModel", name := "isOther", desc := "()V" } : Jvm.MethodName)) ∈ lw_all := lw_g (lw_at lw_m6 214 rfl) rfl
theorem q1506 : (Jvm.Cond.privateMethod ({ cls := "GraphModulesModel", name := "isOther", desc := "()V" } : Jvm.MethodName)) ∈ lw_tbl := lw_at lw_m6 215 rfl
theorem q1507 : (Jvm.Cond.instanceMethod ({ cls := "GraphModulesModel", name := "isOther", desc := "()V" } : Jvm.MethodName)) ∈ lw_all := lw_g (lw_at lw_m6 216 rfl) rfl
theorem q1508 : (Jvm.Cond.code ({ cls := "GraphModulesModel", name := "isOther", desc := "()V" } : Jvm.MethodName) prog_18_method_14_code (1 : Nat) (Option.none : Option Jvm.ClassFile.FieldType)) ∈ lw_all := lw_g (lw_at lw_m6 217 rfl) rfl
theorem q1510 : (Jvm.Cond.instanceMethod ({ cls := "GraphModulesModel", name := "set", desc := "(III)I" } : Jvm.MethodName)) ∈ lw_all := lw_g (lw_at lw_m6 219 rfl) rfl
theorem q1511 : (Jvm.Cond.selects "GraphModulesModel" ({ cls := "GraphModulesModel", name := "set", desc := "(III)I" } : Jvm.MethodName) ({ cls := "GraphModulesModel", name := "set", desc := "(III)I" } : Jvm.MethodName)) ∈ lw_all := lw_g (lw_at lw_m6 220 rfl) rfl
theorem q1512 : (Jvm.Cond.code ({ cls := "GraphModulesModel", name := "set", desc := "(III)I" } : Jvm.MethodName) prog_18_method_17_code (4 : Nat) (Option.some Jvm.ClassFile.FieldType.int)) ∈ lw_all := lw_g (lw_at lw_m6 221 rfl) rfl
theorem q1513 : (Jvm.Cond.methodLink "GraphModulesModel" (122 : Nat) ({ cls := "GraphModulesModel", name := "isVertex", desc := "(I)Z" } : Jvm.MethodName)) ∈ lw_all := lw_g (lw_at lw_m6 222 rfl) rfl
theorem q1514 : (Jvm.Cond.privateMethod ({ cls := "GraphModulesModel", name := "isVertex", desc := "(I)Z" } : Jvm.MethodName)) ∈ lw_tbl := lw_at lw_m6 223 rfl
theorem q1515 : (Jvm.Cond.instanceMethod ({ cls := "GraphModulesModel", name := "isVertex", desc := "(I)Z" } : Jvm.MethodName)) ∈ lw_all := lw_g (lw_at lw_m6 224 rfl) rfl
theorem q1516 : (Jvm.Cond.code ({ cls := "GraphModulesModel", name := "isVertex", desc := "(I)Z" } : Jvm.MethodName) prog_18_method_4_code (2 : Nat) (Option.some Jvm.ClassFile.FieldType.boolean)) ∈ lw_all := lw_g (lw_at lw_m6 225 rfl) rfl
theorem q1517 : (Jvm.Cond.methodLink "GraphModulesModel" (126 : Nat) ({ cls := "GraphModulesModel", name := "areLinked", desc := "(II)Z" } : Jvm.MethodName)) ∈ lw_all := lw_g (lw_at lw_m6 226 rfl) rfl
theorem q1518 : (Jvm.Cond.privateMethod ({ cls := "GraphModulesModel", name := "areLinked", desc := "(II)Z" } : Jvm.MethodName)) ∈ lw_tbl := lw_at lw_m6 227 rfl
theorem q1519 : (Jvm.Cond.instanceMethod ({ cls := "GraphModulesModel", name := "areLinked", desc := "(II)Z" } : Jvm.MethodName)) ∈ lw_all := lw_g (lw_at lw_m6 228 rfl) rfl
theorem q1520 : (Jvm.Cond.code ({ cls := "GraphModulesModel", name := "areLinked", desc := "(II)Z" } : Jvm.MethodName) prog_18_method_11_code (3 : Nat) (Option.some Jvm.ClassFile.FieldType.boolean)) ∈ lw_all := lw_g (lw_at lw_m6 229 rfl) rfl
theorem q1521 : (Jvm.Cond.methodLink "GraphModulesModel" (95 : Nat) ({ cls := "GraphModulesModel", name := "near", desc := "(I)I" } : Jvm.MethodName)) ∈ lw_all := lw_g (lw_at lw_m6 230 rfl) rfl
theorem q1522 : (Jvm.Cond.privateMethod ({ cls := "GraphModulesModel", name := "near", desc := "(I)I" } : Jvm.MethodName)) ∈ lw_tbl := lw_at lw_m6 231 rfl
theorem q1523 : (Jvm.Cond.instanceMethod ({ cls := "GraphModulesModel", name := "near", desc := "(I)I" } : Jvm.MethodName)) ∈ lw_all := lw_g (lw_at lw_m6 232 rfl) rfl
theorem q1524 : (Jvm.Cond.code ({ cls := "GraphModulesModel", name := "near", desc := "(I)I" } : Jvm.MethodName) prog_18_method_10_code (2 : Nat) (Option.some Jvm.ClassFile.FieldType.int)) ∈ lw_all := lw_g (lw_at lw_m6 233 rfl) rfl
theorem q1525 : (Jvm.Cond.methodLink "GraphModulesModel" (91 : Nat) ({ cls := "GraphModulesModel", name := "has", desc := "(II)Z" } : Jvm.MethodName)) ∈ lw_all := lw_g (lw_at lw_m6 234 rfl) rfl
theorem q1526 : (Jvm.Cond.static ({ cls := "GraphModulesModel", name := "has", desc := "(II)Z" } : Jvm.MethodName)) ∈ lw_all := lw_g (lw_at lw_m6 235 rfl) rfl
theorem q1527 : (Jvm.Cond.code ({ cls := "GraphModulesModel", name := "has", desc := "(II)Z" } : Jvm.MethodName) prog_18_method_7_code (2 : Nat) (Option.some Jvm.ClassFile.FieldType.boolean)) ∈ lw_all := lw_g (lw_at lw_m6 236 rfl) rfl
theorem q1528 : (Jvm.Cond.methodLink "GraphModulesModel" (129 : Nat) ({ cls := "GraphModulesModel", name := "edges", desc := "()I" } : Jvm.MethodName)) ∈ lw_all := lw_g (lw_at lw_m6 237 rfl) rfl
theorem q1529 : (Jvm.Cond.privateMethod ({ cls := "GraphModulesModel", name := "edges", desc := "()I" } : Jvm.MethodName)) ∈ lw_tbl := lw_at lw_m6 238 rfl
theorem q1530 : (Jvm.Cond.instanceMethod ({ cls := "GraphModulesModel", name := "edges", desc := "()I" } : Jvm.MethodName)) ∈ lw_all := lw_g (lw_at lw_m6 239 rfl) rfl
theorem q1531 : (Jvm.Cond.code ({ cls := "GraphModulesModel", name := "edges", desc := "()I" } : Jvm.MethodName) prog_18_method_12_code (3 : Nat) (Option.some Jvm.ClassFile.FieldType.int)) ∈ lw_all := lw_g (lw_at lw_m7 0 rfl) rfl
theorem q1532 : (Jvm.Cond.methodLink "GraphModulesModel" (99 : Nat) ({ cls := "GraphModulesModel", name := "ones", desc := "(I)I" } : Jvm.MethodName)) ∈ lw_all := lw_g (lw_at lw_m7 1 rfl) rfl
theorem q1533 : (Jvm.Cond.static ({ cls := "GraphModulesModel", name := "ones", desc := "(I)I" } : Jvm.MethodName)) ∈ lw_all := lw_g (lw_at lw_m7 2 rfl) rfl
theorem q1534 : (Jvm.Cond.code ({ cls := "GraphModulesModel", name := "ones", desc := "(I)I" } : Jvm.MethodName) prog_18_method_8_code (3 : Nat) (Option.some Jvm.ClassFile.FieldType.int)) ∈ lw_all := lw_g (lw_at lw_m7 3 rfl) rfl
theorem q1536 : (Jvm.Cond.instanceMethod ({ cls := "GraphModulesModel", name := "complement", desc := "()I" } : Jvm.MethodName)) ∈ lw_all := lw_g (lw_at lw_m7 5 rfl) rfl
theorem q1537 : (Jvm.Cond.selects "GraphModulesModel" ({ cls := "GraphModulesModel", name := "complement", desc := "()I" } : Jvm.MethodName) ({ cls := "GraphModulesModel", name := "complement", desc := "()I" } : Jvm.MethodName)) ∈ lw_all := lw_g (lw_at lw_m7 6 rfl) rfl
theorem q1538 : (Jvm.Cond.code ({ cls := "GraphModulesModel", name := "complement", desc := "()I" } : Jvm.MethodName) prog_18_method_18_code (2 : Nat) (Option.some Jvm.ClassFile.FieldType.int)) ∈ lw_all := lw_g (lw_at lw_m7 7 rfl) rfl
theorem q1539 : (Jvm.Cond.methodLink "GraphModulesModel" (83 : Nat) ({ cls := "GraphModulesModel", name := "all", desc := "()I" } : Jvm.MethodName)) ∈ lw_all := lw_g (lw_at lw_m7 8 rfl) rfl
theorem q1540 : (Jvm.Cond.privateMethod ({ cls := "GraphModulesModel", name := "all", desc := "()I" } : Jvm.MethodName)) ∈ lw_tbl := lw_at lw_m7 9 rfl
theorem q1541 : (Jvm.Cond.instanceMethod ({ cls := "GraphModulesModel", name := "all", desc := "()I" } : Jvm.MethodName)) ∈ lw_all := lw_g (lw_at lw_m7 10 rfl) rfl
theorem q1542 : (Jvm.Cond.code ({ cls := "GraphModulesModel", name := "all", desc := "()I" } : Jvm.MethodName) prog_18_method_5_code (1 : Nat) (Option.some Jvm.ClassFile.FieldType.int)) ∈ lw_all := lw_g (lw_at lw_m7 11 rfl) rfl
theorem q1544 : (Jvm.Cond.instanceMethod ({ cls := "GraphModulesModel", name := "twin", desc := "(II)I" } : Jvm.MethodName)) ∈ lw_all := lw_g (lw_at lw_m7 13 rfl) rfl
theorem q1545 : (Jvm.Cond.selects "GraphModulesModel" ({ cls := "GraphModulesModel", name := "twin", desc := "(II)I" } : Jvm.MethodName) ({ cls := "GraphModulesModel", name := "twin", desc := "(II)I" } : Jvm.MethodName)) ∈ lw_all := lw_g (lw_at lw_m7 14 rfl) rfl
theorem q1546 : (Jvm.Cond.code ({ cls := "GraphModulesModel", name := "twin", desc := "(II)I" } : Jvm.MethodName) prog_18_method_19_code (5 : Nat) (Option.some Jvm.ClassFile.FieldType.int)) ∈ lw_all := lw_g (lw_at lw_m7 15 rfl) rfl
theorem q1547 : (Jvm.Cond.methodLink "GraphModulesModel" (132 : Nat) ({ cls := "GraphModulesModel", name := "links", desc := "(II)V" } : Jvm.MethodName)) ∈ lw_all := lw_g (lw_at lw_m7 16 rfl) rfl
theorem q1548 : (Jvm.Cond.privateMethod ({ cls := "GraphModulesModel", name := "links", desc := "(II)V" } : Jvm.MethodName)) ∈ lw_tbl := lw_at lw_m7 17 rfl
theorem q1549 : (Jvm.Cond.instanceMethod ({ cls := "GraphModulesModel", name := "links", desc := "(II)V" } : Jvm.MethodName)) ∈ lw_all := lw_g (lw_at lw_m7 18 rfl) rfl
theorem q1550 : (Jvm.Cond.code ({ cls := "GraphModulesModel", name := "links", desc := "(II)V" } : Jvm.MethodName) prog_18_method_15_code (3 : Nat) (Option.none : Option Jvm.ClassFile.FieldType)) ∈ lw_all := lw_g (lw_at lw_m7 19 rfl) rfl
theorem q1552 : (Jvm.Cond.instanceMethod ({ cls := "GraphModulesModel", name := "remove", desc := "(I)I" } : Jvm.MethodName)) ∈ lw_all := lw_g (lw_at lw_m7 21 rfl) rfl
theorem q1553 : (Jvm.Cond.selects "GraphModulesModel" ({ cls := "GraphModulesModel", name := "remove", desc := "(I)I" } : Jvm.MethodName) ({ cls := "GraphModulesModel", name := "remove", desc := "(I)I" } : Jvm.MethodName)) ∈ lw_all := lw_g (lw_at lw_m7 22 rfl) rfl
theorem q1554 : (Jvm.Cond.code ({ cls := "GraphModulesModel", name := "remove", desc := "(I)I" } : Jvm.MethodName) prog_18_method_20_code (4 : Nat) (Option.some Jvm.ClassFile.FieldType.int)) ∈ lw_all := lw_g (lw_at lw_m7 23 rfl) rfl
theorem q1556 : (Jvm.Cond.instanceMethod ({ cls := "GraphModulesModel", name := "linked", desc := "(II)I" } : Jvm.MethodName)) ∈ lw_all := lw_g (lw_at lw_m7 25 rfl) rfl
theorem q1557 : (Jvm.Cond.selects "GraphModulesModel" ({ cls := "GraphModulesModel", name := "linked", desc := "(II)I" } : Jvm.MethodName) ({ cls := "GraphModulesModel", name := "linked", desc := "(II)I" } : Jvm.MethodName)) ∈ lw_all := lw_g (lw_at lw_m7 26 rfl) rfl
theorem q1558 : (Jvm.Cond.code ({ cls := "GraphModulesModel", name := "linked", desc := "(II)I" } : Jvm.MethodName) prog_18_method_21_code (3 : Nat) (Option.some Jvm.ClassFile.FieldType.int)) ∈ lw_all := lw_g (lw_at lw_m7 27 rfl) rfl
theorem q1560 : (Jvm.Cond.instanceMethod ({ cls := "GraphModulesModel", name := "undo", desc := "()I" } : Jvm.MethodName)) ∈ lw_all := lw_g (lw_at lw_m7 29 rfl) rfl
theorem q1561 : (Jvm.Cond.selects "GraphModulesModel" ({ cls := "GraphModulesModel", name := "undo", desc := "()I" } : Jvm.MethodName) ({ cls := "GraphModulesModel", name := "undo", desc := "()I" } : Jvm.MethodName)) ∈ lw_all := lw_g (lw_at lw_m7 30 rfl) rfl
theorem q1562 : (Jvm.Cond.code ({ cls := "GraphModulesModel", name := "undo", desc := "()I" } : Jvm.MethodName) prog_18_method_22_code (2 : Nat) (Option.some Jvm.ClassFile.FieldType.int)) ∈ lw_all := lw_g (lw_at lw_m7 31 rfl) rfl
theorem q1564 : (Jvm.Cond.instanceMethod ({ cls := "GraphModulesModel", name := "count", desc := "(I)I" } : Jvm.MethodName)) ∈ lw_all := lw_g (lw_at lw_m7 33 rfl) rfl
theorem q1565 : (Jvm.Cond.selects "GraphModulesModel" ({ cls := "GraphModulesModel", name := "count", desc := "(I)I" } : Jvm.MethodName) ({ cls := "GraphModulesModel", name := "count", desc := "(I)I" } : Jvm.MethodName)) ∈ lw_all := lw_g (lw_at lw_m7 34 rfl) rfl
theorem q1566 : (Jvm.Cond.code ({ cls := "GraphModulesModel", name := "count", desc := "(I)I" } : Jvm.MethodName) prog_18_method_35_code (2 : Nat) (Option.some Jvm.ClassFile.FieldType.int)) ∈ lw_all := lw_g (lw_at lw_m7 35 rfl) rfl
theorem q1567 : (Jvm.Cond.methodLink "GraphModulesModel" (148 : Nat) ({ cls := "GraphModulesModel", name := "finds", desc := "()V" } : Jvm.MethodName)) ∈ lw_all := lw_g (lw_at lw_m7 36 rfl) rfl
theorem q1568 : (Jvm.Cond.privateMethod ({ cls := "GraphModulesModel", name := "finds", desc := "()V" } : Jvm.MethodName)) ∈ lw_tbl := lw_at lw_m7 37 rfl
theorem q1569 : (Jvm.Cond.instanceMethod ({ cls := "GraphModulesModel", name := "finds", desc := "()V" } : Jvm.MethodName)) ∈ lw_all := lw_g (lw_at lw_m7 38 rfl) rfl
theorem q1570 : (Jvm.Cond.code ({ cls := "GraphModulesModel", name := "finds", desc := "()V" } : Jvm.MethodName) prog_18_method_25_code (4 : Nat) (Option.none : Option Jvm.ClassFile.FieldType)) ∈ lw_all := lw_g (lw_at lw_m7 39 rfl) rfl
theorem q1571 : (Jvm.Cond.methodLink "GraphModulesModel" (142 : Nat) ({ cls := "GraphModulesModel", name := "splittersOf", desc := "(I)I" } : Jvm.MethodName)) ∈ lw_all := lw_g (lw_at lw_m7 40 rfl) rfl
theorem q1572 : (Jvm.Cond.privateMethod ({ cls := "GraphModulesModel", name := "splittersOf", desc := "(I)I" } : Jvm.MethodName)) ∈ lw_tbl := lw_at lw_m7 41 rfl
theorem q1573 : (Jvm.Cond.instanceMethod ({ cls := "GraphModulesModel", name := "splittersOf", desc := "(I)I" } : Jvm.MethodName)) ∈ lw_all := lw_g (lw_at lw_m7 42 rfl) rfl
theorem q1574 : (Jvm.Cond.code ({ cls := "GraphModulesModel", name := "splittersOf", desc := "(I)I" } : Jvm.MethodName) prog_18_method_23_code (5 : Nat) (Option.some Jvm.ClassFile.FieldType.int)) ∈ lw_all := lw_g (lw_at lw_m7 43 rfl) rfl
theorem q1575 : (Jvm.Cond.methodLink "GraphModulesModel" (145 : Nat) ({ cls := "GraphModulesModel", name := "isStrong", desc := "(I)Z" } : Jvm.MethodName)) ∈ lw_all := lw_g (lw_at lw_m7 44 rfl) rfl
theorem q1576 : (Jvm.Cond.privateMethod ({ cls := "GraphModulesModel", name := "isStrong", desc := "(I)Z" } : Jvm.MethodName)) ∈ lw_tbl := lw_at lw_m7 45 rfl
theorem q1577 : (Jvm.Cond.instanceMethod ({ cls := "GraphModulesModel", name := "isStrong", desc := "(I)Z" } : Jvm.MethodName)) ∈ lw_all := lw_g (lw_at lw_m7 46 rfl) rfl
theorem q1578 : (Jvm.Cond.code ({ cls := "GraphModulesModel", name := "isStrong", desc := "(I)Z" } : Jvm.MethodName) prog_18_method_24_code (4 : Nat) (Option.some Jvm.ClassFile.FieldType.boolean)) ∈ lw_all := lw_g (lw_at lw_m7 47 rfl) rfl
theorem q1579 : (Jvm.Cond.methodLink "GraphModulesModel" (169 : Nat) ({ cls := "GraphModulesModel", name := "ofKind", desc := "(I)I" } : Jvm.MethodName)) ∈ lw_all := lw_g (lw_at lw_m7 48 rfl) rfl
theorem q1580 : (Jvm.Cond.privateMethod ({ cls := "GraphModulesModel", name := "ofKind", desc := "(I)I" } : Jvm.MethodName)) ∈ lw_tbl := lw_at lw_m7 49 rfl
theorem q1581 : (Jvm.Cond.instanceMethod ({ cls := "GraphModulesModel", name := "ofKind", desc := "(I)I" } : Jvm.MethodName)) ∈ lw_all := lw_g (lw_at lw_m7 50 rfl) rfl
theorem q1582 : (Jvm.Cond.code ({ cls := "GraphModulesModel", name := "ofKind", desc := "(I)I" } : Jvm.MethodName) prog_18_method_33_code (4 : Nat) (Option.some Jvm.ClassFile.FieldType.int)) ∈ lw_all := lw_g (lw_at lw_m7 51 rfl) rfl
theorem q1583 : (Jvm.Cond.methodLink "GraphModulesModel" (163 : Nat) ({ cls := "GraphModulesModel", name := "kindOf", desc := "(I)I" } : Jvm.MethodName)) ∈ lw_all := lw_g (lw_at lw_m7 52 rfl) rfl
theorem q1584 : (Jvm.Cond.privateMethod ({ cls := "GraphModulesModel", name := "kindOf", desc := "(I)I" } : Jvm.MethodName)) ∈ lw_tbl := lw_at lw_m7 53 rfl
theorem q1585 : (Jvm.Cond.instanceMethod ({ cls := "GraphModulesModel", name := "kindOf", desc := "(I)I" } : Jvm.MethodName)) ∈ lw_all := lw_g (lw_at lw_m7 54 rfl) rfl
theorem q1586 : (Jvm.Cond.code ({ cls := "GraphModulesModel", name := "kindOf", desc := "(I)I" } : Jvm.MethodName) prog_18_method_32_code (4 : Nat) (Option.some Jvm.ClassFile.FieldType.int)) ∈ lw_all := lw_g (lw_at lw_m7 55 rfl) rfl
theorem q1587 : (Jvm.Cond.methodLink "GraphModulesModel" (157 : Nat) ({ cls := "GraphModulesModel", name := "children", desc := "(I)I" } : Jvm.MethodName)) ∈ lw_all := lw_g (lw_at lw_m7 56 rfl) rfl
theorem q1588 : (Jvm.Cond.privateMethod ({ cls := "GraphModulesModel", name := "children", desc := "(I)I" } : Jvm.MethodName)) ∈ lw_tbl := lw_at lw_m7 57 rfl
theorem q1589 : (Jvm.Cond.instanceMethod ({ cls := "GraphModulesModel", name := "children", desc := "(I)I" } : Jvm.MethodName)) ∈ lw_all := lw_g (lw_at lw_m7 58 rfl) rfl
theorem q1590 : (Jvm.Cond.code ({ cls := "GraphModulesModel", name := "children", desc := "(I)I" } : Jvm.MethodName) prog_18_method_28_code (4 : Nat) (Option.some Jvm.ClassFile.FieldType.int)) ∈ lw_all := lw_g (lw_at lw_m7 59 rfl) rfl
theorem q1591 : (Jvm.Cond.methodLink "GraphModulesModel" (160 : Nat) ({ cls := "GraphModulesModel", name := "linksWithin", desc := "(I)I" } : Jvm.MethodName)) ∈ lw_all := lw_g (lw_at lw_m7 60 rfl) rfl
theorem q1592 : (Jvm.Cond.privateMethod ({ cls := "GraphModulesModel", name := "linksWithin", desc := "(I)I" } : Jvm.MethodName)) ∈ lw_tbl := lw_at lw_m7 61 rfl
theorem q1593 : (Jvm.Cond.instanceMethod ({ cls := "GraphModulesModel", name := "linksWithin", desc := "(I)I" } : Jvm.MethodName)) ∈ lw_all := lw_g (lw_at lw_m7 62 rfl) rfl
theorem q1594 : (Jvm.Cond.code ({ cls := "GraphModulesModel", name := "linksWithin", desc := "(I)I" } : Jvm.MethodName) prog_18_method_31_code (5 : Nat) (Option.some Jvm.ClassFile.FieldType.int)) ∈ lw_all := lw_g (lw_at lw_m7 63 rfl) rfl
theorem q1595 : (Jvm.Cond.methodLink "GraphModulesModel" (154 : Nat) ({ cls := "GraphModulesModel", name := "areLinkedModules", desc := "(II)Z" } : Jvm.MethodName)) ∈ lw_all := lw_g (lw_at lw_m7 64 rfl) rfl
theorem q1596 : (Jvm.Cond.privateMethod ({ cls := "GraphModulesModel", name := "areLinkedModules", desc := "(II)Z" } : Jvm.MethodName)) ∈ lw_tbl := lw_at lw_m7 65 rfl
theorem q1597 : (Jvm.Cond.instanceMethod ({ cls := "GraphModulesModel", name := "areLinkedModules", desc := "(II)Z" } : Jvm.MethodName)) ∈ lw_all := lw_g (lw_at lw_m7 66 rfl) rfl
theorem q1598 : (Jvm.Cond.code ({ cls := "GraphModulesModel", name := "areLinkedModules", desc := "(II)Z" } : Jvm.MethodName) prog_18_method_30_code (3 : Nat) (Option.some Jvm.ClassFile.FieldType.boolean)) ∈ lw_all := lw_g (lw_at lw_m7 67 rfl) rfl
theorem q1599 : (Jvm.Cond.methodLink "GraphModulesModel" (151 : Nat) ({ cls := "GraphModulesModel", name := "lowest", desc := "(I)I" } : Jvm.MethodName)) ∈ lw_all := lw_g (lw_at lw_m7 68 rfl) rfl
theorem q1600 : (Jvm.Cond.static ({ cls := "GraphModulesModel", name := "lowest", desc := "(I)I" } : Jvm.MethodName)) ∈ lw_all := lw_g (lw_at lw_m7 69 rfl) rfl
theorem q1601 : (Jvm.Cond.code ({ cls := "GraphModulesModel", name := "lowest", desc := "(I)I" } : Jvm.MethodName) prog_18_method_9_code (2 : Nat) (Option.some Jvm.ClassFile.FieldType.int)) ∈ lw_all := lw_g (lw_at lw_m7 70 rfl) rfl
theorem q1602 : (Jvm.Cond.methodLink "GraphModulesModel" (172 : Nat) ({ cls := "GraphModulesModel", name := "deepest", desc := "()I" } : Jvm.MethodName)) ∈ lw_all := lw_g (lw_at lw_m7 71 rfl) rfl
theorem q1603 : (Jvm.Cond.privateMethod ({ cls := "GraphModulesModel", name := "deepest", desc := "()I" } : Jvm.MethodName)) ∈ lw_tbl := lw_at lw_m7 72 rfl
theorem q1604 : (Jvm.Cond.instanceMethod ({ cls := "GraphModulesModel", name := "deepest", desc := "()I" } : Jvm.MethodName)) ∈ lw_all := lw_g (lw_at lw_m7 73 rfl) rfl
theorem q1605 : (Jvm.Cond.code ({ cls := "GraphModulesModel", name := "deepest", desc := "()I" } : Jvm.MethodName) prog_18_method_34_code (3 : Nat) (Option.some Jvm.ClassFile.FieldType.int)) ∈ lw_all := lw_g (lw_at lw_m7 74 rfl) rfl
theorem q1606 : (Jvm.Cond.methodLink "GraphModulesModel" (166 : Nat) ({ cls := "GraphModulesModel", name := "depthOf", desc := "(I)I" } : Jvm.MethodName)) ∈ lw_all := lw_g (lw_at lw_m7 75 rfl) rfl
theorem q1607 : (Jvm.Cond.privateMethod ({ cls := "GraphModulesModel", name := "depthOf", desc := "(I)I" } : Jvm.MethodName)) ∈ lw_tbl := lw_at lw_m7 76 rfl
theorem q1608 : (Jvm.Cond.instanceMethod ({ cls := "GraphModulesModel", name := "depthOf", desc := "(I)I" } : Jvm.MethodName)) ∈ lw_all := lw_g (lw_at lw_m7 77 rfl) rfl
theorem q1609 : (Jvm.Cond.code ({ cls := "GraphModulesModel", name := "depthOf", desc := "(I)I" } : Jvm.MethodName) prog_18_method_27_code (4 : Nat) (Option.some Jvm.ClassFile.FieldType.int)) ∈ lw_all := lw_g (lw_at lw_m7 78 rfl) rfl
theorem q1610 : (Jvm.Cond.methodLink "GraphModulesModel" (175 : Nat) ({ cls := "GraphModulesModel", name := "classes", desc := "()I" } : Jvm.MethodName)) ∈ lw_all := lw_g (lw_at lw_m7 79 rfl) rfl
theorem q1611 : (Jvm.Cond.privateMethod ({ cls := "GraphModulesModel", name := "classes", desc := "()I" } : Jvm.MethodName)) ∈ lw_tbl := lw_at lw_m7 80 rfl
theorem q1612 : (Jvm.Cond.instanceMethod ({ cls := "GraphModulesModel", name := "classes", desc := "()I" } : Jvm.MethodName)) ∈ lw_all := lw_g (lw_at lw_m7 81 rfl) rfl
theorem q1613 : (Jvm.Cond.code ({ cls := "GraphModulesModel", name := "classes", desc := "()I" } : Jvm.MethodName) prog_18_method_63_code (4 : Nat) (Option.some Jvm.ClassFile.FieldType.int)) ∈ lw_all := lw_g (lw_at lw_m7 82 rfl) rfl
theorem q1614 : (Jvm.Cond.methodLink "GraphModulesModel" (219 : Nat) ({ cls := "GraphModulesModel", name := "leavesAll", desc := "()V" } : Jvm.MethodName)) ∈ lw_all := lw_g (lw_at lw_m7 83 rfl) rfl
theorem q1615 : (Jvm.Cond.privateMethod ({ cls := "GraphModulesModel", name := "leavesAll", desc := "()V" } : Jvm.MethodName)) ∈ lw_tbl := lw_at lw_m7 84 rfl
theorem q1616 : (Jvm.Cond.instanceMethod ({ cls := "GraphModulesModel", name := "leavesAll", desc := "()V" } : Jvm.MethodName)) ∈ lw_all := lw_g (lw_at lw_m7 85 rfl) rfl
theorem q1617 : (Jvm.Cond.code ({ cls := "GraphModulesModel", name := "leavesAll", desc := "()V" } : Jvm.MethodName) prog_18_method_61_code (2 : Nat) (Option.none : Option Jvm.ClassFile.FieldType)) ∈ lw_all := lw_g (lw_at lw_m7 86 rfl) rfl
theorem q1618 : (Jvm.Cond.methodLink "GraphModulesModel" (222 : Nat) ({ cls := "GraphModulesModel", name := "laysClass", desc := "(II)V" } : Jvm.MethodName)) ∈ lw_all := lw_g (lw_at lw_m7 87 rfl) rfl
theorem q1619 : (Jvm.Cond.privateMethod ({ cls := "GraphModulesModel", name := "laysClass", desc := "(II)V" } : Jvm.MethodName)) ∈ lw_tbl := lw_at lw_m7 88 rfl
theorem q1620 : (Jvm.Cond.instanceMethod ({ cls := "GraphModulesModel", name := "laysClass", desc := "(II)V" } : Jvm.MethodName)) ∈ lw_all := lw_g (lw_at lw_m7 89 rfl) rfl
theorem q1621 : (Jvm.Cond.code ({ cls := "GraphModulesModel", name := "laysClass", desc := "(II)V" } : Jvm.MethodName) prog_18_method_62_code (7 : Nat) (Option.none : Option Jvm.ClassFile.FieldType)) ∈ lw_all := lw_g (lw_at lw_m7 90 rfl) rfl
theorem q1622 : (Jvm.Cond.methodLink "GraphModulesModel" (216 : Nat) ({ cls := "GraphModulesModel", name := "joins", desc := "(II)V" } : Jvm.MethodName)) ∈ lw_all := lw_g (lw_at lw_m7 91 rfl) rfl
theorem q1623 : (Jvm.Cond.privateMethod ({ cls := "GraphModulesModel", name := "joins", desc := "(II)V" } : Jvm.MethodName)) ∈ lw_tbl := lw_at lw_m7 92 rfl
theorem q1624 : (Jvm.Cond.instanceMethod ({ cls := "GraphModulesModel", name := "joins", desc := "(II)V" } : Jvm.MethodName)) ∈ lw_all := lw_g (lw_at lw_m7 93 rfl) rfl
theorem q1625 : (Jvm.Cond.code ({ cls := "GraphModulesModel", name := "joins", desc := "(II)V" } : Jvm.MethodName) prog_18_method_60_code (3 : Nat) (Option.none : Option Jvm.ClassFile.FieldType)) ∈ lw_all := lw_g (lw_at lw_m7 94 rfl) rfl
theorem q1627 : (Jvm.Cond.instanceMethod ({ cls := "GraphModulesModel", name := "isModule", desc := "(I)I" } : Jvm.MethodName)) ∈ lw_all := lw_g (lw_at lw_m7 96 rfl) rfl
theorem q1628 : (Jvm.Cond.selects "GraphModulesModel" ({ cls := "GraphModulesModel", name := "isModule", desc := "(I)I" } : Jvm.MethodName) ({ cls := "GraphModulesModel", name := "isModule", desc := "(I)I" } : Jvm.MethodName)) ∈ lw_all := lw_g (lw_at lw_m7 97 rfl) rfl
theorem q1629 : (Jvm.Cond.code ({ cls := "GraphModulesModel", name := "isModule", desc := "(I)I" } : Jvm.MethodName) prog_18_method_36_code (2 : Nat) (Option.some Jvm.ClassFile.FieldType.int)) ∈ lw_all := lw_g (lw_at lw_m7 98 rfl) rfl
theorem q1630 : (Jvm.Cond.methodLink "GraphModulesModel" (181 : Nat) ({ cls := "GraphModulesModel", name := "isSet", desc := "(I)Z" } : Jvm.MethodName)) ∈ lw_all := lw_g (lw_at lw_m7 99 rfl) rfl
theorem q1631 : (Jvm.Cond.privateMethod ({ cls := "GraphModulesModel", name := "isSet", desc := "(I)Z" } : Jvm.MethodName)) ∈ lw_tbl := lw_at lw_m7 100 rfl
theorem q1632 : (Jvm.Cond.instanceMethod ({ cls := "GraphModulesModel", name := "isSet", desc := "(I)Z" } : Jvm.MethodName)) ∈ lw_all := lw_g (lw_at lw_m7 101 rfl) rfl
theorem q1633 : (Jvm.Cond.code ({ cls := "GraphModulesModel", name := "isSet", desc := "(I)Z" } : Jvm.MethodName) prog_18_method_6_code (2 : Nat) (Option.some Jvm.ClassFile.FieldType.boolean)) ∈ lw_all := lw_g (lw_at lw_m7 102 rfl) rfl
theorem q1635 : (Jvm.Cond.instanceMethod ({ cls := "GraphModulesModel", name := "splitters", desc := "(I)I" } : Jvm.MethodName)) ∈ lw_all := lw_g (lw_at lw_m7 104 rfl) rfl
theorem q1636 : (Jvm.Cond.selects "GraphModulesModel" ({ cls := "GraphModulesModel", name := "splitters", desc := "(I)I" } : Jvm.MethodName) ({ cls := "GraphModulesModel", name := "splitters", desc := "(I)I" } : Jvm.MethodName)) ∈ lw_all := lw_g (lw_at lw_m7 105 rfl) rfl
theorem q1637 : (Jvm.Cond.code ({ cls := "GraphModulesModel", name := "splitters", desc := "(I)I" } : Jvm.MethodName) prog_18_method_37_code (2 : Nat) (Option.some Jvm.ClassFile.FieldType.int)) ∈ lw_all := lw_g (lw_at lw_m7 106 rfl) rfl
theorem q1639 : (Jvm.Cond.instanceMethod ({ cls := "GraphModulesModel", name := "module", desc := "(I)I" } : Jvm.MethodName)) ∈ lw_all := lw_g (lw_at lw_m7 108 rfl) rfl
theorem q1640 : (Jvm.Cond.selects "GraphModulesModel" ({ cls := "GraphModulesModel", name := "module", desc := "(I)I" } : Jvm.MethodName) ({ cls := "GraphModulesModel", name := "module", desc := "(I)I" } : Jvm.MethodName)) ∈ lw_all := lw_g (lw_at lw_m7 109 rfl) rfl
theorem q1641 : (Jvm.Cond.code ({ cls := "GraphModulesModel", name := "module", desc := "(I)I" } : Jvm.MethodName) prog_18_method_38_code (3 : Nat) (Option.some Jvm.ClassFile.FieldType.int)) ∈ lw_all := lw_g (lw_at lw_m7 110 rfl) rfl
theorem q1643 : (Jvm.Cond.instanceMethod ({ cls := "GraphModulesModel", name := "modules", desc := "(I)I" } : Jvm.MethodName)) ∈ lw_all := lw_g (lw_at lw_m7 112 rfl) rfl
theorem q1644 : (Jvm.Cond.selects "GraphModulesModel" ({ cls := "GraphModulesModel", name := "modules", desc := "(I)I" } : Jvm.MethodName) ({ cls := "GraphModulesModel", name := "modules", desc := "(I)I" } : Jvm.MethodName)) ∈ lw_all := lw_g (lw_at lw_m7 113 rfl) rfl
theorem q1645 : (Jvm.Cond.code ({ cls := "GraphModulesModel", name := "modules", desc := "(I)I" } : Jvm.MethodName) prog_18_method_39_code (4 : Nat) (Option.some Jvm.ClassFile.FieldType.int)) ∈ lw_all := lw_g (lw_at lw_m7 114 rfl) rfl
theorem q1647 : (Jvm.Cond.instanceMethod ({ cls := "GraphModulesModel", name := "strong", desc := "(I)I" } : Jvm.MethodName)) ∈ lw_all := lw_g (lw_at lw_m7 116 rfl) rfl
theorem q1648 : (Jvm.Cond.selects "GraphModulesModel" ({ cls := "GraphModulesModel", name := "strong", desc := "(I)I" } : Jvm.MethodName) ({ cls := "GraphModulesModel", name := "strong", desc := "(I)I" } : Jvm.MethodName)) ∈ lw_all := lw_g (lw_at lw_m7 117 rfl) rfl
theorem q1649 : (Jvm.Cond.code ({ cls := "GraphModulesModel", name := "strong", desc := "(I)I" } : Jvm.MethodName) prog_18_method_40_code (2 : Nat) (Option.some Jvm.ClassFile.FieldType.int)) ∈ lw_all := lw_g (lw_at lw_m7 118 rfl) rfl
theorem q1650 : (Jvm.Cond.methodLink "GraphModulesModel" (184 : Nat) ({ cls := "GraphModulesModel", name := "isStrongNumber", desc := "(I)Z" } : Jvm.MethodName)) ∈ lw_all := lw_g (lw_at lw_m7 119 rfl) rfl
theorem q1651 : (Jvm.Cond.privateMethod ({ cls := "GraphModulesModel", name := "isStrongNumber", desc := "(I)Z" } : Jvm.MethodName)) ∈ lw_tbl := lw_at lw_m7 120 rfl
theorem q1652 : (Jvm.Cond.instanceMethod ({ cls := "GraphModulesModel", name := "isStrongNumber", desc := "(I)Z" } : Jvm.MethodName)) ∈ lw_all := lw_g (lw_at lw_m7 121 rfl) rfl
theorem q1653 : (Jvm.Cond.code ({ cls := "GraphModulesModel", name := "isStrongNumber", desc := "(I)Z" } : Jvm.MethodName) prog_18_method_26_code (2 : Nat) (Option.some Jvm.ClassFile.FieldType.boolean)) ∈ lw_all := lw_g (lw_at lw_m7 122 rfl) rfl
theorem q1655 : (Jvm.Cond.instanceMethod ({ cls := "GraphModulesModel", name := "node", desc := "(II)I" } : Jvm.MethodName)) ∈ lw_all := lw_g (lw_at lw_m7 124 rfl) rfl
theorem q1656 : (Jvm.Cond.selects "GraphModulesModel" ({ cls := "GraphModulesModel", name := "node", desc := "(II)I" } : Jvm.MethodName) ({ cls := "GraphModulesModel", name := "node", desc := "(II)I" } : Jvm.MethodName)) ∈ lw_all := lw_g (lw_at lw_m7 125 rfl) rfl
theorem q1657 : (Jvm.Cond.code ({ cls := "GraphModulesModel", name := "node", desc := "(II)I" } : Jvm.MethodName) prog_18_method_41_code (3 : Nat) (Option.some Jvm.ClassFile.FieldType.int)) ∈ lw_all := lw_g (lw_at lw_m7 126 rfl) rfl
theorem q1659 : (Jvm.Cond.instanceMethod ({ cls := "GraphModulesModel", name := "child", desc := "(II)I" } : Jvm.MethodName)) ∈ lw_all := lw_g (lw_at lw_m7 128 rfl) rfl
theorem q1660 : (Jvm.Cond.selects "GraphModulesModel" ({ cls := "GraphModulesModel", name := "child", desc := "(II)I" } : Jvm.MethodName) ({ cls := "GraphModulesModel", name := "child", desc := "(II)I" } : Jvm.MethodName)) ∈ lw_all := lw_g (lw_at lw_m7 129 rfl) rfl
theorem q1661 : (Jvm.Cond.code ({ cls := "GraphModulesModel", name := "child", desc := "(II)I" } : Jvm.MethodName) prog_18_method_42_code (3 : Nat) (Option.some Jvm.ClassFile.FieldType.int)) ∈ lw_all := lw_g (lw_at lw_m7 130 rfl) rfl
theorem q1662 : (Jvm.Cond.methodLink "GraphModulesModel" (187 : Nat) ({ cls := "GraphModulesModel", name := "childAt", desc := "(II)I" } : Jvm.MethodName)) ∈ lw_all := lw_g (lw_at lw_m7 131 rfl) rfl
theorem q1663 : (Jvm.Cond.privateMethod ({ cls := "GraphModulesModel", name := "childAt", desc := "(II)I" } : Jvm.MethodName)) ∈ lw_tbl := lw_at lw_m7 132 rfl
theorem q1664 : (Jvm.Cond.instanceMethod ({ cls := "GraphModulesModel", name := "childAt", desc := "(II)I" } : Jvm.MethodName)) ∈ lw_all := lw_g (lw_at lw_m7 133 rfl) rfl
theorem q1665 : (Jvm.Cond.code ({ cls := "GraphModulesModel", name := "childAt", desc := "(II)I" } : Jvm.MethodName) prog_18_method_29_code (6 : Nat) (Option.some Jvm.ClassFile.FieldType.int)) ∈ lw_all := lw_g (lw_at lw_m7 134 rfl) rfl
theorem q1667 : (Jvm.Cond.instanceMethod ({ cls := "GraphModulesModel", name := "together", desc := "(II)I" } : Jvm.MethodName)) ∈ lw_all := lw_g (lw_at lw_m7 136 rfl) rfl
theorem q1668 : (Jvm.Cond.selects "GraphModulesModel" ({ cls := "GraphModulesModel", name := "together", desc := "(II)I" } : Jvm.MethodName) ({ cls := "GraphModulesModel", name := "together", desc := "(II)I" } : Jvm.MethodName)) ∈ lw_all := lw_g (lw_at lw_m7 137 rfl) rfl
theorem q1669 : (Jvm.Cond.code ({ cls := "GraphModulesModel", name := "together", desc := "(II)I" } : Jvm.MethodName) prog_18_method_44_code (3 : Nat) (Option.some Jvm.ClassFile.FieldType.int)) ∈ lw_all := lw_g (lw_at lw_m7 138 rfl) rfl
theorem q1670 : (Jvm.Cond.methodLink "GraphModulesModel" (191 : Nat) ({ cls := "GraphModulesModel", name := "smallestWith", desc := "(I)I" } : Jvm.MethodName)) ∈ lw_all := lw_g (lw_at lw_m7 139 rfl) rfl
theorem q1671 : (Jvm.Cond.privateMethod ({ cls := "GraphModulesModel", name := "smallestWith", desc := "(I)I" } : Jvm.MethodName)) ∈ lw_tbl := lw_at lw_m7 140 rfl
theorem q1672 : (Jvm.Cond.instanceMethod ({ cls := "GraphModulesModel", name := "smallestWith", desc := "(I)I" } : Jvm.MethodName)) ∈ lw_all := lw_g (lw_at lw_m7 141 rfl) rfl
theorem q1673 : (Jvm.Cond.code ({ cls := "GraphModulesModel", name := "smallestWith", desc := "(I)I" } : Jvm.MethodName) prog_18_method_43_code (5 : Nat) (Option.some Jvm.ClassFile.FieldType.int)) ∈ lw_all := lw_g (lw_at lw_m7 142 rfl) rfl
theorem q1675 : (Jvm.Cond.instanceMethod ({ cls := "GraphModulesModel", name := "quotient", desc := "(III)I" } : Jvm.MethodName)) ∈ lw_all := lw_g (lw_at lw_m7 144 rfl) rfl
theorem q1676 : (Jvm.Cond.selects "GraphModulesModel" ({ cls := "GraphModulesModel", name := "quotient", desc := "(III)I" } : Jvm.MethodName) ({ cls := "GraphModulesModel", name := "quotient", desc := "(III)I" } : Jvm.MethodName)) ∈ lw_all := lw_g (lw_at lw_m7 145 rfl) rfl
theorem q1677 : (Jvm.Cond.code ({ cls := "GraphModulesModel", name := "quotient", desc := "(III)I" } : Jvm.MethodName) prog_18_method_45_code (4 : Nat) (Option.some Jvm.ClassFile.FieldType.int)) ∈ lw_all := lw_g (lw_at lw_m7 146 rfl) rfl
theorem q1679 : (Jvm.Cond.instanceMethod ({ cls := "GraphModulesModel", name := "pathOfFour", desc := "(I)I" } : Jvm.MethodName)) ∈ lw_all := lw_g (lw_at lw_m7 148 rfl) rfl
theorem q1680 : (Jvm.Cond.selects "GraphModulesModel" ({ cls := "GraphModulesModel", name := "pathOfFour", desc := "(I)I" } : Jvm.MethodName) ({ cls := "GraphModulesModel", name := "pathOfFour", desc := "(I)I" } : Jvm.MethodName)) ∈ lw_all := lw_g (lw_at lw_m7 149 rfl) rfl
theorem q1681 : (Jvm.Cond.code ({ cls := "GraphModulesModel", name := "pathOfFour", desc := "(I)I" } : Jvm.MethodName) prog_18_method_47_code (8 : Nat) (Option.some Jvm.ClassFile.FieldType.int)) ∈ lw_all := lw_g (lw_at lw_m7 150 rfl) rfl
theorem q1682 : (Jvm.Cond.methodLink "GraphModulesModel" (194 : Nat) ({ cls := "GraphModulesModel", name := "isPath", desc := "(IIII)Z" } : Jvm.MethodName)) ∈ lw_all := lw_g (lw_at lw_m7 151 rfl) rfl
theorem q1683 : (Jvm.Cond.privateMethod ({ cls := "GraphModulesModel", name := "isPath", desc := "(IIII)Z" } : Jvm.MethodName)) ∈ lw_tbl := lw_at lw_m7 152 rfl
theorem q1684 : (Jvm.Cond.instanceMethod ({ cls := "GraphModulesModel", name := "isPath", desc := "(IIII)Z" } : Jvm.MethodName)) ∈ lw_all := lw_g (lw_at lw_m7 153 rfl) rfl
theorem q1685 : (Jvm.Cond.code ({ cls := "GraphModulesModel", name := "isPath", desc := "(IIII)Z" } : Jvm.MethodName) prog_18_method_46_code (6 : Nat) (Option.some Jvm.ClassFile.FieldType.boolean)) ∈ lw_all := lw_g (lw_at lw_m7 154 rfl) rfl
theorem q1687 : (Jvm.Cond.instanceMethod ({ cls := "GraphModulesModel", name := "parts", desc := "(I)I" } : Jvm.MethodName)) ∈ lw_all := lw_g (lw_at lw_m7 156 rfl) rfl
theorem q1688 : (Jvm.Cond.selects "GraphModulesModel" ({ cls := "GraphModulesModel", name := "parts", desc := "(I)I" } : Jvm.MethodName) ({ cls := "GraphModulesModel", name := "parts", desc := "(I)I" } : Jvm.MethodName)) ∈ lw_all := lw_g (lw_at lw_m7 157 rfl) rfl
theorem q1689 : (Jvm.Cond.code ({ cls := "GraphModulesModel", name := "parts", desc := "(I)I" } : Jvm.MethodName) prog_18_method_49_code (4 : Nat) (Option.some Jvm.ClassFile.FieldType.int)) ∈ lw_all := lw_g (lw_at lw_m7 158 rfl) rfl
theorem q1690 : (Jvm.Cond.methodLink "GraphModulesModel" (198 : Nat) ({ cls := "GraphModulesModel", name := "partOf", desc := "(II)I" } : Jvm.MethodName)) ∈ lw_all := lw_g (lw_at lw_m7 159 rfl) rfl
theorem q1691 : (Jvm.Cond.privateMethod ({ cls := "GraphModulesModel", name := "partOf", desc := "(II)I" } : Jvm.MethodName)) ∈ lw_tbl := lw_at lw_m7 160 rfl
theorem q1692 : (Jvm.Cond.instanceMethod ({ cls := "GraphModulesModel", name := "partOf", desc := "(II)I" } : Jvm.MethodName)) ∈ lw_all := lw_g (lw_at lw_m7 161 rfl) rfl
theorem q1693 : (Jvm.Cond.code ({ cls := "GraphModulesModel", name := "partOf", desc := "(II)I" } : Jvm.MethodName) prog_18_method_48_code (5 : Nat) (Option.some Jvm.ClassFile.FieldType.int)) ∈ lw_all := lw_g (lw_at lw_m7 162 rfl) rfl
theorem q1695 : (Jvm.Cond.instanceMethod ({ cls := "GraphModulesModel", name := "part", desc := "(II)I" } : Jvm.MethodName)) ∈ lw_all := lw_g (lw_at lw_m7 164 rfl) rfl
theorem q1696 : (Jvm.Cond.selects "GraphModulesModel" ({ cls := "GraphModulesModel", name := "part", desc := "(II)I" } : Jvm.MethodName) ({ cls := "GraphModulesModel", name := "part", desc := "(II)I" } : Jvm.MethodName)) ∈ lw_all := lw_g (lw_at lw_m7 165 rfl) rfl
theorem q1697 : (Jvm.Cond.code ({ cls := "GraphModulesModel", name := "part", desc := "(II)I" } : Jvm.MethodName) prog_18_method_50_code (3 : Nat) (Option.some Jvm.ClassFile.FieldType.int)) ∈ lw_all := lw_g (lw_at lw_m7 166 rfl) rfl
theorem q1699 : (Jvm.Cond.instanceMethod ({ cls := "GraphModulesModel", name := "place", desc := "(I)I" } : Jvm.MethodName)) ∈ lw_all := lw_g (lw_at lw_m7 168 rfl) rfl
theorem q1700 : (Jvm.Cond.selects "GraphModulesModel" ({ cls := "GraphModulesModel", name := "place", desc := "(I)I" } : Jvm.MethodName) ({ cls := "GraphModulesModel", name := "place", desc := "(I)I" } : Jvm.MethodName)) ∈ lw_all := lw_g (lw_at lw_m7 169 rfl) rfl
theorem q1701 : (Jvm.Cond.code ({ cls := "GraphModulesModel", name := "place", desc := "(I)I" } : Jvm.MethodName) prog_18_method_52_code (2 : Nat) (Option.some Jvm.ClassFile.FieldType.int)) ∈ lw_all := lw_g (lw_at lw_m7 170 rfl) rfl
theorem q1702 : (Jvm.Cond.methodLink "GraphModulesModel" (201 : Nat) ({ cls := "GraphModulesModel", name := "lineSet", desc := "()I" } : Jvm.MethodName)) ∈ lw_all := lw_g (lw_at lw_m7 171 rfl) rfl
theorem q1703 : (Jvm.Cond.privateMethod ({ cls := "GraphModulesModel", name := "lineSet", desc := "()I" } : Jvm.MethodName)) ∈ lw_tbl := lw_at lw_m7 172 rfl
theorem q1704 : (Jvm.Cond.instanceMethod ({ cls := "GraphModulesModel", name := "lineSet", desc := "()I" } : Jvm.MethodName)) ∈ lw_all := lw_g (lw_at lw_m7 173 rfl) rfl
theorem q1705 : (Jvm.Cond.code ({ cls := "GraphModulesModel", name := "lineSet", desc := "()I" } : Jvm.MethodName) prog_18_method_51_code (3 : Nat) (Option.some Jvm.ClassFile.FieldType.int)) ∈ lw_all := lw_g (lw_at lw_m7 174 rfl) rfl
theorem q1707 : (Jvm.Cond.instanceMethod ({ cls := "GraphModulesModel", name := "clearRow", desc := "()I" } : Jvm.MethodName)) ∈ lw_all := lw_g (lw_at lw_m7 176 rfl) rfl
theorem q1708 : (Jvm.Cond.selects "GraphModulesModel" ({ cls := "GraphModulesModel", name := "clearRow", desc := "()I" } : Jvm.MethodName) ({ cls := "GraphModulesModel", name := "clearRow", desc := "()I" } : Jvm.MethodName)) ∈ lw_all := lw_g (lw_at lw_m7 177 rfl) rfl
theorem q1709 : (Jvm.Cond.code ({ cls := "GraphModulesModel", name := "clearRow", desc := "()I" } : Jvm.MethodName) prog_18_method_53_code (2 : Nat) (Option.some Jvm.ClassFile.FieldType.int)) ∈ lw_all := lw_g (lw_at lw_m7 178 rfl) rfl
theorem q1711 : (Jvm.Cond.instanceMethod ({ cls := "GraphModulesModel", name := "kept", desc := "(I)I" } : Jvm.MethodName)) ∈ lw_all := lw_g (lw_at lw_m7 180 rfl) rfl
theorem q1712 : (Jvm.Cond.selects "GraphModulesModel" ({ cls := "GraphModulesModel", name := "kept", desc := "(I)I" } : Jvm.MethodName) ({ cls := "GraphModulesModel", name := "kept", desc := "(I)I" } : Jvm.MethodName)) ∈ lw_all := lw_g (lw_at lw_m7 181 rfl) rfl
theorem q1713 : (Jvm.Cond.code ({ cls := "GraphModulesModel", name := "kept", desc := "(I)I" } : Jvm.MethodName) prog_18_method_55_code (4 : Nat) (Option.some Jvm.ClassFile.FieldType.int)) ∈ lw_all := lw_g (lw_at lw_m7 182 rfl) rfl
theorem q1714 : (Jvm.Cond.methodLink "GraphModulesModel" (204 : Nat) ({ cls := "GraphModulesModel", name := "areTogether", desc := "(I)Z" } : Jvm.MethodName)) ∈ lw_all := lw_g (lw_at lw_m7 183 rfl) rfl
theorem q1715 : (Jvm.Cond.privateMethod ({ cls := "GraphModulesModel", name := "areTogether", desc := "(I)Z" } : Jvm.MethodName)) ∈ lw_tbl := lw_at lw_m7 184 rfl
theorem q1716 : (Jvm.Cond.instanceMethod ({ cls := "GraphModulesModel", name := "areTogether", desc := "(I)Z" } : Jvm.MethodName)) ∈ lw_all := lw_g (lw_at lw_m7 185 rfl) rfl
theorem q1717 : (Jvm.Cond.code ({ cls := "GraphModulesModel", name := "areTogether", desc := "(I)Z" } : Jvm.MethodName) prog_18_method_54_code (4 : Nat) (Option.some Jvm.ClassFile.FieldType.boolean)) ∈ lw_all := lw_g (lw_at lw_m7 186 rfl) rfl
theorem q1719 : (Jvm.Cond.instanceMethod ({ cls := "GraphModulesModel", name := "treeRow", desc := "(I)I" } : Jvm.MethodName)) ∈ lw_all := lw_g (lw_at lw_m7 188 rfl) rfl
theorem q1720 : (Jvm.Cond.selects "GraphModulesModel" ({ cls := "GraphModulesModel", name := "treeRow", desc := "(I)I" } : Jvm.MethodName) ({ cls := "GraphModulesModel", name := "treeRow", desc := "(I)I" } : Jvm.MethodName)) ∈ lw_all := lw_g (lw_at lw_m7 189 rfl) rfl
theorem q1721 : (Jvm.Cond.code ({ cls := "GraphModulesModel", name := "treeRow", desc := "(I)I" } : Jvm.MethodName) prog_18_method_58_code (5 : Nat) (Option.some Jvm.ClassFile.FieldType.int)) ∈ lw_all := lw_g (lw_at lw_m7 190 rfl) rfl
theorem q1722 : (Jvm.Cond.methodLink "GraphModulesModel" (210 : Nat) ({ cls := "GraphModulesModel", name := "isAhead", desc := "(II)Z" } : Jvm.MethodName)) ∈ lw_all := lw_g (lw_at lw_m7 191 rfl) rfl
theorem q1723 : (Jvm.Cond.privateMethod ({ cls := "GraphModulesModel", name := "isAhead", desc := "(II)Z" } : Jvm.MethodName)) ∈ lw_tbl := lw_at lw_m7 192 rfl
theorem q1724 : (Jvm.Cond.instanceMethod ({ cls := "GraphModulesModel", name := "isAhead", desc := "(II)Z" } : Jvm.MethodName)) ∈ lw_all := lw_g (lw_at lw_m7 193 rfl) rfl
theorem q1725 : (Jvm.Cond.code ({ cls := "GraphModulesModel", name := "isAhead", desc := "(II)Z" } : Jvm.MethodName) prog_18_method_57_code (4 : Nat) (Option.some Jvm.ClassFile.FieldType.boolean)) ∈ lw_all := lw_g (lw_at lw_m7 194 rfl) rfl
theorem q1726 : (Jvm.Cond.methodLink "GraphModulesModel" (207 : Nat) ({ cls := "GraphModulesModel", name := "lowestInChild", desc := "(II)I" } : Jvm.MethodName)) ∈ lw_all := lw_g (lw_at lw_m7 195 rfl) rfl
theorem q1727 : (Jvm.Cond.privateMethod ({ cls := "GraphModulesModel", name := "lowestInChild", desc := "(II)I" } : Jvm.MethodName)) ∈ lw_tbl := lw_at lw_m7 196 rfl
theorem q1728 : (Jvm.Cond.instanceMethod ({ cls := "GraphModulesModel", name := "lowestInChild", desc := "(II)I" } : Jvm.MethodName)) ∈ lw_all := lw_g (lw_at lw_m7 197 rfl) rfl
theorem q1729 : (Jvm.Cond.code ({ cls := "GraphModulesModel", name := "lowestInChild", desc := "(II)I" } : Jvm.MethodName) prog_18_method_56_code (5 : Nat) (Option.some Jvm.ClassFile.FieldType.int)) ∈ lw_all := lw_g (lw_at lw_m7 198 rfl) rfl
theorem q1731 : (Jvm.Cond.instanceMethod ({ cls := "GraphModulesModel", name := "rows", desc := "()I" } : Jvm.MethodName)) ∈ lw_all := lw_g (lw_at lw_m7 200 rfl) rfl
theorem q1732 : (Jvm.Cond.selects "GraphModulesModel" ({ cls := "GraphModulesModel", name := "rows", desc := "()I" } : Jvm.MethodName) ({ cls := "GraphModulesModel", name := "rows", desc := "()I" } : Jvm.MethodName)) ∈ lw_all := lw_g (lw_at lw_m7 201 rfl) rfl
theorem q1733 : (Jvm.Cond.code ({ cls := "GraphModulesModel", name := "rows", desc := "()I" } : Jvm.MethodName) prog_18_method_59_code (4 : Nat) (Option.some Jvm.ClassFile.FieldType.int)) ∈ lw_all := lw_g (lw_at lw_m7 202 rfl) rfl
theorem q1735 : (Jvm.Cond.instanceMethod ({ cls := "GraphModulesModel", name := "forced", desc := "(II)I" } : Jvm.MethodName)) ∈ lw_all := lw_g (lw_at lw_m7 204 rfl) rfl
theorem q1736 : (Jvm.Cond.selects "GraphModulesModel" ({ cls := "GraphModulesModel", name := "forced", desc := "(II)I" } : Jvm.MethodName) ({ cls := "GraphModulesModel", name := "forced", desc := "(II)I" } : Jvm.MethodName)) ∈ lw_all := lw_g (lw_at lw_m7 205 rfl) rfl
theorem q1737 : (Jvm.Cond.code ({ cls := "GraphModulesModel", name := "forced", desc := "(II)I" } : Jvm.MethodName) prog_18_method_65_code (4 : Nat) (Option.some Jvm.ClassFile.FieldType.int)) ∈ lw_all := lw_g (lw_at lw_m7 206 rfl) rfl
theorem q1738 : (Jvm.Cond.methodLink "GraphModulesModel" (225 : Nat) ({ cls := "GraphModulesModel", name := "notLinked", desc := "(II)I" } : Jvm.MethodName)) ∈ lw_all := lw_g (lw_at lw_m7 207 rfl) rfl
theorem q1739 : (Jvm.Cond.privateMethod ({ cls := "GraphModulesModel", name := "notLinked", desc := "(II)I" } : Jvm.MethodName)) ∈ lw_tbl := lw_at lw_m7 208 rfl
theorem q1740 : (Jvm.Cond.instanceMethod ({ cls := "GraphModulesModel", name := "notLinked", desc := "(II)I" } : Jvm.MethodName)) ∈ lw_all := lw_g (lw_at lw_m7 209 rfl) rfl
theorem q1741 : (Jvm.Cond.code ({ cls := "GraphModulesModel", name := "notLinked", desc := "(II)I" } : Jvm.MethodName) prog_18_method_64_code (3 : Nat) (Option.some Jvm.ClassFile.FieldType.int)) ∈ lw_all := lw_g (lw_at lw_m7 210 rfl) rfl
theorem q1743 : (Jvm.Cond.instanceMethod ({ cls := "GraphModulesModel", name := "firstForced", desc := "(II)I" } : Jvm.MethodName)) ∈ lw_all := lw_g (lw_at lw_m7 212 rfl) rfl
theorem q1744 : (Jvm.Cond.selects "GraphModulesModel" ({ cls := "GraphModulesModel", name := "firstForced", desc := "(II)I" } : Jvm.MethodName) ({ cls := "GraphModulesModel", name := "firstForced", desc := "(II)I" } : Jvm.MethodName)) ∈ lw_all := lw_g (lw_at lw_m7 213 rfl) rfl
theorem q1745 : (Jvm.Cond.code ({ cls := "GraphModulesModel", name := "firstForced", desc := "(II)I" } : Jvm.MethodName) prog_18_method_66_code (5 : Nat) (Option.some Jvm.ClassFile.FieldType.int)) ∈ lw_all := lw_g (lw_at lw_m7 214 rfl) rfl
theorem q1747 : (Jvm.Cond.instanceMethod ({ cls := "GraphModulesModel", name := "steps", desc := "()I" } : Jvm.MethodName)) ∈ lw_all := lw_g (lw_at lw_m7 216 rfl) rfl
theorem q1748 : (Jvm.Cond.selects "GraphModulesModel" ({ cls := "GraphModulesModel", name := "steps", desc := "()I" } : Jvm.MethodName) ({ cls := "GraphModulesModel", name := "steps", desc := "()I" } : Jvm.MethodName)) ∈ lw_all := lw_g (lw_at lw_m7 217 rfl) rfl
theorem q1749 : (Jvm.Cond.code ({ cls := "GraphModulesModel", name := "steps", desc := "()I" } : Jvm.MethodName) prog_18_method_70_code (1 : Nat) (Option.some Jvm.ClassFile.FieldType.int)) ∈ lw_all := lw_g (lw_at lw_m7 218 rfl) rfl
theorem q1750 : (Jvm.Cond.methodLink "GraphModulesModel" (240 : Nat) ({ cls := "GraphModulesModel", name := "orients", desc := "()Z" } : Jvm.MethodName)) ∈ lw_all := lw_g (lw_at lw_m7 219 rfl) rfl
theorem q1751 : (Jvm.Cond.privateMethod ({ cls := "GraphModulesModel", name := "orients", desc := "()Z" } : Jvm.MethodName)) ∈ lw_tbl := lw_at lw_m7 220 rfl
theorem q1752 : (Jvm.Cond.instanceMethod ({ cls := "GraphModulesModel", name := "orients", desc := "()Z" } : Jvm.MethodName)) ∈ lw_all := lw_g (lw_at lw_m7 221 rfl) rfl
theorem q1753 : (Jvm.Cond.code ({ cls := "GraphModulesModel", name := "orients", desc := "()Z" } : Jvm.MethodName) prog_18_method_69_code (2 : Nat) (Option.some Jvm.ClassFile.FieldType.boolean)) ∈ lw_all := lw_g (lw_at lw_m7 222 rfl) rfl
theorem q1754 : (Jvm.Cond.methodLink "GraphModulesModel" (234 : Nat) ({ cls := "GraphModulesModel", name := "firstLeft", desc := "()I" } : Jvm.MethodName)) ∈ lw_all := lw_g (lw_at lw_m7 223 rfl) rfl
theorem q1755 : (Jvm.Cond.privateMethod ({ cls := "GraphModulesModel", name := "firstLeft", desc := "()I" } : Jvm.MethodName)) ∈ lw_tbl := lw_at lw_m7 224 rfl
theorem q1756 : (Jvm.Cond.instanceMethod ({ cls := "GraphModulesModel", name := "firstLeft", desc := "()I" } : Jvm.MethodName)) ∈ lw_all := lw_g (lw_at lw_m7 225 rfl) rfl
theorem q1757 : (Jvm.Cond.code ({ cls := "GraphModulesModel", name := "firstLeft", desc := "()I" } : Jvm.MethodName) prog_18_method_67_code (2 : Nat) (Option.some Jvm.ClassFile.FieldType.int)) ∈ lw_all := lw_g (lw_at lw_m7 226 rfl) rfl
theorem q1758 : (Jvm.Cond.methodLink "GraphModulesModel" (237 : Nat) ({ cls := "GraphModulesModel", name := "goesOn", desc := "(I)Z" } : Jvm.MethodName)) ∈ lw_all := lw_g (lw_at lw_m7 227 rfl) rfl
theorem q1759 : (Jvm.Cond.privateMethod ({ cls := "GraphModulesModel", name := "goesOn", desc := "(I)Z" } : Jvm.MethodName)) ∈ lw_tbl := lw_at lw_m7 228 rfl
theorem q1760 : (Jvm.Cond.instanceMethod ({ cls := "GraphModulesModel", name := "goesOn", desc := "(I)Z" } : Jvm.MethodName)) ∈ lw_all := lw_g (lw_at lw_m7 229 rfl) rfl
theorem q1761 : (Jvm.Cond.code ({ cls := "GraphModulesModel", name := "goesOn", desc := "(I)Z" } : Jvm.MethodName) prog_18_method_68_code (5 : Nat) (Option.some Jvm.ClassFile.FieldType.boolean)) ∈ lw_all := lw_g (lw_at lw_m7 230 rfl) rfl
theorem q1763 : (Jvm.Cond.instanceMethod ({ cls := "GraphModulesModel", name := "directed", desc := "(II)I" } : Jvm.MethodName)) ∈ lw_all := lw_g (lw_at lw_m7 232 rfl) rfl
theorem q1764 : (Jvm.Cond.selects "GraphModulesModel" ({ cls := "GraphModulesModel", name := "directed", desc := "(II)I" } : Jvm.MethodName) ({ cls := "GraphModulesModel", name := "directed", desc := "(II)I" } : Jvm.MethodName)) ∈ lw_all := lw_g (lw_at lw_m7 233 rfl) rfl
theorem q1765 : (Jvm.Cond.code ({ cls := "GraphModulesModel", name := "directed", desc := "(II)I" } : Jvm.MethodName) prog_18_method_71_code (4 : Nat) (Option.some Jvm.ClassFile.FieldType.int)) ∈ lw_all := lw_g (lw_at lw_m7 234 rfl) rfl
theorem q1767 : (Jvm.Cond.instanceMethod ({ cls := "GraphModulesModel", name := "inOrder", desc := "(I)I" } : Jvm.MethodName)) ∈ lw_all := lw_g (lw_at lw_m7 236 rfl) rfl
theorem q1768 : (Jvm.Cond.selects "GraphModulesModel" ({ cls := "GraphModulesModel", name := "inOrder", desc := "(I)I" } : Jvm.MethodName) ({ cls := "GraphModulesModel", name := "inOrder", desc := "(I)I" } : Jvm.MethodName)) ∈ lw_all := lw_g (lw_at lw_m7 237 rfl) rfl
theorem q1769 : (Jvm.Cond.code ({ cls := "GraphModulesModel", name := "inOrder", desc := "(I)I" } : Jvm.MethodName) prog_18_method_73_code (2 : Nat) (Option.some Jvm.ClassFile.FieldType.int)) ∈ lw_all := lw_g (lw_at lw_m7 238 rfl) rfl
theorem q1770 : (Jvm.Cond.methodLink "GraphModulesModel" (244 : Nat) ({ cls := "GraphModulesModel", name := "laysOrder", desc := "()V" } : Jvm.MethodName)) ∈ lw_all := lw_g (lw_at lw_m7 239 rfl) rfl
theorem q1771 : (Jvm.Cond.privateMethod ({ cls := "GraphModulesModel", name := "laysOrder", desc := "()V" } : Jvm.MethodName)) ∈ lw_tbl := lw_at lw_m8 0 rfl
theorem q1772 : (Jvm.Cond.instanceMethod ({ cls := "GraphModulesModel", name := "laysOrder", desc := "()V" } : Jvm.MethodName)) ∈ lw_all := lw_g (lw_at lw_m8 1 rfl) rfl
theorem q1773 : (Jvm.Cond.code ({ cls := "GraphModulesModel", name := "laysOrder", desc := "()V" } : Jvm.MethodName) prog_18_method_72_code (7 : Nat) (Option.none : Option Jvm.ClassFile.FieldType)) ∈ lw_all := lw_g (lw_at lw_m8 2 rfl) rfl
theorem q1775 : (Jvm.Cond.instanceMethod ({ cls := "GraphModulesModel", name := "longest", desc := "()I" } : Jvm.MethodName)) ∈ lw_all := lw_g (lw_at lw_m8 4 rfl) rfl
theorem q1776 : (Jvm.Cond.selects "GraphModulesModel" ({ cls := "GraphModulesModel", name := "longest", desc := "()I" } : Jvm.MethodName) ({ cls := "GraphModulesModel", name := "longest", desc := "()I" } : Jvm.MethodName)) ∈ lw_all := lw_g (lw_at lw_m8 5 rfl) rfl
theorem q1777 : (Jvm.Cond.code ({ cls := "GraphModulesModel", name := "longest", desc := "()I" } : Jvm.MethodName) prog_18_method_74_code (5 : Nat) (Option.some Jvm.ClassFile.FieldType.int)) ∈ lw_all := lw_g (lw_at lw_m8 6 rfl) rfl
theorem q1779 : (Jvm.Cond.instanceMethod ({ cls := "GraphModulesModel", name := "type", desc := "(I)I" } : Jvm.MethodName)) ∈ lw_all := lw_g (lw_at lw_m8 8 rfl) rfl
theorem q1780 : (Jvm.Cond.selects "GraphModulesModel" ({ cls := "GraphModulesModel", name := "type", desc := "(I)I" } : Jvm.MethodName) ({ cls := "GraphModulesModel", name := "type", desc := "(I)I" } : Jvm.MethodName)) ∈ lw_all := lw_g (lw_at lw_m8 9 rfl) rfl
theorem q1781 : (Jvm.Cond.code ({ cls := "GraphModulesModel", name := "type", desc := "(I)I" } : Jvm.MethodName) prog_18_method_75_code (2 : Nat) (Option.some Jvm.ClassFile.FieldType.int)) ∈ lw_all := lw_g (lw_at lw_m8 10 rfl) rfl
theorem q1783 : (Jvm.Cond.instanceMethod ({ cls := "GraphModulesModel", name := "clearText", desc := "()I" } : Jvm.MethodName)) ∈ lw_all := lw_g (lw_at lw_m8 12 rfl) rfl
theorem q1784 : (Jvm.Cond.selects "GraphModulesModel" ({ cls := "GraphModulesModel", name := "clearText", desc := "()I" } : Jvm.MethodName) ({ cls := "GraphModulesModel", name := "clearText", desc := "()I" } : Jvm.MethodName)) ∈ lw_all := lw_g (lw_at lw_m8 13 rfl) rfl
theorem q1785 : (Jvm.Cond.code ({ cls := "GraphModulesModel", name := "clearText", desc := "()I" } : Jvm.MethodName) prog_18_method_76_code (2 : Nat) (Option.some Jvm.ClassFile.FieldType.int)) ∈ lw_all := lw_g (lw_at lw_m8 14 rfl) rfl
theorem q1787 : (Jvm.Cond.instanceMethod ({ cls := "GraphModulesModel", name := "fault", desc := "(I)I" } : Jvm.MethodName)) ∈ lw_all := lw_g (lw_at lw_m8 16 rfl) rfl
theorem q1788 : (Jvm.Cond.selects "GraphModulesModel" ({ cls := "GraphModulesModel", name := "fault", desc := "(I)I" } : Jvm.MethodName) ({ cls := "GraphModulesModel", name := "fault", desc := "(I)I" } : Jvm.MethodName)) ∈ lw_all := lw_g (lw_at lw_m8 17 rfl) rfl
theorem q1789 : (Jvm.Cond.code ({ cls := "GraphModulesModel", name := "fault", desc := "(I)I" } : Jvm.MethodName) prog_18_method_84_code (3 : Nat) (Option.some Jvm.ClassFile.FieldType.int)) ∈ lw_all := lw_g (lw_at lw_m8 18 rfl) rfl
theorem q1790 : (Jvm.Cond.methodLink "GraphModulesModel" (281 : Nat) ({ cls := "GraphModulesModel", name := "reads", desc := "()I" } : Jvm.MethodName)) ∈ lw_all := lw_g (lw_at lw_m8 19 rfl) rfl
theorem q1791 : (Jvm.Cond.privateMethod ({ cls := "GraphModulesModel", name := "reads", desc := "()I" } : Jvm.MethodName)) ∈ lw_tbl := lw_at lw_m8 20 rfl
theorem q1792 : (Jvm.Cond.instanceMethod ({ cls := "GraphModulesModel", name := "reads", desc := "()I" } : Jvm.MethodName)) ∈ lw_all := lw_g (lw_at lw_m8 21 rfl) rfl
theorem q1793 : (Jvm.Cond.code ({ cls := "GraphModulesModel", name := "reads", desc := "()I" } : Jvm.MethodName) prog_18_method_83_code (2 : Nat) (Option.some Jvm.ClassFile.FieldType.int)) ∈ lw_all := lw_g (lw_at lw_m8 22 rfl) rfl
theorem q1794 : (Jvm.Cond.methodLink "GraphModulesModel" (278 : Nat) ({ cls := "GraphModulesModel", name := "reason", desc := "(I)I" } : Jvm.MethodName)) ∈ lw_all := lw_g (lw_at lw_m8 23 rfl) rfl
theorem q1795 : (Jvm.Cond.privateMethod ({ cls := "GraphModulesModel", name := "reason", desc := "(I)I" } : Jvm.MethodName)) ∈ lw_tbl := lw_at lw_m8 24 rfl
theorem q1796 : (Jvm.Cond.instanceMethod ({ cls := "GraphModulesModel", name := "reason", desc := "(I)I" } : Jvm.MethodName)) ∈ lw_all := lw_g (lw_at lw_m8 25 rfl) rfl
theorem q1797 : (Jvm.Cond.code ({ cls := "GraphModulesModel", name := "reason", desc := "(I)I" } : Jvm.MethodName) prog_18_method_82_code (5 : Nat) (Option.some Jvm.ClassFile.FieldType.int)) ∈ lw_all := lw_g (lw_at lw_m8 26 rfl) rfl
theorem q1798 : (Jvm.Cond.methodLink "GraphModulesModel" (269 : Nat) ({ cls := "GraphModulesModel", name := "begins", desc := "(I)I" } : Jvm.MethodName)) ∈ lw_all := lw_g (lw_at lw_m8 27 rfl) rfl
theorem q1799 : (Jvm.Cond.privateMethod ({ cls := "GraphModulesModel", name := "begins", desc := "(I)I" } : Jvm.MethodName)) ∈ lw_tbl := lw_at lw_m8 28 rfl
theorem q1800 : (Jvm.Cond.instanceMethod ({ cls := "GraphModulesModel", name := "begins", desc := "(I)I" } : Jvm.MethodName)) ∈ lw_all := lw_g (lw_at lw_m8 29 rfl) rfl
theorem q1801 : (Jvm.Cond.code ({ cls := "GraphModulesModel", name := "begins", desc := "(I)I" } : Jvm.MethodName) prog_18_method_81_code (2 : Nat) (Option.some Jvm.ClassFile.FieldType.int)) ∈ lw_all := lw_g (lw_at lw_m8 30 rfl) rfl
theorem q1802 : (Jvm.Cond.methodLink "GraphModulesModel" (263 : Nat) ({ cls := "GraphModulesModel", name := "opens", desc := "(I)V" } : Jvm.MethodName)) ∈ lw_all := lw_g (lw_at lw_m8 31 rfl) rfl
theorem q1803 : (Jvm.Cond.privateMethod ({ cls := "GraphModulesModel", name := "opens", desc := "(I)V" } : Jvm.MethodName)) ∈ lw_tbl := lw_at lw_m8 32 rfl
theorem q1804 : (Jvm.Cond.instanceMethod ({ cls := "GraphModulesModel", name := "opens", desc := "(I)V" } : Jvm.MethodName)) ∈ lw_all := lw_g (lw_at lw_m8 33 rfl) rfl
theorem q1805 : (Jvm.Cond.code ({ cls := "GraphModulesModel", name := "opens", desc := "(I)V" } : Jvm.MethodName) prog_18_method_79_code (2 : Nat) (Option.none : Option Jvm.ClassFile.FieldType)) ∈ lw_all := lw_g (lw_at lw_m8 34 rfl) rfl
theorem q1806 : (Jvm.Cond.methodLink "GraphModulesModel" (256 : Nat) ({ cls := "GraphModulesModel", name := "completes", desc := "(I)V" } : Jvm.MethodName)) ∈ lw_all := lw_g (lw_at lw_m8 35 rfl) rfl
theorem q1807 : (Jvm.Cond.privateMethod ({ cls := "GraphModulesModel", name := "completes", desc := "(I)V" } : Jvm.MethodName)) ∈ lw_tbl := lw_at lw_m8 36 rfl
theorem q1808 : (Jvm.Cond.instanceMethod ({ cls := "GraphModulesModel", name := "completes", desc := "(I)V" } : Jvm.MethodName)) ∈ lw_all := lw_g (lw_at lw_m8 37 rfl) rfl
theorem q1809 : (Jvm.Cond.code ({ cls := "GraphModulesModel", name := "completes", desc := "(I)V" } : Jvm.MethodName) prog_18_method_78_code (3 : Nat) (Option.none : Option Jvm.ClassFile.FieldType)) ∈ lw_all := lw_g (lw_at lw_m8 38 rfl) rfl
theorem q1810 : (Jvm.Cond.methodLink "GraphModulesModel" (253 : Nat) ({ cls := "GraphModulesModel", name := "linksRead", desc := "(II)V" } : Jvm.MethodName)) ∈ lw_all := lw_g (lw_at lw_m8 39 rfl) rfl
theorem q1811 : (Jvm.Cond.privateMethod ({ cls := "GraphModulesModel", name := "linksRead", desc := "(II)V" } : Jvm.MethodName)) ∈ lw_tbl := lw_at lw_m8 40 rfl
theorem q1812 : (Jvm.Cond.instanceMethod ({ cls := "GraphModulesModel", name := "linksRead", desc := "(II)V" } : Jvm.MethodName)) ∈ lw_all := lw_g (lw_at lw_m8 41 rfl) rfl
theorem q1813 : (Jvm.Cond.code ({ cls := "GraphModulesModel", name := "linksRead", desc := "(II)V" } : Jvm.MethodName) prog_18_method_77_code (4 : Nat) (Option.none : Option Jvm.ClassFile.FieldType)) ∈ lw_all := lw_g (lw_at lw_m8 42 rfl) rfl
theorem q1814 : (Jvm.Cond.methodLink "GraphModulesModel" (272 : Nat) ({ cls := "GraphModulesModel", name := "closes", desc := "()I" } : Jvm.MethodName)) ∈ lw_all := lw_g (lw_at lw_m8 43 rfl) rfl
theorem q1815 : (Jvm.Cond.privateMethod ({ cls := "GraphModulesModel", name := "closes", desc := "()I" } : Jvm.MethodName)) ∈ lw_tbl := lw_at lw_m8 44 rfl
theorem q1816 : (Jvm.Cond.instanceMethod ({ cls := "GraphModulesModel", name := "closes", desc := "()I" } : Jvm.MethodName)) ∈ lw_all := lw_g (lw_at lw_m8 45 rfl) rfl
theorem q1817 : (Jvm.Cond.code ({ cls := "GraphModulesModel", name := "closes", desc := "()I" } : Jvm.MethodName) prog_18_method_80_code (1 : Nat) (Option.some Jvm.ClassFile.FieldType.int)) ∈ lw_all := lw_g (lw_at lw_m8 46 rfl) rfl
theorem q1819 : (Jvm.Cond.instanceMethod ({ cls := "GraphModulesModel", name := "load", desc := "()I" } : Jvm.MethodName)) ∈ lw_all := lw_g (lw_at lw_m8 48 rfl) rfl
theorem q1820 : (Jvm.Cond.selects "GraphModulesModel" ({ cls := "GraphModulesModel", name := "load", desc := "()I" } : Jvm.MethodName) ({ cls := "GraphModulesModel", name := "load", desc := "()I" } : Jvm.MethodName)) ∈ lw_all := lw_g (lw_at lw_m8 49 rfl) rfl
theorem q1821 : (Jvm.Cond.code ({ cls := "GraphModulesModel", name := "load", desc := "()I" } : Jvm.MethodName) prog_18_method_85_code (2 : Nat) (Option.some Jvm.ClassFile.FieldType.int)) ∈ lw_all := lw_g (lw_at lw_m8 50 rfl) rfl
theorem q1823 : (Jvm.Cond.instanceMethod ({ cls := "GraphModulesModel", name := "substitute", desc := "(I)I" } : Jvm.MethodName)) ∈ lw_all := lw_g (lw_at lw_m8 52 rfl) rfl
theorem q1824 : (Jvm.Cond.selects "GraphModulesModel" ({ cls := "GraphModulesModel", name := "substitute", desc := "(I)I" } : Jvm.MethodName) ({ cls := "GraphModulesModel", name := "substitute", desc := "(I)I" } : Jvm.MethodName)) ∈ lw_all := lw_g (lw_at lw_m8 53 rfl) rfl
theorem q1825 : (Jvm.Cond.code ({ cls := "GraphModulesModel", name := "substitute", desc := "(I)I" } : Jvm.MethodName) prog_18_method_86_code (7 : Nat) (Option.some Jvm.ClassFile.FieldType.int)) ∈ lw_all := lw_g (lw_at lw_m8 54 rfl) rfl
theorem q1827 : (Jvm.Cond.instanceMethod ({ cls := "GraphModulesModel", name := "write", desc := "()I" } : Jvm.MethodName)) ∈ lw_all := lw_g (lw_at lw_m8 56 rfl) rfl
theorem q1828 : (Jvm.Cond.selects "GraphModulesModel" ({ cls := "GraphModulesModel", name := "write", desc := "()I" } : Jvm.MethodName) ({ cls := "GraphModulesModel", name := "write", desc := "()I" } : Jvm.MethodName)) ∈ lw_all := lw_g (lw_at lw_m8 57 rfl) rfl
theorem q1829 : (Jvm.Cond.code ({ cls := "GraphModulesModel", name := "write", desc := "()I" } : Jvm.MethodName) prog_18_method_90_code (4 : Nat) (Option.some Jvm.ClassFile.FieldType.int)) ∈ lw_all := lw_g (lw_at lw_m8 58 rfl) rfl
theorem q1830 : (Jvm.Cond.methodLink "GraphModulesModel" (287 : Nat) ({ cls := "GraphModulesModel", name := "laysPath", desc := "(I)Z" } : Jvm.MethodName)) ∈ lw_all := lw_g (lw_at lw_m8 59 rfl) rfl
theorem q1831 : (Jvm.Cond.privateMethod ({ cls := "GraphModulesModel", name := "laysPath", desc := "(I)Z" } : Jvm.MethodName)) ∈ lw_tbl := lw_at lw_m8 60 rfl
theorem q1832 : (Jvm.Cond.instanceMethod ({ cls := "GraphModulesModel", name := "laysPath", desc := "(I)Z" } : Jvm.MethodName)) ∈ lw_all := lw_g (lw_at lw_m8 61 rfl) rfl
theorem q1833 : (Jvm.Cond.code ({ cls := "GraphModulesModel", name := "laysPath", desc := "(I)Z" } : Jvm.MethodName) prog_18_method_88_code (7 : Nat) (Option.some Jvm.ClassFile.FieldType.boolean)) ∈ lw_all := lw_g (lw_at lw_m8 62 rfl) rfl
theorem q1834 : (Jvm.Cond.methodLink "GraphModulesModel" (284 : Nat) ({ cls := "GraphModulesModel", name := "degree", desc := "(II)I" } : Jvm.MethodName)) ∈ lw_all := lw_g (lw_at lw_m8 63 rfl) rfl
theorem q1835 : (Jvm.Cond.privateMethod ({ cls := "GraphModulesModel", name := "degree", desc := "(II)I" } : Jvm.MethodName)) ∈ lw_tbl := lw_at lw_m8 64 rfl
theorem q1836 : (Jvm.Cond.instanceMethod ({ cls := "GraphModulesModel", name := "degree", desc := "(II)I" } : Jvm.MethodName)) ∈ lw_all := lw_g (lw_at lw_m8 65 rfl) rfl
theorem q1837 : (Jvm.Cond.code ({ cls := "GraphModulesModel", name := "degree", desc := "(II)I" } : Jvm.MethodName) prog_18_method_87_code (5 : Nat) (Option.some Jvm.ClassFile.FieldType.int)) ∈ lw_all := lw_g (lw_at lw_m8 66 rfl) rfl
theorem q1838 : (Jvm.Cond.methodLink "GraphModulesModel" (290 : Nat) ({ cls := "GraphModulesModel", name := "piles", desc := "(II)I" } : Jvm.MethodName)) ∈ lw_all := lw_g (lw_at lw_m8 67 rfl) rfl
theorem q1839 : (Jvm.Cond.privateMethod ({ cls := "GraphModulesModel", name := "piles", desc := "(II)I" } : Jvm.MethodName)) ∈ lw_tbl := lw_at lw_m8 68 rfl
theorem q1840 : (Jvm.Cond.instanceMethod ({ cls := "GraphModulesModel", name := "piles", desc := "(II)I" } : Jvm.MethodName)) ∈ lw_all := lw_g (lw_at lw_m8 69 rfl) rfl
theorem q1841 : (Jvm.Cond.code ({ cls := "GraphModulesModel", name := "piles", desc := "(II)I" } : Jvm.MethodName) prog_18_method_89_code (6 : Nat) (Option.some Jvm.ClassFile.FieldType.int)) ∈ lw_all := lw_g (lw_at lw_m8 70 rfl) rfl
theorem q1855 : (Jvm.Cond.castable "GraphModulesModel" "java/lang/Object") ∈ lw_tbl := lw_at lw_m8 84 rfl
theorem in_X3 : ∀ w ∈ wsX30, w ∈ lw_all := lw_in wsX30 [1415, 1417, 1419, 1421, 1423, 1425, 1427, 1429, 1431, 1433, 1435, 1437, 1439, 1441, 1443, 1445, 1447, 1449, 1451, 1453, 1455, 1457, 1459, 1461, 1463, 1465, 1467, 1469, 1471, 1473, 1475, 1477, 1479, 1481, 1483, 1485, 1487, 1489, 1491] (by decide +kernel) (by decide +kernel)
