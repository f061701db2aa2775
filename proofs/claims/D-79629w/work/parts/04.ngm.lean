/-! GraphModules -/
set_option maxRecDepth 100000
def RX0 : String := "GraphModules"
def TX0 : u_T := fun k => match k with
  | 0 => ("GraphModules", "history", "LGraphModules$Row;", true)
  | 1 => ("GraphModules", "text", "LGraphModules$Row;", true)
  | 2 => ("GraphModules", "line", "LGraphModules$Row;", true)
  | 3 => ("GraphModules", "graph", "LGraphModules$Graph;", false)
  | 4 => ("GraphModules", "forest", "LGraphModules$Forest;", false)
  | _ => ("GraphModules", "orientation", "LGraphModules$Orientation;", false)
def tyX0 : Nat → FieldType := fun k => match k with
  | 0 => .object "GraphModules$Row"
  | 1 => .object "GraphModules$Row"
  | 2 => .object "GraphModules$Row"
  | 3 => .object "GraphModules$Graph"
  | 4 => .object "GraphModules$Forest"
  | _ => .object "GraphModules$Orientation"
abbrev wsX00 : List Cond := u_ws RX0 TX0 6
theorem nmX0 : ∀ a, a < 6 → ∀ b, b < 6 → a ≠ b → (TX0 a).2.1 ≠ (TX0 b).2.1 := by decide +kernel
theorem tyX0_ok : ∀ k, k < 6 → parseFieldDescriptor (TX0 k).2.2.1 = some (tyX0 k) := by decide +kernel
abbrev cX0_init : ByteArray := prog_1_method_9_code
def yX0_init : MethodName := ⟨RX0, "<init>", "()V"⟩
def dkwX0_init_2 : List UInt8 := [187, 0, 25, 89, 16, 6, 183, 0, 105, 181, 0, 106, 177]
abbrev dktX0_init_2 : List UInt8 := dkwX0_init_2 ++ []
def dkwX0_init_1 : List UInt8 := [16, 10, 188, 8, 183, 0, 91, 181, 0, 98, 42, 187, 0, 89, 89, 7, 183, 0, 101, 181, 0, 102, 42]
abbrev dktX0_init_1 : List UInt8 := dkwX0_init_1 ++ dktX0_init_2
def dkwX0_init_0 : List UInt8 := [42, 183, 0, 84, 42, 187, 0, 89, 89, 16, 60, 188, 9, 183, 0, 91, 181, 0, 94, 42, 187, 0, 89, 89]
abbrev dktX0_init_0 : List UInt8 := dkwX0_init_0 ++ dktX0_init_1
theorem dksX0_init_0 : cX0_init.data.toList.drop 0 = dktX0_init_0 := by decide +kernel
theorem dksX0_init_1 : cX0_init.data.toList.drop 24 = dktX0_init_1 := dk_seg dksX0_init_0 24 rfl rfl
theorem dksX0_init_2 : cX0_init.data.toList.drop 47 = dktX0_init_2 := dk_seg dksX0_init_1 23 rfl rfl
theorem dX0_init_0 : decode cX0_init 0 = .ok (.aload_n 0, 1) := dk_42 (dk_at dksX0_init_0 0 rfl rfl)
theorem dX0_init_1 : decode cX0_init 1 = .ok (.invokespecial 84, 3) := dk_183 0 84 (dk_at dksX0_init_0 1 rfl rfl)
theorem dX0_init_4 : decode cX0_init 4 = .ok (.aload_n 0, 1) := dk_42 (dk_at dksX0_init_0 4 rfl rfl)
theorem dX0_init_5 : decode cX0_init 5 = .ok (.new 89, 3) := dk_187 0 89 (dk_at dksX0_init_0 5 rfl rfl)
theorem dX0_init_8 : decode cX0_init 8 = .ok (.dup, 1) := dk_89 (dk_at dksX0_init_0 8 rfl rfl)
theorem dX0_init_9 : decode cX0_init 9 = .ok (.bipush 60, 2) := dk_16 60 (dk_at dksX0_init_0 9 rfl rfl)
theorem dX0_init_11 : decode cX0_init 11 = .ok (.newarray .short, 2) := dk_188_9 (dk_at dksX0_init_0 11 rfl rfl)
theorem dX0_init_13 : decode cX0_init 13 = .ok (.invokespecial 91, 3) := dk_183 0 91 (dk_at dksX0_init_0 13 rfl rfl)
theorem dX0_init_16 : decode cX0_init 16 = .ok (.putfield 94, 3) := dk_181 0 94 (dk_at dksX0_init_0 16 rfl rfl)
theorem dX0_init_19 : decode cX0_init 19 = .ok (.aload_n 0, 1) := dk_42 (dk_at dksX0_init_0 19 rfl rfl)
theorem dX0_init_20 : decode cX0_init 20 = .ok (.new 89, 3) := dk_187 0 89 (dk_at dksX0_init_0 20 rfl rfl)
theorem dX0_init_23 : decode cX0_init 23 = .ok (.dup, 1) := dk_89 (dk_at dksX0_init_0 23 rfl rfl)
theorem dX0_init_24 : decode cX0_init 24 = .ok (.bipush 10, 2) := dk_16 10 (dk_at dksX0_init_1 0 rfl rfl)
theorem dX0_init_26 : decode cX0_init 26 = .ok (.newarray .byte, 2) := dk_188_8 (dk_at dksX0_init_1 2 rfl rfl)
theorem dX0_init_28 : decode cX0_init 28 = .ok (.invokespecial 91, 3) := dk_183 0 91 (dk_at dksX0_init_1 4 rfl rfl)
theorem dX0_init_31 : decode cX0_init 31 = .ok (.putfield 98, 3) := dk_181 0 98 (dk_at dksX0_init_1 7 rfl rfl)
theorem dX0_init_34 : decode cX0_init 34 = .ok (.aload_n 0, 1) := dk_42 (dk_at dksX0_init_1 10 rfl rfl)
theorem dX0_init_35 : decode cX0_init 35 = .ok (.new 89, 3) := dk_187 0 89 (dk_at dksX0_init_1 11 rfl rfl)
theorem dX0_init_38 : decode cX0_init 38 = .ok (.dup, 1) := dk_89 (dk_at dksX0_init_1 14 rfl rfl)
theorem dX0_init_39 : decode cX0_init 39 = .ok (.iconst 4, 1) := dk_7 (dk_at dksX0_init_1 15 rfl rfl)
theorem dX0_init_40 : decode cX0_init 40 = .ok (.invokespecial 101, 3) := dk_183 0 101 (dk_at dksX0_init_1 16 rfl rfl)
theorem dX0_init_43 : decode cX0_init 43 = .ok (.putfield 102, 3) := dk_181 0 102 (dk_at dksX0_init_1 19 rfl rfl)
theorem dX0_init_46 : decode cX0_init 46 = .ok (.aload_n 0, 1) := dk_42 (dk_at dksX0_init_1 22 rfl rfl)
theorem dX0_init_47 : decode cX0_init 47 = .ok (.new 25, 3) := dk_187 0 25 (dk_at dksX0_init_2 0 rfl rfl)
theorem dX0_init_50 : decode cX0_init 50 = .ok (.dup, 1) := dk_89 (dk_at dksX0_init_2 3 rfl rfl)
theorem dX0_init_51 : decode cX0_init 51 = .ok (.bipush 6, 2) := dk_16 6 (dk_at dksX0_init_2 4 rfl rfl)
theorem dX0_init_53 : decode cX0_init 53 = .ok (.invokespecial 105, 3) := dk_183 0 105 (dk_at dksX0_init_2 6 rfl rfl)
theorem dX0_init_56 : decode cX0_init 56 = .ok (.putfield 106, 3) := dk_181 0 106 (dk_at dksX0_init_2 9 rfl rfl)
theorem dX0_init_59 : decode cX0_init 59 = .ok (.return_, 1) := dk_177 (dk_at dksX0_init_2 12 rfl rfl)
abbrev cX0_begin : ByteArray := prog_1_method_18_code
def yX0_begin : MethodName := ⟨RX0, "begin", "(I)I"⟩
def dkwX0_begin_1 : List UInt8 := [27, 172]
abbrev dktX0_begin_1 : List UInt8 := dkwX0_begin_1 ++ []
def dkwX0_begin_0 : List UInt8 := [27, 4, 16, 10, 184, 0, 159, 154, 0, 5, 2, 172, 42, 187, 0, 25, 89, 27, 183, 0, 105, 182, 0, 170]
abbrev dktX0_begin_0 : List UInt8 := dkwX0_begin_0 ++ dktX0_begin_1
theorem dksX0_begin_0 : cX0_begin.data.toList.drop 0 = dktX0_begin_0 := by decide +kernel
theorem dksX0_begin_1 : cX0_begin.data.toList.drop 24 = dktX0_begin_1 := dk_seg dksX0_begin_0 24 rfl rfl
theorem dX0_begin_0 : decode cX0_begin 0 = .ok (.iload_n 1, 1) := dk_27 (dk_at dksX0_begin_0 0 rfl rfl)
theorem dX0_begin_1 : decode cX0_begin 1 = .ok (.iconst 1, 1) := dk_4 (dk_at dksX0_begin_0 1 rfl rfl)
theorem dX0_begin_2 : decode cX0_begin 2 = .ok (.bipush 10, 2) := dk_16 10 (dk_at dksX0_begin_0 2 rfl rfl)
theorem dX0_begin_4 : decode cX0_begin 4 = .ok (.invokestatic 159, 3) := dk_184 0 159 (dk_at dksX0_begin_0 4 rfl rfl)
theorem dX0_begin_7 : decode cX0_begin 7 = .ok (.ifCond .ne 5, 3) := dk_154 0 5 (dk_at dksX0_begin_0 7 rfl rfl)
theorem dX0_begin_10 : decode cX0_begin 10 = .ok (.iconst (-1), 1) := dk_2 (dk_at dksX0_begin_0 10 rfl rfl)
theorem dX0_begin_11 : decode cX0_begin 11 = .ok (.ireturn, 1) := dk_172 (dk_at dksX0_begin_0 11 rfl rfl)
theorem dX0_begin_12 : decode cX0_begin 12 = .ok (.aload_n 0, 1) := dk_42 (dk_at dksX0_begin_0 12 rfl rfl)
theorem dX0_begin_13 : decode cX0_begin 13 = .ok (.new 25, 3) := dk_187 0 25 (dk_at dksX0_begin_0 13 rfl rfl)
theorem dX0_begin_16 : decode cX0_begin 16 = .ok (.dup, 1) := dk_89 (dk_at dksX0_begin_0 16 rfl rfl)
theorem dX0_begin_17 : decode cX0_begin 17 = .ok (.iload_n 1, 1) := dk_27 (dk_at dksX0_begin_0 17 rfl rfl)
theorem dX0_begin_18 : decode cX0_begin 18 = .ok (.invokespecial 105, 3) := dk_183 0 105 (dk_at dksX0_begin_0 18 rfl rfl)
theorem dX0_begin_21 : decode cX0_begin 21 = .ok (.invokevirtual 170, 3) := dk_182 0 170 (dk_at dksX0_begin_0 21 rfl rfl)
theorem dX0_begin_24 : decode cX0_begin 24 = .ok (.iload_n 1, 1) := dk_27 (dk_at dksX0_begin_1 0 rfl rfl)
theorem dX0_begin_25 : decode cX0_begin 25 = .ok (.ireturn, 1) := dk_172 (dk_at dksX0_begin_1 1 rfl rfl)
abbrev cX0_inRange : ByteArray := prog_1_method_1_code
def yX0_inRange : MethodName := ⟨RX0, "inRange", "(III)Z"⟩
def dkwX0_inRange_0 : List UInt8 := [26, 27, 161, 0, 12, 26, 28, 163, 0, 7, 4, 167, 0, 4, 3, 172]
abbrev dktX0_inRange_0 : List UInt8 := dkwX0_inRange_0 ++ []
theorem dksX0_inRange_0 : cX0_inRange.data.toList.drop 0 = dktX0_inRange_0 := by decide +kernel
theorem dX0_inRange_0 : decode cX0_inRange 0 = .ok (.iload_n 0, 1) := dk_26 (dk_at dksX0_inRange_0 0 rfl rfl)
theorem dX0_inRange_1 : decode cX0_inRange 1 = .ok (.iload_n 1, 1) := dk_27 (dk_at dksX0_inRange_0 1 rfl rfl)
theorem dX0_inRange_2 : decode cX0_inRange 2 = .ok (.if_icmp .lt 12, 3) := dk_161 0 12 (dk_at dksX0_inRange_0 2 rfl rfl)
theorem dX0_inRange_5 : decode cX0_inRange 5 = .ok (.iload_n 0, 1) := dk_26 (dk_at dksX0_inRange_0 5 rfl rfl)
theorem dX0_inRange_6 : decode cX0_inRange 6 = .ok (.iload_n 2, 1) := dk_28 (dk_at dksX0_inRange_0 6 rfl rfl)
theorem dX0_inRange_7 : decode cX0_inRange 7 = .ok (.if_icmp .gt 7, 3) := dk_163 0 7 (dk_at dksX0_inRange_0 7 rfl rfl)
theorem dX0_inRange_10 : decode cX0_inRange 10 = .ok (.iconst 1, 1) := dk_4 (dk_at dksX0_inRange_0 10 rfl rfl)
theorem dX0_inRange_11 : decode cX0_inRange 11 = .ok (.goto 4, 3) := dk_167 0 4 (dk_at dksX0_inRange_0 11 rfl rfl)
theorem dX0_inRange_14 : decode cX0_inRange 14 = .ok (.iconst 0, 1) := dk_3 (dk_at dksX0_inRange_0 14 rfl rfl)
theorem dX0_inRange_15 : decode cX0_inRange 15 = .ok (.ireturn, 1) := dk_172 (dk_at dksX0_inRange_0 15 rfl rfl)
abbrev cX0_change : ByteArray := prog_1_method_13_code
def yX0_change : MethodName := ⟨RX0, "change", "(LGraphModules$Graph;)V"⟩
def dkwX0_change_1 : List UInt8 := [42, 180, 0, 102, 42, 180, 0, 106, 182, 0, 136, 182, 0, 140, 87, 42, 43, 182, 0, 143, 177]
abbrev dktX0_change_1 : List UInt8 := dkwX0_change_1 ++ []
def dkwX0_change_0 : List UInt8 := [42, 180, 0, 102, 180, 0, 129, 42, 180, 0, 102, 182, 0, 132, 160, 0, 10, 42, 180, 0, 102, 182, 0, 133]
abbrev dktX0_change_0 : List UInt8 := dkwX0_change_0 ++ dktX0_change_1
theorem dksX0_change_0 : cX0_change.data.toList.drop 0 = dktX0_change_0 := by decide +kernel
theorem dksX0_change_1 : cX0_change.data.toList.drop 24 = dktX0_change_1 := dk_seg dksX0_change_0 24 rfl rfl
theorem dX0_change_0 : decode cX0_change 0 = .ok (.aload_n 0, 1) := dk_42 (dk_at dksX0_change_0 0 rfl rfl)
theorem dX0_change_1 : decode cX0_change 1 = .ok (.getfield 102, 3) := dk_180 0 102 (dk_at dksX0_change_0 1 rfl rfl)
theorem dX0_change_4 : decode cX0_change 4 = .ok (.getfield 129, 3) := dk_180 0 129 (dk_at dksX0_change_0 4 rfl rfl)
theorem dX0_change_7 : decode cX0_change 7 = .ok (.aload_n 0, 1) := dk_42 (dk_at dksX0_change_0 7 rfl rfl)
theorem dX0_change_8 : decode cX0_change 8 = .ok (.getfield 102, 3) := dk_180 0 102 (dk_at dksX0_change_0 8 rfl rfl)
theorem dX0_change_11 : decode cX0_change 11 = .ok (.invokevirtual 132, 3) := dk_182 0 132 (dk_at dksX0_change_0 11 rfl rfl)
theorem dX0_change_14 : decode cX0_change 14 = .ok (.if_icmp .ne 10, 3) := dk_160 0 10 (dk_at dksX0_change_0 14 rfl rfl)
theorem dX0_change_17 : decode cX0_change 17 = .ok (.aload_n 0, 1) := dk_42 (dk_at dksX0_change_0 17 rfl rfl)
theorem dX0_change_18 : decode cX0_change 18 = .ok (.getfield 102, 3) := dk_180 0 102 (dk_at dksX0_change_0 18 rfl rfl)
theorem dX0_change_21 : decode cX0_change 21 = .ok (.invokevirtual 133, 3) := dk_182 0 133 (dk_at dksX0_change_0 21 rfl rfl)
theorem dX0_change_24 : decode cX0_change 24 = .ok (.aload_n 0, 1) := dk_42 (dk_at dksX0_change_1 0 rfl rfl)
theorem dX0_change_25 : decode cX0_change 25 = .ok (.getfield 102, 3) := dk_180 0 102 (dk_at dksX0_change_1 1 rfl rfl)
theorem dX0_change_28 : decode cX0_change 28 = .ok (.aload_n 0, 1) := dk_42 (dk_at dksX0_change_1 4 rfl rfl)
theorem dX0_change_29 : decode cX0_change 29 = .ok (.getfield 106, 3) := dk_180 0 106 (dk_at dksX0_change_1 5 rfl rfl)
theorem dX0_change_32 : decode cX0_change 32 = .ok (.invokevirtual 136, 3) := dk_182 0 136 (dk_at dksX0_change_1 8 rfl rfl)
theorem dX0_change_35 : decode cX0_change 35 = .ok (.invokevirtual 140, 3) := dk_182 0 140 (dk_at dksX0_change_1 11 rfl rfl)
theorem dX0_change_38 : decode cX0_change 38 = .ok (.pop, 1) := dk_87 (dk_at dksX0_change_1 14 rfl rfl)
theorem dX0_change_39 : decode cX0_change 39 = .ok (.aload_n 0, 1) := dk_42 (dk_at dksX0_change_1 15 rfl rfl)
theorem dX0_change_40 : decode cX0_change 40 = .ok (.aload_n 1, 1) := dk_43 (dk_at dksX0_change_1 16 rfl rfl)
theorem dX0_change_41 : decode cX0_change 41 = .ok (.invokevirtual 143, 3) := dk_182 0 143 (dk_at dksX0_change_1 17 rfl rfl)
theorem dX0_change_44 : decode cX0_change 44 = .ok (.return_, 1) := dk_177 (dk_at dksX0_change_1 20 rfl rfl)
abbrev cX0_has : ByteArray := prog_1_method_2_code
def yX0_has : MethodName := ⟨RX0, "has", "(II)Z"⟩
def dkwX0_has_0 : List UInt8 := [26, 27, 122, 4, 126, 4, 160, 0, 7, 4, 167, 0, 4, 3, 172]
abbrev dktX0_has_0 : List UInt8 := dkwX0_has_0 ++ []
theorem dksX0_has_0 : cX0_has.data.toList.drop 0 = dktX0_has_0 := by decide +kernel
theorem dX0_has_0 : decode cX0_has 0 = .ok (.iload_n 0, 1) := dk_26 (dk_at dksX0_has_0 0 rfl rfl)
theorem dX0_has_1 : decode cX0_has 1 = .ok (.iload_n 1, 1) := dk_27 (dk_at dksX0_has_0 1 rfl rfl)
theorem dX0_has_2 : decode cX0_has 2 = .ok (.ishr, 1) := dk_122 (dk_at dksX0_has_0 2 rfl rfl)
theorem dX0_has_3 : decode cX0_has 3 = .ok (.iconst 1, 1) := dk_4 (dk_at dksX0_has_0 3 rfl rfl)
theorem dX0_has_4 : decode cX0_has 4 = .ok (.iand, 1) := dk_126 (dk_at dksX0_has_0 4 rfl rfl)
theorem dX0_has_5 : decode cX0_has 5 = .ok (.iconst 1, 1) := dk_4 (dk_at dksX0_has_0 5 rfl rfl)
theorem dX0_has_6 : decode cX0_has 6 = .ok (.if_icmp .ne 7, 3) := dk_160 0 7 (dk_at dksX0_has_0 6 rfl rfl)
theorem dX0_has_9 : decode cX0_has 9 = .ok (.iconst 1, 1) := dk_4 (dk_at dksX0_has_0 9 rfl rfl)
theorem dX0_has_10 : decode cX0_has 10 = .ok (.goto 4, 3) := dk_167 0 4 (dk_at dksX0_has_0 10 rfl rfl)
theorem dX0_has_13 : decode cX0_has 13 = .ok (.iconst 0, 1) := dk_3 (dk_at dksX0_has_0 13 rfl rfl)
theorem dX0_has_14 : decode cX0_has 14 = .ok (.ireturn, 1) := dk_172 (dk_at dksX0_has_0 14 rfl rfl)
abbrev cX0_lay : ByteArray := prog_1_method_12_code
def yX0_lay : MethodName := ⟨RX0, "lay", "(LGraphModules$Graph;)V"⟩
def dkwX0_lay_0 : List UInt8 := [42, 43, 181, 0, 106, 42, 1, 181, 0, 110, 42, 1, 181, 0, 119, 42, 180, 0, 98, 182, 0, 126, 87, 177]
abbrev dktX0_lay_0 : List UInt8 := dkwX0_lay_0 ++ []
theorem dksX0_lay_0 : cX0_lay.data.toList.drop 0 = dktX0_lay_0 := by decide +kernel
theorem dX0_lay_0 : decode cX0_lay 0 = .ok (.aload_n 0, 1) := dk_42 (dk_at dksX0_lay_0 0 rfl rfl)
theorem dX0_lay_1 : decode cX0_lay 1 = .ok (.aload_n 1, 1) := dk_43 (dk_at dksX0_lay_0 1 rfl rfl)
theorem dX0_lay_2 : decode cX0_lay 2 = .ok (.putfield 106, 3) := dk_181 0 106 (dk_at dksX0_lay_0 2 rfl rfl)
theorem dX0_lay_5 : decode cX0_lay 5 = .ok (.aload_n 0, 1) := dk_42 (dk_at dksX0_lay_0 5 rfl rfl)
theorem dX0_lay_6 : decode cX0_lay 6 = .ok (.aconst_null, 1) := dk_1 (dk_at dksX0_lay_0 6 rfl rfl)
theorem dX0_lay_7 : decode cX0_lay 7 = .ok (.putfield 110, 3) := dk_181 0 110 (dk_at dksX0_lay_0 7 rfl rfl)
theorem dX0_lay_10 : decode cX0_lay 10 = .ok (.aload_n 0, 1) := dk_42 (dk_at dksX0_lay_0 10 rfl rfl)
theorem dX0_lay_11 : decode cX0_lay 11 = .ok (.aconst_null, 1) := dk_1 (dk_at dksX0_lay_0 11 rfl rfl)
theorem dX0_lay_12 : decode cX0_lay 12 = .ok (.putfield 119, 3) := dk_181 0 119 (dk_at dksX0_lay_0 12 rfl rfl)
theorem dX0_lay_15 : decode cX0_lay 15 = .ok (.aload_n 0, 1) := dk_42 (dk_at dksX0_lay_0 15 rfl rfl)
theorem dX0_lay_16 : decode cX0_lay 16 = .ok (.getfield 98, 3) := dk_180 0 98 (dk_at dksX0_lay_0 16 rfl rfl)
theorem dX0_lay_19 : decode cX0_lay 19 = .ok (.invokevirtual 126, 3) := dk_182 0 126 (dk_at dksX0_lay_0 19 rfl rfl)
theorem dX0_lay_22 : decode cX0_lay 22 = .ok (.pop, 1) := dk_87 (dk_at dksX0_lay_0 22 rfl rfl)
theorem dX0_lay_23 : decode cX0_lay 23 = .ok (.return_, 1) := dk_177 (dk_at dksX0_lay_0 23 rfl rfl)
abbrev cX0_set : ByteArray := prog_1_method_19_code
def yX0_set : MethodName := ⟨RX0, "set", "(III)I"⟩
def dkwX0_set_4 : List UInt8 := [172]
abbrev dktX0_set_4 : List UInt8 := dkwX0_set_4 ++ []
def dkwX0_set_3 : List UInt8 := [160, 0, 7, 4, 167, 0, 4, 3, 182, 0, 155, 42, 25, 4, 182, 0, 170, 42, 180, 0, 106, 182, 0, 180]
abbrev dktX0_set_3 : List UInt8 := dkwX0_set_3 ++ dktX0_set_4
def dkwX0_set_2 : List UInt8 := [16, 254, 172, 42, 42, 180, 0, 106, 180, 0, 42, 182, 0, 176, 58, 4, 25, 4, 27, 28, 29, 4]
abbrev dktX0_set_2 : List UInt8 := dkwX0_set_2 ++ dktX0_set_3
def dkwX0_set_1 : List UInt8 := [172, 42, 180, 0, 106, 27, 28, 182, 0, 152, 29, 4, 160, 0, 7, 4, 167, 0, 4, 3, 160, 0, 6]
abbrev dktX0_set_1 : List UInt8 := dkwX0_set_1 ++ dktX0_set_2
def dkwX0_set_0 : List UInt8 := [42, 27, 28, 182, 0, 173, 153, 0, 17, 27, 28, 159, 0, 12, 29, 3, 4, 184, 0, 159, 154, 0, 5, 2]
abbrev dktX0_set_0 : List UInt8 := dkwX0_set_0 ++ dktX0_set_1
theorem dksX0_set_0 : cX0_set.data.toList.drop 0 = dktX0_set_0 := by decide +kernel
theorem dksX0_set_1 : cX0_set.data.toList.drop 24 = dktX0_set_1 := dk_seg dksX0_set_0 24 rfl rfl
theorem dksX0_set_2 : cX0_set.data.toList.drop 47 = dktX0_set_2 := dk_seg dksX0_set_1 23 rfl rfl
theorem dksX0_set_3 : cX0_set.data.toList.drop 69 = dktX0_set_3 := dk_seg dksX0_set_2 22 rfl rfl
theorem dksX0_set_4 : cX0_set.data.toList.drop 93 = dktX0_set_4 := dk_seg dksX0_set_3 24 rfl rfl
theorem dX0_set_0 : decode cX0_set 0 = .ok (.aload_n 0, 1) := dk_42 (dk_at dksX0_set_0 0 rfl rfl)
theorem dX0_set_1 : decode cX0_set 1 = .ok (.iload_n 1, 1) := dk_27 (dk_at dksX0_set_0 1 rfl rfl)
theorem dX0_set_2 : decode cX0_set 2 = .ok (.iload_n 2, 1) := dk_28 (dk_at dksX0_set_0 2 rfl rfl)
theorem dX0_set_3 : decode cX0_set 3 = .ok (.invokevirtual 173, 3) := dk_182 0 173 (dk_at dksX0_set_0 3 rfl rfl)
theorem dX0_set_6 : decode cX0_set 6 = .ok (.ifCond .eq 17, 3) := dk_153 0 17 (dk_at dksX0_set_0 6 rfl rfl)
theorem dX0_set_9 : decode cX0_set 9 = .ok (.iload_n 1, 1) := dk_27 (dk_at dksX0_set_0 9 rfl rfl)
theorem dX0_set_10 : decode cX0_set 10 = .ok (.iload_n 2, 1) := dk_28 (dk_at dksX0_set_0 10 rfl rfl)
theorem dX0_set_11 : decode cX0_set 11 = .ok (.if_icmp .eq 12, 3) := dk_159 0 12 (dk_at dksX0_set_0 11 rfl rfl)
theorem dX0_set_14 : decode cX0_set 14 = .ok (.iload_n 3, 1) := dk_29 (dk_at dksX0_set_0 14 rfl rfl)
theorem dX0_set_15 : decode cX0_set 15 = .ok (.iconst 0, 1) := dk_3 (dk_at dksX0_set_0 15 rfl rfl)
theorem dX0_set_16 : decode cX0_set 16 = .ok (.iconst 1, 1) := dk_4 (dk_at dksX0_set_0 16 rfl rfl)
theorem dX0_set_17 : decode cX0_set 17 = .ok (.invokestatic 159, 3) := dk_184 0 159 (dk_at dksX0_set_0 17 rfl rfl)
theorem dX0_set_20 : decode cX0_set 20 = .ok (.ifCond .ne 5, 3) := dk_154 0 5 (dk_at dksX0_set_0 20 rfl rfl)
theorem dX0_set_23 : decode cX0_set 23 = .ok (.iconst (-1), 1) := dk_2 (dk_at dksX0_set_0 23 rfl rfl)
theorem dX0_set_24 : decode cX0_set 24 = .ok (.ireturn, 1) := dk_172 (dk_at dksX0_set_1 0 rfl rfl)
theorem dX0_set_25 : decode cX0_set 25 = .ok (.aload_n 0, 1) := dk_42 (dk_at dksX0_set_1 1 rfl rfl)
theorem dX0_set_26 : decode cX0_set 26 = .ok (.getfield 106, 3) := dk_180 0 106 (dk_at dksX0_set_1 2 rfl rfl)
theorem dX0_set_29 : decode cX0_set 29 = .ok (.iload_n 1, 1) := dk_27 (dk_at dksX0_set_1 5 rfl rfl)
theorem dX0_set_30 : decode cX0_set 30 = .ok (.iload_n 2, 1) := dk_28 (dk_at dksX0_set_1 6 rfl rfl)
theorem dX0_set_31 : decode cX0_set 31 = .ok (.invokevirtual 152, 3) := dk_182 0 152 (dk_at dksX0_set_1 7 rfl rfl)
theorem dX0_set_34 : decode cX0_set 34 = .ok (.iload_n 3, 1) := dk_29 (dk_at dksX0_set_1 10 rfl rfl)
theorem dX0_set_35 : decode cX0_set 35 = .ok (.iconst 1, 1) := dk_4 (dk_at dksX0_set_1 11 rfl rfl)
theorem dX0_set_36 : decode cX0_set 36 = .ok (.if_icmp .ne 7, 3) := dk_160 0 7 (dk_at dksX0_set_1 12 rfl rfl)
theorem dX0_set_39 : decode cX0_set 39 = .ok (.iconst 1, 1) := dk_4 (dk_at dksX0_set_1 15 rfl rfl)
theorem dX0_set_40 : decode cX0_set 40 = .ok (.goto 4, 3) := dk_167 0 4 (dk_at dksX0_set_1 16 rfl rfl)
theorem dX0_set_43 : decode cX0_set 43 = .ok (.iconst 0, 1) := dk_3 (dk_at dksX0_set_1 19 rfl rfl)
theorem dX0_set_44 : decode cX0_set 44 = .ok (.if_icmp .ne 6, 3) := dk_160 0 6 (dk_at dksX0_set_1 20 rfl rfl)
theorem dX0_set_47 : decode cX0_set 47 = .ok (.bipush (-2), 2) := dk_16 254 (dk_at dksX0_set_2 0 rfl rfl)
theorem dX0_set_49 : decode cX0_set 49 = .ok (.ireturn, 1) := dk_172 (dk_at dksX0_set_2 2 rfl rfl)
theorem dX0_set_50 : decode cX0_set 50 = .ok (.aload_n 0, 1) := dk_42 (dk_at dksX0_set_2 3 rfl rfl)
theorem dX0_set_51 : decode cX0_set 51 = .ok (.aload_n 0, 1) := dk_42 (dk_at dksX0_set_2 4 rfl rfl)
theorem dX0_set_52 : decode cX0_set 52 = .ok (.getfield 106, 3) := dk_180 0 106 (dk_at dksX0_set_2 5 rfl rfl)
theorem dX0_set_55 : decode cX0_set 55 = .ok (.getfield 42, 3) := dk_180 0 42 (dk_at dksX0_set_2 8 rfl rfl)
theorem dX0_set_58 : decode cX0_set 58 = .ok (.invokevirtual 176, 3) := dk_182 0 176 (dk_at dksX0_set_2 11 rfl rfl)
theorem dX0_set_61 : decode cX0_set 61 = .ok (.astore 4, 2) := dk_58 4 (dk_at dksX0_set_2 14 rfl rfl)
theorem dX0_set_63 : decode cX0_set 63 = .ok (.aload 4, 2) := dk_25 4 (dk_at dksX0_set_2 16 rfl rfl)
theorem dX0_set_65 : decode cX0_set 65 = .ok (.iload_n 1, 1) := dk_27 (dk_at dksX0_set_2 18 rfl rfl)
theorem dX0_set_66 : decode cX0_set 66 = .ok (.iload_n 2, 1) := dk_28 (dk_at dksX0_set_2 19 rfl rfl)
theorem dX0_set_67 : decode cX0_set 67 = .ok (.iload_n 3, 1) := dk_29 (dk_at dksX0_set_2 20 rfl rfl)
theorem dX0_set_68 : decode cX0_set 68 = .ok (.iconst 1, 1) := dk_4 (dk_at dksX0_set_2 21 rfl rfl)
theorem dX0_set_69 : decode cX0_set 69 = .ok (.if_icmp .ne 7, 3) := dk_160 0 7 (dk_at dksX0_set_3 0 rfl rfl)
theorem dX0_set_72 : decode cX0_set 72 = .ok (.iconst 1, 1) := dk_4 (dk_at dksX0_set_3 3 rfl rfl)
theorem dX0_set_73 : decode cX0_set 73 = .ok (.goto 4, 3) := dk_167 0 4 (dk_at dksX0_set_3 4 rfl rfl)
theorem dX0_set_76 : decode cX0_set 76 = .ok (.iconst 0, 1) := dk_3 (dk_at dksX0_set_3 7 rfl rfl)
theorem dX0_set_77 : decode cX0_set 77 = .ok (.invokevirtual 155, 3) := dk_182 0 155 (dk_at dksX0_set_3 8 rfl rfl)
theorem dX0_set_80 : decode cX0_set 80 = .ok (.aload_n 0, 1) := dk_42 (dk_at dksX0_set_3 11 rfl rfl)
theorem dX0_set_81 : decode cX0_set 81 = .ok (.aload 4, 2) := dk_25 4 (dk_at dksX0_set_3 12 rfl rfl)
theorem dX0_set_83 : decode cX0_set 83 = .ok (.invokevirtual 170, 3) := dk_182 0 170 (dk_at dksX0_set_3 14 rfl rfl)
theorem dX0_set_86 : decode cX0_set 86 = .ok (.aload_n 0, 1) := dk_42 (dk_at dksX0_set_3 17 rfl rfl)
theorem dX0_set_87 : decode cX0_set 87 = .ok (.getfield 106, 3) := dk_180 0 106 (dk_at dksX0_set_3 18 rfl rfl)
theorem dX0_set_90 : decode cX0_set 90 = .ok (.invokevirtual 180, 3) := dk_182 0 180 (dk_at dksX0_set_3 21 rfl rfl)
theorem dX0_set_93 : decode cX0_set 93 = .ok (.ireturn, 1) := dk_172 (dk_at dksX0_set_4 0 rfl rfl)
abbrev cX0_areVertices : ByteArray := prog_1_method_16_code
def yX0_areVertices : MethodName := ⟨RX0, "areVertices", "(II)Z"⟩
def dkwX0_areVertices_0 : List UInt8 := [42, 27, 182, 0, 163, 153, 0, 15, 42, 28, 182, 0, 163, 153, 0, 7, 4, 167, 0, 4, 3, 172]
abbrev dktX0_areVertices_0 : List UInt8 := dkwX0_areVertices_0 ++ []
theorem dksX0_areVertices_0 : cX0_areVertices.data.toList.drop 0 = dktX0_areVertices_0 := by decide +kernel
theorem dX0_areVertices_0 : decode cX0_areVertices 0 = .ok (.aload_n 0, 1) := dk_42 (dk_at dksX0_areVertices_0 0 rfl rfl)
theorem dX0_areVertices_1 : decode cX0_areVertices 1 = .ok (.iload_n 1, 1) := dk_27 (dk_at dksX0_areVertices_0 1 rfl rfl)
theorem dX0_areVertices_2 : decode cX0_areVertices 2 = .ok (.invokevirtual 163, 3) := dk_182 0 163 (dk_at dksX0_areVertices_0 2 rfl rfl)
theorem dX0_areVertices_5 : decode cX0_areVertices 5 = .ok (.ifCond .eq 15, 3) := dk_153 0 15 (dk_at dksX0_areVertices_0 5 rfl rfl)
theorem dX0_areVertices_8 : decode cX0_areVertices 8 = .ok (.aload_n 0, 1) := dk_42 (dk_at dksX0_areVertices_0 8 rfl rfl)
theorem dX0_areVertices_9 : decode cX0_areVertices 9 = .ok (.iload_n 2, 1) := dk_28 (dk_at dksX0_areVertices_0 9 rfl rfl)
theorem dX0_areVertices_10 : decode cX0_areVertices 10 = .ok (.invokevirtual 163, 3) := dk_182 0 163 (dk_at dksX0_areVertices_0 10 rfl rfl)
theorem dX0_areVertices_13 : decode cX0_areVertices 13 = .ok (.ifCond .eq 7, 3) := dk_153 0 7 (dk_at dksX0_areVertices_0 13 rfl rfl)
theorem dX0_areVertices_16 : decode cX0_areVertices 16 = .ok (.iconst 1, 1) := dk_4 (dk_at dksX0_areVertices_0 16 rfl rfl)
theorem dX0_areVertices_17 : decode cX0_areVertices 17 = .ok (.goto 4, 3) := dk_167 0 4 (dk_at dksX0_areVertices_0 17 rfl rfl)
theorem dX0_areVertices_20 : decode cX0_areVertices 20 = .ok (.iconst 0, 1) := dk_3 (dk_at dksX0_areVertices_0 20 rfl rfl)
theorem dX0_areVertices_21 : decode cX0_areVertices 21 = .ok (.ireturn, 1) := dk_172 (dk_at dksX0_areVertices_0 21 rfl rfl)
abbrev cX0_isVertex : ByteArray := prog_1_method_15_code
def yX0_isVertex : MethodName := ⟨RX0, "isVertex", "(I)Z"⟩
def dkwX0_isVertex_0 : List UInt8 := [27, 3, 42, 180, 0, 106, 180, 0, 42, 4, 100, 184, 0, 159, 172]
abbrev dktX0_isVertex_0 : List UInt8 := dkwX0_isVertex_0 ++ []
theorem dksX0_isVertex_0 : cX0_isVertex.data.toList.drop 0 = dktX0_isVertex_0 := by decide +kernel
theorem dX0_isVertex_0 : decode cX0_isVertex 0 = .ok (.iload_n 1, 1) := dk_27 (dk_at dksX0_isVertex_0 0 rfl rfl)
theorem dX0_isVertex_1 : decode cX0_isVertex 1 = .ok (.iconst 0, 1) := dk_3 (dk_at dksX0_isVertex_0 1 rfl rfl)
theorem dX0_isVertex_2 : decode cX0_isVertex 2 = .ok (.aload_n 0, 1) := dk_42 (dk_at dksX0_isVertex_0 2 rfl rfl)
theorem dX0_isVertex_3 : decode cX0_isVertex 3 = .ok (.getfield 106, 3) := dk_180 0 106 (dk_at dksX0_isVertex_0 3 rfl rfl)
theorem dX0_isVertex_6 : decode cX0_isVertex 6 = .ok (.getfield 42, 3) := dk_180 0 42 (dk_at dksX0_isVertex_0 6 rfl rfl)
theorem dX0_isVertex_9 : decode cX0_isVertex 9 = .ok (.iconst 1, 1) := dk_4 (dk_at dksX0_isVertex_0 9 rfl rfl)
theorem dX0_isVertex_10 : decode cX0_isVertex 10 = .ok (.isub, 1) := dk_100 (dk_at dksX0_isVertex_0 10 rfl rfl)
theorem dX0_isVertex_11 : decode cX0_isVertex 11 = .ok (.invokestatic 159, 3) := dk_184 0 159 (dk_at dksX0_isVertex_0 11 rfl rfl)
theorem dX0_isVertex_14 : decode cX0_isVertex 14 = .ok (.ireturn, 1) := dk_172 (dk_at dksX0_isVertex_0 14 rfl rfl)
abbrev cX0_copy : ByteArray := prog_1_method_14_code
def yX0_copy : MethodName := ⟨RX0, "copy", "(I)LGraphModules$Graph;"⟩
def dkwX0_copy_2 : List UInt8 := [182, 0, 152, 182, 0, 155, 132, 4, 1, 167, 255, 230, 132, 3, 1, 167, 255, 206, 44, 176]
abbrev dktX0_copy_2 : List UInt8 := dkwX0_copy_2 ++ []
def dkwX0_copy_1 : List UInt8 := [162, 0, 41, 3, 54, 4, 21, 4, 29, 162, 0, 26, 44, 29, 21, 4, 42, 180, 0, 106, 29, 21, 4]
abbrev dktX0_copy_1 : List UInt8 := dkwX0_copy_1 ++ dktX0_copy_2
def dkwX0_copy_0 : List UInt8 := [187, 0, 25, 89, 27, 183, 0, 105, 77, 3, 62, 29, 27, 42, 180, 0, 106, 180, 0, 42, 184, 0, 146]
abbrev dktX0_copy_0 : List UInt8 := dkwX0_copy_0 ++ dktX0_copy_1
theorem dksX0_copy_0 : cX0_copy.data.toList.drop 0 = dktX0_copy_0 := by decide +kernel
theorem dksX0_copy_1 : cX0_copy.data.toList.drop 23 = dktX0_copy_1 := dk_seg dksX0_copy_0 23 rfl rfl
theorem dksX0_copy_2 : cX0_copy.data.toList.drop 46 = dktX0_copy_2 := dk_seg dksX0_copy_1 23 rfl rfl
theorem dX0_copy_0 : decode cX0_copy 0 = .ok (.new 25, 3) := dk_187 0 25 (dk_at dksX0_copy_0 0 rfl rfl)
theorem dX0_copy_3 : decode cX0_copy 3 = .ok (.dup, 1) := dk_89 (dk_at dksX0_copy_0 3 rfl rfl)
theorem dX0_copy_4 : decode cX0_copy 4 = .ok (.iload_n 1, 1) := dk_27 (dk_at dksX0_copy_0 4 rfl rfl)
theorem dX0_copy_5 : decode cX0_copy 5 = .ok (.invokespecial 105, 3) := dk_183 0 105 (dk_at dksX0_copy_0 5 rfl rfl)
theorem dX0_copy_8 : decode cX0_copy 8 = .ok (.astore_n 2, 1) := dk_77 (dk_at dksX0_copy_0 8 rfl rfl)
theorem dX0_copy_9 : decode cX0_copy 9 = .ok (.iconst 0, 1) := dk_3 (dk_at dksX0_copy_0 9 rfl rfl)
theorem dX0_copy_10 : decode cX0_copy 10 = .ok (.istore_n 3, 1) := dk_62 (dk_at dksX0_copy_0 10 rfl rfl)
theorem dX0_copy_11 : decode cX0_copy 11 = .ok (.iload_n 3, 1) := dk_29 (dk_at dksX0_copy_0 11 rfl rfl)
theorem dX0_copy_12 : decode cX0_copy 12 = .ok (.iload_n 1, 1) := dk_27 (dk_at dksX0_copy_0 12 rfl rfl)
theorem dX0_copy_13 : decode cX0_copy 13 = .ok (.aload_n 0, 1) := dk_42 (dk_at dksX0_copy_0 13 rfl rfl)
theorem dX0_copy_14 : decode cX0_copy 14 = .ok (.getfield 106, 3) := dk_180 0 106 (dk_at dksX0_copy_0 14 rfl rfl)
theorem dX0_copy_17 : decode cX0_copy 17 = .ok (.getfield 42, 3) := dk_180 0 42 (dk_at dksX0_copy_0 17 rfl rfl)
theorem dX0_copy_20 : decode cX0_copy 20 = .ok (.invokestatic 146, 3) := dk_184 0 146 (dk_at dksX0_copy_0 20 rfl rfl)
theorem dX0_copy_23 : decode cX0_copy 23 = .ok (.if_icmp .ge 41, 3) := dk_162 0 41 (dk_at dksX0_copy_1 0 rfl rfl)
theorem dX0_copy_26 : decode cX0_copy 26 = .ok (.iconst 0, 1) := dk_3 (dk_at dksX0_copy_1 3 rfl rfl)
theorem dX0_copy_27 : decode cX0_copy 27 = .ok (.istore 4, 2) := dk_54 4 (dk_at dksX0_copy_1 4 rfl rfl)
theorem dX0_copy_29 : decode cX0_copy 29 = .ok (.iload 4, 2) := dk_21 4 (dk_at dksX0_copy_1 6 rfl rfl)
theorem dX0_copy_31 : decode cX0_copy 31 = .ok (.iload_n 3, 1) := dk_29 (dk_at dksX0_copy_1 8 rfl rfl)
theorem dX0_copy_32 : decode cX0_copy 32 = .ok (.if_icmp .ge 26, 3) := dk_162 0 26 (dk_at dksX0_copy_1 9 rfl rfl)
theorem dX0_copy_35 : decode cX0_copy 35 = .ok (.aload_n 2, 1) := dk_44 (dk_at dksX0_copy_1 12 rfl rfl)
theorem dX0_copy_36 : decode cX0_copy 36 = .ok (.iload_n 3, 1) := dk_29 (dk_at dksX0_copy_1 13 rfl rfl)
theorem dX0_copy_37 : decode cX0_copy 37 = .ok (.iload 4, 2) := dk_21 4 (dk_at dksX0_copy_1 14 rfl rfl)
theorem dX0_copy_39 : decode cX0_copy 39 = .ok (.aload_n 0, 1) := dk_42 (dk_at dksX0_copy_1 16 rfl rfl)
theorem dX0_copy_40 : decode cX0_copy 40 = .ok (.getfield 106, 3) := dk_180 0 106 (dk_at dksX0_copy_1 17 rfl rfl)
theorem dX0_copy_43 : decode cX0_copy 43 = .ok (.iload_n 3, 1) := dk_29 (dk_at dksX0_copy_1 20 rfl rfl)
theorem dX0_copy_44 : decode cX0_copy 44 = .ok (.iload 4, 2) := dk_21 4 (dk_at dksX0_copy_1 21 rfl rfl)
theorem dX0_copy_46 : decode cX0_copy 46 = .ok (.invokevirtual 152, 3) := dk_182 0 152 (dk_at dksX0_copy_2 0 rfl rfl)
theorem dX0_copy_49 : decode cX0_copy 49 = .ok (.invokevirtual 155, 3) := dk_182 0 155 (dk_at dksX0_copy_2 3 rfl rfl)
theorem dX0_copy_52 : decode cX0_copy 52 = .ok (.iinc 4 1, 3) := dk_132 4 1 (dk_at dksX0_copy_2 6 rfl rfl)
theorem dX0_copy_55 : decode cX0_copy 55 = .ok (.goto (-26), 3) := dk_167 255 230 (dk_at dksX0_copy_2 9 rfl rfl)
theorem dX0_copy_58 : decode cX0_copy 58 = .ok (.iinc 3 1, 3) := dk_132 3 1 (dk_at dksX0_copy_2 12 rfl rfl)
theorem dX0_copy_61 : decode cX0_copy 61 = .ok (.goto (-50), 3) := dk_167 255 206 (dk_at dksX0_copy_2 15 rfl rfl)
theorem dX0_copy_64 : decode cX0_copy 64 = .ok (.aload_n 2, 1) := dk_44 (dk_at dksX0_copy_2 18 rfl rfl)
theorem dX0_copy_65 : decode cX0_copy 65 = .ok (.areturn, 1) := dk_176 (dk_at dksX0_copy_2 19 rfl rfl)
abbrev cX0_complement : ByteArray := prog_1_method_20_code
def yX0_complement : MethodName := ⟨RX0, "complement", "()I"⟩
def dkwX0_complement_3 : List UInt8 := [167, 255, 206, 42, 43, 182, 0, 170, 42, 180, 0, 106, 182, 0, 180, 172]
abbrev dktX0_complement_3 : List UInt8 := dkwX0_complement_3 ++ []
def dkwX0_complement_2 : List UInt8 := [182, 0, 152, 154, 0, 7, 4, 167, 0, 4, 3, 182, 0, 155, 132, 3, 1, 167, 255, 225, 132, 2, 1]
abbrev dktX0_complement_2 : List UInt8 := dkwX0_complement_2 ++ dktX0_complement_3
def dkwX0_complement_1 : List UInt8 := [180, 0, 42, 162, 0, 45, 3, 62, 29, 28, 162, 0, 32, 43, 28, 29, 42, 180, 0, 106, 28, 29]
abbrev dktX0_complement_1 : List UInt8 := dkwX0_complement_1 ++ dktX0_complement_2
def dkwX0_complement_0 : List UInt8 := [187, 0, 25, 89, 42, 180, 0, 106, 180, 0, 42, 183, 0, 105, 76, 3, 61, 28, 42, 180, 0, 106]
abbrev dktX0_complement_0 : List UInt8 := dkwX0_complement_0 ++ dktX0_complement_1
theorem dksX0_complement_0 : cX0_complement.data.toList.drop 0 = dktX0_complement_0 := by decide +kernel
theorem dksX0_complement_1 : cX0_complement.data.toList.drop 22 = dktX0_complement_1 := dk_seg dksX0_complement_0 22 rfl rfl
theorem dksX0_complement_2 : cX0_complement.data.toList.drop 44 = dktX0_complement_2 := dk_seg dksX0_complement_1 22 rfl rfl
theorem dksX0_complement_3 : cX0_complement.data.toList.drop 67 = dktX0_complement_3 := dk_seg dksX0_complement_2 23 rfl rfl
theorem dX0_complement_0 : decode cX0_complement 0 = .ok (.new 25, 3) := dk_187 0 25 (dk_at dksX0_complement_0 0 rfl rfl)
theorem dX0_complement_3 : decode cX0_complement 3 = .ok (.dup, 1) := dk_89 (dk_at dksX0_complement_0 3 rfl rfl)
theorem dX0_complement_4 : decode cX0_complement 4 = .ok (.aload_n 0, 1) := dk_42 (dk_at dksX0_complement_0 4 rfl rfl)
theorem dX0_complement_5 : decode cX0_complement 5 = .ok (.getfield 106, 3) := dk_180 0 106 (dk_at dksX0_complement_0 5 rfl rfl)
theorem dX0_complement_8 : decode cX0_complement 8 = .ok (.getfield 42, 3) := dk_180 0 42 (dk_at dksX0_complement_0 8 rfl rfl)
theorem dX0_complement_11 : decode cX0_complement 11 = .ok (.invokespecial 105, 3) := dk_183 0 105 (dk_at dksX0_complement_0 11 rfl rfl)
theorem dX0_complement_14 : decode cX0_complement 14 = .ok (.astore_n 1, 1) := dk_76 (dk_at dksX0_complement_0 14 rfl rfl)
theorem dX0_complement_15 : decode cX0_complement 15 = .ok (.iconst 0, 1) := dk_3 (dk_at dksX0_complement_0 15 rfl rfl)
theorem dX0_complement_16 : decode cX0_complement 16 = .ok (.istore_n 2, 1) := dk_61 (dk_at dksX0_complement_0 16 rfl rfl)
theorem dX0_complement_17 : decode cX0_complement 17 = .ok (.iload_n 2, 1) := dk_28 (dk_at dksX0_complement_0 17 rfl rfl)
theorem dX0_complement_18 : decode cX0_complement 18 = .ok (.aload_n 0, 1) := dk_42 (dk_at dksX0_complement_0 18 rfl rfl)
theorem dX0_complement_19 : decode cX0_complement 19 = .ok (.getfield 106, 3) := dk_180 0 106 (dk_at dksX0_complement_0 19 rfl rfl)
theorem dX0_complement_22 : decode cX0_complement 22 = .ok (.getfield 42, 3) := dk_180 0 42 (dk_at dksX0_complement_1 0 rfl rfl)
theorem dX0_complement_25 : decode cX0_complement 25 = .ok (.if_icmp .ge 45, 3) := dk_162 0 45 (dk_at dksX0_complement_1 3 rfl rfl)
theorem dX0_complement_28 : decode cX0_complement 28 = .ok (.iconst 0, 1) := dk_3 (dk_at dksX0_complement_1 6 rfl rfl)
theorem dX0_complement_29 : decode cX0_complement 29 = .ok (.istore_n 3, 1) := dk_62 (dk_at dksX0_complement_1 7 rfl rfl)
theorem dX0_complement_30 : decode cX0_complement 30 = .ok (.iload_n 3, 1) := dk_29 (dk_at dksX0_complement_1 8 rfl rfl)
theorem dX0_complement_31 : decode cX0_complement 31 = .ok (.iload_n 2, 1) := dk_28 (dk_at dksX0_complement_1 9 rfl rfl)
theorem dX0_complement_32 : decode cX0_complement 32 = .ok (.if_icmp .ge 32, 3) := dk_162 0 32 (dk_at dksX0_complement_1 10 rfl rfl)
theorem dX0_complement_35 : decode cX0_complement 35 = .ok (.aload_n 1, 1) := dk_43 (dk_at dksX0_complement_1 13 rfl rfl)
theorem dX0_complement_36 : decode cX0_complement 36 = .ok (.iload_n 2, 1) := dk_28 (dk_at dksX0_complement_1 14 rfl rfl)
theorem dX0_complement_37 : decode cX0_complement 37 = .ok (.iload_n 3, 1) := dk_29 (dk_at dksX0_complement_1 15 rfl rfl)
theorem dX0_complement_38 : decode cX0_complement 38 = .ok (.aload_n 0, 1) := dk_42 (dk_at dksX0_complement_1 16 rfl rfl)
theorem dX0_complement_39 : decode cX0_complement 39 = .ok (.getfield 106, 3) := dk_180 0 106 (dk_at dksX0_complement_1 17 rfl rfl)
theorem dX0_complement_42 : decode cX0_complement 42 = .ok (.iload_n 2, 1) := dk_28 (dk_at dksX0_complement_1 20 rfl rfl)
theorem dX0_complement_43 : decode cX0_complement 43 = .ok (.iload_n 3, 1) := dk_29 (dk_at dksX0_complement_1 21 rfl rfl)
theorem dX0_complement_44 : decode cX0_complement 44 = .ok (.invokevirtual 152, 3) := dk_182 0 152 (dk_at dksX0_complement_2 0 rfl rfl)
theorem dX0_complement_47 : decode cX0_complement 47 = .ok (.ifCond .ne 7, 3) := dk_154 0 7 (dk_at dksX0_complement_2 3 rfl rfl)
theorem dX0_complement_50 : decode cX0_complement 50 = .ok (.iconst 1, 1) := dk_4 (dk_at dksX0_complement_2 6 rfl rfl)
theorem dX0_complement_51 : decode cX0_complement 51 = .ok (.goto 4, 3) := dk_167 0 4 (dk_at dksX0_complement_2 7 rfl rfl)
theorem dX0_complement_54 : decode cX0_complement 54 = .ok (.iconst 0, 1) := dk_3 (dk_at dksX0_complement_2 10 rfl rfl)
theorem dX0_complement_55 : decode cX0_complement 55 = .ok (.invokevirtual 155, 3) := dk_182 0 155 (dk_at dksX0_complement_2 11 rfl rfl)
theorem dX0_complement_58 : decode cX0_complement 58 = .ok (.iinc 3 1, 3) := dk_132 3 1 (dk_at dksX0_complement_2 14 rfl rfl)
theorem dX0_complement_61 : decode cX0_complement 61 = .ok (.goto (-31), 3) := dk_167 255 225 (dk_at dksX0_complement_2 17 rfl rfl)
theorem dX0_complement_64 : decode cX0_complement 64 = .ok (.iinc 2 1, 3) := dk_132 2 1 (dk_at dksX0_complement_2 20 rfl rfl)
theorem dX0_complement_67 : decode cX0_complement 67 = .ok (.goto (-50), 3) := dk_167 255 206 (dk_at dksX0_complement_3 0 rfl rfl)
theorem dX0_complement_70 : decode cX0_complement 70 = .ok (.aload_n 0, 1) := dk_42 (dk_at dksX0_complement_3 3 rfl rfl)
theorem dX0_complement_71 : decode cX0_complement 71 = .ok (.aload_n 1, 1) := dk_43 (dk_at dksX0_complement_3 4 rfl rfl)
theorem dX0_complement_72 : decode cX0_complement 72 = .ok (.invokevirtual 170, 3) := dk_182 0 170 (dk_at dksX0_complement_3 5 rfl rfl)
theorem dX0_complement_75 : decode cX0_complement 75 = .ok (.aload_n 0, 1) := dk_42 (dk_at dksX0_complement_3 8 rfl rfl)
theorem dX0_complement_76 : decode cX0_complement 76 = .ok (.getfield 106, 3) := dk_180 0 106 (dk_at dksX0_complement_3 9 rfl rfl)
theorem dX0_complement_79 : decode cX0_complement 79 = .ok (.invokevirtual 180, 3) := dk_182 0 180 (dk_at dksX0_complement_3 12 rfl rfl)
theorem dX0_complement_82 : decode cX0_complement 82 = .ok (.ireturn, 1) := dk_172 (dk_at dksX0_complement_3 15 rfl rfl)
abbrev cX0_twin : ByteArray := prog_1_method_21_code
def yX0_twin : MethodName := ⟨RX0, "twin", "(II)I"⟩
def dkwX0_twin_3 : List UInt8 := [27, 29, 28, 4, 160, 0, 7, 4, 167, 0, 4, 3, 182, 0, 155, 42, 25, 4, 182, 0, 170, 29, 172]
abbrev dktX0_twin_3 : List UInt8 := dkwX0_twin_3 ++ []
def dkwX0_twin_2 : List UInt8 := [182, 0, 176, 58, 4, 25, 4, 4, 29, 120, 42, 180, 0, 106, 180, 0, 183, 27, 46, 182, 0, 187, 25, 4]
abbrev dktX0_twin_2 : List UInt8 := dkwX0_twin_2 ++ dktX0_twin_3
def dkwX0_twin_1 : List UInt8 := [180, 0, 42, 16, 10, 160, 0, 6, 16, 253, 172, 42, 180, 0, 106, 180, 0, 42, 62, 42, 29, 4, 96]
abbrev dktX0_twin_1 : List UInt8 := dkwX0_twin_1 ++ dktX0_twin_2
def dkwX0_twin_0 : List UInt8 := [42, 27, 182, 0, 163, 153, 0, 12, 28, 3, 4, 184, 0, 159, 154, 0, 5, 2, 172, 42, 180, 0, 106]
abbrev dktX0_twin_0 : List UInt8 := dkwX0_twin_0 ++ dktX0_twin_1
theorem dksX0_twin_0 : cX0_twin.data.toList.drop 0 = dktX0_twin_0 := by decide +kernel
theorem dksX0_twin_1 : cX0_twin.data.toList.drop 23 = dktX0_twin_1 := dk_seg dksX0_twin_0 23 rfl rfl
theorem dksX0_twin_2 : cX0_twin.data.toList.drop 46 = dktX0_twin_2 := dk_seg dksX0_twin_1 23 rfl rfl
theorem dksX0_twin_3 : cX0_twin.data.toList.drop 70 = dktX0_twin_3 := dk_seg dksX0_twin_2 24 rfl rfl
theorem dX0_twin_0 : decode cX0_twin 0 = .ok (.aload_n 0, 1) := dk_42 (dk_at dksX0_twin_0 0 rfl rfl)
theorem dX0_twin_1 : decode cX0_twin 1 = .ok (.iload_n 1, 1) := dk_27 (dk_at dksX0_twin_0 1 rfl rfl)
theorem dX0_twin_2 : decode cX0_twin 2 = .ok (.invokevirtual 163, 3) := dk_182 0 163 (dk_at dksX0_twin_0 2 rfl rfl)
theorem dX0_twin_5 : decode cX0_twin 5 = .ok (.ifCond .eq 12, 3) := dk_153 0 12 (dk_at dksX0_twin_0 5 rfl rfl)
theorem dX0_twin_8 : decode cX0_twin 8 = .ok (.iload_n 2, 1) := dk_28 (dk_at dksX0_twin_0 8 rfl rfl)
theorem dX0_twin_9 : decode cX0_twin 9 = .ok (.iconst 0, 1) := dk_3 (dk_at dksX0_twin_0 9 rfl rfl)
theorem dX0_twin_10 : decode cX0_twin 10 = .ok (.iconst 1, 1) := dk_4 (dk_at dksX0_twin_0 10 rfl rfl)
theorem dX0_twin_11 : decode cX0_twin 11 = .ok (.invokestatic 159, 3) := dk_184 0 159 (dk_at dksX0_twin_0 11 rfl rfl)
theorem dX0_twin_14 : decode cX0_twin 14 = .ok (.ifCond .ne 5, 3) := dk_154 0 5 (dk_at dksX0_twin_0 14 rfl rfl)
theorem dX0_twin_17 : decode cX0_twin 17 = .ok (.iconst (-1), 1) := dk_2 (dk_at dksX0_twin_0 17 rfl rfl)
theorem dX0_twin_18 : decode cX0_twin 18 = .ok (.ireturn, 1) := dk_172 (dk_at dksX0_twin_0 18 rfl rfl)
theorem dX0_twin_19 : decode cX0_twin 19 = .ok (.aload_n 0, 1) := dk_42 (dk_at dksX0_twin_0 19 rfl rfl)
theorem dX0_twin_20 : decode cX0_twin 20 = .ok (.getfield 106, 3) := dk_180 0 106 (dk_at dksX0_twin_0 20 rfl rfl)
theorem dX0_twin_23 : decode cX0_twin 23 = .ok (.getfield 42, 3) := dk_180 0 42 (dk_at dksX0_twin_1 0 rfl rfl)
theorem dX0_twin_26 : decode cX0_twin 26 = .ok (.bipush 10, 2) := dk_16 10 (dk_at dksX0_twin_1 3 rfl rfl)
theorem dX0_twin_28 : decode cX0_twin 28 = .ok (.if_icmp .ne 6, 3) := dk_160 0 6 (dk_at dksX0_twin_1 5 rfl rfl)
theorem dX0_twin_31 : decode cX0_twin 31 = .ok (.bipush (-3), 2) := dk_16 253 (dk_at dksX0_twin_1 8 rfl rfl)
theorem dX0_twin_33 : decode cX0_twin 33 = .ok (.ireturn, 1) := dk_172 (dk_at dksX0_twin_1 10 rfl rfl)
theorem dX0_twin_34 : decode cX0_twin 34 = .ok (.aload_n 0, 1) := dk_42 (dk_at dksX0_twin_1 11 rfl rfl)
theorem dX0_twin_35 : decode cX0_twin 35 = .ok (.getfield 106, 3) := dk_180 0 106 (dk_at dksX0_twin_1 12 rfl rfl)
theorem dX0_twin_38 : decode cX0_twin 38 = .ok (.getfield 42, 3) := dk_180 0 42 (dk_at dksX0_twin_1 15 rfl rfl)
theorem dX0_twin_41 : decode cX0_twin 41 = .ok (.istore_n 3, 1) := dk_62 (dk_at dksX0_twin_1 18 rfl rfl)
theorem dX0_twin_42 : decode cX0_twin 42 = .ok (.aload_n 0, 1) := dk_42 (dk_at dksX0_twin_1 19 rfl rfl)
theorem dX0_twin_43 : decode cX0_twin 43 = .ok (.iload_n 3, 1) := dk_29 (dk_at dksX0_twin_1 20 rfl rfl)
theorem dX0_twin_44 : decode cX0_twin 44 = .ok (.iconst 1, 1) := dk_4 (dk_at dksX0_twin_1 21 rfl rfl)
theorem dX0_twin_45 : decode cX0_twin 45 = .ok (.iadd, 1) := dk_96 (dk_at dksX0_twin_1 22 rfl rfl)
theorem dX0_twin_46 : decode cX0_twin 46 = .ok (.invokevirtual 176, 3) := dk_182 0 176 (dk_at dksX0_twin_2 0 rfl rfl)
theorem dX0_twin_49 : decode cX0_twin 49 = .ok (.astore 4, 2) := dk_58 4 (dk_at dksX0_twin_2 3 rfl rfl)
theorem dX0_twin_51 : decode cX0_twin 51 = .ok (.aload 4, 2) := dk_25 4 (dk_at dksX0_twin_2 5 rfl rfl)
theorem dX0_twin_53 : decode cX0_twin 53 = .ok (.iconst 1, 1) := dk_4 (dk_at dksX0_twin_2 7 rfl rfl)
theorem dX0_twin_54 : decode cX0_twin 54 = .ok (.iload_n 3, 1) := dk_29 (dk_at dksX0_twin_2 8 rfl rfl)
theorem dX0_twin_55 : decode cX0_twin 55 = .ok (.ishl, 1) := dk_120 (dk_at dksX0_twin_2 9 rfl rfl)
theorem dX0_twin_56 : decode cX0_twin 56 = .ok (.aload_n 0, 1) := dk_42 (dk_at dksX0_twin_2 10 rfl rfl)
theorem dX0_twin_57 : decode cX0_twin 57 = .ok (.getfield 106, 3) := dk_180 0 106 (dk_at dksX0_twin_2 11 rfl rfl)
theorem dX0_twin_60 : decode cX0_twin 60 = .ok (.getfield 183, 3) := dk_180 0 183 (dk_at dksX0_twin_2 14 rfl rfl)
theorem dX0_twin_63 : decode cX0_twin 63 = .ok (.iload_n 1, 1) := dk_27 (dk_at dksX0_twin_2 17 rfl rfl)
theorem dX0_twin_64 : decode cX0_twin 64 = .ok (.iaload, 1) := dk_46 (dk_at dksX0_twin_2 18 rfl rfl)
theorem dX0_twin_65 : decode cX0_twin 65 = .ok (.invokevirtual 187, 3) := dk_182 0 187 (dk_at dksX0_twin_2 19 rfl rfl)
theorem dX0_twin_68 : decode cX0_twin 68 = .ok (.aload 4, 2) := dk_25 4 (dk_at dksX0_twin_2 22 rfl rfl)
theorem dX0_twin_70 : decode cX0_twin 70 = .ok (.iload_n 1, 1) := dk_27 (dk_at dksX0_twin_3 0 rfl rfl)
theorem dX0_twin_71 : decode cX0_twin 71 = .ok (.iload_n 3, 1) := dk_29 (dk_at dksX0_twin_3 1 rfl rfl)
theorem dX0_twin_72 : decode cX0_twin 72 = .ok (.iload_n 2, 1) := dk_28 (dk_at dksX0_twin_3 2 rfl rfl)
theorem dX0_twin_73 : decode cX0_twin 73 = .ok (.iconst 1, 1) := dk_4 (dk_at dksX0_twin_3 3 rfl rfl)
theorem dX0_twin_74 : decode cX0_twin 74 = .ok (.if_icmp .ne 7, 3) := dk_160 0 7 (dk_at dksX0_twin_3 4 rfl rfl)
theorem dX0_twin_77 : decode cX0_twin 77 = .ok (.iconst 1, 1) := dk_4 (dk_at dksX0_twin_3 7 rfl rfl)
theorem dX0_twin_78 : decode cX0_twin 78 = .ok (.goto 4, 3) := dk_167 0 4 (dk_at dksX0_twin_3 8 rfl rfl)
theorem dX0_twin_81 : decode cX0_twin 81 = .ok (.iconst 0, 1) := dk_3 (dk_at dksX0_twin_3 11 rfl rfl)
theorem dX0_twin_82 : decode cX0_twin 82 = .ok (.invokevirtual 155, 3) := dk_182 0 155 (dk_at dksX0_twin_3 12 rfl rfl)
theorem dX0_twin_85 : decode cX0_twin 85 = .ok (.aload_n 0, 1) := dk_42 (dk_at dksX0_twin_3 15 rfl rfl)
theorem dX0_twin_86 : decode cX0_twin 86 = .ok (.aload 4, 2) := dk_25 4 (dk_at dksX0_twin_3 16 rfl rfl)
theorem dX0_twin_88 : decode cX0_twin 88 = .ok (.invokevirtual 170, 3) := dk_182 0 170 (dk_at dksX0_twin_3 18 rfl rfl)
theorem dX0_twin_91 : decode cX0_twin 91 = .ok (.iload_n 3, 1) := dk_29 (dk_at dksX0_twin_3 21 rfl rfl)
theorem dX0_twin_92 : decode cX0_twin 92 = .ok (.ireturn, 1) := dk_172 (dk_at dksX0_twin_3 22 rfl rfl)
abbrev cX0_remove : ByteArray := prog_1_method_22_code
def yX0_remove : MethodName := ⟨RX0, "remove", "(I)I"⟩
def dkwX0_remove_5 : List UInt8 := [42, 180, 0, 106, 180, 0, 42, 172]
abbrev dktX0_remove_5 : List UInt8 := dkwX0_remove_5 ++ []
def dkwX0_remove_4 : List UInt8 := [96, 182, 0, 152, 182, 0, 155, 132, 4, 1, 167, 255, 206, 132, 3, 1, 167, 255, 189, 42, 44, 182, 0, 170]
abbrev dktX0_remove_4 : List UInt8 := dkwX0_remove_4 ++ dktX0_remove_5
def dkwX0_remove_3 : List UInt8 := [162, 0, 7, 29, 167, 0, 6, 29, 4, 96, 21, 4, 27, 162, 0, 8, 21, 4, 167, 0, 7, 21, 4, 4]
abbrev dktX0_remove_3 : List UInt8 := dkwX0_remove_3 ++ dktX0_remove_4
def dkwX0_remove_2 : List UInt8 := [162, 0, 65, 3, 54, 4, 21, 4, 29, 162, 0, 50, 44, 29, 21, 4, 42, 180, 0, 106, 29, 27]
abbrev dktX0_remove_2 : List UInt8 := dkwX0_remove_2 ++ dktX0_remove_3
def dkwX0_remove_1 : List UInt8 := [187, 0, 25, 89, 42, 180, 0, 106, 180, 0, 42, 4, 100, 183, 0, 105, 77, 3, 62, 29, 44, 180, 0, 42]
abbrev dktX0_remove_1 : List UInt8 := dkwX0_remove_1 ++ dktX0_remove_2
def dkwX0_remove_0 : List UInt8 := [42, 27, 182, 0, 163, 154, 0, 5, 2, 172, 42, 180, 0, 106, 180, 0, 42, 4, 160, 0, 6, 16, 254, 172]
abbrev dktX0_remove_0 : List UInt8 := dkwX0_remove_0 ++ dktX0_remove_1
theorem dksX0_remove_0 : cX0_remove.data.toList.drop 0 = dktX0_remove_0 := by decide +kernel
theorem dksX0_remove_1 : cX0_remove.data.toList.drop 24 = dktX0_remove_1 := dk_seg dksX0_remove_0 24 rfl rfl
theorem dksX0_remove_2 : cX0_remove.data.toList.drop 48 = dktX0_remove_2 := dk_seg dksX0_remove_1 24 rfl rfl
theorem dksX0_remove_3 : cX0_remove.data.toList.drop 70 = dktX0_remove_3 := dk_seg dksX0_remove_2 22 rfl rfl
theorem dksX0_remove_4 : cX0_remove.data.toList.drop 94 = dktX0_remove_4 := dk_seg dksX0_remove_3 24 rfl rfl
theorem dksX0_remove_5 : cX0_remove.data.toList.drop 118 = dktX0_remove_5 := dk_seg dksX0_remove_4 24 rfl rfl
theorem dX0_remove_0 : decode cX0_remove 0 = .ok (.aload_n 0, 1) := dk_42 (dk_at dksX0_remove_0 0 rfl rfl)
theorem dX0_remove_1 : decode cX0_remove 1 = .ok (.iload_n 1, 1) := dk_27 (dk_at dksX0_remove_0 1 rfl rfl)
theorem dX0_remove_2 : decode cX0_remove 2 = .ok (.invokevirtual 163, 3) := dk_182 0 163 (dk_at dksX0_remove_0 2 rfl rfl)
theorem dX0_remove_5 : decode cX0_remove 5 = .ok (.ifCond .ne 5, 3) := dk_154 0 5 (dk_at dksX0_remove_0 5 rfl rfl)
theorem dX0_remove_8 : decode cX0_remove 8 = .ok (.iconst (-1), 1) := dk_2 (dk_at dksX0_remove_0 8 rfl rfl)
theorem dX0_remove_9 : decode cX0_remove 9 = .ok (.ireturn, 1) := dk_172 (dk_at dksX0_remove_0 9 rfl rfl)
theorem dX0_remove_10 : decode cX0_remove 10 = .ok (.aload_n 0, 1) := dk_42 (dk_at dksX0_remove_0 10 rfl rfl)
theorem dX0_remove_11 : decode cX0_remove 11 = .ok (.getfield 106, 3) := dk_180 0 106 (dk_at dksX0_remove_0 11 rfl rfl)
theorem dX0_remove_14 : decode cX0_remove 14 = .ok (.getfield 42, 3) := dk_180 0 42 (dk_at dksX0_remove_0 14 rfl rfl)
theorem dX0_remove_17 : decode cX0_remove 17 = .ok (.iconst 1, 1) := dk_4 (dk_at dksX0_remove_0 17 rfl rfl)
theorem dX0_remove_18 : decode cX0_remove 18 = .ok (.if_icmp .ne 6, 3) := dk_160 0 6 (dk_at dksX0_remove_0 18 rfl rfl)
theorem dX0_remove_21 : decode cX0_remove 21 = .ok (.bipush (-2), 2) := dk_16 254 (dk_at dksX0_remove_0 21 rfl rfl)
theorem dX0_remove_23 : decode cX0_remove 23 = .ok (.ireturn, 1) := dk_172 (dk_at dksX0_remove_0 23 rfl rfl)
theorem dX0_remove_24 : decode cX0_remove 24 = .ok (.new 25, 3) := dk_187 0 25 (dk_at dksX0_remove_1 0 rfl rfl)
theorem dX0_remove_27 : decode cX0_remove 27 = .ok (.dup, 1) := dk_89 (dk_at dksX0_remove_1 3 rfl rfl)
theorem dX0_remove_28 : decode cX0_remove 28 = .ok (.aload_n 0, 1) := dk_42 (dk_at dksX0_remove_1 4 rfl rfl)
theorem dX0_remove_29 : decode cX0_remove 29 = .ok (.getfield 106, 3) := dk_180 0 106 (dk_at dksX0_remove_1 5 rfl rfl)
theorem dX0_remove_32 : decode cX0_remove 32 = .ok (.getfield 42, 3) := dk_180 0 42 (dk_at dksX0_remove_1 8 rfl rfl)
theorem dX0_remove_35 : decode cX0_remove 35 = .ok (.iconst 1, 1) := dk_4 (dk_at dksX0_remove_1 11 rfl rfl)
theorem dX0_remove_36 : decode cX0_remove 36 = .ok (.isub, 1) := dk_100 (dk_at dksX0_remove_1 12 rfl rfl)
theorem dX0_remove_37 : decode cX0_remove 37 = .ok (.invokespecial 105, 3) := dk_183 0 105 (dk_at dksX0_remove_1 13 rfl rfl)
theorem dX0_remove_40 : decode cX0_remove 40 = .ok (.astore_n 2, 1) := dk_77 (dk_at dksX0_remove_1 16 rfl rfl)
theorem dX0_remove_41 : decode cX0_remove 41 = .ok (.iconst 0, 1) := dk_3 (dk_at dksX0_remove_1 17 rfl rfl)
theorem dX0_remove_42 : decode cX0_remove 42 = .ok (.istore_n 3, 1) := dk_62 (dk_at dksX0_remove_1 18 rfl rfl)
theorem dX0_remove_43 : decode cX0_remove 43 = .ok (.iload_n 3, 1) := dk_29 (dk_at dksX0_remove_1 19 rfl rfl)
theorem dX0_remove_44 : decode cX0_remove 44 = .ok (.aload_n 2, 1) := dk_44 (dk_at dksX0_remove_1 20 rfl rfl)
theorem dX0_remove_45 : decode cX0_remove 45 = .ok (.getfield 42, 3) := dk_180 0 42 (dk_at dksX0_remove_1 21 rfl rfl)
theorem dX0_remove_48 : decode cX0_remove 48 = .ok (.if_icmp .ge 65, 3) := dk_162 0 65 (dk_at dksX0_remove_2 0 rfl rfl)
theorem dX0_remove_51 : decode cX0_remove 51 = .ok (.iconst 0, 1) := dk_3 (dk_at dksX0_remove_2 3 rfl rfl)
theorem dX0_remove_52 : decode cX0_remove 52 = .ok (.istore 4, 2) := dk_54 4 (dk_at dksX0_remove_2 4 rfl rfl)
theorem dX0_remove_54 : decode cX0_remove 54 = .ok (.iload 4, 2) := dk_21 4 (dk_at dksX0_remove_2 6 rfl rfl)
theorem dX0_remove_56 : decode cX0_remove 56 = .ok (.iload_n 3, 1) := dk_29 (dk_at dksX0_remove_2 8 rfl rfl)
theorem dX0_remove_57 : decode cX0_remove 57 = .ok (.if_icmp .ge 50, 3) := dk_162 0 50 (dk_at dksX0_remove_2 9 rfl rfl)
theorem dX0_remove_60 : decode cX0_remove 60 = .ok (.aload_n 2, 1) := dk_44 (dk_at dksX0_remove_2 12 rfl rfl)
theorem dX0_remove_61 : decode cX0_remove 61 = .ok (.iload_n 3, 1) := dk_29 (dk_at dksX0_remove_2 13 rfl rfl)
theorem dX0_remove_62 : decode cX0_remove 62 = .ok (.iload 4, 2) := dk_21 4 (dk_at dksX0_remove_2 14 rfl rfl)
theorem dX0_remove_64 : decode cX0_remove 64 = .ok (.aload_n 0, 1) := dk_42 (dk_at dksX0_remove_2 16 rfl rfl)
theorem dX0_remove_65 : decode cX0_remove 65 = .ok (.getfield 106, 3) := dk_180 0 106 (dk_at dksX0_remove_2 17 rfl rfl)
theorem dX0_remove_68 : decode cX0_remove 68 = .ok (.iload_n 3, 1) := dk_29 (dk_at dksX0_remove_2 20 rfl rfl)
theorem dX0_remove_69 : decode cX0_remove 69 = .ok (.iload_n 1, 1) := dk_27 (dk_at dksX0_remove_2 21 rfl rfl)
theorem dX0_remove_70 : decode cX0_remove 70 = .ok (.if_icmp .ge 7, 3) := dk_162 0 7 (dk_at dksX0_remove_3 0 rfl rfl)
theorem dX0_remove_73 : decode cX0_remove 73 = .ok (.iload_n 3, 1) := dk_29 (dk_at dksX0_remove_3 3 rfl rfl)
theorem dX0_remove_74 : decode cX0_remove 74 = .ok (.goto 6, 3) := dk_167 0 6 (dk_at dksX0_remove_3 4 rfl rfl)
theorem dX0_remove_77 : decode cX0_remove 77 = .ok (.iload_n 3, 1) := dk_29 (dk_at dksX0_remove_3 7 rfl rfl)
theorem dX0_remove_78 : decode cX0_remove 78 = .ok (.iconst 1, 1) := dk_4 (dk_at dksX0_remove_3 8 rfl rfl)
theorem dX0_remove_79 : decode cX0_remove 79 = .ok (.iadd, 1) := dk_96 (dk_at dksX0_remove_3 9 rfl rfl)
theorem dX0_remove_80 : decode cX0_remove 80 = .ok (.iload 4, 2) := dk_21 4 (dk_at dksX0_remove_3 10 rfl rfl)
theorem dX0_remove_82 : decode cX0_remove 82 = .ok (.iload_n 1, 1) := dk_27 (dk_at dksX0_remove_3 12 rfl rfl)
theorem dX0_remove_83 : decode cX0_remove 83 = .ok (.if_icmp .ge 8, 3) := dk_162 0 8 (dk_at dksX0_remove_3 13 rfl rfl)
theorem dX0_remove_86 : decode cX0_remove 86 = .ok (.iload 4, 2) := dk_21 4 (dk_at dksX0_remove_3 16 rfl rfl)
theorem dX0_remove_88 : decode cX0_remove 88 = .ok (.goto 7, 3) := dk_167 0 7 (dk_at dksX0_remove_3 18 rfl rfl)
theorem dX0_remove_91 : decode cX0_remove 91 = .ok (.iload 4, 2) := dk_21 4 (dk_at dksX0_remove_3 21 rfl rfl)
theorem dX0_remove_93 : decode cX0_remove 93 = .ok (.iconst 1, 1) := dk_4 (dk_at dksX0_remove_3 23 rfl rfl)
theorem dX0_remove_94 : decode cX0_remove 94 = .ok (.iadd, 1) := dk_96 (dk_at dksX0_remove_4 0 rfl rfl)
theorem dX0_remove_95 : decode cX0_remove 95 = .ok (.invokevirtual 152, 3) := dk_182 0 152 (dk_at dksX0_remove_4 1 rfl rfl)
theorem dX0_remove_98 : decode cX0_remove 98 = .ok (.invokevirtual 155, 3) := dk_182 0 155 (dk_at dksX0_remove_4 4 rfl rfl)
theorem dX0_remove_101 : decode cX0_remove 101 = .ok (.iinc 4 1, 3) := dk_132 4 1 (dk_at dksX0_remove_4 7 rfl rfl)
theorem dX0_remove_104 : decode cX0_remove 104 = .ok (.goto (-50), 3) := dk_167 255 206 (dk_at dksX0_remove_4 10 rfl rfl)
theorem dX0_remove_107 : decode cX0_remove 107 = .ok (.iinc 3 1, 3) := dk_132 3 1 (dk_at dksX0_remove_4 13 rfl rfl)
theorem dX0_remove_110 : decode cX0_remove 110 = .ok (.goto (-67), 3) := dk_167 255 189 (dk_at dksX0_remove_4 16 rfl rfl)
theorem dX0_remove_113 : decode cX0_remove 113 = .ok (.aload_n 0, 1) := dk_42 (dk_at dksX0_remove_4 19 rfl rfl)
theorem dX0_remove_114 : decode cX0_remove 114 = .ok (.aload_n 2, 1) := dk_44 (dk_at dksX0_remove_4 20 rfl rfl)
theorem dX0_remove_115 : decode cX0_remove 115 = .ok (.invokevirtual 170, 3) := dk_182 0 170 (dk_at dksX0_remove_4 21 rfl rfl)
theorem dX0_remove_118 : decode cX0_remove 118 = .ok (.aload_n 0, 1) := dk_42 (dk_at dksX0_remove_5 0 rfl rfl)
theorem dX0_remove_119 : decode cX0_remove 119 = .ok (.getfield 106, 3) := dk_180 0 106 (dk_at dksX0_remove_5 1 rfl rfl)
theorem dX0_remove_122 : decode cX0_remove 122 = .ok (.getfield 42, 3) := dk_180 0 42 (dk_at dksX0_remove_5 4 rfl rfl)
theorem dX0_remove_125 : decode cX0_remove 125 = .ok (.ireturn, 1) := dk_172 (dk_at dksX0_remove_5 7 rfl rfl)
abbrev cX0_linked : ByteArray := prog_1_method_23_code
def yX0_linked : MethodName := ⟨RX0, "linked", "(II)I"⟩
def dkwX0_linked_1 : List UInt8 := [167, 0, 4, 3, 172]
abbrev dktX0_linked_1 : List UInt8 := dkwX0_linked_1 ++ []
def dkwX0_linked_0 : List UInt8 := [42, 27, 28, 182, 0, 173, 154, 0, 5, 2, 172, 42, 180, 0, 106, 27, 28, 182, 0, 152, 153, 0, 7, 4]
abbrev dktX0_linked_0 : List UInt8 := dkwX0_linked_0 ++ dktX0_linked_1
theorem dksX0_linked_0 : cX0_linked.data.toList.drop 0 = dktX0_linked_0 := by decide +kernel
theorem dksX0_linked_1 : cX0_linked.data.toList.drop 24 = dktX0_linked_1 := dk_seg dksX0_linked_0 24 rfl rfl
theorem dX0_linked_0 : decode cX0_linked 0 = .ok (.aload_n 0, 1) := dk_42 (dk_at dksX0_linked_0 0 rfl rfl)
theorem dX0_linked_1 : decode cX0_linked 1 = .ok (.iload_n 1, 1) := dk_27 (dk_at dksX0_linked_0 1 rfl rfl)
theorem dX0_linked_2 : decode cX0_linked 2 = .ok (.iload_n 2, 1) := dk_28 (dk_at dksX0_linked_0 2 rfl rfl)
theorem dX0_linked_3 : decode cX0_linked 3 = .ok (.invokevirtual 173, 3) := dk_182 0 173 (dk_at dksX0_linked_0 3 rfl rfl)
theorem dX0_linked_6 : decode cX0_linked 6 = .ok (.ifCond .ne 5, 3) := dk_154 0 5 (dk_at dksX0_linked_0 6 rfl rfl)
theorem dX0_linked_9 : decode cX0_linked 9 = .ok (.iconst (-1), 1) := dk_2 (dk_at dksX0_linked_0 9 rfl rfl)
theorem dX0_linked_10 : decode cX0_linked 10 = .ok (.ireturn, 1) := dk_172 (dk_at dksX0_linked_0 10 rfl rfl)
theorem dX0_linked_11 : decode cX0_linked 11 = .ok (.aload_n 0, 1) := dk_42 (dk_at dksX0_linked_0 11 rfl rfl)
theorem dX0_linked_12 : decode cX0_linked 12 = .ok (.getfield 106, 3) := dk_180 0 106 (dk_at dksX0_linked_0 12 rfl rfl)
theorem dX0_linked_15 : decode cX0_linked 15 = .ok (.iload_n 1, 1) := dk_27 (dk_at dksX0_linked_0 15 rfl rfl)
theorem dX0_linked_16 : decode cX0_linked 16 = .ok (.iload_n 2, 1) := dk_28 (dk_at dksX0_linked_0 16 rfl rfl)
theorem dX0_linked_17 : decode cX0_linked 17 = .ok (.invokevirtual 152, 3) := dk_182 0 152 (dk_at dksX0_linked_0 17 rfl rfl)
theorem dX0_linked_20 : decode cX0_linked 20 = .ok (.ifCond .eq 7, 3) := dk_153 0 7 (dk_at dksX0_linked_0 20 rfl rfl)
theorem dX0_linked_23 : decode cX0_linked 23 = .ok (.iconst 1, 1) := dk_4 (dk_at dksX0_linked_0 23 rfl rfl)
theorem dX0_linked_24 : decode cX0_linked 24 = .ok (.goto 4, 3) := dk_167 0 4 (dk_at dksX0_linked_1 0 rfl rfl)
theorem dX0_linked_27 : decode cX0_linked 27 = .ok (.iconst 0, 1) := dk_3 (dk_at dksX0_linked_1 3 rfl rfl)
theorem dX0_linked_28 : decode cX0_linked 28 = .ok (.ireturn, 1) := dk_172 (dk_at dksX0_linked_1 4 rfl rfl)
abbrev cX0_count : ByteArray := prog_1_method_25_code
def yX0_count : MethodName := ⟨RX0, "count", "(I)I"⟩
def dkwX0_count_7 : List UInt8 := [167, 0, 14, 42, 180, 0, 98, 180, 0, 129, 167, 0, 4, 2, 172]
abbrev dktX0_count_7 : List UInt8 := dkwX0_count_7 ++ []
def dkwX0_count_6 : List UInt8 := [182, 0, 220, 167, 0, 34, 42, 180, 0, 102, 180, 0, 129, 167, 0, 24, 42, 180, 0, 94, 180, 0, 129]
abbrev dktX0_count_6 : List UInt8 := dkwX0_count_6 ++ dktX0_count_7
def dkwX0_count_5 : List UInt8 := [182, 0, 205, 178, 0, 39, 182, 0, 214, 167, 0, 51, 42, 182, 0, 205, 182, 0, 217, 167, 0, 41, 42]
abbrev dktX0_count_5 : List UInt8 := dkwX0_count_5 ++ dktX0_count_6
def dkwX0_count_4 : List UInt8 := [178, 0, 30, 182, 0, 214, 167, 0, 77, 42, 182, 0, 205, 178, 0, 36, 182, 0, 214, 167, 0, 64, 42]
abbrev dktX0_count_4 : List UInt8 := dkwX0_count_4 ++ dktX0_count_5
def dkwX0_count_3 : List UInt8 := [3, 182, 0, 208, 167, 0, 103, 42, 182, 0, 205, 180, 0, 211, 182, 0, 13, 167, 0, 90, 42, 182, 0, 205]
abbrev dktX0_count_3 : List UInt8 := dkwX0_count_3 ++ dktX0_count_4
def dkwX0_count_2 : List UInt8 := [42, 180, 0, 106, 180, 0, 42, 167, 0, 124, 42, 180, 0, 106, 182, 0, 180, 167, 0, 114, 42, 182, 0, 205]
abbrev dktX0_count_2 : List UInt8 := dkwX0_count_2 ++ dktX0_count_3
def dkwX0_count_1 : List UInt8 := [170, 0, 0, 0, 0, 0, 193, 0, 0, 0, 0, 0, 0, 0, 11, 0, 0, 0, 63, 0, 0, 0, 73, 0, 0, 0, 83, 0, 0, 0, 94, 0, 0, 0, 107, 0, 0, 0, 120, 0, 0, 0, 133, 0, 0, 0, 146, 0, 0, 0, 156, 0, 0, 0, 163, 0, 0, 0, 173, 0, 0, 0, 183]
abbrev dktX0_count_1 : List UInt8 := dkwX0_count_1 ++ dktX0_count_2
def dkwX0_count_0 : List UInt8 := [27]
abbrev dktX0_count_0 : List UInt8 := dkwX0_count_0 ++ dktX0_count_1
theorem dksX0_count_0 : cX0_count.data.toList.drop 0 = dktX0_count_0 := by decide +kernel
theorem dksX0_count_1 : cX0_count.data.toList.drop 1 = dktX0_count_1 := dk_seg dksX0_count_0 1 rfl rfl
theorem dksX0_count_2 : cX0_count.data.toList.drop 64 = dktX0_count_2 := dk_seg dksX0_count_1 63 rfl rfl
theorem dksX0_count_3 : cX0_count.data.toList.drop 88 = dktX0_count_3 := dk_seg dksX0_count_2 24 rfl rfl
theorem dksX0_count_4 : cX0_count.data.toList.drop 112 = dktX0_count_4 := dk_seg dksX0_count_3 24 rfl rfl
theorem dksX0_count_5 : cX0_count.data.toList.drop 135 = dktX0_count_5 := dk_seg dksX0_count_4 23 rfl rfl
theorem dksX0_count_6 : cX0_count.data.toList.drop 158 = dktX0_count_6 := dk_seg dksX0_count_5 23 rfl rfl
theorem dksX0_count_7 : cX0_count.data.toList.drop 181 = dktX0_count_7 := dk_seg dksX0_count_6 23 rfl rfl
theorem dX0_count_0 : decode cX0_count 0 = .ok (.iload_n 1, 1) := dk_27 (dk_at dksX0_count_0 0 rfl rfl)
theorem dX0_count_1 : decode cX0_count 1 = .ok (.tableswitch 193 0 11 #[63, 73, 83, 94, 107, 120, 133, 146, 156, 163, 173, 183], 63) := by decide +kernel
theorem dX0_count_64 : decode cX0_count 64 = .ok (.aload_n 0, 1) := dk_42 (dk_at dksX0_count_2 0 rfl rfl)
theorem dX0_count_65 : decode cX0_count 65 = .ok (.getfield 106, 3) := dk_180 0 106 (dk_at dksX0_count_2 1 rfl rfl)
theorem dX0_count_68 : decode cX0_count 68 = .ok (.getfield 42, 3) := dk_180 0 42 (dk_at dksX0_count_2 4 rfl rfl)
theorem dX0_count_71 : decode cX0_count 71 = .ok (.goto 124, 3) := dk_167 0 124 (dk_at dksX0_count_2 7 rfl rfl)
theorem dX0_count_74 : decode cX0_count 74 = .ok (.aload_n 0, 1) := dk_42 (dk_at dksX0_count_2 10 rfl rfl)
theorem dX0_count_75 : decode cX0_count 75 = .ok (.getfield 106, 3) := dk_180 0 106 (dk_at dksX0_count_2 11 rfl rfl)
theorem dX0_count_78 : decode cX0_count 78 = .ok (.invokevirtual 180, 3) := dk_182 0 180 (dk_at dksX0_count_2 14 rfl rfl)
theorem dX0_count_81 : decode cX0_count 81 = .ok (.goto 114, 3) := dk_167 0 114 (dk_at dksX0_count_2 17 rfl rfl)
theorem dX0_count_84 : decode cX0_count 84 = .ok (.aload_n 0, 1) := dk_42 (dk_at dksX0_count_2 20 rfl rfl)
theorem dX0_count_85 : decode cX0_count 85 = .ok (.invokevirtual 205, 3) := dk_182 0 205 (dk_at dksX0_count_2 21 rfl rfl)
theorem dX0_count_88 : decode cX0_count 88 = .ok (.iconst 0, 1) := dk_3 (dk_at dksX0_count_3 0 rfl rfl)
theorem dX0_count_89 : decode cX0_count 89 = .ok (.invokevirtual 208, 3) := dk_182 0 208 (dk_at dksX0_count_3 1 rfl rfl)
theorem dX0_count_92 : decode cX0_count 92 = .ok (.goto 103, 3) := dk_167 0 103 (dk_at dksX0_count_3 4 rfl rfl)
theorem dX0_count_95 : decode cX0_count 95 = .ok (.aload_n 0, 1) := dk_42 (dk_at dksX0_count_3 7 rfl rfl)
theorem dX0_count_96 : decode cX0_count 96 = .ok (.invokevirtual 205, 3) := dk_182 0 205 (dk_at dksX0_count_3 8 rfl rfl)
theorem dX0_count_99 : decode cX0_count 99 = .ok (.getfield 211, 3) := dk_180 0 211 (dk_at dksX0_count_3 11 rfl rfl)
theorem dX0_count_102 : decode cX0_count 102 = .ok (.invokevirtual 13, 3) := dk_182 0 13 (dk_at dksX0_count_3 14 rfl rfl)
theorem dX0_count_105 : decode cX0_count 105 = .ok (.goto 90, 3) := dk_167 0 90 (dk_at dksX0_count_3 17 rfl rfl)
theorem dX0_count_108 : decode cX0_count 108 = .ok (.aload_n 0, 1) := dk_42 (dk_at dksX0_count_3 20 rfl rfl)
theorem dX0_count_109 : decode cX0_count 109 = .ok (.invokevirtual 205, 3) := dk_182 0 205 (dk_at dksX0_count_3 21 rfl rfl)
theorem dX0_count_112 : decode cX0_count 112 = .ok (.getstatic 30, 3) := dk_178 0 30 (dk_at dksX0_count_4 0 rfl rfl)
theorem dX0_count_115 : decode cX0_count 115 = .ok (.invokevirtual 214, 3) := dk_182 0 214 (dk_at dksX0_count_4 3 rfl rfl)
theorem dX0_count_118 : decode cX0_count 118 = .ok (.goto 77, 3) := dk_167 0 77 (dk_at dksX0_count_4 6 rfl rfl)
theorem dX0_count_121 : decode cX0_count 121 = .ok (.aload_n 0, 1) := dk_42 (dk_at dksX0_count_4 9 rfl rfl)
theorem dX0_count_122 : decode cX0_count 122 = .ok (.invokevirtual 205, 3) := dk_182 0 205 (dk_at dksX0_count_4 10 rfl rfl)
theorem dX0_count_125 : decode cX0_count 125 = .ok (.getstatic 36, 3) := dk_178 0 36 (dk_at dksX0_count_4 13 rfl rfl)
theorem dX0_count_128 : decode cX0_count 128 = .ok (.invokevirtual 214, 3) := dk_182 0 214 (dk_at dksX0_count_4 16 rfl rfl)
theorem dX0_count_131 : decode cX0_count 131 = .ok (.goto 64, 3) := dk_167 0 64 (dk_at dksX0_count_4 19 rfl rfl)
theorem dX0_count_134 : decode cX0_count 134 = .ok (.aload_n 0, 1) := dk_42 (dk_at dksX0_count_4 22 rfl rfl)
theorem dX0_count_135 : decode cX0_count 135 = .ok (.invokevirtual 205, 3) := dk_182 0 205 (dk_at dksX0_count_5 0 rfl rfl)
theorem dX0_count_138 : decode cX0_count 138 = .ok (.getstatic 39, 3) := dk_178 0 39 (dk_at dksX0_count_5 3 rfl rfl)
theorem dX0_count_141 : decode cX0_count 141 = .ok (.invokevirtual 214, 3) := dk_182 0 214 (dk_at dksX0_count_5 6 rfl rfl)
theorem dX0_count_144 : decode cX0_count 144 = .ok (.goto 51, 3) := dk_167 0 51 (dk_at dksX0_count_5 9 rfl rfl)
theorem dX0_count_147 : decode cX0_count 147 = .ok (.aload_n 0, 1) := dk_42 (dk_at dksX0_count_5 12 rfl rfl)
theorem dX0_count_148 : decode cX0_count 148 = .ok (.invokevirtual 205, 3) := dk_182 0 205 (dk_at dksX0_count_5 13 rfl rfl)
theorem dX0_count_151 : decode cX0_count 151 = .ok (.invokevirtual 217, 3) := dk_182 0 217 (dk_at dksX0_count_5 16 rfl rfl)
theorem dX0_count_154 : decode cX0_count 154 = .ok (.goto 41, 3) := dk_167 0 41 (dk_at dksX0_count_5 19 rfl rfl)
theorem dX0_count_157 : decode cX0_count 157 = .ok (.aload_n 0, 1) := dk_42 (dk_at dksX0_count_5 22 rfl rfl)
theorem dX0_count_158 : decode cX0_count 158 = .ok (.invokevirtual 220, 3) := dk_182 0 220 (dk_at dksX0_count_6 0 rfl rfl)
theorem dX0_count_161 : decode cX0_count 161 = .ok (.goto 34, 3) := dk_167 0 34 (dk_at dksX0_count_6 3 rfl rfl)
theorem dX0_count_164 : decode cX0_count 164 = .ok (.aload_n 0, 1) := dk_42 (dk_at dksX0_count_6 6 rfl rfl)
theorem dX0_count_165 : decode cX0_count 165 = .ok (.getfield 102, 3) := dk_180 0 102 (dk_at dksX0_count_6 7 rfl rfl)
theorem dX0_count_168 : decode cX0_count 168 = .ok (.getfield 129, 3) := dk_180 0 129 (dk_at dksX0_count_6 10 rfl rfl)
theorem dX0_count_171 : decode cX0_count 171 = .ok (.goto 24, 3) := dk_167 0 24 (dk_at dksX0_count_6 13 rfl rfl)
theorem dX0_count_174 : decode cX0_count 174 = .ok (.aload_n 0, 1) := dk_42 (dk_at dksX0_count_6 16 rfl rfl)
theorem dX0_count_175 : decode cX0_count 175 = .ok (.getfield 94, 3) := dk_180 0 94 (dk_at dksX0_count_6 17 rfl rfl)
theorem dX0_count_178 : decode cX0_count 178 = .ok (.getfield 129, 3) := dk_180 0 129 (dk_at dksX0_count_6 20 rfl rfl)
theorem dX0_count_181 : decode cX0_count 181 = .ok (.goto 14, 3) := dk_167 0 14 (dk_at dksX0_count_7 0 rfl rfl)
theorem dX0_count_184 : decode cX0_count 184 = .ok (.aload_n 0, 1) := dk_42 (dk_at dksX0_count_7 3 rfl rfl)
theorem dX0_count_185 : decode cX0_count 185 = .ok (.getfield 98, 3) := dk_180 0 98 (dk_at dksX0_count_7 4 rfl rfl)
theorem dX0_count_188 : decode cX0_count 188 = .ok (.getfield 129, 3) := dk_180 0 129 (dk_at dksX0_count_7 7 rfl rfl)
theorem dX0_count_191 : decode cX0_count 191 = .ok (.goto 4, 3) := dk_167 0 4 (dk_at dksX0_count_7 10 rfl rfl)
theorem dX0_count_194 : decode cX0_count 194 = .ok (.iconst (-1), 1) := dk_2 (dk_at dksX0_count_7 13 rfl rfl)
theorem dX0_count_195 : decode cX0_count 195 = .ok (.ireturn, 1) := dk_172 (dk_at dksX0_count_7 14 rfl rfl)
abbrev cX0_forest : ByteArray := prog_1_method_10_code
def yX0_forest : MethodName := ⟨RX0, "forest", "()LGraphModules$Forest;"⟩
def dkwX0_forest_1 : List UInt8 := [180, 0, 110, 176]
abbrev dktX0_forest_1 : List UInt8 := dkwX0_forest_1 ++ []
def dkwX0_forest_0 : List UInt8 := [42, 180, 0, 110, 199, 0, 18, 42, 187, 0, 114, 89, 42, 180, 0, 106, 183, 0, 116, 181, 0, 110, 42]
abbrev dktX0_forest_0 : List UInt8 := dkwX0_forest_0 ++ dktX0_forest_1
theorem dksX0_forest_0 : cX0_forest.data.toList.drop 0 = dktX0_forest_0 := by decide +kernel
theorem dksX0_forest_1 : cX0_forest.data.toList.drop 23 = dktX0_forest_1 := dk_seg dksX0_forest_0 23 rfl rfl
theorem dX0_forest_0 : decode cX0_forest 0 = .ok (.aload_n 0, 1) := dk_42 (dk_at dksX0_forest_0 0 rfl rfl)
theorem dX0_forest_1 : decode cX0_forest 1 = .ok (.getfield 110, 3) := dk_180 0 110 (dk_at dksX0_forest_0 1 rfl rfl)
theorem dX0_forest_4 : decode cX0_forest 4 = .ok (.ifnonnull 18, 3) := dk_199 0 18 (dk_at dksX0_forest_0 4 rfl rfl)
theorem dX0_forest_7 : decode cX0_forest 7 = .ok (.aload_n 0, 1) := dk_42 (dk_at dksX0_forest_0 7 rfl rfl)
theorem dX0_forest_8 : decode cX0_forest 8 = .ok (.new 114, 3) := dk_187 0 114 (dk_at dksX0_forest_0 8 rfl rfl)
theorem dX0_forest_11 : decode cX0_forest 11 = .ok (.dup, 1) := dk_89 (dk_at dksX0_forest_0 11 rfl rfl)
theorem dX0_forest_12 : decode cX0_forest 12 = .ok (.aload_n 0, 1) := dk_42 (dk_at dksX0_forest_0 12 rfl rfl)
theorem dX0_forest_13 : decode cX0_forest 13 = .ok (.getfield 106, 3) := dk_180 0 106 (dk_at dksX0_forest_0 13 rfl rfl)
theorem dX0_forest_16 : decode cX0_forest 16 = .ok (.invokespecial 116, 3) := dk_183 0 116 (dk_at dksX0_forest_0 16 rfl rfl)
theorem dX0_forest_19 : decode cX0_forest 19 = .ok (.putfield 110, 3) := dk_181 0 110 (dk_at dksX0_forest_0 19 rfl rfl)
theorem dX0_forest_22 : decode cX0_forest 22 = .ok (.aload_n 0, 1) := dk_42 (dk_at dksX0_forest_0 22 rfl rfl)
theorem dX0_forest_23 : decode cX0_forest 23 = .ok (.getfield 110, 3) := dk_180 0 110 (dk_at dksX0_forest_1 0 rfl rfl)
theorem dX0_forest_26 : decode cX0_forest 26 = .ok (.areturn, 1) := dk_176 (dk_at dksX0_forest_1 3 rfl rfl)
abbrev cX0_grow : ByteArray := prog_1_method_8_code
def yX0_grow : MethodName := ⟨RX0, "grow", "(LGraphModules$Graph;I)LGraphModules$Tree;"⟩
def dkwX0_grow_3 : List UInt8 := [167, 255, 220, 44, 176]
abbrev dktX0_grow_3 : List UInt8 := dkwX0_grow_3 ++ []
def dkwX0_grow_2 : List UInt8 := [184, 0, 72, 54, 4, 44, 42, 21, 4, 184, 0, 76, 182, 0, 80, 29, 21, 4, 2, 130, 126, 62]
abbrev dktX0_grow_2 : List UInt8 := dkwX0_grow_2 ++ dktX0_grow_3
def dkwX0_grow_1 : List UInt8 := [184, 0, 62, 183, 0, 66, 77, 27, 62, 29, 153, 0, 38, 42, 27, 44, 180, 0, 69, 29, 184, 0, 19]
abbrev dktX0_grow_1 : List UInt8 := dkwX0_grow_1 ++ dktX0_grow_2
def dkwX0_grow_0 : List UInt8 := [27, 184, 0, 53, 4, 160, 0, 12, 187, 0, 56, 89, 27, 183, 0, 58, 176, 187, 0, 7, 89, 27, 42, 27]
abbrev dktX0_grow_0 : List UInt8 := dkwX0_grow_0 ++ dktX0_grow_1
theorem dksX0_grow_0 : cX0_grow.data.toList.drop 0 = dktX0_grow_0 := by decide +kernel
theorem dksX0_grow_1 : cX0_grow.data.toList.drop 24 = dktX0_grow_1 := dk_seg dksX0_grow_0 24 rfl rfl
theorem dksX0_grow_2 : cX0_grow.data.toList.drop 47 = dktX0_grow_2 := dk_seg dksX0_grow_1 23 rfl rfl
theorem dksX0_grow_3 : cX0_grow.data.toList.drop 69 = dktX0_grow_3 := dk_seg dksX0_grow_2 22 rfl rfl
theorem dX0_grow_0 : decode cX0_grow 0 = .ok (.iload_n 1, 1) := dk_27 (dk_at dksX0_grow_0 0 rfl rfl)
theorem dX0_grow_1 : decode cX0_grow 1 = .ok (.invokestatic 53, 3) := dk_184 0 53 (dk_at dksX0_grow_0 1 rfl rfl)
theorem dX0_grow_4 : decode cX0_grow 4 = .ok (.iconst 1, 1) := dk_4 (dk_at dksX0_grow_0 4 rfl rfl)
theorem dX0_grow_5 : decode cX0_grow 5 = .ok (.if_icmp .ne 12, 3) := dk_160 0 12 (dk_at dksX0_grow_0 5 rfl rfl)
theorem dX0_grow_8 : decode cX0_grow 8 = .ok (.new 56, 3) := dk_187 0 56 (dk_at dksX0_grow_0 8 rfl rfl)
theorem dX0_grow_11 : decode cX0_grow 11 = .ok (.dup, 1) := dk_89 (dk_at dksX0_grow_0 11 rfl rfl)
theorem dX0_grow_12 : decode cX0_grow 12 = .ok (.iload_n 1, 1) := dk_27 (dk_at dksX0_grow_0 12 rfl rfl)
theorem dX0_grow_13 : decode cX0_grow 13 = .ok (.invokespecial 58, 3) := dk_183 0 58 (dk_at dksX0_grow_0 13 rfl rfl)
theorem dX0_grow_16 : decode cX0_grow 16 = .ok (.areturn, 1) := dk_176 (dk_at dksX0_grow_0 16 rfl rfl)
theorem dX0_grow_17 : decode cX0_grow 17 = .ok (.new 7, 3) := dk_187 0 7 (dk_at dksX0_grow_0 17 rfl rfl)
theorem dX0_grow_20 : decode cX0_grow 20 = .ok (.dup, 1) := dk_89 (dk_at dksX0_grow_0 20 rfl rfl)
theorem dX0_grow_21 : decode cX0_grow 21 = .ok (.iload_n 1, 1) := dk_27 (dk_at dksX0_grow_0 21 rfl rfl)
theorem dX0_grow_22 : decode cX0_grow 22 = .ok (.aload_n 0, 1) := dk_42 (dk_at dksX0_grow_0 22 rfl rfl)
theorem dX0_grow_23 : decode cX0_grow 23 = .ok (.iload_n 1, 1) := dk_27 (dk_at dksX0_grow_0 23 rfl rfl)
theorem dX0_grow_24 : decode cX0_grow 24 = .ok (.invokestatic 62, 3) := dk_184 0 62 (dk_at dksX0_grow_1 0 rfl rfl)
theorem dX0_grow_27 : decode cX0_grow 27 = .ok (.invokespecial 66, 3) := dk_183 0 66 (dk_at dksX0_grow_1 3 rfl rfl)
theorem dX0_grow_30 : decode cX0_grow 30 = .ok (.astore_n 2, 1) := dk_77 (dk_at dksX0_grow_1 6 rfl rfl)
theorem dX0_grow_31 : decode cX0_grow 31 = .ok (.iload_n 1, 1) := dk_27 (dk_at dksX0_grow_1 7 rfl rfl)
theorem dX0_grow_32 : decode cX0_grow 32 = .ok (.istore_n 3, 1) := dk_62 (dk_at dksX0_grow_1 8 rfl rfl)
theorem dX0_grow_33 : decode cX0_grow 33 = .ok (.iload_n 3, 1) := dk_29 (dk_at dksX0_grow_1 9 rfl rfl)
theorem dX0_grow_34 : decode cX0_grow 34 = .ok (.ifCond .eq 38, 3) := dk_153 0 38 (dk_at dksX0_grow_1 10 rfl rfl)
theorem dX0_grow_37 : decode cX0_grow 37 = .ok (.aload_n 0, 1) := dk_42 (dk_at dksX0_grow_1 13 rfl rfl)
theorem dX0_grow_38 : decode cX0_grow 38 = .ok (.iload_n 1, 1) := dk_27 (dk_at dksX0_grow_1 14 rfl rfl)
theorem dX0_grow_39 : decode cX0_grow 39 = .ok (.aload_n 2, 1) := dk_44 (dk_at dksX0_grow_1 15 rfl rfl)
theorem dX0_grow_40 : decode cX0_grow 40 = .ok (.getfield 69, 3) := dk_180 0 69 (dk_at dksX0_grow_1 16 rfl rfl)
theorem dX0_grow_43 : decode cX0_grow 43 = .ok (.iload_n 3, 1) := dk_29 (dk_at dksX0_grow_1 19 rfl rfl)
theorem dX0_grow_44 : decode cX0_grow 44 = .ok (.invokestatic 19, 3) := dk_184 0 19 (dk_at dksX0_grow_1 20 rfl rfl)
theorem dX0_grow_47 : decode cX0_grow 47 = .ok (.invokestatic 72, 3) := dk_184 0 72 (dk_at dksX0_grow_2 0 rfl rfl)
theorem dX0_grow_50 : decode cX0_grow 50 = .ok (.istore 4, 2) := dk_54 4 (dk_at dksX0_grow_2 3 rfl rfl)
theorem dX0_grow_52 : decode cX0_grow 52 = .ok (.aload_n 2, 1) := dk_44 (dk_at dksX0_grow_2 5 rfl rfl)
theorem dX0_grow_53 : decode cX0_grow 53 = .ok (.aload_n 0, 1) := dk_42 (dk_at dksX0_grow_2 6 rfl rfl)
theorem dX0_grow_54 : decode cX0_grow 54 = .ok (.iload 4, 2) := dk_21 4 (dk_at dksX0_grow_2 7 rfl rfl)
theorem dX0_grow_56 : decode cX0_grow 56 = .ok (.invokestatic 76, 3) := dk_184 0 76 (dk_at dksX0_grow_2 9 rfl rfl)
theorem dX0_grow_59 : decode cX0_grow 59 = .ok (.invokevirtual 80, 3) := dk_182 0 80 (dk_at dksX0_grow_2 12 rfl rfl)
theorem dX0_grow_62 : decode cX0_grow 62 = .ok (.iload_n 3, 1) := dk_29 (dk_at dksX0_grow_2 15 rfl rfl)
theorem dX0_grow_63 : decode cX0_grow 63 = .ok (.iload 4, 2) := dk_21 4 (dk_at dksX0_grow_2 16 rfl rfl)
theorem dX0_grow_65 : decode cX0_grow 65 = .ok (.iconst (-1), 1) := dk_2 (dk_at dksX0_grow_2 18 rfl rfl)
theorem dX0_grow_66 : decode cX0_grow 66 = .ok (.ixor, 1) := dk_130 (dk_at dksX0_grow_2 19 rfl rfl)
theorem dX0_grow_67 : decode cX0_grow 67 = .ok (.iand, 1) := dk_126 (dk_at dksX0_grow_2 20 rfl rfl)
theorem dX0_grow_68 : decode cX0_grow 68 = .ok (.istore_n 3, 1) := dk_62 (dk_at dksX0_grow_2 21 rfl rfl)
theorem dX0_grow_69 : decode cX0_grow 69 = .ok (.goto (-36), 3) := dk_167 255 220 (dk_at dksX0_grow_3 0 rfl rfl)
theorem dX0_grow_72 : decode cX0_grow 72 = .ok (.aload_n 2, 1) := dk_44 (dk_at dksX0_grow_3 3 rfl rfl)
theorem dX0_grow_73 : decode cX0_grow 73 = .ok (.areturn, 1) := dk_176 (dk_at dksX0_grow_3 4 rfl rfl)
abbrev cX0_kindOf : ByteArray := prog_1_method_6_code
def yX0_kindOf : MethodName := ⟨RX0, "kindOf", "(LGraphModules$Graph;I)LGraphModules$Kind;"⟩
def dkwX0_kindOf_1 : List UInt8 := [182, 0, 24, 27, 159, 0, 9, 178, 0, 36, 167, 0, 6, 178, 0, 39, 176]
abbrev dktX0_kindOf_1 : List UInt8 := dkwX0_kindOf_1 ++ []
def dkwX0_kindOf_0 : List UInt8 := [27, 184, 0, 19, 61, 42, 28, 27, 4, 182, 0, 24, 27, 159, 0, 7, 178, 0, 30, 176, 42, 28, 27, 3]
abbrev dktX0_kindOf_0 : List UInt8 := dkwX0_kindOf_0 ++ dktX0_kindOf_1
theorem dksX0_kindOf_0 : cX0_kindOf.data.toList.drop 0 = dktX0_kindOf_0 := by decide +kernel
theorem dksX0_kindOf_1 : cX0_kindOf.data.toList.drop 24 = dktX0_kindOf_1 := dk_seg dksX0_kindOf_0 24 rfl rfl
theorem dX0_kindOf_0 : decode cX0_kindOf 0 = .ok (.iload_n 1, 1) := dk_27 (dk_at dksX0_kindOf_0 0 rfl rfl)
theorem dX0_kindOf_1 : decode cX0_kindOf 1 = .ok (.invokestatic 19, 3) := dk_184 0 19 (dk_at dksX0_kindOf_0 1 rfl rfl)
theorem dX0_kindOf_4 : decode cX0_kindOf 4 = .ok (.istore_n 2, 1) := dk_61 (dk_at dksX0_kindOf_0 4 rfl rfl)
theorem dX0_kindOf_5 : decode cX0_kindOf 5 = .ok (.aload_n 0, 1) := dk_42 (dk_at dksX0_kindOf_0 5 rfl rfl)
theorem dX0_kindOf_6 : decode cX0_kindOf 6 = .ok (.iload_n 2, 1) := dk_28 (dk_at dksX0_kindOf_0 6 rfl rfl)
theorem dX0_kindOf_7 : decode cX0_kindOf 7 = .ok (.iload_n 1, 1) := dk_27 (dk_at dksX0_kindOf_0 7 rfl rfl)
theorem dX0_kindOf_8 : decode cX0_kindOf 8 = .ok (.iconst 1, 1) := dk_4 (dk_at dksX0_kindOf_0 8 rfl rfl)
theorem dX0_kindOf_9 : decode cX0_kindOf 9 = .ok (.invokevirtual 24, 3) := dk_182 0 24 (dk_at dksX0_kindOf_0 9 rfl rfl)
theorem dX0_kindOf_12 : decode cX0_kindOf 12 = .ok (.iload_n 1, 1) := dk_27 (dk_at dksX0_kindOf_0 12 rfl rfl)
theorem dX0_kindOf_13 : decode cX0_kindOf 13 = .ok (.if_icmp .eq 7, 3) := dk_159 0 7 (dk_at dksX0_kindOf_0 13 rfl rfl)
theorem dX0_kindOf_16 : decode cX0_kindOf 16 = .ok (.getstatic 30, 3) := dk_178 0 30 (dk_at dksX0_kindOf_0 16 rfl rfl)
theorem dX0_kindOf_19 : decode cX0_kindOf 19 = .ok (.areturn, 1) := dk_176 (dk_at dksX0_kindOf_0 19 rfl rfl)
theorem dX0_kindOf_20 : decode cX0_kindOf 20 = .ok (.aload_n 0, 1) := dk_42 (dk_at dksX0_kindOf_0 20 rfl rfl)
theorem dX0_kindOf_21 : decode cX0_kindOf 21 = .ok (.iload_n 2, 1) := dk_28 (dk_at dksX0_kindOf_0 21 rfl rfl)
theorem dX0_kindOf_22 : decode cX0_kindOf 22 = .ok (.iload_n 1, 1) := dk_27 (dk_at dksX0_kindOf_0 22 rfl rfl)
theorem dX0_kindOf_23 : decode cX0_kindOf 23 = .ok (.iconst 0, 1) := dk_3 (dk_at dksX0_kindOf_0 23 rfl rfl)
theorem dX0_kindOf_24 : decode cX0_kindOf 24 = .ok (.invokevirtual 24, 3) := dk_182 0 24 (dk_at dksX0_kindOf_1 0 rfl rfl)
theorem dX0_kindOf_27 : decode cX0_kindOf 27 = .ok (.iload_n 1, 1) := dk_27 (dk_at dksX0_kindOf_1 3 rfl rfl)
theorem dX0_kindOf_28 : decode cX0_kindOf 28 = .ok (.if_icmp .eq 9, 3) := dk_159 0 9 (dk_at dksX0_kindOf_1 4 rfl rfl)
theorem dX0_kindOf_31 : decode cX0_kindOf 31 = .ok (.getstatic 36, 3) := dk_178 0 36 (dk_at dksX0_kindOf_1 7 rfl rfl)
theorem dX0_kindOf_34 : decode cX0_kindOf 34 = .ok (.goto 6, 3) := dk_167 0 6 (dk_at dksX0_kindOf_1 10 rfl rfl)
theorem dX0_kindOf_37 : decode cX0_kindOf 37 = .ok (.getstatic 39, 3) := dk_178 0 39 (dk_at dksX0_kindOf_1 13 rfl rfl)
theorem dX0_kindOf_40 : decode cX0_kindOf 40 = .ok (.areturn, 1) := dk_176 (dk_at dksX0_kindOf_1 16 rfl rfl)
abbrev cX0_lowest : ByteArray := prog_1_method_3_code
def yX0_lowest : MethodName := ⟨RX0, "lowest", "(I)I"⟩
theorem dX0_lowest_0 : decode cX0_lowest 0 = .ok (.iload_n 0, 1) := by decide +kernel
theorem dX0_lowest_1 : decode cX0_lowest 1 = .ok (.invokestatic 1, 3) := by decide +kernel
theorem dX0_lowest_4 : decode cX0_lowest 4 = .ok (.ireturn, 1) := by decide +kernel
abbrev cX0_childOf : ByteArray := prog_1_method_7_code
def yX0_childOf : MethodName := ⟨RX0, "childOf", "(LGraphModules$Graph;ILGraphModules$Kind;I)I"⟩
def dkwX0_childOf_3 : List UInt8 := [27, 159, 0, 8, 21, 6, 167, 0, 4, 3, 128, 54, 4, 132, 5, 1, 167, 255, 204, 21, 4, 172]
abbrev dktX0_childOf_3 : List UInt8 := dkwX0_childOf_3 ++ []
def dkwX0_childOf_2 : List UInt8 := [4, 21, 5, 120, 128, 54, 6, 21, 4, 27, 21, 5, 184, 0, 46, 153, 0, 18, 42, 21, 6, 182, 0, 50]
abbrev dktX0_childOf_2 : List UInt8 := dkwX0_childOf_2 ++ dktX0_childOf_3
def dkwX0_childOf_1 : List UInt8 := [182, 0, 24, 172, 4, 29, 120, 54, 4, 3, 54, 5, 21, 5, 42, 180, 0, 42, 162, 0, 49, 4, 29, 120]
abbrev dktX0_childOf_1 : List UInt8 := dkwX0_childOf_1 ++ dktX0_childOf_2
def dkwX0_childOf_0 : List UInt8 := [44, 178, 0, 39, 165, 0, 22, 42, 29, 27, 44, 178, 0, 30, 166, 0, 7, 4, 167, 0, 4, 3]
abbrev dktX0_childOf_0 : List UInt8 := dkwX0_childOf_0 ++ dktX0_childOf_1
theorem dksX0_childOf_0 : cX0_childOf.data.toList.drop 0 = dktX0_childOf_0 := by decide +kernel
theorem dksX0_childOf_1 : cX0_childOf.data.toList.drop 22 = dktX0_childOf_1 := dk_seg dksX0_childOf_0 22 rfl rfl
theorem dksX0_childOf_2 : cX0_childOf.data.toList.drop 46 = dktX0_childOf_2 := dk_seg dksX0_childOf_1 24 rfl rfl
theorem dksX0_childOf_3 : cX0_childOf.data.toList.drop 70 = dktX0_childOf_3 := dk_seg dksX0_childOf_2 24 rfl rfl
theorem dX0_childOf_0 : decode cX0_childOf 0 = .ok (.aload_n 2, 1) := dk_44 (dk_at dksX0_childOf_0 0 rfl rfl)
theorem dX0_childOf_1 : decode cX0_childOf 1 = .ok (.getstatic 39, 3) := dk_178 0 39 (dk_at dksX0_childOf_0 1 rfl rfl)
theorem dX0_childOf_4 : decode cX0_childOf 4 = .ok (.if_acmp .eq 22, 3) := dk_165 0 22 (dk_at dksX0_childOf_0 4 rfl rfl)
theorem dX0_childOf_7 : decode cX0_childOf 7 = .ok (.aload_n 0, 1) := dk_42 (dk_at dksX0_childOf_0 7 rfl rfl)
theorem dX0_childOf_8 : decode cX0_childOf 8 = .ok (.iload_n 3, 1) := dk_29 (dk_at dksX0_childOf_0 8 rfl rfl)
theorem dX0_childOf_9 : decode cX0_childOf 9 = .ok (.iload_n 1, 1) := dk_27 (dk_at dksX0_childOf_0 9 rfl rfl)
theorem dX0_childOf_10 : decode cX0_childOf 10 = .ok (.aload_n 2, 1) := dk_44 (dk_at dksX0_childOf_0 10 rfl rfl)
theorem dX0_childOf_11 : decode cX0_childOf 11 = .ok (.getstatic 30, 3) := dk_178 0 30 (dk_at dksX0_childOf_0 11 rfl rfl)
theorem dX0_childOf_14 : decode cX0_childOf 14 = .ok (.if_acmp .ne 7, 3) := dk_166 0 7 (dk_at dksX0_childOf_0 14 rfl rfl)
theorem dX0_childOf_17 : decode cX0_childOf 17 = .ok (.iconst 1, 1) := dk_4 (dk_at dksX0_childOf_0 17 rfl rfl)
theorem dX0_childOf_18 : decode cX0_childOf 18 = .ok (.goto 4, 3) := dk_167 0 4 (dk_at dksX0_childOf_0 18 rfl rfl)
theorem dX0_childOf_21 : decode cX0_childOf 21 = .ok (.iconst 0, 1) := dk_3 (dk_at dksX0_childOf_0 21 rfl rfl)
theorem dX0_childOf_22 : decode cX0_childOf 22 = .ok (.invokevirtual 24, 3) := dk_182 0 24 (dk_at dksX0_childOf_1 0 rfl rfl)
theorem dX0_childOf_25 : decode cX0_childOf 25 = .ok (.ireturn, 1) := dk_172 (dk_at dksX0_childOf_1 3 rfl rfl)
theorem dX0_childOf_26 : decode cX0_childOf 26 = .ok (.iconst 1, 1) := dk_4 (dk_at dksX0_childOf_1 4 rfl rfl)
theorem dX0_childOf_27 : decode cX0_childOf 27 = .ok (.iload_n 3, 1) := dk_29 (dk_at dksX0_childOf_1 5 rfl rfl)
theorem dX0_childOf_28 : decode cX0_childOf 28 = .ok (.ishl, 1) := dk_120 (dk_at dksX0_childOf_1 6 rfl rfl)
theorem dX0_childOf_29 : decode cX0_childOf 29 = .ok (.istore 4, 2) := dk_54 4 (dk_at dksX0_childOf_1 7 rfl rfl)
theorem dX0_childOf_31 : decode cX0_childOf 31 = .ok (.iconst 0, 1) := dk_3 (dk_at dksX0_childOf_1 9 rfl rfl)
theorem dX0_childOf_32 : decode cX0_childOf 32 = .ok (.istore 5, 2) := dk_54 5 (dk_at dksX0_childOf_1 10 rfl rfl)
theorem dX0_childOf_34 : decode cX0_childOf 34 = .ok (.iload 5, 2) := dk_21 5 (dk_at dksX0_childOf_1 12 rfl rfl)
theorem dX0_childOf_36 : decode cX0_childOf 36 = .ok (.aload_n 0, 1) := dk_42 (dk_at dksX0_childOf_1 14 rfl rfl)
theorem dX0_childOf_37 : decode cX0_childOf 37 = .ok (.getfield 42, 3) := dk_180 0 42 (dk_at dksX0_childOf_1 15 rfl rfl)
theorem dX0_childOf_40 : decode cX0_childOf 40 = .ok (.if_icmp .ge 49, 3) := dk_162 0 49 (dk_at dksX0_childOf_1 18 rfl rfl)
theorem dX0_childOf_43 : decode cX0_childOf 43 = .ok (.iconst 1, 1) := dk_4 (dk_at dksX0_childOf_1 21 rfl rfl)
theorem dX0_childOf_44 : decode cX0_childOf 44 = .ok (.iload_n 3, 1) := dk_29 (dk_at dksX0_childOf_1 22 rfl rfl)
theorem dX0_childOf_45 : decode cX0_childOf 45 = .ok (.ishl, 1) := dk_120 (dk_at dksX0_childOf_1 23 rfl rfl)
theorem dX0_childOf_46 : decode cX0_childOf 46 = .ok (.iconst 1, 1) := dk_4 (dk_at dksX0_childOf_2 0 rfl rfl)
theorem dX0_childOf_47 : decode cX0_childOf 47 = .ok (.iload 5, 2) := dk_21 5 (dk_at dksX0_childOf_2 1 rfl rfl)
theorem dX0_childOf_49 : decode cX0_childOf 49 = .ok (.ishl, 1) := dk_120 (dk_at dksX0_childOf_2 3 rfl rfl)
theorem dX0_childOf_50 : decode cX0_childOf 50 = .ok (.ior, 1) := dk_128 (dk_at dksX0_childOf_2 4 rfl rfl)
theorem dX0_childOf_51 : decode cX0_childOf 51 = .ok (.istore 6, 2) := dk_54 6 (dk_at dksX0_childOf_2 5 rfl rfl)
theorem dX0_childOf_53 : decode cX0_childOf 53 = .ok (.iload 4, 2) := dk_21 4 (dk_at dksX0_childOf_2 7 rfl rfl)
theorem dX0_childOf_55 : decode cX0_childOf 55 = .ok (.iload_n 1, 1) := dk_27 (dk_at dksX0_childOf_2 9 rfl rfl)
theorem dX0_childOf_56 : decode cX0_childOf 56 = .ok (.iload 5, 2) := dk_21 5 (dk_at dksX0_childOf_2 10 rfl rfl)
theorem dX0_childOf_58 : decode cX0_childOf 58 = .ok (.invokestatic 46, 3) := dk_184 0 46 (dk_at dksX0_childOf_2 12 rfl rfl)
theorem dX0_childOf_61 : decode cX0_childOf 61 = .ok (.ifCond .eq 18, 3) := dk_153 0 18 (dk_at dksX0_childOf_2 15 rfl rfl)
theorem dX0_childOf_64 : decode cX0_childOf 64 = .ok (.aload_n 0, 1) := dk_42 (dk_at dksX0_childOf_2 18 rfl rfl)
theorem dX0_childOf_65 : decode cX0_childOf 65 = .ok (.iload 6, 2) := dk_21 6 (dk_at dksX0_childOf_2 19 rfl rfl)
theorem dX0_childOf_67 : decode cX0_childOf 67 = .ok (.invokevirtual 50, 3) := dk_182 0 50 (dk_at dksX0_childOf_2 21 rfl rfl)
theorem dX0_childOf_70 : decode cX0_childOf 70 = .ok (.iload_n 1, 1) := dk_27 (dk_at dksX0_childOf_3 0 rfl rfl)
theorem dX0_childOf_71 : decode cX0_childOf 71 = .ok (.if_icmp .eq 8, 3) := dk_159 0 8 (dk_at dksX0_childOf_3 1 rfl rfl)
theorem dX0_childOf_74 : decode cX0_childOf 74 = .ok (.iload 6, 2) := dk_21 6 (dk_at dksX0_childOf_3 4 rfl rfl)
theorem dX0_childOf_76 : decode cX0_childOf 76 = .ok (.goto 4, 3) := dk_167 0 4 (dk_at dksX0_childOf_3 6 rfl rfl)
theorem dX0_childOf_79 : decode cX0_childOf 79 = .ok (.iconst 0, 1) := dk_3 (dk_at dksX0_childOf_3 9 rfl rfl)
theorem dX0_childOf_80 : decode cX0_childOf 80 = .ok (.ior, 1) := dk_128 (dk_at dksX0_childOf_3 10 rfl rfl)
theorem dX0_childOf_81 : decode cX0_childOf 81 = .ok (.istore 4, 2) := dk_54 4 (dk_at dksX0_childOf_3 11 rfl rfl)
theorem dX0_childOf_83 : decode cX0_childOf 83 = .ok (.iinc 5 1, 3) := dk_132 5 1 (dk_at dksX0_childOf_3 13 rfl rfl)
theorem dX0_childOf_86 : decode cX0_childOf 86 = .ok (.goto (-52), 3) := dk_167 255 204 (dk_at dksX0_childOf_3 16 rfl rfl)
theorem dX0_childOf_89 : decode cX0_childOf 89 = .ok (.iload 4, 2) := dk_21 4 (dk_at dksX0_childOf_3 19 rfl rfl)
theorem dX0_childOf_91 : decode cX0_childOf 91 = .ok (.ireturn, 1) := dk_172 (dk_at dksX0_childOf_3 21 rfl rfl)
abbrev cX0_classes : ByteArray := prog_1_method_24_code
def yX0_classes : MethodName := ⟨RX0, "classes", "()I"⟩
def dkwX0_classes_4 : List UInt8 := [132, 2, 1, 132, 3, 1, 167, 255, 165, 28, 172]
abbrev dktX0_classes_4 : List UInt8 := dkwX0_classes_4 ++ []
def dkwX0_classes_3 : List UInt8 := [180, 0, 201, 162, 0, 20, 43, 25, 4, 180, 0, 202, 21, 5, 46, 4, 84, 132, 5, 1, 167, 255, 232]
abbrev dktX0_classes_3 : List UInt8 := dkwX0_classes_3 ++ dktX0_classes_4
def dkwX0_classes_2 : List UInt8 := [42, 180, 0, 106, 29, 16, 10, 108, 29, 16, 10, 112, 182, 0, 197, 58, 4, 3, 54, 5, 21, 5, 25, 4]
abbrev dktX0_classes_2 : List UInt8 := dkwX0_classes_2 ++ dktX0_classes_3
def dkwX0_classes_1 : List UInt8 := [108, 29, 16, 10, 112, 182, 0, 152, 153, 0, 66, 43, 29, 51, 154, 0, 60, 187, 0, 194, 89, 183, 0, 196]
abbrev dktX0_classes_1 : List UInt8 := dkwX0_classes_1 ++ dktX0_classes_2
def dkwX0_classes_0 : List UInt8 := [178, 0, 191, 188, 4, 76, 3, 61, 3, 62, 29, 178, 0, 191, 162, 0, 90, 42, 180, 0, 106, 29, 16, 10]
abbrev dktX0_classes_0 : List UInt8 := dkwX0_classes_0 ++ dktX0_classes_1
theorem dksX0_classes_0 : cX0_classes.data.toList.drop 0 = dktX0_classes_0 := by decide +kernel
theorem dksX0_classes_1 : cX0_classes.data.toList.drop 24 = dktX0_classes_1 := dk_seg dksX0_classes_0 24 rfl rfl
theorem dksX0_classes_2 : cX0_classes.data.toList.drop 48 = dktX0_classes_2 := dk_seg dksX0_classes_1 24 rfl rfl
theorem dksX0_classes_3 : cX0_classes.data.toList.drop 72 = dktX0_classes_3 := dk_seg dksX0_classes_2 24 rfl rfl
theorem dksX0_classes_4 : cX0_classes.data.toList.drop 95 = dktX0_classes_4 := dk_seg dksX0_classes_3 23 rfl rfl
theorem dX0_classes_0 : decode cX0_classes 0 = .ok (.getstatic 191, 3) := dk_178 0 191 (dk_at dksX0_classes_0 0 rfl rfl)
theorem dX0_classes_3 : decode cX0_classes 3 = .ok (.newarray .boolean, 2) := dk_188_4 (dk_at dksX0_classes_0 3 rfl rfl)
theorem dX0_classes_5 : decode cX0_classes 5 = .ok (.astore_n 1, 1) := dk_76 (dk_at dksX0_classes_0 5 rfl rfl)
theorem dX0_classes_6 : decode cX0_classes 6 = .ok (.iconst 0, 1) := dk_3 (dk_at dksX0_classes_0 6 rfl rfl)
theorem dX0_classes_7 : decode cX0_classes 7 = .ok (.istore_n 2, 1) := dk_61 (dk_at dksX0_classes_0 7 rfl rfl)
theorem dX0_classes_8 : decode cX0_classes 8 = .ok (.iconst 0, 1) := dk_3 (dk_at dksX0_classes_0 8 rfl rfl)
theorem dX0_classes_9 : decode cX0_classes 9 = .ok (.istore_n 3, 1) := dk_62 (dk_at dksX0_classes_0 9 rfl rfl)
theorem dX0_classes_10 : decode cX0_classes 10 = .ok (.iload_n 3, 1) := dk_29 (dk_at dksX0_classes_0 10 rfl rfl)
theorem dX0_classes_11 : decode cX0_classes 11 = .ok (.getstatic 191, 3) := dk_178 0 191 (dk_at dksX0_classes_0 11 rfl rfl)
theorem dX0_classes_14 : decode cX0_classes 14 = .ok (.if_icmp .ge 90, 3) := dk_162 0 90 (dk_at dksX0_classes_0 14 rfl rfl)
theorem dX0_classes_17 : decode cX0_classes 17 = .ok (.aload_n 0, 1) := dk_42 (dk_at dksX0_classes_0 17 rfl rfl)
theorem dX0_classes_18 : decode cX0_classes 18 = .ok (.getfield 106, 3) := dk_180 0 106 (dk_at dksX0_classes_0 18 rfl rfl)
theorem dX0_classes_21 : decode cX0_classes 21 = .ok (.iload_n 3, 1) := dk_29 (dk_at dksX0_classes_0 21 rfl rfl)
theorem dX0_classes_22 : decode cX0_classes 22 = .ok (.bipush 10, 2) := dk_16 10 (dk_at dksX0_classes_0 22 rfl rfl)
theorem dX0_classes_24 : decode cX0_classes 24 = .ok (.idiv, 1) := dk_108 (dk_at dksX0_classes_1 0 rfl rfl)
theorem dX0_classes_25 : decode cX0_classes 25 = .ok (.iload_n 3, 1) := dk_29 (dk_at dksX0_classes_1 1 rfl rfl)
theorem dX0_classes_26 : decode cX0_classes 26 = .ok (.bipush 10, 2) := dk_16 10 (dk_at dksX0_classes_1 2 rfl rfl)
theorem dX0_classes_28 : decode cX0_classes 28 = .ok (.irem, 1) := dk_112 (dk_at dksX0_classes_1 4 rfl rfl)
theorem dX0_classes_29 : decode cX0_classes 29 = .ok (.invokevirtual 152, 3) := dk_182 0 152 (dk_at dksX0_classes_1 5 rfl rfl)
theorem dX0_classes_32 : decode cX0_classes 32 = .ok (.ifCond .eq 66, 3) := dk_153 0 66 (dk_at dksX0_classes_1 8 rfl rfl)
theorem dX0_classes_35 : decode cX0_classes 35 = .ok (.aload_n 1, 1) := dk_43 (dk_at dksX0_classes_1 11 rfl rfl)
theorem dX0_classes_36 : decode cX0_classes 36 = .ok (.iload_n 3, 1) := dk_29 (dk_at dksX0_classes_1 12 rfl rfl)
theorem dX0_classes_37 : decode cX0_classes 37 = .ok (.baload, 1) := dk_51 (dk_at dksX0_classes_1 13 rfl rfl)
theorem dX0_classes_38 : decode cX0_classes 38 = .ok (.ifCond .ne 60, 3) := dk_154 0 60 (dk_at dksX0_classes_1 14 rfl rfl)
theorem dX0_classes_41 : decode cX0_classes 41 = .ok (.new 194, 3) := dk_187 0 194 (dk_at dksX0_classes_1 17 rfl rfl)
theorem dX0_classes_44 : decode cX0_classes 44 = .ok (.dup, 1) := dk_89 (dk_at dksX0_classes_1 20 rfl rfl)
theorem dX0_classes_45 : decode cX0_classes 45 = .ok (.invokespecial 196, 3) := dk_183 0 196 (dk_at dksX0_classes_1 21 rfl rfl)
theorem dX0_classes_48 : decode cX0_classes 48 = .ok (.aload_n 0, 1) := dk_42 (dk_at dksX0_classes_2 0 rfl rfl)
theorem dX0_classes_49 : decode cX0_classes 49 = .ok (.getfield 106, 3) := dk_180 0 106 (dk_at dksX0_classes_2 1 rfl rfl)
theorem dX0_classes_52 : decode cX0_classes 52 = .ok (.iload_n 3, 1) := dk_29 (dk_at dksX0_classes_2 4 rfl rfl)
theorem dX0_classes_53 : decode cX0_classes 53 = .ok (.bipush 10, 2) := dk_16 10 (dk_at dksX0_classes_2 5 rfl rfl)
theorem dX0_classes_55 : decode cX0_classes 55 = .ok (.idiv, 1) := dk_108 (dk_at dksX0_classes_2 7 rfl rfl)
theorem dX0_classes_56 : decode cX0_classes 56 = .ok (.iload_n 3, 1) := dk_29 (dk_at dksX0_classes_2 8 rfl rfl)
theorem dX0_classes_57 : decode cX0_classes 57 = .ok (.bipush 10, 2) := dk_16 10 (dk_at dksX0_classes_2 9 rfl rfl)
theorem dX0_classes_59 : decode cX0_classes 59 = .ok (.irem, 1) := dk_112 (dk_at dksX0_classes_2 11 rfl rfl)
theorem dX0_classes_60 : decode cX0_classes 60 = .ok (.invokevirtual 197, 3) := dk_182 0 197 (dk_at dksX0_classes_2 12 rfl rfl)
theorem dX0_classes_63 : decode cX0_classes 63 = .ok (.astore 4, 2) := dk_58 4 (dk_at dksX0_classes_2 15 rfl rfl)
theorem dX0_classes_65 : decode cX0_classes 65 = .ok (.iconst 0, 1) := dk_3 (dk_at dksX0_classes_2 17 rfl rfl)
theorem dX0_classes_66 : decode cX0_classes 66 = .ok (.istore 5, 2) := dk_54 5 (dk_at dksX0_classes_2 18 rfl rfl)
theorem dX0_classes_68 : decode cX0_classes 68 = .ok (.iload 5, 2) := dk_21 5 (dk_at dksX0_classes_2 20 rfl rfl)
theorem dX0_classes_70 : decode cX0_classes 70 = .ok (.aload 4, 2) := dk_25 4 (dk_at dksX0_classes_2 22 rfl rfl)
theorem dX0_classes_72 : decode cX0_classes 72 = .ok (.getfield 201, 3) := dk_180 0 201 (dk_at dksX0_classes_3 0 rfl rfl)
theorem dX0_classes_75 : decode cX0_classes 75 = .ok (.if_icmp .ge 20, 3) := dk_162 0 20 (dk_at dksX0_classes_3 3 rfl rfl)
theorem dX0_classes_78 : decode cX0_classes 78 = .ok (.aload_n 1, 1) := dk_43 (dk_at dksX0_classes_3 6 rfl rfl)
theorem dX0_classes_79 : decode cX0_classes 79 = .ok (.aload 4, 2) := dk_25 4 (dk_at dksX0_classes_3 7 rfl rfl)
theorem dX0_classes_81 : decode cX0_classes 81 = .ok (.getfield 202, 3) := dk_180 0 202 (dk_at dksX0_classes_3 9 rfl rfl)
theorem dX0_classes_84 : decode cX0_classes 84 = .ok (.iload 5, 2) := dk_21 5 (dk_at dksX0_classes_3 12 rfl rfl)
theorem dX0_classes_86 : decode cX0_classes 86 = .ok (.iaload, 1) := dk_46 (dk_at dksX0_classes_3 14 rfl rfl)
theorem dX0_classes_87 : decode cX0_classes 87 = .ok (.iconst 1, 1) := dk_4 (dk_at dksX0_classes_3 15 rfl rfl)
theorem dX0_classes_88 : decode cX0_classes 88 = .ok (.bastore, 1) := dk_84 (dk_at dksX0_classes_3 16 rfl rfl)
theorem dX0_classes_89 : decode cX0_classes 89 = .ok (.iinc 5 1, 3) := dk_132 5 1 (dk_at dksX0_classes_3 17 rfl rfl)
theorem dX0_classes_92 : decode cX0_classes 92 = .ok (.goto (-24), 3) := dk_167 255 232 (dk_at dksX0_classes_3 20 rfl rfl)
theorem dX0_classes_95 : decode cX0_classes 95 = .ok (.iinc 2 1, 3) := dk_132 2 1 (dk_at dksX0_classes_4 0 rfl rfl)
theorem dX0_classes_98 : decode cX0_classes 98 = .ok (.iinc 3 1, 3) := dk_132 3 1 (dk_at dksX0_classes_4 3 rfl rfl)
theorem dX0_classes_101 : decode cX0_classes 101 = .ok (.goto (-91), 3) := dk_167 255 165 (dk_at dksX0_classes_4 6 rfl rfl)
theorem dX0_classes_104 : decode cX0_classes 104 = .ok (.iload_n 2, 1) := dk_28 (dk_at dksX0_classes_4 9 rfl rfl)
theorem dX0_classes_105 : decode cX0_classes 105 = .ok (.ireturn, 1) := dk_172 (dk_at dksX0_classes_4 10 rfl rfl)
abbrev cX0_undo : ByteArray := prog_1_method_26_code
def yX0_undo : MethodName := ⟨RX0, "undo", "()I"⟩
def dkwX0_undo_1 : List UInt8 := [182, 0, 223, 183, 0, 226, 182, 0, 143, 42, 180, 0, 102, 180, 0, 129, 172]
abbrev dktX0_undo_1 : List UInt8 := dkwX0_undo_1 ++ []
def dkwX0_undo_0 : List UInt8 := [42, 180, 0, 102, 180, 0, 129, 154, 0, 6, 16, 254, 172, 42, 187, 0, 25, 89, 42, 180, 0, 102]
abbrev dktX0_undo_0 : List UInt8 := dkwX0_undo_0 ++ dktX0_undo_1
theorem dksX0_undo_0 : cX0_undo.data.toList.drop 0 = dktX0_undo_0 := by decide +kernel
theorem dksX0_undo_1 : cX0_undo.data.toList.drop 22 = dktX0_undo_1 := dk_seg dksX0_undo_0 22 rfl rfl
theorem dX0_undo_0 : decode cX0_undo 0 = .ok (.aload_n 0, 1) := dk_42 (dk_at dksX0_undo_0 0 rfl rfl)
theorem dX0_undo_1 : decode cX0_undo 1 = .ok (.getfield 102, 3) := dk_180 0 102 (dk_at dksX0_undo_0 1 rfl rfl)
theorem dX0_undo_4 : decode cX0_undo 4 = .ok (.getfield 129, 3) := dk_180 0 129 (dk_at dksX0_undo_0 4 rfl rfl)
theorem dX0_undo_7 : decode cX0_undo 7 = .ok (.ifCond .ne 6, 3) := dk_154 0 6 (dk_at dksX0_undo_0 7 rfl rfl)
theorem dX0_undo_10 : decode cX0_undo 10 = .ok (.bipush (-2), 2) := dk_16 254 (dk_at dksX0_undo_0 10 rfl rfl)
theorem dX0_undo_12 : decode cX0_undo 12 = .ok (.ireturn, 1) := dk_172 (dk_at dksX0_undo_0 12 rfl rfl)
theorem dX0_undo_13 : decode cX0_undo 13 = .ok (.aload_n 0, 1) := dk_42 (dk_at dksX0_undo_0 13 rfl rfl)
theorem dX0_undo_14 : decode cX0_undo 14 = .ok (.new 25, 3) := dk_187 0 25 (dk_at dksX0_undo_0 14 rfl rfl)
theorem dX0_undo_17 : decode cX0_undo 17 = .ok (.dup, 1) := dk_89 (dk_at dksX0_undo_0 17 rfl rfl)
theorem dX0_undo_18 : decode cX0_undo 18 = .ok (.aload_n 0, 1) := dk_42 (dk_at dksX0_undo_0 18 rfl rfl)
theorem dX0_undo_19 : decode cX0_undo 19 = .ok (.getfield 102, 3) := dk_180 0 102 (dk_at dksX0_undo_0 19 rfl rfl)
theorem dX0_undo_22 : decode cX0_undo 22 = .ok (.invokevirtual 223, 3) := dk_182 0 223 (dk_at dksX0_undo_1 0 rfl rfl)
theorem dX0_undo_25 : decode cX0_undo 25 = .ok (.invokespecial 226, 3) := dk_183 0 226 (dk_at dksX0_undo_1 3 rfl rfl)
theorem dX0_undo_28 : decode cX0_undo 28 = .ok (.invokevirtual 143, 3) := dk_182 0 143 (dk_at dksX0_undo_1 6 rfl rfl)
theorem dX0_undo_31 : decode cX0_undo 31 = .ok (.aload_n 0, 1) := dk_42 (dk_at dksX0_undo_1 9 rfl rfl)
theorem dX0_undo_32 : decode cX0_undo 32 = .ok (.getfield 102, 3) := dk_180 0 102 (dk_at dksX0_undo_1 10 rfl rfl)
theorem dX0_undo_35 : decode cX0_undo 35 = .ok (.getfield 129, 3) := dk_180 0 129 (dk_at dksX0_undo_1 13 rfl rfl)
theorem dX0_undo_38 : decode cX0_undo 38 = .ok (.ireturn, 1) := dk_172 (dk_at dksX0_undo_1 16 rfl rfl)
abbrev cX0_isModule : ByteArray := prog_1_method_27_code
def yX0_isModule : MethodName := ⟨RX0, "isModule", "(I)I"⟩
def dkwX0_isModule_1 : List UInt8 := [167, 0, 4, 3, 172]
abbrev dktX0_isModule_1 : List UInt8 := dkwX0_isModule_1 ++ []
def dkwX0_isModule_0 : List UInt8 := [42, 27, 182, 0, 229, 154, 0, 5, 2, 172, 42, 180, 0, 106, 27, 182, 0, 232, 154, 0, 7, 4]
abbrev dktX0_isModule_0 : List UInt8 := dkwX0_isModule_0 ++ dktX0_isModule_1
theorem dksX0_isModule_0 : cX0_isModule.data.toList.drop 0 = dktX0_isModule_0 := by decide +kernel
theorem dksX0_isModule_1 : cX0_isModule.data.toList.drop 22 = dktX0_isModule_1 := dk_seg dksX0_isModule_0 22 rfl rfl
theorem dX0_isModule_0 : decode cX0_isModule 0 = .ok (.aload_n 0, 1) := dk_42 (dk_at dksX0_isModule_0 0 rfl rfl)
theorem dX0_isModule_1 : decode cX0_isModule 1 = .ok (.iload_n 1, 1) := dk_27 (dk_at dksX0_isModule_0 1 rfl rfl)
theorem dX0_isModule_2 : decode cX0_isModule 2 = .ok (.invokevirtual 229, 3) := dk_182 0 229 (dk_at dksX0_isModule_0 2 rfl rfl)
theorem dX0_isModule_5 : decode cX0_isModule 5 = .ok (.ifCond .ne 5, 3) := dk_154 0 5 (dk_at dksX0_isModule_0 5 rfl rfl)
theorem dX0_isModule_8 : decode cX0_isModule 8 = .ok (.iconst (-1), 1) := dk_2 (dk_at dksX0_isModule_0 8 rfl rfl)
theorem dX0_isModule_9 : decode cX0_isModule 9 = .ok (.ireturn, 1) := dk_172 (dk_at dksX0_isModule_0 9 rfl rfl)
theorem dX0_isModule_10 : decode cX0_isModule 10 = .ok (.aload_n 0, 1) := dk_42 (dk_at dksX0_isModule_0 10 rfl rfl)
theorem dX0_isModule_11 : decode cX0_isModule 11 = .ok (.getfield 106, 3) := dk_180 0 106 (dk_at dksX0_isModule_0 11 rfl rfl)
theorem dX0_isModule_14 : decode cX0_isModule 14 = .ok (.iload_n 1, 1) := dk_27 (dk_at dksX0_isModule_0 14 rfl rfl)
theorem dX0_isModule_15 : decode cX0_isModule 15 = .ok (.invokevirtual 232, 3) := dk_182 0 232 (dk_at dksX0_isModule_0 15 rfl rfl)
theorem dX0_isModule_18 : decode cX0_isModule 18 = .ok (.ifCond .ne 7, 3) := dk_154 0 7 (dk_at dksX0_isModule_0 18 rfl rfl)
theorem dX0_isModule_21 : decode cX0_isModule 21 = .ok (.iconst 1, 1) := dk_4 (dk_at dksX0_isModule_0 21 rfl rfl)
theorem dX0_isModule_22 : decode cX0_isModule 22 = .ok (.goto 4, 3) := dk_167 0 4 (dk_at dksX0_isModule_1 0 rfl rfl)
theorem dX0_isModule_25 : decode cX0_isModule 25 = .ok (.iconst 0, 1) := dk_3 (dk_at dksX0_isModule_1 3 rfl rfl)
theorem dX0_isModule_26 : decode cX0_isModule 26 = .ok (.ireturn, 1) := dk_172 (dk_at dksX0_isModule_1 4 rfl rfl)
abbrev cX0_isSet : ByteArray := prog_1_method_17_code
def yX0_isSet : MethodName := ⟨RX0, "isSet", "(I)Z"⟩
def dkwX0_isSet_0 : List UInt8 := [27, 4, 42, 180, 0, 106, 182, 0, 167, 184, 0, 159, 172]
abbrev dktX0_isSet_0 : List UInt8 := dkwX0_isSet_0 ++ []
theorem dksX0_isSet_0 : cX0_isSet.data.toList.drop 0 = dktX0_isSet_0 := by decide +kernel
theorem dX0_isSet_0 : decode cX0_isSet 0 = .ok (.iload_n 1, 1) := dk_27 (dk_at dksX0_isSet_0 0 rfl rfl)
theorem dX0_isSet_1 : decode cX0_isSet 1 = .ok (.iconst 1, 1) := dk_4 (dk_at dksX0_isSet_0 1 rfl rfl)
theorem dX0_isSet_2 : decode cX0_isSet 2 = .ok (.aload_n 0, 1) := dk_42 (dk_at dksX0_isSet_0 2 rfl rfl)
theorem dX0_isSet_3 : decode cX0_isSet 3 = .ok (.getfield 106, 3) := dk_180 0 106 (dk_at dksX0_isSet_0 3 rfl rfl)
theorem dX0_isSet_6 : decode cX0_isSet 6 = .ok (.invokevirtual 167, 3) := dk_182 0 167 (dk_at dksX0_isSet_0 6 rfl rfl)
theorem dX0_isSet_9 : decode cX0_isSet 9 = .ok (.invokestatic 159, 3) := dk_184 0 159 (dk_at dksX0_isSet_0 9 rfl rfl)
theorem dX0_isSet_12 : decode cX0_isSet 12 = .ok (.ireturn, 1) := dk_172 (dk_at dksX0_isSet_0 12 rfl rfl)
abbrev cX0_splitters : ByteArray := prog_1_method_28_code
def yX0_splitters : MethodName := ⟨RX0, "splitters", "(I)I"⟩
def dkwX0_splitters_0 : List UInt8 := [42, 27, 182, 0, 229, 153, 0, 14, 42, 180, 0, 106, 27, 182, 0, 232, 167, 0, 4, 2, 172]
abbrev dktX0_splitters_0 : List UInt8 := dkwX0_splitters_0 ++ []
theorem dksX0_splitters_0 : cX0_splitters.data.toList.drop 0 = dktX0_splitters_0 := by decide +kernel
theorem dX0_splitters_0 : decode cX0_splitters 0 = .ok (.aload_n 0, 1) := dk_42 (dk_at dksX0_splitters_0 0 rfl rfl)
theorem dX0_splitters_1 : decode cX0_splitters 1 = .ok (.iload_n 1, 1) := dk_27 (dk_at dksX0_splitters_0 1 rfl rfl)
theorem dX0_splitters_2 : decode cX0_splitters 2 = .ok (.invokevirtual 229, 3) := dk_182 0 229 (dk_at dksX0_splitters_0 2 rfl rfl)
theorem dX0_splitters_5 : decode cX0_splitters 5 = .ok (.ifCond .eq 14, 3) := dk_153 0 14 (dk_at dksX0_splitters_0 5 rfl rfl)
theorem dX0_splitters_8 : decode cX0_splitters 8 = .ok (.aload_n 0, 1) := dk_42 (dk_at dksX0_splitters_0 8 rfl rfl)
theorem dX0_splitters_9 : decode cX0_splitters 9 = .ok (.getfield 106, 3) := dk_180 0 106 (dk_at dksX0_splitters_0 9 rfl rfl)
theorem dX0_splitters_12 : decode cX0_splitters 12 = .ok (.iload_n 1, 1) := dk_27 (dk_at dksX0_splitters_0 12 rfl rfl)
theorem dX0_splitters_13 : decode cX0_splitters 13 = .ok (.invokevirtual 232, 3) := dk_182 0 232 (dk_at dksX0_splitters_0 13 rfl rfl)
theorem dX0_splitters_16 : decode cX0_splitters 16 = .ok (.goto 4, 3) := dk_167 0 4 (dk_at dksX0_splitters_0 16 rfl rfl)
theorem dX0_splitters_19 : decode cX0_splitters 19 = .ok (.iconst (-1), 1) := dk_2 (dk_at dksX0_splitters_0 19 rfl rfl)
theorem dX0_splitters_20 : decode cX0_splitters 20 = .ok (.ireturn, 1) := dk_172 (dk_at dksX0_splitters_0 20 rfl rfl)
abbrev cX0_module : ByteArray := prog_1_method_29_code
def yX0_module : MethodName := ⟨RX0, "module", "(I)I"⟩
def dkwX0_module_0 : List UInt8 := [42, 27, 182, 0, 229, 153, 0, 14, 42, 180, 0, 106, 27, 182, 0, 50, 167, 0, 4, 2, 172]
abbrev dktX0_module_0 : List UInt8 := dkwX0_module_0 ++ []
theorem dksX0_module_0 : cX0_module.data.toList.drop 0 = dktX0_module_0 := by decide +kernel
theorem dX0_module_0 : decode cX0_module 0 = .ok (.aload_n 0, 1) := dk_42 (dk_at dksX0_module_0 0 rfl rfl)
theorem dX0_module_1 : decode cX0_module 1 = .ok (.iload_n 1, 1) := dk_27 (dk_at dksX0_module_0 1 rfl rfl)
theorem dX0_module_2 : decode cX0_module 2 = .ok (.invokevirtual 229, 3) := dk_182 0 229 (dk_at dksX0_module_0 2 rfl rfl)
theorem dX0_module_5 : decode cX0_module 5 = .ok (.ifCond .eq 14, 3) := dk_153 0 14 (dk_at dksX0_module_0 5 rfl rfl)
theorem dX0_module_8 : decode cX0_module 8 = .ok (.aload_n 0, 1) := dk_42 (dk_at dksX0_module_0 8 rfl rfl)
theorem dX0_module_9 : decode cX0_module 9 = .ok (.getfield 106, 3) := dk_180 0 106 (dk_at dksX0_module_0 9 rfl rfl)
theorem dX0_module_12 : decode cX0_module 12 = .ok (.iload_n 1, 1) := dk_27 (dk_at dksX0_module_0 12 rfl rfl)
theorem dX0_module_13 : decode cX0_module 13 = .ok (.invokevirtual 50, 3) := dk_182 0 50 (dk_at dksX0_module_0 13 rfl rfl)
theorem dX0_module_16 : decode cX0_module 16 = .ok (.goto 4, 3) := dk_167 0 4 (dk_at dksX0_module_0 16 rfl rfl)
theorem dX0_module_19 : decode cX0_module 19 = .ok (.iconst (-1), 1) := dk_2 (dk_at dksX0_module_0 19 rfl rfl)
theorem dX0_module_20 : decode cX0_module 20 = .ok (.ireturn, 1) := dk_172 (dk_at dksX0_module_0 20 rfl rfl)
abbrev cX0_modules : ByteArray := prog_1_method_30_code
def yX0_modules : MethodName := ⟨RX0, "modules", "(I)I"⟩
def dkwX0_modules_1 : List UInt8 := [167, 0, 4, 2, 172]
abbrev dktX0_modules_1 : List UInt8 := dkwX0_modules_1 ++ []
def dkwX0_modules_0 : List UInt8 := [27, 4, 42, 180, 0, 106, 180, 0, 42, 184, 0, 159, 153, 0, 14, 42, 182, 0, 205, 27, 182, 0, 208]
abbrev dktX0_modules_0 : List UInt8 := dkwX0_modules_0 ++ dktX0_modules_1
theorem dksX0_modules_0 : cX0_modules.data.toList.drop 0 = dktX0_modules_0 := by decide +kernel
theorem dksX0_modules_1 : cX0_modules.data.toList.drop 23 = dktX0_modules_1 := dk_seg dksX0_modules_0 23 rfl rfl
theorem dX0_modules_0 : decode cX0_modules 0 = .ok (.iload_n 1, 1) := dk_27 (dk_at dksX0_modules_0 0 rfl rfl)
theorem dX0_modules_1 : decode cX0_modules 1 = .ok (.iconst 1, 1) := dk_4 (dk_at dksX0_modules_0 1 rfl rfl)
theorem dX0_modules_2 : decode cX0_modules 2 = .ok (.aload_n 0, 1) := dk_42 (dk_at dksX0_modules_0 2 rfl rfl)
theorem dX0_modules_3 : decode cX0_modules 3 = .ok (.getfield 106, 3) := dk_180 0 106 (dk_at dksX0_modules_0 3 rfl rfl)
theorem dX0_modules_6 : decode cX0_modules 6 = .ok (.getfield 42, 3) := dk_180 0 42 (dk_at dksX0_modules_0 6 rfl rfl)
theorem dX0_modules_9 : decode cX0_modules 9 = .ok (.invokestatic 159, 3) := dk_184 0 159 (dk_at dksX0_modules_0 9 rfl rfl)
theorem dX0_modules_12 : decode cX0_modules 12 = .ok (.ifCond .eq 14, 3) := dk_153 0 14 (dk_at dksX0_modules_0 12 rfl rfl)
theorem dX0_modules_15 : decode cX0_modules 15 = .ok (.aload_n 0, 1) := dk_42 (dk_at dksX0_modules_0 15 rfl rfl)
theorem dX0_modules_16 : decode cX0_modules 16 = .ok (.invokevirtual 205, 3) := dk_182 0 205 (dk_at dksX0_modules_0 16 rfl rfl)
theorem dX0_modules_19 : decode cX0_modules 19 = .ok (.iload_n 1, 1) := dk_27 (dk_at dksX0_modules_0 19 rfl rfl)
theorem dX0_modules_20 : decode cX0_modules 20 = .ok (.invokevirtual 208, 3) := dk_182 0 208 (dk_at dksX0_modules_0 20 rfl rfl)
theorem dX0_modules_23 : decode cX0_modules 23 = .ok (.goto 4, 3) := dk_167 0 4 (dk_at dksX0_modules_1 0 rfl rfl)
theorem dX0_modules_26 : decode cX0_modules 26 = .ok (.iconst (-1), 1) := dk_2 (dk_at dksX0_modules_1 3 rfl rfl)
theorem dX0_modules_27 : decode cX0_modules 27 = .ok (.ireturn, 1) := dk_172 (dk_at dksX0_modules_1 4 rfl rfl)
abbrev cX0_strong : ByteArray := prog_1_method_33_code
def yX0_strong : MethodName := ⟨RX0, "strong", "(I)I"⟩
def dkwX0_strong_1 : List UInt8 := [167, 0, 5, 16, 252, 172]
abbrev dktX0_strong_1 : List UInt8 := dkwX0_strong_1 ++ []
def dkwX0_strong_0 : List UInt8 := [27, 156, 0, 5, 2, 172, 42, 27, 182, 0, 241, 153, 0, 14, 42, 27, 182, 0, 244, 180, 0, 248]
abbrev dktX0_strong_0 : List UInt8 := dkwX0_strong_0 ++ dktX0_strong_1
theorem dksX0_strong_0 : cX0_strong.data.toList.drop 0 = dktX0_strong_0 := by decide +kernel
theorem dksX0_strong_1 : cX0_strong.data.toList.drop 22 = dktX0_strong_1 := dk_seg dksX0_strong_0 22 rfl rfl
theorem dX0_strong_0 : decode cX0_strong 0 = .ok (.iload_n 1, 1) := dk_27 (dk_at dksX0_strong_0 0 rfl rfl)
theorem dX0_strong_1 : decode cX0_strong 1 = .ok (.ifCond .ge 5, 3) := dk_156 0 5 (dk_at dksX0_strong_0 1 rfl rfl)
theorem dX0_strong_4 : decode cX0_strong 4 = .ok (.iconst (-1), 1) := dk_2 (dk_at dksX0_strong_0 4 rfl rfl)
theorem dX0_strong_5 : decode cX0_strong 5 = .ok (.ireturn, 1) := dk_172 (dk_at dksX0_strong_0 5 rfl rfl)
theorem dX0_strong_6 : decode cX0_strong 6 = .ok (.aload_n 0, 1) := dk_42 (dk_at dksX0_strong_0 6 rfl rfl)
theorem dX0_strong_7 : decode cX0_strong 7 = .ok (.iload_n 1, 1) := dk_27 (dk_at dksX0_strong_0 7 rfl rfl)
theorem dX0_strong_8 : decode cX0_strong 8 = .ok (.invokevirtual 241, 3) := dk_182 0 241 (dk_at dksX0_strong_0 8 rfl rfl)
theorem dX0_strong_11 : decode cX0_strong 11 = .ok (.ifCond .eq 14, 3) := dk_153 0 14 (dk_at dksX0_strong_0 11 rfl rfl)
theorem dX0_strong_14 : decode cX0_strong 14 = .ok (.aload_n 0, 1) := dk_42 (dk_at dksX0_strong_0 14 rfl rfl)
theorem dX0_strong_15 : decode cX0_strong 15 = .ok (.iload_n 1, 1) := dk_27 (dk_at dksX0_strong_0 15 rfl rfl)
theorem dX0_strong_16 : decode cX0_strong 16 = .ok (.invokevirtual 244, 3) := dk_182 0 244 (dk_at dksX0_strong_0 16 rfl rfl)
theorem dX0_strong_19 : decode cX0_strong 19 = .ok (.getfield 248, 3) := dk_180 0 248 (dk_at dksX0_strong_0 19 rfl rfl)
theorem dX0_strong_22 : decode cX0_strong 22 = .ok (.goto 5, 3) := dk_167 0 5 (dk_at dksX0_strong_1 0 rfl rfl)
theorem dX0_strong_25 : decode cX0_strong 25 = .ok (.bipush (-4), 2) := dk_16 252 (dk_at dksX0_strong_1 3 rfl rfl)
theorem dX0_strong_27 : decode cX0_strong 27 = .ok (.ireturn, 1) := dk_172 (dk_at dksX0_strong_1 5 rfl rfl)
abbrev cX0_isStrong : ByteArray := prog_1_method_31_code
def yX0_isStrong : MethodName := ⟨RX0, "isStrong", "(I)Z"⟩
def dkwX0_isStrong_0 : List UInt8 := [27, 3, 42, 182, 0, 205, 180, 0, 211, 182, 0, 13, 4, 100, 184, 0, 159, 172]
abbrev dktX0_isStrong_0 : List UInt8 := dkwX0_isStrong_0 ++ []
theorem dksX0_isStrong_0 : cX0_isStrong.data.toList.drop 0 = dktX0_isStrong_0 := by decide +kernel
theorem dX0_isStrong_0 : decode cX0_isStrong 0 = .ok (.iload_n 1, 1) := dk_27 (dk_at dksX0_isStrong_0 0 rfl rfl)
theorem dX0_isStrong_1 : decode cX0_isStrong 1 = .ok (.iconst 0, 1) := dk_3 (dk_at dksX0_isStrong_0 1 rfl rfl)
theorem dX0_isStrong_2 : decode cX0_isStrong 2 = .ok (.aload_n 0, 1) := dk_42 (dk_at dksX0_isStrong_0 2 rfl rfl)
theorem dX0_isStrong_3 : decode cX0_isStrong 3 = .ok (.invokevirtual 205, 3) := dk_182 0 205 (dk_at dksX0_isStrong_0 3 rfl rfl)
theorem dX0_isStrong_6 : decode cX0_isStrong 6 = .ok (.getfield 211, 3) := dk_180 0 211 (dk_at dksX0_isStrong_0 6 rfl rfl)
theorem dX0_isStrong_9 : decode cX0_isStrong 9 = .ok (.invokevirtual 13, 3) := dk_182 0 13 (dk_at dksX0_isStrong_0 9 rfl rfl)
theorem dX0_isStrong_12 : decode cX0_isStrong 12 = .ok (.iconst 1, 1) := dk_4 (dk_at dksX0_isStrong_0 12 rfl rfl)
theorem dX0_isStrong_13 : decode cX0_isStrong 13 = .ok (.isub, 1) := dk_100 (dk_at dksX0_isStrong_0 13 rfl rfl)
theorem dX0_isStrong_14 : decode cX0_isStrong 14 = .ok (.invokestatic 159, 3) := dk_184 0 159 (dk_at dksX0_isStrong_0 14 rfl rfl)
theorem dX0_isStrong_17 : decode cX0_isStrong 17 = .ok (.ireturn, 1) := dk_172 (dk_at dksX0_isStrong_0 17 rfl rfl)
abbrev cX0_strongAt : ByteArray := prog_1_method_32_code
def yX0_strongAt : MethodName := ⟨RX0, "strongAt", "(I)LGraphModules$Tree;"⟩
def dkwX0_strongAt_0 : List UInt8 := [42, 182, 0, 205, 180, 0, 211, 27, 182, 0, 235, 192, 0, 239, 176]
abbrev dktX0_strongAt_0 : List UInt8 := dkwX0_strongAt_0 ++ []
theorem dksX0_strongAt_0 : cX0_strongAt.data.toList.drop 0 = dktX0_strongAt_0 := by decide +kernel
theorem dX0_strongAt_0 : decode cX0_strongAt 0 = .ok (.aload_n 0, 1) := dk_42 (dk_at dksX0_strongAt_0 0 rfl rfl)
theorem dX0_strongAt_1 : decode cX0_strongAt 1 = .ok (.invokevirtual 205, 3) := dk_182 0 205 (dk_at dksX0_strongAt_0 1 rfl rfl)
theorem dX0_strongAt_4 : decode cX0_strongAt 4 = .ok (.getfield 211, 3) := dk_180 0 211 (dk_at dksX0_strongAt_0 4 rfl rfl)
theorem dX0_strongAt_7 : decode cX0_strongAt 7 = .ok (.iload_n 1, 1) := dk_27 (dk_at dksX0_strongAt_0 7 rfl rfl)
theorem dX0_strongAt_8 : decode cX0_strongAt 8 = .ok (.invokevirtual 235, 3) := dk_182 0 235 (dk_at dksX0_strongAt_0 8 rfl rfl)
theorem dX0_strongAt_11 : decode cX0_strongAt 11 = .ok (.checkcast 239, 3) := dk_192 0 239 (dk_at dksX0_strongAt_0 11 rfl rfl)
theorem dX0_strongAt_14 : decode cX0_strongAt 14 = .ok (.areturn, 1) := dk_176 (dk_at dksX0_strongAt_0 14 rfl rfl)
abbrev cX0_node : ByteArray := prog_1_method_35_code
def yX0_node : MethodName := ⟨RX0, "node", "(II)I"⟩
def dkwX0_node_4 : List UInt8 := [167, 0, 7, 45, 182, 1, 15, 172]
abbrev dktX0_node_4 : List UInt8 := dkwX0_node_4 ++ []
def dkwX0_node_3 : List UInt8 := [42, 45, 182, 1, 4, 167, 0, 24, 45, 182, 1, 7, 182, 1, 10, 167, 0, 14, 45, 184, 1, 13]
abbrev dktX0_node_3 : List UInt8 := dkwX0_node_3 ++ dktX0_node_4
def dkwX0_node_2 : List UInt8 := [170, 0, 0, 0, 0, 51, 0, 0, 0, 0, 0, 0, 0, 2, 0, 0, 0, 26, 0, 0, 0, 34, 0, 0, 0, 44]
abbrev dktX0_node_2 : List UInt8 := dkwX0_node_2 ++ dktX0_node_3
def dkwX0_node_1 : List UInt8 := [78, 28]
abbrev dktX0_node_1 : List UInt8 := dkwX0_node_1 ++ dktX0_node_2
def dkwX0_node_0 : List UInt8 := [42, 27, 182, 0, 241, 153, 0, 12, 28, 3, 6, 184, 0, 159, 154, 0, 5, 2, 172, 42, 27, 182, 0, 244]
abbrev dktX0_node_0 : List UInt8 := dkwX0_node_0 ++ dktX0_node_1
theorem dksX0_node_0 : cX0_node.data.toList.drop 0 = dktX0_node_0 := by decide +kernel
theorem dksX0_node_1 : cX0_node.data.toList.drop 24 = dktX0_node_1 := dk_seg dksX0_node_0 24 rfl rfl
theorem dksX0_node_2 : cX0_node.data.toList.drop 26 = dktX0_node_2 := dk_seg dksX0_node_1 2 rfl rfl
theorem dksX0_node_3 : cX0_node.data.toList.drop 52 = dktX0_node_3 := dk_seg dksX0_node_2 26 rfl rfl
theorem dksX0_node_4 : cX0_node.data.toList.drop 74 = dktX0_node_4 := dk_seg dksX0_node_3 22 rfl rfl
theorem dX0_node_0 : decode cX0_node 0 = .ok (.aload_n 0, 1) := dk_42 (dk_at dksX0_node_0 0 rfl rfl)
theorem dX0_node_1 : decode cX0_node 1 = .ok (.iload_n 1, 1) := dk_27 (dk_at dksX0_node_0 1 rfl rfl)
theorem dX0_node_2 : decode cX0_node 2 = .ok (.invokevirtual 241, 3) := dk_182 0 241 (dk_at dksX0_node_0 2 rfl rfl)
theorem dX0_node_5 : decode cX0_node 5 = .ok (.ifCond .eq 12, 3) := dk_153 0 12 (dk_at dksX0_node_0 5 rfl rfl)
theorem dX0_node_8 : decode cX0_node 8 = .ok (.iload_n 2, 1) := dk_28 (dk_at dksX0_node_0 8 rfl rfl)
theorem dX0_node_9 : decode cX0_node 9 = .ok (.iconst 0, 1) := dk_3 (dk_at dksX0_node_0 9 rfl rfl)
theorem dX0_node_10 : decode cX0_node 10 = .ok (.iconst 3, 1) := dk_6 (dk_at dksX0_node_0 10 rfl rfl)
theorem dX0_node_11 : decode cX0_node 11 = .ok (.invokestatic 159, 3) := dk_184 0 159 (dk_at dksX0_node_0 11 rfl rfl)
theorem dX0_node_14 : decode cX0_node 14 = .ok (.ifCond .ne 5, 3) := dk_154 0 5 (dk_at dksX0_node_0 14 rfl rfl)
theorem dX0_node_17 : decode cX0_node 17 = .ok (.iconst (-1), 1) := dk_2 (dk_at dksX0_node_0 17 rfl rfl)
theorem dX0_node_18 : decode cX0_node 18 = .ok (.ireturn, 1) := dk_172 (dk_at dksX0_node_0 18 rfl rfl)
theorem dX0_node_19 : decode cX0_node 19 = .ok (.aload_n 0, 1) := dk_42 (dk_at dksX0_node_0 19 rfl rfl)
theorem dX0_node_20 : decode cX0_node 20 = .ok (.iload_n 1, 1) := dk_27 (dk_at dksX0_node_0 20 rfl rfl)
theorem dX0_node_21 : decode cX0_node 21 = .ok (.invokevirtual 244, 3) := dk_182 0 244 (dk_at dksX0_node_0 21 rfl rfl)
theorem dX0_node_24 : decode cX0_node 24 = .ok (.astore_n 3, 1) := dk_78 (dk_at dksX0_node_1 0 rfl rfl)
theorem dX0_node_25 : decode cX0_node 25 = .ok (.iload_n 2, 1) := dk_28 (dk_at dksX0_node_1 1 rfl rfl)
theorem dX0_node_26 : decode cX0_node 26 = .ok (.tableswitch 51 0 2 #[26, 34, 44], 26) := by decide +kernel
theorem dX0_node_52 : decode cX0_node 52 = .ok (.aload_n 0, 1) := dk_42 (dk_at dksX0_node_3 0 rfl rfl)
theorem dX0_node_53 : decode cX0_node 53 = .ok (.aload_n 3, 1) := dk_45 (dk_at dksX0_node_3 1 rfl rfl)
theorem dX0_node_54 : decode cX0_node 54 = .ok (.invokevirtual 260, 3) := dk_182 1 4 (dk_at dksX0_node_3 2 rfl rfl)
theorem dX0_node_57 : decode cX0_node 57 = .ok (.goto 24, 3) := dk_167 0 24 (dk_at dksX0_node_3 5 rfl rfl)
theorem dX0_node_60 : decode cX0_node 60 = .ok (.aload_n 3, 1) := dk_45 (dk_at dksX0_node_3 8 rfl rfl)
theorem dX0_node_61 : decode cX0_node 61 = .ok (.invokevirtual 263, 3) := dk_182 1 7 (dk_at dksX0_node_3 9 rfl rfl)
theorem dX0_node_64 : decode cX0_node 64 = .ok (.invokevirtual 266, 3) := dk_182 1 10 (dk_at dksX0_node_3 12 rfl rfl)
theorem dX0_node_67 : decode cX0_node 67 = .ok (.goto 14, 3) := dk_167 0 14 (dk_at dksX0_node_3 15 rfl rfl)
theorem dX0_node_70 : decode cX0_node 70 = .ok (.aload_n 3, 1) := dk_45 (dk_at dksX0_node_3 18 rfl rfl)
theorem dX0_node_71 : decode cX0_node 71 = .ok (.invokestatic 269, 3) := dk_184 1 13 (dk_at dksX0_node_3 19 rfl rfl)
theorem dX0_node_74 : decode cX0_node 74 = .ok (.goto 7, 3) := dk_167 0 7 (dk_at dksX0_node_4 0 rfl rfl)
theorem dX0_node_77 : decode cX0_node 77 = .ok (.aload_n 3, 1) := dk_45 (dk_at dksX0_node_4 3 rfl rfl)
theorem dX0_node_78 : decode cX0_node 78 = .ok (.invokevirtual 271, 3) := dk_182 1 15 (dk_at dksX0_node_4 4 rfl rfl)
theorem dX0_node_81 : decode cX0_node 81 = .ok (.ireturn, 1) := dk_172 (dk_at dksX0_node_4 7 rfl rfl)
abbrev cX0_parentOf : ByteArray := prog_1_method_34_code
def yX0_parentOf : MethodName := ⟨RX0, "parentOf", "(LGraphModules$Tree;)I"⟩
def dkwX0_parentOf_0 : List UInt8 := [42, 182, 0, 205, 43, 180, 0, 250, 182, 0, 254, 172, 77, 16, 252, 172]
abbrev dktX0_parentOf_0 : List UInt8 := dkwX0_parentOf_0 ++ []
theorem dksX0_parentOf_0 : cX0_parentOf.data.toList.drop 0 = dktX0_parentOf_0 := by decide +kernel
theorem dX0_parentOf_0 : decode cX0_parentOf 0 = .ok (.aload_n 0, 1) := dk_42 (dk_at dksX0_parentOf_0 0 rfl rfl)
theorem dX0_parentOf_1 : decode cX0_parentOf 1 = .ok (.invokevirtual 205, 3) := dk_182 0 205 (dk_at dksX0_parentOf_0 1 rfl rfl)
theorem dX0_parentOf_4 : decode cX0_parentOf 4 = .ok (.aload_n 1, 1) := dk_43 (dk_at dksX0_parentOf_0 4 rfl rfl)
theorem dX0_parentOf_5 : decode cX0_parentOf 5 = .ok (.getfield 250, 3) := dk_180 0 250 (dk_at dksX0_parentOf_0 5 rfl rfl)
theorem dX0_parentOf_8 : decode cX0_parentOf 8 = .ok (.invokevirtual 254, 3) := dk_182 0 254 (dk_at dksX0_parentOf_0 8 rfl rfl)
theorem dX0_parentOf_11 : decode cX0_parentOf 11 = .ok (.ireturn, 1) := dk_172 (dk_at dksX0_parentOf_0 11 rfl rfl)
theorem dX0_parentOf_12 : decode cX0_parentOf 12 = .ok (.astore_n 2, 1) := dk_77 (dk_at dksX0_parentOf_0 12 rfl rfl)
theorem dX0_parentOf_13 : decode cX0_parentOf 13 = .ok (.bipush (-4), 2) := dk_16 252 (dk_at dksX0_parentOf_0 13 rfl rfl)
theorem dX0_parentOf_15 : decode cX0_parentOf 15 = .ok (.ireturn, 1) := dk_172 (dk_at dksX0_parentOf_0 15 rfl rfl)
abbrev cX0_children : ByteArray := prog_1_method_5_code
def yX0_children : MethodName := ⟨RX0, "children", "(LGraphModules$Tree;)I"⟩
def dkwX0_children_0 : List UInt8 := [42, 193, 0, 7, 153, 0, 16, 42, 192, 0, 7, 180, 0, 9, 182, 0, 13, 167, 0, 4, 3, 172]
abbrev dktX0_children_0 : List UInt8 := dkwX0_children_0 ++ []
theorem dksX0_children_0 : cX0_children.data.toList.drop 0 = dktX0_children_0 := by decide +kernel
theorem dX0_children_0 : decode cX0_children 0 = .ok (.aload_n 0, 1) := dk_42 (dk_at dksX0_children_0 0 rfl rfl)
theorem dX0_children_1 : decode cX0_children 1 = .ok (.instanceof 7, 3) := dk_193 0 7 (dk_at dksX0_children_0 1 rfl rfl)
theorem dX0_children_4 : decode cX0_children 4 = .ok (.ifCond .eq 16, 3) := dk_153 0 16 (dk_at dksX0_children_0 4 rfl rfl)
theorem dX0_children_7 : decode cX0_children 7 = .ok (.aload_n 0, 1) := dk_42 (dk_at dksX0_children_0 7 rfl rfl)
theorem dX0_children_8 : decode cX0_children 8 = .ok (.checkcast 7, 3) := dk_192 0 7 (dk_at dksX0_children_0 8 rfl rfl)
theorem dX0_children_11 : decode cX0_children 11 = .ok (.getfield 9, 3) := dk_180 0 9 (dk_at dksX0_children_0 11 rfl rfl)
theorem dX0_children_14 : decode cX0_children 14 = .ok (.invokevirtual 13, 3) := dk_182 0 13 (dk_at dksX0_children_0 14 rfl rfl)
theorem dX0_children_17 : decode cX0_children 17 = .ok (.goto 4, 3) := dk_167 0 4 (dk_at dksX0_children_0 17 rfl rfl)
theorem dX0_children_20 : decode cX0_children 20 = .ok (.iconst 0, 1) := dk_3 (dk_at dksX0_children_0 20 rfl rfl)
theorem dX0_children_21 : decode cX0_children 21 = .ok (.ireturn, 1) := dk_172 (dk_at dksX0_children_0 21 rfl rfl)
abbrev cX0_child : ByteArray := prog_1_method_36_code
def yX0_child : MethodName := ⟨RX0, "child", "(II)I"⟩
def dkwX0_child_2 : List UInt8 := [182, 0, 254, 167, 0, 5, 16, 252, 172]
abbrev dktX0_child_2 : List UInt8 := dkwX0_child_2 ++ []
def dkwX0_child_1 : List UInt8 := [184, 1, 13, 162, 0, 27, 42, 182, 0, 205, 45, 192, 0, 7, 180, 0, 9, 28, 182, 0, 235, 192, 0, 239]
abbrev dktX0_child_1 : List UInt8 := dkwX0_child_1 ++ dktX0_child_2
def dkwX0_child_0 : List UInt8 := [42, 27, 182, 0, 241, 153, 0, 7, 28, 156, 0, 5, 2, 172, 42, 27, 182, 0, 244, 78, 28, 45]
abbrev dktX0_child_0 : List UInt8 := dkwX0_child_0 ++ dktX0_child_1
theorem dksX0_child_0 : cX0_child.data.toList.drop 0 = dktX0_child_0 := by decide +kernel
theorem dksX0_child_1 : cX0_child.data.toList.drop 22 = dktX0_child_1 := dk_seg dksX0_child_0 22 rfl rfl
theorem dksX0_child_2 : cX0_child.data.toList.drop 46 = dktX0_child_2 := dk_seg dksX0_child_1 24 rfl rfl
theorem dX0_child_0 : decode cX0_child 0 = .ok (.aload_n 0, 1) := dk_42 (dk_at dksX0_child_0 0 rfl rfl)
theorem dX0_child_1 : decode cX0_child 1 = .ok (.iload_n 1, 1) := dk_27 (dk_at dksX0_child_0 1 rfl rfl)
theorem dX0_child_2 : decode cX0_child 2 = .ok (.invokevirtual 241, 3) := dk_182 0 241 (dk_at dksX0_child_0 2 rfl rfl)
theorem dX0_child_5 : decode cX0_child 5 = .ok (.ifCond .eq 7, 3) := dk_153 0 7 (dk_at dksX0_child_0 5 rfl rfl)
theorem dX0_child_8 : decode cX0_child 8 = .ok (.iload_n 2, 1) := dk_28 (dk_at dksX0_child_0 8 rfl rfl)
theorem dX0_child_9 : decode cX0_child 9 = .ok (.ifCond .ge 5, 3) := dk_156 0 5 (dk_at dksX0_child_0 9 rfl rfl)
theorem dX0_child_12 : decode cX0_child 12 = .ok (.iconst (-1), 1) := dk_2 (dk_at dksX0_child_0 12 rfl rfl)
theorem dX0_child_13 : decode cX0_child 13 = .ok (.ireturn, 1) := dk_172 (dk_at dksX0_child_0 13 rfl rfl)
theorem dX0_child_14 : decode cX0_child 14 = .ok (.aload_n 0, 1) := dk_42 (dk_at dksX0_child_0 14 rfl rfl)
theorem dX0_child_15 : decode cX0_child 15 = .ok (.iload_n 1, 1) := dk_27 (dk_at dksX0_child_0 15 rfl rfl)
theorem dX0_child_16 : decode cX0_child 16 = .ok (.invokevirtual 244, 3) := dk_182 0 244 (dk_at dksX0_child_0 16 rfl rfl)
theorem dX0_child_19 : decode cX0_child 19 = .ok (.astore_n 3, 1) := dk_78 (dk_at dksX0_child_0 19 rfl rfl)
theorem dX0_child_20 : decode cX0_child 20 = .ok (.iload_n 2, 1) := dk_28 (dk_at dksX0_child_0 20 rfl rfl)
theorem dX0_child_21 : decode cX0_child 21 = .ok (.aload_n 3, 1) := dk_45 (dk_at dksX0_child_0 21 rfl rfl)
theorem dX0_child_22 : decode cX0_child 22 = .ok (.invokestatic 269, 3) := dk_184 1 13 (dk_at dksX0_child_1 0 rfl rfl)
theorem dX0_child_25 : decode cX0_child 25 = .ok (.if_icmp .ge 27, 3) := dk_162 0 27 (dk_at dksX0_child_1 3 rfl rfl)
theorem dX0_child_28 : decode cX0_child 28 = .ok (.aload_n 0, 1) := dk_42 (dk_at dksX0_child_1 6 rfl rfl)
theorem dX0_child_29 : decode cX0_child 29 = .ok (.invokevirtual 205, 3) := dk_182 0 205 (dk_at dksX0_child_1 7 rfl rfl)
theorem dX0_child_32 : decode cX0_child 32 = .ok (.aload_n 3, 1) := dk_45 (dk_at dksX0_child_1 10 rfl rfl)
theorem dX0_child_33 : decode cX0_child 33 = .ok (.checkcast 7, 3) := dk_192 0 7 (dk_at dksX0_child_1 11 rfl rfl)
theorem dX0_child_36 : decode cX0_child 36 = .ok (.getfield 9, 3) := dk_180 0 9 (dk_at dksX0_child_1 14 rfl rfl)
theorem dX0_child_39 : decode cX0_child 39 = .ok (.iload_n 2, 1) := dk_28 (dk_at dksX0_child_1 17 rfl rfl)
theorem dX0_child_40 : decode cX0_child 40 = .ok (.invokevirtual 235, 3) := dk_182 0 235 (dk_at dksX0_child_1 18 rfl rfl)
theorem dX0_child_43 : decode cX0_child 43 = .ok (.checkcast 239, 3) := dk_192 0 239 (dk_at dksX0_child_1 21 rfl rfl)
theorem dX0_child_46 : decode cX0_child 46 = .ok (.invokevirtual 254, 3) := dk_182 0 254 (dk_at dksX0_child_2 0 rfl rfl)
theorem dX0_child_49 : decode cX0_child 49 = .ok (.goto 5, 3) := dk_167 0 5 (dk_at dksX0_child_2 3 rfl rfl)
theorem dX0_child_52 : decode cX0_child 52 = .ok (.bipush (-4), 2) := dk_16 252 (dk_at dksX0_child_2 6 rfl rfl)
theorem dX0_child_54 : decode cX0_child 54 = .ok (.ireturn, 1) := dk_172 (dk_at dksX0_child_2 8 rfl rfl)
abbrev cX0_together : ByteArray := prog_1_method_37_code
def yX0_together : MethodName := ⟨RX0, "together", "(II)I"⟩
def dkwX0_together_4 : List UInt8 := [25, 4, 182, 0, 254, 172]
abbrev dktX0_together_4 : List UInt8 := dkwX0_together_4 ++ []
def dkwX0_together_3 : List UInt8 := [180, 0, 9, 21, 5, 184, 0, 19, 182, 0, 235, 192, 0, 239, 58, 4, 167, 255, 197, 42, 182, 0, 205]
abbrev dktX0_together_3 : List UInt8 := dkwX0_together_3 ++ dktX0_together_4
def dkwX0_together_2 : List UInt8 := [21, 5, 184, 0, 53, 4, 164, 0, 13, 42, 182, 0, 205, 25, 4, 182, 0, 254, 172, 25, 4, 192, 0, 7]
abbrev dktX0_together_2 : List UInt8 := dkwX0_together_2 ++ dktX0_together_3
def dkwX0_together_1 : List UInt8 := [180, 1, 16, 58, 4, 25, 4, 193, 0, 7, 153, 0, 57, 25, 4, 192, 0, 7, 29, 182, 1, 20, 54, 5]
abbrev dktX0_together_1 : List UInt8 := dkwX0_together_1 ++ dktX0_together_2
def dkwX0_together_0 : List UInt8 := [42, 27, 28, 182, 0, 173, 154, 0, 5, 2, 172, 4, 27, 120, 4, 28, 120, 128, 62, 42, 182, 0, 205]
abbrev dktX0_together_0 : List UInt8 := dkwX0_together_0 ++ dktX0_together_1
theorem dksX0_together_0 : cX0_together.data.toList.drop 0 = dktX0_together_0 := by decide +kernel
theorem dksX0_together_1 : cX0_together.data.toList.drop 23 = dktX0_together_1 := dk_seg dksX0_together_0 23 rfl rfl
theorem dksX0_together_2 : cX0_together.data.toList.drop 47 = dktX0_together_2 := dk_seg dksX0_together_1 24 rfl rfl
theorem dksX0_together_3 : cX0_together.data.toList.drop 71 = dktX0_together_3 := dk_seg dksX0_together_2 24 rfl rfl
theorem dksX0_together_4 : cX0_together.data.toList.drop 94 = dktX0_together_4 := dk_seg dksX0_together_3 23 rfl rfl
theorem dX0_together_0 : decode cX0_together 0 = .ok (.aload_n 0, 1) := dk_42 (dk_at dksX0_together_0 0 rfl rfl)
theorem dX0_together_1 : decode cX0_together 1 = .ok (.iload_n 1, 1) := dk_27 (dk_at dksX0_together_0 1 rfl rfl)
theorem dX0_together_2 : decode cX0_together 2 = .ok (.iload_n 2, 1) := dk_28 (dk_at dksX0_together_0 2 rfl rfl)
theorem dX0_together_3 : decode cX0_together 3 = .ok (.invokevirtual 173, 3) := dk_182 0 173 (dk_at dksX0_together_0 3 rfl rfl)
theorem dX0_together_6 : decode cX0_together 6 = .ok (.ifCond .ne 5, 3) := dk_154 0 5 (dk_at dksX0_together_0 6 rfl rfl)
theorem dX0_together_9 : decode cX0_together 9 = .ok (.iconst (-1), 1) := dk_2 (dk_at dksX0_together_0 9 rfl rfl)
theorem dX0_together_10 : decode cX0_together 10 = .ok (.ireturn, 1) := dk_172 (dk_at dksX0_together_0 10 rfl rfl)
theorem dX0_together_11 : decode cX0_together 11 = .ok (.iconst 1, 1) := dk_4 (dk_at dksX0_together_0 11 rfl rfl)
theorem dX0_together_12 : decode cX0_together 12 = .ok (.iload_n 1, 1) := dk_27 (dk_at dksX0_together_0 12 rfl rfl)
theorem dX0_together_13 : decode cX0_together 13 = .ok (.ishl, 1) := dk_120 (dk_at dksX0_together_0 13 rfl rfl)
theorem dX0_together_14 : decode cX0_together 14 = .ok (.iconst 1, 1) := dk_4 (dk_at dksX0_together_0 14 rfl rfl)
theorem dX0_together_15 : decode cX0_together 15 = .ok (.iload_n 2, 1) := dk_28 (dk_at dksX0_together_0 15 rfl rfl)
theorem dX0_together_16 : decode cX0_together 16 = .ok (.ishl, 1) := dk_120 (dk_at dksX0_together_0 16 rfl rfl)
theorem dX0_together_17 : decode cX0_together 17 = .ok (.ior, 1) := dk_128 (dk_at dksX0_together_0 17 rfl rfl)
theorem dX0_together_18 : decode cX0_together 18 = .ok (.istore_n 3, 1) := dk_62 (dk_at dksX0_together_0 18 rfl rfl)
theorem dX0_together_19 : decode cX0_together 19 = .ok (.aload_n 0, 1) := dk_42 (dk_at dksX0_together_0 19 rfl rfl)
theorem dX0_together_20 : decode cX0_together 20 = .ok (.invokevirtual 205, 3) := dk_182 0 205 (dk_at dksX0_together_0 20 rfl rfl)
theorem dX0_together_23 : decode cX0_together 23 = .ok (.getfield 272, 3) := dk_180 1 16 (dk_at dksX0_together_1 0 rfl rfl)
theorem dX0_together_26 : decode cX0_together 26 = .ok (.astore 4, 2) := dk_58 4 (dk_at dksX0_together_1 3 rfl rfl)
theorem dX0_together_28 : decode cX0_together 28 = .ok (.aload 4, 2) := dk_25 4 (dk_at dksX0_together_1 5 rfl rfl)
theorem dX0_together_30 : decode cX0_together 30 = .ok (.instanceof 7, 3) := dk_193 0 7 (dk_at dksX0_together_1 7 rfl rfl)
theorem dX0_together_33 : decode cX0_together 33 = .ok (.ifCond .eq 57, 3) := dk_153 0 57 (dk_at dksX0_together_1 10 rfl rfl)
theorem dX0_together_36 : decode cX0_together 36 = .ok (.aload 4, 2) := dk_25 4 (dk_at dksX0_together_1 13 rfl rfl)
theorem dX0_together_38 : decode cX0_together 38 = .ok (.checkcast 7, 3) := dk_192 0 7 (dk_at dksX0_together_1 15 rfl rfl)
theorem dX0_together_41 : decode cX0_together 41 = .ok (.iload_n 3, 1) := dk_29 (dk_at dksX0_together_1 18 rfl rfl)
theorem dX0_together_42 : decode cX0_together 42 = .ok (.invokevirtual 276, 3) := dk_182 1 20 (dk_at dksX0_together_1 19 rfl rfl)
theorem dX0_together_45 : decode cX0_together 45 = .ok (.istore 5, 2) := dk_54 5 (dk_at dksX0_together_1 22 rfl rfl)
theorem dX0_together_47 : decode cX0_together 47 = .ok (.iload 5, 2) := dk_21 5 (dk_at dksX0_together_2 0 rfl rfl)
theorem dX0_together_49 : decode cX0_together 49 = .ok (.invokestatic 53, 3) := dk_184 0 53 (dk_at dksX0_together_2 2 rfl rfl)
theorem dX0_together_52 : decode cX0_together 52 = .ok (.iconst 1, 1) := dk_4 (dk_at dksX0_together_2 5 rfl rfl)
theorem dX0_together_53 : decode cX0_together 53 = .ok (.if_icmp .le 13, 3) := dk_164 0 13 (dk_at dksX0_together_2 6 rfl rfl)
theorem dX0_together_56 : decode cX0_together 56 = .ok (.aload_n 0, 1) := dk_42 (dk_at dksX0_together_2 9 rfl rfl)
theorem dX0_together_57 : decode cX0_together 57 = .ok (.invokevirtual 205, 3) := dk_182 0 205 (dk_at dksX0_together_2 10 rfl rfl)
theorem dX0_together_60 : decode cX0_together 60 = .ok (.aload 4, 2) := dk_25 4 (dk_at dksX0_together_2 13 rfl rfl)
theorem dX0_together_62 : decode cX0_together 62 = .ok (.invokevirtual 254, 3) := dk_182 0 254 (dk_at dksX0_together_2 15 rfl rfl)
theorem dX0_together_65 : decode cX0_together 65 = .ok (.ireturn, 1) := dk_172 (dk_at dksX0_together_2 18 rfl rfl)
theorem dX0_together_66 : decode cX0_together 66 = .ok (.aload 4, 2) := dk_25 4 (dk_at dksX0_together_2 19 rfl rfl)
theorem dX0_together_68 : decode cX0_together 68 = .ok (.checkcast 7, 3) := dk_192 0 7 (dk_at dksX0_together_2 21 rfl rfl)
theorem dX0_together_71 : decode cX0_together 71 = .ok (.getfield 9, 3) := dk_180 0 9 (dk_at dksX0_together_3 0 rfl rfl)
theorem dX0_together_74 : decode cX0_together 74 = .ok (.iload 5, 2) := dk_21 5 (dk_at dksX0_together_3 3 rfl rfl)
theorem dX0_together_76 : decode cX0_together 76 = .ok (.invokestatic 19, 3) := dk_184 0 19 (dk_at dksX0_together_3 5 rfl rfl)
theorem dX0_together_79 : decode cX0_together 79 = .ok (.invokevirtual 235, 3) := dk_182 0 235 (dk_at dksX0_together_3 8 rfl rfl)
theorem dX0_together_82 : decode cX0_together 82 = .ok (.checkcast 239, 3) := dk_192 0 239 (dk_at dksX0_together_3 11 rfl rfl)
theorem dX0_together_85 : decode cX0_together 85 = .ok (.astore 4, 2) := dk_58 4 (dk_at dksX0_together_3 14 rfl rfl)
theorem dX0_together_87 : decode cX0_together 87 = .ok (.goto (-59), 3) := dk_167 255 197 (dk_at dksX0_together_3 16 rfl rfl)
theorem dX0_together_90 : decode cX0_together 90 = .ok (.aload_n 0, 1) := dk_42 (dk_at dksX0_together_3 19 rfl rfl)
theorem dX0_together_91 : decode cX0_together 91 = .ok (.invokevirtual 205, 3) := dk_182 0 205 (dk_at dksX0_together_3 20 rfl rfl)
theorem dX0_together_94 : decode cX0_together 94 = .ok (.aload 4, 2) := dk_25 4 (dk_at dksX0_together_4 0 rfl rfl)
theorem dX0_together_96 : decode cX0_together 96 = .ok (.invokevirtual 254, 3) := dk_182 0 254 (dk_at dksX0_together_4 2 rfl rfl)
theorem dX0_together_99 : decode cX0_together 99 = .ok (.ireturn, 1) := dk_172 (dk_at dksX0_together_4 5 rfl rfl)
abbrev cX0_quotient : ByteArray := prog_1_method_39_code
def yX0_quotient : MethodName := ⟨RX0, "quotient", "(III)I"⟩
def dkwX0_quotient_3 : List UInt8 := [167, 0, 4, 3, 172]
abbrev dktX0_quotient_3 : List UInt8 := dkwX0_quotient_3 ++ []
def dkwX0_quotient_2 : List UInt8 := [172, 42, 42, 27, 182, 0, 244, 192, 0, 7, 28, 182, 1, 23, 29, 184, 0, 46, 153, 0, 7, 4]
abbrev dktX0_quotient_2 : List UInt8 := dkwX0_quotient_2 ++ dktX0_quotient_3
def dkwX0_quotient_1 : List UInt8 := [100, 54, 4, 28, 3, 21, 4, 184, 0, 159, 153, 0, 13, 29, 3, 21, 4, 184, 0, 159, 154, 0, 5, 2]
abbrev dktX0_quotient_1 : List UInt8 := dkwX0_quotient_1 ++ dktX0_quotient_2
def dkwX0_quotient_0 : List UInt8 := [42, 27, 182, 0, 241, 153, 0, 8, 28, 29, 160, 0, 5, 2, 172, 42, 27, 182, 0, 244, 184, 1, 13, 4]
abbrev dktX0_quotient_0 : List UInt8 := dkwX0_quotient_0 ++ dktX0_quotient_1
theorem dksX0_quotient_0 : cX0_quotient.data.toList.drop 0 = dktX0_quotient_0 := by decide +kernel
theorem dksX0_quotient_1 : cX0_quotient.data.toList.drop 24 = dktX0_quotient_1 := dk_seg dksX0_quotient_0 24 rfl rfl
theorem dksX0_quotient_2 : cX0_quotient.data.toList.drop 48 = dktX0_quotient_2 := dk_seg dksX0_quotient_1 24 rfl rfl
theorem dksX0_quotient_3 : cX0_quotient.data.toList.drop 70 = dktX0_quotient_3 := dk_seg dksX0_quotient_2 22 rfl rfl
theorem dX0_quotient_0 : decode cX0_quotient 0 = .ok (.aload_n 0, 1) := dk_42 (dk_at dksX0_quotient_0 0 rfl rfl)
theorem dX0_quotient_1 : decode cX0_quotient 1 = .ok (.iload_n 1, 1) := dk_27 (dk_at dksX0_quotient_0 1 rfl rfl)
theorem dX0_quotient_2 : decode cX0_quotient 2 = .ok (.invokevirtual 241, 3) := dk_182 0 241 (dk_at dksX0_quotient_0 2 rfl rfl)
theorem dX0_quotient_5 : decode cX0_quotient 5 = .ok (.ifCond .eq 8, 3) := dk_153 0 8 (dk_at dksX0_quotient_0 5 rfl rfl)
theorem dX0_quotient_8 : decode cX0_quotient 8 = .ok (.iload_n 2, 1) := dk_28 (dk_at dksX0_quotient_0 8 rfl rfl)
theorem dX0_quotient_9 : decode cX0_quotient 9 = .ok (.iload_n 3, 1) := dk_29 (dk_at dksX0_quotient_0 9 rfl rfl)
theorem dX0_quotient_10 : decode cX0_quotient 10 = .ok (.if_icmp .ne 5, 3) := dk_160 0 5 (dk_at dksX0_quotient_0 10 rfl rfl)
theorem dX0_quotient_13 : decode cX0_quotient 13 = .ok (.iconst (-1), 1) := dk_2 (dk_at dksX0_quotient_0 13 rfl rfl)
theorem dX0_quotient_14 : decode cX0_quotient 14 = .ok (.ireturn, 1) := dk_172 (dk_at dksX0_quotient_0 14 rfl rfl)
theorem dX0_quotient_15 : decode cX0_quotient 15 = .ok (.aload_n 0, 1) := dk_42 (dk_at dksX0_quotient_0 15 rfl rfl)
theorem dX0_quotient_16 : decode cX0_quotient 16 = .ok (.iload_n 1, 1) := dk_27 (dk_at dksX0_quotient_0 16 rfl rfl)
theorem dX0_quotient_17 : decode cX0_quotient 17 = .ok (.invokevirtual 244, 3) := dk_182 0 244 (dk_at dksX0_quotient_0 17 rfl rfl)
theorem dX0_quotient_20 : decode cX0_quotient 20 = .ok (.invokestatic 269, 3) := dk_184 1 13 (dk_at dksX0_quotient_0 20 rfl rfl)
theorem dX0_quotient_23 : decode cX0_quotient 23 = .ok (.iconst 1, 1) := dk_4 (dk_at dksX0_quotient_0 23 rfl rfl)
theorem dX0_quotient_24 : decode cX0_quotient 24 = .ok (.isub, 1) := dk_100 (dk_at dksX0_quotient_1 0 rfl rfl)
theorem dX0_quotient_25 : decode cX0_quotient 25 = .ok (.istore 4, 2) := dk_54 4 (dk_at dksX0_quotient_1 1 rfl rfl)
theorem dX0_quotient_27 : decode cX0_quotient 27 = .ok (.iload_n 2, 1) := dk_28 (dk_at dksX0_quotient_1 3 rfl rfl)
theorem dX0_quotient_28 : decode cX0_quotient 28 = .ok (.iconst 0, 1) := dk_3 (dk_at dksX0_quotient_1 4 rfl rfl)
theorem dX0_quotient_29 : decode cX0_quotient 29 = .ok (.iload 4, 2) := dk_21 4 (dk_at dksX0_quotient_1 5 rfl rfl)
theorem dX0_quotient_31 : decode cX0_quotient 31 = .ok (.invokestatic 159, 3) := dk_184 0 159 (dk_at dksX0_quotient_1 7 rfl rfl)
theorem dX0_quotient_34 : decode cX0_quotient 34 = .ok (.ifCond .eq 13, 3) := dk_153 0 13 (dk_at dksX0_quotient_1 10 rfl rfl)
theorem dX0_quotient_37 : decode cX0_quotient 37 = .ok (.iload_n 3, 1) := dk_29 (dk_at dksX0_quotient_1 13 rfl rfl)
theorem dX0_quotient_38 : decode cX0_quotient 38 = .ok (.iconst 0, 1) := dk_3 (dk_at dksX0_quotient_1 14 rfl rfl)
theorem dX0_quotient_39 : decode cX0_quotient 39 = .ok (.iload 4, 2) := dk_21 4 (dk_at dksX0_quotient_1 15 rfl rfl)
theorem dX0_quotient_41 : decode cX0_quotient 41 = .ok (.invokestatic 159, 3) := dk_184 0 159 (dk_at dksX0_quotient_1 17 rfl rfl)
theorem dX0_quotient_44 : decode cX0_quotient 44 = .ok (.ifCond .ne 5, 3) := dk_154 0 5 (dk_at dksX0_quotient_1 20 rfl rfl)
theorem dX0_quotient_47 : decode cX0_quotient 47 = .ok (.iconst (-1), 1) := dk_2 (dk_at dksX0_quotient_1 23 rfl rfl)
theorem dX0_quotient_48 : decode cX0_quotient 48 = .ok (.ireturn, 1) := dk_172 (dk_at dksX0_quotient_2 0 rfl rfl)
theorem dX0_quotient_49 : decode cX0_quotient 49 = .ok (.aload_n 0, 1) := dk_42 (dk_at dksX0_quotient_2 1 rfl rfl)
theorem dX0_quotient_50 : decode cX0_quotient 50 = .ok (.aload_n 0, 1) := dk_42 (dk_at dksX0_quotient_2 2 rfl rfl)
theorem dX0_quotient_51 : decode cX0_quotient 51 = .ok (.iload_n 1, 1) := dk_27 (dk_at dksX0_quotient_2 3 rfl rfl)
theorem dX0_quotient_52 : decode cX0_quotient 52 = .ok (.invokevirtual 244, 3) := dk_182 0 244 (dk_at dksX0_quotient_2 4 rfl rfl)
theorem dX0_quotient_55 : decode cX0_quotient 55 = .ok (.checkcast 7, 3) := dk_192 0 7 (dk_at dksX0_quotient_2 7 rfl rfl)
theorem dX0_quotient_58 : decode cX0_quotient 58 = .ok (.iload_n 2, 1) := dk_28 (dk_at dksX0_quotient_2 10 rfl rfl)
theorem dX0_quotient_59 : decode cX0_quotient 59 = .ok (.invokevirtual 279, 3) := dk_182 1 23 (dk_at dksX0_quotient_2 11 rfl rfl)
theorem dX0_quotient_62 : decode cX0_quotient 62 = .ok (.iload_n 3, 1) := dk_29 (dk_at dksX0_quotient_2 14 rfl rfl)
theorem dX0_quotient_63 : decode cX0_quotient 63 = .ok (.invokestatic 46, 3) := dk_184 0 46 (dk_at dksX0_quotient_2 15 rfl rfl)
theorem dX0_quotient_66 : decode cX0_quotient 66 = .ok (.ifCond .eq 7, 3) := dk_153 0 7 (dk_at dksX0_quotient_2 18 rfl rfl)
theorem dX0_quotient_69 : decode cX0_quotient 69 = .ok (.iconst 1, 1) := dk_4 (dk_at dksX0_quotient_2 21 rfl rfl)
theorem dX0_quotient_70 : decode cX0_quotient 70 = .ok (.goto 4, 3) := dk_167 0 4 (dk_at dksX0_quotient_3 0 rfl rfl)
theorem dX0_quotient_73 : decode cX0_quotient 73 = .ok (.iconst 0, 1) := dk_3 (dk_at dksX0_quotient_3 3 rfl rfl)
theorem dX0_quotient_74 : decode cX0_quotient 74 = .ok (.ireturn, 1) := dk_172 (dk_at dksX0_quotient_3 4 rfl rfl)
abbrev cX0_linkedWith : ByteArray := prog_1_method_38_code
def yX0_linkedWith : MethodName := ⟨RX0, "linkedWith", "(LGraphModules$Inner;I)I"⟩
def dkwX0_linkedWith_2 : List UInt8 := [172]
abbrev dktX0_linkedWith_2 : List UInt8 := dkwX0_linkedWith_2 ++ []
def dkwX0_linkedWith_1 : List UInt8 := [46, 62, 43, 29, 43, 180, 0, 9, 28, 182, 0, 235, 192, 0, 239, 180, 0, 248, 2, 130, 126, 182, 1, 20]
abbrev dktX0_linkedWith_1 : List UInt8 := dkwX0_linkedWith_1 ++ dktX0_linkedWith_2
def dkwX0_linkedWith_0 : List UInt8 := [42, 180, 0, 106, 180, 0, 183, 43, 180, 0, 9, 28, 182, 0, 235, 192, 0, 239, 180, 0, 248, 184, 0, 19]
abbrev dktX0_linkedWith_0 : List UInt8 := dkwX0_linkedWith_0 ++ dktX0_linkedWith_1
theorem dksX0_linkedWith_0 : cX0_linkedWith.data.toList.drop 0 = dktX0_linkedWith_0 := by decide +kernel
theorem dksX0_linkedWith_1 : cX0_linkedWith.data.toList.drop 24 = dktX0_linkedWith_1 := dk_seg dksX0_linkedWith_0 24 rfl rfl
theorem dksX0_linkedWith_2 : cX0_linkedWith.data.toList.drop 48 = dktX0_linkedWith_2 := dk_seg dksX0_linkedWith_1 24 rfl rfl
theorem dX0_linkedWith_0 : decode cX0_linkedWith 0 = .ok (.aload_n 0, 1) := dk_42 (dk_at dksX0_linkedWith_0 0 rfl rfl)
theorem dX0_linkedWith_1 : decode cX0_linkedWith 1 = .ok (.getfield 106, 3) := dk_180 0 106 (dk_at dksX0_linkedWith_0 1 rfl rfl)
theorem dX0_linkedWith_4 : decode cX0_linkedWith 4 = .ok (.getfield 183, 3) := dk_180 0 183 (dk_at dksX0_linkedWith_0 4 rfl rfl)
theorem dX0_linkedWith_7 : decode cX0_linkedWith 7 = .ok (.aload_n 1, 1) := dk_43 (dk_at dksX0_linkedWith_0 7 rfl rfl)
theorem dX0_linkedWith_8 : decode cX0_linkedWith 8 = .ok (.getfield 9, 3) := dk_180 0 9 (dk_at dksX0_linkedWith_0 8 rfl rfl)
theorem dX0_linkedWith_11 : decode cX0_linkedWith 11 = .ok (.iload_n 2, 1) := dk_28 (dk_at dksX0_linkedWith_0 11 rfl rfl)
theorem dX0_linkedWith_12 : decode cX0_linkedWith 12 = .ok (.invokevirtual 235, 3) := dk_182 0 235 (dk_at dksX0_linkedWith_0 12 rfl rfl)
theorem dX0_linkedWith_15 : decode cX0_linkedWith 15 = .ok (.checkcast 239, 3) := dk_192 0 239 (dk_at dksX0_linkedWith_0 15 rfl rfl)
theorem dX0_linkedWith_18 : decode cX0_linkedWith 18 = .ok (.getfield 248, 3) := dk_180 0 248 (dk_at dksX0_linkedWith_0 18 rfl rfl)
theorem dX0_linkedWith_21 : decode cX0_linkedWith 21 = .ok (.invokestatic 19, 3) := dk_184 0 19 (dk_at dksX0_linkedWith_0 21 rfl rfl)
theorem dX0_linkedWith_24 : decode cX0_linkedWith 24 = .ok (.iaload, 1) := dk_46 (dk_at dksX0_linkedWith_1 0 rfl rfl)
theorem dX0_linkedWith_25 : decode cX0_linkedWith 25 = .ok (.istore_n 3, 1) := dk_62 (dk_at dksX0_linkedWith_1 1 rfl rfl)
theorem dX0_linkedWith_26 : decode cX0_linkedWith 26 = .ok (.aload_n 1, 1) := dk_43 (dk_at dksX0_linkedWith_1 2 rfl rfl)
theorem dX0_linkedWith_27 : decode cX0_linkedWith 27 = .ok (.iload_n 3, 1) := dk_29 (dk_at dksX0_linkedWith_1 3 rfl rfl)
theorem dX0_linkedWith_28 : decode cX0_linkedWith 28 = .ok (.aload_n 1, 1) := dk_43 (dk_at dksX0_linkedWith_1 4 rfl rfl)
theorem dX0_linkedWith_29 : decode cX0_linkedWith 29 = .ok (.getfield 9, 3) := dk_180 0 9 (dk_at dksX0_linkedWith_1 5 rfl rfl)
theorem dX0_linkedWith_32 : decode cX0_linkedWith 32 = .ok (.iload_n 2, 1) := dk_28 (dk_at dksX0_linkedWith_1 8 rfl rfl)
theorem dX0_linkedWith_33 : decode cX0_linkedWith 33 = .ok (.invokevirtual 235, 3) := dk_182 0 235 (dk_at dksX0_linkedWith_1 9 rfl rfl)
theorem dX0_linkedWith_36 : decode cX0_linkedWith 36 = .ok (.checkcast 239, 3) := dk_192 0 239 (dk_at dksX0_linkedWith_1 12 rfl rfl)
theorem dX0_linkedWith_39 : decode cX0_linkedWith 39 = .ok (.getfield 248, 3) := dk_180 0 248 (dk_at dksX0_linkedWith_1 15 rfl rfl)
theorem dX0_linkedWith_42 : decode cX0_linkedWith 42 = .ok (.iconst (-1), 1) := dk_2 (dk_at dksX0_linkedWith_1 18 rfl rfl)
theorem dX0_linkedWith_43 : decode cX0_linkedWith 43 = .ok (.ixor, 1) := dk_130 (dk_at dksX0_linkedWith_1 19 rfl rfl)
theorem dX0_linkedWith_44 : decode cX0_linkedWith 44 = .ok (.iand, 1) := dk_126 (dk_at dksX0_linkedWith_1 20 rfl rfl)
theorem dX0_linkedWith_45 : decode cX0_linkedWith 45 = .ok (.invokevirtual 276, 3) := dk_182 1 20 (dk_at dksX0_linkedWith_1 21 rfl rfl)
theorem dX0_linkedWith_48 : decode cX0_linkedWith 48 = .ok (.ireturn, 1) := dk_172 (dk_at dksX0_linkedWith_2 0 rfl rfl)
abbrev cX0_pathOfFour : ByteArray := prog_1_method_41_code
def yX0_pathOfFour : MethodName := ⟨RX0, "pathOfFour", "(I)I"⟩
def dkwX0_pathOfFour_5 : List UInt8 := [172]
abbrev dktX0_pathOfFour_5 : List UInt8 := dkwX0_pathOfFour_5 ++ []
def dkwX0_pathOfFour_4 : List UInt8 := [167, 0, 15, 27, 5, 160, 0, 8, 21, 6, 167, 0, 5, 21, 7, 172, 132, 3, 1, 167, 255, 165, 16, 252]
abbrev dktX0_pathOfFour_4 : List UInt8 := dkwX0_pathOfFour_4 ++ dktX0_pathOfFour_5
def dkwX0_pathOfFour_3 : List UInt8 := [182, 1, 27, 153, 0, 35, 27, 154, 0, 8, 21, 4, 167, 0, 25, 27, 4, 160, 0, 8, 21, 5]
abbrev dktX0_pathOfFour_3 : List UInt8 := dkwX0_pathOfFour_3 ++ dktX0_pathOfFour_4
def dkwX0_pathOfFour_2 : List UInt8 := [54, 5, 29, 28, 108, 28, 112, 54, 6, 29, 28, 112, 54, 7, 42, 21, 4, 21, 5, 21, 6, 21, 7]
abbrev dktX0_pathOfFour_2 : List UInt8 := dkwX0_pathOfFour_2 ++ dktX0_pathOfFour_3
def dkwX0_pathOfFour_1 : List UInt8 := [104, 28, 104, 28, 104, 162, 0, 86, 29, 28, 28, 104, 28, 104, 108, 54, 4, 29, 28, 28, 104, 108, 28, 112]
abbrev dktX0_pathOfFour_1 : List UInt8 := dkwX0_pathOfFour_1 ++ dktX0_pathOfFour_2
def dkwX0_pathOfFour_0 : List UInt8 := [27, 3, 6, 184, 0, 159, 154, 0, 5, 2, 172, 42, 180, 0, 106, 180, 0, 42, 61, 3, 62, 29, 28, 28]
abbrev dktX0_pathOfFour_0 : List UInt8 := dkwX0_pathOfFour_0 ++ dktX0_pathOfFour_1
theorem dksX0_pathOfFour_0 : cX0_pathOfFour.data.toList.drop 0 = dktX0_pathOfFour_0 := by decide +kernel
theorem dksX0_pathOfFour_1 : cX0_pathOfFour.data.toList.drop 24 = dktX0_pathOfFour_1 := dk_seg dksX0_pathOfFour_0 24 rfl rfl
theorem dksX0_pathOfFour_2 : cX0_pathOfFour.data.toList.drop 48 = dktX0_pathOfFour_2 := dk_seg dksX0_pathOfFour_1 24 rfl rfl
theorem dksX0_pathOfFour_3 : cX0_pathOfFour.data.toList.drop 71 = dktX0_pathOfFour_3 := dk_seg dksX0_pathOfFour_2 23 rfl rfl
theorem dksX0_pathOfFour_4 : cX0_pathOfFour.data.toList.drop 93 = dktX0_pathOfFour_4 := dk_seg dksX0_pathOfFour_3 22 rfl rfl
theorem dksX0_pathOfFour_5 : cX0_pathOfFour.data.toList.drop 117 = dktX0_pathOfFour_5 := dk_seg dksX0_pathOfFour_4 24 rfl rfl
theorem dX0_pathOfFour_0 : decode cX0_pathOfFour 0 = .ok (.iload_n 1, 1) := dk_27 (dk_at dksX0_pathOfFour_0 0 rfl rfl)
theorem dX0_pathOfFour_1 : decode cX0_pathOfFour 1 = .ok (.iconst 0, 1) := dk_3 (dk_at dksX0_pathOfFour_0 1 rfl rfl)
theorem dX0_pathOfFour_2 : decode cX0_pathOfFour 2 = .ok (.iconst 3, 1) := dk_6 (dk_at dksX0_pathOfFour_0 2 rfl rfl)
theorem dX0_pathOfFour_3 : decode cX0_pathOfFour 3 = .ok (.invokestatic 159, 3) := dk_184 0 159 (dk_at dksX0_pathOfFour_0 3 rfl rfl)
theorem dX0_pathOfFour_6 : decode cX0_pathOfFour 6 = .ok (.ifCond .ne 5, 3) := dk_154 0 5 (dk_at dksX0_pathOfFour_0 6 rfl rfl)
theorem dX0_pathOfFour_9 : decode cX0_pathOfFour 9 = .ok (.iconst (-1), 1) := dk_2 (dk_at dksX0_pathOfFour_0 9 rfl rfl)
theorem dX0_pathOfFour_10 : decode cX0_pathOfFour 10 = .ok (.ireturn, 1) := dk_172 (dk_at dksX0_pathOfFour_0 10 rfl rfl)
theorem dX0_pathOfFour_11 : decode cX0_pathOfFour 11 = .ok (.aload_n 0, 1) := dk_42 (dk_at dksX0_pathOfFour_0 11 rfl rfl)
theorem dX0_pathOfFour_12 : decode cX0_pathOfFour 12 = .ok (.getfield 106, 3) := dk_180 0 106 (dk_at dksX0_pathOfFour_0 12 rfl rfl)
theorem dX0_pathOfFour_15 : decode cX0_pathOfFour 15 = .ok (.getfield 42, 3) := dk_180 0 42 (dk_at dksX0_pathOfFour_0 15 rfl rfl)
theorem dX0_pathOfFour_18 : decode cX0_pathOfFour 18 = .ok (.istore_n 2, 1) := dk_61 (dk_at dksX0_pathOfFour_0 18 rfl rfl)
theorem dX0_pathOfFour_19 : decode cX0_pathOfFour 19 = .ok (.iconst 0, 1) := dk_3 (dk_at dksX0_pathOfFour_0 19 rfl rfl)
theorem dX0_pathOfFour_20 : decode cX0_pathOfFour 20 = .ok (.istore_n 3, 1) := dk_62 (dk_at dksX0_pathOfFour_0 20 rfl rfl)
theorem dX0_pathOfFour_21 : decode cX0_pathOfFour 21 = .ok (.iload_n 3, 1) := dk_29 (dk_at dksX0_pathOfFour_0 21 rfl rfl)
theorem dX0_pathOfFour_22 : decode cX0_pathOfFour 22 = .ok (.iload_n 2, 1) := dk_28 (dk_at dksX0_pathOfFour_0 22 rfl rfl)
theorem dX0_pathOfFour_23 : decode cX0_pathOfFour 23 = .ok (.iload_n 2, 1) := dk_28 (dk_at dksX0_pathOfFour_0 23 rfl rfl)
theorem dX0_pathOfFour_24 : decode cX0_pathOfFour 24 = .ok (.imul, 1) := dk_104 (dk_at dksX0_pathOfFour_1 0 rfl rfl)
theorem dX0_pathOfFour_25 : decode cX0_pathOfFour 25 = .ok (.iload_n 2, 1) := dk_28 (dk_at dksX0_pathOfFour_1 1 rfl rfl)
theorem dX0_pathOfFour_26 : decode cX0_pathOfFour 26 = .ok (.imul, 1) := dk_104 (dk_at dksX0_pathOfFour_1 2 rfl rfl)
theorem dX0_pathOfFour_27 : decode cX0_pathOfFour 27 = .ok (.iload_n 2, 1) := dk_28 (dk_at dksX0_pathOfFour_1 3 rfl rfl)
theorem dX0_pathOfFour_28 : decode cX0_pathOfFour 28 = .ok (.imul, 1) := dk_104 (dk_at dksX0_pathOfFour_1 4 rfl rfl)
theorem dX0_pathOfFour_29 : decode cX0_pathOfFour 29 = .ok (.if_icmp .ge 86, 3) := dk_162 0 86 (dk_at dksX0_pathOfFour_1 5 rfl rfl)
theorem dX0_pathOfFour_32 : decode cX0_pathOfFour 32 = .ok (.iload_n 3, 1) := dk_29 (dk_at dksX0_pathOfFour_1 8 rfl rfl)
theorem dX0_pathOfFour_33 : decode cX0_pathOfFour 33 = .ok (.iload_n 2, 1) := dk_28 (dk_at dksX0_pathOfFour_1 9 rfl rfl)
theorem dX0_pathOfFour_34 : decode cX0_pathOfFour 34 = .ok (.iload_n 2, 1) := dk_28 (dk_at dksX0_pathOfFour_1 10 rfl rfl)
theorem dX0_pathOfFour_35 : decode cX0_pathOfFour 35 = .ok (.imul, 1) := dk_104 (dk_at dksX0_pathOfFour_1 11 rfl rfl)
theorem dX0_pathOfFour_36 : decode cX0_pathOfFour 36 = .ok (.iload_n 2, 1) := dk_28 (dk_at dksX0_pathOfFour_1 12 rfl rfl)
theorem dX0_pathOfFour_37 : decode cX0_pathOfFour 37 = .ok (.imul, 1) := dk_104 (dk_at dksX0_pathOfFour_1 13 rfl rfl)
theorem dX0_pathOfFour_38 : decode cX0_pathOfFour 38 = .ok (.idiv, 1) := dk_108 (dk_at dksX0_pathOfFour_1 14 rfl rfl)
theorem dX0_pathOfFour_39 : decode cX0_pathOfFour 39 = .ok (.istore 4, 2) := dk_54 4 (dk_at dksX0_pathOfFour_1 15 rfl rfl)
theorem dX0_pathOfFour_41 : decode cX0_pathOfFour 41 = .ok (.iload_n 3, 1) := dk_29 (dk_at dksX0_pathOfFour_1 17 rfl rfl)
theorem dX0_pathOfFour_42 : decode cX0_pathOfFour 42 = .ok (.iload_n 2, 1) := dk_28 (dk_at dksX0_pathOfFour_1 18 rfl rfl)
theorem dX0_pathOfFour_43 : decode cX0_pathOfFour 43 = .ok (.iload_n 2, 1) := dk_28 (dk_at dksX0_pathOfFour_1 19 rfl rfl)
theorem dX0_pathOfFour_44 : decode cX0_pathOfFour 44 = .ok (.imul, 1) := dk_104 (dk_at dksX0_pathOfFour_1 20 rfl rfl)
theorem dX0_pathOfFour_45 : decode cX0_pathOfFour 45 = .ok (.idiv, 1) := dk_108 (dk_at dksX0_pathOfFour_1 21 rfl rfl)
theorem dX0_pathOfFour_46 : decode cX0_pathOfFour 46 = .ok (.iload_n 2, 1) := dk_28 (dk_at dksX0_pathOfFour_1 22 rfl rfl)
theorem dX0_pathOfFour_47 : decode cX0_pathOfFour 47 = .ok (.irem, 1) := dk_112 (dk_at dksX0_pathOfFour_1 23 rfl rfl)
theorem dX0_pathOfFour_48 : decode cX0_pathOfFour 48 = .ok (.istore 5, 2) := dk_54 5 (dk_at dksX0_pathOfFour_2 0 rfl rfl)
theorem dX0_pathOfFour_50 : decode cX0_pathOfFour 50 = .ok (.iload_n 3, 1) := dk_29 (dk_at dksX0_pathOfFour_2 2 rfl rfl)
theorem dX0_pathOfFour_51 : decode cX0_pathOfFour 51 = .ok (.iload_n 2, 1) := dk_28 (dk_at dksX0_pathOfFour_2 3 rfl rfl)
theorem dX0_pathOfFour_52 : decode cX0_pathOfFour 52 = .ok (.idiv, 1) := dk_108 (dk_at dksX0_pathOfFour_2 4 rfl rfl)
theorem dX0_pathOfFour_53 : decode cX0_pathOfFour 53 = .ok (.iload_n 2, 1) := dk_28 (dk_at dksX0_pathOfFour_2 5 rfl rfl)
theorem dX0_pathOfFour_54 : decode cX0_pathOfFour 54 = .ok (.irem, 1) := dk_112 (dk_at dksX0_pathOfFour_2 6 rfl rfl)
theorem dX0_pathOfFour_55 : decode cX0_pathOfFour 55 = .ok (.istore 6, 2) := dk_54 6 (dk_at dksX0_pathOfFour_2 7 rfl rfl)
theorem dX0_pathOfFour_57 : decode cX0_pathOfFour 57 = .ok (.iload_n 3, 1) := dk_29 (dk_at dksX0_pathOfFour_2 9 rfl rfl)
theorem dX0_pathOfFour_58 : decode cX0_pathOfFour 58 = .ok (.iload_n 2, 1) := dk_28 (dk_at dksX0_pathOfFour_2 10 rfl rfl)
theorem dX0_pathOfFour_59 : decode cX0_pathOfFour 59 = .ok (.irem, 1) := dk_112 (dk_at dksX0_pathOfFour_2 11 rfl rfl)
theorem dX0_pathOfFour_60 : decode cX0_pathOfFour 60 = .ok (.istore 7, 2) := dk_54 7 (dk_at dksX0_pathOfFour_2 12 rfl rfl)
theorem dX0_pathOfFour_62 : decode cX0_pathOfFour 62 = .ok (.aload_n 0, 1) := dk_42 (dk_at dksX0_pathOfFour_2 14 rfl rfl)
theorem dX0_pathOfFour_63 : decode cX0_pathOfFour 63 = .ok (.iload 4, 2) := dk_21 4 (dk_at dksX0_pathOfFour_2 15 rfl rfl)
theorem dX0_pathOfFour_65 : decode cX0_pathOfFour 65 = .ok (.iload 5, 2) := dk_21 5 (dk_at dksX0_pathOfFour_2 17 rfl rfl)
theorem dX0_pathOfFour_67 : decode cX0_pathOfFour 67 = .ok (.iload 6, 2) := dk_21 6 (dk_at dksX0_pathOfFour_2 19 rfl rfl)
theorem dX0_pathOfFour_69 : decode cX0_pathOfFour 69 = .ok (.iload 7, 2) := dk_21 7 (dk_at dksX0_pathOfFour_2 21 rfl rfl)
theorem dX0_pathOfFour_71 : decode cX0_pathOfFour 71 = .ok (.invokevirtual 283, 3) := dk_182 1 27 (dk_at dksX0_pathOfFour_3 0 rfl rfl)
theorem dX0_pathOfFour_74 : decode cX0_pathOfFour 74 = .ok (.ifCond .eq 35, 3) := dk_153 0 35 (dk_at dksX0_pathOfFour_3 3 rfl rfl)
theorem dX0_pathOfFour_77 : decode cX0_pathOfFour 77 = .ok (.iload_n 1, 1) := dk_27 (dk_at dksX0_pathOfFour_3 6 rfl rfl)
theorem dX0_pathOfFour_78 : decode cX0_pathOfFour 78 = .ok (.ifCond .ne 8, 3) := dk_154 0 8 (dk_at dksX0_pathOfFour_3 7 rfl rfl)
theorem dX0_pathOfFour_81 : decode cX0_pathOfFour 81 = .ok (.iload 4, 2) := dk_21 4 (dk_at dksX0_pathOfFour_3 10 rfl rfl)
theorem dX0_pathOfFour_83 : decode cX0_pathOfFour 83 = .ok (.goto 25, 3) := dk_167 0 25 (dk_at dksX0_pathOfFour_3 12 rfl rfl)
theorem dX0_pathOfFour_86 : decode cX0_pathOfFour 86 = .ok (.iload_n 1, 1) := dk_27 (dk_at dksX0_pathOfFour_3 15 rfl rfl)
theorem dX0_pathOfFour_87 : decode cX0_pathOfFour 87 = .ok (.iconst 1, 1) := dk_4 (dk_at dksX0_pathOfFour_3 16 rfl rfl)
theorem dX0_pathOfFour_88 : decode cX0_pathOfFour 88 = .ok (.if_icmp .ne 8, 3) := dk_160 0 8 (dk_at dksX0_pathOfFour_3 17 rfl rfl)
theorem dX0_pathOfFour_91 : decode cX0_pathOfFour 91 = .ok (.iload 5, 2) := dk_21 5 (dk_at dksX0_pathOfFour_3 20 rfl rfl)
theorem dX0_pathOfFour_93 : decode cX0_pathOfFour 93 = .ok (.goto 15, 3) := dk_167 0 15 (dk_at dksX0_pathOfFour_4 0 rfl rfl)
theorem dX0_pathOfFour_96 : decode cX0_pathOfFour 96 = .ok (.iload_n 1, 1) := dk_27 (dk_at dksX0_pathOfFour_4 3 rfl rfl)
theorem dX0_pathOfFour_97 : decode cX0_pathOfFour 97 = .ok (.iconst 2, 1) := dk_5 (dk_at dksX0_pathOfFour_4 4 rfl rfl)
theorem dX0_pathOfFour_98 : decode cX0_pathOfFour 98 = .ok (.if_icmp .ne 8, 3) := dk_160 0 8 (dk_at dksX0_pathOfFour_4 5 rfl rfl)
theorem dX0_pathOfFour_101 : decode cX0_pathOfFour 101 = .ok (.iload 6, 2) := dk_21 6 (dk_at dksX0_pathOfFour_4 8 rfl rfl)
theorem dX0_pathOfFour_103 : decode cX0_pathOfFour 103 = .ok (.goto 5, 3) := dk_167 0 5 (dk_at dksX0_pathOfFour_4 10 rfl rfl)
theorem dX0_pathOfFour_106 : decode cX0_pathOfFour 106 = .ok (.iload 7, 2) := dk_21 7 (dk_at dksX0_pathOfFour_4 13 rfl rfl)
theorem dX0_pathOfFour_108 : decode cX0_pathOfFour 108 = .ok (.ireturn, 1) := dk_172 (dk_at dksX0_pathOfFour_4 15 rfl rfl)
theorem dX0_pathOfFour_109 : decode cX0_pathOfFour 109 = .ok (.iinc 3 1, 3) := dk_132 3 1 (dk_at dksX0_pathOfFour_4 16 rfl rfl)
theorem dX0_pathOfFour_112 : decode cX0_pathOfFour 112 = .ok (.goto (-91), 3) := dk_167 255 165 (dk_at dksX0_pathOfFour_4 19 rfl rfl)
theorem dX0_pathOfFour_115 : decode cX0_pathOfFour 115 = .ok (.bipush (-4), 2) := dk_16 252 (dk_at dksX0_pathOfFour_4 22 rfl rfl)
theorem dX0_pathOfFour_117 : decode cX0_pathOfFour 117 = .ok (.ireturn, 1) := dk_172 (dk_at dksX0_pathOfFour_5 0 rfl rfl)
abbrev cX0_isPathOfFour : ByteArray := prog_1_method_40_code
def yX0_isPathOfFour : MethodName := ⟨RX0, "isPathOfFour", "(IIII)Z"⟩
def dkwX0_isPathOfFour_4 : List UInt8 := [180, 0, 106, 28, 21, 4, 182, 0, 152, 154, 0, 7, 4, 167, 0, 4, 3, 172]
abbrev dktX0_isPathOfFour_4 : List UInt8 := dkwX0_isPathOfFour_4 ++ []
def dkwX0_isPathOfFour_3 : List UInt8 := [27, 29, 182, 0, 152, 154, 0, 33, 42, 180, 0, 106, 27, 21, 4, 182, 0, 152, 154, 0, 20, 42]
abbrev dktX0_isPathOfFour_3 : List UInt8 := dkwX0_isPathOfFour_3 ++ dktX0_isPathOfFour_4
def dkwX0_isPathOfFour_2 : List UInt8 := [153, 0, 62, 27, 21, 4, 162, 0, 56, 27, 29, 159, 0, 51, 28, 21, 4, 159, 0, 45, 42, 180, 0, 106]
abbrev dktX0_isPathOfFour_2 : List UInt8 := dkwX0_isPathOfFour_2 ++ dktX0_isPathOfFour_3
def dkwX0_isPathOfFour_1 : List UInt8 := [42, 180, 0, 106, 29, 21, 4, 182, 0, 152, 153, 0, 7, 4, 167, 0, 4, 3, 54, 5, 21, 5]
abbrev dktX0_isPathOfFour_1 : List UInt8 := dkwX0_isPathOfFour_1 ++ dktX0_isPathOfFour_2
def dkwX0_isPathOfFour_0 : List UInt8 := [42, 180, 0, 106, 27, 28, 182, 0, 152, 153, 0, 32, 42, 180, 0, 106, 28, 29, 182, 0, 152, 153, 0, 20]
abbrev dktX0_isPathOfFour_0 : List UInt8 := dkwX0_isPathOfFour_0 ++ dktX0_isPathOfFour_1
theorem dksX0_isPathOfFour_0 : cX0_isPathOfFour.data.toList.drop 0 = dktX0_isPathOfFour_0 := by decide +kernel
theorem dksX0_isPathOfFour_1 : cX0_isPathOfFour.data.toList.drop 24 = dktX0_isPathOfFour_1 := dk_seg dksX0_isPathOfFour_0 24 rfl rfl
theorem dksX0_isPathOfFour_2 : cX0_isPathOfFour.data.toList.drop 46 = dktX0_isPathOfFour_2 := dk_seg dksX0_isPathOfFour_1 22 rfl rfl
theorem dksX0_isPathOfFour_3 : cX0_isPathOfFour.data.toList.drop 70 = dktX0_isPathOfFour_3 := dk_seg dksX0_isPathOfFour_2 24 rfl rfl
theorem dksX0_isPathOfFour_4 : cX0_isPathOfFour.data.toList.drop 92 = dktX0_isPathOfFour_4 := dk_seg dksX0_isPathOfFour_3 22 rfl rfl
theorem dX0_isPathOfFour_0 : decode cX0_isPathOfFour 0 = .ok (.aload_n 0, 1) := dk_42 (dk_at dksX0_isPathOfFour_0 0 rfl rfl)
theorem dX0_isPathOfFour_1 : decode cX0_isPathOfFour 1 = .ok (.getfield 106, 3) := dk_180 0 106 (dk_at dksX0_isPathOfFour_0 1 rfl rfl)
theorem dX0_isPathOfFour_4 : decode cX0_isPathOfFour 4 = .ok (.iload_n 1, 1) := dk_27 (dk_at dksX0_isPathOfFour_0 4 rfl rfl)
theorem dX0_isPathOfFour_5 : decode cX0_isPathOfFour 5 = .ok (.iload_n 2, 1) := dk_28 (dk_at dksX0_isPathOfFour_0 5 rfl rfl)
theorem dX0_isPathOfFour_6 : decode cX0_isPathOfFour 6 = .ok (.invokevirtual 152, 3) := dk_182 0 152 (dk_at dksX0_isPathOfFour_0 6 rfl rfl)
theorem dX0_isPathOfFour_9 : decode cX0_isPathOfFour 9 = .ok (.ifCond .eq 32, 3) := dk_153 0 32 (dk_at dksX0_isPathOfFour_0 9 rfl rfl)
theorem dX0_isPathOfFour_12 : decode cX0_isPathOfFour 12 = .ok (.aload_n 0, 1) := dk_42 (dk_at dksX0_isPathOfFour_0 12 rfl rfl)
theorem dX0_isPathOfFour_13 : decode cX0_isPathOfFour 13 = .ok (.getfield 106, 3) := dk_180 0 106 (dk_at dksX0_isPathOfFour_0 13 rfl rfl)
theorem dX0_isPathOfFour_16 : decode cX0_isPathOfFour 16 = .ok (.iload_n 2, 1) := dk_28 (dk_at dksX0_isPathOfFour_0 16 rfl rfl)
theorem dX0_isPathOfFour_17 : decode cX0_isPathOfFour 17 = .ok (.iload_n 3, 1) := dk_29 (dk_at dksX0_isPathOfFour_0 17 rfl rfl)
theorem dX0_isPathOfFour_18 : decode cX0_isPathOfFour 18 = .ok (.invokevirtual 152, 3) := dk_182 0 152 (dk_at dksX0_isPathOfFour_0 18 rfl rfl)
theorem dX0_isPathOfFour_21 : decode cX0_isPathOfFour 21 = .ok (.ifCond .eq 20, 3) := dk_153 0 20 (dk_at dksX0_isPathOfFour_0 21 rfl rfl)
theorem dX0_isPathOfFour_24 : decode cX0_isPathOfFour 24 = .ok (.aload_n 0, 1) := dk_42 (dk_at dksX0_isPathOfFour_1 0 rfl rfl)
theorem dX0_isPathOfFour_25 : decode cX0_isPathOfFour 25 = .ok (.getfield 106, 3) := dk_180 0 106 (dk_at dksX0_isPathOfFour_1 1 rfl rfl)
theorem dX0_isPathOfFour_28 : decode cX0_isPathOfFour 28 = .ok (.iload_n 3, 1) := dk_29 (dk_at dksX0_isPathOfFour_1 4 rfl rfl)
theorem dX0_isPathOfFour_29 : decode cX0_isPathOfFour 29 = .ok (.iload 4, 2) := dk_21 4 (dk_at dksX0_isPathOfFour_1 5 rfl rfl)
theorem dX0_isPathOfFour_31 : decode cX0_isPathOfFour 31 = .ok (.invokevirtual 152, 3) := dk_182 0 152 (dk_at dksX0_isPathOfFour_1 7 rfl rfl)
theorem dX0_isPathOfFour_34 : decode cX0_isPathOfFour 34 = .ok (.ifCond .eq 7, 3) := dk_153 0 7 (dk_at dksX0_isPathOfFour_1 10 rfl rfl)
theorem dX0_isPathOfFour_37 : decode cX0_isPathOfFour 37 = .ok (.iconst 1, 1) := dk_4 (dk_at dksX0_isPathOfFour_1 13 rfl rfl)
theorem dX0_isPathOfFour_38 : decode cX0_isPathOfFour 38 = .ok (.goto 4, 3) := dk_167 0 4 (dk_at dksX0_isPathOfFour_1 14 rfl rfl)
theorem dX0_isPathOfFour_41 : decode cX0_isPathOfFour 41 = .ok (.iconst 0, 1) := dk_3 (dk_at dksX0_isPathOfFour_1 17 rfl rfl)
theorem dX0_isPathOfFour_42 : decode cX0_isPathOfFour 42 = .ok (.istore 5, 2) := dk_54 5 (dk_at dksX0_isPathOfFour_1 18 rfl rfl)
theorem dX0_isPathOfFour_44 : decode cX0_isPathOfFour 44 = .ok (.iload 5, 2) := dk_21 5 (dk_at dksX0_isPathOfFour_1 20 rfl rfl)
theorem dX0_isPathOfFour_46 : decode cX0_isPathOfFour 46 = .ok (.ifCond .eq 62, 3) := dk_153 0 62 (dk_at dksX0_isPathOfFour_2 0 rfl rfl)
theorem dX0_isPathOfFour_49 : decode cX0_isPathOfFour 49 = .ok (.iload_n 1, 1) := dk_27 (dk_at dksX0_isPathOfFour_2 3 rfl rfl)
theorem dX0_isPathOfFour_50 : decode cX0_isPathOfFour 50 = .ok (.iload 4, 2) := dk_21 4 (dk_at dksX0_isPathOfFour_2 4 rfl rfl)
theorem dX0_isPathOfFour_52 : decode cX0_isPathOfFour 52 = .ok (.if_icmp .ge 56, 3) := dk_162 0 56 (dk_at dksX0_isPathOfFour_2 6 rfl rfl)
theorem dX0_isPathOfFour_55 : decode cX0_isPathOfFour 55 = .ok (.iload_n 1, 1) := dk_27 (dk_at dksX0_isPathOfFour_2 9 rfl rfl)
theorem dX0_isPathOfFour_56 : decode cX0_isPathOfFour 56 = .ok (.iload_n 3, 1) := dk_29 (dk_at dksX0_isPathOfFour_2 10 rfl rfl)
theorem dX0_isPathOfFour_57 : decode cX0_isPathOfFour 57 = .ok (.if_icmp .eq 51, 3) := dk_159 0 51 (dk_at dksX0_isPathOfFour_2 11 rfl rfl)
theorem dX0_isPathOfFour_60 : decode cX0_isPathOfFour 60 = .ok (.iload_n 2, 1) := dk_28 (dk_at dksX0_isPathOfFour_2 14 rfl rfl)
theorem dX0_isPathOfFour_61 : decode cX0_isPathOfFour 61 = .ok (.iload 4, 2) := dk_21 4 (dk_at dksX0_isPathOfFour_2 15 rfl rfl)
theorem dX0_isPathOfFour_63 : decode cX0_isPathOfFour 63 = .ok (.if_icmp .eq 45, 3) := dk_159 0 45 (dk_at dksX0_isPathOfFour_2 17 rfl rfl)
theorem dX0_isPathOfFour_66 : decode cX0_isPathOfFour 66 = .ok (.aload_n 0, 1) := dk_42 (dk_at dksX0_isPathOfFour_2 20 rfl rfl)
theorem dX0_isPathOfFour_67 : decode cX0_isPathOfFour 67 = .ok (.getfield 106, 3) := dk_180 0 106 (dk_at dksX0_isPathOfFour_2 21 rfl rfl)
theorem dX0_isPathOfFour_70 : decode cX0_isPathOfFour 70 = .ok (.iload_n 1, 1) := dk_27 (dk_at dksX0_isPathOfFour_3 0 rfl rfl)
theorem dX0_isPathOfFour_71 : decode cX0_isPathOfFour 71 = .ok (.iload_n 3, 1) := dk_29 (dk_at dksX0_isPathOfFour_3 1 rfl rfl)
theorem dX0_isPathOfFour_72 : decode cX0_isPathOfFour 72 = .ok (.invokevirtual 152, 3) := dk_182 0 152 (dk_at dksX0_isPathOfFour_3 2 rfl rfl)
theorem dX0_isPathOfFour_75 : decode cX0_isPathOfFour 75 = .ok (.ifCond .ne 33, 3) := dk_154 0 33 (dk_at dksX0_isPathOfFour_3 5 rfl rfl)
theorem dX0_isPathOfFour_78 : decode cX0_isPathOfFour 78 = .ok (.aload_n 0, 1) := dk_42 (dk_at dksX0_isPathOfFour_3 8 rfl rfl)
theorem dX0_isPathOfFour_79 : decode cX0_isPathOfFour 79 = .ok (.getfield 106, 3) := dk_180 0 106 (dk_at dksX0_isPathOfFour_3 9 rfl rfl)
theorem dX0_isPathOfFour_82 : decode cX0_isPathOfFour 82 = .ok (.iload_n 1, 1) := dk_27 (dk_at dksX0_isPathOfFour_3 12 rfl rfl)
theorem dX0_isPathOfFour_83 : decode cX0_isPathOfFour 83 = .ok (.iload 4, 2) := dk_21 4 (dk_at dksX0_isPathOfFour_3 13 rfl rfl)
theorem dX0_isPathOfFour_85 : decode cX0_isPathOfFour 85 = .ok (.invokevirtual 152, 3) := dk_182 0 152 (dk_at dksX0_isPathOfFour_3 15 rfl rfl)
theorem dX0_isPathOfFour_88 : decode cX0_isPathOfFour 88 = .ok (.ifCond .ne 20, 3) := dk_154 0 20 (dk_at dksX0_isPathOfFour_3 18 rfl rfl)
theorem dX0_isPathOfFour_91 : decode cX0_isPathOfFour 91 = .ok (.aload_n 0, 1) := dk_42 (dk_at dksX0_isPathOfFour_3 21 rfl rfl)
theorem dX0_isPathOfFour_92 : decode cX0_isPathOfFour 92 = .ok (.getfield 106, 3) := dk_180 0 106 (dk_at dksX0_isPathOfFour_4 0 rfl rfl)
theorem dX0_isPathOfFour_95 : decode cX0_isPathOfFour 95 = .ok (.iload_n 2, 1) := dk_28 (dk_at dksX0_isPathOfFour_4 3 rfl rfl)
theorem dX0_isPathOfFour_96 : decode cX0_isPathOfFour 96 = .ok (.iload 4, 2) := dk_21 4 (dk_at dksX0_isPathOfFour_4 4 rfl rfl)
theorem dX0_isPathOfFour_98 : decode cX0_isPathOfFour 98 = .ok (.invokevirtual 152, 3) := dk_182 0 152 (dk_at dksX0_isPathOfFour_4 6 rfl rfl)
theorem dX0_isPathOfFour_101 : decode cX0_isPathOfFour 101 = .ok (.ifCond .ne 7, 3) := dk_154 0 7 (dk_at dksX0_isPathOfFour_4 9 rfl rfl)
theorem dX0_isPathOfFour_104 : decode cX0_isPathOfFour 104 = .ok (.iconst 1, 1) := dk_4 (dk_at dksX0_isPathOfFour_4 12 rfl rfl)
theorem dX0_isPathOfFour_105 : decode cX0_isPathOfFour 105 = .ok (.goto 4, 3) := dk_167 0 4 (dk_at dksX0_isPathOfFour_4 13 rfl rfl)
theorem dX0_isPathOfFour_108 : decode cX0_isPathOfFour 108 = .ok (.iconst 0, 1) := dk_3 (dk_at dksX0_isPathOfFour_4 16 rfl rfl)
theorem dX0_isPathOfFour_109 : decode cX0_isPathOfFour 109 = .ok (.ireturn, 1) := dk_172 (dk_at dksX0_isPathOfFour_4 17 rfl rfl)
abbrev cX0_parts : ByteArray := prog_1_method_44_code
def yX0_parts : MethodName := ⟨RX0, "parts", "(I)I"⟩
def dkwX0_parts_0 : List UInt8 := [42, 27, 182, 0, 163, 153, 0, 14, 42, 27, 182, 1, 42, 180, 0, 129, 167, 0, 4, 2, 172]
abbrev dktX0_parts_0 : List UInt8 := dkwX0_parts_0 ++ []
theorem dksX0_parts_0 : cX0_parts.data.toList.drop 0 = dktX0_parts_0 := by decide +kernel
theorem dX0_parts_0 : decode cX0_parts 0 = .ok (.aload_n 0, 1) := dk_42 (dk_at dksX0_parts_0 0 rfl rfl)
theorem dX0_parts_1 : decode cX0_parts 1 = .ok (.iload_n 1, 1) := dk_27 (dk_at dksX0_parts_0 1 rfl rfl)
theorem dX0_parts_2 : decode cX0_parts 2 = .ok (.invokevirtual 163, 3) := dk_182 0 163 (dk_at dksX0_parts_0 2 rfl rfl)
theorem dX0_parts_5 : decode cX0_parts 5 = .ok (.ifCond .eq 14, 3) := dk_153 0 14 (dk_at dksX0_parts_0 5 rfl rfl)
theorem dX0_parts_8 : decode cX0_parts 8 = .ok (.aload_n 0, 1) := dk_42 (dk_at dksX0_parts_0 8 rfl rfl)
theorem dX0_parts_9 : decode cX0_parts 9 = .ok (.iload_n 1, 1) := dk_27 (dk_at dksX0_parts_0 9 rfl rfl)
theorem dX0_parts_10 : decode cX0_parts 10 = .ok (.invokevirtual 298, 3) := dk_182 1 42 (dk_at dksX0_parts_0 10 rfl rfl)
theorem dX0_parts_13 : decode cX0_parts 13 = .ok (.getfield 129, 3) := dk_180 0 129 (dk_at dksX0_parts_0 13 rfl rfl)
theorem dX0_parts_16 : decode cX0_parts 16 = .ok (.goto 4, 3) := dk_167 0 4 (dk_at dksX0_parts_0 16 rfl rfl)
theorem dX0_parts_19 : decode cX0_parts 19 = .ok (.iconst (-1), 1) := dk_2 (dk_at dksX0_parts_0 19 rfl rfl)
theorem dX0_parts_20 : decode cX0_parts 20 = .ok (.ireturn, 1) := dk_172 (dk_at dksX0_parts_0 20 rfl rfl)
abbrev cX0_partsWithout : ByteArray := prog_1_method_43_code
def yX0_partsWithout : MethodName := ⟨RX0, "partsWithout", "(I)LGraphModules$Row;"⟩
def dkwX0_partsWithout_4 : List UInt8 := [132, 5, 1, 167, 255, 209, 167, 255, 195, 44, 176]
abbrev dktX0_partsWithout_4 : List UInt8 := dkwX0_partsWithout_4 ++ []
def dkwX0_partsWithout_3 : List UInt8 := [162, 0, 23, 21, 4, 42, 44, 21, 6, 21, 5, 182, 1, 38, 128, 54, 4, 132, 6, 1, 167, 255, 230]
abbrev dktX0_partsWithout_3 : List UInt8 := dkwX0_partsWithout_3 ++ dktX0_partsWithout_4
def dkwX0_partsWithout_2 : List UInt8 := [3, 54, 5, 21, 5, 42, 180, 0, 106, 180, 0, 42, 162, 0, 41, 3, 54, 6, 21, 6, 44, 180, 0, 129]
abbrev dktX0_partsWithout_2 : List UInt8 := dkwX0_partsWithout_2 ++ dktX0_partsWithout_3
def dkwX0_partsWithout_1 : List UInt8 := [126, 62, 29, 153, 0, 10, 44, 29, 133, 182, 0, 140, 87, 4, 54, 4, 21, 4, 153, 0, 62, 3, 54, 4]
abbrev dktX0_partsWithout_1 : List UInt8 := dkwX0_partsWithout_1 ++ dktX0_partsWithout_2
def dkwX0_partsWithout_0 : List UInt8 := [187, 0, 89, 89, 16, 10, 188, 9, 183, 0, 91, 77, 42, 180, 0, 106, 182, 0, 167, 4, 27, 120, 2, 130]
abbrev dktX0_partsWithout_0 : List UInt8 := dkwX0_partsWithout_0 ++ dktX0_partsWithout_1
theorem dksX0_partsWithout_0 : cX0_partsWithout.data.toList.drop 0 = dktX0_partsWithout_0 := by decide +kernel
theorem dksX0_partsWithout_1 : cX0_partsWithout.data.toList.drop 24 = dktX0_partsWithout_1 := dk_seg dksX0_partsWithout_0 24 rfl rfl
theorem dksX0_partsWithout_2 : cX0_partsWithout.data.toList.drop 48 = dktX0_partsWithout_2 := dk_seg dksX0_partsWithout_1 24 rfl rfl
theorem dksX0_partsWithout_3 : cX0_partsWithout.data.toList.drop 72 = dktX0_partsWithout_3 := dk_seg dksX0_partsWithout_2 24 rfl rfl
theorem dksX0_partsWithout_4 : cX0_partsWithout.data.toList.drop 95 = dktX0_partsWithout_4 := dk_seg dksX0_partsWithout_3 23 rfl rfl
theorem dX0_partsWithout_0 : decode cX0_partsWithout 0 = .ok (.new 89, 3) := dk_187 0 89 (dk_at dksX0_partsWithout_0 0 rfl rfl)
theorem dX0_partsWithout_3 : decode cX0_partsWithout 3 = .ok (.dup, 1) := dk_89 (dk_at dksX0_partsWithout_0 3 rfl rfl)
theorem dX0_partsWithout_4 : decode cX0_partsWithout 4 = .ok (.bipush 10, 2) := dk_16 10 (dk_at dksX0_partsWithout_0 4 rfl rfl)
theorem dX0_partsWithout_6 : decode cX0_partsWithout 6 = .ok (.newarray .short, 2) := dk_188_9 (dk_at dksX0_partsWithout_0 6 rfl rfl)
theorem dX0_partsWithout_8 : decode cX0_partsWithout 8 = .ok (.invokespecial 91, 3) := dk_183 0 91 (dk_at dksX0_partsWithout_0 8 rfl rfl)
theorem dX0_partsWithout_11 : decode cX0_partsWithout 11 = .ok (.astore_n 2, 1) := dk_77 (dk_at dksX0_partsWithout_0 11 rfl rfl)
theorem dX0_partsWithout_12 : decode cX0_partsWithout 12 = .ok (.aload_n 0, 1) := dk_42 (dk_at dksX0_partsWithout_0 12 rfl rfl)
theorem dX0_partsWithout_13 : decode cX0_partsWithout 13 = .ok (.getfield 106, 3) := dk_180 0 106 (dk_at dksX0_partsWithout_0 13 rfl rfl)
theorem dX0_partsWithout_16 : decode cX0_partsWithout 16 = .ok (.invokevirtual 167, 3) := dk_182 0 167 (dk_at dksX0_partsWithout_0 16 rfl rfl)
theorem dX0_partsWithout_19 : decode cX0_partsWithout 19 = .ok (.iconst 1, 1) := dk_4 (dk_at dksX0_partsWithout_0 19 rfl rfl)
theorem dX0_partsWithout_20 : decode cX0_partsWithout 20 = .ok (.iload_n 1, 1) := dk_27 (dk_at dksX0_partsWithout_0 20 rfl rfl)
theorem dX0_partsWithout_21 : decode cX0_partsWithout 21 = .ok (.ishl, 1) := dk_120 (dk_at dksX0_partsWithout_0 21 rfl rfl)
theorem dX0_partsWithout_22 : decode cX0_partsWithout 22 = .ok (.iconst (-1), 1) := dk_2 (dk_at dksX0_partsWithout_0 22 rfl rfl)
theorem dX0_partsWithout_23 : decode cX0_partsWithout 23 = .ok (.ixor, 1) := dk_130 (dk_at dksX0_partsWithout_0 23 rfl rfl)
theorem dX0_partsWithout_24 : decode cX0_partsWithout 24 = .ok (.iand, 1) := dk_126 (dk_at dksX0_partsWithout_1 0 rfl rfl)
theorem dX0_partsWithout_25 : decode cX0_partsWithout 25 = .ok (.istore_n 3, 1) := dk_62 (dk_at dksX0_partsWithout_1 1 rfl rfl)
theorem dX0_partsWithout_26 : decode cX0_partsWithout 26 = .ok (.iload_n 3, 1) := dk_29 (dk_at dksX0_partsWithout_1 2 rfl rfl)
theorem dX0_partsWithout_27 : decode cX0_partsWithout 27 = .ok (.ifCond .eq 10, 3) := dk_153 0 10 (dk_at dksX0_partsWithout_1 3 rfl rfl)
theorem dX0_partsWithout_30 : decode cX0_partsWithout 30 = .ok (.aload_n 2, 1) := dk_44 (dk_at dksX0_partsWithout_1 6 rfl rfl)
theorem dX0_partsWithout_31 : decode cX0_partsWithout 31 = .ok (.iload_n 3, 1) := dk_29 (dk_at dksX0_partsWithout_1 7 rfl rfl)
theorem dX0_partsWithout_32 : decode cX0_partsWithout 32 = .ok (.i2l, 1) := dk_133 (dk_at dksX0_partsWithout_1 8 rfl rfl)
theorem dX0_partsWithout_33 : decode cX0_partsWithout 33 = .ok (.invokevirtual 140, 3) := dk_182 0 140 (dk_at dksX0_partsWithout_1 9 rfl rfl)
theorem dX0_partsWithout_36 : decode cX0_partsWithout 36 = .ok (.pop, 1) := dk_87 (dk_at dksX0_partsWithout_1 12 rfl rfl)
theorem dX0_partsWithout_37 : decode cX0_partsWithout 37 = .ok (.iconst 1, 1) := dk_4 (dk_at dksX0_partsWithout_1 13 rfl rfl)
theorem dX0_partsWithout_38 : decode cX0_partsWithout 38 = .ok (.istore 4, 2) := dk_54 4 (dk_at dksX0_partsWithout_1 14 rfl rfl)
theorem dX0_partsWithout_40 : decode cX0_partsWithout 40 = .ok (.iload 4, 2) := dk_21 4 (dk_at dksX0_partsWithout_1 16 rfl rfl)
theorem dX0_partsWithout_42 : decode cX0_partsWithout 42 = .ok (.ifCond .eq 62, 3) := dk_153 0 62 (dk_at dksX0_partsWithout_1 18 rfl rfl)
theorem dX0_partsWithout_45 : decode cX0_partsWithout 45 = .ok (.iconst 0, 1) := dk_3 (dk_at dksX0_partsWithout_1 21 rfl rfl)
theorem dX0_partsWithout_46 : decode cX0_partsWithout 46 = .ok (.istore 4, 2) := dk_54 4 (dk_at dksX0_partsWithout_1 22 rfl rfl)
theorem dX0_partsWithout_48 : decode cX0_partsWithout 48 = .ok (.iconst 0, 1) := dk_3 (dk_at dksX0_partsWithout_2 0 rfl rfl)
theorem dX0_partsWithout_49 : decode cX0_partsWithout 49 = .ok (.istore 5, 2) := dk_54 5 (dk_at dksX0_partsWithout_2 1 rfl rfl)
theorem dX0_partsWithout_51 : decode cX0_partsWithout 51 = .ok (.iload 5, 2) := dk_21 5 (dk_at dksX0_partsWithout_2 3 rfl rfl)
theorem dX0_partsWithout_53 : decode cX0_partsWithout 53 = .ok (.aload_n 0, 1) := dk_42 (dk_at dksX0_partsWithout_2 5 rfl rfl)
theorem dX0_partsWithout_54 : decode cX0_partsWithout 54 = .ok (.getfield 106, 3) := dk_180 0 106 (dk_at dksX0_partsWithout_2 6 rfl rfl)
theorem dX0_partsWithout_57 : decode cX0_partsWithout 57 = .ok (.getfield 42, 3) := dk_180 0 42 (dk_at dksX0_partsWithout_2 9 rfl rfl)
theorem dX0_partsWithout_60 : decode cX0_partsWithout 60 = .ok (.if_icmp .ge 41, 3) := dk_162 0 41 (dk_at dksX0_partsWithout_2 12 rfl rfl)
theorem dX0_partsWithout_63 : decode cX0_partsWithout 63 = .ok (.iconst 0, 1) := dk_3 (dk_at dksX0_partsWithout_2 15 rfl rfl)
theorem dX0_partsWithout_64 : decode cX0_partsWithout 64 = .ok (.istore 6, 2) := dk_54 6 (dk_at dksX0_partsWithout_2 16 rfl rfl)
theorem dX0_partsWithout_66 : decode cX0_partsWithout 66 = .ok (.iload 6, 2) := dk_21 6 (dk_at dksX0_partsWithout_2 18 rfl rfl)
theorem dX0_partsWithout_68 : decode cX0_partsWithout 68 = .ok (.aload_n 2, 1) := dk_44 (dk_at dksX0_partsWithout_2 20 rfl rfl)
theorem dX0_partsWithout_69 : decode cX0_partsWithout 69 = .ok (.getfield 129, 3) := dk_180 0 129 (dk_at dksX0_partsWithout_2 21 rfl rfl)
theorem dX0_partsWithout_72 : decode cX0_partsWithout 72 = .ok (.if_icmp .ge 23, 3) := dk_162 0 23 (dk_at dksX0_partsWithout_3 0 rfl rfl)
theorem dX0_partsWithout_75 : decode cX0_partsWithout 75 = .ok (.iload 4, 2) := dk_21 4 (dk_at dksX0_partsWithout_3 3 rfl rfl)
theorem dX0_partsWithout_77 : decode cX0_partsWithout 77 = .ok (.aload_n 0, 1) := dk_42 (dk_at dksX0_partsWithout_3 5 rfl rfl)
theorem dX0_partsWithout_78 : decode cX0_partsWithout 78 = .ok (.aload_n 2, 1) := dk_44 (dk_at dksX0_partsWithout_3 6 rfl rfl)
theorem dX0_partsWithout_79 : decode cX0_partsWithout 79 = .ok (.iload 6, 2) := dk_21 6 (dk_at dksX0_partsWithout_3 7 rfl rfl)
theorem dX0_partsWithout_81 : decode cX0_partsWithout 81 = .ok (.iload 5, 2) := dk_21 5 (dk_at dksX0_partsWithout_3 9 rfl rfl)
theorem dX0_partsWithout_83 : decode cX0_partsWithout 83 = .ok (.invokevirtual 294, 3) := dk_182 1 38 (dk_at dksX0_partsWithout_3 11 rfl rfl)
theorem dX0_partsWithout_86 : decode cX0_partsWithout 86 = .ok (.ior, 1) := dk_128 (dk_at dksX0_partsWithout_3 14 rfl rfl)
theorem dX0_partsWithout_87 : decode cX0_partsWithout 87 = .ok (.istore 4, 2) := dk_54 4 (dk_at dksX0_partsWithout_3 15 rfl rfl)
theorem dX0_partsWithout_89 : decode cX0_partsWithout 89 = .ok (.iinc 6 1, 3) := dk_132 6 1 (dk_at dksX0_partsWithout_3 17 rfl rfl)
theorem dX0_partsWithout_92 : decode cX0_partsWithout 92 = .ok (.goto (-26), 3) := dk_167 255 230 (dk_at dksX0_partsWithout_3 20 rfl rfl)
theorem dX0_partsWithout_95 : decode cX0_partsWithout 95 = .ok (.iinc 5 1, 3) := dk_132 5 1 (dk_at dksX0_partsWithout_4 0 rfl rfl)
theorem dX0_partsWithout_98 : decode cX0_partsWithout 98 = .ok (.goto (-47), 3) := dk_167 255 209 (dk_at dksX0_partsWithout_4 3 rfl rfl)
theorem dX0_partsWithout_101 : decode cX0_partsWithout 101 = .ok (.goto (-61), 3) := dk_167 255 195 (dk_at dksX0_partsWithout_4 6 rfl rfl)
theorem dX0_partsWithout_104 : decode cX0_partsWithout 104 = .ok (.aload_n 2, 1) := dk_44 (dk_at dksX0_partsWithout_4 9 rfl rfl)
theorem dX0_partsWithout_105 : decode cX0_partsWithout 105 = .ok (.areturn, 1) := dk_176 (dk_at dksX0_partsWithout_4 10 rfl rfl)
abbrev cX0_isSplit : ByteArray := prog_1_method_42_code
def yX0_isSplit : MethodName := ⟨RX0, "isSplit", "(LGraphModules$Row;II)Z"⟩
def dkwX0_isSplit_3 : List UInt8 := [182, 0, 140, 87, 21, 6, 172]
abbrev dktX0_isSplit_3 : List UInt8 := dkwX0_isSplit_3 ++ []
def dkwX0_isSplit_2 : List UInt8 := [54, 6, 21, 6, 153, 0, 24, 43, 28, 21, 5, 133, 182, 1, 35, 43, 21, 4, 21, 5, 2, 130, 126, 133]
abbrev dktX0_isSplit_2 : List UInt8 := dkwX0_isSplit_2 ++ dktX0_isSplit_3
def dkwX0_isSplit_1 : List UInt8 := [29, 184, 0, 46, 154, 0, 19, 21, 5, 153, 0, 14, 21, 5, 21, 4, 159, 0, 7, 4, 167, 0, 4, 3]
abbrev dktX0_isSplit_1 : List UInt8 := dkwX0_isSplit_1 ++ dktX0_isSplit_2
def dkwX0_isSplit_0 : List UInt8 := [43, 28, 182, 1, 31, 136, 54, 4, 21, 4, 42, 180, 0, 106, 180, 0, 183, 29, 46, 126, 54, 5, 21, 4]
abbrev dktX0_isSplit_0 : List UInt8 := dkwX0_isSplit_0 ++ dktX0_isSplit_1
theorem dksX0_isSplit_0 : cX0_isSplit.data.toList.drop 0 = dktX0_isSplit_0 := by decide +kernel
theorem dksX0_isSplit_1 : cX0_isSplit.data.toList.drop 24 = dktX0_isSplit_1 := dk_seg dksX0_isSplit_0 24 rfl rfl
theorem dksX0_isSplit_2 : cX0_isSplit.data.toList.drop 48 = dktX0_isSplit_2 := dk_seg dksX0_isSplit_1 24 rfl rfl
theorem dksX0_isSplit_3 : cX0_isSplit.data.toList.drop 72 = dktX0_isSplit_3 := dk_seg dksX0_isSplit_2 24 rfl rfl
theorem dX0_isSplit_0 : decode cX0_isSplit 0 = .ok (.aload_n 1, 1) := dk_43 (dk_at dksX0_isSplit_0 0 rfl rfl)
theorem dX0_isSplit_1 : decode cX0_isSplit 1 = .ok (.iload_n 2, 1) := dk_28 (dk_at dksX0_isSplit_0 1 rfl rfl)
theorem dX0_isSplit_2 : decode cX0_isSplit 2 = .ok (.invokevirtual 287, 3) := dk_182 1 31 (dk_at dksX0_isSplit_0 2 rfl rfl)
theorem dX0_isSplit_5 : decode cX0_isSplit 5 = .ok (.l2i, 1) := dk_136 (dk_at dksX0_isSplit_0 5 rfl rfl)
theorem dX0_isSplit_6 : decode cX0_isSplit 6 = .ok (.istore 4, 2) := dk_54 4 (dk_at dksX0_isSplit_0 6 rfl rfl)
theorem dX0_isSplit_8 : decode cX0_isSplit 8 = .ok (.iload 4, 2) := dk_21 4 (dk_at dksX0_isSplit_0 8 rfl rfl)
theorem dX0_isSplit_10 : decode cX0_isSplit 10 = .ok (.aload_n 0, 1) := dk_42 (dk_at dksX0_isSplit_0 10 rfl rfl)
theorem dX0_isSplit_11 : decode cX0_isSplit 11 = .ok (.getfield 106, 3) := dk_180 0 106 (dk_at dksX0_isSplit_0 11 rfl rfl)
theorem dX0_isSplit_14 : decode cX0_isSplit 14 = .ok (.getfield 183, 3) := dk_180 0 183 (dk_at dksX0_isSplit_0 14 rfl rfl)
theorem dX0_isSplit_17 : decode cX0_isSplit 17 = .ok (.iload_n 3, 1) := dk_29 (dk_at dksX0_isSplit_0 17 rfl rfl)
theorem dX0_isSplit_18 : decode cX0_isSplit 18 = .ok (.iaload, 1) := dk_46 (dk_at dksX0_isSplit_0 18 rfl rfl)
theorem dX0_isSplit_19 : decode cX0_isSplit 19 = .ok (.iand, 1) := dk_126 (dk_at dksX0_isSplit_0 19 rfl rfl)
theorem dX0_isSplit_20 : decode cX0_isSplit 20 = .ok (.istore 5, 2) := dk_54 5 (dk_at dksX0_isSplit_0 20 rfl rfl)
theorem dX0_isSplit_22 : decode cX0_isSplit 22 = .ok (.iload 4, 2) := dk_21 4 (dk_at dksX0_isSplit_0 22 rfl rfl)
theorem dX0_isSplit_24 : decode cX0_isSplit 24 = .ok (.iload_n 3, 1) := dk_29 (dk_at dksX0_isSplit_1 0 rfl rfl)
theorem dX0_isSplit_25 : decode cX0_isSplit 25 = .ok (.invokestatic 46, 3) := dk_184 0 46 (dk_at dksX0_isSplit_1 1 rfl rfl)
theorem dX0_isSplit_28 : decode cX0_isSplit 28 = .ok (.ifCond .ne 19, 3) := dk_154 0 19 (dk_at dksX0_isSplit_1 4 rfl rfl)
theorem dX0_isSplit_31 : decode cX0_isSplit 31 = .ok (.iload 5, 2) := dk_21 5 (dk_at dksX0_isSplit_1 7 rfl rfl)
theorem dX0_isSplit_33 : decode cX0_isSplit 33 = .ok (.ifCond .eq 14, 3) := dk_153 0 14 (dk_at dksX0_isSplit_1 9 rfl rfl)
theorem dX0_isSplit_36 : decode cX0_isSplit 36 = .ok (.iload 5, 2) := dk_21 5 (dk_at dksX0_isSplit_1 12 rfl rfl)
theorem dX0_isSplit_38 : decode cX0_isSplit 38 = .ok (.iload 4, 2) := dk_21 4 (dk_at dksX0_isSplit_1 14 rfl rfl)
theorem dX0_isSplit_40 : decode cX0_isSplit 40 = .ok (.if_icmp .eq 7, 3) := dk_159 0 7 (dk_at dksX0_isSplit_1 16 rfl rfl)
theorem dX0_isSplit_43 : decode cX0_isSplit 43 = .ok (.iconst 1, 1) := dk_4 (dk_at dksX0_isSplit_1 19 rfl rfl)
theorem dX0_isSplit_44 : decode cX0_isSplit 44 = .ok (.goto 4, 3) := dk_167 0 4 (dk_at dksX0_isSplit_1 20 rfl rfl)
theorem dX0_isSplit_47 : decode cX0_isSplit 47 = .ok (.iconst 0, 1) := dk_3 (dk_at dksX0_isSplit_1 23 rfl rfl)
theorem dX0_isSplit_48 : decode cX0_isSplit 48 = .ok (.istore 6, 2) := dk_54 6 (dk_at dksX0_isSplit_2 0 rfl rfl)
theorem dX0_isSplit_50 : decode cX0_isSplit 50 = .ok (.iload 6, 2) := dk_21 6 (dk_at dksX0_isSplit_2 2 rfl rfl)
theorem dX0_isSplit_52 : decode cX0_isSplit 52 = .ok (.ifCond .eq 24, 3) := dk_153 0 24 (dk_at dksX0_isSplit_2 4 rfl rfl)
theorem dX0_isSplit_55 : decode cX0_isSplit 55 = .ok (.aload_n 1, 1) := dk_43 (dk_at dksX0_isSplit_2 7 rfl rfl)
theorem dX0_isSplit_56 : decode cX0_isSplit 56 = .ok (.iload_n 2, 1) := dk_28 (dk_at dksX0_isSplit_2 8 rfl rfl)
theorem dX0_isSplit_57 : decode cX0_isSplit 57 = .ok (.iload 5, 2) := dk_21 5 (dk_at dksX0_isSplit_2 9 rfl rfl)
theorem dX0_isSplit_59 : decode cX0_isSplit 59 = .ok (.i2l, 1) := dk_133 (dk_at dksX0_isSplit_2 11 rfl rfl)
theorem dX0_isSplit_60 : decode cX0_isSplit 60 = .ok (.invokevirtual 291, 3) := dk_182 1 35 (dk_at dksX0_isSplit_2 12 rfl rfl)
theorem dX0_isSplit_63 : decode cX0_isSplit 63 = .ok (.aload_n 1, 1) := dk_43 (dk_at dksX0_isSplit_2 15 rfl rfl)
theorem dX0_isSplit_64 : decode cX0_isSplit 64 = .ok (.iload 4, 2) := dk_21 4 (dk_at dksX0_isSplit_2 16 rfl rfl)
theorem dX0_isSplit_66 : decode cX0_isSplit 66 = .ok (.iload 5, 2) := dk_21 5 (dk_at dksX0_isSplit_2 18 rfl rfl)
theorem dX0_isSplit_68 : decode cX0_isSplit 68 = .ok (.iconst (-1), 1) := dk_2 (dk_at dksX0_isSplit_2 20 rfl rfl)
theorem dX0_isSplit_69 : decode cX0_isSplit 69 = .ok (.ixor, 1) := dk_130 (dk_at dksX0_isSplit_2 21 rfl rfl)
theorem dX0_isSplit_70 : decode cX0_isSplit 70 = .ok (.iand, 1) := dk_126 (dk_at dksX0_isSplit_2 22 rfl rfl)
theorem dX0_isSplit_71 : decode cX0_isSplit 71 = .ok (.i2l, 1) := dk_133 (dk_at dksX0_isSplit_2 23 rfl rfl)
theorem dX0_isSplit_72 : decode cX0_isSplit 72 = .ok (.invokevirtual 140, 3) := dk_182 0 140 (dk_at dksX0_isSplit_3 0 rfl rfl)
theorem dX0_isSplit_75 : decode cX0_isSplit 75 = .ok (.pop, 1) := dk_87 (dk_at dksX0_isSplit_3 3 rfl rfl)
theorem dX0_isSplit_76 : decode cX0_isSplit 76 = .ok (.iload 6, 2) := dk_21 6 (dk_at dksX0_isSplit_3 4 rfl rfl)
theorem dX0_isSplit_78 : decode cX0_isSplit 78 = .ok (.ireturn, 1) := dk_172 (dk_at dksX0_isSplit_3 6 rfl rfl)
abbrev cX0_part : ByteArray := prog_1_method_45_code
def yX0_part : MethodName := ⟨RX0, "part", "(II)I"⟩
def dkwX0_part_2 : List UInt8 := [21, 4, 182, 1, 31, 136, 172]
abbrev dktX0_part_2 : List UInt8 := dkwX0_part_2 ++ []
def dkwX0_part_1 : List UInt8 := [54, 4, 45, 21, 4, 182, 1, 31, 136, 28, 184, 0, 46, 154, 0, 9, 132, 4, 1, 167, 255, 239, 45]
abbrev dktX0_part_1 : List UInt8 := dkwX0_part_1 ++ dktX0_part_2
def dkwX0_part_0 : List UInt8 := [42, 27, 28, 182, 0, 173, 153, 0, 8, 27, 28, 160, 0, 5, 2, 172, 42, 27, 182, 1, 42, 78, 3]
abbrev dktX0_part_0 : List UInt8 := dkwX0_part_0 ++ dktX0_part_1
theorem dksX0_part_0 : cX0_part.data.toList.drop 0 = dktX0_part_0 := by decide +kernel
theorem dksX0_part_1 : cX0_part.data.toList.drop 23 = dktX0_part_1 := dk_seg dksX0_part_0 23 rfl rfl
theorem dksX0_part_2 : cX0_part.data.toList.drop 46 = dktX0_part_2 := dk_seg dksX0_part_1 23 rfl rfl
theorem dX0_part_0 : decode cX0_part 0 = .ok (.aload_n 0, 1) := dk_42 (dk_at dksX0_part_0 0 rfl rfl)
theorem dX0_part_1 : decode cX0_part 1 = .ok (.iload_n 1, 1) := dk_27 (dk_at dksX0_part_0 1 rfl rfl)
theorem dX0_part_2 : decode cX0_part 2 = .ok (.iload_n 2, 1) := dk_28 (dk_at dksX0_part_0 2 rfl rfl)
theorem dX0_part_3 : decode cX0_part 3 = .ok (.invokevirtual 173, 3) := dk_182 0 173 (dk_at dksX0_part_0 3 rfl rfl)
theorem dX0_part_6 : decode cX0_part 6 = .ok (.ifCond .eq 8, 3) := dk_153 0 8 (dk_at dksX0_part_0 6 rfl rfl)
theorem dX0_part_9 : decode cX0_part 9 = .ok (.iload_n 1, 1) := dk_27 (dk_at dksX0_part_0 9 rfl rfl)
theorem dX0_part_10 : decode cX0_part 10 = .ok (.iload_n 2, 1) := dk_28 (dk_at dksX0_part_0 10 rfl rfl)
theorem dX0_part_11 : decode cX0_part 11 = .ok (.if_icmp .ne 5, 3) := dk_160 0 5 (dk_at dksX0_part_0 11 rfl rfl)
theorem dX0_part_14 : decode cX0_part 14 = .ok (.iconst (-1), 1) := dk_2 (dk_at dksX0_part_0 14 rfl rfl)
theorem dX0_part_15 : decode cX0_part 15 = .ok (.ireturn, 1) := dk_172 (dk_at dksX0_part_0 15 rfl rfl)
theorem dX0_part_16 : decode cX0_part 16 = .ok (.aload_n 0, 1) := dk_42 (dk_at dksX0_part_0 16 rfl rfl)
theorem dX0_part_17 : decode cX0_part 17 = .ok (.iload_n 1, 1) := dk_27 (dk_at dksX0_part_0 17 rfl rfl)
theorem dX0_part_18 : decode cX0_part 18 = .ok (.invokevirtual 298, 3) := dk_182 1 42 (dk_at dksX0_part_0 18 rfl rfl)
theorem dX0_part_21 : decode cX0_part 21 = .ok (.astore_n 3, 1) := dk_78 (dk_at dksX0_part_0 21 rfl rfl)
theorem dX0_part_22 : decode cX0_part 22 = .ok (.iconst 0, 1) := dk_3 (dk_at dksX0_part_0 22 rfl rfl)
theorem dX0_part_23 : decode cX0_part 23 = .ok (.istore 4, 2) := dk_54 4 (dk_at dksX0_part_1 0 rfl rfl)
theorem dX0_part_25 : decode cX0_part 25 = .ok (.aload_n 3, 1) := dk_45 (dk_at dksX0_part_1 2 rfl rfl)
theorem dX0_part_26 : decode cX0_part 26 = .ok (.iload 4, 2) := dk_21 4 (dk_at dksX0_part_1 3 rfl rfl)
theorem dX0_part_28 : decode cX0_part 28 = .ok (.invokevirtual 287, 3) := dk_182 1 31 (dk_at dksX0_part_1 5 rfl rfl)
theorem dX0_part_31 : decode cX0_part 31 = .ok (.l2i, 1) := dk_136 (dk_at dksX0_part_1 8 rfl rfl)
theorem dX0_part_32 : decode cX0_part 32 = .ok (.iload_n 2, 1) := dk_28 (dk_at dksX0_part_1 9 rfl rfl)
theorem dX0_part_33 : decode cX0_part 33 = .ok (.invokestatic 46, 3) := dk_184 0 46 (dk_at dksX0_part_1 10 rfl rfl)
theorem dX0_part_36 : decode cX0_part 36 = .ok (.ifCond .ne 9, 3) := dk_154 0 9 (dk_at dksX0_part_1 13 rfl rfl)
theorem dX0_part_39 : decode cX0_part 39 = .ok (.iinc 4 1, 3) := dk_132 4 1 (dk_at dksX0_part_1 16 rfl rfl)
theorem dX0_part_42 : decode cX0_part 42 = .ok (.goto (-17), 3) := dk_167 255 239 (dk_at dksX0_part_1 19 rfl rfl)
theorem dX0_part_45 : decode cX0_part 45 = .ok (.aload_n 3, 1) := dk_45 (dk_at dksX0_part_1 22 rfl rfl)
theorem dX0_part_46 : decode cX0_part 46 = .ok (.iload 4, 2) := dk_21 4 (dk_at dksX0_part_2 0 rfl rfl)
theorem dX0_part_48 : decode cX0_part 48 = .ok (.invokevirtual 287, 3) := dk_182 1 31 (dk_at dksX0_part_2 2 rfl rfl)
theorem dX0_part_51 : decode cX0_part 51 = .ok (.l2i, 1) := dk_136 (dk_at dksX0_part_2 5 rfl rfl)
theorem dX0_part_52 : decode cX0_part 52 = .ok (.ireturn, 1) := dk_172 (dk_at dksX0_part_2 6 rfl rfl)
abbrev cX0_place : ByteArray := prog_1_method_46_code
def yX0_place : MethodName := ⟨RX0, "place", "(I)I"⟩
def dkwX0_place_1 : List UInt8 := [16, 254, 172, 42, 180, 0, 98, 27, 133, 182, 0, 140, 87, 42, 180, 0, 98, 180, 0, 129, 172]
abbrev dktX0_place_1 : List UInt8 := dkwX0_place_1 ++ []
def dkwX0_place_0 : List UInt8 := [42, 27, 182, 0, 163, 154, 0, 5, 2, 172, 42, 180, 0, 98, 27, 133, 182, 1, 46, 2, 159, 0, 6]
abbrev dktX0_place_0 : List UInt8 := dkwX0_place_0 ++ dktX0_place_1
theorem dksX0_place_0 : cX0_place.data.toList.drop 0 = dktX0_place_0 := by decide +kernel
theorem dksX0_place_1 : cX0_place.data.toList.drop 23 = dktX0_place_1 := dk_seg dksX0_place_0 23 rfl rfl
theorem dX0_place_0 : decode cX0_place 0 = .ok (.aload_n 0, 1) := dk_42 (dk_at dksX0_place_0 0 rfl rfl)
theorem dX0_place_1 : decode cX0_place 1 = .ok (.iload_n 1, 1) := dk_27 (dk_at dksX0_place_0 1 rfl rfl)
theorem dX0_place_2 : decode cX0_place 2 = .ok (.invokevirtual 163, 3) := dk_182 0 163 (dk_at dksX0_place_0 2 rfl rfl)
theorem dX0_place_5 : decode cX0_place 5 = .ok (.ifCond .ne 5, 3) := dk_154 0 5 (dk_at dksX0_place_0 5 rfl rfl)
theorem dX0_place_8 : decode cX0_place 8 = .ok (.iconst (-1), 1) := dk_2 (dk_at dksX0_place_0 8 rfl rfl)
theorem dX0_place_9 : decode cX0_place 9 = .ok (.ireturn, 1) := dk_172 (dk_at dksX0_place_0 9 rfl rfl)
theorem dX0_place_10 : decode cX0_place 10 = .ok (.aload_n 0, 1) := dk_42 (dk_at dksX0_place_0 10 rfl rfl)
theorem dX0_place_11 : decode cX0_place 11 = .ok (.getfield 98, 3) := dk_180 0 98 (dk_at dksX0_place_0 11 rfl rfl)
theorem dX0_place_14 : decode cX0_place 14 = .ok (.iload_n 1, 1) := dk_27 (dk_at dksX0_place_0 14 rfl rfl)
theorem dX0_place_15 : decode cX0_place 15 = .ok (.i2l, 1) := dk_133 (dk_at dksX0_place_0 15 rfl rfl)
theorem dX0_place_16 : decode cX0_place 16 = .ok (.invokevirtual 302, 3) := dk_182 1 46 (dk_at dksX0_place_0 16 rfl rfl)
theorem dX0_place_19 : decode cX0_place 19 = .ok (.iconst (-1), 1) := dk_2 (dk_at dksX0_place_0 19 rfl rfl)
theorem dX0_place_20 : decode cX0_place 20 = .ok (.if_icmp .eq 6, 3) := dk_159 0 6 (dk_at dksX0_place_0 20 rfl rfl)
theorem dX0_place_23 : decode cX0_place 23 = .ok (.bipush (-2), 2) := dk_16 254 (dk_at dksX0_place_1 0 rfl rfl)
theorem dX0_place_25 : decode cX0_place 25 = .ok (.ireturn, 1) := dk_172 (dk_at dksX0_place_1 2 rfl rfl)
theorem dX0_place_26 : decode cX0_place 26 = .ok (.aload_n 0, 1) := dk_42 (dk_at dksX0_place_1 3 rfl rfl)
theorem dX0_place_27 : decode cX0_place 27 = .ok (.getfield 98, 3) := dk_180 0 98 (dk_at dksX0_place_1 4 rfl rfl)
theorem dX0_place_30 : decode cX0_place 30 = .ok (.iload_n 1, 1) := dk_27 (dk_at dksX0_place_1 7 rfl rfl)
theorem dX0_place_31 : decode cX0_place 31 = .ok (.i2l, 1) := dk_133 (dk_at dksX0_place_1 8 rfl rfl)
theorem dX0_place_32 : decode cX0_place 32 = .ok (.invokevirtual 140, 3) := dk_182 0 140 (dk_at dksX0_place_1 9 rfl rfl)
theorem dX0_place_35 : decode cX0_place 35 = .ok (.pop, 1) := dk_87 (dk_at dksX0_place_1 12 rfl rfl)
theorem dX0_place_36 : decode cX0_place 36 = .ok (.aload_n 0, 1) := dk_42 (dk_at dksX0_place_1 13 rfl rfl)
theorem dX0_place_37 : decode cX0_place 37 = .ok (.getfield 98, 3) := dk_180 0 98 (dk_at dksX0_place_1 14 rfl rfl)
theorem dX0_place_40 : decode cX0_place 40 = .ok (.getfield 129, 3) := dk_180 0 129 (dk_at dksX0_place_1 17 rfl rfl)
theorem dX0_place_43 : decode cX0_place 43 = .ok (.ireturn, 1) := dk_172 (dk_at dksX0_place_1 20 rfl rfl)
abbrev cX0_clearRow : ByteArray := prog_1_method_47_code
def yX0_clearRow : MethodName := ⟨RX0, "clearRow", "()I"⟩
def dkwX0_clearRow_0 : List UInt8 := [42, 180, 0, 98, 182, 0, 126, 172]
abbrev dktX0_clearRow_0 : List UInt8 := dkwX0_clearRow_0 ++ []
theorem dksX0_clearRow_0 : cX0_clearRow.data.toList.drop 0 = dktX0_clearRow_0 := by decide +kernel
theorem dX0_clearRow_0 : decode cX0_clearRow 0 = .ok (.aload_n 0, 1) := dk_42 (dk_at dksX0_clearRow_0 0 rfl rfl)
theorem dX0_clearRow_1 : decode cX0_clearRow 1 = .ok (.getfield 98, 3) := dk_180 0 98 (dk_at dksX0_clearRow_0 1 rfl rfl)
theorem dX0_clearRow_4 : decode cX0_clearRow 4 = .ok (.invokevirtual 126, 3) := dk_182 0 126 (dk_at dksX0_clearRow_0 4 rfl rfl)
theorem dX0_clearRow_7 : decode cX0_clearRow 7 = .ok (.ireturn, 1) := dk_172 (dk_at dksX0_clearRow_0 7 rfl rfl)
abbrev cX0_kept : ByteArray := prog_1_method_50_code
def yX0_kept : MethodName := ⟨RX0, "kept", "(I)I"⟩
def dkwX0_kept_4 : List UInt8 := [167, 0, 4, 4, 96, 61, 167, 255, 216, 28, 172]
abbrev dktX0_kept_4 : List UInt8 := dkwX0_kept_4 ++ []
def dkwX0_kept_3 : List UInt8 := [185, 1, 63, 1, 0, 192, 0, 239, 58, 4, 28, 42, 25, 4, 180, 0, 248, 182, 1, 67, 153, 0, 7, 3]
abbrev dktX0_kept_3 : List UInt8 := dkwX0_kept_3 ++ dktX0_kept_4
def dkwX0_kept_2 : List UInt8 := [182, 0, 205, 180, 0, 211, 182, 1, 53, 78, 45, 185, 1, 57, 1, 0, 153, 0, 37, 45]
abbrev dktX0_kept_2 : List UInt8 := dkwX0_kept_2 ++ dktX0_kept_3
def dkwX0_kept_1 : List UInt8 := [180, 0, 42, 162, 0, 6, 16, 254, 172, 27, 4, 160, 0, 8, 42, 182, 1, 50, 172, 3, 61, 42]
abbrev dktX0_kept_1 : List UInt8 := dkwX0_kept_1 ++ dktX0_kept_2
def dkwX0_kept_0 : List UInt8 := [27, 3, 4, 184, 0, 159, 154, 0, 5, 2, 172, 42, 180, 0, 98, 180, 0, 129, 42, 180, 0, 106]
abbrev dktX0_kept_0 : List UInt8 := dkwX0_kept_0 ++ dktX0_kept_1
theorem dksX0_kept_0 : cX0_kept.data.toList.drop 0 = dktX0_kept_0 := by decide +kernel
theorem dksX0_kept_1 : cX0_kept.data.toList.drop 22 = dktX0_kept_1 := dk_seg dksX0_kept_0 22 rfl rfl
theorem dksX0_kept_2 : cX0_kept.data.toList.drop 44 = dktX0_kept_2 := dk_seg dksX0_kept_1 22 rfl rfl
theorem dksX0_kept_3 : cX0_kept.data.toList.drop 64 = dktX0_kept_3 := dk_seg dksX0_kept_2 20 rfl rfl
theorem dksX0_kept_4 : cX0_kept.data.toList.drop 88 = dktX0_kept_4 := dk_seg dksX0_kept_3 24 rfl rfl
theorem dX0_kept_0 : decode cX0_kept 0 = .ok (.iload_n 1, 1) := dk_27 (dk_at dksX0_kept_0 0 rfl rfl)
theorem dX0_kept_1 : decode cX0_kept 1 = .ok (.iconst 0, 1) := dk_3 (dk_at dksX0_kept_0 1 rfl rfl)
theorem dX0_kept_2 : decode cX0_kept 2 = .ok (.iconst 1, 1) := dk_4 (dk_at dksX0_kept_0 2 rfl rfl)
theorem dX0_kept_3 : decode cX0_kept 3 = .ok (.invokestatic 159, 3) := dk_184 0 159 (dk_at dksX0_kept_0 3 rfl rfl)
theorem dX0_kept_6 : decode cX0_kept 6 = .ok (.ifCond .ne 5, 3) := dk_154 0 5 (dk_at dksX0_kept_0 6 rfl rfl)
theorem dX0_kept_9 : decode cX0_kept 9 = .ok (.iconst (-1), 1) := dk_2 (dk_at dksX0_kept_0 9 rfl rfl)
theorem dX0_kept_10 : decode cX0_kept 10 = .ok (.ireturn, 1) := dk_172 (dk_at dksX0_kept_0 10 rfl rfl)
theorem dX0_kept_11 : decode cX0_kept 11 = .ok (.aload_n 0, 1) := dk_42 (dk_at dksX0_kept_0 11 rfl rfl)
theorem dX0_kept_12 : decode cX0_kept 12 = .ok (.getfield 98, 3) := dk_180 0 98 (dk_at dksX0_kept_0 12 rfl rfl)
theorem dX0_kept_15 : decode cX0_kept 15 = .ok (.getfield 129, 3) := dk_180 0 129 (dk_at dksX0_kept_0 15 rfl rfl)
theorem dX0_kept_18 : decode cX0_kept 18 = .ok (.aload_n 0, 1) := dk_42 (dk_at dksX0_kept_0 18 rfl rfl)
theorem dX0_kept_19 : decode cX0_kept 19 = .ok (.getfield 106, 3) := dk_180 0 106 (dk_at dksX0_kept_0 19 rfl rfl)
theorem dX0_kept_22 : decode cX0_kept 22 = .ok (.getfield 42, 3) := dk_180 0 42 (dk_at dksX0_kept_1 0 rfl rfl)
theorem dX0_kept_25 : decode cX0_kept 25 = .ok (.if_icmp .ge 6, 3) := dk_162 0 6 (dk_at dksX0_kept_1 3 rfl rfl)
theorem dX0_kept_28 : decode cX0_kept 28 = .ok (.bipush (-2), 2) := dk_16 254 (dk_at dksX0_kept_1 6 rfl rfl)
theorem dX0_kept_30 : decode cX0_kept 30 = .ok (.ireturn, 1) := dk_172 (dk_at dksX0_kept_1 8 rfl rfl)
theorem dX0_kept_31 : decode cX0_kept 31 = .ok (.iload_n 1, 1) := dk_27 (dk_at dksX0_kept_1 9 rfl rfl)
theorem dX0_kept_32 : decode cX0_kept 32 = .ok (.iconst 1, 1) := dk_4 (dk_at dksX0_kept_1 10 rfl rfl)
theorem dX0_kept_33 : decode cX0_kept 33 = .ok (.if_icmp .ne 8, 3) := dk_160 0 8 (dk_at dksX0_kept_1 11 rfl rfl)
theorem dX0_kept_36 : decode cX0_kept 36 = .ok (.aload_n 0, 1) := dk_42 (dk_at dksX0_kept_1 14 rfl rfl)
theorem dX0_kept_37 : decode cX0_kept 37 = .ok (.invokevirtual 306, 3) := dk_182 1 50 (dk_at dksX0_kept_1 15 rfl rfl)
theorem dX0_kept_40 : decode cX0_kept 40 = .ok (.ireturn, 1) := dk_172 (dk_at dksX0_kept_1 18 rfl rfl)
theorem dX0_kept_41 : decode cX0_kept 41 = .ok (.iconst 0, 1) := dk_3 (dk_at dksX0_kept_1 19 rfl rfl)
theorem dX0_kept_42 : decode cX0_kept 42 = .ok (.istore_n 2, 1) := dk_61 (dk_at dksX0_kept_1 20 rfl rfl)
theorem dX0_kept_43 : decode cX0_kept 43 = .ok (.aload_n 0, 1) := dk_42 (dk_at dksX0_kept_1 21 rfl rfl)
theorem dX0_kept_44 : decode cX0_kept 44 = .ok (.invokevirtual 205, 3) := dk_182 0 205 (dk_at dksX0_kept_2 0 rfl rfl)
theorem dX0_kept_47 : decode cX0_kept 47 = .ok (.getfield 211, 3) := dk_180 0 211 (dk_at dksX0_kept_2 3 rfl rfl)
theorem dX0_kept_50 : decode cX0_kept 50 = .ok (.invokevirtual 309, 3) := dk_182 1 53 (dk_at dksX0_kept_2 6 rfl rfl)
theorem dX0_kept_53 : decode cX0_kept 53 = .ok (.astore_n 3, 1) := dk_78 (dk_at dksX0_kept_2 9 rfl rfl)
theorem dX0_kept_54 : decode cX0_kept 54 = .ok (.aload_n 3, 1) := dk_45 (dk_at dksX0_kept_2 10 rfl rfl)
theorem dX0_kept_55 : decode cX0_kept 55 = .ok (.invokeinterface 313 1, 5) := by decide +kernel
theorem dX0_kept_60 : decode cX0_kept 60 = .ok (.ifCond .eq 37, 3) := dk_153 0 37 (dk_at dksX0_kept_2 16 rfl rfl)
theorem dX0_kept_63 : decode cX0_kept 63 = .ok (.aload_n 3, 1) := dk_45 (dk_at dksX0_kept_2 19 rfl rfl)
theorem dX0_kept_64 : decode cX0_kept 64 = .ok (.invokeinterface 319 1, 5) := by decide +kernel
theorem dX0_kept_69 : decode cX0_kept 69 = .ok (.checkcast 239, 3) := dk_192 0 239 (dk_at dksX0_kept_3 5 rfl rfl)
theorem dX0_kept_72 : decode cX0_kept 72 = .ok (.astore 4, 2) := dk_58 4 (dk_at dksX0_kept_3 8 rfl rfl)
theorem dX0_kept_74 : decode cX0_kept 74 = .ok (.iload_n 2, 1) := dk_28 (dk_at dksX0_kept_3 10 rfl rfl)
theorem dX0_kept_75 : decode cX0_kept 75 = .ok (.aload_n 0, 1) := dk_42 (dk_at dksX0_kept_3 11 rfl rfl)
theorem dX0_kept_76 : decode cX0_kept 76 = .ok (.aload 4, 2) := dk_25 4 (dk_at dksX0_kept_3 12 rfl rfl)
theorem dX0_kept_78 : decode cX0_kept 78 = .ok (.getfield 248, 3) := dk_180 0 248 (dk_at dksX0_kept_3 14 rfl rfl)
theorem dX0_kept_81 : decode cX0_kept 81 = .ok (.invokevirtual 323, 3) := dk_182 1 67 (dk_at dksX0_kept_3 17 rfl rfl)
theorem dX0_kept_84 : decode cX0_kept 84 = .ok (.ifCond .eq 7, 3) := dk_153 0 7 (dk_at dksX0_kept_3 20 rfl rfl)
theorem dX0_kept_87 : decode cX0_kept 87 = .ok (.iconst 0, 1) := dk_3 (dk_at dksX0_kept_3 23 rfl rfl)
theorem dX0_kept_88 : decode cX0_kept 88 = .ok (.goto 4, 3) := dk_167 0 4 (dk_at dksX0_kept_4 0 rfl rfl)
theorem dX0_kept_91 : decode cX0_kept 91 = .ok (.iconst 1, 1) := dk_4 (dk_at dksX0_kept_4 3 rfl rfl)
theorem dX0_kept_92 : decode cX0_kept 92 = .ok (.iadd, 1) := dk_96 (dk_at dksX0_kept_4 4 rfl rfl)
theorem dX0_kept_93 : decode cX0_kept 93 = .ok (.istore_n 2, 1) := dk_61 (dk_at dksX0_kept_4 5 rfl rfl)
theorem dX0_kept_94 : decode cX0_kept 94 = .ok (.goto (-40), 3) := dk_167 255 216 (dk_at dksX0_kept_4 6 rfl rfl)
theorem dX0_kept_97 : decode cX0_kept 97 = .ok (.iload_n 2, 1) := dk_28 (dk_at dksX0_kept_4 9 rfl rfl)
theorem dX0_kept_98 : decode cX0_kept 98 = .ok (.ireturn, 1) := dk_172 (dk_at dksX0_kept_4 10 rfl rfl)
abbrev cX0_modulesInRow : ByteArray := prog_1_method_49_code
def yX0_modulesInRow : MethodName := ⟨RX0, "modulesInRow", "()I"⟩
def dkwX0_modulesInRow_3 : List UInt8 := [167, 255, 207, 132, 2, 1, 167, 255, 185, 27, 172]
abbrev dktX0_modulesInRow_3 : List UInt8 := dkwX0_modulesInRow_3 ++ []
def dkwX0_modulesInRow_2 : List UInt8 := [27, 42, 180, 0, 106, 29, 182, 0, 232, 154, 0, 7, 4, 167, 0, 4, 3, 96, 60, 132, 4, 1]
abbrev dktX0_modulesInRow_2 : List UInt8 := dkwX0_modulesInRow_2 ++ dktX0_modulesInRow_3
def dkwX0_modulesInRow_1 : List UInt8 := [180, 0, 98, 180, 0, 129, 162, 0, 43, 29, 4, 42, 180, 0, 98, 21, 4, 182, 1, 31, 136, 120, 128, 62]
abbrev dktX0_modulesInRow_1 : List UInt8 := dkwX0_modulesInRow_1 ++ dktX0_modulesInRow_2
def dkwX0_modulesInRow_0 : List UInt8 := [3, 60, 3, 61, 28, 42, 180, 0, 98, 180, 0, 129, 162, 0, 66, 3, 62, 28, 54, 4, 21, 4, 42]
abbrev dktX0_modulesInRow_0 : List UInt8 := dkwX0_modulesInRow_0 ++ dktX0_modulesInRow_1
theorem dksX0_modulesInRow_0 : cX0_modulesInRow.data.toList.drop 0 = dktX0_modulesInRow_0 := by decide +kernel
theorem dksX0_modulesInRow_1 : cX0_modulesInRow.data.toList.drop 23 = dktX0_modulesInRow_1 := dk_seg dksX0_modulesInRow_0 23 rfl rfl
theorem dksX0_modulesInRow_2 : cX0_modulesInRow.data.toList.drop 47 = dktX0_modulesInRow_2 := dk_seg dksX0_modulesInRow_1 24 rfl rfl
theorem dksX0_modulesInRow_3 : cX0_modulesInRow.data.toList.drop 69 = dktX0_modulesInRow_3 := dk_seg dksX0_modulesInRow_2 22 rfl rfl
theorem dX0_modulesInRow_0 : decode cX0_modulesInRow 0 = .ok (.iconst 0, 1) := dk_3 (dk_at dksX0_modulesInRow_0 0 rfl rfl)
theorem dX0_modulesInRow_1 : decode cX0_modulesInRow 1 = .ok (.istore_n 1, 1) := dk_60 (dk_at dksX0_modulesInRow_0 1 rfl rfl)
theorem dX0_modulesInRow_2 : decode cX0_modulesInRow 2 = .ok (.iconst 0, 1) := dk_3 (dk_at dksX0_modulesInRow_0 2 rfl rfl)
theorem dX0_modulesInRow_3 : decode cX0_modulesInRow 3 = .ok (.istore_n 2, 1) := dk_61 (dk_at dksX0_modulesInRow_0 3 rfl rfl)
theorem dX0_modulesInRow_4 : decode cX0_modulesInRow 4 = .ok (.iload_n 2, 1) := dk_28 (dk_at dksX0_modulesInRow_0 4 rfl rfl)
theorem dX0_modulesInRow_5 : decode cX0_modulesInRow 5 = .ok (.aload_n 0, 1) := dk_42 (dk_at dksX0_modulesInRow_0 5 rfl rfl)
theorem dX0_modulesInRow_6 : decode cX0_modulesInRow 6 = .ok (.getfield 98, 3) := dk_180 0 98 (dk_at dksX0_modulesInRow_0 6 rfl rfl)
theorem dX0_modulesInRow_9 : decode cX0_modulesInRow 9 = .ok (.getfield 129, 3) := dk_180 0 129 (dk_at dksX0_modulesInRow_0 9 rfl rfl)
theorem dX0_modulesInRow_12 : decode cX0_modulesInRow 12 = .ok (.if_icmp .ge 66, 3) := dk_162 0 66 (dk_at dksX0_modulesInRow_0 12 rfl rfl)
theorem dX0_modulesInRow_15 : decode cX0_modulesInRow 15 = .ok (.iconst 0, 1) := dk_3 (dk_at dksX0_modulesInRow_0 15 rfl rfl)
theorem dX0_modulesInRow_16 : decode cX0_modulesInRow 16 = .ok (.istore_n 3, 1) := dk_62 (dk_at dksX0_modulesInRow_0 16 rfl rfl)
theorem dX0_modulesInRow_17 : decode cX0_modulesInRow 17 = .ok (.iload_n 2, 1) := dk_28 (dk_at dksX0_modulesInRow_0 17 rfl rfl)
theorem dX0_modulesInRow_18 : decode cX0_modulesInRow 18 = .ok (.istore 4, 2) := dk_54 4 (dk_at dksX0_modulesInRow_0 18 rfl rfl)
theorem dX0_modulesInRow_20 : decode cX0_modulesInRow 20 = .ok (.iload 4, 2) := dk_21 4 (dk_at dksX0_modulesInRow_0 20 rfl rfl)
theorem dX0_modulesInRow_22 : decode cX0_modulesInRow 22 = .ok (.aload_n 0, 1) := dk_42 (dk_at dksX0_modulesInRow_0 22 rfl rfl)
theorem dX0_modulesInRow_23 : decode cX0_modulesInRow 23 = .ok (.getfield 98, 3) := dk_180 0 98 (dk_at dksX0_modulesInRow_1 0 rfl rfl)
theorem dX0_modulesInRow_26 : decode cX0_modulesInRow 26 = .ok (.getfield 129, 3) := dk_180 0 129 (dk_at dksX0_modulesInRow_1 3 rfl rfl)
theorem dX0_modulesInRow_29 : decode cX0_modulesInRow 29 = .ok (.if_icmp .ge 43, 3) := dk_162 0 43 (dk_at dksX0_modulesInRow_1 6 rfl rfl)
theorem dX0_modulesInRow_32 : decode cX0_modulesInRow 32 = .ok (.iload_n 3, 1) := dk_29 (dk_at dksX0_modulesInRow_1 9 rfl rfl)
theorem dX0_modulesInRow_33 : decode cX0_modulesInRow 33 = .ok (.iconst 1, 1) := dk_4 (dk_at dksX0_modulesInRow_1 10 rfl rfl)
theorem dX0_modulesInRow_34 : decode cX0_modulesInRow 34 = .ok (.aload_n 0, 1) := dk_42 (dk_at dksX0_modulesInRow_1 11 rfl rfl)
theorem dX0_modulesInRow_35 : decode cX0_modulesInRow 35 = .ok (.getfield 98, 3) := dk_180 0 98 (dk_at dksX0_modulesInRow_1 12 rfl rfl)
theorem dX0_modulesInRow_38 : decode cX0_modulesInRow 38 = .ok (.iload 4, 2) := dk_21 4 (dk_at dksX0_modulesInRow_1 15 rfl rfl)
theorem dX0_modulesInRow_40 : decode cX0_modulesInRow 40 = .ok (.invokevirtual 287, 3) := dk_182 1 31 (dk_at dksX0_modulesInRow_1 17 rfl rfl)
theorem dX0_modulesInRow_43 : decode cX0_modulesInRow 43 = .ok (.l2i, 1) := dk_136 (dk_at dksX0_modulesInRow_1 20 rfl rfl)
theorem dX0_modulesInRow_44 : decode cX0_modulesInRow 44 = .ok (.ishl, 1) := dk_120 (dk_at dksX0_modulesInRow_1 21 rfl rfl)
theorem dX0_modulesInRow_45 : decode cX0_modulesInRow 45 = .ok (.ior, 1) := dk_128 (dk_at dksX0_modulesInRow_1 22 rfl rfl)
theorem dX0_modulesInRow_46 : decode cX0_modulesInRow 46 = .ok (.istore_n 3, 1) := dk_62 (dk_at dksX0_modulesInRow_1 23 rfl rfl)
theorem dX0_modulesInRow_47 : decode cX0_modulesInRow 47 = .ok (.iload_n 1, 1) := dk_27 (dk_at dksX0_modulesInRow_2 0 rfl rfl)
theorem dX0_modulesInRow_48 : decode cX0_modulesInRow 48 = .ok (.aload_n 0, 1) := dk_42 (dk_at dksX0_modulesInRow_2 1 rfl rfl)
theorem dX0_modulesInRow_49 : decode cX0_modulesInRow 49 = .ok (.getfield 106, 3) := dk_180 0 106 (dk_at dksX0_modulesInRow_2 2 rfl rfl)
theorem dX0_modulesInRow_52 : decode cX0_modulesInRow 52 = .ok (.iload_n 3, 1) := dk_29 (dk_at dksX0_modulesInRow_2 5 rfl rfl)
theorem dX0_modulesInRow_53 : decode cX0_modulesInRow 53 = .ok (.invokevirtual 232, 3) := dk_182 0 232 (dk_at dksX0_modulesInRow_2 6 rfl rfl)
theorem dX0_modulesInRow_56 : decode cX0_modulesInRow 56 = .ok (.ifCond .ne 7, 3) := dk_154 0 7 (dk_at dksX0_modulesInRow_2 9 rfl rfl)
theorem dX0_modulesInRow_59 : decode cX0_modulesInRow 59 = .ok (.iconst 1, 1) := dk_4 (dk_at dksX0_modulesInRow_2 12 rfl rfl)
theorem dX0_modulesInRow_60 : decode cX0_modulesInRow 60 = .ok (.goto 4, 3) := dk_167 0 4 (dk_at dksX0_modulesInRow_2 13 rfl rfl)
theorem dX0_modulesInRow_63 : decode cX0_modulesInRow 63 = .ok (.iconst 0, 1) := dk_3 (dk_at dksX0_modulesInRow_2 16 rfl rfl)
theorem dX0_modulesInRow_64 : decode cX0_modulesInRow 64 = .ok (.iadd, 1) := dk_96 (dk_at dksX0_modulesInRow_2 17 rfl rfl)
theorem dX0_modulesInRow_65 : decode cX0_modulesInRow 65 = .ok (.istore_n 1, 1) := dk_60 (dk_at dksX0_modulesInRow_2 18 rfl rfl)
theorem dX0_modulesInRow_66 : decode cX0_modulesInRow 66 = .ok (.iinc 4 1, 3) := dk_132 4 1 (dk_at dksX0_modulesInRow_2 19 rfl rfl)
theorem dX0_modulesInRow_69 : decode cX0_modulesInRow 69 = .ok (.goto (-49), 3) := dk_167 255 207 (dk_at dksX0_modulesInRow_3 0 rfl rfl)
theorem dX0_modulesInRow_72 : decode cX0_modulesInRow 72 = .ok (.iinc 2 1, 3) := dk_132 2 1 (dk_at dksX0_modulesInRow_3 3 rfl rfl)
theorem dX0_modulesInRow_75 : decode cX0_modulesInRow 75 = .ok (.goto (-71), 3) := dk_167 255 185 (dk_at dksX0_modulesInRow_3 6 rfl rfl)
theorem dX0_modulesInRow_78 : decode cX0_modulesInRow 78 = .ok (.iload_n 1, 1) := dk_27 (dk_at dksX0_modulesInRow_3 9 rfl rfl)
theorem dX0_modulesInRow_79 : decode cX0_modulesInRow 79 = .ok (.ireturn, 1) := dk_172 (dk_at dksX0_modulesInRow_3 10 rfl rfl)
abbrev cX0_isTogether : ByteArray := prog_1_method_48_code
def yX0_isTogether : MethodName := ⟨RX0, "isTogether", "(I)Z"⟩
def dkwX0_isTogether_3 : List UInt8 := [160, 0, 7, 4, 167, 0, 4, 3, 172]
abbrev dktX0_isTogether_3 : List UInt8 := dkwX0_isTogether_3 ++ []
def dkwX0_isTogether_2 : List UInt8 := [184, 0, 146, 61, 21, 4, 62, 132, 4, 1, 167, 255, 214, 29, 28, 100, 4, 96, 27, 184, 0, 53]
abbrev dktX0_isTogether_2 : List UInt8 := dkwX0_isTogether_2 ++ dktX0_isTogether_3
def dkwX0_isTogether_1 : List UInt8 := [162, 0, 36, 27, 42, 180, 0, 98, 21, 4, 182, 1, 31, 136, 184, 0, 46, 153, 0, 13, 28, 21, 4]
abbrev dktX0_isTogether_1 : List UInt8 := dkwX0_isTogether_1 ++ dktX0_isTogether_2
def dkwX0_isTogether_0 : List UInt8 := [42, 180, 0, 98, 180, 0, 129, 61, 2, 62, 3, 54, 4, 21, 4, 42, 180, 0, 98, 180, 0, 129]
abbrev dktX0_isTogether_0 : List UInt8 := dkwX0_isTogether_0 ++ dktX0_isTogether_1
theorem dksX0_isTogether_0 : cX0_isTogether.data.toList.drop 0 = dktX0_isTogether_0 := by decide +kernel
theorem dksX0_isTogether_1 : cX0_isTogether.data.toList.drop 22 = dktX0_isTogether_1 := dk_seg dksX0_isTogether_0 22 rfl rfl
theorem dksX0_isTogether_2 : cX0_isTogether.data.toList.drop 45 = dktX0_isTogether_2 := dk_seg dksX0_isTogether_1 23 rfl rfl
theorem dksX0_isTogether_3 : cX0_isTogether.data.toList.drop 67 = dktX0_isTogether_3 := dk_seg dksX0_isTogether_2 22 rfl rfl
theorem dX0_isTogether_0 : decode cX0_isTogether 0 = .ok (.aload_n 0, 1) := dk_42 (dk_at dksX0_isTogether_0 0 rfl rfl)
theorem dX0_isTogether_1 : decode cX0_isTogether 1 = .ok (.getfield 98, 3) := dk_180 0 98 (dk_at dksX0_isTogether_0 1 rfl rfl)
theorem dX0_isTogether_4 : decode cX0_isTogether 4 = .ok (.getfield 129, 3) := dk_180 0 129 (dk_at dksX0_isTogether_0 4 rfl rfl)
theorem dX0_isTogether_7 : decode cX0_isTogether 7 = .ok (.istore_n 2, 1) := dk_61 (dk_at dksX0_isTogether_0 7 rfl rfl)
theorem dX0_isTogether_8 : decode cX0_isTogether 8 = .ok (.iconst (-1), 1) := dk_2 (dk_at dksX0_isTogether_0 8 rfl rfl)
theorem dX0_isTogether_9 : decode cX0_isTogether 9 = .ok (.istore_n 3, 1) := dk_62 (dk_at dksX0_isTogether_0 9 rfl rfl)
theorem dX0_isTogether_10 : decode cX0_isTogether 10 = .ok (.iconst 0, 1) := dk_3 (dk_at dksX0_isTogether_0 10 rfl rfl)
theorem dX0_isTogether_11 : decode cX0_isTogether 11 = .ok (.istore 4, 2) := dk_54 4 (dk_at dksX0_isTogether_0 11 rfl rfl)
theorem dX0_isTogether_13 : decode cX0_isTogether 13 = .ok (.iload 4, 2) := dk_21 4 (dk_at dksX0_isTogether_0 13 rfl rfl)
theorem dX0_isTogether_15 : decode cX0_isTogether 15 = .ok (.aload_n 0, 1) := dk_42 (dk_at dksX0_isTogether_0 15 rfl rfl)
theorem dX0_isTogether_16 : decode cX0_isTogether 16 = .ok (.getfield 98, 3) := dk_180 0 98 (dk_at dksX0_isTogether_0 16 rfl rfl)
theorem dX0_isTogether_19 : decode cX0_isTogether 19 = .ok (.getfield 129, 3) := dk_180 0 129 (dk_at dksX0_isTogether_0 19 rfl rfl)
theorem dX0_isTogether_22 : decode cX0_isTogether 22 = .ok (.if_icmp .ge 36, 3) := dk_162 0 36 (dk_at dksX0_isTogether_1 0 rfl rfl)
theorem dX0_isTogether_25 : decode cX0_isTogether 25 = .ok (.iload_n 1, 1) := dk_27 (dk_at dksX0_isTogether_1 3 rfl rfl)
theorem dX0_isTogether_26 : decode cX0_isTogether 26 = .ok (.aload_n 0, 1) := dk_42 (dk_at dksX0_isTogether_1 4 rfl rfl)
theorem dX0_isTogether_27 : decode cX0_isTogether 27 = .ok (.getfield 98, 3) := dk_180 0 98 (dk_at dksX0_isTogether_1 5 rfl rfl)
theorem dX0_isTogether_30 : decode cX0_isTogether 30 = .ok (.iload 4, 2) := dk_21 4 (dk_at dksX0_isTogether_1 8 rfl rfl)
theorem dX0_isTogether_32 : decode cX0_isTogether 32 = .ok (.invokevirtual 287, 3) := dk_182 1 31 (dk_at dksX0_isTogether_1 10 rfl rfl)
theorem dX0_isTogether_35 : decode cX0_isTogether 35 = .ok (.l2i, 1) := dk_136 (dk_at dksX0_isTogether_1 13 rfl rfl)
theorem dX0_isTogether_36 : decode cX0_isTogether 36 = .ok (.invokestatic 46, 3) := dk_184 0 46 (dk_at dksX0_isTogether_1 14 rfl rfl)
theorem dX0_isTogether_39 : decode cX0_isTogether 39 = .ok (.ifCond .eq 13, 3) := dk_153 0 13 (dk_at dksX0_isTogether_1 17 rfl rfl)
theorem dX0_isTogether_42 : decode cX0_isTogether 42 = .ok (.iload_n 2, 1) := dk_28 (dk_at dksX0_isTogether_1 20 rfl rfl)
theorem dX0_isTogether_43 : decode cX0_isTogether 43 = .ok (.iload 4, 2) := dk_21 4 (dk_at dksX0_isTogether_1 21 rfl rfl)
theorem dX0_isTogether_45 : decode cX0_isTogether 45 = .ok (.invokestatic 146, 3) := dk_184 0 146 (dk_at dksX0_isTogether_2 0 rfl rfl)
theorem dX0_isTogether_48 : decode cX0_isTogether 48 = .ok (.istore_n 2, 1) := dk_61 (dk_at dksX0_isTogether_2 3 rfl rfl)
theorem dX0_isTogether_49 : decode cX0_isTogether 49 = .ok (.iload 4, 2) := dk_21 4 (dk_at dksX0_isTogether_2 4 rfl rfl)
theorem dX0_isTogether_51 : decode cX0_isTogether 51 = .ok (.istore_n 3, 1) := dk_62 (dk_at dksX0_isTogether_2 6 rfl rfl)
theorem dX0_isTogether_52 : decode cX0_isTogether 52 = .ok (.iinc 4 1, 3) := dk_132 4 1 (dk_at dksX0_isTogether_2 7 rfl rfl)
theorem dX0_isTogether_55 : decode cX0_isTogether 55 = .ok (.goto (-42), 3) := dk_167 255 214 (dk_at dksX0_isTogether_2 10 rfl rfl)
theorem dX0_isTogether_58 : decode cX0_isTogether 58 = .ok (.iload_n 3, 1) := dk_29 (dk_at dksX0_isTogether_2 13 rfl rfl)
theorem dX0_isTogether_59 : decode cX0_isTogether 59 = .ok (.iload_n 2, 1) := dk_28 (dk_at dksX0_isTogether_2 14 rfl rfl)
theorem dX0_isTogether_60 : decode cX0_isTogether 60 = .ok (.isub, 1) := dk_100 (dk_at dksX0_isTogether_2 15 rfl rfl)
theorem dX0_isTogether_61 : decode cX0_isTogether 61 = .ok (.iconst 1, 1) := dk_4 (dk_at dksX0_isTogether_2 16 rfl rfl)
theorem dX0_isTogether_62 : decode cX0_isTogether 62 = .ok (.iadd, 1) := dk_96 (dk_at dksX0_isTogether_2 17 rfl rfl)
theorem dX0_isTogether_63 : decode cX0_isTogether 63 = .ok (.iload_n 1, 1) := dk_27 (dk_at dksX0_isTogether_2 18 rfl rfl)
theorem dX0_isTogether_64 : decode cX0_isTogether 64 = .ok (.invokestatic 53, 3) := dk_184 0 53 (dk_at dksX0_isTogether_2 19 rfl rfl)
theorem dX0_isTogether_67 : decode cX0_isTogether 67 = .ok (.if_icmp .ne 7, 3) := dk_160 0 7 (dk_at dksX0_isTogether_3 0 rfl rfl)
theorem dX0_isTogether_70 : decode cX0_isTogether 70 = .ok (.iconst 1, 1) := dk_4 (dk_at dksX0_isTogether_3 3 rfl rfl)
theorem dX0_isTogether_71 : decode cX0_isTogether 71 = .ok (.goto 4, 3) := dk_167 0 4 (dk_at dksX0_isTogether_3 4 rfl rfl)
theorem dX0_isTogether_74 : decode cX0_isTogether 74 = .ok (.iconst 0, 1) := dk_3 (dk_at dksX0_isTogether_3 7 rfl rfl)
theorem dX0_isTogether_75 : decode cX0_isTogether 75 = .ok (.ireturn, 1) := dk_172 (dk_at dksX0_isTogether_3 8 rfl rfl)
abbrev cX0_treeRow : ByteArray := prog_1_method_51_code
def yX0_treeRow : MethodName := ⟨RX0, "treeRow", "(I)I"⟩
def dkwX0_treeRow_1 : List UInt8 := [27, 182, 1, 31, 136, 167, 0, 5, 16, 252, 172]
abbrev dktX0_treeRow_1 : List UInt8 := dkwX0_treeRow_1 ++ []
def dkwX0_treeRow_0 : List UInt8 := [27, 156, 0, 5, 2, 172, 27, 42, 180, 0, 106, 180, 0, 42, 162, 0, 18, 42, 182, 0, 205, 180, 1, 70]
abbrev dktX0_treeRow_0 : List UInt8 := dkwX0_treeRow_0 ++ dktX0_treeRow_1
theorem dksX0_treeRow_0 : cX0_treeRow.data.toList.drop 0 = dktX0_treeRow_0 := by decide +kernel
theorem dksX0_treeRow_1 : cX0_treeRow.data.toList.drop 24 = dktX0_treeRow_1 := dk_seg dksX0_treeRow_0 24 rfl rfl
theorem dX0_treeRow_0 : decode cX0_treeRow 0 = .ok (.iload_n 1, 1) := dk_27 (dk_at dksX0_treeRow_0 0 rfl rfl)
theorem dX0_treeRow_1 : decode cX0_treeRow 1 = .ok (.ifCond .ge 5, 3) := dk_156 0 5 (dk_at dksX0_treeRow_0 1 rfl rfl)
theorem dX0_treeRow_4 : decode cX0_treeRow 4 = .ok (.iconst (-1), 1) := dk_2 (dk_at dksX0_treeRow_0 4 rfl rfl)
theorem dX0_treeRow_5 : decode cX0_treeRow 5 = .ok (.ireturn, 1) := dk_172 (dk_at dksX0_treeRow_0 5 rfl rfl)
theorem dX0_treeRow_6 : decode cX0_treeRow 6 = .ok (.iload_n 1, 1) := dk_27 (dk_at dksX0_treeRow_0 6 rfl rfl)
theorem dX0_treeRow_7 : decode cX0_treeRow 7 = .ok (.aload_n 0, 1) := dk_42 (dk_at dksX0_treeRow_0 7 rfl rfl)
theorem dX0_treeRow_8 : decode cX0_treeRow 8 = .ok (.getfield 106, 3) := dk_180 0 106 (dk_at dksX0_treeRow_0 8 rfl rfl)
theorem dX0_treeRow_11 : decode cX0_treeRow 11 = .ok (.getfield 42, 3) := dk_180 0 42 (dk_at dksX0_treeRow_0 11 rfl rfl)
theorem dX0_treeRow_14 : decode cX0_treeRow 14 = .ok (.if_icmp .ge 18, 3) := dk_162 0 18 (dk_at dksX0_treeRow_0 14 rfl rfl)
theorem dX0_treeRow_17 : decode cX0_treeRow 17 = .ok (.aload_n 0, 1) := dk_42 (dk_at dksX0_treeRow_0 17 rfl rfl)
theorem dX0_treeRow_18 : decode cX0_treeRow 18 = .ok (.invokevirtual 205, 3) := dk_182 0 205 (dk_at dksX0_treeRow_0 18 rfl rfl)
theorem dX0_treeRow_21 : decode cX0_treeRow 21 = .ok (.getfield 326, 3) := dk_180 1 70 (dk_at dksX0_treeRow_0 21 rfl rfl)
theorem dX0_treeRow_24 : decode cX0_treeRow 24 = .ok (.iload_n 1, 1) := dk_27 (dk_at dksX0_treeRow_1 0 rfl rfl)
theorem dX0_treeRow_25 : decode cX0_treeRow 25 = .ok (.invokevirtual 287, 3) := dk_182 1 31 (dk_at dksX0_treeRow_1 1 rfl rfl)
theorem dX0_treeRow_28 : decode cX0_treeRow 28 = .ok (.l2i, 1) := dk_136 (dk_at dksX0_treeRow_1 4 rfl rfl)
theorem dX0_treeRow_29 : decode cX0_treeRow 29 = .ok (.goto 5, 3) := dk_167 0 5 (dk_at dksX0_treeRow_1 5 rfl rfl)
theorem dX0_treeRow_32 : decode cX0_treeRow 32 = .ok (.bipush (-4), 2) := dk_16 252 (dk_at dksX0_treeRow_1 8 rfl rfl)
theorem dX0_treeRow_34 : decode cX0_treeRow 34 = .ok (.ireturn, 1) := dk_172 (dk_at dksX0_treeRow_1 10 rfl rfl)
abbrev cX0_rows : ByteArray := prog_1_method_52_code
def yX0_rows : MethodName := ⟨RX0, "rows", "()I"⟩
def dkwX0_rows_0 : List UInt8 := [42, 182, 0, 205, 182, 1, 73, 172]
abbrev dktX0_rows_0 : List UInt8 := dkwX0_rows_0 ++ []
theorem dksX0_rows_0 : cX0_rows.data.toList.drop 0 = dktX0_rows_0 := by decide +kernel
theorem dX0_rows_0 : decode cX0_rows 0 = .ok (.aload_n 0, 1) := dk_42 (dk_at dksX0_rows_0 0 rfl rfl)
theorem dX0_rows_1 : decode cX0_rows 1 = .ok (.invokevirtual 205, 3) := dk_182 0 205 (dk_at dksX0_rows_0 1 rfl rfl)
theorem dX0_rows_4 : decode cX0_rows 4 = .ok (.invokevirtual 329, 3) := dk_182 1 73 (dk_at dksX0_rows_0 4 rfl rfl)
theorem dX0_rows_7 : decode cX0_rows 7 = .ok (.ireturn, 1) := dk_172 (dk_at dksX0_rows_0 7 rfl rfl)
abbrev cX0_forced : ByteArray := prog_1_method_53_code
def yX0_forced : MethodName := ⟨RX0, "forced", "(II)I"⟩
def dkwX0_forced_2 : List UInt8 := [172]
abbrev dktX0_forced_2 : List UInt8 := dkwX0_forced_2 ++ []
def dkwX0_forced_1 : List UInt8 := [187, 0, 194, 89, 183, 0, 196, 42, 180, 0, 106, 27, 28, 182, 0, 197, 180, 0, 201, 167, 0, 5, 16, 254]
abbrev dktX0_forced_1 : List UInt8 := dkwX0_forced_1 ++ dktX0_forced_2
def dkwX0_forced_0 : List UInt8 := [42, 27, 28, 182, 0, 173, 154, 0, 5, 2, 172, 42, 180, 0, 106, 27, 28, 182, 0, 152, 153, 0, 25]
abbrev dktX0_forced_0 : List UInt8 := dkwX0_forced_0 ++ dktX0_forced_1
theorem dksX0_forced_0 : cX0_forced.data.toList.drop 0 = dktX0_forced_0 := by decide +kernel
theorem dksX0_forced_1 : cX0_forced.data.toList.drop 23 = dktX0_forced_1 := dk_seg dksX0_forced_0 23 rfl rfl
theorem dksX0_forced_2 : cX0_forced.data.toList.drop 47 = dktX0_forced_2 := dk_seg dksX0_forced_1 24 rfl rfl
theorem dX0_forced_0 : decode cX0_forced 0 = .ok (.aload_n 0, 1) := dk_42 (dk_at dksX0_forced_0 0 rfl rfl)
theorem dX0_forced_1 : decode cX0_forced 1 = .ok (.iload_n 1, 1) := dk_27 (dk_at dksX0_forced_0 1 rfl rfl)
theorem dX0_forced_2 : decode cX0_forced 2 = .ok (.iload_n 2, 1) := dk_28 (dk_at dksX0_forced_0 2 rfl rfl)
theorem dX0_forced_3 : decode cX0_forced 3 = .ok (.invokevirtual 173, 3) := dk_182 0 173 (dk_at dksX0_forced_0 3 rfl rfl)
theorem dX0_forced_6 : decode cX0_forced 6 = .ok (.ifCond .ne 5, 3) := dk_154 0 5 (dk_at dksX0_forced_0 6 rfl rfl)
theorem dX0_forced_9 : decode cX0_forced 9 = .ok (.iconst (-1), 1) := dk_2 (dk_at dksX0_forced_0 9 rfl rfl)
theorem dX0_forced_10 : decode cX0_forced 10 = .ok (.ireturn, 1) := dk_172 (dk_at dksX0_forced_0 10 rfl rfl)
theorem dX0_forced_11 : decode cX0_forced 11 = .ok (.aload_n 0, 1) := dk_42 (dk_at dksX0_forced_0 11 rfl rfl)
theorem dX0_forced_12 : decode cX0_forced 12 = .ok (.getfield 106, 3) := dk_180 0 106 (dk_at dksX0_forced_0 12 rfl rfl)
theorem dX0_forced_15 : decode cX0_forced 15 = .ok (.iload_n 1, 1) := dk_27 (dk_at dksX0_forced_0 15 rfl rfl)
theorem dX0_forced_16 : decode cX0_forced 16 = .ok (.iload_n 2, 1) := dk_28 (dk_at dksX0_forced_0 16 rfl rfl)
theorem dX0_forced_17 : decode cX0_forced 17 = .ok (.invokevirtual 152, 3) := dk_182 0 152 (dk_at dksX0_forced_0 17 rfl rfl)
theorem dX0_forced_20 : decode cX0_forced 20 = .ok (.ifCond .eq 25, 3) := dk_153 0 25 (dk_at dksX0_forced_0 20 rfl rfl)
theorem dX0_forced_23 : decode cX0_forced 23 = .ok (.new 194, 3) := dk_187 0 194 (dk_at dksX0_forced_1 0 rfl rfl)
theorem dX0_forced_26 : decode cX0_forced 26 = .ok (.dup, 1) := dk_89 (dk_at dksX0_forced_1 3 rfl rfl)
theorem dX0_forced_27 : decode cX0_forced 27 = .ok (.invokespecial 196, 3) := dk_183 0 196 (dk_at dksX0_forced_1 4 rfl rfl)
theorem dX0_forced_30 : decode cX0_forced 30 = .ok (.aload_n 0, 1) := dk_42 (dk_at dksX0_forced_1 7 rfl rfl)
theorem dX0_forced_31 : decode cX0_forced 31 = .ok (.getfield 106, 3) := dk_180 0 106 (dk_at dksX0_forced_1 8 rfl rfl)
theorem dX0_forced_34 : decode cX0_forced 34 = .ok (.iload_n 1, 1) := dk_27 (dk_at dksX0_forced_1 11 rfl rfl)
theorem dX0_forced_35 : decode cX0_forced 35 = .ok (.iload_n 2, 1) := dk_28 (dk_at dksX0_forced_1 12 rfl rfl)
theorem dX0_forced_36 : decode cX0_forced 36 = .ok (.invokevirtual 197, 3) := dk_182 0 197 (dk_at dksX0_forced_1 13 rfl rfl)
theorem dX0_forced_39 : decode cX0_forced 39 = .ok (.getfield 201, 3) := dk_180 0 201 (dk_at dksX0_forced_1 16 rfl rfl)
theorem dX0_forced_42 : decode cX0_forced 42 = .ok (.goto 5, 3) := dk_167 0 5 (dk_at dksX0_forced_1 19 rfl rfl)
theorem dX0_forced_45 : decode cX0_forced 45 = .ok (.bipush (-2), 2) := dk_16 254 (dk_at dksX0_forced_1 22 rfl rfl)
theorem dX0_forced_47 : decode cX0_forced 47 = .ok (.ireturn, 1) := dk_172 (dk_at dksX0_forced_2 0 rfl rfl)
abbrev cX0_firstForced : ByteArray := prog_1_method_54_code
def yX0_firstForced : MethodName := ⟨RX0, "firstForced", "(II)I"⟩
def dkwX0_firstForced_2 : List UInt8 := [172]
abbrev dktX0_firstForced_2 : List UInt8 := dkwX0_firstForced_2 ++ []
def dkwX0_firstForced_1 : List UInt8 := [187, 0, 194, 89, 183, 0, 196, 42, 180, 0, 106, 27, 28, 182, 0, 197, 182, 1, 76, 167, 0, 5, 16, 254]
abbrev dktX0_firstForced_1 : List UInt8 := dkwX0_firstForced_1 ++ dktX0_firstForced_2
def dkwX0_firstForced_0 : List UInt8 := [42, 27, 28, 182, 0, 173, 154, 0, 5, 2, 172, 42, 180, 0, 106, 27, 28, 182, 0, 152, 153, 0, 25]
abbrev dktX0_firstForced_0 : List UInt8 := dkwX0_firstForced_0 ++ dktX0_firstForced_1
theorem dksX0_firstForced_0 : cX0_firstForced.data.toList.drop 0 = dktX0_firstForced_0 := by decide +kernel
theorem dksX0_firstForced_1 : cX0_firstForced.data.toList.drop 23 = dktX0_firstForced_1 := dk_seg dksX0_firstForced_0 23 rfl rfl
theorem dksX0_firstForced_2 : cX0_firstForced.data.toList.drop 47 = dktX0_firstForced_2 := dk_seg dksX0_firstForced_1 24 rfl rfl
theorem dX0_firstForced_0 : decode cX0_firstForced 0 = .ok (.aload_n 0, 1) := dk_42 (dk_at dksX0_firstForced_0 0 rfl rfl)
theorem dX0_firstForced_1 : decode cX0_firstForced 1 = .ok (.iload_n 1, 1) := dk_27 (dk_at dksX0_firstForced_0 1 rfl rfl)
theorem dX0_firstForced_2 : decode cX0_firstForced 2 = .ok (.iload_n 2, 1) := dk_28 (dk_at dksX0_firstForced_0 2 rfl rfl)
theorem dX0_firstForced_3 : decode cX0_firstForced 3 = .ok (.invokevirtual 173, 3) := dk_182 0 173 (dk_at dksX0_firstForced_0 3 rfl rfl)
theorem dX0_firstForced_6 : decode cX0_firstForced 6 = .ok (.ifCond .ne 5, 3) := dk_154 0 5 (dk_at dksX0_firstForced_0 6 rfl rfl)
theorem dX0_firstForced_9 : decode cX0_firstForced 9 = .ok (.iconst (-1), 1) := dk_2 (dk_at dksX0_firstForced_0 9 rfl rfl)
theorem dX0_firstForced_10 : decode cX0_firstForced 10 = .ok (.ireturn, 1) := dk_172 (dk_at dksX0_firstForced_0 10 rfl rfl)
theorem dX0_firstForced_11 : decode cX0_firstForced 11 = .ok (.aload_n 0, 1) := dk_42 (dk_at dksX0_firstForced_0 11 rfl rfl)
theorem dX0_firstForced_12 : decode cX0_firstForced 12 = .ok (.getfield 106, 3) := dk_180 0 106 (dk_at dksX0_firstForced_0 12 rfl rfl)
theorem dX0_firstForced_15 : decode cX0_firstForced 15 = .ok (.iload_n 1, 1) := dk_27 (dk_at dksX0_firstForced_0 15 rfl rfl)
theorem dX0_firstForced_16 : decode cX0_firstForced 16 = .ok (.iload_n 2, 1) := dk_28 (dk_at dksX0_firstForced_0 16 rfl rfl)
theorem dX0_firstForced_17 : decode cX0_firstForced 17 = .ok (.invokevirtual 152, 3) := dk_182 0 152 (dk_at dksX0_firstForced_0 17 rfl rfl)
theorem dX0_firstForced_20 : decode cX0_firstForced 20 = .ok (.ifCond .eq 25, 3) := dk_153 0 25 (dk_at dksX0_firstForced_0 20 rfl rfl)
theorem dX0_firstForced_23 : decode cX0_firstForced 23 = .ok (.new 194, 3) := dk_187 0 194 (dk_at dksX0_firstForced_1 0 rfl rfl)
theorem dX0_firstForced_26 : decode cX0_firstForced 26 = .ok (.dup, 1) := dk_89 (dk_at dksX0_firstForced_1 3 rfl rfl)
theorem dX0_firstForced_27 : decode cX0_firstForced 27 = .ok (.invokespecial 196, 3) := dk_183 0 196 (dk_at dksX0_firstForced_1 4 rfl rfl)
theorem dX0_firstForced_30 : decode cX0_firstForced 30 = .ok (.aload_n 0, 1) := dk_42 (dk_at dksX0_firstForced_1 7 rfl rfl)
theorem dX0_firstForced_31 : decode cX0_firstForced 31 = .ok (.getfield 106, 3) := dk_180 0 106 (dk_at dksX0_firstForced_1 8 rfl rfl)
theorem dX0_firstForced_34 : decode cX0_firstForced 34 = .ok (.iload_n 1, 1) := dk_27 (dk_at dksX0_firstForced_1 11 rfl rfl)
theorem dX0_firstForced_35 : decode cX0_firstForced 35 = .ok (.iload_n 2, 1) := dk_28 (dk_at dksX0_firstForced_1 12 rfl rfl)
theorem dX0_firstForced_36 : decode cX0_firstForced 36 = .ok (.invokevirtual 197, 3) := dk_182 0 197 (dk_at dksX0_firstForced_1 13 rfl rfl)
theorem dX0_firstForced_39 : decode cX0_firstForced 39 = .ok (.invokevirtual 332, 3) := dk_182 1 76 (dk_at dksX0_firstForced_1 16 rfl rfl)
theorem dX0_firstForced_42 : decode cX0_firstForced 42 = .ok (.goto 5, 3) := dk_167 0 5 (dk_at dksX0_firstForced_1 19 rfl rfl)
theorem dX0_firstForced_45 : decode cX0_firstForced 45 = .ok (.bipush (-2), 2) := dk_16 254 (dk_at dksX0_firstForced_1 22 rfl rfl)
theorem dX0_firstForced_47 : decode cX0_firstForced 47 = .ok (.ireturn, 1) := dk_172 (dk_at dksX0_firstForced_2 0 rfl rfl)
abbrev cX0_steps : ByteArray := prog_1_method_55_code
def yX0_steps : MethodName := ⟨RX0, "steps", "()I"⟩
def dkwX0_steps_0 : List UInt8 := [42, 182, 1, 79, 180, 1, 82, 153, 0, 13, 42, 182, 1, 79, 180, 1, 86, 167, 0, 5, 16, 254, 172]
abbrev dktX0_steps_0 : List UInt8 := dkwX0_steps_0 ++ []
theorem dksX0_steps_0 : cX0_steps.data.toList.drop 0 = dktX0_steps_0 := by decide +kernel
theorem dX0_steps_0 : decode cX0_steps 0 = .ok (.aload_n 0, 1) := dk_42 (dk_at dksX0_steps_0 0 rfl rfl)
theorem dX0_steps_1 : decode cX0_steps 1 = .ok (.invokevirtual 335, 3) := dk_182 1 79 (dk_at dksX0_steps_0 1 rfl rfl)
theorem dX0_steps_4 : decode cX0_steps 4 = .ok (.getfield 338, 3) := dk_180 1 82 (dk_at dksX0_steps_0 4 rfl rfl)
theorem dX0_steps_7 : decode cX0_steps 7 = .ok (.ifCond .eq 13, 3) := dk_153 0 13 (dk_at dksX0_steps_0 7 rfl rfl)
theorem dX0_steps_10 : decode cX0_steps 10 = .ok (.aload_n 0, 1) := dk_42 (dk_at dksX0_steps_0 10 rfl rfl)
theorem dX0_steps_11 : decode cX0_steps 11 = .ok (.invokevirtual 335, 3) := dk_182 1 79 (dk_at dksX0_steps_0 11 rfl rfl)
theorem dX0_steps_14 : decode cX0_steps 14 = .ok (.getfield 342, 3) := dk_180 1 86 (dk_at dksX0_steps_0 14 rfl rfl)
theorem dX0_steps_17 : decode cX0_steps 17 = .ok (.goto 5, 3) := dk_167 0 5 (dk_at dksX0_steps_0 17 rfl rfl)
theorem dX0_steps_20 : decode cX0_steps 20 = .ok (.bipush (-2), 2) := dk_16 254 (dk_at dksX0_steps_0 20 rfl rfl)
theorem dX0_steps_22 : decode cX0_steps 22 = .ok (.ireturn, 1) := dk_172 (dk_at dksX0_steps_0 22 rfl rfl)
abbrev cX0_orientation : ByteArray := prog_1_method_11_code
def yX0_orientation : MethodName := ⟨RX0, "orientation", "()LGraphModules$Orientation;"⟩
def dkwX0_orientation_1 : List UInt8 := [180, 0, 119, 176]
abbrev dktX0_orientation_1 : List UInt8 := dkwX0_orientation_1 ++ []
def dkwX0_orientation_0 : List UInt8 := [42, 180, 0, 119, 199, 0, 18, 42, 187, 0, 123, 89, 42, 180, 0, 106, 183, 0, 125, 181, 0, 119, 42]
abbrev dktX0_orientation_0 : List UInt8 := dkwX0_orientation_0 ++ dktX0_orientation_1
theorem dksX0_orientation_0 : cX0_orientation.data.toList.drop 0 = dktX0_orientation_0 := by decide +kernel
theorem dksX0_orientation_1 : cX0_orientation.data.toList.drop 23 = dktX0_orientation_1 := dk_seg dksX0_orientation_0 23 rfl rfl
theorem dX0_orientation_0 : decode cX0_orientation 0 = .ok (.aload_n 0, 1) := dk_42 (dk_at dksX0_orientation_0 0 rfl rfl)
theorem dX0_orientation_1 : decode cX0_orientation 1 = .ok (.getfield 119, 3) := dk_180 0 119 (dk_at dksX0_orientation_0 1 rfl rfl)
theorem dX0_orientation_4 : decode cX0_orientation 4 = .ok (.ifnonnull 18, 3) := dk_199 0 18 (dk_at dksX0_orientation_0 4 rfl rfl)
theorem dX0_orientation_7 : decode cX0_orientation 7 = .ok (.aload_n 0, 1) := dk_42 (dk_at dksX0_orientation_0 7 rfl rfl)
theorem dX0_orientation_8 : decode cX0_orientation 8 = .ok (.new 123, 3) := dk_187 0 123 (dk_at dksX0_orientation_0 8 rfl rfl)
theorem dX0_orientation_11 : decode cX0_orientation 11 = .ok (.dup, 1) := dk_89 (dk_at dksX0_orientation_0 11 rfl rfl)
theorem dX0_orientation_12 : decode cX0_orientation 12 = .ok (.aload_n 0, 1) := dk_42 (dk_at dksX0_orientation_0 12 rfl rfl)
theorem dX0_orientation_13 : decode cX0_orientation 13 = .ok (.getfield 106, 3) := dk_180 0 106 (dk_at dksX0_orientation_0 13 rfl rfl)
theorem dX0_orientation_16 : decode cX0_orientation 16 = .ok (.invokespecial 125, 3) := dk_183 0 125 (dk_at dksX0_orientation_0 16 rfl rfl)
theorem dX0_orientation_19 : decode cX0_orientation 19 = .ok (.putfield 119, 3) := dk_181 0 119 (dk_at dksX0_orientation_0 19 rfl rfl)
theorem dX0_orientation_22 : decode cX0_orientation 22 = .ok (.aload_n 0, 1) := dk_42 (dk_at dksX0_orientation_0 22 rfl rfl)
theorem dX0_orientation_23 : decode cX0_orientation 23 = .ok (.getfield 119, 3) := dk_180 0 119 (dk_at dksX0_orientation_1 0 rfl rfl)
theorem dX0_orientation_26 : decode cX0_orientation 26 = .ok (.areturn, 1) := dk_176 (dk_at dksX0_orientation_1 3 rfl rfl)
abbrev cX0_directed : ByteArray := prog_1_method_56_code
def yX0_directed : MethodName := ⟨RX0, "directed", "(II)I"⟩
def dkwX0_directed_2 : List UInt8 := [167, 0, 5, 16, 254, 172]
abbrev dktX0_directed_2 : List UInt8 := dkwX0_directed_2 ++ []
def dkwX0_directed_1 : List UInt8 := [182, 1, 79, 180, 1, 82, 153, 0, 20, 42, 182, 1, 79, 180, 1, 89, 16, 10, 27, 104, 28, 96, 46]
abbrev dktX0_directed_1 : List UInt8 := dkwX0_directed_1 ++ dktX0_directed_2
def dkwX0_directed_0 : List UInt8 := [42, 27, 28, 182, 0, 173, 154, 0, 5, 2, 172, 42, 180, 0, 106, 27, 28, 182, 0, 152, 153, 0, 30, 42]
abbrev dktX0_directed_0 : List UInt8 := dkwX0_directed_0 ++ dktX0_directed_1
theorem dksX0_directed_0 : cX0_directed.data.toList.drop 0 = dktX0_directed_0 := by decide +kernel
theorem dksX0_directed_1 : cX0_directed.data.toList.drop 24 = dktX0_directed_1 := dk_seg dksX0_directed_0 24 rfl rfl
theorem dksX0_directed_2 : cX0_directed.data.toList.drop 47 = dktX0_directed_2 := dk_seg dksX0_directed_1 23 rfl rfl
theorem dX0_directed_0 : decode cX0_directed 0 = .ok (.aload_n 0, 1) := dk_42 (dk_at dksX0_directed_0 0 rfl rfl)
theorem dX0_directed_1 : decode cX0_directed 1 = .ok (.iload_n 1, 1) := dk_27 (dk_at dksX0_directed_0 1 rfl rfl)
theorem dX0_directed_2 : decode cX0_directed 2 = .ok (.iload_n 2, 1) := dk_28 (dk_at dksX0_directed_0 2 rfl rfl)
theorem dX0_directed_3 : decode cX0_directed 3 = .ok (.invokevirtual 173, 3) := dk_182 0 173 (dk_at dksX0_directed_0 3 rfl rfl)
theorem dX0_directed_6 : decode cX0_directed 6 = .ok (.ifCond .ne 5, 3) := dk_154 0 5 (dk_at dksX0_directed_0 6 rfl rfl)
theorem dX0_directed_9 : decode cX0_directed 9 = .ok (.iconst (-1), 1) := dk_2 (dk_at dksX0_directed_0 9 rfl rfl)
theorem dX0_directed_10 : decode cX0_directed 10 = .ok (.ireturn, 1) := dk_172 (dk_at dksX0_directed_0 10 rfl rfl)
theorem dX0_directed_11 : decode cX0_directed 11 = .ok (.aload_n 0, 1) := dk_42 (dk_at dksX0_directed_0 11 rfl rfl)
theorem dX0_directed_12 : decode cX0_directed 12 = .ok (.getfield 106, 3) := dk_180 0 106 (dk_at dksX0_directed_0 12 rfl rfl)
theorem dX0_directed_15 : decode cX0_directed 15 = .ok (.iload_n 1, 1) := dk_27 (dk_at dksX0_directed_0 15 rfl rfl)
theorem dX0_directed_16 : decode cX0_directed 16 = .ok (.iload_n 2, 1) := dk_28 (dk_at dksX0_directed_0 16 rfl rfl)
theorem dX0_directed_17 : decode cX0_directed 17 = .ok (.invokevirtual 152, 3) := dk_182 0 152 (dk_at dksX0_directed_0 17 rfl rfl)
theorem dX0_directed_20 : decode cX0_directed 20 = .ok (.ifCond .eq 30, 3) := dk_153 0 30 (dk_at dksX0_directed_0 20 rfl rfl)
theorem dX0_directed_23 : decode cX0_directed 23 = .ok (.aload_n 0, 1) := dk_42 (dk_at dksX0_directed_0 23 rfl rfl)
theorem dX0_directed_24 : decode cX0_directed 24 = .ok (.invokevirtual 335, 3) := dk_182 1 79 (dk_at dksX0_directed_1 0 rfl rfl)
theorem dX0_directed_27 : decode cX0_directed 27 = .ok (.getfield 338, 3) := dk_180 1 82 (dk_at dksX0_directed_1 3 rfl rfl)
theorem dX0_directed_30 : decode cX0_directed 30 = .ok (.ifCond .eq 20, 3) := dk_153 0 20 (dk_at dksX0_directed_1 6 rfl rfl)
theorem dX0_directed_33 : decode cX0_directed 33 = .ok (.aload_n 0, 1) := dk_42 (dk_at dksX0_directed_1 9 rfl rfl)
theorem dX0_directed_34 : decode cX0_directed 34 = .ok (.invokevirtual 335, 3) := dk_182 1 79 (dk_at dksX0_directed_1 10 rfl rfl)
theorem dX0_directed_37 : decode cX0_directed 37 = .ok (.getfield 345, 3) := dk_180 1 89 (dk_at dksX0_directed_1 13 rfl rfl)
theorem dX0_directed_40 : decode cX0_directed 40 = .ok (.bipush 10, 2) := dk_16 10 (dk_at dksX0_directed_1 16 rfl rfl)
theorem dX0_directed_42 : decode cX0_directed 42 = .ok (.iload_n 1, 1) := dk_27 (dk_at dksX0_directed_1 18 rfl rfl)
theorem dX0_directed_43 : decode cX0_directed 43 = .ok (.imul, 1) := dk_104 (dk_at dksX0_directed_1 19 rfl rfl)
theorem dX0_directed_44 : decode cX0_directed 44 = .ok (.iload_n 2, 1) := dk_28 (dk_at dksX0_directed_1 20 rfl rfl)
theorem dX0_directed_45 : decode cX0_directed 45 = .ok (.iadd, 1) := dk_96 (dk_at dksX0_directed_1 21 rfl rfl)
theorem dX0_directed_46 : decode cX0_directed 46 = .ok (.iaload, 1) := dk_46 (dk_at dksX0_directed_1 22 rfl rfl)
theorem dX0_directed_47 : decode cX0_directed 47 = .ok (.goto 5, 3) := dk_167 0 5 (dk_at dksX0_directed_2 0 rfl rfl)
theorem dX0_directed_50 : decode cX0_directed 50 = .ok (.bipush (-2), 2) := dk_16 254 (dk_at dksX0_directed_2 3 rfl rfl)
theorem dX0_directed_52 : decode cX0_directed 52 = .ok (.ireturn, 1) := dk_172 (dk_at dksX0_directed_2 5 rfl rfl)
abbrev cX0_inOrder : ByteArray := prog_1_method_57_code
def yX0_inOrder : MethodName := ⟨RX0, "inOrder", "(I)I"⟩
def dkwX0_inOrder_1 : List UInt8 := [180, 0, 42, 162, 0, 18, 42, 182, 1, 79, 180, 1, 92, 27, 182, 1, 31, 136, 167, 0, 5, 16, 252, 172]
abbrev dktX0_inOrder_1 : List UInt8 := dkwX0_inOrder_1 ++ []
def dkwX0_inOrder_0 : List UInt8 := [27, 156, 0, 5, 2, 172, 42, 182, 1, 79, 180, 1, 82, 154, 0, 6, 16, 254, 172, 27, 42, 180, 0, 106]
abbrev dktX0_inOrder_0 : List UInt8 := dkwX0_inOrder_0 ++ dktX0_inOrder_1
theorem dksX0_inOrder_0 : cX0_inOrder.data.toList.drop 0 = dktX0_inOrder_0 := by decide +kernel
theorem dksX0_inOrder_1 : cX0_inOrder.data.toList.drop 24 = dktX0_inOrder_1 := dk_seg dksX0_inOrder_0 24 rfl rfl
theorem dX0_inOrder_0 : decode cX0_inOrder 0 = .ok (.iload_n 1, 1) := dk_27 (dk_at dksX0_inOrder_0 0 rfl rfl)
theorem dX0_inOrder_1 : decode cX0_inOrder 1 = .ok (.ifCond .ge 5, 3) := dk_156 0 5 (dk_at dksX0_inOrder_0 1 rfl rfl)
theorem dX0_inOrder_4 : decode cX0_inOrder 4 = .ok (.iconst (-1), 1) := dk_2 (dk_at dksX0_inOrder_0 4 rfl rfl)
theorem dX0_inOrder_5 : decode cX0_inOrder 5 = .ok (.ireturn, 1) := dk_172 (dk_at dksX0_inOrder_0 5 rfl rfl)
theorem dX0_inOrder_6 : decode cX0_inOrder 6 = .ok (.aload_n 0, 1) := dk_42 (dk_at dksX0_inOrder_0 6 rfl rfl)
theorem dX0_inOrder_7 : decode cX0_inOrder 7 = .ok (.invokevirtual 335, 3) := dk_182 1 79 (dk_at dksX0_inOrder_0 7 rfl rfl)
theorem dX0_inOrder_10 : decode cX0_inOrder 10 = .ok (.getfield 338, 3) := dk_180 1 82 (dk_at dksX0_inOrder_0 10 rfl rfl)
theorem dX0_inOrder_13 : decode cX0_inOrder 13 = .ok (.ifCond .ne 6, 3) := dk_154 0 6 (dk_at dksX0_inOrder_0 13 rfl rfl)
theorem dX0_inOrder_16 : decode cX0_inOrder 16 = .ok (.bipush (-2), 2) := dk_16 254 (dk_at dksX0_inOrder_0 16 rfl rfl)
theorem dX0_inOrder_18 : decode cX0_inOrder 18 = .ok (.ireturn, 1) := dk_172 (dk_at dksX0_inOrder_0 18 rfl rfl)
theorem dX0_inOrder_19 : decode cX0_inOrder 19 = .ok (.iload_n 1, 1) := dk_27 (dk_at dksX0_inOrder_0 19 rfl rfl)
theorem dX0_inOrder_20 : decode cX0_inOrder 20 = .ok (.aload_n 0, 1) := dk_42 (dk_at dksX0_inOrder_0 20 rfl rfl)
theorem dX0_inOrder_21 : decode cX0_inOrder 21 = .ok (.getfield 106, 3) := dk_180 0 106 (dk_at dksX0_inOrder_0 21 rfl rfl)
theorem dX0_inOrder_24 : decode cX0_inOrder 24 = .ok (.getfield 42, 3) := dk_180 0 42 (dk_at dksX0_inOrder_1 0 rfl rfl)
theorem dX0_inOrder_27 : decode cX0_inOrder 27 = .ok (.if_icmp .ge 18, 3) := dk_162 0 18 (dk_at dksX0_inOrder_1 3 rfl rfl)
theorem dX0_inOrder_30 : decode cX0_inOrder 30 = .ok (.aload_n 0, 1) := dk_42 (dk_at dksX0_inOrder_1 6 rfl rfl)
theorem dX0_inOrder_31 : decode cX0_inOrder 31 = .ok (.invokevirtual 335, 3) := dk_182 1 79 (dk_at dksX0_inOrder_1 7 rfl rfl)
theorem dX0_inOrder_34 : decode cX0_inOrder 34 = .ok (.getfield 348, 3) := dk_180 1 92 (dk_at dksX0_inOrder_1 10 rfl rfl)
theorem dX0_inOrder_37 : decode cX0_inOrder 37 = .ok (.iload_n 1, 1) := dk_27 (dk_at dksX0_inOrder_1 13 rfl rfl)
theorem dX0_inOrder_38 : decode cX0_inOrder 38 = .ok (.invokevirtual 287, 3) := dk_182 1 31 (dk_at dksX0_inOrder_1 14 rfl rfl)
theorem dX0_inOrder_41 : decode cX0_inOrder 41 = .ok (.l2i, 1) := dk_136 (dk_at dksX0_inOrder_1 17 rfl rfl)
theorem dX0_inOrder_42 : decode cX0_inOrder 42 = .ok (.goto 5, 3) := dk_167 0 5 (dk_at dksX0_inOrder_1 18 rfl rfl)
theorem dX0_inOrder_45 : decode cX0_inOrder 45 = .ok (.bipush (-4), 2) := dk_16 252 (dk_at dksX0_inOrder_1 21 rfl rfl)
theorem dX0_inOrder_47 : decode cX0_inOrder 47 = .ok (.ireturn, 1) := dk_172 (dk_at dksX0_inOrder_1 23 rfl rfl)
abbrev cX0_longest : ByteArray := prog_1_method_58_code
def yX0_longest : MethodName := ⟨RX0, "longest", "()I"⟩
def dkwX0_longest_0 : List UInt8 := [42, 182, 1, 79, 180, 1, 82, 153, 0, 13, 42, 182, 1, 79, 182, 1, 95, 167, 0, 5, 16, 254, 172]
abbrev dktX0_longest_0 : List UInt8 := dkwX0_longest_0 ++ []
theorem dksX0_longest_0 : cX0_longest.data.toList.drop 0 = dktX0_longest_0 := by decide +kernel
theorem dX0_longest_0 : decode cX0_longest 0 = .ok (.aload_n 0, 1) := dk_42 (dk_at dksX0_longest_0 0 rfl rfl)
theorem dX0_longest_1 : decode cX0_longest 1 = .ok (.invokevirtual 335, 3) := dk_182 1 79 (dk_at dksX0_longest_0 1 rfl rfl)
theorem dX0_longest_4 : decode cX0_longest 4 = .ok (.getfield 338, 3) := dk_180 1 82 (dk_at dksX0_longest_0 4 rfl rfl)
theorem dX0_longest_7 : decode cX0_longest 7 = .ok (.ifCond .eq 13, 3) := dk_153 0 13 (dk_at dksX0_longest_0 7 rfl rfl)
theorem dX0_longest_10 : decode cX0_longest 10 = .ok (.aload_n 0, 1) := dk_42 (dk_at dksX0_longest_0 10 rfl rfl)
theorem dX0_longest_11 : decode cX0_longest 11 = .ok (.invokevirtual 335, 3) := dk_182 1 79 (dk_at dksX0_longest_0 11 rfl rfl)
theorem dX0_longest_14 : decode cX0_longest 14 = .ok (.invokevirtual 351, 3) := dk_182 1 95 (dk_at dksX0_longest_0 14 rfl rfl)
theorem dX0_longest_17 : decode cX0_longest 17 = .ok (.goto 5, 3) := dk_167 0 5 (dk_at dksX0_longest_0 17 rfl rfl)
theorem dX0_longest_20 : decode cX0_longest 20 = .ok (.bipush (-2), 2) := dk_16 254 (dk_at dksX0_longest_0 20 rfl rfl)
theorem dX0_longest_22 : decode cX0_longest 22 = .ok (.ireturn, 1) := dk_172 (dk_at dksX0_longest_0 22 rfl rfl)
abbrev cX0_type : ByteArray := prog_1_method_59_code
def yX0_type : MethodName := ⟨RX0, "type", "(I)I"⟩
def dkwX0_type_1 : List UInt8 := [153, 0, 13, 42, 180, 0, 94, 180, 0, 129, 167, 0, 5, 16, 253, 172]
abbrev dktX0_type_1 : List UInt8 := dkwX0_type_1 ++ []
def dkwX0_type_0 : List UInt8 := [27, 16, 32, 16, 126, 184, 0, 159, 154, 0, 5, 2, 172, 42, 180, 0, 94, 27, 133, 182, 0, 140]
abbrev dktX0_type_0 : List UInt8 := dkwX0_type_0 ++ dktX0_type_1
theorem dksX0_type_0 : cX0_type.data.toList.drop 0 = dktX0_type_0 := by decide +kernel
theorem dksX0_type_1 : cX0_type.data.toList.drop 22 = dktX0_type_1 := dk_seg dksX0_type_0 22 rfl rfl
theorem dX0_type_0 : decode cX0_type 0 = .ok (.iload_n 1, 1) := dk_27 (dk_at dksX0_type_0 0 rfl rfl)
theorem dX0_type_1 : decode cX0_type 1 = .ok (.bipush 32, 2) := dk_16 32 (dk_at dksX0_type_0 1 rfl rfl)
theorem dX0_type_3 : decode cX0_type 3 = .ok (.bipush 126, 2) := dk_16 126 (dk_at dksX0_type_0 3 rfl rfl)
theorem dX0_type_5 : decode cX0_type 5 = .ok (.invokestatic 159, 3) := dk_184 0 159 (dk_at dksX0_type_0 5 rfl rfl)
theorem dX0_type_8 : decode cX0_type 8 = .ok (.ifCond .ne 5, 3) := dk_154 0 5 (dk_at dksX0_type_0 8 rfl rfl)
theorem dX0_type_11 : decode cX0_type 11 = .ok (.iconst (-1), 1) := dk_2 (dk_at dksX0_type_0 11 rfl rfl)
theorem dX0_type_12 : decode cX0_type 12 = .ok (.ireturn, 1) := dk_172 (dk_at dksX0_type_0 12 rfl rfl)
theorem dX0_type_13 : decode cX0_type 13 = .ok (.aload_n 0, 1) := dk_42 (dk_at dksX0_type_0 13 rfl rfl)
theorem dX0_type_14 : decode cX0_type 14 = .ok (.getfield 94, 3) := dk_180 0 94 (dk_at dksX0_type_0 14 rfl rfl)
theorem dX0_type_17 : decode cX0_type 17 = .ok (.iload_n 1, 1) := dk_27 (dk_at dksX0_type_0 17 rfl rfl)
theorem dX0_type_18 : decode cX0_type 18 = .ok (.i2l, 1) := dk_133 (dk_at dksX0_type_0 18 rfl rfl)
theorem dX0_type_19 : decode cX0_type 19 = .ok (.invokevirtual 140, 3) := dk_182 0 140 (dk_at dksX0_type_0 19 rfl rfl)
theorem dX0_type_22 : decode cX0_type 22 = .ok (.ifCond .eq 13, 3) := dk_153 0 13 (dk_at dksX0_type_1 0 rfl rfl)
theorem dX0_type_25 : decode cX0_type 25 = .ok (.aload_n 0, 1) := dk_42 (dk_at dksX0_type_1 3 rfl rfl)
theorem dX0_type_26 : decode cX0_type 26 = .ok (.getfield 94, 3) := dk_180 0 94 (dk_at dksX0_type_1 4 rfl rfl)
theorem dX0_type_29 : decode cX0_type 29 = .ok (.getfield 129, 3) := dk_180 0 129 (dk_at dksX0_type_1 7 rfl rfl)
theorem dX0_type_32 : decode cX0_type 32 = .ok (.goto 5, 3) := dk_167 0 5 (dk_at dksX0_type_1 10 rfl rfl)
theorem dX0_type_35 : decode cX0_type 35 = .ok (.bipush (-3), 2) := dk_16 253 (dk_at dksX0_type_1 13 rfl rfl)
theorem dX0_type_37 : decode cX0_type 37 = .ok (.ireturn, 1) := dk_172 (dk_at dksX0_type_1 15 rfl rfl)
abbrev cX0_clearText : ByteArray := prog_1_method_60_code
def yX0_clearText : MethodName := ⟨RX0, "clearText", "()I"⟩
def dkwX0_clearText_0 : List UInt8 := [42, 180, 0, 94, 182, 0, 126, 172]
abbrev dktX0_clearText_0 : List UInt8 := dkwX0_clearText_0 ++ []
theorem dksX0_clearText_0 : cX0_clearText.data.toList.drop 0 = dktX0_clearText_0 := by decide +kernel
theorem dX0_clearText_0 : decode cX0_clearText 0 = .ok (.aload_n 0, 1) := dk_42 (dk_at dksX0_clearText_0 0 rfl rfl)
theorem dX0_clearText_1 : decode cX0_clearText 1 = .ok (.getfield 94, 3) := dk_180 0 94 (dk_at dksX0_clearText_0 1 rfl rfl)
theorem dX0_clearText_4 : decode cX0_clearText 4 = .ok (.invokevirtual 126, 3) := dk_182 0 126 (dk_at dksX0_clearText_0 4 rfl rfl)
theorem dX0_clearText_7 : decode cX0_clearText 7 = .ok (.ireturn, 1) := dk_172 (dk_at dksX0_clearText_0 7 rfl rfl)
abbrev cX0_fault : ByteArray := prog_1_method_61_code
def yX0_fault : MethodName := ⟨RX0, "fault", "(I)I"⟩
def dkwX0_fault_1 : List UInt8 := [16, 252, 172, 77, 27, 154, 0, 10, 44, 180, 1, 109, 167, 0, 7, 44, 180, 1, 111, 172]
abbrev dktX0_fault_1 : List UInt8 := dkwX0_fault_1 ++ []
def dkwX0_fault_0 : List UInt8 := [27, 3, 4, 184, 0, 159, 154, 0, 5, 2, 172, 187, 1, 98, 89, 42, 183, 1, 100, 182, 1, 103, 87]
abbrev dktX0_fault_0 : List UInt8 := dkwX0_fault_0 ++ dktX0_fault_1
theorem dksX0_fault_0 : cX0_fault.data.toList.drop 0 = dktX0_fault_0 := by decide +kernel
theorem dksX0_fault_1 : cX0_fault.data.toList.drop 23 = dktX0_fault_1 := dk_seg dksX0_fault_0 23 rfl rfl
theorem dX0_fault_0 : decode cX0_fault 0 = .ok (.iload_n 1, 1) := dk_27 (dk_at dksX0_fault_0 0 rfl rfl)
theorem dX0_fault_1 : decode cX0_fault 1 = .ok (.iconst 0, 1) := dk_3 (dk_at dksX0_fault_0 1 rfl rfl)
theorem dX0_fault_2 : decode cX0_fault 2 = .ok (.iconst 1, 1) := dk_4 (dk_at dksX0_fault_0 2 rfl rfl)
theorem dX0_fault_3 : decode cX0_fault 3 = .ok (.invokestatic 159, 3) := dk_184 0 159 (dk_at dksX0_fault_0 3 rfl rfl)
theorem dX0_fault_6 : decode cX0_fault 6 = .ok (.ifCond .ne 5, 3) := dk_154 0 5 (dk_at dksX0_fault_0 6 rfl rfl)
theorem dX0_fault_9 : decode cX0_fault 9 = .ok (.iconst (-1), 1) := dk_2 (dk_at dksX0_fault_0 9 rfl rfl)
theorem dX0_fault_10 : decode cX0_fault 10 = .ok (.ireturn, 1) := dk_172 (dk_at dksX0_fault_0 10 rfl rfl)
theorem dX0_fault_11 : decode cX0_fault 11 = .ok (.new 354, 3) := dk_187 1 98 (dk_at dksX0_fault_0 11 rfl rfl)
theorem dX0_fault_14 : decode cX0_fault 14 = .ok (.dup, 1) := dk_89 (dk_at dksX0_fault_0 14 rfl rfl)
theorem dX0_fault_15 : decode cX0_fault 15 = .ok (.aload_n 0, 1) := dk_42 (dk_at dksX0_fault_0 15 rfl rfl)
theorem dX0_fault_16 : decode cX0_fault 16 = .ok (.invokespecial 356, 3) := dk_183 1 100 (dk_at dksX0_fault_0 16 rfl rfl)
theorem dX0_fault_19 : decode cX0_fault 19 = .ok (.invokevirtual 359, 3) := dk_182 1 103 (dk_at dksX0_fault_0 19 rfl rfl)
theorem dX0_fault_22 : decode cX0_fault 22 = .ok (.pop, 1) := dk_87 (dk_at dksX0_fault_0 22 rfl rfl)
theorem dX0_fault_23 : decode cX0_fault 23 = .ok (.bipush (-4), 2) := dk_16 252 (dk_at dksX0_fault_1 0 rfl rfl)
theorem dX0_fault_25 : decode cX0_fault 25 = .ok (.ireturn, 1) := dk_172 (dk_at dksX0_fault_1 2 rfl rfl)
theorem dX0_fault_26 : decode cX0_fault 26 = .ok (.astore_n 2, 1) := dk_77 (dk_at dksX0_fault_1 3 rfl rfl)
theorem dX0_fault_27 : decode cX0_fault 27 = .ok (.iload_n 1, 1) := dk_27 (dk_at dksX0_fault_1 4 rfl rfl)
theorem dX0_fault_28 : decode cX0_fault 28 = .ok (.ifCond .ne 10, 3) := dk_154 0 10 (dk_at dksX0_fault_1 5 rfl rfl)
theorem dX0_fault_31 : decode cX0_fault 31 = .ok (.aload_n 2, 1) := dk_44 (dk_at dksX0_fault_1 8 rfl rfl)
theorem dX0_fault_32 : decode cX0_fault 32 = .ok (.getfield 365, 3) := dk_180 1 109 (dk_at dksX0_fault_1 9 rfl rfl)
theorem dX0_fault_35 : decode cX0_fault 35 = .ok (.goto 7, 3) := dk_167 0 7 (dk_at dksX0_fault_1 12 rfl rfl)
theorem dX0_fault_38 : decode cX0_fault 38 = .ok (.aload_n 2, 1) := dk_44 (dk_at dksX0_fault_1 15 rfl rfl)
theorem dX0_fault_39 : decode cX0_fault 39 = .ok (.getfield 367, 3) := dk_180 1 111 (dk_at dksX0_fault_1 16 rfl rfl)
theorem dX0_fault_42 : decode cX0_fault 42 = .ok (.ireturn, 1) := dk_172 (dk_at dksX0_fault_1 19 rfl rfl)
abbrev cX0_isAny : ByteArray := prog_1_method_4_code
def yX0_isAny : MethodName := ⟨RX0, "isAny", "(I[C)Z"⟩
def dkwX0_isAny_1 : List UInt8 := [28, 26, 21, 6, 160, 0, 7, 4, 167, 0, 4, 3, 128, 61, 132, 5, 1, 167, 255, 226, 28, 172]
abbrev dktX0_isAny_1 : List UInt8 := dkwX0_isAny_1 ++ []
def dkwX0_isAny_0 : List UInt8 := [3, 61, 43, 78, 45, 190, 54, 4, 3, 54, 5, 21, 5, 21, 4, 162, 0, 29, 45, 21, 5, 52, 54, 6]
abbrev dktX0_isAny_0 : List UInt8 := dkwX0_isAny_0 ++ dktX0_isAny_1
theorem dksX0_isAny_0 : cX0_isAny.data.toList.drop 0 = dktX0_isAny_0 := by decide +kernel
theorem dksX0_isAny_1 : cX0_isAny.data.toList.drop 24 = dktX0_isAny_1 := dk_seg dksX0_isAny_0 24 rfl rfl
theorem dX0_isAny_0 : decode cX0_isAny 0 = .ok (.iconst 0, 1) := dk_3 (dk_at dksX0_isAny_0 0 rfl rfl)
theorem dX0_isAny_1 : decode cX0_isAny 1 = .ok (.istore_n 2, 1) := dk_61 (dk_at dksX0_isAny_0 1 rfl rfl)
theorem dX0_isAny_2 : decode cX0_isAny 2 = .ok (.aload_n 1, 1) := dk_43 (dk_at dksX0_isAny_0 2 rfl rfl)
theorem dX0_isAny_3 : decode cX0_isAny 3 = .ok (.astore_n 3, 1) := dk_78 (dk_at dksX0_isAny_0 3 rfl rfl)
theorem dX0_isAny_4 : decode cX0_isAny 4 = .ok (.aload_n 3, 1) := dk_45 (dk_at dksX0_isAny_0 4 rfl rfl)
theorem dX0_isAny_5 : decode cX0_isAny 5 = .ok (.arraylength, 1) := dk_190 (dk_at dksX0_isAny_0 5 rfl rfl)
theorem dX0_isAny_6 : decode cX0_isAny 6 = .ok (.istore 4, 2) := dk_54 4 (dk_at dksX0_isAny_0 6 rfl rfl)
theorem dX0_isAny_8 : decode cX0_isAny 8 = .ok (.iconst 0, 1) := dk_3 (dk_at dksX0_isAny_0 8 rfl rfl)
theorem dX0_isAny_9 : decode cX0_isAny 9 = .ok (.istore 5, 2) := dk_54 5 (dk_at dksX0_isAny_0 9 rfl rfl)
theorem dX0_isAny_11 : decode cX0_isAny 11 = .ok (.iload 5, 2) := dk_21 5 (dk_at dksX0_isAny_0 11 rfl rfl)
theorem dX0_isAny_13 : decode cX0_isAny 13 = .ok (.iload 4, 2) := dk_21 4 (dk_at dksX0_isAny_0 13 rfl rfl)
theorem dX0_isAny_15 : decode cX0_isAny 15 = .ok (.if_icmp .ge 29, 3) := dk_162 0 29 (dk_at dksX0_isAny_0 15 rfl rfl)
theorem dX0_isAny_18 : decode cX0_isAny 18 = .ok (.aload_n 3, 1) := dk_45 (dk_at dksX0_isAny_0 18 rfl rfl)
theorem dX0_isAny_19 : decode cX0_isAny 19 = .ok (.iload 5, 2) := dk_21 5 (dk_at dksX0_isAny_0 19 rfl rfl)
theorem dX0_isAny_21 : decode cX0_isAny 21 = .ok (.caload, 1) := dk_52 (dk_at dksX0_isAny_0 21 rfl rfl)
theorem dX0_isAny_22 : decode cX0_isAny 22 = .ok (.istore 6, 2) := dk_54 6 (dk_at dksX0_isAny_0 22 rfl rfl)
theorem dX0_isAny_24 : decode cX0_isAny 24 = .ok (.iload_n 2, 1) := dk_28 (dk_at dksX0_isAny_1 0 rfl rfl)
theorem dX0_isAny_25 : decode cX0_isAny 25 = .ok (.iload_n 0, 1) := dk_26 (dk_at dksX0_isAny_1 1 rfl rfl)
theorem dX0_isAny_26 : decode cX0_isAny 26 = .ok (.iload 6, 2) := dk_21 6 (dk_at dksX0_isAny_1 2 rfl rfl)
theorem dX0_isAny_28 : decode cX0_isAny 28 = .ok (.if_icmp .ne 7, 3) := dk_160 0 7 (dk_at dksX0_isAny_1 4 rfl rfl)
theorem dX0_isAny_31 : decode cX0_isAny 31 = .ok (.iconst 1, 1) := dk_4 (dk_at dksX0_isAny_1 7 rfl rfl)
theorem dX0_isAny_32 : decode cX0_isAny 32 = .ok (.goto 4, 3) := dk_167 0 4 (dk_at dksX0_isAny_1 8 rfl rfl)
theorem dX0_isAny_35 : decode cX0_isAny 35 = .ok (.iconst 0, 1) := dk_3 (dk_at dksX0_isAny_1 11 rfl rfl)
theorem dX0_isAny_36 : decode cX0_isAny 36 = .ok (.ior, 1) := dk_128 (dk_at dksX0_isAny_1 12 rfl rfl)
theorem dX0_isAny_37 : decode cX0_isAny 37 = .ok (.istore_n 2, 1) := dk_61 (dk_at dksX0_isAny_1 13 rfl rfl)
theorem dX0_isAny_38 : decode cX0_isAny 38 = .ok (.iinc 5 1, 3) := dk_132 5 1 (dk_at dksX0_isAny_1 14 rfl rfl)
theorem dX0_isAny_41 : decode cX0_isAny 41 = .ok (.goto (-30), 3) := dk_167 255 226 (dk_at dksX0_isAny_1 17 rfl rfl)
theorem dX0_isAny_44 : decode cX0_isAny 44 = .ok (.iload_n 2, 1) := dk_28 (dk_at dksX0_isAny_1 20 rfl rfl)
theorem dX0_isAny_45 : decode cX0_isAny 45 = .ok (.ireturn, 1) := dk_172 (dk_at dksX0_isAny_1 21 rfl rfl)
abbrev cX0_load : ByteArray := prog_1_method_62_code
def yX0_load : MethodName := ⟨RX0, "load", "()I"⟩
def dkwX0_load_1 : List UInt8 := [16, 254, 172]
abbrev dktX0_load_1 : List UInt8 := dkwX0_load_1 ++ []
def dkwX0_load_0 : List UInt8 := [42, 187, 1, 98, 89, 42, 183, 1, 100, 182, 1, 103, 182, 0, 170, 42, 180, 0, 106, 180, 0, 42, 172, 76]
abbrev dktX0_load_0 : List UInt8 := dkwX0_load_0 ++ dktX0_load_1
theorem dksX0_load_0 : cX0_load.data.toList.drop 0 = dktX0_load_0 := by decide +kernel
theorem dksX0_load_1 : cX0_load.data.toList.drop 24 = dktX0_load_1 := dk_seg dksX0_load_0 24 rfl rfl
theorem dX0_load_0 : decode cX0_load 0 = .ok (.aload_n 0, 1) := dk_42 (dk_at dksX0_load_0 0 rfl rfl)
theorem dX0_load_1 : decode cX0_load 1 = .ok (.new 354, 3) := dk_187 1 98 (dk_at dksX0_load_0 1 rfl rfl)
theorem dX0_load_4 : decode cX0_load 4 = .ok (.dup, 1) := dk_89 (dk_at dksX0_load_0 4 rfl rfl)
theorem dX0_load_5 : decode cX0_load 5 = .ok (.aload_n 0, 1) := dk_42 (dk_at dksX0_load_0 5 rfl rfl)
theorem dX0_load_6 : decode cX0_load 6 = .ok (.invokespecial 356, 3) := dk_183 1 100 (dk_at dksX0_load_0 6 rfl rfl)
theorem dX0_load_9 : decode cX0_load 9 = .ok (.invokevirtual 359, 3) := dk_182 1 103 (dk_at dksX0_load_0 9 rfl rfl)
theorem dX0_load_12 : decode cX0_load 12 = .ok (.invokevirtual 170, 3) := dk_182 0 170 (dk_at dksX0_load_0 12 rfl rfl)
theorem dX0_load_15 : decode cX0_load 15 = .ok (.aload_n 0, 1) := dk_42 (dk_at dksX0_load_0 15 rfl rfl)
theorem dX0_load_16 : decode cX0_load 16 = .ok (.getfield 106, 3) := dk_180 0 106 (dk_at dksX0_load_0 16 rfl rfl)
theorem dX0_load_19 : decode cX0_load 19 = .ok (.getfield 42, 3) := dk_180 0 42 (dk_at dksX0_load_0 19 rfl rfl)
theorem dX0_load_22 : decode cX0_load 22 = .ok (.ireturn, 1) := dk_172 (dk_at dksX0_load_0 22 rfl rfl)
theorem dX0_load_23 : decode cX0_load 23 = .ok (.astore_n 1, 1) := dk_76 (dk_at dksX0_load_0 23 rfl rfl)
theorem dX0_load_24 : decode cX0_load 24 = .ok (.bipush (-2), 2) := dk_16 254 (dk_at dksX0_load_1 0 rfl rfl)
theorem dX0_load_26 : decode cX0_load 26 = .ok (.ireturn, 1) := dk_172 (dk_at dksX0_load_1 2 rfl rfl)
abbrev cX0_substitute : ByteArray := prog_1_method_66_code
def yX0_substitute : MethodName := ⟨RX0, "substitute", "(I)I"⟩
def dkwX0_substitute_2 : List UInt8 := [42, 27, 44, 182, 1, 122, 182, 0, 170, 42, 180, 0, 106, 180, 0, 42, 172, 77, 16, 254, 172]
abbrev dktX0_substitute_2 : List UInt8 := dkwX0_substitute_2 ++ []
def dkwX0_substitute_1 : List UInt8 := [180, 0, 106, 180, 0, 42, 44, 180, 0, 42, 96, 4, 100, 184, 1, 119, 2, 160, 0, 6, 16, 253, 172, 42]
abbrev dktX0_substitute_1 : List UInt8 := dkwX0_substitute_1 ++ dktX0_substitute_2
def dkwX0_substitute_0 : List UInt8 := [42, 27, 182, 0, 163, 154, 0, 5, 2, 172, 187, 1, 98, 89, 42, 183, 1, 100, 182, 1, 103, 77, 42]
abbrev dktX0_substitute_0 : List UInt8 := dkwX0_substitute_0 ++ dktX0_substitute_1
theorem dksX0_substitute_0 : cX0_substitute.data.toList.drop 0 = dktX0_substitute_0 := by decide +kernel
theorem dksX0_substitute_1 : cX0_substitute.data.toList.drop 23 = dktX0_substitute_1 := dk_seg dksX0_substitute_0 23 rfl rfl
theorem dksX0_substitute_2 : cX0_substitute.data.toList.drop 47 = dktX0_substitute_2 := dk_seg dksX0_substitute_1 24 rfl rfl
theorem dX0_substitute_0 : decode cX0_substitute 0 = .ok (.aload_n 0, 1) := dk_42 (dk_at dksX0_substitute_0 0 rfl rfl)
theorem dX0_substitute_1 : decode cX0_substitute 1 = .ok (.iload_n 1, 1) := dk_27 (dk_at dksX0_substitute_0 1 rfl rfl)
theorem dX0_substitute_2 : decode cX0_substitute 2 = .ok (.invokevirtual 163, 3) := dk_182 0 163 (dk_at dksX0_substitute_0 2 rfl rfl)
theorem dX0_substitute_5 : decode cX0_substitute 5 = .ok (.ifCond .ne 5, 3) := dk_154 0 5 (dk_at dksX0_substitute_0 5 rfl rfl)
theorem dX0_substitute_8 : decode cX0_substitute 8 = .ok (.iconst (-1), 1) := dk_2 (dk_at dksX0_substitute_0 8 rfl rfl)
theorem dX0_substitute_9 : decode cX0_substitute 9 = .ok (.ireturn, 1) := dk_172 (dk_at dksX0_substitute_0 9 rfl rfl)
theorem dX0_substitute_10 : decode cX0_substitute 10 = .ok (.new 354, 3) := dk_187 1 98 (dk_at dksX0_substitute_0 10 rfl rfl)
theorem dX0_substitute_13 : decode cX0_substitute 13 = .ok (.dup, 1) := dk_89 (dk_at dksX0_substitute_0 13 rfl rfl)
theorem dX0_substitute_14 : decode cX0_substitute 14 = .ok (.aload_n 0, 1) := dk_42 (dk_at dksX0_substitute_0 14 rfl rfl)
theorem dX0_substitute_15 : decode cX0_substitute 15 = .ok (.invokespecial 356, 3) := dk_183 1 100 (dk_at dksX0_substitute_0 15 rfl rfl)
theorem dX0_substitute_18 : decode cX0_substitute 18 = .ok (.invokevirtual 359, 3) := dk_182 1 103 (dk_at dksX0_substitute_0 18 rfl rfl)
theorem dX0_substitute_21 : decode cX0_substitute 21 = .ok (.astore_n 2, 1) := dk_77 (dk_at dksX0_substitute_0 21 rfl rfl)
theorem dX0_substitute_22 : decode cX0_substitute 22 = .ok (.aload_n 0, 1) := dk_42 (dk_at dksX0_substitute_0 22 rfl rfl)
theorem dX0_substitute_23 : decode cX0_substitute 23 = .ok (.getfield 106, 3) := dk_180 0 106 (dk_at dksX0_substitute_1 0 rfl rfl)
theorem dX0_substitute_26 : decode cX0_substitute 26 = .ok (.getfield 42, 3) := dk_180 0 42 (dk_at dksX0_substitute_1 3 rfl rfl)
theorem dX0_substitute_29 : decode cX0_substitute 29 = .ok (.aload_n 2, 1) := dk_44 (dk_at dksX0_substitute_1 6 rfl rfl)
theorem dX0_substitute_30 : decode cX0_substitute 30 = .ok (.getfield 42, 3) := dk_180 0 42 (dk_at dksX0_substitute_1 7 rfl rfl)
theorem dX0_substitute_33 : decode cX0_substitute 33 = .ok (.iadd, 1) := dk_96 (dk_at dksX0_substitute_1 10 rfl rfl)
theorem dX0_substitute_34 : decode cX0_substitute 34 = .ok (.iconst 1, 1) := dk_4 (dk_at dksX0_substitute_1 11 rfl rfl)
theorem dX0_substitute_35 : decode cX0_substitute 35 = .ok (.isub, 1) := dk_100 (dk_at dksX0_substitute_1 12 rfl rfl)
theorem dX0_substitute_36 : decode cX0_substitute 36 = .ok (.invokestatic 375, 3) := dk_184 1 119 (dk_at dksX0_substitute_1 13 rfl rfl)
theorem dX0_substitute_39 : decode cX0_substitute 39 = .ok (.iconst (-1), 1) := dk_2 (dk_at dksX0_substitute_1 16 rfl rfl)
theorem dX0_substitute_40 : decode cX0_substitute 40 = .ok (.if_icmp .ne 6, 3) := dk_160 0 6 (dk_at dksX0_substitute_1 17 rfl rfl)
theorem dX0_substitute_43 : decode cX0_substitute 43 = .ok (.bipush (-3), 2) := dk_16 253 (dk_at dksX0_substitute_1 20 rfl rfl)
theorem dX0_substitute_45 : decode cX0_substitute 45 = .ok (.ireturn, 1) := dk_172 (dk_at dksX0_substitute_1 22 rfl rfl)
theorem dX0_substitute_46 : decode cX0_substitute 46 = .ok (.aload_n 0, 1) := dk_42 (dk_at dksX0_substitute_1 23 rfl rfl)
theorem dX0_substitute_47 : decode cX0_substitute 47 = .ok (.aload_n 0, 1) := dk_42 (dk_at dksX0_substitute_2 0 rfl rfl)
theorem dX0_substitute_48 : decode cX0_substitute 48 = .ok (.iload_n 1, 1) := dk_27 (dk_at dksX0_substitute_2 1 rfl rfl)
theorem dX0_substitute_49 : decode cX0_substitute 49 = .ok (.aload_n 2, 1) := dk_44 (dk_at dksX0_substitute_2 2 rfl rfl)
theorem dX0_substitute_50 : decode cX0_substitute 50 = .ok (.invokevirtual 378, 3) := dk_182 1 122 (dk_at dksX0_substitute_2 3 rfl rfl)
theorem dX0_substitute_53 : decode cX0_substitute 53 = .ok (.invokevirtual 170, 3) := dk_182 0 170 (dk_at dksX0_substitute_2 6 rfl rfl)
theorem dX0_substitute_56 : decode cX0_substitute 56 = .ok (.aload_n 0, 1) := dk_42 (dk_at dksX0_substitute_2 9 rfl rfl)
theorem dX0_substitute_57 : decode cX0_substitute 57 = .ok (.getfield 106, 3) := dk_180 0 106 (dk_at dksX0_substitute_2 10 rfl rfl)
theorem dX0_substitute_60 : decode cX0_substitute 60 = .ok (.getfield 42, 3) := dk_180 0 42 (dk_at dksX0_substitute_2 13 rfl rfl)
theorem dX0_substitute_63 : decode cX0_substitute 63 = .ok (.ireturn, 1) := dk_172 (dk_at dksX0_substitute_2 16 rfl rfl)
theorem dX0_substitute_64 : decode cX0_substitute 64 = .ok (.astore_n 2, 1) := dk_77 (dk_at dksX0_substitute_2 17 rfl rfl)
theorem dX0_substitute_65 : decode cX0_substitute 65 = .ok (.bipush (-2), 2) := dk_16 254 (dk_at dksX0_substitute_2 18 rfl rfl)
theorem dX0_substitute_67 : decode cX0_substitute 67 = .ok (.ireturn, 1) := dk_172 (dk_at dksX0_substitute_2 20 rfl rfl)
abbrev cX0_room : ByteArray := prog_1_method_63_code
def yX0_room : MethodName := ⟨RX0, "room", "(I)I"⟩
def dkwX0_room_0 : List UInt8 := [16, 10, 26, 100, 188, 8, 190, 172, 76, 2, 172]
abbrev dktX0_room_0 : List UInt8 := dkwX0_room_0 ++ []
theorem dksX0_room_0 : cX0_room.data.toList.drop 0 = dktX0_room_0 := by decide +kernel
theorem dX0_room_0 : decode cX0_room 0 = .ok (.bipush 10, 2) := dk_16 10 (dk_at dksX0_room_0 0 rfl rfl)
theorem dX0_room_2 : decode cX0_room 2 = .ok (.iload_n 0, 1) := dk_26 (dk_at dksX0_room_0 2 rfl rfl)
theorem dX0_room_3 : decode cX0_room 3 = .ok (.isub, 1) := dk_100 (dk_at dksX0_room_0 3 rfl rfl)
theorem dX0_room_4 : decode cX0_room 4 = .ok (.newarray .byte, 2) := dk_188_8 (dk_at dksX0_room_0 4 rfl rfl)
theorem dX0_room_6 : decode cX0_room 6 = .ok (.arraylength, 1) := dk_190 (dk_at dksX0_room_0 6 rfl rfl)
theorem dX0_room_7 : decode cX0_room 7 = .ok (.ireturn, 1) := dk_172 (dk_at dksX0_room_0 7 rfl rfl)
theorem dX0_room_8 : decode cX0_room 8 = .ok (.astore_n 1, 1) := dk_76 (dk_at dksX0_room_0 8 rfl rfl)
theorem dX0_room_9 : decode cX0_room 9 = .ok (.iconst (-1), 1) := dk_2 (dk_at dksX0_room_0 9 rfl rfl)
theorem dX0_room_10 : decode cX0_room 10 = .ok (.ireturn, 1) := dk_172 (dk_at dksX0_room_0 10 rfl rfl)
abbrev cX0_substituted : ByteArray := prog_1_method_65_code
def yX0_substituted : MethodName := ⟨RX0, "substituted", "(ILGraphModules$Graph;)LGraphModules$Graph;"⟩
def dkwX0_substituted_4 : List UInt8 := [132, 4, 1, 167, 255, 180, 45, 176]
abbrev dktX0_substituted_4 : List UInt8 := dkwX0_substituted_4 ++ []
def dkwX0_substituted_3 : List UInt8 := [27, 21, 5, 182, 1, 116, 44, 21, 4, 21, 5, 182, 0, 152, 182, 0, 155, 132, 5, 1, 167, 255, 220]
abbrev dktX0_substituted_3 : List UInt8 := dkwX0_substituted_3 ++ dktX0_substituted_4
def dkwX0_substituted_2 : List UInt8 := [27, 46, 182, 0, 187, 3, 54, 5, 21, 5, 21, 4, 162, 0, 35, 45, 42, 27, 21, 4, 182, 1, 116, 42]
abbrev dktX0_substituted_2 : List UInt8 := dkwX0_substituted_2 ++ dktX0_substituted_3
def dkwX0_substituted_1 : List UInt8 := [44, 180, 0, 42, 162, 0, 73, 45, 4, 42, 27, 21, 4, 182, 1, 116, 120, 42, 180, 0, 106, 180, 0, 183]
abbrev dktX0_substituted_1 : List UInt8 := dkwX0_substituted_1 ++ dktX0_substituted_2
def dkwX0_substituted_0 : List UInt8 := [42, 42, 180, 0, 106, 180, 0, 42, 44, 180, 0, 42, 96, 4, 100, 182, 0, 176, 78, 3, 54, 4, 21, 4]
abbrev dktX0_substituted_0 : List UInt8 := dkwX0_substituted_0 ++ dktX0_substituted_1
theorem dksX0_substituted_0 : cX0_substituted.data.toList.drop 0 = dktX0_substituted_0 := by decide +kernel
theorem dksX0_substituted_1 : cX0_substituted.data.toList.drop 24 = dktX0_substituted_1 := dk_seg dksX0_substituted_0 24 rfl rfl
theorem dksX0_substituted_2 : cX0_substituted.data.toList.drop 48 = dktX0_substituted_2 := dk_seg dksX0_substituted_1 24 rfl rfl
theorem dksX0_substituted_3 : cX0_substituted.data.toList.drop 72 = dktX0_substituted_3 := dk_seg dksX0_substituted_2 24 rfl rfl
theorem dksX0_substituted_4 : cX0_substituted.data.toList.drop 95 = dktX0_substituted_4 := dk_seg dksX0_substituted_3 23 rfl rfl
theorem dX0_substituted_0 : decode cX0_substituted 0 = .ok (.aload_n 0, 1) := dk_42 (dk_at dksX0_substituted_0 0 rfl rfl)
theorem dX0_substituted_1 : decode cX0_substituted 1 = .ok (.aload_n 0, 1) := dk_42 (dk_at dksX0_substituted_0 1 rfl rfl)
theorem dX0_substituted_2 : decode cX0_substituted 2 = .ok (.getfield 106, 3) := dk_180 0 106 (dk_at dksX0_substituted_0 2 rfl rfl)
theorem dX0_substituted_5 : decode cX0_substituted 5 = .ok (.getfield 42, 3) := dk_180 0 42 (dk_at dksX0_substituted_0 5 rfl rfl)
theorem dX0_substituted_8 : decode cX0_substituted 8 = .ok (.aload_n 2, 1) := dk_44 (dk_at dksX0_substituted_0 8 rfl rfl)
theorem dX0_substituted_9 : decode cX0_substituted 9 = .ok (.getfield 42, 3) := dk_180 0 42 (dk_at dksX0_substituted_0 9 rfl rfl)
theorem dX0_substituted_12 : decode cX0_substituted 12 = .ok (.iadd, 1) := dk_96 (dk_at dksX0_substituted_0 12 rfl rfl)
theorem dX0_substituted_13 : decode cX0_substituted 13 = .ok (.iconst 1, 1) := dk_4 (dk_at dksX0_substituted_0 13 rfl rfl)
theorem dX0_substituted_14 : decode cX0_substituted 14 = .ok (.isub, 1) := dk_100 (dk_at dksX0_substituted_0 14 rfl rfl)
theorem dX0_substituted_15 : decode cX0_substituted 15 = .ok (.invokevirtual 176, 3) := dk_182 0 176 (dk_at dksX0_substituted_0 15 rfl rfl)
theorem dX0_substituted_18 : decode cX0_substituted 18 = .ok (.astore_n 3, 1) := dk_78 (dk_at dksX0_substituted_0 18 rfl rfl)
theorem dX0_substituted_19 : decode cX0_substituted 19 = .ok (.iconst 0, 1) := dk_3 (dk_at dksX0_substituted_0 19 rfl rfl)
theorem dX0_substituted_20 : decode cX0_substituted 20 = .ok (.istore 4, 2) := dk_54 4 (dk_at dksX0_substituted_0 20 rfl rfl)
theorem dX0_substituted_22 : decode cX0_substituted 22 = .ok (.iload 4, 2) := dk_21 4 (dk_at dksX0_substituted_0 22 rfl rfl)
theorem dX0_substituted_24 : decode cX0_substituted 24 = .ok (.aload_n 2, 1) := dk_44 (dk_at dksX0_substituted_1 0 rfl rfl)
theorem dX0_substituted_25 : decode cX0_substituted 25 = .ok (.getfield 42, 3) := dk_180 0 42 (dk_at dksX0_substituted_1 1 rfl rfl)
theorem dX0_substituted_28 : decode cX0_substituted 28 = .ok (.if_icmp .ge 73, 3) := dk_162 0 73 (dk_at dksX0_substituted_1 4 rfl rfl)
theorem dX0_substituted_31 : decode cX0_substituted 31 = .ok (.aload_n 3, 1) := dk_45 (dk_at dksX0_substituted_1 7 rfl rfl)
theorem dX0_substituted_32 : decode cX0_substituted 32 = .ok (.iconst 1, 1) := dk_4 (dk_at dksX0_substituted_1 8 rfl rfl)
theorem dX0_substituted_33 : decode cX0_substituted 33 = .ok (.aload_n 0, 1) := dk_42 (dk_at dksX0_substituted_1 9 rfl rfl)
theorem dX0_substituted_34 : decode cX0_substituted 34 = .ok (.iload_n 1, 1) := dk_27 (dk_at dksX0_substituted_1 10 rfl rfl)
theorem dX0_substituted_35 : decode cX0_substituted 35 = .ok (.iload 4, 2) := dk_21 4 (dk_at dksX0_substituted_1 11 rfl rfl)
theorem dX0_substituted_37 : decode cX0_substituted 37 = .ok (.invokevirtual 372, 3) := dk_182 1 116 (dk_at dksX0_substituted_1 13 rfl rfl)
theorem dX0_substituted_40 : decode cX0_substituted 40 = .ok (.ishl, 1) := dk_120 (dk_at dksX0_substituted_1 16 rfl rfl)
theorem dX0_substituted_41 : decode cX0_substituted 41 = .ok (.aload_n 0, 1) := dk_42 (dk_at dksX0_substituted_1 17 rfl rfl)
theorem dX0_substituted_42 : decode cX0_substituted 42 = .ok (.getfield 106, 3) := dk_180 0 106 (dk_at dksX0_substituted_1 18 rfl rfl)
theorem dX0_substituted_45 : decode cX0_substituted 45 = .ok (.getfield 183, 3) := dk_180 0 183 (dk_at dksX0_substituted_1 21 rfl rfl)
theorem dX0_substituted_48 : decode cX0_substituted 48 = .ok (.iload_n 1, 1) := dk_27 (dk_at dksX0_substituted_2 0 rfl rfl)
theorem dX0_substituted_49 : decode cX0_substituted 49 = .ok (.iaload, 1) := dk_46 (dk_at dksX0_substituted_2 1 rfl rfl)
theorem dX0_substituted_50 : decode cX0_substituted 50 = .ok (.invokevirtual 187, 3) := dk_182 0 187 (dk_at dksX0_substituted_2 2 rfl rfl)
theorem dX0_substituted_53 : decode cX0_substituted 53 = .ok (.iconst 0, 1) := dk_3 (dk_at dksX0_substituted_2 5 rfl rfl)
theorem dX0_substituted_54 : decode cX0_substituted 54 = .ok (.istore 5, 2) := dk_54 5 (dk_at dksX0_substituted_2 6 rfl rfl)
theorem dX0_substituted_56 : decode cX0_substituted 56 = .ok (.iload 5, 2) := dk_21 5 (dk_at dksX0_substituted_2 8 rfl rfl)
theorem dX0_substituted_58 : decode cX0_substituted 58 = .ok (.iload 4, 2) := dk_21 4 (dk_at dksX0_substituted_2 10 rfl rfl)
theorem dX0_substituted_60 : decode cX0_substituted 60 = .ok (.if_icmp .ge 35, 3) := dk_162 0 35 (dk_at dksX0_substituted_2 12 rfl rfl)
theorem dX0_substituted_63 : decode cX0_substituted 63 = .ok (.aload_n 3, 1) := dk_45 (dk_at dksX0_substituted_2 15 rfl rfl)
theorem dX0_substituted_64 : decode cX0_substituted 64 = .ok (.aload_n 0, 1) := dk_42 (dk_at dksX0_substituted_2 16 rfl rfl)
theorem dX0_substituted_65 : decode cX0_substituted 65 = .ok (.iload_n 1, 1) := dk_27 (dk_at dksX0_substituted_2 17 rfl rfl)
theorem dX0_substituted_66 : decode cX0_substituted 66 = .ok (.iload 4, 2) := dk_21 4 (dk_at dksX0_substituted_2 18 rfl rfl)
theorem dX0_substituted_68 : decode cX0_substituted 68 = .ok (.invokevirtual 372, 3) := dk_182 1 116 (dk_at dksX0_substituted_2 20 rfl rfl)
theorem dX0_substituted_71 : decode cX0_substituted 71 = .ok (.aload_n 0, 1) := dk_42 (dk_at dksX0_substituted_2 23 rfl rfl)
theorem dX0_substituted_72 : decode cX0_substituted 72 = .ok (.iload_n 1, 1) := dk_27 (dk_at dksX0_substituted_3 0 rfl rfl)
theorem dX0_substituted_73 : decode cX0_substituted 73 = .ok (.iload 5, 2) := dk_21 5 (dk_at dksX0_substituted_3 1 rfl rfl)
theorem dX0_substituted_75 : decode cX0_substituted 75 = .ok (.invokevirtual 372, 3) := dk_182 1 116 (dk_at dksX0_substituted_3 3 rfl rfl)
theorem dX0_substituted_78 : decode cX0_substituted 78 = .ok (.aload_n 2, 1) := dk_44 (dk_at dksX0_substituted_3 6 rfl rfl)
theorem dX0_substituted_79 : decode cX0_substituted 79 = .ok (.iload 4, 2) := dk_21 4 (dk_at dksX0_substituted_3 7 rfl rfl)
theorem dX0_substituted_81 : decode cX0_substituted 81 = .ok (.iload 5, 2) := dk_21 5 (dk_at dksX0_substituted_3 9 rfl rfl)
theorem dX0_substituted_83 : decode cX0_substituted 83 = .ok (.invokevirtual 152, 3) := dk_182 0 152 (dk_at dksX0_substituted_3 11 rfl rfl)
theorem dX0_substituted_86 : decode cX0_substituted 86 = .ok (.invokevirtual 155, 3) := dk_182 0 155 (dk_at dksX0_substituted_3 14 rfl rfl)
theorem dX0_substituted_89 : decode cX0_substituted 89 = .ok (.iinc 5 1, 3) := dk_132 5 1 (dk_at dksX0_substituted_3 17 rfl rfl)
theorem dX0_substituted_92 : decode cX0_substituted 92 = .ok (.goto (-36), 3) := dk_167 255 220 (dk_at dksX0_substituted_3 20 rfl rfl)
theorem dX0_substituted_95 : decode cX0_substituted 95 = .ok (.iinc 4 1, 3) := dk_132 4 1 (dk_at dksX0_substituted_4 0 rfl rfl)
theorem dX0_substituted_98 : decode cX0_substituted 98 = .ok (.goto (-76), 3) := dk_167 255 180 (dk_at dksX0_substituted_4 3 rfl rfl)
theorem dX0_substituted_101 : decode cX0_substituted 101 = .ok (.aload_n 3, 1) := dk_45 (dk_at dksX0_substituted_4 6 rfl rfl)
theorem dX0_substituted_102 : decode cX0_substituted 102 = .ok (.areturn, 1) := dk_176 (dk_at dksX0_substituted_4 7 rfl rfl)
abbrev cX0_vertexOf : ByteArray := prog_1_method_64_code
def yX0_vertexOf : MethodName := ⟨RX0, "vertexOf", "(II)I"⟩
def dkwX0_vertexOf_0 : List UInt8 := [28, 154, 0, 7, 27, 167, 0, 14, 42, 180, 0, 106, 180, 0, 42, 28, 96, 4, 100, 172]
abbrev dktX0_vertexOf_0 : List UInt8 := dkwX0_vertexOf_0 ++ []
theorem dksX0_vertexOf_0 : cX0_vertexOf.data.toList.drop 0 = dktX0_vertexOf_0 := by decide +kernel
theorem dX0_vertexOf_0 : decode cX0_vertexOf 0 = .ok (.iload_n 2, 1) := dk_28 (dk_at dksX0_vertexOf_0 0 rfl rfl)
theorem dX0_vertexOf_1 : decode cX0_vertexOf 1 = .ok (.ifCond .ne 7, 3) := dk_154 0 7 (dk_at dksX0_vertexOf_0 1 rfl rfl)
theorem dX0_vertexOf_4 : decode cX0_vertexOf 4 = .ok (.iload_n 1, 1) := dk_27 (dk_at dksX0_vertexOf_0 4 rfl rfl)
theorem dX0_vertexOf_5 : decode cX0_vertexOf 5 = .ok (.goto 14, 3) := dk_167 0 14 (dk_at dksX0_vertexOf_0 5 rfl rfl)
theorem dX0_vertexOf_8 : decode cX0_vertexOf 8 = .ok (.aload_n 0, 1) := dk_42 (dk_at dksX0_vertexOf_0 8 rfl rfl)
theorem dX0_vertexOf_9 : decode cX0_vertexOf 9 = .ok (.getfield 106, 3) := dk_180 0 106 (dk_at dksX0_vertexOf_0 9 rfl rfl)
theorem dX0_vertexOf_12 : decode cX0_vertexOf 12 = .ok (.getfield 42, 3) := dk_180 0 42 (dk_at dksX0_vertexOf_0 12 rfl rfl)
theorem dX0_vertexOf_15 : decode cX0_vertexOf 15 = .ok (.iload_n 2, 1) := dk_28 (dk_at dksX0_vertexOf_0 15 rfl rfl)
theorem dX0_vertexOf_16 : decode cX0_vertexOf 16 = .ok (.iadd, 1) := dk_96 (dk_at dksX0_vertexOf_0 16 rfl rfl)
theorem dX0_vertexOf_17 : decode cX0_vertexOf 17 = .ok (.iconst 1, 1) := dk_4 (dk_at dksX0_vertexOf_0 17 rfl rfl)
theorem dX0_vertexOf_18 : decode cX0_vertexOf 18 = .ok (.isub, 1) := dk_100 (dk_at dksX0_vertexOf_0 18 rfl rfl)
theorem dX0_vertexOf_19 : decode cX0_vertexOf 19 = .ok (.ireturn, 1) := dk_172 (dk_at dksX0_vertexOf_0 19 rfl rfl)
abbrev cX0_write : ByteArray := prog_1_method_71_code
def yX0_write : MethodName := ⟨RX0, "write", "()I"⟩
def dkwX0_write_3 : List UInt8 := [180, 0, 129, 172]
abbrev dktX0_write_3 : List UInt8 := dkwX0_write_3 ++ []
def dkwX0_write_2 : List UInt8 := [180, 0, 94, 43, 28, 182, 1, 155, 133, 182, 0, 140, 87, 132, 2, 1, 167, 255, 231, 42, 180, 0, 94]
abbrev dktX0_write_2 : List UInt8 := dkwX0_write_2 ++ dktX0_write_3
def dkwX0_write_1 : List UInt8 := [16, 254, 172, 42, 180, 0, 94, 182, 0, 126, 87, 3, 61, 28, 43, 182, 1, 152, 162, 0, 23, 42]
abbrev dktX0_write_1 : List UInt8 := dkwX0_write_1 ++ dktX0_write_2
def dkwX0_write_0 : List UInt8 := [187, 1, 127, 89, 183, 1, 151, 76, 42, 43, 42, 182, 0, 205, 180, 1, 16, 182, 1, 139, 154, 0, 6]
abbrev dktX0_write_0 : List UInt8 := dkwX0_write_0 ++ dktX0_write_1
theorem dksX0_write_0 : cX0_write.data.toList.drop 0 = dktX0_write_0 := by decide +kernel
theorem dksX0_write_1 : cX0_write.data.toList.drop 23 = dktX0_write_1 := dk_seg dksX0_write_0 23 rfl rfl
theorem dksX0_write_2 : cX0_write.data.toList.drop 45 = dktX0_write_2 := dk_seg dksX0_write_1 22 rfl rfl
theorem dksX0_write_3 : cX0_write.data.toList.drop 68 = dktX0_write_3 := dk_seg dksX0_write_2 23 rfl rfl
theorem dX0_write_0 : decode cX0_write 0 = .ok (.new 383, 3) := dk_187 1 127 (dk_at dksX0_write_0 0 rfl rfl)
theorem dX0_write_3 : decode cX0_write 3 = .ok (.dup, 1) := dk_89 (dk_at dksX0_write_0 3 rfl rfl)
theorem dX0_write_4 : decode cX0_write 4 = .ok (.invokespecial 407, 3) := dk_183 1 151 (dk_at dksX0_write_0 4 rfl rfl)
theorem dX0_write_7 : decode cX0_write 7 = .ok (.astore_n 1, 1) := dk_76 (dk_at dksX0_write_0 7 rfl rfl)
theorem dX0_write_8 : decode cX0_write 8 = .ok (.aload_n 0, 1) := dk_42 (dk_at dksX0_write_0 8 rfl rfl)
theorem dX0_write_9 : decode cX0_write 9 = .ok (.aload_n 1, 1) := dk_43 (dk_at dksX0_write_0 9 rfl rfl)
theorem dX0_write_10 : decode cX0_write 10 = .ok (.aload_n 0, 1) := dk_42 (dk_at dksX0_write_0 10 rfl rfl)
theorem dX0_write_11 : decode cX0_write 11 = .ok (.invokevirtual 205, 3) := dk_182 0 205 (dk_at dksX0_write_0 11 rfl rfl)
theorem dX0_write_14 : decode cX0_write 14 = .ok (.getfield 272, 3) := dk_180 1 16 (dk_at dksX0_write_0 14 rfl rfl)
theorem dX0_write_17 : decode cX0_write 17 = .ok (.invokevirtual 395, 3) := dk_182 1 139 (dk_at dksX0_write_0 17 rfl rfl)
theorem dX0_write_20 : decode cX0_write 20 = .ok (.ifCond .ne 6, 3) := dk_154 0 6 (dk_at dksX0_write_0 20 rfl rfl)
theorem dX0_write_23 : decode cX0_write 23 = .ok (.bipush (-2), 2) := dk_16 254 (dk_at dksX0_write_1 0 rfl rfl)
theorem dX0_write_25 : decode cX0_write 25 = .ok (.ireturn, 1) := dk_172 (dk_at dksX0_write_1 2 rfl rfl)
theorem dX0_write_26 : decode cX0_write 26 = .ok (.aload_n 0, 1) := dk_42 (dk_at dksX0_write_1 3 rfl rfl)
theorem dX0_write_27 : decode cX0_write 27 = .ok (.getfield 94, 3) := dk_180 0 94 (dk_at dksX0_write_1 4 rfl rfl)
theorem dX0_write_30 : decode cX0_write 30 = .ok (.invokevirtual 126, 3) := dk_182 0 126 (dk_at dksX0_write_1 7 rfl rfl)
theorem dX0_write_33 : decode cX0_write 33 = .ok (.pop, 1) := dk_87 (dk_at dksX0_write_1 10 rfl rfl)
theorem dX0_write_34 : decode cX0_write 34 = .ok (.iconst 0, 1) := dk_3 (dk_at dksX0_write_1 11 rfl rfl)
theorem dX0_write_35 : decode cX0_write 35 = .ok (.istore_n 2, 1) := dk_61 (dk_at dksX0_write_1 12 rfl rfl)
theorem dX0_write_36 : decode cX0_write 36 = .ok (.iload_n 2, 1) := dk_28 (dk_at dksX0_write_1 13 rfl rfl)
theorem dX0_write_37 : decode cX0_write 37 = .ok (.aload_n 1, 1) := dk_43 (dk_at dksX0_write_1 14 rfl rfl)
theorem dX0_write_38 : decode cX0_write 38 = .ok (.invokevirtual 408, 3) := dk_182 1 152 (dk_at dksX0_write_1 15 rfl rfl)
theorem dX0_write_41 : decode cX0_write 41 = .ok (.if_icmp .ge 23, 3) := dk_162 0 23 (dk_at dksX0_write_1 18 rfl rfl)
theorem dX0_write_44 : decode cX0_write 44 = .ok (.aload_n 0, 1) := dk_42 (dk_at dksX0_write_1 21 rfl rfl)
theorem dX0_write_45 : decode cX0_write 45 = .ok (.getfield 94, 3) := dk_180 0 94 (dk_at dksX0_write_2 0 rfl rfl)
theorem dX0_write_48 : decode cX0_write 48 = .ok (.aload_n 1, 1) := dk_43 (dk_at dksX0_write_2 3 rfl rfl)
theorem dX0_write_49 : decode cX0_write 49 = .ok (.iload_n 2, 1) := dk_28 (dk_at dksX0_write_2 4 rfl rfl)
theorem dX0_write_50 : decode cX0_write 50 = .ok (.invokevirtual 411, 3) := dk_182 1 155 (dk_at dksX0_write_2 5 rfl rfl)
theorem dX0_write_53 : decode cX0_write 53 = .ok (.i2l, 1) := dk_133 (dk_at dksX0_write_2 8 rfl rfl)
theorem dX0_write_54 : decode cX0_write 54 = .ok (.invokevirtual 140, 3) := dk_182 0 140 (dk_at dksX0_write_2 9 rfl rfl)
theorem dX0_write_57 : decode cX0_write 57 = .ok (.pop, 1) := dk_87 (dk_at dksX0_write_2 12 rfl rfl)
theorem dX0_write_58 : decode cX0_write 58 = .ok (.iinc 2 1, 3) := dk_132 2 1 (dk_at dksX0_write_2 13 rfl rfl)
theorem dX0_write_61 : decode cX0_write 61 = .ok (.goto (-25), 3) := dk_167 255 231 (dk_at dksX0_write_2 16 rfl rfl)
theorem dX0_write_64 : decode cX0_write 64 = .ok (.aload_n 0, 1) := dk_42 (dk_at dksX0_write_2 19 rfl rfl)
theorem dX0_write_65 : decode cX0_write 65 = .ok (.getfield 94, 3) := dk_180 0 94 (dk_at dksX0_write_2 20 rfl rfl)
theorem dX0_write_68 : decode cX0_write 68 = .ok (.getfield 129, 3) := dk_180 0 129 (dk_at dksX0_write_3 0 rfl rfl)
theorem dX0_write_71 : decode cX0_write 71 = .ok (.ireturn, 1) := dk_172 (dk_at dksX0_write_3 3 rfl rfl)
abbrev cX0_writes : ByteArray := prog_1_method_68_code
def yX0_writes : MethodName := ⟨RX0, "writes", "(Ljava/lang/StringBuilder;LGraphModules$Tree;)Z"⟩
def dkwX0_writes_2 : List UInt8 := [172]
abbrev dktX0_writes_2 : List UInt8 := dkwX0_writes_2 ++ []
def dkwX0_writes_1 : List UInt8 := [180, 0, 69, 178, 0, 39, 166, 0, 12, 42, 43, 45, 182, 1, 132, 167, 0, 9, 42, 43, 45, 182, 1, 136]
abbrev dktX0_writes_1 : List UInt8 := dkwX0_writes_1 ++ dktX0_writes_2
def dkwX0_writes_0 : List UInt8 := [44, 193, 0, 56, 153, 0, 12, 43, 16, 46, 182, 1, 126, 87, 4, 172, 44, 192, 0, 7, 78, 45]
abbrev dktX0_writes_0 : List UInt8 := dkwX0_writes_0 ++ dktX0_writes_1
theorem dksX0_writes_0 : cX0_writes.data.toList.drop 0 = dktX0_writes_0 := by decide +kernel
theorem dksX0_writes_1 : cX0_writes.data.toList.drop 22 = dktX0_writes_1 := dk_seg dksX0_writes_0 22 rfl rfl
theorem dksX0_writes_2 : cX0_writes.data.toList.drop 46 = dktX0_writes_2 := dk_seg dksX0_writes_1 24 rfl rfl
theorem dX0_writes_0 : decode cX0_writes 0 = .ok (.aload_n 2, 1) := dk_44 (dk_at dksX0_writes_0 0 rfl rfl)
theorem dX0_writes_1 : decode cX0_writes 1 = .ok (.instanceof 56, 3) := dk_193 0 56 (dk_at dksX0_writes_0 1 rfl rfl)
theorem dX0_writes_4 : decode cX0_writes 4 = .ok (.ifCond .eq 12, 3) := dk_153 0 12 (dk_at dksX0_writes_0 4 rfl rfl)
theorem dX0_writes_7 : decode cX0_writes 7 = .ok (.aload_n 1, 1) := dk_43 (dk_at dksX0_writes_0 7 rfl rfl)
theorem dX0_writes_8 : decode cX0_writes 8 = .ok (.bipush 46, 2) := dk_16 46 (dk_at dksX0_writes_0 8 rfl rfl)
theorem dX0_writes_10 : decode cX0_writes 10 = .ok (.invokevirtual 382, 3) := dk_182 1 126 (dk_at dksX0_writes_0 10 rfl rfl)
theorem dX0_writes_13 : decode cX0_writes 13 = .ok (.pop, 1) := dk_87 (dk_at dksX0_writes_0 13 rfl rfl)
theorem dX0_writes_14 : decode cX0_writes 14 = .ok (.iconst 1, 1) := dk_4 (dk_at dksX0_writes_0 14 rfl rfl)
theorem dX0_writes_15 : decode cX0_writes 15 = .ok (.ireturn, 1) := dk_172 (dk_at dksX0_writes_0 15 rfl rfl)
theorem dX0_writes_16 : decode cX0_writes 16 = .ok (.aload_n 2, 1) := dk_44 (dk_at dksX0_writes_0 16 rfl rfl)
theorem dX0_writes_17 : decode cX0_writes 17 = .ok (.checkcast 7, 3) := dk_192 0 7 (dk_at dksX0_writes_0 17 rfl rfl)
theorem dX0_writes_20 : decode cX0_writes 20 = .ok (.astore_n 3, 1) := dk_78 (dk_at dksX0_writes_0 20 rfl rfl)
theorem dX0_writes_21 : decode cX0_writes 21 = .ok (.aload_n 3, 1) := dk_45 (dk_at dksX0_writes_0 21 rfl rfl)
theorem dX0_writes_22 : decode cX0_writes 22 = .ok (.getfield 69, 3) := dk_180 0 69 (dk_at dksX0_writes_1 0 rfl rfl)
theorem dX0_writes_25 : decode cX0_writes 25 = .ok (.getstatic 39, 3) := dk_178 0 39 (dk_at dksX0_writes_1 3 rfl rfl)
theorem dX0_writes_28 : decode cX0_writes 28 = .ok (.if_acmp .ne 12, 3) := dk_166 0 12 (dk_at dksX0_writes_1 6 rfl rfl)
theorem dX0_writes_31 : decode cX0_writes 31 = .ok (.aload_n 0, 1) := dk_42 (dk_at dksX0_writes_1 9 rfl rfl)
theorem dX0_writes_32 : decode cX0_writes 32 = .ok (.aload_n 1, 1) := dk_43 (dk_at dksX0_writes_1 10 rfl rfl)
theorem dX0_writes_33 : decode cX0_writes 33 = .ok (.aload_n 3, 1) := dk_45 (dk_at dksX0_writes_1 11 rfl rfl)
theorem dX0_writes_34 : decode cX0_writes 34 = .ok (.invokevirtual 388, 3) := dk_182 1 132 (dk_at dksX0_writes_1 12 rfl rfl)
theorem dX0_writes_37 : decode cX0_writes 37 = .ok (.goto 9, 3) := dk_167 0 9 (dk_at dksX0_writes_1 15 rfl rfl)
theorem dX0_writes_40 : decode cX0_writes 40 = .ok (.aload_n 0, 1) := dk_42 (dk_at dksX0_writes_1 18 rfl rfl)
theorem dX0_writes_41 : decode cX0_writes 41 = .ok (.aload_n 1, 1) := dk_43 (dk_at dksX0_writes_1 19 rfl rfl)
theorem dX0_writes_42 : decode cX0_writes 42 = .ok (.aload_n 3, 1) := dk_45 (dk_at dksX0_writes_1 20 rfl rfl)
theorem dX0_writes_43 : decode cX0_writes 43 = .ok (.invokevirtual 392, 3) := dk_182 1 136 (dk_at dksX0_writes_1 21 rfl rfl)
theorem dX0_writes_46 : decode cX0_writes 46 = .ok (.ireturn, 1) := dk_172 (dk_at dksX0_writes_2 0 rfl rfl)
abbrev cX0_writesPath : ByteArray := prog_1_method_70_code
def yX0_writesPath : MethodName := ⟨RX0, "writesPath", "(Ljava/lang/StringBuilder;LGraphModules$Inner;)Z"⟩
def dkwX0_writesPath_4 : List UInt8 := [184, 0, 19, 62, 167, 255, 194, 43, 16, 62, 182, 1, 126, 87, 21, 4, 172]
abbrev dktX0_writesPath_4 : List UInt8 := dkwX0_writesPath_4 ++ []
def dkwX0_writesPath_3 : List UInt8 := [54, 5, 42, 44, 29, 182, 1, 23, 21, 5, 126, 54, 6, 21, 6, 154, 0, 7, 2, 167, 0, 8, 21, 6]
abbrev dktX0_writesPath_3 : List UInt8 := dkwX0_writesPath_3 ++ dktX0_writesPath_4
def dkwX0_writesPath_2 : List UInt8 := [180, 0, 9, 29, 182, 0, 235, 192, 0, 239, 182, 1, 139, 126, 54, 4, 21, 5, 4, 29, 120, 2, 130, 126]
abbrev dktX0_writesPath_2 : List UInt8 := dkwX0_writesPath_2 ++ dktX0_writesPath_3
def dkwX0_writesPath_1 : List UInt8 := [44, 180, 0, 9, 182, 0, 13, 120, 4, 100, 54, 5, 29, 2, 159, 0, 63, 21, 4, 42, 43, 44]
abbrev dktX0_writesPath_1 : List UInt8 := dkwX0_writesPath_1 ++ dktX0_writesPath_2
def dkwX0_writesPath_0 : List UInt8 := [42, 44, 182, 1, 147, 62, 29, 2, 160, 0, 5, 3, 172, 43, 16, 60, 182, 1, 126, 87, 4, 54, 4, 4]
abbrev dktX0_writesPath_0 : List UInt8 := dkwX0_writesPath_0 ++ dktX0_writesPath_1
theorem dksX0_writesPath_0 : cX0_writesPath.data.toList.drop 0 = dktX0_writesPath_0 := by decide +kernel
theorem dksX0_writesPath_1 : cX0_writesPath.data.toList.drop 24 = dktX0_writesPath_1 := dk_seg dksX0_writesPath_0 24 rfl rfl
theorem dksX0_writesPath_2 : cX0_writesPath.data.toList.drop 46 = dktX0_writesPath_2 := dk_seg dksX0_writesPath_1 22 rfl rfl
theorem dksX0_writesPath_3 : cX0_writesPath.data.toList.drop 70 = dktX0_writesPath_3 := dk_seg dksX0_writesPath_2 24 rfl rfl
theorem dksX0_writesPath_4 : cX0_writesPath.data.toList.drop 94 = dktX0_writesPath_4 := dk_seg dksX0_writesPath_3 24 rfl rfl
theorem dX0_writesPath_0 : decode cX0_writesPath 0 = .ok (.aload_n 0, 1) := dk_42 (dk_at dksX0_writesPath_0 0 rfl rfl)
theorem dX0_writesPath_1 : decode cX0_writesPath 1 = .ok (.aload_n 2, 1) := dk_44 (dk_at dksX0_writesPath_0 1 rfl rfl)
theorem dX0_writesPath_2 : decode cX0_writesPath 2 = .ok (.invokevirtual 403, 3) := dk_182 1 147 (dk_at dksX0_writesPath_0 2 rfl rfl)
theorem dX0_writesPath_5 : decode cX0_writesPath 5 = .ok (.istore_n 3, 1) := dk_62 (dk_at dksX0_writesPath_0 5 rfl rfl)
theorem dX0_writesPath_6 : decode cX0_writesPath 6 = .ok (.iload_n 3, 1) := dk_29 (dk_at dksX0_writesPath_0 6 rfl rfl)
theorem dX0_writesPath_7 : decode cX0_writesPath 7 = .ok (.iconst (-1), 1) := dk_2 (dk_at dksX0_writesPath_0 7 rfl rfl)
theorem dX0_writesPath_8 : decode cX0_writesPath 8 = .ok (.if_icmp .ne 5, 3) := dk_160 0 5 (dk_at dksX0_writesPath_0 8 rfl rfl)
theorem dX0_writesPath_11 : decode cX0_writesPath 11 = .ok (.iconst 0, 1) := dk_3 (dk_at dksX0_writesPath_0 11 rfl rfl)
theorem dX0_writesPath_12 : decode cX0_writesPath 12 = .ok (.ireturn, 1) := dk_172 (dk_at dksX0_writesPath_0 12 rfl rfl)
theorem dX0_writesPath_13 : decode cX0_writesPath 13 = .ok (.aload_n 1, 1) := dk_43 (dk_at dksX0_writesPath_0 13 rfl rfl)
theorem dX0_writesPath_14 : decode cX0_writesPath 14 = .ok (.bipush 60, 2) := dk_16 60 (dk_at dksX0_writesPath_0 14 rfl rfl)
theorem dX0_writesPath_16 : decode cX0_writesPath 16 = .ok (.invokevirtual 382, 3) := dk_182 1 126 (dk_at dksX0_writesPath_0 16 rfl rfl)
theorem dX0_writesPath_19 : decode cX0_writesPath 19 = .ok (.pop, 1) := dk_87 (dk_at dksX0_writesPath_0 19 rfl rfl)
theorem dX0_writesPath_20 : decode cX0_writesPath 20 = .ok (.iconst 1, 1) := dk_4 (dk_at dksX0_writesPath_0 20 rfl rfl)
theorem dX0_writesPath_21 : decode cX0_writesPath 21 = .ok (.istore 4, 2) := dk_54 4 (dk_at dksX0_writesPath_0 21 rfl rfl)
theorem dX0_writesPath_23 : decode cX0_writesPath 23 = .ok (.iconst 1, 1) := dk_4 (dk_at dksX0_writesPath_0 23 rfl rfl)
theorem dX0_writesPath_24 : decode cX0_writesPath 24 = .ok (.aload_n 2, 1) := dk_44 (dk_at dksX0_writesPath_1 0 rfl rfl)
theorem dX0_writesPath_25 : decode cX0_writesPath 25 = .ok (.getfield 9, 3) := dk_180 0 9 (dk_at dksX0_writesPath_1 1 rfl rfl)
theorem dX0_writesPath_28 : decode cX0_writesPath 28 = .ok (.invokevirtual 13, 3) := dk_182 0 13 (dk_at dksX0_writesPath_1 4 rfl rfl)
theorem dX0_writesPath_31 : decode cX0_writesPath 31 = .ok (.ishl, 1) := dk_120 (dk_at dksX0_writesPath_1 7 rfl rfl)
theorem dX0_writesPath_32 : decode cX0_writesPath 32 = .ok (.iconst 1, 1) := dk_4 (dk_at dksX0_writesPath_1 8 rfl rfl)
theorem dX0_writesPath_33 : decode cX0_writesPath 33 = .ok (.isub, 1) := dk_100 (dk_at dksX0_writesPath_1 9 rfl rfl)
theorem dX0_writesPath_34 : decode cX0_writesPath 34 = .ok (.istore 5, 2) := dk_54 5 (dk_at dksX0_writesPath_1 10 rfl rfl)
theorem dX0_writesPath_36 : decode cX0_writesPath 36 = .ok (.iload_n 3, 1) := dk_29 (dk_at dksX0_writesPath_1 12 rfl rfl)
theorem dX0_writesPath_37 : decode cX0_writesPath 37 = .ok (.iconst (-1), 1) := dk_2 (dk_at dksX0_writesPath_1 13 rfl rfl)
theorem dX0_writesPath_38 : decode cX0_writesPath 38 = .ok (.if_icmp .eq 63, 3) := dk_159 0 63 (dk_at dksX0_writesPath_1 14 rfl rfl)
theorem dX0_writesPath_41 : decode cX0_writesPath 41 = .ok (.iload 4, 2) := dk_21 4 (dk_at dksX0_writesPath_1 17 rfl rfl)
theorem dX0_writesPath_43 : decode cX0_writesPath 43 = .ok (.aload_n 0, 1) := dk_42 (dk_at dksX0_writesPath_1 19 rfl rfl)
theorem dX0_writesPath_44 : decode cX0_writesPath 44 = .ok (.aload_n 1, 1) := dk_43 (dk_at dksX0_writesPath_1 20 rfl rfl)
theorem dX0_writesPath_45 : decode cX0_writesPath 45 = .ok (.aload_n 2, 1) := dk_44 (dk_at dksX0_writesPath_1 21 rfl rfl)
theorem dX0_writesPath_46 : decode cX0_writesPath 46 = .ok (.getfield 9, 3) := dk_180 0 9 (dk_at dksX0_writesPath_2 0 rfl rfl)
theorem dX0_writesPath_49 : decode cX0_writesPath 49 = .ok (.iload_n 3, 1) := dk_29 (dk_at dksX0_writesPath_2 3 rfl rfl)
theorem dX0_writesPath_50 : decode cX0_writesPath 50 = .ok (.invokevirtual 235, 3) := dk_182 0 235 (dk_at dksX0_writesPath_2 4 rfl rfl)
theorem dX0_writesPath_53 : decode cX0_writesPath 53 = .ok (.checkcast 239, 3) := dk_192 0 239 (dk_at dksX0_writesPath_2 7 rfl rfl)
theorem dX0_writesPath_56 : decode cX0_writesPath 56 = .ok (.invokevirtual 395, 3) := dk_182 1 139 (dk_at dksX0_writesPath_2 10 rfl rfl)
theorem dX0_writesPath_59 : decode cX0_writesPath 59 = .ok (.iand, 1) := dk_126 (dk_at dksX0_writesPath_2 13 rfl rfl)
theorem dX0_writesPath_60 : decode cX0_writesPath 60 = .ok (.istore 4, 2) := dk_54 4 (dk_at dksX0_writesPath_2 14 rfl rfl)
theorem dX0_writesPath_62 : decode cX0_writesPath 62 = .ok (.iload 5, 2) := dk_21 5 (dk_at dksX0_writesPath_2 16 rfl rfl)
theorem dX0_writesPath_64 : decode cX0_writesPath 64 = .ok (.iconst 1, 1) := dk_4 (dk_at dksX0_writesPath_2 18 rfl rfl)
theorem dX0_writesPath_65 : decode cX0_writesPath 65 = .ok (.iload_n 3, 1) := dk_29 (dk_at dksX0_writesPath_2 19 rfl rfl)
theorem dX0_writesPath_66 : decode cX0_writesPath 66 = .ok (.ishl, 1) := dk_120 (dk_at dksX0_writesPath_2 20 rfl rfl)
theorem dX0_writesPath_67 : decode cX0_writesPath 67 = .ok (.iconst (-1), 1) := dk_2 (dk_at dksX0_writesPath_2 21 rfl rfl)
theorem dX0_writesPath_68 : decode cX0_writesPath 68 = .ok (.ixor, 1) := dk_130 (dk_at dksX0_writesPath_2 22 rfl rfl)
theorem dX0_writesPath_69 : decode cX0_writesPath 69 = .ok (.iand, 1) := dk_126 (dk_at dksX0_writesPath_2 23 rfl rfl)
theorem dX0_writesPath_70 : decode cX0_writesPath 70 = .ok (.istore 5, 2) := dk_54 5 (dk_at dksX0_writesPath_3 0 rfl rfl)
theorem dX0_writesPath_72 : decode cX0_writesPath 72 = .ok (.aload_n 0, 1) := dk_42 (dk_at dksX0_writesPath_3 2 rfl rfl)
theorem dX0_writesPath_73 : decode cX0_writesPath 73 = .ok (.aload_n 2, 1) := dk_44 (dk_at dksX0_writesPath_3 3 rfl rfl)
theorem dX0_writesPath_74 : decode cX0_writesPath 74 = .ok (.iload_n 3, 1) := dk_29 (dk_at dksX0_writesPath_3 4 rfl rfl)
theorem dX0_writesPath_75 : decode cX0_writesPath 75 = .ok (.invokevirtual 279, 3) := dk_182 1 23 (dk_at dksX0_writesPath_3 5 rfl rfl)
theorem dX0_writesPath_78 : decode cX0_writesPath 78 = .ok (.iload 5, 2) := dk_21 5 (dk_at dksX0_writesPath_3 8 rfl rfl)
theorem dX0_writesPath_80 : decode cX0_writesPath 80 = .ok (.iand, 1) := dk_126 (dk_at dksX0_writesPath_3 10 rfl rfl)
theorem dX0_writesPath_81 : decode cX0_writesPath 81 = .ok (.istore 6, 2) := dk_54 6 (dk_at dksX0_writesPath_3 11 rfl rfl)
theorem dX0_writesPath_83 : decode cX0_writesPath 83 = .ok (.iload 6, 2) := dk_21 6 (dk_at dksX0_writesPath_3 13 rfl rfl)
theorem dX0_writesPath_85 : decode cX0_writesPath 85 = .ok (.ifCond .ne 7, 3) := dk_154 0 7 (dk_at dksX0_writesPath_3 15 rfl rfl)
theorem dX0_writesPath_88 : decode cX0_writesPath 88 = .ok (.iconst (-1), 1) := dk_2 (dk_at dksX0_writesPath_3 18 rfl rfl)
theorem dX0_writesPath_89 : decode cX0_writesPath 89 = .ok (.goto 8, 3) := dk_167 0 8 (dk_at dksX0_writesPath_3 19 rfl rfl)
theorem dX0_writesPath_92 : decode cX0_writesPath 92 = .ok (.iload 6, 2) := dk_21 6 (dk_at dksX0_writesPath_3 22 rfl rfl)
theorem dX0_writesPath_94 : decode cX0_writesPath 94 = .ok (.invokestatic 19, 3) := dk_184 0 19 (dk_at dksX0_writesPath_4 0 rfl rfl)
theorem dX0_writesPath_97 : decode cX0_writesPath 97 = .ok (.istore_n 3, 1) := dk_62 (dk_at dksX0_writesPath_4 3 rfl rfl)
theorem dX0_writesPath_98 : decode cX0_writesPath 98 = .ok (.goto (-62), 3) := dk_167 255 194 (dk_at dksX0_writesPath_4 4 rfl rfl)
theorem dX0_writesPath_101 : decode cX0_writesPath 101 = .ok (.aload_n 1, 1) := dk_43 (dk_at dksX0_writesPath_4 7 rfl rfl)
theorem dX0_writesPath_102 : decode cX0_writesPath 102 = .ok (.bipush 62, 2) := dk_16 62 (dk_at dksX0_writesPath_4 8 rfl rfl)
theorem dX0_writesPath_104 : decode cX0_writesPath 104 = .ok (.invokevirtual 382, 3) := dk_182 1 126 (dk_at dksX0_writesPath_4 10 rfl rfl)
theorem dX0_writesPath_107 : decode cX0_writesPath 107 = .ok (.pop, 1) := dk_87 (dk_at dksX0_writesPath_4 13 rfl rfl)
theorem dX0_writesPath_108 : decode cX0_writesPath 108 = .ok (.iload 4, 2) := dk_21 4 (dk_at dksX0_writesPath_4 14 rfl rfl)
theorem dX0_writesPath_110 : decode cX0_writesPath 110 = .ok (.ireturn, 1) := dk_172 (dk_at dksX0_writesPath_4 16 rfl rfl)
abbrev cX0_endOf : ByteArray := prog_1_method_67_code
def yX0_endOf : MethodName := ⟨RX0, "endOf", "(LGraphModules$Inner;)I"⟩
def dkwX0_endOf_3 : List UInt8 := [167, 0, 4, 2, 172]
abbrev dktX0_endOf_3 : List UInt8 := dkwX0_endOf_3 ++ []
def dkwX0_endOf_2 : List UInt8 := [4, 160, 0, 8, 21, 4, 167, 0, 4, 28, 61, 132, 4, 255, 167, 255, 209, 29, 153, 0, 7, 28]
abbrev dktX0_endOf_2 : List UInt8 := dkwX0_endOf_2 ++ dktX0_endOf_3
def dkwX0_endOf_1 : List UInt8 := [182, 1, 23, 184, 0, 53, 54, 5, 29, 21, 5, 6, 162, 0, 7, 4, 167, 0, 4, 3, 126, 62, 21, 5]
abbrev dktX0_endOf_1 : List UInt8 := dkwX0_endOf_1 ++ dktX0_endOf_2
def dkwX0_endOf_0 : List UInt8 := [2, 61, 4, 62, 43, 180, 0, 9, 182, 0, 13, 4, 100, 54, 4, 21, 4, 155, 0, 48, 42, 43, 21, 4]
abbrev dktX0_endOf_0 : List UInt8 := dkwX0_endOf_0 ++ dktX0_endOf_1
theorem dksX0_endOf_0 : cX0_endOf.data.toList.drop 0 = dktX0_endOf_0 := by decide +kernel
theorem dksX0_endOf_1 : cX0_endOf.data.toList.drop 24 = dktX0_endOf_1 := dk_seg dksX0_endOf_0 24 rfl rfl
theorem dksX0_endOf_2 : cX0_endOf.data.toList.drop 48 = dktX0_endOf_2 := dk_seg dksX0_endOf_1 24 rfl rfl
theorem dksX0_endOf_3 : cX0_endOf.data.toList.drop 70 = dktX0_endOf_3 := dk_seg dksX0_endOf_2 22 rfl rfl
theorem dX0_endOf_0 : decode cX0_endOf 0 = .ok (.iconst (-1), 1) := dk_2 (dk_at dksX0_endOf_0 0 rfl rfl)
theorem dX0_endOf_1 : decode cX0_endOf 1 = .ok (.istore_n 2, 1) := dk_61 (dk_at dksX0_endOf_0 1 rfl rfl)
theorem dX0_endOf_2 : decode cX0_endOf 2 = .ok (.iconst 1, 1) := dk_4 (dk_at dksX0_endOf_0 2 rfl rfl)
theorem dX0_endOf_3 : decode cX0_endOf 3 = .ok (.istore_n 3, 1) := dk_62 (dk_at dksX0_endOf_0 3 rfl rfl)
theorem dX0_endOf_4 : decode cX0_endOf 4 = .ok (.aload_n 1, 1) := dk_43 (dk_at dksX0_endOf_0 4 rfl rfl)
theorem dX0_endOf_5 : decode cX0_endOf 5 = .ok (.getfield 9, 3) := dk_180 0 9 (dk_at dksX0_endOf_0 5 rfl rfl)
theorem dX0_endOf_8 : decode cX0_endOf 8 = .ok (.invokevirtual 13, 3) := dk_182 0 13 (dk_at dksX0_endOf_0 8 rfl rfl)
theorem dX0_endOf_11 : decode cX0_endOf 11 = .ok (.iconst 1, 1) := dk_4 (dk_at dksX0_endOf_0 11 rfl rfl)
theorem dX0_endOf_12 : decode cX0_endOf 12 = .ok (.isub, 1) := dk_100 (dk_at dksX0_endOf_0 12 rfl rfl)
theorem dX0_endOf_13 : decode cX0_endOf 13 = .ok (.istore 4, 2) := dk_54 4 (dk_at dksX0_endOf_0 13 rfl rfl)
theorem dX0_endOf_15 : decode cX0_endOf 15 = .ok (.iload 4, 2) := dk_21 4 (dk_at dksX0_endOf_0 15 rfl rfl)
theorem dX0_endOf_17 : decode cX0_endOf 17 = .ok (.ifCond .lt 48, 3) := dk_155 0 48 (dk_at dksX0_endOf_0 17 rfl rfl)
theorem dX0_endOf_20 : decode cX0_endOf 20 = .ok (.aload_n 0, 1) := dk_42 (dk_at dksX0_endOf_0 20 rfl rfl)
theorem dX0_endOf_21 : decode cX0_endOf 21 = .ok (.aload_n 1, 1) := dk_43 (dk_at dksX0_endOf_0 21 rfl rfl)
theorem dX0_endOf_22 : decode cX0_endOf 22 = .ok (.iload 4, 2) := dk_21 4 (dk_at dksX0_endOf_0 22 rfl rfl)
theorem dX0_endOf_24 : decode cX0_endOf 24 = .ok (.invokevirtual 279, 3) := dk_182 1 23 (dk_at dksX0_endOf_1 0 rfl rfl)
theorem dX0_endOf_27 : decode cX0_endOf 27 = .ok (.invokestatic 53, 3) := dk_184 0 53 (dk_at dksX0_endOf_1 3 rfl rfl)
theorem dX0_endOf_30 : decode cX0_endOf 30 = .ok (.istore 5, 2) := dk_54 5 (dk_at dksX0_endOf_1 6 rfl rfl)
theorem dX0_endOf_32 : decode cX0_endOf 32 = .ok (.iload_n 3, 1) := dk_29 (dk_at dksX0_endOf_1 8 rfl rfl)
theorem dX0_endOf_33 : decode cX0_endOf 33 = .ok (.iload 5, 2) := dk_21 5 (dk_at dksX0_endOf_1 9 rfl rfl)
theorem dX0_endOf_35 : decode cX0_endOf 35 = .ok (.iconst 3, 1) := dk_6 (dk_at dksX0_endOf_1 11 rfl rfl)
theorem dX0_endOf_36 : decode cX0_endOf 36 = .ok (.if_icmp .ge 7, 3) := dk_162 0 7 (dk_at dksX0_endOf_1 12 rfl rfl)
theorem dX0_endOf_39 : decode cX0_endOf 39 = .ok (.iconst 1, 1) := dk_4 (dk_at dksX0_endOf_1 15 rfl rfl)
theorem dX0_endOf_40 : decode cX0_endOf 40 = .ok (.goto 4, 3) := dk_167 0 4 (dk_at dksX0_endOf_1 16 rfl rfl)
theorem dX0_endOf_43 : decode cX0_endOf 43 = .ok (.iconst 0, 1) := dk_3 (dk_at dksX0_endOf_1 19 rfl rfl)
theorem dX0_endOf_44 : decode cX0_endOf 44 = .ok (.iand, 1) := dk_126 (dk_at dksX0_endOf_1 20 rfl rfl)
theorem dX0_endOf_45 : decode cX0_endOf 45 = .ok (.istore_n 3, 1) := dk_62 (dk_at dksX0_endOf_1 21 rfl rfl)
theorem dX0_endOf_46 : decode cX0_endOf 46 = .ok (.iload 5, 2) := dk_21 5 (dk_at dksX0_endOf_1 22 rfl rfl)
theorem dX0_endOf_48 : decode cX0_endOf 48 = .ok (.iconst 1, 1) := dk_4 (dk_at dksX0_endOf_2 0 rfl rfl)
theorem dX0_endOf_49 : decode cX0_endOf 49 = .ok (.if_icmp .ne 8, 3) := dk_160 0 8 (dk_at dksX0_endOf_2 1 rfl rfl)
theorem dX0_endOf_52 : decode cX0_endOf 52 = .ok (.iload 4, 2) := dk_21 4 (dk_at dksX0_endOf_2 4 rfl rfl)
theorem dX0_endOf_54 : decode cX0_endOf 54 = .ok (.goto 4, 3) := dk_167 0 4 (dk_at dksX0_endOf_2 6 rfl rfl)
theorem dX0_endOf_57 : decode cX0_endOf 57 = .ok (.iload_n 2, 1) := dk_28 (dk_at dksX0_endOf_2 9 rfl rfl)
theorem dX0_endOf_58 : decode cX0_endOf 58 = .ok (.istore_n 2, 1) := dk_61 (dk_at dksX0_endOf_2 10 rfl rfl)
theorem dX0_endOf_59 : decode cX0_endOf 59 = .ok (.iinc 4 (-1), 3) := dk_132 4 255 (dk_at dksX0_endOf_2 11 rfl rfl)
theorem dX0_endOf_62 : decode cX0_endOf 62 = .ok (.goto (-47), 3) := dk_167 255 209 (dk_at dksX0_endOf_2 14 rfl rfl)
theorem dX0_endOf_65 : decode cX0_endOf 65 = .ok (.iload_n 3, 1) := dk_29 (dk_at dksX0_endOf_2 17 rfl rfl)
theorem dX0_endOf_66 : decode cX0_endOf 66 = .ok (.ifCond .eq 7, 3) := dk_153 0 7 (dk_at dksX0_endOf_2 18 rfl rfl)
theorem dX0_endOf_69 : decode cX0_endOf 69 = .ok (.iload_n 2, 1) := dk_28 (dk_at dksX0_endOf_2 21 rfl rfl)
theorem dX0_endOf_70 : decode cX0_endOf 70 = .ok (.goto 4, 3) := dk_167 0 4 (dk_at dksX0_endOf_3 0 rfl rfl)
theorem dX0_endOf_73 : decode cX0_endOf 73 = .ok (.iconst (-1), 1) := dk_2 (dk_at dksX0_endOf_3 3 rfl rfl)
theorem dX0_endOf_74 : decode cX0_endOf 74 = .ok (.ireturn, 1) := dk_172 (dk_at dksX0_endOf_3 4 rfl rfl)
abbrev cX0_writesBracket : ByteArray := prog_1_method_69_code
def yX0_writesBracket : MethodName := ⟨RX0, "writesBracket", "(Ljava/lang/StringBuilder;LGraphModules$Inner;)Z"⟩
def dkwX0_writesBracket_3 : List UInt8 := [182, 1, 126, 87, 29, 172]
abbrev dktX0_writesBracket_3 : List UInt8 := dkwX0_writesBracket_3 ++ []
def dkwX0_writesBracket_2 : List UInt8 := [43, 25, 6, 182, 1, 139, 126, 62, 44, 180, 0, 69, 182, 1, 143, 54, 4, 167, 255, 208, 43, 16, 41]
abbrev dktX0_writesBracket_2 : List UInt8 := dkwX0_writesBracket_2 ++ dktX0_writesBracket_3
def dkwX0_writesBracket_1 : List UInt8 := [153, 0, 44, 25, 5, 185, 1, 63, 1, 0, 192, 0, 239, 58, 6, 43, 21, 4, 182, 1, 126, 87, 29, 42]
abbrev dktX0_writesBracket_1 : List UInt8 := dkwX0_writesBracket_1 ++ dktX0_writesBracket_2
def dkwX0_writesBracket_0 : List UInt8 := [4, 62, 16, 40, 54, 4, 44, 180, 0, 9, 182, 1, 53, 58, 5, 25, 5, 185, 1, 57, 1, 0]
abbrev dktX0_writesBracket_0 : List UInt8 := dkwX0_writesBracket_0 ++ dktX0_writesBracket_1
theorem dksX0_writesBracket_0 : cX0_writesBracket.data.toList.drop 0 = dktX0_writesBracket_0 := by decide +kernel
theorem dksX0_writesBracket_1 : cX0_writesBracket.data.toList.drop 22 = dktX0_writesBracket_1 := dk_seg dksX0_writesBracket_0 22 rfl rfl
theorem dksX0_writesBracket_2 : cX0_writesBracket.data.toList.drop 46 = dktX0_writesBracket_2 := dk_seg dksX0_writesBracket_1 24 rfl rfl
theorem dksX0_writesBracket_3 : cX0_writesBracket.data.toList.drop 69 = dktX0_writesBracket_3 := dk_seg dksX0_writesBracket_2 23 rfl rfl
theorem dX0_writesBracket_0 : decode cX0_writesBracket 0 = .ok (.iconst 1, 1) := dk_4 (dk_at dksX0_writesBracket_0 0 rfl rfl)
theorem dX0_writesBracket_1 : decode cX0_writesBracket 1 = .ok (.istore_n 3, 1) := dk_62 (dk_at dksX0_writesBracket_0 1 rfl rfl)
theorem dX0_writesBracket_2 : decode cX0_writesBracket 2 = .ok (.bipush 40, 2) := dk_16 40 (dk_at dksX0_writesBracket_0 2 rfl rfl)
theorem dX0_writesBracket_4 : decode cX0_writesBracket 4 = .ok (.istore 4, 2) := dk_54 4 (dk_at dksX0_writesBracket_0 4 rfl rfl)
theorem dX0_writesBracket_6 : decode cX0_writesBracket 6 = .ok (.aload_n 2, 1) := dk_44 (dk_at dksX0_writesBracket_0 6 rfl rfl)
theorem dX0_writesBracket_7 : decode cX0_writesBracket 7 = .ok (.getfield 9, 3) := dk_180 0 9 (dk_at dksX0_writesBracket_0 7 rfl rfl)
theorem dX0_writesBracket_10 : decode cX0_writesBracket 10 = .ok (.invokevirtual 309, 3) := dk_182 1 53 (dk_at dksX0_writesBracket_0 10 rfl rfl)
theorem dX0_writesBracket_13 : decode cX0_writesBracket 13 = .ok (.astore 5, 2) := dk_58 5 (dk_at dksX0_writesBracket_0 13 rfl rfl)
theorem dX0_writesBracket_15 : decode cX0_writesBracket 15 = .ok (.aload 5, 2) := dk_25 5 (dk_at dksX0_writesBracket_0 15 rfl rfl)
theorem dX0_writesBracket_17 : decode cX0_writesBracket 17 = .ok (.invokeinterface 313 1, 5) := by decide +kernel
theorem dX0_writesBracket_22 : decode cX0_writesBracket 22 = .ok (.ifCond .eq 44, 3) := dk_153 0 44 (dk_at dksX0_writesBracket_1 0 rfl rfl)
theorem dX0_writesBracket_25 : decode cX0_writesBracket 25 = .ok (.aload 5, 2) := dk_25 5 (dk_at dksX0_writesBracket_1 3 rfl rfl)
theorem dX0_writesBracket_27 : decode cX0_writesBracket 27 = .ok (.invokeinterface 319 1, 5) := by decide +kernel
theorem dX0_writesBracket_32 : decode cX0_writesBracket 32 = .ok (.checkcast 239, 3) := dk_192 0 239 (dk_at dksX0_writesBracket_1 10 rfl rfl)
theorem dX0_writesBracket_35 : decode cX0_writesBracket 35 = .ok (.astore 6, 2) := dk_58 6 (dk_at dksX0_writesBracket_1 13 rfl rfl)
theorem dX0_writesBracket_37 : decode cX0_writesBracket 37 = .ok (.aload_n 1, 1) := dk_43 (dk_at dksX0_writesBracket_1 15 rfl rfl)
theorem dX0_writesBracket_38 : decode cX0_writesBracket 38 = .ok (.iload 4, 2) := dk_21 4 (dk_at dksX0_writesBracket_1 16 rfl rfl)
theorem dX0_writesBracket_40 : decode cX0_writesBracket 40 = .ok (.invokevirtual 382, 3) := dk_182 1 126 (dk_at dksX0_writesBracket_1 18 rfl rfl)
theorem dX0_writesBracket_43 : decode cX0_writesBracket 43 = .ok (.pop, 1) := dk_87 (dk_at dksX0_writesBracket_1 21 rfl rfl)
theorem dX0_writesBracket_44 : decode cX0_writesBracket 44 = .ok (.iload_n 3, 1) := dk_29 (dk_at dksX0_writesBracket_1 22 rfl rfl)
theorem dX0_writesBracket_45 : decode cX0_writesBracket 45 = .ok (.aload_n 0, 1) := dk_42 (dk_at dksX0_writesBracket_1 23 rfl rfl)
theorem dX0_writesBracket_46 : decode cX0_writesBracket 46 = .ok (.aload_n 1, 1) := dk_43 (dk_at dksX0_writesBracket_2 0 rfl rfl)
theorem dX0_writesBracket_47 : decode cX0_writesBracket 47 = .ok (.aload 6, 2) := dk_25 6 (dk_at dksX0_writesBracket_2 1 rfl rfl)
theorem dX0_writesBracket_49 : decode cX0_writesBracket 49 = .ok (.invokevirtual 395, 3) := dk_182 1 139 (dk_at dksX0_writesBracket_2 3 rfl rfl)
theorem dX0_writesBracket_52 : decode cX0_writesBracket 52 = .ok (.iand, 1) := dk_126 (dk_at dksX0_writesBracket_2 6 rfl rfl)
theorem dX0_writesBracket_53 : decode cX0_writesBracket 53 = .ok (.istore_n 3, 1) := dk_62 (dk_at dksX0_writesBracket_2 7 rfl rfl)
theorem dX0_writesBracket_54 : decode cX0_writesBracket 54 = .ok (.aload_n 2, 1) := dk_44 (dk_at dksX0_writesBracket_2 8 rfl rfl)
theorem dX0_writesBracket_55 : decode cX0_writesBracket 55 = .ok (.getfield 69, 3) := dk_180 0 69 (dk_at dksX0_writesBracket_2 9 rfl rfl)
theorem dX0_writesBracket_58 : decode cX0_writesBracket 58 = .ok (.invokevirtual 399, 3) := dk_182 1 143 (dk_at dksX0_writesBracket_2 12 rfl rfl)
theorem dX0_writesBracket_61 : decode cX0_writesBracket 61 = .ok (.istore 4, 2) := dk_54 4 (dk_at dksX0_writesBracket_2 15 rfl rfl)
theorem dX0_writesBracket_63 : decode cX0_writesBracket 63 = .ok (.goto (-48), 3) := dk_167 255 208 (dk_at dksX0_writesBracket_2 17 rfl rfl)
theorem dX0_writesBracket_66 : decode cX0_writesBracket 66 = .ok (.aload_n 1, 1) := dk_43 (dk_at dksX0_writesBracket_2 20 rfl rfl)
theorem dX0_writesBracket_67 : decode cX0_writesBracket 67 = .ok (.bipush 41, 2) := dk_16 41 (dk_at dksX0_writesBracket_2 21 rfl rfl)
theorem dX0_writesBracket_69 : decode cX0_writesBracket 69 = .ok (.invokevirtual 382, 3) := dk_182 1 126 (dk_at dksX0_writesBracket_3 0 rfl rfl)
theorem dX0_writesBracket_72 : decode cX0_writesBracket 72 = .ok (.pop, 1) := dk_87 (dk_at dksX0_writesBracket_3 3 rfl rfl)
theorem dX0_writesBracket_73 : decode cX0_writesBracket 73 = .ok (.iload_n 3, 1) := dk_29 (dk_at dksX0_writesBracket_3 4 rfl rfl)
theorem dX0_writesBracket_74 : decode cX0_writesBracket 74 = .ok (.ireturn, 1) := dk_172 (dk_at dksX0_writesBracket_3 5 rfl rfl)
theorem q92 : (Jvm.Cond.initialized "GraphModules") ∈ lw_all := lw_g (lw_at lw_m1 1 rfl) rfl
theorem q132 : (Jvm.Cond.instantiable "GraphModules" (6 : Nat)) ∈ lw_all := lw_g (lw_at lw_m1 41 rfl) rfl
theorem q134 : (Jvm.Cond.instanceMethod ({ cls := "GraphModules", name := "<init>", desc := "()V" } : Jvm.MethodName)) ∈ lw_all := lw_g (lw_at lw_m1 43 rfl) rfl
theorem q135 : (Jvm.Cond.code ({ cls := "GraphModules", name := "<init>", desc := "()V" } : Jvm.MethodName) prog_1_method_9_code (1 : Nat) (Option.none : Option Jvm.ClassFile.FieldType)) ∈ lw_all := lw_g (lw_at lw_m1 44 rfl) rfl
theorem q136 : (Jvm.Cond.methodLink "GraphModules" (84 : Nat) ({ cls := "java/lang/Object", name := "<init>", desc := "()V" } : Jvm.MethodName)) ∈ lw_all := lw_g (lw_at lw_m1 45 rfl) rfl
theorem q139 : (Jvm.Cond.classLink "GraphModules" (89 : Nat) "GraphModules$Row") ∈ lw_all := lw_g (lw_at lw_m1 48 rfl) rfl
theorem q141 : (Jvm.Cond.methodLink "GraphModules" (91 : Nat) ({ cls := "GraphModules$Row", name := "<init>", desc := "(Ljava/lang/Object;)V" } : Jvm.MethodName)) ∈ lw_all := lw_g (lw_at lw_m1 50 rfl) rfl
theorem q149 : (Jvm.Cond.fieldLinkNest "GraphModules" (129 : Nat) "GraphModules$Row" "many" "I" "GraphModules") ∈ lw_tbl := lw_at lw_m1 58 rfl
theorem q156 : (Jvm.Cond.methodLink "GraphModules" (101 : Nat) ({ cls := "GraphModules$Row", name := "<init>", desc := "(I)V" } : Jvm.MethodName)) ∈ lw_all := lw_g (lw_at lw_m1 65 rfl) rfl
theorem q160 : (Jvm.Cond.classLink "GraphModules" (25 : Nat) "GraphModules$Graph") ∈ lw_all := lw_g (lw_at lw_m1 69 rfl) rfl
theorem q162 : (Jvm.Cond.methodLink "GraphModules" (105 : Nat) ({ cls := "GraphModules$Graph", name := "<init>", desc := "(I)V" } : Jvm.MethodName)) ∈ lw_all := lw_g (lw_at lw_m1 71 rfl) rfl
theorem q169 : (Jvm.Cond.fieldLinkNest "GraphModules" (42 : Nat) "GraphModules$Graph" "vertices" "I" "GraphModules") ∈ lw_tbl := lw_at lw_m1 78 rfl
theorem q173 : (Jvm.Cond.fieldLinkNest "GraphModules" (183 : Nat) "GraphModules$Graph" "near" "[I" "GraphModules") ∈ lw_tbl := lw_at lw_m1 82 rfl
theorem q182 : (Jvm.Cond.fieldLink "GraphModules" (102 : Nat) "GraphModules" "history" "LGraphModules$Row;") ∈ lw_all := lw_g (lw_at lw_m1 91 rfl) rfl
theorem q184 : (Jvm.Cond.fieldLink "GraphModules" (94 : Nat) "GraphModules" "text" "LGraphModules$Row;") ∈ lw_all := lw_g (lw_at lw_m1 93 rfl) rfl
theorem q185 : (Jvm.Cond.fieldLink "GraphModules" (98 : Nat) "GraphModules" "line" "LGraphModules$Row;") ∈ lw_all := lw_g (lw_at lw_m1 94 rfl) rfl
theorem q186 : (Jvm.Cond.fieldLink "GraphModules" (106 : Nat) "GraphModules" "graph" "LGraphModules$Graph;") ∈ lw_all := lw_g (lw_at lw_m1 95 rfl) rfl
theorem q187 : (Jvm.Cond.fieldLink "GraphModules" (110 : Nat) "GraphModules" "forest" "LGraphModules$Forest;") ∈ lw_all := lw_g (lw_at lw_m1 96 rfl) rfl
theorem q188 : (Jvm.Cond.fieldLink "GraphModules" (119 : Nat) "GraphModules" "orientation" "LGraphModules$Orientation;") ∈ lw_all := lw_g (lw_at lw_m1 97 rfl) rfl
theorem q189 : (Jvm.Cond.laysFinal "GraphModules" "GraphModules" "history" "LGraphModules$Row;") ∈ lw_all := lw_g (lw_at lw_m1 98 rfl) rfl
theorem q190 : (Jvm.Cond.soleField "GraphModules" "history") ∈ lw_all := lw_g (lw_at lw_m1 99 rfl) rfl
theorem q191 : (Jvm.Cond.laysFinal "GraphModules" "GraphModules" "text" "LGraphModules$Row;") ∈ lw_all := lw_g (lw_at lw_m1 100 rfl) rfl
theorem q192 : (Jvm.Cond.soleField "GraphModules" "text") ∈ lw_all := lw_g (lw_at lw_m1 101 rfl) rfl
theorem q193 : (Jvm.Cond.laysFinal "GraphModules" "GraphModules" "line" "LGraphModules$Row;") ∈ lw_all := lw_g (lw_at lw_m1 102 rfl) rfl
theorem q194 : (Jvm.Cond.soleField "GraphModules" "line") ∈ lw_all := lw_g (lw_at lw_m1 103 rfl) rfl
theorem q195 : (Jvm.Cond.lays "GraphModules" "GraphModules" "graph" "LGraphModules$Graph;") ∈ lw_all := lw_g (lw_at lw_m1 104 rfl) rfl
theorem q196 : (Jvm.Cond.soleField "GraphModules" "graph") ∈ lw_all := lw_g (lw_at lw_m1 105 rfl) rfl
theorem q197 : (Jvm.Cond.lays "GraphModules" "GraphModules" "forest" "LGraphModules$Forest;") ∈ lw_all := lw_g (lw_at lw_m1 106 rfl) rfl
theorem q198 : (Jvm.Cond.soleField "GraphModules" "forest") ∈ lw_all := lw_g (lw_at lw_m1 107 rfl) rfl
theorem q199 : (Jvm.Cond.lays "GraphModules" "GraphModules" "orientation" "LGraphModules$Orientation;") ∈ lw_all := lw_g (lw_at lw_m1 108 rfl) rfl
theorem q200 : (Jvm.Cond.soleField "GraphModules" "orientation") ∈ lw_all := lw_g (lw_at lw_m1 109 rfl) rfl
theorem q201 : (Jvm.Cond.superclass "GraphModules" "java/lang/Object") ∈ lw_all := lw_g (lw_at lw_m1 110 rfl) rfl
theorem q203 : (Jvm.Cond.instanceMethod ({ cls := "GraphModules", name := "begin", desc := "(I)I" } : Jvm.MethodName)) ∈ lw_all := lw_g (lw_at lw_m1 112 rfl) rfl
theorem q204 : (Jvm.Cond.selects "GraphModules" ({ cls := "GraphModules", name := "begin", desc := "(I)I" } : Jvm.MethodName) ({ cls := "GraphModules", name := "begin", desc := "(I)I" } : Jvm.MethodName)) ∈ lw_all := lw_g (lw_at lw_m1 113 rfl) rfl
theorem q205 : (Jvm.Cond.code ({ cls := "GraphModules", name := "begin", desc := "(I)I" } : Jvm.MethodName) prog_1_method_18_code (2 : Nat) (Option.some Jvm.ClassFile.FieldType.int)) ∈ lw_all := lw_g (lw_at lw_m1 114 rfl) rfl
theorem q206 : (Jvm.Cond.methodLink "GraphModules" (159 : Nat) ({ cls := "GraphModules", name := "inRange", desc := "(III)Z" } : Jvm.MethodName)) ∈ lw_all := lw_g (lw_at lw_m1 115 rfl) rfl
theorem q207 : (Jvm.Cond.static ({ cls := "GraphModules", name := "inRange", desc := "(III)Z" } : Jvm.MethodName)) ∈ lw_all := lw_g (lw_at lw_m1 116 rfl) rfl
theorem q208 : (Jvm.Cond.code ({ cls := "GraphModules", name := "inRange", desc := "(III)Z" } : Jvm.MethodName) prog_1_method_1_code (3 : Nat) (Option.some Jvm.ClassFile.FieldType.boolean)) ∈ lw_all := lw_g (lw_at lw_m1 117 rfl) rfl
theorem q209 : (Jvm.Cond.methodLink "GraphModules" (170 : Nat) ({ cls := "GraphModules", name := "change", desc := "(LGraphModules$Graph;)V" } : Jvm.MethodName)) ∈ lw_all := lw_g (lw_at lw_m1 118 rfl) rfl
theorem q210 : (Jvm.Cond.privateMethod ({ cls := "GraphModules", name := "change", desc := "(LGraphModules$Graph;)V" } : Jvm.MethodName)) ∈ lw_tbl := lw_at lw_m1 119 rfl
theorem q211 : (Jvm.Cond.instanceMethod ({ cls := "GraphModules", name := "change", desc := "(LGraphModules$Graph;)V" } : Jvm.MethodName)) ∈ lw_all := lw_g (lw_at lw_m1 120 rfl) rfl
theorem q212 : (Jvm.Cond.code ({ cls := "GraphModules", name := "change", desc := "(LGraphModules$Graph;)V" } : Jvm.MethodName) prog_1_method_13_code (2 : Nat) (Option.none : Option Jvm.ClassFile.FieldType)) ∈ lw_all := lw_g (lw_at lw_m1 121 rfl) rfl
theorem q213 : (Jvm.Cond.methodLink "GraphModules" (132 : Nat) ({ cls := "GraphModules$Row", name := "size", desc := "()I" } : Jvm.MethodName)) ∈ lw_all := lw_g (lw_at lw_m1 122 rfl) rfl
theorem q220 : (Jvm.Cond.methodLink "GraphModules" (133 : Nat) ({ cls := "GraphModules$Row", name := "removeFirst", desc := "()V" } : Jvm.MethodName)) ∈ lw_all := lw_g (lw_at lw_m1 129 rfl) rfl
theorem q232 : (Jvm.Cond.methodLink "GraphModules" (136 : Nat) ({ cls := "GraphModules$Graph", name := "packed", desc := "()J" } : Jvm.MethodName)) ∈ lw_all := lw_g (lw_at lw_m1 141 rfl) rfl
theorem q241 : (Jvm.Cond.static ({ cls := "GraphModules", name := "has", desc := "(II)Z" } : Jvm.MethodName)) ∈ lw_all := lw_g (lw_at lw_m1 150 rfl) rfl
theorem q242 : (Jvm.Cond.code ({ cls := "GraphModules", name := "has", desc := "(II)Z" } : Jvm.MethodName) prog_1_method_2_code (2 : Nat) (Option.some Jvm.ClassFile.FieldType.boolean)) ∈ lw_all := lw_g (lw_at lw_m1 151 rfl) rfl
theorem q243 : (Jvm.Cond.methodLink "GraphModules" (140 : Nat) ({ cls := "GraphModules$Row", name := "add", desc := "(J)Z" } : Jvm.MethodName)) ∈ lw_all := lw_g (lw_at lw_m1 152 rfl) rfl
theorem q336 : (Jvm.Cond.methodLink "GraphModules" (143 : Nat) ({ cls := "GraphModules", name := "lay", desc := "(LGraphModules$Graph;)V" } : Jvm.MethodName)) ∈ lw_all := lw_g (lw_at lw_m2 5 rfl) rfl
theorem q337 : (Jvm.Cond.privateMethod ({ cls := "GraphModules", name := "lay", desc := "(LGraphModules$Graph;)V" } : Jvm.MethodName)) ∈ lw_tbl := lw_at lw_m2 6 rfl
theorem q338 : (Jvm.Cond.instanceMethod ({ cls := "GraphModules", name := "lay", desc := "(LGraphModules$Graph;)V" } : Jvm.MethodName)) ∈ lw_all := lw_g (lw_at lw_m2 7 rfl) rfl
theorem q339 : (Jvm.Cond.code ({ cls := "GraphModules", name := "lay", desc := "(LGraphModules$Graph;)V" } : Jvm.MethodName) prog_1_method_12_code (2 : Nat) (Option.none : Option Jvm.ClassFile.FieldType)) ∈ lw_all := lw_g (lw_at lw_m2 8 rfl) rfl
theorem q340 : (Jvm.Cond.methodLink "GraphModules" (126 : Nat) ({ cls := "GraphModules$Row", name := "clear", desc := "()I" } : Jvm.MethodName)) ∈ lw_all := lw_g (lw_at lw_m2 9 rfl) rfl
theorem q345 : (Jvm.Cond.instanceMethod ({ cls := "GraphModules", name := "set", desc := "(III)I" } : Jvm.MethodName)) ∈ lw_all := lw_g (lw_at lw_m2 14 rfl) rfl
theorem q346 : (Jvm.Cond.selects "GraphModules" ({ cls := "GraphModules", name := "set", desc := "(III)I" } : Jvm.MethodName) ({ cls := "GraphModules", name := "set", desc := "(III)I" } : Jvm.MethodName)) ∈ lw_all := lw_g (lw_at lw_m2 15 rfl) rfl
theorem q347 : (Jvm.Cond.code ({ cls := "GraphModules", name := "set", desc := "(III)I" } : Jvm.MethodName) prog_1_method_19_code (5 : Nat) (Option.some Jvm.ClassFile.FieldType.int)) ∈ lw_all := lw_g (lw_at lw_m2 16 rfl) rfl
theorem q348 : (Jvm.Cond.methodLink "GraphModules" (173 : Nat) ({ cls := "GraphModules", name := "areVertices", desc := "(II)Z" } : Jvm.MethodName)) ∈ lw_all := lw_g (lw_at lw_m2 17 rfl) rfl
theorem q349 : (Jvm.Cond.privateMethod ({ cls := "GraphModules", name := "areVertices", desc := "(II)Z" } : Jvm.MethodName)) ∈ lw_tbl := lw_at lw_m2 18 rfl
theorem q350 : (Jvm.Cond.instanceMethod ({ cls := "GraphModules", name := "areVertices", desc := "(II)Z" } : Jvm.MethodName)) ∈ lw_all := lw_g (lw_at lw_m2 19 rfl) rfl
theorem q351 : (Jvm.Cond.code ({ cls := "GraphModules", name := "areVertices", desc := "(II)Z" } : Jvm.MethodName) prog_1_method_16_code (3 : Nat) (Option.some Jvm.ClassFile.FieldType.boolean)) ∈ lw_all := lw_g (lw_at lw_m2 20 rfl) rfl
theorem q352 : (Jvm.Cond.methodLink "GraphModules" (163 : Nat) ({ cls := "GraphModules", name := "isVertex", desc := "(I)Z" } : Jvm.MethodName)) ∈ lw_all := lw_g (lw_at lw_m2 21 rfl) rfl
theorem q353 : (Jvm.Cond.privateMethod ({ cls := "GraphModules", name := "isVertex", desc := "(I)Z" } : Jvm.MethodName)) ∈ lw_tbl := lw_at lw_m2 22 rfl
theorem q354 : (Jvm.Cond.instanceMethod ({ cls := "GraphModules", name := "isVertex", desc := "(I)Z" } : Jvm.MethodName)) ∈ lw_all := lw_g (lw_at lw_m2 23 rfl) rfl
theorem q355 : (Jvm.Cond.code ({ cls := "GraphModules", name := "isVertex", desc := "(I)Z" } : Jvm.MethodName) prog_1_method_15_code (2 : Nat) (Option.some Jvm.ClassFile.FieldType.boolean)) ∈ lw_all := lw_g (lw_at lw_m2 24 rfl) rfl
theorem q356 : (Jvm.Cond.methodLink "GraphModules" (152 : Nat) ({ cls := "GraphModules$Graph", name := "linked", desc := "(II)Z" } : Jvm.MethodName)) ∈ lw_all := lw_g (lw_at lw_m2 25 rfl) rfl
theorem q357 : (Jvm.Cond.methodLink "GraphModules" (176 : Nat) ({ cls := "GraphModules", name := "copy", desc := "(I)LGraphModules$Graph;" } : Jvm.MethodName)) ∈ lw_all := lw_g (lw_at lw_m2 26 rfl) rfl
theorem q358 : (Jvm.Cond.privateMethod ({ cls := "GraphModules", name := "copy", desc := "(I)LGraphModules$Graph;" } : Jvm.MethodName)) ∈ lw_tbl := lw_at lw_m2 27 rfl
theorem q359 : (Jvm.Cond.instanceMethod ({ cls := "GraphModules", name := "copy", desc := "(I)LGraphModules$Graph;" } : Jvm.MethodName)) ∈ lw_all := lw_g (lw_at lw_m2 28 rfl) rfl
theorem q360 : (Jvm.Cond.code ({ cls := "GraphModules", name := "copy", desc := "(I)LGraphModules$Graph;" } : Jvm.MethodName) prog_1_method_14_code (5 : Nat) (Option.some (Jvm.ClassFile.FieldType.object "GraphModules$Graph"))) ∈ lw_all := lw_g (lw_at lw_m2 29 rfl) rfl
theorem q361 : (Jvm.Cond.methodLink "GraphModules" (146 : Nat) ({ cls := "java/lang/Math", name := "min", desc := "(II)I" } : Jvm.MethodName)) ∈ lw_all := lw_g (lw_at lw_m2 30 rfl) rfl
theorem q364 : (Jvm.Cond.methodLink "GraphModules" (155 : Nat) ({ cls := "GraphModules$Graph", name := "set", desc := "(IIZ)V" } : Jvm.MethodName)) ∈ lw_all := lw_g (lw_at lw_m2 33 rfl) rfl
theorem q368 : (Jvm.Cond.methodLink "GraphModules" (180 : Nat) ({ cls := "GraphModules$Graph", name := "edges", desc := "()I" } : Jvm.MethodName)) ∈ lw_all := lw_g (lw_at lw_m2 37 rfl) rfl
theorem q379 : (Jvm.Cond.instanceMethod ({ cls := "GraphModules", name := "complement", desc := "()I" } : Jvm.MethodName)) ∈ lw_all := lw_g (lw_at lw_m2 48 rfl) rfl
theorem q380 : (Jvm.Cond.selects "GraphModules" ({ cls := "GraphModules", name := "complement", desc := "()I" } : Jvm.MethodName) ({ cls := "GraphModules", name := "complement", desc := "()I" } : Jvm.MethodName)) ∈ lw_all := lw_g (lw_at lw_m2 49 rfl) rfl
theorem q381 : (Jvm.Cond.code ({ cls := "GraphModules", name := "complement", desc := "()I" } : Jvm.MethodName) prog_1_method_20_code (4 : Nat) (Option.some Jvm.ClassFile.FieldType.int)) ∈ lw_all := lw_g (lw_at lw_m2 50 rfl) rfl
theorem q383 : (Jvm.Cond.instanceMethod ({ cls := "GraphModules", name := "twin", desc := "(II)I" } : Jvm.MethodName)) ∈ lw_all := lw_g (lw_at lw_m2 52 rfl) rfl
theorem q384 : (Jvm.Cond.selects "GraphModules" ({ cls := "GraphModules", name := "twin", desc := "(II)I" } : Jvm.MethodName) ({ cls := "GraphModules", name := "twin", desc := "(II)I" } : Jvm.MethodName)) ∈ lw_all := lw_g (lw_at lw_m2 53 rfl) rfl
theorem q385 : (Jvm.Cond.code ({ cls := "GraphModules", name := "twin", desc := "(II)I" } : Jvm.MethodName) prog_1_method_21_code (5 : Nat) (Option.some Jvm.ClassFile.FieldType.int)) ∈ lw_all := lw_g (lw_at lw_m2 54 rfl) rfl
theorem q386 : (Jvm.Cond.methodLink "GraphModules" (187 : Nat) ({ cls := "GraphModules$Graph", name := "join", desc := "(II)V" } : Jvm.MethodName)) ∈ lw_all := lw_g (lw_at lw_m2 55 rfl) rfl
theorem q391 : (Jvm.Cond.instanceMethod ({ cls := "GraphModules", name := "remove", desc := "(I)I" } : Jvm.MethodName)) ∈ lw_all := lw_g (lw_at lw_m2 60 rfl) rfl
theorem q392 : (Jvm.Cond.selects "GraphModules" ({ cls := "GraphModules", name := "remove", desc := "(I)I" } : Jvm.MethodName) ({ cls := "GraphModules", name := "remove", desc := "(I)I" } : Jvm.MethodName)) ∈ lw_all := lw_g (lw_at lw_m2 61 rfl) rfl
theorem q393 : (Jvm.Cond.code ({ cls := "GraphModules", name := "remove", desc := "(I)I" } : Jvm.MethodName) prog_1_method_22_code (5 : Nat) (Option.some Jvm.ClassFile.FieldType.int)) ∈ lw_all := lw_g (lw_at lw_m2 62 rfl) rfl
theorem q395 : (Jvm.Cond.instanceMethod ({ cls := "GraphModules", name := "linked", desc := "(II)I" } : Jvm.MethodName)) ∈ lw_all := lw_g (lw_at lw_m2 64 rfl) rfl
theorem q396 : (Jvm.Cond.selects "GraphModules" ({ cls := "GraphModules", name := "linked", desc := "(II)I" } : Jvm.MethodName) ({ cls := "GraphModules", name := "linked", desc := "(II)I" } : Jvm.MethodName)) ∈ lw_all := lw_g (lw_at lw_m2 65 rfl) rfl
theorem q397 : (Jvm.Cond.code ({ cls := "GraphModules", name := "linked", desc := "(II)I" } : Jvm.MethodName) prog_1_method_23_code (3 : Nat) (Option.some Jvm.ClassFile.FieldType.int)) ∈ lw_all := lw_g (lw_at lw_m2 66 rfl) rfl
theorem q399 : (Jvm.Cond.instanceMethod ({ cls := "GraphModules", name := "count", desc := "(I)I" } : Jvm.MethodName)) ∈ lw_all := lw_g (lw_at lw_m2 68 rfl) rfl
theorem q400 : (Jvm.Cond.selects "GraphModules" ({ cls := "GraphModules", name := "count", desc := "(I)I" } : Jvm.MethodName) ({ cls := "GraphModules", name := "count", desc := "(I)I" } : Jvm.MethodName)) ∈ lw_all := lw_g (lw_at lw_m2 69 rfl) rfl
theorem q401 : (Jvm.Cond.code ({ cls := "GraphModules", name := "count", desc := "(I)I" } : Jvm.MethodName) prog_1_method_25_code (2 : Nat) (Option.some Jvm.ClassFile.FieldType.int)) ∈ lw_all := lw_g (lw_at lw_m2 70 rfl) rfl
theorem q402 : (Jvm.Cond.methodLink "GraphModules" (205 : Nat) ({ cls := "GraphModules", name := "forest", desc := "()LGraphModules$Forest;" } : Jvm.MethodName)) ∈ lw_all := lw_g (lw_at lw_m2 71 rfl) rfl
theorem q403 : (Jvm.Cond.privateMethod ({ cls := "GraphModules", name := "forest", desc := "()LGraphModules$Forest;" } : Jvm.MethodName)) ∈ lw_tbl := lw_at lw_m2 72 rfl
theorem q404 : (Jvm.Cond.instanceMethod ({ cls := "GraphModules", name := "forest", desc := "()LGraphModules$Forest;" } : Jvm.MethodName)) ∈ lw_all := lw_g (lw_at lw_m2 73 rfl) rfl
theorem q405 : (Jvm.Cond.code ({ cls := "GraphModules", name := "forest", desc := "()LGraphModules$Forest;" } : Jvm.MethodName) prog_1_method_10_code (1 : Nat) (Option.some (Jvm.ClassFile.FieldType.object "GraphModules$Forest"))) ∈ lw_all := lw_g (lw_at lw_m2 74 rfl) rfl
theorem q406 : (Jvm.Cond.classLink "GraphModules" (114 : Nat) "GraphModules$Forest") ∈ lw_all := lw_g (lw_at lw_m2 75 rfl) rfl
theorem q408 : (Jvm.Cond.methodLink "GraphModules" (116 : Nat) ({ cls := "GraphModules$Forest", name := "<init>", desc := "(LGraphModules$Graph;)V" } : Jvm.MethodName)) ∈ lw_all := lw_g (lw_at lw_m2 77 rfl) rfl
theorem q448 : (Jvm.Cond.static ({ cls := "GraphModules", name := "grow", desc := "(LGraphModules$Graph;I)LGraphModules$Tree;" } : Jvm.MethodName)) ∈ lw_all := lw_g (lw_at lw_m2 117 rfl) rfl
theorem q449 : (Jvm.Cond.code ({ cls := "GraphModules", name := "grow", desc := "(LGraphModules$Graph;I)LGraphModules$Tree;" } : Jvm.MethodName) prog_1_method_8_code (5 : Nat) (Option.some (Jvm.ClassFile.FieldType.object "GraphModules$Tree"))) ∈ lw_all := lw_g (lw_at lw_m2 118 rfl) rfl
theorem q450 : (Jvm.Cond.methodLink "GraphModules" (53 : Nat) ({ cls := "java/lang/Integer", name := "bitCount", desc := "(I)I" } : Jvm.MethodName)) ∈ lw_all := lw_g (lw_at lw_m2 119 rfl) rfl
theorem q451 : (Jvm.Cond.classLink "GraphModules" (56 : Nat) "GraphModules$Leaf") ∈ lw_all := lw_g (lw_at lw_m2 120 rfl) rfl
theorem q453 : (Jvm.Cond.methodLink "GraphModules" (58 : Nat) ({ cls := "GraphModules$Leaf", name := "<init>", desc := "(I)V" } : Jvm.MethodName)) ∈ lw_all := lw_g (lw_at lw_m2 122 rfl) rfl
theorem q463 : (Jvm.Cond.fieldLink "GraphModules" (248 : Nat) "GraphModules$Tree" "set" "I") ∈ lw_all := lw_g (lw_at lw_m2 132 rfl) rfl
theorem q466 : (Jvm.Cond.fieldLink "GraphModules" (250 : Nat) "GraphModules$Tree" "parent" "LGraphModules$Inner;") ∈ lw_all := lw_g (lw_at lw_m2 135 rfl) rfl
theorem q472 : (Jvm.Cond.classLink "GraphModules" (7 : Nat) "GraphModules$Inner") ∈ lw_all := lw_g (lw_at lw_m2 141 rfl) rfl
theorem q474 : (Jvm.Cond.methodLink "GraphModules" (62 : Nat) ({ cls := "GraphModules", name := "kindOf", desc := "(LGraphModules$Graph;I)LGraphModules$Kind;" } : Jvm.MethodName)) ∈ lw_all := lw_g (lw_at lw_m2 143 rfl) rfl
theorem q475 : (Jvm.Cond.static ({ cls := "GraphModules", name := "kindOf", desc := "(LGraphModules$Graph;I)LGraphModules$Kind;" } : Jvm.MethodName)) ∈ lw_all := lw_g (lw_at lw_m2 144 rfl) rfl
theorem q476 : (Jvm.Cond.code ({ cls := "GraphModules", name := "kindOf", desc := "(LGraphModules$Graph;I)LGraphModules$Kind;" } : Jvm.MethodName) prog_1_method_6_code (3 : Nat) (Option.some (Jvm.ClassFile.FieldType.object "GraphModules$Kind"))) ∈ lw_all := lw_g (lw_at lw_m2 145 rfl) rfl
theorem q477 : (Jvm.Cond.methodLink "GraphModules" (19 : Nat) ({ cls := "GraphModules", name := "lowest", desc := "(I)I" } : Jvm.MethodName)) ∈ lw_all := lw_g (lw_at lw_m2 146 rfl) rfl
theorem q478 : (Jvm.Cond.static ({ cls := "GraphModules", name := "lowest", desc := "(I)I" } : Jvm.MethodName)) ∈ lw_all := lw_g (lw_at lw_m2 147 rfl) rfl
theorem q479 : (Jvm.Cond.code ({ cls := "GraphModules", name := "lowest", desc := "(I)I" } : Jvm.MethodName) prog_1_method_3_code (1 : Nat) (Option.some Jvm.ClassFile.FieldType.int)) ∈ lw_all := lw_g (lw_at lw_m2 148 rfl) rfl
theorem q480 : (Jvm.Cond.methodLink "GraphModules" (1 : Nat) ({ cls := "java/lang/Integer", name := "numberOfTrailingZeros", desc := "(I)I" } : Jvm.MethodName)) ∈ lw_all := lw_g (lw_at lw_m2 149 rfl) rfl
theorem q484 : (Jvm.Cond.methodLink "GraphModules" (24 : Nat) ({ cls := "GraphModules$Graph", name := "reach", desc := "(IIZ)I" } : Jvm.MethodName)) ∈ lw_all := lw_g (lw_at lw_m2 153 rfl) rfl
theorem q488 : (Jvm.Cond.fieldLink "GraphModules" (30 : Nat) "GraphModules$Kind" "PARALLEL" "LGraphModules$Kind;") ∈ lw_all := lw_g (lw_at lw_m2 157 rfl) rfl
theorem q490 : (Jvm.Cond.fieldLink "GraphModules" (36 : Nat) "GraphModules$Kind" "SERIES" "LGraphModules$Kind;") ∈ lw_all := lw_g (lw_at lw_m2 159 rfl) rfl
theorem q492 : (Jvm.Cond.fieldLink "GraphModules" (39 : Nat) "GraphModules$Kind" "PRIME" "LGraphModules$Kind;") ∈ lw_all := lw_g (lw_at lw_m2 161 rfl) rfl
theorem q494 : (Jvm.Cond.methodLink "GraphModules" (66 : Nat) ({ cls := "GraphModules$Inner", name := "<init>", desc := "(ILGraphModules$Kind;)V" } : Jvm.MethodName)) ∈ lw_all := lw_g (lw_at lw_m2 163 rfl) rfl
theorem q502 : (Jvm.Cond.fieldLinkNest "GraphModules" (69 : Nat) "GraphModules$Inner" "kind" "LGraphModules$Kind;" "GraphModules") ∈ lw_tbl := lw_at lw_m2 171 rfl
theorem q505 : (Jvm.Cond.fieldLinkNest "GraphModules" (9 : Nat) "GraphModules$Inner" "children" "Ljava/util/ArrayList;" "GraphModules") ∈ lw_tbl := lw_at lw_m2 174 rfl
theorem q513 : (Jvm.Cond.methodLink "GraphModules" (72 : Nat) ({ cls := "GraphModules", name := "childOf", desc := "(LGraphModules$Graph;ILGraphModules$Kind;I)I" } : Jvm.MethodName)) ∈ lw_all := lw_g (lw_at lw_m2 182 rfl) rfl
theorem q514 : (Jvm.Cond.static ({ cls := "GraphModules", name := "childOf", desc := "(LGraphModules$Graph;ILGraphModules$Kind;I)I" } : Jvm.MethodName)) ∈ lw_all := lw_g (lw_at lw_m2 183 rfl) rfl
theorem q515 : (Jvm.Cond.code ({ cls := "GraphModules", name := "childOf", desc := "(LGraphModules$Graph;ILGraphModules$Kind;I)I" } : Jvm.MethodName) prog_1_method_7_code (7 : Nat) (Option.some Jvm.ClassFile.FieldType.int)) ∈ lw_all := lw_g (lw_at lw_m2 184 rfl) rfl
theorem q516 : (Jvm.Cond.methodLink "GraphModules" (46 : Nat) ({ cls := "GraphModules", name := "has", desc := "(II)Z" } : Jvm.MethodName)) ∈ lw_all := lw_g (lw_at lw_m2 185 rfl) rfl
theorem q517 : (Jvm.Cond.methodLink "GraphModules" (50 : Nat) ({ cls := "GraphModules$Graph", name := "module", desc := "(I)I" } : Jvm.MethodName)) ∈ lw_all := lw_g (lw_at lw_m2 186 rfl) rfl
theorem q525 : (Jvm.Cond.methodLink "GraphModules" (76 : Nat) ({ cls := "GraphModules", name := "grow", desc := "(LGraphModules$Graph;I)LGraphModules$Tree;" } : Jvm.MethodName)) ∈ lw_all := lw_g (lw_at lw_m2 194 rfl) rfl
theorem q526 : (Jvm.Cond.methodLink "GraphModules" (80 : Nat) ({ cls := "GraphModules$Inner", name := "add", desc := "(LGraphModules$Tree;)V" } : Jvm.MethodName)) ∈ lw_all := lw_g (lw_at lw_m2 195 rfl) rfl
theorem q562 : (Jvm.Cond.selects "GraphModules" ({ cls := "java/lang/Object", name := "getClass", desc := "()Ljava/lang/Class;" } : Jvm.MethodName) ({ cls := "java/lang/Object", name := "getClass", desc := "()Ljava/lang/Class;" } : Jvm.MethodName)) ∈ lw_all := lw_g (lw_at lw_m2 231 rfl) rfl
theorem q678 : (Jvm.Cond.fieldLinkNest "GraphModules" (272 : Nat) "GraphModules$Forest" "root" "LGraphModules$Tree;" "GraphModules") ∈ lw_tbl := lw_at lw_m3 107 rfl
theorem q680 : (Jvm.Cond.fieldLinkNest "GraphModules" (211 : Nat) "GraphModules$Forest" "nodes" "Ljava/util/ArrayList;" "GraphModules") ∈ lw_tbl := lw_at lw_m3 109 rfl
theorem q682 : (Jvm.Cond.fieldLinkNest "GraphModules" (326 : Nat) "GraphModules$Forest" "leaves" "LGraphModules$Row;" "GraphModules") ∈ lw_tbl := lw_at lw_m3 111 rfl
theorem q690 : (Jvm.Cond.methodLink "GraphModules" (208 : Nat) ({ cls := "GraphModules$Forest", name := "modules", desc := "(I)I" } : Jvm.MethodName)) ∈ lw_all := lw_g (lw_at lw_m3 119 rfl) rfl
theorem q723 : (Jvm.Cond.methodLink "GraphModules" (13 : Nat) ({ cls := "java/util/ArrayList", name := "size", desc := "()I" } : Jvm.MethodName)) ∈ lw_all := lw_g (lw_at lw_m3 152 rfl) rfl
theorem q724 : (Jvm.Cond.methodLink "GraphModules" (214 : Nat) ({ cls := "GraphModules$Forest", name := "many", desc := "(LGraphModules$Kind;)I" } : Jvm.MethodName)) ∈ lw_all := lw_g (lw_at lw_m3 153 rfl) rfl
theorem q738 : (Jvm.Cond.methodLink "GraphModules" (217 : Nat) ({ cls := "GraphModules$Forest", name := "depth", desc := "()I" } : Jvm.MethodName)) ∈ lw_all := lw_g (lw_at lw_m3 167 rfl) rfl
theorem q749 : (Jvm.Cond.methodLink "GraphModules" (220 : Nat) ({ cls := "GraphModules", name := "classes", desc := "()I" } : Jvm.MethodName)) ∈ lw_all := lw_g (lw_at lw_m3 178 rfl) rfl
theorem q750 : (Jvm.Cond.privateMethod ({ cls := "GraphModules", name := "classes", desc := "()I" } : Jvm.MethodName)) ∈ lw_tbl := lw_at lw_m3 179 rfl
theorem q751 : (Jvm.Cond.instanceMethod ({ cls := "GraphModules", name := "classes", desc := "()I" } : Jvm.MethodName)) ∈ lw_all := lw_g (lw_at lw_m3 180 rfl) rfl
theorem q752 : (Jvm.Cond.code ({ cls := "GraphModules", name := "classes", desc := "()I" } : Jvm.MethodName) prog_1_method_24_code (6 : Nat) (Option.some Jvm.ClassFile.FieldType.int)) ∈ lw_all := lw_g (lw_at lw_m3 181 rfl) rfl
theorem q753 : (Jvm.Cond.fieldLink "GraphModules" (191 : Nat) "GraphModules" "EDGES" "I") ∈ lw_all := lw_g (lw_at lw_m3 182 rfl) rfl
theorem q754 : (Jvm.Cond.laysStatic "GraphModules" "EDGES" "I") ∈ lw_tbl := lw_at lw_m3 183 rfl
theorem q755 : (Jvm.Cond.classLink "GraphModules" (194 : Nat) "GraphModules$Gathering") ∈ lw_all := lw_g (lw_at lw_m3 184 rfl) rfl
theorem q757 : (Jvm.Cond.methodLinkNest "GraphModules" (196 : Nat) ({ cls := "GraphModules$Gathering", name := "<init>", desc := "()V" } : Jvm.MethodName) "GraphModules") ∈ lw_tbl := lw_at lw_m3 186 rfl
theorem q765 : (Jvm.Cond.fieldLinkNest "GraphModules" (202 : Nat) "GraphModules$Gathering" "queue" "[I" "GraphModules") ∈ lw_tbl := lw_at lw_m3 194 rfl
theorem q768 : (Jvm.Cond.fieldLinkNest "GraphModules" (201 : Nat) "GraphModules$Gathering" "many" "I" "GraphModules") ∈ lw_tbl := lw_at lw_m3 197 rfl
theorem q777 : (Jvm.Cond.methodLink "GraphModules" (197 : Nat) ({ cls := "GraphModules$Gathering", name := "of", desc := "(LGraphModules$Graph;II)LGraphModules$Gathering;" } : Jvm.MethodName)) ∈ lw_all := lw_g (lw_at lw_m3 206 rfl) rfl
theorem q787 : (Jvm.Cond.instanceMethod ({ cls := "GraphModules", name := "undo", desc := "()I" } : Jvm.MethodName)) ∈ lw_all := lw_g (lw_at lw_m3 216 rfl) rfl
theorem q788 : (Jvm.Cond.selects "GraphModules" ({ cls := "GraphModules", name := "undo", desc := "()I" } : Jvm.MethodName) ({ cls := "GraphModules", name := "undo", desc := "()I" } : Jvm.MethodName)) ∈ lw_all := lw_g (lw_at lw_m3 217 rfl) rfl
theorem q789 : (Jvm.Cond.code ({ cls := "GraphModules", name := "undo", desc := "()I" } : Jvm.MethodName) prog_1_method_26_code (1 : Nat) (Option.some Jvm.ClassFile.FieldType.int)) ∈ lw_all := lw_g (lw_at lw_m3 218 rfl) rfl
theorem q790 : (Jvm.Cond.methodLink "GraphModules" (223 : Nat) ({ cls := "GraphModules$Row", name := "removeLast", desc := "()J" } : Jvm.MethodName)) ∈ lw_all := lw_g (lw_at lw_m3 219 rfl) rfl
theorem q794 : (Jvm.Cond.methodLink "GraphModules" (226 : Nat) ({ cls := "GraphModules$Graph", name := "<init>", desc := "(J)V" } : Jvm.MethodName)) ∈ lw_all := lw_g (lw_at lw_m3 223 rfl) rfl
theorem q801 : (Jvm.Cond.instanceMethod ({ cls := "GraphModules", name := "isModule", desc := "(I)I" } : Jvm.MethodName)) ∈ lw_all := lw_g (lw_at lw_m3 230 rfl) rfl
theorem q802 : (Jvm.Cond.selects "GraphModules" ({ cls := "GraphModules", name := "isModule", desc := "(I)I" } : Jvm.MethodName) ({ cls := "GraphModules", name := "isModule", desc := "(I)I" } : Jvm.MethodName)) ∈ lw_all := lw_g (lw_at lw_m3 231 rfl) rfl
theorem q803 : (Jvm.Cond.code ({ cls := "GraphModules", name := "isModule", desc := "(I)I" } : Jvm.MethodName) prog_1_method_27_code (2 : Nat) (Option.some Jvm.ClassFile.FieldType.int)) ∈ lw_all := lw_g (lw_at lw_m3 232 rfl) rfl
theorem q804 : (Jvm.Cond.methodLink "GraphModules" (229 : Nat) ({ cls := "GraphModules", name := "isSet", desc := "(I)Z" } : Jvm.MethodName)) ∈ lw_all := lw_g (lw_at lw_m3 233 rfl) rfl
theorem q805 : (Jvm.Cond.privateMethod ({ cls := "GraphModules", name := "isSet", desc := "(I)Z" } : Jvm.MethodName)) ∈ lw_tbl := lw_at lw_m3 234 rfl
theorem q806 : (Jvm.Cond.instanceMethod ({ cls := "GraphModules", name := "isSet", desc := "(I)Z" } : Jvm.MethodName)) ∈ lw_all := lw_g (lw_at lw_m3 235 rfl) rfl
theorem q807 : (Jvm.Cond.code ({ cls := "GraphModules", name := "isSet", desc := "(I)Z" } : Jvm.MethodName) prog_1_method_17_code (2 : Nat) (Option.some Jvm.ClassFile.FieldType.boolean)) ∈ lw_all := lw_g (lw_at lw_m3 236 rfl) rfl
theorem q808 : (Jvm.Cond.methodLink "GraphModules" (167 : Nat) ({ cls := "GraphModules$Graph", name := "all", desc := "()I" } : Jvm.MethodName)) ∈ lw_all := lw_g (lw_at lw_m3 237 rfl) rfl
theorem q809 : (Jvm.Cond.methodLink "GraphModules" (232 : Nat) ({ cls := "GraphModules$Graph", name := "splitters", desc := "(I)I" } : Jvm.MethodName)) ∈ lw_all := lw_g (lw_at lw_m3 238 rfl) rfl
theorem q811 : (Jvm.Cond.instanceMethod ({ cls := "GraphModules", name := "splitters", desc := "(I)I" } : Jvm.MethodName)) ∈ lw_all := lw_g (lw_at lw_m4 0 rfl) rfl
theorem q812 : (Jvm.Cond.selects "GraphModules" ({ cls := "GraphModules", name := "splitters", desc := "(I)I" } : Jvm.MethodName) ({ cls := "GraphModules", name := "splitters", desc := "(I)I" } : Jvm.MethodName)) ∈ lw_all := lw_g (lw_at lw_m4 1 rfl) rfl
theorem q813 : (Jvm.Cond.code ({ cls := "GraphModules", name := "splitters", desc := "(I)I" } : Jvm.MethodName) prog_1_method_28_code (2 : Nat) (Option.some Jvm.ClassFile.FieldType.int)) ∈ lw_all := lw_g (lw_at lw_m4 2 rfl) rfl
theorem q815 : (Jvm.Cond.instanceMethod ({ cls := "GraphModules", name := "module", desc := "(I)I" } : Jvm.MethodName)) ∈ lw_all := lw_g (lw_at lw_m4 4 rfl) rfl
theorem q816 : (Jvm.Cond.selects "GraphModules" ({ cls := "GraphModules", name := "module", desc := "(I)I" } : Jvm.MethodName) ({ cls := "GraphModules", name := "module", desc := "(I)I" } : Jvm.MethodName)) ∈ lw_all := lw_g (lw_at lw_m4 5 rfl) rfl
theorem q817 : (Jvm.Cond.code ({ cls := "GraphModules", name := "module", desc := "(I)I" } : Jvm.MethodName) prog_1_method_29_code (2 : Nat) (Option.some Jvm.ClassFile.FieldType.int)) ∈ lw_all := lw_g (lw_at lw_m4 6 rfl) rfl
theorem q819 : (Jvm.Cond.instanceMethod ({ cls := "GraphModules", name := "modules", desc := "(I)I" } : Jvm.MethodName)) ∈ lw_all := lw_g (lw_at lw_m4 8 rfl) rfl
theorem q820 : (Jvm.Cond.selects "GraphModules" ({ cls := "GraphModules", name := "modules", desc := "(I)I" } : Jvm.MethodName) ({ cls := "GraphModules", name := "modules", desc := "(I)I" } : Jvm.MethodName)) ∈ lw_all := lw_g (lw_at lw_m4 9 rfl) rfl
theorem q821 : (Jvm.Cond.code ({ cls := "GraphModules", name := "modules", desc := "(I)I" } : Jvm.MethodName) prog_1_method_30_code (2 : Nat) (Option.some Jvm.ClassFile.FieldType.int)) ∈ lw_all := lw_g (lw_at lw_m4 10 rfl) rfl
theorem q823 : (Jvm.Cond.instanceMethod ({ cls := "GraphModules", name := "strong", desc := "(I)I" } : Jvm.MethodName)) ∈ lw_all := lw_g (lw_at lw_m4 12 rfl) rfl
theorem q824 : (Jvm.Cond.selects "GraphModules" ({ cls := "GraphModules", name := "strong", desc := "(I)I" } : Jvm.MethodName) ({ cls := "GraphModules", name := "strong", desc := "(I)I" } : Jvm.MethodName)) ∈ lw_all := lw_g (lw_at lw_m4 13 rfl) rfl
theorem q825 : (Jvm.Cond.code ({ cls := "GraphModules", name := "strong", desc := "(I)I" } : Jvm.MethodName) prog_1_method_33_code (2 : Nat) (Option.some Jvm.ClassFile.FieldType.int)) ∈ lw_all := lw_g (lw_at lw_m4 14 rfl) rfl
theorem q826 : (Jvm.Cond.methodLink "GraphModules" (241 : Nat) ({ cls := "GraphModules", name := "isStrong", desc := "(I)Z" } : Jvm.MethodName)) ∈ lw_all := lw_g (lw_at lw_m4 15 rfl) rfl
theorem q827 : (Jvm.Cond.privateMethod ({ cls := "GraphModules", name := "isStrong", desc := "(I)Z" } : Jvm.MethodName)) ∈ lw_tbl := lw_at lw_m4 16 rfl
theorem q828 : (Jvm.Cond.instanceMethod ({ cls := "GraphModules", name := "isStrong", desc := "(I)Z" } : Jvm.MethodName)) ∈ lw_all := lw_g (lw_at lw_m4 17 rfl) rfl
theorem q829 : (Jvm.Cond.code ({ cls := "GraphModules", name := "isStrong", desc := "(I)Z" } : Jvm.MethodName) prog_1_method_31_code (2 : Nat) (Option.some Jvm.ClassFile.FieldType.boolean)) ∈ lw_all := lw_g (lw_at lw_m4 18 rfl) rfl
theorem q830 : (Jvm.Cond.methodLink "GraphModules" (244 : Nat) ({ cls := "GraphModules", name := "strongAt", desc := "(I)LGraphModules$Tree;" } : Jvm.MethodName)) ∈ lw_all := lw_g (lw_at lw_m4 19 rfl) rfl
theorem q831 : (Jvm.Cond.privateMethod ({ cls := "GraphModules", name := "strongAt", desc := "(I)LGraphModules$Tree;" } : Jvm.MethodName)) ∈ lw_tbl := lw_at lw_m4 20 rfl
theorem q832 : (Jvm.Cond.instanceMethod ({ cls := "GraphModules", name := "strongAt", desc := "(I)LGraphModules$Tree;" } : Jvm.MethodName)) ∈ lw_all := lw_g (lw_at lw_m4 21 rfl) rfl
theorem q833 : (Jvm.Cond.code ({ cls := "GraphModules", name := "strongAt", desc := "(I)LGraphModules$Tree;" } : Jvm.MethodName) prog_1_method_32_code (2 : Nat) (Option.some (Jvm.ClassFile.FieldType.object "GraphModules$Tree"))) ∈ lw_all := lw_g (lw_at lw_m4 22 rfl) rfl
theorem q834 : (Jvm.Cond.methodLink "GraphModules" (235 : Nat) ({ cls := "java/util/ArrayList", name := "get", desc := "(I)Ljava/lang/Object;" } : Jvm.MethodName)) ∈ lw_all := lw_g (lw_at lw_m4 23 rfl) rfl
theorem q835 : (Jvm.Cond.classLink "GraphModules" (239 : Nat) "GraphModules$Tree") ∈ lw_all := lw_g (lw_at lw_m4 24 rfl) rfl
theorem q837 : (Jvm.Cond.instanceMethod ({ cls := "GraphModules", name := "node", desc := "(II)I" } : Jvm.MethodName)) ∈ lw_all := lw_g (lw_at lw_m4 26 rfl) rfl
theorem q838 : (Jvm.Cond.selects "GraphModules" ({ cls := "GraphModules", name := "node", desc := "(II)I" } : Jvm.MethodName) ({ cls := "GraphModules", name := "node", desc := "(II)I" } : Jvm.MethodName)) ∈ lw_all := lw_g (lw_at lw_m4 27 rfl) rfl
theorem q839 : (Jvm.Cond.code ({ cls := "GraphModules", name := "node", desc := "(II)I" } : Jvm.MethodName) prog_1_method_35_code (4 : Nat) (Option.some Jvm.ClassFile.FieldType.int)) ∈ lw_all := lw_g (lw_at lw_m4 28 rfl) rfl
theorem q840 : (Jvm.Cond.methodLink "GraphModules" (260 : Nat) ({ cls := "GraphModules", name := "parentOf", desc := "(LGraphModules$Tree;)I" } : Jvm.MethodName)) ∈ lw_all := lw_g (lw_at lw_m4 29 rfl) rfl
theorem q841 : (Jvm.Cond.privateMethod ({ cls := "GraphModules", name := "parentOf", desc := "(LGraphModules$Tree;)I" } : Jvm.MethodName)) ∈ lw_tbl := lw_at lw_m4 30 rfl
theorem q842 : (Jvm.Cond.instanceMethod ({ cls := "GraphModules", name := "parentOf", desc := "(LGraphModules$Tree;)I" } : Jvm.MethodName)) ∈ lw_all := lw_g (lw_at lw_m4 31 rfl) rfl
theorem q843 : (Jvm.Cond.codeWith ({ cls := "GraphModules", name := "parentOf", desc := "(LGraphModules$Tree;)I" } : Jvm.MethodName) prog_1_method_34_code (3 : Nat) (Option.some Jvm.ClassFile.FieldType.int) [((0 : Nat), (11 : Nat), (12 : Nat), (258 : Nat))]) ∈ lw_all := lw_g (lw_at lw_m4 32 rfl) rfl
theorem q844 : (Jvm.Cond.classLink "GraphModules" (258 : Nat) "java/lang/NullPointerException") ∈ lw_all := lw_g (lw_at lw_m4 33 rfl) rfl
theorem q869 : (Jvm.Cond.methodLink "GraphModules" (254 : Nat) ({ cls := "GraphModules$Forest", name := "numberOf", desc := "(LGraphModules$Tree;)I" } : Jvm.MethodName)) ∈ lw_all := lw_g (lw_at lw_m4 58 rfl) rfl
theorem q873 : (Jvm.Cond.methodLink "GraphModules" (263 : Nat) ({ cls := "GraphModules$Tree", name := "kind", desc := "()LGraphModules$Kind;" } : Jvm.MethodName)) ∈ lw_all := lw_g (lw_at lw_m4 62 rfl) rfl
theorem q874 : (Jvm.Cond.methodLink "GraphModules" (266 : Nat) ({ cls := "GraphModules$Kind", name := "ordinal", desc := "()I" } : Jvm.MethodName)) ∈ lw_all := lw_g (lw_at lw_m4 63 rfl) rfl
theorem q883 : (Jvm.Cond.methodLink "GraphModules" (269 : Nat) ({ cls := "GraphModules", name := "children", desc := "(LGraphModules$Tree;)I" } : Jvm.MethodName)) ∈ lw_all := lw_g (lw_at lw_m4 72 rfl) rfl
theorem q884 : (Jvm.Cond.static ({ cls := "GraphModules", name := "children", desc := "(LGraphModules$Tree;)I" } : Jvm.MethodName)) ∈ lw_all := lw_g (lw_at lw_m4 73 rfl) rfl
theorem q885 : (Jvm.Cond.code ({ cls := "GraphModules", name := "children", desc := "(LGraphModules$Tree;)I" } : Jvm.MethodName) prog_1_method_5_code (1 : Nat) (Option.some Jvm.ClassFile.FieldType.int)) ∈ lw_all := lw_g (lw_at lw_m4 74 rfl) rfl
theorem q886 : (Jvm.Cond.methodLink "GraphModules" (271 : Nat) ({ cls := "GraphModules$Tree", name := "depth", desc := "()I" } : Jvm.MethodName)) ∈ lw_all := lw_g (lw_at lw_m4 75 rfl) rfl
theorem q888 : (Jvm.Cond.instanceMethod ({ cls := "GraphModules", name := "child", desc := "(II)I" } : Jvm.MethodName)) ∈ lw_all := lw_g (lw_at lw_m4 77 rfl) rfl
theorem q889 : (Jvm.Cond.selects "GraphModules" ({ cls := "GraphModules", name := "child", desc := "(II)I" } : Jvm.MethodName) ({ cls := "GraphModules", name := "child", desc := "(II)I" } : Jvm.MethodName)) ∈ lw_all := lw_g (lw_at lw_m4 78 rfl) rfl
theorem q890 : (Jvm.Cond.code ({ cls := "GraphModules", name := "child", desc := "(II)I" } : Jvm.MethodName) prog_1_method_36_code (4 : Nat) (Option.some Jvm.ClassFile.FieldType.int)) ∈ lw_all := lw_g (lw_at lw_m4 79 rfl) rfl
theorem q892 : (Jvm.Cond.instanceMethod ({ cls := "GraphModules", name := "together", desc := "(II)I" } : Jvm.MethodName)) ∈ lw_all := lw_g (lw_at lw_m4 81 rfl) rfl
theorem q893 : (Jvm.Cond.selects "GraphModules" ({ cls := "GraphModules", name := "together", desc := "(II)I" } : Jvm.MethodName) ({ cls := "GraphModules", name := "together", desc := "(II)I" } : Jvm.MethodName)) ∈ lw_all := lw_g (lw_at lw_m4 82 rfl) rfl
theorem q894 : (Jvm.Cond.code ({ cls := "GraphModules", name := "together", desc := "(II)I" } : Jvm.MethodName) prog_1_method_37_code (6 : Nat) (Option.some Jvm.ClassFile.FieldType.int)) ∈ lw_all := lw_g (lw_at lw_m4 83 rfl) rfl
theorem q895 : (Jvm.Cond.methodLink "GraphModules" (276 : Nat) ({ cls := "GraphModules$Inner", name := "childrenIn", desc := "(I)I" } : Jvm.MethodName)) ∈ lw_all := lw_g (lw_at lw_m4 84 rfl) rfl
theorem q903 : (Jvm.Cond.instanceMethod ({ cls := "GraphModules", name := "quotient", desc := "(III)I" } : Jvm.MethodName)) ∈ lw_all := lw_g (lw_at lw_m4 92 rfl) rfl
theorem q904 : (Jvm.Cond.selects "GraphModules" ({ cls := "GraphModules", name := "quotient", desc := "(III)I" } : Jvm.MethodName) ({ cls := "GraphModules", name := "quotient", desc := "(III)I" } : Jvm.MethodName)) ∈ lw_all := lw_g (lw_at lw_m4 93 rfl) rfl
theorem q905 : (Jvm.Cond.code ({ cls := "GraphModules", name := "quotient", desc := "(III)I" } : Jvm.MethodName) prog_1_method_39_code (5 : Nat) (Option.some Jvm.ClassFile.FieldType.int)) ∈ lw_all := lw_g (lw_at lw_m4 94 rfl) rfl
theorem q906 : (Jvm.Cond.methodLink "GraphModules" (279 : Nat) ({ cls := "GraphModules", name := "linkedWith", desc := "(LGraphModules$Inner;I)I" } : Jvm.MethodName)) ∈ lw_all := lw_g (lw_at lw_m4 95 rfl) rfl
theorem q907 : (Jvm.Cond.privateMethod ({ cls := "GraphModules", name := "linkedWith", desc := "(LGraphModules$Inner;I)I" } : Jvm.MethodName)) ∈ lw_tbl := lw_at lw_m4 96 rfl
theorem q908 : (Jvm.Cond.instanceMethod ({ cls := "GraphModules", name := "linkedWith", desc := "(LGraphModules$Inner;I)I" } : Jvm.MethodName)) ∈ lw_all := lw_g (lw_at lw_m4 97 rfl) rfl
theorem q909 : (Jvm.Cond.code ({ cls := "GraphModules", name := "linkedWith", desc := "(LGraphModules$Inner;I)I" } : Jvm.MethodName) prog_1_method_38_code (4 : Nat) (Option.some Jvm.ClassFile.FieldType.int)) ∈ lw_all := lw_g (lw_at lw_m4 98 rfl) rfl
theorem q911 : (Jvm.Cond.instanceMethod ({ cls := "GraphModules", name := "pathOfFour", desc := "(I)I" } : Jvm.MethodName)) ∈ lw_all := lw_g (lw_at lw_m4 100 rfl) rfl
theorem q912 : (Jvm.Cond.selects "GraphModules" ({ cls := "GraphModules", name := "pathOfFour", desc := "(I)I" } : Jvm.MethodName) ({ cls := "GraphModules", name := "pathOfFour", desc := "(I)I" } : Jvm.MethodName)) ∈ lw_all := lw_g (lw_at lw_m4 101 rfl) rfl
theorem q913 : (Jvm.Cond.code ({ cls := "GraphModules", name := "pathOfFour", desc := "(I)I" } : Jvm.MethodName) prog_1_method_41_code (8 : Nat) (Option.some Jvm.ClassFile.FieldType.int)) ∈ lw_all := lw_g (lw_at lw_m4 102 rfl) rfl
theorem q914 : (Jvm.Cond.methodLink "GraphModules" (283 : Nat) ({ cls := "GraphModules", name := "isPathOfFour", desc := "(IIII)Z" } : Jvm.MethodName)) ∈ lw_all := lw_g (lw_at lw_m4 103 rfl) rfl
theorem q915 : (Jvm.Cond.privateMethod ({ cls := "GraphModules", name := "isPathOfFour", desc := "(IIII)Z" } : Jvm.MethodName)) ∈ lw_tbl := lw_at lw_m4 104 rfl
theorem q916 : (Jvm.Cond.instanceMethod ({ cls := "GraphModules", name := "isPathOfFour", desc := "(IIII)Z" } : Jvm.MethodName)) ∈ lw_all := lw_g (lw_at lw_m4 105 rfl) rfl
theorem q917 : (Jvm.Cond.code ({ cls := "GraphModules", name := "isPathOfFour", desc := "(IIII)Z" } : Jvm.MethodName) prog_1_method_40_code (6 : Nat) (Option.some Jvm.ClassFile.FieldType.boolean)) ∈ lw_all := lw_g (lw_at lw_m4 106 rfl) rfl
theorem q919 : (Jvm.Cond.instanceMethod ({ cls := "GraphModules", name := "parts", desc := "(I)I" } : Jvm.MethodName)) ∈ lw_all := lw_g (lw_at lw_m4 108 rfl) rfl
theorem q920 : (Jvm.Cond.selects "GraphModules" ({ cls := "GraphModules", name := "parts", desc := "(I)I" } : Jvm.MethodName) ({ cls := "GraphModules", name := "parts", desc := "(I)I" } : Jvm.MethodName)) ∈ lw_all := lw_g (lw_at lw_m4 109 rfl) rfl
theorem q921 : (Jvm.Cond.code ({ cls := "GraphModules", name := "parts", desc := "(I)I" } : Jvm.MethodName) prog_1_method_44_code (2 : Nat) (Option.some Jvm.ClassFile.FieldType.int)) ∈ lw_all := lw_g (lw_at lw_m4 110 rfl) rfl
theorem q922 : (Jvm.Cond.methodLink "GraphModules" (298 : Nat) ({ cls := "GraphModules", name := "partsWithout", desc := "(I)LGraphModules$Row;" } : Jvm.MethodName)) ∈ lw_all := lw_g (lw_at lw_m4 111 rfl) rfl
theorem q923 : (Jvm.Cond.privateMethod ({ cls := "GraphModules", name := "partsWithout", desc := "(I)LGraphModules$Row;" } : Jvm.MethodName)) ∈ lw_tbl := lw_at lw_m4 112 rfl
theorem q924 : (Jvm.Cond.instanceMethod ({ cls := "GraphModules", name := "partsWithout", desc := "(I)LGraphModules$Row;" } : Jvm.MethodName)) ∈ lw_all := lw_g (lw_at lw_m4 113 rfl) rfl
theorem q925 : (Jvm.Cond.code ({ cls := "GraphModules", name := "partsWithout", desc := "(I)LGraphModules$Row;" } : Jvm.MethodName) prog_1_method_43_code (7 : Nat) (Option.some (Jvm.ClassFile.FieldType.object "GraphModules$Row"))) ∈ lw_all := lw_g (lw_at lw_m4 114 rfl) rfl
theorem q926 : (Jvm.Cond.methodLink "GraphModules" (294 : Nat) ({ cls := "GraphModules", name := "isSplit", desc := "(LGraphModules$Row;II)Z" } : Jvm.MethodName)) ∈ lw_all := lw_g (lw_at lw_m4 115 rfl) rfl
theorem q927 : (Jvm.Cond.privateMethod ({ cls := "GraphModules", name := "isSplit", desc := "(LGraphModules$Row;II)Z" } : Jvm.MethodName)) ∈ lw_tbl := lw_at lw_m4 116 rfl
theorem q928 : (Jvm.Cond.instanceMethod ({ cls := "GraphModules", name := "isSplit", desc := "(LGraphModules$Row;II)Z" } : Jvm.MethodName)) ∈ lw_all := lw_g (lw_at lw_m4 117 rfl) rfl
theorem q929 : (Jvm.Cond.code ({ cls := "GraphModules", name := "isSplit", desc := "(LGraphModules$Row;II)Z" } : Jvm.MethodName) prog_1_method_42_code (7 : Nat) (Option.some Jvm.ClassFile.FieldType.boolean)) ∈ lw_all := lw_g (lw_at lw_m4 118 rfl) rfl
theorem q930 : (Jvm.Cond.methodLink "GraphModules" (287 : Nat) ({ cls := "GraphModules$Row", name := "at", desc := "(I)J" } : Jvm.MethodName)) ∈ lw_all := lw_g (lw_at lw_m4 119 rfl) rfl
theorem q931 : (Jvm.Cond.methodLink "GraphModules" (291 : Nat) ({ cls := "GraphModules$Row", name := "set", desc := "(IJ)V" } : Jvm.MethodName)) ∈ lw_all := lw_g (lw_at lw_m4 120 rfl) rfl
theorem q936 : (Jvm.Cond.instanceMethod ({ cls := "GraphModules", name := "part", desc := "(II)I" } : Jvm.MethodName)) ∈ lw_all := lw_g (lw_at lw_m4 125 rfl) rfl
theorem q937 : (Jvm.Cond.selects "GraphModules" ({ cls := "GraphModules", name := "part", desc := "(II)I" } : Jvm.MethodName) ({ cls := "GraphModules", name := "part", desc := "(II)I" } : Jvm.MethodName)) ∈ lw_all := lw_g (lw_at lw_m4 126 rfl) rfl
theorem q938 : (Jvm.Cond.code ({ cls := "GraphModules", name := "part", desc := "(II)I" } : Jvm.MethodName) prog_1_method_45_code (5 : Nat) (Option.some Jvm.ClassFile.FieldType.int)) ∈ lw_all := lw_g (lw_at lw_m4 127 rfl) rfl
theorem q940 : (Jvm.Cond.instanceMethod ({ cls := "GraphModules", name := "place", desc := "(I)I" } : Jvm.MethodName)) ∈ lw_all := lw_g (lw_at lw_m4 129 rfl) rfl
theorem q941 : (Jvm.Cond.selects "GraphModules" ({ cls := "GraphModules", name := "place", desc := "(I)I" } : Jvm.MethodName) ({ cls := "GraphModules", name := "place", desc := "(I)I" } : Jvm.MethodName)) ∈ lw_all := lw_g (lw_at lw_m4 130 rfl) rfl
theorem q942 : (Jvm.Cond.code ({ cls := "GraphModules", name := "place", desc := "(I)I" } : Jvm.MethodName) prog_1_method_46_code (2 : Nat) (Option.some Jvm.ClassFile.FieldType.int)) ∈ lw_all := lw_g (lw_at lw_m4 131 rfl) rfl
theorem q943 : (Jvm.Cond.methodLink "GraphModules" (302 : Nat) ({ cls := "GraphModules$Row", name := "place", desc := "(J)I" } : Jvm.MethodName)) ∈ lw_all := lw_g (lw_at lw_m4 132 rfl) rfl
theorem q948 : (Jvm.Cond.instanceMethod ({ cls := "GraphModules", name := "clearRow", desc := "()I" } : Jvm.MethodName)) ∈ lw_all := lw_g (lw_at lw_m4 137 rfl) rfl
theorem q949 : (Jvm.Cond.selects "GraphModules" ({ cls := "GraphModules", name := "clearRow", desc := "()I" } : Jvm.MethodName) ({ cls := "GraphModules", name := "clearRow", desc := "()I" } : Jvm.MethodName)) ∈ lw_all := lw_g (lw_at lw_m4 138 rfl) rfl
theorem q950 : (Jvm.Cond.code ({ cls := "GraphModules", name := "clearRow", desc := "()I" } : Jvm.MethodName) prog_1_method_47_code (1 : Nat) (Option.some Jvm.ClassFile.FieldType.int)) ∈ lw_all := lw_g (lw_at lw_m4 139 rfl) rfl
theorem q952 : (Jvm.Cond.instanceMethod ({ cls := "GraphModules", name := "kept", desc := "(I)I" } : Jvm.MethodName)) ∈ lw_all := lw_g (lw_at lw_m4 141 rfl) rfl
theorem q953 : (Jvm.Cond.selects "GraphModules" ({ cls := "GraphModules", name := "kept", desc := "(I)I" } : Jvm.MethodName) ({ cls := "GraphModules", name := "kept", desc := "(I)I" } : Jvm.MethodName)) ∈ lw_all := lw_g (lw_at lw_m4 142 rfl) rfl
theorem q954 : (Jvm.Cond.code ({ cls := "GraphModules", name := "kept", desc := "(I)I" } : Jvm.MethodName) prog_1_method_50_code (5 : Nat) (Option.some Jvm.ClassFile.FieldType.int)) ∈ lw_all := lw_g (lw_at lw_m4 143 rfl) rfl
theorem q955 : (Jvm.Cond.methodLink "GraphModules" (306 : Nat) ({ cls := "GraphModules", name := "modulesInRow", desc := "()I" } : Jvm.MethodName)) ∈ lw_all := lw_g (lw_at lw_m4 144 rfl) rfl
theorem q956 : (Jvm.Cond.privateMethod ({ cls := "GraphModules", name := "modulesInRow", desc := "()I" } : Jvm.MethodName)) ∈ lw_tbl := lw_at lw_m4 145 rfl
theorem q957 : (Jvm.Cond.instanceMethod ({ cls := "GraphModules", name := "modulesInRow", desc := "()I" } : Jvm.MethodName)) ∈ lw_all := lw_g (lw_at lw_m4 146 rfl) rfl
theorem q958 : (Jvm.Cond.code ({ cls := "GraphModules", name := "modulesInRow", desc := "()I" } : Jvm.MethodName) prog_1_method_49_code (5 : Nat) (Option.some Jvm.ClassFile.FieldType.int)) ∈ lw_all := lw_g (lw_at lw_m4 147 rfl) rfl
theorem q959 : (Jvm.Cond.methodLink "GraphModules" (309 : Nat) ({ cls := "java/util/ArrayList", name := "iterator", desc := "()Ljava/util/Iterator;" } : Jvm.MethodName)) ∈ lw_all := lw_g (lw_at lw_m4 148 rfl) rfl
theorem q960 : (Jvm.Cond.interfaceEntry "GraphModules" (313 : Nat)) ∈ lw_tbl := lw_at lw_m4 149 rfl
theorem q961 : (Jvm.Cond.methodLink "GraphModules" (313 : Nat) ({ cls := "java/util/Iterator", name := "hasNext", desc := "()Z" } : Jvm.MethodName)) ∈ lw_all := lw_g (lw_at lw_m4 150 rfl) rfl
theorem q962 : (Jvm.Cond.interfaceEntry "GraphModules" (319 : Nat)) ∈ lw_tbl := lw_at lw_m4 151 rfl
theorem q963 : (Jvm.Cond.methodLink "GraphModules" (319 : Nat) ({ cls := "java/util/Iterator", name := "next", desc := "()Ljava/lang/Object;" } : Jvm.MethodName)) ∈ lw_all := lw_g (lw_at lw_m4 152 rfl) rfl
theorem q964 : (Jvm.Cond.methodLink "GraphModules" (323 : Nat) ({ cls := "GraphModules", name := "isTogether", desc := "(I)Z" } : Jvm.MethodName)) ∈ lw_all := lw_g (lw_at lw_m4 153 rfl) rfl
theorem q965 : (Jvm.Cond.privateMethod ({ cls := "GraphModules", name := "isTogether", desc := "(I)Z" } : Jvm.MethodName)) ∈ lw_tbl := lw_at lw_m4 154 rfl
theorem q966 : (Jvm.Cond.instanceMethod ({ cls := "GraphModules", name := "isTogether", desc := "(I)Z" } : Jvm.MethodName)) ∈ lw_all := lw_g (lw_at lw_m4 155 rfl) rfl
theorem q967 : (Jvm.Cond.code ({ cls := "GraphModules", name := "isTogether", desc := "(I)Z" } : Jvm.MethodName) prog_1_method_48_code (5 : Nat) (Option.some Jvm.ClassFile.FieldType.boolean)) ∈ lw_all := lw_g (lw_at lw_m4 156 rfl) rfl
theorem q969 : (Jvm.Cond.instanceMethod ({ cls := "GraphModules", name := "treeRow", desc := "(I)I" } : Jvm.MethodName)) ∈ lw_all := lw_g (lw_at lw_m4 158 rfl) rfl
theorem q970 : (Jvm.Cond.selects "GraphModules" ({ cls := "GraphModules", name := "treeRow", desc := "(I)I" } : Jvm.MethodName) ({ cls := "GraphModules", name := "treeRow", desc := "(I)I" } : Jvm.MethodName)) ∈ lw_all := lw_g (lw_at lw_m4 159 rfl) rfl
theorem q971 : (Jvm.Cond.code ({ cls := "GraphModules", name := "treeRow", desc := "(I)I" } : Jvm.MethodName) prog_1_method_51_code (2 : Nat) (Option.some Jvm.ClassFile.FieldType.int)) ∈ lw_all := lw_g (lw_at lw_m4 160 rfl) rfl
theorem q973 : (Jvm.Cond.instanceMethod ({ cls := "GraphModules", name := "rows", desc := "()I" } : Jvm.MethodName)) ∈ lw_all := lw_g (lw_at lw_m4 162 rfl) rfl
theorem q974 : (Jvm.Cond.selects "GraphModules" ({ cls := "GraphModules", name := "rows", desc := "()I" } : Jvm.MethodName) ({ cls := "GraphModules", name := "rows", desc := "()I" } : Jvm.MethodName)) ∈ lw_all := lw_g (lw_at lw_m4 163 rfl) rfl
theorem q975 : (Jvm.Cond.code ({ cls := "GraphModules", name := "rows", desc := "()I" } : Jvm.MethodName) prog_1_method_52_code (1 : Nat) (Option.some Jvm.ClassFile.FieldType.int)) ∈ lw_all := lw_g (lw_at lw_m4 164 rfl) rfl
theorem q976 : (Jvm.Cond.methodLink "GraphModules" (329 : Nat) ({ cls := "GraphModules$Forest", name := "rows", desc := "()I" } : Jvm.MethodName)) ∈ lw_all := lw_g (lw_at lw_m4 165 rfl) rfl
theorem q982 : (Jvm.Cond.instanceMethod ({ cls := "GraphModules", name := "forced", desc := "(II)I" } : Jvm.MethodName)) ∈ lw_all := lw_g (lw_at lw_m4 171 rfl) rfl
theorem q983 : (Jvm.Cond.selects "GraphModules" ({ cls := "GraphModules", name := "forced", desc := "(II)I" } : Jvm.MethodName) ({ cls := "GraphModules", name := "forced", desc := "(II)I" } : Jvm.MethodName)) ∈ lw_all := lw_g (lw_at lw_m4 172 rfl) rfl
theorem q984 : (Jvm.Cond.code ({ cls := "GraphModules", name := "forced", desc := "(II)I" } : Jvm.MethodName) prog_1_method_53_code (3 : Nat) (Option.some Jvm.ClassFile.FieldType.int)) ∈ lw_all := lw_g (lw_at lw_m4 173 rfl) rfl
theorem q986 : (Jvm.Cond.instanceMethod ({ cls := "GraphModules", name := "firstForced", desc := "(II)I" } : Jvm.MethodName)) ∈ lw_all := lw_g (lw_at lw_m4 175 rfl) rfl
theorem q987 : (Jvm.Cond.selects "GraphModules" ({ cls := "GraphModules", name := "firstForced", desc := "(II)I" } : Jvm.MethodName) ({ cls := "GraphModules", name := "firstForced", desc := "(II)I" } : Jvm.MethodName)) ∈ lw_all := lw_g (lw_at lw_m4 176 rfl) rfl
theorem q988 : (Jvm.Cond.code ({ cls := "GraphModules", name := "firstForced", desc := "(II)I" } : Jvm.MethodName) prog_1_method_54_code (3 : Nat) (Option.some Jvm.ClassFile.FieldType.int)) ∈ lw_all := lw_g (lw_at lw_m4 177 rfl) rfl
theorem q989 : (Jvm.Cond.methodLink "GraphModules" (332 : Nat) ({ cls := "GraphModules$Gathering", name := "first", desc := "()I" } : Jvm.MethodName)) ∈ lw_all := lw_g (lw_at lw_m4 178 rfl) rfl
theorem q994 : (Jvm.Cond.instanceMethod ({ cls := "GraphModules", name := "steps", desc := "()I" } : Jvm.MethodName)) ∈ lw_all := lw_g (lw_at lw_m4 183 rfl) rfl
theorem q995 : (Jvm.Cond.selects "GraphModules" ({ cls := "GraphModules", name := "steps", desc := "()I" } : Jvm.MethodName) ({ cls := "GraphModules", name := "steps", desc := "()I" } : Jvm.MethodName)) ∈ lw_all := lw_g (lw_at lw_m4 184 rfl) rfl
theorem q996 : (Jvm.Cond.code ({ cls := "GraphModules", name := "steps", desc := "()I" } : Jvm.MethodName) prog_1_method_55_code (1 : Nat) (Option.some Jvm.ClassFile.FieldType.int)) ∈ lw_all := lw_g (lw_at lw_m4 185 rfl) rfl
theorem q997 : (Jvm.Cond.methodLink "GraphModules" (335 : Nat) ({ cls := "GraphModules", name := "orientation", desc := "()LGraphModules$Orientation;" } : Jvm.MethodName)) ∈ lw_all := lw_g (lw_at lw_m4 186 rfl) rfl
theorem q998 : (Jvm.Cond.privateMethod ({ cls := "GraphModules", name := "orientation", desc := "()LGraphModules$Orientation;" } : Jvm.MethodName)) ∈ lw_tbl := lw_at lw_m4 187 rfl
theorem q999 : (Jvm.Cond.instanceMethod ({ cls := "GraphModules", name := "orientation", desc := "()LGraphModules$Orientation;" } : Jvm.MethodName)) ∈ lw_all := lw_g (lw_at lw_m4 188 rfl) rfl
theorem q1000 : (Jvm.Cond.code ({ cls := "GraphModules", name := "orientation", desc := "()LGraphModules$Orientation;" } : Jvm.MethodName) prog_1_method_11_code (1 : Nat) (Option.some (Jvm.ClassFile.FieldType.object "GraphModules$Orientation"))) ∈ lw_all := lw_g (lw_at lw_m4 189 rfl) rfl
theorem q1001 : (Jvm.Cond.classLink "GraphModules" (123 : Nat) "GraphModules$Orientation") ∈ lw_all := lw_g (lw_at lw_m4 190 rfl) rfl
theorem q1003 : (Jvm.Cond.methodLink "GraphModules" (125 : Nat) ({ cls := "GraphModules$Orientation", name := "<init>", desc := "(LGraphModules$Graph;)V" } : Jvm.MethodName)) ∈ lw_all := lw_g (lw_at lw_m4 192 rfl) rfl
theorem q1042 : (Jvm.Cond.fieldLinkNest "GraphModules" (345 : Nat) "GraphModules$Orientation" "step" "[I" "GraphModules") ∈ lw_tbl := lw_at lw_m4 231 rfl
theorem q1044 : (Jvm.Cond.fieldLinkNest "GraphModules" (348 : Nat) "GraphModules$Orientation" "order" "LGraphModules$Row;" "GraphModules") ∈ lw_tbl := lw_at lw_m4 233 rfl
theorem q1046 : (Jvm.Cond.fieldLinkNest "GraphModules" (342 : Nat) "GraphModules$Orientation" "steps" "I" "GraphModules") ∈ lw_tbl := lw_at lw_m4 235 rfl
theorem q1048 : (Jvm.Cond.fieldLinkNest "GraphModules" (338 : Nat) "GraphModules$Orientation" "isPossible" "Z" "GraphModules") ∈ lw_tbl := lw_at lw_m4 237 rfl
theorem q1059 : (Jvm.Cond.instanceMethod ({ cls := "GraphModules", name := "directed", desc := "(II)I" } : Jvm.MethodName)) ∈ lw_all := lw_g (lw_at lw_m5 8 rfl) rfl
theorem q1060 : (Jvm.Cond.selects "GraphModules" ({ cls := "GraphModules", name := "directed", desc := "(II)I" } : Jvm.MethodName) ({ cls := "GraphModules", name := "directed", desc := "(II)I" } : Jvm.MethodName)) ∈ lw_all := lw_g (lw_at lw_m5 9 rfl) rfl
theorem q1061 : (Jvm.Cond.code ({ cls := "GraphModules", name := "directed", desc := "(II)I" } : Jvm.MethodName) prog_1_method_56_code (3 : Nat) (Option.some Jvm.ClassFile.FieldType.int)) ∈ lw_all := lw_g (lw_at lw_m5 10 rfl) rfl
theorem q1063 : (Jvm.Cond.instanceMethod ({ cls := "GraphModules", name := "inOrder", desc := "(I)I" } : Jvm.MethodName)) ∈ lw_all := lw_g (lw_at lw_m5 12 rfl) rfl
theorem q1064 : (Jvm.Cond.selects "GraphModules" ({ cls := "GraphModules", name := "inOrder", desc := "(I)I" } : Jvm.MethodName) ({ cls := "GraphModules", name := "inOrder", desc := "(I)I" } : Jvm.MethodName)) ∈ lw_all := lw_g (lw_at lw_m5 13 rfl) rfl
theorem q1065 : (Jvm.Cond.code ({ cls := "GraphModules", name := "inOrder", desc := "(I)I" } : Jvm.MethodName) prog_1_method_57_code (2 : Nat) (Option.some Jvm.ClassFile.FieldType.int)) ∈ lw_all := lw_g (lw_at lw_m5 14 rfl) rfl
theorem q1067 : (Jvm.Cond.instanceMethod ({ cls := "GraphModules", name := "longest", desc := "()I" } : Jvm.MethodName)) ∈ lw_all := lw_g (lw_at lw_m5 16 rfl) rfl
theorem q1068 : (Jvm.Cond.selects "GraphModules" ({ cls := "GraphModules", name := "longest", desc := "()I" } : Jvm.MethodName) ({ cls := "GraphModules", name := "longest", desc := "()I" } : Jvm.MethodName)) ∈ lw_all := lw_g (lw_at lw_m5 17 rfl) rfl
theorem q1069 : (Jvm.Cond.code ({ cls := "GraphModules", name := "longest", desc := "()I" } : Jvm.MethodName) prog_1_method_58_code (1 : Nat) (Option.some Jvm.ClassFile.FieldType.int)) ∈ lw_all := lw_g (lw_at lw_m5 18 rfl) rfl
theorem q1070 : (Jvm.Cond.methodLink "GraphModules" (351 : Nat) ({ cls := "GraphModules$Orientation", name := "longest", desc := "()I" } : Jvm.MethodName)) ∈ lw_all := lw_g (lw_at lw_m5 19 rfl) rfl
theorem q1077 : (Jvm.Cond.instanceMethod ({ cls := "GraphModules", name := "type", desc := "(I)I" } : Jvm.MethodName)) ∈ lw_all := lw_g (lw_at lw_m5 26 rfl) rfl
theorem q1078 : (Jvm.Cond.selects "GraphModules" ({ cls := "GraphModules", name := "type", desc := "(I)I" } : Jvm.MethodName) ({ cls := "GraphModules", name := "type", desc := "(I)I" } : Jvm.MethodName)) ∈ lw_all := lw_g (lw_at lw_m5 27 rfl) rfl
theorem q1079 : (Jvm.Cond.code ({ cls := "GraphModules", name := "type", desc := "(I)I" } : Jvm.MethodName) prog_1_method_59_code (2 : Nat) (Option.some Jvm.ClassFile.FieldType.int)) ∈ lw_all := lw_g (lw_at lw_m5 28 rfl) rfl
theorem q1081 : (Jvm.Cond.instanceMethod ({ cls := "GraphModules", name := "clearText", desc := "()I" } : Jvm.MethodName)) ∈ lw_all := lw_g (lw_at lw_m5 30 rfl) rfl
theorem q1082 : (Jvm.Cond.selects "GraphModules" ({ cls := "GraphModules", name := "clearText", desc := "()I" } : Jvm.MethodName) ({ cls := "GraphModules", name := "clearText", desc := "()I" } : Jvm.MethodName)) ∈ lw_all := lw_g (lw_at lw_m5 31 rfl) rfl
theorem q1083 : (Jvm.Cond.code ({ cls := "GraphModules", name := "clearText", desc := "()I" } : Jvm.MethodName) prog_1_method_60_code (1 : Nat) (Option.some Jvm.ClassFile.FieldType.int)) ∈ lw_all := lw_g (lw_at lw_m5 32 rfl) rfl
theorem q1085 : (Jvm.Cond.instanceMethod ({ cls := "GraphModules", name := "fault", desc := "(I)I" } : Jvm.MethodName)) ∈ lw_all := lw_g (lw_at lw_m5 34 rfl) rfl
theorem q1086 : (Jvm.Cond.selects "GraphModules" ({ cls := "GraphModules", name := "fault", desc := "(I)I" } : Jvm.MethodName) ({ cls := "GraphModules", name := "fault", desc := "(I)I" } : Jvm.MethodName)) ∈ lw_all := lw_g (lw_at lw_m5 35 rfl) rfl
theorem q1087 : (Jvm.Cond.codeWith ({ cls := "GraphModules", name := "fault", desc := "(I)I" } : Jvm.MethodName) prog_1_method_61_code (3 : Nat) (Option.some Jvm.ClassFile.FieldType.int) [((11 : Nat), (25 : Nat), (26 : Nat), (363 : Nat))]) ∈ lw_all := lw_g (lw_at lw_m5 36 rfl) rfl
theorem q1088 : (Jvm.Cond.classLink "GraphModules" (363 : Nat) "GraphModules$Fault") ∈ lw_all := lw_g (lw_at lw_m5 37 rfl) rfl
theorem q1089 : (Jvm.Cond.classLink "GraphModules" (354 : Nat) "GraphModules$Reader") ∈ lw_all := lw_g (lw_at lw_m5 38 rfl) rfl
theorem q1091 : (Jvm.Cond.methodLinkNest "GraphModules" (356 : Nat) ({ cls := "GraphModules$Reader", name := "<init>", desc := "(LGraphModules;)V" } : Jvm.MethodName) "GraphModules") ∈ lw_tbl := lw_at lw_m5 40 rfl
theorem q1110 : (Jvm.Cond.methodLink "GraphModules" (359 : Nat) ({ cls := "GraphModules$Reader", name := "reads", desc := "()LGraphModules$Graph;" } : Jvm.MethodName)) ∈ lw_all := lw_g (lw_at lw_m5 59 rfl) rfl
theorem q1124 : (Jvm.Cond.static ({ cls := "GraphModules", name := "isAny", desc := "(I[C)Z" } : Jvm.MethodName)) ∈ lw_all := lw_g (lw_at lw_m5 73 rfl) rfl
theorem q1125 : (Jvm.Cond.code ({ cls := "GraphModules", name := "isAny", desc := "(I[C)Z" } : Jvm.MethodName) prog_1_method_4_code (7 : Nat) (Option.some Jvm.ClassFile.FieldType.boolean)) ∈ lw_all := lw_g (lw_at lw_m5 74 rfl) rfl
theorem q1149 : (Jvm.Cond.fieldLinkNest "GraphModules" (365 : Nat) "GraphModules$Fault" "place" "I" "GraphModules") ∈ lw_tbl := lw_at lw_m5 98 rfl
theorem q1151 : (Jvm.Cond.fieldLinkNest "GraphModules" (367 : Nat) "GraphModules$Fault" "reason" "I" "GraphModules") ∈ lw_tbl := lw_at lw_m5 100 rfl
theorem q1174 : (Jvm.Cond.instanceMethod ({ cls := "GraphModules", name := "load", desc := "()I" } : Jvm.MethodName)) ∈ lw_all := lw_g (lw_at lw_m5 123 rfl) rfl
theorem q1175 : (Jvm.Cond.selects "GraphModules" ({ cls := "GraphModules", name := "load", desc := "()I" } : Jvm.MethodName) ({ cls := "GraphModules", name := "load", desc := "()I" } : Jvm.MethodName)) ∈ lw_all := lw_g (lw_at lw_m5 124 rfl) rfl
theorem q1176 : (Jvm.Cond.codeWith ({ cls := "GraphModules", name := "load", desc := "()I" } : Jvm.MethodName) prog_1_method_62_code (2 : Nat) (Option.some Jvm.ClassFile.FieldType.int) [((0 : Nat), (22 : Nat), (23 : Nat), (363 : Nat))]) ∈ lw_all := lw_g (lw_at lw_m5 125 rfl) rfl
theorem q1178 : (Jvm.Cond.instanceMethod ({ cls := "GraphModules", name := "substitute", desc := "(I)I" } : Jvm.MethodName)) ∈ lw_all := lw_g (lw_at lw_m5 127 rfl) rfl
theorem q1179 : (Jvm.Cond.selects "GraphModules" ({ cls := "GraphModules", name := "substitute", desc := "(I)I" } : Jvm.MethodName) ({ cls := "GraphModules", name := "substitute", desc := "(I)I" } : Jvm.MethodName)) ∈ lw_all := lw_g (lw_at lw_m5 128 rfl) rfl
theorem q1180 : (Jvm.Cond.codeWith ({ cls := "GraphModules", name := "substitute", desc := "(I)I" } : Jvm.MethodName) prog_1_method_66_code (3 : Nat) (Option.some Jvm.ClassFile.FieldType.int) [((10 : Nat), (45 : Nat), (64 : Nat), (363 : Nat)), ((46 : Nat), (63 : Nat), (64 : Nat), (363 : Nat))]) ∈ lw_all := lw_g (lw_at lw_m5 129 rfl) rfl
theorem q1181 : (Jvm.Cond.methodLink "GraphModules" (375 : Nat) ({ cls := "GraphModules", name := "room", desc := "(I)I" } : Jvm.MethodName)) ∈ lw_all := lw_g (lw_at lw_m5 130 rfl) rfl
theorem q1182 : (Jvm.Cond.static ({ cls := "GraphModules", name := "room", desc := "(I)I" } : Jvm.MethodName)) ∈ lw_all := lw_g (lw_at lw_m5 131 rfl) rfl
theorem q1183 : (Jvm.Cond.codeWith ({ cls := "GraphModules", name := "room", desc := "(I)I" } : Jvm.MethodName) prog_1_method_63_code (2 : Nat) (Option.some Jvm.ClassFile.FieldType.int) [((0 : Nat), (7 : Nat), (8 : Nat), (370 : Nat))]) ∈ lw_all := lw_g (lw_at lw_m5 132 rfl) rfl
theorem q1184 : (Jvm.Cond.classLink "GraphModules" (370 : Nat) "java/lang/NegativeArraySizeException") ∈ lw_all := lw_g (lw_at lw_m5 133 rfl) rfl
theorem q1198 : (Jvm.Cond.methodLink "GraphModules" (378 : Nat) ({ cls := "GraphModules", name := "substituted", desc := "(ILGraphModules$Graph;)LGraphModules$Graph;" } : Jvm.MethodName)) ∈ lw_all := lw_g (lw_at lw_m5 147 rfl) rfl
theorem q1199 : (Jvm.Cond.privateMethod ({ cls := "GraphModules", name := "substituted", desc := "(ILGraphModules$Graph;)LGraphModules$Graph;" } : Jvm.MethodName)) ∈ lw_tbl := lw_at lw_m5 148 rfl
theorem q1200 : (Jvm.Cond.instanceMethod ({ cls := "GraphModules", name := "substituted", desc := "(ILGraphModules$Graph;)LGraphModules$Graph;" } : Jvm.MethodName)) ∈ lw_all := lw_g (lw_at lw_m5 149 rfl) rfl
theorem q1201 : (Jvm.Cond.code ({ cls := "GraphModules", name := "substituted", desc := "(ILGraphModules$Graph;)LGraphModules$Graph;" } : Jvm.MethodName) prog_1_method_65_code (6 : Nat) (Option.some (Jvm.ClassFile.FieldType.object "GraphModules$Graph"))) ∈ lw_all := lw_g (lw_at lw_m5 150 rfl) rfl
theorem q1202 : (Jvm.Cond.methodLink "GraphModules" (372 : Nat) ({ cls := "GraphModules", name := "vertexOf", desc := "(II)I" } : Jvm.MethodName)) ∈ lw_all := lw_g (lw_at lw_m5 151 rfl) rfl
theorem q1203 : (Jvm.Cond.privateMethod ({ cls := "GraphModules", name := "vertexOf", desc := "(II)I" } : Jvm.MethodName)) ∈ lw_tbl := lw_at lw_m5 152 rfl
theorem q1204 : (Jvm.Cond.instanceMethod ({ cls := "GraphModules", name := "vertexOf", desc := "(II)I" } : Jvm.MethodName)) ∈ lw_all := lw_g (lw_at lw_m5 153 rfl) rfl
theorem q1205 : (Jvm.Cond.code ({ cls := "GraphModules", name := "vertexOf", desc := "(II)I" } : Jvm.MethodName) prog_1_method_64_code (3 : Nat) (Option.some Jvm.ClassFile.FieldType.int)) ∈ lw_all := lw_g (lw_at lw_m5 154 rfl) rfl
theorem q1207 : (Jvm.Cond.instanceMethod ({ cls := "GraphModules", name := "write", desc := "()I" } : Jvm.MethodName)) ∈ lw_all := lw_g (lw_at lw_m5 156 rfl) rfl
theorem q1208 : (Jvm.Cond.selects "GraphModules" ({ cls := "GraphModules", name := "write", desc := "()I" } : Jvm.MethodName) ({ cls := "GraphModules", name := "write", desc := "()I" } : Jvm.MethodName)) ∈ lw_all := lw_g (lw_at lw_m5 157 rfl) rfl
theorem q1209 : (Jvm.Cond.code ({ cls := "GraphModules", name := "write", desc := "()I" } : Jvm.MethodName) prog_1_method_71_code (3 : Nat) (Option.some Jvm.ClassFile.FieldType.int)) ∈ lw_all := lw_g (lw_at lw_m5 158 rfl) rfl
theorem q1210 : (Jvm.Cond.classLink "GraphModules" (383 : Nat) "java/lang/StringBuilder") ∈ lw_all := lw_g (lw_at lw_m5 159 rfl) rfl
theorem q1212 : (Jvm.Cond.methodLink "GraphModules" (407 : Nat) ({ cls := "java/lang/StringBuilder", name := "<init>", desc := "()V" } : Jvm.MethodName)) ∈ lw_all := lw_g (lw_at lw_m5 161 rfl) rfl
theorem q1245 : (Jvm.Cond.methodLink "GraphModules" (395 : Nat) ({ cls := "GraphModules", name := "writes", desc := "(Ljava/lang/StringBuilder;LGraphModules$Tree;)Z" } : Jvm.MethodName)) ∈ lw_all := lw_g (lw_at lw_m5 194 rfl) rfl
theorem q1246 : (Jvm.Cond.privateMethod ({ cls := "GraphModules", name := "writes", desc := "(Ljava/lang/StringBuilder;LGraphModules$Tree;)Z" } : Jvm.MethodName)) ∈ lw_tbl := lw_at lw_m5 195 rfl
theorem q1247 : (Jvm.Cond.instanceMethod ({ cls := "GraphModules", name := "writes", desc := "(Ljava/lang/StringBuilder;LGraphModules$Tree;)Z" } : Jvm.MethodName)) ∈ lw_all := lw_g (lw_at lw_m5 196 rfl) rfl
theorem q1248 : (Jvm.Cond.code ({ cls := "GraphModules", name := "writes", desc := "(Ljava/lang/StringBuilder;LGraphModules$Tree;)Z" } : Jvm.MethodName) prog_1_method_68_code (4 : Nat) (Option.some Jvm.ClassFile.FieldType.boolean)) ∈ lw_all := lw_g (lw_at lw_m5 197 rfl) rfl
theorem q1249 : (Jvm.Cond.methodLink "GraphModules" (382 : Nat) ({ cls := "java/lang/StringBuilder", name := "append", desc := "(C)Ljava/lang/StringBuilder;" } : Jvm.MethodName)) ∈ lw_all := lw_g (lw_at lw_m5 198 rfl) rfl
theorem q1327 : (Jvm.Cond.methodLink "GraphModules" (388 : Nat) ({ cls := "GraphModules", name := "writesPath", desc := "(Ljava/lang/StringBuilder;LGraphModules$Inner;)Z" } : Jvm.MethodName)) ∈ lw_all := lw_g (lw_at lw_m6 36 rfl) rfl
theorem q1328 : (Jvm.Cond.privateMethod ({ cls := "GraphModules", name := "writesPath", desc := "(Ljava/lang/StringBuilder;LGraphModules$Inner;)Z" } : Jvm.MethodName)) ∈ lw_tbl := lw_at lw_m6 37 rfl
theorem q1329 : (Jvm.Cond.instanceMethod ({ cls := "GraphModules", name := "writesPath", desc := "(Ljava/lang/StringBuilder;LGraphModules$Inner;)Z" } : Jvm.MethodName)) ∈ lw_all := lw_g (lw_at lw_m6 38 rfl) rfl
theorem q1330 : (Jvm.Cond.code ({ cls := "GraphModules", name := "writesPath", desc := "(Ljava/lang/StringBuilder;LGraphModules$Inner;)Z" } : Jvm.MethodName) prog_1_method_70_code (7 : Nat) (Option.some Jvm.ClassFile.FieldType.boolean)) ∈ lw_all := lw_g (lw_at lw_m6 39 rfl) rfl
theorem q1331 : (Jvm.Cond.methodLink "GraphModules" (403 : Nat) ({ cls := "GraphModules", name := "endOf", desc := "(LGraphModules$Inner;)I" } : Jvm.MethodName)) ∈ lw_all := lw_g (lw_at lw_m6 40 rfl) rfl
theorem q1332 : (Jvm.Cond.privateMethod ({ cls := "GraphModules", name := "endOf", desc := "(LGraphModules$Inner;)I" } : Jvm.MethodName)) ∈ lw_tbl := lw_at lw_m6 41 rfl
theorem q1333 : (Jvm.Cond.instanceMethod ({ cls := "GraphModules", name := "endOf", desc := "(LGraphModules$Inner;)I" } : Jvm.MethodName)) ∈ lw_all := lw_g (lw_at lw_m6 42 rfl) rfl
theorem q1334 : (Jvm.Cond.code ({ cls := "GraphModules", name := "endOf", desc := "(LGraphModules$Inner;)I" } : Jvm.MethodName) prog_1_method_67_code (6 : Nat) (Option.some Jvm.ClassFile.FieldType.int)) ∈ lw_all := lw_g (lw_at lw_m6 43 rfl) rfl
theorem q1335 : (Jvm.Cond.methodLink "GraphModules" (392 : Nat) ({ cls := "GraphModules", name := "writesBracket", desc := "(Ljava/lang/StringBuilder;LGraphModules$Inner;)Z" } : Jvm.MethodName)) ∈ lw_all := lw_g (lw_at lw_m6 44 rfl) rfl
theorem q1336 : (Jvm.Cond.privateMethod ({ cls := "GraphModules", name := "writesBracket", desc := "(Ljava/lang/StringBuilder;LGraphModules$Inner;)Z" } : Jvm.MethodName)) ∈ lw_tbl := lw_at lw_m6 45 rfl
theorem q1337 : (Jvm.Cond.instanceMethod ({ cls := "GraphModules", name := "writesBracket", desc := "(Ljava/lang/StringBuilder;LGraphModules$Inner;)Z" } : Jvm.MethodName)) ∈ lw_all := lw_g (lw_at lw_m6 46 rfl) rfl
theorem q1338 : (Jvm.Cond.code ({ cls := "GraphModules", name := "writesBracket", desc := "(Ljava/lang/StringBuilder;LGraphModules$Inner;)Z" } : Jvm.MethodName) prog_1_method_69_code (7 : Nat) (Option.some Jvm.ClassFile.FieldType.boolean)) ∈ lw_all := lw_g (lw_at lw_m6 47 rfl) rfl
theorem q1339 : (Jvm.Cond.methodLink "GraphModules" (399 : Nat) ({ cls := "GraphModules$Kind", name := "sign", desc := "()C" } : Jvm.MethodName)) ∈ lw_all := lw_g (lw_at lw_m6 48 rfl) rfl
theorem q1351 : (Jvm.Cond.methodLink "GraphModules" (408 : Nat) ({ cls := "java/lang/StringBuilder", name := "length", desc := "()I" } : Jvm.MethodName)) ∈ lw_all := lw_g (lw_at lw_m6 60 rfl) rfl
theorem q1358 : (Jvm.Cond.methodLink "GraphModules" (411 : Nat) ({ cls := "java/lang/StringBuilder", name := "charAt", desc := "(I)C" } : Jvm.MethodName)) ∈ lw_all := lw_g (lw_at lw_m6 67 rfl) rfl
theorem q1852 : (Jvm.Cond.castable "GraphModules" "java/lang/Object") ∈ lw_tbl := lw_at lw_m8 81 rfl
theorem in_X0 : ∀ w ∈ wsX00, w ∈ lw_all := lw_in wsX00 [189, 191, 193, 195, 197, 199] (by decide +kernel) (by decide +kernel)
