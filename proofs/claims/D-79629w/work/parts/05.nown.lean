/-! GraphModules$Row -/
set_option maxRecDepth 100000
def RX1 : String := "GraphModules$Row"
def TX1 : u_T := fun k => match k with
  | 0 => ("GraphModules$Row", "cells", "Ljava/lang/Object;", true)
  | _ => ("GraphModules$Row", "many", "I", false)
def tyX1 : Nat → FieldType := fun k => match k with
  | 0 => .object "java/lang/Object"
  | _ => .int
abbrev wsX10 : List Cond := u_ws RX1 TX1 2
theorem nmX1 : ∀ a, a < 2 → ∀ b, b < 2 → a ≠ b → (TX1 a).2.1 ≠ (TX1 b).2.1 := by decide +kernel
theorem tyX1_ok : ∀ k, k < 2 → parseFieldDescriptor (TX1 k).2.2.1 = some (tyX1 k) := by decide +kernel
abbrev cX1_init : ByteArray := prog_15_method_1_code
def yX1_init : MethodName := ⟨RX1, "<init>", "(Ljava/lang/Object;)V"⟩
def dkwX1_init_0 : List UInt8 := [42, 183, 0, 3, 42, 43, 181, 0, 9, 177]
abbrev dktX1_init_0 : List UInt8 := dkwX1_init_0 ++ []
theorem dksX1_init_0 : cX1_init.data.toList.drop 0 = dktX1_init_0 := by decide +kernel
theorem dX1_init_0 : decode cX1_init 0 = .ok (.aload_n 0, 1) := dk_42 (dk_at dksX1_init_0 0 rfl rfl)
theorem dX1_init_1 : decode cX1_init 1 = .ok (.invokespecial 3, 3) := dk_183 0 3 (dk_at dksX1_init_0 1 rfl rfl)
theorem dX1_init_4 : decode cX1_init 4 = .ok (.aload_n 0, 1) := dk_42 (dk_at dksX1_init_0 4 rfl rfl)
theorem dX1_init_5 : decode cX1_init 5 = .ok (.aload_n 1, 1) := dk_43 (dk_at dksX1_init_0 5 rfl rfl)
theorem dX1_init_6 : decode cX1_init 6 = .ok (.putfield 9, 3) := dk_181 0 9 (dk_at dksX1_init_0 6 rfl rfl)
theorem dX1_init_9 : decode cX1_init 9 = .ok (.return_, 1) := dk_177 (dk_at dksX1_init_0 9 rfl rfl)
abbrev cX1_init_2 : ByteArray := prog_15_method_2_code
def yX1_init_2 : MethodName := ⟨RX1, "<init>", "(I)V"⟩
def dkwX1_init_2_0 : List UInt8 := [42, 27, 188, 11, 183, 0, 15, 177]
abbrev dktX1_init_2_0 : List UInt8 := dkwX1_init_2_0 ++ []
theorem dksX1_init_2_0 : cX1_init_2.data.toList.drop 0 = dktX1_init_2_0 := by decide +kernel
theorem dX1_init_2_0 : decode cX1_init_2 0 = .ok (.aload_n 0, 1) := dk_42 (dk_at dksX1_init_2_0 0 rfl rfl)
theorem dX1_init_2_1 : decode cX1_init_2 1 = .ok (.iload_n 1, 1) := dk_27 (dk_at dksX1_init_2_0 1 rfl rfl)
theorem dX1_init_2_2 : decode cX1_init_2 2 = .ok (.newarray .long, 2) := dk_188_11 (dk_at dksX1_init_2_0 2 rfl rfl)
theorem dX1_init_2_4 : decode cX1_init_2 4 = .ok (.invokespecial 15, 3) := dk_183 0 15 (dk_at dksX1_init_2_0 4 rfl rfl)
theorem dX1_init_2_7 : decode cX1_init_2 7 = .ok (.return_, 1) := dk_177 (dk_at dksX1_init_2_0 7 rfl rfl)
abbrev cX1_size : ByteArray := prog_15_method_3_code
def yX1_size : MethodName := ⟨RX1, "size", "()I"⟩
def dkwX1_size_2 : List UInt8 := [190, 172]
abbrev dktX1_size_2 : List UInt8 := dkwX1_size_2 ++ []
def dkwX1_size_1 : List UInt8 := [193, 0, 20, 153, 0, 14, 42, 180, 0, 9, 192, 0, 20, 190, 167, 0, 11, 42, 180, 0, 9, 192, 0, 22]
abbrev dktX1_size_1 : List UInt8 := dkwX1_size_1 ++ dktX1_size_2
def dkwX1_size_0 : List UInt8 := [42, 180, 0, 9, 193, 0, 18, 153, 0, 12, 42, 180, 0, 9, 192, 0, 18, 190, 172, 42, 180, 0, 9]
abbrev dktX1_size_0 : List UInt8 := dkwX1_size_0 ++ dktX1_size_1
theorem dksX1_size_0 : cX1_size.data.toList.drop 0 = dktX1_size_0 := by decide +kernel
theorem dksX1_size_1 : cX1_size.data.toList.drop 23 = dktX1_size_1 := dk_seg dksX1_size_0 23 rfl rfl
theorem dksX1_size_2 : cX1_size.data.toList.drop 47 = dktX1_size_2 := dk_seg dksX1_size_1 24 rfl rfl
theorem dX1_size_0 : decode cX1_size 0 = .ok (.aload_n 0, 1) := dk_42 (dk_at dksX1_size_0 0 rfl rfl)
theorem dX1_size_1 : decode cX1_size 1 = .ok (.getfield 9, 3) := dk_180 0 9 (dk_at dksX1_size_0 1 rfl rfl)
theorem dX1_size_4 : decode cX1_size 4 = .ok (.instanceof 18, 3) := dk_193 0 18 (dk_at dksX1_size_0 4 rfl rfl)
theorem dX1_size_7 : decode cX1_size 7 = .ok (.ifCond .eq 12, 3) := dk_153 0 12 (dk_at dksX1_size_0 7 rfl rfl)
theorem dX1_size_10 : decode cX1_size 10 = .ok (.aload_n 0, 1) := dk_42 (dk_at dksX1_size_0 10 rfl rfl)
theorem dX1_size_11 : decode cX1_size 11 = .ok (.getfield 9, 3) := dk_180 0 9 (dk_at dksX1_size_0 11 rfl rfl)
theorem dX1_size_14 : decode cX1_size 14 = .ok (.checkcast 18, 3) := dk_192 0 18 (dk_at dksX1_size_0 14 rfl rfl)
theorem dX1_size_17 : decode cX1_size 17 = .ok (.arraylength, 1) := dk_190 (dk_at dksX1_size_0 17 rfl rfl)
theorem dX1_size_18 : decode cX1_size 18 = .ok (.ireturn, 1) := dk_172 (dk_at dksX1_size_0 18 rfl rfl)
theorem dX1_size_19 : decode cX1_size 19 = .ok (.aload_n 0, 1) := dk_42 (dk_at dksX1_size_0 19 rfl rfl)
theorem dX1_size_20 : decode cX1_size 20 = .ok (.getfield 9, 3) := dk_180 0 9 (dk_at dksX1_size_0 20 rfl rfl)
theorem dX1_size_23 : decode cX1_size 23 = .ok (.instanceof 20, 3) := dk_193 0 20 (dk_at dksX1_size_1 0 rfl rfl)
theorem dX1_size_26 : decode cX1_size 26 = .ok (.ifCond .eq 14, 3) := dk_153 0 14 (dk_at dksX1_size_1 3 rfl rfl)
theorem dX1_size_29 : decode cX1_size 29 = .ok (.aload_n 0, 1) := dk_42 (dk_at dksX1_size_1 6 rfl rfl)
theorem dX1_size_30 : decode cX1_size 30 = .ok (.getfield 9, 3) := dk_180 0 9 (dk_at dksX1_size_1 7 rfl rfl)
theorem dX1_size_33 : decode cX1_size 33 = .ok (.checkcast 20, 3) := dk_192 0 20 (dk_at dksX1_size_1 10 rfl rfl)
theorem dX1_size_36 : decode cX1_size 36 = .ok (.arraylength, 1) := dk_190 (dk_at dksX1_size_1 13 rfl rfl)
theorem dX1_size_37 : decode cX1_size 37 = .ok (.goto 11, 3) := dk_167 0 11 (dk_at dksX1_size_1 14 rfl rfl)
theorem dX1_size_40 : decode cX1_size 40 = .ok (.aload_n 0, 1) := dk_42 (dk_at dksX1_size_1 17 rfl rfl)
theorem dX1_size_41 : decode cX1_size 41 = .ok (.getfield 9, 3) := dk_180 0 9 (dk_at dksX1_size_1 18 rfl rfl)
theorem dX1_size_44 : decode cX1_size 44 = .ok (.checkcast 22, 3) := dk_192 0 22 (dk_at dksX1_size_1 21 rfl rfl)
theorem dX1_size_47 : decode cX1_size 47 = .ok (.arraylength, 1) := dk_190 (dk_at dksX1_size_2 0 rfl rfl)
theorem dX1_size_48 : decode cX1_size 48 = .ok (.ireturn, 1) := dk_172 (dk_at dksX1_size_2 1 rfl rfl)
abbrev cX1_removeFirst : ByteArray := prog_15_method_9_code
def yX1_removeFirst : MethodName := ⟨RX1, "removeFirst", "()V"⟩
def dkwX1_removeFirst_1 : List UInt8 := [132, 1, 1, 167, 255, 233, 42, 89, 180, 0, 24, 4, 100, 181, 0, 24, 177]
abbrev dktX1_removeFirst_1 : List UInt8 := dkwX1_removeFirst_1 ++ []
def dkwX1_removeFirst_0 : List UInt8 := [4, 60, 27, 42, 180, 0, 24, 162, 0, 21, 42, 27, 4, 100, 42, 27, 182, 0, 34, 182, 0, 28]
abbrev dktX1_removeFirst_0 : List UInt8 := dkwX1_removeFirst_0 ++ dktX1_removeFirst_1
theorem dksX1_removeFirst_0 : cX1_removeFirst.data.toList.drop 0 = dktX1_removeFirst_0 := by decide +kernel
theorem dksX1_removeFirst_1 : cX1_removeFirst.data.toList.drop 22 = dktX1_removeFirst_1 := dk_seg dksX1_removeFirst_0 22 rfl rfl
theorem dX1_removeFirst_0 : decode cX1_removeFirst 0 = .ok (.iconst 1, 1) := dk_4 (dk_at dksX1_removeFirst_0 0 rfl rfl)
theorem dX1_removeFirst_1 : decode cX1_removeFirst 1 = .ok (.istore_n 1, 1) := dk_60 (dk_at dksX1_removeFirst_0 1 rfl rfl)
theorem dX1_removeFirst_2 : decode cX1_removeFirst 2 = .ok (.iload_n 1, 1) := dk_27 (dk_at dksX1_removeFirst_0 2 rfl rfl)
theorem dX1_removeFirst_3 : decode cX1_removeFirst 3 = .ok (.aload_n 0, 1) := dk_42 (dk_at dksX1_removeFirst_0 3 rfl rfl)
theorem dX1_removeFirst_4 : decode cX1_removeFirst 4 = .ok (.getfield 24, 3) := dk_180 0 24 (dk_at dksX1_removeFirst_0 4 rfl rfl)
theorem dX1_removeFirst_7 : decode cX1_removeFirst 7 = .ok (.if_icmp .ge 21, 3) := dk_162 0 21 (dk_at dksX1_removeFirst_0 7 rfl rfl)
theorem dX1_removeFirst_10 : decode cX1_removeFirst 10 = .ok (.aload_n 0, 1) := dk_42 (dk_at dksX1_removeFirst_0 10 rfl rfl)
theorem dX1_removeFirst_11 : decode cX1_removeFirst 11 = .ok (.iload_n 1, 1) := dk_27 (dk_at dksX1_removeFirst_0 11 rfl rfl)
theorem dX1_removeFirst_12 : decode cX1_removeFirst 12 = .ok (.iconst 1, 1) := dk_4 (dk_at dksX1_removeFirst_0 12 rfl rfl)
theorem dX1_removeFirst_13 : decode cX1_removeFirst 13 = .ok (.isub, 1) := dk_100 (dk_at dksX1_removeFirst_0 13 rfl rfl)
theorem dX1_removeFirst_14 : decode cX1_removeFirst 14 = .ok (.aload_n 0, 1) := dk_42 (dk_at dksX1_removeFirst_0 14 rfl rfl)
theorem dX1_removeFirst_15 : decode cX1_removeFirst 15 = .ok (.iload_n 1, 1) := dk_27 (dk_at dksX1_removeFirst_0 15 rfl rfl)
theorem dX1_removeFirst_16 : decode cX1_removeFirst 16 = .ok (.invokevirtual 34, 3) := dk_182 0 34 (dk_at dksX1_removeFirst_0 16 rfl rfl)
theorem dX1_removeFirst_19 : decode cX1_removeFirst 19 = .ok (.invokevirtual 28, 3) := dk_182 0 28 (dk_at dksX1_removeFirst_0 19 rfl rfl)
theorem dX1_removeFirst_22 : decode cX1_removeFirst 22 = .ok (.iinc 1 1, 3) := dk_132 1 1 (dk_at dksX1_removeFirst_1 0 rfl rfl)
theorem dX1_removeFirst_25 : decode cX1_removeFirst 25 = .ok (.goto (-23), 3) := dk_167 255 233 (dk_at dksX1_removeFirst_1 3 rfl rfl)
theorem dX1_removeFirst_28 : decode cX1_removeFirst 28 = .ok (.aload_n 0, 1) := dk_42 (dk_at dksX1_removeFirst_1 6 rfl rfl)
theorem dX1_removeFirst_29 : decode cX1_removeFirst 29 = .ok (.dup, 1) := dk_89 (dk_at dksX1_removeFirst_1 7 rfl rfl)
theorem dX1_removeFirst_30 : decode cX1_removeFirst 30 = .ok (.getfield 24, 3) := dk_180 0 24 (dk_at dksX1_removeFirst_1 8 rfl rfl)
theorem dX1_removeFirst_33 : decode cX1_removeFirst 33 = .ok (.iconst 1, 1) := dk_4 (dk_at dksX1_removeFirst_1 11 rfl rfl)
theorem dX1_removeFirst_34 : decode cX1_removeFirst 34 = .ok (.isub, 1) := dk_100 (dk_at dksX1_removeFirst_1 12 rfl rfl)
theorem dX1_removeFirst_35 : decode cX1_removeFirst 35 = .ok (.putfield 24, 3) := dk_181 0 24 (dk_at dksX1_removeFirst_1 13 rfl rfl)
theorem dX1_removeFirst_38 : decode cX1_removeFirst 38 = .ok (.return_, 1) := dk_177 (dk_at dksX1_removeFirst_1 16 rfl rfl)
abbrev cX1_at : ByteArray := prog_15_method_4_code
def yX1_at : MethodName := ⟨RX1, "at", "(I)J"⟩
def dkwX1_at_2 : List UInt8 := [180, 0, 9, 192, 0, 22, 27, 47, 173]
abbrev dktX1_at_2 : List UInt8 := dkwX1_at_2 ++ []
def dkwX1_at_1 : List UInt8 := [180, 0, 9, 193, 0, 20, 153, 0, 16, 42, 180, 0, 9, 192, 0, 20, 27, 53, 133, 167, 0, 12, 42]
abbrev dktX1_at_1 : List UInt8 := dkwX1_at_1 ++ dktX1_at_2
def dkwX1_at_0 : List UInt8 := [42, 180, 0, 9, 193, 0, 18, 153, 0, 14, 42, 180, 0, 9, 192, 0, 18, 27, 51, 133, 173, 42]
abbrev dktX1_at_0 : List UInt8 := dkwX1_at_0 ++ dktX1_at_1
theorem dksX1_at_0 : cX1_at.data.toList.drop 0 = dktX1_at_0 := by decide +kernel
theorem dksX1_at_1 : cX1_at.data.toList.drop 22 = dktX1_at_1 := dk_seg dksX1_at_0 22 rfl rfl
theorem dksX1_at_2 : cX1_at.data.toList.drop 45 = dktX1_at_2 := dk_seg dksX1_at_1 23 rfl rfl
theorem dX1_at_0 : decode cX1_at 0 = .ok (.aload_n 0, 1) := dk_42 (dk_at dksX1_at_0 0 rfl rfl)
theorem dX1_at_1 : decode cX1_at 1 = .ok (.getfield 9, 3) := dk_180 0 9 (dk_at dksX1_at_0 1 rfl rfl)
theorem dX1_at_4 : decode cX1_at 4 = .ok (.instanceof 18, 3) := dk_193 0 18 (dk_at dksX1_at_0 4 rfl rfl)
theorem dX1_at_7 : decode cX1_at 7 = .ok (.ifCond .eq 14, 3) := dk_153 0 14 (dk_at dksX1_at_0 7 rfl rfl)
theorem dX1_at_10 : decode cX1_at 10 = .ok (.aload_n 0, 1) := dk_42 (dk_at dksX1_at_0 10 rfl rfl)
theorem dX1_at_11 : decode cX1_at 11 = .ok (.getfield 9, 3) := dk_180 0 9 (dk_at dksX1_at_0 11 rfl rfl)
theorem dX1_at_14 : decode cX1_at 14 = .ok (.checkcast 18, 3) := dk_192 0 18 (dk_at dksX1_at_0 14 rfl rfl)
theorem dX1_at_17 : decode cX1_at 17 = .ok (.iload_n 1, 1) := dk_27 (dk_at dksX1_at_0 17 rfl rfl)
theorem dX1_at_18 : decode cX1_at 18 = .ok (.baload, 1) := dk_51 (dk_at dksX1_at_0 18 rfl rfl)
theorem dX1_at_19 : decode cX1_at 19 = .ok (.i2l, 1) := dk_133 (dk_at dksX1_at_0 19 rfl rfl)
theorem dX1_at_20 : decode cX1_at 20 = .ok (.lreturn, 1) := dk_173 (dk_at dksX1_at_0 20 rfl rfl)
theorem dX1_at_21 : decode cX1_at 21 = .ok (.aload_n 0, 1) := dk_42 (dk_at dksX1_at_0 21 rfl rfl)
theorem dX1_at_22 : decode cX1_at 22 = .ok (.getfield 9, 3) := dk_180 0 9 (dk_at dksX1_at_1 0 rfl rfl)
theorem dX1_at_25 : decode cX1_at 25 = .ok (.instanceof 20, 3) := dk_193 0 20 (dk_at dksX1_at_1 3 rfl rfl)
theorem dX1_at_28 : decode cX1_at 28 = .ok (.ifCond .eq 16, 3) := dk_153 0 16 (dk_at dksX1_at_1 6 rfl rfl)
theorem dX1_at_31 : decode cX1_at 31 = .ok (.aload_n 0, 1) := dk_42 (dk_at dksX1_at_1 9 rfl rfl)
theorem dX1_at_32 : decode cX1_at 32 = .ok (.getfield 9, 3) := dk_180 0 9 (dk_at dksX1_at_1 10 rfl rfl)
theorem dX1_at_35 : decode cX1_at 35 = .ok (.checkcast 20, 3) := dk_192 0 20 (dk_at dksX1_at_1 13 rfl rfl)
theorem dX1_at_38 : decode cX1_at 38 = .ok (.iload_n 1, 1) := dk_27 (dk_at dksX1_at_1 16 rfl rfl)
theorem dX1_at_39 : decode cX1_at 39 = .ok (.saload, 1) := dk_53 (dk_at dksX1_at_1 17 rfl rfl)
theorem dX1_at_40 : decode cX1_at 40 = .ok (.i2l, 1) := dk_133 (dk_at dksX1_at_1 18 rfl rfl)
theorem dX1_at_41 : decode cX1_at 41 = .ok (.goto 12, 3) := dk_167 0 12 (dk_at dksX1_at_1 19 rfl rfl)
theorem dX1_at_44 : decode cX1_at 44 = .ok (.aload_n 0, 1) := dk_42 (dk_at dksX1_at_1 22 rfl rfl)
theorem dX1_at_45 : decode cX1_at 45 = .ok (.getfield 9, 3) := dk_180 0 9 (dk_at dksX1_at_2 0 rfl rfl)
theorem dX1_at_48 : decode cX1_at 48 = .ok (.checkcast 22, 3) := dk_192 0 22 (dk_at dksX1_at_2 3 rfl rfl)
theorem dX1_at_51 : decode cX1_at 51 = .ok (.iload_n 1, 1) := dk_27 (dk_at dksX1_at_2 6 rfl rfl)
theorem dX1_at_52 : decode cX1_at 52 = .ok (.laload, 1) := dk_47 (dk_at dksX1_at_2 7 rfl rfl)
theorem dX1_at_53 : decode cX1_at 53 = .ok (.lreturn, 1) := dk_173 (dk_at dksX1_at_2 8 rfl rfl)
abbrev cX1_put : ByteArray := prog_15_method_5_code
def yX1_put : MethodName := ⟨RX1, "put", "(IJ)V"⟩
def dkwX1_put_2 : List UInt8 := [86, 167, 0, 13, 42, 180, 0, 9, 192, 0, 22, 27, 32, 80, 177]
abbrev dktX1_put_2 : List UInt8 := dkwX1_put_2 ++ []
def dkwX1_put_1 : List UInt8 := [167, 0, 38, 42, 180, 0, 9, 193, 0, 20, 153, 0, 18, 42, 180, 0, 9, 192, 0, 20, 27, 32, 136, 147]
abbrev dktX1_put_1 : List UInt8 := dkwX1_put_1 ++ dktX1_put_2
def dkwX1_put_0 : List UInt8 := [42, 180, 0, 9, 193, 0, 18, 153, 0, 18, 42, 180, 0, 9, 192, 0, 18, 27, 32, 136, 145, 84]
abbrev dktX1_put_0 : List UInt8 := dkwX1_put_0 ++ dktX1_put_1
theorem dksX1_put_0 : cX1_put.data.toList.drop 0 = dktX1_put_0 := by decide +kernel
theorem dksX1_put_1 : cX1_put.data.toList.drop 22 = dktX1_put_1 := dk_seg dksX1_put_0 22 rfl rfl
theorem dksX1_put_2 : cX1_put.data.toList.drop 46 = dktX1_put_2 := dk_seg dksX1_put_1 24 rfl rfl
theorem dX1_put_0 : decode cX1_put 0 = .ok (.aload_n 0, 1) := dk_42 (dk_at dksX1_put_0 0 rfl rfl)
theorem dX1_put_1 : decode cX1_put 1 = .ok (.getfield 9, 3) := dk_180 0 9 (dk_at dksX1_put_0 1 rfl rfl)
theorem dX1_put_4 : decode cX1_put 4 = .ok (.instanceof 18, 3) := dk_193 0 18 (dk_at dksX1_put_0 4 rfl rfl)
theorem dX1_put_7 : decode cX1_put 7 = .ok (.ifCond .eq 18, 3) := dk_153 0 18 (dk_at dksX1_put_0 7 rfl rfl)
theorem dX1_put_10 : decode cX1_put 10 = .ok (.aload_n 0, 1) := dk_42 (dk_at dksX1_put_0 10 rfl rfl)
theorem dX1_put_11 : decode cX1_put 11 = .ok (.getfield 9, 3) := dk_180 0 9 (dk_at dksX1_put_0 11 rfl rfl)
theorem dX1_put_14 : decode cX1_put 14 = .ok (.checkcast 18, 3) := dk_192 0 18 (dk_at dksX1_put_0 14 rfl rfl)
theorem dX1_put_17 : decode cX1_put 17 = .ok (.iload_n 1, 1) := dk_27 (dk_at dksX1_put_0 17 rfl rfl)
theorem dX1_put_18 : decode cX1_put 18 = .ok (.lload_n 2, 1) := dk_32 (dk_at dksX1_put_0 18 rfl rfl)
theorem dX1_put_19 : decode cX1_put 19 = .ok (.l2i, 1) := dk_136 (dk_at dksX1_put_0 19 rfl rfl)
theorem dX1_put_20 : decode cX1_put 20 = .ok (.i2b, 1) := dk_145 (dk_at dksX1_put_0 20 rfl rfl)
theorem dX1_put_21 : decode cX1_put 21 = .ok (.bastore, 1) := dk_84 (dk_at dksX1_put_0 21 rfl rfl)
theorem dX1_put_22 : decode cX1_put 22 = .ok (.goto 38, 3) := dk_167 0 38 (dk_at dksX1_put_1 0 rfl rfl)
theorem dX1_put_25 : decode cX1_put 25 = .ok (.aload_n 0, 1) := dk_42 (dk_at dksX1_put_1 3 rfl rfl)
theorem dX1_put_26 : decode cX1_put 26 = .ok (.getfield 9, 3) := dk_180 0 9 (dk_at dksX1_put_1 4 rfl rfl)
theorem dX1_put_29 : decode cX1_put 29 = .ok (.instanceof 20, 3) := dk_193 0 20 (dk_at dksX1_put_1 7 rfl rfl)
theorem dX1_put_32 : decode cX1_put 32 = .ok (.ifCond .eq 18, 3) := dk_153 0 18 (dk_at dksX1_put_1 10 rfl rfl)
theorem dX1_put_35 : decode cX1_put 35 = .ok (.aload_n 0, 1) := dk_42 (dk_at dksX1_put_1 13 rfl rfl)
theorem dX1_put_36 : decode cX1_put 36 = .ok (.getfield 9, 3) := dk_180 0 9 (dk_at dksX1_put_1 14 rfl rfl)
theorem dX1_put_39 : decode cX1_put 39 = .ok (.checkcast 20, 3) := dk_192 0 20 (dk_at dksX1_put_1 17 rfl rfl)
theorem dX1_put_42 : decode cX1_put 42 = .ok (.iload_n 1, 1) := dk_27 (dk_at dksX1_put_1 20 rfl rfl)
theorem dX1_put_43 : decode cX1_put 43 = .ok (.lload_n 2, 1) := dk_32 (dk_at dksX1_put_1 21 rfl rfl)
theorem dX1_put_44 : decode cX1_put 44 = .ok (.l2i, 1) := dk_136 (dk_at dksX1_put_1 22 rfl rfl)
theorem dX1_put_45 : decode cX1_put 45 = .ok (.i2s, 1) := dk_147 (dk_at dksX1_put_1 23 rfl rfl)
theorem dX1_put_46 : decode cX1_put 46 = .ok (.sastore, 1) := dk_86 (dk_at dksX1_put_2 0 rfl rfl)
theorem dX1_put_47 : decode cX1_put 47 = .ok (.goto 13, 3) := dk_167 0 13 (dk_at dksX1_put_2 1 rfl rfl)
theorem dX1_put_50 : decode cX1_put 50 = .ok (.aload_n 0, 1) := dk_42 (dk_at dksX1_put_2 4 rfl rfl)
theorem dX1_put_51 : decode cX1_put 51 = .ok (.getfield 9, 3) := dk_180 0 9 (dk_at dksX1_put_2 5 rfl rfl)
theorem dX1_put_54 : decode cX1_put 54 = .ok (.checkcast 22, 3) := dk_192 0 22 (dk_at dksX1_put_2 8 rfl rfl)
theorem dX1_put_57 : decode cX1_put 57 = .ok (.iload_n 1, 1) := dk_27 (dk_at dksX1_put_2 11 rfl rfl)
theorem dX1_put_58 : decode cX1_put 58 = .ok (.lload_n 2, 1) := dk_32 (dk_at dksX1_put_2 12 rfl rfl)
theorem dX1_put_59 : decode cX1_put 59 = .ok (.lastore, 1) := dk_80 (dk_at dksX1_put_2 13 rfl rfl)
theorem dX1_put_60 : decode cX1_put 60 = .ok (.return_, 1) := dk_177 (dk_at dksX1_put_2 14 rfl rfl)
abbrev cX1_add : ByteArray := prog_15_method_6_code
def yX1_add : MethodName := ⟨RX1, "add", "(J)Z"⟩
def dkwX1_add_0 : List UInt8 := [42, 42, 180, 0, 24, 31, 182, 0, 28, 42, 89, 180, 0, 24, 4, 96, 181, 0, 24, 4, 172, 78, 3, 172]
abbrev dktX1_add_0 : List UInt8 := dkwX1_add_0 ++ []
theorem dksX1_add_0 : cX1_add.data.toList.drop 0 = dktX1_add_0 := by decide +kernel
theorem dX1_add_0 : decode cX1_add 0 = .ok (.aload_n 0, 1) := dk_42 (dk_at dksX1_add_0 0 rfl rfl)
theorem dX1_add_1 : decode cX1_add 1 = .ok (.aload_n 0, 1) := dk_42 (dk_at dksX1_add_0 1 rfl rfl)
theorem dX1_add_2 : decode cX1_add 2 = .ok (.getfield 24, 3) := dk_180 0 24 (dk_at dksX1_add_0 2 rfl rfl)
theorem dX1_add_5 : decode cX1_add 5 = .ok (.lload_n 1, 1) := dk_31 (dk_at dksX1_add_0 5 rfl rfl)
theorem dX1_add_6 : decode cX1_add 6 = .ok (.invokevirtual 28, 3) := dk_182 0 28 (dk_at dksX1_add_0 6 rfl rfl)
theorem dX1_add_9 : decode cX1_add 9 = .ok (.aload_n 0, 1) := dk_42 (dk_at dksX1_add_0 9 rfl rfl)
theorem dX1_add_10 : decode cX1_add 10 = .ok (.dup, 1) := dk_89 (dk_at dksX1_add_0 10 rfl rfl)
theorem dX1_add_11 : decode cX1_add 11 = .ok (.getfield 24, 3) := dk_180 0 24 (dk_at dksX1_add_0 11 rfl rfl)
theorem dX1_add_14 : decode cX1_add 14 = .ok (.iconst 1, 1) := dk_4 (dk_at dksX1_add_0 14 rfl rfl)
theorem dX1_add_15 : decode cX1_add 15 = .ok (.iadd, 1) := dk_96 (dk_at dksX1_add_0 15 rfl rfl)
theorem dX1_add_16 : decode cX1_add 16 = .ok (.putfield 24, 3) := dk_181 0 24 (dk_at dksX1_add_0 16 rfl rfl)
theorem dX1_add_19 : decode cX1_add 19 = .ok (.iconst 1, 1) := dk_4 (dk_at dksX1_add_0 19 rfl rfl)
theorem dX1_add_20 : decode cX1_add 20 = .ok (.ireturn, 1) := dk_172 (dk_at dksX1_add_0 20 rfl rfl)
theorem dX1_add_21 : decode cX1_add 21 = .ok (.astore_n 3, 1) := dk_78 (dk_at dksX1_add_0 21 rfl rfl)
theorem dX1_add_22 : decode cX1_add 22 = .ok (.iconst 0, 1) := dk_3 (dk_at dksX1_add_0 22 rfl rfl)
theorem dX1_add_23 : decode cX1_add 23 = .ok (.ireturn, 1) := dk_172 (dk_at dksX1_add_0 23 rfl rfl)
abbrev cX1_clear : ByteArray := prog_15_method_10_code
def yX1_clear : MethodName := ⟨RX1, "clear", "()I"⟩
def dkwX1_clear_0 : List UInt8 := [42, 180, 0, 24, 60, 42, 3, 181, 0, 24, 27, 172]
abbrev dktX1_clear_0 : List UInt8 := dkwX1_clear_0 ++ []
theorem dksX1_clear_0 : cX1_clear.data.toList.drop 0 = dktX1_clear_0 := by decide +kernel
theorem dX1_clear_0 : decode cX1_clear 0 = .ok (.aload_n 0, 1) := dk_42 (dk_at dksX1_clear_0 0 rfl rfl)
theorem dX1_clear_1 : decode cX1_clear 1 = .ok (.getfield 24, 3) := dk_180 0 24 (dk_at dksX1_clear_0 1 rfl rfl)
theorem dX1_clear_4 : decode cX1_clear 4 = .ok (.istore_n 1, 1) := dk_60 (dk_at dksX1_clear_0 4 rfl rfl)
theorem dX1_clear_5 : decode cX1_clear 5 = .ok (.aload_n 0, 1) := dk_42 (dk_at dksX1_clear_0 5 rfl rfl)
theorem dX1_clear_6 : decode cX1_clear 6 = .ok (.iconst 0, 1) := dk_3 (dk_at dksX1_clear_0 6 rfl rfl)
theorem dX1_clear_7 : decode cX1_clear 7 = .ok (.putfield 24, 3) := dk_181 0 24 (dk_at dksX1_clear_0 7 rfl rfl)
theorem dX1_clear_10 : decode cX1_clear 10 = .ok (.iload_n 1, 1) := dk_27 (dk_at dksX1_clear_0 10 rfl rfl)
theorem dX1_clear_11 : decode cX1_clear 11 = .ok (.ireturn, 1) := dk_172 (dk_at dksX1_clear_0 11 rfl rfl)
abbrev cX1_removeLast : ByteArray := prog_15_method_8_code
def yX1_removeLast : MethodName := ⟨RX1, "removeLast", "()J"⟩
def dkwX1_removeLast_0 : List UInt8 := [42, 89, 180, 0, 24, 4, 100, 181, 0, 24, 42, 42, 180, 0, 24, 182, 0, 34, 173]
abbrev dktX1_removeLast_0 : List UInt8 := dkwX1_removeLast_0 ++ []
theorem dksX1_removeLast_0 : cX1_removeLast.data.toList.drop 0 = dktX1_removeLast_0 := by decide +kernel
theorem dX1_removeLast_0 : decode cX1_removeLast 0 = .ok (.aload_n 0, 1) := dk_42 (dk_at dksX1_removeLast_0 0 rfl rfl)
theorem dX1_removeLast_1 : decode cX1_removeLast 1 = .ok (.dup, 1) := dk_89 (dk_at dksX1_removeLast_0 1 rfl rfl)
theorem dX1_removeLast_2 : decode cX1_removeLast 2 = .ok (.getfield 24, 3) := dk_180 0 24 (dk_at dksX1_removeLast_0 2 rfl rfl)
theorem dX1_removeLast_5 : decode cX1_removeLast 5 = .ok (.iconst 1, 1) := dk_4 (dk_at dksX1_removeLast_0 5 rfl rfl)
theorem dX1_removeLast_6 : decode cX1_removeLast 6 = .ok (.isub, 1) := dk_100 (dk_at dksX1_removeLast_0 6 rfl rfl)
theorem dX1_removeLast_7 : decode cX1_removeLast 7 = .ok (.putfield 24, 3) := dk_181 0 24 (dk_at dksX1_removeLast_0 7 rfl rfl)
theorem dX1_removeLast_10 : decode cX1_removeLast 10 = .ok (.aload_n 0, 1) := dk_42 (dk_at dksX1_removeLast_0 10 rfl rfl)
theorem dX1_removeLast_11 : decode cX1_removeLast 11 = .ok (.aload_n 0, 1) := dk_42 (dk_at dksX1_removeLast_0 11 rfl rfl)
theorem dX1_removeLast_12 : decode cX1_removeLast 12 = .ok (.getfield 24, 3) := dk_180 0 24 (dk_at dksX1_removeLast_0 12 rfl rfl)
theorem dX1_removeLast_15 : decode cX1_removeLast 15 = .ok (.invokevirtual 34, 3) := dk_182 0 34 (dk_at dksX1_removeLast_0 15 rfl rfl)
theorem dX1_removeLast_18 : decode cX1_removeLast 18 = .ok (.lreturn, 1) := dk_173 (dk_at dksX1_removeLast_0 18 rfl rfl)
abbrev cX1_set : ByteArray := prog_15_method_7_code
def yX1_set : MethodName := ⟨RX1, "set", "(IJ)V"⟩
def dkwX1_set_0 : List UInt8 := [42, 27, 32, 182, 0, 28, 177]
abbrev dktX1_set_0 : List UInt8 := dkwX1_set_0 ++ []
theorem dksX1_set_0 : cX1_set.data.toList.drop 0 = dktX1_set_0 := by decide +kernel
theorem dX1_set_0 : decode cX1_set 0 = .ok (.aload_n 0, 1) := dk_42 (dk_at dksX1_set_0 0 rfl rfl)
theorem dX1_set_1 : decode cX1_set 1 = .ok (.iload_n 1, 1) := dk_27 (dk_at dksX1_set_0 1 rfl rfl)
theorem dX1_set_2 : decode cX1_set 2 = .ok (.lload_n 2, 1) := dk_32 (dk_at dksX1_set_0 2 rfl rfl)
theorem dX1_set_3 : decode cX1_set 3 = .ok (.invokevirtual 28, 3) := dk_182 0 28 (dk_at dksX1_set_0 3 rfl rfl)
theorem dX1_set_6 : decode cX1_set 6 = .ok (.return_, 1) := dk_177 (dk_at dksX1_set_0 6 rfl rfl)
abbrev cX1_place : ByteArray := prog_15_method_11_code
def yX1_place : MethodName := ⟨RX1, "place", "(J)I"⟩
def dkwX1_place_1 : List UInt8 := [132, 3, 1, 167, 255, 233, 2, 172]
abbrev dktX1_place_1 : List UInt8 := dkwX1_place_1 ++ []
def dkwX1_place_0 : List UInt8 := [3, 62, 29, 42, 180, 0, 24, 162, 0, 21, 42, 29, 182, 0, 34, 31, 148, 154, 0, 5, 29, 172]
abbrev dktX1_place_0 : List UInt8 := dkwX1_place_0 ++ dktX1_place_1
theorem dksX1_place_0 : cX1_place.data.toList.drop 0 = dktX1_place_0 := by decide +kernel
theorem dksX1_place_1 : cX1_place.data.toList.drop 22 = dktX1_place_1 := dk_seg dksX1_place_0 22 rfl rfl
theorem dX1_place_0 : decode cX1_place 0 = .ok (.iconst 0, 1) := dk_3 (dk_at dksX1_place_0 0 rfl rfl)
theorem dX1_place_1 : decode cX1_place 1 = .ok (.istore_n 3, 1) := dk_62 (dk_at dksX1_place_0 1 rfl rfl)
theorem dX1_place_2 : decode cX1_place 2 = .ok (.iload_n 3, 1) := dk_29 (dk_at dksX1_place_0 2 rfl rfl)
theorem dX1_place_3 : decode cX1_place 3 = .ok (.aload_n 0, 1) := dk_42 (dk_at dksX1_place_0 3 rfl rfl)
theorem dX1_place_4 : decode cX1_place 4 = .ok (.getfield 24, 3) := dk_180 0 24 (dk_at dksX1_place_0 4 rfl rfl)
theorem dX1_place_7 : decode cX1_place 7 = .ok (.if_icmp .ge 21, 3) := dk_162 0 21 (dk_at dksX1_place_0 7 rfl rfl)
theorem dX1_place_10 : decode cX1_place 10 = .ok (.aload_n 0, 1) := dk_42 (dk_at dksX1_place_0 10 rfl rfl)
theorem dX1_place_11 : decode cX1_place 11 = .ok (.iload_n 3, 1) := dk_29 (dk_at dksX1_place_0 11 rfl rfl)
theorem dX1_place_12 : decode cX1_place 12 = .ok (.invokevirtual 34, 3) := dk_182 0 34 (dk_at dksX1_place_0 12 rfl rfl)
theorem dX1_place_15 : decode cX1_place 15 = .ok (.lload_n 1, 1) := dk_31 (dk_at dksX1_place_0 15 rfl rfl)
theorem dX1_place_16 : decode cX1_place 16 = .ok (.lcmp, 1) := dk_148 (dk_at dksX1_place_0 16 rfl rfl)
theorem dX1_place_17 : decode cX1_place 17 = .ok (.ifCond .ne 5, 3) := dk_154 0 5 (dk_at dksX1_place_0 17 rfl rfl)
theorem dX1_place_20 : decode cX1_place 20 = .ok (.iload_n 3, 1) := dk_29 (dk_at dksX1_place_0 20 rfl rfl)
theorem dX1_place_21 : decode cX1_place 21 = .ok (.ireturn, 1) := dk_172 (dk_at dksX1_place_0 21 rfl rfl)
theorem dX1_place_22 : decode cX1_place 22 = .ok (.iinc 3 1, 3) := dk_132 3 1 (dk_at dksX1_place_1 0 rfl rfl)
theorem dX1_place_25 : decode cX1_place 25 = .ok (.goto (-23), 3) := dk_167 255 233 (dk_at dksX1_place_1 3 rfl rfl)
theorem dX1_place_28 : decode cX1_place 28 = .ok (.iconst (-1), 1) := dk_2 (dk_at dksX1_place_1 6 rfl rfl)
theorem dX1_place_29 : decode cX1_place 29 = .ok (.ireturn, 1) := dk_172 (dk_at dksX1_place_1 7 rfl rfl)
theorem q93 : (Jvm.Cond.initialized "GraphModules$Row") ∈ lw_all := lw_g (lw_at lw_m1 2 rfl) rfl
theorem q140 : (Jvm.Cond.instantiable "GraphModules$Row" (2 : Nat)) ∈ lw_all := lw_g (lw_at lw_m1 49 rfl) rfl
theorem q142 : (Jvm.Cond.instanceMethod ({ cls := "GraphModules$Row", name := "<init>", desc := "(Ljava/lang/Object;)V" } : Jvm.MethodName)) ∈ lw_all := lw_g (lw_at lw_m1 51 rfl) rfl
theorem q143 : (Jvm.Cond.code ({ cls := "GraphModules$Row", name := "<init>", desc := "(Ljava/lang/Object;)V" } : Jvm.MethodName) prog_15_method_1_code (2 : Nat) (Option.none : Option Jvm.ClassFile.FieldType)) ∈ lw_all := lw_g (lw_at lw_m1 52 rfl) rfl
theorem q144 : (Jvm.Cond.methodLink "GraphModules$Row" (3 : Nat) ({ cls := "java/lang/Object", name := "<init>", desc := "()V" } : Jvm.MethodName)) ∈ lw_all := lw_g (lw_at lw_m1 53 rfl) rfl
theorem q145 : (Jvm.Cond.fieldLink "GraphModules$Row" (9 : Nat) "GraphModules$Row" "cells" "Ljava/lang/Object;") ∈ lw_all := lw_g (lw_at lw_m1 54 rfl) rfl
theorem q147 : (Jvm.Cond.fieldLink "GraphModules$Row" (24 : Nat) "GraphModules$Row" "many" "I") ∈ lw_all := lw_g (lw_at lw_m1 56 rfl) rfl
theorem q150 : (Jvm.Cond.laysFinal "GraphModules$Row" "GraphModules$Row" "cells" "Ljava/lang/Object;") ∈ lw_all := lw_g (lw_at lw_m1 59 rfl) rfl
theorem q151 : (Jvm.Cond.soleField "GraphModules$Row" "cells") ∈ lw_all := lw_g (lw_at lw_m1 60 rfl) rfl
theorem q152 : (Jvm.Cond.lays "GraphModules$Row" "GraphModules$Row" "many" "I") ∈ lw_all := lw_g (lw_at lw_m1 61 rfl) rfl
theorem q153 : (Jvm.Cond.soleField "GraphModules$Row" "many") ∈ lw_all := lw_g (lw_at lw_m1 62 rfl) rfl
theorem q154 : (Jvm.Cond.superclass "GraphModules$Row" "java/lang/Object") ∈ lw_all := lw_g (lw_at lw_m1 63 rfl) rfl
theorem q157 : (Jvm.Cond.instanceMethod ({ cls := "GraphModules$Row", name := "<init>", desc := "(I)V" } : Jvm.MethodName)) ∈ lw_all := lw_g (lw_at lw_m1 66 rfl) rfl
theorem q158 : (Jvm.Cond.code ({ cls := "GraphModules$Row", name := "<init>", desc := "(I)V" } : Jvm.MethodName) prog_15_method_2_code (2 : Nat) (Option.none : Option Jvm.ClassFile.FieldType)) ∈ lw_all := lw_g (lw_at lw_m1 67 rfl) rfl
theorem q159 : (Jvm.Cond.methodLink "GraphModules$Row" (15 : Nat) ({ cls := "GraphModules$Row", name := "<init>", desc := "(Ljava/lang/Object;)V" } : Jvm.MethodName)) ∈ lw_all := lw_g (lw_at lw_m1 68 rfl) rfl
theorem q214 : (Jvm.Cond.instanceMethod ({ cls := "GraphModules$Row", name := "size", desc := "()I" } : Jvm.MethodName)) ∈ lw_all := lw_g (lw_at lw_m1 123 rfl) rfl
theorem q215 : (Jvm.Cond.selects "GraphModules$Row" ({ cls := "GraphModules$Row", name := "size", desc := "()I" } : Jvm.MethodName) ({ cls := "GraphModules$Row", name := "size", desc := "()I" } : Jvm.MethodName)) ∈ lw_all := lw_g (lw_at lw_m1 124 rfl) rfl
theorem q216 : (Jvm.Cond.code ({ cls := "GraphModules$Row", name := "size", desc := "()I" } : Jvm.MethodName) prog_15_method_3_code (1 : Nat) (Option.some Jvm.ClassFile.FieldType.int)) ∈ lw_all := lw_g (lw_at lw_m1 125 rfl) rfl
theorem q217 : (Jvm.Cond.classLink "GraphModules$Row" (18 : Nat) "[B") ∈ lw_all := lw_g (lw_at lw_m1 126 rfl) rfl
theorem q218 : (Jvm.Cond.classLink "GraphModules$Row" (20 : Nat) "[S") ∈ lw_all := lw_g (lw_at lw_m1 127 rfl) rfl
theorem q219 : (Jvm.Cond.classLink "GraphModules$Row" (22 : Nat) "[J") ∈ lw_all := lw_g (lw_at lw_m1 128 rfl) rfl
theorem q221 : (Jvm.Cond.instanceMethod ({ cls := "GraphModules$Row", name := "removeFirst", desc := "()V" } : Jvm.MethodName)) ∈ lw_all := lw_g (lw_at lw_m1 130 rfl) rfl
theorem q222 : (Jvm.Cond.selects "GraphModules$Row" ({ cls := "GraphModules$Row", name := "removeFirst", desc := "()V" } : Jvm.MethodName) ({ cls := "GraphModules$Row", name := "removeFirst", desc := "()V" } : Jvm.MethodName)) ∈ lw_all := lw_g (lw_at lw_m1 131 rfl) rfl
theorem q223 : (Jvm.Cond.code ({ cls := "GraphModules$Row", name := "removeFirst", desc := "()V" } : Jvm.MethodName) prog_15_method_9_code (2 : Nat) (Option.none : Option Jvm.ClassFile.FieldType)) ∈ lw_all := lw_g (lw_at lw_m1 132 rfl) rfl
theorem q224 : (Jvm.Cond.methodLink "GraphModules$Row" (34 : Nat) ({ cls := "GraphModules$Row", name := "at", desc := "(I)J" } : Jvm.MethodName)) ∈ lw_all := lw_g (lw_at lw_m1 133 rfl) rfl
theorem q225 : (Jvm.Cond.instanceMethod ({ cls := "GraphModules$Row", name := "at", desc := "(I)J" } : Jvm.MethodName)) ∈ lw_all := lw_g (lw_at lw_m1 134 rfl) rfl
theorem q226 : (Jvm.Cond.selects "GraphModules$Row" ({ cls := "GraphModules$Row", name := "at", desc := "(I)J" } : Jvm.MethodName) ({ cls := "GraphModules$Row", name := "at", desc := "(I)J" } : Jvm.MethodName)) ∈ lw_all := lw_g (lw_at lw_m1 135 rfl) rfl
theorem q227 : (Jvm.Cond.code ({ cls := "GraphModules$Row", name := "at", desc := "(I)J" } : Jvm.MethodName) prog_15_method_4_code (2 : Nat) (Option.some Jvm.ClassFile.FieldType.long)) ∈ lw_all := lw_g (lw_at lw_m1 136 rfl) rfl
theorem q228 : (Jvm.Cond.methodLink "GraphModules$Row" (28 : Nat) ({ cls := "GraphModules$Row", name := "put", desc := "(IJ)V" } : Jvm.MethodName)) ∈ lw_all := lw_g (lw_at lw_m1 137 rfl) rfl
theorem q229 : (Jvm.Cond.privateMethod ({ cls := "GraphModules$Row", name := "put", desc := "(IJ)V" } : Jvm.MethodName)) ∈ lw_tbl := lw_at lw_m1 138 rfl
theorem q230 : (Jvm.Cond.instanceMethod ({ cls := "GraphModules$Row", name := "put", desc := "(IJ)V" } : Jvm.MethodName)) ∈ lw_all := lw_g (lw_at lw_m1 139 rfl) rfl
theorem q231 : (Jvm.Cond.code ({ cls := "GraphModules$Row", name := "put", desc := "(IJ)V" } : Jvm.MethodName) prog_15_method_5_code (4 : Nat) (Option.none : Option Jvm.ClassFile.FieldType)) ∈ lw_all := lw_g (lw_at lw_m1 140 rfl) rfl
theorem q244 : (Jvm.Cond.instanceMethod ({ cls := "GraphModules$Row", name := "add", desc := "(J)Z" } : Jvm.MethodName)) ∈ lw_all := lw_g (lw_at lw_m1 153 rfl) rfl
theorem q245 : (Jvm.Cond.selects "GraphModules$Row" ({ cls := "GraphModules$Row", name := "add", desc := "(J)Z" } : Jvm.MethodName) ({ cls := "GraphModules$Row", name := "add", desc := "(J)Z" } : Jvm.MethodName)) ∈ lw_all := lw_g (lw_at lw_m1 154 rfl) rfl
theorem q246 : (Jvm.Cond.codeWith ({ cls := "GraphModules$Row", name := "add", desc := "(J)Z" } : Jvm.MethodName) prog_15_method_6_code (4 : Nat) (Option.some Jvm.ClassFile.FieldType.boolean) [((0 : Nat), (20 : Nat), (21 : Nat), (32 : Nat))]) ∈ lw_all := lw_g (lw_at lw_m1 155 rfl) rfl
theorem q247 : (Jvm.Cond.classLink "GraphModules$Row" (32 : Nat) "java/lang/ArrayIndexOutOfBoundsException") ∈ lw_all := lw_g (lw_at lw_m1 156 rfl) rfl
theorem q341 : (Jvm.Cond.instanceMethod ({ cls := "GraphModules$Row", name := "clear", desc := "()I" } : Jvm.MethodName)) ∈ lw_all := lw_g (lw_at lw_m2 10 rfl) rfl
theorem q342 : (Jvm.Cond.selects "GraphModules$Row" ({ cls := "GraphModules$Row", name := "clear", desc := "()I" } : Jvm.MethodName) ({ cls := "GraphModules$Row", name := "clear", desc := "()I" } : Jvm.MethodName)) ∈ lw_all := lw_g (lw_at lw_m2 11 rfl) rfl
theorem q343 : (Jvm.Cond.code ({ cls := "GraphModules$Row", name := "clear", desc := "()I" } : Jvm.MethodName) prog_15_method_10_code (2 : Nat) (Option.some Jvm.ClassFile.FieldType.int)) ∈ lw_all := lw_g (lw_at lw_m2 12 rfl) rfl
theorem q575 : (Jvm.Cond.selects "GraphModules$Row" ({ cls := "java/lang/Object", name := "getClass", desc := "()Ljava/lang/Class;" } : Jvm.MethodName) ({ cls := "java/lang/Object", name := "getClass", desc := "()Ljava/lang/Class;" } : Jvm.MethodName)) ∈ lw_all := lw_g (lw_at lw_m3 4 rfl) rfl
theorem q791 : (Jvm.Cond.instanceMethod ({ cls := "GraphModules$Row", name := "removeLast", desc := "()J" } : Jvm.MethodName)) ∈ lw_all := lw_g (lw_at lw_m3 220 rfl) rfl
theorem q792 : (Jvm.Cond.selects "GraphModules$Row" ({ cls := "GraphModules$Row", name := "removeLast", desc := "()J" } : Jvm.MethodName) ({ cls := "GraphModules$Row", name := "removeLast", desc := "()J" } : Jvm.MethodName)) ∈ lw_all := lw_g (lw_at lw_m3 221 rfl) rfl
theorem q793 : (Jvm.Cond.code ({ cls := "GraphModules$Row", name := "removeLast", desc := "()J" } : Jvm.MethodName) prog_15_method_8_code (1 : Nat) (Option.some Jvm.ClassFile.FieldType.long)) ∈ lw_all := lw_g (lw_at lw_m3 222 rfl) rfl
theorem q932 : (Jvm.Cond.instanceMethod ({ cls := "GraphModules$Row", name := "set", desc := "(IJ)V" } : Jvm.MethodName)) ∈ lw_all := lw_g (lw_at lw_m4 121 rfl) rfl
theorem q933 : (Jvm.Cond.selects "GraphModules$Row" ({ cls := "GraphModules$Row", name := "set", desc := "(IJ)V" } : Jvm.MethodName) ({ cls := "GraphModules$Row", name := "set", desc := "(IJ)V" } : Jvm.MethodName)) ∈ lw_all := lw_g (lw_at lw_m4 122 rfl) rfl
theorem q934 : (Jvm.Cond.code ({ cls := "GraphModules$Row", name := "set", desc := "(IJ)V" } : Jvm.MethodName) prog_15_method_7_code (4 : Nat) (Option.none : Option Jvm.ClassFile.FieldType)) ∈ lw_all := lw_g (lw_at lw_m4 123 rfl) rfl
theorem q944 : (Jvm.Cond.instanceMethod ({ cls := "GraphModules$Row", name := "place", desc := "(J)I" } : Jvm.MethodName)) ∈ lw_all := lw_g (lw_at lw_m4 133 rfl) rfl
theorem q945 : (Jvm.Cond.selects "GraphModules$Row" ({ cls := "GraphModules$Row", name := "place", desc := "(J)I" } : Jvm.MethodName) ({ cls := "GraphModules$Row", name := "place", desc := "(J)I" } : Jvm.MethodName)) ∈ lw_all := lw_g (lw_at lw_m4 134 rfl) rfl
theorem q946 : (Jvm.Cond.code ({ cls := "GraphModules$Row", name := "place", desc := "(J)I" } : Jvm.MethodName) prog_15_method_11_code (4 : Nat) (Option.some Jvm.ClassFile.FieldType.int)) ∈ lw_all := lw_g (lw_at lw_m4 135 rfl) rfl
theorem q1853 : (Jvm.Cond.castable "GraphModules$Row" "java/lang/Object") ∈ lw_tbl := lw_at lw_m8 82 rfl
theorem in_X1 : ∀ w ∈ wsX10, w ∈ lw_all := lw_in wsX10 [150, 152] (by decide +kernel) (by decide +kernel)

/-! GraphModules$Kind$4 -/
set_option maxRecDepth 100000
def RX10 : String := "GraphModules$Kind$4"
abbrev cX10_isModule : ByteArray := prog_11_method_2_code
def yX10_isModule : MethodName := ⟨RX10, "isModule", "(II)Z"⟩
def dkwX10_isModule_0 : List UInt8 := [178, 0, 7, 27, 28, 182, 0, 13, 172]
abbrev dktX10_isModule_0 : List UInt8 := dkwX10_isModule_0 ++ []
theorem dksX10_isModule_0 : cX10_isModule.data.toList.drop 0 = dktX10_isModule_0 := by decide +kernel
theorem dX10_isModule_0 : decode cX10_isModule 0 = .ok (.getstatic 7, 3) := dk_178 0 7 (dk_at dksX10_isModule_0 0 rfl rfl)
theorem dX10_isModule_3 : decode cX10_isModule 3 = .ok (.iload_n 1, 1) := dk_27 (dk_at dksX10_isModule_0 3 rfl rfl)
theorem dX10_isModule_4 : decode cX10_isModule 4 = .ok (.iload_n 2, 1) := dk_28 (dk_at dksX10_isModule_0 4 rfl rfl)
theorem dX10_isModule_5 : decode cX10_isModule 5 = .ok (.invokevirtual 13, 3) := dk_182 0 13 (dk_at dksX10_isModule_0 5 rfl rfl)
theorem dX10_isModule_8 : decode cX10_isModule 8 = .ok (.ireturn, 1) := dk_172 (dk_at dksX10_isModule_0 8 rfl rfl)
theorem q120 : (Jvm.Cond.initialized "GraphModules$Kind$4") ∈ lw_all := lw_g (lw_at lw_m1 29 rfl) rfl
theorem q571 : (Jvm.Cond.selects "GraphModules$Kind$4" ({ cls := "java/lang/Object", name := "getClass", desc := "()Ljava/lang/Class;" } : Jvm.MethodName) ({ cls := "java/lang/Object", name := "getClass", desc := "()Ljava/lang/Class;" } : Jvm.MethodName)) ∈ lw_all := lw_g (lw_at lw_m3 0 rfl) rfl
theorem q716 : (Jvm.Cond.instanceMethod ({ cls := "GraphModules$Kind$4", name := "isModule", desc := "(II)Z" } : Jvm.MethodName)) ∈ lw_all := lw_g (lw_at lw_m3 145 rfl) rfl
theorem q717 : (Jvm.Cond.code ({ cls := "GraphModules$Kind$4", name := "isModule", desc := "(II)Z" } : Jvm.MethodName) prog_11_method_2_code (3 : Nat) (Option.some Jvm.ClassFile.FieldType.boolean)) ∈ lw_all := lw_g (lw_at lw_m3 146 rfl) rfl
theorem q718 : (Jvm.Cond.fieldLink "GraphModules$Kind$4" (7 : Nat) "GraphModules$Kind$4" "LEAF" "LGraphModules$Kind;") ∈ lw_all := lw_g (lw_at lw_m3 147 rfl) rfl
theorem q719 : (Jvm.Cond.sameField "GraphModules$Kind$4" "GraphModules$Kind" "LEAF" "LGraphModules$Kind;") ∈ lw_all := lw_g (lw_at lw_m3 148 rfl) rfl
theorem q721 : (Jvm.Cond.methodLink "GraphModules$Kind$4" (13 : Nat) ({ cls := "GraphModules$Kind", name := "isModule", desc := "(II)Z" } : Jvm.MethodName)) ∈ lw_all := lw_g (lw_at lw_m3 150 rfl) rfl
theorem q722 : (Jvm.Cond.selects "GraphModules$Kind$4" ({ cls := "GraphModules$Kind", name := "isModule", desc := "(II)Z" } : Jvm.MethodName) ({ cls := "GraphModules$Kind$4", name := "isModule", desc := "(II)Z" } : Jvm.MethodName)) ∈ lw_all := lw_g (lw_at lw_m3 151 rfl) rfl
theorem q880 : (Jvm.Cond.selects "GraphModules$Kind$4" ({ cls := "GraphModules$Kind", name := "ordinal", desc := "()I" } : Jvm.MethodName) ({ cls := "java/lang/Enum", name := "ordinal", desc := "()I" } : Jvm.MethodName)) ∈ lw_all := lw_g (lw_at lw_m4 69 rfl) rfl
theorem q1349 : (Jvm.Cond.selects "GraphModules$Kind$4" ({ cls := "GraphModules$Kind", name := "sign", desc := "()C" } : Jvm.MethodName) ({ cls := "GraphModules$Kind", name := "sign", desc := "()C" } : Jvm.MethodName)) ∈ lw_all := lw_g (lw_at lw_m6 58 rfl) rfl
theorem q1863 : (Jvm.Cond.castable "GraphModules$Kind$4" "java/lang/Object") ∈ lw_tbl := lw_at lw_m8 92 rfl

/-! GraphModules$Gathering -/
set_option maxRecDepth 100000
def RX11 : String := "GraphModules$Gathering"
def TX11 : u_T := fun k => match k with
  | 0 => ("GraphModules$Gathering", "isIn", "[Z", true)
  | 1 => ("GraphModules$Gathering", "queue", "[I", true)
  | _ => ("GraphModules$Gathering", "many", "I", false)
def tyX11 : Nat → FieldType := fun k => match k with
  | 0 => .array .boolean
  | 1 => .array .int
  | _ => .int
abbrev wsX110 : List Cond := u_ws RX11 TX11 3
theorem nmX11 : ∀ a, a < 3 → ∀ b, b < 3 → a ≠ b → (TX11 a).2.1 ≠ (TX11 b).2.1 := by decide +kernel
theorem tyX11_ok : ∀ k, k < 3 → parseFieldDescriptor (TX11 k).2.2.1 = some (tyX11 k) := by decide +kernel
abbrev cX11_init : ByteArray := prog_4_method_1_code
def yX11_init : MethodName := ⟨RX11, "<init>", "()V"⟩
def dkwX11_init_0 : List UInt8 := [42, 183, 0, 3, 42, 178, 0, 9, 188, 4, 181, 0, 13, 42, 178, 0, 9, 188, 10, 181, 0, 19, 177]
abbrev dktX11_init_0 : List UInt8 := dkwX11_init_0 ++ []
theorem dksX11_init_0 : cX11_init.data.toList.drop 0 = dktX11_init_0 := by decide +kernel
theorem dX11_init_0 : decode cX11_init 0 = .ok (.aload_n 0, 1) := dk_42 (dk_at dksX11_init_0 0 rfl rfl)
theorem dX11_init_1 : decode cX11_init 1 = .ok (.invokespecial 3, 3) := dk_183 0 3 (dk_at dksX11_init_0 1 rfl rfl)
theorem dX11_init_4 : decode cX11_init 4 = .ok (.aload_n 0, 1) := dk_42 (dk_at dksX11_init_0 4 rfl rfl)
theorem dX11_init_5 : decode cX11_init 5 = .ok (.getstatic 9, 3) := dk_178 0 9 (dk_at dksX11_init_0 5 rfl rfl)
theorem dX11_init_8 : decode cX11_init 8 = .ok (.newarray .boolean, 2) := dk_188_4 (dk_at dksX11_init_0 8 rfl rfl)
theorem dX11_init_10 : decode cX11_init 10 = .ok (.putfield 13, 3) := dk_181 0 13 (dk_at dksX11_init_0 10 rfl rfl)
theorem dX11_init_13 : decode cX11_init 13 = .ok (.aload_n 0, 1) := dk_42 (dk_at dksX11_init_0 13 rfl rfl)
theorem dX11_init_14 : decode cX11_init 14 = .ok (.getstatic 9, 3) := dk_178 0 9 (dk_at dksX11_init_0 14 rfl rfl)
theorem dX11_init_17 : decode cX11_init 17 = .ok (.newarray .int, 2) := dk_188_10 (dk_at dksX11_init_0 17 rfl rfl)
theorem dX11_init_19 : decode cX11_init 19 = .ok (.putfield 19, 3) := dk_181 0 19 (dk_at dksX11_init_0 19 rfl rfl)
theorem dX11_init_22 : decode cX11_init 22 = .ok (.return_, 1) := dk_177 (dk_at dksX11_init_0 22 rfl rfl)
abbrev cX11_of : ByteArray := prog_4_method_3_code
def yX11_of : MethodName := ⟨RX11, "of", "(LGraphModules$Graph;II)LGraphModules$Gathering;"⟩
def dkwX11_of_6 : List UInt8 := [176]
abbrev dktX11_of_6 : List UInt8 := dkwX11_of_6 ++ []
def dkwX11_of_5 : List UInt8 := [154, 0, 11, 42, 21, 7, 21, 6, 182, 0, 26, 132, 7, 1, 167, 255, 170, 132, 4, 1, 167, 255, 128, 42]
abbrev dktX11_of_5 : List UInt8 := dkwX11_of_5 ++ dktX11_of_6
def dkwX11_of_4 : List UInt8 := [159, 0, 33, 43, 21, 7, 21, 6, 182, 0, 35, 153, 0, 22, 43, 21, 5, 21, 7, 182, 0, 35]
abbrev dktX11_of_4 : List UInt8 := dkwX11_of_4 ++ dktX11_of_5
def dkwX11_of_3 : List UInt8 := [43, 21, 6, 21, 7, 182, 0, 35, 154, 0, 11, 42, 21, 5, 21, 7, 182, 0, 26, 21, 7, 21, 5]
abbrev dktX11_of_3 : List UInt8 := dkwX11_of_3 ++ dktX11_of_4
def dkwX11_of_2 : List UInt8 := [180, 0, 30, 162, 0, 83, 21, 7, 21, 6, 159, 0, 33, 43, 21, 5, 21, 7, 182, 0, 35, 153, 0, 22]
abbrev dktX11_of_2 : List UInt8 := dkwX11_of_2 ++ dktX11_of_3
def dkwX11_of_1 : List UInt8 := [46, 16, 10, 108, 54, 5, 42, 180, 0, 19, 21, 4, 46, 16, 10, 112, 54, 6, 3, 54, 7, 21, 7, 43]
abbrev dktX11_of_1 : List UInt8 := dkwX11_of_1 ++ dktX11_of_2
def dkwX11_of_0 : List UInt8 := [42, 28, 29, 182, 0, 26, 3, 54, 4, 21, 4, 42, 180, 0, 23, 162, 0, 125, 42, 180, 0, 19, 21, 4]
abbrev dktX11_of_0 : List UInt8 := dkwX11_of_0 ++ dktX11_of_1
theorem dksX11_of_0 : cX11_of.data.toList.drop 0 = dktX11_of_0 := by decide +kernel
theorem dksX11_of_1 : cX11_of.data.toList.drop 24 = dktX11_of_1 := dk_seg dksX11_of_0 24 rfl rfl
theorem dksX11_of_2 : cX11_of.data.toList.drop 48 = dktX11_of_2 := dk_seg dksX11_of_1 24 rfl rfl
theorem dksX11_of_3 : cX11_of.data.toList.drop 72 = dktX11_of_3 := dk_seg dksX11_of_2 24 rfl rfl
theorem dksX11_of_4 : cX11_of.data.toList.drop 95 = dktX11_of_4 := dk_seg dksX11_of_3 23 rfl rfl
theorem dksX11_of_5 : cX11_of.data.toList.drop 117 = dktX11_of_5 := dk_seg dksX11_of_4 22 rfl rfl
theorem dksX11_of_6 : cX11_of.data.toList.drop 141 = dktX11_of_6 := dk_seg dksX11_of_5 24 rfl rfl
theorem dX11_of_0 : decode cX11_of 0 = .ok (.aload_n 0, 1) := dk_42 (dk_at dksX11_of_0 0 rfl rfl)
theorem dX11_of_1 : decode cX11_of 1 = .ok (.iload_n 2, 1) := dk_28 (dk_at dksX11_of_0 1 rfl rfl)
theorem dX11_of_2 : decode cX11_of 2 = .ok (.iload_n 3, 1) := dk_29 (dk_at dksX11_of_0 2 rfl rfl)
theorem dX11_of_3 : decode cX11_of 3 = .ok (.invokevirtual 26, 3) := dk_182 0 26 (dk_at dksX11_of_0 3 rfl rfl)
theorem dX11_of_6 : decode cX11_of 6 = .ok (.iconst 0, 1) := dk_3 (dk_at dksX11_of_0 6 rfl rfl)
theorem dX11_of_7 : decode cX11_of 7 = .ok (.istore 4, 2) := dk_54 4 (dk_at dksX11_of_0 7 rfl rfl)
theorem dX11_of_9 : decode cX11_of 9 = .ok (.iload 4, 2) := dk_21 4 (dk_at dksX11_of_0 9 rfl rfl)
theorem dX11_of_11 : decode cX11_of 11 = .ok (.aload_n 0, 1) := dk_42 (dk_at dksX11_of_0 11 rfl rfl)
theorem dX11_of_12 : decode cX11_of 12 = .ok (.getfield 23, 3) := dk_180 0 23 (dk_at dksX11_of_0 12 rfl rfl)
theorem dX11_of_15 : decode cX11_of 15 = .ok (.if_icmp .ge 125, 3) := dk_162 0 125 (dk_at dksX11_of_0 15 rfl rfl)
theorem dX11_of_18 : decode cX11_of 18 = .ok (.aload_n 0, 1) := dk_42 (dk_at dksX11_of_0 18 rfl rfl)
theorem dX11_of_19 : decode cX11_of 19 = .ok (.getfield 19, 3) := dk_180 0 19 (dk_at dksX11_of_0 19 rfl rfl)
theorem dX11_of_22 : decode cX11_of 22 = .ok (.iload 4, 2) := dk_21 4 (dk_at dksX11_of_0 22 rfl rfl)
theorem dX11_of_24 : decode cX11_of 24 = .ok (.iaload, 1) := dk_46 (dk_at dksX11_of_1 0 rfl rfl)
theorem dX11_of_25 : decode cX11_of 25 = .ok (.bipush 10, 2) := dk_16 10 (dk_at dksX11_of_1 1 rfl rfl)
theorem dX11_of_27 : decode cX11_of 27 = .ok (.idiv, 1) := dk_108 (dk_at dksX11_of_1 3 rfl rfl)
theorem dX11_of_28 : decode cX11_of 28 = .ok (.istore 5, 2) := dk_54 5 (dk_at dksX11_of_1 4 rfl rfl)
theorem dX11_of_30 : decode cX11_of 30 = .ok (.aload_n 0, 1) := dk_42 (dk_at dksX11_of_1 6 rfl rfl)
theorem dX11_of_31 : decode cX11_of 31 = .ok (.getfield 19, 3) := dk_180 0 19 (dk_at dksX11_of_1 7 rfl rfl)
theorem dX11_of_34 : decode cX11_of 34 = .ok (.iload 4, 2) := dk_21 4 (dk_at dksX11_of_1 10 rfl rfl)
theorem dX11_of_36 : decode cX11_of 36 = .ok (.iaload, 1) := dk_46 (dk_at dksX11_of_1 12 rfl rfl)
theorem dX11_of_37 : decode cX11_of 37 = .ok (.bipush 10, 2) := dk_16 10 (dk_at dksX11_of_1 13 rfl rfl)
theorem dX11_of_39 : decode cX11_of 39 = .ok (.irem, 1) := dk_112 (dk_at dksX11_of_1 15 rfl rfl)
theorem dX11_of_40 : decode cX11_of 40 = .ok (.istore 6, 2) := dk_54 6 (dk_at dksX11_of_1 16 rfl rfl)
theorem dX11_of_42 : decode cX11_of 42 = .ok (.iconst 0, 1) := dk_3 (dk_at dksX11_of_1 18 rfl rfl)
theorem dX11_of_43 : decode cX11_of 43 = .ok (.istore 7, 2) := dk_54 7 (dk_at dksX11_of_1 19 rfl rfl)
theorem dX11_of_45 : decode cX11_of 45 = .ok (.iload 7, 2) := dk_21 7 (dk_at dksX11_of_1 21 rfl rfl)
theorem dX11_of_47 : decode cX11_of 47 = .ok (.aload_n 1, 1) := dk_43 (dk_at dksX11_of_1 23 rfl rfl)
theorem dX11_of_48 : decode cX11_of 48 = .ok (.getfield 30, 3) := dk_180 0 30 (dk_at dksX11_of_2 0 rfl rfl)
theorem dX11_of_51 : decode cX11_of 51 = .ok (.if_icmp .ge 83, 3) := dk_162 0 83 (dk_at dksX11_of_2 3 rfl rfl)
theorem dX11_of_54 : decode cX11_of 54 = .ok (.iload 7, 2) := dk_21 7 (dk_at dksX11_of_2 6 rfl rfl)
theorem dX11_of_56 : decode cX11_of 56 = .ok (.iload 6, 2) := dk_21 6 (dk_at dksX11_of_2 8 rfl rfl)
theorem dX11_of_58 : decode cX11_of 58 = .ok (.if_icmp .eq 33, 3) := dk_159 0 33 (dk_at dksX11_of_2 10 rfl rfl)
theorem dX11_of_61 : decode cX11_of 61 = .ok (.aload_n 1, 1) := dk_43 (dk_at dksX11_of_2 13 rfl rfl)
theorem dX11_of_62 : decode cX11_of 62 = .ok (.iload 5, 2) := dk_21 5 (dk_at dksX11_of_2 14 rfl rfl)
theorem dX11_of_64 : decode cX11_of 64 = .ok (.iload 7, 2) := dk_21 7 (dk_at dksX11_of_2 16 rfl rfl)
theorem dX11_of_66 : decode cX11_of 66 = .ok (.invokevirtual 35, 3) := dk_182 0 35 (dk_at dksX11_of_2 18 rfl rfl)
theorem dX11_of_69 : decode cX11_of 69 = .ok (.ifCond .eq 22, 3) := dk_153 0 22 (dk_at dksX11_of_2 21 rfl rfl)
theorem dX11_of_72 : decode cX11_of 72 = .ok (.aload_n 1, 1) := dk_43 (dk_at dksX11_of_3 0 rfl rfl)
theorem dX11_of_73 : decode cX11_of 73 = .ok (.iload 6, 2) := dk_21 6 (dk_at dksX11_of_3 1 rfl rfl)
theorem dX11_of_75 : decode cX11_of 75 = .ok (.iload 7, 2) := dk_21 7 (dk_at dksX11_of_3 3 rfl rfl)
theorem dX11_of_77 : decode cX11_of 77 = .ok (.invokevirtual 35, 3) := dk_182 0 35 (dk_at dksX11_of_3 5 rfl rfl)
theorem dX11_of_80 : decode cX11_of 80 = .ok (.ifCond .ne 11, 3) := dk_154 0 11 (dk_at dksX11_of_3 8 rfl rfl)
theorem dX11_of_83 : decode cX11_of 83 = .ok (.aload_n 0, 1) := dk_42 (dk_at dksX11_of_3 11 rfl rfl)
theorem dX11_of_84 : decode cX11_of 84 = .ok (.iload 5, 2) := dk_21 5 (dk_at dksX11_of_3 12 rfl rfl)
theorem dX11_of_86 : decode cX11_of 86 = .ok (.iload 7, 2) := dk_21 7 (dk_at dksX11_of_3 14 rfl rfl)
theorem dX11_of_88 : decode cX11_of 88 = .ok (.invokevirtual 26, 3) := dk_182 0 26 (dk_at dksX11_of_3 16 rfl rfl)
theorem dX11_of_91 : decode cX11_of 91 = .ok (.iload 7, 2) := dk_21 7 (dk_at dksX11_of_3 19 rfl rfl)
theorem dX11_of_93 : decode cX11_of 93 = .ok (.iload 5, 2) := dk_21 5 (dk_at dksX11_of_3 21 rfl rfl)
theorem dX11_of_95 : decode cX11_of 95 = .ok (.if_icmp .eq 33, 3) := dk_159 0 33 (dk_at dksX11_of_4 0 rfl rfl)
theorem dX11_of_98 : decode cX11_of 98 = .ok (.aload_n 1, 1) := dk_43 (dk_at dksX11_of_4 3 rfl rfl)
theorem dX11_of_99 : decode cX11_of 99 = .ok (.iload 7, 2) := dk_21 7 (dk_at dksX11_of_4 4 rfl rfl)
theorem dX11_of_101 : decode cX11_of 101 = .ok (.iload 6, 2) := dk_21 6 (dk_at dksX11_of_4 6 rfl rfl)
theorem dX11_of_103 : decode cX11_of 103 = .ok (.invokevirtual 35, 3) := dk_182 0 35 (dk_at dksX11_of_4 8 rfl rfl)
theorem dX11_of_106 : decode cX11_of 106 = .ok (.ifCond .eq 22, 3) := dk_153 0 22 (dk_at dksX11_of_4 11 rfl rfl)
theorem dX11_of_109 : decode cX11_of 109 = .ok (.aload_n 1, 1) := dk_43 (dk_at dksX11_of_4 14 rfl rfl)
theorem dX11_of_110 : decode cX11_of 110 = .ok (.iload 5, 2) := dk_21 5 (dk_at dksX11_of_4 15 rfl rfl)
theorem dX11_of_112 : decode cX11_of 112 = .ok (.iload 7, 2) := dk_21 7 (dk_at dksX11_of_4 17 rfl rfl)
theorem dX11_of_114 : decode cX11_of 114 = .ok (.invokevirtual 35, 3) := dk_182 0 35 (dk_at dksX11_of_4 19 rfl rfl)
theorem dX11_of_117 : decode cX11_of 117 = .ok (.ifCond .ne 11, 3) := dk_154 0 11 (dk_at dksX11_of_5 0 rfl rfl)
theorem dX11_of_120 : decode cX11_of 120 = .ok (.aload_n 0, 1) := dk_42 (dk_at dksX11_of_5 3 rfl rfl)
theorem dX11_of_121 : decode cX11_of 121 = .ok (.iload 7, 2) := dk_21 7 (dk_at dksX11_of_5 4 rfl rfl)
theorem dX11_of_123 : decode cX11_of 123 = .ok (.iload 6, 2) := dk_21 6 (dk_at dksX11_of_5 6 rfl rfl)
theorem dX11_of_125 : decode cX11_of 125 = .ok (.invokevirtual 26, 3) := dk_182 0 26 (dk_at dksX11_of_5 8 rfl rfl)
theorem dX11_of_128 : decode cX11_of 128 = .ok (.iinc 7 1, 3) := dk_132 7 1 (dk_at dksX11_of_5 11 rfl rfl)
theorem dX11_of_131 : decode cX11_of 131 = .ok (.goto (-86), 3) := dk_167 255 170 (dk_at dksX11_of_5 14 rfl rfl)
theorem dX11_of_134 : decode cX11_of 134 = .ok (.iinc 4 1, 3) := dk_132 4 1 (dk_at dksX11_of_5 17 rfl rfl)
theorem dX11_of_137 : decode cX11_of 137 = .ok (.goto (-128), 3) := dk_167 255 128 (dk_at dksX11_of_5 20 rfl rfl)
theorem dX11_of_140 : decode cX11_of 140 = .ok (.aload_n 0, 1) := dk_42 (dk_at dksX11_of_5 23 rfl rfl)
theorem dX11_of_141 : decode cX11_of 141 = .ok (.areturn, 1) := dk_176 (dk_at dksX11_of_6 0 rfl rfl)
abbrev cX11_take : ByteArray := prog_4_method_2_code
def yX11_take : MethodName := ⟨RX11, "take", "(II)V"⟩
def dkwX11_take_1 : List UInt8 := [180, 0, 19, 42, 180, 0, 23, 29, 79, 42, 89, 180, 0, 23, 4, 96, 181, 0, 23, 177]
abbrev dktX11_take_1 : List UInt8 := dkwX11_take_1 ++ []
def dkwX11_take_0 : List UInt8 := [16, 10, 27, 104, 28, 96, 62, 42, 180, 0, 13, 29, 51, 154, 0, 30, 42, 180, 0, 13, 29, 4, 84, 42]
abbrev dktX11_take_0 : List UInt8 := dkwX11_take_0 ++ dktX11_take_1
theorem dksX11_take_0 : cX11_take.data.toList.drop 0 = dktX11_take_0 := by decide +kernel
theorem dksX11_take_1 : cX11_take.data.toList.drop 24 = dktX11_take_1 := dk_seg dksX11_take_0 24 rfl rfl
theorem dX11_take_0 : decode cX11_take 0 = .ok (.bipush 10, 2) := dk_16 10 (dk_at dksX11_take_0 0 rfl rfl)
theorem dX11_take_2 : decode cX11_take 2 = .ok (.iload_n 1, 1) := dk_27 (dk_at dksX11_take_0 2 rfl rfl)
theorem dX11_take_3 : decode cX11_take 3 = .ok (.imul, 1) := dk_104 (dk_at dksX11_take_0 3 rfl rfl)
theorem dX11_take_4 : decode cX11_take 4 = .ok (.iload_n 2, 1) := dk_28 (dk_at dksX11_take_0 4 rfl rfl)
theorem dX11_take_5 : decode cX11_take 5 = .ok (.iadd, 1) := dk_96 (dk_at dksX11_take_0 5 rfl rfl)
theorem dX11_take_6 : decode cX11_take 6 = .ok (.istore_n 3, 1) := dk_62 (dk_at dksX11_take_0 6 rfl rfl)
theorem dX11_take_7 : decode cX11_take 7 = .ok (.aload_n 0, 1) := dk_42 (dk_at dksX11_take_0 7 rfl rfl)
theorem dX11_take_8 : decode cX11_take 8 = .ok (.getfield 13, 3) := dk_180 0 13 (dk_at dksX11_take_0 8 rfl rfl)
theorem dX11_take_11 : decode cX11_take 11 = .ok (.iload_n 3, 1) := dk_29 (dk_at dksX11_take_0 11 rfl rfl)
theorem dX11_take_12 : decode cX11_take 12 = .ok (.baload, 1) := dk_51 (dk_at dksX11_take_0 12 rfl rfl)
theorem dX11_take_13 : decode cX11_take 13 = .ok (.ifCond .ne 30, 3) := dk_154 0 30 (dk_at dksX11_take_0 13 rfl rfl)
theorem dX11_take_16 : decode cX11_take 16 = .ok (.aload_n 0, 1) := dk_42 (dk_at dksX11_take_0 16 rfl rfl)
theorem dX11_take_17 : decode cX11_take 17 = .ok (.getfield 13, 3) := dk_180 0 13 (dk_at dksX11_take_0 17 rfl rfl)
theorem dX11_take_20 : decode cX11_take 20 = .ok (.iload_n 3, 1) := dk_29 (dk_at dksX11_take_0 20 rfl rfl)
theorem dX11_take_21 : decode cX11_take 21 = .ok (.iconst 1, 1) := dk_4 (dk_at dksX11_take_0 21 rfl rfl)
theorem dX11_take_22 : decode cX11_take 22 = .ok (.bastore, 1) := dk_84 (dk_at dksX11_take_0 22 rfl rfl)
theorem dX11_take_23 : decode cX11_take 23 = .ok (.aload_n 0, 1) := dk_42 (dk_at dksX11_take_0 23 rfl rfl)
theorem dX11_take_24 : decode cX11_take 24 = .ok (.getfield 19, 3) := dk_180 0 19 (dk_at dksX11_take_1 0 rfl rfl)
theorem dX11_take_27 : decode cX11_take 27 = .ok (.aload_n 0, 1) := dk_42 (dk_at dksX11_take_1 3 rfl rfl)
theorem dX11_take_28 : decode cX11_take 28 = .ok (.getfield 23, 3) := dk_180 0 23 (dk_at dksX11_take_1 4 rfl rfl)
theorem dX11_take_31 : decode cX11_take 31 = .ok (.iload_n 3, 1) := dk_29 (dk_at dksX11_take_1 7 rfl rfl)
theorem dX11_take_32 : decode cX11_take 32 = .ok (.iastore, 1) := dk_79 (dk_at dksX11_take_1 8 rfl rfl)
theorem dX11_take_33 : decode cX11_take 33 = .ok (.aload_n 0, 1) := dk_42 (dk_at dksX11_take_1 9 rfl rfl)
theorem dX11_take_34 : decode cX11_take 34 = .ok (.dup, 1) := dk_89 (dk_at dksX11_take_1 10 rfl rfl)
theorem dX11_take_35 : decode cX11_take 35 = .ok (.getfield 23, 3) := dk_180 0 23 (dk_at dksX11_take_1 11 rfl rfl)
theorem dX11_take_38 : decode cX11_take 38 = .ok (.iconst 1, 1) := dk_4 (dk_at dksX11_take_1 14 rfl rfl)
theorem dX11_take_39 : decode cX11_take 39 = .ok (.iadd, 1) := dk_96 (dk_at dksX11_take_1 15 rfl rfl)
theorem dX11_take_40 : decode cX11_take 40 = .ok (.putfield 23, 3) := dk_181 0 23 (dk_at dksX11_take_1 16 rfl rfl)
theorem dX11_take_43 : decode cX11_take 43 = .ok (.return_, 1) := dk_177 (dk_at dksX11_take_1 19 rfl rfl)
abbrev cX11_first : ByteArray := prog_4_method_4_code
def yX11_first : MethodName := ⟨RX11, "first", "()I"⟩
def dkwX11_first_0 : List UInt8 := [3, 60, 42, 180, 0, 13, 27, 51, 154, 0, 9, 132, 1, 1, 167, 255, 244, 27, 172]
abbrev dktX11_first_0 : List UInt8 := dkwX11_first_0 ++ []
theorem dksX11_first_0 : cX11_first.data.toList.drop 0 = dktX11_first_0 := by decide +kernel
theorem dX11_first_0 : decode cX11_first 0 = .ok (.iconst 0, 1) := dk_3 (dk_at dksX11_first_0 0 rfl rfl)
theorem dX11_first_1 : decode cX11_first 1 = .ok (.istore_n 1, 1) := dk_60 (dk_at dksX11_first_0 1 rfl rfl)
theorem dX11_first_2 : decode cX11_first 2 = .ok (.aload_n 0, 1) := dk_42 (dk_at dksX11_first_0 2 rfl rfl)
theorem dX11_first_3 : decode cX11_first 3 = .ok (.getfield 13, 3) := dk_180 0 13 (dk_at dksX11_first_0 3 rfl rfl)
theorem dX11_first_6 : decode cX11_first 6 = .ok (.iload_n 1, 1) := dk_27 (dk_at dksX11_first_0 6 rfl rfl)
theorem dX11_first_7 : decode cX11_first 7 = .ok (.baload, 1) := dk_51 (dk_at dksX11_first_0 7 rfl rfl)
theorem dX11_first_8 : decode cX11_first 8 = .ok (.ifCond .ne 9, 3) := dk_154 0 9 (dk_at dksX11_first_0 8 rfl rfl)
theorem dX11_first_11 : decode cX11_first 11 = .ok (.iinc 1 1, 3) := dk_132 1 1 (dk_at dksX11_first_0 11 rfl rfl)
theorem dX11_first_14 : decode cX11_first 14 = .ok (.goto (-12), 3) := dk_167 255 244 (dk_at dksX11_first_0 14 rfl rfl)
theorem dX11_first_17 : decode cX11_first 17 = .ok (.iload_n 1, 1) := dk_27 (dk_at dksX11_first_0 17 rfl rfl)
theorem dX11_first_18 : decode cX11_first 18 = .ok (.ireturn, 1) := dk_172 (dk_at dksX11_first_0 18 rfl rfl)
abbrev cX11_isTorn : ByteArray := prog_4_method_5_code
def yX11_isTorn : MethodName := ⟨RX11, "isTorn", "()Z"⟩
def dkwX11_isTorn_2 : List UInt8 := [167, 255, 215, 27, 172]
abbrev dktX11_isTorn_2 : List UInt8 := dkwX11_isTorn_2 ++ []
def dkwX11_isTorn_1 : List UInt8 := [16, 10, 112, 16, 10, 104, 42, 180, 0, 19, 28, 46, 16, 10, 108, 96, 51, 128, 60, 132, 2, 1]
abbrev dktX11_isTorn_1 : List UInt8 := dkwX11_isTorn_1 ++ dktX11_isTorn_2
def dkwX11_isTorn_0 : List UInt8 := [3, 60, 3, 61, 28, 42, 180, 0, 23, 162, 0, 39, 27, 42, 180, 0, 13, 42, 180, 0, 19, 28, 46]
abbrev dktX11_isTorn_0 : List UInt8 := dkwX11_isTorn_0 ++ dktX11_isTorn_1
theorem dksX11_isTorn_0 : cX11_isTorn.data.toList.drop 0 = dktX11_isTorn_0 := by decide +kernel
theorem dksX11_isTorn_1 : cX11_isTorn.data.toList.drop 23 = dktX11_isTorn_1 := dk_seg dksX11_isTorn_0 23 rfl rfl
theorem dksX11_isTorn_2 : cX11_isTorn.data.toList.drop 45 = dktX11_isTorn_2 := dk_seg dksX11_isTorn_1 22 rfl rfl
theorem dX11_isTorn_0 : decode cX11_isTorn 0 = .ok (.iconst 0, 1) := dk_3 (dk_at dksX11_isTorn_0 0 rfl rfl)
theorem dX11_isTorn_1 : decode cX11_isTorn 1 = .ok (.istore_n 1, 1) := dk_60 (dk_at dksX11_isTorn_0 1 rfl rfl)
theorem dX11_isTorn_2 : decode cX11_isTorn 2 = .ok (.iconst 0, 1) := dk_3 (dk_at dksX11_isTorn_0 2 rfl rfl)
theorem dX11_isTorn_3 : decode cX11_isTorn 3 = .ok (.istore_n 2, 1) := dk_61 (dk_at dksX11_isTorn_0 3 rfl rfl)
theorem dX11_isTorn_4 : decode cX11_isTorn 4 = .ok (.iload_n 2, 1) := dk_28 (dk_at dksX11_isTorn_0 4 rfl rfl)
theorem dX11_isTorn_5 : decode cX11_isTorn 5 = .ok (.aload_n 0, 1) := dk_42 (dk_at dksX11_isTorn_0 5 rfl rfl)
theorem dX11_isTorn_6 : decode cX11_isTorn 6 = .ok (.getfield 23, 3) := dk_180 0 23 (dk_at dksX11_isTorn_0 6 rfl rfl)
theorem dX11_isTorn_9 : decode cX11_isTorn 9 = .ok (.if_icmp .ge 39, 3) := dk_162 0 39 (dk_at dksX11_isTorn_0 9 rfl rfl)
theorem dX11_isTorn_12 : decode cX11_isTorn 12 = .ok (.iload_n 1, 1) := dk_27 (dk_at dksX11_isTorn_0 12 rfl rfl)
theorem dX11_isTorn_13 : decode cX11_isTorn 13 = .ok (.aload_n 0, 1) := dk_42 (dk_at dksX11_isTorn_0 13 rfl rfl)
theorem dX11_isTorn_14 : decode cX11_isTorn 14 = .ok (.getfield 13, 3) := dk_180 0 13 (dk_at dksX11_isTorn_0 14 rfl rfl)
theorem dX11_isTorn_17 : decode cX11_isTorn 17 = .ok (.aload_n 0, 1) := dk_42 (dk_at dksX11_isTorn_0 17 rfl rfl)
theorem dX11_isTorn_18 : decode cX11_isTorn 18 = .ok (.getfield 19, 3) := dk_180 0 19 (dk_at dksX11_isTorn_0 18 rfl rfl)
theorem dX11_isTorn_21 : decode cX11_isTorn 21 = .ok (.iload_n 2, 1) := dk_28 (dk_at dksX11_isTorn_0 21 rfl rfl)
theorem dX11_isTorn_22 : decode cX11_isTorn 22 = .ok (.iaload, 1) := dk_46 (dk_at dksX11_isTorn_0 22 rfl rfl)
theorem dX11_isTorn_23 : decode cX11_isTorn 23 = .ok (.bipush 10, 2) := dk_16 10 (dk_at dksX11_isTorn_1 0 rfl rfl)
theorem dX11_isTorn_25 : decode cX11_isTorn 25 = .ok (.irem, 1) := dk_112 (dk_at dksX11_isTorn_1 2 rfl rfl)
theorem dX11_isTorn_26 : decode cX11_isTorn 26 = .ok (.bipush 10, 2) := dk_16 10 (dk_at dksX11_isTorn_1 3 rfl rfl)
theorem dX11_isTorn_28 : decode cX11_isTorn 28 = .ok (.imul, 1) := dk_104 (dk_at dksX11_isTorn_1 5 rfl rfl)
theorem dX11_isTorn_29 : decode cX11_isTorn 29 = .ok (.aload_n 0, 1) := dk_42 (dk_at dksX11_isTorn_1 6 rfl rfl)
theorem dX11_isTorn_30 : decode cX11_isTorn 30 = .ok (.getfield 19, 3) := dk_180 0 19 (dk_at dksX11_isTorn_1 7 rfl rfl)
theorem dX11_isTorn_33 : decode cX11_isTorn 33 = .ok (.iload_n 2, 1) := dk_28 (dk_at dksX11_isTorn_1 10 rfl rfl)
theorem dX11_isTorn_34 : decode cX11_isTorn 34 = .ok (.iaload, 1) := dk_46 (dk_at dksX11_isTorn_1 11 rfl rfl)
theorem dX11_isTorn_35 : decode cX11_isTorn 35 = .ok (.bipush 10, 2) := dk_16 10 (dk_at dksX11_isTorn_1 12 rfl rfl)
theorem dX11_isTorn_37 : decode cX11_isTorn 37 = .ok (.idiv, 1) := dk_108 (dk_at dksX11_isTorn_1 14 rfl rfl)
theorem dX11_isTorn_38 : decode cX11_isTorn 38 = .ok (.iadd, 1) := dk_96 (dk_at dksX11_isTorn_1 15 rfl rfl)
theorem dX11_isTorn_39 : decode cX11_isTorn 39 = .ok (.baload, 1) := dk_51 (dk_at dksX11_isTorn_1 16 rfl rfl)
theorem dX11_isTorn_40 : decode cX11_isTorn 40 = .ok (.ior, 1) := dk_128 (dk_at dksX11_isTorn_1 17 rfl rfl)
theorem dX11_isTorn_41 : decode cX11_isTorn 41 = .ok (.istore_n 1, 1) := dk_60 (dk_at dksX11_isTorn_1 18 rfl rfl)
theorem dX11_isTorn_42 : decode cX11_isTorn 42 = .ok (.iinc 2 1, 3) := dk_132 2 1 (dk_at dksX11_isTorn_1 19 rfl rfl)
theorem dX11_isTorn_45 : decode cX11_isTorn 45 = .ok (.goto (-41), 3) := dk_167 255 215 (dk_at dksX11_isTorn_2 0 rfl rfl)
theorem dX11_isTorn_48 : decode cX11_isTorn 48 = .ok (.iload_n 1, 1) := dk_27 (dk_at dksX11_isTorn_2 3 rfl rfl)
theorem dX11_isTorn_49 : decode cX11_isTorn 49 = .ok (.ireturn, 1) := dk_172 (dk_at dksX11_isTorn_2 4 rfl rfl)
theorem q121 : (Jvm.Cond.initialized "GraphModules$Gathering") ∈ lw_all := lw_g (lw_at lw_m1 30 rfl) rfl
theorem q168 : (Jvm.Cond.fieldLinkNest "GraphModules$Gathering" (30 : Nat) "GraphModules$Graph" "vertices" "I" "GraphModules") ∈ lw_tbl := lw_at lw_m1 77 rfl
theorem q565 : (Jvm.Cond.selects "GraphModules$Gathering" ({ cls := "java/lang/Object", name := "getClass", desc := "()Ljava/lang/Class;" } : Jvm.MethodName) ({ cls := "java/lang/Object", name := "getClass", desc := "()Ljava/lang/Class;" } : Jvm.MethodName)) ∈ lw_all := lw_g (lw_at lw_m2 234 rfl) rfl
theorem q756 : (Jvm.Cond.instantiable "GraphModules$Gathering" (3 : Nat)) ∈ lw_all := lw_g (lw_at lw_m3 185 rfl) rfl
theorem q758 : (Jvm.Cond.instanceMethod ({ cls := "GraphModules$Gathering", name := "<init>", desc := "()V" } : Jvm.MethodName)) ∈ lw_all := lw_g (lw_at lw_m3 187 rfl) rfl
theorem q759 : (Jvm.Cond.code ({ cls := "GraphModules$Gathering", name := "<init>", desc := "()V" } : Jvm.MethodName) prog_4_method_1_code (1 : Nat) (Option.none : Option Jvm.ClassFile.FieldType)) ∈ lw_all := lw_g (lw_at lw_m3 188 rfl) rfl
theorem q760 : (Jvm.Cond.methodLink "GraphModules$Gathering" (3 : Nat) ({ cls := "java/lang/Object", name := "<init>", desc := "()V" } : Jvm.MethodName)) ∈ lw_all := lw_g (lw_at lw_m3 189 rfl) rfl
theorem q761 : (Jvm.Cond.fieldLinkNest "GraphModules$Gathering" (9 : Nat) "GraphModules" "EDGES" "I" "GraphModules") ∈ lw_tbl := lw_at lw_m3 190 rfl
theorem q762 : (Jvm.Cond.fieldLink "GraphModules$Gathering" (13 : Nat) "GraphModules$Gathering" "isIn" "[Z") ∈ lw_all := lw_g (lw_at lw_m3 191 rfl) rfl
theorem q763 : (Jvm.Cond.fieldLink "GraphModules$Gathering" (19 : Nat) "GraphModules$Gathering" "queue" "[I") ∈ lw_all := lw_g (lw_at lw_m3 192 rfl) rfl
theorem q766 : (Jvm.Cond.fieldLink "GraphModules$Gathering" (23 : Nat) "GraphModules$Gathering" "many" "I") ∈ lw_all := lw_g (lw_at lw_m3 195 rfl) rfl
theorem q769 : (Jvm.Cond.laysFinal "GraphModules$Gathering" "GraphModules$Gathering" "isIn" "[Z") ∈ lw_all := lw_g (lw_at lw_m3 198 rfl) rfl
theorem q770 : (Jvm.Cond.soleField "GraphModules$Gathering" "isIn") ∈ lw_all := lw_g (lw_at lw_m3 199 rfl) rfl
theorem q771 : (Jvm.Cond.laysFinal "GraphModules$Gathering" "GraphModules$Gathering" "queue" "[I") ∈ lw_all := lw_g (lw_at lw_m3 200 rfl) rfl
theorem q772 : (Jvm.Cond.soleField "GraphModules$Gathering" "queue") ∈ lw_all := lw_g (lw_at lw_m3 201 rfl) rfl
theorem q773 : (Jvm.Cond.lays "GraphModules$Gathering" "GraphModules$Gathering" "many" "I") ∈ lw_all := lw_g (lw_at lw_m3 202 rfl) rfl
theorem q774 : (Jvm.Cond.soleField "GraphModules$Gathering" "many") ∈ lw_all := lw_g (lw_at lw_m3 203 rfl) rfl
theorem q775 : (Jvm.Cond.superclass "GraphModules$Gathering" "java/lang/Object") ∈ lw_all := lw_g (lw_at lw_m3 204 rfl) rfl
theorem q778 : (Jvm.Cond.instanceMethod ({ cls := "GraphModules$Gathering", name := "of", desc := "(LGraphModules$Graph;II)LGraphModules$Gathering;" } : Jvm.MethodName)) ∈ lw_all := lw_g (lw_at lw_m3 207 rfl) rfl
theorem q779 : (Jvm.Cond.selects "GraphModules$Gathering" ({ cls := "GraphModules$Gathering", name := "of", desc := "(LGraphModules$Graph;II)LGraphModules$Gathering;" } : Jvm.MethodName) ({ cls := "GraphModules$Gathering", name := "of", desc := "(LGraphModules$Graph;II)LGraphModules$Gathering;" } : Jvm.MethodName)) ∈ lw_all := lw_g (lw_at lw_m3 208 rfl) rfl
theorem q780 : (Jvm.Cond.code ({ cls := "GraphModules$Gathering", name := "of", desc := "(LGraphModules$Graph;II)LGraphModules$Gathering;" } : Jvm.MethodName) prog_4_method_3_code (8 : Nat) (Option.some (Jvm.ClassFile.FieldType.object "GraphModules$Gathering"))) ∈ lw_all := lw_g (lw_at lw_m3 209 rfl) rfl
theorem q781 : (Jvm.Cond.methodLink "GraphModules$Gathering" (26 : Nat) ({ cls := "GraphModules$Gathering", name := "take", desc := "(II)V" } : Jvm.MethodName)) ∈ lw_all := lw_g (lw_at lw_m3 210 rfl) rfl
theorem q782 : (Jvm.Cond.privateMethod ({ cls := "GraphModules$Gathering", name := "take", desc := "(II)V" } : Jvm.MethodName)) ∈ lw_tbl := lw_at lw_m3 211 rfl
theorem q783 : (Jvm.Cond.instanceMethod ({ cls := "GraphModules$Gathering", name := "take", desc := "(II)V" } : Jvm.MethodName)) ∈ lw_all := lw_g (lw_at lw_m3 212 rfl) rfl
theorem q784 : (Jvm.Cond.code ({ cls := "GraphModules$Gathering", name := "take", desc := "(II)V" } : Jvm.MethodName) prog_4_method_2_code (4 : Nat) (Option.none : Option Jvm.ClassFile.FieldType)) ∈ lw_all := lw_g (lw_at lw_m3 213 rfl) rfl
theorem q785 : (Jvm.Cond.methodLink "GraphModules$Gathering" (35 : Nat) ({ cls := "GraphModules$Graph", name := "linked", desc := "(II)Z" } : Jvm.MethodName)) ∈ lw_all := lw_g (lw_at lw_m3 214 rfl) rfl
theorem q990 : (Jvm.Cond.instanceMethod ({ cls := "GraphModules$Gathering", name := "first", desc := "()I" } : Jvm.MethodName)) ∈ lw_all := lw_g (lw_at lw_m4 179 rfl) rfl
theorem q991 : (Jvm.Cond.selects "GraphModules$Gathering" ({ cls := "GraphModules$Gathering", name := "first", desc := "()I" } : Jvm.MethodName) ({ cls := "GraphModules$Gathering", name := "first", desc := "()I" } : Jvm.MethodName)) ∈ lw_all := lw_g (lw_at lw_m4 180 rfl) rfl
theorem q992 : (Jvm.Cond.code ({ cls := "GraphModules$Gathering", name := "first", desc := "()I" } : Jvm.MethodName) prog_4_method_4_code (2 : Nat) (Option.some Jvm.ClassFile.FieldType.int)) ∈ lw_all := lw_g (lw_at lw_m4 181 rfl) rfl
theorem q1023 : (Jvm.Cond.instanceMethod ({ cls := "GraphModules$Gathering", name := "isTorn", desc := "()Z" } : Jvm.MethodName)) ∈ lw_all := lw_g (lw_at lw_m4 212 rfl) rfl
theorem q1024 : (Jvm.Cond.selects "GraphModules$Gathering" ({ cls := "GraphModules$Gathering", name := "isTorn", desc := "()Z" } : Jvm.MethodName) ({ cls := "GraphModules$Gathering", name := "isTorn", desc := "()Z" } : Jvm.MethodName)) ∈ lw_all := lw_g (lw_at lw_m4 213 rfl) rfl
theorem q1025 : (Jvm.Cond.code ({ cls := "GraphModules$Gathering", name := "isTorn", desc := "()Z" } : Jvm.MethodName) prog_4_method_5_code (3 : Nat) (Option.some Jvm.ClassFile.FieldType.boolean)) ∈ lw_all := lw_g (lw_at lw_m4 214 rfl) rfl
theorem q1866 : (Jvm.Cond.castable "GraphModules$Gathering" "java/lang/Object") ∈ lw_tbl := lw_at lw_m8 95 rfl
theorem in_X11 : ∀ w ∈ wsX110, w ∈ lw_all := lw_in wsX110 [769, 771, 773] (by decide +kernel) (by decide +kernel)

/-! GraphModules$Orientation -/
set_option maxRecDepth 100000
def RX12 : String := "GraphModules$Orientation"
def TX12 : u_T := fun k => match k with
  | 0 => ("GraphModules$Orientation", "step", "[I", true)
  | 1 => ("GraphModules$Orientation", "order", "LGraphModules$Row;", true)
  | 2 => ("GraphModules$Orientation", "steps", "I", false)
  | _ => ("GraphModules$Orientation", "isPossible", "Z", false)
def tyX12 : Nat → FieldType := fun k => match k with
  | 0 => .array .int
  | 1 => .object "GraphModules$Row"
  | 2 => .int
  | _ => .boolean
abbrev wsX120 : List Cond := u_ws RX12 TX12 4
theorem nmX12 : ∀ a, a < 4 → ∀ b, b < 4 → a ≠ b → (TX12 a).2.1 ≠ (TX12 b).2.1 := by decide +kernel
theorem tyX12_ok : ∀ k, k < 4 → parseFieldDescriptor (TX12 k).2.2.1 = some (tyX12 k) := by decide +kernel
abbrev cX12_init : ByteArray := prog_13_method_1_code
def yX12_init : MethodName := ⟨RX12, "<init>", "(LGraphModules$Graph;)V"⟩
def dkwX12_init_5 : List UInt8 := [182, 0, 66, 177]
abbrev dktX12_init_5 : List UInt8 := dkwX12_init_5 ++ []
def dkwX12_init_4 : List UInt8 := [184, 0, 51, 182, 0, 55, 182, 0, 59, 167, 255, 199, 42, 180, 0, 28, 153, 0, 11, 42, 43, 180, 0, 63]
abbrev dktX12_init_4 : List UInt8 := dkwX12_init_4 ++ dktX12_init_5
def dkwX12_init_3 : List UInt8 := [132, 3, 1, 167, 255, 244, 42, 44, 187, 0, 48, 89, 183, 0, 50, 44, 29, 44, 180, 0, 45, 29, 46]
abbrev dktX12_init_3 : List UInt8 := dkwX12_init_3 ++ dktX12_init_4
def dkwX12_init_2 : List UInt8 := [180, 0, 28, 153, 0, 56, 44, 182, 0, 41, 158, 0, 49, 3, 62, 44, 180, 0, 45, 29, 46, 154, 0, 9]
abbrev dktX12_init_2 : List UInt8 := dkwX12_init_2 ++ dktX12_init_3
def dkwX12_init_1 : List UInt8 := [183, 0, 21, 181, 0, 24, 42, 4, 181, 0, 28, 187, 0, 32, 89, 43, 182, 0, 34, 183, 0, 38, 77, 42]
abbrev dktX12_init_1 : List UInt8 := dkwX12_init_1 ++ dktX12_init_2
def dkwX12_init_0 : List UInt8 := [42, 183, 0, 3, 42, 178, 0, 9, 188, 10, 181, 0, 13, 42, 187, 0, 19, 89, 16, 10, 188, 8]
abbrev dktX12_init_0 : List UInt8 := dkwX12_init_0 ++ dktX12_init_1
theorem dksX12_init_0 : cX12_init.data.toList.drop 0 = dktX12_init_0 := by decide +kernel
theorem dksX12_init_1 : cX12_init.data.toList.drop 22 = dktX12_init_1 := dk_seg dksX12_init_0 22 rfl rfl
theorem dksX12_init_2 : cX12_init.data.toList.drop 46 = dktX12_init_2 := dk_seg dksX12_init_1 24 rfl rfl
theorem dksX12_init_3 : cX12_init.data.toList.drop 70 = dktX12_init_3 := dk_seg dksX12_init_2 24 rfl rfl
theorem dksX12_init_4 : cX12_init.data.toList.drop 93 = dktX12_init_4 := dk_seg dksX12_init_3 23 rfl rfl
theorem dksX12_init_5 : cX12_init.data.toList.drop 117 = dktX12_init_5 := dk_seg dksX12_init_4 24 rfl rfl
theorem dX12_init_0 : decode cX12_init 0 = .ok (.aload_n 0, 1) := dk_42 (dk_at dksX12_init_0 0 rfl rfl)
theorem dX12_init_1 : decode cX12_init 1 = .ok (.invokespecial 3, 3) := dk_183 0 3 (dk_at dksX12_init_0 1 rfl rfl)
theorem dX12_init_4 : decode cX12_init 4 = .ok (.aload_n 0, 1) := dk_42 (dk_at dksX12_init_0 4 rfl rfl)
theorem dX12_init_5 : decode cX12_init 5 = .ok (.getstatic 9, 3) := dk_178 0 9 (dk_at dksX12_init_0 5 rfl rfl)
theorem dX12_init_8 : decode cX12_init 8 = .ok (.newarray .int, 2) := dk_188_10 (dk_at dksX12_init_0 8 rfl rfl)
theorem dX12_init_10 : decode cX12_init 10 = .ok (.putfield 13, 3) := dk_181 0 13 (dk_at dksX12_init_0 10 rfl rfl)
theorem dX12_init_13 : decode cX12_init 13 = .ok (.aload_n 0, 1) := dk_42 (dk_at dksX12_init_0 13 rfl rfl)
theorem dX12_init_14 : decode cX12_init 14 = .ok (.new 19, 3) := dk_187 0 19 (dk_at dksX12_init_0 14 rfl rfl)
theorem dX12_init_17 : decode cX12_init 17 = .ok (.dup, 1) := dk_89 (dk_at dksX12_init_0 17 rfl rfl)
theorem dX12_init_18 : decode cX12_init 18 = .ok (.bipush 10, 2) := dk_16 10 (dk_at dksX12_init_0 18 rfl rfl)
theorem dX12_init_20 : decode cX12_init 20 = .ok (.newarray .byte, 2) := dk_188_8 (dk_at dksX12_init_0 20 rfl rfl)
theorem dX12_init_22 : decode cX12_init 22 = .ok (.invokespecial 21, 3) := dk_183 0 21 (dk_at dksX12_init_1 0 rfl rfl)
theorem dX12_init_25 : decode cX12_init 25 = .ok (.putfield 24, 3) := dk_181 0 24 (dk_at dksX12_init_1 3 rfl rfl)
theorem dX12_init_28 : decode cX12_init 28 = .ok (.aload_n 0, 1) := dk_42 (dk_at dksX12_init_1 6 rfl rfl)
theorem dX12_init_29 : decode cX12_init 29 = .ok (.iconst 1, 1) := dk_4 (dk_at dksX12_init_1 7 rfl rfl)
theorem dX12_init_30 : decode cX12_init 30 = .ok (.putfield 28, 3) := dk_181 0 28 (dk_at dksX12_init_1 8 rfl rfl)
theorem dX12_init_33 : decode cX12_init 33 = .ok (.new 32, 3) := dk_187 0 32 (dk_at dksX12_init_1 11 rfl rfl)
theorem dX12_init_36 : decode cX12_init 36 = .ok (.dup, 1) := dk_89 (dk_at dksX12_init_1 14 rfl rfl)
theorem dX12_init_37 : decode cX12_init 37 = .ok (.aload_n 1, 1) := dk_43 (dk_at dksX12_init_1 15 rfl rfl)
theorem dX12_init_38 : decode cX12_init 38 = .ok (.invokevirtual 34, 3) := dk_182 0 34 (dk_at dksX12_init_1 16 rfl rfl)
theorem dX12_init_41 : decode cX12_init 41 = .ok (.invokespecial 38, 3) := dk_183 0 38 (dk_at dksX12_init_1 19 rfl rfl)
theorem dX12_init_44 : decode cX12_init 44 = .ok (.astore_n 2, 1) := dk_77 (dk_at dksX12_init_1 22 rfl rfl)
theorem dX12_init_45 : decode cX12_init 45 = .ok (.aload_n 0, 1) := dk_42 (dk_at dksX12_init_1 23 rfl rfl)
theorem dX12_init_46 : decode cX12_init 46 = .ok (.getfield 28, 3) := dk_180 0 28 (dk_at dksX12_init_2 0 rfl rfl)
theorem dX12_init_49 : decode cX12_init 49 = .ok (.ifCond .eq 56, 3) := dk_153 0 56 (dk_at dksX12_init_2 3 rfl rfl)
theorem dX12_init_52 : decode cX12_init 52 = .ok (.aload_n 2, 1) := dk_44 (dk_at dksX12_init_2 6 rfl rfl)
theorem dX12_init_53 : decode cX12_init 53 = .ok (.invokevirtual 41, 3) := dk_182 0 41 (dk_at dksX12_init_2 7 rfl rfl)
theorem dX12_init_56 : decode cX12_init 56 = .ok (.ifCond .le 49, 3) := dk_158 0 49 (dk_at dksX12_init_2 10 rfl rfl)
theorem dX12_init_59 : decode cX12_init 59 = .ok (.iconst 0, 1) := dk_3 (dk_at dksX12_init_2 13 rfl rfl)
theorem dX12_init_60 : decode cX12_init 60 = .ok (.istore_n 3, 1) := dk_62 (dk_at dksX12_init_2 14 rfl rfl)
theorem dX12_init_61 : decode cX12_init 61 = .ok (.aload_n 2, 1) := dk_44 (dk_at dksX12_init_2 15 rfl rfl)
theorem dX12_init_62 : decode cX12_init 62 = .ok (.getfield 45, 3) := dk_180 0 45 (dk_at dksX12_init_2 16 rfl rfl)
theorem dX12_init_65 : decode cX12_init 65 = .ok (.iload_n 3, 1) := dk_29 (dk_at dksX12_init_2 19 rfl rfl)
theorem dX12_init_66 : decode cX12_init 66 = .ok (.iaload, 1) := dk_46 (dk_at dksX12_init_2 20 rfl rfl)
theorem dX12_init_67 : decode cX12_init 67 = .ok (.ifCond .ne 9, 3) := dk_154 0 9 (dk_at dksX12_init_2 21 rfl rfl)
theorem dX12_init_70 : decode cX12_init 70 = .ok (.iinc 3 1, 3) := dk_132 3 1 (dk_at dksX12_init_3 0 rfl rfl)
theorem dX12_init_73 : decode cX12_init 73 = .ok (.goto (-12), 3) := dk_167 255 244 (dk_at dksX12_init_3 3 rfl rfl)
theorem dX12_init_76 : decode cX12_init 76 = .ok (.aload_n 0, 1) := dk_42 (dk_at dksX12_init_3 6 rfl rfl)
theorem dX12_init_77 : decode cX12_init 77 = .ok (.aload_n 2, 1) := dk_44 (dk_at dksX12_init_3 7 rfl rfl)
theorem dX12_init_78 : decode cX12_init 78 = .ok (.new 48, 3) := dk_187 0 48 (dk_at dksX12_init_3 8 rfl rfl)
theorem dX12_init_81 : decode cX12_init 81 = .ok (.dup, 1) := dk_89 (dk_at dksX12_init_3 11 rfl rfl)
theorem dX12_init_82 : decode cX12_init 82 = .ok (.invokespecial 50, 3) := dk_183 0 50 (dk_at dksX12_init_3 12 rfl rfl)
theorem dX12_init_85 : decode cX12_init 85 = .ok (.aload_n 2, 1) := dk_44 (dk_at dksX12_init_3 15 rfl rfl)
theorem dX12_init_86 : decode cX12_init 86 = .ok (.iload_n 3, 1) := dk_29 (dk_at dksX12_init_3 16 rfl rfl)
theorem dX12_init_87 : decode cX12_init 87 = .ok (.aload_n 2, 1) := dk_44 (dk_at dksX12_init_3 17 rfl rfl)
theorem dX12_init_88 : decode cX12_init 88 = .ok (.getfield 45, 3) := dk_180 0 45 (dk_at dksX12_init_3 18 rfl rfl)
theorem dX12_init_91 : decode cX12_init 91 = .ok (.iload_n 3, 1) := dk_29 (dk_at dksX12_init_3 21 rfl rfl)
theorem dX12_init_92 : decode cX12_init 92 = .ok (.iaload, 1) := dk_46 (dk_at dksX12_init_3 22 rfl rfl)
theorem dX12_init_93 : decode cX12_init 93 = .ok (.invokestatic 51, 3) := dk_184 0 51 (dk_at dksX12_init_4 0 rfl rfl)
theorem dX12_init_96 : decode cX12_init 96 = .ok (.invokevirtual 55, 3) := dk_182 0 55 (dk_at dksX12_init_4 3 rfl rfl)
theorem dX12_init_99 : decode cX12_init 99 = .ok (.invokevirtual 59, 3) := dk_182 0 59 (dk_at dksX12_init_4 6 rfl rfl)
theorem dX12_init_102 : decode cX12_init 102 = .ok (.goto (-57), 3) := dk_167 255 199 (dk_at dksX12_init_4 9 rfl rfl)
theorem dX12_init_105 : decode cX12_init 105 = .ok (.aload_n 0, 1) := dk_42 (dk_at dksX12_init_4 12 rfl rfl)
theorem dX12_init_106 : decode cX12_init 106 = .ok (.getfield 28, 3) := dk_180 0 28 (dk_at dksX12_init_4 13 rfl rfl)
theorem dX12_init_109 : decode cX12_init 109 = .ok (.ifCond .eq 11, 3) := dk_153 0 11 (dk_at dksX12_init_4 16 rfl rfl)
theorem dX12_init_112 : decode cX12_init 112 = .ok (.aload_n 0, 1) := dk_42 (dk_at dksX12_init_4 19 rfl rfl)
theorem dX12_init_113 : decode cX12_init 113 = .ok (.aload_n 1, 1) := dk_43 (dk_at dksX12_init_4 20 rfl rfl)
theorem dX12_init_114 : decode cX12_init 114 = .ok (.getfield 63, 3) := dk_180 0 63 (dk_at dksX12_init_4 21 rfl rfl)
theorem dX12_init_117 : decode cX12_init 117 = .ok (.invokevirtual 66, 3) := dk_182 0 66 (dk_at dksX12_init_5 0 rfl rfl)
theorem dX12_init_120 : decode cX12_init 120 = .ok (.return_, 1) := dk_177 (dk_at dksX12_init_5 3 rfl rfl)
abbrev cX12_direct : ByteArray := prog_13_method_2_code
def yX12_direct : MethodName := ⟨RX12, "direct", "(LGraphModules$Graph;LGraphModules$Gathering;)V"⟩
def dkwX12_direct_3 : List UInt8 := [182, 0, 83, 132, 3, 1, 167, 255, 207, 177]
abbrev dktX12_direct_3 : List UInt8 := dkwX12_direct_3 ++ []
def dkwX12_direct_2 : List UInt8 := [180, 0, 74, 79, 43, 44, 180, 0, 80, 29, 46, 16, 10, 108, 44, 180, 0, 80, 29, 46, 16, 10, 112, 3]
abbrev dktX12_direct_2 : List UInt8 := dkwX12_direct_2 ++ dktX12_direct_3
def dkwX12_direct_1 : List UInt8 := [181, 0, 74, 3, 62, 29, 44, 180, 0, 77, 162, 0, 47, 42, 180, 0, 13, 44, 180, 0, 80, 29, 46, 42]
abbrev dktX12_direct_1 : List UInt8 := dkwX12_direct_1 ++ dktX12_direct_2
def dkwX12_direct_0 : List UInt8 := [42, 44, 182, 0, 70, 154, 0, 7, 4, 167, 0, 4, 3, 181, 0, 28, 42, 89, 180, 0, 74, 4, 96]
abbrev dktX12_direct_0 : List UInt8 := dkwX12_direct_0 ++ dktX12_direct_1
theorem dksX12_direct_0 : cX12_direct.data.toList.drop 0 = dktX12_direct_0 := by decide +kernel
theorem dksX12_direct_1 : cX12_direct.data.toList.drop 23 = dktX12_direct_1 := dk_seg dksX12_direct_0 23 rfl rfl
theorem dksX12_direct_2 : cX12_direct.data.toList.drop 47 = dktX12_direct_2 := dk_seg dksX12_direct_1 24 rfl rfl
theorem dksX12_direct_3 : cX12_direct.data.toList.drop 71 = dktX12_direct_3 := dk_seg dksX12_direct_2 24 rfl rfl
theorem dX12_direct_0 : decode cX12_direct 0 = .ok (.aload_n 0, 1) := dk_42 (dk_at dksX12_direct_0 0 rfl rfl)
theorem dX12_direct_1 : decode cX12_direct 1 = .ok (.aload_n 2, 1) := dk_44 (dk_at dksX12_direct_0 1 rfl rfl)
theorem dX12_direct_2 : decode cX12_direct 2 = .ok (.invokevirtual 70, 3) := dk_182 0 70 (dk_at dksX12_direct_0 2 rfl rfl)
theorem dX12_direct_5 : decode cX12_direct 5 = .ok (.ifCond .ne 7, 3) := dk_154 0 7 (dk_at dksX12_direct_0 5 rfl rfl)
theorem dX12_direct_8 : decode cX12_direct 8 = .ok (.iconst 1, 1) := dk_4 (dk_at dksX12_direct_0 8 rfl rfl)
theorem dX12_direct_9 : decode cX12_direct 9 = .ok (.goto 4, 3) := dk_167 0 4 (dk_at dksX12_direct_0 9 rfl rfl)
theorem dX12_direct_12 : decode cX12_direct 12 = .ok (.iconst 0, 1) := dk_3 (dk_at dksX12_direct_0 12 rfl rfl)
theorem dX12_direct_13 : decode cX12_direct 13 = .ok (.putfield 28, 3) := dk_181 0 28 (dk_at dksX12_direct_0 13 rfl rfl)
theorem dX12_direct_16 : decode cX12_direct 16 = .ok (.aload_n 0, 1) := dk_42 (dk_at dksX12_direct_0 16 rfl rfl)
theorem dX12_direct_17 : decode cX12_direct 17 = .ok (.dup, 1) := dk_89 (dk_at dksX12_direct_0 17 rfl rfl)
theorem dX12_direct_18 : decode cX12_direct 18 = .ok (.getfield 74, 3) := dk_180 0 74 (dk_at dksX12_direct_0 18 rfl rfl)
theorem dX12_direct_21 : decode cX12_direct 21 = .ok (.iconst 1, 1) := dk_4 (dk_at dksX12_direct_0 21 rfl rfl)
theorem dX12_direct_22 : decode cX12_direct 22 = .ok (.iadd, 1) := dk_96 (dk_at dksX12_direct_0 22 rfl rfl)
theorem dX12_direct_23 : decode cX12_direct 23 = .ok (.putfield 74, 3) := dk_181 0 74 (dk_at dksX12_direct_1 0 rfl rfl)
theorem dX12_direct_26 : decode cX12_direct 26 = .ok (.iconst 0, 1) := dk_3 (dk_at dksX12_direct_1 3 rfl rfl)
theorem dX12_direct_27 : decode cX12_direct 27 = .ok (.istore_n 3, 1) := dk_62 (dk_at dksX12_direct_1 4 rfl rfl)
theorem dX12_direct_28 : decode cX12_direct 28 = .ok (.iload_n 3, 1) := dk_29 (dk_at dksX12_direct_1 5 rfl rfl)
theorem dX12_direct_29 : decode cX12_direct 29 = .ok (.aload_n 2, 1) := dk_44 (dk_at dksX12_direct_1 6 rfl rfl)
theorem dX12_direct_30 : decode cX12_direct 30 = .ok (.getfield 77, 3) := dk_180 0 77 (dk_at dksX12_direct_1 7 rfl rfl)
theorem dX12_direct_33 : decode cX12_direct 33 = .ok (.if_icmp .ge 47, 3) := dk_162 0 47 (dk_at dksX12_direct_1 10 rfl rfl)
theorem dX12_direct_36 : decode cX12_direct 36 = .ok (.aload_n 0, 1) := dk_42 (dk_at dksX12_direct_1 13 rfl rfl)
theorem dX12_direct_37 : decode cX12_direct 37 = .ok (.getfield 13, 3) := dk_180 0 13 (dk_at dksX12_direct_1 14 rfl rfl)
theorem dX12_direct_40 : decode cX12_direct 40 = .ok (.aload_n 2, 1) := dk_44 (dk_at dksX12_direct_1 17 rfl rfl)
theorem dX12_direct_41 : decode cX12_direct 41 = .ok (.getfield 80, 3) := dk_180 0 80 (dk_at dksX12_direct_1 18 rfl rfl)
theorem dX12_direct_44 : decode cX12_direct 44 = .ok (.iload_n 3, 1) := dk_29 (dk_at dksX12_direct_1 21 rfl rfl)
theorem dX12_direct_45 : decode cX12_direct 45 = .ok (.iaload, 1) := dk_46 (dk_at dksX12_direct_1 22 rfl rfl)
theorem dX12_direct_46 : decode cX12_direct 46 = .ok (.aload_n 0, 1) := dk_42 (dk_at dksX12_direct_1 23 rfl rfl)
theorem dX12_direct_47 : decode cX12_direct 47 = .ok (.getfield 74, 3) := dk_180 0 74 (dk_at dksX12_direct_2 0 rfl rfl)
theorem dX12_direct_50 : decode cX12_direct 50 = .ok (.iastore, 1) := dk_79 (dk_at dksX12_direct_2 3 rfl rfl)
theorem dX12_direct_51 : decode cX12_direct 51 = .ok (.aload_n 1, 1) := dk_43 (dk_at dksX12_direct_2 4 rfl rfl)
theorem dX12_direct_52 : decode cX12_direct 52 = .ok (.aload_n 2, 1) := dk_44 (dk_at dksX12_direct_2 5 rfl rfl)
theorem dX12_direct_53 : decode cX12_direct 53 = .ok (.getfield 80, 3) := dk_180 0 80 (dk_at dksX12_direct_2 6 rfl rfl)
theorem dX12_direct_56 : decode cX12_direct 56 = .ok (.iload_n 3, 1) := dk_29 (dk_at dksX12_direct_2 9 rfl rfl)
theorem dX12_direct_57 : decode cX12_direct 57 = .ok (.iaload, 1) := dk_46 (dk_at dksX12_direct_2 10 rfl rfl)
theorem dX12_direct_58 : decode cX12_direct 58 = .ok (.bipush 10, 2) := dk_16 10 (dk_at dksX12_direct_2 11 rfl rfl)
theorem dX12_direct_60 : decode cX12_direct 60 = .ok (.idiv, 1) := dk_108 (dk_at dksX12_direct_2 13 rfl rfl)
theorem dX12_direct_61 : decode cX12_direct 61 = .ok (.aload_n 2, 1) := dk_44 (dk_at dksX12_direct_2 14 rfl rfl)
theorem dX12_direct_62 : decode cX12_direct 62 = .ok (.getfield 80, 3) := dk_180 0 80 (dk_at dksX12_direct_2 15 rfl rfl)
theorem dX12_direct_65 : decode cX12_direct 65 = .ok (.iload_n 3, 1) := dk_29 (dk_at dksX12_direct_2 18 rfl rfl)
theorem dX12_direct_66 : decode cX12_direct 66 = .ok (.iaload, 1) := dk_46 (dk_at dksX12_direct_2 19 rfl rfl)
theorem dX12_direct_67 : decode cX12_direct 67 = .ok (.bipush 10, 2) := dk_16 10 (dk_at dksX12_direct_2 20 rfl rfl)
theorem dX12_direct_69 : decode cX12_direct 69 = .ok (.irem, 1) := dk_112 (dk_at dksX12_direct_2 22 rfl rfl)
theorem dX12_direct_70 : decode cX12_direct 70 = .ok (.iconst 0, 1) := dk_3 (dk_at dksX12_direct_2 23 rfl rfl)
theorem dX12_direct_71 : decode cX12_direct 71 = .ok (.invokevirtual 83, 3) := dk_182 0 83 (dk_at dksX12_direct_3 0 rfl rfl)
theorem dX12_direct_74 : decode cX12_direct 74 = .ok (.iinc 3 1, 3) := dk_132 3 1 (dk_at dksX12_direct_3 3 rfl rfl)
theorem dX12_direct_77 : decode cX12_direct 77 = .ok (.goto (-49), 3) := dk_167 255 207 (dk_at dksX12_direct_3 6 rfl rfl)
theorem dX12_direct_80 : decode cX12_direct 80 = .ok (.return_, 1) := dk_177 (dk_at dksX12_direct_3 9 rfl rfl)
abbrev cX12_line : ByteArray := prog_13_method_5_code
def yX12_line : MethodName := ⟨RX12, "line", "(I)V"⟩
def dkwX12_line_1 : List UInt8 := [42, 180, 0, 24, 29, 133, 182, 0, 98, 87, 132, 2, 1, 167, 255, 221, 177]
abbrev dktX12_line_1 : List UInt8 := dkwX12_line_1 ++ []
def dkwX12_line_0 : List UInt8 := [3, 61, 28, 27, 162, 0, 36, 3, 62, 42, 29, 27, 182, 0, 95, 154, 0, 9, 132, 3, 1, 167, 255, 244]
abbrev dktX12_line_0 : List UInt8 := dkwX12_line_0 ++ dktX12_line_1
theorem dksX12_line_0 : cX12_line.data.toList.drop 0 = dktX12_line_0 := by decide +kernel
theorem dksX12_line_1 : cX12_line.data.toList.drop 24 = dktX12_line_1 := dk_seg dksX12_line_0 24 rfl rfl
theorem dX12_line_0 : decode cX12_line 0 = .ok (.iconst 0, 1) := dk_3 (dk_at dksX12_line_0 0 rfl rfl)
theorem dX12_line_1 : decode cX12_line 1 = .ok (.istore_n 2, 1) := dk_61 (dk_at dksX12_line_0 1 rfl rfl)
theorem dX12_line_2 : decode cX12_line 2 = .ok (.iload_n 2, 1) := dk_28 (dk_at dksX12_line_0 2 rfl rfl)
theorem dX12_line_3 : decode cX12_line 3 = .ok (.iload_n 1, 1) := dk_27 (dk_at dksX12_line_0 3 rfl rfl)
theorem dX12_line_4 : decode cX12_line 4 = .ok (.if_icmp .ge 36, 3) := dk_162 0 36 (dk_at dksX12_line_0 4 rfl rfl)
theorem dX12_line_7 : decode cX12_line 7 = .ok (.iconst 0, 1) := dk_3 (dk_at dksX12_line_0 7 rfl rfl)
theorem dX12_line_8 : decode cX12_line 8 = .ok (.istore_n 3, 1) := dk_62 (dk_at dksX12_line_0 8 rfl rfl)
theorem dX12_line_9 : decode cX12_line 9 = .ok (.aload_n 0, 1) := dk_42 (dk_at dksX12_line_0 9 rfl rfl)
theorem dX12_line_10 : decode cX12_line 10 = .ok (.iload_n 3, 1) := dk_29 (dk_at dksX12_line_0 10 rfl rfl)
theorem dX12_line_11 : decode cX12_line 11 = .ok (.iload_n 1, 1) := dk_27 (dk_at dksX12_line_0 11 rfl rfl)
theorem dX12_line_12 : decode cX12_line 12 = .ok (.invokevirtual 95, 3) := dk_182 0 95 (dk_at dksX12_line_0 12 rfl rfl)
theorem dX12_line_15 : decode cX12_line 15 = .ok (.ifCond .ne 9, 3) := dk_154 0 9 (dk_at dksX12_line_0 15 rfl rfl)
theorem dX12_line_18 : decode cX12_line 18 = .ok (.iinc 3 1, 3) := dk_132 3 1 (dk_at dksX12_line_0 18 rfl rfl)
theorem dX12_line_21 : decode cX12_line 21 = .ok (.goto (-12), 3) := dk_167 255 244 (dk_at dksX12_line_0 21 rfl rfl)
theorem dX12_line_24 : decode cX12_line 24 = .ok (.aload_n 0, 1) := dk_42 (dk_at dksX12_line_1 0 rfl rfl)
theorem dX12_line_25 : decode cX12_line 25 = .ok (.getfield 24, 3) := dk_180 0 24 (dk_at dksX12_line_1 1 rfl rfl)
theorem dX12_line_28 : decode cX12_line 28 = .ok (.iload_n 3, 1) := dk_29 (dk_at dksX12_line_1 4 rfl rfl)
theorem dX12_line_29 : decode cX12_line 29 = .ok (.i2l, 1) := dk_133 (dk_at dksX12_line_1 5 rfl rfl)
theorem dX12_line_30 : decode cX12_line 30 = .ok (.invokevirtual 98, 3) := dk_182 0 98 (dk_at dksX12_line_1 6 rfl rfl)
theorem dX12_line_33 : decode cX12_line 33 = .ok (.pop, 1) := dk_87 (dk_at dksX12_line_1 9 rfl rfl)
theorem dX12_line_34 : decode cX12_line 34 = .ok (.iinc 2 1, 3) := dk_132 2 1 (dk_at dksX12_line_1 10 rfl rfl)
theorem dX12_line_37 : decode cX12_line 37 = .ok (.goto (-35), 3) := dk_167 255 221 (dk_at dksX12_line_1 13 rfl rfl)
theorem dX12_line_40 : decode cX12_line 40 = .ok (.return_, 1) := dk_177 (dk_at dksX12_line_1 16 rfl rfl)
abbrev cX12_isFree : ByteArray := prog_13_method_4_code
def yX12_isFree : MethodName := ⟨RX12, "isFree", "(II)Z"⟩
def dkwX12_isFree_2 : List UInt8 := [182, 0, 87, 2, 159, 0, 7, 4, 167, 0, 4, 3, 126, 62, 132, 4, 1, 167, 255, 215, 29, 172]
abbrev dktX12_isFree_2 : List UInt8 := dkwX12_isFree_2 ++ []
def dkwX12_isFree_1 : List UInt8 := [28, 162, 0, 41, 29, 42, 21, 4, 27, 182, 0, 91, 153, 0, 17, 42, 180, 0, 24, 21, 4, 133]
abbrev dktX12_isFree_1 : List UInt8 := dkwX12_isFree_1 ++ dktX12_isFree_2
def dkwX12_isFree_0 : List UInt8 := [42, 180, 0, 24, 27, 133, 182, 0, 87, 2, 160, 0, 7, 4, 167, 0, 4, 3, 62, 3, 54, 4, 21, 4]
abbrev dktX12_isFree_0 : List UInt8 := dkwX12_isFree_0 ++ dktX12_isFree_1
theorem dksX12_isFree_0 : cX12_isFree.data.toList.drop 0 = dktX12_isFree_0 := by decide +kernel
theorem dksX12_isFree_1 : cX12_isFree.data.toList.drop 24 = dktX12_isFree_1 := dk_seg dksX12_isFree_0 24 rfl rfl
theorem dksX12_isFree_2 : cX12_isFree.data.toList.drop 46 = dktX12_isFree_2 := dk_seg dksX12_isFree_1 22 rfl rfl
theorem dX12_isFree_0 : decode cX12_isFree 0 = .ok (.aload_n 0, 1) := dk_42 (dk_at dksX12_isFree_0 0 rfl rfl)
theorem dX12_isFree_1 : decode cX12_isFree 1 = .ok (.getfield 24, 3) := dk_180 0 24 (dk_at dksX12_isFree_0 1 rfl rfl)
theorem dX12_isFree_4 : decode cX12_isFree 4 = .ok (.iload_n 1, 1) := dk_27 (dk_at dksX12_isFree_0 4 rfl rfl)
theorem dX12_isFree_5 : decode cX12_isFree 5 = .ok (.i2l, 1) := dk_133 (dk_at dksX12_isFree_0 5 rfl rfl)
theorem dX12_isFree_6 : decode cX12_isFree 6 = .ok (.invokevirtual 87, 3) := dk_182 0 87 (dk_at dksX12_isFree_0 6 rfl rfl)
theorem dX12_isFree_9 : decode cX12_isFree 9 = .ok (.iconst (-1), 1) := dk_2 (dk_at dksX12_isFree_0 9 rfl rfl)
theorem dX12_isFree_10 : decode cX12_isFree 10 = .ok (.if_icmp .ne 7, 3) := dk_160 0 7 (dk_at dksX12_isFree_0 10 rfl rfl)
theorem dX12_isFree_13 : decode cX12_isFree 13 = .ok (.iconst 1, 1) := dk_4 (dk_at dksX12_isFree_0 13 rfl rfl)
theorem dX12_isFree_14 : decode cX12_isFree 14 = .ok (.goto 4, 3) := dk_167 0 4 (dk_at dksX12_isFree_0 14 rfl rfl)
theorem dX12_isFree_17 : decode cX12_isFree 17 = .ok (.iconst 0, 1) := dk_3 (dk_at dksX12_isFree_0 17 rfl rfl)
theorem dX12_isFree_18 : decode cX12_isFree 18 = .ok (.istore_n 3, 1) := dk_62 (dk_at dksX12_isFree_0 18 rfl rfl)
theorem dX12_isFree_19 : decode cX12_isFree 19 = .ok (.iconst 0, 1) := dk_3 (dk_at dksX12_isFree_0 19 rfl rfl)
theorem dX12_isFree_20 : decode cX12_isFree 20 = .ok (.istore 4, 2) := dk_54 4 (dk_at dksX12_isFree_0 20 rfl rfl)
theorem dX12_isFree_22 : decode cX12_isFree 22 = .ok (.iload 4, 2) := dk_21 4 (dk_at dksX12_isFree_0 22 rfl rfl)
theorem dX12_isFree_24 : decode cX12_isFree 24 = .ok (.iload_n 2, 1) := dk_28 (dk_at dksX12_isFree_1 0 rfl rfl)
theorem dX12_isFree_25 : decode cX12_isFree 25 = .ok (.if_icmp .ge 41, 3) := dk_162 0 41 (dk_at dksX12_isFree_1 1 rfl rfl)
theorem dX12_isFree_28 : decode cX12_isFree 28 = .ok (.iload_n 3, 1) := dk_29 (dk_at dksX12_isFree_1 4 rfl rfl)
theorem dX12_isFree_29 : decode cX12_isFree 29 = .ok (.aload_n 0, 1) := dk_42 (dk_at dksX12_isFree_1 5 rfl rfl)
theorem dX12_isFree_30 : decode cX12_isFree 30 = .ok (.iload 4, 2) := dk_21 4 (dk_at dksX12_isFree_1 6 rfl rfl)
theorem dX12_isFree_32 : decode cX12_isFree 32 = .ok (.iload_n 1, 1) := dk_27 (dk_at dksX12_isFree_1 8 rfl rfl)
theorem dX12_isFree_33 : decode cX12_isFree 33 = .ok (.invokevirtual 91, 3) := dk_182 0 91 (dk_at dksX12_isFree_1 9 rfl rfl)
theorem dX12_isFree_36 : decode cX12_isFree 36 = .ok (.ifCond .eq 17, 3) := dk_153 0 17 (dk_at dksX12_isFree_1 12 rfl rfl)
theorem dX12_isFree_39 : decode cX12_isFree 39 = .ok (.aload_n 0, 1) := dk_42 (dk_at dksX12_isFree_1 15 rfl rfl)
theorem dX12_isFree_40 : decode cX12_isFree 40 = .ok (.getfield 24, 3) := dk_180 0 24 (dk_at dksX12_isFree_1 16 rfl rfl)
theorem dX12_isFree_43 : decode cX12_isFree 43 = .ok (.iload 4, 2) := dk_21 4 (dk_at dksX12_isFree_1 19 rfl rfl)
theorem dX12_isFree_45 : decode cX12_isFree 45 = .ok (.i2l, 1) := dk_133 (dk_at dksX12_isFree_1 21 rfl rfl)
theorem dX12_isFree_46 : decode cX12_isFree 46 = .ok (.invokevirtual 87, 3) := dk_182 0 87 (dk_at dksX12_isFree_2 0 rfl rfl)
theorem dX12_isFree_49 : decode cX12_isFree 49 = .ok (.iconst (-1), 1) := dk_2 (dk_at dksX12_isFree_2 3 rfl rfl)
theorem dX12_isFree_50 : decode cX12_isFree 50 = .ok (.if_icmp .eq 7, 3) := dk_159 0 7 (dk_at dksX12_isFree_2 4 rfl rfl)
theorem dX12_isFree_53 : decode cX12_isFree 53 = .ok (.iconst 1, 1) := dk_4 (dk_at dksX12_isFree_2 7 rfl rfl)
theorem dX12_isFree_54 : decode cX12_isFree 54 = .ok (.goto 4, 3) := dk_167 0 4 (dk_at dksX12_isFree_2 8 rfl rfl)
theorem dX12_isFree_57 : decode cX12_isFree 57 = .ok (.iconst 0, 1) := dk_3 (dk_at dksX12_isFree_2 11 rfl rfl)
theorem dX12_isFree_58 : decode cX12_isFree 58 = .ok (.iand, 1) := dk_126 (dk_at dksX12_isFree_2 12 rfl rfl)
theorem dX12_isFree_59 : decode cX12_isFree 59 = .ok (.istore_n 3, 1) := dk_62 (dk_at dksX12_isFree_2 13 rfl rfl)
theorem dX12_isFree_60 : decode cX12_isFree 60 = .ok (.iinc 4 1, 3) := dk_132 4 1 (dk_at dksX12_isFree_2 14 rfl rfl)
theorem dX12_isFree_63 : decode cX12_isFree 63 = .ok (.goto (-41), 3) := dk_167 255 215 (dk_at dksX12_isFree_2 17 rfl rfl)
theorem dX12_isFree_66 : decode cX12_isFree 66 = .ok (.iload_n 3, 1) := dk_29 (dk_at dksX12_isFree_2 20 rfl rfl)
theorem dX12_isFree_67 : decode cX12_isFree 67 = .ok (.ireturn, 1) := dk_172 (dk_at dksX12_isFree_2 21 rfl rfl)
abbrev cX12_isDirected : ByteArray := prog_13_method_3_code
def yX12_isDirected : MethodName := ⟨RX12, "isDirected", "(II)Z"⟩
def dkwX12_isDirected_0 : List UInt8 := [42, 180, 0, 13, 16, 10, 27, 104, 28, 96, 46, 158, 0, 7, 4, 167, 0, 4, 3, 172]
abbrev dktX12_isDirected_0 : List UInt8 := dkwX12_isDirected_0 ++ []
theorem dksX12_isDirected_0 : cX12_isDirected.data.toList.drop 0 = dktX12_isDirected_0 := by decide +kernel
theorem dX12_isDirected_0 : decode cX12_isDirected 0 = .ok (.aload_n 0, 1) := dk_42 (dk_at dksX12_isDirected_0 0 rfl rfl)
theorem dX12_isDirected_1 : decode cX12_isDirected 1 = .ok (.getfield 13, 3) := dk_180 0 13 (dk_at dksX12_isDirected_0 1 rfl rfl)
theorem dX12_isDirected_4 : decode cX12_isDirected 4 = .ok (.bipush 10, 2) := dk_16 10 (dk_at dksX12_isDirected_0 4 rfl rfl)
theorem dX12_isDirected_6 : decode cX12_isDirected 6 = .ok (.iload_n 1, 1) := dk_27 (dk_at dksX12_isDirected_0 6 rfl rfl)
theorem dX12_isDirected_7 : decode cX12_isDirected 7 = .ok (.imul, 1) := dk_104 (dk_at dksX12_isDirected_0 7 rfl rfl)
theorem dX12_isDirected_8 : decode cX12_isDirected 8 = .ok (.iload_n 2, 1) := dk_28 (dk_at dksX12_isDirected_0 8 rfl rfl)
theorem dX12_isDirected_9 : decode cX12_isDirected 9 = .ok (.iadd, 1) := dk_96 (dk_at dksX12_isDirected_0 9 rfl rfl)
theorem dX12_isDirected_10 : decode cX12_isDirected 10 = .ok (.iaload, 1) := dk_46 (dk_at dksX12_isDirected_0 10 rfl rfl)
theorem dX12_isDirected_11 : decode cX12_isDirected 11 = .ok (.ifCond .le 7, 3) := dk_158 0 7 (dk_at dksX12_isDirected_0 11 rfl rfl)
theorem dX12_isDirected_14 : decode cX12_isDirected 14 = .ok (.iconst 1, 1) := dk_4 (dk_at dksX12_isDirected_0 14 rfl rfl)
theorem dX12_isDirected_15 : decode cX12_isDirected 15 = .ok (.goto 4, 3) := dk_167 0 4 (dk_at dksX12_isDirected_0 15 rfl rfl)
theorem dX12_isDirected_18 : decode cX12_isDirected 18 = .ok (.iconst 0, 1) := dk_3 (dk_at dksX12_isDirected_0 18 rfl rfl)
theorem dX12_isDirected_19 : decode cX12_isDirected 19 = .ok (.ireturn, 1) := dk_172 (dk_at dksX12_isDirected_0 19 rfl rfl)
abbrev cX12_longest : ByteArray := prog_13_method_6_code
def yX12_longest : MethodName := ⟨RX12, "longest", "()I"⟩
def dkwX12_longest_4 : List UInt8 := [132, 5, 1, 167, 255, 200, 28, 43, 21, 4, 46, 184, 0, 107, 61, 132, 3, 1, 167, 255, 155, 28, 172]
abbrev dktX12_longest_4 : List UInt8 := dkwX12_longest_4 ++ []
def dkwX12_longest_3 : List UInt8 := [153, 0, 19, 43, 21, 4, 46, 43, 21, 6, 46, 4, 96, 184, 0, 107, 167, 0, 7, 43, 21, 4, 46, 79]
abbrev dktX12_longest_3 : List UInt8 := dkwX12_longest_3 ++ dktX12_longest_4
def dkwX12_longest_2 : List UInt8 := [180, 0, 24, 21, 5, 182, 0, 103, 136, 54, 6, 43, 21, 4, 42, 21, 6, 21, 4, 182, 0, 91]
abbrev dktX12_longest_2 : List UInt8 := dkwX12_longest_2 ++ dktX12_longest_3
def dkwX12_longest_1 : List UInt8 := [29, 182, 0, 103, 136, 54, 4, 43, 21, 4, 4, 79, 3, 54, 5, 21, 5, 29, 162, 0, 56, 42]
abbrev dktX12_longest_1 : List UInt8 := dkwX12_longest_1 ++ dktX12_longest_2
def dkwX12_longest_0 : List UInt8 := [16, 10, 188, 10, 76, 3, 61, 3, 62, 29, 42, 180, 0, 24, 180, 0, 102, 162, 0, 96, 42, 180, 0, 24]
abbrev dktX12_longest_0 : List UInt8 := dkwX12_longest_0 ++ dktX12_longest_1
theorem dksX12_longest_0 : cX12_longest.data.toList.drop 0 = dktX12_longest_0 := by decide +kernel
theorem dksX12_longest_1 : cX12_longest.data.toList.drop 24 = dktX12_longest_1 := dk_seg dksX12_longest_0 24 rfl rfl
theorem dksX12_longest_2 : cX12_longest.data.toList.drop 46 = dktX12_longest_2 := dk_seg dksX12_longest_1 22 rfl rfl
theorem dksX12_longest_3 : cX12_longest.data.toList.drop 68 = dktX12_longest_3 := dk_seg dksX12_longest_2 22 rfl rfl
theorem dksX12_longest_4 : cX12_longest.data.toList.drop 92 = dktX12_longest_4 := dk_seg dksX12_longest_3 24 rfl rfl
theorem dX12_longest_0 : decode cX12_longest 0 = .ok (.bipush 10, 2) := dk_16 10 (dk_at dksX12_longest_0 0 rfl rfl)
theorem dX12_longest_2 : decode cX12_longest 2 = .ok (.newarray .int, 2) := dk_188_10 (dk_at dksX12_longest_0 2 rfl rfl)
theorem dX12_longest_4 : decode cX12_longest 4 = .ok (.astore_n 1, 1) := dk_76 (dk_at dksX12_longest_0 4 rfl rfl)
theorem dX12_longest_5 : decode cX12_longest 5 = .ok (.iconst 0, 1) := dk_3 (dk_at dksX12_longest_0 5 rfl rfl)
theorem dX12_longest_6 : decode cX12_longest 6 = .ok (.istore_n 2, 1) := dk_61 (dk_at dksX12_longest_0 6 rfl rfl)
theorem dX12_longest_7 : decode cX12_longest 7 = .ok (.iconst 0, 1) := dk_3 (dk_at dksX12_longest_0 7 rfl rfl)
theorem dX12_longest_8 : decode cX12_longest 8 = .ok (.istore_n 3, 1) := dk_62 (dk_at dksX12_longest_0 8 rfl rfl)
theorem dX12_longest_9 : decode cX12_longest 9 = .ok (.iload_n 3, 1) := dk_29 (dk_at dksX12_longest_0 9 rfl rfl)
theorem dX12_longest_10 : decode cX12_longest 10 = .ok (.aload_n 0, 1) := dk_42 (dk_at dksX12_longest_0 10 rfl rfl)
theorem dX12_longest_11 : decode cX12_longest 11 = .ok (.getfield 24, 3) := dk_180 0 24 (dk_at dksX12_longest_0 11 rfl rfl)
theorem dX12_longest_14 : decode cX12_longest 14 = .ok (.getfield 102, 3) := dk_180 0 102 (dk_at dksX12_longest_0 14 rfl rfl)
theorem dX12_longest_17 : decode cX12_longest 17 = .ok (.if_icmp .ge 96, 3) := dk_162 0 96 (dk_at dksX12_longest_0 17 rfl rfl)
theorem dX12_longest_20 : decode cX12_longest 20 = .ok (.aload_n 0, 1) := dk_42 (dk_at dksX12_longest_0 20 rfl rfl)
theorem dX12_longest_21 : decode cX12_longest 21 = .ok (.getfield 24, 3) := dk_180 0 24 (dk_at dksX12_longest_0 21 rfl rfl)
theorem dX12_longest_24 : decode cX12_longest 24 = .ok (.iload_n 3, 1) := dk_29 (dk_at dksX12_longest_1 0 rfl rfl)
theorem dX12_longest_25 : decode cX12_longest 25 = .ok (.invokevirtual 103, 3) := dk_182 0 103 (dk_at dksX12_longest_1 1 rfl rfl)
theorem dX12_longest_28 : decode cX12_longest 28 = .ok (.l2i, 1) := dk_136 (dk_at dksX12_longest_1 4 rfl rfl)
theorem dX12_longest_29 : decode cX12_longest 29 = .ok (.istore 4, 2) := dk_54 4 (dk_at dksX12_longest_1 5 rfl rfl)
theorem dX12_longest_31 : decode cX12_longest 31 = .ok (.aload_n 1, 1) := dk_43 (dk_at dksX12_longest_1 7 rfl rfl)
theorem dX12_longest_32 : decode cX12_longest 32 = .ok (.iload 4, 2) := dk_21 4 (dk_at dksX12_longest_1 8 rfl rfl)
theorem dX12_longest_34 : decode cX12_longest 34 = .ok (.iconst 1, 1) := dk_4 (dk_at dksX12_longest_1 10 rfl rfl)
theorem dX12_longest_35 : decode cX12_longest 35 = .ok (.iastore, 1) := dk_79 (dk_at dksX12_longest_1 11 rfl rfl)
theorem dX12_longest_36 : decode cX12_longest 36 = .ok (.iconst 0, 1) := dk_3 (dk_at dksX12_longest_1 12 rfl rfl)
theorem dX12_longest_37 : decode cX12_longest 37 = .ok (.istore 5, 2) := dk_54 5 (dk_at dksX12_longest_1 13 rfl rfl)
theorem dX12_longest_39 : decode cX12_longest 39 = .ok (.iload 5, 2) := dk_21 5 (dk_at dksX12_longest_1 15 rfl rfl)
theorem dX12_longest_41 : decode cX12_longest 41 = .ok (.iload_n 3, 1) := dk_29 (dk_at dksX12_longest_1 17 rfl rfl)
theorem dX12_longest_42 : decode cX12_longest 42 = .ok (.if_icmp .ge 56, 3) := dk_162 0 56 (dk_at dksX12_longest_1 18 rfl rfl)
theorem dX12_longest_45 : decode cX12_longest 45 = .ok (.aload_n 0, 1) := dk_42 (dk_at dksX12_longest_1 21 rfl rfl)
theorem dX12_longest_46 : decode cX12_longest 46 = .ok (.getfield 24, 3) := dk_180 0 24 (dk_at dksX12_longest_2 0 rfl rfl)
theorem dX12_longest_49 : decode cX12_longest 49 = .ok (.iload 5, 2) := dk_21 5 (dk_at dksX12_longest_2 3 rfl rfl)
theorem dX12_longest_51 : decode cX12_longest 51 = .ok (.invokevirtual 103, 3) := dk_182 0 103 (dk_at dksX12_longest_2 5 rfl rfl)
theorem dX12_longest_54 : decode cX12_longest 54 = .ok (.l2i, 1) := dk_136 (dk_at dksX12_longest_2 8 rfl rfl)
theorem dX12_longest_55 : decode cX12_longest 55 = .ok (.istore 6, 2) := dk_54 6 (dk_at dksX12_longest_2 9 rfl rfl)
theorem dX12_longest_57 : decode cX12_longest 57 = .ok (.aload_n 1, 1) := dk_43 (dk_at dksX12_longest_2 11 rfl rfl)
theorem dX12_longest_58 : decode cX12_longest 58 = .ok (.iload 4, 2) := dk_21 4 (dk_at dksX12_longest_2 12 rfl rfl)
theorem dX12_longest_60 : decode cX12_longest 60 = .ok (.aload_n 0, 1) := dk_42 (dk_at dksX12_longest_2 14 rfl rfl)
theorem dX12_longest_61 : decode cX12_longest 61 = .ok (.iload 6, 2) := dk_21 6 (dk_at dksX12_longest_2 15 rfl rfl)
theorem dX12_longest_63 : decode cX12_longest 63 = .ok (.iload 4, 2) := dk_21 4 (dk_at dksX12_longest_2 17 rfl rfl)
theorem dX12_longest_65 : decode cX12_longest 65 = .ok (.invokevirtual 91, 3) := dk_182 0 91 (dk_at dksX12_longest_2 19 rfl rfl)
theorem dX12_longest_68 : decode cX12_longest 68 = .ok (.ifCond .eq 19, 3) := dk_153 0 19 (dk_at dksX12_longest_3 0 rfl rfl)
theorem dX12_longest_71 : decode cX12_longest 71 = .ok (.aload_n 1, 1) := dk_43 (dk_at dksX12_longest_3 3 rfl rfl)
theorem dX12_longest_72 : decode cX12_longest 72 = .ok (.iload 4, 2) := dk_21 4 (dk_at dksX12_longest_3 4 rfl rfl)
theorem dX12_longest_74 : decode cX12_longest 74 = .ok (.iaload, 1) := dk_46 (dk_at dksX12_longest_3 6 rfl rfl)
theorem dX12_longest_75 : decode cX12_longest 75 = .ok (.aload_n 1, 1) := dk_43 (dk_at dksX12_longest_3 7 rfl rfl)
theorem dX12_longest_76 : decode cX12_longest 76 = .ok (.iload 6, 2) := dk_21 6 (dk_at dksX12_longest_3 8 rfl rfl)
theorem dX12_longest_78 : decode cX12_longest 78 = .ok (.iaload, 1) := dk_46 (dk_at dksX12_longest_3 10 rfl rfl)
theorem dX12_longest_79 : decode cX12_longest 79 = .ok (.iconst 1, 1) := dk_4 (dk_at dksX12_longest_3 11 rfl rfl)
theorem dX12_longest_80 : decode cX12_longest 80 = .ok (.iadd, 1) := dk_96 (dk_at dksX12_longest_3 12 rfl rfl)
theorem dX12_longest_81 : decode cX12_longest 81 = .ok (.invokestatic 107, 3) := dk_184 0 107 (dk_at dksX12_longest_3 13 rfl rfl)
theorem dX12_longest_84 : decode cX12_longest 84 = .ok (.goto 7, 3) := dk_167 0 7 (dk_at dksX12_longest_3 16 rfl rfl)
theorem dX12_longest_87 : decode cX12_longest 87 = .ok (.aload_n 1, 1) := dk_43 (dk_at dksX12_longest_3 19 rfl rfl)
theorem dX12_longest_88 : decode cX12_longest 88 = .ok (.iload 4, 2) := dk_21 4 (dk_at dksX12_longest_3 20 rfl rfl)
theorem dX12_longest_90 : decode cX12_longest 90 = .ok (.iaload, 1) := dk_46 (dk_at dksX12_longest_3 22 rfl rfl)
theorem dX12_longest_91 : decode cX12_longest 91 = .ok (.iastore, 1) := dk_79 (dk_at dksX12_longest_3 23 rfl rfl)
theorem dX12_longest_92 : decode cX12_longest 92 = .ok (.iinc 5 1, 3) := dk_132 5 1 (dk_at dksX12_longest_4 0 rfl rfl)
theorem dX12_longest_95 : decode cX12_longest 95 = .ok (.goto (-56), 3) := dk_167 255 200 (dk_at dksX12_longest_4 3 rfl rfl)
theorem dX12_longest_98 : decode cX12_longest 98 = .ok (.iload_n 2, 1) := dk_28 (dk_at dksX12_longest_4 6 rfl rfl)
theorem dX12_longest_99 : decode cX12_longest 99 = .ok (.aload_n 1, 1) := dk_43 (dk_at dksX12_longest_4 7 rfl rfl)
theorem dX12_longest_100 : decode cX12_longest 100 = .ok (.iload 4, 2) := dk_21 4 (dk_at dksX12_longest_4 8 rfl rfl)
theorem dX12_longest_102 : decode cX12_longest 102 = .ok (.iaload, 1) := dk_46 (dk_at dksX12_longest_4 10 rfl rfl)
theorem dX12_longest_103 : decode cX12_longest 103 = .ok (.invokestatic 107, 3) := dk_184 0 107 (dk_at dksX12_longest_4 11 rfl rfl)
theorem dX12_longest_106 : decode cX12_longest 106 = .ok (.istore_n 2, 1) := dk_61 (dk_at dksX12_longest_4 14 rfl rfl)
theorem dX12_longest_107 : decode cX12_longest 107 = .ok (.iinc 3 1, 3) := dk_132 3 1 (dk_at dksX12_longest_4 15 rfl rfl)
theorem dX12_longest_110 : decode cX12_longest 110 = .ok (.goto (-101), 3) := dk_167 255 155 (dk_at dksX12_longest_4 18 rfl rfl)
theorem dX12_longest_113 : decode cX12_longest 113 = .ok (.iload_n 2, 1) := dk_28 (dk_at dksX12_longest_4 21 rfl rfl)
theorem dX12_longest_114 : decode cX12_longest 114 = .ok (.ireturn, 1) := dk_172 (dk_at dksX12_longest_4 22 rfl rfl)
theorem q123 : (Jvm.Cond.initialized "GraphModules$Orientation") ∈ lw_all := lw_g (lw_at lw_m1 32 rfl) rfl
theorem q148 : (Jvm.Cond.fieldLinkNest "GraphModules$Orientation" (102 : Nat) "GraphModules$Row" "many" "I" "GraphModules") ∈ lw_tbl := lw_at lw_m1 57 rfl
theorem q167 : (Jvm.Cond.fieldLinkNest "GraphModules$Orientation" (63 : Nat) "GraphModules$Graph" "vertices" "I" "GraphModules") ∈ lw_tbl := lw_at lw_m1 76 rfl
theorem q171 : (Jvm.Cond.fieldLinkNest "GraphModules$Orientation" (45 : Nat) "GraphModules$Graph" "near" "[I" "GraphModules") ∈ lw_tbl := lw_at lw_m1 80 rfl
theorem q573 : (Jvm.Cond.selects "GraphModules$Orientation" ({ cls := "java/lang/Object", name := "getClass", desc := "()Ljava/lang/Class;" } : Jvm.MethodName) ({ cls := "java/lang/Object", name := "getClass", desc := "()Ljava/lang/Class;" } : Jvm.MethodName)) ∈ lw_all := lw_g (lw_at lw_m3 2 rfl) rfl
theorem q764 : (Jvm.Cond.fieldLinkNest "GraphModules$Orientation" (80 : Nat) "GraphModules$Gathering" "queue" "[I" "GraphModules") ∈ lw_tbl := lw_at lw_m3 193 rfl
theorem q767 : (Jvm.Cond.fieldLinkNest "GraphModules$Orientation" (77 : Nat) "GraphModules$Gathering" "many" "I" "GraphModules") ∈ lw_tbl := lw_at lw_m3 196 rfl
theorem q1002 : (Jvm.Cond.instantiable "GraphModules$Orientation" (4 : Nat)) ∈ lw_all := lw_g (lw_at lw_m4 191 rfl) rfl
theorem q1004 : (Jvm.Cond.instanceMethod ({ cls := "GraphModules$Orientation", name := "<init>", desc := "(LGraphModules$Graph;)V" } : Jvm.MethodName)) ∈ lw_all := lw_g (lw_at lw_m4 193 rfl) rfl
theorem q1005 : (Jvm.Cond.code ({ cls := "GraphModules$Orientation", name := "<init>", desc := "(LGraphModules$Graph;)V" } : Jvm.MethodName) prog_13_method_1_code (4 : Nat) (Option.none : Option Jvm.ClassFile.FieldType)) ∈ lw_all := lw_g (lw_at lw_m4 194 rfl) rfl
theorem q1006 : (Jvm.Cond.methodLink "GraphModules$Orientation" (3 : Nat) ({ cls := "java/lang/Object", name := "<init>", desc := "()V" } : Jvm.MethodName)) ∈ lw_all := lw_g (lw_at lw_m4 195 rfl) rfl
theorem q1007 : (Jvm.Cond.fieldLinkNest "GraphModules$Orientation" (9 : Nat) "GraphModules" "EDGES" "I" "GraphModules") ∈ lw_tbl := lw_at lw_m4 196 rfl
theorem q1008 : (Jvm.Cond.classLink "GraphModules$Orientation" (19 : Nat) "GraphModules$Row") ∈ lw_all := lw_g (lw_at lw_m4 197 rfl) rfl
theorem q1009 : (Jvm.Cond.methodLink "GraphModules$Orientation" (21 : Nat) ({ cls := "GraphModules$Row", name := "<init>", desc := "(Ljava/lang/Object;)V" } : Jvm.MethodName)) ∈ lw_all := lw_g (lw_at lw_m4 198 rfl) rfl
theorem q1010 : (Jvm.Cond.classLink "GraphModules$Orientation" (32 : Nat) "GraphModules$Graph") ∈ lw_all := lw_g (lw_at lw_m4 199 rfl) rfl
theorem q1011 : (Jvm.Cond.methodLink "GraphModules$Orientation" (34 : Nat) ({ cls := "GraphModules$Graph", name := "packed", desc := "()J" } : Jvm.MethodName)) ∈ lw_all := lw_g (lw_at lw_m4 200 rfl) rfl
theorem q1012 : (Jvm.Cond.methodLink "GraphModules$Orientation" (38 : Nat) ({ cls := "GraphModules$Graph", name := "<init>", desc := "(J)V" } : Jvm.MethodName)) ∈ lw_all := lw_g (lw_at lw_m4 201 rfl) rfl
theorem q1013 : (Jvm.Cond.methodLink "GraphModules$Orientation" (41 : Nat) ({ cls := "GraphModules$Graph", name := "edges", desc := "()I" } : Jvm.MethodName)) ∈ lw_all := lw_g (lw_at lw_m4 202 rfl) rfl
theorem q1014 : (Jvm.Cond.classLink "GraphModules$Orientation" (48 : Nat) "GraphModules$Gathering") ∈ lw_all := lw_g (lw_at lw_m4 203 rfl) rfl
theorem q1015 : (Jvm.Cond.methodLinkNest "GraphModules$Orientation" (50 : Nat) ({ cls := "GraphModules$Gathering", name := "<init>", desc := "()V" } : Jvm.MethodName) "GraphModules") ∈ lw_tbl := lw_at lw_m4 204 rfl
theorem q1016 : (Jvm.Cond.methodLinkNest "GraphModules$Orientation" (51 : Nat) ({ cls := "GraphModules", name := "lowest", desc := "(I)I" } : Jvm.MethodName) "GraphModules") ∈ lw_tbl := lw_at lw_m4 205 rfl
theorem q1017 : (Jvm.Cond.methodLink "GraphModules$Orientation" (55 : Nat) ({ cls := "GraphModules$Gathering", name := "of", desc := "(LGraphModules$Graph;II)LGraphModules$Gathering;" } : Jvm.MethodName)) ∈ lw_all := lw_g (lw_at lw_m4 206 rfl) rfl
theorem q1018 : (Jvm.Cond.methodLink "GraphModules$Orientation" (59 : Nat) ({ cls := "GraphModules$Orientation", name := "direct", desc := "(LGraphModules$Graph;LGraphModules$Gathering;)V" } : Jvm.MethodName)) ∈ lw_all := lw_g (lw_at lw_m4 207 rfl) rfl
theorem q1019 : (Jvm.Cond.privateMethod ({ cls := "GraphModules$Orientation", name := "direct", desc := "(LGraphModules$Graph;LGraphModules$Gathering;)V" } : Jvm.MethodName)) ∈ lw_tbl := lw_at lw_m4 208 rfl
theorem q1020 : (Jvm.Cond.instanceMethod ({ cls := "GraphModules$Orientation", name := "direct", desc := "(LGraphModules$Graph;LGraphModules$Gathering;)V" } : Jvm.MethodName)) ∈ lw_all := lw_g (lw_at lw_m4 209 rfl) rfl
theorem q1021 : (Jvm.Cond.code ({ cls := "GraphModules$Orientation", name := "direct", desc := "(LGraphModules$Graph;LGraphModules$Gathering;)V" } : Jvm.MethodName) prog_13_method_2_code (4 : Nat) (Option.none : Option Jvm.ClassFile.FieldType)) ∈ lw_all := lw_g (lw_at lw_m4 210 rfl) rfl
theorem q1022 : (Jvm.Cond.methodLink "GraphModules$Orientation" (70 : Nat) ({ cls := "GraphModules$Gathering", name := "isTorn", desc := "()Z" } : Jvm.MethodName)) ∈ lw_all := lw_g (lw_at lw_m4 211 rfl) rfl
theorem q1026 : (Jvm.Cond.methodLink "GraphModules$Orientation" (83 : Nat) ({ cls := "GraphModules$Graph", name := "set", desc := "(IIZ)V" } : Jvm.MethodName)) ∈ lw_all := lw_g (lw_at lw_m4 215 rfl) rfl
theorem q1027 : (Jvm.Cond.methodLink "GraphModules$Orientation" (66 : Nat) ({ cls := "GraphModules$Orientation", name := "line", desc := "(I)V" } : Jvm.MethodName)) ∈ lw_all := lw_g (lw_at lw_m4 216 rfl) rfl
theorem q1028 : (Jvm.Cond.privateMethod ({ cls := "GraphModules$Orientation", name := "line", desc := "(I)V" } : Jvm.MethodName)) ∈ lw_tbl := lw_at lw_m4 217 rfl
theorem q1029 : (Jvm.Cond.instanceMethod ({ cls := "GraphModules$Orientation", name := "line", desc := "(I)V" } : Jvm.MethodName)) ∈ lw_all := lw_g (lw_at lw_m4 218 rfl) rfl
theorem q1030 : (Jvm.Cond.code ({ cls := "GraphModules$Orientation", name := "line", desc := "(I)V" } : Jvm.MethodName) prog_13_method_5_code (4 : Nat) (Option.none : Option Jvm.ClassFile.FieldType)) ∈ lw_all := lw_g (lw_at lw_m4 219 rfl) rfl
theorem q1031 : (Jvm.Cond.methodLink "GraphModules$Orientation" (95 : Nat) ({ cls := "GraphModules$Orientation", name := "isFree", desc := "(II)Z" } : Jvm.MethodName)) ∈ lw_all := lw_g (lw_at lw_m4 220 rfl) rfl
theorem q1032 : (Jvm.Cond.privateMethod ({ cls := "GraphModules$Orientation", name := "isFree", desc := "(II)Z" } : Jvm.MethodName)) ∈ lw_tbl := lw_at lw_m4 221 rfl
theorem q1033 : (Jvm.Cond.instanceMethod ({ cls := "GraphModules$Orientation", name := "isFree", desc := "(II)Z" } : Jvm.MethodName)) ∈ lw_all := lw_g (lw_at lw_m4 222 rfl) rfl
theorem q1034 : (Jvm.Cond.code ({ cls := "GraphModules$Orientation", name := "isFree", desc := "(II)Z" } : Jvm.MethodName) prog_13_method_4_code (5 : Nat) (Option.some Jvm.ClassFile.FieldType.boolean)) ∈ lw_all := lw_g (lw_at lw_m4 223 rfl) rfl
theorem q1035 : (Jvm.Cond.methodLink "GraphModules$Orientation" (87 : Nat) ({ cls := "GraphModules$Row", name := "place", desc := "(J)I" } : Jvm.MethodName)) ∈ lw_all := lw_g (lw_at lw_m4 224 rfl) rfl
theorem q1036 : (Jvm.Cond.methodLink "GraphModules$Orientation" (91 : Nat) ({ cls := "GraphModules$Orientation", name := "isDirected", desc := "(II)Z" } : Jvm.MethodName)) ∈ lw_all := lw_g (lw_at lw_m4 225 rfl) rfl
theorem q1037 : (Jvm.Cond.privateMethod ({ cls := "GraphModules$Orientation", name := "isDirected", desc := "(II)Z" } : Jvm.MethodName)) ∈ lw_tbl := lw_at lw_m4 226 rfl
theorem q1038 : (Jvm.Cond.instanceMethod ({ cls := "GraphModules$Orientation", name := "isDirected", desc := "(II)Z" } : Jvm.MethodName)) ∈ lw_all := lw_g (lw_at lw_m4 227 rfl) rfl
theorem q1039 : (Jvm.Cond.code ({ cls := "GraphModules$Orientation", name := "isDirected", desc := "(II)Z" } : Jvm.MethodName) prog_13_method_3_code (3 : Nat) (Option.some Jvm.ClassFile.FieldType.boolean)) ∈ lw_all := lw_g (lw_at lw_m4 228 rfl) rfl
theorem q1040 : (Jvm.Cond.methodLink "GraphModules$Orientation" (98 : Nat) ({ cls := "GraphModules$Row", name := "add", desc := "(J)Z" } : Jvm.MethodName)) ∈ lw_all := lw_g (lw_at lw_m4 229 rfl) rfl
theorem q1041 : (Jvm.Cond.fieldLink "GraphModules$Orientation" (13 : Nat) "GraphModules$Orientation" "step" "[I") ∈ lw_all := lw_g (lw_at lw_m4 230 rfl) rfl
theorem q1043 : (Jvm.Cond.fieldLink "GraphModules$Orientation" (24 : Nat) "GraphModules$Orientation" "order" "LGraphModules$Row;") ∈ lw_all := lw_g (lw_at lw_m4 232 rfl) rfl
theorem q1045 : (Jvm.Cond.fieldLink "GraphModules$Orientation" (74 : Nat) "GraphModules$Orientation" "steps" "I") ∈ lw_all := lw_g (lw_at lw_m4 234 rfl) rfl
theorem q1047 : (Jvm.Cond.fieldLink "GraphModules$Orientation" (28 : Nat) "GraphModules$Orientation" "isPossible" "Z") ∈ lw_all := lw_g (lw_at lw_m4 236 rfl) rfl
theorem q1049 : (Jvm.Cond.laysFinal "GraphModules$Orientation" "GraphModules$Orientation" "step" "[I") ∈ lw_all := lw_g (lw_at lw_m4 238 rfl) rfl
theorem q1050 : (Jvm.Cond.soleField "GraphModules$Orientation" "step") ∈ lw_all := lw_g (lw_at lw_m4 239 rfl) rfl
theorem q1051 : (Jvm.Cond.laysFinal "GraphModules$Orientation" "GraphModules$Orientation" "order" "LGraphModules$Row;") ∈ lw_all := lw_g (lw_at lw_m5 0 rfl) rfl
theorem q1052 : (Jvm.Cond.soleField "GraphModules$Orientation" "order") ∈ lw_all := lw_g (lw_at lw_m5 1 rfl) rfl
theorem q1053 : (Jvm.Cond.lays "GraphModules$Orientation" "GraphModules$Orientation" "steps" "I") ∈ lw_all := lw_g (lw_at lw_m5 2 rfl) rfl
theorem q1054 : (Jvm.Cond.soleField "GraphModules$Orientation" "steps") ∈ lw_all := lw_g (lw_at lw_m5 3 rfl) rfl
theorem q1055 : (Jvm.Cond.lays "GraphModules$Orientation" "GraphModules$Orientation" "isPossible" "Z") ∈ lw_all := lw_g (lw_at lw_m5 4 rfl) rfl
theorem q1056 : (Jvm.Cond.soleField "GraphModules$Orientation" "isPossible") ∈ lw_all := lw_g (lw_at lw_m5 5 rfl) rfl
theorem q1057 : (Jvm.Cond.superclass "GraphModules$Orientation" "java/lang/Object") ∈ lw_all := lw_g (lw_at lw_m5 6 rfl) rfl
theorem q1071 : (Jvm.Cond.instanceMethod ({ cls := "GraphModules$Orientation", name := "longest", desc := "()I" } : Jvm.MethodName)) ∈ lw_all := lw_g (lw_at lw_m5 20 rfl) rfl
theorem q1072 : (Jvm.Cond.selects "GraphModules$Orientation" ({ cls := "GraphModules$Orientation", name := "longest", desc := "()I" } : Jvm.MethodName) ({ cls := "GraphModules$Orientation", name := "longest", desc := "()I" } : Jvm.MethodName)) ∈ lw_all := lw_g (lw_at lw_m5 21 rfl) rfl
theorem q1073 : (Jvm.Cond.code ({ cls := "GraphModules$Orientation", name := "longest", desc := "()I" } : Jvm.MethodName) prog_13_method_6_code (7 : Nat) (Option.some Jvm.ClassFile.FieldType.int)) ∈ lw_all := lw_g (lw_at lw_m5 22 rfl) rfl
theorem q1074 : (Jvm.Cond.methodLink "GraphModules$Orientation" (103 : Nat) ({ cls := "GraphModules$Row", name := "at", desc := "(I)J" } : Jvm.MethodName)) ∈ lw_all := lw_g (lw_at lw_m5 23 rfl) rfl
theorem q1075 : (Jvm.Cond.methodLink "GraphModules$Orientation" (107 : Nat) ({ cls := "java/lang/Math", name := "max", desc := "(II)I" } : Jvm.MethodName)) ∈ lw_all := lw_g (lw_at lw_m5 24 rfl) rfl
theorem q1868 : (Jvm.Cond.castable "GraphModules$Orientation" "java/lang/Object") ∈ lw_tbl := lw_at lw_m8 97 rfl
theorem in_X12 : ∀ w ∈ wsX120, w ∈ lw_all := lw_in wsX120 [1049, 1051, 1053, 1055] (by decide +kernel) (by decide +kernel)

/-! GraphModules$Reader -/
set_option maxRecDepth 100000
def RX13 : String := "GraphModules$Reader"
def TX13 : u_T := fun k => match k with
  | 0 => ("GraphModules$Reader", "read", "LGraphModules$Graph;", true)
  | 1 => ("GraphModules$Reader", "at", "I", false)
  | 2 => ("GraphModules$Reader", "dots", "I", false)
  | _ => ("GraphModules$Reader", "this$0", "LGraphModules;", true)
def tyX13 : Nat → FieldType := fun k => match k with
  | 0 => .object "GraphModules$Graph"
  | 1 => .int
  | 2 => .int
  | _ => .object "GraphModules"
abbrev wsX130 : List Cond := u_ws RX13 TX13 4
theorem nmX13 : ∀ a, a < 4 → ∀ b, b < 4 → a ≠ b → (TX13 a).2.1 ≠ (TX13 b).2.1 := by decide +kernel
theorem tyX13_ok : ∀ k, k < 4 → parseFieldDescriptor (TX13 k).2.2.1 = some (tyX13 k) := by decide +kernel
abbrev cX13_init : ByteArray := prog_14_method_1_code
def yX13_init : MethodName := ⟨RX13, "<init>", "(LGraphModules;)V"⟩
def dkwX13_init_0 : List UInt8 := [42, 43, 181, 0, 3, 42, 183, 0, 9, 42, 187, 0, 15, 89, 16, 10, 183, 0, 17, 181, 0, 20, 177]
abbrev dktX13_init_0 : List UInt8 := dkwX13_init_0 ++ []
theorem dksX13_init_0 : cX13_init.data.toList.drop 0 = dktX13_init_0 := by decide +kernel
theorem dX13_init_0 : decode cX13_init 0 = .ok (.aload_n 0, 1) := dk_42 (dk_at dksX13_init_0 0 rfl rfl)
theorem dX13_init_1 : decode cX13_init 1 = .ok (.aload_n 1, 1) := dk_43 (dk_at dksX13_init_0 1 rfl rfl)
theorem dX13_init_2 : decode cX13_init 2 = .ok (.putfield 3, 3) := dk_181 0 3 (dk_at dksX13_init_0 2 rfl rfl)
theorem dX13_init_5 : decode cX13_init 5 = .ok (.aload_n 0, 1) := dk_42 (dk_at dksX13_init_0 5 rfl rfl)
theorem dX13_init_6 : decode cX13_init 6 = .ok (.invokespecial 9, 3) := dk_183 0 9 (dk_at dksX13_init_0 6 rfl rfl)
theorem dX13_init_9 : decode cX13_init 9 = .ok (.aload_n 0, 1) := dk_42 (dk_at dksX13_init_0 9 rfl rfl)
theorem dX13_init_10 : decode cX13_init 10 = .ok (.new 15, 3) := dk_187 0 15 (dk_at dksX13_init_0 10 rfl rfl)
theorem dX13_init_13 : decode cX13_init 13 = .ok (.dup, 1) := dk_89 (dk_at dksX13_init_0 13 rfl rfl)
theorem dX13_init_14 : decode cX13_init 14 = .ok (.bipush 10, 2) := dk_16 10 (dk_at dksX13_init_0 14 rfl rfl)
theorem dX13_init_16 : decode cX13_init 16 = .ok (.invokespecial 17, 3) := dk_183 0 17 (dk_at dksX13_init_0 16 rfl rfl)
theorem dX13_init_19 : decode cX13_init 19 = .ok (.putfield 20, 3) := dk_181 0 20 (dk_at dksX13_init_0 19 rfl rfl)
theorem dX13_init_22 : decode cX13_init 22 = .ok (.return_, 1) := dk_177 (dk_at dksX13_init_0 22 rfl rfl)
abbrev cX13_reads : ByteArray := prog_14_method_8_code
def yX13_reads : MethodName := ⟨RX13, "reads", "()LGraphModules$Graph;"⟩
def dkwX13_reads_2 : List UInt8 := [43, 180, 0, 75, 3, 16, 10, 184, 0, 79, 43, 176]
abbrev dktX13_reads_2 : List UInt8 := dkwX13_reads_2 ++ []
def dkwX13_reads_1 : List UInt8 := [182, 0, 65, 191, 187, 0, 15, 89, 42, 180, 0, 49, 183, 0, 17, 76, 42, 180, 0, 20, 180, 0, 75, 3]
abbrev dktX13_reads_1 : List UInt8 := dkwX13_reads_1 ++ dktX13_reads_2
def dkwX13_reads_0 : List UInt8 := [42, 182, 0, 69, 87, 42, 180, 0, 24, 42, 180, 0, 3, 180, 0, 28, 180, 0, 32, 162, 0, 8, 42]
abbrev dktX13_reads_0 : List UInt8 := dkwX13_reads_0 ++ dktX13_reads_1
theorem dksX13_reads_0 : cX13_reads.data.toList.drop 0 = dktX13_reads_0 := by decide +kernel
theorem dksX13_reads_1 : cX13_reads.data.toList.drop 23 = dktX13_reads_1 := dk_seg dksX13_reads_0 23 rfl rfl
theorem dksX13_reads_2 : cX13_reads.data.toList.drop 47 = dktX13_reads_2 := dk_seg dksX13_reads_1 24 rfl rfl
theorem dX13_reads_0 : decode cX13_reads 0 = .ok (.aload_n 0, 1) := dk_42 (dk_at dksX13_reads_0 0 rfl rfl)
theorem dX13_reads_1 : decode cX13_reads 1 = .ok (.invokevirtual 69, 3) := dk_182 0 69 (dk_at dksX13_reads_0 1 rfl rfl)
theorem dX13_reads_4 : decode cX13_reads 4 = .ok (.pop, 1) := dk_87 (dk_at dksX13_reads_0 4 rfl rfl)
theorem dX13_reads_5 : decode cX13_reads 5 = .ok (.aload_n 0, 1) := dk_42 (dk_at dksX13_reads_0 5 rfl rfl)
theorem dX13_reads_6 : decode cX13_reads 6 = .ok (.getfield 24, 3) := dk_180 0 24 (dk_at dksX13_reads_0 6 rfl rfl)
theorem dX13_reads_9 : decode cX13_reads 9 = .ok (.aload_n 0, 1) := dk_42 (dk_at dksX13_reads_0 9 rfl rfl)
theorem dX13_reads_10 : decode cX13_reads 10 = .ok (.getfield 3, 3) := dk_180 0 3 (dk_at dksX13_reads_0 10 rfl rfl)
theorem dX13_reads_13 : decode cX13_reads 13 = .ok (.getfield 28, 3) := dk_180 0 28 (dk_at dksX13_reads_0 13 rfl rfl)
theorem dX13_reads_16 : decode cX13_reads 16 = .ok (.getfield 32, 3) := dk_180 0 32 (dk_at dksX13_reads_0 16 rfl rfl)
theorem dX13_reads_19 : decode cX13_reads 19 = .ok (.if_icmp .ge 8, 3) := dk_162 0 8 (dk_at dksX13_reads_0 19 rfl rfl)
theorem dX13_reads_22 : decode cX13_reads 22 = .ok (.aload_n 0, 1) := dk_42 (dk_at dksX13_reads_0 22 rfl rfl)
theorem dX13_reads_23 : decode cX13_reads 23 = .ok (.invokevirtual 65, 3) := dk_182 0 65 (dk_at dksX13_reads_1 0 rfl rfl)
theorem dX13_reads_26 : decode cX13_reads 26 = .ok (.athrow, 1) := dk_191 (dk_at dksX13_reads_1 3 rfl rfl)
theorem dX13_reads_27 : decode cX13_reads 27 = .ok (.new 15, 3) := dk_187 0 15 (dk_at dksX13_reads_1 4 rfl rfl)
theorem dX13_reads_30 : decode cX13_reads 30 = .ok (.dup, 1) := dk_89 (dk_at dksX13_reads_1 7 rfl rfl)
theorem dX13_reads_31 : decode cX13_reads 31 = .ok (.aload_n 0, 1) := dk_42 (dk_at dksX13_reads_1 8 rfl rfl)
theorem dX13_reads_32 : decode cX13_reads 32 = .ok (.getfield 49, 3) := dk_180 0 49 (dk_at dksX13_reads_1 9 rfl rfl)
theorem dX13_reads_35 : decode cX13_reads 35 = .ok (.invokespecial 17, 3) := dk_183 0 17 (dk_at dksX13_reads_1 12 rfl rfl)
theorem dX13_reads_38 : decode cX13_reads 38 = .ok (.astore_n 1, 1) := dk_76 (dk_at dksX13_reads_1 15 rfl rfl)
theorem dX13_reads_39 : decode cX13_reads 39 = .ok (.aload_n 0, 1) := dk_42 (dk_at dksX13_reads_1 16 rfl rfl)
theorem dX13_reads_40 : decode cX13_reads 40 = .ok (.getfield 20, 3) := dk_180 0 20 (dk_at dksX13_reads_1 17 rfl rfl)
theorem dX13_reads_43 : decode cX13_reads 43 = .ok (.getfield 75, 3) := dk_180 0 75 (dk_at dksX13_reads_1 20 rfl rfl)
theorem dX13_reads_46 : decode cX13_reads 46 = .ok (.iconst 0, 1) := dk_3 (dk_at dksX13_reads_1 23 rfl rfl)
theorem dX13_reads_47 : decode cX13_reads 47 = .ok (.aload_n 1, 1) := dk_43 (dk_at dksX13_reads_2 0 rfl rfl)
theorem dX13_reads_48 : decode cX13_reads 48 = .ok (.getfield 75, 3) := dk_180 0 75 (dk_at dksX13_reads_2 1 rfl rfl)
theorem dX13_reads_51 : decode cX13_reads 51 = .ok (.iconst 0, 1) := dk_3 (dk_at dksX13_reads_2 4 rfl rfl)
theorem dX13_reads_52 : decode cX13_reads 52 = .ok (.bipush 10, 2) := dk_16 10 (dk_at dksX13_reads_2 5 rfl rfl)
theorem dX13_reads_54 : decode cX13_reads 54 = .ok (.invokestatic 79, 3) := dk_184 0 79 (dk_at dksX13_reads_2 7 rfl rfl)
theorem dX13_reads_57 : decode cX13_reads 57 = .ok (.aload_n 1, 1) := dk_43 (dk_at dksX13_reads_2 10 rfl rfl)
theorem dX13_reads_58 : decode cX13_reads 58 = .ok (.areturn, 1) := dk_176 (dk_at dksX13_reads_2 11 rfl rfl)
abbrev cX13_graph : ByteArray := prog_14_method_5_code
def yX13_graph : MethodName := ⟨RX13, "graph", "()I"⟩
def dkwX13_graph_3 : List UInt8 := [182, 0, 65, 191]
abbrev dktX13_graph_3 : List UInt8 := dkwX13_graph_3 ++ []
def dkwX13_graph_2 : List UInt8 := [182, 0, 42, 4, 188, 5, 89, 3, 16, 60, 85, 184, 0, 52, 153, 0, 8, 42, 182, 0, 62, 172, 42]
abbrev dktX13_graph_2 : List UInt8 := dkwX13_graph_2 ++ dktX13_graph_3
def dkwX13_graph_1 : List UInt8 := [182, 0, 42, 4, 188, 5, 89, 3, 16, 40, 85, 184, 0, 52, 153, 0, 8, 42, 182, 0, 59, 172, 42]
abbrev dktX13_graph_1 : List UInt8 := dkwX13_graph_1 ++ dktX13_graph_2
def dkwX13_graph_0 : List UInt8 := [42, 182, 0, 42, 4, 188, 5, 89, 3, 16, 46, 85, 184, 0, 52, 153, 0, 8, 42, 182, 0, 56, 172, 42]
abbrev dktX13_graph_0 : List UInt8 := dkwX13_graph_0 ++ dktX13_graph_1
theorem dksX13_graph_0 : cX13_graph.data.toList.drop 0 = dktX13_graph_0 := by decide +kernel
theorem dksX13_graph_1 : cX13_graph.data.toList.drop 24 = dktX13_graph_1 := dk_seg dksX13_graph_0 24 rfl rfl
theorem dksX13_graph_2 : cX13_graph.data.toList.drop 47 = dktX13_graph_2 := dk_seg dksX13_graph_1 23 rfl rfl
theorem dksX13_graph_3 : cX13_graph.data.toList.drop 70 = dktX13_graph_3 := dk_seg dksX13_graph_2 23 rfl rfl
theorem dX13_graph_0 : decode cX13_graph 0 = .ok (.aload_n 0, 1) := dk_42 (dk_at dksX13_graph_0 0 rfl rfl)
theorem dX13_graph_1 : decode cX13_graph 1 = .ok (.invokevirtual 42, 3) := dk_182 0 42 (dk_at dksX13_graph_0 1 rfl rfl)
theorem dX13_graph_4 : decode cX13_graph 4 = .ok (.iconst 1, 1) := dk_4 (dk_at dksX13_graph_0 4 rfl rfl)
theorem dX13_graph_5 : decode cX13_graph 5 = .ok (.newarray .char, 2) := dk_188_5 (dk_at dksX13_graph_0 5 rfl rfl)
theorem dX13_graph_7 : decode cX13_graph 7 = .ok (.dup, 1) := dk_89 (dk_at dksX13_graph_0 7 rfl rfl)
theorem dX13_graph_8 : decode cX13_graph 8 = .ok (.iconst 0, 1) := dk_3 (dk_at dksX13_graph_0 8 rfl rfl)
theorem dX13_graph_9 : decode cX13_graph 9 = .ok (.bipush 46, 2) := dk_16 46 (dk_at dksX13_graph_0 9 rfl rfl)
theorem dX13_graph_11 : decode cX13_graph 11 = .ok (.castore, 1) := dk_85 (dk_at dksX13_graph_0 11 rfl rfl)
theorem dX13_graph_12 : decode cX13_graph 12 = .ok (.invokestatic 52, 3) := dk_184 0 52 (dk_at dksX13_graph_0 12 rfl rfl)
theorem dX13_graph_15 : decode cX13_graph 15 = .ok (.ifCond .eq 8, 3) := dk_153 0 8 (dk_at dksX13_graph_0 15 rfl rfl)
theorem dX13_graph_18 : decode cX13_graph 18 = .ok (.aload_n 0, 1) := dk_42 (dk_at dksX13_graph_0 18 rfl rfl)
theorem dX13_graph_19 : decode cX13_graph 19 = .ok (.invokevirtual 56, 3) := dk_182 0 56 (dk_at dksX13_graph_0 19 rfl rfl)
theorem dX13_graph_22 : decode cX13_graph 22 = .ok (.ireturn, 1) := dk_172 (dk_at dksX13_graph_0 22 rfl rfl)
theorem dX13_graph_23 : decode cX13_graph 23 = .ok (.aload_n 0, 1) := dk_42 (dk_at dksX13_graph_0 23 rfl rfl)
theorem dX13_graph_24 : decode cX13_graph 24 = .ok (.invokevirtual 42, 3) := dk_182 0 42 (dk_at dksX13_graph_1 0 rfl rfl)
theorem dX13_graph_27 : decode cX13_graph 27 = .ok (.iconst 1, 1) := dk_4 (dk_at dksX13_graph_1 3 rfl rfl)
theorem dX13_graph_28 : decode cX13_graph 28 = .ok (.newarray .char, 2) := dk_188_5 (dk_at dksX13_graph_1 4 rfl rfl)
theorem dX13_graph_30 : decode cX13_graph 30 = .ok (.dup, 1) := dk_89 (dk_at dksX13_graph_1 6 rfl rfl)
theorem dX13_graph_31 : decode cX13_graph 31 = .ok (.iconst 0, 1) := dk_3 (dk_at dksX13_graph_1 7 rfl rfl)
theorem dX13_graph_32 : decode cX13_graph 32 = .ok (.bipush 40, 2) := dk_16 40 (dk_at dksX13_graph_1 8 rfl rfl)
theorem dX13_graph_34 : decode cX13_graph 34 = .ok (.castore, 1) := dk_85 (dk_at dksX13_graph_1 10 rfl rfl)
theorem dX13_graph_35 : decode cX13_graph 35 = .ok (.invokestatic 52, 3) := dk_184 0 52 (dk_at dksX13_graph_1 11 rfl rfl)
theorem dX13_graph_38 : decode cX13_graph 38 = .ok (.ifCond .eq 8, 3) := dk_153 0 8 (dk_at dksX13_graph_1 14 rfl rfl)
theorem dX13_graph_41 : decode cX13_graph 41 = .ok (.aload_n 0, 1) := dk_42 (dk_at dksX13_graph_1 17 rfl rfl)
theorem dX13_graph_42 : decode cX13_graph 42 = .ok (.invokevirtual 59, 3) := dk_182 0 59 (dk_at dksX13_graph_1 18 rfl rfl)
theorem dX13_graph_45 : decode cX13_graph 45 = .ok (.ireturn, 1) := dk_172 (dk_at dksX13_graph_1 21 rfl rfl)
theorem dX13_graph_46 : decode cX13_graph 46 = .ok (.aload_n 0, 1) := dk_42 (dk_at dksX13_graph_1 22 rfl rfl)
theorem dX13_graph_47 : decode cX13_graph 47 = .ok (.invokevirtual 42, 3) := dk_182 0 42 (dk_at dksX13_graph_2 0 rfl rfl)
theorem dX13_graph_50 : decode cX13_graph 50 = .ok (.iconst 1, 1) := dk_4 (dk_at dksX13_graph_2 3 rfl rfl)
theorem dX13_graph_51 : decode cX13_graph 51 = .ok (.newarray .char, 2) := dk_188_5 (dk_at dksX13_graph_2 4 rfl rfl)
theorem dX13_graph_53 : decode cX13_graph 53 = .ok (.dup, 1) := dk_89 (dk_at dksX13_graph_2 6 rfl rfl)
theorem dX13_graph_54 : decode cX13_graph 54 = .ok (.iconst 0, 1) := dk_3 (dk_at dksX13_graph_2 7 rfl rfl)
theorem dX13_graph_55 : decode cX13_graph 55 = .ok (.bipush 60, 2) := dk_16 60 (dk_at dksX13_graph_2 8 rfl rfl)
theorem dX13_graph_57 : decode cX13_graph 57 = .ok (.castore, 1) := dk_85 (dk_at dksX13_graph_2 10 rfl rfl)
theorem dX13_graph_58 : decode cX13_graph 58 = .ok (.invokestatic 52, 3) := dk_184 0 52 (dk_at dksX13_graph_2 11 rfl rfl)
theorem dX13_graph_61 : decode cX13_graph 61 = .ok (.ifCond .eq 8, 3) := dk_153 0 8 (dk_at dksX13_graph_2 14 rfl rfl)
theorem dX13_graph_64 : decode cX13_graph 64 = .ok (.aload_n 0, 1) := dk_42 (dk_at dksX13_graph_2 17 rfl rfl)
theorem dX13_graph_65 : decode cX13_graph 65 = .ok (.invokevirtual 62, 3) := dk_182 0 62 (dk_at dksX13_graph_2 18 rfl rfl)
theorem dX13_graph_68 : decode cX13_graph 68 = .ok (.ireturn, 1) := dk_172 (dk_at dksX13_graph_2 21 rfl rfl)
theorem dX13_graph_69 : decode cX13_graph 69 = .ok (.aload_n 0, 1) := dk_42 (dk_at dksX13_graph_2 22 rfl rfl)
theorem dX13_graph_70 : decode cX13_graph 70 = .ok (.invokevirtual 65, 3) := dk_182 0 65 (dk_at dksX13_graph_3 0 rfl rfl)
theorem dX13_graph_73 : decode cX13_graph 73 = .ok (.athrow, 1) := dk_191 (dk_at dksX13_graph_3 3 rfl rfl)
abbrev cX13_sign : ByteArray := prog_14_method_2_code
def yX13_sign : MethodName := ⟨RX13, "sign", "()I"⟩
def dkwX13_sign_1 : List UInt8 := [42, 180, 0, 24, 182, 0, 37, 136, 167, 0, 4, 2, 172]
abbrev dktX13_sign_1 : List UInt8 := dkwX13_sign_1 ++ []
def dkwX13_sign_0 : List UInt8 := [42, 180, 0, 24, 42, 180, 0, 3, 180, 0, 28, 180, 0, 32, 162, 0, 21, 42, 180, 0, 3, 180, 0, 28]
abbrev dktX13_sign_0 : List UInt8 := dkwX13_sign_0 ++ dktX13_sign_1
theorem dksX13_sign_0 : cX13_sign.data.toList.drop 0 = dktX13_sign_0 := by decide +kernel
theorem dksX13_sign_1 : cX13_sign.data.toList.drop 24 = dktX13_sign_1 := dk_seg dksX13_sign_0 24 rfl rfl
theorem dX13_sign_0 : decode cX13_sign 0 = .ok (.aload_n 0, 1) := dk_42 (dk_at dksX13_sign_0 0 rfl rfl)
theorem dX13_sign_1 : decode cX13_sign 1 = .ok (.getfield 24, 3) := dk_180 0 24 (dk_at dksX13_sign_0 1 rfl rfl)
theorem dX13_sign_4 : decode cX13_sign 4 = .ok (.aload_n 0, 1) := dk_42 (dk_at dksX13_sign_0 4 rfl rfl)
theorem dX13_sign_5 : decode cX13_sign 5 = .ok (.getfield 3, 3) := dk_180 0 3 (dk_at dksX13_sign_0 5 rfl rfl)
theorem dX13_sign_8 : decode cX13_sign 8 = .ok (.getfield 28, 3) := dk_180 0 28 (dk_at dksX13_sign_0 8 rfl rfl)
theorem dX13_sign_11 : decode cX13_sign 11 = .ok (.getfield 32, 3) := dk_180 0 32 (dk_at dksX13_sign_0 11 rfl rfl)
theorem dX13_sign_14 : decode cX13_sign 14 = .ok (.if_icmp .ge 21, 3) := dk_162 0 21 (dk_at dksX13_sign_0 14 rfl rfl)
theorem dX13_sign_17 : decode cX13_sign 17 = .ok (.aload_n 0, 1) := dk_42 (dk_at dksX13_sign_0 17 rfl rfl)
theorem dX13_sign_18 : decode cX13_sign 18 = .ok (.getfield 3, 3) := dk_180 0 3 (dk_at dksX13_sign_0 18 rfl rfl)
theorem dX13_sign_21 : decode cX13_sign 21 = .ok (.getfield 28, 3) := dk_180 0 28 (dk_at dksX13_sign_0 21 rfl rfl)
theorem dX13_sign_24 : decode cX13_sign 24 = .ok (.aload_n 0, 1) := dk_42 (dk_at dksX13_sign_1 0 rfl rfl)
theorem dX13_sign_25 : decode cX13_sign 25 = .ok (.getfield 24, 3) := dk_180 0 24 (dk_at dksX13_sign_1 1 rfl rfl)
theorem dX13_sign_28 : decode cX13_sign 28 = .ok (.invokevirtual 37, 3) := dk_182 0 37 (dk_at dksX13_sign_1 4 rfl rfl)
theorem dX13_sign_31 : decode cX13_sign 31 = .ok (.l2i, 1) := dk_136 (dk_at dksX13_sign_1 7 rfl rfl)
theorem dX13_sign_32 : decode cX13_sign 32 = .ok (.goto 4, 3) := dk_167 0 4 (dk_at dksX13_sign_1 8 rfl rfl)
theorem dX13_sign_35 : decode cX13_sign 35 = .ok (.iconst (-1), 1) := dk_2 (dk_at dksX13_sign_1 11 rfl rfl)
theorem dX13_sign_36 : decode cX13_sign 36 = .ok (.ireturn, 1) := dk_172 (dk_at dksX13_sign_1 12 rfl rfl)
abbrev cX13_dot : ByteArray := prog_14_method_4_code
def yX13_dot : MethodName := ⟨RX13, "dot", "()I"⟩
def dkwX13_dot_2 : List UInt8 := [100, 120, 172]
abbrev dktX13_dot_2 : List UInt8 := dkwX13_dot_2 ++ []
def dkwX13_dot_1 : List UInt8 := [180, 0, 24, 4, 96, 181, 0, 24, 42, 89, 180, 0, 49, 4, 96, 181, 0, 49, 4, 42, 180, 0, 49, 4]
abbrev dktX13_dot_1 : List UInt8 := dkwX13_dot_1 ++ dktX13_dot_2
def dkwX13_dot_0 : List UInt8 := [42, 180, 0, 49, 16, 10, 160, 0, 16, 187, 0, 40, 89, 42, 180, 0, 24, 5, 183, 0, 46, 191, 42, 89]
abbrev dktX13_dot_0 : List UInt8 := dkwX13_dot_0 ++ dktX13_dot_1
theorem dksX13_dot_0 : cX13_dot.data.toList.drop 0 = dktX13_dot_0 := by decide +kernel
theorem dksX13_dot_1 : cX13_dot.data.toList.drop 24 = dktX13_dot_1 := dk_seg dksX13_dot_0 24 rfl rfl
theorem dksX13_dot_2 : cX13_dot.data.toList.drop 48 = dktX13_dot_2 := dk_seg dksX13_dot_1 24 rfl rfl
theorem dX13_dot_0 : decode cX13_dot 0 = .ok (.aload_n 0, 1) := dk_42 (dk_at dksX13_dot_0 0 rfl rfl)
theorem dX13_dot_1 : decode cX13_dot 1 = .ok (.getfield 49, 3) := dk_180 0 49 (dk_at dksX13_dot_0 1 rfl rfl)
theorem dX13_dot_4 : decode cX13_dot 4 = .ok (.bipush 10, 2) := dk_16 10 (dk_at dksX13_dot_0 4 rfl rfl)
theorem dX13_dot_6 : decode cX13_dot 6 = .ok (.if_icmp .ne 16, 3) := dk_160 0 16 (dk_at dksX13_dot_0 6 rfl rfl)
theorem dX13_dot_9 : decode cX13_dot 9 = .ok (.new 40, 3) := dk_187 0 40 (dk_at dksX13_dot_0 9 rfl rfl)
theorem dX13_dot_12 : decode cX13_dot 12 = .ok (.dup, 1) := dk_89 (dk_at dksX13_dot_0 12 rfl rfl)
theorem dX13_dot_13 : decode cX13_dot 13 = .ok (.aload_n 0, 1) := dk_42 (dk_at dksX13_dot_0 13 rfl rfl)
theorem dX13_dot_14 : decode cX13_dot 14 = .ok (.getfield 24, 3) := dk_180 0 24 (dk_at dksX13_dot_0 14 rfl rfl)
theorem dX13_dot_17 : decode cX13_dot 17 = .ok (.iconst 2, 1) := dk_5 (dk_at dksX13_dot_0 17 rfl rfl)
theorem dX13_dot_18 : decode cX13_dot 18 = .ok (.invokespecial 46, 3) := dk_183 0 46 (dk_at dksX13_dot_0 18 rfl rfl)
theorem dX13_dot_21 : decode cX13_dot 21 = .ok (.athrow, 1) := dk_191 (dk_at dksX13_dot_0 21 rfl rfl)
theorem dX13_dot_22 : decode cX13_dot 22 = .ok (.aload_n 0, 1) := dk_42 (dk_at dksX13_dot_0 22 rfl rfl)
theorem dX13_dot_23 : decode cX13_dot 23 = .ok (.dup, 1) := dk_89 (dk_at dksX13_dot_0 23 rfl rfl)
theorem dX13_dot_24 : decode cX13_dot 24 = .ok (.getfield 24, 3) := dk_180 0 24 (dk_at dksX13_dot_1 0 rfl rfl)
theorem dX13_dot_27 : decode cX13_dot 27 = .ok (.iconst 1, 1) := dk_4 (dk_at dksX13_dot_1 3 rfl rfl)
theorem dX13_dot_28 : decode cX13_dot 28 = .ok (.iadd, 1) := dk_96 (dk_at dksX13_dot_1 4 rfl rfl)
theorem dX13_dot_29 : decode cX13_dot 29 = .ok (.putfield 24, 3) := dk_181 0 24 (dk_at dksX13_dot_1 5 rfl rfl)
theorem dX13_dot_32 : decode cX13_dot 32 = .ok (.aload_n 0, 1) := dk_42 (dk_at dksX13_dot_1 8 rfl rfl)
theorem dX13_dot_33 : decode cX13_dot 33 = .ok (.dup, 1) := dk_89 (dk_at dksX13_dot_1 9 rfl rfl)
theorem dX13_dot_34 : decode cX13_dot 34 = .ok (.getfield 49, 3) := dk_180 0 49 (dk_at dksX13_dot_1 10 rfl rfl)
theorem dX13_dot_37 : decode cX13_dot 37 = .ok (.iconst 1, 1) := dk_4 (dk_at dksX13_dot_1 13 rfl rfl)
theorem dX13_dot_38 : decode cX13_dot 38 = .ok (.iadd, 1) := dk_96 (dk_at dksX13_dot_1 14 rfl rfl)
theorem dX13_dot_39 : decode cX13_dot 39 = .ok (.putfield 49, 3) := dk_181 0 49 (dk_at dksX13_dot_1 15 rfl rfl)
theorem dX13_dot_42 : decode cX13_dot 42 = .ok (.iconst 1, 1) := dk_4 (dk_at dksX13_dot_1 18 rfl rfl)
theorem dX13_dot_43 : decode cX13_dot 43 = .ok (.aload_n 0, 1) := dk_42 (dk_at dksX13_dot_1 19 rfl rfl)
theorem dX13_dot_44 : decode cX13_dot 44 = .ok (.getfield 49, 3) := dk_180 0 49 (dk_at dksX13_dot_1 20 rfl rfl)
theorem dX13_dot_47 : decode cX13_dot 47 = .ok (.iconst 1, 1) := dk_4 (dk_at dksX13_dot_1 23 rfl rfl)
theorem dX13_dot_48 : decode cX13_dot 48 = .ok (.isub, 1) := dk_100 (dk_at dksX13_dot_2 0 rfl rfl)
theorem dX13_dot_49 : decode cX13_dot 49 = .ok (.ishl, 1) := dk_120 (dk_at dksX13_dot_2 1 rfl rfl)
theorem dX13_dot_50 : decode cX13_dot 50 = .ok (.ireturn, 1) := dk_172 (dk_at dksX13_dot_2 2 rfl rfl)
abbrev cX13_bracket : ByteArray := prog_14_method_6_code
def yX13_bracket : MethodName := ⟨RX13, "bracket", "()I"⟩
def dkwX13_bracket_6 : List UInt8 := [180, 0, 24, 7, 183, 0, 46, 191, 42, 89, 180, 0, 24, 4, 96, 181, 0, 24, 27, 172]
abbrev dktX13_bracket_6 : List UInt8 := dkwX13_bracket_6 ++ []
def dkwX13_bracket_5 : List UInt8 := [16, 41, 85, 184, 0, 52, 154, 0, 8, 42, 182, 0, 65, 191, 28, 2, 160, 0, 16, 187, 0, 40, 89, 42]
abbrev dktX13_bracket_5 : List UInt8 := dkwX13_bracket_5 ++ dktX13_bracket_6
def dkwX13_bracket_4 : List UInt8 := [180, 0, 20, 27, 29, 182, 0, 72, 27, 29, 128, 60, 167, 255, 168, 42, 182, 0, 42, 4, 188, 5, 89, 3]
abbrev dktX13_bracket_4 : List UInt8 := dkwX13_bracket_4 ++ dktX13_bracket_5
def dkwX13_bracket_3 : List UInt8 := [61, 42, 89, 180, 0, 24, 4, 96, 181, 0, 24, 42, 182, 0, 69, 62, 28, 16, 42, 160, 0, 12, 42]
abbrev dktX13_bracket_3 : List UInt8 := dkwX13_bracket_3 ++ dktX13_bracket_4
def dkwX13_bracket_2 : List UInt8 := [182, 0, 42, 28, 159, 0, 16, 187, 0, 40, 89, 42, 180, 0, 24, 6, 183, 0, 46, 191, 42, 182, 0, 42]
abbrev dktX13_bracket_2 : List UInt8 := dkwX13_bracket_2 ++ dktX13_bracket_3
def dkwX13_bracket_1 : List UInt8 := [89, 3, 16, 43, 85, 89, 4, 16, 42, 85, 184, 0, 52, 153, 0, 71, 28, 2, 159, 0, 24, 42]
abbrev dktX13_bracket_1 : List UInt8 := dkwX13_bracket_1 ++ dktX13_bracket_2
def dkwX13_bracket_0 : List UInt8 := [42, 89, 180, 0, 24, 4, 96, 181, 0, 24, 42, 182, 0, 69, 60, 2, 61, 42, 182, 0, 42, 5, 188, 5]
abbrev dktX13_bracket_0 : List UInt8 := dkwX13_bracket_0 ++ dktX13_bracket_1
theorem dksX13_bracket_0 : cX13_bracket.data.toList.drop 0 = dktX13_bracket_0 := by decide +kernel
theorem dksX13_bracket_1 : cX13_bracket.data.toList.drop 24 = dktX13_bracket_1 := dk_seg dksX13_bracket_0 24 rfl rfl
theorem dksX13_bracket_2 : cX13_bracket.data.toList.drop 46 = dktX13_bracket_2 := dk_seg dksX13_bracket_1 22 rfl rfl
theorem dksX13_bracket_3 : cX13_bracket.data.toList.drop 70 = dktX13_bracket_3 := dk_seg dksX13_bracket_2 24 rfl rfl
theorem dksX13_bracket_4 : cX13_bracket.data.toList.drop 93 = dktX13_bracket_4 := dk_seg dksX13_bracket_3 23 rfl rfl
theorem dksX13_bracket_5 : cX13_bracket.data.toList.drop 117 = dktX13_bracket_5 := dk_seg dksX13_bracket_4 24 rfl rfl
theorem dksX13_bracket_6 : cX13_bracket.data.toList.drop 141 = dktX13_bracket_6 := dk_seg dksX13_bracket_5 24 rfl rfl
theorem dX13_bracket_0 : decode cX13_bracket 0 = .ok (.aload_n 0, 1) := dk_42 (dk_at dksX13_bracket_0 0 rfl rfl)
theorem dX13_bracket_1 : decode cX13_bracket 1 = .ok (.dup, 1) := dk_89 (dk_at dksX13_bracket_0 1 rfl rfl)
theorem dX13_bracket_2 : decode cX13_bracket 2 = .ok (.getfield 24, 3) := dk_180 0 24 (dk_at dksX13_bracket_0 2 rfl rfl)
theorem dX13_bracket_5 : decode cX13_bracket 5 = .ok (.iconst 1, 1) := dk_4 (dk_at dksX13_bracket_0 5 rfl rfl)
theorem dX13_bracket_6 : decode cX13_bracket 6 = .ok (.iadd, 1) := dk_96 (dk_at dksX13_bracket_0 6 rfl rfl)
theorem dX13_bracket_7 : decode cX13_bracket 7 = .ok (.putfield 24, 3) := dk_181 0 24 (dk_at dksX13_bracket_0 7 rfl rfl)
theorem dX13_bracket_10 : decode cX13_bracket 10 = .ok (.aload_n 0, 1) := dk_42 (dk_at dksX13_bracket_0 10 rfl rfl)
theorem dX13_bracket_11 : decode cX13_bracket 11 = .ok (.invokevirtual 69, 3) := dk_182 0 69 (dk_at dksX13_bracket_0 11 rfl rfl)
theorem dX13_bracket_14 : decode cX13_bracket 14 = .ok (.istore_n 1, 1) := dk_60 (dk_at dksX13_bracket_0 14 rfl rfl)
theorem dX13_bracket_15 : decode cX13_bracket 15 = .ok (.iconst (-1), 1) := dk_2 (dk_at dksX13_bracket_0 15 rfl rfl)
theorem dX13_bracket_16 : decode cX13_bracket 16 = .ok (.istore_n 2, 1) := dk_61 (dk_at dksX13_bracket_0 16 rfl rfl)
theorem dX13_bracket_17 : decode cX13_bracket 17 = .ok (.aload_n 0, 1) := dk_42 (dk_at dksX13_bracket_0 17 rfl rfl)
theorem dX13_bracket_18 : decode cX13_bracket 18 = .ok (.invokevirtual 42, 3) := dk_182 0 42 (dk_at dksX13_bracket_0 18 rfl rfl)
theorem dX13_bracket_21 : decode cX13_bracket 21 = .ok (.iconst 2, 1) := dk_5 (dk_at dksX13_bracket_0 21 rfl rfl)
theorem dX13_bracket_22 : decode cX13_bracket 22 = .ok (.newarray .char, 2) := dk_188_5 (dk_at dksX13_bracket_0 22 rfl rfl)
theorem dX13_bracket_24 : decode cX13_bracket 24 = .ok (.dup, 1) := dk_89 (dk_at dksX13_bracket_1 0 rfl rfl)
theorem dX13_bracket_25 : decode cX13_bracket 25 = .ok (.iconst 0, 1) := dk_3 (dk_at dksX13_bracket_1 1 rfl rfl)
theorem dX13_bracket_26 : decode cX13_bracket 26 = .ok (.bipush 43, 2) := dk_16 43 (dk_at dksX13_bracket_1 2 rfl rfl)
theorem dX13_bracket_28 : decode cX13_bracket 28 = .ok (.castore, 1) := dk_85 (dk_at dksX13_bracket_1 4 rfl rfl)
theorem dX13_bracket_29 : decode cX13_bracket 29 = .ok (.dup, 1) := dk_89 (dk_at dksX13_bracket_1 5 rfl rfl)
theorem dX13_bracket_30 : decode cX13_bracket 30 = .ok (.iconst 1, 1) := dk_4 (dk_at dksX13_bracket_1 6 rfl rfl)
theorem dX13_bracket_31 : decode cX13_bracket 31 = .ok (.bipush 42, 2) := dk_16 42 (dk_at dksX13_bracket_1 7 rfl rfl)
theorem dX13_bracket_33 : decode cX13_bracket 33 = .ok (.castore, 1) := dk_85 (dk_at dksX13_bracket_1 9 rfl rfl)
theorem dX13_bracket_34 : decode cX13_bracket 34 = .ok (.invokestatic 52, 3) := dk_184 0 52 (dk_at dksX13_bracket_1 10 rfl rfl)
theorem dX13_bracket_37 : decode cX13_bracket 37 = .ok (.ifCond .eq 71, 3) := dk_153 0 71 (dk_at dksX13_bracket_1 13 rfl rfl)
theorem dX13_bracket_40 : decode cX13_bracket 40 = .ok (.iload_n 2, 1) := dk_28 (dk_at dksX13_bracket_1 16 rfl rfl)
theorem dX13_bracket_41 : decode cX13_bracket 41 = .ok (.iconst (-1), 1) := dk_2 (dk_at dksX13_bracket_1 17 rfl rfl)
theorem dX13_bracket_42 : decode cX13_bracket 42 = .ok (.if_icmp .eq 24, 3) := dk_159 0 24 (dk_at dksX13_bracket_1 18 rfl rfl)
theorem dX13_bracket_45 : decode cX13_bracket 45 = .ok (.aload_n 0, 1) := dk_42 (dk_at dksX13_bracket_1 21 rfl rfl)
theorem dX13_bracket_46 : decode cX13_bracket 46 = .ok (.invokevirtual 42, 3) := dk_182 0 42 (dk_at dksX13_bracket_2 0 rfl rfl)
theorem dX13_bracket_49 : decode cX13_bracket 49 = .ok (.iload_n 2, 1) := dk_28 (dk_at dksX13_bracket_2 3 rfl rfl)
theorem dX13_bracket_50 : decode cX13_bracket 50 = .ok (.if_icmp .eq 16, 3) := dk_159 0 16 (dk_at dksX13_bracket_2 4 rfl rfl)
theorem dX13_bracket_53 : decode cX13_bracket 53 = .ok (.new 40, 3) := dk_187 0 40 (dk_at dksX13_bracket_2 7 rfl rfl)
theorem dX13_bracket_56 : decode cX13_bracket 56 = .ok (.dup, 1) := dk_89 (dk_at dksX13_bracket_2 10 rfl rfl)
theorem dX13_bracket_57 : decode cX13_bracket 57 = .ok (.aload_n 0, 1) := dk_42 (dk_at dksX13_bracket_2 11 rfl rfl)
theorem dX13_bracket_58 : decode cX13_bracket 58 = .ok (.getfield 24, 3) := dk_180 0 24 (dk_at dksX13_bracket_2 12 rfl rfl)
theorem dX13_bracket_61 : decode cX13_bracket 61 = .ok (.iconst 3, 1) := dk_6 (dk_at dksX13_bracket_2 15 rfl rfl)
theorem dX13_bracket_62 : decode cX13_bracket 62 = .ok (.invokespecial 46, 3) := dk_183 0 46 (dk_at dksX13_bracket_2 16 rfl rfl)
theorem dX13_bracket_65 : decode cX13_bracket 65 = .ok (.athrow, 1) := dk_191 (dk_at dksX13_bracket_2 19 rfl rfl)
theorem dX13_bracket_66 : decode cX13_bracket 66 = .ok (.aload_n 0, 1) := dk_42 (dk_at dksX13_bracket_2 20 rfl rfl)
theorem dX13_bracket_67 : decode cX13_bracket 67 = .ok (.invokevirtual 42, 3) := dk_182 0 42 (dk_at dksX13_bracket_2 21 rfl rfl)
theorem dX13_bracket_70 : decode cX13_bracket 70 = .ok (.istore_n 2, 1) := dk_61 (dk_at dksX13_bracket_3 0 rfl rfl)
theorem dX13_bracket_71 : decode cX13_bracket 71 = .ok (.aload_n 0, 1) := dk_42 (dk_at dksX13_bracket_3 1 rfl rfl)
theorem dX13_bracket_72 : decode cX13_bracket 72 = .ok (.dup, 1) := dk_89 (dk_at dksX13_bracket_3 2 rfl rfl)
theorem dX13_bracket_73 : decode cX13_bracket 73 = .ok (.getfield 24, 3) := dk_180 0 24 (dk_at dksX13_bracket_3 3 rfl rfl)
theorem dX13_bracket_76 : decode cX13_bracket 76 = .ok (.iconst 1, 1) := dk_4 (dk_at dksX13_bracket_3 6 rfl rfl)
theorem dX13_bracket_77 : decode cX13_bracket 77 = .ok (.iadd, 1) := dk_96 (dk_at dksX13_bracket_3 7 rfl rfl)
theorem dX13_bracket_78 : decode cX13_bracket 78 = .ok (.putfield 24, 3) := dk_181 0 24 (dk_at dksX13_bracket_3 8 rfl rfl)
theorem dX13_bracket_81 : decode cX13_bracket 81 = .ok (.aload_n 0, 1) := dk_42 (dk_at dksX13_bracket_3 11 rfl rfl)
theorem dX13_bracket_82 : decode cX13_bracket 82 = .ok (.invokevirtual 69, 3) := dk_182 0 69 (dk_at dksX13_bracket_3 12 rfl rfl)
theorem dX13_bracket_85 : decode cX13_bracket 85 = .ok (.istore_n 3, 1) := dk_62 (dk_at dksX13_bracket_3 15 rfl rfl)
theorem dX13_bracket_86 : decode cX13_bracket 86 = .ok (.iload_n 2, 1) := dk_28 (dk_at dksX13_bracket_3 16 rfl rfl)
theorem dX13_bracket_87 : decode cX13_bracket 87 = .ok (.bipush 42, 2) := dk_16 42 (dk_at dksX13_bracket_3 17 rfl rfl)
theorem dX13_bracket_89 : decode cX13_bracket 89 = .ok (.if_icmp .ne 12, 3) := dk_160 0 12 (dk_at dksX13_bracket_3 19 rfl rfl)
theorem dX13_bracket_92 : decode cX13_bracket 92 = .ok (.aload_n 0, 1) := dk_42 (dk_at dksX13_bracket_3 22 rfl rfl)
theorem dX13_bracket_93 : decode cX13_bracket 93 = .ok (.getfield 20, 3) := dk_180 0 20 (dk_at dksX13_bracket_4 0 rfl rfl)
theorem dX13_bracket_96 : decode cX13_bracket 96 = .ok (.iload_n 1, 1) := dk_27 (dk_at dksX13_bracket_4 3 rfl rfl)
theorem dX13_bracket_97 : decode cX13_bracket 97 = .ok (.iload_n 3, 1) := dk_29 (dk_at dksX13_bracket_4 4 rfl rfl)
theorem dX13_bracket_98 : decode cX13_bracket 98 = .ok (.invokevirtual 72, 3) := dk_182 0 72 (dk_at dksX13_bracket_4 5 rfl rfl)
theorem dX13_bracket_101 : decode cX13_bracket 101 = .ok (.iload_n 1, 1) := dk_27 (dk_at dksX13_bracket_4 8 rfl rfl)
theorem dX13_bracket_102 : decode cX13_bracket 102 = .ok (.iload_n 3, 1) := dk_29 (dk_at dksX13_bracket_4 9 rfl rfl)
theorem dX13_bracket_103 : decode cX13_bracket 103 = .ok (.ior, 1) := dk_128 (dk_at dksX13_bracket_4 10 rfl rfl)
theorem dX13_bracket_104 : decode cX13_bracket 104 = .ok (.istore_n 1, 1) := dk_60 (dk_at dksX13_bracket_4 11 rfl rfl)
theorem dX13_bracket_105 : decode cX13_bracket 105 = .ok (.goto (-88), 3) := dk_167 255 168 (dk_at dksX13_bracket_4 12 rfl rfl)
theorem dX13_bracket_108 : decode cX13_bracket 108 = .ok (.aload_n 0, 1) := dk_42 (dk_at dksX13_bracket_4 15 rfl rfl)
theorem dX13_bracket_109 : decode cX13_bracket 109 = .ok (.invokevirtual 42, 3) := dk_182 0 42 (dk_at dksX13_bracket_4 16 rfl rfl)
theorem dX13_bracket_112 : decode cX13_bracket 112 = .ok (.iconst 1, 1) := dk_4 (dk_at dksX13_bracket_4 19 rfl rfl)
theorem dX13_bracket_113 : decode cX13_bracket 113 = .ok (.newarray .char, 2) := dk_188_5 (dk_at dksX13_bracket_4 20 rfl rfl)
theorem dX13_bracket_115 : decode cX13_bracket 115 = .ok (.dup, 1) := dk_89 (dk_at dksX13_bracket_4 22 rfl rfl)
theorem dX13_bracket_116 : decode cX13_bracket 116 = .ok (.iconst 0, 1) := dk_3 (dk_at dksX13_bracket_4 23 rfl rfl)
theorem dX13_bracket_117 : decode cX13_bracket 117 = .ok (.bipush 41, 2) := dk_16 41 (dk_at dksX13_bracket_5 0 rfl rfl)
theorem dX13_bracket_119 : decode cX13_bracket 119 = .ok (.castore, 1) := dk_85 (dk_at dksX13_bracket_5 2 rfl rfl)
theorem dX13_bracket_120 : decode cX13_bracket 120 = .ok (.invokestatic 52, 3) := dk_184 0 52 (dk_at dksX13_bracket_5 3 rfl rfl)
theorem dX13_bracket_123 : decode cX13_bracket 123 = .ok (.ifCond .ne 8, 3) := dk_154 0 8 (dk_at dksX13_bracket_5 6 rfl rfl)
theorem dX13_bracket_126 : decode cX13_bracket 126 = .ok (.aload_n 0, 1) := dk_42 (dk_at dksX13_bracket_5 9 rfl rfl)
theorem dX13_bracket_127 : decode cX13_bracket 127 = .ok (.invokevirtual 65, 3) := dk_182 0 65 (dk_at dksX13_bracket_5 10 rfl rfl)
theorem dX13_bracket_130 : decode cX13_bracket 130 = .ok (.athrow, 1) := dk_191 (dk_at dksX13_bracket_5 13 rfl rfl)
theorem dX13_bracket_131 : decode cX13_bracket 131 = .ok (.iload_n 2, 1) := dk_28 (dk_at dksX13_bracket_5 14 rfl rfl)
theorem dX13_bracket_132 : decode cX13_bracket 132 = .ok (.iconst (-1), 1) := dk_2 (dk_at dksX13_bracket_5 15 rfl rfl)
theorem dX13_bracket_133 : decode cX13_bracket 133 = .ok (.if_icmp .ne 16, 3) := dk_160 0 16 (dk_at dksX13_bracket_5 16 rfl rfl)
theorem dX13_bracket_136 : decode cX13_bracket 136 = .ok (.new 40, 3) := dk_187 0 40 (dk_at dksX13_bracket_5 19 rfl rfl)
theorem dX13_bracket_139 : decode cX13_bracket 139 = .ok (.dup, 1) := dk_89 (dk_at dksX13_bracket_5 22 rfl rfl)
theorem dX13_bracket_140 : decode cX13_bracket 140 = .ok (.aload_n 0, 1) := dk_42 (dk_at dksX13_bracket_5 23 rfl rfl)
theorem dX13_bracket_141 : decode cX13_bracket 141 = .ok (.getfield 24, 3) := dk_180 0 24 (dk_at dksX13_bracket_6 0 rfl rfl)
theorem dX13_bracket_144 : decode cX13_bracket 144 = .ok (.iconst 4, 1) := dk_7 (dk_at dksX13_bracket_6 3 rfl rfl)
theorem dX13_bracket_145 : decode cX13_bracket 145 = .ok (.invokespecial 46, 3) := dk_183 0 46 (dk_at dksX13_bracket_6 4 rfl rfl)
theorem dX13_bracket_148 : decode cX13_bracket 148 = .ok (.athrow, 1) := dk_191 (dk_at dksX13_bracket_6 7 rfl rfl)
theorem dX13_bracket_149 : decode cX13_bracket 149 = .ok (.aload_n 0, 1) := dk_42 (dk_at dksX13_bracket_6 8 rfl rfl)
theorem dX13_bracket_150 : decode cX13_bracket 150 = .ok (.dup, 1) := dk_89 (dk_at dksX13_bracket_6 9 rfl rfl)
theorem dX13_bracket_151 : decode cX13_bracket 151 = .ok (.getfield 24, 3) := dk_180 0 24 (dk_at dksX13_bracket_6 10 rfl rfl)
theorem dX13_bracket_154 : decode cX13_bracket 154 = .ok (.iconst 1, 1) := dk_4 (dk_at dksX13_bracket_6 13 rfl rfl)
theorem dX13_bracket_155 : decode cX13_bracket 155 = .ok (.iadd, 1) := dk_96 (dk_at dksX13_bracket_6 14 rfl rfl)
theorem dX13_bracket_156 : decode cX13_bracket 156 = .ok (.putfield 24, 3) := dk_181 0 24 (dk_at dksX13_bracket_6 15 rfl rfl)
theorem dX13_bracket_159 : decode cX13_bracket 159 = .ok (.iload_n 1, 1) := dk_27 (dk_at dksX13_bracket_6 18 rfl rfl)
theorem dX13_bracket_160 : decode cX13_bracket 160 = .ok (.ireturn, 1) := dk_172 (dk_at dksX13_bracket_6 19 rfl rfl)
abbrev cX13_fault : ByteArray := prog_14_method_3_code
def yX13_fault : MethodName := ⟨RX13, "fault", "()LGraphModules$Fault;"⟩
def dkwX13_fault_1 : List UInt8 := [176]
abbrev dktX13_fault_1 : List UInt8 := dkwX13_fault_1 ++ []
def dkwX13_fault_0 : List UInt8 := [187, 0, 40, 89, 42, 180, 0, 24, 42, 182, 0, 42, 2, 160, 0, 7, 8, 167, 0, 4, 4, 183, 0, 46]
abbrev dktX13_fault_0 : List UInt8 := dkwX13_fault_0 ++ dktX13_fault_1
theorem dksX13_fault_0 : cX13_fault.data.toList.drop 0 = dktX13_fault_0 := by decide +kernel
theorem dksX13_fault_1 : cX13_fault.data.toList.drop 24 = dktX13_fault_1 := dk_seg dksX13_fault_0 24 rfl rfl
theorem dX13_fault_0 : decode cX13_fault 0 = .ok (.new 40, 3) := dk_187 0 40 (dk_at dksX13_fault_0 0 rfl rfl)
theorem dX13_fault_3 : decode cX13_fault 3 = .ok (.dup, 1) := dk_89 (dk_at dksX13_fault_0 3 rfl rfl)
theorem dX13_fault_4 : decode cX13_fault 4 = .ok (.aload_n 0, 1) := dk_42 (dk_at dksX13_fault_0 4 rfl rfl)
theorem dX13_fault_5 : decode cX13_fault 5 = .ok (.getfield 24, 3) := dk_180 0 24 (dk_at dksX13_fault_0 5 rfl rfl)
theorem dX13_fault_8 : decode cX13_fault 8 = .ok (.aload_n 0, 1) := dk_42 (dk_at dksX13_fault_0 8 rfl rfl)
theorem dX13_fault_9 : decode cX13_fault 9 = .ok (.invokevirtual 42, 3) := dk_182 0 42 (dk_at dksX13_fault_0 9 rfl rfl)
theorem dX13_fault_12 : decode cX13_fault 12 = .ok (.iconst (-1), 1) := dk_2 (dk_at dksX13_fault_0 12 rfl rfl)
theorem dX13_fault_13 : decode cX13_fault 13 = .ok (.if_icmp .ne 7, 3) := dk_160 0 7 (dk_at dksX13_fault_0 13 rfl rfl)
theorem dX13_fault_16 : decode cX13_fault 16 = .ok (.iconst 5, 1) := dk_8 (dk_at dksX13_fault_0 16 rfl rfl)
theorem dX13_fault_17 : decode cX13_fault 17 = .ok (.goto 4, 3) := dk_167 0 4 (dk_at dksX13_fault_0 17 rfl rfl)
theorem dX13_fault_20 : decode cX13_fault 20 = .ok (.iconst 1, 1) := dk_4 (dk_at dksX13_fault_0 20 rfl rfl)
theorem dX13_fault_21 : decode cX13_fault 21 = .ok (.invokespecial 46, 3) := dk_183 0 46 (dk_at dksX13_fault_0 21 rfl rfl)
theorem dX13_fault_24 : decode cX13_fault 24 = .ok (.areturn, 1) := dk_176 (dk_at dksX13_fault_1 0 rfl rfl)
abbrev cX13_path : ByteArray := prog_14_method_7_code
def yX13_path : MethodName := ⟨RX13, "path", "()I"⟩
def dkwX13_path_5 : List UInt8 := [180, 0, 24, 4, 96, 181, 0, 24, 27, 172]
abbrev dktX13_path_5 : List UInt8 := dkwX13_path_5 ++ []
def dkwX13_path_4 : List UInt8 := [182, 0, 65, 191, 29, 7, 162, 0, 16, 187, 0, 40, 89, 42, 180, 0, 24, 7, 183, 0, 46, 191, 42, 89]
abbrev dktX13_path_4 : List UInt8 := dkwX13_path_4 ++ dktX13_path_5
def dkwX13_path_3 : List UInt8 := [167, 255, 201, 42, 182, 0, 42, 4, 188, 5, 89, 3, 16, 62, 85, 184, 0, 52, 154, 0, 8, 42]
abbrev dktX13_path_3 : List UInt8 := dkwX13_path_3 ++ dktX13_path_4
def dkwX13_path_2 : List UInt8 := [54, 4, 42, 180, 0, 20, 28, 21, 4, 182, 0, 72, 21, 4, 61, 27, 21, 4, 128, 60, 132, 3, 1]
abbrev dktX13_path_2 : List UInt8 := dkwX13_path_2 ++ dktX13_path_3
def dkwX13_path_1 : List UInt8 := [3, 16, 46, 85, 89, 4, 16, 40, 85, 89, 5, 16, 60, 85, 184, 0, 52, 153, 0, 33, 42, 182, 0, 69]
abbrev dktX13_path_1 : List UInt8 := dkwX13_path_1 ++ dktX13_path_2
def dkwX13_path_0 : List UInt8 := [42, 89, 180, 0, 24, 4, 96, 181, 0, 24, 3, 60, 3, 61, 3, 62, 42, 182, 0, 42, 6, 188, 5, 89]
abbrev dktX13_path_0 : List UInt8 := dkwX13_path_0 ++ dktX13_path_1
theorem dksX13_path_0 : cX13_path.data.toList.drop 0 = dktX13_path_0 := by decide +kernel
theorem dksX13_path_1 : cX13_path.data.toList.drop 24 = dktX13_path_1 := dk_seg dksX13_path_0 24 rfl rfl
theorem dksX13_path_2 : cX13_path.data.toList.drop 48 = dktX13_path_2 := dk_seg dksX13_path_1 24 rfl rfl
theorem dksX13_path_3 : cX13_path.data.toList.drop 71 = dktX13_path_3 := dk_seg dksX13_path_2 23 rfl rfl
theorem dksX13_path_4 : cX13_path.data.toList.drop 93 = dktX13_path_4 := dk_seg dksX13_path_3 22 rfl rfl
theorem dksX13_path_5 : cX13_path.data.toList.drop 117 = dktX13_path_5 := dk_seg dksX13_path_4 24 rfl rfl
theorem dX13_path_0 : decode cX13_path 0 = .ok (.aload_n 0, 1) := dk_42 (dk_at dksX13_path_0 0 rfl rfl)
theorem dX13_path_1 : decode cX13_path 1 = .ok (.dup, 1) := dk_89 (dk_at dksX13_path_0 1 rfl rfl)
theorem dX13_path_2 : decode cX13_path 2 = .ok (.getfield 24, 3) := dk_180 0 24 (dk_at dksX13_path_0 2 rfl rfl)
theorem dX13_path_5 : decode cX13_path 5 = .ok (.iconst 1, 1) := dk_4 (dk_at dksX13_path_0 5 rfl rfl)
theorem dX13_path_6 : decode cX13_path 6 = .ok (.iadd, 1) := dk_96 (dk_at dksX13_path_0 6 rfl rfl)
theorem dX13_path_7 : decode cX13_path 7 = .ok (.putfield 24, 3) := dk_181 0 24 (dk_at dksX13_path_0 7 rfl rfl)
theorem dX13_path_10 : decode cX13_path 10 = .ok (.iconst 0, 1) := dk_3 (dk_at dksX13_path_0 10 rfl rfl)
theorem dX13_path_11 : decode cX13_path 11 = .ok (.istore_n 1, 1) := dk_60 (dk_at dksX13_path_0 11 rfl rfl)
theorem dX13_path_12 : decode cX13_path 12 = .ok (.iconst 0, 1) := dk_3 (dk_at dksX13_path_0 12 rfl rfl)
theorem dX13_path_13 : decode cX13_path 13 = .ok (.istore_n 2, 1) := dk_61 (dk_at dksX13_path_0 13 rfl rfl)
theorem dX13_path_14 : decode cX13_path 14 = .ok (.iconst 0, 1) := dk_3 (dk_at dksX13_path_0 14 rfl rfl)
theorem dX13_path_15 : decode cX13_path 15 = .ok (.istore_n 3, 1) := dk_62 (dk_at dksX13_path_0 15 rfl rfl)
theorem dX13_path_16 : decode cX13_path 16 = .ok (.aload_n 0, 1) := dk_42 (dk_at dksX13_path_0 16 rfl rfl)
theorem dX13_path_17 : decode cX13_path 17 = .ok (.invokevirtual 42, 3) := dk_182 0 42 (dk_at dksX13_path_0 17 rfl rfl)
theorem dX13_path_20 : decode cX13_path 20 = .ok (.iconst 3, 1) := dk_6 (dk_at dksX13_path_0 20 rfl rfl)
theorem dX13_path_21 : decode cX13_path 21 = .ok (.newarray .char, 2) := dk_188_5 (dk_at dksX13_path_0 21 rfl rfl)
theorem dX13_path_23 : decode cX13_path 23 = .ok (.dup, 1) := dk_89 (dk_at dksX13_path_0 23 rfl rfl)
theorem dX13_path_24 : decode cX13_path 24 = .ok (.iconst 0, 1) := dk_3 (dk_at dksX13_path_1 0 rfl rfl)
theorem dX13_path_25 : decode cX13_path 25 = .ok (.bipush 46, 2) := dk_16 46 (dk_at dksX13_path_1 1 rfl rfl)
theorem dX13_path_27 : decode cX13_path 27 = .ok (.castore, 1) := dk_85 (dk_at dksX13_path_1 3 rfl rfl)
theorem dX13_path_28 : decode cX13_path 28 = .ok (.dup, 1) := dk_89 (dk_at dksX13_path_1 4 rfl rfl)
theorem dX13_path_29 : decode cX13_path 29 = .ok (.iconst 1, 1) := dk_4 (dk_at dksX13_path_1 5 rfl rfl)
theorem dX13_path_30 : decode cX13_path 30 = .ok (.bipush 40, 2) := dk_16 40 (dk_at dksX13_path_1 6 rfl rfl)
theorem dX13_path_32 : decode cX13_path 32 = .ok (.castore, 1) := dk_85 (dk_at dksX13_path_1 8 rfl rfl)
theorem dX13_path_33 : decode cX13_path 33 = .ok (.dup, 1) := dk_89 (dk_at dksX13_path_1 9 rfl rfl)
theorem dX13_path_34 : decode cX13_path 34 = .ok (.iconst 2, 1) := dk_5 (dk_at dksX13_path_1 10 rfl rfl)
theorem dX13_path_35 : decode cX13_path 35 = .ok (.bipush 60, 2) := dk_16 60 (dk_at dksX13_path_1 11 rfl rfl)
theorem dX13_path_37 : decode cX13_path 37 = .ok (.castore, 1) := dk_85 (dk_at dksX13_path_1 13 rfl rfl)
theorem dX13_path_38 : decode cX13_path 38 = .ok (.invokestatic 52, 3) := dk_184 0 52 (dk_at dksX13_path_1 14 rfl rfl)
theorem dX13_path_41 : decode cX13_path 41 = .ok (.ifCond .eq 33, 3) := dk_153 0 33 (dk_at dksX13_path_1 17 rfl rfl)
theorem dX13_path_44 : decode cX13_path 44 = .ok (.aload_n 0, 1) := dk_42 (dk_at dksX13_path_1 20 rfl rfl)
theorem dX13_path_45 : decode cX13_path 45 = .ok (.invokevirtual 69, 3) := dk_182 0 69 (dk_at dksX13_path_1 21 rfl rfl)
theorem dX13_path_48 : decode cX13_path 48 = .ok (.istore 4, 2) := dk_54 4 (dk_at dksX13_path_2 0 rfl rfl)
theorem dX13_path_50 : decode cX13_path 50 = .ok (.aload_n 0, 1) := dk_42 (dk_at dksX13_path_2 2 rfl rfl)
theorem dX13_path_51 : decode cX13_path 51 = .ok (.getfield 20, 3) := dk_180 0 20 (dk_at dksX13_path_2 3 rfl rfl)
theorem dX13_path_54 : decode cX13_path 54 = .ok (.iload_n 2, 1) := dk_28 (dk_at dksX13_path_2 6 rfl rfl)
theorem dX13_path_55 : decode cX13_path 55 = .ok (.iload 4, 2) := dk_21 4 (dk_at dksX13_path_2 7 rfl rfl)
theorem dX13_path_57 : decode cX13_path 57 = .ok (.invokevirtual 72, 3) := dk_182 0 72 (dk_at dksX13_path_2 9 rfl rfl)
theorem dX13_path_60 : decode cX13_path 60 = .ok (.iload 4, 2) := dk_21 4 (dk_at dksX13_path_2 12 rfl rfl)
theorem dX13_path_62 : decode cX13_path 62 = .ok (.istore_n 2, 1) := dk_61 (dk_at dksX13_path_2 14 rfl rfl)
theorem dX13_path_63 : decode cX13_path 63 = .ok (.iload_n 1, 1) := dk_27 (dk_at dksX13_path_2 15 rfl rfl)
theorem dX13_path_64 : decode cX13_path 64 = .ok (.iload 4, 2) := dk_21 4 (dk_at dksX13_path_2 16 rfl rfl)
theorem dX13_path_66 : decode cX13_path 66 = .ok (.ior, 1) := dk_128 (dk_at dksX13_path_2 18 rfl rfl)
theorem dX13_path_67 : decode cX13_path 67 = .ok (.istore_n 1, 1) := dk_60 (dk_at dksX13_path_2 19 rfl rfl)
theorem dX13_path_68 : decode cX13_path 68 = .ok (.iinc 3 1, 3) := dk_132 3 1 (dk_at dksX13_path_2 20 rfl rfl)
theorem dX13_path_71 : decode cX13_path 71 = .ok (.goto (-55), 3) := dk_167 255 201 (dk_at dksX13_path_3 0 rfl rfl)
theorem dX13_path_74 : decode cX13_path 74 = .ok (.aload_n 0, 1) := dk_42 (dk_at dksX13_path_3 3 rfl rfl)
theorem dX13_path_75 : decode cX13_path 75 = .ok (.invokevirtual 42, 3) := dk_182 0 42 (dk_at dksX13_path_3 4 rfl rfl)
theorem dX13_path_78 : decode cX13_path 78 = .ok (.iconst 1, 1) := dk_4 (dk_at dksX13_path_3 7 rfl rfl)
theorem dX13_path_79 : decode cX13_path 79 = .ok (.newarray .char, 2) := dk_188_5 (dk_at dksX13_path_3 8 rfl rfl)
theorem dX13_path_81 : decode cX13_path 81 = .ok (.dup, 1) := dk_89 (dk_at dksX13_path_3 10 rfl rfl)
theorem dX13_path_82 : decode cX13_path 82 = .ok (.iconst 0, 1) := dk_3 (dk_at dksX13_path_3 11 rfl rfl)
theorem dX13_path_83 : decode cX13_path 83 = .ok (.bipush 62, 2) := dk_16 62 (dk_at dksX13_path_3 12 rfl rfl)
theorem dX13_path_85 : decode cX13_path 85 = .ok (.castore, 1) := dk_85 (dk_at dksX13_path_3 14 rfl rfl)
theorem dX13_path_86 : decode cX13_path 86 = .ok (.invokestatic 52, 3) := dk_184 0 52 (dk_at dksX13_path_3 15 rfl rfl)
theorem dX13_path_89 : decode cX13_path 89 = .ok (.ifCond .ne 8, 3) := dk_154 0 8 (dk_at dksX13_path_3 18 rfl rfl)
theorem dX13_path_92 : decode cX13_path 92 = .ok (.aload_n 0, 1) := dk_42 (dk_at dksX13_path_3 21 rfl rfl)
theorem dX13_path_93 : decode cX13_path 93 = .ok (.invokevirtual 65, 3) := dk_182 0 65 (dk_at dksX13_path_4 0 rfl rfl)
theorem dX13_path_96 : decode cX13_path 96 = .ok (.athrow, 1) := dk_191 (dk_at dksX13_path_4 3 rfl rfl)
theorem dX13_path_97 : decode cX13_path 97 = .ok (.iload_n 3, 1) := dk_29 (dk_at dksX13_path_4 4 rfl rfl)
theorem dX13_path_98 : decode cX13_path 98 = .ok (.iconst 4, 1) := dk_7 (dk_at dksX13_path_4 5 rfl rfl)
theorem dX13_path_99 : decode cX13_path 99 = .ok (.if_icmp .ge 16, 3) := dk_162 0 16 (dk_at dksX13_path_4 6 rfl rfl)
theorem dX13_path_102 : decode cX13_path 102 = .ok (.new 40, 3) := dk_187 0 40 (dk_at dksX13_path_4 9 rfl rfl)
theorem dX13_path_105 : decode cX13_path 105 = .ok (.dup, 1) := dk_89 (dk_at dksX13_path_4 12 rfl rfl)
theorem dX13_path_106 : decode cX13_path 106 = .ok (.aload_n 0, 1) := dk_42 (dk_at dksX13_path_4 13 rfl rfl)
theorem dX13_path_107 : decode cX13_path 107 = .ok (.getfield 24, 3) := dk_180 0 24 (dk_at dksX13_path_4 14 rfl rfl)
theorem dX13_path_110 : decode cX13_path 110 = .ok (.iconst 4, 1) := dk_7 (dk_at dksX13_path_4 17 rfl rfl)
theorem dX13_path_111 : decode cX13_path 111 = .ok (.invokespecial 46, 3) := dk_183 0 46 (dk_at dksX13_path_4 18 rfl rfl)
theorem dX13_path_114 : decode cX13_path 114 = .ok (.athrow, 1) := dk_191 (dk_at dksX13_path_4 21 rfl rfl)
theorem dX13_path_115 : decode cX13_path 115 = .ok (.aload_n 0, 1) := dk_42 (dk_at dksX13_path_4 22 rfl rfl)
theorem dX13_path_116 : decode cX13_path 116 = .ok (.dup, 1) := dk_89 (dk_at dksX13_path_4 23 rfl rfl)
theorem dX13_path_117 : decode cX13_path 117 = .ok (.getfield 24, 3) := dk_180 0 24 (dk_at dksX13_path_5 0 rfl rfl)
theorem dX13_path_120 : decode cX13_path 120 = .ok (.iconst 1, 1) := dk_4 (dk_at dksX13_path_5 3 rfl rfl)
theorem dX13_path_121 : decode cX13_path 121 = .ok (.iadd, 1) := dk_96 (dk_at dksX13_path_5 4 rfl rfl)
theorem dX13_path_122 : decode cX13_path 122 = .ok (.putfield 24, 3) := dk_181 0 24 (dk_at dksX13_path_5 5 rfl rfl)
theorem dX13_path_125 : decode cX13_path 125 = .ok (.iload_n 1, 1) := dk_27 (dk_at dksX13_path_5 8 rfl rfl)
theorem dX13_path_126 : decode cX13_path 126 = .ok (.ireturn, 1) := dk_172 (dk_at dksX13_path_5 9 rfl rfl)
theorem q124 : (Jvm.Cond.initialized "GraphModules$Reader") ∈ lw_all := lw_g (lw_at lw_m1 33 rfl) rfl
theorem q146 : (Jvm.Cond.fieldLinkNest "GraphModules$Reader" (32 : Nat) "GraphModules$Row" "many" "I" "GraphModules") ∈ lw_tbl := lw_at lw_m1 55 rfl
theorem q172 : (Jvm.Cond.fieldLinkNest "GraphModules$Reader" (75 : Nat) "GraphModules$Graph" "near" "[I" "GraphModules") ∈ lw_tbl := lw_at lw_m1 81 rfl
theorem q183 : (Jvm.Cond.fieldLinkNest "GraphModules$Reader" (28 : Nat) "GraphModules" "text" "LGraphModules$Row;" "GraphModules") ∈ lw_tbl := lw_at lw_m1 92 rfl
theorem q574 : (Jvm.Cond.selects "GraphModules$Reader" ({ cls := "java/lang/Object", name := "getClass", desc := "()Ljava/lang/Class;" } : Jvm.MethodName) ({ cls := "java/lang/Object", name := "getClass", desc := "()Ljava/lang/Class;" } : Jvm.MethodName)) ∈ lw_all := lw_g (lw_at lw_m3 3 rfl) rfl
theorem q1090 : (Jvm.Cond.instantiable "GraphModules$Reader" (4 : Nat)) ∈ lw_all := lw_g (lw_at lw_m5 39 rfl) rfl
theorem q1092 : (Jvm.Cond.instanceMethod ({ cls := "GraphModules$Reader", name := "<init>", desc := "(LGraphModules;)V" } : Jvm.MethodName)) ∈ lw_all := lw_g (lw_at lw_m5 41 rfl) rfl
theorem q1093 : (Jvm.Cond.code ({ cls := "GraphModules$Reader", name := "<init>", desc := "(LGraphModules;)V" } : Jvm.MethodName) prog_14_method_1_code (2 : Nat) (Option.none : Option Jvm.ClassFile.FieldType)) ∈ lw_all := lw_g (lw_at lw_m5 42 rfl) rfl
theorem q1094 : (Jvm.Cond.methodLink "GraphModules$Reader" (9 : Nat) ({ cls := "java/lang/Object", name := "<init>", desc := "()V" } : Jvm.MethodName)) ∈ lw_all := lw_g (lw_at lw_m5 43 rfl) rfl
theorem q1095 : (Jvm.Cond.classLink "GraphModules$Reader" (15 : Nat) "GraphModules$Graph") ∈ lw_all := lw_g (lw_at lw_m5 44 rfl) rfl
theorem q1096 : (Jvm.Cond.methodLink "GraphModules$Reader" (17 : Nat) ({ cls := "GraphModules$Graph", name := "<init>", desc := "(I)V" } : Jvm.MethodName)) ∈ lw_all := lw_g (lw_at lw_m5 45 rfl) rfl
theorem q1097 : (Jvm.Cond.fieldLink "GraphModules$Reader" (20 : Nat) "GraphModules$Reader" "read" "LGraphModules$Graph;") ∈ lw_all := lw_g (lw_at lw_m5 46 rfl) rfl
theorem q1098 : (Jvm.Cond.fieldLink "GraphModules$Reader" (24 : Nat) "GraphModules$Reader" "at" "I") ∈ lw_all := lw_g (lw_at lw_m5 47 rfl) rfl
theorem q1099 : (Jvm.Cond.fieldLink "GraphModules$Reader" (49 : Nat) "GraphModules$Reader" "dots" "I") ∈ lw_all := lw_g (lw_at lw_m5 48 rfl) rfl
theorem q1100 : (Jvm.Cond.fieldLink "GraphModules$Reader" (3 : Nat) "GraphModules$Reader" "this$0" "LGraphModules;") ∈ lw_all := lw_g (lw_at lw_m5 49 rfl) rfl
theorem q1101 : (Jvm.Cond.laysFinal "GraphModules$Reader" "GraphModules$Reader" "read" "LGraphModules$Graph;") ∈ lw_all := lw_g (lw_at lw_m5 50 rfl) rfl
theorem q1102 : (Jvm.Cond.soleField "GraphModules$Reader" "read") ∈ lw_all := lw_g (lw_at lw_m5 51 rfl) rfl
theorem q1103 : (Jvm.Cond.lays "GraphModules$Reader" "GraphModules$Reader" "at" "I") ∈ lw_all := lw_g (lw_at lw_m5 52 rfl) rfl
theorem q1104 : (Jvm.Cond.soleField "GraphModules$Reader" "at") ∈ lw_all := lw_g (lw_at lw_m5 53 rfl) rfl
theorem q1105 : (Jvm.Cond.lays "GraphModules$Reader" "GraphModules$Reader" "dots" "I") ∈ lw_all := lw_g (lw_at lw_m5 54 rfl) rfl
theorem q1106 : (Jvm.Cond.soleField "GraphModules$Reader" "dots") ∈ lw_all := lw_g (lw_at lw_m5 55 rfl) rfl
theorem q1107 : (Jvm.Cond.laysFinal "GraphModules$Reader" "GraphModules$Reader" "this$0" "LGraphModules;") ∈ lw_all := lw_g (lw_at lw_m5 56 rfl) rfl
theorem q1108 : (Jvm.Cond.soleField "GraphModules$Reader" "this$0") ∈ lw_all := lw_g (lw_at lw_m5 57 rfl) rfl
theorem q1109 : (Jvm.Cond.superclass "GraphModules$Reader" "java/lang/Object") ∈ lw_all := lw_g (lw_at lw_m5 58 rfl) rfl
theorem q1111 : (Jvm.Cond.instanceMethod ({ cls := "GraphModules$Reader", name := "reads", desc := "()LGraphModules$Graph;" } : Jvm.MethodName)) ∈ lw_all := lw_g (lw_at lw_m5 60 rfl) rfl
theorem q1112 : (Jvm.Cond.selects "GraphModules$Reader" ({ cls := "GraphModules$Reader", name := "reads", desc := "()LGraphModules$Graph;" } : Jvm.MethodName) ({ cls := "GraphModules$Reader", name := "reads", desc := "()LGraphModules$Graph;" } : Jvm.MethodName)) ∈ lw_all := lw_g (lw_at lw_m5 61 rfl) rfl
theorem q1113 : (Jvm.Cond.code ({ cls := "GraphModules$Reader", name := "reads", desc := "()LGraphModules$Graph;" } : Jvm.MethodName) prog_14_method_8_code (2 : Nat) (Option.some (Jvm.ClassFile.FieldType.object "GraphModules$Graph"))) ∈ lw_all := lw_g (lw_at lw_m5 62 rfl) rfl
theorem q1114 : (Jvm.Cond.methodLink "GraphModules$Reader" (69 : Nat) ({ cls := "GraphModules$Reader", name := "graph", desc := "()I" } : Jvm.MethodName)) ∈ lw_all := lw_g (lw_at lw_m5 63 rfl) rfl
theorem q1115 : (Jvm.Cond.privateMethod ({ cls := "GraphModules$Reader", name := "graph", desc := "()I" } : Jvm.MethodName)) ∈ lw_tbl := lw_at lw_m5 64 rfl
theorem q1116 : (Jvm.Cond.instanceMethod ({ cls := "GraphModules$Reader", name := "graph", desc := "()I" } : Jvm.MethodName)) ∈ lw_all := lw_g (lw_at lw_m5 65 rfl) rfl
theorem q1117 : (Jvm.Cond.code ({ cls := "GraphModules$Reader", name := "graph", desc := "()I" } : Jvm.MethodName) prog_14_method_5_code (1 : Nat) (Option.some Jvm.ClassFile.FieldType.int)) ∈ lw_all := lw_g (lw_at lw_m5 66 rfl) rfl
theorem q1118 : (Jvm.Cond.methodLink "GraphModules$Reader" (42 : Nat) ({ cls := "GraphModules$Reader", name := "sign", desc := "()I" } : Jvm.MethodName)) ∈ lw_all := lw_g (lw_at lw_m5 67 rfl) rfl
theorem q1119 : (Jvm.Cond.privateMethod ({ cls := "GraphModules$Reader", name := "sign", desc := "()I" } : Jvm.MethodName)) ∈ lw_tbl := lw_at lw_m5 68 rfl
theorem q1120 : (Jvm.Cond.instanceMethod ({ cls := "GraphModules$Reader", name := "sign", desc := "()I" } : Jvm.MethodName)) ∈ lw_all := lw_g (lw_at lw_m5 69 rfl) rfl
theorem q1121 : (Jvm.Cond.code ({ cls := "GraphModules$Reader", name := "sign", desc := "()I" } : Jvm.MethodName) prog_14_method_2_code (1 : Nat) (Option.some Jvm.ClassFile.FieldType.int)) ∈ lw_all := lw_g (lw_at lw_m5 70 rfl) rfl
theorem q1122 : (Jvm.Cond.methodLink "GraphModules$Reader" (37 : Nat) ({ cls := "GraphModules$Row", name := "at", desc := "(I)J" } : Jvm.MethodName)) ∈ lw_all := lw_g (lw_at lw_m5 71 rfl) rfl
theorem q1123 : (Jvm.Cond.methodLinkNest "GraphModules$Reader" (52 : Nat) ({ cls := "GraphModules", name := "isAny", desc := "(I[C)Z" } : Jvm.MethodName) "GraphModules") ∈ lw_tbl := lw_at lw_m5 72 rfl
theorem q1126 : (Jvm.Cond.methodLink "GraphModules$Reader" (56 : Nat) ({ cls := "GraphModules$Reader", name := "dot", desc := "()I" } : Jvm.MethodName)) ∈ lw_all := lw_g (lw_at lw_m5 75 rfl) rfl
theorem q1127 : (Jvm.Cond.privateMethod ({ cls := "GraphModules$Reader", name := "dot", desc := "()I" } : Jvm.MethodName)) ∈ lw_tbl := lw_at lw_m5 76 rfl
theorem q1128 : (Jvm.Cond.instanceMethod ({ cls := "GraphModules$Reader", name := "dot", desc := "()I" } : Jvm.MethodName)) ∈ lw_all := lw_g (lw_at lw_m5 77 rfl) rfl
theorem q1129 : (Jvm.Cond.code ({ cls := "GraphModules$Reader", name := "dot", desc := "()I" } : Jvm.MethodName) prog_14_method_4_code (1 : Nat) (Option.some Jvm.ClassFile.FieldType.int)) ∈ lw_all := lw_g (lw_at lw_m5 78 rfl) rfl
theorem q1130 : (Jvm.Cond.classLink "GraphModules$Reader" (40 : Nat) "GraphModules$Fault") ∈ lw_all := lw_g (lw_at lw_m5 79 rfl) rfl
theorem q1139 : (Jvm.Cond.methodLink "GraphModules$Reader" (46 : Nat) ({ cls := "GraphModules$Fault", name := "<init>", desc := "(II)V" } : Jvm.MethodName)) ∈ lw_all := lw_g (lw_at lw_m5 88 rfl) rfl
theorem q1159 : (Jvm.Cond.methodLink "GraphModules$Reader" (59 : Nat) ({ cls := "GraphModules$Reader", name := "bracket", desc := "()I" } : Jvm.MethodName)) ∈ lw_all := lw_g (lw_at lw_m5 108 rfl) rfl
theorem q1160 : (Jvm.Cond.privateMethod ({ cls := "GraphModules$Reader", name := "bracket", desc := "()I" } : Jvm.MethodName)) ∈ lw_tbl := lw_at lw_m5 109 rfl
theorem q1161 : (Jvm.Cond.instanceMethod ({ cls := "GraphModules$Reader", name := "bracket", desc := "()I" } : Jvm.MethodName)) ∈ lw_all := lw_g (lw_at lw_m5 110 rfl) rfl
theorem q1162 : (Jvm.Cond.code ({ cls := "GraphModules$Reader", name := "bracket", desc := "()I" } : Jvm.MethodName) prog_14_method_6_code (4 : Nat) (Option.some Jvm.ClassFile.FieldType.int)) ∈ lw_all := lw_g (lw_at lw_m5 111 rfl) rfl
theorem q1163 : (Jvm.Cond.methodLink "GraphModules$Reader" (72 : Nat) ({ cls := "GraphModules$Graph", name := "join", desc := "(II)V" } : Jvm.MethodName)) ∈ lw_all := lw_g (lw_at lw_m5 112 rfl) rfl
theorem q1164 : (Jvm.Cond.methodLink "GraphModules$Reader" (65 : Nat) ({ cls := "GraphModules$Reader", name := "fault", desc := "()LGraphModules$Fault;" } : Jvm.MethodName)) ∈ lw_all := lw_g (lw_at lw_m5 113 rfl) rfl
theorem q1165 : (Jvm.Cond.privateMethod ({ cls := "GraphModules$Reader", name := "fault", desc := "()LGraphModules$Fault;" } : Jvm.MethodName)) ∈ lw_tbl := lw_at lw_m5 114 rfl
theorem q1166 : (Jvm.Cond.instanceMethod ({ cls := "GraphModules$Reader", name := "fault", desc := "()LGraphModules$Fault;" } : Jvm.MethodName)) ∈ lw_all := lw_g (lw_at lw_m5 115 rfl) rfl
theorem q1167 : (Jvm.Cond.code ({ cls := "GraphModules$Reader", name := "fault", desc := "()LGraphModules$Fault;" } : Jvm.MethodName) prog_14_method_3_code (1 : Nat) (Option.some (Jvm.ClassFile.FieldType.object "GraphModules$Fault"))) ∈ lw_all := lw_g (lw_at lw_m5 116 rfl) rfl
theorem q1168 : (Jvm.Cond.methodLink "GraphModules$Reader" (62 : Nat) ({ cls := "GraphModules$Reader", name := "path", desc := "()I" } : Jvm.MethodName)) ∈ lw_all := lw_g (lw_at lw_m5 117 rfl) rfl
theorem q1169 : (Jvm.Cond.privateMethod ({ cls := "GraphModules$Reader", name := "path", desc := "()I" } : Jvm.MethodName)) ∈ lw_tbl := lw_at lw_m5 118 rfl
theorem q1170 : (Jvm.Cond.instanceMethod ({ cls := "GraphModules$Reader", name := "path", desc := "()I" } : Jvm.MethodName)) ∈ lw_all := lw_g (lw_at lw_m5 119 rfl) rfl
theorem q1171 : (Jvm.Cond.code ({ cls := "GraphModules$Reader", name := "path", desc := "()I" } : Jvm.MethodName) prog_14_method_7_code (5 : Nat) (Option.some Jvm.ClassFile.FieldType.int)) ∈ lw_all := lw_g (lw_at lw_m5 120 rfl) rfl
theorem q1172 : (Jvm.Cond.methodLink "GraphModules$Reader" (79 : Nat) ({ cls := "java/lang/System", name := "arraycopy", desc := "(Ljava/lang/Object;ILjava/lang/Object;II)V" } : Jvm.MethodName)) ∈ lw_all := lw_g (lw_at lw_m5 121 rfl) rfl
theorem q1869 : (Jvm.Cond.castable "GraphModules$Reader" "java/lang/Object") ∈ lw_tbl := lw_at lw_m8 98 rfl
theorem in_X13 : ∀ w ∈ wsX130, w ∈ lw_all := lw_in wsX130 [1101, 1103, 1105, 1107] (by decide +kernel) (by decide +kernel)

/-! GraphModules$Fault -/
set_option maxRecDepth 100000
def RX14 : String := "GraphModules$Fault"
def TX14 : u_T := fun k => match k with
  | 0 => ("java/lang/Throwable", "cause", "Ljava/lang/Throwable;", false)
  | 1 => ("java/lang/Throwable", "stackTrace", "[Ljava/lang/StackTraceElement;", false)
  | 2 => ("java/lang/Throwable", "suppressedExceptions", "Ljava/util/List;", false)
  | 3 => ("java/lang/Throwable", "detailMessage", "Ljava/lang/String;", false)
  | 4 => ("java/lang/Throwable", "backtrace", "Ljava/lang/Object;", false)
  | 5 => ("java/lang/Throwable", "depth", "I", false)
  | 6 => ("GraphModules$Fault", "place", "I", true)
  | _ => ("GraphModules$Fault", "reason", "I", true)
def tyX14 : Nat → FieldType := fun k => match k with
  | 0 => .object "java/lang/Throwable"
  | 1 => .array (.object "java/lang/StackTraceElement")
  | 2 => .object "java/util/List"
  | 3 => .object "java/lang/String"
  | 4 => .object "java/lang/Object"
  | 5 => .int
  | 6 => .int
  | _ => .int
abbrev wsX140 : List Cond := u_ws RX14 TX14 8
theorem nmX14 : ∀ a, a < 8 → ∀ b, b < 8 → a ≠ b → (TX14 a).2.1 ≠ (TX14 b).2.1 := by decide +kernel
theorem tyX14_ok : ∀ k, k < 8 → parseFieldDescriptor (TX14 k).2.2.1 = some (tyX14 k) := by decide +kernel
abbrev cX14_init : ByteArray := prog_2_method_1_code
def yX14_init : MethodName := ⟨RX14, "<init>", "(II)V"⟩
def dkwX14_init_0 : List UInt8 := [42, 1, 1, 3, 3, 183, 0, 1, 42, 27, 181, 0, 7, 42, 28, 181, 0, 13, 177]
abbrev dktX14_init_0 : List UInt8 := dkwX14_init_0 ++ []
theorem dksX14_init_0 : cX14_init.data.toList.drop 0 = dktX14_init_0 := by decide +kernel
theorem dX14_init_0 : decode cX14_init 0 = .ok (.aload_n 0, 1) := dk_42 (dk_at dksX14_init_0 0 rfl rfl)
theorem dX14_init_1 : decode cX14_init 1 = .ok (.aconst_null, 1) := dk_1 (dk_at dksX14_init_0 1 rfl rfl)
theorem dX14_init_2 : decode cX14_init 2 = .ok (.aconst_null, 1) := dk_1 (dk_at dksX14_init_0 2 rfl rfl)
theorem dX14_init_3 : decode cX14_init 3 = .ok (.iconst 0, 1) := dk_3 (dk_at dksX14_init_0 3 rfl rfl)
theorem dX14_init_4 : decode cX14_init 4 = .ok (.iconst 0, 1) := dk_3 (dk_at dksX14_init_0 4 rfl rfl)
theorem dX14_init_5 : decode cX14_init 5 = .ok (.invokespecial 1, 3) := dk_183 0 1 (dk_at dksX14_init_0 5 rfl rfl)
theorem dX14_init_8 : decode cX14_init 8 = .ok (.aload_n 0, 1) := dk_42 (dk_at dksX14_init_0 8 rfl rfl)
theorem dX14_init_9 : decode cX14_init 9 = .ok (.iload_n 1, 1) := dk_27 (dk_at dksX14_init_0 9 rfl rfl)
theorem dX14_init_10 : decode cX14_init 10 = .ok (.putfield 7, 3) := dk_181 0 7 (dk_at dksX14_init_0 10 rfl rfl)
theorem dX14_init_13 : decode cX14_init 13 = .ok (.aload_n 0, 1) := dk_42 (dk_at dksX14_init_0 13 rfl rfl)
theorem dX14_init_14 : decode cX14_init 14 = .ok (.iload_n 2, 1) := dk_28 (dk_at dksX14_init_0 14 rfl rfl)
theorem dX14_init_15 : decode cX14_init 15 = .ok (.putfield 13, 3) := dk_181 0 13 (dk_at dksX14_init_0 15 rfl rfl)
theorem dX14_init_18 : decode cX14_init 18 = .ok (.return_, 1) := dk_177 (dk_at dksX14_init_0 18 rfl rfl)
theorem q125 : (Jvm.Cond.initialized "GraphModules$Fault") ∈ lw_all := lw_g (lw_at lw_m1 34 rfl) rfl
theorem q271 : (Jvm.Cond.selects "GraphModules$Fault" ({ cls := "java/lang/Throwable", name := "fillInStackTrace", desc := "()Ljava/lang/Throwable;" } : Jvm.MethodName) ({ cls := "java/lang/Throwable", name := "fillInStackTrace", desc := "()Ljava/lang/Throwable;" } : Jvm.MethodName)) ∈ lw_all := lw_g (lw_at lw_m1 180 rfl) rfl
theorem q563 : (Jvm.Cond.selects "GraphModules$Fault" ({ cls := "java/lang/Object", name := "getClass", desc := "()Ljava/lang/Class;" } : Jvm.MethodName) ({ cls := "java/lang/Object", name := "getClass", desc := "()Ljava/lang/Class;" } : Jvm.MethodName)) ∈ lw_all := lw_g (lw_at lw_m2 232 rfl) rfl
theorem q1131 : (Jvm.Cond.instantiable "GraphModules$Fault" (8 : Nat)) ∈ lw_all := lw_g (lw_at lw_m5 80 rfl) rfl
theorem q1132 : (Jvm.Cond.castable "GraphModules$Fault" "GraphModules$Fault") ∈ lw_tbl := lw_at lw_m5 81 rfl
theorem q1133 : (Jvm.Cond.selects "GraphModules$Fault" ({ cls := "java/lang/Throwable", name := "fillInStackTrace", desc := "(I)Ljava/lang/Throwable;" } : Jvm.MethodName) ({ cls := "java/lang/Throwable", name := "fillInStackTrace", desc := "(I)Ljava/lang/Throwable;" } : Jvm.MethodName)) ∈ lw_all := lw_g (lw_at lw_m5 82 rfl) rfl
theorem q1134 : (Jvm.Cond.lays "GraphModules$Fault" "java/lang/Throwable" "cause" "Ljava/lang/Throwable;") ∈ lw_all := lw_g (lw_at lw_m5 83 rfl) rfl
theorem q1135 : (Jvm.Cond.lays "GraphModules$Fault" "java/lang/Throwable" "stackTrace" "[Ljava/lang/StackTraceElement;") ∈ lw_all := lw_g (lw_at lw_m5 84 rfl) rfl
theorem q1136 : (Jvm.Cond.lays "GraphModules$Fault" "java/lang/Throwable" "suppressedExceptions" "Ljava/util/List;") ∈ lw_all := lw_g (lw_at lw_m5 85 rfl) rfl
theorem q1137 : (Jvm.Cond.lays "GraphModules$Fault" "java/lang/Throwable" "detailMessage" "Ljava/lang/String;") ∈ lw_all := lw_g (lw_at lw_m5 86 rfl) rfl
theorem q1138 : (Jvm.Cond.lays "GraphModules$Fault" "java/lang/Throwable" "backtrace" "Ljava/lang/Object;") ∈ lw_all := lw_g (lw_at lw_m5 87 rfl) rfl
theorem q1140 : (Jvm.Cond.instanceMethod ({ cls := "GraphModules$Fault", name := "<init>", desc := "(II)V" } : Jvm.MethodName)) ∈ lw_all := lw_g (lw_at lw_m5 89 rfl) rfl
theorem q1141 : (Jvm.Cond.code ({ cls := "GraphModules$Fault", name := "<init>", desc := "(II)V" } : Jvm.MethodName) prog_2_method_1_code (3 : Nat) (Option.none : Option Jvm.ClassFile.FieldType)) ∈ lw_all := lw_g (lw_at lw_m5 90 rfl) rfl
theorem q1142 : (Jvm.Cond.methodLink "GraphModules$Fault" (1 : Nat) ({ cls := "java/lang/Exception", name := "<init>", desc := "(Ljava/lang/String;Ljava/lang/Throwable;ZZ)V" } : Jvm.MethodName)) ∈ lw_all := lw_g (lw_at lw_m5 91 rfl) rfl
theorem q1148 : (Jvm.Cond.fieldLink "GraphModules$Fault" (7 : Nat) "GraphModules$Fault" "place" "I") ∈ lw_all := lw_g (lw_at lw_m5 97 rfl) rfl
theorem q1150 : (Jvm.Cond.fieldLink "GraphModules$Fault" (13 : Nat) "GraphModules$Fault" "reason" "I") ∈ lw_all := lw_g (lw_at lw_m5 99 rfl) rfl
theorem q1152 : (Jvm.Cond.laysFinal "GraphModules$Fault" "GraphModules$Fault" "place" "I") ∈ lw_all := lw_g (lw_at lw_m5 101 rfl) rfl
theorem q1153 : (Jvm.Cond.soleField "GraphModules$Fault" "place") ∈ lw_all := lw_g (lw_at lw_m5 102 rfl) rfl
theorem q1154 : (Jvm.Cond.laysFinal "GraphModules$Fault" "GraphModules$Fault" "reason" "I") ∈ lw_all := lw_g (lw_at lw_m5 103 rfl) rfl
theorem q1155 : (Jvm.Cond.soleField "GraphModules$Fault" "reason") ∈ lw_all := lw_g (lw_at lw_m5 104 rfl) rfl
theorem q1156 : (Jvm.Cond.lays "GraphModules$Fault" "java/lang/Throwable" "depth" "I") ∈ lw_all := lw_g (lw_at lw_m5 105 rfl) rfl
theorem q1157 : (Jvm.Cond.superclass "GraphModules$Fault" "java/lang/Exception") ∈ lw_all := lw_g (lw_at lw_m5 106 rfl) rfl
theorem q1870 : (Jvm.Cond.castable "GraphModules$Fault" "java/lang/Object") ∈ lw_tbl := lw_at lw_m8 99 rfl
theorem in_X14 : ∀ w ∈ wsX140, w ∈ lw_all := lw_in wsX140 [1134, 1135, 1136, 1137, 1138, 1156, 1152, 1154] (by decide +kernel) (by decide +kernel)

/-! GraphModules$Kind$1 -/
set_option maxRecDepth 100000
def RX15 : String := "GraphModules$Kind$1"
abbrev cX15_isModule : ByteArray := prog_8_method_2_code
def yX15_isModule : MethodName := ⟨RX15, "isModule", "(II)Z"⟩
def dkwX15_isModule_0 : List UInt8 := [27, 28, 160, 0, 7, 4, 167, 0, 4, 3, 172]
abbrev dktX15_isModule_0 : List UInt8 := dkwX15_isModule_0 ++ []
theorem dksX15_isModule_0 : cX15_isModule.data.toList.drop 0 = dktX15_isModule_0 := by decide +kernel
theorem dX15_isModule_0 : decode cX15_isModule 0 = .ok (.iload_n 1, 1) := dk_27 (dk_at dksX15_isModule_0 0 rfl rfl)
theorem dX15_isModule_1 : decode cX15_isModule 1 = .ok (.iload_n 2, 1) := dk_28 (dk_at dksX15_isModule_0 1 rfl rfl)
theorem dX15_isModule_2 : decode cX15_isModule 2 = .ok (.if_icmp .ne 7, 3) := dk_160 0 7 (dk_at dksX15_isModule_0 2 rfl rfl)
theorem dX15_isModule_5 : decode cX15_isModule 5 = .ok (.iconst 1, 1) := dk_4 (dk_at dksX15_isModule_0 5 rfl rfl)
theorem dX15_isModule_6 : decode cX15_isModule 6 = .ok (.goto 4, 3) := dk_167 0 4 (dk_at dksX15_isModule_0 6 rfl rfl)
theorem dX15_isModule_9 : decode cX15_isModule 9 = .ok (.iconst 0, 1) := dk_3 (dk_at dksX15_isModule_0 9 rfl rfl)
theorem dX15_isModule_10 : decode cX15_isModule 10 = .ok (.ireturn, 1) := dk_172 (dk_at dksX15_isModule_0 10 rfl rfl)
theorem q568 : (Jvm.Cond.selects "GraphModules$Kind$1" ({ cls := "java/lang/Object", name := "getClass", desc := "()Ljava/lang/Class;" } : Jvm.MethodName) ({ cls := "java/lang/Object", name := "getClass", desc := "()Ljava/lang/Class;" } : Jvm.MethodName)) ∈ lw_all := lw_g (lw_at lw_m2 237 rfl) rfl
theorem q704 : (Jvm.Cond.selects "GraphModules$Kind$1" ({ cls := "GraphModules$Kind", name := "isModule", desc := "(II)Z" } : Jvm.MethodName) ({ cls := "GraphModules$Kind$1", name := "isModule", desc := "(II)Z" } : Jvm.MethodName)) ∈ lw_all := lw_g (lw_at lw_m3 133 rfl) rfl
theorem q705 : (Jvm.Cond.instanceMethod ({ cls := "GraphModules$Kind$1", name := "isModule", desc := "(II)Z" } : Jvm.MethodName)) ∈ lw_all := lw_g (lw_at lw_m3 134 rfl) rfl
theorem q706 : (Jvm.Cond.code ({ cls := "GraphModules$Kind$1", name := "isModule", desc := "(II)Z" } : Jvm.MethodName) prog_8_method_2_code (3 : Nat) (Option.some Jvm.ClassFile.FieldType.boolean)) ∈ lw_all := lw_g (lw_at lw_m3 135 rfl) rfl
theorem q877 : (Jvm.Cond.selects "GraphModules$Kind$1" ({ cls := "GraphModules$Kind", name := "ordinal", desc := "()I" } : Jvm.MethodName) ({ cls := "java/lang/Enum", name := "ordinal", desc := "()I" } : Jvm.MethodName)) ∈ lw_all := lw_g (lw_at lw_m4 66 rfl) rfl
theorem q1342 : (Jvm.Cond.selects "GraphModules$Kind$1" ({ cls := "GraphModules$Kind", name := "sign", desc := "()C" } : Jvm.MethodName) ({ cls := "GraphModules$Kind", name := "sign", desc := "()C" } : Jvm.MethodName)) ∈ lw_all := lw_g (lw_at lw_m6 51 rfl) rfl
theorem q1865 : (Jvm.Cond.castable "GraphModules$Kind$1" "java/lang/Object") ∈ lw_tbl := lw_at lw_m8 94 rfl

/-! GraphModules$Kind$2 -/
set_option maxRecDepth 100000
def RX16 : String := "GraphModules$Kind$2"
abbrev cX16_isModule : ByteArray := prog_9_method_2_code
def yX16_isModule : MethodName := ⟨RX16, "isModule", "(II)Z"⟩
def dkwX16_isModule_0 : List UInt8 := [27, 4, 164, 0, 7, 4, 167, 0, 4, 3, 172]
abbrev dktX16_isModule_0 : List UInt8 := dkwX16_isModule_0 ++ []
theorem dksX16_isModule_0 : cX16_isModule.data.toList.drop 0 = dktX16_isModule_0 := by decide +kernel
theorem dX16_isModule_0 : decode cX16_isModule 0 = .ok (.iload_n 1, 1) := dk_27 (dk_at dksX16_isModule_0 0 rfl rfl)
theorem dX16_isModule_1 : decode cX16_isModule 1 = .ok (.iconst 1, 1) := dk_4 (dk_at dksX16_isModule_0 1 rfl rfl)
theorem dX16_isModule_2 : decode cX16_isModule 2 = .ok (.if_icmp .le 7, 3) := dk_164 0 7 (dk_at dksX16_isModule_0 2 rfl rfl)
theorem dX16_isModule_5 : decode cX16_isModule 5 = .ok (.iconst 1, 1) := dk_4 (dk_at dksX16_isModule_0 5 rfl rfl)
theorem dX16_isModule_6 : decode cX16_isModule 6 = .ok (.goto 4, 3) := dk_167 0 4 (dk_at dksX16_isModule_0 6 rfl rfl)
theorem dX16_isModule_9 : decode cX16_isModule 9 = .ok (.iconst 0, 1) := dk_3 (dk_at dksX16_isModule_0 9 rfl rfl)
theorem dX16_isModule_10 : decode cX16_isModule 10 = .ok (.ireturn, 1) := dk_172 (dk_at dksX16_isModule_0 10 rfl rfl)
abbrev cX16_sign : ByteArray := prog_9_method_3_code
def yX16_sign : MethodName := ⟨RX16, "sign", "()C"⟩
theorem dX16_sign_0 : decode cX16_sign 0 = .ok (.bipush 43, 2) := by decide +kernel
theorem dX16_sign_2 : decode cX16_sign 2 = .ok (.ireturn, 1) := by decide +kernel
theorem q569 : (Jvm.Cond.selects "GraphModules$Kind$2" ({ cls := "java/lang/Object", name := "getClass", desc := "()Ljava/lang/Class;" } : Jvm.MethodName) ({ cls := "java/lang/Object", name := "getClass", desc := "()Ljava/lang/Class;" } : Jvm.MethodName)) ∈ lw_all := lw_g (lw_at lw_m2 238 rfl) rfl
theorem q707 : (Jvm.Cond.selects "GraphModules$Kind$2" ({ cls := "GraphModules$Kind", name := "isModule", desc := "(II)Z" } : Jvm.MethodName) ({ cls := "GraphModules$Kind$2", name := "isModule", desc := "(II)Z" } : Jvm.MethodName)) ∈ lw_all := lw_g (lw_at lw_m3 136 rfl) rfl
theorem q708 : (Jvm.Cond.instanceMethod ({ cls := "GraphModules$Kind$2", name := "isModule", desc := "(II)Z" } : Jvm.MethodName)) ∈ lw_all := lw_g (lw_at lw_m3 137 rfl) rfl
theorem q709 : (Jvm.Cond.code ({ cls := "GraphModules$Kind$2", name := "isModule", desc := "(II)Z" } : Jvm.MethodName) prog_9_method_2_code (3 : Nat) (Option.some Jvm.ClassFile.FieldType.boolean)) ∈ lw_all := lw_g (lw_at lw_m3 138 rfl) rfl
theorem q878 : (Jvm.Cond.selects "GraphModules$Kind$2" ({ cls := "GraphModules$Kind", name := "ordinal", desc := "()I" } : Jvm.MethodName) ({ cls := "java/lang/Enum", name := "ordinal", desc := "()I" } : Jvm.MethodName)) ∈ lw_all := lw_g (lw_at lw_m4 67 rfl) rfl
theorem q1343 : (Jvm.Cond.selects "GraphModules$Kind$2" ({ cls := "GraphModules$Kind", name := "sign", desc := "()C" } : Jvm.MethodName) ({ cls := "GraphModules$Kind$2", name := "sign", desc := "()C" } : Jvm.MethodName)) ∈ lw_all := lw_g (lw_at lw_m6 52 rfl) rfl
theorem q1344 : (Jvm.Cond.instanceMethod ({ cls := "GraphModules$Kind$2", name := "sign", desc := "()C" } : Jvm.MethodName)) ∈ lw_all := lw_g (lw_at lw_m6 53 rfl) rfl
theorem q1345 : (Jvm.Cond.code ({ cls := "GraphModules$Kind$2", name := "sign", desc := "()C" } : Jvm.MethodName) prog_9_method_3_code (1 : Nat) (Option.some Jvm.ClassFile.FieldType.char)) ∈ lw_all := lw_g (lw_at lw_m6 54 rfl) rfl
theorem q1861 : (Jvm.Cond.castable "GraphModules$Kind$2" "java/lang/Object") ∈ lw_tbl := lw_at lw_m8 90 rfl

/-! GraphModules$Graph -/
set_option maxRecDepth 100000
def RX2 : String := "GraphModules$Graph"
def TX2 : u_T := fun k => match k with
  | 0 => ("GraphModules$Graph", "vertices", "I", true)
  | _ => ("GraphModules$Graph", "near", "[I", true)
def tyX2 : Nat → FieldType := fun k => match k with
  | 0 => .int
  | _ => .array .int
abbrev wsX20 : List Cond := u_ws RX2 TX2 2
theorem nmX2 : ∀ a, a < 2 → ∀ b, b < 2 → a ≠ b → (TX2 a).2.1 ≠ (TX2 b).2.1 := by decide +kernel
theorem tyX2_ok : ∀ k, k < 2 → parseFieldDescriptor (TX2 k).2.2.1 = some (tyX2 k) := by decide +kernel
abbrev cX2_init : ByteArray := prog_5_method_1_code
def yX2_init : MethodName := ⟨RX2, "<init>", "(I)V"⟩
def dkwX2_init_0 : List UInt8 := [42, 183, 0, 3, 42, 16, 10, 188, 10, 181, 0, 9, 42, 27, 181, 0, 15, 177]
abbrev dktX2_init_0 : List UInt8 := dkwX2_init_0 ++ []
theorem dksX2_init_0 : cX2_init.data.toList.drop 0 = dktX2_init_0 := by decide +kernel
theorem dX2_init_0 : decode cX2_init 0 = .ok (.aload_n 0, 1) := dk_42 (dk_at dksX2_init_0 0 rfl rfl)
theorem dX2_init_1 : decode cX2_init 1 = .ok (.invokespecial 3, 3) := dk_183 0 3 (dk_at dksX2_init_0 1 rfl rfl)
theorem dX2_init_4 : decode cX2_init 4 = .ok (.aload_n 0, 1) := dk_42 (dk_at dksX2_init_0 4 rfl rfl)
theorem dX2_init_5 : decode cX2_init 5 = .ok (.bipush 10, 2) := dk_16 10 (dk_at dksX2_init_0 5 rfl rfl)
theorem dX2_init_7 : decode cX2_init 7 = .ok (.newarray .int, 2) := dk_188_10 (dk_at dksX2_init_0 7 rfl rfl)
theorem dX2_init_9 : decode cX2_init 9 = .ok (.putfield 9, 3) := dk_181 0 9 (dk_at dksX2_init_0 9 rfl rfl)
theorem dX2_init_12 : decode cX2_init 12 = .ok (.aload_n 0, 1) := dk_42 (dk_at dksX2_init_0 12 rfl rfl)
theorem dX2_init_13 : decode cX2_init 13 = .ok (.iload_n 1, 1) := dk_27 (dk_at dksX2_init_0 13 rfl rfl)
theorem dX2_init_14 : decode cX2_init 14 = .ok (.putfield 15, 3) := dk_181 0 15 (dk_at dksX2_init_0 14 rfl rfl)
theorem dX2_init_17 : decode cX2_init 17 = .ok (.return_, 1) := dk_177 (dk_at dksX2_init_0 17 rfl rfl)
abbrev cX2_packed : ByteArray := prog_5_method_3_code
def yX2_packed : MethodName := ⟨RX2, "packed", "()J"⟩
def dkwX2_packed_2 : List UInt8 := [167, 255, 228, 132, 3, 255, 167, 255, 213, 31, 7, 121, 42, 180, 0, 15, 133, 129, 173]
abbrev dktX2_packed_2 : List UInt8 := dkwX2_packed_2 ++ []
def dkwX2_packed_1 : List UInt8 := [4, 121, 42, 29, 21, 4, 182, 0, 28, 153, 0, 7, 10, 167, 0, 4, 9, 129, 64, 132, 4, 255]
abbrev dktX2_packed_1 : List UInt8 := dkwX2_packed_1 ++ dktX2_packed_2
def dkwX2_packed_0 : List UInt8 := [9, 64, 42, 180, 0, 15, 4, 100, 62, 29, 155, 0, 45, 29, 4, 100, 54, 4, 21, 4, 155, 0, 29, 31]
abbrev dktX2_packed_0 : List UInt8 := dkwX2_packed_0 ++ dktX2_packed_1
theorem dksX2_packed_0 : cX2_packed.data.toList.drop 0 = dktX2_packed_0 := by decide +kernel
theorem dksX2_packed_1 : cX2_packed.data.toList.drop 24 = dktX2_packed_1 := dk_seg dksX2_packed_0 24 rfl rfl
theorem dksX2_packed_2 : cX2_packed.data.toList.drop 46 = dktX2_packed_2 := dk_seg dksX2_packed_1 22 rfl rfl
theorem dX2_packed_0 : decode cX2_packed 0 = .ok (.lconst 0, 1) := dk_9 (dk_at dksX2_packed_0 0 rfl rfl)
theorem dX2_packed_1 : decode cX2_packed 1 = .ok (.lstore_n 1, 1) := dk_64 (dk_at dksX2_packed_0 1 rfl rfl)
theorem dX2_packed_2 : decode cX2_packed 2 = .ok (.aload_n 0, 1) := dk_42 (dk_at dksX2_packed_0 2 rfl rfl)
theorem dX2_packed_3 : decode cX2_packed 3 = .ok (.getfield 15, 3) := dk_180 0 15 (dk_at dksX2_packed_0 3 rfl rfl)
theorem dX2_packed_6 : decode cX2_packed 6 = .ok (.iconst 1, 1) := dk_4 (dk_at dksX2_packed_0 6 rfl rfl)
theorem dX2_packed_7 : decode cX2_packed 7 = .ok (.isub, 1) := dk_100 (dk_at dksX2_packed_0 7 rfl rfl)
theorem dX2_packed_8 : decode cX2_packed 8 = .ok (.istore_n 3, 1) := dk_62 (dk_at dksX2_packed_0 8 rfl rfl)
theorem dX2_packed_9 : decode cX2_packed 9 = .ok (.iload_n 3, 1) := dk_29 (dk_at dksX2_packed_0 9 rfl rfl)
theorem dX2_packed_10 : decode cX2_packed 10 = .ok (.ifCond .lt 45, 3) := dk_155 0 45 (dk_at dksX2_packed_0 10 rfl rfl)
theorem dX2_packed_13 : decode cX2_packed 13 = .ok (.iload_n 3, 1) := dk_29 (dk_at dksX2_packed_0 13 rfl rfl)
theorem dX2_packed_14 : decode cX2_packed 14 = .ok (.iconst 1, 1) := dk_4 (dk_at dksX2_packed_0 14 rfl rfl)
theorem dX2_packed_15 : decode cX2_packed 15 = .ok (.isub, 1) := dk_100 (dk_at dksX2_packed_0 15 rfl rfl)
theorem dX2_packed_16 : decode cX2_packed 16 = .ok (.istore 4, 2) := dk_54 4 (dk_at dksX2_packed_0 16 rfl rfl)
theorem dX2_packed_18 : decode cX2_packed 18 = .ok (.iload 4, 2) := dk_21 4 (dk_at dksX2_packed_0 18 rfl rfl)
theorem dX2_packed_20 : decode cX2_packed 20 = .ok (.ifCond .lt 29, 3) := dk_155 0 29 (dk_at dksX2_packed_0 20 rfl rfl)
theorem dX2_packed_23 : decode cX2_packed 23 = .ok (.lload_n 1, 1) := dk_31 (dk_at dksX2_packed_0 23 rfl rfl)
theorem dX2_packed_24 : decode cX2_packed 24 = .ok (.iconst 1, 1) := dk_4 (dk_at dksX2_packed_1 0 rfl rfl)
theorem dX2_packed_25 : decode cX2_packed 25 = .ok (.lshl, 1) := dk_121 (dk_at dksX2_packed_1 1 rfl rfl)
theorem dX2_packed_26 : decode cX2_packed 26 = .ok (.aload_n 0, 1) := dk_42 (dk_at dksX2_packed_1 2 rfl rfl)
theorem dX2_packed_27 : decode cX2_packed 27 = .ok (.iload_n 3, 1) := dk_29 (dk_at dksX2_packed_1 3 rfl rfl)
theorem dX2_packed_28 : decode cX2_packed 28 = .ok (.iload 4, 2) := dk_21 4 (dk_at dksX2_packed_1 4 rfl rfl)
theorem dX2_packed_30 : decode cX2_packed 30 = .ok (.invokevirtual 28, 3) := dk_182 0 28 (dk_at dksX2_packed_1 6 rfl rfl)
theorem dX2_packed_33 : decode cX2_packed 33 = .ok (.ifCond .eq 7, 3) := dk_153 0 7 (dk_at dksX2_packed_1 9 rfl rfl)
theorem dX2_packed_36 : decode cX2_packed 36 = .ok (.lconst 1, 1) := dk_10 (dk_at dksX2_packed_1 12 rfl rfl)
theorem dX2_packed_37 : decode cX2_packed 37 = .ok (.goto 4, 3) := dk_167 0 4 (dk_at dksX2_packed_1 13 rfl rfl)
theorem dX2_packed_40 : decode cX2_packed 40 = .ok (.lconst 0, 1) := dk_9 (dk_at dksX2_packed_1 16 rfl rfl)
theorem dX2_packed_41 : decode cX2_packed 41 = .ok (.lor, 1) := dk_129 (dk_at dksX2_packed_1 17 rfl rfl)
theorem dX2_packed_42 : decode cX2_packed 42 = .ok (.lstore_n 1, 1) := dk_64 (dk_at dksX2_packed_1 18 rfl rfl)
theorem dX2_packed_43 : decode cX2_packed 43 = .ok (.iinc 4 (-1), 3) := dk_132 4 255 (dk_at dksX2_packed_1 19 rfl rfl)
theorem dX2_packed_46 : decode cX2_packed 46 = .ok (.goto (-28), 3) := dk_167 255 228 (dk_at dksX2_packed_2 0 rfl rfl)
theorem dX2_packed_49 : decode cX2_packed 49 = .ok (.iinc 3 (-1), 3) := dk_132 3 255 (dk_at dksX2_packed_2 3 rfl rfl)
theorem dX2_packed_52 : decode cX2_packed 52 = .ok (.goto (-43), 3) := dk_167 255 213 (dk_at dksX2_packed_2 6 rfl rfl)
theorem dX2_packed_55 : decode cX2_packed 55 = .ok (.lload_n 1, 1) := dk_31 (dk_at dksX2_packed_2 9 rfl rfl)
theorem dX2_packed_56 : decode cX2_packed 56 = .ok (.iconst 4, 1) := dk_7 (dk_at dksX2_packed_2 10 rfl rfl)
theorem dX2_packed_57 : decode cX2_packed 57 = .ok (.lshl, 1) := dk_121 (dk_at dksX2_packed_2 11 rfl rfl)
theorem dX2_packed_58 : decode cX2_packed 58 = .ok (.aload_n 0, 1) := dk_42 (dk_at dksX2_packed_2 12 rfl rfl)
theorem dX2_packed_59 : decode cX2_packed 59 = .ok (.getfield 15, 3) := dk_180 0 15 (dk_at dksX2_packed_2 13 rfl rfl)
theorem dX2_packed_62 : decode cX2_packed 62 = .ok (.i2l, 1) := dk_133 (dk_at dksX2_packed_2 16 rfl rfl)
theorem dX2_packed_63 : decode cX2_packed 63 = .ok (.lor, 1) := dk_129 (dk_at dksX2_packed_2 17 rfl rfl)
theorem dX2_packed_64 : decode cX2_packed 64 = .ok (.lreturn, 1) := dk_173 (dk_at dksX2_packed_2 18 rfl rfl)
abbrev cX2_linked : ByteArray := prog_5_method_4_code
def yX2_linked : MethodName := ⟨RX2, "linked", "(II)Z"⟩
def dkwX2_linked_0 : List UInt8 := [42, 180, 0, 9, 27, 46, 28, 184, 0, 32, 172]
abbrev dktX2_linked_0 : List UInt8 := dkwX2_linked_0 ++ []
theorem dksX2_linked_0 : cX2_linked.data.toList.drop 0 = dktX2_linked_0 := by decide +kernel
theorem dX2_linked_0 : decode cX2_linked 0 = .ok (.aload_n 0, 1) := dk_42 (dk_at dksX2_linked_0 0 rfl rfl)
theorem dX2_linked_1 : decode cX2_linked 1 = .ok (.getfield 9, 3) := dk_180 0 9 (dk_at dksX2_linked_0 1 rfl rfl)
theorem dX2_linked_4 : decode cX2_linked 4 = .ok (.iload_n 1, 1) := dk_27 (dk_at dksX2_linked_0 4 rfl rfl)
theorem dX2_linked_5 : decode cX2_linked 5 = .ok (.iaload, 1) := dk_46 (dk_at dksX2_linked_0 5 rfl rfl)
theorem dX2_linked_6 : decode cX2_linked 6 = .ok (.iload_n 2, 1) := dk_28 (dk_at dksX2_linked_0 6 rfl rfl)
theorem dX2_linked_7 : decode cX2_linked 7 = .ok (.invokestatic 32, 3) := dk_184 0 32 (dk_at dksX2_linked_0 7 rfl rfl)
theorem dX2_linked_10 : decode cX2_linked 10 = .ok (.ireturn, 1) := dk_172 (dk_at dksX2_linked_0 10 rfl rfl)
abbrev cX2_set : ByteArray := prog_5_method_5_code
def yX2_set : MethodName := ⟨RX2, "set", "(IIZ)V"⟩
def dkwX2_set_3 : List UInt8 := [79, 177]
abbrev dktX2_set_3 : List UInt8 := dkwX2_set_3 ++ []
def dkwX2_set_2 : List UInt8 := [180, 0, 9, 28, 46, 4, 27, 120, 128, 167, 0, 15, 42, 180, 0, 9, 28, 46, 4, 27, 120, 2, 130, 126]
abbrev dktX2_set_2 : List UInt8 := dkwX2_set_2 ++ dktX2_set_3
def dkwX2_set_1 : List UInt8 := [180, 0, 9, 27, 46, 4, 28, 120, 2, 130, 126, 79, 42, 180, 0, 9, 28, 29, 153, 0, 16, 42]
abbrev dktX2_set_1 : List UInt8 := dkwX2_set_1 ++ dktX2_set_2
def dkwX2_set_0 : List UInt8 := [42, 180, 0, 9, 27, 29, 153, 0, 16, 42, 180, 0, 9, 27, 46, 4, 28, 120, 128, 167, 0, 15, 42]
abbrev dktX2_set_0 : List UInt8 := dkwX2_set_0 ++ dktX2_set_1
theorem dksX2_set_0 : cX2_set.data.toList.drop 0 = dktX2_set_0 := by decide +kernel
theorem dksX2_set_1 : cX2_set.data.toList.drop 23 = dktX2_set_1 := dk_seg dksX2_set_0 23 rfl rfl
theorem dksX2_set_2 : cX2_set.data.toList.drop 45 = dktX2_set_2 := dk_seg dksX2_set_1 22 rfl rfl
theorem dksX2_set_3 : cX2_set.data.toList.drop 69 = dktX2_set_3 := dk_seg dksX2_set_2 24 rfl rfl
theorem dX2_set_0 : decode cX2_set 0 = .ok (.aload_n 0, 1) := dk_42 (dk_at dksX2_set_0 0 rfl rfl)
theorem dX2_set_1 : decode cX2_set 1 = .ok (.getfield 9, 3) := dk_180 0 9 (dk_at dksX2_set_0 1 rfl rfl)
theorem dX2_set_4 : decode cX2_set 4 = .ok (.iload_n 1, 1) := dk_27 (dk_at dksX2_set_0 4 rfl rfl)
theorem dX2_set_5 : decode cX2_set 5 = .ok (.iload_n 3, 1) := dk_29 (dk_at dksX2_set_0 5 rfl rfl)
theorem dX2_set_6 : decode cX2_set 6 = .ok (.ifCond .eq 16, 3) := dk_153 0 16 (dk_at dksX2_set_0 6 rfl rfl)
theorem dX2_set_9 : decode cX2_set 9 = .ok (.aload_n 0, 1) := dk_42 (dk_at dksX2_set_0 9 rfl rfl)
theorem dX2_set_10 : decode cX2_set 10 = .ok (.getfield 9, 3) := dk_180 0 9 (dk_at dksX2_set_0 10 rfl rfl)
theorem dX2_set_13 : decode cX2_set 13 = .ok (.iload_n 1, 1) := dk_27 (dk_at dksX2_set_0 13 rfl rfl)
theorem dX2_set_14 : decode cX2_set 14 = .ok (.iaload, 1) := dk_46 (dk_at dksX2_set_0 14 rfl rfl)
theorem dX2_set_15 : decode cX2_set 15 = .ok (.iconst 1, 1) := dk_4 (dk_at dksX2_set_0 15 rfl rfl)
theorem dX2_set_16 : decode cX2_set 16 = .ok (.iload_n 2, 1) := dk_28 (dk_at dksX2_set_0 16 rfl rfl)
theorem dX2_set_17 : decode cX2_set 17 = .ok (.ishl, 1) := dk_120 (dk_at dksX2_set_0 17 rfl rfl)
theorem dX2_set_18 : decode cX2_set 18 = .ok (.ior, 1) := dk_128 (dk_at dksX2_set_0 18 rfl rfl)
theorem dX2_set_19 : decode cX2_set 19 = .ok (.goto 15, 3) := dk_167 0 15 (dk_at dksX2_set_0 19 rfl rfl)
theorem dX2_set_22 : decode cX2_set 22 = .ok (.aload_n 0, 1) := dk_42 (dk_at dksX2_set_0 22 rfl rfl)
theorem dX2_set_23 : decode cX2_set 23 = .ok (.getfield 9, 3) := dk_180 0 9 (dk_at dksX2_set_1 0 rfl rfl)
theorem dX2_set_26 : decode cX2_set 26 = .ok (.iload_n 1, 1) := dk_27 (dk_at dksX2_set_1 3 rfl rfl)
theorem dX2_set_27 : decode cX2_set 27 = .ok (.iaload, 1) := dk_46 (dk_at dksX2_set_1 4 rfl rfl)
theorem dX2_set_28 : decode cX2_set 28 = .ok (.iconst 1, 1) := dk_4 (dk_at dksX2_set_1 5 rfl rfl)
theorem dX2_set_29 : decode cX2_set 29 = .ok (.iload_n 2, 1) := dk_28 (dk_at dksX2_set_1 6 rfl rfl)
theorem dX2_set_30 : decode cX2_set 30 = .ok (.ishl, 1) := dk_120 (dk_at dksX2_set_1 7 rfl rfl)
theorem dX2_set_31 : decode cX2_set 31 = .ok (.iconst (-1), 1) := dk_2 (dk_at dksX2_set_1 8 rfl rfl)
theorem dX2_set_32 : decode cX2_set 32 = .ok (.ixor, 1) := dk_130 (dk_at dksX2_set_1 9 rfl rfl)
theorem dX2_set_33 : decode cX2_set 33 = .ok (.iand, 1) := dk_126 (dk_at dksX2_set_1 10 rfl rfl)
theorem dX2_set_34 : decode cX2_set 34 = .ok (.iastore, 1) := dk_79 (dk_at dksX2_set_1 11 rfl rfl)
theorem dX2_set_35 : decode cX2_set 35 = .ok (.aload_n 0, 1) := dk_42 (dk_at dksX2_set_1 12 rfl rfl)
theorem dX2_set_36 : decode cX2_set 36 = .ok (.getfield 9, 3) := dk_180 0 9 (dk_at dksX2_set_1 13 rfl rfl)
theorem dX2_set_39 : decode cX2_set 39 = .ok (.iload_n 2, 1) := dk_28 (dk_at dksX2_set_1 16 rfl rfl)
theorem dX2_set_40 : decode cX2_set 40 = .ok (.iload_n 3, 1) := dk_29 (dk_at dksX2_set_1 17 rfl rfl)
theorem dX2_set_41 : decode cX2_set 41 = .ok (.ifCond .eq 16, 3) := dk_153 0 16 (dk_at dksX2_set_1 18 rfl rfl)
theorem dX2_set_44 : decode cX2_set 44 = .ok (.aload_n 0, 1) := dk_42 (dk_at dksX2_set_1 21 rfl rfl)
theorem dX2_set_45 : decode cX2_set 45 = .ok (.getfield 9, 3) := dk_180 0 9 (dk_at dksX2_set_2 0 rfl rfl)
theorem dX2_set_48 : decode cX2_set 48 = .ok (.iload_n 2, 1) := dk_28 (dk_at dksX2_set_2 3 rfl rfl)
theorem dX2_set_49 : decode cX2_set 49 = .ok (.iaload, 1) := dk_46 (dk_at dksX2_set_2 4 rfl rfl)
theorem dX2_set_50 : decode cX2_set 50 = .ok (.iconst 1, 1) := dk_4 (dk_at dksX2_set_2 5 rfl rfl)
theorem dX2_set_51 : decode cX2_set 51 = .ok (.iload_n 1, 1) := dk_27 (dk_at dksX2_set_2 6 rfl rfl)
theorem dX2_set_52 : decode cX2_set 52 = .ok (.ishl, 1) := dk_120 (dk_at dksX2_set_2 7 rfl rfl)
theorem dX2_set_53 : decode cX2_set 53 = .ok (.ior, 1) := dk_128 (dk_at dksX2_set_2 8 rfl rfl)
theorem dX2_set_54 : decode cX2_set 54 = .ok (.goto 15, 3) := dk_167 0 15 (dk_at dksX2_set_2 9 rfl rfl)
theorem dX2_set_57 : decode cX2_set 57 = .ok (.aload_n 0, 1) := dk_42 (dk_at dksX2_set_2 12 rfl rfl)
theorem dX2_set_58 : decode cX2_set 58 = .ok (.getfield 9, 3) := dk_180 0 9 (dk_at dksX2_set_2 13 rfl rfl)
theorem dX2_set_61 : decode cX2_set 61 = .ok (.iload_n 2, 1) := dk_28 (dk_at dksX2_set_2 16 rfl rfl)
theorem dX2_set_62 : decode cX2_set 62 = .ok (.iaload, 1) := dk_46 (dk_at dksX2_set_2 17 rfl rfl)
theorem dX2_set_63 : decode cX2_set 63 = .ok (.iconst 1, 1) := dk_4 (dk_at dksX2_set_2 18 rfl rfl)
theorem dX2_set_64 : decode cX2_set 64 = .ok (.iload_n 1, 1) := dk_27 (dk_at dksX2_set_2 19 rfl rfl)
theorem dX2_set_65 : decode cX2_set 65 = .ok (.ishl, 1) := dk_120 (dk_at dksX2_set_2 20 rfl rfl)
theorem dX2_set_66 : decode cX2_set 66 = .ok (.iconst (-1), 1) := dk_2 (dk_at dksX2_set_2 21 rfl rfl)
theorem dX2_set_67 : decode cX2_set 67 = .ok (.ixor, 1) := dk_130 (dk_at dksX2_set_2 22 rfl rfl)
theorem dX2_set_68 : decode cX2_set 68 = .ok (.iand, 1) := dk_126 (dk_at dksX2_set_2 23 rfl rfl)
theorem dX2_set_69 : decode cX2_set 69 = .ok (.iastore, 1) := dk_79 (dk_at dksX2_set_3 0 rfl rfl)
theorem dX2_set_70 : decode cX2_set 70 = .ok (.return_, 1) := dk_177 (dk_at dksX2_set_3 1 rfl rfl)
abbrev cX2_edges : ByteArray := prog_5_method_8_code
def yX2_edges : MethodName := ⟨RX2, "edges", "()I"⟩
def dkwX2_edges_1 : List UInt8 := [132, 2, 1, 167, 255, 233, 27, 5, 108, 172]
abbrev dktX2_edges_1 : List UInt8 := dkwX2_edges_1 ++ []
def dkwX2_edges_0 : List UInt8 := [3, 60, 3, 61, 28, 42, 180, 0, 15, 162, 0, 21, 27, 42, 180, 0, 9, 28, 46, 184, 0, 35, 96, 60]
abbrev dktX2_edges_0 : List UInt8 := dkwX2_edges_0 ++ dktX2_edges_1
theorem dksX2_edges_0 : cX2_edges.data.toList.drop 0 = dktX2_edges_0 := by decide +kernel
theorem dksX2_edges_1 : cX2_edges.data.toList.drop 24 = dktX2_edges_1 := dk_seg dksX2_edges_0 24 rfl rfl
theorem dX2_edges_0 : decode cX2_edges 0 = .ok (.iconst 0, 1) := dk_3 (dk_at dksX2_edges_0 0 rfl rfl)
theorem dX2_edges_1 : decode cX2_edges 1 = .ok (.istore_n 1, 1) := dk_60 (dk_at dksX2_edges_0 1 rfl rfl)
theorem dX2_edges_2 : decode cX2_edges 2 = .ok (.iconst 0, 1) := dk_3 (dk_at dksX2_edges_0 2 rfl rfl)
theorem dX2_edges_3 : decode cX2_edges 3 = .ok (.istore_n 2, 1) := dk_61 (dk_at dksX2_edges_0 3 rfl rfl)
theorem dX2_edges_4 : decode cX2_edges 4 = .ok (.iload_n 2, 1) := dk_28 (dk_at dksX2_edges_0 4 rfl rfl)
theorem dX2_edges_5 : decode cX2_edges 5 = .ok (.aload_n 0, 1) := dk_42 (dk_at dksX2_edges_0 5 rfl rfl)
theorem dX2_edges_6 : decode cX2_edges 6 = .ok (.getfield 15, 3) := dk_180 0 15 (dk_at dksX2_edges_0 6 rfl rfl)
theorem dX2_edges_9 : decode cX2_edges 9 = .ok (.if_icmp .ge 21, 3) := dk_162 0 21 (dk_at dksX2_edges_0 9 rfl rfl)
theorem dX2_edges_12 : decode cX2_edges 12 = .ok (.iload_n 1, 1) := dk_27 (dk_at dksX2_edges_0 12 rfl rfl)
theorem dX2_edges_13 : decode cX2_edges 13 = .ok (.aload_n 0, 1) := dk_42 (dk_at dksX2_edges_0 13 rfl rfl)
theorem dX2_edges_14 : decode cX2_edges 14 = .ok (.getfield 9, 3) := dk_180 0 9 (dk_at dksX2_edges_0 14 rfl rfl)
theorem dX2_edges_17 : decode cX2_edges 17 = .ok (.iload_n 2, 1) := dk_28 (dk_at dksX2_edges_0 17 rfl rfl)
theorem dX2_edges_18 : decode cX2_edges 18 = .ok (.iaload, 1) := dk_46 (dk_at dksX2_edges_0 18 rfl rfl)
theorem dX2_edges_19 : decode cX2_edges 19 = .ok (.invokestatic 35, 3) := dk_184 0 35 (dk_at dksX2_edges_0 19 rfl rfl)
theorem dX2_edges_22 : decode cX2_edges 22 = .ok (.iadd, 1) := dk_96 (dk_at dksX2_edges_0 22 rfl rfl)
theorem dX2_edges_23 : decode cX2_edges 23 = .ok (.istore_n 1, 1) := dk_60 (dk_at dksX2_edges_0 23 rfl rfl)
theorem dX2_edges_24 : decode cX2_edges 24 = .ok (.iinc 2 1, 3) := dk_132 2 1 (dk_at dksX2_edges_1 0 rfl rfl)
theorem dX2_edges_27 : decode cX2_edges 27 = .ok (.goto (-23), 3) := dk_167 255 233 (dk_at dksX2_edges_1 3 rfl rfl)
theorem dX2_edges_30 : decode cX2_edges 30 = .ok (.iload_n 1, 1) := dk_27 (dk_at dksX2_edges_1 6 rfl rfl)
theorem dX2_edges_31 : decode cX2_edges 31 = .ok (.iconst 2, 1) := dk_5 (dk_at dksX2_edges_1 7 rfl rfl)
theorem dX2_edges_32 : decode cX2_edges 32 = .ok (.idiv, 1) := dk_108 (dk_at dksX2_edges_1 8 rfl rfl)
theorem dX2_edges_33 : decode cX2_edges 33 = .ok (.ireturn, 1) := dk_172 (dk_at dksX2_edges_1 9 rfl rfl)
abbrev cX2_join : ByteArray := prog_5_method_6_code
def yX2_join : MethodName := ⟨RX2, "join", "(II)V"⟩
def dkwX2_join_2 : List UInt8 := [177]
abbrev dktX2_join_2 : List UInt8 := dkwX2_join_2 ++ []
def dkwX2_join_1 : List UInt8 := [167, 0, 16, 28, 29, 184, 0, 32, 153, 0, 7, 27, 167, 0, 4, 3, 128, 79, 132, 3, 1, 167, 255, 213]
abbrev dktX2_join_1 : List UInt8 := dkwX2_join_1 ++ dktX2_join_2
def dkwX2_join_0 : List UInt8 := [3, 62, 29, 16, 10, 162, 0, 43, 42, 180, 0, 9, 29, 92, 46, 27, 29, 184, 0, 32, 153, 0, 7, 28]
abbrev dktX2_join_0 : List UInt8 := dkwX2_join_0 ++ dktX2_join_1
theorem dksX2_join_0 : cX2_join.data.toList.drop 0 = dktX2_join_0 := by decide +kernel
theorem dksX2_join_1 : cX2_join.data.toList.drop 24 = dktX2_join_1 := dk_seg dksX2_join_0 24 rfl rfl
theorem dksX2_join_2 : cX2_join.data.toList.drop 48 = dktX2_join_2 := dk_seg dksX2_join_1 24 rfl rfl
theorem dX2_join_0 : decode cX2_join 0 = .ok (.iconst 0, 1) := dk_3 (dk_at dksX2_join_0 0 rfl rfl)
theorem dX2_join_1 : decode cX2_join 1 = .ok (.istore_n 3, 1) := dk_62 (dk_at dksX2_join_0 1 rfl rfl)
theorem dX2_join_2 : decode cX2_join 2 = .ok (.iload_n 3, 1) := dk_29 (dk_at dksX2_join_0 2 rfl rfl)
theorem dX2_join_3 : decode cX2_join 3 = .ok (.bipush 10, 2) := dk_16 10 (dk_at dksX2_join_0 3 rfl rfl)
theorem dX2_join_5 : decode cX2_join 5 = .ok (.if_icmp .ge 43, 3) := dk_162 0 43 (dk_at dksX2_join_0 5 rfl rfl)
theorem dX2_join_8 : decode cX2_join 8 = .ok (.aload_n 0, 1) := dk_42 (dk_at dksX2_join_0 8 rfl rfl)
theorem dX2_join_9 : decode cX2_join 9 = .ok (.getfield 9, 3) := dk_180 0 9 (dk_at dksX2_join_0 9 rfl rfl)
theorem dX2_join_12 : decode cX2_join 12 = .ok (.iload_n 3, 1) := dk_29 (dk_at dksX2_join_0 12 rfl rfl)
theorem dX2_join_13 : decode cX2_join 13 = .ok (.dup2, 1) := dk_92 (dk_at dksX2_join_0 13 rfl rfl)
theorem dX2_join_14 : decode cX2_join 14 = .ok (.iaload, 1) := dk_46 (dk_at dksX2_join_0 14 rfl rfl)
theorem dX2_join_15 : decode cX2_join 15 = .ok (.iload_n 1, 1) := dk_27 (dk_at dksX2_join_0 15 rfl rfl)
theorem dX2_join_16 : decode cX2_join 16 = .ok (.iload_n 3, 1) := dk_29 (dk_at dksX2_join_0 16 rfl rfl)
theorem dX2_join_17 : decode cX2_join 17 = .ok (.invokestatic 32, 3) := dk_184 0 32 (dk_at dksX2_join_0 17 rfl rfl)
theorem dX2_join_20 : decode cX2_join 20 = .ok (.ifCond .eq 7, 3) := dk_153 0 7 (dk_at dksX2_join_0 20 rfl rfl)
theorem dX2_join_23 : decode cX2_join 23 = .ok (.iload_n 2, 1) := dk_28 (dk_at dksX2_join_0 23 rfl rfl)
theorem dX2_join_24 : decode cX2_join 24 = .ok (.goto 16, 3) := dk_167 0 16 (dk_at dksX2_join_1 0 rfl rfl)
theorem dX2_join_27 : decode cX2_join 27 = .ok (.iload_n 2, 1) := dk_28 (dk_at dksX2_join_1 3 rfl rfl)
theorem dX2_join_28 : decode cX2_join 28 = .ok (.iload_n 3, 1) := dk_29 (dk_at dksX2_join_1 4 rfl rfl)
theorem dX2_join_29 : decode cX2_join 29 = .ok (.invokestatic 32, 3) := dk_184 0 32 (dk_at dksX2_join_1 5 rfl rfl)
theorem dX2_join_32 : decode cX2_join 32 = .ok (.ifCond .eq 7, 3) := dk_153 0 7 (dk_at dksX2_join_1 8 rfl rfl)
theorem dX2_join_35 : decode cX2_join 35 = .ok (.iload_n 1, 1) := dk_27 (dk_at dksX2_join_1 11 rfl rfl)
theorem dX2_join_36 : decode cX2_join 36 = .ok (.goto 4, 3) := dk_167 0 4 (dk_at dksX2_join_1 12 rfl rfl)
theorem dX2_join_39 : decode cX2_join 39 = .ok (.iconst 0, 1) := dk_3 (dk_at dksX2_join_1 15 rfl rfl)
theorem dX2_join_40 : decode cX2_join 40 = .ok (.ior, 1) := dk_128 (dk_at dksX2_join_1 16 rfl rfl)
theorem dX2_join_41 : decode cX2_join 41 = .ok (.iastore, 1) := dk_79 (dk_at dksX2_join_1 17 rfl rfl)
theorem dX2_join_42 : decode cX2_join 42 = .ok (.iinc 3 1, 3) := dk_132 3 1 (dk_at dksX2_join_1 18 rfl rfl)
theorem dX2_join_45 : decode cX2_join 45 = .ok (.goto (-43), 3) := dk_167 255 213 (dk_at dksX2_join_1 21 rfl rfl)
theorem dX2_join_48 : decode cX2_join 48 = .ok (.return_, 1) := dk_177 (dk_at dksX2_join_2 0 rfl rfl)
abbrev cX2_all : ByteArray := prog_5_method_7_code
def yX2_all : MethodName := ⟨RX2, "all", "()I"⟩
def dkwX2_all_0 : List UInt8 := [4, 42, 180, 0, 15, 120, 4, 100, 172]
abbrev dktX2_all_0 : List UInt8 := dkwX2_all_0 ++ []
theorem dksX2_all_0 : cX2_all.data.toList.drop 0 = dktX2_all_0 := by decide +kernel
theorem dX2_all_0 : decode cX2_all 0 = .ok (.iconst 1, 1) := dk_4 (dk_at dksX2_all_0 0 rfl rfl)
theorem dX2_all_1 : decode cX2_all 1 = .ok (.aload_n 0, 1) := dk_42 (dk_at dksX2_all_0 1 rfl rfl)
theorem dX2_all_2 : decode cX2_all 2 = .ok (.getfield 15, 3) := dk_180 0 15 (dk_at dksX2_all_0 2 rfl rfl)
theorem dX2_all_5 : decode cX2_all 5 = .ok (.ishl, 1) := dk_120 (dk_at dksX2_all_0 5 rfl rfl)
theorem dX2_all_6 : decode cX2_all 6 = .ok (.iconst 1, 1) := dk_4 (dk_at dksX2_all_0 6 rfl rfl)
theorem dX2_all_7 : decode cX2_all 7 = .ok (.isub, 1) := dk_100 (dk_at dksX2_all_0 7 rfl rfl)
theorem dX2_all_8 : decode cX2_all 8 = .ok (.ireturn, 1) := dk_172 (dk_at dksX2_all_0 8 rfl rfl)
abbrev cX2_reach : ByteArray := prog_5_method_11_code
def yX2_reach : MethodName := ⟨RX2, "reach", "(IIZ)I"⟩
def dkwX2_reach_3 : List UInt8 := [28, 126, 167, 0, 4, 3, 128, 54, 4, 132, 6, 1, 167, 255, 196, 167, 255, 179, 21, 4, 172]
abbrev dktX2_reach_3 : List UInt8 := dkwX2_reach_3 ++ []
def dkwX2_reach_2 : List UInt8 := [180, 0, 9, 21, 6, 46, 2, 130, 54, 7, 21, 4, 21, 5, 21, 6, 184, 0, 32, 153, 0, 10, 21, 7]
abbrev dktX2_reach_2 : List UInt8 := dkwX2_reach_2 ++ dktX2_reach_3
def dkwX2_reach_1 : List UInt8 := [42, 180, 0, 15, 162, 0, 57, 29, 153, 0, 13, 42, 180, 0, 9, 21, 6, 46, 167, 0, 12, 42]
abbrev dktX2_reach_1 : List UInt8 := dkwX2_reach_1 ++ dktX2_reach_2
def dkwX2_reach_0 : List UInt8 := [4, 27, 120, 54, 4, 3, 54, 5, 21, 4, 21, 5, 159, 0, 76, 21, 4, 54, 5, 3, 54, 6, 21, 6]
abbrev dktX2_reach_0 : List UInt8 := dkwX2_reach_0 ++ dktX2_reach_1
theorem dksX2_reach_0 : cX2_reach.data.toList.drop 0 = dktX2_reach_0 := by decide +kernel
theorem dksX2_reach_1 : cX2_reach.data.toList.drop 24 = dktX2_reach_1 := dk_seg dksX2_reach_0 24 rfl rfl
theorem dksX2_reach_2 : cX2_reach.data.toList.drop 46 = dktX2_reach_2 := dk_seg dksX2_reach_1 22 rfl rfl
theorem dksX2_reach_3 : cX2_reach.data.toList.drop 70 = dktX2_reach_3 := dk_seg dksX2_reach_2 24 rfl rfl
theorem dX2_reach_0 : decode cX2_reach 0 = .ok (.iconst 1, 1) := dk_4 (dk_at dksX2_reach_0 0 rfl rfl)
theorem dX2_reach_1 : decode cX2_reach 1 = .ok (.iload_n 1, 1) := dk_27 (dk_at dksX2_reach_0 1 rfl rfl)
theorem dX2_reach_2 : decode cX2_reach 2 = .ok (.ishl, 1) := dk_120 (dk_at dksX2_reach_0 2 rfl rfl)
theorem dX2_reach_3 : decode cX2_reach 3 = .ok (.istore 4, 2) := dk_54 4 (dk_at dksX2_reach_0 3 rfl rfl)
theorem dX2_reach_5 : decode cX2_reach 5 = .ok (.iconst 0, 1) := dk_3 (dk_at dksX2_reach_0 5 rfl rfl)
theorem dX2_reach_6 : decode cX2_reach 6 = .ok (.istore 5, 2) := dk_54 5 (dk_at dksX2_reach_0 6 rfl rfl)
theorem dX2_reach_8 : decode cX2_reach 8 = .ok (.iload 4, 2) := dk_21 4 (dk_at dksX2_reach_0 8 rfl rfl)
theorem dX2_reach_10 : decode cX2_reach 10 = .ok (.iload 5, 2) := dk_21 5 (dk_at dksX2_reach_0 10 rfl rfl)
theorem dX2_reach_12 : decode cX2_reach 12 = .ok (.if_icmp .eq 76, 3) := dk_159 0 76 (dk_at dksX2_reach_0 12 rfl rfl)
theorem dX2_reach_15 : decode cX2_reach 15 = .ok (.iload 4, 2) := dk_21 4 (dk_at dksX2_reach_0 15 rfl rfl)
theorem dX2_reach_17 : decode cX2_reach 17 = .ok (.istore 5, 2) := dk_54 5 (dk_at dksX2_reach_0 17 rfl rfl)
theorem dX2_reach_19 : decode cX2_reach 19 = .ok (.iconst 0, 1) := dk_3 (dk_at dksX2_reach_0 19 rfl rfl)
theorem dX2_reach_20 : decode cX2_reach 20 = .ok (.istore 6, 2) := dk_54 6 (dk_at dksX2_reach_0 20 rfl rfl)
theorem dX2_reach_22 : decode cX2_reach 22 = .ok (.iload 6, 2) := dk_21 6 (dk_at dksX2_reach_0 22 rfl rfl)
theorem dX2_reach_24 : decode cX2_reach 24 = .ok (.aload_n 0, 1) := dk_42 (dk_at dksX2_reach_1 0 rfl rfl)
theorem dX2_reach_25 : decode cX2_reach 25 = .ok (.getfield 15, 3) := dk_180 0 15 (dk_at dksX2_reach_1 1 rfl rfl)
theorem dX2_reach_28 : decode cX2_reach 28 = .ok (.if_icmp .ge 57, 3) := dk_162 0 57 (dk_at dksX2_reach_1 4 rfl rfl)
theorem dX2_reach_31 : decode cX2_reach 31 = .ok (.iload_n 3, 1) := dk_29 (dk_at dksX2_reach_1 7 rfl rfl)
theorem dX2_reach_32 : decode cX2_reach 32 = .ok (.ifCond .eq 13, 3) := dk_153 0 13 (dk_at dksX2_reach_1 8 rfl rfl)
theorem dX2_reach_35 : decode cX2_reach 35 = .ok (.aload_n 0, 1) := dk_42 (dk_at dksX2_reach_1 11 rfl rfl)
theorem dX2_reach_36 : decode cX2_reach 36 = .ok (.getfield 9, 3) := dk_180 0 9 (dk_at dksX2_reach_1 12 rfl rfl)
theorem dX2_reach_39 : decode cX2_reach 39 = .ok (.iload 6, 2) := dk_21 6 (dk_at dksX2_reach_1 15 rfl rfl)
theorem dX2_reach_41 : decode cX2_reach 41 = .ok (.iaload, 1) := dk_46 (dk_at dksX2_reach_1 17 rfl rfl)
theorem dX2_reach_42 : decode cX2_reach 42 = .ok (.goto 12, 3) := dk_167 0 12 (dk_at dksX2_reach_1 18 rfl rfl)
theorem dX2_reach_45 : decode cX2_reach 45 = .ok (.aload_n 0, 1) := dk_42 (dk_at dksX2_reach_1 21 rfl rfl)
theorem dX2_reach_46 : decode cX2_reach 46 = .ok (.getfield 9, 3) := dk_180 0 9 (dk_at dksX2_reach_2 0 rfl rfl)
theorem dX2_reach_49 : decode cX2_reach 49 = .ok (.iload 6, 2) := dk_21 6 (dk_at dksX2_reach_2 3 rfl rfl)
theorem dX2_reach_51 : decode cX2_reach 51 = .ok (.iaload, 1) := dk_46 (dk_at dksX2_reach_2 5 rfl rfl)
theorem dX2_reach_52 : decode cX2_reach 52 = .ok (.iconst (-1), 1) := dk_2 (dk_at dksX2_reach_2 6 rfl rfl)
theorem dX2_reach_53 : decode cX2_reach 53 = .ok (.ixor, 1) := dk_130 (dk_at dksX2_reach_2 7 rfl rfl)
theorem dX2_reach_54 : decode cX2_reach 54 = .ok (.istore 7, 2) := dk_54 7 (dk_at dksX2_reach_2 8 rfl rfl)
theorem dX2_reach_56 : decode cX2_reach 56 = .ok (.iload 4, 2) := dk_21 4 (dk_at dksX2_reach_2 10 rfl rfl)
theorem dX2_reach_58 : decode cX2_reach 58 = .ok (.iload 5, 2) := dk_21 5 (dk_at dksX2_reach_2 12 rfl rfl)
theorem dX2_reach_60 : decode cX2_reach 60 = .ok (.iload 6, 2) := dk_21 6 (dk_at dksX2_reach_2 14 rfl rfl)
theorem dX2_reach_62 : decode cX2_reach 62 = .ok (.invokestatic 32, 3) := dk_184 0 32 (dk_at dksX2_reach_2 16 rfl rfl)
theorem dX2_reach_65 : decode cX2_reach 65 = .ok (.ifCond .eq 10, 3) := dk_153 0 10 (dk_at dksX2_reach_2 19 rfl rfl)
theorem dX2_reach_68 : decode cX2_reach 68 = .ok (.iload 7, 2) := dk_21 7 (dk_at dksX2_reach_2 22 rfl rfl)
theorem dX2_reach_70 : decode cX2_reach 70 = .ok (.iload_n 2, 1) := dk_28 (dk_at dksX2_reach_3 0 rfl rfl)
theorem dX2_reach_71 : decode cX2_reach 71 = .ok (.iand, 1) := dk_126 (dk_at dksX2_reach_3 1 rfl rfl)
theorem dX2_reach_72 : decode cX2_reach 72 = .ok (.goto 4, 3) := dk_167 0 4 (dk_at dksX2_reach_3 2 rfl rfl)
theorem dX2_reach_75 : decode cX2_reach 75 = .ok (.iconst 0, 1) := dk_3 (dk_at dksX2_reach_3 5 rfl rfl)
theorem dX2_reach_76 : decode cX2_reach 76 = .ok (.ior, 1) := dk_128 (dk_at dksX2_reach_3 6 rfl rfl)
theorem dX2_reach_77 : decode cX2_reach 77 = .ok (.istore 4, 2) := dk_54 4 (dk_at dksX2_reach_3 7 rfl rfl)
theorem dX2_reach_79 : decode cX2_reach 79 = .ok (.iinc 6 1, 3) := dk_132 6 1 (dk_at dksX2_reach_3 9 rfl rfl)
theorem dX2_reach_82 : decode cX2_reach 82 = .ok (.goto (-60), 3) := dk_167 255 196 (dk_at dksX2_reach_3 12 rfl rfl)
theorem dX2_reach_85 : decode cX2_reach 85 = .ok (.goto (-77), 3) := dk_167 255 179 (dk_at dksX2_reach_3 15 rfl rfl)
theorem dX2_reach_88 : decode cX2_reach 88 = .ok (.iload 4, 2) := dk_21 4 (dk_at dksX2_reach_3 18 rfl rfl)
theorem dX2_reach_90 : decode cX2_reach 90 = .ok (.ireturn, 1) := dk_172 (dk_at dksX2_reach_3 20 rfl rfl)
abbrev cX2_module : ByteArray := prog_5_method_10_code
def yX2_module : MethodName := ⟨RX2, "module", "(I)I"⟩
def dkwX2_module_1 : List UInt8 := [167, 255, 242, 28, 172]
abbrev dktX2_module_1 : List UInt8 := dkwX2_module_1 ++ []
def dkwX2_module_0 : List UInt8 := [27, 61, 42, 28, 182, 0, 41, 62, 29, 153, 0, 16, 28, 29, 128, 61, 42, 28, 182, 0, 41, 62]
abbrev dktX2_module_0 : List UInt8 := dkwX2_module_0 ++ dktX2_module_1
theorem dksX2_module_0 : cX2_module.data.toList.drop 0 = dktX2_module_0 := by decide +kernel
theorem dksX2_module_1 : cX2_module.data.toList.drop 22 = dktX2_module_1 := dk_seg dksX2_module_0 22 rfl rfl
theorem dX2_module_0 : decode cX2_module 0 = .ok (.iload_n 1, 1) := dk_27 (dk_at dksX2_module_0 0 rfl rfl)
theorem dX2_module_1 : decode cX2_module 1 = .ok (.istore_n 2, 1) := dk_61 (dk_at dksX2_module_0 1 rfl rfl)
theorem dX2_module_2 : decode cX2_module 2 = .ok (.aload_n 0, 1) := dk_42 (dk_at dksX2_module_0 2 rfl rfl)
theorem dX2_module_3 : decode cX2_module 3 = .ok (.iload_n 2, 1) := dk_28 (dk_at dksX2_module_0 3 rfl rfl)
theorem dX2_module_4 : decode cX2_module 4 = .ok (.invokevirtual 41, 3) := dk_182 0 41 (dk_at dksX2_module_0 4 rfl rfl)
theorem dX2_module_7 : decode cX2_module 7 = .ok (.istore_n 3, 1) := dk_62 (dk_at dksX2_module_0 7 rfl rfl)
theorem dX2_module_8 : decode cX2_module 8 = .ok (.iload_n 3, 1) := dk_29 (dk_at dksX2_module_0 8 rfl rfl)
theorem dX2_module_9 : decode cX2_module 9 = .ok (.ifCond .eq 16, 3) := dk_153 0 16 (dk_at dksX2_module_0 9 rfl rfl)
theorem dX2_module_12 : decode cX2_module 12 = .ok (.iload_n 2, 1) := dk_28 (dk_at dksX2_module_0 12 rfl rfl)
theorem dX2_module_13 : decode cX2_module 13 = .ok (.iload_n 3, 1) := dk_29 (dk_at dksX2_module_0 13 rfl rfl)
theorem dX2_module_14 : decode cX2_module 14 = .ok (.ior, 1) := dk_128 (dk_at dksX2_module_0 14 rfl rfl)
theorem dX2_module_15 : decode cX2_module 15 = .ok (.istore_n 2, 1) := dk_61 (dk_at dksX2_module_0 15 rfl rfl)
theorem dX2_module_16 : decode cX2_module 16 = .ok (.aload_n 0, 1) := dk_42 (dk_at dksX2_module_0 16 rfl rfl)
theorem dX2_module_17 : decode cX2_module 17 = .ok (.iload_n 2, 1) := dk_28 (dk_at dksX2_module_0 17 rfl rfl)
theorem dX2_module_18 : decode cX2_module 18 = .ok (.invokevirtual 41, 3) := dk_182 0 41 (dk_at dksX2_module_0 18 rfl rfl)
theorem dX2_module_21 : decode cX2_module 21 = .ok (.istore_n 3, 1) := dk_62 (dk_at dksX2_module_0 21 rfl rfl)
theorem dX2_module_22 : decode cX2_module 22 = .ok (.goto (-14), 3) := dk_167 255 242 (dk_at dksX2_module_1 0 rfl rfl)
theorem dX2_module_25 : decode cX2_module 25 = .ok (.iload_n 2, 1) := dk_28 (dk_at dksX2_module_1 3 rfl rfl)
theorem dX2_module_26 : decode cX2_module 26 = .ok (.ireturn, 1) := dk_172 (dk_at dksX2_module_1 4 rfl rfl)
abbrev cX2_splitters : ByteArray := prog_5_method_9_code
def yX2_splitters : MethodName := ⟨RX2, "splitters", "(I)I"⟩
def dkwX2_splitters_2 : List UInt8 := [3, 128, 61, 132, 3, 1, 167, 255, 206, 28, 172]
abbrev dktX2_splitters_2 : List UInt8 := dkwX2_splitters_2 ++ []
def dkwX2_splitters_1 : List UInt8 := [29, 184, 0, 32, 154, 0, 20, 21, 4, 153, 0, 15, 21, 4, 27, 159, 0, 9, 4, 29, 120, 167, 0, 4]
abbrev dktX2_splitters_1 : List UInt8 := dkwX2_splitters_1 ++ dktX2_splitters_2
def dkwX2_splitters_0 : List UInt8 := [3, 61, 3, 62, 29, 42, 180, 0, 15, 162, 0, 48, 42, 180, 0, 9, 29, 46, 27, 126, 54, 4, 28, 27]
abbrev dktX2_splitters_0 : List UInt8 := dkwX2_splitters_0 ++ dktX2_splitters_1
theorem dksX2_splitters_0 : cX2_splitters.data.toList.drop 0 = dktX2_splitters_0 := by decide +kernel
theorem dksX2_splitters_1 : cX2_splitters.data.toList.drop 24 = dktX2_splitters_1 := dk_seg dksX2_splitters_0 24 rfl rfl
theorem dksX2_splitters_2 : cX2_splitters.data.toList.drop 48 = dktX2_splitters_2 := dk_seg dksX2_splitters_1 24 rfl rfl
theorem dX2_splitters_0 : decode cX2_splitters 0 = .ok (.iconst 0, 1) := dk_3 (dk_at dksX2_splitters_0 0 rfl rfl)
theorem dX2_splitters_1 : decode cX2_splitters 1 = .ok (.istore_n 2, 1) := dk_61 (dk_at dksX2_splitters_0 1 rfl rfl)
theorem dX2_splitters_2 : decode cX2_splitters 2 = .ok (.iconst 0, 1) := dk_3 (dk_at dksX2_splitters_0 2 rfl rfl)
theorem dX2_splitters_3 : decode cX2_splitters 3 = .ok (.istore_n 3, 1) := dk_62 (dk_at dksX2_splitters_0 3 rfl rfl)
theorem dX2_splitters_4 : decode cX2_splitters 4 = .ok (.iload_n 3, 1) := dk_29 (dk_at dksX2_splitters_0 4 rfl rfl)
theorem dX2_splitters_5 : decode cX2_splitters 5 = .ok (.aload_n 0, 1) := dk_42 (dk_at dksX2_splitters_0 5 rfl rfl)
theorem dX2_splitters_6 : decode cX2_splitters 6 = .ok (.getfield 15, 3) := dk_180 0 15 (dk_at dksX2_splitters_0 6 rfl rfl)
theorem dX2_splitters_9 : decode cX2_splitters 9 = .ok (.if_icmp .ge 48, 3) := dk_162 0 48 (dk_at dksX2_splitters_0 9 rfl rfl)
theorem dX2_splitters_12 : decode cX2_splitters 12 = .ok (.aload_n 0, 1) := dk_42 (dk_at dksX2_splitters_0 12 rfl rfl)
theorem dX2_splitters_13 : decode cX2_splitters 13 = .ok (.getfield 9, 3) := dk_180 0 9 (dk_at dksX2_splitters_0 13 rfl rfl)
theorem dX2_splitters_16 : decode cX2_splitters 16 = .ok (.iload_n 3, 1) := dk_29 (dk_at dksX2_splitters_0 16 rfl rfl)
theorem dX2_splitters_17 : decode cX2_splitters 17 = .ok (.iaload, 1) := dk_46 (dk_at dksX2_splitters_0 17 rfl rfl)
theorem dX2_splitters_18 : decode cX2_splitters 18 = .ok (.iload_n 1, 1) := dk_27 (dk_at dksX2_splitters_0 18 rfl rfl)
theorem dX2_splitters_19 : decode cX2_splitters 19 = .ok (.iand, 1) := dk_126 (dk_at dksX2_splitters_0 19 rfl rfl)
theorem dX2_splitters_20 : decode cX2_splitters 20 = .ok (.istore 4, 2) := dk_54 4 (dk_at dksX2_splitters_0 20 rfl rfl)
theorem dX2_splitters_22 : decode cX2_splitters 22 = .ok (.iload_n 2, 1) := dk_28 (dk_at dksX2_splitters_0 22 rfl rfl)
theorem dX2_splitters_23 : decode cX2_splitters 23 = .ok (.iload_n 1, 1) := dk_27 (dk_at dksX2_splitters_0 23 rfl rfl)
theorem dX2_splitters_24 : decode cX2_splitters 24 = .ok (.iload_n 3, 1) := dk_29 (dk_at dksX2_splitters_1 0 rfl rfl)
theorem dX2_splitters_25 : decode cX2_splitters 25 = .ok (.invokestatic 32, 3) := dk_184 0 32 (dk_at dksX2_splitters_1 1 rfl rfl)
theorem dX2_splitters_28 : decode cX2_splitters 28 = .ok (.ifCond .ne 20, 3) := dk_154 0 20 (dk_at dksX2_splitters_1 4 rfl rfl)
theorem dX2_splitters_31 : decode cX2_splitters 31 = .ok (.iload 4, 2) := dk_21 4 (dk_at dksX2_splitters_1 7 rfl rfl)
theorem dX2_splitters_33 : decode cX2_splitters 33 = .ok (.ifCond .eq 15, 3) := dk_153 0 15 (dk_at dksX2_splitters_1 9 rfl rfl)
theorem dX2_splitters_36 : decode cX2_splitters 36 = .ok (.iload 4, 2) := dk_21 4 (dk_at dksX2_splitters_1 12 rfl rfl)
theorem dX2_splitters_38 : decode cX2_splitters 38 = .ok (.iload_n 1, 1) := dk_27 (dk_at dksX2_splitters_1 14 rfl rfl)
theorem dX2_splitters_39 : decode cX2_splitters 39 = .ok (.if_icmp .eq 9, 3) := dk_159 0 9 (dk_at dksX2_splitters_1 15 rfl rfl)
theorem dX2_splitters_42 : decode cX2_splitters 42 = .ok (.iconst 1, 1) := dk_4 (dk_at dksX2_splitters_1 18 rfl rfl)
theorem dX2_splitters_43 : decode cX2_splitters 43 = .ok (.iload_n 3, 1) := dk_29 (dk_at dksX2_splitters_1 19 rfl rfl)
theorem dX2_splitters_44 : decode cX2_splitters 44 = .ok (.ishl, 1) := dk_120 (dk_at dksX2_splitters_1 20 rfl rfl)
theorem dX2_splitters_45 : decode cX2_splitters 45 = .ok (.goto 4, 3) := dk_167 0 4 (dk_at dksX2_splitters_1 21 rfl rfl)
theorem dX2_splitters_48 : decode cX2_splitters 48 = .ok (.iconst 0, 1) := dk_3 (dk_at dksX2_splitters_2 0 rfl rfl)
theorem dX2_splitters_49 : decode cX2_splitters 49 = .ok (.ior, 1) := dk_128 (dk_at dksX2_splitters_2 1 rfl rfl)
theorem dX2_splitters_50 : decode cX2_splitters 50 = .ok (.istore_n 2, 1) := dk_61 (dk_at dksX2_splitters_2 2 rfl rfl)
theorem dX2_splitters_51 : decode cX2_splitters 51 = .ok (.iinc 3 1, 3) := dk_132 3 1 (dk_at dksX2_splitters_2 3 rfl rfl)
theorem dX2_splitters_54 : decode cX2_splitters 54 = .ok (.goto (-50), 3) := dk_167 255 206 (dk_at dksX2_splitters_2 6 rfl rfl)
theorem dX2_splitters_57 : decode cX2_splitters 57 = .ok (.iload_n 2, 1) := dk_28 (dk_at dksX2_splitters_2 9 rfl rfl)
theorem dX2_splitters_58 : decode cX2_splitters 58 = .ok (.ireturn, 1) := dk_172 (dk_at dksX2_splitters_2 10 rfl rfl)
abbrev cX2_init_2 : ByteArray := prog_5_method_2_code
def yX2_init_2 : MethodName := ⟨RX2, "<init>", "(J)V"⟩
def dkwX2_init_2_3 : List UInt8 := [167, 255, 203, 177]
abbrev dktX2_init_2_3 : List UInt8 := dkwX2_init_2_3 ++ []
def dkwX2_init_2_2 : List UInt8 := [154, 0, 7, 4, 167, 0, 4, 3, 182, 0, 24, 33, 4, 123, 66, 132, 6, 1, 167, 255, 221, 132, 5, 1]
abbrev dktX2_init_2_2 : List UInt8 := dkwX2_init_2_2 ++ dktX2_init_2_3
def dkwX2_init_2_1 : List UInt8 := [162, 0, 50, 3, 54, 6, 21, 6, 21, 5, 162, 0, 34, 42, 21, 5, 21, 6, 33, 10, 127, 10, 148]
abbrev dktX2_init_2_1 : List UInt8 := dkwX2_init_2_1 ++ dktX2_init_2_2
def dkwX2_init_2_0 : List UInt8 := [42, 31, 20, 0, 19, 127, 136, 183, 0, 21, 31, 7, 123, 66, 3, 54, 5, 21, 5, 42, 180, 0, 15]
abbrev dktX2_init_2_0 : List UInt8 := dkwX2_init_2_0 ++ dktX2_init_2_1
theorem dksX2_init_2_0 : cX2_init_2.data.toList.drop 0 = dktX2_init_2_0 := by decide +kernel
theorem dksX2_init_2_1 : cX2_init_2.data.toList.drop 23 = dktX2_init_2_1 := dk_seg dksX2_init_2_0 23 rfl rfl
theorem dksX2_init_2_2 : cX2_init_2.data.toList.drop 46 = dktX2_init_2_2 := dk_seg dksX2_init_2_1 23 rfl rfl
theorem dksX2_init_2_3 : cX2_init_2.data.toList.drop 70 = dktX2_init_2_3 := dk_seg dksX2_init_2_2 24 rfl rfl
theorem dX2_init_2_0 : decode cX2_init_2 0 = .ok (.aload_n 0, 1) := dk_42 (dk_at dksX2_init_2_0 0 rfl rfl)
theorem dX2_init_2_1 : decode cX2_init_2 1 = .ok (.lload_n 1, 1) := dk_31 (dk_at dksX2_init_2_0 1 rfl rfl)
theorem dX2_init_2_2 : decode cX2_init_2 2 = .ok (.ldc2_w 19, 3) := dk_20 0 19 (dk_at dksX2_init_2_0 2 rfl rfl)
theorem dX2_init_2_5 : decode cX2_init_2 5 = .ok (.land, 1) := dk_127 (dk_at dksX2_init_2_0 5 rfl rfl)
theorem dX2_init_2_6 : decode cX2_init_2 6 = .ok (.l2i, 1) := dk_136 (dk_at dksX2_init_2_0 6 rfl rfl)
theorem dX2_init_2_7 : decode cX2_init_2 7 = .ok (.invokespecial 21, 3) := dk_183 0 21 (dk_at dksX2_init_2_0 7 rfl rfl)
theorem dX2_init_2_10 : decode cX2_init_2 10 = .ok (.lload_n 1, 1) := dk_31 (dk_at dksX2_init_2_0 10 rfl rfl)
theorem dX2_init_2_11 : decode cX2_init_2 11 = .ok (.iconst 4, 1) := dk_7 (dk_at dksX2_init_2_0 11 rfl rfl)
theorem dX2_init_2_12 : decode cX2_init_2 12 = .ok (.lshr, 1) := dk_123 (dk_at dksX2_init_2_0 12 rfl rfl)
theorem dX2_init_2_13 : decode cX2_init_2 13 = .ok (.lstore_n 3, 1) := dk_66 (dk_at dksX2_init_2_0 13 rfl rfl)
theorem dX2_init_2_14 : decode cX2_init_2 14 = .ok (.iconst 0, 1) := dk_3 (dk_at dksX2_init_2_0 14 rfl rfl)
theorem dX2_init_2_15 : decode cX2_init_2 15 = .ok (.istore 5, 2) := dk_54 5 (dk_at dksX2_init_2_0 15 rfl rfl)
theorem dX2_init_2_17 : decode cX2_init_2 17 = .ok (.iload 5, 2) := dk_21 5 (dk_at dksX2_init_2_0 17 rfl rfl)
theorem dX2_init_2_19 : decode cX2_init_2 19 = .ok (.aload_n 0, 1) := dk_42 (dk_at dksX2_init_2_0 19 rfl rfl)
theorem dX2_init_2_20 : decode cX2_init_2 20 = .ok (.getfield 15, 3) := dk_180 0 15 (dk_at dksX2_init_2_0 20 rfl rfl)
theorem dX2_init_2_23 : decode cX2_init_2 23 = .ok (.if_icmp .ge 50, 3) := dk_162 0 50 (dk_at dksX2_init_2_1 0 rfl rfl)
theorem dX2_init_2_26 : decode cX2_init_2 26 = .ok (.iconst 0, 1) := dk_3 (dk_at dksX2_init_2_1 3 rfl rfl)
theorem dX2_init_2_27 : decode cX2_init_2 27 = .ok (.istore 6, 2) := dk_54 6 (dk_at dksX2_init_2_1 4 rfl rfl)
theorem dX2_init_2_29 : decode cX2_init_2 29 = .ok (.iload 6, 2) := dk_21 6 (dk_at dksX2_init_2_1 6 rfl rfl)
theorem dX2_init_2_31 : decode cX2_init_2 31 = .ok (.iload 5, 2) := dk_21 5 (dk_at dksX2_init_2_1 8 rfl rfl)
theorem dX2_init_2_33 : decode cX2_init_2 33 = .ok (.if_icmp .ge 34, 3) := dk_162 0 34 (dk_at dksX2_init_2_1 10 rfl rfl)
theorem dX2_init_2_36 : decode cX2_init_2 36 = .ok (.aload_n 0, 1) := dk_42 (dk_at dksX2_init_2_1 13 rfl rfl)
theorem dX2_init_2_37 : decode cX2_init_2 37 = .ok (.iload 5, 2) := dk_21 5 (dk_at dksX2_init_2_1 14 rfl rfl)
theorem dX2_init_2_39 : decode cX2_init_2 39 = .ok (.iload 6, 2) := dk_21 6 (dk_at dksX2_init_2_1 16 rfl rfl)
theorem dX2_init_2_41 : decode cX2_init_2 41 = .ok (.lload_n 3, 1) := dk_33 (dk_at dksX2_init_2_1 18 rfl rfl)
theorem dX2_init_2_42 : decode cX2_init_2 42 = .ok (.lconst 1, 1) := dk_10 (dk_at dksX2_init_2_1 19 rfl rfl)
theorem dX2_init_2_43 : decode cX2_init_2 43 = .ok (.land, 1) := dk_127 (dk_at dksX2_init_2_1 20 rfl rfl)
theorem dX2_init_2_44 : decode cX2_init_2 44 = .ok (.lconst 1, 1) := dk_10 (dk_at dksX2_init_2_1 21 rfl rfl)
theorem dX2_init_2_45 : decode cX2_init_2 45 = .ok (.lcmp, 1) := dk_148 (dk_at dksX2_init_2_1 22 rfl rfl)
theorem dX2_init_2_46 : decode cX2_init_2 46 = .ok (.ifCond .ne 7, 3) := dk_154 0 7 (dk_at dksX2_init_2_2 0 rfl rfl)
theorem dX2_init_2_49 : decode cX2_init_2 49 = .ok (.iconst 1, 1) := dk_4 (dk_at dksX2_init_2_2 3 rfl rfl)
theorem dX2_init_2_50 : decode cX2_init_2 50 = .ok (.goto 4, 3) := dk_167 0 4 (dk_at dksX2_init_2_2 4 rfl rfl)
theorem dX2_init_2_53 : decode cX2_init_2 53 = .ok (.iconst 0, 1) := dk_3 (dk_at dksX2_init_2_2 7 rfl rfl)
theorem dX2_init_2_54 : decode cX2_init_2 54 = .ok (.invokevirtual 24, 3) := dk_182 0 24 (dk_at dksX2_init_2_2 8 rfl rfl)
theorem dX2_init_2_57 : decode cX2_init_2 57 = .ok (.lload_n 3, 1) := dk_33 (dk_at dksX2_init_2_2 11 rfl rfl)
theorem dX2_init_2_58 : decode cX2_init_2 58 = .ok (.iconst 1, 1) := dk_4 (dk_at dksX2_init_2_2 12 rfl rfl)
theorem dX2_init_2_59 : decode cX2_init_2 59 = .ok (.lshr, 1) := dk_123 (dk_at dksX2_init_2_2 13 rfl rfl)
theorem dX2_init_2_60 : decode cX2_init_2 60 = .ok (.lstore_n 3, 1) := dk_66 (dk_at dksX2_init_2_2 14 rfl rfl)
theorem dX2_init_2_61 : decode cX2_init_2 61 = .ok (.iinc 6 1, 3) := dk_132 6 1 (dk_at dksX2_init_2_2 15 rfl rfl)
theorem dX2_init_2_64 : decode cX2_init_2 64 = .ok (.goto (-35), 3) := dk_167 255 221 (dk_at dksX2_init_2_2 18 rfl rfl)
theorem dX2_init_2_67 : decode cX2_init_2 67 = .ok (.iinc 5 1, 3) := dk_132 5 1 (dk_at dksX2_init_2_2 21 rfl rfl)
theorem dX2_init_2_70 : decode cX2_init_2 70 = .ok (.goto (-53), 3) := dk_167 255 203 (dk_at dksX2_init_2_3 0 rfl rfl)
theorem dX2_init_2_73 : decode cX2_init_2 73 = .ok (.return_, 1) := dk_177 (dk_at dksX2_init_2_3 3 rfl rfl)
theorem q94 : (Jvm.Cond.initialized "GraphModules$Graph") ∈ lw_all := lw_g (lw_at lw_m1 3 rfl) rfl
theorem q161 : (Jvm.Cond.instantiable "GraphModules$Graph" (2 : Nat)) ∈ lw_all := lw_g (lw_at lw_m1 70 rfl) rfl
theorem q163 : (Jvm.Cond.instanceMethod ({ cls := "GraphModules$Graph", name := "<init>", desc := "(I)V" } : Jvm.MethodName)) ∈ lw_all := lw_g (lw_at lw_m1 72 rfl) rfl
theorem q164 : (Jvm.Cond.code ({ cls := "GraphModules$Graph", name := "<init>", desc := "(I)V" } : Jvm.MethodName) prog_5_method_1_code (2 : Nat) (Option.none : Option Jvm.ClassFile.FieldType)) ∈ lw_all := lw_g (lw_at lw_m1 73 rfl) rfl
theorem q165 : (Jvm.Cond.methodLink "GraphModules$Graph" (3 : Nat) ({ cls := "java/lang/Object", name := "<init>", desc := "()V" } : Jvm.MethodName)) ∈ lw_all := lw_g (lw_at lw_m1 74 rfl) rfl
theorem q166 : (Jvm.Cond.fieldLink "GraphModules$Graph" (15 : Nat) "GraphModules$Graph" "vertices" "I") ∈ lw_all := lw_g (lw_at lw_m1 75 rfl) rfl
theorem q170 : (Jvm.Cond.fieldLink "GraphModules$Graph" (9 : Nat) "GraphModules$Graph" "near" "[I") ∈ lw_all := lw_g (lw_at lw_m1 79 rfl) rfl
theorem q174 : (Jvm.Cond.laysFinal "GraphModules$Graph" "GraphModules$Graph" "vertices" "I") ∈ lw_all := lw_g (lw_at lw_m1 83 rfl) rfl
theorem q175 : (Jvm.Cond.soleField "GraphModules$Graph" "vertices") ∈ lw_all := lw_g (lw_at lw_m1 84 rfl) rfl
theorem q176 : (Jvm.Cond.laysFinal "GraphModules$Graph" "GraphModules$Graph" "near" "[I") ∈ lw_all := lw_g (lw_at lw_m1 85 rfl) rfl
theorem q177 : (Jvm.Cond.soleField "GraphModules$Graph" "near") ∈ lw_all := lw_g (lw_at lw_m1 86 rfl) rfl
theorem q178 : (Jvm.Cond.superclass "GraphModules$Graph" "java/lang/Object") ∈ lw_all := lw_g (lw_at lw_m1 87 rfl) rfl
theorem q233 : (Jvm.Cond.instanceMethod ({ cls := "GraphModules$Graph", name := "packed", desc := "()J" } : Jvm.MethodName)) ∈ lw_all := lw_g (lw_at lw_m1 142 rfl) rfl
theorem q234 : (Jvm.Cond.selects "GraphModules$Graph" ({ cls := "GraphModules$Graph", name := "packed", desc := "()J" } : Jvm.MethodName) ({ cls := "GraphModules$Graph", name := "packed", desc := "()J" } : Jvm.MethodName)) ∈ lw_all := lw_g (lw_at lw_m1 143 rfl) rfl
theorem q235 : (Jvm.Cond.code ({ cls := "GraphModules$Graph", name := "packed", desc := "()J" } : Jvm.MethodName) prog_5_method_3_code (5 : Nat) (Option.some Jvm.ClassFile.FieldType.long)) ∈ lw_all := lw_g (lw_at lw_m1 144 rfl) rfl
theorem q236 : (Jvm.Cond.methodLink "GraphModules$Graph" (28 : Nat) ({ cls := "GraphModules$Graph", name := "linked", desc := "(II)Z" } : Jvm.MethodName)) ∈ lw_all := lw_g (lw_at lw_m1 145 rfl) rfl
theorem q237 : (Jvm.Cond.instanceMethod ({ cls := "GraphModules$Graph", name := "linked", desc := "(II)Z" } : Jvm.MethodName)) ∈ lw_all := lw_g (lw_at lw_m1 146 rfl) rfl
theorem q238 : (Jvm.Cond.selects "GraphModules$Graph" ({ cls := "GraphModules$Graph", name := "linked", desc := "(II)Z" } : Jvm.MethodName) ({ cls := "GraphModules$Graph", name := "linked", desc := "(II)Z" } : Jvm.MethodName)) ∈ lw_all := lw_g (lw_at lw_m1 147 rfl) rfl
theorem q239 : (Jvm.Cond.code ({ cls := "GraphModules$Graph", name := "linked", desc := "(II)Z" } : Jvm.MethodName) prog_5_method_4_code (3 : Nat) (Option.some Jvm.ClassFile.FieldType.boolean)) ∈ lw_all := lw_g (lw_at lw_m1 148 rfl) rfl
theorem q240 : (Jvm.Cond.methodLinkNest "GraphModules$Graph" (32 : Nat) ({ cls := "GraphModules", name := "has", desc := "(II)Z" } : Jvm.MethodName) "GraphModules") ∈ lw_tbl := lw_at lw_m1 149 rfl
theorem q365 : (Jvm.Cond.instanceMethod ({ cls := "GraphModules$Graph", name := "set", desc := "(IIZ)V" } : Jvm.MethodName)) ∈ lw_all := lw_g (lw_at lw_m2 34 rfl) rfl
theorem q366 : (Jvm.Cond.selects "GraphModules$Graph" ({ cls := "GraphModules$Graph", name := "set", desc := "(IIZ)V" } : Jvm.MethodName) ({ cls := "GraphModules$Graph", name := "set", desc := "(IIZ)V" } : Jvm.MethodName)) ∈ lw_all := lw_g (lw_at lw_m2 35 rfl) rfl
theorem q367 : (Jvm.Cond.code ({ cls := "GraphModules$Graph", name := "set", desc := "(IIZ)V" } : Jvm.MethodName) prog_5_method_5_code (4 : Nat) (Option.none : Option Jvm.ClassFile.FieldType)) ∈ lw_all := lw_g (lw_at lw_m2 36 rfl) rfl
theorem q369 : (Jvm.Cond.instanceMethod ({ cls := "GraphModules$Graph", name := "edges", desc := "()I" } : Jvm.MethodName)) ∈ lw_all := lw_g (lw_at lw_m2 38 rfl) rfl
theorem q370 : (Jvm.Cond.selects "GraphModules$Graph" ({ cls := "GraphModules$Graph", name := "edges", desc := "()I" } : Jvm.MethodName) ({ cls := "GraphModules$Graph", name := "edges", desc := "()I" } : Jvm.MethodName)) ∈ lw_all := lw_g (lw_at lw_m2 39 rfl) rfl
theorem q371 : (Jvm.Cond.code ({ cls := "GraphModules$Graph", name := "edges", desc := "()I" } : Jvm.MethodName) prog_5_method_8_code (3 : Nat) (Option.some Jvm.ClassFile.FieldType.int)) ∈ lw_all := lw_g (lw_at lw_m2 40 rfl) rfl
theorem q372 : (Jvm.Cond.methodLink "GraphModules$Graph" (35 : Nat) ({ cls := "java/lang/Integer", name := "bitCount", desc := "(I)I" } : Jvm.MethodName)) ∈ lw_all := lw_g (lw_at lw_m2 41 rfl) rfl
theorem q387 : (Jvm.Cond.instanceMethod ({ cls := "GraphModules$Graph", name := "join", desc := "(II)V" } : Jvm.MethodName)) ∈ lw_all := lw_g (lw_at lw_m2 56 rfl) rfl
theorem q388 : (Jvm.Cond.selects "GraphModules$Graph" ({ cls := "GraphModules$Graph", name := "join", desc := "(II)V" } : Jvm.MethodName) ({ cls := "GraphModules$Graph", name := "join", desc := "(II)V" } : Jvm.MethodName)) ∈ lw_all := lw_g (lw_at lw_m2 57 rfl) rfl
theorem q389 : (Jvm.Cond.code ({ cls := "GraphModules$Graph", name := "join", desc := "(II)V" } : Jvm.MethodName) prog_5_method_6_code (4 : Nat) (Option.none : Option Jvm.ClassFile.FieldType)) ∈ lw_all := lw_g (lw_at lw_m2 58 rfl) rfl
theorem q444 : (Jvm.Cond.instanceMethod ({ cls := "GraphModules$Graph", name := "all", desc := "()I" } : Jvm.MethodName)) ∈ lw_all := lw_g (lw_at lw_m2 113 rfl) rfl
theorem q445 : (Jvm.Cond.selects "GraphModules$Graph" ({ cls := "GraphModules$Graph", name := "all", desc := "()I" } : Jvm.MethodName) ({ cls := "GraphModules$Graph", name := "all", desc := "()I" } : Jvm.MethodName)) ∈ lw_all := lw_g (lw_at lw_m2 114 rfl) rfl
theorem q446 : (Jvm.Cond.code ({ cls := "GraphModules$Graph", name := "all", desc := "()I" } : Jvm.MethodName) prog_5_method_7_code (1 : Nat) (Option.some Jvm.ClassFile.FieldType.int)) ∈ lw_all := lw_g (lw_at lw_m2 115 rfl) rfl
theorem q485 : (Jvm.Cond.instanceMethod ({ cls := "GraphModules$Graph", name := "reach", desc := "(IIZ)I" } : Jvm.MethodName)) ∈ lw_all := lw_g (lw_at lw_m2 154 rfl) rfl
theorem q486 : (Jvm.Cond.selects "GraphModules$Graph" ({ cls := "GraphModules$Graph", name := "reach", desc := "(IIZ)I" } : Jvm.MethodName) ({ cls := "GraphModules$Graph", name := "reach", desc := "(IIZ)I" } : Jvm.MethodName)) ∈ lw_all := lw_g (lw_at lw_m2 155 rfl) rfl
theorem q487 : (Jvm.Cond.code ({ cls := "GraphModules$Graph", name := "reach", desc := "(IIZ)I" } : Jvm.MethodName) prog_5_method_11_code (8 : Nat) (Option.some Jvm.ClassFile.FieldType.int)) ∈ lw_all := lw_g (lw_at lw_m2 156 rfl) rfl
theorem q518 : (Jvm.Cond.instanceMethod ({ cls := "GraphModules$Graph", name := "module", desc := "(I)I" } : Jvm.MethodName)) ∈ lw_all := lw_g (lw_at lw_m2 187 rfl) rfl
theorem q519 : (Jvm.Cond.selects "GraphModules$Graph" ({ cls := "GraphModules$Graph", name := "module", desc := "(I)I" } : Jvm.MethodName) ({ cls := "GraphModules$Graph", name := "module", desc := "(I)I" } : Jvm.MethodName)) ∈ lw_all := lw_g (lw_at lw_m2 188 rfl) rfl
theorem q520 : (Jvm.Cond.code ({ cls := "GraphModules$Graph", name := "module", desc := "(I)I" } : Jvm.MethodName) prog_5_method_10_code (4 : Nat) (Option.some Jvm.ClassFile.FieldType.int)) ∈ lw_all := lw_g (lw_at lw_m2 189 rfl) rfl
theorem q521 : (Jvm.Cond.methodLink "GraphModules$Graph" (41 : Nat) ({ cls := "GraphModules$Graph", name := "splitters", desc := "(I)I" } : Jvm.MethodName)) ∈ lw_all := lw_g (lw_at lw_m2 190 rfl) rfl
theorem q522 : (Jvm.Cond.instanceMethod ({ cls := "GraphModules$Graph", name := "splitters", desc := "(I)I" } : Jvm.MethodName)) ∈ lw_all := lw_g (lw_at lw_m2 191 rfl) rfl
theorem q523 : (Jvm.Cond.selects "GraphModules$Graph" ({ cls := "GraphModules$Graph", name := "splitters", desc := "(I)I" } : Jvm.MethodName) ({ cls := "GraphModules$Graph", name := "splitters", desc := "(I)I" } : Jvm.MethodName)) ∈ lw_all := lw_g (lw_at lw_m2 192 rfl) rfl
theorem q524 : (Jvm.Cond.code ({ cls := "GraphModules$Graph", name := "splitters", desc := "(I)I" } : Jvm.MethodName) prog_5_method_9_code (5 : Nat) (Option.some Jvm.ClassFile.FieldType.int)) ∈ lw_all := lw_g (lw_at lw_m2 193 rfl) rfl
theorem q566 : (Jvm.Cond.selects "GraphModules$Graph" ({ cls := "java/lang/Object", name := "getClass", desc := "()Ljava/lang/Class;" } : Jvm.MethodName) ({ cls := "java/lang/Object", name := "getClass", desc := "()Ljava/lang/Class;" } : Jvm.MethodName)) ∈ lw_all := lw_g (lw_at lw_m2 235 rfl) rfl
theorem q795 : (Jvm.Cond.instanceMethod ({ cls := "GraphModules$Graph", name := "<init>", desc := "(J)V" } : Jvm.MethodName)) ∈ lw_all := lw_g (lw_at lw_m3 224 rfl) rfl
theorem q796 : (Jvm.Cond.code ({ cls := "GraphModules$Graph", name := "<init>", desc := "(J)V" } : Jvm.MethodName) prog_5_method_2_code (7 : Nat) (Option.none : Option Jvm.ClassFile.FieldType)) ∈ lw_all := lw_g (lw_at lw_m3 225 rfl) rfl
theorem q797 : (Jvm.Cond.constantLong "GraphModules$Graph" (19 : Nat) (15 : Int64)) ∈ lw_all := lw_g (lw_at lw_m3 226 rfl) rfl
theorem q798 : (Jvm.Cond.methodLink "GraphModules$Graph" (21 : Nat) ({ cls := "GraphModules$Graph", name := "<init>", desc := "(I)V" } : Jvm.MethodName)) ∈ lw_all := lw_g (lw_at lw_m3 227 rfl) rfl
theorem q799 : (Jvm.Cond.methodLink "GraphModules$Graph" (24 : Nat) ({ cls := "GraphModules$Graph", name := "set", desc := "(IIZ)V" } : Jvm.MethodName)) ∈ lw_all := lw_g (lw_at lw_m3 228 rfl) rfl
theorem q1854 : (Jvm.Cond.castable "GraphModules$Graph" "java/lang/Object") ∈ lw_tbl := lw_at lw_m8 83 rfl
theorem in_X2 : ∀ w ∈ wsX20, w ∈ lw_all := lw_in wsX20 [174, 176] (by decide +kernel) (by decide +kernel)

/-! GraphModules$Forest -/
set_option maxRecDepth 100000
def RX4 : String := "GraphModules$Forest"
def TX4 : u_T := fun k => match k with
  | 0 => ("GraphModules$Forest", "root", "LGraphModules$Tree;", true)
  | 1 => ("GraphModules$Forest", "nodes", "Ljava/util/ArrayList;", true)
  | _ => ("GraphModules$Forest", "leaves", "LGraphModules$Row;", true)
def tyX4 : Nat → FieldType := fun k => match k with
  | 0 => .object "GraphModules$Tree"
  | 1 => .object "java/util/ArrayList"
  | _ => .object "GraphModules$Row"
abbrev wsX40 : List Cond := u_ws RX4 TX4 3
theorem nmX4 : ∀ a, a < 3 → ∀ b, b < 3 → a ≠ b → (TX4 a).2.1 ≠ (TX4 b).2.1 := by decide +kernel
theorem tyX4_ok : ∀ k, k < 3 → parseFieldDescriptor (TX4 k).2.2.1 = some (tyX4 k) := by decide +kernel
abbrev cX4_init : ByteArray := prog_3_method_1_code
def yX4_init : MethodName := ⟨RX4, "<init>", "(LGraphModules$Graph;)V"⟩
def dkwX4_init_2 : List UInt8 := [182, 0, 41, 177]
abbrev dktX4_init_2 : List UInt8 := dkwX4_init_2 ++ []
def dkwX4_init_1 : List UInt8 := [183, 0, 20, 181, 0, 23, 42, 43, 43, 182, 0, 27, 184, 0, 33, 181, 0, 37, 42, 42, 180, 0, 37]
abbrev dktX4_init_1 : List UInt8 := dkwX4_init_1 ++ dktX4_init_2
def dkwX4_init_0 : List UInt8 := [42, 183, 0, 3, 42, 187, 0, 9, 89, 183, 0, 11, 181, 0, 12, 42, 187, 0, 18, 89, 16, 10, 188, 8]
abbrev dktX4_init_0 : List UInt8 := dkwX4_init_0 ++ dktX4_init_1
theorem dksX4_init_0 : cX4_init.data.toList.drop 0 = dktX4_init_0 := by decide +kernel
theorem dksX4_init_1 : cX4_init.data.toList.drop 24 = dktX4_init_1 := dk_seg dksX4_init_0 24 rfl rfl
theorem dksX4_init_2 : cX4_init.data.toList.drop 47 = dktX4_init_2 := dk_seg dksX4_init_1 23 rfl rfl
theorem dX4_init_0 : decode cX4_init 0 = .ok (.aload_n 0, 1) := dk_42 (dk_at dksX4_init_0 0 rfl rfl)
theorem dX4_init_1 : decode cX4_init 1 = .ok (.invokespecial 3, 3) := dk_183 0 3 (dk_at dksX4_init_0 1 rfl rfl)
theorem dX4_init_4 : decode cX4_init 4 = .ok (.aload_n 0, 1) := dk_42 (dk_at dksX4_init_0 4 rfl rfl)
theorem dX4_init_5 : decode cX4_init 5 = .ok (.new 9, 3) := dk_187 0 9 (dk_at dksX4_init_0 5 rfl rfl)
theorem dX4_init_8 : decode cX4_init 8 = .ok (.dup, 1) := dk_89 (dk_at dksX4_init_0 8 rfl rfl)
theorem dX4_init_9 : decode cX4_init 9 = .ok (.invokespecial 11, 3) := dk_183 0 11 (dk_at dksX4_init_0 9 rfl rfl)
theorem dX4_init_12 : decode cX4_init 12 = .ok (.putfield 12, 3) := dk_181 0 12 (dk_at dksX4_init_0 12 rfl rfl)
theorem dX4_init_15 : decode cX4_init 15 = .ok (.aload_n 0, 1) := dk_42 (dk_at dksX4_init_0 15 rfl rfl)
theorem dX4_init_16 : decode cX4_init 16 = .ok (.new 18, 3) := dk_187 0 18 (dk_at dksX4_init_0 16 rfl rfl)
theorem dX4_init_19 : decode cX4_init 19 = .ok (.dup, 1) := dk_89 (dk_at dksX4_init_0 19 rfl rfl)
theorem dX4_init_20 : decode cX4_init 20 = .ok (.bipush 10, 2) := dk_16 10 (dk_at dksX4_init_0 20 rfl rfl)
theorem dX4_init_22 : decode cX4_init 22 = .ok (.newarray .byte, 2) := dk_188_8 (dk_at dksX4_init_0 22 rfl rfl)
theorem dX4_init_24 : decode cX4_init 24 = .ok (.invokespecial 20, 3) := dk_183 0 20 (dk_at dksX4_init_1 0 rfl rfl)
theorem dX4_init_27 : decode cX4_init 27 = .ok (.putfield 23, 3) := dk_181 0 23 (dk_at dksX4_init_1 3 rfl rfl)
theorem dX4_init_30 : decode cX4_init 30 = .ok (.aload_n 0, 1) := dk_42 (dk_at dksX4_init_1 6 rfl rfl)
theorem dX4_init_31 : decode cX4_init 31 = .ok (.aload_n 1, 1) := dk_43 (dk_at dksX4_init_1 7 rfl rfl)
theorem dX4_init_32 : decode cX4_init 32 = .ok (.aload_n 1, 1) := dk_43 (dk_at dksX4_init_1 8 rfl rfl)
theorem dX4_init_33 : decode cX4_init 33 = .ok (.invokevirtual 27, 3) := dk_182 0 27 (dk_at dksX4_init_1 9 rfl rfl)
theorem dX4_init_36 : decode cX4_init 36 = .ok (.invokestatic 33, 3) := dk_184 0 33 (dk_at dksX4_init_1 12 rfl rfl)
theorem dX4_init_39 : decode cX4_init 39 = .ok (.putfield 37, 3) := dk_181 0 37 (dk_at dksX4_init_1 15 rfl rfl)
theorem dX4_init_42 : decode cX4_init 42 = .ok (.aload_n 0, 1) := dk_42 (dk_at dksX4_init_1 18 rfl rfl)
theorem dX4_init_43 : decode cX4_init 43 = .ok (.aload_n 0, 1) := dk_42 (dk_at dksX4_init_1 19 rfl rfl)
theorem dX4_init_44 : decode cX4_init 44 = .ok (.getfield 37, 3) := dk_180 0 37 (dk_at dksX4_init_1 20 rfl rfl)
theorem dX4_init_47 : decode cX4_init 47 = .ok (.invokevirtual 41, 3) := dk_182 0 41 (dk_at dksX4_init_2 0 rfl rfl)
theorem dX4_init_50 : decode cX4_init 50 = .ok (.return_, 1) := dk_177 (dk_at dksX4_init_2 3 rfl rfl)
abbrev cX4_list : ByteArray := prog_3_method_2_code
def yX4_list : MethodName := ⟨RX4, "list", "(LGraphModules$Tree;)V"⟩
def dkwX4_list_5 : List UInt8 := [87, 177]
abbrev dktX4_list_5 : List UInt8 := dkwX4_list_5 ++ []
def dkwX4_list_4 : List UInt8 := [182, 0, 41, 167, 255, 230, 167, 0, 19, 42, 180, 0, 23, 43, 180, 0, 54, 184, 0, 81, 133, 182, 0, 85]
abbrev dktX4_list_4 : List UInt8 := dkwX4_list_4 ++ dktX4_list_5
def dkwX4_list_3 : List UInt8 := [185, 0, 71, 1, 0, 153, 0, 23, 45, 185, 0, 77, 1, 0, 192, 0, 52, 58, 4, 42, 25, 4]
abbrev dktX4_list_3 : List UInt8 := dkwX4_list_3 ++ dktX4_list_4
def dkwX4_list_2 : List UInt8 := [43, 182, 0, 58, 43, 193, 0, 62, 153, 0, 46, 43, 192, 0, 62, 180, 0, 64, 182, 0, 67, 78, 45]
abbrev dktX4_list_2 : List UInt8 := dkwX4_list_2 ++ dktX4_list_3
def dkwX4_list_1 : List UInt8 := [192, 0, 52, 180, 0, 54, 43, 180, 0, 54, 164, 0, 9, 132, 2, 255, 167, 255, 226, 42, 180, 0, 12, 28]
abbrev dktX4_list_1 : List UInt8 := dkwX4_list_1 ++ dktX4_list_2
def dkwX4_list_0 : List UInt8 := [42, 180, 0, 12, 182, 0, 45, 61, 28, 158, 0, 32, 42, 180, 0, 12, 28, 4, 100, 182, 0, 48]
abbrev dktX4_list_0 : List UInt8 := dkwX4_list_0 ++ dktX4_list_1
theorem dksX4_list_0 : cX4_list.data.toList.drop 0 = dktX4_list_0 := by decide +kernel
theorem dksX4_list_1 : cX4_list.data.toList.drop 22 = dktX4_list_1 := dk_seg dksX4_list_0 22 rfl rfl
theorem dksX4_list_2 : cX4_list.data.toList.drop 46 = dktX4_list_2 := dk_seg dksX4_list_1 24 rfl rfl
theorem dksX4_list_3 : cX4_list.data.toList.drop 69 = dktX4_list_3 := dk_seg dksX4_list_2 23 rfl rfl
theorem dksX4_list_4 : cX4_list.data.toList.drop 91 = dktX4_list_4 := dk_seg dksX4_list_3 22 rfl rfl
theorem dksX4_list_5 : cX4_list.data.toList.drop 115 = dktX4_list_5 := dk_seg dksX4_list_4 24 rfl rfl
theorem dX4_list_0 : decode cX4_list 0 = .ok (.aload_n 0, 1) := dk_42 (dk_at dksX4_list_0 0 rfl rfl)
theorem dX4_list_1 : decode cX4_list 1 = .ok (.getfield 12, 3) := dk_180 0 12 (dk_at dksX4_list_0 1 rfl rfl)
theorem dX4_list_4 : decode cX4_list 4 = .ok (.invokevirtual 45, 3) := dk_182 0 45 (dk_at dksX4_list_0 4 rfl rfl)
theorem dX4_list_7 : decode cX4_list 7 = .ok (.istore_n 2, 1) := dk_61 (dk_at dksX4_list_0 7 rfl rfl)
theorem dX4_list_8 : decode cX4_list 8 = .ok (.iload_n 2, 1) := dk_28 (dk_at dksX4_list_0 8 rfl rfl)
theorem dX4_list_9 : decode cX4_list 9 = .ok (.ifCond .le 32, 3) := dk_158 0 32 (dk_at dksX4_list_0 9 rfl rfl)
theorem dX4_list_12 : decode cX4_list 12 = .ok (.aload_n 0, 1) := dk_42 (dk_at dksX4_list_0 12 rfl rfl)
theorem dX4_list_13 : decode cX4_list 13 = .ok (.getfield 12, 3) := dk_180 0 12 (dk_at dksX4_list_0 13 rfl rfl)
theorem dX4_list_16 : decode cX4_list 16 = .ok (.iload_n 2, 1) := dk_28 (dk_at dksX4_list_0 16 rfl rfl)
theorem dX4_list_17 : decode cX4_list 17 = .ok (.iconst 1, 1) := dk_4 (dk_at dksX4_list_0 17 rfl rfl)
theorem dX4_list_18 : decode cX4_list 18 = .ok (.isub, 1) := dk_100 (dk_at dksX4_list_0 18 rfl rfl)
theorem dX4_list_19 : decode cX4_list 19 = .ok (.invokevirtual 48, 3) := dk_182 0 48 (dk_at dksX4_list_0 19 rfl rfl)
theorem dX4_list_22 : decode cX4_list 22 = .ok (.checkcast 52, 3) := dk_192 0 52 (dk_at dksX4_list_1 0 rfl rfl)
theorem dX4_list_25 : decode cX4_list 25 = .ok (.getfield 54, 3) := dk_180 0 54 (dk_at dksX4_list_1 3 rfl rfl)
theorem dX4_list_28 : decode cX4_list 28 = .ok (.aload_n 1, 1) := dk_43 (dk_at dksX4_list_1 6 rfl rfl)
theorem dX4_list_29 : decode cX4_list 29 = .ok (.getfield 54, 3) := dk_180 0 54 (dk_at dksX4_list_1 7 rfl rfl)
theorem dX4_list_32 : decode cX4_list 32 = .ok (.if_icmp .le 9, 3) := dk_164 0 9 (dk_at dksX4_list_1 10 rfl rfl)
theorem dX4_list_35 : decode cX4_list 35 = .ok (.iinc 2 (-1), 3) := dk_132 2 255 (dk_at dksX4_list_1 13 rfl rfl)
theorem dX4_list_38 : decode cX4_list 38 = .ok (.goto (-30), 3) := dk_167 255 226 (dk_at dksX4_list_1 16 rfl rfl)
theorem dX4_list_41 : decode cX4_list 41 = .ok (.aload_n 0, 1) := dk_42 (dk_at dksX4_list_1 19 rfl rfl)
theorem dX4_list_42 : decode cX4_list 42 = .ok (.getfield 12, 3) := dk_180 0 12 (dk_at dksX4_list_1 20 rfl rfl)
theorem dX4_list_45 : decode cX4_list 45 = .ok (.iload_n 2, 1) := dk_28 (dk_at dksX4_list_1 23 rfl rfl)
theorem dX4_list_46 : decode cX4_list 46 = .ok (.aload_n 1, 1) := dk_43 (dk_at dksX4_list_2 0 rfl rfl)
theorem dX4_list_47 : decode cX4_list 47 = .ok (.invokevirtual 58, 3) := dk_182 0 58 (dk_at dksX4_list_2 1 rfl rfl)
theorem dX4_list_50 : decode cX4_list 50 = .ok (.aload_n 1, 1) := dk_43 (dk_at dksX4_list_2 4 rfl rfl)
theorem dX4_list_51 : decode cX4_list 51 = .ok (.instanceof 62, 3) := dk_193 0 62 (dk_at dksX4_list_2 5 rfl rfl)
theorem dX4_list_54 : decode cX4_list 54 = .ok (.ifCond .eq 46, 3) := dk_153 0 46 (dk_at dksX4_list_2 8 rfl rfl)
theorem dX4_list_57 : decode cX4_list 57 = .ok (.aload_n 1, 1) := dk_43 (dk_at dksX4_list_2 11 rfl rfl)
theorem dX4_list_58 : decode cX4_list 58 = .ok (.checkcast 62, 3) := dk_192 0 62 (dk_at dksX4_list_2 12 rfl rfl)
theorem dX4_list_61 : decode cX4_list 61 = .ok (.getfield 64, 3) := dk_180 0 64 (dk_at dksX4_list_2 15 rfl rfl)
theorem dX4_list_64 : decode cX4_list 64 = .ok (.invokevirtual 67, 3) := dk_182 0 67 (dk_at dksX4_list_2 18 rfl rfl)
theorem dX4_list_67 : decode cX4_list 67 = .ok (.astore_n 3, 1) := dk_78 (dk_at dksX4_list_2 21 rfl rfl)
theorem dX4_list_68 : decode cX4_list 68 = .ok (.aload_n 3, 1) := dk_45 (dk_at dksX4_list_2 22 rfl rfl)
theorem dX4_list_69 : decode cX4_list 69 = .ok (.invokeinterface 71 1, 5) := by decide +kernel
theorem dX4_list_74 : decode cX4_list 74 = .ok (.ifCond .eq 23, 3) := dk_153 0 23 (dk_at dksX4_list_3 5 rfl rfl)
theorem dX4_list_77 : decode cX4_list 77 = .ok (.aload_n 3, 1) := dk_45 (dk_at dksX4_list_3 8 rfl rfl)
theorem dX4_list_78 : decode cX4_list 78 = .ok (.invokeinterface 77 1, 5) := by decide +kernel
theorem dX4_list_83 : decode cX4_list 83 = .ok (.checkcast 52, 3) := dk_192 0 52 (dk_at dksX4_list_3 14 rfl rfl)
theorem dX4_list_86 : decode cX4_list 86 = .ok (.astore 4, 2) := dk_58 4 (dk_at dksX4_list_3 17 rfl rfl)
theorem dX4_list_88 : decode cX4_list 88 = .ok (.aload_n 0, 1) := dk_42 (dk_at dksX4_list_3 19 rfl rfl)
theorem dX4_list_89 : decode cX4_list 89 = .ok (.aload 4, 2) := dk_25 4 (dk_at dksX4_list_3 20 rfl rfl)
theorem dX4_list_91 : decode cX4_list 91 = .ok (.invokevirtual 41, 3) := dk_182 0 41 (dk_at dksX4_list_4 0 rfl rfl)
theorem dX4_list_94 : decode cX4_list 94 = .ok (.goto (-26), 3) := dk_167 255 230 (dk_at dksX4_list_4 3 rfl rfl)
theorem dX4_list_97 : decode cX4_list 97 = .ok (.goto 19, 3) := dk_167 0 19 (dk_at dksX4_list_4 6 rfl rfl)
theorem dX4_list_100 : decode cX4_list 100 = .ok (.aload_n 0, 1) := dk_42 (dk_at dksX4_list_4 9 rfl rfl)
theorem dX4_list_101 : decode cX4_list 101 = .ok (.getfield 23, 3) := dk_180 0 23 (dk_at dksX4_list_4 10 rfl rfl)
theorem dX4_list_104 : decode cX4_list 104 = .ok (.aload_n 1, 1) := dk_43 (dk_at dksX4_list_4 13 rfl rfl)
theorem dX4_list_105 : decode cX4_list 105 = .ok (.getfield 54, 3) := dk_180 0 54 (dk_at dksX4_list_4 14 rfl rfl)
theorem dX4_list_108 : decode cX4_list 108 = .ok (.invokestatic 81, 3) := dk_184 0 81 (dk_at dksX4_list_4 17 rfl rfl)
theorem dX4_list_111 : decode cX4_list 111 = .ok (.i2l, 1) := dk_133 (dk_at dksX4_list_4 20 rfl rfl)
theorem dX4_list_112 : decode cX4_list 112 = .ok (.invokevirtual 85, 3) := dk_182 0 85 (dk_at dksX4_list_4 21 rfl rfl)
theorem dX4_list_115 : decode cX4_list 115 = .ok (.pop, 1) := dk_87 (dk_at dksX4_list_5 0 rfl rfl)
theorem dX4_list_116 : decode cX4_list 116 = .ok (.return_, 1) := dk_177 (dk_at dksX4_list_5 1 rfl rfl)
abbrev cX4_modules : ByteArray := prog_3_method_7_code
def yX4_modules : MethodName := ⟨RX4, "modules", "(I)I"⟩
def dkwX4_modules_2 : List UInt8 := [172]
abbrev dktX4_modules_2 : List UInt8 := dkwX4_modules_2 ++ []
def dkwX4_modules_1 : List UInt8 := [185, 0, 77, 1, 0, 192, 0, 52, 58, 4, 28, 42, 25, 4, 27, 182, 0, 120, 96, 61, 167, 255, 226, 28]
abbrev dktX4_modules_1 : List UInt8 := dkwX4_modules_1 ++ dktX4_modules_2
def dkwX4_modules_0 : List UInt8 := [3, 61, 42, 180, 0, 12, 182, 0, 67, 78, 45, 185, 0, 71, 1, 0, 153, 0, 27, 45]
abbrev dktX4_modules_0 : List UInt8 := dkwX4_modules_0 ++ dktX4_modules_1
theorem dksX4_modules_0 : cX4_modules.data.toList.drop 0 = dktX4_modules_0 := by decide +kernel
theorem dksX4_modules_1 : cX4_modules.data.toList.drop 20 = dktX4_modules_1 := dk_seg dksX4_modules_0 20 rfl rfl
theorem dksX4_modules_2 : cX4_modules.data.toList.drop 44 = dktX4_modules_2 := dk_seg dksX4_modules_1 24 rfl rfl
theorem dX4_modules_0 : decode cX4_modules 0 = .ok (.iconst 0, 1) := dk_3 (dk_at dksX4_modules_0 0 rfl rfl)
theorem dX4_modules_1 : decode cX4_modules 1 = .ok (.istore_n 2, 1) := dk_61 (dk_at dksX4_modules_0 1 rfl rfl)
theorem dX4_modules_2 : decode cX4_modules 2 = .ok (.aload_n 0, 1) := dk_42 (dk_at dksX4_modules_0 2 rfl rfl)
theorem dX4_modules_3 : decode cX4_modules 3 = .ok (.getfield 12, 3) := dk_180 0 12 (dk_at dksX4_modules_0 3 rfl rfl)
theorem dX4_modules_6 : decode cX4_modules 6 = .ok (.invokevirtual 67, 3) := dk_182 0 67 (dk_at dksX4_modules_0 6 rfl rfl)
theorem dX4_modules_9 : decode cX4_modules 9 = .ok (.astore_n 3, 1) := dk_78 (dk_at dksX4_modules_0 9 rfl rfl)
theorem dX4_modules_10 : decode cX4_modules 10 = .ok (.aload_n 3, 1) := dk_45 (dk_at dksX4_modules_0 10 rfl rfl)
theorem dX4_modules_11 : decode cX4_modules 11 = .ok (.invokeinterface 71 1, 5) := by decide +kernel
theorem dX4_modules_16 : decode cX4_modules 16 = .ok (.ifCond .eq 27, 3) := dk_153 0 27 (dk_at dksX4_modules_0 16 rfl rfl)
theorem dX4_modules_19 : decode cX4_modules 19 = .ok (.aload_n 3, 1) := dk_45 (dk_at dksX4_modules_0 19 rfl rfl)
theorem dX4_modules_20 : decode cX4_modules 20 = .ok (.invokeinterface 77 1, 5) := by decide +kernel
theorem dX4_modules_25 : decode cX4_modules 25 = .ok (.checkcast 52, 3) := dk_192 0 52 (dk_at dksX4_modules_1 5 rfl rfl)
theorem dX4_modules_28 : decode cX4_modules 28 = .ok (.astore 4, 2) := dk_58 4 (dk_at dksX4_modules_1 8 rfl rfl)
theorem dX4_modules_30 : decode cX4_modules 30 = .ok (.iload_n 2, 1) := dk_28 (dk_at dksX4_modules_1 10 rfl rfl)
theorem dX4_modules_31 : decode cX4_modules 31 = .ok (.aload_n 0, 1) := dk_42 (dk_at dksX4_modules_1 11 rfl rfl)
theorem dX4_modules_32 : decode cX4_modules 32 = .ok (.aload 4, 2) := dk_25 4 (dk_at dksX4_modules_1 12 rfl rfl)
theorem dX4_modules_34 : decode cX4_modules 34 = .ok (.iload_n 1, 1) := dk_27 (dk_at dksX4_modules_1 14 rfl rfl)
theorem dX4_modules_35 : decode cX4_modules 35 = .ok (.invokevirtual 120, 3) := dk_182 0 120 (dk_at dksX4_modules_1 15 rfl rfl)
theorem dX4_modules_38 : decode cX4_modules 38 = .ok (.iadd, 1) := dk_96 (dk_at dksX4_modules_1 18 rfl rfl)
theorem dX4_modules_39 : decode cX4_modules 39 = .ok (.istore_n 2, 1) := dk_61 (dk_at dksX4_modules_1 19 rfl rfl)
theorem dX4_modules_40 : decode cX4_modules 40 = .ok (.goto (-30), 3) := dk_167 255 226 (dk_at dksX4_modules_1 20 rfl rfl)
theorem dX4_modules_43 : decode cX4_modules 43 = .ok (.iload_n 2, 1) := dk_28 (dk_at dksX4_modules_1 23 rfl rfl)
theorem dX4_modules_44 : decode cX4_modules 44 = .ok (.ireturn, 1) := dk_172 (dk_at dksX4_modules_2 0 rfl rfl)
abbrev cX4_modules_2 : ByteArray := prog_3_method_6_code
def yX4_modules_2 : MethodName := ⟨RX4, "modules", "(LGraphModules$Tree;I)I"⟩
def dkwX4_modules_2_6 : List UInt8 := [167, 255, 151, 21, 5, 172]
abbrev dktX4_modules_2_6 : List UInt8 := dkwX4_modules_2_6 ++ []
def dkwX4_modules_2_5 : List UInt8 := [153, 0, 17, 28, 153, 0, 9, 21, 7, 28, 160, 0, 7, 4, 167, 0, 4, 3, 96, 54, 5, 132, 6, 1]
abbrev dktX4_modules_2_5 : List UInt8 := dkwX4_modules_2_5 ++ dktX4_modules_2_6
def dkwX4_modules_2_4 : List UInt8 := [54, 7, 132, 8, 1, 167, 255, 209, 21, 5, 45, 180, 0, 112, 21, 6, 184, 0, 107, 21, 4, 182, 0, 115]
abbrev dktX4_modules_2_4 : List UInt8 := dkwX4_modules_2_4 ++ dktX4_modules_2_5
def dkwX4_modules_2_3 : List UInt8 := [45, 180, 0, 64, 21, 8, 182, 0, 48, 192, 0, 52, 180, 0, 54, 184, 0, 107, 167, 0, 4, 3, 96]
abbrev dktX4_modules_2_3 : List UInt8 := dkwX4_modules_2_3 ++ dktX4_modules_2_4
def dkwX4_modules_2_2 : List UInt8 := [54, 7, 3, 54, 8, 21, 8, 21, 4, 162, 0, 46, 21, 7, 21, 6, 21, 8, 184, 0, 103, 153, 0, 24]
abbrev dktX4_modules_2_2 : List UInt8 := dkwX4_modules_2_2 ++ dktX4_modules_2_3
def dkwX4_modules_2_1 : List UInt8 := [180, 0, 64, 182, 0, 45, 54, 4, 3, 54, 5, 4, 54, 6, 21, 6, 4, 21, 4, 120, 162, 0, 102, 3]
abbrev dktX4_modules_2_1 : List UInt8 := dkwX4_modules_2_1 ++ dktX4_modules_2_2
def dkwX4_modules_2_0 : List UInt8 := [43, 193, 0, 101, 153, 0, 14, 28, 5, 162, 0, 7, 4, 167, 0, 4, 3, 172, 43, 192, 0, 62, 78, 45]
abbrev dktX4_modules_2_0 : List UInt8 := dkwX4_modules_2_0 ++ dktX4_modules_2_1
theorem dksX4_modules_2_0 : cX4_modules_2.data.toList.drop 0 = dktX4_modules_2_0 := by decide +kernel
theorem dksX4_modules_2_1 : cX4_modules_2.data.toList.drop 24 = dktX4_modules_2_1 := dk_seg dksX4_modules_2_0 24 rfl rfl
theorem dksX4_modules_2_2 : cX4_modules_2.data.toList.drop 48 = dktX4_modules_2_2 := dk_seg dksX4_modules_2_1 24 rfl rfl
theorem dksX4_modules_2_3 : cX4_modules_2.data.toList.drop 72 = dktX4_modules_2_3 := dk_seg dksX4_modules_2_2 24 rfl rfl
theorem dksX4_modules_2_4 : cX4_modules_2.data.toList.drop 95 = dktX4_modules_2_4 := dk_seg dksX4_modules_2_3 23 rfl rfl
theorem dksX4_modules_2_5 : cX4_modules_2.data.toList.drop 119 = dktX4_modules_2_5 := dk_seg dksX4_modules_2_4 24 rfl rfl
theorem dksX4_modules_2_6 : cX4_modules_2.data.toList.drop 143 = dktX4_modules_2_6 := dk_seg dksX4_modules_2_5 24 rfl rfl
theorem dX4_modules_2_0 : decode cX4_modules_2 0 = .ok (.aload_n 1, 1) := dk_43 (dk_at dksX4_modules_2_0 0 rfl rfl)
theorem dX4_modules_2_1 : decode cX4_modules_2 1 = .ok (.instanceof 101, 3) := dk_193 0 101 (dk_at dksX4_modules_2_0 1 rfl rfl)
theorem dX4_modules_2_4 : decode cX4_modules_2 4 = .ok (.ifCond .eq 14, 3) := dk_153 0 14 (dk_at dksX4_modules_2_0 4 rfl rfl)
theorem dX4_modules_2_7 : decode cX4_modules_2 7 = .ok (.iload_n 2, 1) := dk_28 (dk_at dksX4_modules_2_0 7 rfl rfl)
theorem dX4_modules_2_8 : decode cX4_modules_2 8 = .ok (.iconst 2, 1) := dk_5 (dk_at dksX4_modules_2_0 8 rfl rfl)
theorem dX4_modules_2_9 : decode cX4_modules_2 9 = .ok (.if_icmp .ge 7, 3) := dk_162 0 7 (dk_at dksX4_modules_2_0 9 rfl rfl)
theorem dX4_modules_2_12 : decode cX4_modules_2 12 = .ok (.iconst 1, 1) := dk_4 (dk_at dksX4_modules_2_0 12 rfl rfl)
theorem dX4_modules_2_13 : decode cX4_modules_2 13 = .ok (.goto 4, 3) := dk_167 0 4 (dk_at dksX4_modules_2_0 13 rfl rfl)
theorem dX4_modules_2_16 : decode cX4_modules_2 16 = .ok (.iconst 0, 1) := dk_3 (dk_at dksX4_modules_2_0 16 rfl rfl)
theorem dX4_modules_2_17 : decode cX4_modules_2 17 = .ok (.ireturn, 1) := dk_172 (dk_at dksX4_modules_2_0 17 rfl rfl)
theorem dX4_modules_2_18 : decode cX4_modules_2 18 = .ok (.aload_n 1, 1) := dk_43 (dk_at dksX4_modules_2_0 18 rfl rfl)
theorem dX4_modules_2_19 : decode cX4_modules_2 19 = .ok (.checkcast 62, 3) := dk_192 0 62 (dk_at dksX4_modules_2_0 19 rfl rfl)
theorem dX4_modules_2_22 : decode cX4_modules_2 22 = .ok (.astore_n 3, 1) := dk_78 (dk_at dksX4_modules_2_0 22 rfl rfl)
theorem dX4_modules_2_23 : decode cX4_modules_2 23 = .ok (.aload_n 3, 1) := dk_45 (dk_at dksX4_modules_2_0 23 rfl rfl)
theorem dX4_modules_2_24 : decode cX4_modules_2 24 = .ok (.getfield 64, 3) := dk_180 0 64 (dk_at dksX4_modules_2_1 0 rfl rfl)
theorem dX4_modules_2_27 : decode cX4_modules_2 27 = .ok (.invokevirtual 45, 3) := dk_182 0 45 (dk_at dksX4_modules_2_1 3 rfl rfl)
theorem dX4_modules_2_30 : decode cX4_modules_2 30 = .ok (.istore 4, 2) := dk_54 4 (dk_at dksX4_modules_2_1 6 rfl rfl)
theorem dX4_modules_2_32 : decode cX4_modules_2 32 = .ok (.iconst 0, 1) := dk_3 (dk_at dksX4_modules_2_1 8 rfl rfl)
theorem dX4_modules_2_33 : decode cX4_modules_2 33 = .ok (.istore 5, 2) := dk_54 5 (dk_at dksX4_modules_2_1 9 rfl rfl)
theorem dX4_modules_2_35 : decode cX4_modules_2 35 = .ok (.iconst 1, 1) := dk_4 (dk_at dksX4_modules_2_1 11 rfl rfl)
theorem dX4_modules_2_36 : decode cX4_modules_2 36 = .ok (.istore 6, 2) := dk_54 6 (dk_at dksX4_modules_2_1 12 rfl rfl)
theorem dX4_modules_2_38 : decode cX4_modules_2 38 = .ok (.iload 6, 2) := dk_21 6 (dk_at dksX4_modules_2_1 14 rfl rfl)
theorem dX4_modules_2_40 : decode cX4_modules_2 40 = .ok (.iconst 1, 1) := dk_4 (dk_at dksX4_modules_2_1 16 rfl rfl)
theorem dX4_modules_2_41 : decode cX4_modules_2 41 = .ok (.iload 4, 2) := dk_21 4 (dk_at dksX4_modules_2_1 17 rfl rfl)
theorem dX4_modules_2_43 : decode cX4_modules_2 43 = .ok (.ishl, 1) := dk_120 (dk_at dksX4_modules_2_1 19 rfl rfl)
theorem dX4_modules_2_44 : decode cX4_modules_2 44 = .ok (.if_icmp .ge 102, 3) := dk_162 0 102 (dk_at dksX4_modules_2_1 20 rfl rfl)
theorem dX4_modules_2_47 : decode cX4_modules_2 47 = .ok (.iconst 0, 1) := dk_3 (dk_at dksX4_modules_2_1 23 rfl rfl)
theorem dX4_modules_2_48 : decode cX4_modules_2 48 = .ok (.istore 7, 2) := dk_54 7 (dk_at dksX4_modules_2_2 0 rfl rfl)
theorem dX4_modules_2_50 : decode cX4_modules_2 50 = .ok (.iconst 0, 1) := dk_3 (dk_at dksX4_modules_2_2 2 rfl rfl)
theorem dX4_modules_2_51 : decode cX4_modules_2 51 = .ok (.istore 8, 2) := dk_54 8 (dk_at dksX4_modules_2_2 3 rfl rfl)
theorem dX4_modules_2_53 : decode cX4_modules_2 53 = .ok (.iload 8, 2) := dk_21 8 (dk_at dksX4_modules_2_2 5 rfl rfl)
theorem dX4_modules_2_55 : decode cX4_modules_2 55 = .ok (.iload 4, 2) := dk_21 4 (dk_at dksX4_modules_2_2 7 rfl rfl)
theorem dX4_modules_2_57 : decode cX4_modules_2 57 = .ok (.if_icmp .ge 46, 3) := dk_162 0 46 (dk_at dksX4_modules_2_2 9 rfl rfl)
theorem dX4_modules_2_60 : decode cX4_modules_2 60 = .ok (.iload 7, 2) := dk_21 7 (dk_at dksX4_modules_2_2 12 rfl rfl)
theorem dX4_modules_2_62 : decode cX4_modules_2 62 = .ok (.iload 6, 2) := dk_21 6 (dk_at dksX4_modules_2_2 14 rfl rfl)
theorem dX4_modules_2_64 : decode cX4_modules_2 64 = .ok (.iload 8, 2) := dk_21 8 (dk_at dksX4_modules_2_2 16 rfl rfl)
theorem dX4_modules_2_66 : decode cX4_modules_2 66 = .ok (.invokestatic 103, 3) := dk_184 0 103 (dk_at dksX4_modules_2_2 18 rfl rfl)
theorem dX4_modules_2_69 : decode cX4_modules_2 69 = .ok (.ifCond .eq 24, 3) := dk_153 0 24 (dk_at dksX4_modules_2_2 21 rfl rfl)
theorem dX4_modules_2_72 : decode cX4_modules_2 72 = .ok (.aload_n 3, 1) := dk_45 (dk_at dksX4_modules_2_3 0 rfl rfl)
theorem dX4_modules_2_73 : decode cX4_modules_2 73 = .ok (.getfield 64, 3) := dk_180 0 64 (dk_at dksX4_modules_2_3 1 rfl rfl)
theorem dX4_modules_2_76 : decode cX4_modules_2 76 = .ok (.iload 8, 2) := dk_21 8 (dk_at dksX4_modules_2_3 4 rfl rfl)
theorem dX4_modules_2_78 : decode cX4_modules_2 78 = .ok (.invokevirtual 48, 3) := dk_182 0 48 (dk_at dksX4_modules_2_3 6 rfl rfl)
theorem dX4_modules_2_81 : decode cX4_modules_2 81 = .ok (.checkcast 52, 3) := dk_192 0 52 (dk_at dksX4_modules_2_3 9 rfl rfl)
theorem dX4_modules_2_84 : decode cX4_modules_2 84 = .ok (.getfield 54, 3) := dk_180 0 54 (dk_at dksX4_modules_2_3 12 rfl rfl)
theorem dX4_modules_2_87 : decode cX4_modules_2 87 = .ok (.invokestatic 107, 3) := dk_184 0 107 (dk_at dksX4_modules_2_3 15 rfl rfl)
theorem dX4_modules_2_90 : decode cX4_modules_2 90 = .ok (.goto 4, 3) := dk_167 0 4 (dk_at dksX4_modules_2_3 18 rfl rfl)
theorem dX4_modules_2_93 : decode cX4_modules_2 93 = .ok (.iconst 0, 1) := dk_3 (dk_at dksX4_modules_2_3 21 rfl rfl)
theorem dX4_modules_2_94 : decode cX4_modules_2 94 = .ok (.iadd, 1) := dk_96 (dk_at dksX4_modules_2_3 22 rfl rfl)
theorem dX4_modules_2_95 : decode cX4_modules_2 95 = .ok (.istore 7, 2) := dk_54 7 (dk_at dksX4_modules_2_4 0 rfl rfl)
theorem dX4_modules_2_97 : decode cX4_modules_2 97 = .ok (.iinc 8 1, 3) := dk_132 8 1 (dk_at dksX4_modules_2_4 2 rfl rfl)
theorem dX4_modules_2_100 : decode cX4_modules_2 100 = .ok (.goto (-47), 3) := dk_167 255 209 (dk_at dksX4_modules_2_4 5 rfl rfl)
theorem dX4_modules_2_103 : decode cX4_modules_2 103 = .ok (.iload 5, 2) := dk_21 5 (dk_at dksX4_modules_2_4 8 rfl rfl)
theorem dX4_modules_2_105 : decode cX4_modules_2 105 = .ok (.aload_n 3, 1) := dk_45 (dk_at dksX4_modules_2_4 10 rfl rfl)
theorem dX4_modules_2_106 : decode cX4_modules_2 106 = .ok (.getfield 112, 3) := dk_180 0 112 (dk_at dksX4_modules_2_4 11 rfl rfl)
theorem dX4_modules_2_109 : decode cX4_modules_2 109 = .ok (.iload 6, 2) := dk_21 6 (dk_at dksX4_modules_2_4 14 rfl rfl)
theorem dX4_modules_2_111 : decode cX4_modules_2 111 = .ok (.invokestatic 107, 3) := dk_184 0 107 (dk_at dksX4_modules_2_4 16 rfl rfl)
theorem dX4_modules_2_114 : decode cX4_modules_2 114 = .ok (.iload 4, 2) := dk_21 4 (dk_at dksX4_modules_2_4 19 rfl rfl)
theorem dX4_modules_2_116 : decode cX4_modules_2 116 = .ok (.invokevirtual 115, 3) := dk_182 0 115 (dk_at dksX4_modules_2_4 21 rfl rfl)
theorem dX4_modules_2_119 : decode cX4_modules_2 119 = .ok (.ifCond .eq 17, 3) := dk_153 0 17 (dk_at dksX4_modules_2_5 0 rfl rfl)
theorem dX4_modules_2_122 : decode cX4_modules_2 122 = .ok (.iload_n 2, 1) := dk_28 (dk_at dksX4_modules_2_5 3 rfl rfl)
theorem dX4_modules_2_123 : decode cX4_modules_2 123 = .ok (.ifCond .eq 9, 3) := dk_153 0 9 (dk_at dksX4_modules_2_5 4 rfl rfl)
theorem dX4_modules_2_126 : decode cX4_modules_2 126 = .ok (.iload 7, 2) := dk_21 7 (dk_at dksX4_modules_2_5 7 rfl rfl)
theorem dX4_modules_2_128 : decode cX4_modules_2 128 = .ok (.iload_n 2, 1) := dk_28 (dk_at dksX4_modules_2_5 9 rfl rfl)
theorem dX4_modules_2_129 : decode cX4_modules_2 129 = .ok (.if_icmp .ne 7, 3) := dk_160 0 7 (dk_at dksX4_modules_2_5 10 rfl rfl)
theorem dX4_modules_2_132 : decode cX4_modules_2 132 = .ok (.iconst 1, 1) := dk_4 (dk_at dksX4_modules_2_5 13 rfl rfl)
theorem dX4_modules_2_133 : decode cX4_modules_2 133 = .ok (.goto 4, 3) := dk_167 0 4 (dk_at dksX4_modules_2_5 14 rfl rfl)
theorem dX4_modules_2_136 : decode cX4_modules_2 136 = .ok (.iconst 0, 1) := dk_3 (dk_at dksX4_modules_2_5 17 rfl rfl)
theorem dX4_modules_2_137 : decode cX4_modules_2 137 = .ok (.iadd, 1) := dk_96 (dk_at dksX4_modules_2_5 18 rfl rfl)
theorem dX4_modules_2_138 : decode cX4_modules_2 138 = .ok (.istore 5, 2) := dk_54 5 (dk_at dksX4_modules_2_5 19 rfl rfl)
theorem dX4_modules_2_140 : decode cX4_modules_2 140 = .ok (.iinc 6 1, 3) := dk_132 6 1 (dk_at dksX4_modules_2_5 21 rfl rfl)
theorem dX4_modules_2_143 : decode cX4_modules_2 143 = .ok (.goto (-105), 3) := dk_167 255 151 (dk_at dksX4_modules_2_6 0 rfl rfl)
theorem dX4_modules_2_146 : decode cX4_modules_2 146 = .ok (.iload 5, 2) := dk_21 5 (dk_at dksX4_modules_2_6 3 rfl rfl)
theorem dX4_modules_2_148 : decode cX4_modules_2 148 = .ok (.ireturn, 1) := dk_172 (dk_at dksX4_modules_2_6 5 rfl rfl)
abbrev cX4_many : ByteArray := prog_3_method_4_code
def yX4_many : MethodName := ⟨RX4, "many", "(LGraphModules$Kind;)I"⟩
def dkwX4_many_2 : List UInt8 := [3, 96, 61, 167, 255, 219, 28, 172]
abbrev dktX4_many_2 : List UInt8 := dkwX4_many_2 ++ []
def dkwX4_many_1 : List UInt8 := [185, 0, 77, 1, 0, 192, 0, 52, 58, 4, 28, 25, 4, 182, 0, 88, 43, 166, 0, 7, 4, 167, 0, 4]
abbrev dktX4_many_1 : List UInt8 := dkwX4_many_1 ++ dktX4_many_2
def dkwX4_many_0 : List UInt8 := [3, 61, 42, 180, 0, 12, 182, 0, 67, 78, 45, 185, 0, 71, 1, 0, 153, 0, 34, 45]
abbrev dktX4_many_0 : List UInt8 := dkwX4_many_0 ++ dktX4_many_1
theorem dksX4_many_0 : cX4_many.data.toList.drop 0 = dktX4_many_0 := by decide +kernel
theorem dksX4_many_1 : cX4_many.data.toList.drop 20 = dktX4_many_1 := dk_seg dksX4_many_0 20 rfl rfl
theorem dksX4_many_2 : cX4_many.data.toList.drop 44 = dktX4_many_2 := dk_seg dksX4_many_1 24 rfl rfl
theorem dX4_many_0 : decode cX4_many 0 = .ok (.iconst 0, 1) := dk_3 (dk_at dksX4_many_0 0 rfl rfl)
theorem dX4_many_1 : decode cX4_many 1 = .ok (.istore_n 2, 1) := dk_61 (dk_at dksX4_many_0 1 rfl rfl)
theorem dX4_many_2 : decode cX4_many 2 = .ok (.aload_n 0, 1) := dk_42 (dk_at dksX4_many_0 2 rfl rfl)
theorem dX4_many_3 : decode cX4_many 3 = .ok (.getfield 12, 3) := dk_180 0 12 (dk_at dksX4_many_0 3 rfl rfl)
theorem dX4_many_6 : decode cX4_many 6 = .ok (.invokevirtual 67, 3) := dk_182 0 67 (dk_at dksX4_many_0 6 rfl rfl)
theorem dX4_many_9 : decode cX4_many 9 = .ok (.astore_n 3, 1) := dk_78 (dk_at dksX4_many_0 9 rfl rfl)
theorem dX4_many_10 : decode cX4_many 10 = .ok (.aload_n 3, 1) := dk_45 (dk_at dksX4_many_0 10 rfl rfl)
theorem dX4_many_11 : decode cX4_many 11 = .ok (.invokeinterface 71 1, 5) := by decide +kernel
theorem dX4_many_16 : decode cX4_many 16 = .ok (.ifCond .eq 34, 3) := dk_153 0 34 (dk_at dksX4_many_0 16 rfl rfl)
theorem dX4_many_19 : decode cX4_many 19 = .ok (.aload_n 3, 1) := dk_45 (dk_at dksX4_many_0 19 rfl rfl)
theorem dX4_many_20 : decode cX4_many 20 = .ok (.invokeinterface 77 1, 5) := by decide +kernel
theorem dX4_many_25 : decode cX4_many 25 = .ok (.checkcast 52, 3) := dk_192 0 52 (dk_at dksX4_many_1 5 rfl rfl)
theorem dX4_many_28 : decode cX4_many 28 = .ok (.astore 4, 2) := dk_58 4 (dk_at dksX4_many_1 8 rfl rfl)
theorem dX4_many_30 : decode cX4_many 30 = .ok (.iload_n 2, 1) := dk_28 (dk_at dksX4_many_1 10 rfl rfl)
theorem dX4_many_31 : decode cX4_many 31 = .ok (.aload 4, 2) := dk_25 4 (dk_at dksX4_many_1 11 rfl rfl)
theorem dX4_many_33 : decode cX4_many 33 = .ok (.invokevirtual 88, 3) := dk_182 0 88 (dk_at dksX4_many_1 13 rfl rfl)
theorem dX4_many_36 : decode cX4_many 36 = .ok (.aload_n 1, 1) := dk_43 (dk_at dksX4_many_1 16 rfl rfl)
theorem dX4_many_37 : decode cX4_many 37 = .ok (.if_acmp .ne 7, 3) := dk_166 0 7 (dk_at dksX4_many_1 17 rfl rfl)
theorem dX4_many_40 : decode cX4_many 40 = .ok (.iconst 1, 1) := dk_4 (dk_at dksX4_many_1 20 rfl rfl)
theorem dX4_many_41 : decode cX4_many 41 = .ok (.goto 4, 3) := dk_167 0 4 (dk_at dksX4_many_1 21 rfl rfl)
theorem dX4_many_44 : decode cX4_many 44 = .ok (.iconst 0, 1) := dk_3 (dk_at dksX4_many_2 0 rfl rfl)
theorem dX4_many_45 : decode cX4_many 45 = .ok (.iadd, 1) := dk_96 (dk_at dksX4_many_2 1 rfl rfl)
theorem dX4_many_46 : decode cX4_many 46 = .ok (.istore_n 2, 1) := dk_61 (dk_at dksX4_many_2 2 rfl rfl)
theorem dX4_many_47 : decode cX4_many 47 = .ok (.goto (-37), 3) := dk_167 255 219 (dk_at dksX4_many_2 3 rfl rfl)
theorem dX4_many_50 : decode cX4_many 50 = .ok (.iload_n 2, 1) := dk_28 (dk_at dksX4_many_2 6 rfl rfl)
theorem dX4_many_51 : decode cX4_many 51 = .ok (.ireturn, 1) := dk_172 (dk_at dksX4_many_2 7 rfl rfl)
abbrev cX4_depth : ByteArray := prog_3_method_5_code
def yX4_depth : MethodName := ⟨RX4, "depth", "()I"⟩
def dkwX4_depth_1 : List UInt8 := [185, 0, 77, 1, 0, 192, 0, 52, 78, 27, 45, 182, 0, 92, 184, 0, 95, 60, 167, 255, 228, 27, 172]
abbrev dktX4_depth_1 : List UInt8 := dkwX4_depth_1 ++ []
def dkwX4_depth_0 : List UInt8 := [3, 60, 42, 180, 0, 12, 182, 0, 67, 77, 44, 185, 0, 71, 1, 0, 153, 0, 25, 44]
abbrev dktX4_depth_0 : List UInt8 := dkwX4_depth_0 ++ dktX4_depth_1
theorem dksX4_depth_0 : cX4_depth.data.toList.drop 0 = dktX4_depth_0 := by decide +kernel
theorem dksX4_depth_1 : cX4_depth.data.toList.drop 20 = dktX4_depth_1 := dk_seg dksX4_depth_0 20 rfl rfl
theorem dX4_depth_0 : decode cX4_depth 0 = .ok (.iconst 0, 1) := dk_3 (dk_at dksX4_depth_0 0 rfl rfl)
theorem dX4_depth_1 : decode cX4_depth 1 = .ok (.istore_n 1, 1) := dk_60 (dk_at dksX4_depth_0 1 rfl rfl)
theorem dX4_depth_2 : decode cX4_depth 2 = .ok (.aload_n 0, 1) := dk_42 (dk_at dksX4_depth_0 2 rfl rfl)
theorem dX4_depth_3 : decode cX4_depth 3 = .ok (.getfield 12, 3) := dk_180 0 12 (dk_at dksX4_depth_0 3 rfl rfl)
theorem dX4_depth_6 : decode cX4_depth 6 = .ok (.invokevirtual 67, 3) := dk_182 0 67 (dk_at dksX4_depth_0 6 rfl rfl)
theorem dX4_depth_9 : decode cX4_depth 9 = .ok (.astore_n 2, 1) := dk_77 (dk_at dksX4_depth_0 9 rfl rfl)
theorem dX4_depth_10 : decode cX4_depth 10 = .ok (.aload_n 2, 1) := dk_44 (dk_at dksX4_depth_0 10 rfl rfl)
theorem dX4_depth_11 : decode cX4_depth 11 = .ok (.invokeinterface 71 1, 5) := by decide +kernel
theorem dX4_depth_16 : decode cX4_depth 16 = .ok (.ifCond .eq 25, 3) := dk_153 0 25 (dk_at dksX4_depth_0 16 rfl rfl)
theorem dX4_depth_19 : decode cX4_depth 19 = .ok (.aload_n 2, 1) := dk_44 (dk_at dksX4_depth_0 19 rfl rfl)
theorem dX4_depth_20 : decode cX4_depth 20 = .ok (.invokeinterface 77 1, 5) := by decide +kernel
theorem dX4_depth_25 : decode cX4_depth 25 = .ok (.checkcast 52, 3) := dk_192 0 52 (dk_at dksX4_depth_1 5 rfl rfl)
theorem dX4_depth_28 : decode cX4_depth 28 = .ok (.astore_n 3, 1) := dk_78 (dk_at dksX4_depth_1 8 rfl rfl)
theorem dX4_depth_29 : decode cX4_depth 29 = .ok (.iload_n 1, 1) := dk_27 (dk_at dksX4_depth_1 9 rfl rfl)
theorem dX4_depth_30 : decode cX4_depth 30 = .ok (.aload_n 3, 1) := dk_45 (dk_at dksX4_depth_1 10 rfl rfl)
theorem dX4_depth_31 : decode cX4_depth 31 = .ok (.invokevirtual 92, 3) := dk_182 0 92 (dk_at dksX4_depth_1 11 rfl rfl)
theorem dX4_depth_34 : decode cX4_depth 34 = .ok (.invokestatic 95, 3) := dk_184 0 95 (dk_at dksX4_depth_1 14 rfl rfl)
theorem dX4_depth_37 : decode cX4_depth 37 = .ok (.istore_n 1, 1) := dk_60 (dk_at dksX4_depth_1 17 rfl rfl)
theorem dX4_depth_38 : decode cX4_depth 38 = .ok (.goto (-28), 3) := dk_167 255 228 (dk_at dksX4_depth_1 18 rfl rfl)
theorem dX4_depth_41 : decode cX4_depth 41 = .ok (.iload_n 1, 1) := dk_27 (dk_at dksX4_depth_1 21 rfl rfl)
theorem dX4_depth_42 : decode cX4_depth 42 = .ok (.ireturn, 1) := dk_172 (dk_at dksX4_depth_1 22 rfl rfl)
abbrev cX4_numberOf : ByteArray := prog_3_method_3_code
def yX4_numberOf : MethodName := ⟨RX4, "numberOf", "(LGraphModules$Tree;)I"⟩
def dkwX4_numberOf_1 : List UInt8 := [159, 0, 9, 132, 3, 1, 167, 255, 235, 29, 172]
abbrev dktX4_numberOf_1 : List UInt8 := dkwX4_numberOf_1 ++ []
def dkwX4_numberOf_0 : List UInt8 := [43, 180, 0, 54, 61, 3, 62, 42, 180, 0, 12, 29, 182, 0, 48, 192, 0, 52, 180, 0, 54, 28]
abbrev dktX4_numberOf_0 : List UInt8 := dkwX4_numberOf_0 ++ dktX4_numberOf_1
theorem dksX4_numberOf_0 : cX4_numberOf.data.toList.drop 0 = dktX4_numberOf_0 := by decide +kernel
theorem dksX4_numberOf_1 : cX4_numberOf.data.toList.drop 22 = dktX4_numberOf_1 := dk_seg dksX4_numberOf_0 22 rfl rfl
theorem dX4_numberOf_0 : decode cX4_numberOf 0 = .ok (.aload_n 1, 1) := dk_43 (dk_at dksX4_numberOf_0 0 rfl rfl)
theorem dX4_numberOf_1 : decode cX4_numberOf 1 = .ok (.getfield 54, 3) := dk_180 0 54 (dk_at dksX4_numberOf_0 1 rfl rfl)
theorem dX4_numberOf_4 : decode cX4_numberOf 4 = .ok (.istore_n 2, 1) := dk_61 (dk_at dksX4_numberOf_0 4 rfl rfl)
theorem dX4_numberOf_5 : decode cX4_numberOf 5 = .ok (.iconst 0, 1) := dk_3 (dk_at dksX4_numberOf_0 5 rfl rfl)
theorem dX4_numberOf_6 : decode cX4_numberOf 6 = .ok (.istore_n 3, 1) := dk_62 (dk_at dksX4_numberOf_0 6 rfl rfl)
theorem dX4_numberOf_7 : decode cX4_numberOf 7 = .ok (.aload_n 0, 1) := dk_42 (dk_at dksX4_numberOf_0 7 rfl rfl)
theorem dX4_numberOf_8 : decode cX4_numberOf 8 = .ok (.getfield 12, 3) := dk_180 0 12 (dk_at dksX4_numberOf_0 8 rfl rfl)
theorem dX4_numberOf_11 : decode cX4_numberOf 11 = .ok (.iload_n 3, 1) := dk_29 (dk_at dksX4_numberOf_0 11 rfl rfl)
theorem dX4_numberOf_12 : decode cX4_numberOf 12 = .ok (.invokevirtual 48, 3) := dk_182 0 48 (dk_at dksX4_numberOf_0 12 rfl rfl)
theorem dX4_numberOf_15 : decode cX4_numberOf 15 = .ok (.checkcast 52, 3) := dk_192 0 52 (dk_at dksX4_numberOf_0 15 rfl rfl)
theorem dX4_numberOf_18 : decode cX4_numberOf 18 = .ok (.getfield 54, 3) := dk_180 0 54 (dk_at dksX4_numberOf_0 18 rfl rfl)
theorem dX4_numberOf_21 : decode cX4_numberOf 21 = .ok (.iload_n 2, 1) := dk_28 (dk_at dksX4_numberOf_0 21 rfl rfl)
theorem dX4_numberOf_22 : decode cX4_numberOf 22 = .ok (.if_icmp .eq 9, 3) := dk_159 0 9 (dk_at dksX4_numberOf_1 0 rfl rfl)
theorem dX4_numberOf_25 : decode cX4_numberOf 25 = .ok (.iinc 3 1, 3) := dk_132 3 1 (dk_at dksX4_numberOf_1 3 rfl rfl)
theorem dX4_numberOf_28 : decode cX4_numberOf 28 = .ok (.goto (-21), 3) := dk_167 255 235 (dk_at dksX4_numberOf_1 6 rfl rfl)
theorem dX4_numberOf_31 : decode cX4_numberOf 31 = .ok (.iload_n 3, 1) := dk_29 (dk_at dksX4_numberOf_1 9 rfl rfl)
theorem dX4_numberOf_32 : decode cX4_numberOf 32 = .ok (.ireturn, 1) := dk_172 (dk_at dksX4_numberOf_1 10 rfl rfl)
abbrev cX4_rows : ByteArray := prog_3_method_8_code
def yX4_rows : MethodName := ⟨RX4, "rows", "()I"⟩
def dkwX4_rows_2 : List UInt8 := [104, 60, 132, 4, 1, 167, 255, 239, 167, 255, 214, 27, 172]
abbrev dktX4_rows_2 : List UInt8 := dkwX4_rows_2 ++ []
def dkwX4_rows_1 : List UInt8 := [185, 0, 77, 1, 0, 192, 0, 52, 78, 5, 54, 4, 21, 4, 45, 184, 0, 124, 163, 0, 14, 27, 21, 4]
abbrev dktX4_rows_1 : List UInt8 := dkwX4_rows_1 ++ dktX4_rows_2
def dkwX4_rows_0 : List UInt8 := [4, 60, 42, 180, 0, 12, 182, 0, 67, 77, 44, 185, 0, 71, 1, 0, 153, 0, 39, 44]
abbrev dktX4_rows_0 : List UInt8 := dkwX4_rows_0 ++ dktX4_rows_1
theorem dksX4_rows_0 : cX4_rows.data.toList.drop 0 = dktX4_rows_0 := by decide +kernel
theorem dksX4_rows_1 : cX4_rows.data.toList.drop 20 = dktX4_rows_1 := dk_seg dksX4_rows_0 20 rfl rfl
theorem dksX4_rows_2 : cX4_rows.data.toList.drop 44 = dktX4_rows_2 := dk_seg dksX4_rows_1 24 rfl rfl
theorem dX4_rows_0 : decode cX4_rows 0 = .ok (.iconst 1, 1) := dk_4 (dk_at dksX4_rows_0 0 rfl rfl)
theorem dX4_rows_1 : decode cX4_rows 1 = .ok (.istore_n 1, 1) := dk_60 (dk_at dksX4_rows_0 1 rfl rfl)
theorem dX4_rows_2 : decode cX4_rows 2 = .ok (.aload_n 0, 1) := dk_42 (dk_at dksX4_rows_0 2 rfl rfl)
theorem dX4_rows_3 : decode cX4_rows 3 = .ok (.getfield 12, 3) := dk_180 0 12 (dk_at dksX4_rows_0 3 rfl rfl)
theorem dX4_rows_6 : decode cX4_rows 6 = .ok (.invokevirtual 67, 3) := dk_182 0 67 (dk_at dksX4_rows_0 6 rfl rfl)
theorem dX4_rows_9 : decode cX4_rows 9 = .ok (.astore_n 2, 1) := dk_77 (dk_at dksX4_rows_0 9 rfl rfl)
theorem dX4_rows_10 : decode cX4_rows 10 = .ok (.aload_n 2, 1) := dk_44 (dk_at dksX4_rows_0 10 rfl rfl)
theorem dX4_rows_11 : decode cX4_rows 11 = .ok (.invokeinterface 71 1, 5) := by decide +kernel
theorem dX4_rows_16 : decode cX4_rows 16 = .ok (.ifCond .eq 39, 3) := dk_153 0 39 (dk_at dksX4_rows_0 16 rfl rfl)
theorem dX4_rows_19 : decode cX4_rows 19 = .ok (.aload_n 2, 1) := dk_44 (dk_at dksX4_rows_0 19 rfl rfl)
theorem dX4_rows_20 : decode cX4_rows 20 = .ok (.invokeinterface 77 1, 5) := by decide +kernel
theorem dX4_rows_25 : decode cX4_rows 25 = .ok (.checkcast 52, 3) := dk_192 0 52 (dk_at dksX4_rows_1 5 rfl rfl)
theorem dX4_rows_28 : decode cX4_rows 28 = .ok (.astore_n 3, 1) := dk_78 (dk_at dksX4_rows_1 8 rfl rfl)
theorem dX4_rows_29 : decode cX4_rows 29 = .ok (.iconst 2, 1) := dk_5 (dk_at dksX4_rows_1 9 rfl rfl)
theorem dX4_rows_30 : decode cX4_rows 30 = .ok (.istore 4, 2) := dk_54 4 (dk_at dksX4_rows_1 10 rfl rfl)
theorem dX4_rows_32 : decode cX4_rows 32 = .ok (.iload 4, 2) := dk_21 4 (dk_at dksX4_rows_1 12 rfl rfl)
theorem dX4_rows_34 : decode cX4_rows 34 = .ok (.aload_n 3, 1) := dk_45 (dk_at dksX4_rows_1 14 rfl rfl)
theorem dX4_rows_35 : decode cX4_rows 35 = .ok (.invokestatic 124, 3) := dk_184 0 124 (dk_at dksX4_rows_1 15 rfl rfl)
theorem dX4_rows_38 : decode cX4_rows 38 = .ok (.if_icmp .gt 14, 3) := dk_163 0 14 (dk_at dksX4_rows_1 18 rfl rfl)
theorem dX4_rows_41 : decode cX4_rows 41 = .ok (.iload_n 1, 1) := dk_27 (dk_at dksX4_rows_1 21 rfl rfl)
theorem dX4_rows_42 : decode cX4_rows 42 = .ok (.iload 4, 2) := dk_21 4 (dk_at dksX4_rows_1 22 rfl rfl)
theorem dX4_rows_44 : decode cX4_rows 44 = .ok (.imul, 1) := dk_104 (dk_at dksX4_rows_2 0 rfl rfl)
theorem dX4_rows_45 : decode cX4_rows 45 = .ok (.istore_n 1, 1) := dk_60 (dk_at dksX4_rows_2 1 rfl rfl)
theorem dX4_rows_46 : decode cX4_rows 46 = .ok (.iinc 4 1, 3) := dk_132 4 1 (dk_at dksX4_rows_2 2 rfl rfl)
theorem dX4_rows_49 : decode cX4_rows 49 = .ok (.goto (-17), 3) := dk_167 255 239 (dk_at dksX4_rows_2 5 rfl rfl)
theorem dX4_rows_52 : decode cX4_rows 52 = .ok (.goto (-42), 3) := dk_167 255 214 (dk_at dksX4_rows_2 8 rfl rfl)
theorem dX4_rows_55 : decode cX4_rows 55 = .ok (.iload_n 1, 1) := dk_27 (dk_at dksX4_rows_2 11 rfl rfl)
theorem dX4_rows_56 : decode cX4_rows 56 = .ok (.ireturn, 1) := dk_172 (dk_at dksX4_rows_2 12 rfl rfl)
theorem q104 : (Jvm.Cond.initialized "GraphModules$Forest") ∈ lw_all := lw_g (lw_at lw_m1 13 rfl) rfl
theorem q407 : (Jvm.Cond.instantiable "GraphModules$Forest" (3 : Nat)) ∈ lw_all := lw_g (lw_at lw_m2 76 rfl) rfl
theorem q409 : (Jvm.Cond.instanceMethod ({ cls := "GraphModules$Forest", name := "<init>", desc := "(LGraphModules$Graph;)V" } : Jvm.MethodName)) ∈ lw_all := lw_g (lw_at lw_m2 78 rfl) rfl
theorem q410 : (Jvm.Cond.code ({ cls := "GraphModules$Forest", name := "<init>", desc := "(LGraphModules$Graph;)V" } : Jvm.MethodName) prog_3_method_1_code (2 : Nat) (Option.none : Option Jvm.ClassFile.FieldType)) ∈ lw_all := lw_g (lw_at lw_m2 79 rfl) rfl
theorem q411 : (Jvm.Cond.methodLink "GraphModules$Forest" (3 : Nat) ({ cls := "java/lang/Object", name := "<init>", desc := "()V" } : Jvm.MethodName)) ∈ lw_all := lw_g (lw_at lw_m2 80 rfl) rfl
theorem q412 : (Jvm.Cond.classLink "GraphModules$Forest" (9 : Nat) "java/util/ArrayList") ∈ lw_all := lw_g (lw_at lw_m2 81 rfl) rfl
theorem q414 : (Jvm.Cond.methodLink "GraphModules$Forest" (11 : Nat) ({ cls := "java/util/ArrayList", name := "<init>", desc := "()V" } : Jvm.MethodName)) ∈ lw_all := lw_g (lw_at lw_m2 83 rfl) rfl
theorem q441 : (Jvm.Cond.classLink "GraphModules$Forest" (18 : Nat) "GraphModules$Row") ∈ lw_all := lw_g (lw_at lw_m2 110 rfl) rfl
theorem q442 : (Jvm.Cond.methodLink "GraphModules$Forest" (20 : Nat) ({ cls := "GraphModules$Row", name := "<init>", desc := "(Ljava/lang/Object;)V" } : Jvm.MethodName)) ∈ lw_all := lw_g (lw_at lw_m2 111 rfl) rfl
theorem q443 : (Jvm.Cond.methodLink "GraphModules$Forest" (27 : Nat) ({ cls := "GraphModules$Graph", name := "all", desc := "()I" } : Jvm.MethodName)) ∈ lw_all := lw_g (lw_at lw_m2 112 rfl) rfl
theorem q447 : (Jvm.Cond.methodLinkNest "GraphModules$Forest" (33 : Nat) ({ cls := "GraphModules", name := "grow", desc := "(LGraphModules$Graph;I)LGraphModules$Tree;" } : Jvm.MethodName) "GraphModules") ∈ lw_tbl := lw_at lw_m2 116 rfl
theorem q461 : (Jvm.Cond.fieldLink "GraphModules$Forest" (54 : Nat) "GraphModules$Tree" "set" "I") ∈ lw_all := lw_g (lw_at lw_m2 130 rfl) rfl
theorem q501 : (Jvm.Cond.fieldLinkNest "GraphModules$Forest" (112 : Nat) "GraphModules$Inner" "kind" "LGraphModules$Kind;" "GraphModules") ∈ lw_tbl := lw_at lw_m2 170 rfl
theorem q504 : (Jvm.Cond.fieldLinkNest "GraphModules$Forest" (64 : Nat) "GraphModules$Inner" "children" "Ljava/util/ArrayList;" "GraphModules") ∈ lw_tbl := lw_at lw_m2 173 rfl
theorem q564 : (Jvm.Cond.selects "GraphModules$Forest" ({ cls := "java/lang/Object", name := "getClass", desc := "()Ljava/lang/Class;" } : Jvm.MethodName) ({ cls := "java/lang/Object", name := "getClass", desc := "()Ljava/lang/Class;" } : Jvm.MethodName)) ∈ lw_all := lw_g (lw_at lw_m2 233 rfl) rfl
theorem q596 : (Jvm.Cond.methodLink "GraphModules$Forest" (41 : Nat) ({ cls := "GraphModules$Forest", name := "list", desc := "(LGraphModules$Tree;)V" } : Jvm.MethodName)) ∈ lw_all := lw_g (lw_at lw_m3 25 rfl) rfl
theorem q597 : (Jvm.Cond.privateMethod ({ cls := "GraphModules$Forest", name := "list", desc := "(LGraphModules$Tree;)V" } : Jvm.MethodName)) ∈ lw_tbl := lw_at lw_m3 26 rfl
theorem q598 : (Jvm.Cond.instanceMethod ({ cls := "GraphModules$Forest", name := "list", desc := "(LGraphModules$Tree;)V" } : Jvm.MethodName)) ∈ lw_all := lw_g (lw_at lw_m3 27 rfl) rfl
theorem q599 : (Jvm.Cond.code ({ cls := "GraphModules$Forest", name := "list", desc := "(LGraphModules$Tree;)V" } : Jvm.MethodName) prog_3_method_2_code (5 : Nat) (Option.none : Option Jvm.ClassFile.FieldType)) ∈ lw_all := lw_g (lw_at lw_m3 28 rfl) rfl
theorem q600 : (Jvm.Cond.methodLink "GraphModules$Forest" (45 : Nat) ({ cls := "java/util/ArrayList", name := "size", desc := "()I" } : Jvm.MethodName)) ∈ lw_all := lw_g (lw_at lw_m3 29 rfl) rfl
theorem q604 : (Jvm.Cond.methodLink "GraphModules$Forest" (48 : Nat) ({ cls := "java/util/ArrayList", name := "get", desc := "(I)Ljava/lang/Object;" } : Jvm.MethodName)) ∈ lw_all := lw_g (lw_at lw_m3 33 rfl) rfl
theorem q618 : (Jvm.Cond.classLink "GraphModules$Forest" (52 : Nat) "GraphModules$Tree") ∈ lw_all := lw_g (lw_at lw_m3 47 rfl) rfl
theorem q619 : (Jvm.Cond.methodLink "GraphModules$Forest" (58 : Nat) ({ cls := "java/util/ArrayList", name := "add", desc := "(ILjava/lang/Object;)V" } : Jvm.MethodName)) ∈ lw_all := lw_g (lw_at lw_m3 48 rfl) rfl
theorem q628 : (Jvm.Cond.classLink "GraphModules$Forest" (62 : Nat) "GraphModules$Inner") ∈ lw_all := lw_g (lw_at lw_m3 57 rfl) rfl
theorem q629 : (Jvm.Cond.methodLink "GraphModules$Forest" (67 : Nat) ({ cls := "java/util/ArrayList", name := "iterator", desc := "()Ljava/util/Iterator;" } : Jvm.MethodName)) ∈ lw_all := lw_g (lw_at lw_m3 58 rfl) rfl
theorem q652 : (Jvm.Cond.interfaceEntry "GraphModules$Forest" (71 : Nat)) ∈ lw_tbl := lw_at lw_m3 81 rfl
theorem q653 : (Jvm.Cond.methodLink "GraphModules$Forest" (71 : Nat) ({ cls := "java/util/Iterator", name := "hasNext", desc := "()Z" } : Jvm.MethodName)) ∈ lw_all := lw_g (lw_at lw_m3 82 rfl) rfl
theorem q662 : (Jvm.Cond.interfaceEntry "GraphModules$Forest" (77 : Nat)) ∈ lw_tbl := lw_at lw_m3 91 rfl
theorem q663 : (Jvm.Cond.methodLink "GraphModules$Forest" (77 : Nat) ({ cls := "java/util/Iterator", name := "next", desc := "()Ljava/lang/Object;" } : Jvm.MethodName)) ∈ lw_all := lw_g (lw_at lw_m3 92 rfl) rfl
theorem q675 : (Jvm.Cond.methodLinkNest "GraphModules$Forest" (81 : Nat) ({ cls := "GraphModules", name := "lowest", desc := "(I)I" } : Jvm.MethodName) "GraphModules") ∈ lw_tbl := lw_at lw_m3 104 rfl
theorem q676 : (Jvm.Cond.methodLink "GraphModules$Forest" (85 : Nat) ({ cls := "GraphModules$Row", name := "add", desc := "(J)Z" } : Jvm.MethodName)) ∈ lw_all := lw_g (lw_at lw_m3 105 rfl) rfl
theorem q677 : (Jvm.Cond.fieldLink "GraphModules$Forest" (37 : Nat) "GraphModules$Forest" "root" "LGraphModules$Tree;") ∈ lw_all := lw_g (lw_at lw_m3 106 rfl) rfl
theorem q679 : (Jvm.Cond.fieldLink "GraphModules$Forest" (12 : Nat) "GraphModules$Forest" "nodes" "Ljava/util/ArrayList;") ∈ lw_all := lw_g (lw_at lw_m3 108 rfl) rfl
theorem q681 : (Jvm.Cond.fieldLink "GraphModules$Forest" (23 : Nat) "GraphModules$Forest" "leaves" "LGraphModules$Row;") ∈ lw_all := lw_g (lw_at lw_m3 110 rfl) rfl
theorem q683 : (Jvm.Cond.laysFinal "GraphModules$Forest" "GraphModules$Forest" "root" "LGraphModules$Tree;") ∈ lw_all := lw_g (lw_at lw_m3 112 rfl) rfl
theorem q684 : (Jvm.Cond.soleField "GraphModules$Forest" "root") ∈ lw_all := lw_g (lw_at lw_m3 113 rfl) rfl
theorem q685 : (Jvm.Cond.laysFinal "GraphModules$Forest" "GraphModules$Forest" "nodes" "Ljava/util/ArrayList;") ∈ lw_all := lw_g (lw_at lw_m3 114 rfl) rfl
theorem q686 : (Jvm.Cond.soleField "GraphModules$Forest" "nodes") ∈ lw_all := lw_g (lw_at lw_m3 115 rfl) rfl
theorem q687 : (Jvm.Cond.laysFinal "GraphModules$Forest" "GraphModules$Forest" "leaves" "LGraphModules$Row;") ∈ lw_all := lw_g (lw_at lw_m3 116 rfl) rfl
theorem q688 : (Jvm.Cond.soleField "GraphModules$Forest" "leaves") ∈ lw_all := lw_g (lw_at lw_m3 117 rfl) rfl
theorem q689 : (Jvm.Cond.superclass "GraphModules$Forest" "java/lang/Object") ∈ lw_all := lw_g (lw_at lw_m3 118 rfl) rfl
theorem q691 : (Jvm.Cond.instanceMethod ({ cls := "GraphModules$Forest", name := "modules", desc := "(I)I" } : Jvm.MethodName)) ∈ lw_all := lw_g (lw_at lw_m3 120 rfl) rfl
theorem q692 : (Jvm.Cond.selects "GraphModules$Forest" ({ cls := "GraphModules$Forest", name := "modules", desc := "(I)I" } : Jvm.MethodName) ({ cls := "GraphModules$Forest", name := "modules", desc := "(I)I" } : Jvm.MethodName)) ∈ lw_all := lw_g (lw_at lw_m3 121 rfl) rfl
theorem q693 : (Jvm.Cond.code ({ cls := "GraphModules$Forest", name := "modules", desc := "(I)I" } : Jvm.MethodName) prog_3_method_7_code (5 : Nat) (Option.some Jvm.ClassFile.FieldType.int)) ∈ lw_all := lw_g (lw_at lw_m3 122 rfl) rfl
theorem q694 : (Jvm.Cond.methodLink "GraphModules$Forest" (120 : Nat) ({ cls := "GraphModules$Forest", name := "modules", desc := "(LGraphModules$Tree;I)I" } : Jvm.MethodName)) ∈ lw_all := lw_g (lw_at lw_m3 123 rfl) rfl
theorem q695 : (Jvm.Cond.privateMethod ({ cls := "GraphModules$Forest", name := "modules", desc := "(LGraphModules$Tree;I)I" } : Jvm.MethodName)) ∈ lw_tbl := lw_at lw_m3 124 rfl
theorem q696 : (Jvm.Cond.instanceMethod ({ cls := "GraphModules$Forest", name := "modules", desc := "(LGraphModules$Tree;I)I" } : Jvm.MethodName)) ∈ lw_all := lw_g (lw_at lw_m3 125 rfl) rfl
theorem q697 : (Jvm.Cond.code ({ cls := "GraphModules$Forest", name := "modules", desc := "(LGraphModules$Tree;I)I" } : Jvm.MethodName) prog_3_method_6_code (9 : Nat) (Option.some Jvm.ClassFile.FieldType.int)) ∈ lw_all := lw_g (lw_at lw_m3 126 rfl) rfl
theorem q698 : (Jvm.Cond.classLink "GraphModules$Forest" (101 : Nat) "GraphModules$Leaf") ∈ lw_all := lw_g (lw_at lw_m3 127 rfl) rfl
theorem q699 : (Jvm.Cond.methodLinkNest "GraphModules$Forest" (103 : Nat) ({ cls := "GraphModules", name := "has", desc := "(II)Z" } : Jvm.MethodName) "GraphModules") ∈ lw_tbl := lw_at lw_m3 128 rfl
theorem q700 : (Jvm.Cond.methodLink "GraphModules$Forest" (107 : Nat) ({ cls := "java/lang/Integer", name := "bitCount", desc := "(I)I" } : Jvm.MethodName)) ∈ lw_all := lw_g (lw_at lw_m3 129 rfl) rfl
theorem q701 : (Jvm.Cond.methodLink "GraphModules$Forest" (115 : Nat) ({ cls := "GraphModules$Kind", name := "isModule", desc := "(II)Z" } : Jvm.MethodName)) ∈ lw_all := lw_g (lw_at lw_m3 130 rfl) rfl
theorem q725 : (Jvm.Cond.instanceMethod ({ cls := "GraphModules$Forest", name := "many", desc := "(LGraphModules$Kind;)I" } : Jvm.MethodName)) ∈ lw_all := lw_g (lw_at lw_m3 154 rfl) rfl
theorem q726 : (Jvm.Cond.selects "GraphModules$Forest" ({ cls := "GraphModules$Forest", name := "many", desc := "(LGraphModules$Kind;)I" } : Jvm.MethodName) ({ cls := "GraphModules$Forest", name := "many", desc := "(LGraphModules$Kind;)I" } : Jvm.MethodName)) ∈ lw_all := lw_g (lw_at lw_m3 155 rfl) rfl
theorem q727 : (Jvm.Cond.code ({ cls := "GraphModules$Forest", name := "many", desc := "(LGraphModules$Kind;)I" } : Jvm.MethodName) prog_3_method_4_code (5 : Nat) (Option.some Jvm.ClassFile.FieldType.int)) ∈ lw_all := lw_g (lw_at lw_m3 156 rfl) rfl
theorem q728 : (Jvm.Cond.methodLink "GraphModules$Forest" (88 : Nat) ({ cls := "GraphModules$Tree", name := "kind", desc := "()LGraphModules$Kind;" } : Jvm.MethodName)) ∈ lw_all := lw_g (lw_at lw_m3 157 rfl) rfl
theorem q739 : (Jvm.Cond.instanceMethod ({ cls := "GraphModules$Forest", name := "depth", desc := "()I" } : Jvm.MethodName)) ∈ lw_all := lw_g (lw_at lw_m3 168 rfl) rfl
theorem q740 : (Jvm.Cond.selects "GraphModules$Forest" ({ cls := "GraphModules$Forest", name := "depth", desc := "()I" } : Jvm.MethodName) ({ cls := "GraphModules$Forest", name := "depth", desc := "()I" } : Jvm.MethodName)) ∈ lw_all := lw_g (lw_at lw_m3 169 rfl) rfl
theorem q741 : (Jvm.Cond.code ({ cls := "GraphModules$Forest", name := "depth", desc := "()I" } : Jvm.MethodName) prog_3_method_5_code (4 : Nat) (Option.some Jvm.ClassFile.FieldType.int)) ∈ lw_all := lw_g (lw_at lw_m3 170 rfl) rfl
theorem q742 : (Jvm.Cond.methodLink "GraphModules$Forest" (92 : Nat) ({ cls := "GraphModules$Tree", name := "depth", desc := "()I" } : Jvm.MethodName)) ∈ lw_all := lw_g (lw_at lw_m3 171 rfl) rfl
theorem q748 : (Jvm.Cond.methodLink "GraphModules$Forest" (95 : Nat) ({ cls := "java/lang/Math", name := "max", desc := "(II)I" } : Jvm.MethodName)) ∈ lw_all := lw_g (lw_at lw_m3 177 rfl) rfl
theorem q870 : (Jvm.Cond.instanceMethod ({ cls := "GraphModules$Forest", name := "numberOf", desc := "(LGraphModules$Tree;)I" } : Jvm.MethodName)) ∈ lw_all := lw_g (lw_at lw_m4 59 rfl) rfl
theorem q871 : (Jvm.Cond.selects "GraphModules$Forest" ({ cls := "GraphModules$Forest", name := "numberOf", desc := "(LGraphModules$Tree;)I" } : Jvm.MethodName) ({ cls := "GraphModules$Forest", name := "numberOf", desc := "(LGraphModules$Tree;)I" } : Jvm.MethodName)) ∈ lw_all := lw_g (lw_at lw_m4 60 rfl) rfl
theorem q872 : (Jvm.Cond.code ({ cls := "GraphModules$Forest", name := "numberOf", desc := "(LGraphModules$Tree;)I" } : Jvm.MethodName) prog_3_method_3_code (4 : Nat) (Option.some Jvm.ClassFile.FieldType.int)) ∈ lw_all := lw_g (lw_at lw_m4 61 rfl) rfl
theorem q977 : (Jvm.Cond.instanceMethod ({ cls := "GraphModules$Forest", name := "rows", desc := "()I" } : Jvm.MethodName)) ∈ lw_all := lw_g (lw_at lw_m4 166 rfl) rfl
theorem q978 : (Jvm.Cond.selects "GraphModules$Forest" ({ cls := "GraphModules$Forest", name := "rows", desc := "()I" } : Jvm.MethodName) ({ cls := "GraphModules$Forest", name := "rows", desc := "()I" } : Jvm.MethodName)) ∈ lw_all := lw_g (lw_at lw_m4 167 rfl) rfl
theorem q979 : (Jvm.Cond.code ({ cls := "GraphModules$Forest", name := "rows", desc := "()I" } : Jvm.MethodName) prog_3_method_8_code (5 : Nat) (Option.some Jvm.ClassFile.FieldType.int)) ∈ lw_all := lw_g (lw_at lw_m4 168 rfl) rfl
theorem q980 : (Jvm.Cond.methodLinkNest "GraphModules$Forest" (124 : Nat) ({ cls := "GraphModules", name := "children", desc := "(LGraphModules$Tree;)I" } : Jvm.MethodName) "GraphModules") ∈ lw_tbl := lw_at lw_m4 169 rfl
theorem q1857 : (Jvm.Cond.castable "GraphModules$Forest" "java/lang/Object") ∈ lw_tbl := lw_at lw_m8 86 rfl
theorem in_X4 : ∀ w ∈ wsX40, w ∈ lw_all := lw_in wsX40 [683, 685, 687] (by decide +kernel) (by decide +kernel)

/-! GraphModules$Tree -/
set_option maxRecDepth 100000
def RX5 : String := "GraphModules$Tree"
abbrev cX5_init : ByteArray := prog_16_method_1_code
def yX5_init : MethodName := ⟨RX5, "<init>", "(I)V"⟩
def dkwX5_init_0 : List UInt8 := [42, 183, 0, 1, 42, 27, 181, 0, 7, 177]
abbrev dktX5_init_0 : List UInt8 := dkwX5_init_0 ++ []
theorem dksX5_init_0 : cX5_init.data.toList.drop 0 = dktX5_init_0 := by decide +kernel
theorem dX5_init_0 : decode cX5_init 0 = .ok (.aload_n 0, 1) := dk_42 (dk_at dksX5_init_0 0 rfl rfl)
theorem dX5_init_1 : decode cX5_init 1 = .ok (.invokespecial 1, 3) := dk_183 0 1 (dk_at dksX5_init_0 1 rfl rfl)
theorem dX5_init_4 : decode cX5_init 4 = .ok (.aload_n 0, 1) := dk_42 (dk_at dksX5_init_0 4 rfl rfl)
theorem dX5_init_5 : decode cX5_init 5 = .ok (.iload_n 1, 1) := dk_27 (dk_at dksX5_init_0 5 rfl rfl)
theorem dX5_init_6 : decode cX5_init 6 = .ok (.putfield 7, 3) := dk_181 0 7 (dk_at dksX5_init_0 6 rfl rfl)
theorem dX5_init_9 : decode cX5_init 9 = .ok (.return_, 1) := dk_177 (dk_at dksX5_init_0 9 rfl rfl)
abbrev cX5_depth : ByteArray := prog_16_method_3_code
def yX5_depth : MethodName := ⟨RX5, "depth", "()I"⟩
def dkwX5_depth_0 : List UInt8 := [3, 60, 42, 180, 0, 13, 77, 44, 198, 0, 14, 132, 1, 1, 44, 180, 0, 13, 77, 167, 255, 244, 27, 172]
abbrev dktX5_depth_0 : List UInt8 := dkwX5_depth_0 ++ []
theorem dksX5_depth_0 : cX5_depth.data.toList.drop 0 = dktX5_depth_0 := by decide +kernel
theorem dX5_depth_0 : decode cX5_depth 0 = .ok (.iconst 0, 1) := dk_3 (dk_at dksX5_depth_0 0 rfl rfl)
theorem dX5_depth_1 : decode cX5_depth 1 = .ok (.istore_n 1, 1) := dk_60 (dk_at dksX5_depth_0 1 rfl rfl)
theorem dX5_depth_2 : decode cX5_depth 2 = .ok (.aload_n 0, 1) := dk_42 (dk_at dksX5_depth_0 2 rfl rfl)
theorem dX5_depth_3 : decode cX5_depth 3 = .ok (.getfield 13, 3) := dk_180 0 13 (dk_at dksX5_depth_0 3 rfl rfl)
theorem dX5_depth_6 : decode cX5_depth 6 = .ok (.astore_n 2, 1) := dk_77 (dk_at dksX5_depth_0 6 rfl rfl)
theorem dX5_depth_7 : decode cX5_depth 7 = .ok (.aload_n 2, 1) := dk_44 (dk_at dksX5_depth_0 7 rfl rfl)
theorem dX5_depth_8 : decode cX5_depth 8 = .ok (.ifnull 14, 3) := dk_198 0 14 (dk_at dksX5_depth_0 8 rfl rfl)
theorem dX5_depth_11 : decode cX5_depth 11 = .ok (.iinc 1 1, 3) := dk_132 1 1 (dk_at dksX5_depth_0 11 rfl rfl)
theorem dX5_depth_14 : decode cX5_depth 14 = .ok (.aload_n 2, 1) := dk_44 (dk_at dksX5_depth_0 14 rfl rfl)
theorem dX5_depth_15 : decode cX5_depth 15 = .ok (.getfield 13, 3) := dk_180 0 13 (dk_at dksX5_depth_0 15 rfl rfl)
theorem dX5_depth_18 : decode cX5_depth 18 = .ok (.astore_n 2, 1) := dk_77 (dk_at dksX5_depth_0 18 rfl rfl)
theorem dX5_depth_19 : decode cX5_depth 19 = .ok (.goto (-12), 3) := dk_167 255 244 (dk_at dksX5_depth_0 19 rfl rfl)
theorem dX5_depth_22 : decode cX5_depth 22 = .ok (.iload_n 1, 1) := dk_27 (dk_at dksX5_depth_0 22 rfl rfl)
theorem dX5_depth_23 : decode cX5_depth 23 = .ok (.ireturn, 1) := dk_172 (dk_at dksX5_depth_0 23 rfl rfl)
theorem q108 : (Jvm.Cond.initialized "GraphModules$Tree") ∈ lw_all := lw_g (lw_at lw_m1 17 rfl) rfl
theorem q457 : (Jvm.Cond.instanceMethod ({ cls := "GraphModules$Tree", name := "<init>", desc := "(I)V" } : Jvm.MethodName)) ∈ lw_all := lw_g (lw_at lw_m2 126 rfl) rfl
theorem q458 : (Jvm.Cond.code ({ cls := "GraphModules$Tree", name := "<init>", desc := "(I)V" } : Jvm.MethodName) prog_16_method_1_code (2 : Nat) (Option.none : Option Jvm.ClassFile.FieldType)) ∈ lw_all := lw_g (lw_at lw_m2 127 rfl) rfl
theorem q459 : (Jvm.Cond.methodLink "GraphModules$Tree" (1 : Nat) ({ cls := "java/lang/Object", name := "<init>", desc := "()V" } : Jvm.MethodName)) ∈ lw_all := lw_g (lw_at lw_m2 128 rfl) rfl
theorem q460 : (Jvm.Cond.fieldLink "GraphModules$Tree" (7 : Nat) "GraphModules$Tree" "set" "I") ∈ lw_all := lw_g (lw_at lw_m2 129 rfl) rfl
theorem q465 : (Jvm.Cond.fieldLink "GraphModules$Tree" (13 : Nat) "GraphModules$Tree" "parent" "LGraphModules$Inner;") ∈ lw_all := lw_g (lw_at lw_m2 134 rfl) rfl
theorem q468 : (Jvm.Cond.soleField "GraphModules$Tree" "set") ∈ lw_all := lw_g (lw_at lw_m2 137 rfl) rfl
theorem q470 : (Jvm.Cond.soleField "GraphModules$Tree" "parent") ∈ lw_all := lw_g (lw_at lw_m2 139 rfl) rfl
theorem q729 : (Jvm.Cond.declares ({ cls := "GraphModules$Tree", name := "kind", desc := "()LGraphModules$Kind;" } : Jvm.MethodName)) ∈ lw_tbl := lw_at lw_m3 158 rfl
theorem q730 : (Jvm.Cond.sameMethod "GraphModules$Tree" "GraphModules$Tree" "kind" "()LGraphModules$Kind;") ∈ lw_all := lw_g (lw_at lw_m3 159 rfl) rfl
theorem q743 : (Jvm.Cond.instanceMethod ({ cls := "GraphModules$Tree", name := "depth", desc := "()I" } : Jvm.MethodName)) ∈ lw_all := lw_g (lw_at lw_m3 172 rfl) rfl
theorem q744 : (Jvm.Cond.sameMethod "GraphModules$Tree" "GraphModules$Tree" "depth" "()I") ∈ lw_all := lw_g (lw_at lw_m3 173 rfl) rfl
theorem q747 : (Jvm.Cond.code ({ cls := "GraphModules$Tree", name := "depth", desc := "()I" } : Jvm.MethodName) prog_16_method_3_code (3 : Nat) (Option.some Jvm.ClassFile.FieldType.int)) ∈ lw_all := lw_g (lw_at lw_m3 176 rfl) rfl

/-! GraphModules$Leaf -/
set_option maxRecDepth 100000
def RX6 : String := "GraphModules$Leaf"
def TX6 : u_T := fun k => match k with
  | 0 => ("GraphModules$Tree", "set", "I", true)
  | _ => ("GraphModules$Tree", "parent", "LGraphModules$Inner;", false)
def tyX6 : Nat → FieldType := fun k => match k with
  | 0 => .int
  | _ => .object "GraphModules$Inner"
abbrev wsX60 : List Cond := u_ws RX6 TX6 2
theorem nmX6 : ∀ a, a < 2 → ∀ b, b < 2 → a ≠ b → (TX6 a).2.1 ≠ (TX6 b).2.1 := by decide +kernel
theorem tyX6_ok : ∀ k, k < 2 → parseFieldDescriptor (TX6 k).2.2.1 = some (tyX6 k) := by decide +kernel
abbrev cX6_init : ByteArray := prog_12_method_1_code
def yX6_init : MethodName := ⟨RX6, "<init>", "(I)V"⟩
def dkwX6_init_0 : List UInt8 := [42, 27, 183, 0, 1, 177]
abbrev dktX6_init_0 : List UInt8 := dkwX6_init_0 ++ []
theorem dksX6_init_0 : cX6_init.data.toList.drop 0 = dktX6_init_0 := by decide +kernel
theorem dX6_init_0 : decode cX6_init 0 = .ok (.aload_n 0, 1) := dk_42 (dk_at dksX6_init_0 0 rfl rfl)
theorem dX6_init_1 : decode cX6_init 1 = .ok (.iload_n 1, 1) := dk_27 (dk_at dksX6_init_0 1 rfl rfl)
theorem dX6_init_2 : decode cX6_init 2 = .ok (.invokespecial 1, 3) := dk_183 0 1 (dk_at dksX6_init_0 2 rfl rfl)
theorem dX6_init_5 : decode cX6_init 5 = .ok (.return_, 1) := dk_177 (dk_at dksX6_init_0 5 rfl rfl)
abbrev cX6_kind : ByteArray := prog_12_method_2_code
def yX6_kind : MethodName := ⟨RX6, "kind", "()LGraphModules$Kind;"⟩
theorem dX6_kind_0 : decode cX6_kind 0 = .ok (.getstatic 7, 3) := by decide +kernel
theorem dX6_kind_3 : decode cX6_kind 3 = .ok (.areturn, 1) := by decide +kernel
theorem q109 : (Jvm.Cond.initialized "GraphModules$Leaf") ∈ lw_all := lw_g (lw_at lw_m1 18 rfl) rfl
theorem q452 : (Jvm.Cond.instantiable "GraphModules$Leaf" (2 : Nat)) ∈ lw_all := lw_g (lw_at lw_m2 121 rfl) rfl
theorem q454 : (Jvm.Cond.instanceMethod ({ cls := "GraphModules$Leaf", name := "<init>", desc := "(I)V" } : Jvm.MethodName)) ∈ lw_all := lw_g (lw_at lw_m2 123 rfl) rfl
theorem q455 : (Jvm.Cond.code ({ cls := "GraphModules$Leaf", name := "<init>", desc := "(I)V" } : Jvm.MethodName) prog_12_method_1_code (2 : Nat) (Option.none : Option Jvm.ClassFile.FieldType)) ∈ lw_all := lw_g (lw_at lw_m2 124 rfl) rfl
theorem q456 : (Jvm.Cond.methodLink "GraphModules$Leaf" (1 : Nat) ({ cls := "GraphModules$Tree", name := "<init>", desc := "(I)V" } : Jvm.MethodName)) ∈ lw_all := lw_g (lw_at lw_m2 125 rfl) rfl
theorem q467 : (Jvm.Cond.laysFinal "GraphModules$Leaf" "GraphModules$Tree" "set" "I") ∈ lw_all := lw_g (lw_at lw_m2 136 rfl) rfl
theorem q469 : (Jvm.Cond.lays "GraphModules$Leaf" "GraphModules$Tree" "parent" "LGraphModules$Inner;") ∈ lw_all := lw_g (lw_at lw_m2 138 rfl) rfl
theorem q471 : (Jvm.Cond.superclass "GraphModules$Leaf" "GraphModules$Tree") ∈ lw_all := lw_g (lw_at lw_m2 140 rfl) rfl
theorem q572 : (Jvm.Cond.selects "GraphModules$Leaf" ({ cls := "java/lang/Object", name := "getClass", desc := "()Ljava/lang/Class;" } : Jvm.MethodName) ({ cls := "java/lang/Object", name := "getClass", desc := "()Ljava/lang/Class;" } : Jvm.MethodName)) ∈ lw_all := lw_g (lw_at lw_m3 1 rfl) rfl
theorem q734 : (Jvm.Cond.selects "GraphModules$Leaf" ({ cls := "GraphModules$Tree", name := "kind", desc := "()LGraphModules$Kind;" } : Jvm.MethodName) ({ cls := "GraphModules$Leaf", name := "kind", desc := "()LGraphModules$Kind;" } : Jvm.MethodName)) ∈ lw_all := lw_g (lw_at lw_m3 163 rfl) rfl
theorem q735 : (Jvm.Cond.instanceMethod ({ cls := "GraphModules$Leaf", name := "kind", desc := "()LGraphModules$Kind;" } : Jvm.MethodName)) ∈ lw_all := lw_g (lw_at lw_m3 164 rfl) rfl
theorem q736 : (Jvm.Cond.code ({ cls := "GraphModules$Leaf", name := "kind", desc := "()LGraphModules$Kind;" } : Jvm.MethodName) prog_12_method_2_code (1 : Nat) (Option.some (Jvm.ClassFile.FieldType.object "GraphModules$Kind"))) ∈ lw_all := lw_g (lw_at lw_m3 165 rfl) rfl
theorem q737 : (Jvm.Cond.fieldLink "GraphModules$Leaf" (7 : Nat) "GraphModules$Kind" "LEAF" "LGraphModules$Kind;") ∈ lw_all := lw_g (lw_at lw_m3 166 rfl) rfl
theorem q746 : (Jvm.Cond.selects "GraphModules$Leaf" ({ cls := "GraphModules$Tree", name := "depth", desc := "()I" } : Jvm.MethodName) ({ cls := "GraphModules$Tree", name := "depth", desc := "()I" } : Jvm.MethodName)) ∈ lw_all := lw_g (lw_at lw_m3 175 rfl) rfl
theorem q1851 : (Jvm.Cond.castable "GraphModules$Leaf" "GraphModules$Tree") ∈ lw_tbl := lw_at lw_m8 80 rfl
theorem q1859 : (Jvm.Cond.castable "GraphModules$Leaf" "java/lang/Object") ∈ lw_tbl := lw_at lw_m8 88 rfl
theorem in_X6 : ∀ w ∈ wsX60, w ∈ lw_all := lw_in wsX60 [467, 469] (by decide +kernel) (by decide +kernel)

/-! GraphModules$Inner -/
set_option maxRecDepth 100000
def RX7 : String := "GraphModules$Inner"
def TX7 : u_T := fun k => match k with
  | 0 => ("GraphModules$Tree", "set", "I", true)
  | 1 => ("GraphModules$Tree", "parent", "LGraphModules$Inner;", false)
  | 2 => ("GraphModules$Inner", "kind", "LGraphModules$Kind;", true)
  | _ => ("GraphModules$Inner", "children", "Ljava/util/ArrayList;", true)
def tyX7 : Nat → FieldType := fun k => match k with
  | 0 => .int
  | 1 => .object "GraphModules$Inner"
  | 2 => .object "GraphModules$Kind"
  | _ => .object "java/util/ArrayList"
abbrev wsX70 : List Cond := u_ws RX7 TX7 4
theorem nmX7 : ∀ a, a < 4 → ∀ b, b < 4 → a ≠ b → (TX7 a).2.1 ≠ (TX7 b).2.1 := by decide +kernel
theorem tyX7_ok : ∀ k, k < 4 → parseFieldDescriptor (TX7 k).2.2.1 = some (tyX7 k) := by decide +kernel
abbrev cX7_init : ByteArray := prog_6_method_1_code
def yX7_init : MethodName := ⟨RX7, "<init>", "(ILGraphModules$Kind;)V"⟩
def dkwX7_init_0 : List UInt8 := [42, 27, 183, 0, 1, 42, 187, 0, 7, 89, 183, 0, 9, 181, 0, 12, 42, 44, 181, 0, 18, 177]
abbrev dktX7_init_0 : List UInt8 := dkwX7_init_0 ++ []
theorem dksX7_init_0 : cX7_init.data.toList.drop 0 = dktX7_init_0 := by decide +kernel
theorem dX7_init_0 : decode cX7_init 0 = .ok (.aload_n 0, 1) := dk_42 (dk_at dksX7_init_0 0 rfl rfl)
theorem dX7_init_1 : decode cX7_init 1 = .ok (.iload_n 1, 1) := dk_27 (dk_at dksX7_init_0 1 rfl rfl)
theorem dX7_init_2 : decode cX7_init 2 = .ok (.invokespecial 1, 3) := dk_183 0 1 (dk_at dksX7_init_0 2 rfl rfl)
theorem dX7_init_5 : decode cX7_init 5 = .ok (.aload_n 0, 1) := dk_42 (dk_at dksX7_init_0 5 rfl rfl)
theorem dX7_init_6 : decode cX7_init 6 = .ok (.new 7, 3) := dk_187 0 7 (dk_at dksX7_init_0 6 rfl rfl)
theorem dX7_init_9 : decode cX7_init 9 = .ok (.dup, 1) := dk_89 (dk_at dksX7_init_0 9 rfl rfl)
theorem dX7_init_10 : decode cX7_init 10 = .ok (.invokespecial 9, 3) := dk_183 0 9 (dk_at dksX7_init_0 10 rfl rfl)
theorem dX7_init_13 : decode cX7_init 13 = .ok (.putfield 12, 3) := dk_181 0 12 (dk_at dksX7_init_0 13 rfl rfl)
theorem dX7_init_16 : decode cX7_init 16 = .ok (.aload_n 0, 1) := dk_42 (dk_at dksX7_init_0 16 rfl rfl)
theorem dX7_init_17 : decode cX7_init 17 = .ok (.aload_n 2, 1) := dk_44 (dk_at dksX7_init_0 17 rfl rfl)
theorem dX7_init_18 : decode cX7_init 18 = .ok (.putfield 18, 3) := dk_181 0 18 (dk_at dksX7_init_0 18 rfl rfl)
theorem dX7_init_21 : decode cX7_init 21 = .ok (.return_, 1) := dk_177 (dk_at dksX7_init_0 21 rfl rfl)
abbrev cX7_add : ByteArray := prog_6_method_3_code
def yX7_add : MethodName := ⟨RX7, "add", "(LGraphModules$Tree;)V"⟩
def dkwX7_add_0 : List UInt8 := [43, 42, 181, 0, 22, 42, 180, 0, 12, 43, 182, 0, 26, 87, 177]
abbrev dktX7_add_0 : List UInt8 := dkwX7_add_0 ++ []
theorem dksX7_add_0 : cX7_add.data.toList.drop 0 = dktX7_add_0 := by decide +kernel
theorem dX7_add_0 : decode cX7_add 0 = .ok (.aload_n 1, 1) := dk_43 (dk_at dksX7_add_0 0 rfl rfl)
theorem dX7_add_1 : decode cX7_add 1 = .ok (.aload_n 0, 1) := dk_42 (dk_at dksX7_add_0 1 rfl rfl)
theorem dX7_add_2 : decode cX7_add 2 = .ok (.putfield 22, 3) := dk_181 0 22 (dk_at dksX7_add_0 2 rfl rfl)
theorem dX7_add_5 : decode cX7_add 5 = .ok (.aload_n 0, 1) := dk_42 (dk_at dksX7_add_0 5 rfl rfl)
theorem dX7_add_6 : decode cX7_add 6 = .ok (.getfield 12, 3) := dk_180 0 12 (dk_at dksX7_add_0 6 rfl rfl)
theorem dX7_add_9 : decode cX7_add 9 = .ok (.aload_n 1, 1) := dk_43 (dk_at dksX7_add_0 9 rfl rfl)
theorem dX7_add_10 : decode cX7_add 10 = .ok (.invokevirtual 26, 3) := dk_182 0 26 (dk_at dksX7_add_0 10 rfl rfl)
theorem dX7_add_13 : decode cX7_add 13 = .ok (.pop, 1) := dk_87 (dk_at dksX7_add_0 13 rfl rfl)
theorem dX7_add_14 : decode cX7_add 14 = .ok (.return_, 1) := dk_177 (dk_at dksX7_add_0 14 rfl rfl)
abbrev cX7_kind : ByteArray := prog_6_method_2_code
def yX7_kind : MethodName := ⟨RX7, "kind", "()LGraphModules$Kind;"⟩
theorem dX7_kind_0 : decode cX7_kind 0 = .ok (.aload_n 0, 1) := by decide +kernel
theorem dX7_kind_1 : decode cX7_kind 1 = .ok (.getfield 18, 3) := by decide +kernel
theorem dX7_kind_4 : decode cX7_kind 4 = .ok (.areturn, 1) := by decide +kernel
abbrev cX7_childrenIn : ByteArray := prog_6_method_4_code
def yX7_childrenIn : MethodName := ⟨RX7, "childrenIn", "(I)I"⟩
def dkwX7_childrenIn_2 : List UInt8 := [167, 255, 213, 28, 172]
abbrev dktX7_childrenIn_2 : List UInt8 := dkwX7_childrenIn_2 ++ []
def dkwX7_childrenIn_1 : List UInt8 := [192, 0, 2, 180, 0, 38, 27, 126, 153, 0, 9, 4, 29, 120, 167, 0, 4, 3, 128, 61, 132, 3, 1]
abbrev dktX7_childrenIn_1 : List UInt8 := dkwX7_childrenIn_1 ++ dktX7_childrenIn_2
def dkwX7_childrenIn_0 : List UInt8 := [3, 61, 3, 62, 29, 42, 180, 0, 12, 182, 0, 30, 162, 0, 38, 28, 42, 180, 0, 12, 29, 182, 0, 34]
abbrev dktX7_childrenIn_0 : List UInt8 := dkwX7_childrenIn_0 ++ dktX7_childrenIn_1
theorem dksX7_childrenIn_0 : cX7_childrenIn.data.toList.drop 0 = dktX7_childrenIn_0 := by decide +kernel
theorem dksX7_childrenIn_1 : cX7_childrenIn.data.toList.drop 24 = dktX7_childrenIn_1 := dk_seg dksX7_childrenIn_0 24 rfl rfl
theorem dksX7_childrenIn_2 : cX7_childrenIn.data.toList.drop 47 = dktX7_childrenIn_2 := dk_seg dksX7_childrenIn_1 23 rfl rfl
theorem dX7_childrenIn_0 : decode cX7_childrenIn 0 = .ok (.iconst 0, 1) := dk_3 (dk_at dksX7_childrenIn_0 0 rfl rfl)
theorem dX7_childrenIn_1 : decode cX7_childrenIn 1 = .ok (.istore_n 2, 1) := dk_61 (dk_at dksX7_childrenIn_0 1 rfl rfl)
theorem dX7_childrenIn_2 : decode cX7_childrenIn 2 = .ok (.iconst 0, 1) := dk_3 (dk_at dksX7_childrenIn_0 2 rfl rfl)
theorem dX7_childrenIn_3 : decode cX7_childrenIn 3 = .ok (.istore_n 3, 1) := dk_62 (dk_at dksX7_childrenIn_0 3 rfl rfl)
theorem dX7_childrenIn_4 : decode cX7_childrenIn 4 = .ok (.iload_n 3, 1) := dk_29 (dk_at dksX7_childrenIn_0 4 rfl rfl)
theorem dX7_childrenIn_5 : decode cX7_childrenIn 5 = .ok (.aload_n 0, 1) := dk_42 (dk_at dksX7_childrenIn_0 5 rfl rfl)
theorem dX7_childrenIn_6 : decode cX7_childrenIn 6 = .ok (.getfield 12, 3) := dk_180 0 12 (dk_at dksX7_childrenIn_0 6 rfl rfl)
theorem dX7_childrenIn_9 : decode cX7_childrenIn 9 = .ok (.invokevirtual 30, 3) := dk_182 0 30 (dk_at dksX7_childrenIn_0 9 rfl rfl)
theorem dX7_childrenIn_12 : decode cX7_childrenIn 12 = .ok (.if_icmp .ge 38, 3) := dk_162 0 38 (dk_at dksX7_childrenIn_0 12 rfl rfl)
theorem dX7_childrenIn_15 : decode cX7_childrenIn 15 = .ok (.iload_n 2, 1) := dk_28 (dk_at dksX7_childrenIn_0 15 rfl rfl)
theorem dX7_childrenIn_16 : decode cX7_childrenIn 16 = .ok (.aload_n 0, 1) := dk_42 (dk_at dksX7_childrenIn_0 16 rfl rfl)
theorem dX7_childrenIn_17 : decode cX7_childrenIn 17 = .ok (.getfield 12, 3) := dk_180 0 12 (dk_at dksX7_childrenIn_0 17 rfl rfl)
theorem dX7_childrenIn_20 : decode cX7_childrenIn 20 = .ok (.iload_n 3, 1) := dk_29 (dk_at dksX7_childrenIn_0 20 rfl rfl)
theorem dX7_childrenIn_21 : decode cX7_childrenIn 21 = .ok (.invokevirtual 34, 3) := dk_182 0 34 (dk_at dksX7_childrenIn_0 21 rfl rfl)
theorem dX7_childrenIn_24 : decode cX7_childrenIn 24 = .ok (.checkcast 2, 3) := dk_192 0 2 (dk_at dksX7_childrenIn_1 0 rfl rfl)
theorem dX7_childrenIn_27 : decode cX7_childrenIn 27 = .ok (.getfield 38, 3) := dk_180 0 38 (dk_at dksX7_childrenIn_1 3 rfl rfl)
theorem dX7_childrenIn_30 : decode cX7_childrenIn 30 = .ok (.iload_n 1, 1) := dk_27 (dk_at dksX7_childrenIn_1 6 rfl rfl)
theorem dX7_childrenIn_31 : decode cX7_childrenIn 31 = .ok (.iand, 1) := dk_126 (dk_at dksX7_childrenIn_1 7 rfl rfl)
theorem dX7_childrenIn_32 : decode cX7_childrenIn 32 = .ok (.ifCond .eq 9, 3) := dk_153 0 9 (dk_at dksX7_childrenIn_1 8 rfl rfl)
theorem dX7_childrenIn_35 : decode cX7_childrenIn 35 = .ok (.iconst 1, 1) := dk_4 (dk_at dksX7_childrenIn_1 11 rfl rfl)
theorem dX7_childrenIn_36 : decode cX7_childrenIn 36 = .ok (.iload_n 3, 1) := dk_29 (dk_at dksX7_childrenIn_1 12 rfl rfl)
theorem dX7_childrenIn_37 : decode cX7_childrenIn 37 = .ok (.ishl, 1) := dk_120 (dk_at dksX7_childrenIn_1 13 rfl rfl)
theorem dX7_childrenIn_38 : decode cX7_childrenIn 38 = .ok (.goto 4, 3) := dk_167 0 4 (dk_at dksX7_childrenIn_1 14 rfl rfl)
theorem dX7_childrenIn_41 : decode cX7_childrenIn 41 = .ok (.iconst 0, 1) := dk_3 (dk_at dksX7_childrenIn_1 17 rfl rfl)
theorem dX7_childrenIn_42 : decode cX7_childrenIn 42 = .ok (.ior, 1) := dk_128 (dk_at dksX7_childrenIn_1 18 rfl rfl)
theorem dX7_childrenIn_43 : decode cX7_childrenIn 43 = .ok (.istore_n 2, 1) := dk_61 (dk_at dksX7_childrenIn_1 19 rfl rfl)
theorem dX7_childrenIn_44 : decode cX7_childrenIn 44 = .ok (.iinc 3 1, 3) := dk_132 3 1 (dk_at dksX7_childrenIn_1 20 rfl rfl)
theorem dX7_childrenIn_47 : decode cX7_childrenIn 47 = .ok (.goto (-43), 3) := dk_167 255 213 (dk_at dksX7_childrenIn_2 0 rfl rfl)
theorem dX7_childrenIn_50 : decode cX7_childrenIn 50 = .ok (.iload_n 2, 1) := dk_28 (dk_at dksX7_childrenIn_2 3 rfl rfl)
theorem dX7_childrenIn_51 : decode cX7_childrenIn 51 = .ok (.ireturn, 1) := dk_172 (dk_at dksX7_childrenIn_2 4 rfl rfl)
theorem q110 : (Jvm.Cond.initialized "GraphModules$Inner") ∈ lw_all := lw_g (lw_at lw_m1 19 rfl) rfl
theorem q462 : (Jvm.Cond.fieldLink "GraphModules$Inner" (38 : Nat) "GraphModules$Tree" "set" "I") ∈ lw_all := lw_g (lw_at lw_m2 131 rfl) rfl
theorem q464 : (Jvm.Cond.fieldLink "GraphModules$Inner" (22 : Nat) "GraphModules$Tree" "parent" "LGraphModules$Inner;") ∈ lw_all := lw_g (lw_at lw_m2 133 rfl) rfl
theorem q473 : (Jvm.Cond.instantiable "GraphModules$Inner" (4 : Nat)) ∈ lw_all := lw_g (lw_at lw_m2 142 rfl) rfl
theorem q495 : (Jvm.Cond.instanceMethod ({ cls := "GraphModules$Inner", name := "<init>", desc := "(ILGraphModules$Kind;)V" } : Jvm.MethodName)) ∈ lw_all := lw_g (lw_at lw_m2 164 rfl) rfl
theorem q496 : (Jvm.Cond.code ({ cls := "GraphModules$Inner", name := "<init>", desc := "(ILGraphModules$Kind;)V" } : Jvm.MethodName) prog_6_method_1_code (3 : Nat) (Option.none : Option Jvm.ClassFile.FieldType)) ∈ lw_all := lw_g (lw_at lw_m2 165 rfl) rfl
theorem q497 : (Jvm.Cond.methodLink "GraphModules$Inner" (1 : Nat) ({ cls := "GraphModules$Tree", name := "<init>", desc := "(I)V" } : Jvm.MethodName)) ∈ lw_all := lw_g (lw_at lw_m2 166 rfl) rfl
theorem q498 : (Jvm.Cond.classLink "GraphModules$Inner" (7 : Nat) "java/util/ArrayList") ∈ lw_all := lw_g (lw_at lw_m2 167 rfl) rfl
theorem q499 : (Jvm.Cond.methodLink "GraphModules$Inner" (9 : Nat) ({ cls := "java/util/ArrayList", name := "<init>", desc := "()V" } : Jvm.MethodName)) ∈ lw_all := lw_g (lw_at lw_m2 168 rfl) rfl
theorem q500 : (Jvm.Cond.fieldLink "GraphModules$Inner" (18 : Nat) "GraphModules$Inner" "kind" "LGraphModules$Kind;") ∈ lw_all := lw_g (lw_at lw_m2 169 rfl) rfl
theorem q503 : (Jvm.Cond.fieldLink "GraphModules$Inner" (12 : Nat) "GraphModules$Inner" "children" "Ljava/util/ArrayList;") ∈ lw_all := lw_g (lw_at lw_m2 172 rfl) rfl
theorem q506 : (Jvm.Cond.laysFinal "GraphModules$Inner" "GraphModules$Inner" "kind" "LGraphModules$Kind;") ∈ lw_all := lw_g (lw_at lw_m2 175 rfl) rfl
theorem q507 : (Jvm.Cond.soleField "GraphModules$Inner" "kind") ∈ lw_all := lw_g (lw_at lw_m2 176 rfl) rfl
theorem q508 : (Jvm.Cond.laysFinal "GraphModules$Inner" "GraphModules$Inner" "children" "Ljava/util/ArrayList;") ∈ lw_all := lw_g (lw_at lw_m2 177 rfl) rfl
theorem q509 : (Jvm.Cond.soleField "GraphModules$Inner" "children") ∈ lw_all := lw_g (lw_at lw_m2 178 rfl) rfl
theorem q510 : (Jvm.Cond.laysFinal "GraphModules$Inner" "GraphModules$Tree" "set" "I") ∈ lw_all := lw_g (lw_at lw_m2 179 rfl) rfl
theorem q511 : (Jvm.Cond.lays "GraphModules$Inner" "GraphModules$Tree" "parent" "LGraphModules$Inner;") ∈ lw_all := lw_g (lw_at lw_m2 180 rfl) rfl
theorem q512 : (Jvm.Cond.superclass "GraphModules$Inner" "GraphModules$Tree") ∈ lw_all := lw_g (lw_at lw_m2 181 rfl) rfl
theorem q527 : (Jvm.Cond.instanceMethod ({ cls := "GraphModules$Inner", name := "add", desc := "(LGraphModules$Tree;)V" } : Jvm.MethodName)) ∈ lw_all := lw_g (lw_at lw_m2 196 rfl) rfl
theorem q528 : (Jvm.Cond.selects "GraphModules$Inner" ({ cls := "GraphModules$Inner", name := "add", desc := "(LGraphModules$Tree;)V" } : Jvm.MethodName) ({ cls := "GraphModules$Inner", name := "add", desc := "(LGraphModules$Tree;)V" } : Jvm.MethodName)) ∈ lw_all := lw_g (lw_at lw_m2 197 rfl) rfl
theorem q529 : (Jvm.Cond.code ({ cls := "GraphModules$Inner", name := "add", desc := "(LGraphModules$Tree;)V" } : Jvm.MethodName) prog_6_method_3_code (2 : Nat) (Option.none : Option Jvm.ClassFile.FieldType)) ∈ lw_all := lw_g (lw_at lw_m2 198 rfl) rfl
theorem q530 : (Jvm.Cond.methodLink "GraphModules$Inner" (26 : Nat) ({ cls := "java/util/ArrayList", name := "add", desc := "(Ljava/lang/Object;)Z" } : Jvm.MethodName)) ∈ lw_all := lw_g (lw_at lw_m2 199 rfl) rfl
theorem q567 : (Jvm.Cond.selects "GraphModules$Inner" ({ cls := "java/lang/Object", name := "getClass", desc := "()Ljava/lang/Class;" } : Jvm.MethodName) ({ cls := "java/lang/Object", name := "getClass", desc := "()Ljava/lang/Class;" } : Jvm.MethodName)) ∈ lw_all := lw_g (lw_at lw_m2 236 rfl) rfl
theorem q731 : (Jvm.Cond.selects "GraphModules$Inner" ({ cls := "GraphModules$Tree", name := "kind", desc := "()LGraphModules$Kind;" } : Jvm.MethodName) ({ cls := "GraphModules$Inner", name := "kind", desc := "()LGraphModules$Kind;" } : Jvm.MethodName)) ∈ lw_all := lw_g (lw_at lw_m3 160 rfl) rfl
theorem q732 : (Jvm.Cond.instanceMethod ({ cls := "GraphModules$Inner", name := "kind", desc := "()LGraphModules$Kind;" } : Jvm.MethodName)) ∈ lw_all := lw_g (lw_at lw_m3 161 rfl) rfl
theorem q733 : (Jvm.Cond.code ({ cls := "GraphModules$Inner", name := "kind", desc := "()LGraphModules$Kind;" } : Jvm.MethodName) prog_6_method_2_code (1 : Nat) (Option.some (Jvm.ClassFile.FieldType.object "GraphModules$Kind"))) ∈ lw_all := lw_g (lw_at lw_m3 162 rfl) rfl
theorem q745 : (Jvm.Cond.selects "GraphModules$Inner" ({ cls := "GraphModules$Tree", name := "depth", desc := "()I" } : Jvm.MethodName) ({ cls := "GraphModules$Tree", name := "depth", desc := "()I" } : Jvm.MethodName)) ∈ lw_all := lw_g (lw_at lw_m3 174 rfl) rfl
theorem q896 : (Jvm.Cond.instanceMethod ({ cls := "GraphModules$Inner", name := "childrenIn", desc := "(I)I" } : Jvm.MethodName)) ∈ lw_all := lw_g (lw_at lw_m4 85 rfl) rfl
theorem q897 : (Jvm.Cond.selects "GraphModules$Inner" ({ cls := "GraphModules$Inner", name := "childrenIn", desc := "(I)I" } : Jvm.MethodName) ({ cls := "GraphModules$Inner", name := "childrenIn", desc := "(I)I" } : Jvm.MethodName)) ∈ lw_all := lw_g (lw_at lw_m4 86 rfl) rfl
theorem q898 : (Jvm.Cond.code ({ cls := "GraphModules$Inner", name := "childrenIn", desc := "(I)I" } : Jvm.MethodName) prog_6_method_4_code (4 : Nat) (Option.some Jvm.ClassFile.FieldType.int)) ∈ lw_all := lw_g (lw_at lw_m4 87 rfl) rfl
theorem q899 : (Jvm.Cond.methodLink "GraphModules$Inner" (30 : Nat) ({ cls := "java/util/ArrayList", name := "size", desc := "()I" } : Jvm.MethodName)) ∈ lw_all := lw_g (lw_at lw_m4 88 rfl) rfl
theorem q900 : (Jvm.Cond.methodLink "GraphModules$Inner" (34 : Nat) ({ cls := "java/util/ArrayList", name := "get", desc := "(I)Ljava/lang/Object;" } : Jvm.MethodName)) ∈ lw_all := lw_g (lw_at lw_m4 89 rfl) rfl
theorem q901 : (Jvm.Cond.classLink "GraphModules$Inner" (2 : Nat) "GraphModules$Tree") ∈ lw_all := lw_g (lw_at lw_m4 90 rfl) rfl
theorem q1850 : (Jvm.Cond.castable "GraphModules$Inner" "GraphModules$Tree") ∈ lw_tbl := lw_at lw_m8 79 rfl
theorem q1860 : (Jvm.Cond.castable "GraphModules$Inner" "java/lang/Object") ∈ lw_tbl := lw_at lw_m8 89 rfl
theorem in_X7 : ∀ w ∈ wsX70, w ∈ lw_all := lw_in wsX70 [510, 511, 506, 508] (by decide +kernel) (by decide +kernel)

/-! GraphModules$Kind -/
set_option maxRecDepth 100000
def RX8 : String := "GraphModules$Kind"
abbrev cX8_sign : ByteArray := prog_7_method_5_code
def yX8_sign : MethodName := ⟨RX8, "sign", "()C"⟩
theorem dX8_sign_0 : decode cX8_sign 0 = .ok (.bipush 32, 2) := by decide +kernel
theorem dX8_sign_2 : decode cX8_sign 2 = .ok (.ireturn, 1) := by decide +kernel
theorem q112 : (Jvm.Cond.initialized "GraphModules$Kind") ∈ lw_all := lw_g (lw_at lw_m1 21 rfl) rfl
theorem q489 : (Jvm.Cond.laysStatic "GraphModules$Kind" "PARALLEL" "LGraphModules$Kind;") ∈ lw_tbl := lw_at lw_m2 158 rfl
theorem q491 : (Jvm.Cond.laysStatic "GraphModules$Kind" "SERIES" "LGraphModules$Kind;") ∈ lw_tbl := lw_at lw_m2 160 rfl
theorem q493 : (Jvm.Cond.laysStatic "GraphModules$Kind" "PRIME" "LGraphModules$Kind;") ∈ lw_tbl := lw_at lw_m2 162 rfl
theorem q702 : (Jvm.Cond.declares ({ cls := "GraphModules$Kind", name := "isModule", desc := "(II)Z" } : Jvm.MethodName)) ∈ lw_tbl := lw_at lw_m3 131 rfl
theorem q703 : (Jvm.Cond.sameMethod "GraphModules$Kind" "GraphModules$Kind" "isModule" "(II)Z") ∈ lw_all := lw_g (lw_at lw_m3 132 rfl) rfl
theorem q720 : (Jvm.Cond.laysStatic "GraphModules$Kind" "LEAF" "LGraphModules$Kind;") ∈ lw_tbl := lw_at lw_m3 149 rfl
theorem q875 : (Jvm.Cond.sameMethod "GraphModules$Kind" "java/lang/Enum" "ordinal" "()I") ∈ lw_all := lw_g (lw_at lw_m4 64 rfl) rfl
theorem q1340 : (Jvm.Cond.instanceMethod ({ cls := "GraphModules$Kind", name := "sign", desc := "()C" } : Jvm.MethodName)) ∈ lw_all := lw_g (lw_at lw_m6 49 rfl) rfl
theorem q1341 : (Jvm.Cond.sameMethod "GraphModules$Kind" "GraphModules$Kind" "sign" "()C") ∈ lw_all := lw_g (lw_at lw_m6 50 rfl) rfl
theorem q1350 : (Jvm.Cond.code ({ cls := "GraphModules$Kind", name := "sign", desc := "()C" } : Jvm.MethodName) prog_7_method_5_code (1 : Nat) (Option.some Jvm.ClassFile.FieldType.char)) ∈ lw_all := lw_g (lw_at lw_m6 59 rfl) rfl
theorem q1878 : (Jvm.Cond.castable "GraphModules$Kind" "java/lang/Object") ∈ lw_tbl := lw_at lw_m8 107 rfl

/-! GraphModules$Kind$3 -/
set_option maxRecDepth 100000
def RX9 : String := "GraphModules$Kind$3"
abbrev cX9_isModule : ByteArray := prog_10_method_2_code
def yX9_isModule : MethodName := ⟨RX9, "isModule", "(II)Z"⟩
def dkwX9_isModule_0 : List UInt8 := [178, 0, 7, 27, 28, 182, 0, 13, 172]
abbrev dktX9_isModule_0 : List UInt8 := dkwX9_isModule_0 ++ []
theorem dksX9_isModule_0 : cX9_isModule.data.toList.drop 0 = dktX9_isModule_0 := by decide +kernel
theorem dX9_isModule_0 : decode cX9_isModule 0 = .ok (.getstatic 7, 3) := dk_178 0 7 (dk_at dksX9_isModule_0 0 rfl rfl)
theorem dX9_isModule_3 : decode cX9_isModule 3 = .ok (.iload_n 1, 1) := dk_27 (dk_at dksX9_isModule_0 3 rfl rfl)
theorem dX9_isModule_4 : decode cX9_isModule 4 = .ok (.iload_n 2, 1) := dk_28 (dk_at dksX9_isModule_0 4 rfl rfl)
theorem dX9_isModule_5 : decode cX9_isModule 5 = .ok (.invokevirtual 13, 3) := dk_182 0 13 (dk_at dksX9_isModule_0 5 rfl rfl)
theorem dX9_isModule_8 : decode cX9_isModule 8 = .ok (.ireturn, 1) := dk_172 (dk_at dksX9_isModule_0 8 rfl rfl)
abbrev cX9_sign : ByteArray := prog_10_method_3_code
def yX9_sign : MethodName := ⟨RX9, "sign", "()C"⟩
theorem dX9_sign_0 : decode cX9_sign 0 = .ok (.bipush 42, 2) := by decide +kernel
theorem dX9_sign_2 : decode cX9_sign 2 = .ok (.ireturn, 1) := by decide +kernel
theorem q119 : (Jvm.Cond.initialized "GraphModules$Kind$3") ∈ lw_all := lw_g (lw_at lw_m1 28 rfl) rfl
theorem q570 : (Jvm.Cond.selects "GraphModules$Kind$3" ({ cls := "java/lang/Object", name := "getClass", desc := "()Ljava/lang/Class;" } : Jvm.MethodName) ({ cls := "java/lang/Object", name := "getClass", desc := "()Ljava/lang/Class;" } : Jvm.MethodName)) ∈ lw_all := lw_g (lw_at lw_m2 239 rfl) rfl
theorem q710 : (Jvm.Cond.selects "GraphModules$Kind$3" ({ cls := "GraphModules$Kind", name := "isModule", desc := "(II)Z" } : Jvm.MethodName) ({ cls := "GraphModules$Kind$3", name := "isModule", desc := "(II)Z" } : Jvm.MethodName)) ∈ lw_all := lw_g (lw_at lw_m3 139 rfl) rfl
theorem q711 : (Jvm.Cond.instanceMethod ({ cls := "GraphModules$Kind$3", name := "isModule", desc := "(II)Z" } : Jvm.MethodName)) ∈ lw_all := lw_g (lw_at lw_m3 140 rfl) rfl
theorem q712 : (Jvm.Cond.code ({ cls := "GraphModules$Kind$3", name := "isModule", desc := "(II)Z" } : Jvm.MethodName) prog_10_method_2_code (3 : Nat) (Option.some Jvm.ClassFile.FieldType.boolean)) ∈ lw_all := lw_g (lw_at lw_m3 141 rfl) rfl
theorem q713 : (Jvm.Cond.fieldLink "GraphModules$Kind$3" (7 : Nat) "GraphModules$Kind$3" "PARALLEL" "LGraphModules$Kind;") ∈ lw_all := lw_g (lw_at lw_m3 142 rfl) rfl
theorem q714 : (Jvm.Cond.sameField "GraphModules$Kind$3" "GraphModules$Kind" "PARALLEL" "LGraphModules$Kind;") ∈ lw_all := lw_g (lw_at lw_m3 143 rfl) rfl
theorem q715 : (Jvm.Cond.methodLink "GraphModules$Kind$3" (13 : Nat) ({ cls := "GraphModules$Kind", name := "isModule", desc := "(II)Z" } : Jvm.MethodName)) ∈ lw_all := lw_g (lw_at lw_m3 144 rfl) rfl
theorem q879 : (Jvm.Cond.selects "GraphModules$Kind$3" ({ cls := "GraphModules$Kind", name := "ordinal", desc := "()I" } : Jvm.MethodName) ({ cls := "java/lang/Enum", name := "ordinal", desc := "()I" } : Jvm.MethodName)) ∈ lw_all := lw_g (lw_at lw_m4 68 rfl) rfl
theorem q1346 : (Jvm.Cond.selects "GraphModules$Kind$3" ({ cls := "GraphModules$Kind", name := "sign", desc := "()C" } : Jvm.MethodName) ({ cls := "GraphModules$Kind$3", name := "sign", desc := "()C" } : Jvm.MethodName)) ∈ lw_all := lw_g (lw_at lw_m6 55 rfl) rfl
theorem q1347 : (Jvm.Cond.instanceMethod ({ cls := "GraphModules$Kind$3", name := "sign", desc := "()C" } : Jvm.MethodName)) ∈ lw_all := lw_g (lw_at lw_m6 56 rfl) rfl
theorem q1348 : (Jvm.Cond.code ({ cls := "GraphModules$Kind$3", name := "sign", desc := "()C" } : Jvm.MethodName) prog_10_method_3_code (1 : Nat) (Option.some Jvm.ClassFile.FieldType.char)) ∈ lw_all := lw_g (lw_at lw_m6 57 rfl) rfl
theorem q1862 : (Jvm.Cond.castable "GraphModules$Kind$3" "java/lang/Object") ∈ lw_tbl := lw_at lw_m8 91 rfl
