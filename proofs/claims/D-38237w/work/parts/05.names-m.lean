/-! HaltingaleModel -/
set_option maxRecDepth 100000
def RX3 : String := "HaltingaleModel"
def TX3 : u_T := fun k => match k with
  | 0 => ("HaltingaleModel", "thrown", "I", false)
  | 1 => ("HaltingaleModel", "machines", "Ljava/util/ArrayList;", true)
  | 2 => ("HaltingaleModel", "tags", "Ljava/util/ArrayList;", true)
  | 3 => ("HaltingaleModel", "given", "I", false)
  | 4 => ("HaltingaleModel", "taken", "I", false)
  | 5 => ("HaltingaleModel", "back", "I", false)
  | _ => ("HaltingaleModel", "sum", "J", false)
def tyX3 : Nat → FieldType := fun k => match k with
  | 0 => .int
  | 1 => .object "java/util/ArrayList"
  | 2 => .object "java/util/ArrayList"
  | 3 => .int
  | 4 => .int
  | 5 => .int
  | _ => .long
abbrev wsX30 : List Cond := u_ws RX3 TX3 7
theorem nmX3 : ∀ a, a < 7 → ∀ b, b < 7 → a ≠ b → (TX3 a).2.1 ≠ (TX3 b).2.1 := by decide +kernel
theorem tyX3_ok : ∀ k, k < 7 → parseFieldDescriptor (TX3 k).2.2.1 = some (tyX3 k) := by decide +kernel
abbrev cX3_init : ByteArray := prog_19_method_1_code
def yX3_init : MethodName := ⟨RX3, "<init>", "()V"⟩
def dkwX3_init_1 : List UInt8 := [181, 0, 16, 177]
abbrev dktX3_init_1 : List UInt8 := dkwX3_init_1 ++ []
def dkwX3_init_0 : List UInt8 := [42, 183, 0, 1, 42, 187, 0, 7, 89, 183, 0, 9, 181, 0, 10, 42, 187, 0, 7, 89, 183, 0, 9]
abbrev dktX3_init_0 : List UInt8 := dkwX3_init_0 ++ dktX3_init_1
theorem dksX3_init_0 : cX3_init.data.toList.drop 0 = dktX3_init_0 := by decide +kernel
theorem dksX3_init_1 : cX3_init.data.toList.drop 23 = dktX3_init_1 := dk_seg dksX3_init_0 23 rfl rfl
theorem dX3_init_0 : decode cX3_init 0 = .ok (.aload_n 0, 1) := dk_42 (dk_at dksX3_init_0 0 rfl rfl)
theorem dX3_init_1 : decode cX3_init 1 = .ok (.invokespecial 1, 3) := dk_183 0 1 (dk_at dksX3_init_0 1 rfl rfl)
theorem dX3_init_4 : decode cX3_init 4 = .ok (.aload_n 0, 1) := dk_42 (dk_at dksX3_init_0 4 rfl rfl)
theorem dX3_init_5 : decode cX3_init 5 = .ok (.new 7, 3) := dk_187 0 7 (dk_at dksX3_init_0 5 rfl rfl)
theorem dX3_init_8 : decode cX3_init 8 = .ok (.dup, 1) := dk_89 (dk_at dksX3_init_0 8 rfl rfl)
theorem dX3_init_9 : decode cX3_init 9 = .ok (.invokespecial 9, 3) := dk_183 0 9 (dk_at dksX3_init_0 9 rfl rfl)
theorem dX3_init_12 : decode cX3_init 12 = .ok (.putfield 10, 3) := dk_181 0 10 (dk_at dksX3_init_0 12 rfl rfl)
theorem dX3_init_15 : decode cX3_init 15 = .ok (.aload_n 0, 1) := dk_42 (dk_at dksX3_init_0 15 rfl rfl)
theorem dX3_init_16 : decode cX3_init 16 = .ok (.new 7, 3) := dk_187 0 7 (dk_at dksX3_init_0 16 rfl rfl)
theorem dX3_init_19 : decode cX3_init 19 = .ok (.dup, 1) := dk_89 (dk_at dksX3_init_0 19 rfl rfl)
theorem dX3_init_20 : decode cX3_init 20 = .ok (.invokespecial 9, 3) := dk_183 0 9 (dk_at dksX3_init_0 20 rfl rfl)
theorem dX3_init_23 : decode cX3_init 23 = .ok (.putfield 16, 3) := dk_181 0 16 (dk_at dksX3_init_1 0 rfl rfl)
theorem dX3_init_26 : decode cX3_init 26 = .ok (.return_, 1) := dk_177 (dk_at dksX3_init_1 3 rfl rfl)
abbrev cX3_thrown : ByteArray := prog_19_method_2_code
def yX3_thrown : MethodName := ⟨RX3, "thrown", "()I"⟩
theorem dX3_thrown_0 : decode cX3_thrown 0 = .ok (.aload_n 0, 1) := by decide +kernel
theorem dX3_thrown_1 : decode cX3_thrown 1 = .ok (.getfield 19, 3) := by decide +kernel
theorem dX3_thrown_4 : decode cX3_thrown 4 = .ok (.ireturn, 1) := by decide +kernel
abbrev cX3_machine : ByteArray := prog_19_method_6_code
def yX3_machine : MethodName := ⟨RX3, "machine", "(I)I"⟩
def dkwX3_machine_2 : List UInt8 := [183, 0, 37, 182, 0, 40, 87, 42, 180, 0, 10, 182, 0, 23, 4, 100, 172]
abbrev dktX3_machine_2 : List UInt8 := dkwX3_machine_2 ++ []
def dkwX3_machine_1 : List UInt8 := [182, 0, 23, 16, 12, 160, 0, 9, 42, 5, 182, 0, 31, 172, 42, 180, 0, 10, 187, 0, 35, 89, 27]
abbrev dktX3_machine_1 : List UInt8 := dkwX3_machine_1 ++ dktX3_machine_2
def dkwX3_machine_0 : List UInt8 := [42, 3, 181, 0, 19, 27, 5, 7, 184, 0, 27, 154, 0, 9, 42, 4, 182, 0, 31, 172, 42, 180, 0, 10]
abbrev dktX3_machine_0 : List UInt8 := dkwX3_machine_0 ++ dktX3_machine_1
theorem dksX3_machine_0 : cX3_machine.data.toList.drop 0 = dktX3_machine_0 := by decide +kernel
theorem dksX3_machine_1 : cX3_machine.data.toList.drop 24 = dktX3_machine_1 := dk_seg dksX3_machine_0 24 rfl rfl
theorem dksX3_machine_2 : cX3_machine.data.toList.drop 47 = dktX3_machine_2 := dk_seg dksX3_machine_1 23 rfl rfl
theorem dX3_machine_0 : decode cX3_machine 0 = .ok (.aload_n 0, 1) := dk_42 (dk_at dksX3_machine_0 0 rfl rfl)
theorem dX3_machine_1 : decode cX3_machine 1 = .ok (.iconst 0, 1) := dk_3 (dk_at dksX3_machine_0 1 rfl rfl)
theorem dX3_machine_2 : decode cX3_machine 2 = .ok (.putfield 19, 3) := dk_181 0 19 (dk_at dksX3_machine_0 2 rfl rfl)
theorem dX3_machine_5 : decode cX3_machine 5 = .ok (.iload_n 1, 1) := dk_27 (dk_at dksX3_machine_0 5 rfl rfl)
theorem dX3_machine_6 : decode cX3_machine 6 = .ok (.iconst 2, 1) := dk_5 (dk_at dksX3_machine_0 6 rfl rfl)
theorem dX3_machine_7 : decode cX3_machine 7 = .ok (.iconst 4, 1) := dk_7 (dk_at dksX3_machine_0 7 rfl rfl)
theorem dX3_machine_8 : decode cX3_machine 8 = .ok (.invokestatic 27, 3) := dk_184 0 27 (dk_at dksX3_machine_0 8 rfl rfl)
theorem dX3_machine_11 : decode cX3_machine 11 = .ok (.ifCond .ne 9, 3) := dk_154 0 9 (dk_at dksX3_machine_0 11 rfl rfl)
theorem dX3_machine_14 : decode cX3_machine 14 = .ok (.aload_n 0, 1) := dk_42 (dk_at dksX3_machine_0 14 rfl rfl)
theorem dX3_machine_15 : decode cX3_machine 15 = .ok (.iconst 1, 1) := dk_4 (dk_at dksX3_machine_0 15 rfl rfl)
theorem dX3_machine_16 : decode cX3_machine 16 = .ok (.invokevirtual 31, 3) := dk_182 0 31 (dk_at dksX3_machine_0 16 rfl rfl)
theorem dX3_machine_19 : decode cX3_machine 19 = .ok (.ireturn, 1) := dk_172 (dk_at dksX3_machine_0 19 rfl rfl)
theorem dX3_machine_20 : decode cX3_machine 20 = .ok (.aload_n 0, 1) := dk_42 (dk_at dksX3_machine_0 20 rfl rfl)
theorem dX3_machine_21 : decode cX3_machine 21 = .ok (.getfield 10, 3) := dk_180 0 10 (dk_at dksX3_machine_0 21 rfl rfl)
theorem dX3_machine_24 : decode cX3_machine 24 = .ok (.invokevirtual 23, 3) := dk_182 0 23 (dk_at dksX3_machine_1 0 rfl rfl)
theorem dX3_machine_27 : decode cX3_machine 27 = .ok (.bipush 12, 2) := dk_16 12 (dk_at dksX3_machine_1 3 rfl rfl)
theorem dX3_machine_29 : decode cX3_machine 29 = .ok (.if_icmp .ne 9, 3) := dk_160 0 9 (dk_at dksX3_machine_1 5 rfl rfl)
theorem dX3_machine_32 : decode cX3_machine 32 = .ok (.aload_n 0, 1) := dk_42 (dk_at dksX3_machine_1 8 rfl rfl)
theorem dX3_machine_33 : decode cX3_machine 33 = .ok (.iconst 2, 1) := dk_5 (dk_at dksX3_machine_1 9 rfl rfl)
theorem dX3_machine_34 : decode cX3_machine 34 = .ok (.invokevirtual 31, 3) := dk_182 0 31 (dk_at dksX3_machine_1 10 rfl rfl)
theorem dX3_machine_37 : decode cX3_machine 37 = .ok (.ireturn, 1) := dk_172 (dk_at dksX3_machine_1 13 rfl rfl)
theorem dX3_machine_38 : decode cX3_machine 38 = .ok (.aload_n 0, 1) := dk_42 (dk_at dksX3_machine_1 14 rfl rfl)
theorem dX3_machine_39 : decode cX3_machine 39 = .ok (.getfield 10, 3) := dk_180 0 10 (dk_at dksX3_machine_1 15 rfl rfl)
theorem dX3_machine_42 : decode cX3_machine 42 = .ok (.new 35, 3) := dk_187 0 35 (dk_at dksX3_machine_1 18 rfl rfl)
theorem dX3_machine_45 : decode cX3_machine 45 = .ok (.dup, 1) := dk_89 (dk_at dksX3_machine_1 21 rfl rfl)
theorem dX3_machine_46 : decode cX3_machine 46 = .ok (.iload_n 1, 1) := dk_27 (dk_at dksX3_machine_1 22 rfl rfl)
theorem dX3_machine_47 : decode cX3_machine 47 = .ok (.invokespecial 37, 3) := dk_183 0 37 (dk_at dksX3_machine_2 0 rfl rfl)
theorem dX3_machine_50 : decode cX3_machine 50 = .ok (.invokevirtual 40, 3) := dk_182 0 40 (dk_at dksX3_machine_2 3 rfl rfl)
theorem dX3_machine_53 : decode cX3_machine 53 = .ok (.pop, 1) := dk_87 (dk_at dksX3_machine_2 6 rfl rfl)
theorem dX3_machine_54 : decode cX3_machine 54 = .ok (.aload_n 0, 1) := dk_42 (dk_at dksX3_machine_2 7 rfl rfl)
theorem dX3_machine_55 : decode cX3_machine 55 = .ok (.getfield 10, 3) := dk_180 0 10 (dk_at dksX3_machine_2 8 rfl rfl)
theorem dX3_machine_58 : decode cX3_machine 58 = .ok (.invokevirtual 23, 3) := dk_182 0 23 (dk_at dksX3_machine_2 11 rfl rfl)
theorem dX3_machine_61 : decode cX3_machine 61 = .ok (.iconst 1, 1) := dk_4 (dk_at dksX3_machine_2 14 rfl rfl)
theorem dX3_machine_62 : decode cX3_machine 62 = .ok (.isub, 1) := dk_100 (dk_at dksX3_machine_2 15 rfl rfl)
theorem dX3_machine_63 : decode cX3_machine 63 = .ok (.ireturn, 1) := dk_172 (dk_at dksX3_machine_2 16 rfl rfl)
abbrev cX3_is : ByteArray := prog_19_method_4_code
def yX3_is : MethodName := ⟨RX3, "is", "(III)Z"⟩
def dkwX3_is_0 : List UInt8 := [26, 27, 161, 0, 12, 26, 28, 163, 0, 7, 4, 167, 0, 4, 3, 172]
abbrev dktX3_is_0 : List UInt8 := dkwX3_is_0 ++ []
theorem dksX3_is_0 : cX3_is.data.toList.drop 0 = dktX3_is_0 := by decide +kernel
theorem dX3_is_0 : decode cX3_is 0 = .ok (.iload_n 0, 1) := dk_26 (dk_at dksX3_is_0 0 rfl rfl)
theorem dX3_is_1 : decode cX3_is 1 = .ok (.iload_n 1, 1) := dk_27 (dk_at dksX3_is_0 1 rfl rfl)
theorem dX3_is_2 : decode cX3_is 2 = .ok (.if_icmp .lt 12, 3) := dk_161 0 12 (dk_at dksX3_is_0 2 rfl rfl)
theorem dX3_is_5 : decode cX3_is 5 = .ok (.iload_n 0, 1) := dk_26 (dk_at dksX3_is_0 5 rfl rfl)
theorem dX3_is_6 : decode cX3_is 6 = .ok (.iload_n 2, 1) := dk_28 (dk_at dksX3_is_0 6 rfl rfl)
theorem dX3_is_7 : decode cX3_is 7 = .ok (.if_icmp .gt 7, 3) := dk_163 0 7 (dk_at dksX3_is_0 7 rfl rfl)
theorem dX3_is_10 : decode cX3_is 10 = .ok (.iconst 1, 1) := dk_4 (dk_at dksX3_is_0 10 rfl rfl)
theorem dX3_is_11 : decode cX3_is 11 = .ok (.goto 4, 3) := dk_167 0 4 (dk_at dksX3_is_0 11 rfl rfl)
theorem dX3_is_14 : decode cX3_is 14 = .ok (.iconst 0, 1) := dk_3 (dk_at dksX3_is_0 14 rfl rfl)
theorem dX3_is_15 : decode cX3_is 15 = .ok (.ireturn, 1) := dk_172 (dk_at dksX3_is_0 15 rfl rfl)
abbrev cX3_refuse : ByteArray := prog_19_method_3_code
def yX3_refuse : MethodName := ⟨RX3, "refuse", "(I)I"⟩
def dkwX3_refuse_0 : List UInt8 := [42, 27, 181, 0, 19, 3, 172]
abbrev dktX3_refuse_0 : List UInt8 := dkwX3_refuse_0 ++ []
theorem dksX3_refuse_0 : cX3_refuse.data.toList.drop 0 = dktX3_refuse_0 := by decide +kernel
theorem dX3_refuse_0 : decode cX3_refuse 0 = .ok (.aload_n 0, 1) := dk_42 (dk_at dksX3_refuse_0 0 rfl rfl)
theorem dX3_refuse_1 : decode cX3_refuse 1 = .ok (.iload_n 1, 1) := dk_27 (dk_at dksX3_refuse_0 1 rfl rfl)
theorem dX3_refuse_2 : decode cX3_refuse 2 = .ok (.putfield 19, 3) := dk_181 0 19 (dk_at dksX3_refuse_0 2 rfl rfl)
theorem dX3_refuse_5 : decode cX3_refuse 5 = .ok (.iconst 0, 1) := dk_3 (dk_at dksX3_refuse_0 5 rfl rfl)
theorem dX3_refuse_6 : decode cX3_refuse 6 = .ok (.ireturn, 1) := dk_172 (dk_at dksX3_refuse_0 6 rfl rfl)
abbrev cX3_tell : ByteArray := prog_19_method_9_code
def yX3_tell : MethodName := ⟨RX3, "tell", "(IIIIII)I"⟩
def dkwX3_tell_2 : List UInt8 := [21, 6, 182, 0, 74, 87, 42, 180, 0, 10, 27, 182, 0, 48, 192, 0, 35, 182, 0, 78, 172]
abbrev dktX3_tell_2 : List UInt8 := dkwX3_tell_2 ++ []
def dkwX3_tell_1 : List UInt8 := [158, 0, 5, 3, 172, 42, 42, 180, 0, 10, 27, 182, 0, 48, 192, 0, 35, 28, 29, 21, 4, 21, 5]
abbrev dktX3_tell_1 : List UInt8 := dkwX3_tell_1 ++ dktX3_tell_2
def dkwX3_tell_0 : List UInt8 := [42, 42, 27, 28, 29, 21, 4, 21, 5, 21, 6, 4, 182, 0, 70, 181, 0, 19, 42, 180, 0, 19]
abbrev dktX3_tell_0 : List UInt8 := dkwX3_tell_0 ++ dktX3_tell_1
theorem dksX3_tell_0 : cX3_tell.data.toList.drop 0 = dktX3_tell_0 := by decide +kernel
theorem dksX3_tell_1 : cX3_tell.data.toList.drop 22 = dktX3_tell_1 := dk_seg dksX3_tell_0 22 rfl rfl
theorem dksX3_tell_2 : cX3_tell.data.toList.drop 45 = dktX3_tell_2 := dk_seg dksX3_tell_1 23 rfl rfl
theorem dX3_tell_0 : decode cX3_tell 0 = .ok (.aload_n 0, 1) := dk_42 (dk_at dksX3_tell_0 0 rfl rfl)
theorem dX3_tell_1 : decode cX3_tell 1 = .ok (.aload_n 0, 1) := dk_42 (dk_at dksX3_tell_0 1 rfl rfl)
theorem dX3_tell_2 : decode cX3_tell 2 = .ok (.iload_n 1, 1) := dk_27 (dk_at dksX3_tell_0 2 rfl rfl)
theorem dX3_tell_3 : decode cX3_tell 3 = .ok (.iload_n 2, 1) := dk_28 (dk_at dksX3_tell_0 3 rfl rfl)
theorem dX3_tell_4 : decode cX3_tell 4 = .ok (.iload_n 3, 1) := dk_29 (dk_at dksX3_tell_0 4 rfl rfl)
theorem dX3_tell_5 : decode cX3_tell 5 = .ok (.iload 4, 2) := dk_21 4 (dk_at dksX3_tell_0 5 rfl rfl)
theorem dX3_tell_7 : decode cX3_tell 7 = .ok (.iload 5, 2) := dk_21 5 (dk_at dksX3_tell_0 7 rfl rfl)
theorem dX3_tell_9 : decode cX3_tell 9 = .ok (.iload 6, 2) := dk_21 6 (dk_at dksX3_tell_0 9 rfl rfl)
theorem dX3_tell_11 : decode cX3_tell 11 = .ok (.iconst 1, 1) := dk_4 (dk_at dksX3_tell_0 11 rfl rfl)
theorem dX3_tell_12 : decode cX3_tell 12 = .ok (.invokevirtual 70, 3) := dk_182 0 70 (dk_at dksX3_tell_0 12 rfl rfl)
theorem dX3_tell_15 : decode cX3_tell 15 = .ok (.putfield 19, 3) := dk_181 0 19 (dk_at dksX3_tell_0 15 rfl rfl)
theorem dX3_tell_18 : decode cX3_tell 18 = .ok (.aload_n 0, 1) := dk_42 (dk_at dksX3_tell_0 18 rfl rfl)
theorem dX3_tell_19 : decode cX3_tell 19 = .ok (.getfield 19, 3) := dk_180 0 19 (dk_at dksX3_tell_0 19 rfl rfl)
theorem dX3_tell_22 : decode cX3_tell 22 = .ok (.ifCond .le 5, 3) := dk_158 0 5 (dk_at dksX3_tell_1 0 rfl rfl)
theorem dX3_tell_25 : decode cX3_tell 25 = .ok (.iconst 0, 1) := dk_3 (dk_at dksX3_tell_1 3 rfl rfl)
theorem dX3_tell_26 : decode cX3_tell 26 = .ok (.ireturn, 1) := dk_172 (dk_at dksX3_tell_1 4 rfl rfl)
theorem dX3_tell_27 : decode cX3_tell 27 = .ok (.aload_n 0, 1) := dk_42 (dk_at dksX3_tell_1 5 rfl rfl)
theorem dX3_tell_28 : decode cX3_tell 28 = .ok (.aload_n 0, 1) := dk_42 (dk_at dksX3_tell_1 6 rfl rfl)
theorem dX3_tell_29 : decode cX3_tell 29 = .ok (.getfield 10, 3) := dk_180 0 10 (dk_at dksX3_tell_1 7 rfl rfl)
theorem dX3_tell_32 : decode cX3_tell 32 = .ok (.iload_n 1, 1) := dk_27 (dk_at dksX3_tell_1 10 rfl rfl)
theorem dX3_tell_33 : decode cX3_tell 33 = .ok (.invokevirtual 48, 3) := dk_182 0 48 (dk_at dksX3_tell_1 11 rfl rfl)
theorem dX3_tell_36 : decode cX3_tell 36 = .ok (.checkcast 35, 3) := dk_192 0 35 (dk_at dksX3_tell_1 14 rfl rfl)
theorem dX3_tell_39 : decode cX3_tell 39 = .ok (.iload_n 2, 1) := dk_28 (dk_at dksX3_tell_1 17 rfl rfl)
theorem dX3_tell_40 : decode cX3_tell 40 = .ok (.iload_n 3, 1) := dk_29 (dk_at dksX3_tell_1 18 rfl rfl)
theorem dX3_tell_41 : decode cX3_tell 41 = .ok (.iload 4, 2) := dk_21 4 (dk_at dksX3_tell_1 19 rfl rfl)
theorem dX3_tell_43 : decode cX3_tell 43 = .ok (.iload 5, 2) := dk_21 5 (dk_at dksX3_tell_1 21 rfl rfl)
theorem dX3_tell_45 : decode cX3_tell 45 = .ok (.iload 6, 2) := dk_21 6 (dk_at dksX3_tell_2 0 rfl rfl)
theorem dX3_tell_47 : decode cX3_tell 47 = .ok (.invokevirtual 74, 3) := dk_182 0 74 (dk_at dksX3_tell_2 2 rfl rfl)
theorem dX3_tell_50 : decode cX3_tell 50 = .ok (.pop, 1) := dk_87 (dk_at dksX3_tell_2 5 rfl rfl)
theorem dX3_tell_51 : decode cX3_tell 51 = .ok (.aload_n 0, 1) := dk_42 (dk_at dksX3_tell_2 6 rfl rfl)
theorem dX3_tell_52 : decode cX3_tell 52 = .ok (.getfield 10, 3) := dk_180 0 10 (dk_at dksX3_tell_2 7 rfl rfl)
theorem dX3_tell_55 : decode cX3_tell 55 = .ok (.iload_n 1, 1) := dk_27 (dk_at dksX3_tell_2 10 rfl rfl)
theorem dX3_tell_56 : decode cX3_tell 56 = .ok (.invokevirtual 48, 3) := dk_182 0 48 (dk_at dksX3_tell_2 11 rfl rfl)
theorem dX3_tell_59 : decode cX3_tell 59 = .ok (.checkcast 35, 3) := dk_192 0 35 (dk_at dksX3_tell_2 14 rfl rfl)
theorem dX3_tell_62 : decode cX3_tell 62 = .ok (.invokevirtual 78, 3) := dk_182 0 78 (dk_at dksX3_tell_2 17 rfl rfl)
theorem dX3_tell_65 : decode cX3_tell 65 = .ok (.ireturn, 1) := dk_172 (dk_at dksX3_tell_2 20 rfl rfl)
abbrev cX3_refused : ByteArray := prog_19_method_7_code
def yX3_refused : MethodName := ⟨RX3, "refused", "(IIIIIIZ)I"⟩
def dkwX3_refused_4 : List UInt8 := [28, 29, 182, 0, 55, 199, 0, 7, 4, 167, 0, 4, 3, 21, 7, 160, 0, 7, 3, 167, 0, 4, 6, 172]
abbrev dktX3_refused_4 : List UInt8 := dkwX3_refused_4 ++ []
def dkwX3_refused_3 : List UInt8 := [21, 5, 2, 160, 0, 17, 21, 6, 3, 25, 8, 180, 0, 52, 184, 0, 27, 154, 0, 5, 5, 172, 25, 8]
abbrev dktX3_refused_3 : List UInt8 := dkwX3_refused_3 ++ dktX3_refused_4
def dkwX3_refused_2 : List UInt8 := [182, 0, 48, 192, 0, 35, 58, 8, 21, 4, 3, 4, 184, 0, 27, 153, 0, 29, 21, 5, 4, 159, 0, 9]
abbrev dktX3_refused_2 : List UInt8 := dkwX3_refused_2 ++ dktX3_refused_3
def dkwX3_refused_1 : List UInt8 := [4, 100, 184, 0, 27, 153, 0, 12, 29, 3, 4, 184, 0, 27, 154, 0, 5, 4, 172, 42, 180, 0, 10, 27]
abbrev dktX3_refused_1 : List UInt8 := dkwX3_refused_1 ++ dktX3_refused_2
def dkwX3_refused_0 : List UInt8 := [42, 27, 182, 0, 44, 153, 0, 36, 28, 3, 42, 180, 0, 10, 27, 182, 0, 48, 192, 0, 35, 180, 0, 52]
abbrev dktX3_refused_0 : List UInt8 := dkwX3_refused_0 ++ dktX3_refused_1
theorem dksX3_refused_0 : cX3_refused.data.toList.drop 0 = dktX3_refused_0 := by decide +kernel
theorem dksX3_refused_1 : cX3_refused.data.toList.drop 24 = dktX3_refused_1 := dk_seg dksX3_refused_0 24 rfl rfl
theorem dksX3_refused_2 : cX3_refused.data.toList.drop 48 = dktX3_refused_2 := dk_seg dksX3_refused_1 24 rfl rfl
theorem dksX3_refused_3 : cX3_refused.data.toList.drop 72 = dktX3_refused_3 := dk_seg dksX3_refused_2 24 rfl rfl
theorem dksX3_refused_4 : cX3_refused.data.toList.drop 96 = dktX3_refused_4 := dk_seg dksX3_refused_3 24 rfl rfl
theorem dX3_refused_0 : decode cX3_refused 0 = .ok (.aload_n 0, 1) := dk_42 (dk_at dksX3_refused_0 0 rfl rfl)
theorem dX3_refused_1 : decode cX3_refused 1 = .ok (.iload_n 1, 1) := dk_27 (dk_at dksX3_refused_0 1 rfl rfl)
theorem dX3_refused_2 : decode cX3_refused 2 = .ok (.invokevirtual 44, 3) := dk_182 0 44 (dk_at dksX3_refused_0 2 rfl rfl)
theorem dX3_refused_5 : decode cX3_refused 5 = .ok (.ifCond .eq 36, 3) := dk_153 0 36 (dk_at dksX3_refused_0 5 rfl rfl)
theorem dX3_refused_8 : decode cX3_refused 8 = .ok (.iload_n 2, 1) := dk_28 (dk_at dksX3_refused_0 8 rfl rfl)
theorem dX3_refused_9 : decode cX3_refused 9 = .ok (.iconst 0, 1) := dk_3 (dk_at dksX3_refused_0 9 rfl rfl)
theorem dX3_refused_10 : decode cX3_refused 10 = .ok (.aload_n 0, 1) := dk_42 (dk_at dksX3_refused_0 10 rfl rfl)
theorem dX3_refused_11 : decode cX3_refused 11 = .ok (.getfield 10, 3) := dk_180 0 10 (dk_at dksX3_refused_0 11 rfl rfl)
theorem dX3_refused_14 : decode cX3_refused 14 = .ok (.iload_n 1, 1) := dk_27 (dk_at dksX3_refused_0 14 rfl rfl)
theorem dX3_refused_15 : decode cX3_refused 15 = .ok (.invokevirtual 48, 3) := dk_182 0 48 (dk_at dksX3_refused_0 15 rfl rfl)
theorem dX3_refused_18 : decode cX3_refused 18 = .ok (.checkcast 35, 3) := dk_192 0 35 (dk_at dksX3_refused_0 18 rfl rfl)
theorem dX3_refused_21 : decode cX3_refused 21 = .ok (.getfield 52, 3) := dk_180 0 52 (dk_at dksX3_refused_0 21 rfl rfl)
theorem dX3_refused_24 : decode cX3_refused 24 = .ok (.iconst 1, 1) := dk_4 (dk_at dksX3_refused_1 0 rfl rfl)
theorem dX3_refused_25 : decode cX3_refused 25 = .ok (.isub, 1) := dk_100 (dk_at dksX3_refused_1 1 rfl rfl)
theorem dX3_refused_26 : decode cX3_refused 26 = .ok (.invokestatic 27, 3) := dk_184 0 27 (dk_at dksX3_refused_1 2 rfl rfl)
theorem dX3_refused_29 : decode cX3_refused 29 = .ok (.ifCond .eq 12, 3) := dk_153 0 12 (dk_at dksX3_refused_1 5 rfl rfl)
theorem dX3_refused_32 : decode cX3_refused 32 = .ok (.iload_n 3, 1) := dk_29 (dk_at dksX3_refused_1 8 rfl rfl)
theorem dX3_refused_33 : decode cX3_refused 33 = .ok (.iconst 0, 1) := dk_3 (dk_at dksX3_refused_1 9 rfl rfl)
theorem dX3_refused_34 : decode cX3_refused 34 = .ok (.iconst 1, 1) := dk_4 (dk_at dksX3_refused_1 10 rfl rfl)
theorem dX3_refused_35 : decode cX3_refused 35 = .ok (.invokestatic 27, 3) := dk_184 0 27 (dk_at dksX3_refused_1 11 rfl rfl)
theorem dX3_refused_38 : decode cX3_refused 38 = .ok (.ifCond .ne 5, 3) := dk_154 0 5 (dk_at dksX3_refused_1 14 rfl rfl)
theorem dX3_refused_41 : decode cX3_refused 41 = .ok (.iconst 1, 1) := dk_4 (dk_at dksX3_refused_1 17 rfl rfl)
theorem dX3_refused_42 : decode cX3_refused 42 = .ok (.ireturn, 1) := dk_172 (dk_at dksX3_refused_1 18 rfl rfl)
theorem dX3_refused_43 : decode cX3_refused 43 = .ok (.aload_n 0, 1) := dk_42 (dk_at dksX3_refused_1 19 rfl rfl)
theorem dX3_refused_44 : decode cX3_refused 44 = .ok (.getfield 10, 3) := dk_180 0 10 (dk_at dksX3_refused_1 20 rfl rfl)
theorem dX3_refused_47 : decode cX3_refused 47 = .ok (.iload_n 1, 1) := dk_27 (dk_at dksX3_refused_1 23 rfl rfl)
theorem dX3_refused_48 : decode cX3_refused 48 = .ok (.invokevirtual 48, 3) := dk_182 0 48 (dk_at dksX3_refused_2 0 rfl rfl)
theorem dX3_refused_51 : decode cX3_refused 51 = .ok (.checkcast 35, 3) := dk_192 0 35 (dk_at dksX3_refused_2 3 rfl rfl)
theorem dX3_refused_54 : decode cX3_refused 54 = .ok (.astore 8, 2) := dk_58 8 (dk_at dksX3_refused_2 6 rfl rfl)
theorem dX3_refused_56 : decode cX3_refused 56 = .ok (.iload 4, 2) := dk_21 4 (dk_at dksX3_refused_2 8 rfl rfl)
theorem dX3_refused_58 : decode cX3_refused 58 = .ok (.iconst 0, 1) := dk_3 (dk_at dksX3_refused_2 10 rfl rfl)
theorem dX3_refused_59 : decode cX3_refused 59 = .ok (.iconst 1, 1) := dk_4 (dk_at dksX3_refused_2 11 rfl rfl)
theorem dX3_refused_60 : decode cX3_refused 60 = .ok (.invokestatic 27, 3) := dk_184 0 27 (dk_at dksX3_refused_2 12 rfl rfl)
theorem dX3_refused_63 : decode cX3_refused 63 = .ok (.ifCond .eq 29, 3) := dk_153 0 29 (dk_at dksX3_refused_2 15 rfl rfl)
theorem dX3_refused_66 : decode cX3_refused 66 = .ok (.iload 5, 2) := dk_21 5 (dk_at dksX3_refused_2 18 rfl rfl)
theorem dX3_refused_68 : decode cX3_refused 68 = .ok (.iconst 1, 1) := dk_4 (dk_at dksX3_refused_2 20 rfl rfl)
theorem dX3_refused_69 : decode cX3_refused 69 = .ok (.if_icmp .eq 9, 3) := dk_159 0 9 (dk_at dksX3_refused_2 21 rfl rfl)
theorem dX3_refused_72 : decode cX3_refused 72 = .ok (.iload 5, 2) := dk_21 5 (dk_at dksX3_refused_3 0 rfl rfl)
theorem dX3_refused_74 : decode cX3_refused 74 = .ok (.iconst (-1), 1) := dk_2 (dk_at dksX3_refused_3 2 rfl rfl)
theorem dX3_refused_75 : decode cX3_refused 75 = .ok (.if_icmp .ne 17, 3) := dk_160 0 17 (dk_at dksX3_refused_3 3 rfl rfl)
theorem dX3_refused_78 : decode cX3_refused 78 = .ok (.iload 6, 2) := dk_21 6 (dk_at dksX3_refused_3 6 rfl rfl)
theorem dX3_refused_80 : decode cX3_refused 80 = .ok (.iconst 0, 1) := dk_3 (dk_at dksX3_refused_3 8 rfl rfl)
theorem dX3_refused_81 : decode cX3_refused 81 = .ok (.aload 8, 2) := dk_25 8 (dk_at dksX3_refused_3 9 rfl rfl)
theorem dX3_refused_83 : decode cX3_refused 83 = .ok (.getfield 52, 3) := dk_180 0 52 (dk_at dksX3_refused_3 11 rfl rfl)
theorem dX3_refused_86 : decode cX3_refused 86 = .ok (.invokestatic 27, 3) := dk_184 0 27 (dk_at dksX3_refused_3 14 rfl rfl)
theorem dX3_refused_89 : decode cX3_refused 89 = .ok (.ifCond .ne 5, 3) := dk_154 0 5 (dk_at dksX3_refused_3 17 rfl rfl)
theorem dX3_refused_92 : decode cX3_refused 92 = .ok (.iconst 2, 1) := dk_5 (dk_at dksX3_refused_3 20 rfl rfl)
theorem dX3_refused_93 : decode cX3_refused 93 = .ok (.ireturn, 1) := dk_172 (dk_at dksX3_refused_3 21 rfl rfl)
theorem dX3_refused_94 : decode cX3_refused 94 = .ok (.aload 8, 2) := dk_25 8 (dk_at dksX3_refused_3 22 rfl rfl)
theorem dX3_refused_96 : decode cX3_refused 96 = .ok (.iload_n 2, 1) := dk_28 (dk_at dksX3_refused_4 0 rfl rfl)
theorem dX3_refused_97 : decode cX3_refused 97 = .ok (.iload_n 3, 1) := dk_29 (dk_at dksX3_refused_4 1 rfl rfl)
theorem dX3_refused_98 : decode cX3_refused 98 = .ok (.invokevirtual 55, 3) := dk_182 0 55 (dk_at dksX3_refused_4 2 rfl rfl)
theorem dX3_refused_101 : decode cX3_refused 101 = .ok (.ifnonnull 7, 3) := dk_199 0 7 (dk_at dksX3_refused_4 5 rfl rfl)
theorem dX3_refused_104 : decode cX3_refused 104 = .ok (.iconst 1, 1) := dk_4 (dk_at dksX3_refused_4 8 rfl rfl)
theorem dX3_refused_105 : decode cX3_refused 105 = .ok (.goto 4, 3) := dk_167 0 4 (dk_at dksX3_refused_4 9 rfl rfl)
theorem dX3_refused_108 : decode cX3_refused 108 = .ok (.iconst 0, 1) := dk_3 (dk_at dksX3_refused_4 12 rfl rfl)
theorem dX3_refused_109 : decode cX3_refused 109 = .ok (.iload 7, 2) := dk_21 7 (dk_at dksX3_refused_4 13 rfl rfl)
theorem dX3_refused_111 : decode cX3_refused 111 = .ok (.if_icmp .ne 7, 3) := dk_160 0 7 (dk_at dksX3_refused_4 15 rfl rfl)
theorem dX3_refused_114 : decode cX3_refused 114 = .ok (.iconst 0, 1) := dk_3 (dk_at dksX3_refused_4 18 rfl rfl)
theorem dX3_refused_115 : decode cX3_refused 115 = .ok (.goto 4, 3) := dk_167 0 4 (dk_at dksX3_refused_4 19 rfl rfl)
theorem dX3_refused_118 : decode cX3_refused 118 = .ok (.iconst 3, 1) := dk_6 (dk_at dksX3_refused_4 22 rfl rfl)
theorem dX3_refused_119 : decode cX3_refused 119 = .ok (.ireturn, 1) := dk_172 (dk_at dksX3_refused_4 23 rfl rfl)
abbrev cX3_isMachine : ByteArray := prog_19_method_5_code
def yX3_isMachine : MethodName := ⟨RX3, "isMachine", "(I)Z"⟩
def dkwX3_isMachine_0 : List UInt8 := [27, 3, 42, 180, 0, 10, 182, 0, 23, 4, 100, 184, 0, 27, 172]
abbrev dktX3_isMachine_0 : List UInt8 := dkwX3_isMachine_0 ++ []
theorem dksX3_isMachine_0 : cX3_isMachine.data.toList.drop 0 = dktX3_isMachine_0 := by decide +kernel
theorem dX3_isMachine_0 : decode cX3_isMachine 0 = .ok (.iload_n 1, 1) := dk_27 (dk_at dksX3_isMachine_0 0 rfl rfl)
theorem dX3_isMachine_1 : decode cX3_isMachine 1 = .ok (.iconst 0, 1) := dk_3 (dk_at dksX3_isMachine_0 1 rfl rfl)
theorem dX3_isMachine_2 : decode cX3_isMachine 2 = .ok (.aload_n 0, 1) := dk_42 (dk_at dksX3_isMachine_0 2 rfl rfl)
theorem dX3_isMachine_3 : decode cX3_isMachine 3 = .ok (.getfield 10, 3) := dk_180 0 10 (dk_at dksX3_isMachine_0 3 rfl rfl)
theorem dX3_isMachine_6 : decode cX3_isMachine 6 = .ok (.invokevirtual 23, 3) := dk_182 0 23 (dk_at dksX3_isMachine_0 6 rfl rfl)
theorem dX3_isMachine_9 : decode cX3_isMachine 9 = .ok (.iconst 1, 1) := dk_4 (dk_at dksX3_isMachine_0 9 rfl rfl)
theorem dX3_isMachine_10 : decode cX3_isMachine 10 = .ok (.isub, 1) := dk_100 (dk_at dksX3_isMachine_0 10 rfl rfl)
theorem dX3_isMachine_11 : decode cX3_isMachine 11 = .ok (.invokestatic 27, 3) := dk_184 0 27 (dk_at dksX3_isMachine_0 11 rfl rfl)
theorem dX3_isMachine_14 : decode cX3_isMachine 14 = .ok (.ireturn, 1) := dk_172 (dk_at dksX3_isMachine_0 14 rfl rfl)
abbrev cX3_put : ByteArray := prog_19_method_8_code
def yX3_put : MethodName := ⟨RX3, "put", "(LHaltingaleModel$Machine;IIIII)Z"⟩
def dkwX3_put_2 : List UInt8 := [4, 167, 0, 4, 3, 96, 181, 0, 67, 21, 8, 172]
abbrev dktX3_put_2 : List UInt8 := dkwX3_put_2 ++ []
def dkwX3_put_1 : List UInt8 := [5, 28, 104, 29, 96, 25, 7, 83, 43, 182, 0, 63, 54, 8, 42, 89, 180, 0, 67, 21, 8, 153, 0, 7]
abbrev dktX3_put_1 : List UInt8 := dkwX3_put_1 ++ dktX3_put_2
def dkwX3_put_0 : List UInt8 := [6, 188, 10, 89, 3, 21, 4, 79, 89, 4, 21, 5, 79, 89, 5, 21, 6, 79, 58, 7, 43, 180, 0, 59]
abbrev dktX3_put_0 : List UInt8 := dkwX3_put_0 ++ dktX3_put_1
theorem dksX3_put_0 : cX3_put.data.toList.drop 0 = dktX3_put_0 := by decide +kernel
theorem dksX3_put_1 : cX3_put.data.toList.drop 24 = dktX3_put_1 := dk_seg dksX3_put_0 24 rfl rfl
theorem dksX3_put_2 : cX3_put.data.toList.drop 48 = dktX3_put_2 := dk_seg dksX3_put_1 24 rfl rfl
theorem dX3_put_0 : decode cX3_put 0 = .ok (.iconst 3, 1) := dk_6 (dk_at dksX3_put_0 0 rfl rfl)
theorem dX3_put_1 : decode cX3_put 1 = .ok (.newarray .int, 2) := dk_188_10 (dk_at dksX3_put_0 1 rfl rfl)
theorem dX3_put_3 : decode cX3_put 3 = .ok (.dup, 1) := dk_89 (dk_at dksX3_put_0 3 rfl rfl)
theorem dX3_put_4 : decode cX3_put 4 = .ok (.iconst 0, 1) := dk_3 (dk_at dksX3_put_0 4 rfl rfl)
theorem dX3_put_5 : decode cX3_put 5 = .ok (.iload 4, 2) := dk_21 4 (dk_at dksX3_put_0 5 rfl rfl)
theorem dX3_put_7 : decode cX3_put 7 = .ok (.iastore, 1) := dk_79 (dk_at dksX3_put_0 7 rfl rfl)
theorem dX3_put_8 : decode cX3_put 8 = .ok (.dup, 1) := dk_89 (dk_at dksX3_put_0 8 rfl rfl)
theorem dX3_put_9 : decode cX3_put 9 = .ok (.iconst 1, 1) := dk_4 (dk_at dksX3_put_0 9 rfl rfl)
theorem dX3_put_10 : decode cX3_put 10 = .ok (.iload 5, 2) := dk_21 5 (dk_at dksX3_put_0 10 rfl rfl)
theorem dX3_put_12 : decode cX3_put 12 = .ok (.iastore, 1) := dk_79 (dk_at dksX3_put_0 12 rfl rfl)
theorem dX3_put_13 : decode cX3_put 13 = .ok (.dup, 1) := dk_89 (dk_at dksX3_put_0 13 rfl rfl)
theorem dX3_put_14 : decode cX3_put 14 = .ok (.iconst 2, 1) := dk_5 (dk_at dksX3_put_0 14 rfl rfl)
theorem dX3_put_15 : decode cX3_put 15 = .ok (.iload 6, 2) := dk_21 6 (dk_at dksX3_put_0 15 rfl rfl)
theorem dX3_put_17 : decode cX3_put 17 = .ok (.iastore, 1) := dk_79 (dk_at dksX3_put_0 17 rfl rfl)
theorem dX3_put_18 : decode cX3_put 18 = .ok (.astore 7, 2) := dk_58 7 (dk_at dksX3_put_0 18 rfl rfl)
theorem dX3_put_20 : decode cX3_put 20 = .ok (.aload_n 1, 1) := dk_43 (dk_at dksX3_put_0 20 rfl rfl)
theorem dX3_put_21 : decode cX3_put 21 = .ok (.getfield 59, 3) := dk_180 0 59 (dk_at dksX3_put_0 21 rfl rfl)
theorem dX3_put_24 : decode cX3_put 24 = .ok (.iconst 2, 1) := dk_5 (dk_at dksX3_put_1 0 rfl rfl)
theorem dX3_put_25 : decode cX3_put 25 = .ok (.iload_n 2, 1) := dk_28 (dk_at dksX3_put_1 1 rfl rfl)
theorem dX3_put_26 : decode cX3_put 26 = .ok (.imul, 1) := dk_104 (dk_at dksX3_put_1 2 rfl rfl)
theorem dX3_put_27 : decode cX3_put 27 = .ok (.iload_n 3, 1) := dk_29 (dk_at dksX3_put_1 3 rfl rfl)
theorem dX3_put_28 : decode cX3_put 28 = .ok (.iadd, 1) := dk_96 (dk_at dksX3_put_1 4 rfl rfl)
theorem dX3_put_29 : decode cX3_put 29 = .ok (.aload 7, 2) := dk_25 7 (dk_at dksX3_put_1 5 rfl rfl)
theorem dX3_put_31 : decode cX3_put 31 = .ok (.aastore, 1) := dk_83 (dk_at dksX3_put_1 7 rfl rfl)
theorem dX3_put_32 : decode cX3_put 32 = .ok (.aload_n 1, 1) := dk_43 (dk_at dksX3_put_1 8 rfl rfl)
theorem dX3_put_33 : decode cX3_put 33 = .ok (.invokevirtual 63, 3) := dk_182 0 63 (dk_at dksX3_put_1 9 rfl rfl)
theorem dX3_put_36 : decode cX3_put 36 = .ok (.istore 8, 2) := dk_54 8 (dk_at dksX3_put_1 12 rfl rfl)
theorem dX3_put_38 : decode cX3_put 38 = .ok (.aload_n 0, 1) := dk_42 (dk_at dksX3_put_1 14 rfl rfl)
theorem dX3_put_39 : decode cX3_put 39 = .ok (.dup, 1) := dk_89 (dk_at dksX3_put_1 15 rfl rfl)
theorem dX3_put_40 : decode cX3_put 40 = .ok (.getfield 67, 3) := dk_180 0 67 (dk_at dksX3_put_1 16 rfl rfl)
theorem dX3_put_43 : decode cX3_put 43 = .ok (.iload 8, 2) := dk_21 8 (dk_at dksX3_put_1 19 rfl rfl)
theorem dX3_put_45 : decode cX3_put 45 = .ok (.ifCond .eq 7, 3) := dk_153 0 7 (dk_at dksX3_put_1 21 rfl rfl)
theorem dX3_put_48 : decode cX3_put 48 = .ok (.iconst 1, 1) := dk_4 (dk_at dksX3_put_2 0 rfl rfl)
theorem dX3_put_49 : decode cX3_put 49 = .ok (.goto 4, 3) := dk_167 0 4 (dk_at dksX3_put_2 1 rfl rfl)
theorem dX3_put_52 : decode cX3_put 52 = .ok (.iconst 0, 1) := dk_3 (dk_at dksX3_put_2 4 rfl rfl)
theorem dX3_put_53 : decode cX3_put 53 = .ok (.iadd, 1) := dk_96 (dk_at dksX3_put_2 5 rfl rfl)
theorem dX3_put_54 : decode cX3_put 54 = .ok (.putfield 67, 3) := dk_181 0 67 (dk_at dksX3_put_2 6 rfl rfl)
theorem dX3_put_57 : decode cX3_put 57 = .ok (.iload 8, 2) := dk_21 8 (dk_at dksX3_put_2 9 rfl rfl)
theorem dX3_put_59 : decode cX3_put 59 = .ok (.ireturn, 1) := dk_172 (dk_at dksX3_put_2 11 rfl rfl)
abbrev cX3_amend : ByteArray := prog_19_method_10_code
def yX3_amend : MethodName := ⟨RX3, "amend", "(IIIIII)Z"⟩
def dkwX3_amend_2 : List UInt8 := [182, 0, 74, 153, 0, 7, 4, 167, 0, 4, 3, 172]
abbrev dktX3_amend_2 : List UInt8 := dkwX3_amend_2 ++ []
def dkwX3_amend_1 : List UInt8 := [154, 0, 33, 42, 42, 180, 0, 10, 27, 182, 0, 48, 192, 0, 35, 28, 29, 21, 4, 21, 5, 21, 6]
abbrev dktX3_amend_1 : List UInt8 := dkwX3_amend_1 ++ dktX3_amend_2
def dkwX3_amend_0 : List UInt8 := [42, 42, 27, 28, 29, 21, 4, 21, 5, 21, 6, 3, 182, 0, 70, 181, 0, 19, 42, 180, 0, 19]
abbrev dktX3_amend_0 : List UInt8 := dkwX3_amend_0 ++ dktX3_amend_1
theorem dksX3_amend_0 : cX3_amend.data.toList.drop 0 = dktX3_amend_0 := by decide +kernel
theorem dksX3_amend_1 : cX3_amend.data.toList.drop 22 = dktX3_amend_1 := dk_seg dksX3_amend_0 22 rfl rfl
theorem dksX3_amend_2 : cX3_amend.data.toList.drop 45 = dktX3_amend_2 := dk_seg dksX3_amend_1 23 rfl rfl
theorem dX3_amend_0 : decode cX3_amend 0 = .ok (.aload_n 0, 1) := dk_42 (dk_at dksX3_amend_0 0 rfl rfl)
theorem dX3_amend_1 : decode cX3_amend 1 = .ok (.aload_n 0, 1) := dk_42 (dk_at dksX3_amend_0 1 rfl rfl)
theorem dX3_amend_2 : decode cX3_amend 2 = .ok (.iload_n 1, 1) := dk_27 (dk_at dksX3_amend_0 2 rfl rfl)
theorem dX3_amend_3 : decode cX3_amend 3 = .ok (.iload_n 2, 1) := dk_28 (dk_at dksX3_amend_0 3 rfl rfl)
theorem dX3_amend_4 : decode cX3_amend 4 = .ok (.iload_n 3, 1) := dk_29 (dk_at dksX3_amend_0 4 rfl rfl)
theorem dX3_amend_5 : decode cX3_amend 5 = .ok (.iload 4, 2) := dk_21 4 (dk_at dksX3_amend_0 5 rfl rfl)
theorem dX3_amend_7 : decode cX3_amend 7 = .ok (.iload 5, 2) := dk_21 5 (dk_at dksX3_amend_0 7 rfl rfl)
theorem dX3_amend_9 : decode cX3_amend 9 = .ok (.iload 6, 2) := dk_21 6 (dk_at dksX3_amend_0 9 rfl rfl)
theorem dX3_amend_11 : decode cX3_amend 11 = .ok (.iconst 0, 1) := dk_3 (dk_at dksX3_amend_0 11 rfl rfl)
theorem dX3_amend_12 : decode cX3_amend 12 = .ok (.invokevirtual 70, 3) := dk_182 0 70 (dk_at dksX3_amend_0 12 rfl rfl)
theorem dX3_amend_15 : decode cX3_amend 15 = .ok (.putfield 19, 3) := dk_181 0 19 (dk_at dksX3_amend_0 15 rfl rfl)
theorem dX3_amend_18 : decode cX3_amend 18 = .ok (.aload_n 0, 1) := dk_42 (dk_at dksX3_amend_0 18 rfl rfl)
theorem dX3_amend_19 : decode cX3_amend 19 = .ok (.getfield 19, 3) := dk_180 0 19 (dk_at dksX3_amend_0 19 rfl rfl)
theorem dX3_amend_22 : decode cX3_amend 22 = .ok (.ifCond .ne 33, 3) := dk_154 0 33 (dk_at dksX3_amend_1 0 rfl rfl)
theorem dX3_amend_25 : decode cX3_amend 25 = .ok (.aload_n 0, 1) := dk_42 (dk_at dksX3_amend_1 3 rfl rfl)
theorem dX3_amend_26 : decode cX3_amend 26 = .ok (.aload_n 0, 1) := dk_42 (dk_at dksX3_amend_1 4 rfl rfl)
theorem dX3_amend_27 : decode cX3_amend 27 = .ok (.getfield 10, 3) := dk_180 0 10 (dk_at dksX3_amend_1 5 rfl rfl)
theorem dX3_amend_30 : decode cX3_amend 30 = .ok (.iload_n 1, 1) := dk_27 (dk_at dksX3_amend_1 8 rfl rfl)
theorem dX3_amend_31 : decode cX3_amend 31 = .ok (.invokevirtual 48, 3) := dk_182 0 48 (dk_at dksX3_amend_1 9 rfl rfl)
theorem dX3_amend_34 : decode cX3_amend 34 = .ok (.checkcast 35, 3) := dk_192 0 35 (dk_at dksX3_amend_1 12 rfl rfl)
theorem dX3_amend_37 : decode cX3_amend 37 = .ok (.iload_n 2, 1) := dk_28 (dk_at dksX3_amend_1 15 rfl rfl)
theorem dX3_amend_38 : decode cX3_amend 38 = .ok (.iload_n 3, 1) := dk_29 (dk_at dksX3_amend_1 16 rfl rfl)
theorem dX3_amend_39 : decode cX3_amend 39 = .ok (.iload 4, 2) := dk_21 4 (dk_at dksX3_amend_1 17 rfl rfl)
theorem dX3_amend_41 : decode cX3_amend 41 = .ok (.iload 5, 2) := dk_21 5 (dk_at dksX3_amend_1 19 rfl rfl)
theorem dX3_amend_43 : decode cX3_amend 43 = .ok (.iload 6, 2) := dk_21 6 (dk_at dksX3_amend_1 21 rfl rfl)
theorem dX3_amend_45 : decode cX3_amend 45 = .ok (.invokevirtual 74, 3) := dk_182 0 74 (dk_at dksX3_amend_2 0 rfl rfl)
theorem dX3_amend_48 : decode cX3_amend 48 = .ok (.ifCond .eq 7, 3) := dk_153 0 7 (dk_at dksX3_amend_2 3 rfl rfl)
theorem dX3_amend_51 : decode cX3_amend 51 = .ok (.iconst 1, 1) := dk_4 (dk_at dksX3_amend_2 6 rfl rfl)
theorem dX3_amend_52 : decode cX3_amend 52 = .ok (.goto 4, 3) := dk_167 0 4 (dk_at dksX3_amend_2 7 rfl rfl)
theorem dX3_amend_55 : decode cX3_amend 55 = .ok (.iconst 0, 1) := dk_3 (dk_at dksX3_amend_2 10 rfl rfl)
theorem dX3_amend_56 : decode cX3_amend 56 = .ok (.ireturn, 1) := dk_172 (dk_at dksX3_amend_2 11 rfl rfl)
abbrev cX3_child : ByteArray := prog_19_method_12_code
def yX3_child : MethodName := ⟨RX3, "child", "(II)I"⟩
def dkwX3_child_10 : List UInt8 := [25, 5, 182, 0, 40, 87, 42, 180, 0, 10, 182, 0, 23, 4, 100, 172]
abbrev dktX3_child_10 : List UInt8 := dkwX3_child_10 ++ []
def dkwX3_child_9 : List UInt8 := [180, 0, 59, 5, 25, 4, 180, 0, 103, 104, 25, 4, 182, 0, 106, 96, 25, 7, 83, 42, 180, 0, 10]
abbrev dktX3_child_9 : List UInt8 := dkwX3_child_9 ++ dktX3_child_10
def dkwX3_child_8 : List UInt8 := [89, 5, 28, 154, 0, 10, 45, 180, 0, 52, 167, 0, 7, 21, 6, 7, 108, 79, 58, 7, 25, 5]
abbrev dktX3_child_8 : List UInt8 := dkwX3_child_8 ++ dktX3_child_9
def dkwX3_child_7 : List UInt8 := [5, 112, 100, 79, 89, 4, 28, 153, 0, 11, 21, 6, 7, 112, 5, 162, 0, 7, 4, 167, 0, 4, 2, 79]
abbrev dktX3_child_7 : List UInt8 := dkwX3_child_7 ++ dktX3_child_8
def dkwX3_child_6 : List UInt8 := [167, 255, 208, 28, 4, 100, 54, 6, 6, 188, 10, 89, 3, 28, 154, 0, 7, 4, 167, 0, 9, 4, 21, 6]
abbrev dktX3_child_6 : List UInt8 := dkwX3_child_6 ++ dktX3_child_7
def dkwX3_child_5 : List UInt8 := [199, 0, 7, 1, 167, 0, 16, 45, 180, 0, 59, 21, 6, 50, 182, 0, 97, 192, 0, 98, 83, 132, 6, 1]
abbrev dktX3_child_5 : List UInt8 := dkwX3_child_5 ++ dktX3_child_6
def dkwX3_child_4 : List UInt8 := [21, 6, 45, 180, 0, 59, 190, 162, 0, 44, 25, 5, 180, 0, 59, 21, 6, 45, 180, 0, 59, 21, 6, 50]
abbrev dktX3_child_4 : List UInt8 := dkwX3_child_4 ++ dktX3_child_5
def dkwX3_child_3 : List UInt8 := [17, 1, 244, 182, 0, 81, 58, 4, 187, 0, 35, 89, 45, 180, 0, 52, 183, 0, 37, 58, 5, 3, 54, 6]
abbrev dktX3_child_3 : List UInt8 := dkwX3_child_3 ++ dktX3_child_4
def dkwX3_child_2 : List UInt8 := [182, 0, 31, 172, 42, 180, 0, 10, 182, 0, 23, 16, 12, 160, 0, 9, 42, 6, 182, 0, 31, 172, 45]
abbrev dktX3_child_2 : List UInt8 := dkwX3_child_2 ++ dktX3_child_3
def dkwX3_child_1 : List UInt8 := [182, 0, 48, 192, 0, 35, 78, 28, 3, 42, 45, 182, 0, 93, 4, 100, 184, 0, 27, 154, 0, 9, 42, 5]
abbrev dktX3_child_1 : List UInt8 := dkwX3_child_1 ++ dktX3_child_2
def dkwX3_child_0 : List UInt8 := [42, 3, 181, 0, 19, 42, 27, 182, 0, 44, 154, 0, 9, 42, 4, 182, 0, 31, 172, 42, 180, 0, 10, 27]
abbrev dktX3_child_0 : List UInt8 := dkwX3_child_0 ++ dktX3_child_1
theorem dksX3_child_0 : cX3_child.data.toList.drop 0 = dktX3_child_0 := by decide +kernel
theorem dksX3_child_1 : cX3_child.data.toList.drop 24 = dktX3_child_1 := dk_seg dksX3_child_0 24 rfl rfl
theorem dksX3_child_2 : cX3_child.data.toList.drop 48 = dktX3_child_2 := dk_seg dksX3_child_1 24 rfl rfl
theorem dksX3_child_3 : cX3_child.data.toList.drop 71 = dktX3_child_3 := dk_seg dksX3_child_2 23 rfl rfl
theorem dksX3_child_4 : cX3_child.data.toList.drop 95 = dktX3_child_4 := dk_seg dksX3_child_3 24 rfl rfl
theorem dksX3_child_5 : cX3_child.data.toList.drop 119 = dktX3_child_5 := dk_seg dksX3_child_4 24 rfl rfl
theorem dksX3_child_6 : cX3_child.data.toList.drop 143 = dktX3_child_6 := dk_seg dksX3_child_5 24 rfl rfl
theorem dksX3_child_7 : cX3_child.data.toList.drop 167 = dktX3_child_7 := dk_seg dksX3_child_6 24 rfl rfl
theorem dksX3_child_8 : cX3_child.data.toList.drop 191 = dktX3_child_8 := dk_seg dksX3_child_7 24 rfl rfl
theorem dksX3_child_9 : cX3_child.data.toList.drop 213 = dktX3_child_9 := dk_seg dksX3_child_8 22 rfl rfl
theorem dksX3_child_10 : cX3_child.data.toList.drop 236 = dktX3_child_10 := dk_seg dksX3_child_9 23 rfl rfl
theorem dX3_child_0 : decode cX3_child 0 = .ok (.aload_n 0, 1) := dk_42 (dk_at dksX3_child_0 0 rfl rfl)
theorem dX3_child_1 : decode cX3_child 1 = .ok (.iconst 0, 1) := dk_3 (dk_at dksX3_child_0 1 rfl rfl)
theorem dX3_child_2 : decode cX3_child 2 = .ok (.putfield 19, 3) := dk_181 0 19 (dk_at dksX3_child_0 2 rfl rfl)
theorem dX3_child_5 : decode cX3_child 5 = .ok (.aload_n 0, 1) := dk_42 (dk_at dksX3_child_0 5 rfl rfl)
theorem dX3_child_6 : decode cX3_child 6 = .ok (.iload_n 1, 1) := dk_27 (dk_at dksX3_child_0 6 rfl rfl)
theorem dX3_child_7 : decode cX3_child 7 = .ok (.invokevirtual 44, 3) := dk_182 0 44 (dk_at dksX3_child_0 7 rfl rfl)
theorem dX3_child_10 : decode cX3_child 10 = .ok (.ifCond .ne 9, 3) := dk_154 0 9 (dk_at dksX3_child_0 10 rfl rfl)
theorem dX3_child_13 : decode cX3_child 13 = .ok (.aload_n 0, 1) := dk_42 (dk_at dksX3_child_0 13 rfl rfl)
theorem dX3_child_14 : decode cX3_child 14 = .ok (.iconst 1, 1) := dk_4 (dk_at dksX3_child_0 14 rfl rfl)
theorem dX3_child_15 : decode cX3_child 15 = .ok (.invokevirtual 31, 3) := dk_182 0 31 (dk_at dksX3_child_0 15 rfl rfl)
theorem dX3_child_18 : decode cX3_child 18 = .ok (.ireturn, 1) := dk_172 (dk_at dksX3_child_0 18 rfl rfl)
theorem dX3_child_19 : decode cX3_child 19 = .ok (.aload_n 0, 1) := dk_42 (dk_at dksX3_child_0 19 rfl rfl)
theorem dX3_child_20 : decode cX3_child 20 = .ok (.getfield 10, 3) := dk_180 0 10 (dk_at dksX3_child_0 20 rfl rfl)
theorem dX3_child_23 : decode cX3_child 23 = .ok (.iload_n 1, 1) := dk_27 (dk_at dksX3_child_0 23 rfl rfl)
theorem dX3_child_24 : decode cX3_child 24 = .ok (.invokevirtual 48, 3) := dk_182 0 48 (dk_at dksX3_child_1 0 rfl rfl)
theorem dX3_child_27 : decode cX3_child 27 = .ok (.checkcast 35, 3) := dk_192 0 35 (dk_at dksX3_child_1 3 rfl rfl)
theorem dX3_child_30 : decode cX3_child 30 = .ok (.astore_n 3, 1) := dk_78 (dk_at dksX3_child_1 6 rfl rfl)
theorem dX3_child_31 : decode cX3_child 31 = .ok (.iload_n 2, 1) := dk_28 (dk_at dksX3_child_1 7 rfl rfl)
theorem dX3_child_32 : decode cX3_child 32 = .ok (.iconst 0, 1) := dk_3 (dk_at dksX3_child_1 8 rfl rfl)
theorem dX3_child_33 : decode cX3_child 33 = .ok (.aload_n 0, 1) := dk_42 (dk_at dksX3_child_1 9 rfl rfl)
theorem dX3_child_34 : decode cX3_child 34 = .ok (.aload_n 3, 1) := dk_45 (dk_at dksX3_child_1 10 rfl rfl)
theorem dX3_child_35 : decode cX3_child 35 = .ok (.invokevirtual 93, 3) := dk_182 0 93 (dk_at dksX3_child_1 11 rfl rfl)
theorem dX3_child_38 : decode cX3_child 38 = .ok (.iconst 1, 1) := dk_4 (dk_at dksX3_child_1 14 rfl rfl)
theorem dX3_child_39 : decode cX3_child 39 = .ok (.isub, 1) := dk_100 (dk_at dksX3_child_1 15 rfl rfl)
theorem dX3_child_40 : decode cX3_child 40 = .ok (.invokestatic 27, 3) := dk_184 0 27 (dk_at dksX3_child_1 16 rfl rfl)
theorem dX3_child_43 : decode cX3_child 43 = .ok (.ifCond .ne 9, 3) := dk_154 0 9 (dk_at dksX3_child_1 19 rfl rfl)
theorem dX3_child_46 : decode cX3_child 46 = .ok (.aload_n 0, 1) := dk_42 (dk_at dksX3_child_1 22 rfl rfl)
theorem dX3_child_47 : decode cX3_child 47 = .ok (.iconst 2, 1) := dk_5 (dk_at dksX3_child_1 23 rfl rfl)
theorem dX3_child_48 : decode cX3_child 48 = .ok (.invokevirtual 31, 3) := dk_182 0 31 (dk_at dksX3_child_2 0 rfl rfl)
theorem dX3_child_51 : decode cX3_child 51 = .ok (.ireturn, 1) := dk_172 (dk_at dksX3_child_2 3 rfl rfl)
theorem dX3_child_52 : decode cX3_child 52 = .ok (.aload_n 0, 1) := dk_42 (dk_at dksX3_child_2 4 rfl rfl)
theorem dX3_child_53 : decode cX3_child 53 = .ok (.getfield 10, 3) := dk_180 0 10 (dk_at dksX3_child_2 5 rfl rfl)
theorem dX3_child_56 : decode cX3_child 56 = .ok (.invokevirtual 23, 3) := dk_182 0 23 (dk_at dksX3_child_2 8 rfl rfl)
theorem dX3_child_59 : decode cX3_child 59 = .ok (.bipush 12, 2) := dk_16 12 (dk_at dksX3_child_2 11 rfl rfl)
theorem dX3_child_61 : decode cX3_child 61 = .ok (.if_icmp .ne 9, 3) := dk_160 0 9 (dk_at dksX3_child_2 13 rfl rfl)
theorem dX3_child_64 : decode cX3_child 64 = .ok (.aload_n 0, 1) := dk_42 (dk_at dksX3_child_2 16 rfl rfl)
theorem dX3_child_65 : decode cX3_child 65 = .ok (.iconst 3, 1) := dk_6 (dk_at dksX3_child_2 17 rfl rfl)
theorem dX3_child_66 : decode cX3_child 66 = .ok (.invokevirtual 31, 3) := dk_182 0 31 (dk_at dksX3_child_2 18 rfl rfl)
theorem dX3_child_69 : decode cX3_child 69 = .ok (.ireturn, 1) := dk_172 (dk_at dksX3_child_2 21 rfl rfl)
theorem dX3_child_70 : decode cX3_child 70 = .ok (.aload_n 3, 1) := dk_45 (dk_at dksX3_child_2 22 rfl rfl)
theorem dX3_child_71 : decode cX3_child 71 = .ok (.sipush 500, 3) := dk_17 1 244 (dk_at dksX3_child_3 0 rfl rfl)
theorem dX3_child_74 : decode cX3_child 74 = .ok (.invokevirtual 81, 3) := dk_182 0 81 (dk_at dksX3_child_3 3 rfl rfl)
theorem dX3_child_77 : decode cX3_child 77 = .ok (.astore 4, 2) := dk_58 4 (dk_at dksX3_child_3 6 rfl rfl)
theorem dX3_child_79 : decode cX3_child 79 = .ok (.new 35, 3) := dk_187 0 35 (dk_at dksX3_child_3 8 rfl rfl)
theorem dX3_child_82 : decode cX3_child 82 = .ok (.dup, 1) := dk_89 (dk_at dksX3_child_3 11 rfl rfl)
theorem dX3_child_83 : decode cX3_child 83 = .ok (.aload_n 3, 1) := dk_45 (dk_at dksX3_child_3 12 rfl rfl)
theorem dX3_child_84 : decode cX3_child 84 = .ok (.getfield 52, 3) := dk_180 0 52 (dk_at dksX3_child_3 13 rfl rfl)
theorem dX3_child_87 : decode cX3_child 87 = .ok (.invokespecial 37, 3) := dk_183 0 37 (dk_at dksX3_child_3 16 rfl rfl)
theorem dX3_child_90 : decode cX3_child 90 = .ok (.astore 5, 2) := dk_58 5 (dk_at dksX3_child_3 19 rfl rfl)
theorem dX3_child_92 : decode cX3_child 92 = .ok (.iconst 0, 1) := dk_3 (dk_at dksX3_child_3 21 rfl rfl)
theorem dX3_child_93 : decode cX3_child 93 = .ok (.istore 6, 2) := dk_54 6 (dk_at dksX3_child_3 22 rfl rfl)
theorem dX3_child_95 : decode cX3_child 95 = .ok (.iload 6, 2) := dk_21 6 (dk_at dksX3_child_4 0 rfl rfl)
theorem dX3_child_97 : decode cX3_child 97 = .ok (.aload_n 3, 1) := dk_45 (dk_at dksX3_child_4 2 rfl rfl)
theorem dX3_child_98 : decode cX3_child 98 = .ok (.getfield 59, 3) := dk_180 0 59 (dk_at dksX3_child_4 3 rfl rfl)
theorem dX3_child_101 : decode cX3_child 101 = .ok (.arraylength, 1) := dk_190 (dk_at dksX3_child_4 6 rfl rfl)
theorem dX3_child_102 : decode cX3_child 102 = .ok (.if_icmp .ge 44, 3) := dk_162 0 44 (dk_at dksX3_child_4 7 rfl rfl)
theorem dX3_child_105 : decode cX3_child 105 = .ok (.aload 5, 2) := dk_25 5 (dk_at dksX3_child_4 10 rfl rfl)
theorem dX3_child_107 : decode cX3_child 107 = .ok (.getfield 59, 3) := dk_180 0 59 (dk_at dksX3_child_4 12 rfl rfl)
theorem dX3_child_110 : decode cX3_child 110 = .ok (.iload 6, 2) := dk_21 6 (dk_at dksX3_child_4 15 rfl rfl)
theorem dX3_child_112 : decode cX3_child 112 = .ok (.aload_n 3, 1) := dk_45 (dk_at dksX3_child_4 17 rfl rfl)
theorem dX3_child_113 : decode cX3_child 113 = .ok (.getfield 59, 3) := dk_180 0 59 (dk_at dksX3_child_4 18 rfl rfl)
theorem dX3_child_116 : decode cX3_child 116 = .ok (.iload 6, 2) := dk_21 6 (dk_at dksX3_child_4 21 rfl rfl)
theorem dX3_child_118 : decode cX3_child 118 = .ok (.aaload, 1) := dk_50 (dk_at dksX3_child_4 23 rfl rfl)
theorem dX3_child_119 : decode cX3_child 119 = .ok (.ifnonnull 7, 3) := dk_199 0 7 (dk_at dksX3_child_5 0 rfl rfl)
theorem dX3_child_122 : decode cX3_child 122 = .ok (.aconst_null, 1) := dk_1 (dk_at dksX3_child_5 3 rfl rfl)
theorem dX3_child_123 : decode cX3_child 123 = .ok (.goto 16, 3) := dk_167 0 16 (dk_at dksX3_child_5 4 rfl rfl)
theorem dX3_child_126 : decode cX3_child 126 = .ok (.aload_n 3, 1) := dk_45 (dk_at dksX3_child_5 7 rfl rfl)
theorem dX3_child_127 : decode cX3_child 127 = .ok (.getfield 59, 3) := dk_180 0 59 (dk_at dksX3_child_5 8 rfl rfl)
theorem dX3_child_130 : decode cX3_child 130 = .ok (.iload 6, 2) := dk_21 6 (dk_at dksX3_child_5 11 rfl rfl)
theorem dX3_child_132 : decode cX3_child 132 = .ok (.aaload, 1) := dk_50 (dk_at dksX3_child_5 13 rfl rfl)
theorem dX3_child_133 : decode cX3_child 133 = .ok (.invokevirtual 97, 3) := dk_182 0 97 (dk_at dksX3_child_5 14 rfl rfl)
theorem dX3_child_136 : decode cX3_child 136 = .ok (.checkcast 98, 3) := dk_192 0 98 (dk_at dksX3_child_5 17 rfl rfl)
theorem dX3_child_139 : decode cX3_child 139 = .ok (.aastore, 1) := dk_83 (dk_at dksX3_child_5 20 rfl rfl)
theorem dX3_child_140 : decode cX3_child 140 = .ok (.iinc 6 1, 3) := dk_132 6 1 (dk_at dksX3_child_5 21 rfl rfl)
theorem dX3_child_143 : decode cX3_child 143 = .ok (.goto (-48), 3) := dk_167 255 208 (dk_at dksX3_child_6 0 rfl rfl)
theorem dX3_child_146 : decode cX3_child 146 = .ok (.iload_n 2, 1) := dk_28 (dk_at dksX3_child_6 3 rfl rfl)
theorem dX3_child_147 : decode cX3_child 147 = .ok (.iconst 1, 1) := dk_4 (dk_at dksX3_child_6 4 rfl rfl)
theorem dX3_child_148 : decode cX3_child 148 = .ok (.isub, 1) := dk_100 (dk_at dksX3_child_6 5 rfl rfl)
theorem dX3_child_149 : decode cX3_child 149 = .ok (.istore 6, 2) := dk_54 6 (dk_at dksX3_child_6 6 rfl rfl)
theorem dX3_child_151 : decode cX3_child 151 = .ok (.iconst 3, 1) := dk_6 (dk_at dksX3_child_6 8 rfl rfl)
theorem dX3_child_152 : decode cX3_child 152 = .ok (.newarray .int, 2) := dk_188_10 (dk_at dksX3_child_6 9 rfl rfl)
theorem dX3_child_154 : decode cX3_child 154 = .ok (.dup, 1) := dk_89 (dk_at dksX3_child_6 11 rfl rfl)
theorem dX3_child_155 : decode cX3_child 155 = .ok (.iconst 0, 1) := dk_3 (dk_at dksX3_child_6 12 rfl rfl)
theorem dX3_child_156 : decode cX3_child 156 = .ok (.iload_n 2, 1) := dk_28 (dk_at dksX3_child_6 13 rfl rfl)
theorem dX3_child_157 : decode cX3_child 157 = .ok (.ifCond .ne 7, 3) := dk_154 0 7 (dk_at dksX3_child_6 14 rfl rfl)
theorem dX3_child_160 : decode cX3_child 160 = .ok (.iconst 1, 1) := dk_4 (dk_at dksX3_child_6 17 rfl rfl)
theorem dX3_child_161 : decode cX3_child 161 = .ok (.goto 9, 3) := dk_167 0 9 (dk_at dksX3_child_6 18 rfl rfl)
theorem dX3_child_164 : decode cX3_child 164 = .ok (.iconst 1, 1) := dk_4 (dk_at dksX3_child_6 21 rfl rfl)
theorem dX3_child_165 : decode cX3_child 165 = .ok (.iload 6, 2) := dk_21 6 (dk_at dksX3_child_6 22 rfl rfl)
theorem dX3_child_167 : decode cX3_child 167 = .ok (.iconst 2, 1) := dk_5 (dk_at dksX3_child_7 0 rfl rfl)
theorem dX3_child_168 : decode cX3_child 168 = .ok (.irem, 1) := dk_112 (dk_at dksX3_child_7 1 rfl rfl)
theorem dX3_child_169 : decode cX3_child 169 = .ok (.isub, 1) := dk_100 (dk_at dksX3_child_7 2 rfl rfl)
theorem dX3_child_170 : decode cX3_child 170 = .ok (.iastore, 1) := dk_79 (dk_at dksX3_child_7 3 rfl rfl)
theorem dX3_child_171 : decode cX3_child 171 = .ok (.dup, 1) := dk_89 (dk_at dksX3_child_7 4 rfl rfl)
theorem dX3_child_172 : decode cX3_child 172 = .ok (.iconst 1, 1) := dk_4 (dk_at dksX3_child_7 5 rfl rfl)
theorem dX3_child_173 : decode cX3_child 173 = .ok (.iload_n 2, 1) := dk_28 (dk_at dksX3_child_7 6 rfl rfl)
theorem dX3_child_174 : decode cX3_child 174 = .ok (.ifCond .eq 11, 3) := dk_153 0 11 (dk_at dksX3_child_7 7 rfl rfl)
theorem dX3_child_177 : decode cX3_child 177 = .ok (.iload 6, 2) := dk_21 6 (dk_at dksX3_child_7 10 rfl rfl)
theorem dX3_child_179 : decode cX3_child 179 = .ok (.iconst 4, 1) := dk_7 (dk_at dksX3_child_7 12 rfl rfl)
theorem dX3_child_180 : decode cX3_child 180 = .ok (.irem, 1) := dk_112 (dk_at dksX3_child_7 13 rfl rfl)
theorem dX3_child_181 : decode cX3_child 181 = .ok (.iconst 2, 1) := dk_5 (dk_at dksX3_child_7 14 rfl rfl)
theorem dX3_child_182 : decode cX3_child 182 = .ok (.if_icmp .ge 7, 3) := dk_162 0 7 (dk_at dksX3_child_7 15 rfl rfl)
theorem dX3_child_185 : decode cX3_child 185 = .ok (.iconst 1, 1) := dk_4 (dk_at dksX3_child_7 18 rfl rfl)
theorem dX3_child_186 : decode cX3_child 186 = .ok (.goto 4, 3) := dk_167 0 4 (dk_at dksX3_child_7 19 rfl rfl)
theorem dX3_child_189 : decode cX3_child 189 = .ok (.iconst (-1), 1) := dk_2 (dk_at dksX3_child_7 22 rfl rfl)
theorem dX3_child_190 : decode cX3_child 190 = .ok (.iastore, 1) := dk_79 (dk_at dksX3_child_7 23 rfl rfl)
theorem dX3_child_191 : decode cX3_child 191 = .ok (.dup, 1) := dk_89 (dk_at dksX3_child_8 0 rfl rfl)
theorem dX3_child_192 : decode cX3_child 192 = .ok (.iconst 2, 1) := dk_5 (dk_at dksX3_child_8 1 rfl rfl)
theorem dX3_child_193 : decode cX3_child 193 = .ok (.iload_n 2, 1) := dk_28 (dk_at dksX3_child_8 2 rfl rfl)
theorem dX3_child_194 : decode cX3_child 194 = .ok (.ifCond .ne 10, 3) := dk_154 0 10 (dk_at dksX3_child_8 3 rfl rfl)
theorem dX3_child_197 : decode cX3_child 197 = .ok (.aload_n 3, 1) := dk_45 (dk_at dksX3_child_8 6 rfl rfl)
theorem dX3_child_198 : decode cX3_child 198 = .ok (.getfield 52, 3) := dk_180 0 52 (dk_at dksX3_child_8 7 rfl rfl)
theorem dX3_child_201 : decode cX3_child 201 = .ok (.goto 7, 3) := dk_167 0 7 (dk_at dksX3_child_8 10 rfl rfl)
theorem dX3_child_204 : decode cX3_child 204 = .ok (.iload 6, 2) := dk_21 6 (dk_at dksX3_child_8 13 rfl rfl)
theorem dX3_child_206 : decode cX3_child 206 = .ok (.iconst 4, 1) := dk_7 (dk_at dksX3_child_8 15 rfl rfl)
theorem dX3_child_207 : decode cX3_child 207 = .ok (.idiv, 1) := dk_108 (dk_at dksX3_child_8 16 rfl rfl)
theorem dX3_child_208 : decode cX3_child 208 = .ok (.iastore, 1) := dk_79 (dk_at dksX3_child_8 17 rfl rfl)
theorem dX3_child_209 : decode cX3_child 209 = .ok (.astore 7, 2) := dk_58 7 (dk_at dksX3_child_8 18 rfl rfl)
theorem dX3_child_211 : decode cX3_child 211 = .ok (.aload 5, 2) := dk_25 5 (dk_at dksX3_child_8 20 rfl rfl)
theorem dX3_child_213 : decode cX3_child 213 = .ok (.getfield 59, 3) := dk_180 0 59 (dk_at dksX3_child_9 0 rfl rfl)
theorem dX3_child_216 : decode cX3_child 216 = .ok (.iconst 2, 1) := dk_5 (dk_at dksX3_child_9 3 rfl rfl)
theorem dX3_child_217 : decode cX3_child 217 = .ok (.aload 4, 2) := dk_25 4 (dk_at dksX3_child_9 4 rfl rfl)
theorem dX3_child_219 : decode cX3_child 219 = .ok (.getfield 103, 3) := dk_180 0 103 (dk_at dksX3_child_9 6 rfl rfl)
theorem dX3_child_222 : decode cX3_child 222 = .ok (.imul, 1) := dk_104 (dk_at dksX3_child_9 9 rfl rfl)
theorem dX3_child_223 : decode cX3_child 223 = .ok (.aload 4, 2) := dk_25 4 (dk_at dksX3_child_9 10 rfl rfl)
theorem dX3_child_225 : decode cX3_child 225 = .ok (.invokevirtual 106, 3) := dk_182 0 106 (dk_at dksX3_child_9 12 rfl rfl)
theorem dX3_child_228 : decode cX3_child 228 = .ok (.iadd, 1) := dk_96 (dk_at dksX3_child_9 15 rfl rfl)
theorem dX3_child_229 : decode cX3_child 229 = .ok (.aload 7, 2) := dk_25 7 (dk_at dksX3_child_9 16 rfl rfl)
theorem dX3_child_231 : decode cX3_child 231 = .ok (.aastore, 1) := dk_83 (dk_at dksX3_child_9 18 rfl rfl)
theorem dX3_child_232 : decode cX3_child 232 = .ok (.aload_n 0, 1) := dk_42 (dk_at dksX3_child_9 19 rfl rfl)
theorem dX3_child_233 : decode cX3_child 233 = .ok (.getfield 10, 3) := dk_180 0 10 (dk_at dksX3_child_9 20 rfl rfl)
theorem dX3_child_236 : decode cX3_child 236 = .ok (.aload 5, 2) := dk_25 5 (dk_at dksX3_child_10 0 rfl rfl)
theorem dX3_child_238 : decode cX3_child 238 = .ok (.invokevirtual 40, 3) := dk_182 0 40 (dk_at dksX3_child_10 2 rfl rfl)
theorem dX3_child_241 : decode cX3_child 241 = .ok (.pop, 1) := dk_87 (dk_at dksX3_child_10 5 rfl rfl)
theorem dX3_child_242 : decode cX3_child 242 = .ok (.aload_n 0, 1) := dk_42 (dk_at dksX3_child_10 6 rfl rfl)
theorem dX3_child_243 : decode cX3_child 243 = .ok (.getfield 10, 3) := dk_180 0 10 (dk_at dksX3_child_10 7 rfl rfl)
theorem dX3_child_246 : decode cX3_child 246 = .ok (.invokevirtual 23, 3) := dk_182 0 23 (dk_at dksX3_child_10 10 rfl rfl)
theorem dX3_child_249 : decode cX3_child 249 = .ok (.iconst 1, 1) := dk_4 (dk_at dksX3_child_10 13 rfl rfl)
theorem dX3_child_250 : decode cX3_child 250 = .ok (.isub, 1) := dk_100 (dk_at dksX3_child_10 14 rfl rfl)
theorem dX3_child_251 : decode cX3_child 251 = .ok (.ireturn, 1) := dk_172 (dk_at dksX3_child_10 15 rfl rfl)
abbrev cX3_ways : ByteArray := prog_19_method_11_code
def yX3_ways : MethodName := ⟨RX3, "ways", "(LHaltingaleModel$Machine;)I"⟩
def dkwX3_ways_1 : List UInt8 := [3, 172]
abbrev dktX3_ways_1 : List UInt8 := dkwX3_ways_1 ++ []
def dkwX3_ways_0 : List UInt8 := [43, 17, 1, 244, 182, 0, 81, 182, 0, 85, 153, 0, 14, 8, 7, 43, 182, 0, 90, 104, 96, 167, 0, 4]
abbrev dktX3_ways_0 : List UInt8 := dkwX3_ways_0 ++ dktX3_ways_1
theorem dksX3_ways_0 : cX3_ways.data.toList.drop 0 = dktX3_ways_0 := by decide +kernel
theorem dksX3_ways_1 : cX3_ways.data.toList.drop 24 = dktX3_ways_1 := dk_seg dksX3_ways_0 24 rfl rfl
theorem dX3_ways_0 : decode cX3_ways 0 = .ok (.aload_n 1, 1) := dk_43 (dk_at dksX3_ways_0 0 rfl rfl)
theorem dX3_ways_1 : decode cX3_ways 1 = .ok (.sipush 500, 3) := dk_17 1 244 (dk_at dksX3_ways_0 1 rfl rfl)
theorem dX3_ways_4 : decode cX3_ways 4 = .ok (.invokevirtual 81, 3) := dk_182 0 81 (dk_at dksX3_ways_0 4 rfl rfl)
theorem dX3_ways_7 : decode cX3_ways 7 = .ok (.invokevirtual 85, 3) := dk_182 0 85 (dk_at dksX3_ways_0 7 rfl rfl)
theorem dX3_ways_10 : decode cX3_ways 10 = .ok (.ifCond .eq 14, 3) := dk_153 0 14 (dk_at dksX3_ways_0 10 rfl rfl)
theorem dX3_ways_13 : decode cX3_ways 13 = .ok (.iconst 5, 1) := dk_8 (dk_at dksX3_ways_0 13 rfl rfl)
theorem dX3_ways_14 : decode cX3_ways 14 = .ok (.iconst 4, 1) := dk_7 (dk_at dksX3_ways_0 14 rfl rfl)
theorem dX3_ways_15 : decode cX3_ways 15 = .ok (.aload_n 1, 1) := dk_43 (dk_at dksX3_ways_0 15 rfl rfl)
theorem dX3_ways_16 : decode cX3_ways 16 = .ok (.invokevirtual 90, 3) := dk_182 0 90 (dk_at dksX3_ways_0 16 rfl rfl)
theorem dX3_ways_19 : decode cX3_ways 19 = .ok (.imul, 1) := dk_104 (dk_at dksX3_ways_0 19 rfl rfl)
theorem dX3_ways_20 : decode cX3_ways 20 = .ok (.iadd, 1) := dk_96 (dk_at dksX3_ways_0 20 rfl rfl)
theorem dX3_ways_21 : decode cX3_ways 21 = .ok (.goto 4, 3) := dk_167 0 4 (dk_at dksX3_ways_0 21 rfl rfl)
theorem dX3_ways_24 : decode cX3_ways 24 = .ok (.iconst 0, 1) := dk_3 (dk_at dksX3_ways_1 0 rfl rfl)
theorem dX3_ways_25 : decode cX3_ways 25 = .ok (.ireturn, 1) := dk_172 (dk_at dksX3_ways_1 1 rfl rfl)
abbrev cX3_tag : ByteArray := prog_19_method_13_code
def yX3_tag : MethodName := ⟨RX3, "tag", "(III)I"⟩
def dkwX3_tag_3 : List UInt8 := [58, 4, 42, 180, 0, 16, 25, 4, 182, 0, 40, 87, 42, 180, 0, 16, 182, 0, 23, 4, 100, 172]
abbrev dktX3_tag_3 : List UInt8 := dkwX3_tag_3 ++ []
def dkwX3_tag_2 : List UInt8 := [160, 0, 9, 42, 5, 182, 0, 31, 172, 6, 188, 10, 89, 3, 27, 79, 89, 4, 28, 79, 89, 5, 29, 79]
abbrev dktX3_tag_2 : List UInt8 := dkwX3_tag_2 ++ dktX3_tag_3
def dkwX3_tag_1 : List UInt8 := [29, 4, 16, 63, 184, 0, 27, 154, 0, 9, 42, 4, 182, 0, 31, 172, 42, 180, 0, 16, 182, 0, 23, 7]
abbrev dktX3_tag_1 : List UInt8 := dkwX3_tag_1 ++ dktX3_tag_2
def dkwX3_tag_0 : List UInt8 := [42, 3, 181, 0, 19, 27, 4, 6, 184, 0, 27, 153, 0, 23, 28, 4, 16, 63, 184, 0, 27, 153, 0, 13]
abbrev dktX3_tag_0 : List UInt8 := dkwX3_tag_0 ++ dktX3_tag_1
theorem dksX3_tag_0 : cX3_tag.data.toList.drop 0 = dktX3_tag_0 := by decide +kernel
theorem dksX3_tag_1 : cX3_tag.data.toList.drop 24 = dktX3_tag_1 := dk_seg dksX3_tag_0 24 rfl rfl
theorem dksX3_tag_2 : cX3_tag.data.toList.drop 48 = dktX3_tag_2 := dk_seg dksX3_tag_1 24 rfl rfl
theorem dksX3_tag_3 : cX3_tag.data.toList.drop 72 = dktX3_tag_3 := dk_seg dksX3_tag_2 24 rfl rfl
theorem dX3_tag_0 : decode cX3_tag 0 = .ok (.aload_n 0, 1) := dk_42 (dk_at dksX3_tag_0 0 rfl rfl)
theorem dX3_tag_1 : decode cX3_tag 1 = .ok (.iconst 0, 1) := dk_3 (dk_at dksX3_tag_0 1 rfl rfl)
theorem dX3_tag_2 : decode cX3_tag 2 = .ok (.putfield 19, 3) := dk_181 0 19 (dk_at dksX3_tag_0 2 rfl rfl)
theorem dX3_tag_5 : decode cX3_tag 5 = .ok (.iload_n 1, 1) := dk_27 (dk_at dksX3_tag_0 5 rfl rfl)
theorem dX3_tag_6 : decode cX3_tag 6 = .ok (.iconst 1, 1) := dk_4 (dk_at dksX3_tag_0 6 rfl rfl)
theorem dX3_tag_7 : decode cX3_tag 7 = .ok (.iconst 3, 1) := dk_6 (dk_at dksX3_tag_0 7 rfl rfl)
theorem dX3_tag_8 : decode cX3_tag 8 = .ok (.invokestatic 27, 3) := dk_184 0 27 (dk_at dksX3_tag_0 8 rfl rfl)
theorem dX3_tag_11 : decode cX3_tag 11 = .ok (.ifCond .eq 23, 3) := dk_153 0 23 (dk_at dksX3_tag_0 11 rfl rfl)
theorem dX3_tag_14 : decode cX3_tag 14 = .ok (.iload_n 2, 1) := dk_28 (dk_at dksX3_tag_0 14 rfl rfl)
theorem dX3_tag_15 : decode cX3_tag 15 = .ok (.iconst 1, 1) := dk_4 (dk_at dksX3_tag_0 15 rfl rfl)
theorem dX3_tag_16 : decode cX3_tag 16 = .ok (.bipush 63, 2) := dk_16 63 (dk_at dksX3_tag_0 16 rfl rfl)
theorem dX3_tag_18 : decode cX3_tag 18 = .ok (.invokestatic 27, 3) := dk_184 0 27 (dk_at dksX3_tag_0 18 rfl rfl)
theorem dX3_tag_21 : decode cX3_tag 21 = .ok (.ifCond .eq 13, 3) := dk_153 0 13 (dk_at dksX3_tag_0 21 rfl rfl)
theorem dX3_tag_24 : decode cX3_tag 24 = .ok (.iload_n 3, 1) := dk_29 (dk_at dksX3_tag_1 0 rfl rfl)
theorem dX3_tag_25 : decode cX3_tag 25 = .ok (.iconst 1, 1) := dk_4 (dk_at dksX3_tag_1 1 rfl rfl)
theorem dX3_tag_26 : decode cX3_tag 26 = .ok (.bipush 63, 2) := dk_16 63 (dk_at dksX3_tag_1 2 rfl rfl)
theorem dX3_tag_28 : decode cX3_tag 28 = .ok (.invokestatic 27, 3) := dk_184 0 27 (dk_at dksX3_tag_1 4 rfl rfl)
theorem dX3_tag_31 : decode cX3_tag 31 = .ok (.ifCond .ne 9, 3) := dk_154 0 9 (dk_at dksX3_tag_1 7 rfl rfl)
theorem dX3_tag_34 : decode cX3_tag 34 = .ok (.aload_n 0, 1) := dk_42 (dk_at dksX3_tag_1 10 rfl rfl)
theorem dX3_tag_35 : decode cX3_tag 35 = .ok (.iconst 1, 1) := dk_4 (dk_at dksX3_tag_1 11 rfl rfl)
theorem dX3_tag_36 : decode cX3_tag 36 = .ok (.invokevirtual 31, 3) := dk_182 0 31 (dk_at dksX3_tag_1 12 rfl rfl)
theorem dX3_tag_39 : decode cX3_tag 39 = .ok (.ireturn, 1) := dk_172 (dk_at dksX3_tag_1 15 rfl rfl)
theorem dX3_tag_40 : decode cX3_tag 40 = .ok (.aload_n 0, 1) := dk_42 (dk_at dksX3_tag_1 16 rfl rfl)
theorem dX3_tag_41 : decode cX3_tag 41 = .ok (.getfield 16, 3) := dk_180 0 16 (dk_at dksX3_tag_1 17 rfl rfl)
theorem dX3_tag_44 : decode cX3_tag 44 = .ok (.invokevirtual 23, 3) := dk_182 0 23 (dk_at dksX3_tag_1 20 rfl rfl)
theorem dX3_tag_47 : decode cX3_tag 47 = .ok (.iconst 4, 1) := dk_7 (dk_at dksX3_tag_1 23 rfl rfl)
theorem dX3_tag_48 : decode cX3_tag 48 = .ok (.if_icmp .ne 9, 3) := dk_160 0 9 (dk_at dksX3_tag_2 0 rfl rfl)
theorem dX3_tag_51 : decode cX3_tag 51 = .ok (.aload_n 0, 1) := dk_42 (dk_at dksX3_tag_2 3 rfl rfl)
theorem dX3_tag_52 : decode cX3_tag 52 = .ok (.iconst 2, 1) := dk_5 (dk_at dksX3_tag_2 4 rfl rfl)
theorem dX3_tag_53 : decode cX3_tag 53 = .ok (.invokevirtual 31, 3) := dk_182 0 31 (dk_at dksX3_tag_2 5 rfl rfl)
theorem dX3_tag_56 : decode cX3_tag 56 = .ok (.ireturn, 1) := dk_172 (dk_at dksX3_tag_2 8 rfl rfl)
theorem dX3_tag_57 : decode cX3_tag 57 = .ok (.iconst 3, 1) := dk_6 (dk_at dksX3_tag_2 9 rfl rfl)
theorem dX3_tag_58 : decode cX3_tag 58 = .ok (.newarray .int, 2) := dk_188_10 (dk_at dksX3_tag_2 10 rfl rfl)
theorem dX3_tag_60 : decode cX3_tag 60 = .ok (.dup, 1) := dk_89 (dk_at dksX3_tag_2 12 rfl rfl)
theorem dX3_tag_61 : decode cX3_tag 61 = .ok (.iconst 0, 1) := dk_3 (dk_at dksX3_tag_2 13 rfl rfl)
theorem dX3_tag_62 : decode cX3_tag 62 = .ok (.iload_n 1, 1) := dk_27 (dk_at dksX3_tag_2 14 rfl rfl)
theorem dX3_tag_63 : decode cX3_tag 63 = .ok (.iastore, 1) := dk_79 (dk_at dksX3_tag_2 15 rfl rfl)
theorem dX3_tag_64 : decode cX3_tag 64 = .ok (.dup, 1) := dk_89 (dk_at dksX3_tag_2 16 rfl rfl)
theorem dX3_tag_65 : decode cX3_tag 65 = .ok (.iconst 1, 1) := dk_4 (dk_at dksX3_tag_2 17 rfl rfl)
theorem dX3_tag_66 : decode cX3_tag 66 = .ok (.iload_n 2, 1) := dk_28 (dk_at dksX3_tag_2 18 rfl rfl)
theorem dX3_tag_67 : decode cX3_tag 67 = .ok (.iastore, 1) := dk_79 (dk_at dksX3_tag_2 19 rfl rfl)
theorem dX3_tag_68 : decode cX3_tag 68 = .ok (.dup, 1) := dk_89 (dk_at dksX3_tag_2 20 rfl rfl)
theorem dX3_tag_69 : decode cX3_tag 69 = .ok (.iconst 2, 1) := dk_5 (dk_at dksX3_tag_2 21 rfl rfl)
theorem dX3_tag_70 : decode cX3_tag 70 = .ok (.iload_n 3, 1) := dk_29 (dk_at dksX3_tag_2 22 rfl rfl)
theorem dX3_tag_71 : decode cX3_tag 71 = .ok (.iastore, 1) := dk_79 (dk_at dksX3_tag_2 23 rfl rfl)
theorem dX3_tag_72 : decode cX3_tag 72 = .ok (.astore 4, 2) := dk_58 4 (dk_at dksX3_tag_3 0 rfl rfl)
theorem dX3_tag_74 : decode cX3_tag 74 = .ok (.aload_n 0, 1) := dk_42 (dk_at dksX3_tag_3 2 rfl rfl)
theorem dX3_tag_75 : decode cX3_tag 75 = .ok (.getfield 16, 3) := dk_180 0 16 (dk_at dksX3_tag_3 3 rfl rfl)
theorem dX3_tag_78 : decode cX3_tag 78 = .ok (.aload 4, 2) := dk_25 4 (dk_at dksX3_tag_3 6 rfl rfl)
theorem dX3_tag_80 : decode cX3_tag 80 = .ok (.invokevirtual 40, 3) := dk_182 0 40 (dk_at dksX3_tag_3 8 rfl rfl)
theorem dX3_tag_83 : decode cX3_tag 83 = .ok (.pop, 1) := dk_87 (dk_at dksX3_tag_3 11 rfl rfl)
theorem dX3_tag_84 : decode cX3_tag 84 = .ok (.aload_n 0, 1) := dk_42 (dk_at dksX3_tag_3 12 rfl rfl)
theorem dX3_tag_85 : decode cX3_tag 85 = .ok (.getfield 16, 3) := dk_180 0 16 (dk_at dksX3_tag_3 13 rfl rfl)
theorem dX3_tag_88 : decode cX3_tag 88 = .ok (.invokevirtual 23, 3) := dk_182 0 23 (dk_at dksX3_tag_3 16 rfl rfl)
theorem dX3_tag_91 : decode cX3_tag 91 = .ok (.iconst 1, 1) := dk_4 (dk_at dksX3_tag_3 19 rfl rfl)
theorem dX3_tag_92 : decode cX3_tag 92 = .ok (.isub, 1) := dk_100 (dk_at dksX3_tag_3 20 rfl rfl)
theorem dX3_tag_93 : decode cX3_tag 93 = .ok (.ireturn, 1) := dk_172 (dk_at dksX3_tag_3 21 rfl rfl)
abbrev cX3_prove : ByteArray := prog_19_method_24_code
def yX3_prove : MethodName := ⟨RX3, "prove", "(IIII)Z"⟩
def dkwX3_prove_5 : List UInt8 := [180, 0, 10, 27, 182, 0, 48, 192, 0, 35, 28, 29, 21, 4, 184, 0, 197, 21, 5, 172]
abbrev dktX3_prove_5 : List UInt8 := dkwX3_prove_5 ++ []
def dkwX3_prove_4 : List UInt8 := [180, 0, 194, 21, 5, 153, 0, 7, 4, 167, 0, 4, 3, 96, 181, 0, 194, 21, 5, 153, 0, 21, 42]
abbrev dktX3_prove_4 : List UInt8 := dkwX3_prove_4 ++ dktX3_prove_5
def dkwX3_prove_3 : List UInt8 := [192, 0, 35, 28, 29, 21, 4, 184, 0, 187, 54, 5, 42, 89, 180, 0, 191, 4, 96, 181, 0, 191, 42, 89]
abbrev dktX3_prove_3 : List UInt8 := dkwX3_prove_3 ++ dktX3_prove_4
def dkwX3_prove_2 : List UInt8 := [167, 0, 4, 3, 181, 0, 19, 42, 180, 0, 19, 158, 0, 5, 3, 172, 42, 180, 0, 10, 27, 182, 0, 48]
abbrev dktX3_prove_2 : List UInt8 := dkwX3_prove_2 ++ dktX3_prove_3
def dkwX3_prove_1 : List UInt8 := [167, 0, 26, 42, 180, 0, 10, 27, 182, 0, 48, 192, 0, 35, 180, 0, 175, 2, 159, 0, 7, 6]
abbrev dktX3_prove_1 : List UInt8 := dkwX3_prove_1 ++ dktX3_prove_2
def dkwX3_prove_0 : List UInt8 := [42, 42, 27, 182, 0, 44, 154, 0, 7, 4, 167, 0, 40, 28, 29, 21, 4, 184, 0, 184, 154, 0, 7, 5]
abbrev dktX3_prove_0 : List UInt8 := dkwX3_prove_0 ++ dktX3_prove_1
theorem dksX3_prove_0 : cX3_prove.data.toList.drop 0 = dktX3_prove_0 := by decide +kernel
theorem dksX3_prove_1 : cX3_prove.data.toList.drop 24 = dktX3_prove_1 := dk_seg dksX3_prove_0 24 rfl rfl
theorem dksX3_prove_2 : cX3_prove.data.toList.drop 46 = dktX3_prove_2 := dk_seg dksX3_prove_1 22 rfl rfl
theorem dksX3_prove_3 : cX3_prove.data.toList.drop 70 = dktX3_prove_3 := dk_seg dksX3_prove_2 24 rfl rfl
theorem dksX3_prove_4 : cX3_prove.data.toList.drop 94 = dktX3_prove_4 := dk_seg dksX3_prove_3 24 rfl rfl
theorem dksX3_prove_5 : cX3_prove.data.toList.drop 117 = dktX3_prove_5 := dk_seg dksX3_prove_4 23 rfl rfl
theorem dX3_prove_0 : decode cX3_prove 0 = .ok (.aload_n 0, 1) := dk_42 (dk_at dksX3_prove_0 0 rfl rfl)
theorem dX3_prove_1 : decode cX3_prove 1 = .ok (.aload_n 0, 1) := dk_42 (dk_at dksX3_prove_0 1 rfl rfl)
theorem dX3_prove_2 : decode cX3_prove 2 = .ok (.iload_n 1, 1) := dk_27 (dk_at dksX3_prove_0 2 rfl rfl)
theorem dX3_prove_3 : decode cX3_prove 3 = .ok (.invokevirtual 44, 3) := dk_182 0 44 (dk_at dksX3_prove_0 3 rfl rfl)
theorem dX3_prove_6 : decode cX3_prove 6 = .ok (.ifCond .ne 7, 3) := dk_154 0 7 (dk_at dksX3_prove_0 6 rfl rfl)
theorem dX3_prove_9 : decode cX3_prove 9 = .ok (.iconst 1, 1) := dk_4 (dk_at dksX3_prove_0 9 rfl rfl)
theorem dX3_prove_10 : decode cX3_prove 10 = .ok (.goto 40, 3) := dk_167 0 40 (dk_at dksX3_prove_0 10 rfl rfl)
theorem dX3_prove_13 : decode cX3_prove 13 = .ok (.iload_n 2, 1) := dk_28 (dk_at dksX3_prove_0 13 rfl rfl)
theorem dX3_prove_14 : decode cX3_prove 14 = .ok (.iload_n 3, 1) := dk_29 (dk_at dksX3_prove_0 14 rfl rfl)
theorem dX3_prove_15 : decode cX3_prove 15 = .ok (.iload 4, 2) := dk_21 4 (dk_at dksX3_prove_0 15 rfl rfl)
theorem dX3_prove_17 : decode cX3_prove 17 = .ok (.invokestatic 184, 3) := dk_184 0 184 (dk_at dksX3_prove_0 17 rfl rfl)
theorem dX3_prove_20 : decode cX3_prove 20 = .ok (.ifCond .ne 7, 3) := dk_154 0 7 (dk_at dksX3_prove_0 20 rfl rfl)
theorem dX3_prove_23 : decode cX3_prove 23 = .ok (.iconst 2, 1) := dk_5 (dk_at dksX3_prove_0 23 rfl rfl)
theorem dX3_prove_24 : decode cX3_prove 24 = .ok (.goto 26, 3) := dk_167 0 26 (dk_at dksX3_prove_1 0 rfl rfl)
theorem dX3_prove_27 : decode cX3_prove 27 = .ok (.aload_n 0, 1) := dk_42 (dk_at dksX3_prove_1 3 rfl rfl)
theorem dX3_prove_28 : decode cX3_prove 28 = .ok (.getfield 10, 3) := dk_180 0 10 (dk_at dksX3_prove_1 4 rfl rfl)
theorem dX3_prove_31 : decode cX3_prove 31 = .ok (.iload_n 1, 1) := dk_27 (dk_at dksX3_prove_1 7 rfl rfl)
theorem dX3_prove_32 : decode cX3_prove 32 = .ok (.invokevirtual 48, 3) := dk_182 0 48 (dk_at dksX3_prove_1 8 rfl rfl)
theorem dX3_prove_35 : decode cX3_prove 35 = .ok (.checkcast 35, 3) := dk_192 0 35 (dk_at dksX3_prove_1 11 rfl rfl)
theorem dX3_prove_38 : decode cX3_prove 38 = .ok (.getfield 175, 3) := dk_180 0 175 (dk_at dksX3_prove_1 14 rfl rfl)
theorem dX3_prove_41 : decode cX3_prove 41 = .ok (.iconst (-1), 1) := dk_2 (dk_at dksX3_prove_1 17 rfl rfl)
theorem dX3_prove_42 : decode cX3_prove 42 = .ok (.if_icmp .eq 7, 3) := dk_159 0 7 (dk_at dksX3_prove_1 18 rfl rfl)
theorem dX3_prove_45 : decode cX3_prove 45 = .ok (.iconst 3, 1) := dk_6 (dk_at dksX3_prove_1 21 rfl rfl)
theorem dX3_prove_46 : decode cX3_prove 46 = .ok (.goto 4, 3) := dk_167 0 4 (dk_at dksX3_prove_2 0 rfl rfl)
theorem dX3_prove_49 : decode cX3_prove 49 = .ok (.iconst 0, 1) := dk_3 (dk_at dksX3_prove_2 3 rfl rfl)
theorem dX3_prove_50 : decode cX3_prove 50 = .ok (.putfield 19, 3) := dk_181 0 19 (dk_at dksX3_prove_2 4 rfl rfl)
theorem dX3_prove_53 : decode cX3_prove 53 = .ok (.aload_n 0, 1) := dk_42 (dk_at dksX3_prove_2 7 rfl rfl)
theorem dX3_prove_54 : decode cX3_prove 54 = .ok (.getfield 19, 3) := dk_180 0 19 (dk_at dksX3_prove_2 8 rfl rfl)
theorem dX3_prove_57 : decode cX3_prove 57 = .ok (.ifCond .le 5, 3) := dk_158 0 5 (dk_at dksX3_prove_2 11 rfl rfl)
theorem dX3_prove_60 : decode cX3_prove 60 = .ok (.iconst 0, 1) := dk_3 (dk_at dksX3_prove_2 14 rfl rfl)
theorem dX3_prove_61 : decode cX3_prove 61 = .ok (.ireturn, 1) := dk_172 (dk_at dksX3_prove_2 15 rfl rfl)
theorem dX3_prove_62 : decode cX3_prove 62 = .ok (.aload_n 0, 1) := dk_42 (dk_at dksX3_prove_2 16 rfl rfl)
theorem dX3_prove_63 : decode cX3_prove 63 = .ok (.getfield 10, 3) := dk_180 0 10 (dk_at dksX3_prove_2 17 rfl rfl)
theorem dX3_prove_66 : decode cX3_prove 66 = .ok (.iload_n 1, 1) := dk_27 (dk_at dksX3_prove_2 20 rfl rfl)
theorem dX3_prove_67 : decode cX3_prove 67 = .ok (.invokevirtual 48, 3) := dk_182 0 48 (dk_at dksX3_prove_2 21 rfl rfl)
theorem dX3_prove_70 : decode cX3_prove 70 = .ok (.checkcast 35, 3) := dk_192 0 35 (dk_at dksX3_prove_3 0 rfl rfl)
theorem dX3_prove_73 : decode cX3_prove 73 = .ok (.iload_n 2, 1) := dk_28 (dk_at dksX3_prove_3 3 rfl rfl)
theorem dX3_prove_74 : decode cX3_prove 74 = .ok (.iload_n 3, 1) := dk_29 (dk_at dksX3_prove_3 4 rfl rfl)
theorem dX3_prove_75 : decode cX3_prove 75 = .ok (.iload 4, 2) := dk_21 4 (dk_at dksX3_prove_3 5 rfl rfl)
theorem dX3_prove_77 : decode cX3_prove 77 = .ok (.invokestatic 187, 3) := dk_184 0 187 (dk_at dksX3_prove_3 7 rfl rfl)
theorem dX3_prove_80 : decode cX3_prove 80 = .ok (.istore 5, 2) := dk_54 5 (dk_at dksX3_prove_3 10 rfl rfl)
theorem dX3_prove_82 : decode cX3_prove 82 = .ok (.aload_n 0, 1) := dk_42 (dk_at dksX3_prove_3 12 rfl rfl)
theorem dX3_prove_83 : decode cX3_prove 83 = .ok (.dup, 1) := dk_89 (dk_at dksX3_prove_3 13 rfl rfl)
theorem dX3_prove_84 : decode cX3_prove 84 = .ok (.getfield 191, 3) := dk_180 0 191 (dk_at dksX3_prove_3 14 rfl rfl)
theorem dX3_prove_87 : decode cX3_prove 87 = .ok (.iconst 1, 1) := dk_4 (dk_at dksX3_prove_3 17 rfl rfl)
theorem dX3_prove_88 : decode cX3_prove 88 = .ok (.iadd, 1) := dk_96 (dk_at dksX3_prove_3 18 rfl rfl)
theorem dX3_prove_89 : decode cX3_prove 89 = .ok (.putfield 191, 3) := dk_181 0 191 (dk_at dksX3_prove_3 19 rfl rfl)
theorem dX3_prove_92 : decode cX3_prove 92 = .ok (.aload_n 0, 1) := dk_42 (dk_at dksX3_prove_3 22 rfl rfl)
theorem dX3_prove_93 : decode cX3_prove 93 = .ok (.dup, 1) := dk_89 (dk_at dksX3_prove_3 23 rfl rfl)
theorem dX3_prove_94 : decode cX3_prove 94 = .ok (.getfield 194, 3) := dk_180 0 194 (dk_at dksX3_prove_4 0 rfl rfl)
theorem dX3_prove_97 : decode cX3_prove 97 = .ok (.iload 5, 2) := dk_21 5 (dk_at dksX3_prove_4 3 rfl rfl)
theorem dX3_prove_99 : decode cX3_prove 99 = .ok (.ifCond .eq 7, 3) := dk_153 0 7 (dk_at dksX3_prove_4 5 rfl rfl)
theorem dX3_prove_102 : decode cX3_prove 102 = .ok (.iconst 1, 1) := dk_4 (dk_at dksX3_prove_4 8 rfl rfl)
theorem dX3_prove_103 : decode cX3_prove 103 = .ok (.goto 4, 3) := dk_167 0 4 (dk_at dksX3_prove_4 9 rfl rfl)
theorem dX3_prove_106 : decode cX3_prove 106 = .ok (.iconst 0, 1) := dk_3 (dk_at dksX3_prove_4 12 rfl rfl)
theorem dX3_prove_107 : decode cX3_prove 107 = .ok (.iadd, 1) := dk_96 (dk_at dksX3_prove_4 13 rfl rfl)
theorem dX3_prove_108 : decode cX3_prove 108 = .ok (.putfield 194, 3) := dk_181 0 194 (dk_at dksX3_prove_4 14 rfl rfl)
theorem dX3_prove_111 : decode cX3_prove 111 = .ok (.iload 5, 2) := dk_21 5 (dk_at dksX3_prove_4 17 rfl rfl)
theorem dX3_prove_113 : decode cX3_prove 113 = .ok (.ifCond .eq 21, 3) := dk_153 0 21 (dk_at dksX3_prove_4 19 rfl rfl)
theorem dX3_prove_116 : decode cX3_prove 116 = .ok (.aload_n 0, 1) := dk_42 (dk_at dksX3_prove_4 22 rfl rfl)
theorem dX3_prove_117 : decode cX3_prove 117 = .ok (.getfield 10, 3) := dk_180 0 10 (dk_at dksX3_prove_5 0 rfl rfl)
theorem dX3_prove_120 : decode cX3_prove 120 = .ok (.iload_n 1, 1) := dk_27 (dk_at dksX3_prove_5 3 rfl rfl)
theorem dX3_prove_121 : decode cX3_prove 121 = .ok (.invokevirtual 48, 3) := dk_182 0 48 (dk_at dksX3_prove_5 4 rfl rfl)
theorem dX3_prove_124 : decode cX3_prove 124 = .ok (.checkcast 35, 3) := dk_192 0 35 (dk_at dksX3_prove_5 7 rfl rfl)
theorem dX3_prove_127 : decode cX3_prove 127 = .ok (.iload_n 2, 1) := dk_28 (dk_at dksX3_prove_5 10 rfl rfl)
theorem dX3_prove_128 : decode cX3_prove 128 = .ok (.iload_n 3, 1) := dk_29 (dk_at dksX3_prove_5 11 rfl rfl)
theorem dX3_prove_129 : decode cX3_prove 129 = .ok (.iload 4, 2) := dk_21 4 (dk_at dksX3_prove_5 12 rfl rfl)
theorem dX3_prove_131 : decode cX3_prove 131 = .ok (.invokestatic 197, 3) := dk_184 0 197 (dk_at dksX3_prove_5 14 rfl rfl)
theorem dX3_prove_134 : decode cX3_prove 134 = .ok (.iload 5, 2) := dk_21 5 (dk_at dksX3_prove_5 17 rfl rfl)
theorem dX3_prove_136 : decode cX3_prove 136 = .ok (.ireturn, 1) := dk_172 (dk_at dksX3_prove_5 19 rfl rfl)
abbrev cX3_isCertificate : ByteArray := prog_19_method_14_code
def yX3_isCertificate : MethodName := ⟨RX3, "isCertificate", "(III)Z"⟩
def dkwX3_isCertificate_5 : List UInt8 := [6, 184, 0, 27, 153, 0, 11, 28, 154, 0, 7, 4, 167, 0, 4, 3, 172, 3, 172]
abbrev dktX3_isCertificate_5 : List UInt8 := dkwX3_isCertificate_5 ++ []
def dkwX3_isCertificate_4 : List UInt8 := [3, 172, 27, 4, 16, 6, 184, 0, 27, 153, 0, 11, 28, 154, 0, 7, 4, 167, 0, 4, 3, 172, 27, 4]
abbrev dktX3_isCertificate_4 : List UInt8 := dkwX3_isCertificate_4 ++ dktX3_isCertificate_5
def dkwX3_isCertificate_3 : List UInt8 := [17, 0, 150, 184, 0, 27, 153, 0, 18, 28, 4, 17, 0, 150, 184, 0, 27, 153, 0, 7, 4, 167, 0, 4]
abbrev dktX3_isCertificate_3 : List UInt8 := dkwX3_isCertificate_3 ++ dktX3_isCertificate_4
def dkwX3_isCertificate_2 : List UInt8 := [27, 4, 17, 1, 244, 184, 0, 27, 153, 0, 11, 28, 154, 0, 7, 4, 167, 0, 4, 3, 172, 27, 3]
abbrev dktX3_isCertificate_2 : List UInt8 := dkwX3_isCertificate_2 ++ dktX3_isCertificate_3
def dkwX3_isCertificate_1 : List UInt8 := [170, 0, 0, 0, 0, 0, 119, 0, 0, 0, 0, 0, 0, 0, 3, 0, 0, 0, 31, 0, 0, 0, 52, 0, 0, 0, 80, 0, 0, 0, 100]
abbrev dktX3_isCertificate_1 : List UInt8 := dkwX3_isCertificate_1 ++ dktX3_isCertificate_2
def dkwX3_isCertificate_0 : List UInt8 := [26]
abbrev dktX3_isCertificate_0 : List UInt8 := dkwX3_isCertificate_0 ++ dktX3_isCertificate_1
theorem dksX3_isCertificate_0 : cX3_isCertificate.data.toList.drop 0 = dktX3_isCertificate_0 := by decide +kernel
theorem dksX3_isCertificate_1 : cX3_isCertificate.data.toList.drop 1 = dktX3_isCertificate_1 := dk_seg dksX3_isCertificate_0 1 rfl rfl
theorem dksX3_isCertificate_2 : cX3_isCertificate.data.toList.drop 32 = dktX3_isCertificate_2 := dk_seg dksX3_isCertificate_1 31 rfl rfl
theorem dksX3_isCertificate_3 : cX3_isCertificate.data.toList.drop 55 = dktX3_isCertificate_3 := dk_seg dksX3_isCertificate_2 23 rfl rfl
theorem dksX3_isCertificate_4 : cX3_isCertificate.data.toList.drop 79 = dktX3_isCertificate_4 := dk_seg dksX3_isCertificate_3 24 rfl rfl
theorem dksX3_isCertificate_5 : cX3_isCertificate.data.toList.drop 103 = dktX3_isCertificate_5 := dk_seg dksX3_isCertificate_4 24 rfl rfl
theorem dX3_isCertificate_0 : decode cX3_isCertificate 0 = .ok (.iload_n 0, 1) := dk_26 (dk_at dksX3_isCertificate_0 0 rfl rfl)
theorem dX3_isCertificate_1 : decode cX3_isCertificate 1 = .ok (.tableswitch 119 0 3 #[31, 52, 80, 100], 31) := by decide +kernel
theorem dX3_isCertificate_32 : decode cX3_isCertificate 32 = .ok (.iload_n 1, 1) := dk_27 (dk_at dksX3_isCertificate_2 0 rfl rfl)
theorem dX3_isCertificate_33 : decode cX3_isCertificate 33 = .ok (.iconst 1, 1) := dk_4 (dk_at dksX3_isCertificate_2 1 rfl rfl)
theorem dX3_isCertificate_34 : decode cX3_isCertificate 34 = .ok (.sipush 500, 3) := dk_17 1 244 (dk_at dksX3_isCertificate_2 2 rfl rfl)
theorem dX3_isCertificate_37 : decode cX3_isCertificate 37 = .ok (.invokestatic 27, 3) := dk_184 0 27 (dk_at dksX3_isCertificate_2 5 rfl rfl)
theorem dX3_isCertificate_40 : decode cX3_isCertificate 40 = .ok (.ifCond .eq 11, 3) := dk_153 0 11 (dk_at dksX3_isCertificate_2 8 rfl rfl)
theorem dX3_isCertificate_43 : decode cX3_isCertificate 43 = .ok (.iload_n 2, 1) := dk_28 (dk_at dksX3_isCertificate_2 11 rfl rfl)
theorem dX3_isCertificate_44 : decode cX3_isCertificate 44 = .ok (.ifCond .ne 7, 3) := dk_154 0 7 (dk_at dksX3_isCertificate_2 12 rfl rfl)
theorem dX3_isCertificate_47 : decode cX3_isCertificate 47 = .ok (.iconst 1, 1) := dk_4 (dk_at dksX3_isCertificate_2 15 rfl rfl)
theorem dX3_isCertificate_48 : decode cX3_isCertificate 48 = .ok (.goto 4, 3) := dk_167 0 4 (dk_at dksX3_isCertificate_2 16 rfl rfl)
theorem dX3_isCertificate_51 : decode cX3_isCertificate 51 = .ok (.iconst 0, 1) := dk_3 (dk_at dksX3_isCertificate_2 19 rfl rfl)
theorem dX3_isCertificate_52 : decode cX3_isCertificate 52 = .ok (.ireturn, 1) := dk_172 (dk_at dksX3_isCertificate_2 20 rfl rfl)
theorem dX3_isCertificate_53 : decode cX3_isCertificate 53 = .ok (.iload_n 1, 1) := dk_27 (dk_at dksX3_isCertificate_2 21 rfl rfl)
theorem dX3_isCertificate_54 : decode cX3_isCertificate 54 = .ok (.iconst 0, 1) := dk_3 (dk_at dksX3_isCertificate_2 22 rfl rfl)
theorem dX3_isCertificate_55 : decode cX3_isCertificate 55 = .ok (.sipush 150, 3) := dk_17 0 150 (dk_at dksX3_isCertificate_3 0 rfl rfl)
theorem dX3_isCertificate_58 : decode cX3_isCertificate 58 = .ok (.invokestatic 27, 3) := dk_184 0 27 (dk_at dksX3_isCertificate_3 3 rfl rfl)
theorem dX3_isCertificate_61 : decode cX3_isCertificate 61 = .ok (.ifCond .eq 18, 3) := dk_153 0 18 (dk_at dksX3_isCertificate_3 6 rfl rfl)
theorem dX3_isCertificate_64 : decode cX3_isCertificate 64 = .ok (.iload_n 2, 1) := dk_28 (dk_at dksX3_isCertificate_3 9 rfl rfl)
theorem dX3_isCertificate_65 : decode cX3_isCertificate 65 = .ok (.iconst 1, 1) := dk_4 (dk_at dksX3_isCertificate_3 10 rfl rfl)
theorem dX3_isCertificate_66 : decode cX3_isCertificate 66 = .ok (.sipush 150, 3) := dk_17 0 150 (dk_at dksX3_isCertificate_3 11 rfl rfl)
theorem dX3_isCertificate_69 : decode cX3_isCertificate 69 = .ok (.invokestatic 27, 3) := dk_184 0 27 (dk_at dksX3_isCertificate_3 14 rfl rfl)
theorem dX3_isCertificate_72 : decode cX3_isCertificate 72 = .ok (.ifCond .eq 7, 3) := dk_153 0 7 (dk_at dksX3_isCertificate_3 17 rfl rfl)
theorem dX3_isCertificate_75 : decode cX3_isCertificate 75 = .ok (.iconst 1, 1) := dk_4 (dk_at dksX3_isCertificate_3 20 rfl rfl)
theorem dX3_isCertificate_76 : decode cX3_isCertificate 76 = .ok (.goto 4, 3) := dk_167 0 4 (dk_at dksX3_isCertificate_3 21 rfl rfl)
theorem dX3_isCertificate_79 : decode cX3_isCertificate 79 = .ok (.iconst 0, 1) := dk_3 (dk_at dksX3_isCertificate_4 0 rfl rfl)
theorem dX3_isCertificate_80 : decode cX3_isCertificate 80 = .ok (.ireturn, 1) := dk_172 (dk_at dksX3_isCertificate_4 1 rfl rfl)
theorem dX3_isCertificate_81 : decode cX3_isCertificate 81 = .ok (.iload_n 1, 1) := dk_27 (dk_at dksX3_isCertificate_4 2 rfl rfl)
theorem dX3_isCertificate_82 : decode cX3_isCertificate 82 = .ok (.iconst 1, 1) := dk_4 (dk_at dksX3_isCertificate_4 3 rfl rfl)
theorem dX3_isCertificate_83 : decode cX3_isCertificate 83 = .ok (.bipush 6, 2) := dk_16 6 (dk_at dksX3_isCertificate_4 4 rfl rfl)
theorem dX3_isCertificate_85 : decode cX3_isCertificate 85 = .ok (.invokestatic 27, 3) := dk_184 0 27 (dk_at dksX3_isCertificate_4 6 rfl rfl)
theorem dX3_isCertificate_88 : decode cX3_isCertificate 88 = .ok (.ifCond .eq 11, 3) := dk_153 0 11 (dk_at dksX3_isCertificate_4 9 rfl rfl)
theorem dX3_isCertificate_91 : decode cX3_isCertificate 91 = .ok (.iload_n 2, 1) := dk_28 (dk_at dksX3_isCertificate_4 12 rfl rfl)
theorem dX3_isCertificate_92 : decode cX3_isCertificate 92 = .ok (.ifCond .ne 7, 3) := dk_154 0 7 (dk_at dksX3_isCertificate_4 13 rfl rfl)
theorem dX3_isCertificate_95 : decode cX3_isCertificate 95 = .ok (.iconst 1, 1) := dk_4 (dk_at dksX3_isCertificate_4 16 rfl rfl)
theorem dX3_isCertificate_96 : decode cX3_isCertificate 96 = .ok (.goto 4, 3) := dk_167 0 4 (dk_at dksX3_isCertificate_4 17 rfl rfl)
theorem dX3_isCertificate_99 : decode cX3_isCertificate 99 = .ok (.iconst 0, 1) := dk_3 (dk_at dksX3_isCertificate_4 20 rfl rfl)
theorem dX3_isCertificate_100 : decode cX3_isCertificate 100 = .ok (.ireturn, 1) := dk_172 (dk_at dksX3_isCertificate_4 21 rfl rfl)
theorem dX3_isCertificate_101 : decode cX3_isCertificate 101 = .ok (.iload_n 1, 1) := dk_27 (dk_at dksX3_isCertificate_4 22 rfl rfl)
theorem dX3_isCertificate_102 : decode cX3_isCertificate 102 = .ok (.iconst 1, 1) := dk_4 (dk_at dksX3_isCertificate_4 23 rfl rfl)
theorem dX3_isCertificate_103 : decode cX3_isCertificate 103 = .ok (.iconst 3, 1) := dk_6 (dk_at dksX3_isCertificate_5 0 rfl rfl)
theorem dX3_isCertificate_104 : decode cX3_isCertificate 104 = .ok (.invokestatic 27, 3) := dk_184 0 27 (dk_at dksX3_isCertificate_5 1 rfl rfl)
theorem dX3_isCertificate_107 : decode cX3_isCertificate 107 = .ok (.ifCond .eq 11, 3) := dk_153 0 11 (dk_at dksX3_isCertificate_5 4 rfl rfl)
theorem dX3_isCertificate_110 : decode cX3_isCertificate 110 = .ok (.iload_n 2, 1) := dk_28 (dk_at dksX3_isCertificate_5 7 rfl rfl)
theorem dX3_isCertificate_111 : decode cX3_isCertificate 111 = .ok (.ifCond .ne 7, 3) := dk_154 0 7 (dk_at dksX3_isCertificate_5 8 rfl rfl)
theorem dX3_isCertificate_114 : decode cX3_isCertificate 114 = .ok (.iconst 1, 1) := dk_4 (dk_at dksX3_isCertificate_5 11 rfl rfl)
theorem dX3_isCertificate_115 : decode cX3_isCertificate 115 = .ok (.goto 4, 3) := dk_167 0 4 (dk_at dksX3_isCertificate_5 12 rfl rfl)
theorem dX3_isCertificate_118 : decode cX3_isCertificate 118 = .ok (.iconst 0, 1) := dk_3 (dk_at dksX3_isCertificate_5 15 rfl rfl)
theorem dX3_isCertificate_119 : decode cX3_isCertificate 119 = .ok (.ireturn, 1) := dk_172 (dk_at dksX3_isCertificate_5 16 rfl rfl)
theorem dX3_isCertificate_120 : decode cX3_isCertificate 120 = .ok (.iconst 0, 1) := dk_3 (dk_at dksX3_isCertificate_5 17 rfl rfl)
theorem dX3_isCertificate_121 : decode cX3_isCertificate 121 = .ok (.ireturn, 1) := dk_172 (dk_at dksX3_isCertificate_5 18 rfl rfl)
abbrev cX3_isTaken : ByteArray := prog_19_method_15_code
def yX3_isTaken : MethodName := ⟨RX3, "isTaken", "(LHaltingaleModel$Machine;III)Z"⟩
def dkwX3_isTaken_2 : List UInt8 := [160, 0, 11, 42, 28, 184, 0, 119, 167, 0, 8, 42, 28, 184, 0, 123, 172]
abbrev dktX3_isTaken_2 : List UInt8 := dkwX3_isTaken_2 ++ []
def dkwX3_isTaken_1 : List UInt8 := [160, 0, 7, 4, 167, 0, 4, 3, 172, 27, 4, 160, 0, 10, 42, 28, 29, 184, 0, 115, 172, 27, 5]
abbrev dktX3_isTaken_1 : List UInt8 := dkwX3_isTaken_1 ++ dktX3_isTaken_2
def dkwX3_isTaken_0 : List UInt8 := [27, 154, 0, 32, 42, 28, 182, 0, 81, 182, 0, 109, 153, 0, 19, 42, 28, 182, 0, 81, 180, 0, 112, 28]
abbrev dktX3_isTaken_0 : List UInt8 := dkwX3_isTaken_0 ++ dktX3_isTaken_1
theorem dksX3_isTaken_0 : cX3_isTaken.data.toList.drop 0 = dktX3_isTaken_0 := by decide +kernel
theorem dksX3_isTaken_1 : cX3_isTaken.data.toList.drop 24 = dktX3_isTaken_1 := dk_seg dksX3_isTaken_0 24 rfl rfl
theorem dksX3_isTaken_2 : cX3_isTaken.data.toList.drop 47 = dktX3_isTaken_2 := dk_seg dksX3_isTaken_1 23 rfl rfl
theorem dX3_isTaken_0 : decode cX3_isTaken 0 = .ok (.iload_n 1, 1) := dk_27 (dk_at dksX3_isTaken_0 0 rfl rfl)
theorem dX3_isTaken_1 : decode cX3_isTaken 1 = .ok (.ifCond .ne 32, 3) := dk_154 0 32 (dk_at dksX3_isTaken_0 1 rfl rfl)
theorem dX3_isTaken_4 : decode cX3_isTaken 4 = .ok (.aload_n 0, 1) := dk_42 (dk_at dksX3_isTaken_0 4 rfl rfl)
theorem dX3_isTaken_5 : decode cX3_isTaken 5 = .ok (.iload_n 2, 1) := dk_28 (dk_at dksX3_isTaken_0 5 rfl rfl)
theorem dX3_isTaken_6 : decode cX3_isTaken 6 = .ok (.invokevirtual 81, 3) := dk_182 0 81 (dk_at dksX3_isTaken_0 6 rfl rfl)
theorem dX3_isTaken_9 : decode cX3_isTaken 9 = .ok (.invokevirtual 109, 3) := dk_182 0 109 (dk_at dksX3_isTaken_0 9 rfl rfl)
theorem dX3_isTaken_12 : decode cX3_isTaken 12 = .ok (.ifCond .eq 19, 3) := dk_153 0 19 (dk_at dksX3_isTaken_0 12 rfl rfl)
theorem dX3_isTaken_15 : decode cX3_isTaken 15 = .ok (.aload_n 0, 1) := dk_42 (dk_at dksX3_isTaken_0 15 rfl rfl)
theorem dX3_isTaken_16 : decode cX3_isTaken 16 = .ok (.iload_n 2, 1) := dk_28 (dk_at dksX3_isTaken_0 16 rfl rfl)
theorem dX3_isTaken_17 : decode cX3_isTaken 17 = .ok (.invokevirtual 81, 3) := dk_182 0 81 (dk_at dksX3_isTaken_0 17 rfl rfl)
theorem dX3_isTaken_20 : decode cX3_isTaken 20 = .ok (.getfield 112, 3) := dk_180 0 112 (dk_at dksX3_isTaken_0 20 rfl rfl)
theorem dX3_isTaken_23 : decode cX3_isTaken 23 = .ok (.iload_n 2, 1) := dk_28 (dk_at dksX3_isTaken_0 23 rfl rfl)
theorem dX3_isTaken_24 : decode cX3_isTaken 24 = .ok (.if_icmp .ne 7, 3) := dk_160 0 7 (dk_at dksX3_isTaken_1 0 rfl rfl)
theorem dX3_isTaken_27 : decode cX3_isTaken 27 = .ok (.iconst 1, 1) := dk_4 (dk_at dksX3_isTaken_1 3 rfl rfl)
theorem dX3_isTaken_28 : decode cX3_isTaken 28 = .ok (.goto 4, 3) := dk_167 0 4 (dk_at dksX3_isTaken_1 4 rfl rfl)
theorem dX3_isTaken_31 : decode cX3_isTaken 31 = .ok (.iconst 0, 1) := dk_3 (dk_at dksX3_isTaken_1 7 rfl rfl)
theorem dX3_isTaken_32 : decode cX3_isTaken 32 = .ok (.ireturn, 1) := dk_172 (dk_at dksX3_isTaken_1 8 rfl rfl)
theorem dX3_isTaken_33 : decode cX3_isTaken 33 = .ok (.iload_n 1, 1) := dk_27 (dk_at dksX3_isTaken_1 9 rfl rfl)
theorem dX3_isTaken_34 : decode cX3_isTaken 34 = .ok (.iconst 1, 1) := dk_4 (dk_at dksX3_isTaken_1 10 rfl rfl)
theorem dX3_isTaken_35 : decode cX3_isTaken 35 = .ok (.if_icmp .ne 10, 3) := dk_160 0 10 (dk_at dksX3_isTaken_1 11 rfl rfl)
theorem dX3_isTaken_38 : decode cX3_isTaken 38 = .ok (.aload_n 0, 1) := dk_42 (dk_at dksX3_isTaken_1 14 rfl rfl)
theorem dX3_isTaken_39 : decode cX3_isTaken 39 = .ok (.iload_n 2, 1) := dk_28 (dk_at dksX3_isTaken_1 15 rfl rfl)
theorem dX3_isTaken_40 : decode cX3_isTaken 40 = .ok (.iload_n 3, 1) := dk_29 (dk_at dksX3_isTaken_1 16 rfl rfl)
theorem dX3_isTaken_41 : decode cX3_isTaken 41 = .ok (.invokestatic 115, 3) := dk_184 0 115 (dk_at dksX3_isTaken_1 17 rfl rfl)
theorem dX3_isTaken_44 : decode cX3_isTaken 44 = .ok (.ireturn, 1) := dk_172 (dk_at dksX3_isTaken_1 20 rfl rfl)
theorem dX3_isTaken_45 : decode cX3_isTaken 45 = .ok (.iload_n 1, 1) := dk_27 (dk_at dksX3_isTaken_1 21 rfl rfl)
theorem dX3_isTaken_46 : decode cX3_isTaken 46 = .ok (.iconst 2, 1) := dk_5 (dk_at dksX3_isTaken_1 22 rfl rfl)
theorem dX3_isTaken_47 : decode cX3_isTaken 47 = .ok (.if_icmp .ne 11, 3) := dk_160 0 11 (dk_at dksX3_isTaken_2 0 rfl rfl)
theorem dX3_isTaken_50 : decode cX3_isTaken 50 = .ok (.aload_n 0, 1) := dk_42 (dk_at dksX3_isTaken_2 3 rfl rfl)
theorem dX3_isTaken_51 : decode cX3_isTaken 51 = .ok (.iload_n 2, 1) := dk_28 (dk_at dksX3_isTaken_2 4 rfl rfl)
theorem dX3_isTaken_52 : decode cX3_isTaken 52 = .ok (.invokestatic 119, 3) := dk_184 0 119 (dk_at dksX3_isTaken_2 5 rfl rfl)
theorem dX3_isTaken_55 : decode cX3_isTaken 55 = .ok (.goto 8, 3) := dk_167 0 8 (dk_at dksX3_isTaken_2 8 rfl rfl)
theorem dX3_isTaken_58 : decode cX3_isTaken 58 = .ok (.aload_n 0, 1) := dk_42 (dk_at dksX3_isTaken_2 11 rfl rfl)
theorem dX3_isTaken_59 : decode cX3_isTaken 59 = .ok (.iload_n 2, 1) := dk_28 (dk_at dksX3_isTaken_2 12 rfl rfl)
theorem dX3_isTaken_60 : decode cX3_isTaken 60 = .ok (.invokestatic 123, 3) := dk_184 0 123 (dk_at dksX3_isTaken_2 13 rfl rfl)
theorem dX3_isTaken_63 : decode cX3_isTaken 63 = .ok (.ireturn, 1) := dk_172 (dk_at dksX3_isTaken_2 16 rfl rfl)
abbrev cX3_isCycle : ByteArray := prog_19_method_16_code
def yX3_isCycle : MethodName := ⟨RX3, "isCycle", "(LHaltingaleModel$Machine;II)Z"⟩
def dkwX3_isCycle_9 : List UInt8 := [21, 9, 21, 10, 104, 96, 182, 0, 144, 159, 0, 5, 3, 172, 132, 10, 1, 167, 255, 210, 4, 172]
abbrev dktX3_isCycle_9 : List UInt8 := dkwX3_isCycle_9 ++ []
def dkwX3_isCycle_8 : List UInt8 := [96, 104, 163, 0, 42, 45, 21, 8, 21, 9, 21, 10, 104, 96, 182, 0, 144, 25, 4, 21, 8, 21, 7, 96]
abbrev dktX3_isCycle_8 : List UInt8 := dkwX3_isCycle_8 ++ dktX3_isCycle_9
def dkwX3_isCycle_7 : List UInt8 := [28, 100, 54, 8, 21, 7, 156, 0, 7, 2, 167, 0, 4, 4, 54, 9, 3, 54, 10, 21, 10, 5, 27, 28]
abbrev dktX3_isCycle_7 : List UInt8 := dkwX3_isCycle_7 ++ dktX3_isCycle_8
def dkwX3_isCycle_6 : List UInt8 := [54, 7, 21, 7, 158, 0, 8, 21, 5, 167, 0, 17, 21, 7, 156, 0, 8, 21, 6, 167, 0, 7, 27, 116]
abbrev dktX3_isCycle_6 : List UInt8 := dkwX3_isCycle_6 ++ dktX3_isCycle_7
def dkwX3_isCycle_5 : List UInt8 := [180, 0, 103, 25, 4, 180, 0, 103, 159, 0, 5, 3, 172, 25, 4, 180, 0, 132, 45, 180, 0, 132, 100]
abbrev dktX3_isCycle_5 : List UInt8 := dkwX3_isCycle_5 ++ dktX3_isCycle_6
def dkwX3_isCycle_4 : List UInt8 := [167, 255, 213, 25, 4, 180, 0, 112, 27, 28, 96, 161, 0, 23, 25, 4, 182, 0, 109, 154, 0, 15, 45]
abbrev dktX3_isCycle_4 : List UInt8 := dkwX3_isCycle_4 ++ dktX3_isCycle_5
def dkwX3_isCycle_3 : List UInt8 := [21, 5, 25, 4, 180, 0, 132, 184, 0, 135, 54, 5, 21, 6, 25, 4, 180, 0, 132, 184, 0, 141, 54, 6]
abbrev dktX3_isCycle_3 : List UInt8 := dkwX3_isCycle_3 ++ dktX3_isCycle_4
def dkwX3_isCycle_2 : List UInt8 := [180, 0, 132, 54, 6, 25, 4, 180, 0, 112, 27, 28, 96, 162, 0, 38, 25, 4, 182, 0, 129, 153, 0, 30]
abbrev dktX3_isCycle_2 : List UInt8 := dkwX3_isCycle_2 ++ dktX3_isCycle_3
def dkwX3_isCycle_1 : List UInt8 := [27, 162, 0, 14, 25, 4, 182, 0, 129, 153, 0, 6, 167, 255, 239, 45, 180, 0, 132, 54, 5, 45]
abbrev dktX3_isCycle_1 : List UInt8 := dkwX3_isCycle_1 ++ dktX3_isCycle_2
def dkwX3_isCycle_0 : List UInt8 := [42, 27, 182, 0, 81, 78, 187, 0, 86, 89, 42, 27, 28, 96, 183, 0, 126, 58, 4, 25, 4, 180, 0, 112]
abbrev dktX3_isCycle_0 : List UInt8 := dkwX3_isCycle_0 ++ dktX3_isCycle_1
theorem dksX3_isCycle_0 : cX3_isCycle.data.toList.drop 0 = dktX3_isCycle_0 := by decide +kernel
theorem dksX3_isCycle_1 : cX3_isCycle.data.toList.drop 24 = dktX3_isCycle_1 := dk_seg dksX3_isCycle_0 24 rfl rfl
theorem dksX3_isCycle_2 : cX3_isCycle.data.toList.drop 46 = dktX3_isCycle_2 := dk_seg dksX3_isCycle_1 22 rfl rfl
theorem dksX3_isCycle_3 : cX3_isCycle.data.toList.drop 70 = dktX3_isCycle_3 := dk_seg dksX3_isCycle_2 24 rfl rfl
theorem dksX3_isCycle_4 : cX3_isCycle.data.toList.drop 94 = dktX3_isCycle_4 := dk_seg dksX3_isCycle_3 24 rfl rfl
theorem dksX3_isCycle_5 : cX3_isCycle.data.toList.drop 117 = dktX3_isCycle_5 := dk_seg dksX3_isCycle_4 23 rfl rfl
theorem dksX3_isCycle_6 : cX3_isCycle.data.toList.drop 140 = dktX3_isCycle_6 := dk_seg dksX3_isCycle_5 23 rfl rfl
theorem dksX3_isCycle_7 : cX3_isCycle.data.toList.drop 164 = dktX3_isCycle_7 := dk_seg dksX3_isCycle_6 24 rfl rfl
theorem dksX3_isCycle_8 : cX3_isCycle.data.toList.drop 188 = dktX3_isCycle_8 := dk_seg dksX3_isCycle_7 24 rfl rfl
theorem dksX3_isCycle_9 : cX3_isCycle.data.toList.drop 212 = dktX3_isCycle_9 := dk_seg dksX3_isCycle_8 24 rfl rfl
theorem dX3_isCycle_0 : decode cX3_isCycle 0 = .ok (.aload_n 0, 1) := dk_42 (dk_at dksX3_isCycle_0 0 rfl rfl)
theorem dX3_isCycle_1 : decode cX3_isCycle 1 = .ok (.iload_n 1, 1) := dk_27 (dk_at dksX3_isCycle_0 1 rfl rfl)
theorem dX3_isCycle_2 : decode cX3_isCycle 2 = .ok (.invokevirtual 81, 3) := dk_182 0 81 (dk_at dksX3_isCycle_0 2 rfl rfl)
theorem dX3_isCycle_5 : decode cX3_isCycle 5 = .ok (.astore_n 3, 1) := dk_78 (dk_at dksX3_isCycle_0 5 rfl rfl)
theorem dX3_isCycle_6 : decode cX3_isCycle 6 = .ok (.new 86, 3) := dk_187 0 86 (dk_at dksX3_isCycle_0 6 rfl rfl)
theorem dX3_isCycle_9 : decode cX3_isCycle 9 = .ok (.dup, 1) := dk_89 (dk_at dksX3_isCycle_0 9 rfl rfl)
theorem dX3_isCycle_10 : decode cX3_isCycle 10 = .ok (.aload_n 0, 1) := dk_42 (dk_at dksX3_isCycle_0 10 rfl rfl)
theorem dX3_isCycle_11 : decode cX3_isCycle 11 = .ok (.iload_n 1, 1) := dk_27 (dk_at dksX3_isCycle_0 11 rfl rfl)
theorem dX3_isCycle_12 : decode cX3_isCycle 12 = .ok (.iload_n 2, 1) := dk_28 (dk_at dksX3_isCycle_0 12 rfl rfl)
theorem dX3_isCycle_13 : decode cX3_isCycle 13 = .ok (.iadd, 1) := dk_96 (dk_at dksX3_isCycle_0 13 rfl rfl)
theorem dX3_isCycle_14 : decode cX3_isCycle 14 = .ok (.invokespecial 126, 3) := dk_183 0 126 (dk_at dksX3_isCycle_0 14 rfl rfl)
theorem dX3_isCycle_17 : decode cX3_isCycle 17 = .ok (.astore 4, 2) := dk_58 4 (dk_at dksX3_isCycle_0 17 rfl rfl)
theorem dX3_isCycle_19 : decode cX3_isCycle 19 = .ok (.aload 4, 2) := dk_25 4 (dk_at dksX3_isCycle_0 19 rfl rfl)
theorem dX3_isCycle_21 : decode cX3_isCycle 21 = .ok (.getfield 112, 3) := dk_180 0 112 (dk_at dksX3_isCycle_0 21 rfl rfl)
theorem dX3_isCycle_24 : decode cX3_isCycle 24 = .ok (.iload_n 1, 1) := dk_27 (dk_at dksX3_isCycle_1 0 rfl rfl)
theorem dX3_isCycle_25 : decode cX3_isCycle 25 = .ok (.if_icmp .ge 14, 3) := dk_162 0 14 (dk_at dksX3_isCycle_1 1 rfl rfl)
theorem dX3_isCycle_28 : decode cX3_isCycle 28 = .ok (.aload 4, 2) := dk_25 4 (dk_at dksX3_isCycle_1 4 rfl rfl)
theorem dX3_isCycle_30 : decode cX3_isCycle 30 = .ok (.invokevirtual 129, 3) := dk_182 0 129 (dk_at dksX3_isCycle_1 6 rfl rfl)
theorem dX3_isCycle_33 : decode cX3_isCycle 33 = .ok (.ifCond .eq 6, 3) := dk_153 0 6 (dk_at dksX3_isCycle_1 9 rfl rfl)
theorem dX3_isCycle_36 : decode cX3_isCycle 36 = .ok (.goto (-17), 3) := dk_167 255 239 (dk_at dksX3_isCycle_1 12 rfl rfl)
theorem dX3_isCycle_39 : decode cX3_isCycle 39 = .ok (.aload_n 3, 1) := dk_45 (dk_at dksX3_isCycle_1 15 rfl rfl)
theorem dX3_isCycle_40 : decode cX3_isCycle 40 = .ok (.getfield 132, 3) := dk_180 0 132 (dk_at dksX3_isCycle_1 16 rfl rfl)
theorem dX3_isCycle_43 : decode cX3_isCycle 43 = .ok (.istore 5, 2) := dk_54 5 (dk_at dksX3_isCycle_1 19 rfl rfl)
theorem dX3_isCycle_45 : decode cX3_isCycle 45 = .ok (.aload_n 3, 1) := dk_45 (dk_at dksX3_isCycle_1 21 rfl rfl)
theorem dX3_isCycle_46 : decode cX3_isCycle 46 = .ok (.getfield 132, 3) := dk_180 0 132 (dk_at dksX3_isCycle_2 0 rfl rfl)
theorem dX3_isCycle_49 : decode cX3_isCycle 49 = .ok (.istore 6, 2) := dk_54 6 (dk_at dksX3_isCycle_2 3 rfl rfl)
theorem dX3_isCycle_51 : decode cX3_isCycle 51 = .ok (.aload 4, 2) := dk_25 4 (dk_at dksX3_isCycle_2 5 rfl rfl)
theorem dX3_isCycle_53 : decode cX3_isCycle 53 = .ok (.getfield 112, 3) := dk_180 0 112 (dk_at dksX3_isCycle_2 7 rfl rfl)
theorem dX3_isCycle_56 : decode cX3_isCycle 56 = .ok (.iload_n 1, 1) := dk_27 (dk_at dksX3_isCycle_2 10 rfl rfl)
theorem dX3_isCycle_57 : decode cX3_isCycle 57 = .ok (.iload_n 2, 1) := dk_28 (dk_at dksX3_isCycle_2 11 rfl rfl)
theorem dX3_isCycle_58 : decode cX3_isCycle 58 = .ok (.iadd, 1) := dk_96 (dk_at dksX3_isCycle_2 12 rfl rfl)
theorem dX3_isCycle_59 : decode cX3_isCycle 59 = .ok (.if_icmp .ge 38, 3) := dk_162 0 38 (dk_at dksX3_isCycle_2 13 rfl rfl)
theorem dX3_isCycle_62 : decode cX3_isCycle 62 = .ok (.aload 4, 2) := dk_25 4 (dk_at dksX3_isCycle_2 16 rfl rfl)
theorem dX3_isCycle_64 : decode cX3_isCycle 64 = .ok (.invokevirtual 129, 3) := dk_182 0 129 (dk_at dksX3_isCycle_2 18 rfl rfl)
theorem dX3_isCycle_67 : decode cX3_isCycle 67 = .ok (.ifCond .eq 30, 3) := dk_153 0 30 (dk_at dksX3_isCycle_2 21 rfl rfl)
theorem dX3_isCycle_70 : decode cX3_isCycle 70 = .ok (.iload 5, 2) := dk_21 5 (dk_at dksX3_isCycle_3 0 rfl rfl)
theorem dX3_isCycle_72 : decode cX3_isCycle 72 = .ok (.aload 4, 2) := dk_25 4 (dk_at dksX3_isCycle_3 2 rfl rfl)
theorem dX3_isCycle_74 : decode cX3_isCycle 74 = .ok (.getfield 132, 3) := dk_180 0 132 (dk_at dksX3_isCycle_3 4 rfl rfl)
theorem dX3_isCycle_77 : decode cX3_isCycle 77 = .ok (.invokestatic 135, 3) := dk_184 0 135 (dk_at dksX3_isCycle_3 7 rfl rfl)
theorem dX3_isCycle_80 : decode cX3_isCycle 80 = .ok (.istore 5, 2) := dk_54 5 (dk_at dksX3_isCycle_3 10 rfl rfl)
theorem dX3_isCycle_82 : decode cX3_isCycle 82 = .ok (.iload 6, 2) := dk_21 6 (dk_at dksX3_isCycle_3 12 rfl rfl)
theorem dX3_isCycle_84 : decode cX3_isCycle 84 = .ok (.aload 4, 2) := dk_25 4 (dk_at dksX3_isCycle_3 14 rfl rfl)
theorem dX3_isCycle_86 : decode cX3_isCycle 86 = .ok (.getfield 132, 3) := dk_180 0 132 (dk_at dksX3_isCycle_3 16 rfl rfl)
theorem dX3_isCycle_89 : decode cX3_isCycle 89 = .ok (.invokestatic 141, 3) := dk_184 0 141 (dk_at dksX3_isCycle_3 19 rfl rfl)
theorem dX3_isCycle_92 : decode cX3_isCycle 92 = .ok (.istore 6, 2) := dk_54 6 (dk_at dksX3_isCycle_3 22 rfl rfl)
theorem dX3_isCycle_94 : decode cX3_isCycle 94 = .ok (.goto (-43), 3) := dk_167 255 213 (dk_at dksX3_isCycle_4 0 rfl rfl)
theorem dX3_isCycle_97 : decode cX3_isCycle 97 = .ok (.aload 4, 2) := dk_25 4 (dk_at dksX3_isCycle_4 3 rfl rfl)
theorem dX3_isCycle_99 : decode cX3_isCycle 99 = .ok (.getfield 112, 3) := dk_180 0 112 (dk_at dksX3_isCycle_4 5 rfl rfl)
theorem dX3_isCycle_102 : decode cX3_isCycle 102 = .ok (.iload_n 1, 1) := dk_27 (dk_at dksX3_isCycle_4 8 rfl rfl)
theorem dX3_isCycle_103 : decode cX3_isCycle 103 = .ok (.iload_n 2, 1) := dk_28 (dk_at dksX3_isCycle_4 9 rfl rfl)
theorem dX3_isCycle_104 : decode cX3_isCycle 104 = .ok (.iadd, 1) := dk_96 (dk_at dksX3_isCycle_4 10 rfl rfl)
theorem dX3_isCycle_105 : decode cX3_isCycle 105 = .ok (.if_icmp .lt 23, 3) := dk_161 0 23 (dk_at dksX3_isCycle_4 11 rfl rfl)
theorem dX3_isCycle_108 : decode cX3_isCycle 108 = .ok (.aload 4, 2) := dk_25 4 (dk_at dksX3_isCycle_4 14 rfl rfl)
theorem dX3_isCycle_110 : decode cX3_isCycle 110 = .ok (.invokevirtual 109, 3) := dk_182 0 109 (dk_at dksX3_isCycle_4 16 rfl rfl)
theorem dX3_isCycle_113 : decode cX3_isCycle 113 = .ok (.ifCond .ne 15, 3) := dk_154 0 15 (dk_at dksX3_isCycle_4 19 rfl rfl)
theorem dX3_isCycle_116 : decode cX3_isCycle 116 = .ok (.aload_n 3, 1) := dk_45 (dk_at dksX3_isCycle_4 22 rfl rfl)
theorem dX3_isCycle_117 : decode cX3_isCycle 117 = .ok (.getfield 103, 3) := dk_180 0 103 (dk_at dksX3_isCycle_5 0 rfl rfl)
theorem dX3_isCycle_120 : decode cX3_isCycle 120 = .ok (.aload 4, 2) := dk_25 4 (dk_at dksX3_isCycle_5 3 rfl rfl)
theorem dX3_isCycle_122 : decode cX3_isCycle 122 = .ok (.getfield 103, 3) := dk_180 0 103 (dk_at dksX3_isCycle_5 5 rfl rfl)
theorem dX3_isCycle_125 : decode cX3_isCycle 125 = .ok (.if_icmp .eq 5, 3) := dk_159 0 5 (dk_at dksX3_isCycle_5 8 rfl rfl)
theorem dX3_isCycle_128 : decode cX3_isCycle 128 = .ok (.iconst 0, 1) := dk_3 (dk_at dksX3_isCycle_5 11 rfl rfl)
theorem dX3_isCycle_129 : decode cX3_isCycle 129 = .ok (.ireturn, 1) := dk_172 (dk_at dksX3_isCycle_5 12 rfl rfl)
theorem dX3_isCycle_130 : decode cX3_isCycle 130 = .ok (.aload 4, 2) := dk_25 4 (dk_at dksX3_isCycle_5 13 rfl rfl)
theorem dX3_isCycle_132 : decode cX3_isCycle 132 = .ok (.getfield 132, 3) := dk_180 0 132 (dk_at dksX3_isCycle_5 15 rfl rfl)
theorem dX3_isCycle_135 : decode cX3_isCycle 135 = .ok (.aload_n 3, 1) := dk_45 (dk_at dksX3_isCycle_5 18 rfl rfl)
theorem dX3_isCycle_136 : decode cX3_isCycle 136 = .ok (.getfield 132, 3) := dk_180 0 132 (dk_at dksX3_isCycle_5 19 rfl rfl)
theorem dX3_isCycle_139 : decode cX3_isCycle 139 = .ok (.isub, 1) := dk_100 (dk_at dksX3_isCycle_5 22 rfl rfl)
theorem dX3_isCycle_140 : decode cX3_isCycle 140 = .ok (.istore 7, 2) := dk_54 7 (dk_at dksX3_isCycle_6 0 rfl rfl)
theorem dX3_isCycle_142 : decode cX3_isCycle 142 = .ok (.iload 7, 2) := dk_21 7 (dk_at dksX3_isCycle_6 2 rfl rfl)
theorem dX3_isCycle_144 : decode cX3_isCycle 144 = .ok (.ifCond .le 8, 3) := dk_158 0 8 (dk_at dksX3_isCycle_6 4 rfl rfl)
theorem dX3_isCycle_147 : decode cX3_isCycle 147 = .ok (.iload 5, 2) := dk_21 5 (dk_at dksX3_isCycle_6 7 rfl rfl)
theorem dX3_isCycle_149 : decode cX3_isCycle 149 = .ok (.goto 17, 3) := dk_167 0 17 (dk_at dksX3_isCycle_6 9 rfl rfl)
theorem dX3_isCycle_152 : decode cX3_isCycle 152 = .ok (.iload 7, 2) := dk_21 7 (dk_at dksX3_isCycle_6 12 rfl rfl)
theorem dX3_isCycle_154 : decode cX3_isCycle 154 = .ok (.ifCond .ge 8, 3) := dk_156 0 8 (dk_at dksX3_isCycle_6 14 rfl rfl)
theorem dX3_isCycle_157 : decode cX3_isCycle 157 = .ok (.iload 6, 2) := dk_21 6 (dk_at dksX3_isCycle_6 17 rfl rfl)
theorem dX3_isCycle_159 : decode cX3_isCycle 159 = .ok (.goto 7, 3) := dk_167 0 7 (dk_at dksX3_isCycle_6 19 rfl rfl)
theorem dX3_isCycle_162 : decode cX3_isCycle 162 = .ok (.iload_n 1, 1) := dk_27 (dk_at dksX3_isCycle_6 22 rfl rfl)
theorem dX3_isCycle_163 : decode cX3_isCycle 163 = .ok (.ineg, 1) := dk_116 (dk_at dksX3_isCycle_6 23 rfl rfl)
theorem dX3_isCycle_164 : decode cX3_isCycle 164 = .ok (.iload_n 2, 1) := dk_28 (dk_at dksX3_isCycle_7 0 rfl rfl)
theorem dX3_isCycle_165 : decode cX3_isCycle 165 = .ok (.isub, 1) := dk_100 (dk_at dksX3_isCycle_7 1 rfl rfl)
theorem dX3_isCycle_166 : decode cX3_isCycle 166 = .ok (.istore 8, 2) := dk_54 8 (dk_at dksX3_isCycle_7 2 rfl rfl)
theorem dX3_isCycle_168 : decode cX3_isCycle 168 = .ok (.iload 7, 2) := dk_21 7 (dk_at dksX3_isCycle_7 4 rfl rfl)
theorem dX3_isCycle_170 : decode cX3_isCycle 170 = .ok (.ifCond .ge 7, 3) := dk_156 0 7 (dk_at dksX3_isCycle_7 6 rfl rfl)
theorem dX3_isCycle_173 : decode cX3_isCycle 173 = .ok (.iconst (-1), 1) := dk_2 (dk_at dksX3_isCycle_7 9 rfl rfl)
theorem dX3_isCycle_174 : decode cX3_isCycle 174 = .ok (.goto 4, 3) := dk_167 0 4 (dk_at dksX3_isCycle_7 10 rfl rfl)
theorem dX3_isCycle_177 : decode cX3_isCycle 177 = .ok (.iconst 1, 1) := dk_4 (dk_at dksX3_isCycle_7 13 rfl rfl)
theorem dX3_isCycle_178 : decode cX3_isCycle 178 = .ok (.istore 9, 2) := dk_54 9 (dk_at dksX3_isCycle_7 14 rfl rfl)
theorem dX3_isCycle_180 : decode cX3_isCycle 180 = .ok (.iconst 0, 1) := dk_3 (dk_at dksX3_isCycle_7 16 rfl rfl)
theorem dX3_isCycle_181 : decode cX3_isCycle 181 = .ok (.istore 10, 2) := dk_54 10 (dk_at dksX3_isCycle_7 17 rfl rfl)
theorem dX3_isCycle_183 : decode cX3_isCycle 183 = .ok (.iload 10, 2) := dk_21 10 (dk_at dksX3_isCycle_7 19 rfl rfl)
theorem dX3_isCycle_185 : decode cX3_isCycle 185 = .ok (.iconst 2, 1) := dk_5 (dk_at dksX3_isCycle_7 21 rfl rfl)
theorem dX3_isCycle_186 : decode cX3_isCycle 186 = .ok (.iload_n 1, 1) := dk_27 (dk_at dksX3_isCycle_7 22 rfl rfl)
theorem dX3_isCycle_187 : decode cX3_isCycle 187 = .ok (.iload_n 2, 1) := dk_28 (dk_at dksX3_isCycle_7 23 rfl rfl)
theorem dX3_isCycle_188 : decode cX3_isCycle 188 = .ok (.iadd, 1) := dk_96 (dk_at dksX3_isCycle_8 0 rfl rfl)
theorem dX3_isCycle_189 : decode cX3_isCycle 189 = .ok (.imul, 1) := dk_104 (dk_at dksX3_isCycle_8 1 rfl rfl)
theorem dX3_isCycle_190 : decode cX3_isCycle 190 = .ok (.if_icmp .gt 42, 3) := dk_163 0 42 (dk_at dksX3_isCycle_8 2 rfl rfl)
theorem dX3_isCycle_193 : decode cX3_isCycle 193 = .ok (.aload_n 3, 1) := dk_45 (dk_at dksX3_isCycle_8 5 rfl rfl)
theorem dX3_isCycle_194 : decode cX3_isCycle 194 = .ok (.iload 8, 2) := dk_21 8 (dk_at dksX3_isCycle_8 6 rfl rfl)
theorem dX3_isCycle_196 : decode cX3_isCycle 196 = .ok (.iload 9, 2) := dk_21 9 (dk_at dksX3_isCycle_8 8 rfl rfl)
theorem dX3_isCycle_198 : decode cX3_isCycle 198 = .ok (.iload 10, 2) := dk_21 10 (dk_at dksX3_isCycle_8 10 rfl rfl)
theorem dX3_isCycle_200 : decode cX3_isCycle 200 = .ok (.imul, 1) := dk_104 (dk_at dksX3_isCycle_8 12 rfl rfl)
theorem dX3_isCycle_201 : decode cX3_isCycle 201 = .ok (.iadd, 1) := dk_96 (dk_at dksX3_isCycle_8 13 rfl rfl)
theorem dX3_isCycle_202 : decode cX3_isCycle 202 = .ok (.invokevirtual 144, 3) := dk_182 0 144 (dk_at dksX3_isCycle_8 14 rfl rfl)
theorem dX3_isCycle_205 : decode cX3_isCycle 205 = .ok (.aload 4, 2) := dk_25 4 (dk_at dksX3_isCycle_8 17 rfl rfl)
theorem dX3_isCycle_207 : decode cX3_isCycle 207 = .ok (.iload 8, 2) := dk_21 8 (dk_at dksX3_isCycle_8 19 rfl rfl)
theorem dX3_isCycle_209 : decode cX3_isCycle 209 = .ok (.iload 7, 2) := dk_21 7 (dk_at dksX3_isCycle_8 21 rfl rfl)
theorem dX3_isCycle_211 : decode cX3_isCycle 211 = .ok (.iadd, 1) := dk_96 (dk_at dksX3_isCycle_8 23 rfl rfl)
theorem dX3_isCycle_212 : decode cX3_isCycle 212 = .ok (.iload 9, 2) := dk_21 9 (dk_at dksX3_isCycle_9 0 rfl rfl)
theorem dX3_isCycle_214 : decode cX3_isCycle 214 = .ok (.iload 10, 2) := dk_21 10 (dk_at dksX3_isCycle_9 2 rfl rfl)
theorem dX3_isCycle_216 : decode cX3_isCycle 216 = .ok (.imul, 1) := dk_104 (dk_at dksX3_isCycle_9 4 rfl rfl)
theorem dX3_isCycle_217 : decode cX3_isCycle 217 = .ok (.iadd, 1) := dk_96 (dk_at dksX3_isCycle_9 5 rfl rfl)
theorem dX3_isCycle_218 : decode cX3_isCycle 218 = .ok (.invokevirtual 144, 3) := dk_182 0 144 (dk_at dksX3_isCycle_9 6 rfl rfl)
theorem dX3_isCycle_221 : decode cX3_isCycle 221 = .ok (.if_icmp .eq 5, 3) := dk_159 0 5 (dk_at dksX3_isCycle_9 9 rfl rfl)
theorem dX3_isCycle_224 : decode cX3_isCycle 224 = .ok (.iconst 0, 1) := dk_3 (dk_at dksX3_isCycle_9 12 rfl rfl)
theorem dX3_isCycle_225 : decode cX3_isCycle 225 = .ok (.ireturn, 1) := dk_172 (dk_at dksX3_isCycle_9 13 rfl rfl)
theorem dX3_isCycle_226 : decode cX3_isCycle 226 = .ok (.iinc 10 1, 3) := dk_132 10 1 (dk_at dksX3_isCycle_9 14 rfl rfl)
theorem dX3_isCycle_229 : decode cX3_isCycle 229 = .ok (.goto (-46), 3) := dk_167 255 210 (dk_at dksX3_isCycle_9 17 rfl rfl)
theorem dX3_isCycle_232 : decode cX3_isCycle 232 = .ok (.iconst 1, 1) := dk_4 (dk_at dksX3_isCycle_9 20 rfl rfl)
theorem dX3_isCycle_233 : decode cX3_isCycle 233 = .ok (.ireturn, 1) := dk_172 (dk_at dksX3_isCycle_9 21 rfl rfl)
abbrev cX3_isBack : ByteArray := prog_19_method_17_code
def yX3_isBack : MethodName := ⟨RX3, "isBack", "(LHaltingaleModel$Machine;I)Z"⟩
def dkwX3_isBack_2 : List UInt8 := [45, 180, 0, 112, 27, 160, 0, 14, 45, 182, 0, 109, 154, 0, 7, 4, 167, 0, 4, 3, 172]
abbrev dktX3_isBack_2 : List UInt8 := dkwX3_isBack_2 ++ []
def dkwX3_isBack_1 : List UInt8 := [44, 184, 0, 151, 77, 132, 3, 1, 167, 255, 231, 42, 27, 182, 0, 81, 78, 44, 182, 0, 155, 153, 0, 22]
abbrev dktX3_isBack_1 : List UInt8 := dkwX3_isBack_1 ++ dktX3_isBack_2
def dkwX3_isBack_0 : List UInt8 := [42, 184, 0, 147, 77, 3, 62, 29, 27, 162, 0, 26, 44, 182, 0, 23, 16, 24, 164, 0, 5, 3, 172, 42]
abbrev dktX3_isBack_0 : List UInt8 := dkwX3_isBack_0 ++ dktX3_isBack_1
theorem dksX3_isBack_0 : cX3_isBack.data.toList.drop 0 = dktX3_isBack_0 := by decide +kernel
theorem dksX3_isBack_1 : cX3_isBack.data.toList.drop 24 = dktX3_isBack_1 := dk_seg dksX3_isBack_0 24 rfl rfl
theorem dksX3_isBack_2 : cX3_isBack.data.toList.drop 48 = dktX3_isBack_2 := dk_seg dksX3_isBack_1 24 rfl rfl
theorem dX3_isBack_0 : decode cX3_isBack 0 = .ok (.aload_n 0, 1) := dk_42 (dk_at dksX3_isBack_0 0 rfl rfl)
theorem dX3_isBack_1 : decode cX3_isBack 1 = .ok (.invokestatic 147, 3) := dk_184 0 147 (dk_at dksX3_isBack_0 1 rfl rfl)
theorem dX3_isBack_4 : decode cX3_isBack 4 = .ok (.astore_n 2, 1) := dk_77 (dk_at dksX3_isBack_0 4 rfl rfl)
theorem dX3_isBack_5 : decode cX3_isBack 5 = .ok (.iconst 0, 1) := dk_3 (dk_at dksX3_isBack_0 5 rfl rfl)
theorem dX3_isBack_6 : decode cX3_isBack 6 = .ok (.istore_n 3, 1) := dk_62 (dk_at dksX3_isBack_0 6 rfl rfl)
theorem dX3_isBack_7 : decode cX3_isBack 7 = .ok (.iload_n 3, 1) := dk_29 (dk_at dksX3_isBack_0 7 rfl rfl)
theorem dX3_isBack_8 : decode cX3_isBack 8 = .ok (.iload_n 1, 1) := dk_27 (dk_at dksX3_isBack_0 8 rfl rfl)
theorem dX3_isBack_9 : decode cX3_isBack 9 = .ok (.if_icmp .ge 26, 3) := dk_162 0 26 (dk_at dksX3_isBack_0 9 rfl rfl)
theorem dX3_isBack_12 : decode cX3_isBack 12 = .ok (.aload_n 2, 1) := dk_44 (dk_at dksX3_isBack_0 12 rfl rfl)
theorem dX3_isBack_13 : decode cX3_isBack 13 = .ok (.invokevirtual 23, 3) := dk_182 0 23 (dk_at dksX3_isBack_0 13 rfl rfl)
theorem dX3_isBack_16 : decode cX3_isBack 16 = .ok (.bipush 24, 2) := dk_16 24 (dk_at dksX3_isBack_0 16 rfl rfl)
theorem dX3_isBack_18 : decode cX3_isBack 18 = .ok (.if_icmp .le 5, 3) := dk_164 0 5 (dk_at dksX3_isBack_0 18 rfl rfl)
theorem dX3_isBack_21 : decode cX3_isBack 21 = .ok (.iconst 0, 1) := dk_3 (dk_at dksX3_isBack_0 21 rfl rfl)
theorem dX3_isBack_22 : decode cX3_isBack 22 = .ok (.ireturn, 1) := dk_172 (dk_at dksX3_isBack_0 22 rfl rfl)
theorem dX3_isBack_23 : decode cX3_isBack 23 = .ok (.aload_n 0, 1) := dk_42 (dk_at dksX3_isBack_0 23 rfl rfl)
theorem dX3_isBack_24 : decode cX3_isBack 24 = .ok (.aload_n 2, 1) := dk_44 (dk_at dksX3_isBack_1 0 rfl rfl)
theorem dX3_isBack_25 : decode cX3_isBack 25 = .ok (.invokestatic 151, 3) := dk_184 0 151 (dk_at dksX3_isBack_1 1 rfl rfl)
theorem dX3_isBack_28 : decode cX3_isBack 28 = .ok (.astore_n 2, 1) := dk_77 (dk_at dksX3_isBack_1 4 rfl rfl)
theorem dX3_isBack_29 : decode cX3_isBack 29 = .ok (.iinc 3 1, 3) := dk_132 3 1 (dk_at dksX3_isBack_1 5 rfl rfl)
theorem dX3_isBack_32 : decode cX3_isBack 32 = .ok (.goto (-25), 3) := dk_167 255 231 (dk_at dksX3_isBack_1 8 rfl rfl)
theorem dX3_isBack_35 : decode cX3_isBack 35 = .ok (.aload_n 0, 1) := dk_42 (dk_at dksX3_isBack_1 11 rfl rfl)
theorem dX3_isBack_36 : decode cX3_isBack 36 = .ok (.iload_n 1, 1) := dk_27 (dk_at dksX3_isBack_1 12 rfl rfl)
theorem dX3_isBack_37 : decode cX3_isBack 37 = .ok (.invokevirtual 81, 3) := dk_182 0 81 (dk_at dksX3_isBack_1 13 rfl rfl)
theorem dX3_isBack_40 : decode cX3_isBack 40 = .ok (.astore_n 3, 1) := dk_78 (dk_at dksX3_isBack_1 16 rfl rfl)
theorem dX3_isBack_41 : decode cX3_isBack 41 = .ok (.aload_n 2, 1) := dk_44 (dk_at dksX3_isBack_1 17 rfl rfl)
theorem dX3_isBack_42 : decode cX3_isBack 42 = .ok (.invokevirtual 155, 3) := dk_182 0 155 (dk_at dksX3_isBack_1 18 rfl rfl)
theorem dX3_isBack_45 : decode cX3_isBack 45 = .ok (.ifCond .eq 22, 3) := dk_153 0 22 (dk_at dksX3_isBack_1 21 rfl rfl)
theorem dX3_isBack_48 : decode cX3_isBack 48 = .ok (.aload_n 3, 1) := dk_45 (dk_at dksX3_isBack_2 0 rfl rfl)
theorem dX3_isBack_49 : decode cX3_isBack 49 = .ok (.getfield 112, 3) := dk_180 0 112 (dk_at dksX3_isBack_2 1 rfl rfl)
theorem dX3_isBack_52 : decode cX3_isBack 52 = .ok (.iload_n 1, 1) := dk_27 (dk_at dksX3_isBack_2 4 rfl rfl)
theorem dX3_isBack_53 : decode cX3_isBack 53 = .ok (.if_icmp .ne 14, 3) := dk_160 0 14 (dk_at dksX3_isBack_2 5 rfl rfl)
theorem dX3_isBack_56 : decode cX3_isBack 56 = .ok (.aload_n 3, 1) := dk_45 (dk_at dksX3_isBack_2 8 rfl rfl)
theorem dX3_isBack_57 : decode cX3_isBack 57 = .ok (.invokevirtual 109, 3) := dk_182 0 109 (dk_at dksX3_isBack_2 9 rfl rfl)
theorem dX3_isBack_60 : decode cX3_isBack 60 = .ok (.ifCond .ne 7, 3) := dk_154 0 7 (dk_at dksX3_isBack_2 12 rfl rfl)
theorem dX3_isBack_63 : decode cX3_isBack 63 = .ok (.iconst 1, 1) := dk_4 (dk_at dksX3_isBack_2 15 rfl rfl)
theorem dX3_isBack_64 : decode cX3_isBack 64 = .ok (.goto 4, 3) := dk_167 0 4 (dk_at dksX3_isBack_2 16 rfl rfl)
theorem dX3_isBack_67 : decode cX3_isBack 67 = .ok (.iconst 0, 1) := dk_3 (dk_at dksX3_isBack_2 19 rfl rfl)
theorem dX3_isBack_68 : decode cX3_isBack 68 = .ok (.ireturn, 1) := dk_172 (dk_at dksX3_isBack_2 20 rfl rfl)
abbrev cX3_lastRows : ByteArray := prog_19_method_18_code
def yX3_lastRows : MethodName := ⟨RX3, "lastRows", "(LHaltingaleModel$Machine;)Ljava/util/ArrayList;"⟩
def dkwX3_lastRows_3 : List UInt8 := [16, 8, 120, 79, 78, 43, 45, 182, 0, 40, 87, 132, 2, 1, 167, 255, 181, 43, 176]
abbrev dktX3_lastRows_3 : List UInt8 := dkwX3_lastRows_3 ++ []
def dkwX3_lastRows_2 : List UInt8 := [188, 10, 89, 3, 28, 5, 108, 79, 89, 4, 16, 8, 79, 89, 5, 17, 1, 0, 79, 89, 6, 28, 5, 112]
abbrev dktX3_lastRows_2 : List UInt8 := dkwX3_lastRows_2 ++ dktX3_lastRows_3
def dkwX3_lastRows_1 : List UInt8 := [50, 198, 0, 21, 42, 180, 0, 59, 28, 50, 5, 46, 42, 180, 0, 52, 162, 0, 6, 167, 0, 39, 7]
abbrev dktX3_lastRows_1 : List UInt8 := dkwX3_lastRows_1 ++ dktX3_lastRows_2
def dkwX3_lastRows_0 : List UInt8 := [187, 0, 7, 89, 183, 0, 9, 76, 3, 61, 28, 42, 180, 0, 59, 190, 162, 0, 72, 42, 180, 0, 59, 28]
abbrev dktX3_lastRows_0 : List UInt8 := dkwX3_lastRows_0 ++ dktX3_lastRows_1
theorem dksX3_lastRows_0 : cX3_lastRows.data.toList.drop 0 = dktX3_lastRows_0 := by decide +kernel
theorem dksX3_lastRows_1 : cX3_lastRows.data.toList.drop 24 = dktX3_lastRows_1 := dk_seg dksX3_lastRows_0 24 rfl rfl
theorem dksX3_lastRows_2 : cX3_lastRows.data.toList.drop 47 = dktX3_lastRows_2 := dk_seg dksX3_lastRows_1 23 rfl rfl
theorem dksX3_lastRows_3 : cX3_lastRows.data.toList.drop 71 = dktX3_lastRows_3 := dk_seg dksX3_lastRows_2 24 rfl rfl
theorem dX3_lastRows_0 : decode cX3_lastRows 0 = .ok (.new 7, 3) := dk_187 0 7 (dk_at dksX3_lastRows_0 0 rfl rfl)
theorem dX3_lastRows_3 : decode cX3_lastRows 3 = .ok (.dup, 1) := dk_89 (dk_at dksX3_lastRows_0 3 rfl rfl)
theorem dX3_lastRows_4 : decode cX3_lastRows 4 = .ok (.invokespecial 9, 3) := dk_183 0 9 (dk_at dksX3_lastRows_0 4 rfl rfl)
theorem dX3_lastRows_7 : decode cX3_lastRows 7 = .ok (.astore_n 1, 1) := dk_76 (dk_at dksX3_lastRows_0 7 rfl rfl)
theorem dX3_lastRows_8 : decode cX3_lastRows 8 = .ok (.iconst 0, 1) := dk_3 (dk_at dksX3_lastRows_0 8 rfl rfl)
theorem dX3_lastRows_9 : decode cX3_lastRows 9 = .ok (.istore_n 2, 1) := dk_61 (dk_at dksX3_lastRows_0 9 rfl rfl)
theorem dX3_lastRows_10 : decode cX3_lastRows 10 = .ok (.iload_n 2, 1) := dk_28 (dk_at dksX3_lastRows_0 10 rfl rfl)
theorem dX3_lastRows_11 : decode cX3_lastRows 11 = .ok (.aload_n 0, 1) := dk_42 (dk_at dksX3_lastRows_0 11 rfl rfl)
theorem dX3_lastRows_12 : decode cX3_lastRows 12 = .ok (.getfield 59, 3) := dk_180 0 59 (dk_at dksX3_lastRows_0 12 rfl rfl)
theorem dX3_lastRows_15 : decode cX3_lastRows 15 = .ok (.arraylength, 1) := dk_190 (dk_at dksX3_lastRows_0 15 rfl rfl)
theorem dX3_lastRows_16 : decode cX3_lastRows 16 = .ok (.if_icmp .ge 72, 3) := dk_162 0 72 (dk_at dksX3_lastRows_0 16 rfl rfl)
theorem dX3_lastRows_19 : decode cX3_lastRows 19 = .ok (.aload_n 0, 1) := dk_42 (dk_at dksX3_lastRows_0 19 rfl rfl)
theorem dX3_lastRows_20 : decode cX3_lastRows 20 = .ok (.getfield 59, 3) := dk_180 0 59 (dk_at dksX3_lastRows_0 20 rfl rfl)
theorem dX3_lastRows_23 : decode cX3_lastRows 23 = .ok (.iload_n 2, 1) := dk_28 (dk_at dksX3_lastRows_0 23 rfl rfl)
theorem dX3_lastRows_24 : decode cX3_lastRows 24 = .ok (.aaload, 1) := dk_50 (dk_at dksX3_lastRows_1 0 rfl rfl)
theorem dX3_lastRows_25 : decode cX3_lastRows 25 = .ok (.ifnull 21, 3) := dk_198 0 21 (dk_at dksX3_lastRows_1 1 rfl rfl)
theorem dX3_lastRows_28 : decode cX3_lastRows 28 = .ok (.aload_n 0, 1) := dk_42 (dk_at dksX3_lastRows_1 4 rfl rfl)
theorem dX3_lastRows_29 : decode cX3_lastRows 29 = .ok (.getfield 59, 3) := dk_180 0 59 (dk_at dksX3_lastRows_1 5 rfl rfl)
theorem dX3_lastRows_32 : decode cX3_lastRows 32 = .ok (.iload_n 2, 1) := dk_28 (dk_at dksX3_lastRows_1 8 rfl rfl)
theorem dX3_lastRows_33 : decode cX3_lastRows 33 = .ok (.aaload, 1) := dk_50 (dk_at dksX3_lastRows_1 9 rfl rfl)
theorem dX3_lastRows_34 : decode cX3_lastRows 34 = .ok (.iconst 2, 1) := dk_5 (dk_at dksX3_lastRows_1 10 rfl rfl)
theorem dX3_lastRows_35 : decode cX3_lastRows 35 = .ok (.iaload, 1) := dk_46 (dk_at dksX3_lastRows_1 11 rfl rfl)
theorem dX3_lastRows_36 : decode cX3_lastRows 36 = .ok (.aload_n 0, 1) := dk_42 (dk_at dksX3_lastRows_1 12 rfl rfl)
theorem dX3_lastRows_37 : decode cX3_lastRows 37 = .ok (.getfield 52, 3) := dk_180 0 52 (dk_at dksX3_lastRows_1 13 rfl rfl)
theorem dX3_lastRows_40 : decode cX3_lastRows 40 = .ok (.if_icmp .ge 6, 3) := dk_162 0 6 (dk_at dksX3_lastRows_1 16 rfl rfl)
theorem dX3_lastRows_43 : decode cX3_lastRows 43 = .ok (.goto 39, 3) := dk_167 0 39 (dk_at dksX3_lastRows_1 19 rfl rfl)
theorem dX3_lastRows_46 : decode cX3_lastRows 46 = .ok (.iconst 4, 1) := dk_7 (dk_at dksX3_lastRows_1 22 rfl rfl)
theorem dX3_lastRows_47 : decode cX3_lastRows 47 = .ok (.newarray .int, 2) := dk_188_10 (dk_at dksX3_lastRows_2 0 rfl rfl)
theorem dX3_lastRows_49 : decode cX3_lastRows 49 = .ok (.dup, 1) := dk_89 (dk_at dksX3_lastRows_2 2 rfl rfl)
theorem dX3_lastRows_50 : decode cX3_lastRows 50 = .ok (.iconst 0, 1) := dk_3 (dk_at dksX3_lastRows_2 3 rfl rfl)
theorem dX3_lastRows_51 : decode cX3_lastRows 51 = .ok (.iload_n 2, 1) := dk_28 (dk_at dksX3_lastRows_2 4 rfl rfl)
theorem dX3_lastRows_52 : decode cX3_lastRows 52 = .ok (.iconst 2, 1) := dk_5 (dk_at dksX3_lastRows_2 5 rfl rfl)
theorem dX3_lastRows_53 : decode cX3_lastRows 53 = .ok (.idiv, 1) := dk_108 (dk_at dksX3_lastRows_2 6 rfl rfl)
theorem dX3_lastRows_54 : decode cX3_lastRows 54 = .ok (.iastore, 1) := dk_79 (dk_at dksX3_lastRows_2 7 rfl rfl)
theorem dX3_lastRows_55 : decode cX3_lastRows 55 = .ok (.dup, 1) := dk_89 (dk_at dksX3_lastRows_2 8 rfl rfl)
theorem dX3_lastRows_56 : decode cX3_lastRows 56 = .ok (.iconst 1, 1) := dk_4 (dk_at dksX3_lastRows_2 9 rfl rfl)
theorem dX3_lastRows_57 : decode cX3_lastRows 57 = .ok (.bipush 8, 2) := dk_16 8 (dk_at dksX3_lastRows_2 10 rfl rfl)
theorem dX3_lastRows_59 : decode cX3_lastRows 59 = .ok (.iastore, 1) := dk_79 (dk_at dksX3_lastRows_2 12 rfl rfl)
theorem dX3_lastRows_60 : decode cX3_lastRows 60 = .ok (.dup, 1) := dk_89 (dk_at dksX3_lastRows_2 13 rfl rfl)
theorem dX3_lastRows_61 : decode cX3_lastRows 61 = .ok (.iconst 2, 1) := dk_5 (dk_at dksX3_lastRows_2 14 rfl rfl)
theorem dX3_lastRows_62 : decode cX3_lastRows 62 = .ok (.sipush 256, 3) := dk_17 1 0 (dk_at dksX3_lastRows_2 15 rfl rfl)
theorem dX3_lastRows_65 : decode cX3_lastRows 65 = .ok (.iastore, 1) := dk_79 (dk_at dksX3_lastRows_2 18 rfl rfl)
theorem dX3_lastRows_66 : decode cX3_lastRows 66 = .ok (.dup, 1) := dk_89 (dk_at dksX3_lastRows_2 19 rfl rfl)
theorem dX3_lastRows_67 : decode cX3_lastRows 67 = .ok (.iconst 3, 1) := dk_6 (dk_at dksX3_lastRows_2 20 rfl rfl)
theorem dX3_lastRows_68 : decode cX3_lastRows 68 = .ok (.iload_n 2, 1) := dk_28 (dk_at dksX3_lastRows_2 21 rfl rfl)
theorem dX3_lastRows_69 : decode cX3_lastRows 69 = .ok (.iconst 2, 1) := dk_5 (dk_at dksX3_lastRows_2 22 rfl rfl)
theorem dX3_lastRows_70 : decode cX3_lastRows 70 = .ok (.irem, 1) := dk_112 (dk_at dksX3_lastRows_2 23 rfl rfl)
theorem dX3_lastRows_71 : decode cX3_lastRows 71 = .ok (.bipush 8, 2) := dk_16 8 (dk_at dksX3_lastRows_3 0 rfl rfl)
theorem dX3_lastRows_73 : decode cX3_lastRows 73 = .ok (.ishl, 1) := dk_120 (dk_at dksX3_lastRows_3 2 rfl rfl)
theorem dX3_lastRows_74 : decode cX3_lastRows 74 = .ok (.iastore, 1) := dk_79 (dk_at dksX3_lastRows_3 3 rfl rfl)
theorem dX3_lastRows_75 : decode cX3_lastRows 75 = .ok (.astore_n 3, 1) := dk_78 (dk_at dksX3_lastRows_3 4 rfl rfl)
theorem dX3_lastRows_76 : decode cX3_lastRows 76 = .ok (.aload_n 1, 1) := dk_43 (dk_at dksX3_lastRows_3 5 rfl rfl)
theorem dX3_lastRows_77 : decode cX3_lastRows 77 = .ok (.aload_n 3, 1) := dk_45 (dk_at dksX3_lastRows_3 6 rfl rfl)
theorem dX3_lastRows_78 : decode cX3_lastRows 78 = .ok (.invokevirtual 40, 3) := dk_182 0 40 (dk_at dksX3_lastRows_3 7 rfl rfl)
theorem dX3_lastRows_81 : decode cX3_lastRows 81 = .ok (.pop, 1) := dk_87 (dk_at dksX3_lastRows_3 10 rfl rfl)
theorem dX3_lastRows_82 : decode cX3_lastRows 82 = .ok (.iinc 2 1, 3) := dk_132 2 1 (dk_at dksX3_lastRows_3 11 rfl rfl)
theorem dX3_lastRows_85 : decode cX3_lastRows 85 = .ok (.goto (-75), 3) := dk_167 255 181 (dk_at dksX3_lastRows_3 14 rfl rfl)
theorem dX3_lastRows_88 : decode cX3_lastRows 88 = .ok (.aload_n 1, 1) := dk_43 (dk_at dksX3_lastRows_3 17 rfl rfl)
theorem dX3_lastRows_89 : decode cX3_lastRows 89 = .ok (.areturn, 1) := dk_176 (dk_at dksX3_lastRows_3 18 rfl rfl)
abbrev cX3_ahead : ByteArray := prog_19_method_20_code
def yX3_ahead : MethodName := ⟨RX3, "ahead", "(LHaltingaleModel$Machine;Ljava/util/ArrayList;)Ljava/util/ArrayList;"⟩
def dkwX3_ahead_1 : List UInt8 := [185, 0, 167, 1, 0, 192, 0, 98, 58, 4, 42, 25, 4, 44, 184, 0, 170, 167, 255, 229, 44, 176]
abbrev dktX3_ahead_1 : List UInt8 := dkwX3_ahead_1 ++ []
def dkwX3_ahead_0 : List UInt8 := [187, 0, 7, 89, 183, 0, 9, 77, 43, 182, 0, 158, 78, 45, 185, 0, 162, 1, 0, 153, 0, 24, 45]
abbrev dktX3_ahead_0 : List UInt8 := dkwX3_ahead_0 ++ dktX3_ahead_1
theorem dksX3_ahead_0 : cX3_ahead.data.toList.drop 0 = dktX3_ahead_0 := by decide +kernel
theorem dksX3_ahead_1 : cX3_ahead.data.toList.drop 23 = dktX3_ahead_1 := dk_seg dksX3_ahead_0 23 rfl rfl
theorem dX3_ahead_0 : decode cX3_ahead 0 = .ok (.new 7, 3) := dk_187 0 7 (dk_at dksX3_ahead_0 0 rfl rfl)
theorem dX3_ahead_3 : decode cX3_ahead 3 = .ok (.dup, 1) := dk_89 (dk_at dksX3_ahead_0 3 rfl rfl)
theorem dX3_ahead_4 : decode cX3_ahead 4 = .ok (.invokespecial 9, 3) := dk_183 0 9 (dk_at dksX3_ahead_0 4 rfl rfl)
theorem dX3_ahead_7 : decode cX3_ahead 7 = .ok (.astore_n 2, 1) := dk_77 (dk_at dksX3_ahead_0 7 rfl rfl)
theorem dX3_ahead_8 : decode cX3_ahead 8 = .ok (.aload_n 1, 1) := dk_43 (dk_at dksX3_ahead_0 8 rfl rfl)
theorem dX3_ahead_9 : decode cX3_ahead 9 = .ok (.invokevirtual 158, 3) := dk_182 0 158 (dk_at dksX3_ahead_0 9 rfl rfl)
theorem dX3_ahead_12 : decode cX3_ahead 12 = .ok (.astore_n 3, 1) := dk_78 (dk_at dksX3_ahead_0 12 rfl rfl)
theorem dX3_ahead_13 : decode cX3_ahead 13 = .ok (.aload_n 3, 1) := dk_45 (dk_at dksX3_ahead_0 13 rfl rfl)
theorem dX3_ahead_14 : decode cX3_ahead 14 = .ok (.invokeinterface 162 1, 5) := by decide +kernel
theorem dX3_ahead_19 : decode cX3_ahead 19 = .ok (.ifCond .eq 24, 3) := dk_153 0 24 (dk_at dksX3_ahead_0 19 rfl rfl)
theorem dX3_ahead_22 : decode cX3_ahead 22 = .ok (.aload_n 3, 1) := dk_45 (dk_at dksX3_ahead_0 22 rfl rfl)
theorem dX3_ahead_23 : decode cX3_ahead 23 = .ok (.invokeinterface 167 1, 5) := by decide +kernel
theorem dX3_ahead_28 : decode cX3_ahead 28 = .ok (.checkcast 98, 3) := dk_192 0 98 (dk_at dksX3_ahead_1 5 rfl rfl)
theorem dX3_ahead_31 : decode cX3_ahead 31 = .ok (.astore 4, 2) := dk_58 4 (dk_at dksX3_ahead_1 8 rfl rfl)
theorem dX3_ahead_33 : decode cX3_ahead 33 = .ok (.aload_n 0, 1) := dk_42 (dk_at dksX3_ahead_1 10 rfl rfl)
theorem dX3_ahead_34 : decode cX3_ahead 34 = .ok (.aload 4, 2) := dk_25 4 (dk_at dksX3_ahead_1 11 rfl rfl)
theorem dX3_ahead_36 : decode cX3_ahead 36 = .ok (.aload_n 2, 1) := dk_44 (dk_at dksX3_ahead_1 13 rfl rfl)
theorem dX3_ahead_37 : decode cX3_ahead 37 = .ok (.invokestatic 170, 3) := dk_184 0 170 (dk_at dksX3_ahead_1 14 rfl rfl)
theorem dX3_ahead_40 : decode cX3_ahead 40 = .ok (.goto (-27), 3) := dk_167 255 229 (dk_at dksX3_ahead_1 17 rfl rfl)
theorem dX3_ahead_43 : decode cX3_ahead 43 = .ok (.aload_n 2, 1) := dk_44 (dk_at dksX3_ahead_1 20 rfl rfl)
theorem dX3_ahead_44 : decode cX3_ahead 44 = .ok (.areturn, 1) := dk_176 (dk_at dksX3_ahead_1 21 rfl rfl)
abbrev cX3_ahead_2 : ByteArray := prog_19_method_21_code
def yX3_ahead_2 : MethodName := ⟨RX3, "ahead", "(LHaltingaleModel$Machine;[ILjava/util/ArrayList;)V"⟩
def dkwX3_ahead_2_5 : List UInt8 := [120, 128, 79, 58, 6, 44, 25, 6, 182, 0, 40, 87, 132, 3, 1, 167, 255, 124, 177]
abbrev dktX3_ahead_2_5 : List UInt8 := dkwX3_ahead_2_5 ++ []
def dkwX3_ahead_2_4 : List UInt8 := [46, 4, 21, 5, 120, 128, 79, 89, 6, 43, 6, 46, 4, 21, 5, 120, 2, 130, 126, 29, 5, 112, 21, 5]
abbrev dktX3_ahead_2_4 : List UInt8 := dkwX3_ahead_2_4 ++ dktX3_ahead_2_5
def dkwX3_ahead_2_3 : List UInt8 := [159, 0, 6, 167, 0, 57, 7, 188, 10, 89, 3, 29, 5, 108, 79, 89, 4, 21, 5, 79, 89, 5, 43, 5]
abbrev dktX3_ahead_2_3 : List UInt8 := dkwX3_ahead_2_3 ++ dktX3_ahead_2_4
def dkwX3_ahead_2_2 : List UInt8 := [5, 46, 21, 5, 122, 4, 126, 4, 160, 0, 21, 43, 6, 46, 21, 5, 122, 4, 126, 25, 4, 3, 46]
abbrev dktX3_ahead_2_2 : List UInt8 := dkwX3_ahead_2_2 ++ dktX3_ahead_2_3
def dkwX3_ahead_2_1 : List UInt8 := [25, 4, 5, 46, 43, 3, 46, 159, 0, 6, 167, 0, 97, 43, 4, 46, 25, 4, 4, 46, 100, 54, 5, 43]
abbrev dktX3_ahead_2_1 : List UInt8 := dkwX3_ahead_2_1 ++ dktX3_ahead_2_2
def dkwX3_ahead_2_0 : List UInt8 := [3, 62, 29, 42, 180, 0, 59, 190, 162, 0, 129, 42, 180, 0, 59, 29, 50, 58, 4, 25, 4, 198, 0, 110]
abbrev dktX3_ahead_2_0 : List UInt8 := dkwX3_ahead_2_0 ++ dktX3_ahead_2_1
theorem dksX3_ahead_2_0 : cX3_ahead_2.data.toList.drop 0 = dktX3_ahead_2_0 := by decide +kernel
theorem dksX3_ahead_2_1 : cX3_ahead_2.data.toList.drop 24 = dktX3_ahead_2_1 := dk_seg dksX3_ahead_2_0 24 rfl rfl
theorem dksX3_ahead_2_2 : cX3_ahead_2.data.toList.drop 48 = dktX3_ahead_2_2 := dk_seg dksX3_ahead_2_1 24 rfl rfl
theorem dksX3_ahead_2_3 : cX3_ahead_2.data.toList.drop 71 = dktX3_ahead_2_3 := dk_seg dksX3_ahead_2_2 23 rfl rfl
theorem dksX3_ahead_2_4 : cX3_ahead_2.data.toList.drop 95 = dktX3_ahead_2_4 := dk_seg dksX3_ahead_2_3 24 rfl rfl
theorem dksX3_ahead_2_5 : cX3_ahead_2.data.toList.drop 119 = dktX3_ahead_2_5 := dk_seg dksX3_ahead_2_4 24 rfl rfl
theorem dX3_ahead_2_0 : decode cX3_ahead_2 0 = .ok (.iconst 0, 1) := dk_3 (dk_at dksX3_ahead_2_0 0 rfl rfl)
theorem dX3_ahead_2_1 : decode cX3_ahead_2 1 = .ok (.istore_n 3, 1) := dk_62 (dk_at dksX3_ahead_2_0 1 rfl rfl)
theorem dX3_ahead_2_2 : decode cX3_ahead_2 2 = .ok (.iload_n 3, 1) := dk_29 (dk_at dksX3_ahead_2_0 2 rfl rfl)
theorem dX3_ahead_2_3 : decode cX3_ahead_2 3 = .ok (.aload_n 0, 1) := dk_42 (dk_at dksX3_ahead_2_0 3 rfl rfl)
theorem dX3_ahead_2_4 : decode cX3_ahead_2 4 = .ok (.getfield 59, 3) := dk_180 0 59 (dk_at dksX3_ahead_2_0 4 rfl rfl)
theorem dX3_ahead_2_7 : decode cX3_ahead_2 7 = .ok (.arraylength, 1) := dk_190 (dk_at dksX3_ahead_2_0 7 rfl rfl)
theorem dX3_ahead_2_8 : decode cX3_ahead_2 8 = .ok (.if_icmp .ge 129, 3) := dk_162 0 129 (dk_at dksX3_ahead_2_0 8 rfl rfl)
theorem dX3_ahead_2_11 : decode cX3_ahead_2 11 = .ok (.aload_n 0, 1) := dk_42 (dk_at dksX3_ahead_2_0 11 rfl rfl)
theorem dX3_ahead_2_12 : decode cX3_ahead_2 12 = .ok (.getfield 59, 3) := dk_180 0 59 (dk_at dksX3_ahead_2_0 12 rfl rfl)
theorem dX3_ahead_2_15 : decode cX3_ahead_2 15 = .ok (.iload_n 3, 1) := dk_29 (dk_at dksX3_ahead_2_0 15 rfl rfl)
theorem dX3_ahead_2_16 : decode cX3_ahead_2 16 = .ok (.aaload, 1) := dk_50 (dk_at dksX3_ahead_2_0 16 rfl rfl)
theorem dX3_ahead_2_17 : decode cX3_ahead_2 17 = .ok (.astore 4, 2) := dk_58 4 (dk_at dksX3_ahead_2_0 17 rfl rfl)
theorem dX3_ahead_2_19 : decode cX3_ahead_2 19 = .ok (.aload 4, 2) := dk_25 4 (dk_at dksX3_ahead_2_0 19 rfl rfl)
theorem dX3_ahead_2_21 : decode cX3_ahead_2 21 = .ok (.ifnull 110, 3) := dk_198 0 110 (dk_at dksX3_ahead_2_0 21 rfl rfl)
theorem dX3_ahead_2_24 : decode cX3_ahead_2 24 = .ok (.aload 4, 2) := dk_25 4 (dk_at dksX3_ahead_2_1 0 rfl rfl)
theorem dX3_ahead_2_26 : decode cX3_ahead_2 26 = .ok (.iconst 2, 1) := dk_5 (dk_at dksX3_ahead_2_1 2 rfl rfl)
theorem dX3_ahead_2_27 : decode cX3_ahead_2 27 = .ok (.iaload, 1) := dk_46 (dk_at dksX3_ahead_2_1 3 rfl rfl)
theorem dX3_ahead_2_28 : decode cX3_ahead_2 28 = .ok (.aload_n 1, 1) := dk_43 (dk_at dksX3_ahead_2_1 4 rfl rfl)
theorem dX3_ahead_2_29 : decode cX3_ahead_2 29 = .ok (.iconst 0, 1) := dk_3 (dk_at dksX3_ahead_2_1 5 rfl rfl)
theorem dX3_ahead_2_30 : decode cX3_ahead_2 30 = .ok (.iaload, 1) := dk_46 (dk_at dksX3_ahead_2_1 6 rfl rfl)
theorem dX3_ahead_2_31 : decode cX3_ahead_2 31 = .ok (.if_icmp .eq 6, 3) := dk_159 0 6 (dk_at dksX3_ahead_2_1 7 rfl rfl)
theorem dX3_ahead_2_34 : decode cX3_ahead_2 34 = .ok (.goto 97, 3) := dk_167 0 97 (dk_at dksX3_ahead_2_1 10 rfl rfl)
theorem dX3_ahead_2_37 : decode cX3_ahead_2 37 = .ok (.aload_n 1, 1) := dk_43 (dk_at dksX3_ahead_2_1 13 rfl rfl)
theorem dX3_ahead_2_38 : decode cX3_ahead_2 38 = .ok (.iconst 1, 1) := dk_4 (dk_at dksX3_ahead_2_1 14 rfl rfl)
theorem dX3_ahead_2_39 : decode cX3_ahead_2 39 = .ok (.iaload, 1) := dk_46 (dk_at dksX3_ahead_2_1 15 rfl rfl)
theorem dX3_ahead_2_40 : decode cX3_ahead_2 40 = .ok (.aload 4, 2) := dk_25 4 (dk_at dksX3_ahead_2_1 16 rfl rfl)
theorem dX3_ahead_2_42 : decode cX3_ahead_2 42 = .ok (.iconst 1, 1) := dk_4 (dk_at dksX3_ahead_2_1 18 rfl rfl)
theorem dX3_ahead_2_43 : decode cX3_ahead_2 43 = .ok (.iaload, 1) := dk_46 (dk_at dksX3_ahead_2_1 19 rfl rfl)
theorem dX3_ahead_2_44 : decode cX3_ahead_2 44 = .ok (.isub, 1) := dk_100 (dk_at dksX3_ahead_2_1 20 rfl rfl)
theorem dX3_ahead_2_45 : decode cX3_ahead_2 45 = .ok (.istore 5, 2) := dk_54 5 (dk_at dksX3_ahead_2_1 21 rfl rfl)
theorem dX3_ahead_2_47 : decode cX3_ahead_2 47 = .ok (.aload_n 1, 1) := dk_43 (dk_at dksX3_ahead_2_1 23 rfl rfl)
theorem dX3_ahead_2_48 : decode cX3_ahead_2 48 = .ok (.iconst 2, 1) := dk_5 (dk_at dksX3_ahead_2_2 0 rfl rfl)
theorem dX3_ahead_2_49 : decode cX3_ahead_2 49 = .ok (.iaload, 1) := dk_46 (dk_at dksX3_ahead_2_2 1 rfl rfl)
theorem dX3_ahead_2_50 : decode cX3_ahead_2 50 = .ok (.iload 5, 2) := dk_21 5 (dk_at dksX3_ahead_2_2 2 rfl rfl)
theorem dX3_ahead_2_52 : decode cX3_ahead_2 52 = .ok (.ishr, 1) := dk_122 (dk_at dksX3_ahead_2_2 4 rfl rfl)
theorem dX3_ahead_2_53 : decode cX3_ahead_2 53 = .ok (.iconst 1, 1) := dk_4 (dk_at dksX3_ahead_2_2 5 rfl rfl)
theorem dX3_ahead_2_54 : decode cX3_ahead_2 54 = .ok (.iand, 1) := dk_126 (dk_at dksX3_ahead_2_2 6 rfl rfl)
theorem dX3_ahead_2_55 : decode cX3_ahead_2 55 = .ok (.iconst 1, 1) := dk_4 (dk_at dksX3_ahead_2_2 7 rfl rfl)
theorem dX3_ahead_2_56 : decode cX3_ahead_2 56 = .ok (.if_icmp .ne 21, 3) := dk_160 0 21 (dk_at dksX3_ahead_2_2 8 rfl rfl)
theorem dX3_ahead_2_59 : decode cX3_ahead_2 59 = .ok (.aload_n 1, 1) := dk_43 (dk_at dksX3_ahead_2_2 11 rfl rfl)
theorem dX3_ahead_2_60 : decode cX3_ahead_2 60 = .ok (.iconst 3, 1) := dk_6 (dk_at dksX3_ahead_2_2 12 rfl rfl)
theorem dX3_ahead_2_61 : decode cX3_ahead_2 61 = .ok (.iaload, 1) := dk_46 (dk_at dksX3_ahead_2_2 13 rfl rfl)
theorem dX3_ahead_2_62 : decode cX3_ahead_2 62 = .ok (.iload 5, 2) := dk_21 5 (dk_at dksX3_ahead_2_2 14 rfl rfl)
theorem dX3_ahead_2_64 : decode cX3_ahead_2 64 = .ok (.ishr, 1) := dk_122 (dk_at dksX3_ahead_2_2 16 rfl rfl)
theorem dX3_ahead_2_65 : decode cX3_ahead_2 65 = .ok (.iconst 1, 1) := dk_4 (dk_at dksX3_ahead_2_2 17 rfl rfl)
theorem dX3_ahead_2_66 : decode cX3_ahead_2 66 = .ok (.iand, 1) := dk_126 (dk_at dksX3_ahead_2_2 18 rfl rfl)
theorem dX3_ahead_2_67 : decode cX3_ahead_2 67 = .ok (.aload 4, 2) := dk_25 4 (dk_at dksX3_ahead_2_2 19 rfl rfl)
theorem dX3_ahead_2_69 : decode cX3_ahead_2 69 = .ok (.iconst 0, 1) := dk_3 (dk_at dksX3_ahead_2_2 21 rfl rfl)
theorem dX3_ahead_2_70 : decode cX3_ahead_2 70 = .ok (.iaload, 1) := dk_46 (dk_at dksX3_ahead_2_2 22 rfl rfl)
theorem dX3_ahead_2_71 : decode cX3_ahead_2 71 = .ok (.if_icmp .eq 6, 3) := dk_159 0 6 (dk_at dksX3_ahead_2_3 0 rfl rfl)
theorem dX3_ahead_2_74 : decode cX3_ahead_2 74 = .ok (.goto 57, 3) := dk_167 0 57 (dk_at dksX3_ahead_2_3 3 rfl rfl)
theorem dX3_ahead_2_77 : decode cX3_ahead_2 77 = .ok (.iconst 4, 1) := dk_7 (dk_at dksX3_ahead_2_3 6 rfl rfl)
theorem dX3_ahead_2_78 : decode cX3_ahead_2 78 = .ok (.newarray .int, 2) := dk_188_10 (dk_at dksX3_ahead_2_3 7 rfl rfl)
theorem dX3_ahead_2_80 : decode cX3_ahead_2 80 = .ok (.dup, 1) := dk_89 (dk_at dksX3_ahead_2_3 9 rfl rfl)
theorem dX3_ahead_2_81 : decode cX3_ahead_2 81 = .ok (.iconst 0, 1) := dk_3 (dk_at dksX3_ahead_2_3 10 rfl rfl)
theorem dX3_ahead_2_82 : decode cX3_ahead_2 82 = .ok (.iload_n 3, 1) := dk_29 (dk_at dksX3_ahead_2_3 11 rfl rfl)
theorem dX3_ahead_2_83 : decode cX3_ahead_2 83 = .ok (.iconst 2, 1) := dk_5 (dk_at dksX3_ahead_2_3 12 rfl rfl)
theorem dX3_ahead_2_84 : decode cX3_ahead_2 84 = .ok (.idiv, 1) := dk_108 (dk_at dksX3_ahead_2_3 13 rfl rfl)
theorem dX3_ahead_2_85 : decode cX3_ahead_2 85 = .ok (.iastore, 1) := dk_79 (dk_at dksX3_ahead_2_3 14 rfl rfl)
theorem dX3_ahead_2_86 : decode cX3_ahead_2 86 = .ok (.dup, 1) := dk_89 (dk_at dksX3_ahead_2_3 15 rfl rfl)
theorem dX3_ahead_2_87 : decode cX3_ahead_2 87 = .ok (.iconst 1, 1) := dk_4 (dk_at dksX3_ahead_2_3 16 rfl rfl)
theorem dX3_ahead_2_88 : decode cX3_ahead_2 88 = .ok (.iload 5, 2) := dk_21 5 (dk_at dksX3_ahead_2_3 17 rfl rfl)
theorem dX3_ahead_2_90 : decode cX3_ahead_2 90 = .ok (.iastore, 1) := dk_79 (dk_at dksX3_ahead_2_3 19 rfl rfl)
theorem dX3_ahead_2_91 : decode cX3_ahead_2 91 = .ok (.dup, 1) := dk_89 (dk_at dksX3_ahead_2_3 20 rfl rfl)
theorem dX3_ahead_2_92 : decode cX3_ahead_2 92 = .ok (.iconst 2, 1) := dk_5 (dk_at dksX3_ahead_2_3 21 rfl rfl)
theorem dX3_ahead_2_93 : decode cX3_ahead_2 93 = .ok (.aload_n 1, 1) := dk_43 (dk_at dksX3_ahead_2_3 22 rfl rfl)
theorem dX3_ahead_2_94 : decode cX3_ahead_2 94 = .ok (.iconst 2, 1) := dk_5 (dk_at dksX3_ahead_2_3 23 rfl rfl)
theorem dX3_ahead_2_95 : decode cX3_ahead_2 95 = .ok (.iaload, 1) := dk_46 (dk_at dksX3_ahead_2_4 0 rfl rfl)
theorem dX3_ahead_2_96 : decode cX3_ahead_2 96 = .ok (.iconst 1, 1) := dk_4 (dk_at dksX3_ahead_2_4 1 rfl rfl)
theorem dX3_ahead_2_97 : decode cX3_ahead_2 97 = .ok (.iload 5, 2) := dk_21 5 (dk_at dksX3_ahead_2_4 2 rfl rfl)
theorem dX3_ahead_2_99 : decode cX3_ahead_2 99 = .ok (.ishl, 1) := dk_120 (dk_at dksX3_ahead_2_4 4 rfl rfl)
theorem dX3_ahead_2_100 : decode cX3_ahead_2 100 = .ok (.ior, 1) := dk_128 (dk_at dksX3_ahead_2_4 5 rfl rfl)
theorem dX3_ahead_2_101 : decode cX3_ahead_2 101 = .ok (.iastore, 1) := dk_79 (dk_at dksX3_ahead_2_4 6 rfl rfl)
theorem dX3_ahead_2_102 : decode cX3_ahead_2 102 = .ok (.dup, 1) := dk_89 (dk_at dksX3_ahead_2_4 7 rfl rfl)
theorem dX3_ahead_2_103 : decode cX3_ahead_2 103 = .ok (.iconst 3, 1) := dk_6 (dk_at dksX3_ahead_2_4 8 rfl rfl)
theorem dX3_ahead_2_104 : decode cX3_ahead_2 104 = .ok (.aload_n 1, 1) := dk_43 (dk_at dksX3_ahead_2_4 9 rfl rfl)
theorem dX3_ahead_2_105 : decode cX3_ahead_2 105 = .ok (.iconst 3, 1) := dk_6 (dk_at dksX3_ahead_2_4 10 rfl rfl)
theorem dX3_ahead_2_106 : decode cX3_ahead_2 106 = .ok (.iaload, 1) := dk_46 (dk_at dksX3_ahead_2_4 11 rfl rfl)
theorem dX3_ahead_2_107 : decode cX3_ahead_2 107 = .ok (.iconst 1, 1) := dk_4 (dk_at dksX3_ahead_2_4 12 rfl rfl)
theorem dX3_ahead_2_108 : decode cX3_ahead_2 108 = .ok (.iload 5, 2) := dk_21 5 (dk_at dksX3_ahead_2_4 13 rfl rfl)
theorem dX3_ahead_2_110 : decode cX3_ahead_2 110 = .ok (.ishl, 1) := dk_120 (dk_at dksX3_ahead_2_4 15 rfl rfl)
theorem dX3_ahead_2_111 : decode cX3_ahead_2 111 = .ok (.iconst (-1), 1) := dk_2 (dk_at dksX3_ahead_2_4 16 rfl rfl)
theorem dX3_ahead_2_112 : decode cX3_ahead_2 112 = .ok (.ixor, 1) := dk_130 (dk_at dksX3_ahead_2_4 17 rfl rfl)
theorem dX3_ahead_2_113 : decode cX3_ahead_2 113 = .ok (.iand, 1) := dk_126 (dk_at dksX3_ahead_2_4 18 rfl rfl)
theorem dX3_ahead_2_114 : decode cX3_ahead_2 114 = .ok (.iload_n 3, 1) := dk_29 (dk_at dksX3_ahead_2_4 19 rfl rfl)
theorem dX3_ahead_2_115 : decode cX3_ahead_2 115 = .ok (.iconst 2, 1) := dk_5 (dk_at dksX3_ahead_2_4 20 rfl rfl)
theorem dX3_ahead_2_116 : decode cX3_ahead_2 116 = .ok (.irem, 1) := dk_112 (dk_at dksX3_ahead_2_4 21 rfl rfl)
theorem dX3_ahead_2_117 : decode cX3_ahead_2 117 = .ok (.iload 5, 2) := dk_21 5 (dk_at dksX3_ahead_2_4 22 rfl rfl)
theorem dX3_ahead_2_119 : decode cX3_ahead_2 119 = .ok (.ishl, 1) := dk_120 (dk_at dksX3_ahead_2_5 0 rfl rfl)
theorem dX3_ahead_2_120 : decode cX3_ahead_2 120 = .ok (.ior, 1) := dk_128 (dk_at dksX3_ahead_2_5 1 rfl rfl)
theorem dX3_ahead_2_121 : decode cX3_ahead_2 121 = .ok (.iastore, 1) := dk_79 (dk_at dksX3_ahead_2_5 2 rfl rfl)
theorem dX3_ahead_2_122 : decode cX3_ahead_2 122 = .ok (.astore 6, 2) := dk_58 6 (dk_at dksX3_ahead_2_5 3 rfl rfl)
theorem dX3_ahead_2_124 : decode cX3_ahead_2 124 = .ok (.aload_n 2, 1) := dk_44 (dk_at dksX3_ahead_2_5 5 rfl rfl)
theorem dX3_ahead_2_125 : decode cX3_ahead_2 125 = .ok (.aload 6, 2) := dk_25 6 (dk_at dksX3_ahead_2_5 6 rfl rfl)
theorem dX3_ahead_2_127 : decode cX3_ahead_2 127 = .ok (.invokevirtual 40, 3) := dk_182 0 40 (dk_at dksX3_ahead_2_5 8 rfl rfl)
theorem dX3_ahead_2_130 : decode cX3_ahead_2 130 = .ok (.pop, 1) := dk_87 (dk_at dksX3_ahead_2_5 11 rfl rfl)
theorem dX3_ahead_2_131 : decode cX3_ahead_2 131 = .ok (.iinc 3 1, 3) := dk_132 3 1 (dk_at dksX3_ahead_2_5 12 rfl rfl)
theorem dX3_ahead_2_134 : decode cX3_ahead_2 134 = .ok (.goto (-132), 3) := dk_167 255 124 (dk_at dksX3_ahead_2_5 15 rfl rfl)
theorem dX3_ahead_2_137 : decode cX3_ahead_2 137 = .ok (.return_, 1) := dk_177 (dk_at dksX3_ahead_2_5 18 rfl rfl)
abbrev cX3_isGram : ByteArray := prog_19_method_22_code
def yX3_isGram : MethodName := ⟨RX3, "isGram", "(LHaltingaleModel$Machine;I)Z"⟩
def dkwX3_isGram_14 : List UInt8 := [132, 15, 1, 167, 255, 150, 132, 6, 1, 167, 254, 238, 167, 254, 224, 4, 172]
abbrev dktX3_isGram_14 : List UInt8 := dkwX3_isGram_14 ++ []
def dkwX3_isGram_13 : List UInt8 := [21, 5, 45, 21, 17, 51, 154, 0, 7, 4, 167, 0, 4, 3, 128, 54, 5, 45, 21, 17, 4, 84]
abbrev dktX3_isGram_13 : List UInt8 := dkwX3_isGram_13 ++ dktX3_isGram_14
def dkwX3_isGram_12 : List UInt8 := [153, 0, 13, 21, 14, 28, 104, 21, 16, 96, 167, 0, 10, 21, 16, 28, 104, 21, 14, 96, 96, 54, 17]
abbrev dktX3_isGram_12 : List UInt8 := dkwX3_isGram_12 ++ dktX3_isGram_13
def dkwX3_isGram_11 : List UInt8 := [154, 0, 6, 167, 0, 65, 5, 25, 7, 5, 46, 104, 21, 12, 4, 126, 96, 28, 104, 28, 104, 21, 10]
abbrev dktX3_isGram_11 : List UInt8 := dkwX3_isGram_11 ++ dktX3_isGram_12
def dkwX3_isGram_10 : List UInt8 := [4, 100, 120, 128, 54, 16, 25, 4, 21, 10, 153, 0, 7, 4, 167, 0, 4, 3, 50, 21, 16, 51]
abbrev dktX3_isGram_10 : List UInt8 := dkwX3_isGram_10 ++ dktX3_isGram_11
def dkwX3_isGram_9 : List UInt8 := [46, 128, 28, 4, 100, 126, 54, 14, 3, 54, 15, 21, 15, 5, 162, 0, 106, 21, 12, 4, 122, 21, 15, 27]
abbrev dktX3_isGram_9 : List UInt8 := dkwX3_isGram_9 ++ dktX3_isGram_10
def dkwX3_isGram_8 : List UInt8 := [154, 0, 7, 4, 167, 0, 4, 3, 128, 54, 5, 25, 13, 21, 11, 4, 84, 21, 11, 4, 120, 25, 7, 3]
abbrev dktX3_isGram_8 : List UInt8 := dkwX3_isGram_8 ++ dktX3_isGram_9
def dkwX3_isGram_7 : List UInt8 := [25, 4, 21, 10, 153, 0, 7, 3, 167, 0, 4, 4, 50, 58, 13, 21, 5, 25, 13, 21, 11, 51]
abbrev dktX3_isGram_7 : List UInt8 := dkwX3_isGram_7 ++ dktX3_isGram_8
def dkwX3_isGram_6 : List UInt8 := [21, 8, 167, 0, 5, 21, 9, 54, 11, 21, 10, 153, 0, 8, 21, 9, 167, 0, 5, 21, 8, 54, 12]
abbrev dktX3_isGram_6 : List UInt8 := dkwX3_isGram_6 ++ dktX3_isGram_7
def dkwX3_isGram_5 : List UInt8 := [112, 54, 9, 25, 7, 4, 46, 4, 160, 0, 7, 4, 167, 0, 4, 3, 54, 10, 21, 10, 153, 0, 8]
abbrev dktX3_isGram_5 : List UInt8 := dkwX3_isGram_5 ++ dktX3_isGram_6
def dkwX3_isGram_4 : List UInt8 := [25, 7, 5, 46, 42, 180, 0, 52, 160, 0, 5, 3, 172, 21, 6, 28, 108, 28, 112, 54, 8, 21, 6, 28]
abbrev dktX3_isGram_4 : List UInt8 := dkwX3_isGram_4 ++ dktX3_isGram_5
def dkwX3_isGram_3 : List UInt8 := [154, 0, 6, 167, 1, 1, 42, 180, 0, 59, 21, 6, 28, 28, 104, 108, 50, 58, 7, 25, 7, 198, 0, 14]
abbrev dktX3_isGram_3 : List UInt8 := dkwX3_isGram_3 ++ dktX3_isGram_4
def dkwX3_isGram_2 : List UInt8 := [21, 5, 153, 1, 33, 3, 54, 5, 3, 54, 6, 21, 6, 45, 190, 162, 1, 17, 45, 21, 6, 51]
abbrev dktX3_isGram_2 : List UInt8 := dkwX3_isGram_2 ++ dktX3_isGram_3
def dkwX3_isGram_1 : List UInt8 := [58, 4, 45, 3, 4, 84, 25, 4, 3, 50, 3, 4, 84, 25, 4, 4, 50, 3, 4, 84, 4, 54, 5]
abbrev dktX3_isGram_1 : List UInt8 := dkwX3_isGram_1 ++ dktX3_isGram_2
def dkwX3_isGram_0 : List UInt8 := [4, 27, 120, 61, 42, 180, 0, 52, 5, 104, 28, 104, 28, 104, 188, 4, 78, 5, 28, 197, 0, 173, 2]
abbrev dktX3_isGram_0 : List UInt8 := dkwX3_isGram_0 ++ dktX3_isGram_1
theorem dksX3_isGram_0 : cX3_isGram.data.toList.drop 0 = dktX3_isGram_0 := by decide +kernel
theorem dksX3_isGram_1 : cX3_isGram.data.toList.drop 23 = dktX3_isGram_1 := dk_seg dksX3_isGram_0 23 rfl rfl
theorem dksX3_isGram_2 : cX3_isGram.data.toList.drop 46 = dktX3_isGram_2 := dk_seg dksX3_isGram_1 23 rfl rfl
theorem dksX3_isGram_3 : cX3_isGram.data.toList.drop 68 = dktX3_isGram_3 := dk_seg dksX3_isGram_2 22 rfl rfl
theorem dksX3_isGram_4 : cX3_isGram.data.toList.drop 92 = dktX3_isGram_4 := dk_seg dksX3_isGram_3 24 rfl rfl
theorem dksX3_isGram_5 : cX3_isGram.data.toList.drop 116 = dktX3_isGram_5 := dk_seg dksX3_isGram_4 24 rfl rfl
theorem dksX3_isGram_6 : cX3_isGram.data.toList.drop 139 = dktX3_isGram_6 := dk_seg dksX3_isGram_5 23 rfl rfl
theorem dksX3_isGram_7 : cX3_isGram.data.toList.drop 162 = dktX3_isGram_7 := dk_seg dksX3_isGram_6 23 rfl rfl
theorem dksX3_isGram_8 : cX3_isGram.data.toList.drop 184 = dktX3_isGram_8 := dk_seg dksX3_isGram_7 22 rfl rfl
theorem dksX3_isGram_9 : cX3_isGram.data.toList.drop 208 = dktX3_isGram_9 := dk_seg dksX3_isGram_8 24 rfl rfl
theorem dksX3_isGram_10 : cX3_isGram.data.toList.drop 232 = dktX3_isGram_10 := dk_seg dksX3_isGram_9 24 rfl rfl
theorem dksX3_isGram_11 : cX3_isGram.data.toList.drop 254 = dktX3_isGram_11 := dk_seg dksX3_isGram_10 22 rfl rfl
theorem dksX3_isGram_12 : cX3_isGram.data.toList.drop 277 = dktX3_isGram_12 := dk_seg dksX3_isGram_11 23 rfl rfl
theorem dksX3_isGram_13 : cX3_isGram.data.toList.drop 300 = dktX3_isGram_13 := dk_seg dksX3_isGram_12 23 rfl rfl
theorem dksX3_isGram_14 : cX3_isGram.data.toList.drop 322 = dktX3_isGram_14 := dk_seg dksX3_isGram_13 22 rfl rfl
theorem dX3_isGram_0 : decode cX3_isGram 0 = .ok (.iconst 1, 1) := dk_4 (dk_at dksX3_isGram_0 0 rfl rfl)
theorem dX3_isGram_1 : decode cX3_isGram 1 = .ok (.iload_n 1, 1) := dk_27 (dk_at dksX3_isGram_0 1 rfl rfl)
theorem dX3_isGram_2 : decode cX3_isGram 2 = .ok (.ishl, 1) := dk_120 (dk_at dksX3_isGram_0 2 rfl rfl)
theorem dX3_isGram_3 : decode cX3_isGram 3 = .ok (.istore_n 2, 1) := dk_61 (dk_at dksX3_isGram_0 3 rfl rfl)
theorem dX3_isGram_4 : decode cX3_isGram 4 = .ok (.aload_n 0, 1) := dk_42 (dk_at dksX3_isGram_0 4 rfl rfl)
theorem dX3_isGram_5 : decode cX3_isGram 5 = .ok (.getfield 52, 3) := dk_180 0 52 (dk_at dksX3_isGram_0 5 rfl rfl)
theorem dX3_isGram_8 : decode cX3_isGram 8 = .ok (.iconst 2, 1) := dk_5 (dk_at dksX3_isGram_0 8 rfl rfl)
theorem dX3_isGram_9 : decode cX3_isGram 9 = .ok (.imul, 1) := dk_104 (dk_at dksX3_isGram_0 9 rfl rfl)
theorem dX3_isGram_10 : decode cX3_isGram 10 = .ok (.iload_n 2, 1) := dk_28 (dk_at dksX3_isGram_0 10 rfl rfl)
theorem dX3_isGram_11 : decode cX3_isGram 11 = .ok (.imul, 1) := dk_104 (dk_at dksX3_isGram_0 11 rfl rfl)
theorem dX3_isGram_12 : decode cX3_isGram 12 = .ok (.iload_n 2, 1) := dk_28 (dk_at dksX3_isGram_0 12 rfl rfl)
theorem dX3_isGram_13 : decode cX3_isGram 13 = .ok (.imul, 1) := dk_104 (dk_at dksX3_isGram_0 13 rfl rfl)
theorem dX3_isGram_14 : decode cX3_isGram 14 = .ok (.newarray .boolean, 2) := dk_188_4 (dk_at dksX3_isGram_0 14 rfl rfl)
theorem dX3_isGram_16 : decode cX3_isGram 16 = .ok (.astore_n 3, 1) := dk_78 (dk_at dksX3_isGram_0 16 rfl rfl)
theorem dX3_isGram_17 : decode cX3_isGram 17 = .ok (.iconst 2, 1) := dk_5 (dk_at dksX3_isGram_0 17 rfl rfl)
theorem dX3_isGram_18 : decode cX3_isGram 18 = .ok (.iload_n 2, 1) := dk_28 (dk_at dksX3_isGram_0 18 rfl rfl)
theorem dX3_isGram_19 : decode cX3_isGram 19 = .ok (.multianewarray 173 2, 4) := by decide +kernel
theorem dX3_isGram_23 : decode cX3_isGram 23 = .ok (.astore 4, 2) := dk_58 4 (dk_at dksX3_isGram_1 0 rfl rfl)
theorem dX3_isGram_25 : decode cX3_isGram 25 = .ok (.aload_n 3, 1) := dk_45 (dk_at dksX3_isGram_1 2 rfl rfl)
theorem dX3_isGram_26 : decode cX3_isGram 26 = .ok (.iconst 0, 1) := dk_3 (dk_at dksX3_isGram_1 3 rfl rfl)
theorem dX3_isGram_27 : decode cX3_isGram 27 = .ok (.iconst 1, 1) := dk_4 (dk_at dksX3_isGram_1 4 rfl rfl)
theorem dX3_isGram_28 : decode cX3_isGram 28 = .ok (.bastore, 1) := dk_84 (dk_at dksX3_isGram_1 5 rfl rfl)
theorem dX3_isGram_29 : decode cX3_isGram 29 = .ok (.aload 4, 2) := dk_25 4 (dk_at dksX3_isGram_1 6 rfl rfl)
theorem dX3_isGram_31 : decode cX3_isGram 31 = .ok (.iconst 0, 1) := dk_3 (dk_at dksX3_isGram_1 8 rfl rfl)
theorem dX3_isGram_32 : decode cX3_isGram 32 = .ok (.aaload, 1) := dk_50 (dk_at dksX3_isGram_1 9 rfl rfl)
theorem dX3_isGram_33 : decode cX3_isGram 33 = .ok (.iconst 0, 1) := dk_3 (dk_at dksX3_isGram_1 10 rfl rfl)
theorem dX3_isGram_34 : decode cX3_isGram 34 = .ok (.iconst 1, 1) := dk_4 (dk_at dksX3_isGram_1 11 rfl rfl)
theorem dX3_isGram_35 : decode cX3_isGram 35 = .ok (.bastore, 1) := dk_84 (dk_at dksX3_isGram_1 12 rfl rfl)
theorem dX3_isGram_36 : decode cX3_isGram 36 = .ok (.aload 4, 2) := dk_25 4 (dk_at dksX3_isGram_1 13 rfl rfl)
theorem dX3_isGram_38 : decode cX3_isGram 38 = .ok (.iconst 1, 1) := dk_4 (dk_at dksX3_isGram_1 15 rfl rfl)
theorem dX3_isGram_39 : decode cX3_isGram 39 = .ok (.aaload, 1) := dk_50 (dk_at dksX3_isGram_1 16 rfl rfl)
theorem dX3_isGram_40 : decode cX3_isGram 40 = .ok (.iconst 0, 1) := dk_3 (dk_at dksX3_isGram_1 17 rfl rfl)
theorem dX3_isGram_41 : decode cX3_isGram 41 = .ok (.iconst 1, 1) := dk_4 (dk_at dksX3_isGram_1 18 rfl rfl)
theorem dX3_isGram_42 : decode cX3_isGram 42 = .ok (.bastore, 1) := dk_84 (dk_at dksX3_isGram_1 19 rfl rfl)
theorem dX3_isGram_43 : decode cX3_isGram 43 = .ok (.iconst 1, 1) := dk_4 (dk_at dksX3_isGram_1 20 rfl rfl)
theorem dX3_isGram_44 : decode cX3_isGram 44 = .ok (.istore 5, 2) := dk_54 5 (dk_at dksX3_isGram_1 21 rfl rfl)
theorem dX3_isGram_46 : decode cX3_isGram 46 = .ok (.iload 5, 2) := dk_21 5 (dk_at dksX3_isGram_2 0 rfl rfl)
theorem dX3_isGram_48 : decode cX3_isGram 48 = .ok (.ifCond .eq 289, 3) := dk_153 1 33 (dk_at dksX3_isGram_2 2 rfl rfl)
theorem dX3_isGram_51 : decode cX3_isGram 51 = .ok (.iconst 0, 1) := dk_3 (dk_at dksX3_isGram_2 5 rfl rfl)
theorem dX3_isGram_52 : decode cX3_isGram 52 = .ok (.istore 5, 2) := dk_54 5 (dk_at dksX3_isGram_2 6 rfl rfl)
theorem dX3_isGram_54 : decode cX3_isGram 54 = .ok (.iconst 0, 1) := dk_3 (dk_at dksX3_isGram_2 8 rfl rfl)
theorem dX3_isGram_55 : decode cX3_isGram 55 = .ok (.istore 6, 2) := dk_54 6 (dk_at dksX3_isGram_2 9 rfl rfl)
theorem dX3_isGram_57 : decode cX3_isGram 57 = .ok (.iload 6, 2) := dk_21 6 (dk_at dksX3_isGram_2 11 rfl rfl)
theorem dX3_isGram_59 : decode cX3_isGram 59 = .ok (.aload_n 3, 1) := dk_45 (dk_at dksX3_isGram_2 13 rfl rfl)
theorem dX3_isGram_60 : decode cX3_isGram 60 = .ok (.arraylength, 1) := dk_190 (dk_at dksX3_isGram_2 14 rfl rfl)
theorem dX3_isGram_61 : decode cX3_isGram 61 = .ok (.if_icmp .ge 273, 3) := dk_162 1 17 (dk_at dksX3_isGram_2 15 rfl rfl)
theorem dX3_isGram_64 : decode cX3_isGram 64 = .ok (.aload_n 3, 1) := dk_45 (dk_at dksX3_isGram_2 18 rfl rfl)
theorem dX3_isGram_65 : decode cX3_isGram 65 = .ok (.iload 6, 2) := dk_21 6 (dk_at dksX3_isGram_2 19 rfl rfl)
theorem dX3_isGram_67 : decode cX3_isGram 67 = .ok (.baload, 1) := dk_51 (dk_at dksX3_isGram_2 21 rfl rfl)
theorem dX3_isGram_68 : decode cX3_isGram 68 = .ok (.ifCond .ne 6, 3) := dk_154 0 6 (dk_at dksX3_isGram_3 0 rfl rfl)
theorem dX3_isGram_71 : decode cX3_isGram 71 = .ok (.goto 257, 3) := dk_167 1 1 (dk_at dksX3_isGram_3 3 rfl rfl)
theorem dX3_isGram_74 : decode cX3_isGram 74 = .ok (.aload_n 0, 1) := dk_42 (dk_at dksX3_isGram_3 6 rfl rfl)
theorem dX3_isGram_75 : decode cX3_isGram 75 = .ok (.getfield 59, 3) := dk_180 0 59 (dk_at dksX3_isGram_3 7 rfl rfl)
theorem dX3_isGram_78 : decode cX3_isGram 78 = .ok (.iload 6, 2) := dk_21 6 (dk_at dksX3_isGram_3 10 rfl rfl)
theorem dX3_isGram_80 : decode cX3_isGram 80 = .ok (.iload_n 2, 1) := dk_28 (dk_at dksX3_isGram_3 12 rfl rfl)
theorem dX3_isGram_81 : decode cX3_isGram 81 = .ok (.iload_n 2, 1) := dk_28 (dk_at dksX3_isGram_3 13 rfl rfl)
theorem dX3_isGram_82 : decode cX3_isGram 82 = .ok (.imul, 1) := dk_104 (dk_at dksX3_isGram_3 14 rfl rfl)
theorem dX3_isGram_83 : decode cX3_isGram 83 = .ok (.idiv, 1) := dk_108 (dk_at dksX3_isGram_3 15 rfl rfl)
theorem dX3_isGram_84 : decode cX3_isGram 84 = .ok (.aaload, 1) := dk_50 (dk_at dksX3_isGram_3 16 rfl rfl)
theorem dX3_isGram_85 : decode cX3_isGram 85 = .ok (.astore 7, 2) := dk_58 7 (dk_at dksX3_isGram_3 17 rfl rfl)
theorem dX3_isGram_87 : decode cX3_isGram 87 = .ok (.aload 7, 2) := dk_25 7 (dk_at dksX3_isGram_3 19 rfl rfl)
theorem dX3_isGram_89 : decode cX3_isGram 89 = .ok (.ifnull 14, 3) := dk_198 0 14 (dk_at dksX3_isGram_3 21 rfl rfl)
theorem dX3_isGram_92 : decode cX3_isGram 92 = .ok (.aload 7, 2) := dk_25 7 (dk_at dksX3_isGram_4 0 rfl rfl)
theorem dX3_isGram_94 : decode cX3_isGram 94 = .ok (.iconst 2, 1) := dk_5 (dk_at dksX3_isGram_4 2 rfl rfl)
theorem dX3_isGram_95 : decode cX3_isGram 95 = .ok (.iaload, 1) := dk_46 (dk_at dksX3_isGram_4 3 rfl rfl)
theorem dX3_isGram_96 : decode cX3_isGram 96 = .ok (.aload_n 0, 1) := dk_42 (dk_at dksX3_isGram_4 4 rfl rfl)
theorem dX3_isGram_97 : decode cX3_isGram 97 = .ok (.getfield 52, 3) := dk_180 0 52 (dk_at dksX3_isGram_4 5 rfl rfl)
theorem dX3_isGram_100 : decode cX3_isGram 100 = .ok (.if_icmp .ne 5, 3) := dk_160 0 5 (dk_at dksX3_isGram_4 8 rfl rfl)
theorem dX3_isGram_103 : decode cX3_isGram 103 = .ok (.iconst 0, 1) := dk_3 (dk_at dksX3_isGram_4 11 rfl rfl)
theorem dX3_isGram_104 : decode cX3_isGram 104 = .ok (.ireturn, 1) := dk_172 (dk_at dksX3_isGram_4 12 rfl rfl)
theorem dX3_isGram_105 : decode cX3_isGram 105 = .ok (.iload 6, 2) := dk_21 6 (dk_at dksX3_isGram_4 13 rfl rfl)
theorem dX3_isGram_107 : decode cX3_isGram 107 = .ok (.iload_n 2, 1) := dk_28 (dk_at dksX3_isGram_4 15 rfl rfl)
theorem dX3_isGram_108 : decode cX3_isGram 108 = .ok (.idiv, 1) := dk_108 (dk_at dksX3_isGram_4 16 rfl rfl)
theorem dX3_isGram_109 : decode cX3_isGram 109 = .ok (.iload_n 2, 1) := dk_28 (dk_at dksX3_isGram_4 17 rfl rfl)
theorem dX3_isGram_110 : decode cX3_isGram 110 = .ok (.irem, 1) := dk_112 (dk_at dksX3_isGram_4 18 rfl rfl)
theorem dX3_isGram_111 : decode cX3_isGram 111 = .ok (.istore 8, 2) := dk_54 8 (dk_at dksX3_isGram_4 19 rfl rfl)
theorem dX3_isGram_113 : decode cX3_isGram 113 = .ok (.iload 6, 2) := dk_21 6 (dk_at dksX3_isGram_4 21 rfl rfl)
theorem dX3_isGram_115 : decode cX3_isGram 115 = .ok (.iload_n 2, 1) := dk_28 (dk_at dksX3_isGram_4 23 rfl rfl)
theorem dX3_isGram_116 : decode cX3_isGram 116 = .ok (.irem, 1) := dk_112 (dk_at dksX3_isGram_5 0 rfl rfl)
theorem dX3_isGram_117 : decode cX3_isGram 117 = .ok (.istore 9, 2) := dk_54 9 (dk_at dksX3_isGram_5 1 rfl rfl)
theorem dX3_isGram_119 : decode cX3_isGram 119 = .ok (.aload 7, 2) := dk_25 7 (dk_at dksX3_isGram_5 3 rfl rfl)
theorem dX3_isGram_121 : decode cX3_isGram 121 = .ok (.iconst 1, 1) := dk_4 (dk_at dksX3_isGram_5 5 rfl rfl)
theorem dX3_isGram_122 : decode cX3_isGram 122 = .ok (.iaload, 1) := dk_46 (dk_at dksX3_isGram_5 6 rfl rfl)
theorem dX3_isGram_123 : decode cX3_isGram 123 = .ok (.iconst 1, 1) := dk_4 (dk_at dksX3_isGram_5 7 rfl rfl)
theorem dX3_isGram_124 : decode cX3_isGram 124 = .ok (.if_icmp .ne 7, 3) := dk_160 0 7 (dk_at dksX3_isGram_5 8 rfl rfl)
theorem dX3_isGram_127 : decode cX3_isGram 127 = .ok (.iconst 1, 1) := dk_4 (dk_at dksX3_isGram_5 11 rfl rfl)
theorem dX3_isGram_128 : decode cX3_isGram 128 = .ok (.goto 4, 3) := dk_167 0 4 (dk_at dksX3_isGram_5 12 rfl rfl)
theorem dX3_isGram_131 : decode cX3_isGram 131 = .ok (.iconst 0, 1) := dk_3 (dk_at dksX3_isGram_5 15 rfl rfl)
theorem dX3_isGram_132 : decode cX3_isGram 132 = .ok (.istore 10, 2) := dk_54 10 (dk_at dksX3_isGram_5 16 rfl rfl)
theorem dX3_isGram_134 : decode cX3_isGram 134 = .ok (.iload 10, 2) := dk_21 10 (dk_at dksX3_isGram_5 18 rfl rfl)
theorem dX3_isGram_136 : decode cX3_isGram 136 = .ok (.ifCond .eq 8, 3) := dk_153 0 8 (dk_at dksX3_isGram_5 20 rfl rfl)
theorem dX3_isGram_139 : decode cX3_isGram 139 = .ok (.iload 8, 2) := dk_21 8 (dk_at dksX3_isGram_6 0 rfl rfl)
theorem dX3_isGram_141 : decode cX3_isGram 141 = .ok (.goto 5, 3) := dk_167 0 5 (dk_at dksX3_isGram_6 2 rfl rfl)
theorem dX3_isGram_144 : decode cX3_isGram 144 = .ok (.iload 9, 2) := dk_21 9 (dk_at dksX3_isGram_6 5 rfl rfl)
theorem dX3_isGram_146 : decode cX3_isGram 146 = .ok (.istore 11, 2) := dk_54 11 (dk_at dksX3_isGram_6 7 rfl rfl)
theorem dX3_isGram_148 : decode cX3_isGram 148 = .ok (.iload 10, 2) := dk_21 10 (dk_at dksX3_isGram_6 9 rfl rfl)
theorem dX3_isGram_150 : decode cX3_isGram 150 = .ok (.ifCond .eq 8, 3) := dk_153 0 8 (dk_at dksX3_isGram_6 11 rfl rfl)
theorem dX3_isGram_153 : decode cX3_isGram 153 = .ok (.iload 9, 2) := dk_21 9 (dk_at dksX3_isGram_6 14 rfl rfl)
theorem dX3_isGram_155 : decode cX3_isGram 155 = .ok (.goto 5, 3) := dk_167 0 5 (dk_at dksX3_isGram_6 16 rfl rfl)
theorem dX3_isGram_158 : decode cX3_isGram 158 = .ok (.iload 8, 2) := dk_21 8 (dk_at dksX3_isGram_6 19 rfl rfl)
theorem dX3_isGram_160 : decode cX3_isGram 160 = .ok (.istore 12, 2) := dk_54 12 (dk_at dksX3_isGram_6 21 rfl rfl)
theorem dX3_isGram_162 : decode cX3_isGram 162 = .ok (.aload 4, 2) := dk_25 4 (dk_at dksX3_isGram_7 0 rfl rfl)
theorem dX3_isGram_164 : decode cX3_isGram 164 = .ok (.iload 10, 2) := dk_21 10 (dk_at dksX3_isGram_7 2 rfl rfl)
theorem dX3_isGram_166 : decode cX3_isGram 166 = .ok (.ifCond .eq 7, 3) := dk_153 0 7 (dk_at dksX3_isGram_7 4 rfl rfl)
theorem dX3_isGram_169 : decode cX3_isGram 169 = .ok (.iconst 0, 1) := dk_3 (dk_at dksX3_isGram_7 7 rfl rfl)
theorem dX3_isGram_170 : decode cX3_isGram 170 = .ok (.goto 4, 3) := dk_167 0 4 (dk_at dksX3_isGram_7 8 rfl rfl)
theorem dX3_isGram_173 : decode cX3_isGram 173 = .ok (.iconst 1, 1) := dk_4 (dk_at dksX3_isGram_7 11 rfl rfl)
theorem dX3_isGram_174 : decode cX3_isGram 174 = .ok (.aaload, 1) := dk_50 (dk_at dksX3_isGram_7 12 rfl rfl)
theorem dX3_isGram_175 : decode cX3_isGram 175 = .ok (.astore 13, 2) := dk_58 13 (dk_at dksX3_isGram_7 13 rfl rfl)
theorem dX3_isGram_177 : decode cX3_isGram 177 = .ok (.iload 5, 2) := dk_21 5 (dk_at dksX3_isGram_7 15 rfl rfl)
theorem dX3_isGram_179 : decode cX3_isGram 179 = .ok (.aload 13, 2) := dk_25 13 (dk_at dksX3_isGram_7 17 rfl rfl)
theorem dX3_isGram_181 : decode cX3_isGram 181 = .ok (.iload 11, 2) := dk_21 11 (dk_at dksX3_isGram_7 19 rfl rfl)
theorem dX3_isGram_183 : decode cX3_isGram 183 = .ok (.baload, 1) := dk_51 (dk_at dksX3_isGram_7 21 rfl rfl)
theorem dX3_isGram_184 : decode cX3_isGram 184 = .ok (.ifCond .ne 7, 3) := dk_154 0 7 (dk_at dksX3_isGram_8 0 rfl rfl)
theorem dX3_isGram_187 : decode cX3_isGram 187 = .ok (.iconst 1, 1) := dk_4 (dk_at dksX3_isGram_8 3 rfl rfl)
theorem dX3_isGram_188 : decode cX3_isGram 188 = .ok (.goto 4, 3) := dk_167 0 4 (dk_at dksX3_isGram_8 4 rfl rfl)
theorem dX3_isGram_191 : decode cX3_isGram 191 = .ok (.iconst 0, 1) := dk_3 (dk_at dksX3_isGram_8 7 rfl rfl)
theorem dX3_isGram_192 : decode cX3_isGram 192 = .ok (.ior, 1) := dk_128 (dk_at dksX3_isGram_8 8 rfl rfl)
theorem dX3_isGram_193 : decode cX3_isGram 193 = .ok (.istore 5, 2) := dk_54 5 (dk_at dksX3_isGram_8 9 rfl rfl)
theorem dX3_isGram_195 : decode cX3_isGram 195 = .ok (.aload 13, 2) := dk_25 13 (dk_at dksX3_isGram_8 11 rfl rfl)
theorem dX3_isGram_197 : decode cX3_isGram 197 = .ok (.iload 11, 2) := dk_21 11 (dk_at dksX3_isGram_8 13 rfl rfl)
theorem dX3_isGram_199 : decode cX3_isGram 199 = .ok (.iconst 1, 1) := dk_4 (dk_at dksX3_isGram_8 15 rfl rfl)
theorem dX3_isGram_200 : decode cX3_isGram 200 = .ok (.bastore, 1) := dk_84 (dk_at dksX3_isGram_8 16 rfl rfl)
theorem dX3_isGram_201 : decode cX3_isGram 201 = .ok (.iload 11, 2) := dk_21 11 (dk_at dksX3_isGram_8 17 rfl rfl)
theorem dX3_isGram_203 : decode cX3_isGram 203 = .ok (.iconst 1, 1) := dk_4 (dk_at dksX3_isGram_8 19 rfl rfl)
theorem dX3_isGram_204 : decode cX3_isGram 204 = .ok (.ishl, 1) := dk_120 (dk_at dksX3_isGram_8 20 rfl rfl)
theorem dX3_isGram_205 : decode cX3_isGram 205 = .ok (.aload 7, 2) := dk_25 7 (dk_at dksX3_isGram_8 21 rfl rfl)
theorem dX3_isGram_207 : decode cX3_isGram 207 = .ok (.iconst 0, 1) := dk_3 (dk_at dksX3_isGram_8 23 rfl rfl)
theorem dX3_isGram_208 : decode cX3_isGram 208 = .ok (.iaload, 1) := dk_46 (dk_at dksX3_isGram_9 0 rfl rfl)
theorem dX3_isGram_209 : decode cX3_isGram 209 = .ok (.ior, 1) := dk_128 (dk_at dksX3_isGram_9 1 rfl rfl)
theorem dX3_isGram_210 : decode cX3_isGram 210 = .ok (.iload_n 2, 1) := dk_28 (dk_at dksX3_isGram_9 2 rfl rfl)
theorem dX3_isGram_211 : decode cX3_isGram 211 = .ok (.iconst 1, 1) := dk_4 (dk_at dksX3_isGram_9 3 rfl rfl)
theorem dX3_isGram_212 : decode cX3_isGram 212 = .ok (.isub, 1) := dk_100 (dk_at dksX3_isGram_9 4 rfl rfl)
theorem dX3_isGram_213 : decode cX3_isGram 213 = .ok (.iand, 1) := dk_126 (dk_at dksX3_isGram_9 5 rfl rfl)
theorem dX3_isGram_214 : decode cX3_isGram 214 = .ok (.istore 14, 2) := dk_54 14 (dk_at dksX3_isGram_9 6 rfl rfl)
theorem dX3_isGram_216 : decode cX3_isGram 216 = .ok (.iconst 0, 1) := dk_3 (dk_at dksX3_isGram_9 8 rfl rfl)
theorem dX3_isGram_217 : decode cX3_isGram 217 = .ok (.istore 15, 2) := dk_54 15 (dk_at dksX3_isGram_9 9 rfl rfl)
theorem dX3_isGram_219 : decode cX3_isGram 219 = .ok (.iload 15, 2) := dk_21 15 (dk_at dksX3_isGram_9 11 rfl rfl)
theorem dX3_isGram_221 : decode cX3_isGram 221 = .ok (.iconst 2, 1) := dk_5 (dk_at dksX3_isGram_9 13 rfl rfl)
theorem dX3_isGram_222 : decode cX3_isGram 222 = .ok (.if_icmp .ge 106, 3) := dk_162 0 106 (dk_at dksX3_isGram_9 14 rfl rfl)
theorem dX3_isGram_225 : decode cX3_isGram 225 = .ok (.iload 12, 2) := dk_21 12 (dk_at dksX3_isGram_9 17 rfl rfl)
theorem dX3_isGram_227 : decode cX3_isGram 227 = .ok (.iconst 1, 1) := dk_4 (dk_at dksX3_isGram_9 19 rfl rfl)
theorem dX3_isGram_228 : decode cX3_isGram 228 = .ok (.ishr, 1) := dk_122 (dk_at dksX3_isGram_9 20 rfl rfl)
theorem dX3_isGram_229 : decode cX3_isGram 229 = .ok (.iload 15, 2) := dk_21 15 (dk_at dksX3_isGram_9 21 rfl rfl)
theorem dX3_isGram_231 : decode cX3_isGram 231 = .ok (.iload_n 1, 1) := dk_27 (dk_at dksX3_isGram_9 23 rfl rfl)
theorem dX3_isGram_232 : decode cX3_isGram 232 = .ok (.iconst 1, 1) := dk_4 (dk_at dksX3_isGram_10 0 rfl rfl)
theorem dX3_isGram_233 : decode cX3_isGram 233 = .ok (.isub, 1) := dk_100 (dk_at dksX3_isGram_10 1 rfl rfl)
theorem dX3_isGram_234 : decode cX3_isGram 234 = .ok (.ishl, 1) := dk_120 (dk_at dksX3_isGram_10 2 rfl rfl)
theorem dX3_isGram_235 : decode cX3_isGram 235 = .ok (.ior, 1) := dk_128 (dk_at dksX3_isGram_10 3 rfl rfl)
theorem dX3_isGram_236 : decode cX3_isGram 236 = .ok (.istore 16, 2) := dk_54 16 (dk_at dksX3_isGram_10 4 rfl rfl)
theorem dX3_isGram_238 : decode cX3_isGram 238 = .ok (.aload 4, 2) := dk_25 4 (dk_at dksX3_isGram_10 6 rfl rfl)
theorem dX3_isGram_240 : decode cX3_isGram 240 = .ok (.iload 10, 2) := dk_21 10 (dk_at dksX3_isGram_10 8 rfl rfl)
theorem dX3_isGram_242 : decode cX3_isGram 242 = .ok (.ifCond .eq 7, 3) := dk_153 0 7 (dk_at dksX3_isGram_10 10 rfl rfl)
theorem dX3_isGram_245 : decode cX3_isGram 245 = .ok (.iconst 1, 1) := dk_4 (dk_at dksX3_isGram_10 13 rfl rfl)
theorem dX3_isGram_246 : decode cX3_isGram 246 = .ok (.goto 4, 3) := dk_167 0 4 (dk_at dksX3_isGram_10 14 rfl rfl)
theorem dX3_isGram_249 : decode cX3_isGram 249 = .ok (.iconst 0, 1) := dk_3 (dk_at dksX3_isGram_10 17 rfl rfl)
theorem dX3_isGram_250 : decode cX3_isGram 250 = .ok (.aaload, 1) := dk_50 (dk_at dksX3_isGram_10 18 rfl rfl)
theorem dX3_isGram_251 : decode cX3_isGram 251 = .ok (.iload 16, 2) := dk_21 16 (dk_at dksX3_isGram_10 19 rfl rfl)
theorem dX3_isGram_253 : decode cX3_isGram 253 = .ok (.baload, 1) := dk_51 (dk_at dksX3_isGram_10 21 rfl rfl)
theorem dX3_isGram_254 : decode cX3_isGram 254 = .ok (.ifCond .ne 6, 3) := dk_154 0 6 (dk_at dksX3_isGram_11 0 rfl rfl)
theorem dX3_isGram_257 : decode cX3_isGram 257 = .ok (.goto 65, 3) := dk_167 0 65 (dk_at dksX3_isGram_11 3 rfl rfl)
theorem dX3_isGram_260 : decode cX3_isGram 260 = .ok (.iconst 2, 1) := dk_5 (dk_at dksX3_isGram_11 6 rfl rfl)
theorem dX3_isGram_261 : decode cX3_isGram 261 = .ok (.aload 7, 2) := dk_25 7 (dk_at dksX3_isGram_11 7 rfl rfl)
theorem dX3_isGram_263 : decode cX3_isGram 263 = .ok (.iconst 2, 1) := dk_5 (dk_at dksX3_isGram_11 9 rfl rfl)
theorem dX3_isGram_264 : decode cX3_isGram 264 = .ok (.iaload, 1) := dk_46 (dk_at dksX3_isGram_11 10 rfl rfl)
theorem dX3_isGram_265 : decode cX3_isGram 265 = .ok (.imul, 1) := dk_104 (dk_at dksX3_isGram_11 11 rfl rfl)
theorem dX3_isGram_266 : decode cX3_isGram 266 = .ok (.iload 12, 2) := dk_21 12 (dk_at dksX3_isGram_11 12 rfl rfl)
theorem dX3_isGram_268 : decode cX3_isGram 268 = .ok (.iconst 1, 1) := dk_4 (dk_at dksX3_isGram_11 14 rfl rfl)
theorem dX3_isGram_269 : decode cX3_isGram 269 = .ok (.iand, 1) := dk_126 (dk_at dksX3_isGram_11 15 rfl rfl)
theorem dX3_isGram_270 : decode cX3_isGram 270 = .ok (.iadd, 1) := dk_96 (dk_at dksX3_isGram_11 16 rfl rfl)
theorem dX3_isGram_271 : decode cX3_isGram 271 = .ok (.iload_n 2, 1) := dk_28 (dk_at dksX3_isGram_11 17 rfl rfl)
theorem dX3_isGram_272 : decode cX3_isGram 272 = .ok (.imul, 1) := dk_104 (dk_at dksX3_isGram_11 18 rfl rfl)
theorem dX3_isGram_273 : decode cX3_isGram 273 = .ok (.iload_n 2, 1) := dk_28 (dk_at dksX3_isGram_11 19 rfl rfl)
theorem dX3_isGram_274 : decode cX3_isGram 274 = .ok (.imul, 1) := dk_104 (dk_at dksX3_isGram_11 20 rfl rfl)
theorem dX3_isGram_275 : decode cX3_isGram 275 = .ok (.iload 10, 2) := dk_21 10 (dk_at dksX3_isGram_11 21 rfl rfl)
theorem dX3_isGram_277 : decode cX3_isGram 277 = .ok (.ifCond .eq 13, 3) := dk_153 0 13 (dk_at dksX3_isGram_12 0 rfl rfl)
theorem dX3_isGram_280 : decode cX3_isGram 280 = .ok (.iload 14, 2) := dk_21 14 (dk_at dksX3_isGram_12 3 rfl rfl)
theorem dX3_isGram_282 : decode cX3_isGram 282 = .ok (.iload_n 2, 1) := dk_28 (dk_at dksX3_isGram_12 5 rfl rfl)
theorem dX3_isGram_283 : decode cX3_isGram 283 = .ok (.imul, 1) := dk_104 (dk_at dksX3_isGram_12 6 rfl rfl)
theorem dX3_isGram_284 : decode cX3_isGram 284 = .ok (.iload 16, 2) := dk_21 16 (dk_at dksX3_isGram_12 7 rfl rfl)
theorem dX3_isGram_286 : decode cX3_isGram 286 = .ok (.iadd, 1) := dk_96 (dk_at dksX3_isGram_12 9 rfl rfl)
theorem dX3_isGram_287 : decode cX3_isGram 287 = .ok (.goto 10, 3) := dk_167 0 10 (dk_at dksX3_isGram_12 10 rfl rfl)
theorem dX3_isGram_290 : decode cX3_isGram 290 = .ok (.iload 16, 2) := dk_21 16 (dk_at dksX3_isGram_12 13 rfl rfl)
theorem dX3_isGram_292 : decode cX3_isGram 292 = .ok (.iload_n 2, 1) := dk_28 (dk_at dksX3_isGram_12 15 rfl rfl)
theorem dX3_isGram_293 : decode cX3_isGram 293 = .ok (.imul, 1) := dk_104 (dk_at dksX3_isGram_12 16 rfl rfl)
theorem dX3_isGram_294 : decode cX3_isGram 294 = .ok (.iload 14, 2) := dk_21 14 (dk_at dksX3_isGram_12 17 rfl rfl)
theorem dX3_isGram_296 : decode cX3_isGram 296 = .ok (.iadd, 1) := dk_96 (dk_at dksX3_isGram_12 19 rfl rfl)
theorem dX3_isGram_297 : decode cX3_isGram 297 = .ok (.iadd, 1) := dk_96 (dk_at dksX3_isGram_12 20 rfl rfl)
theorem dX3_isGram_298 : decode cX3_isGram 298 = .ok (.istore 17, 2) := dk_54 17 (dk_at dksX3_isGram_12 21 rfl rfl)
theorem dX3_isGram_300 : decode cX3_isGram 300 = .ok (.iload 5, 2) := dk_21 5 (dk_at dksX3_isGram_13 0 rfl rfl)
theorem dX3_isGram_302 : decode cX3_isGram 302 = .ok (.aload_n 3, 1) := dk_45 (dk_at dksX3_isGram_13 2 rfl rfl)
theorem dX3_isGram_303 : decode cX3_isGram 303 = .ok (.iload 17, 2) := dk_21 17 (dk_at dksX3_isGram_13 3 rfl rfl)
theorem dX3_isGram_305 : decode cX3_isGram 305 = .ok (.baload, 1) := dk_51 (dk_at dksX3_isGram_13 5 rfl rfl)
theorem dX3_isGram_306 : decode cX3_isGram 306 = .ok (.ifCond .ne 7, 3) := dk_154 0 7 (dk_at dksX3_isGram_13 6 rfl rfl)
theorem dX3_isGram_309 : decode cX3_isGram 309 = .ok (.iconst 1, 1) := dk_4 (dk_at dksX3_isGram_13 9 rfl rfl)
theorem dX3_isGram_310 : decode cX3_isGram 310 = .ok (.goto 4, 3) := dk_167 0 4 (dk_at dksX3_isGram_13 10 rfl rfl)
theorem dX3_isGram_313 : decode cX3_isGram 313 = .ok (.iconst 0, 1) := dk_3 (dk_at dksX3_isGram_13 13 rfl rfl)
theorem dX3_isGram_314 : decode cX3_isGram 314 = .ok (.ior, 1) := dk_128 (dk_at dksX3_isGram_13 14 rfl rfl)
theorem dX3_isGram_315 : decode cX3_isGram 315 = .ok (.istore 5, 2) := dk_54 5 (dk_at dksX3_isGram_13 15 rfl rfl)
theorem dX3_isGram_317 : decode cX3_isGram 317 = .ok (.aload_n 3, 1) := dk_45 (dk_at dksX3_isGram_13 17 rfl rfl)
theorem dX3_isGram_318 : decode cX3_isGram 318 = .ok (.iload 17, 2) := dk_21 17 (dk_at dksX3_isGram_13 18 rfl rfl)
theorem dX3_isGram_320 : decode cX3_isGram 320 = .ok (.iconst 1, 1) := dk_4 (dk_at dksX3_isGram_13 20 rfl rfl)
theorem dX3_isGram_321 : decode cX3_isGram 321 = .ok (.bastore, 1) := dk_84 (dk_at dksX3_isGram_13 21 rfl rfl)
theorem dX3_isGram_322 : decode cX3_isGram 322 = .ok (.iinc 15 1, 3) := dk_132 15 1 (dk_at dksX3_isGram_14 0 rfl rfl)
theorem dX3_isGram_325 : decode cX3_isGram 325 = .ok (.goto (-106), 3) := dk_167 255 150 (dk_at dksX3_isGram_14 3 rfl rfl)
theorem dX3_isGram_328 : decode cX3_isGram 328 = .ok (.iinc 6 1, 3) := dk_132 6 1 (dk_at dksX3_isGram_14 6 rfl rfl)
theorem dX3_isGram_331 : decode cX3_isGram 331 = .ok (.goto (-274), 3) := dk_167 254 238 (dk_at dksX3_isGram_14 9 rfl rfl)
theorem dX3_isGram_334 : decode cX3_isGram 334 = .ok (.goto (-288), 3) := dk_167 254 224 (dk_at dksX3_isGram_14 12 rfl rfl)
theorem dX3_isGram_337 : decode cX3_isGram 337 = .ok (.iconst 1, 1) := dk_4 (dk_at dksX3_isGram_14 15 rfl rfl)
theorem dX3_isGram_338 : decode cX3_isGram 338 = .ok (.ireturn, 1) := dk_172 (dk_at dksX3_isGram_14 16 rfl rfl)
abbrev cX3_decide : ByteArray := prog_19_method_23_code
def yX3_decide : MethodName := ⟨RX3, "decide", "(LHaltingaleModel$Machine;III)V"⟩
def dkwX3_decide_0 : List UInt8 := [42, 27, 181, 0, 175, 42, 28, 181, 0, 178, 42, 29, 181, 0, 181, 177]
abbrev dktX3_decide_0 : List UInt8 := dkwX3_decide_0 ++ []
theorem dksX3_decide_0 : cX3_decide.data.toList.drop 0 = dktX3_decide_0 := by decide +kernel
theorem dX3_decide_0 : decode cX3_decide 0 = .ok (.aload_n 0, 1) := dk_42 (dk_at dksX3_decide_0 0 rfl rfl)
theorem dX3_decide_1 : decode cX3_decide 1 = .ok (.iload_n 1, 1) := dk_27 (dk_at dksX3_decide_0 1 rfl rfl)
theorem dX3_decide_2 : decode cX3_decide 2 = .ok (.putfield 175, 3) := dk_181 0 175 (dk_at dksX3_decide_0 2 rfl rfl)
theorem dX3_decide_5 : decode cX3_decide 5 = .ok (.aload_n 0, 1) := dk_42 (dk_at dksX3_decide_0 5 rfl rfl)
theorem dX3_decide_6 : decode cX3_decide 6 = .ok (.iload_n 2, 1) := dk_28 (dk_at dksX3_decide_0 6 rfl rfl)
theorem dX3_decide_7 : decode cX3_decide 7 = .ok (.putfield 178, 3) := dk_181 0 178 (dk_at dksX3_decide_0 7 rfl rfl)
theorem dX3_decide_10 : decode cX3_decide 10 = .ok (.aload_n 0, 1) := dk_42 (dk_at dksX3_decide_0 10 rfl rfl)
theorem dX3_decide_11 : decode cX3_decide 11 = .ok (.iload_n 3, 1) := dk_29 (dk_at dksX3_decide_0 11 rfl rfl)
theorem dX3_decide_12 : decode cX3_decide 12 = .ok (.putfield 181, 3) := dk_181 0 181 (dk_at dksX3_decide_0 12 rfl rfl)
theorem dX3_decide_15 : decode cX3_decide 15 = .ok (.return_, 1) := dk_177 (dk_at dksX3_decide_0 15 rfl rfl)
abbrev cX3_doubt : ByteArray := prog_19_method_25_code
def yX3_doubt : MethodName := ⟨RX3, "doubt", "(I)I"⟩
def dkwX3_doubt_3 : List UInt8 := [167, 0, 4, 3, 96, 61, 167, 255, 211, 42, 89, 180, 0, 67, 28, 96, 181, 0, 67, 28, 172]
abbrev dktX3_doubt_3 : List UInt8 := dkwX3_doubt_3 ++ []
def dkwX3_doubt_2 : List UInt8 := [192, 0, 35, 58, 4, 28, 25, 4, 180, 0, 175, 27, 160, 0, 15, 25, 4, 182, 0, 63, 153, 0, 7, 4]
abbrev dktX3_doubt_2 : List UInt8 := dkwX3_doubt_2 ++ dktX3_doubt_3
def dkwX3_doubt_1 : List UInt8 := [180, 0, 10, 182, 0, 158, 78, 45, 185, 0, 162, 1, 0, 153, 0, 42, 45, 185, 0, 167, 1, 0]
abbrev dktX3_doubt_1 : List UInt8 := dkwX3_doubt_1 ++ dktX3_doubt_2
def dkwX3_doubt_0 : List UInt8 := [42, 3, 181, 0, 19, 27, 3, 6, 184, 0, 27, 154, 0, 9, 42, 4, 182, 0, 31, 172, 3, 61, 42]
abbrev dktX3_doubt_0 : List UInt8 := dkwX3_doubt_0 ++ dktX3_doubt_1
theorem dksX3_doubt_0 : cX3_doubt.data.toList.drop 0 = dktX3_doubt_0 := by decide +kernel
theorem dksX3_doubt_1 : cX3_doubt.data.toList.drop 23 = dktX3_doubt_1 := dk_seg dksX3_doubt_0 23 rfl rfl
theorem dksX3_doubt_2 : cX3_doubt.data.toList.drop 45 = dktX3_doubt_2 := dk_seg dksX3_doubt_1 22 rfl rfl
theorem dksX3_doubt_3 : cX3_doubt.data.toList.drop 69 = dktX3_doubt_3 := dk_seg dksX3_doubt_2 24 rfl rfl
theorem dX3_doubt_0 : decode cX3_doubt 0 = .ok (.aload_n 0, 1) := dk_42 (dk_at dksX3_doubt_0 0 rfl rfl)
theorem dX3_doubt_1 : decode cX3_doubt 1 = .ok (.iconst 0, 1) := dk_3 (dk_at dksX3_doubt_0 1 rfl rfl)
theorem dX3_doubt_2 : decode cX3_doubt 2 = .ok (.putfield 19, 3) := dk_181 0 19 (dk_at dksX3_doubt_0 2 rfl rfl)
theorem dX3_doubt_5 : decode cX3_doubt 5 = .ok (.iload_n 1, 1) := dk_27 (dk_at dksX3_doubt_0 5 rfl rfl)
theorem dX3_doubt_6 : decode cX3_doubt 6 = .ok (.iconst 0, 1) := dk_3 (dk_at dksX3_doubt_0 6 rfl rfl)
theorem dX3_doubt_7 : decode cX3_doubt 7 = .ok (.iconst 3, 1) := dk_6 (dk_at dksX3_doubt_0 7 rfl rfl)
theorem dX3_doubt_8 : decode cX3_doubt 8 = .ok (.invokestatic 27, 3) := dk_184 0 27 (dk_at dksX3_doubt_0 8 rfl rfl)
theorem dX3_doubt_11 : decode cX3_doubt 11 = .ok (.ifCond .ne 9, 3) := dk_154 0 9 (dk_at dksX3_doubt_0 11 rfl rfl)
theorem dX3_doubt_14 : decode cX3_doubt 14 = .ok (.aload_n 0, 1) := dk_42 (dk_at dksX3_doubt_0 14 rfl rfl)
theorem dX3_doubt_15 : decode cX3_doubt 15 = .ok (.iconst 1, 1) := dk_4 (dk_at dksX3_doubt_0 15 rfl rfl)
theorem dX3_doubt_16 : decode cX3_doubt 16 = .ok (.invokevirtual 31, 3) := dk_182 0 31 (dk_at dksX3_doubt_0 16 rfl rfl)
theorem dX3_doubt_19 : decode cX3_doubt 19 = .ok (.ireturn, 1) := dk_172 (dk_at dksX3_doubt_0 19 rfl rfl)
theorem dX3_doubt_20 : decode cX3_doubt 20 = .ok (.iconst 0, 1) := dk_3 (dk_at dksX3_doubt_0 20 rfl rfl)
theorem dX3_doubt_21 : decode cX3_doubt 21 = .ok (.istore_n 2, 1) := dk_61 (dk_at dksX3_doubt_0 21 rfl rfl)
theorem dX3_doubt_22 : decode cX3_doubt 22 = .ok (.aload_n 0, 1) := dk_42 (dk_at dksX3_doubt_0 22 rfl rfl)
theorem dX3_doubt_23 : decode cX3_doubt 23 = .ok (.getfield 10, 3) := dk_180 0 10 (dk_at dksX3_doubt_1 0 rfl rfl)
theorem dX3_doubt_26 : decode cX3_doubt 26 = .ok (.invokevirtual 158, 3) := dk_182 0 158 (dk_at dksX3_doubt_1 3 rfl rfl)
theorem dX3_doubt_29 : decode cX3_doubt 29 = .ok (.astore_n 3, 1) := dk_78 (dk_at dksX3_doubt_1 6 rfl rfl)
theorem dX3_doubt_30 : decode cX3_doubt 30 = .ok (.aload_n 3, 1) := dk_45 (dk_at dksX3_doubt_1 7 rfl rfl)
theorem dX3_doubt_31 : decode cX3_doubt 31 = .ok (.invokeinterface 162 1, 5) := by decide +kernel
theorem dX3_doubt_36 : decode cX3_doubt 36 = .ok (.ifCond .eq 42, 3) := dk_153 0 42 (dk_at dksX3_doubt_1 13 rfl rfl)
theorem dX3_doubt_39 : decode cX3_doubt 39 = .ok (.aload_n 3, 1) := dk_45 (dk_at dksX3_doubt_1 16 rfl rfl)
theorem dX3_doubt_40 : decode cX3_doubt 40 = .ok (.invokeinterface 167 1, 5) := by decide +kernel
theorem dX3_doubt_45 : decode cX3_doubt 45 = .ok (.checkcast 35, 3) := dk_192 0 35 (dk_at dksX3_doubt_2 0 rfl rfl)
theorem dX3_doubt_48 : decode cX3_doubt 48 = .ok (.astore 4, 2) := dk_58 4 (dk_at dksX3_doubt_2 3 rfl rfl)
theorem dX3_doubt_50 : decode cX3_doubt 50 = .ok (.iload_n 2, 1) := dk_28 (dk_at dksX3_doubt_2 5 rfl rfl)
theorem dX3_doubt_51 : decode cX3_doubt 51 = .ok (.aload 4, 2) := dk_25 4 (dk_at dksX3_doubt_2 6 rfl rfl)
theorem dX3_doubt_53 : decode cX3_doubt 53 = .ok (.getfield 175, 3) := dk_180 0 175 (dk_at dksX3_doubt_2 8 rfl rfl)
theorem dX3_doubt_56 : decode cX3_doubt 56 = .ok (.iload_n 1, 1) := dk_27 (dk_at dksX3_doubt_2 11 rfl rfl)
theorem dX3_doubt_57 : decode cX3_doubt 57 = .ok (.if_icmp .ne 15, 3) := dk_160 0 15 (dk_at dksX3_doubt_2 12 rfl rfl)
theorem dX3_doubt_60 : decode cX3_doubt 60 = .ok (.aload 4, 2) := dk_25 4 (dk_at dksX3_doubt_2 15 rfl rfl)
theorem dX3_doubt_62 : decode cX3_doubt 62 = .ok (.invokevirtual 63, 3) := dk_182 0 63 (dk_at dksX3_doubt_2 17 rfl rfl)
theorem dX3_doubt_65 : decode cX3_doubt 65 = .ok (.ifCond .eq 7, 3) := dk_153 0 7 (dk_at dksX3_doubt_2 20 rfl rfl)
theorem dX3_doubt_68 : decode cX3_doubt 68 = .ok (.iconst 1, 1) := dk_4 (dk_at dksX3_doubt_2 23 rfl rfl)
theorem dX3_doubt_69 : decode cX3_doubt 69 = .ok (.goto 4, 3) := dk_167 0 4 (dk_at dksX3_doubt_3 0 rfl rfl)
theorem dX3_doubt_72 : decode cX3_doubt 72 = .ok (.iconst 0, 1) := dk_3 (dk_at dksX3_doubt_3 3 rfl rfl)
theorem dX3_doubt_73 : decode cX3_doubt 73 = .ok (.iadd, 1) := dk_96 (dk_at dksX3_doubt_3 4 rfl rfl)
theorem dX3_doubt_74 : decode cX3_doubt 74 = .ok (.istore_n 2, 1) := dk_61 (dk_at dksX3_doubt_3 5 rfl rfl)
theorem dX3_doubt_75 : decode cX3_doubt 75 = .ok (.goto (-45), 3) := dk_167 255 211 (dk_at dksX3_doubt_3 6 rfl rfl)
theorem dX3_doubt_78 : decode cX3_doubt 78 = .ok (.aload_n 0, 1) := dk_42 (dk_at dksX3_doubt_3 9 rfl rfl)
theorem dX3_doubt_79 : decode cX3_doubt 79 = .ok (.dup, 1) := dk_89 (dk_at dksX3_doubt_3 10 rfl rfl)
theorem dX3_doubt_80 : decode cX3_doubt 80 = .ok (.getfield 67, 3) := dk_180 0 67 (dk_at dksX3_doubt_3 11 rfl rfl)
theorem dX3_doubt_83 : decode cX3_doubt 83 = .ok (.iload_n 2, 1) := dk_28 (dk_at dksX3_doubt_3 14 rfl rfl)
theorem dX3_doubt_84 : decode cX3_doubt 84 = .ok (.iadd, 1) := dk_96 (dk_at dksX3_doubt_3 15 rfl rfl)
theorem dX3_doubt_85 : decode cX3_doubt 85 = .ok (.putfield 67, 3) := dk_181 0 67 (dk_at dksX3_doubt_3 16 rfl rfl)
theorem dX3_doubt_88 : decode cX3_doubt 88 = .ok (.iload_n 2, 1) := dk_28 (dk_at dksX3_doubt_3 19 rfl rfl)
theorem dX3_doubt_89 : decode cX3_doubt 89 = .ok (.ireturn, 1) := dk_172 (dk_at dksX3_doubt_3 20 rfl rfl)
abbrev cX3_decide_2 : ByteArray := prog_19_method_28_code
def yX3_decide_2 : MethodName := ⟨RX3, "decide", "(I)I"⟩
def dkwX3_decide_2_6 : List UInt8 := [21, 6, 2, 159, 0, 11, 44, 6, 21, 6, 3, 184, 0, 197, 44, 180, 0, 175, 172]
abbrev dktX3_decide_2_6 : List UInt8 := dkwX3_decide_2_6 ++ []
def dkwX3_decide_2_5 : List UInt8 := [184, 0, 197, 167, 0, 34, 21, 5, 2, 159, 0, 14, 44, 5, 21, 5, 3, 184, 0, 197, 167, 0, 17]
abbrev dktX3_decide_2_5 : List UInt8 := dkwX3_decide_2_5 ++ dktX3_decide_2_6
def dkwX3_decide_2_4 : List UInt8 := [167, 0, 60, 21, 4, 2, 159, 0, 23, 44, 4, 21, 4, 17, 0, 200, 108, 21, 4, 17, 0, 200, 112]
abbrev dktX3_decide_2_4 : List UInt8 := dkwX3_decide_2_4 ++ dktX3_decide_2_5
def dkwX3_decide_2_3 : List UInt8 := [184, 0, 208, 54, 6, 45, 182, 0, 109, 153, 0, 16, 44, 3, 45, 180, 0, 112, 3, 184, 0, 197]
abbrev dktX3_decide_2_3 : List UInt8 := dkwX3_decide_2_3 ++ dktX3_decide_2_4
def dkwX3_decide_2_2 : List UInt8 := [17, 1, 244, 182, 0, 81, 78, 44, 16, 30, 184, 0, 201, 54, 4, 44, 184, 0, 205, 54, 5, 44]
abbrev dktX3_decide_2_2 : List UInt8 := dkwX3_decide_2_2 ++ dktX3_decide_2_3
def dkwX3_decide_2_1 : List UInt8 := [182, 0, 48, 192, 0, 35, 77, 44, 180, 0, 175, 2, 159, 0, 9, 42, 5, 182, 0, 31, 172, 44]
abbrev dktX3_decide_2_1 : List UInt8 := dkwX3_decide_2_1 ++ dktX3_decide_2_2
def dkwX3_decide_2_0 : List UInt8 := [42, 3, 181, 0, 19, 42, 27, 182, 0, 44, 154, 0, 9, 42, 4, 182, 0, 31, 172, 42, 180, 0, 10, 27]
abbrev dktX3_decide_2_0 : List UInt8 := dkwX3_decide_2_0 ++ dktX3_decide_2_1
theorem dksX3_decide_2_0 : cX3_decide_2.data.toList.drop 0 = dktX3_decide_2_0 := by decide +kernel
theorem dksX3_decide_2_1 : cX3_decide_2.data.toList.drop 24 = dktX3_decide_2_1 := dk_seg dksX3_decide_2_0 24 rfl rfl
theorem dksX3_decide_2_2 : cX3_decide_2.data.toList.drop 46 = dktX3_decide_2_2 := dk_seg dksX3_decide_2_1 22 rfl rfl
theorem dksX3_decide_2_3 : cX3_decide_2.data.toList.drop 68 = dktX3_decide_2_3 := dk_seg dksX3_decide_2_2 22 rfl rfl
theorem dksX3_decide_2_4 : cX3_decide_2.data.toList.drop 90 = dktX3_decide_2_4 := dk_seg dksX3_decide_2_3 22 rfl rfl
theorem dksX3_decide_2_5 : cX3_decide_2.data.toList.drop 113 = dktX3_decide_2_5 := dk_seg dksX3_decide_2_4 23 rfl rfl
theorem dksX3_decide_2_6 : cX3_decide_2.data.toList.drop 136 = dktX3_decide_2_6 := dk_seg dksX3_decide_2_5 23 rfl rfl
theorem dX3_decide_2_0 : decode cX3_decide_2 0 = .ok (.aload_n 0, 1) := dk_42 (dk_at dksX3_decide_2_0 0 rfl rfl)
theorem dX3_decide_2_1 : decode cX3_decide_2 1 = .ok (.iconst 0, 1) := dk_3 (dk_at dksX3_decide_2_0 1 rfl rfl)
theorem dX3_decide_2_2 : decode cX3_decide_2 2 = .ok (.putfield 19, 3) := dk_181 0 19 (dk_at dksX3_decide_2_0 2 rfl rfl)
theorem dX3_decide_2_5 : decode cX3_decide_2 5 = .ok (.aload_n 0, 1) := dk_42 (dk_at dksX3_decide_2_0 5 rfl rfl)
theorem dX3_decide_2_6 : decode cX3_decide_2 6 = .ok (.iload_n 1, 1) := dk_27 (dk_at dksX3_decide_2_0 6 rfl rfl)
theorem dX3_decide_2_7 : decode cX3_decide_2 7 = .ok (.invokevirtual 44, 3) := dk_182 0 44 (dk_at dksX3_decide_2_0 7 rfl rfl)
theorem dX3_decide_2_10 : decode cX3_decide_2 10 = .ok (.ifCond .ne 9, 3) := dk_154 0 9 (dk_at dksX3_decide_2_0 10 rfl rfl)
theorem dX3_decide_2_13 : decode cX3_decide_2 13 = .ok (.aload_n 0, 1) := dk_42 (dk_at dksX3_decide_2_0 13 rfl rfl)
theorem dX3_decide_2_14 : decode cX3_decide_2 14 = .ok (.iconst 1, 1) := dk_4 (dk_at dksX3_decide_2_0 14 rfl rfl)
theorem dX3_decide_2_15 : decode cX3_decide_2 15 = .ok (.invokevirtual 31, 3) := dk_182 0 31 (dk_at dksX3_decide_2_0 15 rfl rfl)
theorem dX3_decide_2_18 : decode cX3_decide_2 18 = .ok (.ireturn, 1) := dk_172 (dk_at dksX3_decide_2_0 18 rfl rfl)
theorem dX3_decide_2_19 : decode cX3_decide_2 19 = .ok (.aload_n 0, 1) := dk_42 (dk_at dksX3_decide_2_0 19 rfl rfl)
theorem dX3_decide_2_20 : decode cX3_decide_2 20 = .ok (.getfield 10, 3) := dk_180 0 10 (dk_at dksX3_decide_2_0 20 rfl rfl)
theorem dX3_decide_2_23 : decode cX3_decide_2 23 = .ok (.iload_n 1, 1) := dk_27 (dk_at dksX3_decide_2_0 23 rfl rfl)
theorem dX3_decide_2_24 : decode cX3_decide_2 24 = .ok (.invokevirtual 48, 3) := dk_182 0 48 (dk_at dksX3_decide_2_1 0 rfl rfl)
theorem dX3_decide_2_27 : decode cX3_decide_2 27 = .ok (.checkcast 35, 3) := dk_192 0 35 (dk_at dksX3_decide_2_1 3 rfl rfl)
theorem dX3_decide_2_30 : decode cX3_decide_2 30 = .ok (.astore_n 2, 1) := dk_77 (dk_at dksX3_decide_2_1 6 rfl rfl)
theorem dX3_decide_2_31 : decode cX3_decide_2 31 = .ok (.aload_n 2, 1) := dk_44 (dk_at dksX3_decide_2_1 7 rfl rfl)
theorem dX3_decide_2_32 : decode cX3_decide_2 32 = .ok (.getfield 175, 3) := dk_180 0 175 (dk_at dksX3_decide_2_1 8 rfl rfl)
theorem dX3_decide_2_35 : decode cX3_decide_2 35 = .ok (.iconst (-1), 1) := dk_2 (dk_at dksX3_decide_2_1 11 rfl rfl)
theorem dX3_decide_2_36 : decode cX3_decide_2 36 = .ok (.if_icmp .eq 9, 3) := dk_159 0 9 (dk_at dksX3_decide_2_1 12 rfl rfl)
theorem dX3_decide_2_39 : decode cX3_decide_2 39 = .ok (.aload_n 0, 1) := dk_42 (dk_at dksX3_decide_2_1 15 rfl rfl)
theorem dX3_decide_2_40 : decode cX3_decide_2 40 = .ok (.iconst 2, 1) := dk_5 (dk_at dksX3_decide_2_1 16 rfl rfl)
theorem dX3_decide_2_41 : decode cX3_decide_2 41 = .ok (.invokevirtual 31, 3) := dk_182 0 31 (dk_at dksX3_decide_2_1 17 rfl rfl)
theorem dX3_decide_2_44 : decode cX3_decide_2 44 = .ok (.ireturn, 1) := dk_172 (dk_at dksX3_decide_2_1 20 rfl rfl)
theorem dX3_decide_2_45 : decode cX3_decide_2 45 = .ok (.aload_n 2, 1) := dk_44 (dk_at dksX3_decide_2_1 21 rfl rfl)
theorem dX3_decide_2_46 : decode cX3_decide_2 46 = .ok (.sipush 500, 3) := dk_17 1 244 (dk_at dksX3_decide_2_2 0 rfl rfl)
theorem dX3_decide_2_49 : decode cX3_decide_2 49 = .ok (.invokevirtual 81, 3) := dk_182 0 81 (dk_at dksX3_decide_2_2 3 rfl rfl)
theorem dX3_decide_2_52 : decode cX3_decide_2 52 = .ok (.astore_n 3, 1) := dk_78 (dk_at dksX3_decide_2_2 6 rfl rfl)
theorem dX3_decide_2_53 : decode cX3_decide_2 53 = .ok (.aload_n 2, 1) := dk_44 (dk_at dksX3_decide_2_2 7 rfl rfl)
theorem dX3_decide_2_54 : decode cX3_decide_2 54 = .ok (.bipush 30, 2) := dk_16 30 (dk_at dksX3_decide_2_2 8 rfl rfl)
theorem dX3_decide_2_56 : decode cX3_decide_2 56 = .ok (.invokestatic 201, 3) := dk_184 0 201 (dk_at dksX3_decide_2_2 10 rfl rfl)
theorem dX3_decide_2_59 : decode cX3_decide_2 59 = .ok (.istore 4, 2) := dk_54 4 (dk_at dksX3_decide_2_2 13 rfl rfl)
theorem dX3_decide_2_61 : decode cX3_decide_2 61 = .ok (.aload_n 2, 1) := dk_44 (dk_at dksX3_decide_2_2 15 rfl rfl)
theorem dX3_decide_2_62 : decode cX3_decide_2 62 = .ok (.invokestatic 205, 3) := dk_184 0 205 (dk_at dksX3_decide_2_2 16 rfl rfl)
theorem dX3_decide_2_65 : decode cX3_decide_2 65 = .ok (.istore 5, 2) := dk_54 5 (dk_at dksX3_decide_2_2 19 rfl rfl)
theorem dX3_decide_2_67 : decode cX3_decide_2 67 = .ok (.aload_n 2, 1) := dk_44 (dk_at dksX3_decide_2_2 21 rfl rfl)
theorem dX3_decide_2_68 : decode cX3_decide_2 68 = .ok (.invokestatic 208, 3) := dk_184 0 208 (dk_at dksX3_decide_2_3 0 rfl rfl)
theorem dX3_decide_2_71 : decode cX3_decide_2 71 = .ok (.istore 6, 2) := dk_54 6 (dk_at dksX3_decide_2_3 3 rfl rfl)
theorem dX3_decide_2_73 : decode cX3_decide_2 73 = .ok (.aload_n 3, 1) := dk_45 (dk_at dksX3_decide_2_3 5 rfl rfl)
theorem dX3_decide_2_74 : decode cX3_decide_2 74 = .ok (.invokevirtual 109, 3) := dk_182 0 109 (dk_at dksX3_decide_2_3 6 rfl rfl)
theorem dX3_decide_2_77 : decode cX3_decide_2 77 = .ok (.ifCond .eq 16, 3) := dk_153 0 16 (dk_at dksX3_decide_2_3 9 rfl rfl)
theorem dX3_decide_2_80 : decode cX3_decide_2 80 = .ok (.aload_n 2, 1) := dk_44 (dk_at dksX3_decide_2_3 12 rfl rfl)
theorem dX3_decide_2_81 : decode cX3_decide_2 81 = .ok (.iconst 0, 1) := dk_3 (dk_at dksX3_decide_2_3 13 rfl rfl)
theorem dX3_decide_2_82 : decode cX3_decide_2 82 = .ok (.aload_n 3, 1) := dk_45 (dk_at dksX3_decide_2_3 14 rfl rfl)
theorem dX3_decide_2_83 : decode cX3_decide_2 83 = .ok (.getfield 112, 3) := dk_180 0 112 (dk_at dksX3_decide_2_3 15 rfl rfl)
theorem dX3_decide_2_86 : decode cX3_decide_2 86 = .ok (.iconst 0, 1) := dk_3 (dk_at dksX3_decide_2_3 18 rfl rfl)
theorem dX3_decide_2_87 : decode cX3_decide_2 87 = .ok (.invokestatic 197, 3) := dk_184 0 197 (dk_at dksX3_decide_2_3 19 rfl rfl)
theorem dX3_decide_2_90 : decode cX3_decide_2 90 = .ok (.goto 60, 3) := dk_167 0 60 (dk_at dksX3_decide_2_4 0 rfl rfl)
theorem dX3_decide_2_93 : decode cX3_decide_2 93 = .ok (.iload 4, 2) := dk_21 4 (dk_at dksX3_decide_2_4 3 rfl rfl)
theorem dX3_decide_2_95 : decode cX3_decide_2 95 = .ok (.iconst (-1), 1) := dk_2 (dk_at dksX3_decide_2_4 5 rfl rfl)
theorem dX3_decide_2_96 : decode cX3_decide_2 96 = .ok (.if_icmp .eq 23, 3) := dk_159 0 23 (dk_at dksX3_decide_2_4 6 rfl rfl)
theorem dX3_decide_2_99 : decode cX3_decide_2 99 = .ok (.aload_n 2, 1) := dk_44 (dk_at dksX3_decide_2_4 9 rfl rfl)
theorem dX3_decide_2_100 : decode cX3_decide_2 100 = .ok (.iconst 1, 1) := dk_4 (dk_at dksX3_decide_2_4 10 rfl rfl)
theorem dX3_decide_2_101 : decode cX3_decide_2 101 = .ok (.iload 4, 2) := dk_21 4 (dk_at dksX3_decide_2_4 11 rfl rfl)
theorem dX3_decide_2_103 : decode cX3_decide_2 103 = .ok (.sipush 200, 3) := dk_17 0 200 (dk_at dksX3_decide_2_4 13 rfl rfl)
theorem dX3_decide_2_106 : decode cX3_decide_2 106 = .ok (.idiv, 1) := dk_108 (dk_at dksX3_decide_2_4 16 rfl rfl)
theorem dX3_decide_2_107 : decode cX3_decide_2 107 = .ok (.iload 4, 2) := dk_21 4 (dk_at dksX3_decide_2_4 17 rfl rfl)
theorem dX3_decide_2_109 : decode cX3_decide_2 109 = .ok (.sipush 200, 3) := dk_17 0 200 (dk_at dksX3_decide_2_4 19 rfl rfl)
theorem dX3_decide_2_112 : decode cX3_decide_2 112 = .ok (.irem, 1) := dk_112 (dk_at dksX3_decide_2_4 22 rfl rfl)
theorem dX3_decide_2_113 : decode cX3_decide_2 113 = .ok (.invokestatic 197, 3) := dk_184 0 197 (dk_at dksX3_decide_2_5 0 rfl rfl)
theorem dX3_decide_2_116 : decode cX3_decide_2 116 = .ok (.goto 34, 3) := dk_167 0 34 (dk_at dksX3_decide_2_5 3 rfl rfl)
theorem dX3_decide_2_119 : decode cX3_decide_2 119 = .ok (.iload 5, 2) := dk_21 5 (dk_at dksX3_decide_2_5 6 rfl rfl)
theorem dX3_decide_2_121 : decode cX3_decide_2 121 = .ok (.iconst (-1), 1) := dk_2 (dk_at dksX3_decide_2_5 8 rfl rfl)
theorem dX3_decide_2_122 : decode cX3_decide_2 122 = .ok (.if_icmp .eq 14, 3) := dk_159 0 14 (dk_at dksX3_decide_2_5 9 rfl rfl)
theorem dX3_decide_2_125 : decode cX3_decide_2 125 = .ok (.aload_n 2, 1) := dk_44 (dk_at dksX3_decide_2_5 12 rfl rfl)
theorem dX3_decide_2_126 : decode cX3_decide_2 126 = .ok (.iconst 2, 1) := dk_5 (dk_at dksX3_decide_2_5 13 rfl rfl)
theorem dX3_decide_2_127 : decode cX3_decide_2 127 = .ok (.iload 5, 2) := dk_21 5 (dk_at dksX3_decide_2_5 14 rfl rfl)
theorem dX3_decide_2_129 : decode cX3_decide_2 129 = .ok (.iconst 0, 1) := dk_3 (dk_at dksX3_decide_2_5 16 rfl rfl)
theorem dX3_decide_2_130 : decode cX3_decide_2 130 = .ok (.invokestatic 197, 3) := dk_184 0 197 (dk_at dksX3_decide_2_5 17 rfl rfl)
theorem dX3_decide_2_133 : decode cX3_decide_2 133 = .ok (.goto 17, 3) := dk_167 0 17 (dk_at dksX3_decide_2_5 20 rfl rfl)
theorem dX3_decide_2_136 : decode cX3_decide_2 136 = .ok (.iload 6, 2) := dk_21 6 (dk_at dksX3_decide_2_6 0 rfl rfl)
theorem dX3_decide_2_138 : decode cX3_decide_2 138 = .ok (.iconst (-1), 1) := dk_2 (dk_at dksX3_decide_2_6 2 rfl rfl)
theorem dX3_decide_2_139 : decode cX3_decide_2 139 = .ok (.if_icmp .eq 11, 3) := dk_159 0 11 (dk_at dksX3_decide_2_6 3 rfl rfl)
theorem dX3_decide_2_142 : decode cX3_decide_2 142 = .ok (.aload_n 2, 1) := dk_44 (dk_at dksX3_decide_2_6 6 rfl rfl)
theorem dX3_decide_2_143 : decode cX3_decide_2 143 = .ok (.iconst 3, 1) := dk_6 (dk_at dksX3_decide_2_6 7 rfl rfl)
theorem dX3_decide_2_144 : decode cX3_decide_2 144 = .ok (.iload 6, 2) := dk_21 6 (dk_at dksX3_decide_2_6 8 rfl rfl)
theorem dX3_decide_2_146 : decode cX3_decide_2 146 = .ok (.iconst 0, 1) := dk_3 (dk_at dksX3_decide_2_6 10 rfl rfl)
theorem dX3_decide_2_147 : decode cX3_decide_2 147 = .ok (.invokestatic 197, 3) := dk_184 0 197 (dk_at dksX3_decide_2_6 11 rfl rfl)
theorem dX3_decide_2_150 : decode cX3_decide_2 150 = .ok (.aload_n 2, 1) := dk_44 (dk_at dksX3_decide_2_6 14 rfl rfl)
theorem dX3_decide_2_151 : decode cX3_decide_2 151 = .ok (.getfield 175, 3) := dk_180 0 175 (dk_at dksX3_decide_2_6 15 rfl rfl)
theorem dX3_decide_2_154 : decode cX3_decide_2 154 = .ok (.ireturn, 1) := dk_172 (dk_at dksX3_decide_2_6 18 rfl rfl)
abbrev cX3_cycleNow : ByteArray := prog_19_method_27_code
def yX3_cycleNow : MethodName := ⟨RX3, "cycleNow", "(LHaltingaleModel$Machine;I)I"⟩
def dkwX3_cycleNow_4 : List UInt8 := [21, 5, 104, 21, 4, 96, 21, 5, 100, 172, 132, 5, 1, 167, 255, 208, 132, 4, 1, 167, 255, 190, 2, 172]
abbrev dktX3_cycleNow_4 : List UInt8 := dkwX3_cycleNow_4 ++ []
def dkwX3_cycleNow_3 : List UInt8 := [21, 4, 46, 160, 0, 30, 42, 21, 5, 21, 4, 21, 5, 100, 184, 0, 115, 153, 0, 16, 17, 0, 200]
abbrev dktX3_cycleNow_3 : List UInt8 := dkwX3_cycleNow_3 ++ dktX3_cycleNow_4
def dkwX3_cycleNow_2 : List UInt8 := [21, 4, 44, 180, 0, 112, 163, 0, 63, 3, 54, 5, 21, 5, 21, 4, 162, 0, 47, 45, 21, 5, 46, 45]
abbrev dktX3_cycleNow_2 : List UInt8 := dkwX3_cycleNow_2 ++ dktX3_cycleNow_3
def dkwX3_cycleNow_1 : List UInt8 := [44, 182, 0, 129, 153, 0, 16, 45, 44, 180, 0, 112, 44, 180, 0, 103, 79, 167, 255, 231, 4, 54, 4]
abbrev dktX3_cycleNow_1 : List UInt8 := dkwX3_cycleNow_1 ++ dktX3_cycleNow_2
def dkwX3_cycleNow_0 : List UInt8 := [187, 0, 86, 89, 42, 27, 183, 0, 126, 77, 27, 4, 96, 188, 10, 78, 44, 180, 0, 112, 27, 162, 0, 23]
abbrev dktX3_cycleNow_0 : List UInt8 := dkwX3_cycleNow_0 ++ dktX3_cycleNow_1
theorem dksX3_cycleNow_0 : cX3_cycleNow.data.toList.drop 0 = dktX3_cycleNow_0 := by decide +kernel
theorem dksX3_cycleNow_1 : cX3_cycleNow.data.toList.drop 24 = dktX3_cycleNow_1 := dk_seg dksX3_cycleNow_0 24 rfl rfl
theorem dksX3_cycleNow_2 : cX3_cycleNow.data.toList.drop 47 = dktX3_cycleNow_2 := dk_seg dksX3_cycleNow_1 23 rfl rfl
theorem dksX3_cycleNow_3 : cX3_cycleNow.data.toList.drop 71 = dktX3_cycleNow_3 := dk_seg dksX3_cycleNow_2 24 rfl rfl
theorem dksX3_cycleNow_4 : cX3_cycleNow.data.toList.drop 94 = dktX3_cycleNow_4 := dk_seg dksX3_cycleNow_3 23 rfl rfl
theorem dX3_cycleNow_0 : decode cX3_cycleNow 0 = .ok (.new 86, 3) := dk_187 0 86 (dk_at dksX3_cycleNow_0 0 rfl rfl)
theorem dX3_cycleNow_3 : decode cX3_cycleNow 3 = .ok (.dup, 1) := dk_89 (dk_at dksX3_cycleNow_0 3 rfl rfl)
theorem dX3_cycleNow_4 : decode cX3_cycleNow 4 = .ok (.aload_n 0, 1) := dk_42 (dk_at dksX3_cycleNow_0 4 rfl rfl)
theorem dX3_cycleNow_5 : decode cX3_cycleNow 5 = .ok (.iload_n 1, 1) := dk_27 (dk_at dksX3_cycleNow_0 5 rfl rfl)
theorem dX3_cycleNow_6 : decode cX3_cycleNow 6 = .ok (.invokespecial 126, 3) := dk_183 0 126 (dk_at dksX3_cycleNow_0 6 rfl rfl)
theorem dX3_cycleNow_9 : decode cX3_cycleNow 9 = .ok (.astore_n 2, 1) := dk_77 (dk_at dksX3_cycleNow_0 9 rfl rfl)
theorem dX3_cycleNow_10 : decode cX3_cycleNow 10 = .ok (.iload_n 1, 1) := dk_27 (dk_at dksX3_cycleNow_0 10 rfl rfl)
theorem dX3_cycleNow_11 : decode cX3_cycleNow 11 = .ok (.iconst 1, 1) := dk_4 (dk_at dksX3_cycleNow_0 11 rfl rfl)
theorem dX3_cycleNow_12 : decode cX3_cycleNow 12 = .ok (.iadd, 1) := dk_96 (dk_at dksX3_cycleNow_0 12 rfl rfl)
theorem dX3_cycleNow_13 : decode cX3_cycleNow 13 = .ok (.newarray .int, 2) := dk_188_10 (dk_at dksX3_cycleNow_0 13 rfl rfl)
theorem dX3_cycleNow_15 : decode cX3_cycleNow 15 = .ok (.astore_n 3, 1) := dk_78 (dk_at dksX3_cycleNow_0 15 rfl rfl)
theorem dX3_cycleNow_16 : decode cX3_cycleNow 16 = .ok (.aload_n 2, 1) := dk_44 (dk_at dksX3_cycleNow_0 16 rfl rfl)
theorem dX3_cycleNow_17 : decode cX3_cycleNow 17 = .ok (.getfield 112, 3) := dk_180 0 112 (dk_at dksX3_cycleNow_0 17 rfl rfl)
theorem dX3_cycleNow_20 : decode cX3_cycleNow 20 = .ok (.iload_n 1, 1) := dk_27 (dk_at dksX3_cycleNow_0 20 rfl rfl)
theorem dX3_cycleNow_21 : decode cX3_cycleNow 21 = .ok (.if_icmp .ge 23, 3) := dk_162 0 23 (dk_at dksX3_cycleNow_0 21 rfl rfl)
theorem dX3_cycleNow_24 : decode cX3_cycleNow 24 = .ok (.aload_n 2, 1) := dk_44 (dk_at dksX3_cycleNow_1 0 rfl rfl)
theorem dX3_cycleNow_25 : decode cX3_cycleNow 25 = .ok (.invokevirtual 129, 3) := dk_182 0 129 (dk_at dksX3_cycleNow_1 1 rfl rfl)
theorem dX3_cycleNow_28 : decode cX3_cycleNow 28 = .ok (.ifCond .eq 16, 3) := dk_153 0 16 (dk_at dksX3_cycleNow_1 4 rfl rfl)
theorem dX3_cycleNow_31 : decode cX3_cycleNow 31 = .ok (.aload_n 3, 1) := dk_45 (dk_at dksX3_cycleNow_1 7 rfl rfl)
theorem dX3_cycleNow_32 : decode cX3_cycleNow 32 = .ok (.aload_n 2, 1) := dk_44 (dk_at dksX3_cycleNow_1 8 rfl rfl)
theorem dX3_cycleNow_33 : decode cX3_cycleNow 33 = .ok (.getfield 112, 3) := dk_180 0 112 (dk_at dksX3_cycleNow_1 9 rfl rfl)
theorem dX3_cycleNow_36 : decode cX3_cycleNow 36 = .ok (.aload_n 2, 1) := dk_44 (dk_at dksX3_cycleNow_1 12 rfl rfl)
theorem dX3_cycleNow_37 : decode cX3_cycleNow 37 = .ok (.getfield 103, 3) := dk_180 0 103 (dk_at dksX3_cycleNow_1 13 rfl rfl)
theorem dX3_cycleNow_40 : decode cX3_cycleNow 40 = .ok (.iastore, 1) := dk_79 (dk_at dksX3_cycleNow_1 16 rfl rfl)
theorem dX3_cycleNow_41 : decode cX3_cycleNow 41 = .ok (.goto (-25), 3) := dk_167 255 231 (dk_at dksX3_cycleNow_1 17 rfl rfl)
theorem dX3_cycleNow_44 : decode cX3_cycleNow 44 = .ok (.iconst 1, 1) := dk_4 (dk_at dksX3_cycleNow_1 20 rfl rfl)
theorem dX3_cycleNow_45 : decode cX3_cycleNow 45 = .ok (.istore 4, 2) := dk_54 4 (dk_at dksX3_cycleNow_1 21 rfl rfl)
theorem dX3_cycleNow_47 : decode cX3_cycleNow 47 = .ok (.iload 4, 2) := dk_21 4 (dk_at dksX3_cycleNow_2 0 rfl rfl)
theorem dX3_cycleNow_49 : decode cX3_cycleNow 49 = .ok (.aload_n 2, 1) := dk_44 (dk_at dksX3_cycleNow_2 2 rfl rfl)
theorem dX3_cycleNow_50 : decode cX3_cycleNow 50 = .ok (.getfield 112, 3) := dk_180 0 112 (dk_at dksX3_cycleNow_2 3 rfl rfl)
theorem dX3_cycleNow_53 : decode cX3_cycleNow 53 = .ok (.if_icmp .gt 63, 3) := dk_163 0 63 (dk_at dksX3_cycleNow_2 6 rfl rfl)
theorem dX3_cycleNow_56 : decode cX3_cycleNow 56 = .ok (.iconst 0, 1) := dk_3 (dk_at dksX3_cycleNow_2 9 rfl rfl)
theorem dX3_cycleNow_57 : decode cX3_cycleNow 57 = .ok (.istore 5, 2) := dk_54 5 (dk_at dksX3_cycleNow_2 10 rfl rfl)
theorem dX3_cycleNow_59 : decode cX3_cycleNow 59 = .ok (.iload 5, 2) := dk_21 5 (dk_at dksX3_cycleNow_2 12 rfl rfl)
theorem dX3_cycleNow_61 : decode cX3_cycleNow 61 = .ok (.iload 4, 2) := dk_21 4 (dk_at dksX3_cycleNow_2 14 rfl rfl)
theorem dX3_cycleNow_63 : decode cX3_cycleNow 63 = .ok (.if_icmp .ge 47, 3) := dk_162 0 47 (dk_at dksX3_cycleNow_2 16 rfl rfl)
theorem dX3_cycleNow_66 : decode cX3_cycleNow 66 = .ok (.aload_n 3, 1) := dk_45 (dk_at dksX3_cycleNow_2 19 rfl rfl)
theorem dX3_cycleNow_67 : decode cX3_cycleNow 67 = .ok (.iload 5, 2) := dk_21 5 (dk_at dksX3_cycleNow_2 20 rfl rfl)
theorem dX3_cycleNow_69 : decode cX3_cycleNow 69 = .ok (.iaload, 1) := dk_46 (dk_at dksX3_cycleNow_2 22 rfl rfl)
theorem dX3_cycleNow_70 : decode cX3_cycleNow 70 = .ok (.aload_n 3, 1) := dk_45 (dk_at dksX3_cycleNow_2 23 rfl rfl)
theorem dX3_cycleNow_71 : decode cX3_cycleNow 71 = .ok (.iload 4, 2) := dk_21 4 (dk_at dksX3_cycleNow_3 0 rfl rfl)
theorem dX3_cycleNow_73 : decode cX3_cycleNow 73 = .ok (.iaload, 1) := dk_46 (dk_at dksX3_cycleNow_3 2 rfl rfl)
theorem dX3_cycleNow_74 : decode cX3_cycleNow 74 = .ok (.if_icmp .ne 30, 3) := dk_160 0 30 (dk_at dksX3_cycleNow_3 3 rfl rfl)
theorem dX3_cycleNow_77 : decode cX3_cycleNow 77 = .ok (.aload_n 0, 1) := dk_42 (dk_at dksX3_cycleNow_3 6 rfl rfl)
theorem dX3_cycleNow_78 : decode cX3_cycleNow 78 = .ok (.iload 5, 2) := dk_21 5 (dk_at dksX3_cycleNow_3 7 rfl rfl)
theorem dX3_cycleNow_80 : decode cX3_cycleNow 80 = .ok (.iload 4, 2) := dk_21 4 (dk_at dksX3_cycleNow_3 9 rfl rfl)
theorem dX3_cycleNow_82 : decode cX3_cycleNow 82 = .ok (.iload 5, 2) := dk_21 5 (dk_at dksX3_cycleNow_3 11 rfl rfl)
theorem dX3_cycleNow_84 : decode cX3_cycleNow 84 = .ok (.isub, 1) := dk_100 (dk_at dksX3_cycleNow_3 13 rfl rfl)
theorem dX3_cycleNow_85 : decode cX3_cycleNow 85 = .ok (.invokestatic 115, 3) := dk_184 0 115 (dk_at dksX3_cycleNow_3 14 rfl rfl)
theorem dX3_cycleNow_88 : decode cX3_cycleNow 88 = .ok (.ifCond .eq 16, 3) := dk_153 0 16 (dk_at dksX3_cycleNow_3 17 rfl rfl)
theorem dX3_cycleNow_91 : decode cX3_cycleNow 91 = .ok (.sipush 200, 3) := dk_17 0 200 (dk_at dksX3_cycleNow_3 20 rfl rfl)
theorem dX3_cycleNow_94 : decode cX3_cycleNow 94 = .ok (.iload 5, 2) := dk_21 5 (dk_at dksX3_cycleNow_4 0 rfl rfl)
theorem dX3_cycleNow_96 : decode cX3_cycleNow 96 = .ok (.imul, 1) := dk_104 (dk_at dksX3_cycleNow_4 2 rfl rfl)
theorem dX3_cycleNow_97 : decode cX3_cycleNow 97 = .ok (.iload 4, 2) := dk_21 4 (dk_at dksX3_cycleNow_4 3 rfl rfl)
theorem dX3_cycleNow_99 : decode cX3_cycleNow 99 = .ok (.iadd, 1) := dk_96 (dk_at dksX3_cycleNow_4 5 rfl rfl)
theorem dX3_cycleNow_100 : decode cX3_cycleNow 100 = .ok (.iload 5, 2) := dk_21 5 (dk_at dksX3_cycleNow_4 6 rfl rfl)
theorem dX3_cycleNow_102 : decode cX3_cycleNow 102 = .ok (.isub, 1) := dk_100 (dk_at dksX3_cycleNow_4 8 rfl rfl)
theorem dX3_cycleNow_103 : decode cX3_cycleNow 103 = .ok (.ireturn, 1) := dk_172 (dk_at dksX3_cycleNow_4 9 rfl rfl)
theorem dX3_cycleNow_104 : decode cX3_cycleNow 104 = .ok (.iinc 5 1, 3) := dk_132 5 1 (dk_at dksX3_cycleNow_4 10 rfl rfl)
theorem dX3_cycleNow_107 : decode cX3_cycleNow 107 = .ok (.goto (-48), 3) := dk_167 255 208 (dk_at dksX3_cycleNow_4 13 rfl rfl)
theorem dX3_cycleNow_110 : decode cX3_cycleNow 110 = .ok (.iinc 4 1, 3) := dk_132 4 1 (dk_at dksX3_cycleNow_4 16 rfl rfl)
theorem dX3_cycleNow_113 : decode cX3_cycleNow 113 = .ok (.goto (-66), 3) := dk_167 255 190 (dk_at dksX3_cycleNow_4 19 rfl rfl)
theorem dX3_cycleNow_116 : decode cX3_cycleNow 116 = .ok (.iconst (-1), 1) := dk_2 (dk_at dksX3_cycleNow_4 22 rfl rfl)
theorem dX3_cycleNow_117 : decode cX3_cycleNow 117 = .ok (.ireturn, 1) := dk_172 (dk_at dksX3_cycleNow_4 23 rfl rfl)
abbrev cX3_backNow : ByteArray := prog_19_method_19_code
def yX3_backNow : MethodName := ⟨RX3, "backNow", "(LHaltingaleModel$Machine;)I"⟩
def dkwX3_backNow_3 : List UInt8 := [167, 255, 193, 2, 172]
abbrev dktX3_backNow_3 : List UInt8 := dkwX3_backNow_3 ++ []
def dkwX3_backNow_2 : List UInt8 := [180, 0, 112, 28, 160, 0, 14, 45, 182, 0, 109, 154, 0, 7, 28, 167, 0, 4, 2, 172, 132, 2, 1]
abbrev dktX3_backNow_2 : List UInt8 := dkwX3_backNow_2 ++ dktX3_backNow_3
def dkwX3_backNow_1 : List UInt8 := [42, 43, 184, 0, 151, 76, 43, 182, 0, 155, 154, 0, 6, 167, 0, 30, 42, 28, 182, 0, 81, 78, 45]
abbrev dktX3_backNow_1 : List UInt8 := dkwX3_backNow_1 ++ dktX3_backNow_2
def dkwX3_backNow_0 : List UInt8 := [42, 184, 0, 147, 76, 4, 61, 28, 16, 7, 162, 0, 63, 43, 182, 0, 23, 16, 24, 164, 0, 5, 2, 172]
abbrev dktX3_backNow_0 : List UInt8 := dkwX3_backNow_0 ++ dktX3_backNow_1
theorem dksX3_backNow_0 : cX3_backNow.data.toList.drop 0 = dktX3_backNow_0 := by decide +kernel
theorem dksX3_backNow_1 : cX3_backNow.data.toList.drop 24 = dktX3_backNow_1 := dk_seg dksX3_backNow_0 24 rfl rfl
theorem dksX3_backNow_2 : cX3_backNow.data.toList.drop 47 = dktX3_backNow_2 := dk_seg dksX3_backNow_1 23 rfl rfl
theorem dksX3_backNow_3 : cX3_backNow.data.toList.drop 70 = dktX3_backNow_3 := dk_seg dksX3_backNow_2 23 rfl rfl
theorem dX3_backNow_0 : decode cX3_backNow 0 = .ok (.aload_n 0, 1) := dk_42 (dk_at dksX3_backNow_0 0 rfl rfl)
theorem dX3_backNow_1 : decode cX3_backNow 1 = .ok (.invokestatic 147, 3) := dk_184 0 147 (dk_at dksX3_backNow_0 1 rfl rfl)
theorem dX3_backNow_4 : decode cX3_backNow 4 = .ok (.astore_n 1, 1) := dk_76 (dk_at dksX3_backNow_0 4 rfl rfl)
theorem dX3_backNow_5 : decode cX3_backNow 5 = .ok (.iconst 1, 1) := dk_4 (dk_at dksX3_backNow_0 5 rfl rfl)
theorem dX3_backNow_6 : decode cX3_backNow 6 = .ok (.istore_n 2, 1) := dk_61 (dk_at dksX3_backNow_0 6 rfl rfl)
theorem dX3_backNow_7 : decode cX3_backNow 7 = .ok (.iload_n 2, 1) := dk_28 (dk_at dksX3_backNow_0 7 rfl rfl)
theorem dX3_backNow_8 : decode cX3_backNow 8 = .ok (.bipush 7, 2) := dk_16 7 (dk_at dksX3_backNow_0 8 rfl rfl)
theorem dX3_backNow_10 : decode cX3_backNow 10 = .ok (.if_icmp .ge 63, 3) := dk_162 0 63 (dk_at dksX3_backNow_0 10 rfl rfl)
theorem dX3_backNow_13 : decode cX3_backNow 13 = .ok (.aload_n 1, 1) := dk_43 (dk_at dksX3_backNow_0 13 rfl rfl)
theorem dX3_backNow_14 : decode cX3_backNow 14 = .ok (.invokevirtual 23, 3) := dk_182 0 23 (dk_at dksX3_backNow_0 14 rfl rfl)
theorem dX3_backNow_17 : decode cX3_backNow 17 = .ok (.bipush 24, 2) := dk_16 24 (dk_at dksX3_backNow_0 17 rfl rfl)
theorem dX3_backNow_19 : decode cX3_backNow 19 = .ok (.if_icmp .le 5, 3) := dk_164 0 5 (dk_at dksX3_backNow_0 19 rfl rfl)
theorem dX3_backNow_22 : decode cX3_backNow 22 = .ok (.iconst (-1), 1) := dk_2 (dk_at dksX3_backNow_0 22 rfl rfl)
theorem dX3_backNow_23 : decode cX3_backNow 23 = .ok (.ireturn, 1) := dk_172 (dk_at dksX3_backNow_0 23 rfl rfl)
theorem dX3_backNow_24 : decode cX3_backNow 24 = .ok (.aload_n 0, 1) := dk_42 (dk_at dksX3_backNow_1 0 rfl rfl)
theorem dX3_backNow_25 : decode cX3_backNow 25 = .ok (.aload_n 1, 1) := dk_43 (dk_at dksX3_backNow_1 1 rfl rfl)
theorem dX3_backNow_26 : decode cX3_backNow 26 = .ok (.invokestatic 151, 3) := dk_184 0 151 (dk_at dksX3_backNow_1 2 rfl rfl)
theorem dX3_backNow_29 : decode cX3_backNow 29 = .ok (.astore_n 1, 1) := dk_76 (dk_at dksX3_backNow_1 5 rfl rfl)
theorem dX3_backNow_30 : decode cX3_backNow 30 = .ok (.aload_n 1, 1) := dk_43 (dk_at dksX3_backNow_1 6 rfl rfl)
theorem dX3_backNow_31 : decode cX3_backNow 31 = .ok (.invokevirtual 155, 3) := dk_182 0 155 (dk_at dksX3_backNow_1 7 rfl rfl)
theorem dX3_backNow_34 : decode cX3_backNow 34 = .ok (.ifCond .ne 6, 3) := dk_154 0 6 (dk_at dksX3_backNow_1 10 rfl rfl)
theorem dX3_backNow_37 : decode cX3_backNow 37 = .ok (.goto 30, 3) := dk_167 0 30 (dk_at dksX3_backNow_1 13 rfl rfl)
theorem dX3_backNow_40 : decode cX3_backNow 40 = .ok (.aload_n 0, 1) := dk_42 (dk_at dksX3_backNow_1 16 rfl rfl)
theorem dX3_backNow_41 : decode cX3_backNow 41 = .ok (.iload_n 2, 1) := dk_28 (dk_at dksX3_backNow_1 17 rfl rfl)
theorem dX3_backNow_42 : decode cX3_backNow 42 = .ok (.invokevirtual 81, 3) := dk_182 0 81 (dk_at dksX3_backNow_1 18 rfl rfl)
theorem dX3_backNow_45 : decode cX3_backNow 45 = .ok (.astore_n 3, 1) := dk_78 (dk_at dksX3_backNow_1 21 rfl rfl)
theorem dX3_backNow_46 : decode cX3_backNow 46 = .ok (.aload_n 3, 1) := dk_45 (dk_at dksX3_backNow_1 22 rfl rfl)
theorem dX3_backNow_47 : decode cX3_backNow 47 = .ok (.getfield 112, 3) := dk_180 0 112 (dk_at dksX3_backNow_2 0 rfl rfl)
theorem dX3_backNow_50 : decode cX3_backNow 50 = .ok (.iload_n 2, 1) := dk_28 (dk_at dksX3_backNow_2 3 rfl rfl)
theorem dX3_backNow_51 : decode cX3_backNow 51 = .ok (.if_icmp .ne 14, 3) := dk_160 0 14 (dk_at dksX3_backNow_2 4 rfl rfl)
theorem dX3_backNow_54 : decode cX3_backNow 54 = .ok (.aload_n 3, 1) := dk_45 (dk_at dksX3_backNow_2 7 rfl rfl)
theorem dX3_backNow_55 : decode cX3_backNow 55 = .ok (.invokevirtual 109, 3) := dk_182 0 109 (dk_at dksX3_backNow_2 8 rfl rfl)
theorem dX3_backNow_58 : decode cX3_backNow 58 = .ok (.ifCond .ne 7, 3) := dk_154 0 7 (dk_at dksX3_backNow_2 11 rfl rfl)
theorem dX3_backNow_61 : decode cX3_backNow 61 = .ok (.iload_n 2, 1) := dk_28 (dk_at dksX3_backNow_2 14 rfl rfl)
theorem dX3_backNow_62 : decode cX3_backNow 62 = .ok (.goto 4, 3) := dk_167 0 4 (dk_at dksX3_backNow_2 15 rfl rfl)
theorem dX3_backNow_65 : decode cX3_backNow 65 = .ok (.iconst (-1), 1) := dk_2 (dk_at dksX3_backNow_2 18 rfl rfl)
theorem dX3_backNow_66 : decode cX3_backNow 66 = .ok (.ireturn, 1) := dk_172 (dk_at dksX3_backNow_2 19 rfl rfl)
theorem dX3_backNow_67 : decode cX3_backNow 67 = .ok (.iinc 2 1, 3) := dk_132 2 1 (dk_at dksX3_backNow_2 20 rfl rfl)
theorem dX3_backNow_70 : decode cX3_backNow 70 = .ok (.goto (-63), 3) := dk_167 255 193 (dk_at dksX3_backNow_3 0 rfl rfl)
theorem dX3_backNow_73 : decode cX3_backNow 73 = .ok (.iconst (-1), 1) := dk_2 (dk_at dksX3_backNow_3 3 rfl rfl)
theorem dX3_backNow_74 : decode cX3_backNow 74 = .ok (.ireturn, 1) := dk_172 (dk_at dksX3_backNow_3 4 rfl rfl)
abbrev cX3_gramNow : ByteArray := prog_19_method_26_code
def yX3_gramNow : MethodName := ⟨RX3, "gramNow", "(LHaltingaleModel$Machine;)I"⟩
def dkwX3_gramNow_1 : List UInt8 := [172]
abbrev dktX3_gramNow_1 : List UInt8 := dkwX3_gramNow_1 ++ []
def dkwX3_gramNow_0 : List UInt8 := [4, 60, 27, 7, 162, 0, 19, 42, 27, 184, 0, 123, 153, 0, 5, 27, 172, 132, 1, 1, 167, 255, 238, 2]
abbrev dktX3_gramNow_0 : List UInt8 := dkwX3_gramNow_0 ++ dktX3_gramNow_1
theorem dksX3_gramNow_0 : cX3_gramNow.data.toList.drop 0 = dktX3_gramNow_0 := by decide +kernel
theorem dksX3_gramNow_1 : cX3_gramNow.data.toList.drop 24 = dktX3_gramNow_1 := dk_seg dksX3_gramNow_0 24 rfl rfl
theorem dX3_gramNow_0 : decode cX3_gramNow 0 = .ok (.iconst 1, 1) := dk_4 (dk_at dksX3_gramNow_0 0 rfl rfl)
theorem dX3_gramNow_1 : decode cX3_gramNow 1 = .ok (.istore_n 1, 1) := dk_60 (dk_at dksX3_gramNow_0 1 rfl rfl)
theorem dX3_gramNow_2 : decode cX3_gramNow 2 = .ok (.iload_n 1, 1) := dk_27 (dk_at dksX3_gramNow_0 2 rfl rfl)
theorem dX3_gramNow_3 : decode cX3_gramNow 3 = .ok (.iconst 4, 1) := dk_7 (dk_at dksX3_gramNow_0 3 rfl rfl)
theorem dX3_gramNow_4 : decode cX3_gramNow 4 = .ok (.if_icmp .ge 19, 3) := dk_162 0 19 (dk_at dksX3_gramNow_0 4 rfl rfl)
theorem dX3_gramNow_7 : decode cX3_gramNow 7 = .ok (.aload_n 0, 1) := dk_42 (dk_at dksX3_gramNow_0 7 rfl rfl)
theorem dX3_gramNow_8 : decode cX3_gramNow 8 = .ok (.iload_n 1, 1) := dk_27 (dk_at dksX3_gramNow_0 8 rfl rfl)
theorem dX3_gramNow_9 : decode cX3_gramNow 9 = .ok (.invokestatic 123, 3) := dk_184 0 123 (dk_at dksX3_gramNow_0 9 rfl rfl)
theorem dX3_gramNow_12 : decode cX3_gramNow 12 = .ok (.ifCond .eq 5, 3) := dk_153 0 5 (dk_at dksX3_gramNow_0 12 rfl rfl)
theorem dX3_gramNow_15 : decode cX3_gramNow 15 = .ok (.iload_n 1, 1) := dk_27 (dk_at dksX3_gramNow_0 15 rfl rfl)
theorem dX3_gramNow_16 : decode cX3_gramNow 16 = .ok (.ireturn, 1) := dk_172 (dk_at dksX3_gramNow_0 16 rfl rfl)
theorem dX3_gramNow_17 : decode cX3_gramNow 17 = .ok (.iinc 1 1, 3) := dk_132 1 1 (dk_at dksX3_gramNow_0 17 rfl rfl)
theorem dX3_gramNow_20 : decode cX3_gramNow 20 = .ok (.goto (-18), 3) := dk_167 255 238 (dk_at dksX3_gramNow_0 20 rfl rfl)
theorem dX3_gramNow_23 : decode cX3_gramNow 23 = .ok (.iconst (-1), 1) := dk_2 (dk_at dksX3_gramNow_0 23 rfl rfl)
theorem dX3_gramNow_24 : decode cX3_gramNow 24 = .ok (.ireturn, 1) := dk_172 (dk_at dksX3_gramNow_1 0 rfl rfl)
abbrev cX3_cell : ByteArray := prog_19_method_30_code
def yX3_cell : MethodName := ⟨RX3, "cell", "(IIII)I"⟩
def dkwX3_cell_3 : List UInt8 := [192, 0, 35, 28, 29, 21, 4, 184, 0, 211, 167, 0, 8, 42, 5, 182, 0, 31, 172]
abbrev dktX3_cell_3 : List UInt8 := dkwX3_cell_3 ++ []
def dkwX3_cell_2 : List UInt8 := [4, 182, 0, 31, 172, 21, 4, 3, 5, 184, 0, 27, 153, 0, 24, 42, 180, 0, 10, 27, 182, 0, 48]
abbrev dktX3_cell_2 : List UInt8 := dkwX3_cell_2 ++ dktX3_cell_3
def dkwX3_cell_1 : List UInt8 := [192, 0, 35, 180, 0, 52, 4, 100, 184, 0, 27, 153, 0, 12, 29, 3, 4, 184, 0, 27, 154, 0, 9, 42]
abbrev dktX3_cell_1 : List UInt8 := dkwX3_cell_1 ++ dktX3_cell_2
def dkwX3_cell_0 : List UInt8 := [42, 3, 181, 0, 19, 42, 27, 182, 0, 44, 153, 0, 36, 28, 3, 42, 180, 0, 10, 27, 182, 0, 48]
abbrev dktX3_cell_0 : List UInt8 := dkwX3_cell_0 ++ dktX3_cell_1
theorem dksX3_cell_0 : cX3_cell.data.toList.drop 0 = dktX3_cell_0 := by decide +kernel
theorem dksX3_cell_1 : cX3_cell.data.toList.drop 23 = dktX3_cell_1 := dk_seg dksX3_cell_0 23 rfl rfl
theorem dksX3_cell_2 : cX3_cell.data.toList.drop 47 = dktX3_cell_2 := dk_seg dksX3_cell_1 24 rfl rfl
theorem dksX3_cell_3 : cX3_cell.data.toList.drop 70 = dktX3_cell_3 := dk_seg dksX3_cell_2 23 rfl rfl
theorem dX3_cell_0 : decode cX3_cell 0 = .ok (.aload_n 0, 1) := dk_42 (dk_at dksX3_cell_0 0 rfl rfl)
theorem dX3_cell_1 : decode cX3_cell 1 = .ok (.iconst 0, 1) := dk_3 (dk_at dksX3_cell_0 1 rfl rfl)
theorem dX3_cell_2 : decode cX3_cell 2 = .ok (.putfield 19, 3) := dk_181 0 19 (dk_at dksX3_cell_0 2 rfl rfl)
theorem dX3_cell_5 : decode cX3_cell 5 = .ok (.aload_n 0, 1) := dk_42 (dk_at dksX3_cell_0 5 rfl rfl)
theorem dX3_cell_6 : decode cX3_cell 6 = .ok (.iload_n 1, 1) := dk_27 (dk_at dksX3_cell_0 6 rfl rfl)
theorem dX3_cell_7 : decode cX3_cell 7 = .ok (.invokevirtual 44, 3) := dk_182 0 44 (dk_at dksX3_cell_0 7 rfl rfl)
theorem dX3_cell_10 : decode cX3_cell 10 = .ok (.ifCond .eq 36, 3) := dk_153 0 36 (dk_at dksX3_cell_0 10 rfl rfl)
theorem dX3_cell_13 : decode cX3_cell 13 = .ok (.iload_n 2, 1) := dk_28 (dk_at dksX3_cell_0 13 rfl rfl)
theorem dX3_cell_14 : decode cX3_cell 14 = .ok (.iconst 0, 1) := dk_3 (dk_at dksX3_cell_0 14 rfl rfl)
theorem dX3_cell_15 : decode cX3_cell 15 = .ok (.aload_n 0, 1) := dk_42 (dk_at dksX3_cell_0 15 rfl rfl)
theorem dX3_cell_16 : decode cX3_cell 16 = .ok (.getfield 10, 3) := dk_180 0 10 (dk_at dksX3_cell_0 16 rfl rfl)
theorem dX3_cell_19 : decode cX3_cell 19 = .ok (.iload_n 1, 1) := dk_27 (dk_at dksX3_cell_0 19 rfl rfl)
theorem dX3_cell_20 : decode cX3_cell 20 = .ok (.invokevirtual 48, 3) := dk_182 0 48 (dk_at dksX3_cell_0 20 rfl rfl)
theorem dX3_cell_23 : decode cX3_cell 23 = .ok (.checkcast 35, 3) := dk_192 0 35 (dk_at dksX3_cell_1 0 rfl rfl)
theorem dX3_cell_26 : decode cX3_cell 26 = .ok (.getfield 52, 3) := dk_180 0 52 (dk_at dksX3_cell_1 3 rfl rfl)
theorem dX3_cell_29 : decode cX3_cell 29 = .ok (.iconst 1, 1) := dk_4 (dk_at dksX3_cell_1 6 rfl rfl)
theorem dX3_cell_30 : decode cX3_cell 30 = .ok (.isub, 1) := dk_100 (dk_at dksX3_cell_1 7 rfl rfl)
theorem dX3_cell_31 : decode cX3_cell 31 = .ok (.invokestatic 27, 3) := dk_184 0 27 (dk_at dksX3_cell_1 8 rfl rfl)
theorem dX3_cell_34 : decode cX3_cell 34 = .ok (.ifCond .eq 12, 3) := dk_153 0 12 (dk_at dksX3_cell_1 11 rfl rfl)
theorem dX3_cell_37 : decode cX3_cell 37 = .ok (.iload_n 3, 1) := dk_29 (dk_at dksX3_cell_1 14 rfl rfl)
theorem dX3_cell_38 : decode cX3_cell 38 = .ok (.iconst 0, 1) := dk_3 (dk_at dksX3_cell_1 15 rfl rfl)
theorem dX3_cell_39 : decode cX3_cell 39 = .ok (.iconst 1, 1) := dk_4 (dk_at dksX3_cell_1 16 rfl rfl)
theorem dX3_cell_40 : decode cX3_cell 40 = .ok (.invokestatic 27, 3) := dk_184 0 27 (dk_at dksX3_cell_1 17 rfl rfl)
theorem dX3_cell_43 : decode cX3_cell 43 = .ok (.ifCond .ne 9, 3) := dk_154 0 9 (dk_at dksX3_cell_1 20 rfl rfl)
theorem dX3_cell_46 : decode cX3_cell 46 = .ok (.aload_n 0, 1) := dk_42 (dk_at dksX3_cell_1 23 rfl rfl)
theorem dX3_cell_47 : decode cX3_cell 47 = .ok (.iconst 1, 1) := dk_4 (dk_at dksX3_cell_2 0 rfl rfl)
theorem dX3_cell_48 : decode cX3_cell 48 = .ok (.invokevirtual 31, 3) := dk_182 0 31 (dk_at dksX3_cell_2 1 rfl rfl)
theorem dX3_cell_51 : decode cX3_cell 51 = .ok (.ireturn, 1) := dk_172 (dk_at dksX3_cell_2 4 rfl rfl)
theorem dX3_cell_52 : decode cX3_cell 52 = .ok (.iload 4, 2) := dk_21 4 (dk_at dksX3_cell_2 5 rfl rfl)
theorem dX3_cell_54 : decode cX3_cell 54 = .ok (.iconst 0, 1) := dk_3 (dk_at dksX3_cell_2 7 rfl rfl)
theorem dX3_cell_55 : decode cX3_cell 55 = .ok (.iconst 2, 1) := dk_5 (dk_at dksX3_cell_2 8 rfl rfl)
theorem dX3_cell_56 : decode cX3_cell 56 = .ok (.invokestatic 27, 3) := dk_184 0 27 (dk_at dksX3_cell_2 9 rfl rfl)
theorem dX3_cell_59 : decode cX3_cell 59 = .ok (.ifCond .eq 24, 3) := dk_153 0 24 (dk_at dksX3_cell_2 12 rfl rfl)
theorem dX3_cell_62 : decode cX3_cell 62 = .ok (.aload_n 0, 1) := dk_42 (dk_at dksX3_cell_2 15 rfl rfl)
theorem dX3_cell_63 : decode cX3_cell 63 = .ok (.getfield 10, 3) := dk_180 0 10 (dk_at dksX3_cell_2 16 rfl rfl)
theorem dX3_cell_66 : decode cX3_cell 66 = .ok (.iload_n 1, 1) := dk_27 (dk_at dksX3_cell_2 19 rfl rfl)
theorem dX3_cell_67 : decode cX3_cell 67 = .ok (.invokevirtual 48, 3) := dk_182 0 48 (dk_at dksX3_cell_2 20 rfl rfl)
theorem dX3_cell_70 : decode cX3_cell 70 = .ok (.checkcast 35, 3) := dk_192 0 35 (dk_at dksX3_cell_3 0 rfl rfl)
theorem dX3_cell_73 : decode cX3_cell 73 = .ok (.iload_n 2, 1) := dk_28 (dk_at dksX3_cell_3 3 rfl rfl)
theorem dX3_cell_74 : decode cX3_cell 74 = .ok (.iload_n 3, 1) := dk_29 (dk_at dksX3_cell_3 4 rfl rfl)
theorem dX3_cell_75 : decode cX3_cell 75 = .ok (.iload 4, 2) := dk_21 4 (dk_at dksX3_cell_3 5 rfl rfl)
theorem dX3_cell_77 : decode cX3_cell 77 = .ok (.invokestatic 211, 3) := dk_184 0 211 (dk_at dksX3_cell_3 7 rfl rfl)
theorem dX3_cell_80 : decode cX3_cell 80 = .ok (.goto 8, 3) := dk_167 0 8 (dk_at dksX3_cell_3 10 rfl rfl)
theorem dX3_cell_83 : decode cX3_cell 83 = .ok (.aload_n 0, 1) := dk_42 (dk_at dksX3_cell_3 13 rfl rfl)
theorem dX3_cell_84 : decode cX3_cell 84 = .ok (.iconst 2, 1) := dk_5 (dk_at dksX3_cell_3 14 rfl rfl)
theorem dX3_cell_85 : decode cX3_cell 85 = .ok (.invokevirtual 31, 3) := dk_182 0 31 (dk_at dksX3_cell_3 15 rfl rfl)
theorem dX3_cell_88 : decode cX3_cell 88 = .ok (.ireturn, 1) := dk_172 (dk_at dksX3_cell_3 18 rfl rfl)
abbrev cX3_cellNow : ByteArray := prog_19_method_29_code
def yX3_cellNow : MethodName := ⟨RX3, "cellNow", "(LHaltingaleModel$Machine;III)I"⟩
def dkwX3_cellNow_1 : List UInt8 := [46, 184, 0, 141, 167, 0, 7, 25, 4, 29, 46, 172]
abbrev dktX3_cellNow_1 : List UInt8 := dkwX3_cellNow_1 ++ []
def dkwX3_cellNow_0 : List UInt8 := [42, 27, 28, 182, 0, 55, 58, 4, 25, 4, 199, 0, 5, 2, 172, 29, 4, 160, 0, 14, 3, 25, 4, 4]
abbrev dktX3_cellNow_0 : List UInt8 := dkwX3_cellNow_0 ++ dktX3_cellNow_1
theorem dksX3_cellNow_0 : cX3_cellNow.data.toList.drop 0 = dktX3_cellNow_0 := by decide +kernel
theorem dksX3_cellNow_1 : cX3_cellNow.data.toList.drop 24 = dktX3_cellNow_1 := dk_seg dksX3_cellNow_0 24 rfl rfl
theorem dX3_cellNow_0 : decode cX3_cellNow 0 = .ok (.aload_n 0, 1) := dk_42 (dk_at dksX3_cellNow_0 0 rfl rfl)
theorem dX3_cellNow_1 : decode cX3_cellNow 1 = .ok (.iload_n 1, 1) := dk_27 (dk_at dksX3_cellNow_0 1 rfl rfl)
theorem dX3_cellNow_2 : decode cX3_cellNow 2 = .ok (.iload_n 2, 1) := dk_28 (dk_at dksX3_cellNow_0 2 rfl rfl)
theorem dX3_cellNow_3 : decode cX3_cellNow 3 = .ok (.invokevirtual 55, 3) := dk_182 0 55 (dk_at dksX3_cellNow_0 3 rfl rfl)
theorem dX3_cellNow_6 : decode cX3_cellNow 6 = .ok (.astore 4, 2) := dk_58 4 (dk_at dksX3_cellNow_0 6 rfl rfl)
theorem dX3_cellNow_8 : decode cX3_cellNow 8 = .ok (.aload 4, 2) := dk_25 4 (dk_at dksX3_cellNow_0 8 rfl rfl)
theorem dX3_cellNow_10 : decode cX3_cellNow 10 = .ok (.ifnonnull 5, 3) := dk_199 0 5 (dk_at dksX3_cellNow_0 10 rfl rfl)
theorem dX3_cellNow_13 : decode cX3_cellNow 13 = .ok (.iconst (-1), 1) := dk_2 (dk_at dksX3_cellNow_0 13 rfl rfl)
theorem dX3_cellNow_14 : decode cX3_cellNow 14 = .ok (.ireturn, 1) := dk_172 (dk_at dksX3_cellNow_0 14 rfl rfl)
theorem dX3_cellNow_15 : decode cX3_cellNow 15 = .ok (.iload_n 3, 1) := dk_29 (dk_at dksX3_cellNow_0 15 rfl rfl)
theorem dX3_cellNow_16 : decode cX3_cellNow 16 = .ok (.iconst 1, 1) := dk_4 (dk_at dksX3_cellNow_0 16 rfl rfl)
theorem dX3_cellNow_17 : decode cX3_cellNow 17 = .ok (.if_icmp .ne 14, 3) := dk_160 0 14 (dk_at dksX3_cellNow_0 17 rfl rfl)
theorem dX3_cellNow_20 : decode cX3_cellNow 20 = .ok (.iconst 0, 1) := dk_3 (dk_at dksX3_cellNow_0 20 rfl rfl)
theorem dX3_cellNow_21 : decode cX3_cellNow 21 = .ok (.aload 4, 2) := dk_25 4 (dk_at dksX3_cellNow_0 21 rfl rfl)
theorem dX3_cellNow_23 : decode cX3_cellNow 23 = .ok (.iconst 1, 1) := dk_4 (dk_at dksX3_cellNow_0 23 rfl rfl)
theorem dX3_cellNow_24 : decode cX3_cellNow 24 = .ok (.iaload, 1) := dk_46 (dk_at dksX3_cellNow_1 0 rfl rfl)
theorem dX3_cellNow_25 : decode cX3_cellNow 25 = .ok (.invokestatic 141, 3) := dk_184 0 141 (dk_at dksX3_cellNow_1 1 rfl rfl)
theorem dX3_cellNow_28 : decode cX3_cellNow 28 = .ok (.goto 7, 3) := dk_167 0 7 (dk_at dksX3_cellNow_1 4 rfl rfl)
theorem dX3_cellNow_31 : decode cX3_cellNow 31 = .ok (.aload 4, 2) := dk_25 4 (dk_at dksX3_cellNow_1 7 rfl rfl)
theorem dX3_cellNow_33 : decode cX3_cellNow 33 = .ok (.iload_n 3, 1) := dk_29 (dk_at dksX3_cellNow_1 9 rfl rfl)
theorem dX3_cellNow_34 : decode cX3_cellNow 34 = .ok (.iaload, 1) := dk_46 (dk_at dksX3_cellNow_1 10 rfl rfl)
theorem dX3_cellNow_35 : decode cX3_cellNow 35 = .ok (.ireturn, 1) := dk_172 (dk_at dksX3_cellNow_1 11 rfl rfl)
abbrev cX3_ofMachine : ByteArray := prog_19_method_32_code
def yX3_ofMachine : MethodName := ⟨RX3, "ofMachine", "(II)I"⟩
def dkwX3_ofMachine_2 : List UInt8 := [167, 0, 8, 42, 5, 182, 0, 31, 172]
abbrev dktX3_ofMachine_2 : List UInt8 := dkwX3_ofMachine_2 ++ []
def dkwX3_ofMachine_1 : List UInt8 := [184, 0, 27, 153, 0, 22, 42, 42, 180, 0, 10, 27, 182, 0, 48, 192, 0, 35, 28, 182, 0, 221]
abbrev dktX3_ofMachine_1 : List UInt8 := dkwX3_ofMachine_1 ++ dktX3_ofMachine_2
def dkwX3_ofMachine_0 : List UInt8 := [42, 3, 181, 0, 19, 42, 27, 182, 0, 44, 154, 0, 9, 42, 4, 182, 0, 31, 172, 28, 3, 16, 8]
abbrev dktX3_ofMachine_0 : List UInt8 := dkwX3_ofMachine_0 ++ dktX3_ofMachine_1
theorem dksX3_ofMachine_0 : cX3_ofMachine.data.toList.drop 0 = dktX3_ofMachine_0 := by decide +kernel
theorem dksX3_ofMachine_1 : cX3_ofMachine.data.toList.drop 23 = dktX3_ofMachine_1 := dk_seg dksX3_ofMachine_0 23 rfl rfl
theorem dksX3_ofMachine_2 : cX3_ofMachine.data.toList.drop 45 = dktX3_ofMachine_2 := dk_seg dksX3_ofMachine_1 22 rfl rfl
theorem dX3_ofMachine_0 : decode cX3_ofMachine 0 = .ok (.aload_n 0, 1) := dk_42 (dk_at dksX3_ofMachine_0 0 rfl rfl)
theorem dX3_ofMachine_1 : decode cX3_ofMachine 1 = .ok (.iconst 0, 1) := dk_3 (dk_at dksX3_ofMachine_0 1 rfl rfl)
theorem dX3_ofMachine_2 : decode cX3_ofMachine 2 = .ok (.putfield 19, 3) := dk_181 0 19 (dk_at dksX3_ofMachine_0 2 rfl rfl)
theorem dX3_ofMachine_5 : decode cX3_ofMachine 5 = .ok (.aload_n 0, 1) := dk_42 (dk_at dksX3_ofMachine_0 5 rfl rfl)
theorem dX3_ofMachine_6 : decode cX3_ofMachine 6 = .ok (.iload_n 1, 1) := dk_27 (dk_at dksX3_ofMachine_0 6 rfl rfl)
theorem dX3_ofMachine_7 : decode cX3_ofMachine 7 = .ok (.invokevirtual 44, 3) := dk_182 0 44 (dk_at dksX3_ofMachine_0 7 rfl rfl)
theorem dX3_ofMachine_10 : decode cX3_ofMachine 10 = .ok (.ifCond .ne 9, 3) := dk_154 0 9 (dk_at dksX3_ofMachine_0 10 rfl rfl)
theorem dX3_ofMachine_13 : decode cX3_ofMachine 13 = .ok (.aload_n 0, 1) := dk_42 (dk_at dksX3_ofMachine_0 13 rfl rfl)
theorem dX3_ofMachine_14 : decode cX3_ofMachine 14 = .ok (.iconst 1, 1) := dk_4 (dk_at dksX3_ofMachine_0 14 rfl rfl)
theorem dX3_ofMachine_15 : decode cX3_ofMachine 15 = .ok (.invokevirtual 31, 3) := dk_182 0 31 (dk_at dksX3_ofMachine_0 15 rfl rfl)
theorem dX3_ofMachine_18 : decode cX3_ofMachine 18 = .ok (.ireturn, 1) := dk_172 (dk_at dksX3_ofMachine_0 18 rfl rfl)
theorem dX3_ofMachine_19 : decode cX3_ofMachine 19 = .ok (.iload_n 2, 1) := dk_28 (dk_at dksX3_ofMachine_0 19 rfl rfl)
theorem dX3_ofMachine_20 : decode cX3_ofMachine 20 = .ok (.iconst 0, 1) := dk_3 (dk_at dksX3_ofMachine_0 20 rfl rfl)
theorem dX3_ofMachine_21 : decode cX3_ofMachine 21 = .ok (.bipush 8, 2) := dk_16 8 (dk_at dksX3_ofMachine_0 21 rfl rfl)
theorem dX3_ofMachine_23 : decode cX3_ofMachine 23 = .ok (.invokestatic 27, 3) := dk_184 0 27 (dk_at dksX3_ofMachine_1 0 rfl rfl)
theorem dX3_ofMachine_26 : decode cX3_ofMachine 26 = .ok (.ifCond .eq 22, 3) := dk_153 0 22 (dk_at dksX3_ofMachine_1 3 rfl rfl)
theorem dX3_ofMachine_29 : decode cX3_ofMachine 29 = .ok (.aload_n 0, 1) := dk_42 (dk_at dksX3_ofMachine_1 6 rfl rfl)
theorem dX3_ofMachine_30 : decode cX3_ofMachine 30 = .ok (.aload_n 0, 1) := dk_42 (dk_at dksX3_ofMachine_1 7 rfl rfl)
theorem dX3_ofMachine_31 : decode cX3_ofMachine 31 = .ok (.getfield 10, 3) := dk_180 0 10 (dk_at dksX3_ofMachine_1 8 rfl rfl)
theorem dX3_ofMachine_34 : decode cX3_ofMachine 34 = .ok (.iload_n 1, 1) := dk_27 (dk_at dksX3_ofMachine_1 11 rfl rfl)
theorem dX3_ofMachine_35 : decode cX3_ofMachine 35 = .ok (.invokevirtual 48, 3) := dk_182 0 48 (dk_at dksX3_ofMachine_1 12 rfl rfl)
theorem dX3_ofMachine_38 : decode cX3_ofMachine 38 = .ok (.checkcast 35, 3) := dk_192 0 35 (dk_at dksX3_ofMachine_1 15 rfl rfl)
theorem dX3_ofMachine_41 : decode cX3_ofMachine 41 = .ok (.iload_n 2, 1) := dk_28 (dk_at dksX3_ofMachine_1 18 rfl rfl)
theorem dX3_ofMachine_42 : decode cX3_ofMachine 42 = .ok (.invokevirtual 221, 3) := dk_182 0 221 (dk_at dksX3_ofMachine_1 19 rfl rfl)
theorem dX3_ofMachine_45 : decode cX3_ofMachine 45 = .ok (.goto 8, 3) := dk_167 0 8 (dk_at dksX3_ofMachine_2 0 rfl rfl)
theorem dX3_ofMachine_48 : decode cX3_ofMachine 48 = .ok (.aload_n 0, 1) := dk_42 (dk_at dksX3_ofMachine_2 3 rfl rfl)
theorem dX3_ofMachine_49 : decode cX3_ofMachine 49 = .ok (.iconst 2, 1) := dk_5 (dk_at dksX3_ofMachine_2 4 rfl rfl)
theorem dX3_ofMachine_50 : decode cX3_ofMachine 50 = .ok (.invokevirtual 31, 3) := dk_182 0 31 (dk_at dksX3_ofMachine_2 5 rfl rfl)
theorem dX3_ofMachine_53 : decode cX3_ofMachine 53 = .ok (.ireturn, 1) := dk_172 (dk_at dksX3_ofMachine_2 8 rfl rfl)
abbrev cX3_ofMachineNow : ByteArray := prog_19_method_31_code
def yX3_ofMachineNow : MethodName := ⟨RX3, "ofMachineNow", "(LHaltingaleModel$Machine;I)I"⟩
def dkwX3_ofMachineNow_4 : List UInt8 := [164, 0, 14, 45, 182, 0, 109, 154, 0, 7, 2, 167, 0, 7, 25, 4, 28, 46, 172]
abbrev dktX3_ofMachineNow_4 : List UInt8 := dkwX3_ofMachineNow_4 ++ []
def dkwX3_ofMachineNow_3 : List UInt8 := [16, 7, 45, 180, 0, 112, 79, 89, 16, 8, 45, 180, 0, 132, 184, 0, 218, 79, 58, 4, 28, 8]
abbrev dktX3_ofMachineNow_3 : List UInt8 := dkwX3_ofMachineNow_3 ++ dktX3_ofMachineNow_4
def dkwX3_ofMachineNow_2 : List UInt8 := [180, 0, 178, 79, 89, 7, 43, 180, 0, 181, 79, 89, 8, 3, 79, 89, 16, 6, 45, 182, 0, 215, 79, 89]
abbrev dktX3_ofMachineNow_2 : List UInt8 := dkwX3_ofMachineNow_2 ++ dktX3_ofMachineNow_3
def dkwX3_ofMachineNow_1 : List UInt8 := [3, 43, 180, 0, 52, 79, 89, 4, 43, 182, 0, 78, 79, 89, 5, 43, 180, 0, 175, 79, 89, 6, 43]
abbrev dktX3_ofMachineNow_1 : List UInt8 := dkwX3_ofMachineNow_1 ++ dktX3_ofMachineNow_2
def dkwX3_ofMachineNow_0 : List UInt8 := [28, 8, 160, 0, 9, 42, 43, 182, 0, 93, 172, 43, 17, 1, 244, 182, 0, 81, 78, 16, 9, 188, 10, 89]
abbrev dktX3_ofMachineNow_0 : List UInt8 := dkwX3_ofMachineNow_0 ++ dktX3_ofMachineNow_1
theorem dksX3_ofMachineNow_0 : cX3_ofMachineNow.data.toList.drop 0 = dktX3_ofMachineNow_0 := by decide +kernel
theorem dksX3_ofMachineNow_1 : cX3_ofMachineNow.data.toList.drop 24 = dktX3_ofMachineNow_1 := dk_seg dksX3_ofMachineNow_0 24 rfl rfl
theorem dksX3_ofMachineNow_2 : cX3_ofMachineNow.data.toList.drop 47 = dktX3_ofMachineNow_2 := dk_seg dksX3_ofMachineNow_1 23 rfl rfl
theorem dksX3_ofMachineNow_3 : cX3_ofMachineNow.data.toList.drop 71 = dktX3_ofMachineNow_3 := dk_seg dksX3_ofMachineNow_2 24 rfl rfl
theorem dksX3_ofMachineNow_4 : cX3_ofMachineNow.data.toList.drop 93 = dktX3_ofMachineNow_4 := dk_seg dksX3_ofMachineNow_3 22 rfl rfl
theorem dX3_ofMachineNow_0 : decode cX3_ofMachineNow 0 = .ok (.iload_n 2, 1) := dk_28 (dk_at dksX3_ofMachineNow_0 0 rfl rfl)
theorem dX3_ofMachineNow_1 : decode cX3_ofMachineNow 1 = .ok (.iconst 5, 1) := dk_8 (dk_at dksX3_ofMachineNow_0 1 rfl rfl)
theorem dX3_ofMachineNow_2 : decode cX3_ofMachineNow 2 = .ok (.if_icmp .ne 9, 3) := dk_160 0 9 (dk_at dksX3_ofMachineNow_0 2 rfl rfl)
theorem dX3_ofMachineNow_5 : decode cX3_ofMachineNow 5 = .ok (.aload_n 0, 1) := dk_42 (dk_at dksX3_ofMachineNow_0 5 rfl rfl)
theorem dX3_ofMachineNow_6 : decode cX3_ofMachineNow 6 = .ok (.aload_n 1, 1) := dk_43 (dk_at dksX3_ofMachineNow_0 6 rfl rfl)
theorem dX3_ofMachineNow_7 : decode cX3_ofMachineNow 7 = .ok (.invokevirtual 93, 3) := dk_182 0 93 (dk_at dksX3_ofMachineNow_0 7 rfl rfl)
theorem dX3_ofMachineNow_10 : decode cX3_ofMachineNow 10 = .ok (.ireturn, 1) := dk_172 (dk_at dksX3_ofMachineNow_0 10 rfl rfl)
theorem dX3_ofMachineNow_11 : decode cX3_ofMachineNow 11 = .ok (.aload_n 1, 1) := dk_43 (dk_at dksX3_ofMachineNow_0 11 rfl rfl)
theorem dX3_ofMachineNow_12 : decode cX3_ofMachineNow 12 = .ok (.sipush 500, 3) := dk_17 1 244 (dk_at dksX3_ofMachineNow_0 12 rfl rfl)
theorem dX3_ofMachineNow_15 : decode cX3_ofMachineNow 15 = .ok (.invokevirtual 81, 3) := dk_182 0 81 (dk_at dksX3_ofMachineNow_0 15 rfl rfl)
theorem dX3_ofMachineNow_18 : decode cX3_ofMachineNow 18 = .ok (.astore_n 3, 1) := dk_78 (dk_at dksX3_ofMachineNow_0 18 rfl rfl)
theorem dX3_ofMachineNow_19 : decode cX3_ofMachineNow 19 = .ok (.bipush 9, 2) := dk_16 9 (dk_at dksX3_ofMachineNow_0 19 rfl rfl)
theorem dX3_ofMachineNow_21 : decode cX3_ofMachineNow 21 = .ok (.newarray .int, 2) := dk_188_10 (dk_at dksX3_ofMachineNow_0 21 rfl rfl)
theorem dX3_ofMachineNow_23 : decode cX3_ofMachineNow 23 = .ok (.dup, 1) := dk_89 (dk_at dksX3_ofMachineNow_0 23 rfl rfl)
theorem dX3_ofMachineNow_24 : decode cX3_ofMachineNow 24 = .ok (.iconst 0, 1) := dk_3 (dk_at dksX3_ofMachineNow_1 0 rfl rfl)
theorem dX3_ofMachineNow_25 : decode cX3_ofMachineNow 25 = .ok (.aload_n 1, 1) := dk_43 (dk_at dksX3_ofMachineNow_1 1 rfl rfl)
theorem dX3_ofMachineNow_26 : decode cX3_ofMachineNow 26 = .ok (.getfield 52, 3) := dk_180 0 52 (dk_at dksX3_ofMachineNow_1 2 rfl rfl)
theorem dX3_ofMachineNow_29 : decode cX3_ofMachineNow 29 = .ok (.iastore, 1) := dk_79 (dk_at dksX3_ofMachineNow_1 5 rfl rfl)
theorem dX3_ofMachineNow_30 : decode cX3_ofMachineNow 30 = .ok (.dup, 1) := dk_89 (dk_at dksX3_ofMachineNow_1 6 rfl rfl)
theorem dX3_ofMachineNow_31 : decode cX3_ofMachineNow 31 = .ok (.iconst 1, 1) := dk_4 (dk_at dksX3_ofMachineNow_1 7 rfl rfl)
theorem dX3_ofMachineNow_32 : decode cX3_ofMachineNow 32 = .ok (.aload_n 1, 1) := dk_43 (dk_at dksX3_ofMachineNow_1 8 rfl rfl)
theorem dX3_ofMachineNow_33 : decode cX3_ofMachineNow 33 = .ok (.invokevirtual 78, 3) := dk_182 0 78 (dk_at dksX3_ofMachineNow_1 9 rfl rfl)
theorem dX3_ofMachineNow_36 : decode cX3_ofMachineNow 36 = .ok (.iastore, 1) := dk_79 (dk_at dksX3_ofMachineNow_1 12 rfl rfl)
theorem dX3_ofMachineNow_37 : decode cX3_ofMachineNow 37 = .ok (.dup, 1) := dk_89 (dk_at dksX3_ofMachineNow_1 13 rfl rfl)
theorem dX3_ofMachineNow_38 : decode cX3_ofMachineNow 38 = .ok (.iconst 2, 1) := dk_5 (dk_at dksX3_ofMachineNow_1 14 rfl rfl)
theorem dX3_ofMachineNow_39 : decode cX3_ofMachineNow 39 = .ok (.aload_n 1, 1) := dk_43 (dk_at dksX3_ofMachineNow_1 15 rfl rfl)
theorem dX3_ofMachineNow_40 : decode cX3_ofMachineNow 40 = .ok (.getfield 175, 3) := dk_180 0 175 (dk_at dksX3_ofMachineNow_1 16 rfl rfl)
theorem dX3_ofMachineNow_43 : decode cX3_ofMachineNow 43 = .ok (.iastore, 1) := dk_79 (dk_at dksX3_ofMachineNow_1 19 rfl rfl)
theorem dX3_ofMachineNow_44 : decode cX3_ofMachineNow 44 = .ok (.dup, 1) := dk_89 (dk_at dksX3_ofMachineNow_1 20 rfl rfl)
theorem dX3_ofMachineNow_45 : decode cX3_ofMachineNow 45 = .ok (.iconst 3, 1) := dk_6 (dk_at dksX3_ofMachineNow_1 21 rfl rfl)
theorem dX3_ofMachineNow_46 : decode cX3_ofMachineNow 46 = .ok (.aload_n 1, 1) := dk_43 (dk_at dksX3_ofMachineNow_1 22 rfl rfl)
theorem dX3_ofMachineNow_47 : decode cX3_ofMachineNow 47 = .ok (.getfield 178, 3) := dk_180 0 178 (dk_at dksX3_ofMachineNow_2 0 rfl rfl)
theorem dX3_ofMachineNow_50 : decode cX3_ofMachineNow 50 = .ok (.iastore, 1) := dk_79 (dk_at dksX3_ofMachineNow_2 3 rfl rfl)
theorem dX3_ofMachineNow_51 : decode cX3_ofMachineNow 51 = .ok (.dup, 1) := dk_89 (dk_at dksX3_ofMachineNow_2 4 rfl rfl)
theorem dX3_ofMachineNow_52 : decode cX3_ofMachineNow 52 = .ok (.iconst 4, 1) := dk_7 (dk_at dksX3_ofMachineNow_2 5 rfl rfl)
theorem dX3_ofMachineNow_53 : decode cX3_ofMachineNow 53 = .ok (.aload_n 1, 1) := dk_43 (dk_at dksX3_ofMachineNow_2 6 rfl rfl)
theorem dX3_ofMachineNow_54 : decode cX3_ofMachineNow 54 = .ok (.getfield 181, 3) := dk_180 0 181 (dk_at dksX3_ofMachineNow_2 7 rfl rfl)
theorem dX3_ofMachineNow_57 : decode cX3_ofMachineNow 57 = .ok (.iastore, 1) := dk_79 (dk_at dksX3_ofMachineNow_2 10 rfl rfl)
theorem dX3_ofMachineNow_58 : decode cX3_ofMachineNow 58 = .ok (.dup, 1) := dk_89 (dk_at dksX3_ofMachineNow_2 11 rfl rfl)
theorem dX3_ofMachineNow_59 : decode cX3_ofMachineNow 59 = .ok (.iconst 5, 1) := dk_8 (dk_at dksX3_ofMachineNow_2 12 rfl rfl)
theorem dX3_ofMachineNow_60 : decode cX3_ofMachineNow 60 = .ok (.iconst 0, 1) := dk_3 (dk_at dksX3_ofMachineNow_2 13 rfl rfl)
theorem dX3_ofMachineNow_61 : decode cX3_ofMachineNow 61 = .ok (.iastore, 1) := dk_79 (dk_at dksX3_ofMachineNow_2 14 rfl rfl)
theorem dX3_ofMachineNow_62 : decode cX3_ofMachineNow 62 = .ok (.dup, 1) := dk_89 (dk_at dksX3_ofMachineNow_2 15 rfl rfl)
theorem dX3_ofMachineNow_63 : decode cX3_ofMachineNow 63 = .ok (.bipush 6, 2) := dk_16 6 (dk_at dksX3_ofMachineNow_2 16 rfl rfl)
theorem dX3_ofMachineNow_65 : decode cX3_ofMachineNow 65 = .ok (.aload_n 3, 1) := dk_45 (dk_at dksX3_ofMachineNow_2 18 rfl rfl)
theorem dX3_ofMachineNow_66 : decode cX3_ofMachineNow 66 = .ok (.invokevirtual 215, 3) := dk_182 0 215 (dk_at dksX3_ofMachineNow_2 19 rfl rfl)
theorem dX3_ofMachineNow_69 : decode cX3_ofMachineNow 69 = .ok (.iastore, 1) := dk_79 (dk_at dksX3_ofMachineNow_2 22 rfl rfl)
theorem dX3_ofMachineNow_70 : decode cX3_ofMachineNow 70 = .ok (.dup, 1) := dk_89 (dk_at dksX3_ofMachineNow_2 23 rfl rfl)
theorem dX3_ofMachineNow_71 : decode cX3_ofMachineNow 71 = .ok (.bipush 7, 2) := dk_16 7 (dk_at dksX3_ofMachineNow_3 0 rfl rfl)
theorem dX3_ofMachineNow_73 : decode cX3_ofMachineNow 73 = .ok (.aload_n 3, 1) := dk_45 (dk_at dksX3_ofMachineNow_3 2 rfl rfl)
theorem dX3_ofMachineNow_74 : decode cX3_ofMachineNow 74 = .ok (.getfield 112, 3) := dk_180 0 112 (dk_at dksX3_ofMachineNow_3 3 rfl rfl)
theorem dX3_ofMachineNow_77 : decode cX3_ofMachineNow 77 = .ok (.iastore, 1) := dk_79 (dk_at dksX3_ofMachineNow_3 6 rfl rfl)
theorem dX3_ofMachineNow_78 : decode cX3_ofMachineNow 78 = .ok (.dup, 1) := dk_89 (dk_at dksX3_ofMachineNow_3 7 rfl rfl)
theorem dX3_ofMachineNow_79 : decode cX3_ofMachineNow 79 = .ok (.bipush 8, 2) := dk_16 8 (dk_at dksX3_ofMachineNow_3 8 rfl rfl)
theorem dX3_ofMachineNow_81 : decode cX3_ofMachineNow 81 = .ok (.aload_n 3, 1) := dk_45 (dk_at dksX3_ofMachineNow_3 10 rfl rfl)
theorem dX3_ofMachineNow_82 : decode cX3_ofMachineNow 82 = .ok (.getfield 132, 3) := dk_180 0 132 (dk_at dksX3_ofMachineNow_3 11 rfl rfl)
theorem dX3_ofMachineNow_85 : decode cX3_ofMachineNow 85 = .ok (.invokestatic 218, 3) := dk_184 0 218 (dk_at dksX3_ofMachineNow_3 14 rfl rfl)
theorem dX3_ofMachineNow_88 : decode cX3_ofMachineNow 88 = .ok (.iastore, 1) := dk_79 (dk_at dksX3_ofMachineNow_3 17 rfl rfl)
theorem dX3_ofMachineNow_89 : decode cX3_ofMachineNow 89 = .ok (.astore 4, 2) := dk_58 4 (dk_at dksX3_ofMachineNow_3 18 rfl rfl)
theorem dX3_ofMachineNow_91 : decode cX3_ofMachineNow 91 = .ok (.iload_n 2, 1) := dk_28 (dk_at dksX3_ofMachineNow_3 20 rfl rfl)
theorem dX3_ofMachineNow_92 : decode cX3_ofMachineNow 92 = .ok (.iconst 5, 1) := dk_8 (dk_at dksX3_ofMachineNow_3 21 rfl rfl)
theorem dX3_ofMachineNow_93 : decode cX3_ofMachineNow 93 = .ok (.if_icmp .le 14, 3) := dk_164 0 14 (dk_at dksX3_ofMachineNow_4 0 rfl rfl)
theorem dX3_ofMachineNow_96 : decode cX3_ofMachineNow 96 = .ok (.aload_n 3, 1) := dk_45 (dk_at dksX3_ofMachineNow_4 3 rfl rfl)
theorem dX3_ofMachineNow_97 : decode cX3_ofMachineNow 97 = .ok (.invokevirtual 109, 3) := dk_182 0 109 (dk_at dksX3_ofMachineNow_4 4 rfl rfl)
theorem dX3_ofMachineNow_100 : decode cX3_ofMachineNow 100 = .ok (.ifCond .ne 7, 3) := dk_154 0 7 (dk_at dksX3_ofMachineNow_4 7 rfl rfl)
theorem dX3_ofMachineNow_103 : decode cX3_ofMachineNow 103 = .ok (.iconst (-1), 1) := dk_2 (dk_at dksX3_ofMachineNow_4 10 rfl rfl)
theorem dX3_ofMachineNow_104 : decode cX3_ofMachineNow 104 = .ok (.goto 7, 3) := dk_167 0 7 (dk_at dksX3_ofMachineNow_4 11 rfl rfl)
theorem dX3_ofMachineNow_107 : decode cX3_ofMachineNow 107 = .ok (.aload 4, 2) := dk_25 4 (dk_at dksX3_ofMachineNow_4 14 rfl rfl)
theorem dX3_ofMachineNow_109 : decode cX3_ofMachineNow 109 = .ok (.iload_n 2, 1) := dk_28 (dk_at dksX3_ofMachineNow_4 16 rfl rfl)
theorem dX3_ofMachineNow_110 : decode cX3_ofMachineNow 110 = .ok (.iaload, 1) := dk_46 (dk_at dksX3_ofMachineNow_4 17 rfl rfl)
theorem dX3_ofMachineNow_111 : decode cX3_ofMachineNow 111 = .ok (.ireturn, 1) := dk_172 (dk_at dksX3_ofMachineNow_4 18 rfl rfl)
abbrev cX3_at : ByteArray := prog_19_method_34_code
def yX3_at : MethodName := ⟨RX3, "at", "(III)I"⟩
def dkwX3_at_2 : List UInt8 := [192, 0, 35, 28, 182, 0, 81, 29, 184, 0, 233, 167, 0, 8, 42, 5, 182, 0, 31, 172]
abbrev dktX3_at_2 : List UInt8 := dkwX3_at_2 ++ []
def dkwX3_at_1 : List UInt8 := [184, 0, 27, 153, 0, 35, 29, 3, 16, 7, 184, 0, 27, 153, 0, 25, 42, 180, 0, 10, 27, 182, 0, 48]
abbrev dktX3_at_1 : List UInt8 := dkwX3_at_1 ++ dktX3_at_2
def dkwX3_at_0 : List UInt8 := [42, 3, 181, 0, 19, 42, 27, 182, 0, 44, 154, 0, 9, 42, 4, 182, 0, 31, 172, 28, 3, 17, 1, 244]
abbrev dktX3_at_0 : List UInt8 := dkwX3_at_0 ++ dktX3_at_1
theorem dksX3_at_0 : cX3_at.data.toList.drop 0 = dktX3_at_0 := by decide +kernel
theorem dksX3_at_1 : cX3_at.data.toList.drop 24 = dktX3_at_1 := dk_seg dksX3_at_0 24 rfl rfl
theorem dksX3_at_2 : cX3_at.data.toList.drop 48 = dktX3_at_2 := dk_seg dksX3_at_1 24 rfl rfl
theorem dX3_at_0 : decode cX3_at 0 = .ok (.aload_n 0, 1) := dk_42 (dk_at dksX3_at_0 0 rfl rfl)
theorem dX3_at_1 : decode cX3_at 1 = .ok (.iconst 0, 1) := dk_3 (dk_at dksX3_at_0 1 rfl rfl)
theorem dX3_at_2 : decode cX3_at 2 = .ok (.putfield 19, 3) := dk_181 0 19 (dk_at dksX3_at_0 2 rfl rfl)
theorem dX3_at_5 : decode cX3_at 5 = .ok (.aload_n 0, 1) := dk_42 (dk_at dksX3_at_0 5 rfl rfl)
theorem dX3_at_6 : decode cX3_at 6 = .ok (.iload_n 1, 1) := dk_27 (dk_at dksX3_at_0 6 rfl rfl)
theorem dX3_at_7 : decode cX3_at 7 = .ok (.invokevirtual 44, 3) := dk_182 0 44 (dk_at dksX3_at_0 7 rfl rfl)
theorem dX3_at_10 : decode cX3_at 10 = .ok (.ifCond .ne 9, 3) := dk_154 0 9 (dk_at dksX3_at_0 10 rfl rfl)
theorem dX3_at_13 : decode cX3_at 13 = .ok (.aload_n 0, 1) := dk_42 (dk_at dksX3_at_0 13 rfl rfl)
theorem dX3_at_14 : decode cX3_at 14 = .ok (.iconst 1, 1) := dk_4 (dk_at dksX3_at_0 14 rfl rfl)
theorem dX3_at_15 : decode cX3_at 15 = .ok (.invokevirtual 31, 3) := dk_182 0 31 (dk_at dksX3_at_0 15 rfl rfl)
theorem dX3_at_18 : decode cX3_at 18 = .ok (.ireturn, 1) := dk_172 (dk_at dksX3_at_0 18 rfl rfl)
theorem dX3_at_19 : decode cX3_at 19 = .ok (.iload_n 2, 1) := dk_28 (dk_at dksX3_at_0 19 rfl rfl)
theorem dX3_at_20 : decode cX3_at 20 = .ok (.iconst 0, 1) := dk_3 (dk_at dksX3_at_0 20 rfl rfl)
theorem dX3_at_21 : decode cX3_at 21 = .ok (.sipush 500, 3) := dk_17 1 244 (dk_at dksX3_at_0 21 rfl rfl)
theorem dX3_at_24 : decode cX3_at 24 = .ok (.invokestatic 27, 3) := dk_184 0 27 (dk_at dksX3_at_1 0 rfl rfl)
theorem dX3_at_27 : decode cX3_at 27 = .ok (.ifCond .eq 35, 3) := dk_153 0 35 (dk_at dksX3_at_1 3 rfl rfl)
theorem dX3_at_30 : decode cX3_at 30 = .ok (.iload_n 3, 1) := dk_29 (dk_at dksX3_at_1 6 rfl rfl)
theorem dX3_at_31 : decode cX3_at 31 = .ok (.iconst 0, 1) := dk_3 (dk_at dksX3_at_1 7 rfl rfl)
theorem dX3_at_32 : decode cX3_at 32 = .ok (.bipush 7, 2) := dk_16 7 (dk_at dksX3_at_1 8 rfl rfl)
theorem dX3_at_34 : decode cX3_at 34 = .ok (.invokestatic 27, 3) := dk_184 0 27 (dk_at dksX3_at_1 10 rfl rfl)
theorem dX3_at_37 : decode cX3_at 37 = .ok (.ifCond .eq 25, 3) := dk_153 0 25 (dk_at dksX3_at_1 13 rfl rfl)
theorem dX3_at_40 : decode cX3_at 40 = .ok (.aload_n 0, 1) := dk_42 (dk_at dksX3_at_1 16 rfl rfl)
theorem dX3_at_41 : decode cX3_at 41 = .ok (.getfield 10, 3) := dk_180 0 10 (dk_at dksX3_at_1 17 rfl rfl)
theorem dX3_at_44 : decode cX3_at 44 = .ok (.iload_n 1, 1) := dk_27 (dk_at dksX3_at_1 20 rfl rfl)
theorem dX3_at_45 : decode cX3_at 45 = .ok (.invokevirtual 48, 3) := dk_182 0 48 (dk_at dksX3_at_1 21 rfl rfl)
theorem dX3_at_48 : decode cX3_at 48 = .ok (.checkcast 35, 3) := dk_192 0 35 (dk_at dksX3_at_2 0 rfl rfl)
theorem dX3_at_51 : decode cX3_at 51 = .ok (.iload_n 2, 1) := dk_28 (dk_at dksX3_at_2 3 rfl rfl)
theorem dX3_at_52 : decode cX3_at 52 = .ok (.invokevirtual 81, 3) := dk_182 0 81 (dk_at dksX3_at_2 4 rfl rfl)
theorem dX3_at_55 : decode cX3_at 55 = .ok (.iload_n 3, 1) := dk_29 (dk_at dksX3_at_2 7 rfl rfl)
theorem dX3_at_56 : decode cX3_at 56 = .ok (.invokestatic 233, 3) := dk_184 0 233 (dk_at dksX3_at_2 8 rfl rfl)
theorem dX3_at_59 : decode cX3_at 59 = .ok (.goto 8, 3) := dk_167 0 8 (dk_at dksX3_at_2 11 rfl rfl)
theorem dX3_at_62 : decode cX3_at 62 = .ok (.aload_n 0, 1) := dk_42 (dk_at dksX3_at_2 14 rfl rfl)
theorem dX3_at_63 : decode cX3_at 63 = .ok (.iconst 2, 1) := dk_5 (dk_at dksX3_at_2 15 rfl rfl)
theorem dX3_at_64 : decode cX3_at 64 = .ok (.invokevirtual 31, 3) := dk_182 0 31 (dk_at dksX3_at_2 16 rfl rfl)
theorem dX3_at_67 : decode cX3_at 67 = .ok (.ireturn, 1) := dk_172 (dk_at dksX3_at_2 19 rfl rfl)
abbrev cX3_atNow : ByteArray := prog_19_method_33_code
def yX3_atNow : MethodName := ⟨RX3, "atNow", "(LHaltingaleModel$Run;I)I"⟩
def dkwX3_atNow_3 : List UInt8 := [180, 0, 227, 100, 4, 96, 108, 79, 77, 44, 27, 46, 172]
abbrev dktX3_atNow_3 : List UInt8 := dkwX3_atNow_3 ++ []
def dkwX3_atNow_2 : List UInt8 := [16, 6, 42, 180, 0, 230, 79, 89, 16, 7, 16, 8, 42, 182, 0, 215, 104, 42, 180, 0, 230, 42]
abbrev dktX3_atNow_2 : List UInt8 := dkwX3_atNow_2 ++ dktX3_atNow_3
def dkwX3_atNow_1 : List UInt8 := [79, 89, 6, 42, 182, 0, 215, 79, 89, 7, 42, 182, 0, 224, 79, 89, 8, 42, 180, 0, 227, 79, 89]
abbrev dktX3_atNow_1 : List UInt8 := dkwX3_atNow_1 ++ dktX3_atNow_2
def dkwX3_atNow_0 : List UInt8 := [16, 8, 188, 10, 89, 3, 42, 180, 0, 112, 79, 89, 4, 42, 180, 0, 103, 79, 89, 5, 42, 180, 0, 132]
abbrev dktX3_atNow_0 : List UInt8 := dkwX3_atNow_0 ++ dktX3_atNow_1
theorem dksX3_atNow_0 : cX3_atNow.data.toList.drop 0 = dktX3_atNow_0 := by decide +kernel
theorem dksX3_atNow_1 : cX3_atNow.data.toList.drop 24 = dktX3_atNow_1 := dk_seg dksX3_atNow_0 24 rfl rfl
theorem dksX3_atNow_2 : cX3_atNow.data.toList.drop 47 = dktX3_atNow_2 := dk_seg dksX3_atNow_1 23 rfl rfl
theorem dksX3_atNow_3 : cX3_atNow.data.toList.drop 69 = dktX3_atNow_3 := dk_seg dksX3_atNow_2 22 rfl rfl
theorem dX3_atNow_0 : decode cX3_atNow 0 = .ok (.bipush 8, 2) := dk_16 8 (dk_at dksX3_atNow_0 0 rfl rfl)
theorem dX3_atNow_2 : decode cX3_atNow 2 = .ok (.newarray .int, 2) := dk_188_10 (dk_at dksX3_atNow_0 2 rfl rfl)
theorem dX3_atNow_4 : decode cX3_atNow 4 = .ok (.dup, 1) := dk_89 (dk_at dksX3_atNow_0 4 rfl rfl)
theorem dX3_atNow_5 : decode cX3_atNow 5 = .ok (.iconst 0, 1) := dk_3 (dk_at dksX3_atNow_0 5 rfl rfl)
theorem dX3_atNow_6 : decode cX3_atNow 6 = .ok (.aload_n 0, 1) := dk_42 (dk_at dksX3_atNow_0 6 rfl rfl)
theorem dX3_atNow_7 : decode cX3_atNow 7 = .ok (.getfield 112, 3) := dk_180 0 112 (dk_at dksX3_atNow_0 7 rfl rfl)
theorem dX3_atNow_10 : decode cX3_atNow 10 = .ok (.iastore, 1) := dk_79 (dk_at dksX3_atNow_0 10 rfl rfl)
theorem dX3_atNow_11 : decode cX3_atNow 11 = .ok (.dup, 1) := dk_89 (dk_at dksX3_atNow_0 11 rfl rfl)
theorem dX3_atNow_12 : decode cX3_atNow 12 = .ok (.iconst 1, 1) := dk_4 (dk_at dksX3_atNow_0 12 rfl rfl)
theorem dX3_atNow_13 : decode cX3_atNow 13 = .ok (.aload_n 0, 1) := dk_42 (dk_at dksX3_atNow_0 13 rfl rfl)
theorem dX3_atNow_14 : decode cX3_atNow 14 = .ok (.getfield 103, 3) := dk_180 0 103 (dk_at dksX3_atNow_0 14 rfl rfl)
theorem dX3_atNow_17 : decode cX3_atNow 17 = .ok (.iastore, 1) := dk_79 (dk_at dksX3_atNow_0 17 rfl rfl)
theorem dX3_atNow_18 : decode cX3_atNow 18 = .ok (.dup, 1) := dk_89 (dk_at dksX3_atNow_0 18 rfl rfl)
theorem dX3_atNow_19 : decode cX3_atNow 19 = .ok (.iconst 2, 1) := dk_5 (dk_at dksX3_atNow_0 19 rfl rfl)
theorem dX3_atNow_20 : decode cX3_atNow 20 = .ok (.aload_n 0, 1) := dk_42 (dk_at dksX3_atNow_0 20 rfl rfl)
theorem dX3_atNow_21 : decode cX3_atNow 21 = .ok (.getfield 132, 3) := dk_180 0 132 (dk_at dksX3_atNow_0 21 rfl rfl)
theorem dX3_atNow_24 : decode cX3_atNow 24 = .ok (.iastore, 1) := dk_79 (dk_at dksX3_atNow_1 0 rfl rfl)
theorem dX3_atNow_25 : decode cX3_atNow 25 = .ok (.dup, 1) := dk_89 (dk_at dksX3_atNow_1 1 rfl rfl)
theorem dX3_atNow_26 : decode cX3_atNow 26 = .ok (.iconst 3, 1) := dk_6 (dk_at dksX3_atNow_1 2 rfl rfl)
theorem dX3_atNow_27 : decode cX3_atNow 27 = .ok (.aload_n 0, 1) := dk_42 (dk_at dksX3_atNow_1 3 rfl rfl)
theorem dX3_atNow_28 : decode cX3_atNow 28 = .ok (.invokevirtual 215, 3) := dk_182 0 215 (dk_at dksX3_atNow_1 4 rfl rfl)
theorem dX3_atNow_31 : decode cX3_atNow 31 = .ok (.iastore, 1) := dk_79 (dk_at dksX3_atNow_1 7 rfl rfl)
theorem dX3_atNow_32 : decode cX3_atNow 32 = .ok (.dup, 1) := dk_89 (dk_at dksX3_atNow_1 8 rfl rfl)
theorem dX3_atNow_33 : decode cX3_atNow 33 = .ok (.iconst 4, 1) := dk_7 (dk_at dksX3_atNow_1 9 rfl rfl)
theorem dX3_atNow_34 : decode cX3_atNow 34 = .ok (.aload_n 0, 1) := dk_42 (dk_at dksX3_atNow_1 10 rfl rfl)
theorem dX3_atNow_35 : decode cX3_atNow 35 = .ok (.invokevirtual 224, 3) := dk_182 0 224 (dk_at dksX3_atNow_1 11 rfl rfl)
theorem dX3_atNow_38 : decode cX3_atNow 38 = .ok (.iastore, 1) := dk_79 (dk_at dksX3_atNow_1 14 rfl rfl)
theorem dX3_atNow_39 : decode cX3_atNow 39 = .ok (.dup, 1) := dk_89 (dk_at dksX3_atNow_1 15 rfl rfl)
theorem dX3_atNow_40 : decode cX3_atNow 40 = .ok (.iconst 5, 1) := dk_8 (dk_at dksX3_atNow_1 16 rfl rfl)
theorem dX3_atNow_41 : decode cX3_atNow 41 = .ok (.aload_n 0, 1) := dk_42 (dk_at dksX3_atNow_1 17 rfl rfl)
theorem dX3_atNow_42 : decode cX3_atNow 42 = .ok (.getfield 227, 3) := dk_180 0 227 (dk_at dksX3_atNow_1 18 rfl rfl)
theorem dX3_atNow_45 : decode cX3_atNow 45 = .ok (.iastore, 1) := dk_79 (dk_at dksX3_atNow_1 21 rfl rfl)
theorem dX3_atNow_46 : decode cX3_atNow 46 = .ok (.dup, 1) := dk_89 (dk_at dksX3_atNow_1 22 rfl rfl)
theorem dX3_atNow_47 : decode cX3_atNow 47 = .ok (.bipush 6, 2) := dk_16 6 (dk_at dksX3_atNow_2 0 rfl rfl)
theorem dX3_atNow_49 : decode cX3_atNow 49 = .ok (.aload_n 0, 1) := dk_42 (dk_at dksX3_atNow_2 2 rfl rfl)
theorem dX3_atNow_50 : decode cX3_atNow 50 = .ok (.getfield 230, 3) := dk_180 0 230 (dk_at dksX3_atNow_2 3 rfl rfl)
theorem dX3_atNow_53 : decode cX3_atNow 53 = .ok (.iastore, 1) := dk_79 (dk_at dksX3_atNow_2 6 rfl rfl)
theorem dX3_atNow_54 : decode cX3_atNow 54 = .ok (.dup, 1) := dk_89 (dk_at dksX3_atNow_2 7 rfl rfl)
theorem dX3_atNow_55 : decode cX3_atNow 55 = .ok (.bipush 7, 2) := dk_16 7 (dk_at dksX3_atNow_2 8 rfl rfl)
theorem dX3_atNow_57 : decode cX3_atNow 57 = .ok (.bipush 8, 2) := dk_16 8 (dk_at dksX3_atNow_2 10 rfl rfl)
theorem dX3_atNow_59 : decode cX3_atNow 59 = .ok (.aload_n 0, 1) := dk_42 (dk_at dksX3_atNow_2 12 rfl rfl)
theorem dX3_atNow_60 : decode cX3_atNow 60 = .ok (.invokevirtual 215, 3) := dk_182 0 215 (dk_at dksX3_atNow_2 13 rfl rfl)
theorem dX3_atNow_63 : decode cX3_atNow 63 = .ok (.imul, 1) := dk_104 (dk_at dksX3_atNow_2 16 rfl rfl)
theorem dX3_atNow_64 : decode cX3_atNow 64 = .ok (.aload_n 0, 1) := dk_42 (dk_at dksX3_atNow_2 17 rfl rfl)
theorem dX3_atNow_65 : decode cX3_atNow 65 = .ok (.getfield 230, 3) := dk_180 0 230 (dk_at dksX3_atNow_2 18 rfl rfl)
theorem dX3_atNow_68 : decode cX3_atNow 68 = .ok (.aload_n 0, 1) := dk_42 (dk_at dksX3_atNow_2 21 rfl rfl)
theorem dX3_atNow_69 : decode cX3_atNow 69 = .ok (.getfield 227, 3) := dk_180 0 227 (dk_at dksX3_atNow_3 0 rfl rfl)
theorem dX3_atNow_72 : decode cX3_atNow 72 = .ok (.isub, 1) := dk_100 (dk_at dksX3_atNow_3 3 rfl rfl)
theorem dX3_atNow_73 : decode cX3_atNow 73 = .ok (.iconst 1, 1) := dk_4 (dk_at dksX3_atNow_3 4 rfl rfl)
theorem dX3_atNow_74 : decode cX3_atNow 74 = .ok (.iadd, 1) := dk_96 (dk_at dksX3_atNow_3 5 rfl rfl)
theorem dX3_atNow_75 : decode cX3_atNow 75 = .ok (.idiv, 1) := dk_108 (dk_at dksX3_atNow_3 6 rfl rfl)
theorem dX3_atNow_76 : decode cX3_atNow 76 = .ok (.iastore, 1) := dk_79 (dk_at dksX3_atNow_3 7 rfl rfl)
theorem dX3_atNow_77 : decode cX3_atNow 77 = .ok (.astore_n 2, 1) := dk_77 (dk_at dksX3_atNow_3 8 rfl rfl)
theorem dX3_atNow_78 : decode cX3_atNow 78 = .ok (.aload_n 2, 1) := dk_44 (dk_at dksX3_atNow_3 9 rfl rfl)
theorem dX3_atNow_79 : decode cX3_atNow 79 = .ok (.iload_n 1, 1) := dk_27 (dk_at dksX3_atNow_3 10 rfl rfl)
theorem dX3_atNow_80 : decode cX3_atNow 80 = .ok (.iaload, 1) := dk_46 (dk_at dksX3_atNow_3 11 rfl rfl)
theorem dX3_atNow_81 : decode cX3_atNow 81 = .ok (.ireturn, 1) := dk_172 (dk_at dksX3_atNow_3 12 rfl rfl)
abbrev cX3_symbol : ByteArray := prog_19_method_35_code
def yX3_symbol : MethodName := ⟨RX3, "symbol", "(III)I"⟩
def dkwX3_symbol_2 : List UInt8 := [182, 0, 48, 192, 0, 35, 28, 182, 0, 81, 29, 182, 0, 144, 167, 0, 8, 42, 5, 182, 0, 31, 172]
abbrev dktX3_symbol_2 : List UInt8 := dkwX3_symbol_2 ++ []
def dkwX3_symbol_1 : List UInt8 := [184, 0, 27, 153, 0, 38, 29, 17, 254, 11, 17, 1, 245, 184, 0, 27, 153, 0, 25, 42, 180, 0, 10, 27]
abbrev dktX3_symbol_1 : List UInt8 := dkwX3_symbol_1 ++ dktX3_symbol_2
def dkwX3_symbol_0 : List UInt8 := [42, 3, 181, 0, 19, 42, 27, 182, 0, 44, 154, 0, 9, 42, 4, 182, 0, 31, 172, 28, 3, 17, 1, 244]
abbrev dktX3_symbol_0 : List UInt8 := dkwX3_symbol_0 ++ dktX3_symbol_1
theorem dksX3_symbol_0 : cX3_symbol.data.toList.drop 0 = dktX3_symbol_0 := by decide +kernel
theorem dksX3_symbol_1 : cX3_symbol.data.toList.drop 24 = dktX3_symbol_1 := dk_seg dksX3_symbol_0 24 rfl rfl
theorem dksX3_symbol_2 : cX3_symbol.data.toList.drop 48 = dktX3_symbol_2 := dk_seg dksX3_symbol_1 24 rfl rfl
theorem dX3_symbol_0 : decode cX3_symbol 0 = .ok (.aload_n 0, 1) := dk_42 (dk_at dksX3_symbol_0 0 rfl rfl)
theorem dX3_symbol_1 : decode cX3_symbol 1 = .ok (.iconst 0, 1) := dk_3 (dk_at dksX3_symbol_0 1 rfl rfl)
theorem dX3_symbol_2 : decode cX3_symbol 2 = .ok (.putfield 19, 3) := dk_181 0 19 (dk_at dksX3_symbol_0 2 rfl rfl)
theorem dX3_symbol_5 : decode cX3_symbol 5 = .ok (.aload_n 0, 1) := dk_42 (dk_at dksX3_symbol_0 5 rfl rfl)
theorem dX3_symbol_6 : decode cX3_symbol 6 = .ok (.iload_n 1, 1) := dk_27 (dk_at dksX3_symbol_0 6 rfl rfl)
theorem dX3_symbol_7 : decode cX3_symbol 7 = .ok (.invokevirtual 44, 3) := dk_182 0 44 (dk_at dksX3_symbol_0 7 rfl rfl)
theorem dX3_symbol_10 : decode cX3_symbol 10 = .ok (.ifCond .ne 9, 3) := dk_154 0 9 (dk_at dksX3_symbol_0 10 rfl rfl)
theorem dX3_symbol_13 : decode cX3_symbol 13 = .ok (.aload_n 0, 1) := dk_42 (dk_at dksX3_symbol_0 13 rfl rfl)
theorem dX3_symbol_14 : decode cX3_symbol 14 = .ok (.iconst 1, 1) := dk_4 (dk_at dksX3_symbol_0 14 rfl rfl)
theorem dX3_symbol_15 : decode cX3_symbol 15 = .ok (.invokevirtual 31, 3) := dk_182 0 31 (dk_at dksX3_symbol_0 15 rfl rfl)
theorem dX3_symbol_18 : decode cX3_symbol 18 = .ok (.ireturn, 1) := dk_172 (dk_at dksX3_symbol_0 18 rfl rfl)
theorem dX3_symbol_19 : decode cX3_symbol 19 = .ok (.iload_n 2, 1) := dk_28 (dk_at dksX3_symbol_0 19 rfl rfl)
theorem dX3_symbol_20 : decode cX3_symbol 20 = .ok (.iconst 0, 1) := dk_3 (dk_at dksX3_symbol_0 20 rfl rfl)
theorem dX3_symbol_21 : decode cX3_symbol 21 = .ok (.sipush 500, 3) := dk_17 1 244 (dk_at dksX3_symbol_0 21 rfl rfl)
theorem dX3_symbol_24 : decode cX3_symbol 24 = .ok (.invokestatic 27, 3) := dk_184 0 27 (dk_at dksX3_symbol_1 0 rfl rfl)
theorem dX3_symbol_27 : decode cX3_symbol 27 = .ok (.ifCond .eq 38, 3) := dk_153 0 38 (dk_at dksX3_symbol_1 3 rfl rfl)
theorem dX3_symbol_30 : decode cX3_symbol 30 = .ok (.iload_n 3, 1) := dk_29 (dk_at dksX3_symbol_1 6 rfl rfl)
theorem dX3_symbol_31 : decode cX3_symbol 31 = .ok (.sipush (-501), 3) := dk_17 254 11 (dk_at dksX3_symbol_1 7 rfl rfl)
theorem dX3_symbol_34 : decode cX3_symbol 34 = .ok (.sipush 501, 3) := dk_17 1 245 (dk_at dksX3_symbol_1 10 rfl rfl)
theorem dX3_symbol_37 : decode cX3_symbol 37 = .ok (.invokestatic 27, 3) := dk_184 0 27 (dk_at dksX3_symbol_1 13 rfl rfl)
theorem dX3_symbol_40 : decode cX3_symbol 40 = .ok (.ifCond .eq 25, 3) := dk_153 0 25 (dk_at dksX3_symbol_1 16 rfl rfl)
theorem dX3_symbol_43 : decode cX3_symbol 43 = .ok (.aload_n 0, 1) := dk_42 (dk_at dksX3_symbol_1 19 rfl rfl)
theorem dX3_symbol_44 : decode cX3_symbol 44 = .ok (.getfield 10, 3) := dk_180 0 10 (dk_at dksX3_symbol_1 20 rfl rfl)
theorem dX3_symbol_47 : decode cX3_symbol 47 = .ok (.iload_n 1, 1) := dk_27 (dk_at dksX3_symbol_1 23 rfl rfl)
theorem dX3_symbol_48 : decode cX3_symbol 48 = .ok (.invokevirtual 48, 3) := dk_182 0 48 (dk_at dksX3_symbol_2 0 rfl rfl)
theorem dX3_symbol_51 : decode cX3_symbol 51 = .ok (.checkcast 35, 3) := dk_192 0 35 (dk_at dksX3_symbol_2 3 rfl rfl)
theorem dX3_symbol_54 : decode cX3_symbol 54 = .ok (.iload_n 2, 1) := dk_28 (dk_at dksX3_symbol_2 6 rfl rfl)
theorem dX3_symbol_55 : decode cX3_symbol 55 = .ok (.invokevirtual 81, 3) := dk_182 0 81 (dk_at dksX3_symbol_2 7 rfl rfl)
theorem dX3_symbol_58 : decode cX3_symbol 58 = .ok (.iload_n 3, 1) := dk_29 (dk_at dksX3_symbol_2 10 rfl rfl)
theorem dX3_symbol_59 : decode cX3_symbol 59 = .ok (.invokevirtual 144, 3) := dk_182 0 144 (dk_at dksX3_symbol_2 11 rfl rfl)
theorem dX3_symbol_62 : decode cX3_symbol 62 = .ok (.goto 8, 3) := dk_167 0 8 (dk_at dksX3_symbol_2 14 rfl rfl)
theorem dX3_symbol_65 : decode cX3_symbol 65 = .ok (.aload_n 0, 1) := dk_42 (dk_at dksX3_symbol_2 17 rfl rfl)
theorem dX3_symbol_66 : decode cX3_symbol 66 = .ok (.iconst 2, 1) := dk_5 (dk_at dksX3_symbol_2 18 rfl rfl)
theorem dX3_symbol_67 : decode cX3_symbol 67 = .ok (.invokevirtual 31, 3) := dk_182 0 31 (dk_at dksX3_symbol_2 19 rfl rfl)
theorem dX3_symbol_70 : decode cX3_symbol 70 = .ok (.ireturn, 1) := dk_172 (dk_at dksX3_symbol_2 22 rfl rfl)
abbrev cX3_lean : ByteArray := prog_19_method_36_code
def yX3_lean : MethodName := ⟨RX3, "lean", "(II)D"⟩
def dkwX3_lean_7 : List UInt8 := [20, 0, 237, 111, 175]
abbrev dktX3_lean_7 : List UInt8 := dkwX3_lean_7 ++ []
def dkwX3_lean_6 : List UInt8 := [160, 0, 6, 132, 5, 1, 45, 180, 0, 132, 156, 0, 9, 21, 5, 116, 167, 0, 5, 21, 5, 135]
abbrev dktX3_lean_6 : List UInt8 := dkwX3_lean_6 ++ dktX3_lean_7
def dkwX3_lean_5 : List UInt8 := [21, 6, 157, 0, 23, 21, 6, 154, 0, 21, 45, 180, 0, 112, 158, 0, 14, 21, 5, 5, 112, 4]
abbrev dktX3_lean_5 : List UInt8 := dkwX3_lean_5 ++ dktX3_lean_6
def dkwX3_lean_4 : List UInt8 := [154, 0, 7, 3, 167, 0, 17, 5, 21, 4, 45, 180, 0, 112, 112, 104, 45, 180, 0, 112, 100, 54, 6]
abbrev dktX3_lean_4 : List UInt8 := dkwX3_lean_4 ++ dktX3_lean_5
def dkwX3_lean_3 : List UInt8 := [180, 0, 112, 154, 0, 7, 3, 167, 0, 10, 21, 4, 45, 180, 0, 112, 108, 54, 5, 45, 180, 0, 112]
abbrev dktX3_lean_3 : List UInt8 := dkwX3_lean_3 ++ dktX3_lean_4
def dkwX3_lean_2 : List UInt8 := [182, 0, 48, 192, 0, 35, 28, 182, 0, 81, 78, 7, 45, 180, 0, 132, 184, 0, 218, 104, 54, 4, 45]
abbrev dktX3_lean_2 : List UInt8 := dkwX3_lean_2 ++ dktX3_lean_3
def dkwX3_lean_1 : List UInt8 := [3, 167, 0, 4, 5, 181, 0, 19, 42, 180, 0, 19, 158, 0, 5, 14, 175, 42, 180, 0, 10, 27]
abbrev dktX3_lean_1 : List UInt8 := dkwX3_lean_1 ++ dktX3_lean_2
def dkwX3_lean_0 : List UInt8 := [42, 42, 27, 182, 0, 44, 154, 0, 7, 4, 167, 0, 19, 28, 3, 17, 1, 244, 184, 0, 27, 153, 0, 7]
abbrev dktX3_lean_0 : List UInt8 := dkwX3_lean_0 ++ dktX3_lean_1
theorem dksX3_lean_0 : cX3_lean.data.toList.drop 0 = dktX3_lean_0 := by decide +kernel
theorem dksX3_lean_1 : cX3_lean.data.toList.drop 24 = dktX3_lean_1 := dk_seg dksX3_lean_0 24 rfl rfl
theorem dksX3_lean_2 : cX3_lean.data.toList.drop 46 = dktX3_lean_2 := dk_seg dksX3_lean_1 22 rfl rfl
theorem dksX3_lean_3 : cX3_lean.data.toList.drop 69 = dktX3_lean_3 := dk_seg dksX3_lean_2 23 rfl rfl
theorem dksX3_lean_4 : cX3_lean.data.toList.drop 92 = dktX3_lean_4 := dk_seg dksX3_lean_3 23 rfl rfl
theorem dksX3_lean_5 : cX3_lean.data.toList.drop 115 = dktX3_lean_5 := dk_seg dksX3_lean_4 23 rfl rfl
theorem dksX3_lean_6 : cX3_lean.data.toList.drop 137 = dktX3_lean_6 := dk_seg dksX3_lean_5 22 rfl rfl
theorem dksX3_lean_7 : cX3_lean.data.toList.drop 159 = dktX3_lean_7 := dk_seg dksX3_lean_6 22 rfl rfl
theorem dX3_lean_0 : decode cX3_lean 0 = .ok (.aload_n 0, 1) := dk_42 (dk_at dksX3_lean_0 0 rfl rfl)
theorem dX3_lean_1 : decode cX3_lean 1 = .ok (.aload_n 0, 1) := dk_42 (dk_at dksX3_lean_0 1 rfl rfl)
theorem dX3_lean_2 : decode cX3_lean 2 = .ok (.iload_n 1, 1) := dk_27 (dk_at dksX3_lean_0 2 rfl rfl)
theorem dX3_lean_3 : decode cX3_lean 3 = .ok (.invokevirtual 44, 3) := dk_182 0 44 (dk_at dksX3_lean_0 3 rfl rfl)
theorem dX3_lean_6 : decode cX3_lean 6 = .ok (.ifCond .ne 7, 3) := dk_154 0 7 (dk_at dksX3_lean_0 6 rfl rfl)
theorem dX3_lean_9 : decode cX3_lean 9 = .ok (.iconst 1, 1) := dk_4 (dk_at dksX3_lean_0 9 rfl rfl)
theorem dX3_lean_10 : decode cX3_lean 10 = .ok (.goto 19, 3) := dk_167 0 19 (dk_at dksX3_lean_0 10 rfl rfl)
theorem dX3_lean_13 : decode cX3_lean 13 = .ok (.iload_n 2, 1) := dk_28 (dk_at dksX3_lean_0 13 rfl rfl)
theorem dX3_lean_14 : decode cX3_lean 14 = .ok (.iconst 0, 1) := dk_3 (dk_at dksX3_lean_0 14 rfl rfl)
theorem dX3_lean_15 : decode cX3_lean 15 = .ok (.sipush 500, 3) := dk_17 1 244 (dk_at dksX3_lean_0 15 rfl rfl)
theorem dX3_lean_18 : decode cX3_lean 18 = .ok (.invokestatic 27, 3) := dk_184 0 27 (dk_at dksX3_lean_0 18 rfl rfl)
theorem dX3_lean_21 : decode cX3_lean 21 = .ok (.ifCond .eq 7, 3) := dk_153 0 7 (dk_at dksX3_lean_0 21 rfl rfl)
theorem dX3_lean_24 : decode cX3_lean 24 = .ok (.iconst 0, 1) := dk_3 (dk_at dksX3_lean_1 0 rfl rfl)
theorem dX3_lean_25 : decode cX3_lean 25 = .ok (.goto 4, 3) := dk_167 0 4 (dk_at dksX3_lean_1 1 rfl rfl)
theorem dX3_lean_28 : decode cX3_lean 28 = .ok (.iconst 2, 1) := dk_5 (dk_at dksX3_lean_1 4 rfl rfl)
theorem dX3_lean_29 : decode cX3_lean 29 = .ok (.putfield 19, 3) := dk_181 0 19 (dk_at dksX3_lean_1 5 rfl rfl)
theorem dX3_lean_32 : decode cX3_lean 32 = .ok (.aload_n 0, 1) := dk_42 (dk_at dksX3_lean_1 8 rfl rfl)
theorem dX3_lean_33 : decode cX3_lean 33 = .ok (.getfield 19, 3) := dk_180 0 19 (dk_at dksX3_lean_1 9 rfl rfl)
theorem dX3_lean_36 : decode cX3_lean 36 = .ok (.ifCond .le 5, 3) := dk_158 0 5 (dk_at dksX3_lean_1 12 rfl rfl)
theorem dX3_lean_39 : decode cX3_lean 39 = .ok (.dconst 0, 1) := dk_14 (dk_at dksX3_lean_1 15 rfl rfl)
theorem dX3_lean_40 : decode cX3_lean 40 = .ok (.dreturn, 1) := dk_175 (dk_at dksX3_lean_1 16 rfl rfl)
theorem dX3_lean_41 : decode cX3_lean 41 = .ok (.aload_n 0, 1) := dk_42 (dk_at dksX3_lean_1 17 rfl rfl)
theorem dX3_lean_42 : decode cX3_lean 42 = .ok (.getfield 10, 3) := dk_180 0 10 (dk_at dksX3_lean_1 18 rfl rfl)
theorem dX3_lean_45 : decode cX3_lean 45 = .ok (.iload_n 1, 1) := dk_27 (dk_at dksX3_lean_1 21 rfl rfl)
theorem dX3_lean_46 : decode cX3_lean 46 = .ok (.invokevirtual 48, 3) := dk_182 0 48 (dk_at dksX3_lean_2 0 rfl rfl)
theorem dX3_lean_49 : decode cX3_lean 49 = .ok (.checkcast 35, 3) := dk_192 0 35 (dk_at dksX3_lean_2 3 rfl rfl)
theorem dX3_lean_52 : decode cX3_lean 52 = .ok (.iload_n 2, 1) := dk_28 (dk_at dksX3_lean_2 6 rfl rfl)
theorem dX3_lean_53 : decode cX3_lean 53 = .ok (.invokevirtual 81, 3) := dk_182 0 81 (dk_at dksX3_lean_2 7 rfl rfl)
theorem dX3_lean_56 : decode cX3_lean 56 = .ok (.astore_n 3, 1) := dk_78 (dk_at dksX3_lean_2 10 rfl rfl)
theorem dX3_lean_57 : decode cX3_lean 57 = .ok (.iconst 4, 1) := dk_7 (dk_at dksX3_lean_2 11 rfl rfl)
theorem dX3_lean_58 : decode cX3_lean 58 = .ok (.aload_n 3, 1) := dk_45 (dk_at dksX3_lean_2 12 rfl rfl)
theorem dX3_lean_59 : decode cX3_lean 59 = .ok (.getfield 132, 3) := dk_180 0 132 (dk_at dksX3_lean_2 13 rfl rfl)
theorem dX3_lean_62 : decode cX3_lean 62 = .ok (.invokestatic 218, 3) := dk_184 0 218 (dk_at dksX3_lean_2 16 rfl rfl)
theorem dX3_lean_65 : decode cX3_lean 65 = .ok (.imul, 1) := dk_104 (dk_at dksX3_lean_2 19 rfl rfl)
theorem dX3_lean_66 : decode cX3_lean 66 = .ok (.istore 4, 2) := dk_54 4 (dk_at dksX3_lean_2 20 rfl rfl)
theorem dX3_lean_68 : decode cX3_lean 68 = .ok (.aload_n 3, 1) := dk_45 (dk_at dksX3_lean_2 22 rfl rfl)
theorem dX3_lean_69 : decode cX3_lean 69 = .ok (.getfield 112, 3) := dk_180 0 112 (dk_at dksX3_lean_3 0 rfl rfl)
theorem dX3_lean_72 : decode cX3_lean 72 = .ok (.ifCond .ne 7, 3) := dk_154 0 7 (dk_at dksX3_lean_3 3 rfl rfl)
theorem dX3_lean_75 : decode cX3_lean 75 = .ok (.iconst 0, 1) := dk_3 (dk_at dksX3_lean_3 6 rfl rfl)
theorem dX3_lean_76 : decode cX3_lean 76 = .ok (.goto 10, 3) := dk_167 0 10 (dk_at dksX3_lean_3 7 rfl rfl)
theorem dX3_lean_79 : decode cX3_lean 79 = .ok (.iload 4, 2) := dk_21 4 (dk_at dksX3_lean_3 10 rfl rfl)
theorem dX3_lean_81 : decode cX3_lean 81 = .ok (.aload_n 3, 1) := dk_45 (dk_at dksX3_lean_3 12 rfl rfl)
theorem dX3_lean_82 : decode cX3_lean 82 = .ok (.getfield 112, 3) := dk_180 0 112 (dk_at dksX3_lean_3 13 rfl rfl)
theorem dX3_lean_85 : decode cX3_lean 85 = .ok (.idiv, 1) := dk_108 (dk_at dksX3_lean_3 16 rfl rfl)
theorem dX3_lean_86 : decode cX3_lean 86 = .ok (.istore 5, 2) := dk_54 5 (dk_at dksX3_lean_3 17 rfl rfl)
theorem dX3_lean_88 : decode cX3_lean 88 = .ok (.aload_n 3, 1) := dk_45 (dk_at dksX3_lean_3 19 rfl rfl)
theorem dX3_lean_89 : decode cX3_lean 89 = .ok (.getfield 112, 3) := dk_180 0 112 (dk_at dksX3_lean_3 20 rfl rfl)
theorem dX3_lean_92 : decode cX3_lean 92 = .ok (.ifCond .ne 7, 3) := dk_154 0 7 (dk_at dksX3_lean_4 0 rfl rfl)
theorem dX3_lean_95 : decode cX3_lean 95 = .ok (.iconst 0, 1) := dk_3 (dk_at dksX3_lean_4 3 rfl rfl)
theorem dX3_lean_96 : decode cX3_lean 96 = .ok (.goto 17, 3) := dk_167 0 17 (dk_at dksX3_lean_4 4 rfl rfl)
theorem dX3_lean_99 : decode cX3_lean 99 = .ok (.iconst 2, 1) := dk_5 (dk_at dksX3_lean_4 7 rfl rfl)
theorem dX3_lean_100 : decode cX3_lean 100 = .ok (.iload 4, 2) := dk_21 4 (dk_at dksX3_lean_4 8 rfl rfl)
theorem dX3_lean_102 : decode cX3_lean 102 = .ok (.aload_n 3, 1) := dk_45 (dk_at dksX3_lean_4 10 rfl rfl)
theorem dX3_lean_103 : decode cX3_lean 103 = .ok (.getfield 112, 3) := dk_180 0 112 (dk_at dksX3_lean_4 11 rfl rfl)
theorem dX3_lean_106 : decode cX3_lean 106 = .ok (.irem, 1) := dk_112 (dk_at dksX3_lean_4 14 rfl rfl)
theorem dX3_lean_107 : decode cX3_lean 107 = .ok (.imul, 1) := dk_104 (dk_at dksX3_lean_4 15 rfl rfl)
theorem dX3_lean_108 : decode cX3_lean 108 = .ok (.aload_n 3, 1) := dk_45 (dk_at dksX3_lean_4 16 rfl rfl)
theorem dX3_lean_109 : decode cX3_lean 109 = .ok (.getfield 112, 3) := dk_180 0 112 (dk_at dksX3_lean_4 17 rfl rfl)
theorem dX3_lean_112 : decode cX3_lean 112 = .ok (.isub, 1) := dk_100 (dk_at dksX3_lean_4 20 rfl rfl)
theorem dX3_lean_113 : decode cX3_lean 113 = .ok (.istore 6, 2) := dk_54 6 (dk_at dksX3_lean_4 21 rfl rfl)
theorem dX3_lean_115 : decode cX3_lean 115 = .ok (.iload 6, 2) := dk_21 6 (dk_at dksX3_lean_5 0 rfl rfl)
theorem dX3_lean_117 : decode cX3_lean 117 = .ok (.ifCond .gt 23, 3) := dk_157 0 23 (dk_at dksX3_lean_5 2 rfl rfl)
theorem dX3_lean_120 : decode cX3_lean 120 = .ok (.iload 6, 2) := dk_21 6 (dk_at dksX3_lean_5 5 rfl rfl)
theorem dX3_lean_122 : decode cX3_lean 122 = .ok (.ifCond .ne 21, 3) := dk_154 0 21 (dk_at dksX3_lean_5 7 rfl rfl)
theorem dX3_lean_125 : decode cX3_lean 125 = .ok (.aload_n 3, 1) := dk_45 (dk_at dksX3_lean_5 10 rfl rfl)
theorem dX3_lean_126 : decode cX3_lean 126 = .ok (.getfield 112, 3) := dk_180 0 112 (dk_at dksX3_lean_5 11 rfl rfl)
theorem dX3_lean_129 : decode cX3_lean 129 = .ok (.ifCond .le 14, 3) := dk_158 0 14 (dk_at dksX3_lean_5 14 rfl rfl)
theorem dX3_lean_132 : decode cX3_lean 132 = .ok (.iload 5, 2) := dk_21 5 (dk_at dksX3_lean_5 17 rfl rfl)
theorem dX3_lean_134 : decode cX3_lean 134 = .ok (.iconst 2, 1) := dk_5 (dk_at dksX3_lean_5 19 rfl rfl)
theorem dX3_lean_135 : decode cX3_lean 135 = .ok (.irem, 1) := dk_112 (dk_at dksX3_lean_5 20 rfl rfl)
theorem dX3_lean_136 : decode cX3_lean 136 = .ok (.iconst 1, 1) := dk_4 (dk_at dksX3_lean_5 21 rfl rfl)
theorem dX3_lean_137 : decode cX3_lean 137 = .ok (.if_icmp .ne 6, 3) := dk_160 0 6 (dk_at dksX3_lean_6 0 rfl rfl)
theorem dX3_lean_140 : decode cX3_lean 140 = .ok (.iinc 5 1, 3) := dk_132 5 1 (dk_at dksX3_lean_6 3 rfl rfl)
theorem dX3_lean_143 : decode cX3_lean 143 = .ok (.aload_n 3, 1) := dk_45 (dk_at dksX3_lean_6 6 rfl rfl)
theorem dX3_lean_144 : decode cX3_lean 144 = .ok (.getfield 132, 3) := dk_180 0 132 (dk_at dksX3_lean_6 7 rfl rfl)
theorem dX3_lean_147 : decode cX3_lean 147 = .ok (.ifCond .ge 9, 3) := dk_156 0 9 (dk_at dksX3_lean_6 10 rfl rfl)
theorem dX3_lean_150 : decode cX3_lean 150 = .ok (.iload 5, 2) := dk_21 5 (dk_at dksX3_lean_6 13 rfl rfl)
theorem dX3_lean_152 : decode cX3_lean 152 = .ok (.ineg, 1) := dk_116 (dk_at dksX3_lean_6 15 rfl rfl)
theorem dX3_lean_153 : decode cX3_lean 153 = .ok (.goto 5, 3) := dk_167 0 5 (dk_at dksX3_lean_6 16 rfl rfl)
theorem dX3_lean_156 : decode cX3_lean 156 = .ok (.iload 5, 2) := dk_21 5 (dk_at dksX3_lean_6 19 rfl rfl)
theorem dX3_lean_158 : decode cX3_lean 158 = .ok (.i2d, 1) := dk_135 (dk_at dksX3_lean_6 21 rfl rfl)
theorem dX3_lean_159 : decode cX3_lean 159 = .ok (.ldc2_w 237, 3) := dk_20 0 237 (dk_at dksX3_lean_7 0 rfl rfl)
theorem dX3_lean_162 : decode cX3_lean 162 = .ok (.ddiv, 1) := dk_111 (dk_at dksX3_lean_7 3 rfl rfl)
theorem dX3_lean_163 : decode cX3_lean 163 = .ok (.dreturn, 1) := dk_175 (dk_at dksX3_lean_7 4 rfl rfl)
abbrev cX3_meets : ByteArray := prog_19_method_37_code
def yX3_meets : MethodName := ⟨RX3, "meets", "(IIII)I"⟩
def dkwX3_meets_5 : List UInt8 := [159, 0, 11, 25, 5, 182, 0, 129, 154, 255, 223, 2, 172, 25, 5, 180, 0, 112, 172]
abbrev dktX3_meets_5 : List UInt8 := dkwX3_meets_5 ++ []
def dkwX3_meets_4 : List UInt8 := [180, 0, 103, 28, 160, 0, 12, 25, 5, 182, 0, 106, 29, 159, 0, 23, 25, 5, 180, 0, 112, 21, 4]
abbrev dktX3_meets_4 : List UInt8 := dkwX3_meets_4 ++ dktX3_meets_5
def dkwX3_meets_3 : List UInt8 := [187, 0, 86, 89, 42, 180, 0, 10, 27, 182, 0, 48, 192, 0, 35, 21, 4, 183, 0, 126, 58, 5, 25, 5]
abbrev dktX3_meets_3 : List UInt8 := dkwX3_meets_3 ++ dktX3_meets_4
def dkwX3_meets_2 : List UInt8 := [4, 182, 0, 31, 172, 21, 4, 3, 17, 1, 244, 184, 0, 27, 154, 0, 9, 42, 5, 182, 0, 31, 172]
abbrev dktX3_meets_2 : List UInt8 := dkwX3_meets_2 ++ dktX3_meets_3
def dkwX3_meets_1 : List UInt8 := [192, 0, 35, 180, 0, 52, 4, 100, 184, 0, 27, 153, 0, 12, 29, 3, 4, 184, 0, 27, 154, 0, 9, 42]
abbrev dktX3_meets_1 : List UInt8 := dkwX3_meets_1 ++ dktX3_meets_2
def dkwX3_meets_0 : List UInt8 := [42, 3, 181, 0, 19, 42, 27, 182, 0, 44, 153, 0, 36, 28, 3, 42, 180, 0, 10, 27, 182, 0, 48]
abbrev dktX3_meets_0 : List UInt8 := dkwX3_meets_0 ++ dktX3_meets_1
theorem dksX3_meets_0 : cX3_meets.data.toList.drop 0 = dktX3_meets_0 := by decide +kernel
theorem dksX3_meets_1 : cX3_meets.data.toList.drop 23 = dktX3_meets_1 := dk_seg dksX3_meets_0 23 rfl rfl
theorem dksX3_meets_2 : cX3_meets.data.toList.drop 47 = dktX3_meets_2 := dk_seg dksX3_meets_1 24 rfl rfl
theorem dksX3_meets_3 : cX3_meets.data.toList.drop 70 = dktX3_meets_3 := dk_seg dksX3_meets_2 23 rfl rfl
theorem dksX3_meets_4 : cX3_meets.data.toList.drop 94 = dktX3_meets_4 := dk_seg dksX3_meets_3 24 rfl rfl
theorem dksX3_meets_5 : cX3_meets.data.toList.drop 117 = dktX3_meets_5 := dk_seg dksX3_meets_4 23 rfl rfl
theorem dX3_meets_0 : decode cX3_meets 0 = .ok (.aload_n 0, 1) := dk_42 (dk_at dksX3_meets_0 0 rfl rfl)
theorem dX3_meets_1 : decode cX3_meets 1 = .ok (.iconst 0, 1) := dk_3 (dk_at dksX3_meets_0 1 rfl rfl)
theorem dX3_meets_2 : decode cX3_meets 2 = .ok (.putfield 19, 3) := dk_181 0 19 (dk_at dksX3_meets_0 2 rfl rfl)
theorem dX3_meets_5 : decode cX3_meets 5 = .ok (.aload_n 0, 1) := dk_42 (dk_at dksX3_meets_0 5 rfl rfl)
theorem dX3_meets_6 : decode cX3_meets 6 = .ok (.iload_n 1, 1) := dk_27 (dk_at dksX3_meets_0 6 rfl rfl)
theorem dX3_meets_7 : decode cX3_meets 7 = .ok (.invokevirtual 44, 3) := dk_182 0 44 (dk_at dksX3_meets_0 7 rfl rfl)
theorem dX3_meets_10 : decode cX3_meets 10 = .ok (.ifCond .eq 36, 3) := dk_153 0 36 (dk_at dksX3_meets_0 10 rfl rfl)
theorem dX3_meets_13 : decode cX3_meets 13 = .ok (.iload_n 2, 1) := dk_28 (dk_at dksX3_meets_0 13 rfl rfl)
theorem dX3_meets_14 : decode cX3_meets 14 = .ok (.iconst 0, 1) := dk_3 (dk_at dksX3_meets_0 14 rfl rfl)
theorem dX3_meets_15 : decode cX3_meets 15 = .ok (.aload_n 0, 1) := dk_42 (dk_at dksX3_meets_0 15 rfl rfl)
theorem dX3_meets_16 : decode cX3_meets 16 = .ok (.getfield 10, 3) := dk_180 0 10 (dk_at dksX3_meets_0 16 rfl rfl)
theorem dX3_meets_19 : decode cX3_meets 19 = .ok (.iload_n 1, 1) := dk_27 (dk_at dksX3_meets_0 19 rfl rfl)
theorem dX3_meets_20 : decode cX3_meets 20 = .ok (.invokevirtual 48, 3) := dk_182 0 48 (dk_at dksX3_meets_0 20 rfl rfl)
theorem dX3_meets_23 : decode cX3_meets 23 = .ok (.checkcast 35, 3) := dk_192 0 35 (dk_at dksX3_meets_1 0 rfl rfl)
theorem dX3_meets_26 : decode cX3_meets 26 = .ok (.getfield 52, 3) := dk_180 0 52 (dk_at dksX3_meets_1 3 rfl rfl)
theorem dX3_meets_29 : decode cX3_meets 29 = .ok (.iconst 1, 1) := dk_4 (dk_at dksX3_meets_1 6 rfl rfl)
theorem dX3_meets_30 : decode cX3_meets 30 = .ok (.isub, 1) := dk_100 (dk_at dksX3_meets_1 7 rfl rfl)
theorem dX3_meets_31 : decode cX3_meets 31 = .ok (.invokestatic 27, 3) := dk_184 0 27 (dk_at dksX3_meets_1 8 rfl rfl)
theorem dX3_meets_34 : decode cX3_meets 34 = .ok (.ifCond .eq 12, 3) := dk_153 0 12 (dk_at dksX3_meets_1 11 rfl rfl)
theorem dX3_meets_37 : decode cX3_meets 37 = .ok (.iload_n 3, 1) := dk_29 (dk_at dksX3_meets_1 14 rfl rfl)
theorem dX3_meets_38 : decode cX3_meets 38 = .ok (.iconst 0, 1) := dk_3 (dk_at dksX3_meets_1 15 rfl rfl)
theorem dX3_meets_39 : decode cX3_meets 39 = .ok (.iconst 1, 1) := dk_4 (dk_at dksX3_meets_1 16 rfl rfl)
theorem dX3_meets_40 : decode cX3_meets 40 = .ok (.invokestatic 27, 3) := dk_184 0 27 (dk_at dksX3_meets_1 17 rfl rfl)
theorem dX3_meets_43 : decode cX3_meets 43 = .ok (.ifCond .ne 9, 3) := dk_154 0 9 (dk_at dksX3_meets_1 20 rfl rfl)
theorem dX3_meets_46 : decode cX3_meets 46 = .ok (.aload_n 0, 1) := dk_42 (dk_at dksX3_meets_1 23 rfl rfl)
theorem dX3_meets_47 : decode cX3_meets 47 = .ok (.iconst 1, 1) := dk_4 (dk_at dksX3_meets_2 0 rfl rfl)
theorem dX3_meets_48 : decode cX3_meets 48 = .ok (.invokevirtual 31, 3) := dk_182 0 31 (dk_at dksX3_meets_2 1 rfl rfl)
theorem dX3_meets_51 : decode cX3_meets 51 = .ok (.ireturn, 1) := dk_172 (dk_at dksX3_meets_2 4 rfl rfl)
theorem dX3_meets_52 : decode cX3_meets 52 = .ok (.iload 4, 2) := dk_21 4 (dk_at dksX3_meets_2 5 rfl rfl)
theorem dX3_meets_54 : decode cX3_meets 54 = .ok (.iconst 0, 1) := dk_3 (dk_at dksX3_meets_2 7 rfl rfl)
theorem dX3_meets_55 : decode cX3_meets 55 = .ok (.sipush 500, 3) := dk_17 1 244 (dk_at dksX3_meets_2 8 rfl rfl)
theorem dX3_meets_58 : decode cX3_meets 58 = .ok (.invokestatic 27, 3) := dk_184 0 27 (dk_at dksX3_meets_2 11 rfl rfl)
theorem dX3_meets_61 : decode cX3_meets 61 = .ok (.ifCond .ne 9, 3) := dk_154 0 9 (dk_at dksX3_meets_2 14 rfl rfl)
theorem dX3_meets_64 : decode cX3_meets 64 = .ok (.aload_n 0, 1) := dk_42 (dk_at dksX3_meets_2 17 rfl rfl)
theorem dX3_meets_65 : decode cX3_meets 65 = .ok (.iconst 2, 1) := dk_5 (dk_at dksX3_meets_2 18 rfl rfl)
theorem dX3_meets_66 : decode cX3_meets 66 = .ok (.invokevirtual 31, 3) := dk_182 0 31 (dk_at dksX3_meets_2 19 rfl rfl)
theorem dX3_meets_69 : decode cX3_meets 69 = .ok (.ireturn, 1) := dk_172 (dk_at dksX3_meets_2 22 rfl rfl)
theorem dX3_meets_70 : decode cX3_meets 70 = .ok (.new 86, 3) := dk_187 0 86 (dk_at dksX3_meets_3 0 rfl rfl)
theorem dX3_meets_73 : decode cX3_meets 73 = .ok (.dup, 1) := dk_89 (dk_at dksX3_meets_3 3 rfl rfl)
theorem dX3_meets_74 : decode cX3_meets 74 = .ok (.aload_n 0, 1) := dk_42 (dk_at dksX3_meets_3 4 rfl rfl)
theorem dX3_meets_75 : decode cX3_meets 75 = .ok (.getfield 10, 3) := dk_180 0 10 (dk_at dksX3_meets_3 5 rfl rfl)
theorem dX3_meets_78 : decode cX3_meets 78 = .ok (.iload_n 1, 1) := dk_27 (dk_at dksX3_meets_3 8 rfl rfl)
theorem dX3_meets_79 : decode cX3_meets 79 = .ok (.invokevirtual 48, 3) := dk_182 0 48 (dk_at dksX3_meets_3 9 rfl rfl)
theorem dX3_meets_82 : decode cX3_meets 82 = .ok (.checkcast 35, 3) := dk_192 0 35 (dk_at dksX3_meets_3 12 rfl rfl)
theorem dX3_meets_85 : decode cX3_meets 85 = .ok (.iload 4, 2) := dk_21 4 (dk_at dksX3_meets_3 15 rfl rfl)
theorem dX3_meets_87 : decode cX3_meets 87 = .ok (.invokespecial 126, 3) := dk_183 0 126 (dk_at dksX3_meets_3 17 rfl rfl)
theorem dX3_meets_90 : decode cX3_meets 90 = .ok (.astore 5, 2) := dk_58 5 (dk_at dksX3_meets_3 20 rfl rfl)
theorem dX3_meets_92 : decode cX3_meets 92 = .ok (.aload 5, 2) := dk_25 5 (dk_at dksX3_meets_3 22 rfl rfl)
theorem dX3_meets_94 : decode cX3_meets 94 = .ok (.getfield 103, 3) := dk_180 0 103 (dk_at dksX3_meets_4 0 rfl rfl)
theorem dX3_meets_97 : decode cX3_meets 97 = .ok (.iload_n 2, 1) := dk_28 (dk_at dksX3_meets_4 3 rfl rfl)
theorem dX3_meets_98 : decode cX3_meets 98 = .ok (.if_icmp .ne 12, 3) := dk_160 0 12 (dk_at dksX3_meets_4 4 rfl rfl)
theorem dX3_meets_101 : decode cX3_meets 101 = .ok (.aload 5, 2) := dk_25 5 (dk_at dksX3_meets_4 7 rfl rfl)
theorem dX3_meets_103 : decode cX3_meets 103 = .ok (.invokevirtual 106, 3) := dk_182 0 106 (dk_at dksX3_meets_4 9 rfl rfl)
theorem dX3_meets_106 : decode cX3_meets 106 = .ok (.iload_n 3, 1) := dk_29 (dk_at dksX3_meets_4 12 rfl rfl)
theorem dX3_meets_107 : decode cX3_meets 107 = .ok (.if_icmp .eq 23, 3) := dk_159 0 23 (dk_at dksX3_meets_4 13 rfl rfl)
theorem dX3_meets_110 : decode cX3_meets 110 = .ok (.aload 5, 2) := dk_25 5 (dk_at dksX3_meets_4 16 rfl rfl)
theorem dX3_meets_112 : decode cX3_meets 112 = .ok (.getfield 112, 3) := dk_180 0 112 (dk_at dksX3_meets_4 18 rfl rfl)
theorem dX3_meets_115 : decode cX3_meets 115 = .ok (.iload 4, 2) := dk_21 4 (dk_at dksX3_meets_4 21 rfl rfl)
theorem dX3_meets_117 : decode cX3_meets 117 = .ok (.if_icmp .eq 11, 3) := dk_159 0 11 (dk_at dksX3_meets_5 0 rfl rfl)
theorem dX3_meets_120 : decode cX3_meets 120 = .ok (.aload 5, 2) := dk_25 5 (dk_at dksX3_meets_5 3 rfl rfl)
theorem dX3_meets_122 : decode cX3_meets 122 = .ok (.invokevirtual 129, 3) := dk_182 0 129 (dk_at dksX3_meets_5 5 rfl rfl)
theorem dX3_meets_125 : decode cX3_meets 125 = .ok (.ifCond .ne (-33), 3) := dk_154 255 223 (dk_at dksX3_meets_5 8 rfl rfl)
theorem dX3_meets_128 : decode cX3_meets 128 = .ok (.iconst (-1), 1) := dk_2 (dk_at dksX3_meets_5 11 rfl rfl)
theorem dX3_meets_129 : decode cX3_meets 129 = .ok (.ireturn, 1) := dk_172 (dk_at dksX3_meets_5 12 rfl rfl)
theorem dX3_meets_130 : decode cX3_meets 130 = .ok (.aload 5, 2) := dk_25 5 (dk_at dksX3_meets_5 13 rfl rfl)
theorem dX3_meets_132 : decode cX3_meets 132 = .ok (.getfield 112, 3) := dk_180 0 112 (dk_at dksX3_meets_5 15 rfl rfl)
theorem dX3_meets_135 : decode cX3_meets 135 = .ok (.ireturn, 1) := dk_172 (dk_at dksX3_meets_5 18 rfl rfl)
abbrev cX3_likeness : ByteArray := prog_19_method_39_code
def yX3_likeness : MethodName := ⟨RX3, "likeness", "(II)I"⟩
def dkwX3_likeness_4 : List UInt8 := [167, 0, 4, 3, 172]
abbrev dktX3_likeness_4 : List UInt8 := dkwX3_likeness_4 ++ []
def dkwX3_likeness_3 : List UInt8 := [192, 0, 35, 42, 180, 0, 10, 28, 182, 0, 48, 192, 0, 35, 2, 184, 0, 239, 153, 0, 7, 5]
abbrev dktX3_likeness_3 : List UInt8 := dkwX3_likeness_3 ++ dktX3_likeness_4
def dkwX3_likeness_2 : List UInt8 := [192, 0, 35, 4, 184, 0, 239, 153, 0, 7, 4, 167, 0, 37, 42, 180, 0, 10, 27, 182, 0, 48]
abbrev dktX3_likeness_2 : List UInt8 := dkwX3_likeness_2 ++ dktX3_likeness_3
def dkwX3_likeness_1 : List UInt8 := [182, 0, 31, 172, 42, 180, 0, 10, 27, 182, 0, 48, 192, 0, 35, 42, 180, 0, 10, 28, 182, 0, 48]
abbrev dktX3_likeness_1 : List UInt8 := dkwX3_likeness_1 ++ dktX3_likeness_2
def dkwX3_likeness_0 : List UInt8 := [42, 3, 181, 0, 19, 42, 27, 182, 0, 44, 153, 0, 11, 42, 28, 182, 0, 44, 154, 0, 9, 42, 4]
abbrev dktX3_likeness_0 : List UInt8 := dkwX3_likeness_0 ++ dktX3_likeness_1
theorem dksX3_likeness_0 : cX3_likeness.data.toList.drop 0 = dktX3_likeness_0 := by decide +kernel
theorem dksX3_likeness_1 : cX3_likeness.data.toList.drop 23 = dktX3_likeness_1 := dk_seg dksX3_likeness_0 23 rfl rfl
theorem dksX3_likeness_2 : cX3_likeness.data.toList.drop 46 = dktX3_likeness_2 := dk_seg dksX3_likeness_1 23 rfl rfl
theorem dksX3_likeness_3 : cX3_likeness.data.toList.drop 68 = dktX3_likeness_3 := dk_seg dksX3_likeness_2 22 rfl rfl
theorem dksX3_likeness_4 : cX3_likeness.data.toList.drop 90 = dktX3_likeness_4 := dk_seg dksX3_likeness_3 22 rfl rfl
theorem dX3_likeness_0 : decode cX3_likeness 0 = .ok (.aload_n 0, 1) := dk_42 (dk_at dksX3_likeness_0 0 rfl rfl)
theorem dX3_likeness_1 : decode cX3_likeness 1 = .ok (.iconst 0, 1) := dk_3 (dk_at dksX3_likeness_0 1 rfl rfl)
theorem dX3_likeness_2 : decode cX3_likeness 2 = .ok (.putfield 19, 3) := dk_181 0 19 (dk_at dksX3_likeness_0 2 rfl rfl)
theorem dX3_likeness_5 : decode cX3_likeness 5 = .ok (.aload_n 0, 1) := dk_42 (dk_at dksX3_likeness_0 5 rfl rfl)
theorem dX3_likeness_6 : decode cX3_likeness 6 = .ok (.iload_n 1, 1) := dk_27 (dk_at dksX3_likeness_0 6 rfl rfl)
theorem dX3_likeness_7 : decode cX3_likeness 7 = .ok (.invokevirtual 44, 3) := dk_182 0 44 (dk_at dksX3_likeness_0 7 rfl rfl)
theorem dX3_likeness_10 : decode cX3_likeness 10 = .ok (.ifCond .eq 11, 3) := dk_153 0 11 (dk_at dksX3_likeness_0 10 rfl rfl)
theorem dX3_likeness_13 : decode cX3_likeness 13 = .ok (.aload_n 0, 1) := dk_42 (dk_at dksX3_likeness_0 13 rfl rfl)
theorem dX3_likeness_14 : decode cX3_likeness 14 = .ok (.iload_n 2, 1) := dk_28 (dk_at dksX3_likeness_0 14 rfl rfl)
theorem dX3_likeness_15 : decode cX3_likeness 15 = .ok (.invokevirtual 44, 3) := dk_182 0 44 (dk_at dksX3_likeness_0 15 rfl rfl)
theorem dX3_likeness_18 : decode cX3_likeness 18 = .ok (.ifCond .ne 9, 3) := dk_154 0 9 (dk_at dksX3_likeness_0 18 rfl rfl)
theorem dX3_likeness_21 : decode cX3_likeness 21 = .ok (.aload_n 0, 1) := dk_42 (dk_at dksX3_likeness_0 21 rfl rfl)
theorem dX3_likeness_22 : decode cX3_likeness 22 = .ok (.iconst 1, 1) := dk_4 (dk_at dksX3_likeness_0 22 rfl rfl)
theorem dX3_likeness_23 : decode cX3_likeness 23 = .ok (.invokevirtual 31, 3) := dk_182 0 31 (dk_at dksX3_likeness_1 0 rfl rfl)
theorem dX3_likeness_26 : decode cX3_likeness 26 = .ok (.ireturn, 1) := dk_172 (dk_at dksX3_likeness_1 3 rfl rfl)
theorem dX3_likeness_27 : decode cX3_likeness 27 = .ok (.aload_n 0, 1) := dk_42 (dk_at dksX3_likeness_1 4 rfl rfl)
theorem dX3_likeness_28 : decode cX3_likeness 28 = .ok (.getfield 10, 3) := dk_180 0 10 (dk_at dksX3_likeness_1 5 rfl rfl)
theorem dX3_likeness_31 : decode cX3_likeness 31 = .ok (.iload_n 1, 1) := dk_27 (dk_at dksX3_likeness_1 8 rfl rfl)
theorem dX3_likeness_32 : decode cX3_likeness 32 = .ok (.invokevirtual 48, 3) := dk_182 0 48 (dk_at dksX3_likeness_1 9 rfl rfl)
theorem dX3_likeness_35 : decode cX3_likeness 35 = .ok (.checkcast 35, 3) := dk_192 0 35 (dk_at dksX3_likeness_1 12 rfl rfl)
theorem dX3_likeness_38 : decode cX3_likeness 38 = .ok (.aload_n 0, 1) := dk_42 (dk_at dksX3_likeness_1 15 rfl rfl)
theorem dX3_likeness_39 : decode cX3_likeness 39 = .ok (.getfield 10, 3) := dk_180 0 10 (dk_at dksX3_likeness_1 16 rfl rfl)
theorem dX3_likeness_42 : decode cX3_likeness 42 = .ok (.iload_n 2, 1) := dk_28 (dk_at dksX3_likeness_1 19 rfl rfl)
theorem dX3_likeness_43 : decode cX3_likeness 43 = .ok (.invokevirtual 48, 3) := dk_182 0 48 (dk_at dksX3_likeness_1 20 rfl rfl)
theorem dX3_likeness_46 : decode cX3_likeness 46 = .ok (.checkcast 35, 3) := dk_192 0 35 (dk_at dksX3_likeness_2 0 rfl rfl)
theorem dX3_likeness_49 : decode cX3_likeness 49 = .ok (.iconst 1, 1) := dk_4 (dk_at dksX3_likeness_2 3 rfl rfl)
theorem dX3_likeness_50 : decode cX3_likeness 50 = .ok (.invokestatic 239, 3) := dk_184 0 239 (dk_at dksX3_likeness_2 4 rfl rfl)
theorem dX3_likeness_53 : decode cX3_likeness 53 = .ok (.ifCond .eq 7, 3) := dk_153 0 7 (dk_at dksX3_likeness_2 7 rfl rfl)
theorem dX3_likeness_56 : decode cX3_likeness 56 = .ok (.iconst 1, 1) := dk_4 (dk_at dksX3_likeness_2 10 rfl rfl)
theorem dX3_likeness_57 : decode cX3_likeness 57 = .ok (.goto 37, 3) := dk_167 0 37 (dk_at dksX3_likeness_2 11 rfl rfl)
theorem dX3_likeness_60 : decode cX3_likeness 60 = .ok (.aload_n 0, 1) := dk_42 (dk_at dksX3_likeness_2 14 rfl rfl)
theorem dX3_likeness_61 : decode cX3_likeness 61 = .ok (.getfield 10, 3) := dk_180 0 10 (dk_at dksX3_likeness_2 15 rfl rfl)
theorem dX3_likeness_64 : decode cX3_likeness 64 = .ok (.iload_n 1, 1) := dk_27 (dk_at dksX3_likeness_2 18 rfl rfl)
theorem dX3_likeness_65 : decode cX3_likeness 65 = .ok (.invokevirtual 48, 3) := dk_182 0 48 (dk_at dksX3_likeness_2 19 rfl rfl)
theorem dX3_likeness_68 : decode cX3_likeness 68 = .ok (.checkcast 35, 3) := dk_192 0 35 (dk_at dksX3_likeness_3 0 rfl rfl)
theorem dX3_likeness_71 : decode cX3_likeness 71 = .ok (.aload_n 0, 1) := dk_42 (dk_at dksX3_likeness_3 3 rfl rfl)
theorem dX3_likeness_72 : decode cX3_likeness 72 = .ok (.getfield 10, 3) := dk_180 0 10 (dk_at dksX3_likeness_3 4 rfl rfl)
theorem dX3_likeness_75 : decode cX3_likeness 75 = .ok (.iload_n 2, 1) := dk_28 (dk_at dksX3_likeness_3 7 rfl rfl)
theorem dX3_likeness_76 : decode cX3_likeness 76 = .ok (.invokevirtual 48, 3) := dk_182 0 48 (dk_at dksX3_likeness_3 8 rfl rfl)
theorem dX3_likeness_79 : decode cX3_likeness 79 = .ok (.checkcast 35, 3) := dk_192 0 35 (dk_at dksX3_likeness_3 11 rfl rfl)
theorem dX3_likeness_82 : decode cX3_likeness 82 = .ok (.iconst (-1), 1) := dk_2 (dk_at dksX3_likeness_3 14 rfl rfl)
theorem dX3_likeness_83 : decode cX3_likeness 83 = .ok (.invokestatic 239, 3) := dk_184 0 239 (dk_at dksX3_likeness_3 15 rfl rfl)
theorem dX3_likeness_86 : decode cX3_likeness 86 = .ok (.ifCond .eq 7, 3) := dk_153 0 7 (dk_at dksX3_likeness_3 18 rfl rfl)
theorem dX3_likeness_89 : decode cX3_likeness 89 = .ok (.iconst 2, 1) := dk_5 (dk_at dksX3_likeness_3 21 rfl rfl)
theorem dX3_likeness_90 : decode cX3_likeness 90 = .ok (.goto 4, 3) := dk_167 0 4 (dk_at dksX3_likeness_4 0 rfl rfl)
theorem dX3_likeness_93 : decode cX3_likeness 93 = .ok (.iconst 0, 1) := dk_3 (dk_at dksX3_likeness_4 3 rfl rfl)
theorem dX3_likeness_94 : decode cX3_likeness 94 = .ok (.ireturn, 1) := dk_172 (dk_at dksX3_likeness_4 4 rfl rfl)
abbrev cX3_areAlike : ByteArray := prog_19_method_38_code
def yX3_areAlike : MethodName := ⟨RX3, "areAlike", "(LHaltingaleModel$Machine;LHaltingaleModel$Machine;I)Z"⟩
def dkwX3_areAlike_4 : List UInt8 := [3, 172, 132, 3, 1, 167, 255, 171, 4, 172]
abbrev dktX3_areAlike_4 : List UInt8 := dkwX3_areAlike_4 ++ []
def dkwX3_areAlike_3 : List UInt8 := [25, 4, 4, 46, 28, 25, 5, 4, 46, 104, 160, 0, 14, 25, 4, 5, 46, 25, 5, 5, 46, 159, 0, 5]
abbrev dktX3_areAlike_3 : List UInt8 := dkwX3_areAlike_3 ++ dktX3_areAlike_4
def dkwX3_areAlike_2 : List UInt8 := [199, 0, 13, 25, 4, 25, 5, 165, 0, 43, 167, 0, 38, 25, 4, 3, 46, 25, 5, 3, 46, 160, 0, 27]
abbrev dktX3_areAlike_2 : List UInt8 := dkwX3_areAlike_2 ++ dktX3_areAlike_3
def dkwX3_areAlike_1 : List UInt8 := [42, 180, 0, 59, 29, 50, 58, 4, 43, 180, 0, 59, 29, 50, 58, 5, 25, 4, 198, 0, 8, 25, 5]
abbrev dktX3_areAlike_1 : List UInt8 := dkwX3_areAlike_1 ++ dktX3_areAlike_2
def dkwX3_areAlike_0 : List UInt8 := [42, 180, 0, 52, 43, 180, 0, 52, 159, 0, 5, 3, 172, 3, 62, 29, 42, 180, 0, 59, 190, 162, 0, 82]
abbrev dktX3_areAlike_0 : List UInt8 := dkwX3_areAlike_0 ++ dktX3_areAlike_1
theorem dksX3_areAlike_0 : cX3_areAlike.data.toList.drop 0 = dktX3_areAlike_0 := by decide +kernel
theorem dksX3_areAlike_1 : cX3_areAlike.data.toList.drop 24 = dktX3_areAlike_1 := dk_seg dksX3_areAlike_0 24 rfl rfl
theorem dksX3_areAlike_2 : cX3_areAlike.data.toList.drop 47 = dktX3_areAlike_2 := dk_seg dksX3_areAlike_1 23 rfl rfl
theorem dksX3_areAlike_3 : cX3_areAlike.data.toList.drop 71 = dktX3_areAlike_3 := dk_seg dksX3_areAlike_2 24 rfl rfl
theorem dksX3_areAlike_4 : cX3_areAlike.data.toList.drop 95 = dktX3_areAlike_4 := dk_seg dksX3_areAlike_3 24 rfl rfl
theorem dX3_areAlike_0 : decode cX3_areAlike 0 = .ok (.aload_n 0, 1) := dk_42 (dk_at dksX3_areAlike_0 0 rfl rfl)
theorem dX3_areAlike_1 : decode cX3_areAlike 1 = .ok (.getfield 52, 3) := dk_180 0 52 (dk_at dksX3_areAlike_0 1 rfl rfl)
theorem dX3_areAlike_4 : decode cX3_areAlike 4 = .ok (.aload_n 1, 1) := dk_43 (dk_at dksX3_areAlike_0 4 rfl rfl)
theorem dX3_areAlike_5 : decode cX3_areAlike 5 = .ok (.getfield 52, 3) := dk_180 0 52 (dk_at dksX3_areAlike_0 5 rfl rfl)
theorem dX3_areAlike_8 : decode cX3_areAlike 8 = .ok (.if_icmp .eq 5, 3) := dk_159 0 5 (dk_at dksX3_areAlike_0 8 rfl rfl)
theorem dX3_areAlike_11 : decode cX3_areAlike 11 = .ok (.iconst 0, 1) := dk_3 (dk_at dksX3_areAlike_0 11 rfl rfl)
theorem dX3_areAlike_12 : decode cX3_areAlike 12 = .ok (.ireturn, 1) := dk_172 (dk_at dksX3_areAlike_0 12 rfl rfl)
theorem dX3_areAlike_13 : decode cX3_areAlike 13 = .ok (.iconst 0, 1) := dk_3 (dk_at dksX3_areAlike_0 13 rfl rfl)
theorem dX3_areAlike_14 : decode cX3_areAlike 14 = .ok (.istore_n 3, 1) := dk_62 (dk_at dksX3_areAlike_0 14 rfl rfl)
theorem dX3_areAlike_15 : decode cX3_areAlike 15 = .ok (.iload_n 3, 1) := dk_29 (dk_at dksX3_areAlike_0 15 rfl rfl)
theorem dX3_areAlike_16 : decode cX3_areAlike 16 = .ok (.aload_n 0, 1) := dk_42 (dk_at dksX3_areAlike_0 16 rfl rfl)
theorem dX3_areAlike_17 : decode cX3_areAlike 17 = .ok (.getfield 59, 3) := dk_180 0 59 (dk_at dksX3_areAlike_0 17 rfl rfl)
theorem dX3_areAlike_20 : decode cX3_areAlike 20 = .ok (.arraylength, 1) := dk_190 (dk_at dksX3_areAlike_0 20 rfl rfl)
theorem dX3_areAlike_21 : decode cX3_areAlike 21 = .ok (.if_icmp .ge 82, 3) := dk_162 0 82 (dk_at dksX3_areAlike_0 21 rfl rfl)
theorem dX3_areAlike_24 : decode cX3_areAlike 24 = .ok (.aload_n 0, 1) := dk_42 (dk_at dksX3_areAlike_1 0 rfl rfl)
theorem dX3_areAlike_25 : decode cX3_areAlike 25 = .ok (.getfield 59, 3) := dk_180 0 59 (dk_at dksX3_areAlike_1 1 rfl rfl)
theorem dX3_areAlike_28 : decode cX3_areAlike 28 = .ok (.iload_n 3, 1) := dk_29 (dk_at dksX3_areAlike_1 4 rfl rfl)
theorem dX3_areAlike_29 : decode cX3_areAlike 29 = .ok (.aaload, 1) := dk_50 (dk_at dksX3_areAlike_1 5 rfl rfl)
theorem dX3_areAlike_30 : decode cX3_areAlike 30 = .ok (.astore 4, 2) := dk_58 4 (dk_at dksX3_areAlike_1 6 rfl rfl)
theorem dX3_areAlike_32 : decode cX3_areAlike 32 = .ok (.aload_n 1, 1) := dk_43 (dk_at dksX3_areAlike_1 8 rfl rfl)
theorem dX3_areAlike_33 : decode cX3_areAlike 33 = .ok (.getfield 59, 3) := dk_180 0 59 (dk_at dksX3_areAlike_1 9 rfl rfl)
theorem dX3_areAlike_36 : decode cX3_areAlike 36 = .ok (.iload_n 3, 1) := dk_29 (dk_at dksX3_areAlike_1 12 rfl rfl)
theorem dX3_areAlike_37 : decode cX3_areAlike 37 = .ok (.aaload, 1) := dk_50 (dk_at dksX3_areAlike_1 13 rfl rfl)
theorem dX3_areAlike_38 : decode cX3_areAlike 38 = .ok (.astore 5, 2) := dk_58 5 (dk_at dksX3_areAlike_1 14 rfl rfl)
theorem dX3_areAlike_40 : decode cX3_areAlike 40 = .ok (.aload 4, 2) := dk_25 4 (dk_at dksX3_areAlike_1 16 rfl rfl)
theorem dX3_areAlike_42 : decode cX3_areAlike 42 = .ok (.ifnull 8, 3) := dk_198 0 8 (dk_at dksX3_areAlike_1 18 rfl rfl)
theorem dX3_areAlike_45 : decode cX3_areAlike 45 = .ok (.aload 5, 2) := dk_25 5 (dk_at dksX3_areAlike_1 21 rfl rfl)
theorem dX3_areAlike_47 : decode cX3_areAlike 47 = .ok (.ifnonnull 13, 3) := dk_199 0 13 (dk_at dksX3_areAlike_2 0 rfl rfl)
theorem dX3_areAlike_50 : decode cX3_areAlike 50 = .ok (.aload 4, 2) := dk_25 4 (dk_at dksX3_areAlike_2 3 rfl rfl)
theorem dX3_areAlike_52 : decode cX3_areAlike 52 = .ok (.aload 5, 2) := dk_25 5 (dk_at dksX3_areAlike_2 5 rfl rfl)
theorem dX3_areAlike_54 : decode cX3_areAlike 54 = .ok (.if_acmp .eq 43, 3) := dk_165 0 43 (dk_at dksX3_areAlike_2 7 rfl rfl)
theorem dX3_areAlike_57 : decode cX3_areAlike 57 = .ok (.goto 38, 3) := dk_167 0 38 (dk_at dksX3_areAlike_2 10 rfl rfl)
theorem dX3_areAlike_60 : decode cX3_areAlike 60 = .ok (.aload 4, 2) := dk_25 4 (dk_at dksX3_areAlike_2 13 rfl rfl)
theorem dX3_areAlike_62 : decode cX3_areAlike 62 = .ok (.iconst 0, 1) := dk_3 (dk_at dksX3_areAlike_2 15 rfl rfl)
theorem dX3_areAlike_63 : decode cX3_areAlike 63 = .ok (.iaload, 1) := dk_46 (dk_at dksX3_areAlike_2 16 rfl rfl)
theorem dX3_areAlike_64 : decode cX3_areAlike 64 = .ok (.aload 5, 2) := dk_25 5 (dk_at dksX3_areAlike_2 17 rfl rfl)
theorem dX3_areAlike_66 : decode cX3_areAlike 66 = .ok (.iconst 0, 1) := dk_3 (dk_at dksX3_areAlike_2 19 rfl rfl)
theorem dX3_areAlike_67 : decode cX3_areAlike 67 = .ok (.iaload, 1) := dk_46 (dk_at dksX3_areAlike_2 20 rfl rfl)
theorem dX3_areAlike_68 : decode cX3_areAlike 68 = .ok (.if_icmp .ne 27, 3) := dk_160 0 27 (dk_at dksX3_areAlike_2 21 rfl rfl)
theorem dX3_areAlike_71 : decode cX3_areAlike 71 = .ok (.aload 4, 2) := dk_25 4 (dk_at dksX3_areAlike_3 0 rfl rfl)
theorem dX3_areAlike_73 : decode cX3_areAlike 73 = .ok (.iconst 1, 1) := dk_4 (dk_at dksX3_areAlike_3 2 rfl rfl)
theorem dX3_areAlike_74 : decode cX3_areAlike 74 = .ok (.iaload, 1) := dk_46 (dk_at dksX3_areAlike_3 3 rfl rfl)
theorem dX3_areAlike_75 : decode cX3_areAlike 75 = .ok (.iload_n 2, 1) := dk_28 (dk_at dksX3_areAlike_3 4 rfl rfl)
theorem dX3_areAlike_76 : decode cX3_areAlike 76 = .ok (.aload 5, 2) := dk_25 5 (dk_at dksX3_areAlike_3 5 rfl rfl)
theorem dX3_areAlike_78 : decode cX3_areAlike 78 = .ok (.iconst 1, 1) := dk_4 (dk_at dksX3_areAlike_3 7 rfl rfl)
theorem dX3_areAlike_79 : decode cX3_areAlike 79 = .ok (.iaload, 1) := dk_46 (dk_at dksX3_areAlike_3 8 rfl rfl)
theorem dX3_areAlike_80 : decode cX3_areAlike 80 = .ok (.imul, 1) := dk_104 (dk_at dksX3_areAlike_3 9 rfl rfl)
theorem dX3_areAlike_81 : decode cX3_areAlike 81 = .ok (.if_icmp .ne 14, 3) := dk_160 0 14 (dk_at dksX3_areAlike_3 10 rfl rfl)
theorem dX3_areAlike_84 : decode cX3_areAlike 84 = .ok (.aload 4, 2) := dk_25 4 (dk_at dksX3_areAlike_3 13 rfl rfl)
theorem dX3_areAlike_86 : decode cX3_areAlike 86 = .ok (.iconst 2, 1) := dk_5 (dk_at dksX3_areAlike_3 15 rfl rfl)
theorem dX3_areAlike_87 : decode cX3_areAlike 87 = .ok (.iaload, 1) := dk_46 (dk_at dksX3_areAlike_3 16 rfl rfl)
theorem dX3_areAlike_88 : decode cX3_areAlike 88 = .ok (.aload 5, 2) := dk_25 5 (dk_at dksX3_areAlike_3 17 rfl rfl)
theorem dX3_areAlike_90 : decode cX3_areAlike 90 = .ok (.iconst 2, 1) := dk_5 (dk_at dksX3_areAlike_3 19 rfl rfl)
theorem dX3_areAlike_91 : decode cX3_areAlike 91 = .ok (.iaload, 1) := dk_46 (dk_at dksX3_areAlike_3 20 rfl rfl)
theorem dX3_areAlike_92 : decode cX3_areAlike 92 = .ok (.if_icmp .eq 5, 3) := dk_159 0 5 (dk_at dksX3_areAlike_3 21 rfl rfl)
theorem dX3_areAlike_95 : decode cX3_areAlike 95 = .ok (.iconst 0, 1) := dk_3 (dk_at dksX3_areAlike_4 0 rfl rfl)
theorem dX3_areAlike_96 : decode cX3_areAlike 96 = .ok (.ireturn, 1) := dk_172 (dk_at dksX3_areAlike_4 1 rfl rfl)
theorem dX3_areAlike_97 : decode cX3_areAlike 97 = .ok (.iinc 3 1, 3) := dk_132 3 1 (dk_at dksX3_areAlike_4 2 rfl rfl)
theorem dX3_areAlike_100 : decode cX3_areAlike 100 = .ok (.goto (-85), 3) := dk_167 255 171 (dk_at dksX3_areAlike_4 5 rfl rfl)
theorem dX3_areAlike_103 : decode cX3_areAlike 103 = .ok (.iconst 1, 1) := dk_4 (dk_at dksX3_areAlike_4 8 rfl rfl)
theorem dX3_areAlike_104 : decode cX3_areAlike 104 = .ok (.ireturn, 1) := dk_172 (dk_at dksX3_areAlike_4 9 rfl rfl)
abbrev cX3_champion : ByteArray := prog_19_method_41_code
def yX3_champion : MethodName := ⟨RX3, "champion", "(I)I"⟩
def dkwX3_champion_1 : List UInt8 := [182, 0, 31, 172]
abbrev dktX3_champion_1 : List UInt8 := dkwX3_champion_1 ++ []
def dkwX3_champion_0 : List UInt8 := [42, 3, 181, 0, 19, 27, 3, 4, 184, 0, 27, 153, 0, 11, 42, 27, 182, 0, 243, 167, 0, 8, 42, 4]
abbrev dktX3_champion_0 : List UInt8 := dkwX3_champion_0 ++ dktX3_champion_1
theorem dksX3_champion_0 : cX3_champion.data.toList.drop 0 = dktX3_champion_0 := by decide +kernel
theorem dksX3_champion_1 : cX3_champion.data.toList.drop 24 = dktX3_champion_1 := dk_seg dksX3_champion_0 24 rfl rfl
theorem dX3_champion_0 : decode cX3_champion 0 = .ok (.aload_n 0, 1) := dk_42 (dk_at dksX3_champion_0 0 rfl rfl)
theorem dX3_champion_1 : decode cX3_champion 1 = .ok (.iconst 0, 1) := dk_3 (dk_at dksX3_champion_0 1 rfl rfl)
theorem dX3_champion_2 : decode cX3_champion 2 = .ok (.putfield 19, 3) := dk_181 0 19 (dk_at dksX3_champion_0 2 rfl rfl)
theorem dX3_champion_5 : decode cX3_champion 5 = .ok (.iload_n 1, 1) := dk_27 (dk_at dksX3_champion_0 5 rfl rfl)
theorem dX3_champion_6 : decode cX3_champion 6 = .ok (.iconst 0, 1) := dk_3 (dk_at dksX3_champion_0 6 rfl rfl)
theorem dX3_champion_7 : decode cX3_champion 7 = .ok (.iconst 1, 1) := dk_4 (dk_at dksX3_champion_0 7 rfl rfl)
theorem dX3_champion_8 : decode cX3_champion 8 = .ok (.invokestatic 27, 3) := dk_184 0 27 (dk_at dksX3_champion_0 8 rfl rfl)
theorem dX3_champion_11 : decode cX3_champion 11 = .ok (.ifCond .eq 11, 3) := dk_153 0 11 (dk_at dksX3_champion_0 11 rfl rfl)
theorem dX3_champion_14 : decode cX3_champion 14 = .ok (.aload_n 0, 1) := dk_42 (dk_at dksX3_champion_0 14 rfl rfl)
theorem dX3_champion_15 : decode cX3_champion 15 = .ok (.iload_n 1, 1) := dk_27 (dk_at dksX3_champion_0 15 rfl rfl)
theorem dX3_champion_16 : decode cX3_champion 16 = .ok (.invokevirtual 243, 3) := dk_182 0 243 (dk_at dksX3_champion_0 16 rfl rfl)
theorem dX3_champion_19 : decode cX3_champion 19 = .ok (.goto 8, 3) := dk_167 0 8 (dk_at dksX3_champion_0 19 rfl rfl)
theorem dX3_champion_22 : decode cX3_champion 22 = .ok (.aload_n 0, 1) := dk_42 (dk_at dksX3_champion_0 22 rfl rfl)
theorem dX3_champion_23 : decode cX3_champion 23 = .ok (.iconst 1, 1) := dk_4 (dk_at dksX3_champion_0 23 rfl rfl)
theorem dX3_champion_24 : decode cX3_champion 24 = .ok (.invokevirtual 31, 3) := dk_182 0 31 (dk_at dksX3_champion_1 0 rfl rfl)
theorem dX3_champion_27 : decode cX3_champion 27 = .ok (.ireturn, 1) := dk_172 (dk_at dksX3_champion_1 3 rfl rfl)
abbrev cX3_championNow : ByteArray := prog_19_method_40_code
def yX3_championNow : MethodName := ⟨RX3, "championNow", "(I)I"⟩
def dkwX3_championNow_3 : List UInt8 := [62, 132, 4, 1, 167, 255, 188, 28, 172]
abbrev dktX3_championNow_3 : List UInt8 := dkwX3_championNow_3 ++ []
def dkwX3_championNow_2 : List UInt8 := [96, 182, 0, 221, 167, 0, 4, 2, 54, 6, 21, 6, 29, 163, 0, 6, 167, 0, 9, 21, 4, 61, 21, 6]
abbrev dktX3_championNow_2 : List UInt8 := dkwX3_championNow_2 ++ dktX3_championNow_3
def dkwX3_championNow_1 : List UInt8 := [21, 4, 182, 0, 48, 192, 0, 35, 58, 5, 25, 5, 180, 0, 175, 154, 0, 16, 42, 25, 5, 16, 6, 27]
abbrev dktX3_championNow_1 : List UInt8 := dkwX3_championNow_1 ++ dktX3_championNow_2
def dkwX3_championNow_0 : List UInt8 := [2, 61, 2, 62, 3, 54, 4, 21, 4, 42, 180, 0, 10, 182, 0, 23, 162, 0, 62, 42, 180, 0, 10]
abbrev dktX3_championNow_0 : List UInt8 := dkwX3_championNow_0 ++ dktX3_championNow_1
theorem dksX3_championNow_0 : cX3_championNow.data.toList.drop 0 = dktX3_championNow_0 := by decide +kernel
theorem dksX3_championNow_1 : cX3_championNow.data.toList.drop 23 = dktX3_championNow_1 := dk_seg dksX3_championNow_0 23 rfl rfl
theorem dksX3_championNow_2 : cX3_championNow.data.toList.drop 47 = dktX3_championNow_2 := dk_seg dksX3_championNow_1 24 rfl rfl
theorem dksX3_championNow_3 : cX3_championNow.data.toList.drop 71 = dktX3_championNow_3 := dk_seg dksX3_championNow_2 24 rfl rfl
theorem dX3_championNow_0 : decode cX3_championNow 0 = .ok (.iconst (-1), 1) := dk_2 (dk_at dksX3_championNow_0 0 rfl rfl)
theorem dX3_championNow_1 : decode cX3_championNow 1 = .ok (.istore_n 2, 1) := dk_61 (dk_at dksX3_championNow_0 1 rfl rfl)
theorem dX3_championNow_2 : decode cX3_championNow 2 = .ok (.iconst (-1), 1) := dk_2 (dk_at dksX3_championNow_0 2 rfl rfl)
theorem dX3_championNow_3 : decode cX3_championNow 3 = .ok (.istore_n 3, 1) := dk_62 (dk_at dksX3_championNow_0 3 rfl rfl)
theorem dX3_championNow_4 : decode cX3_championNow 4 = .ok (.iconst 0, 1) := dk_3 (dk_at dksX3_championNow_0 4 rfl rfl)
theorem dX3_championNow_5 : decode cX3_championNow 5 = .ok (.istore 4, 2) := dk_54 4 (dk_at dksX3_championNow_0 5 rfl rfl)
theorem dX3_championNow_7 : decode cX3_championNow 7 = .ok (.iload 4, 2) := dk_21 4 (dk_at dksX3_championNow_0 7 rfl rfl)
theorem dX3_championNow_9 : decode cX3_championNow 9 = .ok (.aload_n 0, 1) := dk_42 (dk_at dksX3_championNow_0 9 rfl rfl)
theorem dX3_championNow_10 : decode cX3_championNow 10 = .ok (.getfield 10, 3) := dk_180 0 10 (dk_at dksX3_championNow_0 10 rfl rfl)
theorem dX3_championNow_13 : decode cX3_championNow 13 = .ok (.invokevirtual 23, 3) := dk_182 0 23 (dk_at dksX3_championNow_0 13 rfl rfl)
theorem dX3_championNow_16 : decode cX3_championNow 16 = .ok (.if_icmp .ge 62, 3) := dk_162 0 62 (dk_at dksX3_championNow_0 16 rfl rfl)
theorem dX3_championNow_19 : decode cX3_championNow 19 = .ok (.aload_n 0, 1) := dk_42 (dk_at dksX3_championNow_0 19 rfl rfl)
theorem dX3_championNow_20 : decode cX3_championNow 20 = .ok (.getfield 10, 3) := dk_180 0 10 (dk_at dksX3_championNow_0 20 rfl rfl)
theorem dX3_championNow_23 : decode cX3_championNow 23 = .ok (.iload 4, 2) := dk_21 4 (dk_at dksX3_championNow_1 0 rfl rfl)
theorem dX3_championNow_25 : decode cX3_championNow 25 = .ok (.invokevirtual 48, 3) := dk_182 0 48 (dk_at dksX3_championNow_1 2 rfl rfl)
theorem dX3_championNow_28 : decode cX3_championNow 28 = .ok (.checkcast 35, 3) := dk_192 0 35 (dk_at dksX3_championNow_1 5 rfl rfl)
theorem dX3_championNow_31 : decode cX3_championNow 31 = .ok (.astore 5, 2) := dk_58 5 (dk_at dksX3_championNow_1 8 rfl rfl)
theorem dX3_championNow_33 : decode cX3_championNow 33 = .ok (.aload 5, 2) := dk_25 5 (dk_at dksX3_championNow_1 10 rfl rfl)
theorem dX3_championNow_35 : decode cX3_championNow 35 = .ok (.getfield 175, 3) := dk_180 0 175 (dk_at dksX3_championNow_1 12 rfl rfl)
theorem dX3_championNow_38 : decode cX3_championNow 38 = .ok (.ifCond .ne 16, 3) := dk_154 0 16 (dk_at dksX3_championNow_1 15 rfl rfl)
theorem dX3_championNow_41 : decode cX3_championNow 41 = .ok (.aload_n 0, 1) := dk_42 (dk_at dksX3_championNow_1 18 rfl rfl)
theorem dX3_championNow_42 : decode cX3_championNow 42 = .ok (.aload 5, 2) := dk_25 5 (dk_at dksX3_championNow_1 19 rfl rfl)
theorem dX3_championNow_44 : decode cX3_championNow 44 = .ok (.bipush 6, 2) := dk_16 6 (dk_at dksX3_championNow_1 21 rfl rfl)
theorem dX3_championNow_46 : decode cX3_championNow 46 = .ok (.iload_n 1, 1) := dk_27 (dk_at dksX3_championNow_1 23 rfl rfl)
theorem dX3_championNow_47 : decode cX3_championNow 47 = .ok (.iadd, 1) := dk_96 (dk_at dksX3_championNow_2 0 rfl rfl)
theorem dX3_championNow_48 : decode cX3_championNow 48 = .ok (.invokevirtual 221, 3) := dk_182 0 221 (dk_at dksX3_championNow_2 1 rfl rfl)
theorem dX3_championNow_51 : decode cX3_championNow 51 = .ok (.goto 4, 3) := dk_167 0 4 (dk_at dksX3_championNow_2 4 rfl rfl)
theorem dX3_championNow_54 : decode cX3_championNow 54 = .ok (.iconst (-1), 1) := dk_2 (dk_at dksX3_championNow_2 7 rfl rfl)
theorem dX3_championNow_55 : decode cX3_championNow 55 = .ok (.istore 6, 2) := dk_54 6 (dk_at dksX3_championNow_2 8 rfl rfl)
theorem dX3_championNow_57 : decode cX3_championNow 57 = .ok (.iload 6, 2) := dk_21 6 (dk_at dksX3_championNow_2 10 rfl rfl)
theorem dX3_championNow_59 : decode cX3_championNow 59 = .ok (.iload_n 3, 1) := dk_29 (dk_at dksX3_championNow_2 12 rfl rfl)
theorem dX3_championNow_60 : decode cX3_championNow 60 = .ok (.if_icmp .gt 6, 3) := dk_163 0 6 (dk_at dksX3_championNow_2 13 rfl rfl)
theorem dX3_championNow_63 : decode cX3_championNow 63 = .ok (.goto 9, 3) := dk_167 0 9 (dk_at dksX3_championNow_2 16 rfl rfl)
theorem dX3_championNow_66 : decode cX3_championNow 66 = .ok (.iload 4, 2) := dk_21 4 (dk_at dksX3_championNow_2 19 rfl rfl)
theorem dX3_championNow_68 : decode cX3_championNow 68 = .ok (.istore_n 2, 1) := dk_61 (dk_at dksX3_championNow_2 21 rfl rfl)
theorem dX3_championNow_69 : decode cX3_championNow 69 = .ok (.iload 6, 2) := dk_21 6 (dk_at dksX3_championNow_2 22 rfl rfl)
theorem dX3_championNow_71 : decode cX3_championNow 71 = .ok (.istore_n 3, 1) := dk_62 (dk_at dksX3_championNow_3 0 rfl rfl)
theorem dX3_championNow_72 : decode cX3_championNow 72 = .ok (.iinc 4 1, 3) := dk_132 4 1 (dk_at dksX3_championNow_3 1 rfl rfl)
theorem dX3_championNow_75 : decode cX3_championNow 75 = .ok (.goto (-68), 3) := dk_167 255 188 (dk_at dksX3_championNow_3 4 rfl rfl)
theorem dX3_championNow_78 : decode cX3_championNow 78 = .ok (.iload_n 2, 1) := dk_28 (dk_at dksX3_championNow_3 7 rfl rfl)
theorem dX3_championNow_79 : decode cX3_championNow 79 = .ok (.ireturn, 1) := dk_172 (dk_at dksX3_championNow_3 8 rfl rfl)
abbrev cX3_tagged : ByteArray := prog_19_method_44_code
def yX3_tagged : MethodName := ⟨RX3, "tagged", "(III)I"⟩
def dkwX3_tagged_2 : List UInt8 := [153, 0, 13, 42, 27, 28, 29, 182, 0, 254, 167, 0, 8, 42, 5, 182, 0, 31, 172]
abbrev dktX3_tagged_2 : List UInt8 := dkwX3_tagged_2 ++ []
def dkwX3_tagged_1 : List UInt8 := [182, 0, 31, 172, 28, 4, 17, 3, 255, 184, 0, 27, 153, 0, 24, 29, 3, 17, 0, 200, 184, 0, 27]
abbrev dktX3_tagged_1 : List UInt8 := dkwX3_tagged_1 ++ dktX3_tagged_2
def dkwX3_tagged_0 : List UInt8 := [42, 3, 181, 0, 19, 27, 3, 42, 180, 0, 16, 182, 0, 23, 4, 100, 184, 0, 27, 154, 0, 9, 42, 4]
abbrev dktX3_tagged_0 : List UInt8 := dkwX3_tagged_0 ++ dktX3_tagged_1
theorem dksX3_tagged_0 : cX3_tagged.data.toList.drop 0 = dktX3_tagged_0 := by decide +kernel
theorem dksX3_tagged_1 : cX3_tagged.data.toList.drop 24 = dktX3_tagged_1 := dk_seg dksX3_tagged_0 24 rfl rfl
theorem dksX3_tagged_2 : cX3_tagged.data.toList.drop 47 = dktX3_tagged_2 := dk_seg dksX3_tagged_1 23 rfl rfl
theorem dX3_tagged_0 : decode cX3_tagged 0 = .ok (.aload_n 0, 1) := dk_42 (dk_at dksX3_tagged_0 0 rfl rfl)
theorem dX3_tagged_1 : decode cX3_tagged 1 = .ok (.iconst 0, 1) := dk_3 (dk_at dksX3_tagged_0 1 rfl rfl)
theorem dX3_tagged_2 : decode cX3_tagged 2 = .ok (.putfield 19, 3) := dk_181 0 19 (dk_at dksX3_tagged_0 2 rfl rfl)
theorem dX3_tagged_5 : decode cX3_tagged 5 = .ok (.iload_n 1, 1) := dk_27 (dk_at dksX3_tagged_0 5 rfl rfl)
theorem dX3_tagged_6 : decode cX3_tagged 6 = .ok (.iconst 0, 1) := dk_3 (dk_at dksX3_tagged_0 6 rfl rfl)
theorem dX3_tagged_7 : decode cX3_tagged 7 = .ok (.aload_n 0, 1) := dk_42 (dk_at dksX3_tagged_0 7 rfl rfl)
theorem dX3_tagged_8 : decode cX3_tagged 8 = .ok (.getfield 16, 3) := dk_180 0 16 (dk_at dksX3_tagged_0 8 rfl rfl)
theorem dX3_tagged_11 : decode cX3_tagged 11 = .ok (.invokevirtual 23, 3) := dk_182 0 23 (dk_at dksX3_tagged_0 11 rfl rfl)
theorem dX3_tagged_14 : decode cX3_tagged 14 = .ok (.iconst 1, 1) := dk_4 (dk_at dksX3_tagged_0 14 rfl rfl)
theorem dX3_tagged_15 : decode cX3_tagged 15 = .ok (.isub, 1) := dk_100 (dk_at dksX3_tagged_0 15 rfl rfl)
theorem dX3_tagged_16 : decode cX3_tagged 16 = .ok (.invokestatic 27, 3) := dk_184 0 27 (dk_at dksX3_tagged_0 16 rfl rfl)
theorem dX3_tagged_19 : decode cX3_tagged 19 = .ok (.ifCond .ne 9, 3) := dk_154 0 9 (dk_at dksX3_tagged_0 19 rfl rfl)
theorem dX3_tagged_22 : decode cX3_tagged 22 = .ok (.aload_n 0, 1) := dk_42 (dk_at dksX3_tagged_0 22 rfl rfl)
theorem dX3_tagged_23 : decode cX3_tagged 23 = .ok (.iconst 1, 1) := dk_4 (dk_at dksX3_tagged_0 23 rfl rfl)
theorem dX3_tagged_24 : decode cX3_tagged 24 = .ok (.invokevirtual 31, 3) := dk_182 0 31 (dk_at dksX3_tagged_1 0 rfl rfl)
theorem dX3_tagged_27 : decode cX3_tagged 27 = .ok (.ireturn, 1) := dk_172 (dk_at dksX3_tagged_1 3 rfl rfl)
theorem dX3_tagged_28 : decode cX3_tagged 28 = .ok (.iload_n 2, 1) := dk_28 (dk_at dksX3_tagged_1 4 rfl rfl)
theorem dX3_tagged_29 : decode cX3_tagged 29 = .ok (.iconst 1, 1) := dk_4 (dk_at dksX3_tagged_1 5 rfl rfl)
theorem dX3_tagged_30 : decode cX3_tagged 30 = .ok (.sipush 1023, 3) := dk_17 3 255 (dk_at dksX3_tagged_1 6 rfl rfl)
theorem dX3_tagged_33 : decode cX3_tagged 33 = .ok (.invokestatic 27, 3) := dk_184 0 27 (dk_at dksX3_tagged_1 9 rfl rfl)
theorem dX3_tagged_36 : decode cX3_tagged 36 = .ok (.ifCond .eq 24, 3) := dk_153 0 24 (dk_at dksX3_tagged_1 12 rfl rfl)
theorem dX3_tagged_39 : decode cX3_tagged 39 = .ok (.iload_n 3, 1) := dk_29 (dk_at dksX3_tagged_1 15 rfl rfl)
theorem dX3_tagged_40 : decode cX3_tagged 40 = .ok (.iconst 0, 1) := dk_3 (dk_at dksX3_tagged_1 16 rfl rfl)
theorem dX3_tagged_41 : decode cX3_tagged 41 = .ok (.sipush 200, 3) := dk_17 0 200 (dk_at dksX3_tagged_1 17 rfl rfl)
theorem dX3_tagged_44 : decode cX3_tagged 44 = .ok (.invokestatic 27, 3) := dk_184 0 27 (dk_at dksX3_tagged_1 20 rfl rfl)
theorem dX3_tagged_47 : decode cX3_tagged 47 = .ok (.ifCond .eq 13, 3) := dk_153 0 13 (dk_at dksX3_tagged_2 0 rfl rfl)
theorem dX3_tagged_50 : decode cX3_tagged 50 = .ok (.aload_n 0, 1) := dk_42 (dk_at dksX3_tagged_2 3 rfl rfl)
theorem dX3_tagged_51 : decode cX3_tagged 51 = .ok (.iload_n 1, 1) := dk_27 (dk_at dksX3_tagged_2 4 rfl rfl)
theorem dX3_tagged_52 : decode cX3_tagged 52 = .ok (.iload_n 2, 1) := dk_28 (dk_at dksX3_tagged_2 5 rfl rfl)
theorem dX3_tagged_53 : decode cX3_tagged 53 = .ok (.iload_n 3, 1) := dk_29 (dk_at dksX3_tagged_2 6 rfl rfl)
theorem dX3_tagged_54 : decode cX3_tagged 54 = .ok (.invokevirtual 254, 3) := dk_182 0 254 (dk_at dksX3_tagged_2 7 rfl rfl)
theorem dX3_tagged_57 : decode cX3_tagged 57 = .ok (.goto 8, 3) := dk_167 0 8 (dk_at dksX3_tagged_2 10 rfl rfl)
theorem dX3_tagged_60 : decode cX3_tagged 60 = .ok (.aload_n 0, 1) := dk_42 (dk_at dksX3_tagged_2 13 rfl rfl)
theorem dX3_tagged_61 : decode cX3_tagged 61 = .ok (.iconst 2, 1) := dk_5 (dk_at dksX3_tagged_2 14 rfl rfl)
theorem dX3_tagged_62 : decode cX3_tagged 62 = .ok (.invokevirtual 31, 3) := dk_182 0 31 (dk_at dksX3_tagged_2 15 rfl rfl)
theorem dX3_tagged_65 : decode cX3_tagged 65 = .ok (.ireturn, 1) := dk_172 (dk_at dksX3_tagged_2 18 rfl rfl)
abbrev cX3_taggedNow : ByteArray := prog_19_method_43_code
def yX3_taggedNow : MethodName := ⟨RX3, "taggedNow", "(III)I"⟩
def dkwX3_taggedNow_5 : List UInt8 := [54, 5, 132, 6, 1, 167, 255, 155, 21, 5, 172]
abbrev dktX3_taggedNow_5 : List UInt8 := dkwX3_taggedNow_5 ++ []
def dkwX3_taggedNow_4 : List UInt8 := [21, 9, 16, 20, 164, 0, 5, 2, 172, 21, 5, 4, 21, 9, 120, 4, 100, 126, 4, 21, 9, 120, 128]
abbrev dktX3_taggedNow_4 : List UInt8 := dkwX3_taggedNow_4 ++ dktX3_taggedNow_5
def dkwX3_taggedNow_3 : List UInt8 := [21, 7, 4, 21, 8, 120, 4, 100, 126, 128, 54, 5, 21, 5, 184, 0, 251, 25, 4, 3, 46, 100, 54, 9]
abbrev dktX3_taggedNow_3 : List UInt8 := dkwX3_taggedNow_3 ++ dktX3_taggedNow_4
def dkwX3_taggedNow_2 : List UInt8 := [184, 0, 251, 4, 100, 122, 4, 126, 96, 46, 54, 7, 21, 7, 184, 0, 251, 54, 8, 21, 5, 21, 8, 120]
abbrev dktX3_taggedNow_2 : List UInt8 := dkwX3_taggedNow_2 ++ dktX3_taggedNow_3
def dkwX3_taggedNow_1 : List UInt8 := [162, 0, 101, 21, 5, 184, 0, 251, 25, 4, 3, 46, 161, 0, 89, 25, 4, 4, 21, 5, 21, 5]
abbrev dktX3_taggedNow_1 : List UInt8 := dkwX3_taggedNow_1 ++ dktX3_taggedNow_2
def dkwX3_taggedNow_0 : List UInt8 := [42, 180, 0, 16, 27, 182, 0, 48, 192, 0, 98, 58, 4, 28, 54, 5, 3, 54, 6, 21, 6, 29]
abbrev dktX3_taggedNow_0 : List UInt8 := dkwX3_taggedNow_0 ++ dktX3_taggedNow_1
theorem dksX3_taggedNow_0 : cX3_taggedNow.data.toList.drop 0 = dktX3_taggedNow_0 := by decide +kernel
theorem dksX3_taggedNow_1 : cX3_taggedNow.data.toList.drop 22 = dktX3_taggedNow_1 := dk_seg dksX3_taggedNow_0 22 rfl rfl
theorem dksX3_taggedNow_2 : cX3_taggedNow.data.toList.drop 44 = dktX3_taggedNow_2 := dk_seg dksX3_taggedNow_1 22 rfl rfl
theorem dksX3_taggedNow_3 : cX3_taggedNow.data.toList.drop 68 = dktX3_taggedNow_3 := dk_seg dksX3_taggedNow_2 24 rfl rfl
theorem dksX3_taggedNow_4 : cX3_taggedNow.data.toList.drop 92 = dktX3_taggedNow_4 := dk_seg dksX3_taggedNow_3 24 rfl rfl
theorem dksX3_taggedNow_5 : cX3_taggedNow.data.toList.drop 115 = dktX3_taggedNow_5 := dk_seg dksX3_taggedNow_4 23 rfl rfl
theorem dX3_taggedNow_0 : decode cX3_taggedNow 0 = .ok (.aload_n 0, 1) := dk_42 (dk_at dksX3_taggedNow_0 0 rfl rfl)
theorem dX3_taggedNow_1 : decode cX3_taggedNow 1 = .ok (.getfield 16, 3) := dk_180 0 16 (dk_at dksX3_taggedNow_0 1 rfl rfl)
theorem dX3_taggedNow_4 : decode cX3_taggedNow 4 = .ok (.iload_n 1, 1) := dk_27 (dk_at dksX3_taggedNow_0 4 rfl rfl)
theorem dX3_taggedNow_5 : decode cX3_taggedNow 5 = .ok (.invokevirtual 48, 3) := dk_182 0 48 (dk_at dksX3_taggedNow_0 5 rfl rfl)
theorem dX3_taggedNow_8 : decode cX3_taggedNow 8 = .ok (.checkcast 98, 3) := dk_192 0 98 (dk_at dksX3_taggedNow_0 8 rfl rfl)
theorem dX3_taggedNow_11 : decode cX3_taggedNow 11 = .ok (.astore 4, 2) := dk_58 4 (dk_at dksX3_taggedNow_0 11 rfl rfl)
theorem dX3_taggedNow_13 : decode cX3_taggedNow 13 = .ok (.iload_n 2, 1) := dk_28 (dk_at dksX3_taggedNow_0 13 rfl rfl)
theorem dX3_taggedNow_14 : decode cX3_taggedNow 14 = .ok (.istore 5, 2) := dk_54 5 (dk_at dksX3_taggedNow_0 14 rfl rfl)
theorem dX3_taggedNow_16 : decode cX3_taggedNow 16 = .ok (.iconst 0, 1) := dk_3 (dk_at dksX3_taggedNow_0 16 rfl rfl)
theorem dX3_taggedNow_17 : decode cX3_taggedNow 17 = .ok (.istore 6, 2) := dk_54 6 (dk_at dksX3_taggedNow_0 17 rfl rfl)
theorem dX3_taggedNow_19 : decode cX3_taggedNow 19 = .ok (.iload 6, 2) := dk_21 6 (dk_at dksX3_taggedNow_0 19 rfl rfl)
theorem dX3_taggedNow_21 : decode cX3_taggedNow 21 = .ok (.iload_n 3, 1) := dk_29 (dk_at dksX3_taggedNow_0 21 rfl rfl)
theorem dX3_taggedNow_22 : decode cX3_taggedNow 22 = .ok (.if_icmp .ge 101, 3) := dk_162 0 101 (dk_at dksX3_taggedNow_1 0 rfl rfl)
theorem dX3_taggedNow_25 : decode cX3_taggedNow 25 = .ok (.iload 5, 2) := dk_21 5 (dk_at dksX3_taggedNow_1 3 rfl rfl)
theorem dX3_taggedNow_27 : decode cX3_taggedNow 27 = .ok (.invokestatic 251, 3) := dk_184 0 251 (dk_at dksX3_taggedNow_1 5 rfl rfl)
theorem dX3_taggedNow_30 : decode cX3_taggedNow 30 = .ok (.aload 4, 2) := dk_25 4 (dk_at dksX3_taggedNow_1 8 rfl rfl)
theorem dX3_taggedNow_32 : decode cX3_taggedNow 32 = .ok (.iconst 0, 1) := dk_3 (dk_at dksX3_taggedNow_1 10 rfl rfl)
theorem dX3_taggedNow_33 : decode cX3_taggedNow 33 = .ok (.iaload, 1) := dk_46 (dk_at dksX3_taggedNow_1 11 rfl rfl)
theorem dX3_taggedNow_34 : decode cX3_taggedNow 34 = .ok (.if_icmp .lt 89, 3) := dk_161 0 89 (dk_at dksX3_taggedNow_1 12 rfl rfl)
theorem dX3_taggedNow_37 : decode cX3_taggedNow 37 = .ok (.aload 4, 2) := dk_25 4 (dk_at dksX3_taggedNow_1 15 rfl rfl)
theorem dX3_taggedNow_39 : decode cX3_taggedNow 39 = .ok (.iconst 1, 1) := dk_4 (dk_at dksX3_taggedNow_1 17 rfl rfl)
theorem dX3_taggedNow_40 : decode cX3_taggedNow 40 = .ok (.iload 5, 2) := dk_21 5 (dk_at dksX3_taggedNow_1 18 rfl rfl)
theorem dX3_taggedNow_42 : decode cX3_taggedNow 42 = .ok (.iload 5, 2) := dk_21 5 (dk_at dksX3_taggedNow_1 20 rfl rfl)
theorem dX3_taggedNow_44 : decode cX3_taggedNow 44 = .ok (.invokestatic 251, 3) := dk_184 0 251 (dk_at dksX3_taggedNow_2 0 rfl rfl)
theorem dX3_taggedNow_47 : decode cX3_taggedNow 47 = .ok (.iconst 1, 1) := dk_4 (dk_at dksX3_taggedNow_2 3 rfl rfl)
theorem dX3_taggedNow_48 : decode cX3_taggedNow 48 = .ok (.isub, 1) := dk_100 (dk_at dksX3_taggedNow_2 4 rfl rfl)
theorem dX3_taggedNow_49 : decode cX3_taggedNow 49 = .ok (.ishr, 1) := dk_122 (dk_at dksX3_taggedNow_2 5 rfl rfl)
theorem dX3_taggedNow_50 : decode cX3_taggedNow 50 = .ok (.iconst 1, 1) := dk_4 (dk_at dksX3_taggedNow_2 6 rfl rfl)
theorem dX3_taggedNow_51 : decode cX3_taggedNow 51 = .ok (.iand, 1) := dk_126 (dk_at dksX3_taggedNow_2 7 rfl rfl)
theorem dX3_taggedNow_52 : decode cX3_taggedNow 52 = .ok (.iadd, 1) := dk_96 (dk_at dksX3_taggedNow_2 8 rfl rfl)
theorem dX3_taggedNow_53 : decode cX3_taggedNow 53 = .ok (.iaload, 1) := dk_46 (dk_at dksX3_taggedNow_2 9 rfl rfl)
theorem dX3_taggedNow_54 : decode cX3_taggedNow 54 = .ok (.istore 7, 2) := dk_54 7 (dk_at dksX3_taggedNow_2 10 rfl rfl)
theorem dX3_taggedNow_56 : decode cX3_taggedNow 56 = .ok (.iload 7, 2) := dk_21 7 (dk_at dksX3_taggedNow_2 12 rfl rfl)
theorem dX3_taggedNow_58 : decode cX3_taggedNow 58 = .ok (.invokestatic 251, 3) := dk_184 0 251 (dk_at dksX3_taggedNow_2 14 rfl rfl)
theorem dX3_taggedNow_61 : decode cX3_taggedNow 61 = .ok (.istore 8, 2) := dk_54 8 (dk_at dksX3_taggedNow_2 17 rfl rfl)
theorem dX3_taggedNow_63 : decode cX3_taggedNow 63 = .ok (.iload 5, 2) := dk_21 5 (dk_at dksX3_taggedNow_2 19 rfl rfl)
theorem dX3_taggedNow_65 : decode cX3_taggedNow 65 = .ok (.iload 8, 2) := dk_21 8 (dk_at dksX3_taggedNow_2 21 rfl rfl)
theorem dX3_taggedNow_67 : decode cX3_taggedNow 67 = .ok (.ishl, 1) := dk_120 (dk_at dksX3_taggedNow_2 23 rfl rfl)
theorem dX3_taggedNow_68 : decode cX3_taggedNow 68 = .ok (.iload 7, 2) := dk_21 7 (dk_at dksX3_taggedNow_3 0 rfl rfl)
theorem dX3_taggedNow_70 : decode cX3_taggedNow 70 = .ok (.iconst 1, 1) := dk_4 (dk_at dksX3_taggedNow_3 2 rfl rfl)
theorem dX3_taggedNow_71 : decode cX3_taggedNow 71 = .ok (.iload 8, 2) := dk_21 8 (dk_at dksX3_taggedNow_3 3 rfl rfl)
theorem dX3_taggedNow_73 : decode cX3_taggedNow 73 = .ok (.ishl, 1) := dk_120 (dk_at dksX3_taggedNow_3 5 rfl rfl)
theorem dX3_taggedNow_74 : decode cX3_taggedNow 74 = .ok (.iconst 1, 1) := dk_4 (dk_at dksX3_taggedNow_3 6 rfl rfl)
theorem dX3_taggedNow_75 : decode cX3_taggedNow 75 = .ok (.isub, 1) := dk_100 (dk_at dksX3_taggedNow_3 7 rfl rfl)
theorem dX3_taggedNow_76 : decode cX3_taggedNow 76 = .ok (.iand, 1) := dk_126 (dk_at dksX3_taggedNow_3 8 rfl rfl)
theorem dX3_taggedNow_77 : decode cX3_taggedNow 77 = .ok (.ior, 1) := dk_128 (dk_at dksX3_taggedNow_3 9 rfl rfl)
theorem dX3_taggedNow_78 : decode cX3_taggedNow 78 = .ok (.istore 5, 2) := dk_54 5 (dk_at dksX3_taggedNow_3 10 rfl rfl)
theorem dX3_taggedNow_80 : decode cX3_taggedNow 80 = .ok (.iload 5, 2) := dk_21 5 (dk_at dksX3_taggedNow_3 12 rfl rfl)
theorem dX3_taggedNow_82 : decode cX3_taggedNow 82 = .ok (.invokestatic 251, 3) := dk_184 0 251 (dk_at dksX3_taggedNow_3 14 rfl rfl)
theorem dX3_taggedNow_85 : decode cX3_taggedNow 85 = .ok (.aload 4, 2) := dk_25 4 (dk_at dksX3_taggedNow_3 17 rfl rfl)
theorem dX3_taggedNow_87 : decode cX3_taggedNow 87 = .ok (.iconst 0, 1) := dk_3 (dk_at dksX3_taggedNow_3 19 rfl rfl)
theorem dX3_taggedNow_88 : decode cX3_taggedNow 88 = .ok (.iaload, 1) := dk_46 (dk_at dksX3_taggedNow_3 20 rfl rfl)
theorem dX3_taggedNow_89 : decode cX3_taggedNow 89 = .ok (.isub, 1) := dk_100 (dk_at dksX3_taggedNow_3 21 rfl rfl)
theorem dX3_taggedNow_90 : decode cX3_taggedNow 90 = .ok (.istore 9, 2) := dk_54 9 (dk_at dksX3_taggedNow_3 22 rfl rfl)
theorem dX3_taggedNow_92 : decode cX3_taggedNow 92 = .ok (.iload 9, 2) := dk_21 9 (dk_at dksX3_taggedNow_4 0 rfl rfl)
theorem dX3_taggedNow_94 : decode cX3_taggedNow 94 = .ok (.bipush 20, 2) := dk_16 20 (dk_at dksX3_taggedNow_4 2 rfl rfl)
theorem dX3_taggedNow_96 : decode cX3_taggedNow 96 = .ok (.if_icmp .le 5, 3) := dk_164 0 5 (dk_at dksX3_taggedNow_4 4 rfl rfl)
theorem dX3_taggedNow_99 : decode cX3_taggedNow 99 = .ok (.iconst (-1), 1) := dk_2 (dk_at dksX3_taggedNow_4 7 rfl rfl)
theorem dX3_taggedNow_100 : decode cX3_taggedNow 100 = .ok (.ireturn, 1) := dk_172 (dk_at dksX3_taggedNow_4 8 rfl rfl)
theorem dX3_taggedNow_101 : decode cX3_taggedNow 101 = .ok (.iload 5, 2) := dk_21 5 (dk_at dksX3_taggedNow_4 9 rfl rfl)
theorem dX3_taggedNow_103 : decode cX3_taggedNow 103 = .ok (.iconst 1, 1) := dk_4 (dk_at dksX3_taggedNow_4 11 rfl rfl)
theorem dX3_taggedNow_104 : decode cX3_taggedNow 104 = .ok (.iload 9, 2) := dk_21 9 (dk_at dksX3_taggedNow_4 12 rfl rfl)
theorem dX3_taggedNow_106 : decode cX3_taggedNow 106 = .ok (.ishl, 1) := dk_120 (dk_at dksX3_taggedNow_4 14 rfl rfl)
theorem dX3_taggedNow_107 : decode cX3_taggedNow 107 = .ok (.iconst 1, 1) := dk_4 (dk_at dksX3_taggedNow_4 15 rfl rfl)
theorem dX3_taggedNow_108 : decode cX3_taggedNow 108 = .ok (.isub, 1) := dk_100 (dk_at dksX3_taggedNow_4 16 rfl rfl)
theorem dX3_taggedNow_109 : decode cX3_taggedNow 109 = .ok (.iand, 1) := dk_126 (dk_at dksX3_taggedNow_4 17 rfl rfl)
theorem dX3_taggedNow_110 : decode cX3_taggedNow 110 = .ok (.iconst 1, 1) := dk_4 (dk_at dksX3_taggedNow_4 18 rfl rfl)
theorem dX3_taggedNow_111 : decode cX3_taggedNow 111 = .ok (.iload 9, 2) := dk_21 9 (dk_at dksX3_taggedNow_4 19 rfl rfl)
theorem dX3_taggedNow_113 : decode cX3_taggedNow 113 = .ok (.ishl, 1) := dk_120 (dk_at dksX3_taggedNow_4 21 rfl rfl)
theorem dX3_taggedNow_114 : decode cX3_taggedNow 114 = .ok (.ior, 1) := dk_128 (dk_at dksX3_taggedNow_4 22 rfl rfl)
theorem dX3_taggedNow_115 : decode cX3_taggedNow 115 = .ok (.istore 5, 2) := dk_54 5 (dk_at dksX3_taggedNow_5 0 rfl rfl)
theorem dX3_taggedNow_117 : decode cX3_taggedNow 117 = .ok (.iinc 6 1, 3) := dk_132 6 1 (dk_at dksX3_taggedNow_5 2 rfl rfl)
theorem dX3_taggedNow_120 : decode cX3_taggedNow 120 = .ok (.goto (-101), 3) := dk_167 255 155 (dk_at dksX3_taggedNow_5 5 rfl rfl)
theorem dX3_taggedNow_123 : decode cX3_taggedNow 123 = .ok (.iload 5, 2) := dk_21 5 (dk_at dksX3_taggedNow_5 8 rfl rfl)
theorem dX3_taggedNow_125 : decode cX3_taggedNow 125 = .ok (.ireturn, 1) := dk_172 (dk_at dksX3_taggedNow_5 10 rfl rfl)
abbrev cX3_length : ByteArray := prog_19_method_42_code
def yX3_length : MethodName := ⟨RX3, "length", "(I)I"⟩
def dkwX3_length_0 : List UInt8 := [16, 31, 26, 184, 0, 246, 100, 172]
abbrev dktX3_length_0 : List UInt8 := dkwX3_length_0 ++ []
theorem dksX3_length_0 : cX3_length.data.toList.drop 0 = dktX3_length_0 := by decide +kernel
theorem dX3_length_0 : decode cX3_length 0 = .ok (.bipush 31, 2) := dk_16 31 (dk_at dksX3_length_0 0 rfl rfl)
theorem dX3_length_2 : decode cX3_length 2 = .ok (.iload_n 0, 1) := dk_26 (dk_at dksX3_length_0 2 rfl rfl)
theorem dX3_length_3 : decode cX3_length 3 = .ok (.invokestatic 246, 3) := dk_184 0 246 (dk_at dksX3_length_0 3 rfl rfl)
theorem dX3_length_6 : decode cX3_length 6 = .ok (.isub, 1) := dk_100 (dk_at dksX3_length_0 6 rfl rfl)
theorem dX3_length_7 : decode cX3_length 7 = .ok (.ireturn, 1) := dk_172 (dk_at dksX3_length_0 7 rfl rfl)
abbrev cX3_many : ByteArray := prog_19_method_46_code
def yX3_many : MethodName := ⟨RX3, "many", "(I)I"⟩
def dkwX3_many_1 : List UInt8 := [4, 182, 0, 31, 172]
abbrev dktX3_many_1 : List UInt8 := dkwX3_many_1 ++ []
def dkwX3_many_0 : List UInt8 := [42, 3, 181, 0, 19, 27, 3, 16, 10, 184, 0, 27, 153, 0, 11, 42, 27, 182, 1, 2, 167, 0, 8, 42]
abbrev dktX3_many_0 : List UInt8 := dkwX3_many_0 ++ dktX3_many_1
theorem dksX3_many_0 : cX3_many.data.toList.drop 0 = dktX3_many_0 := by decide +kernel
theorem dksX3_many_1 : cX3_many.data.toList.drop 24 = dktX3_many_1 := dk_seg dksX3_many_0 24 rfl rfl
theorem dX3_many_0 : decode cX3_many 0 = .ok (.aload_n 0, 1) := dk_42 (dk_at dksX3_many_0 0 rfl rfl)
theorem dX3_many_1 : decode cX3_many 1 = .ok (.iconst 0, 1) := dk_3 (dk_at dksX3_many_0 1 rfl rfl)
theorem dX3_many_2 : decode cX3_many 2 = .ok (.putfield 19, 3) := dk_181 0 19 (dk_at dksX3_many_0 2 rfl rfl)
theorem dX3_many_5 : decode cX3_many 5 = .ok (.iload_n 1, 1) := dk_27 (dk_at dksX3_many_0 5 rfl rfl)
theorem dX3_many_6 : decode cX3_many 6 = .ok (.iconst 0, 1) := dk_3 (dk_at dksX3_many_0 6 rfl rfl)
theorem dX3_many_7 : decode cX3_many 7 = .ok (.bipush 10, 2) := dk_16 10 (dk_at dksX3_many_0 7 rfl rfl)
theorem dX3_many_9 : decode cX3_many 9 = .ok (.invokestatic 27, 3) := dk_184 0 27 (dk_at dksX3_many_0 9 rfl rfl)
theorem dX3_many_12 : decode cX3_many 12 = .ok (.ifCond .eq 11, 3) := dk_153 0 11 (dk_at dksX3_many_0 12 rfl rfl)
theorem dX3_many_15 : decode cX3_many 15 = .ok (.aload_n 0, 1) := dk_42 (dk_at dksX3_many_0 15 rfl rfl)
theorem dX3_many_16 : decode cX3_many 16 = .ok (.iload_n 1, 1) := dk_27 (dk_at dksX3_many_0 16 rfl rfl)
theorem dX3_many_17 : decode cX3_many 17 = .ok (.invokevirtual 258, 3) := dk_182 1 2 (dk_at dksX3_many_0 17 rfl rfl)
theorem dX3_many_20 : decode cX3_many 20 = .ok (.goto 8, 3) := dk_167 0 8 (dk_at dksX3_many_0 20 rfl rfl)
theorem dX3_many_23 : decode cX3_many 23 = .ok (.aload_n 0, 1) := dk_42 (dk_at dksX3_many_0 23 rfl rfl)
theorem dX3_many_24 : decode cX3_many 24 = .ok (.iconst 1, 1) := dk_4 (dk_at dksX3_many_1 0 rfl rfl)
theorem dX3_many_25 : decode cX3_many 25 = .ok (.invokevirtual 31, 3) := dk_182 0 31 (dk_at dksX3_many_1 1 rfl rfl)
theorem dX3_many_28 : decode cX3_many 28 = .ok (.ireturn, 1) := dk_172 (dk_at dksX3_many_1 4 rfl rfl)
abbrev cX3_manyNow : ByteArray := prog_19_method_45_code
def yX3_manyNow : MethodName := ⟨RX3, "manyNow", "(I)I"⟩
def dkwX3_manyNow_6 : List UInt8 := [89, 16, 10, 29, 79, 58, 4, 25, 4, 27, 46, 172]
abbrev dktX3_manyNow_6 : List UInt8 := dkwX3_manyNow_6 ++ []
def dkwX3_manyNow_5 : List UInt8 := [89, 16, 7, 42, 180, 0, 191, 79, 89, 16, 8, 42, 180, 0, 194, 79, 89, 16, 9, 42, 180, 0, 67, 79]
abbrev dktX3_manyNow_5 : List UInt8 := dkwX3_manyNow_5 ++ dktX3_manyNow_6
def dkwX3_manyNow_4 : List UInt8 := [79, 89, 7, 44, 6, 46, 79, 89, 8, 44, 7, 46, 79, 89, 16, 6, 42, 180, 0, 16, 182, 0, 23, 79]
abbrev dktX3_manyNow_4 : List UInt8 := dkwX3_manyNow_4 ++ dktX3_manyNow_5
def dkwX3_manyNow_3 : List UInt8 := [180, 0, 10, 182, 0, 23, 79, 89, 4, 44, 3, 46, 79, 89, 5, 44, 4, 46, 79, 89, 6, 44, 5, 46]
abbrev dktX3_manyNow_3 : List UInt8 := dkwX3_manyNow_3 ++ dktX3_manyNow_4
def dkwX3_manyNow_2 : List UInt8 := [46, 4, 96, 79, 29, 25, 5, 182, 0, 78, 96, 62, 167, 255, 213, 16, 11, 188, 10, 89, 3, 42]
abbrev dktX3_manyNow_2 : List UInt8 := dkwX3_manyNow_2 ++ dktX3_manyNow_3
def dkwX3_manyNow_1 : List UInt8 := [153, 0, 39, 25, 4, 185, 0, 167, 1, 0, 192, 0, 35, 58, 5, 44, 25, 5, 180, 0, 175, 4, 96, 92]
abbrev dktX3_manyNow_1 : List UInt8 := dkwX3_manyNow_1 ++ dktX3_manyNow_2
def dkwX3_manyNow_0 : List UInt8 := [8, 188, 10, 77, 3, 62, 42, 180, 0, 10, 182, 0, 158, 58, 4, 25, 4, 185, 0, 162, 1, 0]
abbrev dktX3_manyNow_0 : List UInt8 := dkwX3_manyNow_0 ++ dktX3_manyNow_1
theorem dksX3_manyNow_0 : cX3_manyNow.data.toList.drop 0 = dktX3_manyNow_0 := by decide +kernel
theorem dksX3_manyNow_1 : cX3_manyNow.data.toList.drop 22 = dktX3_manyNow_1 := dk_seg dksX3_manyNow_0 22 rfl rfl
theorem dksX3_manyNow_2 : cX3_manyNow.data.toList.drop 46 = dktX3_manyNow_2 := dk_seg dksX3_manyNow_1 24 rfl rfl
theorem dksX3_manyNow_3 : cX3_manyNow.data.toList.drop 68 = dktX3_manyNow_3 := dk_seg dksX3_manyNow_2 22 rfl rfl
theorem dksX3_manyNow_4 : cX3_manyNow.data.toList.drop 92 = dktX3_manyNow_4 := dk_seg dksX3_manyNow_3 24 rfl rfl
theorem dksX3_manyNow_5 : cX3_manyNow.data.toList.drop 116 = dktX3_manyNow_5 := dk_seg dksX3_manyNow_4 24 rfl rfl
theorem dksX3_manyNow_6 : cX3_manyNow.data.toList.drop 140 = dktX3_manyNow_6 := dk_seg dksX3_manyNow_5 24 rfl rfl
theorem dX3_manyNow_0 : decode cX3_manyNow 0 = .ok (.iconst 5, 1) := dk_8 (dk_at dksX3_manyNow_0 0 rfl rfl)
theorem dX3_manyNow_1 : decode cX3_manyNow 1 = .ok (.newarray .int, 2) := dk_188_10 (dk_at dksX3_manyNow_0 1 rfl rfl)
theorem dX3_manyNow_3 : decode cX3_manyNow 3 = .ok (.astore_n 2, 1) := dk_77 (dk_at dksX3_manyNow_0 3 rfl rfl)
theorem dX3_manyNow_4 : decode cX3_manyNow 4 = .ok (.iconst 0, 1) := dk_3 (dk_at dksX3_manyNow_0 4 rfl rfl)
theorem dX3_manyNow_5 : decode cX3_manyNow 5 = .ok (.istore_n 3, 1) := dk_62 (dk_at dksX3_manyNow_0 5 rfl rfl)
theorem dX3_manyNow_6 : decode cX3_manyNow 6 = .ok (.aload_n 0, 1) := dk_42 (dk_at dksX3_manyNow_0 6 rfl rfl)
theorem dX3_manyNow_7 : decode cX3_manyNow 7 = .ok (.getfield 10, 3) := dk_180 0 10 (dk_at dksX3_manyNow_0 7 rfl rfl)
theorem dX3_manyNow_10 : decode cX3_manyNow 10 = .ok (.invokevirtual 158, 3) := dk_182 0 158 (dk_at dksX3_manyNow_0 10 rfl rfl)
theorem dX3_manyNow_13 : decode cX3_manyNow 13 = .ok (.astore 4, 2) := dk_58 4 (dk_at dksX3_manyNow_0 13 rfl rfl)
theorem dX3_manyNow_15 : decode cX3_manyNow 15 = .ok (.aload 4, 2) := dk_25 4 (dk_at dksX3_manyNow_0 15 rfl rfl)
theorem dX3_manyNow_17 : decode cX3_manyNow 17 = .ok (.invokeinterface 162 1, 5) := by decide +kernel
theorem dX3_manyNow_22 : decode cX3_manyNow 22 = .ok (.ifCond .eq 39, 3) := dk_153 0 39 (dk_at dksX3_manyNow_1 0 rfl rfl)
theorem dX3_manyNow_25 : decode cX3_manyNow 25 = .ok (.aload 4, 2) := dk_25 4 (dk_at dksX3_manyNow_1 3 rfl rfl)
theorem dX3_manyNow_27 : decode cX3_manyNow 27 = .ok (.invokeinterface 167 1, 5) := by decide +kernel
theorem dX3_manyNow_32 : decode cX3_manyNow 32 = .ok (.checkcast 35, 3) := dk_192 0 35 (dk_at dksX3_manyNow_1 10 rfl rfl)
theorem dX3_manyNow_35 : decode cX3_manyNow 35 = .ok (.astore 5, 2) := dk_58 5 (dk_at dksX3_manyNow_1 13 rfl rfl)
theorem dX3_manyNow_37 : decode cX3_manyNow 37 = .ok (.aload_n 2, 1) := dk_44 (dk_at dksX3_manyNow_1 15 rfl rfl)
theorem dX3_manyNow_38 : decode cX3_manyNow 38 = .ok (.aload 5, 2) := dk_25 5 (dk_at dksX3_manyNow_1 16 rfl rfl)
theorem dX3_manyNow_40 : decode cX3_manyNow 40 = .ok (.getfield 175, 3) := dk_180 0 175 (dk_at dksX3_manyNow_1 18 rfl rfl)
theorem dX3_manyNow_43 : decode cX3_manyNow 43 = .ok (.iconst 1, 1) := dk_4 (dk_at dksX3_manyNow_1 21 rfl rfl)
theorem dX3_manyNow_44 : decode cX3_manyNow 44 = .ok (.iadd, 1) := dk_96 (dk_at dksX3_manyNow_1 22 rfl rfl)
theorem dX3_manyNow_45 : decode cX3_manyNow 45 = .ok (.dup2, 1) := dk_92 (dk_at dksX3_manyNow_1 23 rfl rfl)
theorem dX3_manyNow_46 : decode cX3_manyNow 46 = .ok (.iaload, 1) := dk_46 (dk_at dksX3_manyNow_2 0 rfl rfl)
theorem dX3_manyNow_47 : decode cX3_manyNow 47 = .ok (.iconst 1, 1) := dk_4 (dk_at dksX3_manyNow_2 1 rfl rfl)
theorem dX3_manyNow_48 : decode cX3_manyNow 48 = .ok (.iadd, 1) := dk_96 (dk_at dksX3_manyNow_2 2 rfl rfl)
theorem dX3_manyNow_49 : decode cX3_manyNow 49 = .ok (.iastore, 1) := dk_79 (dk_at dksX3_manyNow_2 3 rfl rfl)
theorem dX3_manyNow_50 : decode cX3_manyNow 50 = .ok (.iload_n 3, 1) := dk_29 (dk_at dksX3_manyNow_2 4 rfl rfl)
theorem dX3_manyNow_51 : decode cX3_manyNow 51 = .ok (.aload 5, 2) := dk_25 5 (dk_at dksX3_manyNow_2 5 rfl rfl)
theorem dX3_manyNow_53 : decode cX3_manyNow 53 = .ok (.invokevirtual 78, 3) := dk_182 0 78 (dk_at dksX3_manyNow_2 7 rfl rfl)
theorem dX3_manyNow_56 : decode cX3_manyNow 56 = .ok (.iadd, 1) := dk_96 (dk_at dksX3_manyNow_2 10 rfl rfl)
theorem dX3_manyNow_57 : decode cX3_manyNow 57 = .ok (.istore_n 3, 1) := dk_62 (dk_at dksX3_manyNow_2 11 rfl rfl)
theorem dX3_manyNow_58 : decode cX3_manyNow 58 = .ok (.goto (-43), 3) := dk_167 255 213 (dk_at dksX3_manyNow_2 12 rfl rfl)
theorem dX3_manyNow_61 : decode cX3_manyNow 61 = .ok (.bipush 11, 2) := dk_16 11 (dk_at dksX3_manyNow_2 15 rfl rfl)
theorem dX3_manyNow_63 : decode cX3_manyNow 63 = .ok (.newarray .int, 2) := dk_188_10 (dk_at dksX3_manyNow_2 17 rfl rfl)
theorem dX3_manyNow_65 : decode cX3_manyNow 65 = .ok (.dup, 1) := dk_89 (dk_at dksX3_manyNow_2 19 rfl rfl)
theorem dX3_manyNow_66 : decode cX3_manyNow 66 = .ok (.iconst 0, 1) := dk_3 (dk_at dksX3_manyNow_2 20 rfl rfl)
theorem dX3_manyNow_67 : decode cX3_manyNow 67 = .ok (.aload_n 0, 1) := dk_42 (dk_at dksX3_manyNow_2 21 rfl rfl)
theorem dX3_manyNow_68 : decode cX3_manyNow 68 = .ok (.getfield 10, 3) := dk_180 0 10 (dk_at dksX3_manyNow_3 0 rfl rfl)
theorem dX3_manyNow_71 : decode cX3_manyNow 71 = .ok (.invokevirtual 23, 3) := dk_182 0 23 (dk_at dksX3_manyNow_3 3 rfl rfl)
theorem dX3_manyNow_74 : decode cX3_manyNow 74 = .ok (.iastore, 1) := dk_79 (dk_at dksX3_manyNow_3 6 rfl rfl)
theorem dX3_manyNow_75 : decode cX3_manyNow 75 = .ok (.dup, 1) := dk_89 (dk_at dksX3_manyNow_3 7 rfl rfl)
theorem dX3_manyNow_76 : decode cX3_manyNow 76 = .ok (.iconst 1, 1) := dk_4 (dk_at dksX3_manyNow_3 8 rfl rfl)
theorem dX3_manyNow_77 : decode cX3_manyNow 77 = .ok (.aload_n 2, 1) := dk_44 (dk_at dksX3_manyNow_3 9 rfl rfl)
theorem dX3_manyNow_78 : decode cX3_manyNow 78 = .ok (.iconst 0, 1) := dk_3 (dk_at dksX3_manyNow_3 10 rfl rfl)
theorem dX3_manyNow_79 : decode cX3_manyNow 79 = .ok (.iaload, 1) := dk_46 (dk_at dksX3_manyNow_3 11 rfl rfl)
theorem dX3_manyNow_80 : decode cX3_manyNow 80 = .ok (.iastore, 1) := dk_79 (dk_at dksX3_manyNow_3 12 rfl rfl)
theorem dX3_manyNow_81 : decode cX3_manyNow 81 = .ok (.dup, 1) := dk_89 (dk_at dksX3_manyNow_3 13 rfl rfl)
theorem dX3_manyNow_82 : decode cX3_manyNow 82 = .ok (.iconst 2, 1) := dk_5 (dk_at dksX3_manyNow_3 14 rfl rfl)
theorem dX3_manyNow_83 : decode cX3_manyNow 83 = .ok (.aload_n 2, 1) := dk_44 (dk_at dksX3_manyNow_3 15 rfl rfl)
theorem dX3_manyNow_84 : decode cX3_manyNow 84 = .ok (.iconst 1, 1) := dk_4 (dk_at dksX3_manyNow_3 16 rfl rfl)
theorem dX3_manyNow_85 : decode cX3_manyNow 85 = .ok (.iaload, 1) := dk_46 (dk_at dksX3_manyNow_3 17 rfl rfl)
theorem dX3_manyNow_86 : decode cX3_manyNow 86 = .ok (.iastore, 1) := dk_79 (dk_at dksX3_manyNow_3 18 rfl rfl)
theorem dX3_manyNow_87 : decode cX3_manyNow 87 = .ok (.dup, 1) := dk_89 (dk_at dksX3_manyNow_3 19 rfl rfl)
theorem dX3_manyNow_88 : decode cX3_manyNow 88 = .ok (.iconst 3, 1) := dk_6 (dk_at dksX3_manyNow_3 20 rfl rfl)
theorem dX3_manyNow_89 : decode cX3_manyNow 89 = .ok (.aload_n 2, 1) := dk_44 (dk_at dksX3_manyNow_3 21 rfl rfl)
theorem dX3_manyNow_90 : decode cX3_manyNow 90 = .ok (.iconst 2, 1) := dk_5 (dk_at dksX3_manyNow_3 22 rfl rfl)
theorem dX3_manyNow_91 : decode cX3_manyNow 91 = .ok (.iaload, 1) := dk_46 (dk_at dksX3_manyNow_3 23 rfl rfl)
theorem dX3_manyNow_92 : decode cX3_manyNow 92 = .ok (.iastore, 1) := dk_79 (dk_at dksX3_manyNow_4 0 rfl rfl)
theorem dX3_manyNow_93 : decode cX3_manyNow 93 = .ok (.dup, 1) := dk_89 (dk_at dksX3_manyNow_4 1 rfl rfl)
theorem dX3_manyNow_94 : decode cX3_manyNow 94 = .ok (.iconst 4, 1) := dk_7 (dk_at dksX3_manyNow_4 2 rfl rfl)
theorem dX3_manyNow_95 : decode cX3_manyNow 95 = .ok (.aload_n 2, 1) := dk_44 (dk_at dksX3_manyNow_4 3 rfl rfl)
theorem dX3_manyNow_96 : decode cX3_manyNow 96 = .ok (.iconst 3, 1) := dk_6 (dk_at dksX3_manyNow_4 4 rfl rfl)
theorem dX3_manyNow_97 : decode cX3_manyNow 97 = .ok (.iaload, 1) := dk_46 (dk_at dksX3_manyNow_4 5 rfl rfl)
theorem dX3_manyNow_98 : decode cX3_manyNow 98 = .ok (.iastore, 1) := dk_79 (dk_at dksX3_manyNow_4 6 rfl rfl)
theorem dX3_manyNow_99 : decode cX3_manyNow 99 = .ok (.dup, 1) := dk_89 (dk_at dksX3_manyNow_4 7 rfl rfl)
theorem dX3_manyNow_100 : decode cX3_manyNow 100 = .ok (.iconst 5, 1) := dk_8 (dk_at dksX3_manyNow_4 8 rfl rfl)
theorem dX3_manyNow_101 : decode cX3_manyNow 101 = .ok (.aload_n 2, 1) := dk_44 (dk_at dksX3_manyNow_4 9 rfl rfl)
theorem dX3_manyNow_102 : decode cX3_manyNow 102 = .ok (.iconst 4, 1) := dk_7 (dk_at dksX3_manyNow_4 10 rfl rfl)
theorem dX3_manyNow_103 : decode cX3_manyNow 103 = .ok (.iaload, 1) := dk_46 (dk_at dksX3_manyNow_4 11 rfl rfl)
theorem dX3_manyNow_104 : decode cX3_manyNow 104 = .ok (.iastore, 1) := dk_79 (dk_at dksX3_manyNow_4 12 rfl rfl)
theorem dX3_manyNow_105 : decode cX3_manyNow 105 = .ok (.dup, 1) := dk_89 (dk_at dksX3_manyNow_4 13 rfl rfl)
theorem dX3_manyNow_106 : decode cX3_manyNow 106 = .ok (.bipush 6, 2) := dk_16 6 (dk_at dksX3_manyNow_4 14 rfl rfl)
theorem dX3_manyNow_108 : decode cX3_manyNow 108 = .ok (.aload_n 0, 1) := dk_42 (dk_at dksX3_manyNow_4 16 rfl rfl)
theorem dX3_manyNow_109 : decode cX3_manyNow 109 = .ok (.getfield 16, 3) := dk_180 0 16 (dk_at dksX3_manyNow_4 17 rfl rfl)
theorem dX3_manyNow_112 : decode cX3_manyNow 112 = .ok (.invokevirtual 23, 3) := dk_182 0 23 (dk_at dksX3_manyNow_4 20 rfl rfl)
theorem dX3_manyNow_115 : decode cX3_manyNow 115 = .ok (.iastore, 1) := dk_79 (dk_at dksX3_manyNow_4 23 rfl rfl)
theorem dX3_manyNow_116 : decode cX3_manyNow 116 = .ok (.dup, 1) := dk_89 (dk_at dksX3_manyNow_5 0 rfl rfl)
theorem dX3_manyNow_117 : decode cX3_manyNow 117 = .ok (.bipush 7, 2) := dk_16 7 (dk_at dksX3_manyNow_5 1 rfl rfl)
theorem dX3_manyNow_119 : decode cX3_manyNow 119 = .ok (.aload_n 0, 1) := dk_42 (dk_at dksX3_manyNow_5 3 rfl rfl)
theorem dX3_manyNow_120 : decode cX3_manyNow 120 = .ok (.getfield 191, 3) := dk_180 0 191 (dk_at dksX3_manyNow_5 4 rfl rfl)
theorem dX3_manyNow_123 : decode cX3_manyNow 123 = .ok (.iastore, 1) := dk_79 (dk_at dksX3_manyNow_5 7 rfl rfl)
theorem dX3_manyNow_124 : decode cX3_manyNow 124 = .ok (.dup, 1) := dk_89 (dk_at dksX3_manyNow_5 8 rfl rfl)
theorem dX3_manyNow_125 : decode cX3_manyNow 125 = .ok (.bipush 8, 2) := dk_16 8 (dk_at dksX3_manyNow_5 9 rfl rfl)
theorem dX3_manyNow_127 : decode cX3_manyNow 127 = .ok (.aload_n 0, 1) := dk_42 (dk_at dksX3_manyNow_5 11 rfl rfl)
theorem dX3_manyNow_128 : decode cX3_manyNow 128 = .ok (.getfield 194, 3) := dk_180 0 194 (dk_at dksX3_manyNow_5 12 rfl rfl)
theorem dX3_manyNow_131 : decode cX3_manyNow 131 = .ok (.iastore, 1) := dk_79 (dk_at dksX3_manyNow_5 15 rfl rfl)
theorem dX3_manyNow_132 : decode cX3_manyNow 132 = .ok (.dup, 1) := dk_89 (dk_at dksX3_manyNow_5 16 rfl rfl)
theorem dX3_manyNow_133 : decode cX3_manyNow 133 = .ok (.bipush 9, 2) := dk_16 9 (dk_at dksX3_manyNow_5 17 rfl rfl)
theorem dX3_manyNow_135 : decode cX3_manyNow 135 = .ok (.aload_n 0, 1) := dk_42 (dk_at dksX3_manyNow_5 19 rfl rfl)
theorem dX3_manyNow_136 : decode cX3_manyNow 136 = .ok (.getfield 67, 3) := dk_180 0 67 (dk_at dksX3_manyNow_5 20 rfl rfl)
theorem dX3_manyNow_139 : decode cX3_manyNow 139 = .ok (.iastore, 1) := dk_79 (dk_at dksX3_manyNow_5 23 rfl rfl)
theorem dX3_manyNow_140 : decode cX3_manyNow 140 = .ok (.dup, 1) := dk_89 (dk_at dksX3_manyNow_6 0 rfl rfl)
theorem dX3_manyNow_141 : decode cX3_manyNow 141 = .ok (.bipush 10, 2) := dk_16 10 (dk_at dksX3_manyNow_6 1 rfl rfl)
theorem dX3_manyNow_143 : decode cX3_manyNow 143 = .ok (.iload_n 3, 1) := dk_29 (dk_at dksX3_manyNow_6 3 rfl rfl)
theorem dX3_manyNow_144 : decode cX3_manyNow 144 = .ok (.iastore, 1) := dk_79 (dk_at dksX3_manyNow_6 4 rfl rfl)
theorem dX3_manyNow_145 : decode cX3_manyNow 145 = .ok (.astore 4, 2) := dk_58 4 (dk_at dksX3_manyNow_6 5 rfl rfl)
theorem dX3_manyNow_147 : decode cX3_manyNow 147 = .ok (.aload 4, 2) := dk_25 4 (dk_at dksX3_manyNow_6 7 rfl rfl)
theorem dX3_manyNow_149 : decode cX3_manyNow 149 = .ok (.iload_n 1, 1) := dk_27 (dk_at dksX3_manyNow_6 9 rfl rfl)
theorem dX3_manyNow_150 : decode cX3_manyNow 150 = .ok (.iaload, 1) := dk_46 (dk_at dksX3_manyNow_6 10 rfl rfl)
theorem dX3_manyNow_151 : decode cX3_manyNow 151 = .ok (.ireturn, 1) := dk_172 (dk_at dksX3_manyNow_6 11 rfl rfl)
abbrev cX3_meanStop : ByteArray := prog_19_method_47_code
def yX3_meanStop : MethodName := ⟨RX3, "meanStop", "()D"⟩
def dkwX3_meanStop_3 : List UInt8 := [167, 0, 8, 27, 135, 28, 135, 111, 175]
abbrev dktX3_meanStop_3 : List UInt8 := dkwX3_meanStop_3 ++ []
def dkwX3_meanStop_2 : List UInt8 := [167, 255, 228, 27, 25, 4, 180, 0, 178, 96, 60, 132, 2, 1, 167, 255, 214, 28, 154, 0, 7, 14]
abbrev dktX3_meanStop_2 : List UInt8 := dkwX3_meanStop_2 ++ dktX3_meanStop_3
def dkwX3_meanStop_1 : List UInt8 := [153, 0, 39, 45, 185, 0, 167, 1, 0, 192, 0, 35, 58, 4, 25, 4, 180, 0, 175, 153, 0, 6]
abbrev dktX3_meanStop_1 : List UInt8 := dkwX3_meanStop_1 ++ dktX3_meanStop_2
def dkwX3_meanStop_0 : List UInt8 := [42, 3, 181, 0, 19, 3, 60, 3, 61, 42, 180, 0, 10, 182, 0, 158, 78, 45, 185, 0, 162, 1, 0]
abbrev dktX3_meanStop_0 : List UInt8 := dkwX3_meanStop_0 ++ dktX3_meanStop_1
theorem dksX3_meanStop_0 : cX3_meanStop.data.toList.drop 0 = dktX3_meanStop_0 := by decide +kernel
theorem dksX3_meanStop_1 : cX3_meanStop.data.toList.drop 23 = dktX3_meanStop_1 := dk_seg dksX3_meanStop_0 23 rfl rfl
theorem dksX3_meanStop_2 : cX3_meanStop.data.toList.drop 45 = dktX3_meanStop_2 := dk_seg dksX3_meanStop_1 22 rfl rfl
theorem dksX3_meanStop_3 : cX3_meanStop.data.toList.drop 67 = dktX3_meanStop_3 := dk_seg dksX3_meanStop_2 22 rfl rfl
theorem dX3_meanStop_0 : decode cX3_meanStop 0 = .ok (.aload_n 0, 1) := dk_42 (dk_at dksX3_meanStop_0 0 rfl rfl)
theorem dX3_meanStop_1 : decode cX3_meanStop 1 = .ok (.iconst 0, 1) := dk_3 (dk_at dksX3_meanStop_0 1 rfl rfl)
theorem dX3_meanStop_2 : decode cX3_meanStop 2 = .ok (.putfield 19, 3) := dk_181 0 19 (dk_at dksX3_meanStop_0 2 rfl rfl)
theorem dX3_meanStop_5 : decode cX3_meanStop 5 = .ok (.iconst 0, 1) := dk_3 (dk_at dksX3_meanStop_0 5 rfl rfl)
theorem dX3_meanStop_6 : decode cX3_meanStop 6 = .ok (.istore_n 1, 1) := dk_60 (dk_at dksX3_meanStop_0 6 rfl rfl)
theorem dX3_meanStop_7 : decode cX3_meanStop 7 = .ok (.iconst 0, 1) := dk_3 (dk_at dksX3_meanStop_0 7 rfl rfl)
theorem dX3_meanStop_8 : decode cX3_meanStop 8 = .ok (.istore_n 2, 1) := dk_61 (dk_at dksX3_meanStop_0 8 rfl rfl)
theorem dX3_meanStop_9 : decode cX3_meanStop 9 = .ok (.aload_n 0, 1) := dk_42 (dk_at dksX3_meanStop_0 9 rfl rfl)
theorem dX3_meanStop_10 : decode cX3_meanStop 10 = .ok (.getfield 10, 3) := dk_180 0 10 (dk_at dksX3_meanStop_0 10 rfl rfl)
theorem dX3_meanStop_13 : decode cX3_meanStop 13 = .ok (.invokevirtual 158, 3) := dk_182 0 158 (dk_at dksX3_meanStop_0 13 rfl rfl)
theorem dX3_meanStop_16 : decode cX3_meanStop 16 = .ok (.astore_n 3, 1) := dk_78 (dk_at dksX3_meanStop_0 16 rfl rfl)
theorem dX3_meanStop_17 : decode cX3_meanStop 17 = .ok (.aload_n 3, 1) := dk_45 (dk_at dksX3_meanStop_0 17 rfl rfl)
theorem dX3_meanStop_18 : decode cX3_meanStop 18 = .ok (.invokeinterface 162 1, 5) := by decide +kernel
theorem dX3_meanStop_23 : decode cX3_meanStop 23 = .ok (.ifCond .eq 39, 3) := dk_153 0 39 (dk_at dksX3_meanStop_1 0 rfl rfl)
theorem dX3_meanStop_26 : decode cX3_meanStop 26 = .ok (.aload_n 3, 1) := dk_45 (dk_at dksX3_meanStop_1 3 rfl rfl)
theorem dX3_meanStop_27 : decode cX3_meanStop 27 = .ok (.invokeinterface 167 1, 5) := by decide +kernel
theorem dX3_meanStop_32 : decode cX3_meanStop 32 = .ok (.checkcast 35, 3) := dk_192 0 35 (dk_at dksX3_meanStop_1 9 rfl rfl)
theorem dX3_meanStop_35 : decode cX3_meanStop 35 = .ok (.astore 4, 2) := dk_58 4 (dk_at dksX3_meanStop_1 12 rfl rfl)
theorem dX3_meanStop_37 : decode cX3_meanStop 37 = .ok (.aload 4, 2) := dk_25 4 (dk_at dksX3_meanStop_1 14 rfl rfl)
theorem dX3_meanStop_39 : decode cX3_meanStop 39 = .ok (.getfield 175, 3) := dk_180 0 175 (dk_at dksX3_meanStop_1 16 rfl rfl)
theorem dX3_meanStop_42 : decode cX3_meanStop 42 = .ok (.ifCond .eq 6, 3) := dk_153 0 6 (dk_at dksX3_meanStop_1 19 rfl rfl)
theorem dX3_meanStop_45 : decode cX3_meanStop 45 = .ok (.goto (-28), 3) := dk_167 255 228 (dk_at dksX3_meanStop_2 0 rfl rfl)
theorem dX3_meanStop_48 : decode cX3_meanStop 48 = .ok (.iload_n 1, 1) := dk_27 (dk_at dksX3_meanStop_2 3 rfl rfl)
theorem dX3_meanStop_49 : decode cX3_meanStop 49 = .ok (.aload 4, 2) := dk_25 4 (dk_at dksX3_meanStop_2 4 rfl rfl)
theorem dX3_meanStop_51 : decode cX3_meanStop 51 = .ok (.getfield 178, 3) := dk_180 0 178 (dk_at dksX3_meanStop_2 6 rfl rfl)
theorem dX3_meanStop_54 : decode cX3_meanStop 54 = .ok (.iadd, 1) := dk_96 (dk_at dksX3_meanStop_2 9 rfl rfl)
theorem dX3_meanStop_55 : decode cX3_meanStop 55 = .ok (.istore_n 1, 1) := dk_60 (dk_at dksX3_meanStop_2 10 rfl rfl)
theorem dX3_meanStop_56 : decode cX3_meanStop 56 = .ok (.iinc 2 1, 3) := dk_132 2 1 (dk_at dksX3_meanStop_2 11 rfl rfl)
theorem dX3_meanStop_59 : decode cX3_meanStop 59 = .ok (.goto (-42), 3) := dk_167 255 214 (dk_at dksX3_meanStop_2 14 rfl rfl)
theorem dX3_meanStop_62 : decode cX3_meanStop 62 = .ok (.iload_n 2, 1) := dk_28 (dk_at dksX3_meanStop_2 17 rfl rfl)
theorem dX3_meanStop_63 : decode cX3_meanStop 63 = .ok (.ifCond .ne 7, 3) := dk_154 0 7 (dk_at dksX3_meanStop_2 18 rfl rfl)
theorem dX3_meanStop_66 : decode cX3_meanStop 66 = .ok (.dconst 0, 1) := dk_14 (dk_at dksX3_meanStop_2 21 rfl rfl)
theorem dX3_meanStop_67 : decode cX3_meanStop 67 = .ok (.goto 8, 3) := dk_167 0 8 (dk_at dksX3_meanStop_3 0 rfl rfl)
theorem dX3_meanStop_70 : decode cX3_meanStop 70 = .ok (.iload_n 1, 1) := dk_27 (dk_at dksX3_meanStop_3 3 rfl rfl)
theorem dX3_meanStop_71 : decode cX3_meanStop 71 = .ok (.i2d, 1) := dk_135 (dk_at dksX3_meanStop_3 4 rfl rfl)
theorem dX3_meanStop_72 : decode cX3_meanStop 72 = .ok (.iload_n 2, 1) := dk_28 (dk_at dksX3_meanStop_3 5 rfl rfl)
theorem dX3_meanStop_73 : decode cX3_meanStop 73 = .ok (.i2d, 1) := dk_135 (dk_at dksX3_meanStop_3 6 rfl rfl)
theorem dX3_meanStop_74 : decode cX3_meanStop 74 = .ok (.ddiv, 1) := dk_111 (dk_at dksX3_meanStop_3 7 rfl rfl)
theorem dX3_meanStop_75 : decode cX3_meanStop 75 = .ok (.dreturn, 1) := dk_175 (dk_at dksX3_meanStop_3 8 rfl rfl)
abbrev cX3_cycleIn : ByteArray := prog_19_method_48_code
def yX3_cycleIn : MethodName := ⟨RX3, "cycleIn", "(II)I"⟩
def dkwX3_cycleIn_2 : List UInt8 := [42, 5, 182, 0, 31, 172]
abbrev dktX3_cycleIn_2 : List UInt8 := dkwX3_cycleIn_2 ++ []
def dkwX3_cycleIn_1 : List UInt8 := [184, 0, 27, 153, 0, 21, 42, 180, 0, 10, 27, 182, 0, 48, 192, 0, 35, 28, 184, 0, 201, 167, 0, 8]
abbrev dktX3_cycleIn_1 : List UInt8 := dkwX3_cycleIn_1 ++ dktX3_cycleIn_2
def dkwX3_cycleIn_0 : List UInt8 := [42, 3, 181, 0, 19, 42, 27, 182, 0, 44, 154, 0, 9, 42, 4, 182, 0, 31, 172, 28, 4, 16, 40]
abbrev dktX3_cycleIn_0 : List UInt8 := dkwX3_cycleIn_0 ++ dktX3_cycleIn_1
theorem dksX3_cycleIn_0 : cX3_cycleIn.data.toList.drop 0 = dktX3_cycleIn_0 := by decide +kernel
theorem dksX3_cycleIn_1 : cX3_cycleIn.data.toList.drop 23 = dktX3_cycleIn_1 := dk_seg dksX3_cycleIn_0 23 rfl rfl
theorem dksX3_cycleIn_2 : cX3_cycleIn.data.toList.drop 47 = dktX3_cycleIn_2 := dk_seg dksX3_cycleIn_1 24 rfl rfl
theorem dX3_cycleIn_0 : decode cX3_cycleIn 0 = .ok (.aload_n 0, 1) := dk_42 (dk_at dksX3_cycleIn_0 0 rfl rfl)
theorem dX3_cycleIn_1 : decode cX3_cycleIn 1 = .ok (.iconst 0, 1) := dk_3 (dk_at dksX3_cycleIn_0 1 rfl rfl)
theorem dX3_cycleIn_2 : decode cX3_cycleIn 2 = .ok (.putfield 19, 3) := dk_181 0 19 (dk_at dksX3_cycleIn_0 2 rfl rfl)
theorem dX3_cycleIn_5 : decode cX3_cycleIn 5 = .ok (.aload_n 0, 1) := dk_42 (dk_at dksX3_cycleIn_0 5 rfl rfl)
theorem dX3_cycleIn_6 : decode cX3_cycleIn 6 = .ok (.iload_n 1, 1) := dk_27 (dk_at dksX3_cycleIn_0 6 rfl rfl)
theorem dX3_cycleIn_7 : decode cX3_cycleIn 7 = .ok (.invokevirtual 44, 3) := dk_182 0 44 (dk_at dksX3_cycleIn_0 7 rfl rfl)
theorem dX3_cycleIn_10 : decode cX3_cycleIn 10 = .ok (.ifCond .ne 9, 3) := dk_154 0 9 (dk_at dksX3_cycleIn_0 10 rfl rfl)
theorem dX3_cycleIn_13 : decode cX3_cycleIn 13 = .ok (.aload_n 0, 1) := dk_42 (dk_at dksX3_cycleIn_0 13 rfl rfl)
theorem dX3_cycleIn_14 : decode cX3_cycleIn 14 = .ok (.iconst 1, 1) := dk_4 (dk_at dksX3_cycleIn_0 14 rfl rfl)
theorem dX3_cycleIn_15 : decode cX3_cycleIn 15 = .ok (.invokevirtual 31, 3) := dk_182 0 31 (dk_at dksX3_cycleIn_0 15 rfl rfl)
theorem dX3_cycleIn_18 : decode cX3_cycleIn 18 = .ok (.ireturn, 1) := dk_172 (dk_at dksX3_cycleIn_0 18 rfl rfl)
theorem dX3_cycleIn_19 : decode cX3_cycleIn 19 = .ok (.iload_n 2, 1) := dk_28 (dk_at dksX3_cycleIn_0 19 rfl rfl)
theorem dX3_cycleIn_20 : decode cX3_cycleIn 20 = .ok (.iconst 1, 1) := dk_4 (dk_at dksX3_cycleIn_0 20 rfl rfl)
theorem dX3_cycleIn_21 : decode cX3_cycleIn 21 = .ok (.bipush 40, 2) := dk_16 40 (dk_at dksX3_cycleIn_0 21 rfl rfl)
theorem dX3_cycleIn_23 : decode cX3_cycleIn 23 = .ok (.invokestatic 27, 3) := dk_184 0 27 (dk_at dksX3_cycleIn_1 0 rfl rfl)
theorem dX3_cycleIn_26 : decode cX3_cycleIn 26 = .ok (.ifCond .eq 21, 3) := dk_153 0 21 (dk_at dksX3_cycleIn_1 3 rfl rfl)
theorem dX3_cycleIn_29 : decode cX3_cycleIn 29 = .ok (.aload_n 0, 1) := dk_42 (dk_at dksX3_cycleIn_1 6 rfl rfl)
theorem dX3_cycleIn_30 : decode cX3_cycleIn 30 = .ok (.getfield 10, 3) := dk_180 0 10 (dk_at dksX3_cycleIn_1 7 rfl rfl)
theorem dX3_cycleIn_33 : decode cX3_cycleIn 33 = .ok (.iload_n 1, 1) := dk_27 (dk_at dksX3_cycleIn_1 10 rfl rfl)
theorem dX3_cycleIn_34 : decode cX3_cycleIn 34 = .ok (.invokevirtual 48, 3) := dk_182 0 48 (dk_at dksX3_cycleIn_1 11 rfl rfl)
theorem dX3_cycleIn_37 : decode cX3_cycleIn 37 = .ok (.checkcast 35, 3) := dk_192 0 35 (dk_at dksX3_cycleIn_1 14 rfl rfl)
theorem dX3_cycleIn_40 : decode cX3_cycleIn 40 = .ok (.iload_n 2, 1) := dk_28 (dk_at dksX3_cycleIn_1 17 rfl rfl)
theorem dX3_cycleIn_41 : decode cX3_cycleIn 41 = .ok (.invokestatic 201, 3) := dk_184 0 201 (dk_at dksX3_cycleIn_1 18 rfl rfl)
theorem dX3_cycleIn_44 : decode cX3_cycleIn 44 = .ok (.goto 8, 3) := dk_167 0 8 (dk_at dksX3_cycleIn_1 21 rfl rfl)
theorem dX3_cycleIn_47 : decode cX3_cycleIn 47 = .ok (.aload_n 0, 1) := dk_42 (dk_at dksX3_cycleIn_2 0 rfl rfl)
theorem dX3_cycleIn_48 : decode cX3_cycleIn 48 = .ok (.iconst 2, 1) := dk_5 (dk_at dksX3_cycleIn_2 1 rfl rfl)
theorem dX3_cycleIn_49 : decode cX3_cycleIn 49 = .ok (.invokevirtual 31, 3) := dk_182 0 31 (dk_at dksX3_cycleIn_2 2 rfl rfl)
theorem dX3_cycleIn_52 : decode cX3_cycleIn 52 = .ok (.ireturn, 1) := dk_172 (dk_at dksX3_cycleIn_2 5 rfl rfl)
abbrev cX3_backIn : ByteArray := prog_19_method_49_code
def yX3_backIn : MethodName := ⟨RX3, "backIn", "(I)I"⟩
def dkwX3_backIn_1 : List UInt8 := [184, 0, 205, 167, 0, 8, 42, 4, 182, 0, 31, 172]
abbrev dktX3_backIn_1 : List UInt8 := dkwX3_backIn_1 ++ []
def dkwX3_backIn_0 : List UInt8 := [42, 3, 181, 0, 19, 42, 27, 182, 0, 44, 153, 0, 20, 42, 180, 0, 10, 27, 182, 0, 48, 192, 0, 35]
abbrev dktX3_backIn_0 : List UInt8 := dkwX3_backIn_0 ++ dktX3_backIn_1
theorem dksX3_backIn_0 : cX3_backIn.data.toList.drop 0 = dktX3_backIn_0 := by decide +kernel
theorem dksX3_backIn_1 : cX3_backIn.data.toList.drop 24 = dktX3_backIn_1 := dk_seg dksX3_backIn_0 24 rfl rfl
theorem dX3_backIn_0 : decode cX3_backIn 0 = .ok (.aload_n 0, 1) := dk_42 (dk_at dksX3_backIn_0 0 rfl rfl)
theorem dX3_backIn_1 : decode cX3_backIn 1 = .ok (.iconst 0, 1) := dk_3 (dk_at dksX3_backIn_0 1 rfl rfl)
theorem dX3_backIn_2 : decode cX3_backIn 2 = .ok (.putfield 19, 3) := dk_181 0 19 (dk_at dksX3_backIn_0 2 rfl rfl)
theorem dX3_backIn_5 : decode cX3_backIn 5 = .ok (.aload_n 0, 1) := dk_42 (dk_at dksX3_backIn_0 5 rfl rfl)
theorem dX3_backIn_6 : decode cX3_backIn 6 = .ok (.iload_n 1, 1) := dk_27 (dk_at dksX3_backIn_0 6 rfl rfl)
theorem dX3_backIn_7 : decode cX3_backIn 7 = .ok (.invokevirtual 44, 3) := dk_182 0 44 (dk_at dksX3_backIn_0 7 rfl rfl)
theorem dX3_backIn_10 : decode cX3_backIn 10 = .ok (.ifCond .eq 20, 3) := dk_153 0 20 (dk_at dksX3_backIn_0 10 rfl rfl)
theorem dX3_backIn_13 : decode cX3_backIn 13 = .ok (.aload_n 0, 1) := dk_42 (dk_at dksX3_backIn_0 13 rfl rfl)
theorem dX3_backIn_14 : decode cX3_backIn 14 = .ok (.getfield 10, 3) := dk_180 0 10 (dk_at dksX3_backIn_0 14 rfl rfl)
theorem dX3_backIn_17 : decode cX3_backIn 17 = .ok (.iload_n 1, 1) := dk_27 (dk_at dksX3_backIn_0 17 rfl rfl)
theorem dX3_backIn_18 : decode cX3_backIn 18 = .ok (.invokevirtual 48, 3) := dk_182 0 48 (dk_at dksX3_backIn_0 18 rfl rfl)
theorem dX3_backIn_21 : decode cX3_backIn 21 = .ok (.checkcast 35, 3) := dk_192 0 35 (dk_at dksX3_backIn_0 21 rfl rfl)
theorem dX3_backIn_24 : decode cX3_backIn 24 = .ok (.invokestatic 205, 3) := dk_184 0 205 (dk_at dksX3_backIn_1 0 rfl rfl)
theorem dX3_backIn_27 : decode cX3_backIn 27 = .ok (.goto 8, 3) := dk_167 0 8 (dk_at dksX3_backIn_1 3 rfl rfl)
theorem dX3_backIn_30 : decode cX3_backIn 30 = .ok (.aload_n 0, 1) := dk_42 (dk_at dksX3_backIn_1 6 rfl rfl)
theorem dX3_backIn_31 : decode cX3_backIn 31 = .ok (.iconst 1, 1) := dk_4 (dk_at dksX3_backIn_1 7 rfl rfl)
theorem dX3_backIn_32 : decode cX3_backIn 32 = .ok (.invokevirtual 31, 3) := dk_182 0 31 (dk_at dksX3_backIn_1 8 rfl rfl)
theorem dX3_backIn_35 : decode cX3_backIn 35 = .ok (.ireturn, 1) := dk_172 (dk_at dksX3_backIn_1 11 rfl rfl)
abbrev cX3_gramIn : ByteArray := prog_19_method_50_code
def yX3_gramIn : MethodName := ⟨RX3, "gramIn", "(I)I"⟩
def dkwX3_gramIn_1 : List UInt8 := [184, 0, 208, 167, 0, 8, 42, 4, 182, 0, 31, 172]
abbrev dktX3_gramIn_1 : List UInt8 := dkwX3_gramIn_1 ++ []
def dkwX3_gramIn_0 : List UInt8 := [42, 3, 181, 0, 19, 42, 27, 182, 0, 44, 153, 0, 20, 42, 180, 0, 10, 27, 182, 0, 48, 192, 0, 35]
abbrev dktX3_gramIn_0 : List UInt8 := dkwX3_gramIn_0 ++ dktX3_gramIn_1
theorem dksX3_gramIn_0 : cX3_gramIn.data.toList.drop 0 = dktX3_gramIn_0 := by decide +kernel
theorem dksX3_gramIn_1 : cX3_gramIn.data.toList.drop 24 = dktX3_gramIn_1 := dk_seg dksX3_gramIn_0 24 rfl rfl
theorem dX3_gramIn_0 : decode cX3_gramIn 0 = .ok (.aload_n 0, 1) := dk_42 (dk_at dksX3_gramIn_0 0 rfl rfl)
theorem dX3_gramIn_1 : decode cX3_gramIn 1 = .ok (.iconst 0, 1) := dk_3 (dk_at dksX3_gramIn_0 1 rfl rfl)
theorem dX3_gramIn_2 : decode cX3_gramIn 2 = .ok (.putfield 19, 3) := dk_181 0 19 (dk_at dksX3_gramIn_0 2 rfl rfl)
theorem dX3_gramIn_5 : decode cX3_gramIn 5 = .ok (.aload_n 0, 1) := dk_42 (dk_at dksX3_gramIn_0 5 rfl rfl)
theorem dX3_gramIn_6 : decode cX3_gramIn 6 = .ok (.iload_n 1, 1) := dk_27 (dk_at dksX3_gramIn_0 6 rfl rfl)
theorem dX3_gramIn_7 : decode cX3_gramIn 7 = .ok (.invokevirtual 44, 3) := dk_182 0 44 (dk_at dksX3_gramIn_0 7 rfl rfl)
theorem dX3_gramIn_10 : decode cX3_gramIn 10 = .ok (.ifCond .eq 20, 3) := dk_153 0 20 (dk_at dksX3_gramIn_0 10 rfl rfl)
theorem dX3_gramIn_13 : decode cX3_gramIn 13 = .ok (.aload_n 0, 1) := dk_42 (dk_at dksX3_gramIn_0 13 rfl rfl)
theorem dX3_gramIn_14 : decode cX3_gramIn 14 = .ok (.getfield 10, 3) := dk_180 0 10 (dk_at dksX3_gramIn_0 14 rfl rfl)
theorem dX3_gramIn_17 : decode cX3_gramIn 17 = .ok (.iload_n 1, 1) := dk_27 (dk_at dksX3_gramIn_0 17 rfl rfl)
theorem dX3_gramIn_18 : decode cX3_gramIn 18 = .ok (.invokevirtual 48, 3) := dk_182 0 48 (dk_at dksX3_gramIn_0 18 rfl rfl)
theorem dX3_gramIn_21 : decode cX3_gramIn 21 = .ok (.checkcast 35, 3) := dk_192 0 35 (dk_at dksX3_gramIn_0 21 rfl rfl)
theorem dX3_gramIn_24 : decode cX3_gramIn 24 = .ok (.invokestatic 208, 3) := dk_184 0 208 (dk_at dksX3_gramIn_1 0 rfl rfl)
theorem dX3_gramIn_27 : decode cX3_gramIn 27 = .ok (.goto 8, 3) := dk_167 0 8 (dk_at dksX3_gramIn_1 3 rfl rfl)
theorem dX3_gramIn_30 : decode cX3_gramIn 30 = .ok (.aload_n 0, 1) := dk_42 (dk_at dksX3_gramIn_1 6 rfl rfl)
theorem dX3_gramIn_31 : decode cX3_gramIn 31 = .ok (.iconst 1, 1) := dk_4 (dk_at dksX3_gramIn_1 7 rfl rfl)
theorem dX3_gramIn_32 : decode cX3_gramIn 32 = .ok (.invokevirtual 31, 3) := dk_182 0 31 (dk_at dksX3_gramIn_1 8 rfl rfl)
theorem dX3_gramIn_35 : decode cX3_gramIn 35 = .ok (.ireturn, 1) := dk_172 (dk_at dksX3_gramIn_1 11 rfl rfl)
abbrev cX3_digest : ByteArray := prog_19_method_52_code
def yX3_digest : MethodName := ⟨RX3, "digest", "()J"⟩
def dkwX3_digest_10 : List UInt8 := [182, 0, 243, 182, 1, 13, 42, 180, 1, 5, 173]
abbrev dktX3_digest_10 : List UInt8 := dkwX3_digest_10 ++ []
def dkwX3_digest_9 : List UInt8 := [182, 0, 254, 182, 1, 13, 132, 1, 1, 167, 255, 229, 42, 42, 3, 182, 0, 243, 182, 1, 13, 42, 42, 4]
abbrev dktX3_digest_9 : List UInt8 := dkwX3_digest_9 ++ dktX3_digest_10
def dkwX3_digest_8 : List UInt8 := [167, 255, 114, 3, 60, 27, 42, 180, 0, 16, 182, 0, 23, 162, 0, 22, 42, 42, 27, 16, 10, 16, 9]
abbrev dktX3_digest_8 : List UInt8 := dkwX3_digest_8 ++ dktX3_digest_9
def dkwX3_digest_7 : List UInt8 := [132, 4, 1, 167, 255, 236, 42, 44, 16, 8, 184, 0, 201, 182, 1, 13, 42, 44, 184, 0, 205, 182, 1, 13]
abbrev dktX3_digest_7 : List UInt8 := dkwX3_digest_7 ++ dktX3_digest_8
def dkwX3_digest_6 : List UInt8 := [182, 0, 81, 78, 3, 54, 4, 21, 4, 16, 8, 162, 0, 19, 42, 45, 21, 4, 184, 0, 233, 182, 1, 13]
abbrev dktX3_digest_6 : List UInt8 := dkwX3_digest_6 ++ dktX3_digest_7
def dkwX3_digest_5 : List UInt8 := [21, 4, 184, 0, 211, 182, 1, 13, 132, 4, 1, 167, 255, 231, 132, 3, 1, 167, 255, 213, 44, 16, 40]
abbrev dktX3_digest_5 : List UInt8 := dkwX3_digest_5 ++ dktX3_digest_6
def dkwX3_digest_4 : List UInt8 := [180, 0, 59, 190, 162, 0, 40, 3, 54, 4, 21, 4, 6, 162, 0, 25, 42, 44, 29, 5, 108, 29, 5, 112]
abbrev dktX3_digest_4 : List UInt8 := dkwX3_digest_4 ++ dktX3_digest_5
def dkwX3_digest_3 : List UInt8 := [162, 0, 19, 42, 42, 44, 29, 182, 0, 221, 182, 1, 13, 132, 3, 1, 167, 255, 237, 3, 62, 29, 44]
abbrev dktX3_digest_3 : List UInt8 := dkwX3_digest_3 ++ dktX3_digest_4
def dkwX3_digest_2 : List UInt8 := [185, 0, 162, 1, 0, 153, 0, 139, 43, 185, 0, 167, 1, 0, 192, 0, 35, 77, 3, 62, 29, 16, 9]
abbrev dktX3_digest_2 : List UInt8 := dkwX3_digest_2 ++ dktX3_digest_3
def dkwX3_digest_1 : List UInt8 := [182, 1, 2, 182, 1, 13, 132, 1, 1, 167, 255, 238, 42, 180, 0, 10, 182, 0, 158, 76, 43]
abbrev dktX3_digest_1 : List UInt8 := dkwX3_digest_1 ++ dktX3_digest_2
def dkwX3_digest_0 : List UInt8 := [42, 3, 181, 0, 19, 42, 20, 1, 11, 181, 1, 5, 3, 60, 27, 16, 11, 162, 0, 18, 42, 42, 27]
abbrev dktX3_digest_0 : List UInt8 := dkwX3_digest_0 ++ dktX3_digest_1
theorem dksX3_digest_0 : cX3_digest.data.toList.drop 0 = dktX3_digest_0 := by decide +kernel
theorem dksX3_digest_1 : cX3_digest.data.toList.drop 23 = dktX3_digest_1 := dk_seg dksX3_digest_0 23 rfl rfl
theorem dksX3_digest_2 : cX3_digest.data.toList.drop 44 = dktX3_digest_2 := dk_seg dksX3_digest_1 21 rfl rfl
theorem dksX3_digest_3 : cX3_digest.data.toList.drop 67 = dktX3_digest_3 := dk_seg dksX3_digest_2 23 rfl rfl
theorem dksX3_digest_4 : cX3_digest.data.toList.drop 90 = dktX3_digest_4 := dk_seg dksX3_digest_3 23 rfl rfl
theorem dksX3_digest_5 : cX3_digest.data.toList.drop 114 = dktX3_digest_5 := dk_seg dksX3_digest_4 24 rfl rfl
theorem dksX3_digest_6 : cX3_digest.data.toList.drop 137 = dktX3_digest_6 := dk_seg dksX3_digest_5 23 rfl rfl
theorem dksX3_digest_7 : cX3_digest.data.toList.drop 161 = dktX3_digest_7 := dk_seg dksX3_digest_6 24 rfl rfl
theorem dksX3_digest_8 : cX3_digest.data.toList.drop 185 = dktX3_digest_8 := dk_seg dksX3_digest_7 24 rfl rfl
theorem dksX3_digest_9 : cX3_digest.data.toList.drop 208 = dktX3_digest_9 := dk_seg dksX3_digest_8 23 rfl rfl
theorem dksX3_digest_10 : cX3_digest.data.toList.drop 232 = dktX3_digest_10 := dk_seg dksX3_digest_9 24 rfl rfl
theorem dX3_digest_0 : decode cX3_digest 0 = .ok (.aload_n 0, 1) := dk_42 (dk_at dksX3_digest_0 0 rfl rfl)
theorem dX3_digest_1 : decode cX3_digest 1 = .ok (.iconst 0, 1) := dk_3 (dk_at dksX3_digest_0 1 rfl rfl)
theorem dX3_digest_2 : decode cX3_digest 2 = .ok (.putfield 19, 3) := dk_181 0 19 (dk_at dksX3_digest_0 2 rfl rfl)
theorem dX3_digest_5 : decode cX3_digest 5 = .ok (.aload_n 0, 1) := dk_42 (dk_at dksX3_digest_0 5 rfl rfl)
theorem dX3_digest_6 : decode cX3_digest 6 = .ok (.ldc2_w 267, 3) := dk_20 1 11 (dk_at dksX3_digest_0 6 rfl rfl)
theorem dX3_digest_9 : decode cX3_digest 9 = .ok (.putfield 261, 3) := dk_181 1 5 (dk_at dksX3_digest_0 9 rfl rfl)
theorem dX3_digest_12 : decode cX3_digest 12 = .ok (.iconst 0, 1) := dk_3 (dk_at dksX3_digest_0 12 rfl rfl)
theorem dX3_digest_13 : decode cX3_digest 13 = .ok (.istore_n 1, 1) := dk_60 (dk_at dksX3_digest_0 13 rfl rfl)
theorem dX3_digest_14 : decode cX3_digest 14 = .ok (.iload_n 1, 1) := dk_27 (dk_at dksX3_digest_0 14 rfl rfl)
theorem dX3_digest_15 : decode cX3_digest 15 = .ok (.bipush 11, 2) := dk_16 11 (dk_at dksX3_digest_0 15 rfl rfl)
theorem dX3_digest_17 : decode cX3_digest 17 = .ok (.if_icmp .ge 18, 3) := dk_162 0 18 (dk_at dksX3_digest_0 17 rfl rfl)
theorem dX3_digest_20 : decode cX3_digest 20 = .ok (.aload_n 0, 1) := dk_42 (dk_at dksX3_digest_0 20 rfl rfl)
theorem dX3_digest_21 : decode cX3_digest 21 = .ok (.aload_n 0, 1) := dk_42 (dk_at dksX3_digest_0 21 rfl rfl)
theorem dX3_digest_22 : decode cX3_digest 22 = .ok (.iload_n 1, 1) := dk_27 (dk_at dksX3_digest_0 22 rfl rfl)
theorem dX3_digest_23 : decode cX3_digest 23 = .ok (.invokevirtual 258, 3) := dk_182 1 2 (dk_at dksX3_digest_1 0 rfl rfl)
theorem dX3_digest_26 : decode cX3_digest 26 = .ok (.invokevirtual 269, 3) := dk_182 1 13 (dk_at dksX3_digest_1 3 rfl rfl)
theorem dX3_digest_29 : decode cX3_digest 29 = .ok (.iinc 1 1, 3) := dk_132 1 1 (dk_at dksX3_digest_1 6 rfl rfl)
theorem dX3_digest_32 : decode cX3_digest 32 = .ok (.goto (-18), 3) := dk_167 255 238 (dk_at dksX3_digest_1 9 rfl rfl)
theorem dX3_digest_35 : decode cX3_digest 35 = .ok (.aload_n 0, 1) := dk_42 (dk_at dksX3_digest_1 12 rfl rfl)
theorem dX3_digest_36 : decode cX3_digest 36 = .ok (.getfield 10, 3) := dk_180 0 10 (dk_at dksX3_digest_1 13 rfl rfl)
theorem dX3_digest_39 : decode cX3_digest 39 = .ok (.invokevirtual 158, 3) := dk_182 0 158 (dk_at dksX3_digest_1 16 rfl rfl)
theorem dX3_digest_42 : decode cX3_digest 42 = .ok (.astore_n 1, 1) := dk_76 (dk_at dksX3_digest_1 19 rfl rfl)
theorem dX3_digest_43 : decode cX3_digest 43 = .ok (.aload_n 1, 1) := dk_43 (dk_at dksX3_digest_1 20 rfl rfl)
theorem dX3_digest_44 : decode cX3_digest 44 = .ok (.invokeinterface 162 1, 5) := by decide +kernel
theorem dX3_digest_49 : decode cX3_digest 49 = .ok (.ifCond .eq 139, 3) := dk_153 0 139 (dk_at dksX3_digest_2 5 rfl rfl)
theorem dX3_digest_52 : decode cX3_digest 52 = .ok (.aload_n 1, 1) := dk_43 (dk_at dksX3_digest_2 8 rfl rfl)
theorem dX3_digest_53 : decode cX3_digest 53 = .ok (.invokeinterface 167 1, 5) := by decide +kernel
theorem dX3_digest_58 : decode cX3_digest 58 = .ok (.checkcast 35, 3) := dk_192 0 35 (dk_at dksX3_digest_2 14 rfl rfl)
theorem dX3_digest_61 : decode cX3_digest 61 = .ok (.astore_n 2, 1) := dk_77 (dk_at dksX3_digest_2 17 rfl rfl)
theorem dX3_digest_62 : decode cX3_digest 62 = .ok (.iconst 0, 1) := dk_3 (dk_at dksX3_digest_2 18 rfl rfl)
theorem dX3_digest_63 : decode cX3_digest 63 = .ok (.istore_n 3, 1) := dk_62 (dk_at dksX3_digest_2 19 rfl rfl)
theorem dX3_digest_64 : decode cX3_digest 64 = .ok (.iload_n 3, 1) := dk_29 (dk_at dksX3_digest_2 20 rfl rfl)
theorem dX3_digest_65 : decode cX3_digest 65 = .ok (.bipush 9, 2) := dk_16 9 (dk_at dksX3_digest_2 21 rfl rfl)
theorem dX3_digest_67 : decode cX3_digest 67 = .ok (.if_icmp .ge 19, 3) := dk_162 0 19 (dk_at dksX3_digest_3 0 rfl rfl)
theorem dX3_digest_70 : decode cX3_digest 70 = .ok (.aload_n 0, 1) := dk_42 (dk_at dksX3_digest_3 3 rfl rfl)
theorem dX3_digest_71 : decode cX3_digest 71 = .ok (.aload_n 0, 1) := dk_42 (dk_at dksX3_digest_3 4 rfl rfl)
theorem dX3_digest_72 : decode cX3_digest 72 = .ok (.aload_n 2, 1) := dk_44 (dk_at dksX3_digest_3 5 rfl rfl)
theorem dX3_digest_73 : decode cX3_digest 73 = .ok (.iload_n 3, 1) := dk_29 (dk_at dksX3_digest_3 6 rfl rfl)
theorem dX3_digest_74 : decode cX3_digest 74 = .ok (.invokevirtual 221, 3) := dk_182 0 221 (dk_at dksX3_digest_3 7 rfl rfl)
theorem dX3_digest_77 : decode cX3_digest 77 = .ok (.invokevirtual 269, 3) := dk_182 1 13 (dk_at dksX3_digest_3 10 rfl rfl)
theorem dX3_digest_80 : decode cX3_digest 80 = .ok (.iinc 3 1, 3) := dk_132 3 1 (dk_at dksX3_digest_3 13 rfl rfl)
theorem dX3_digest_83 : decode cX3_digest 83 = .ok (.goto (-19), 3) := dk_167 255 237 (dk_at dksX3_digest_3 16 rfl rfl)
theorem dX3_digest_86 : decode cX3_digest 86 = .ok (.iconst 0, 1) := dk_3 (dk_at dksX3_digest_3 19 rfl rfl)
theorem dX3_digest_87 : decode cX3_digest 87 = .ok (.istore_n 3, 1) := dk_62 (dk_at dksX3_digest_3 20 rfl rfl)
theorem dX3_digest_88 : decode cX3_digest 88 = .ok (.iload_n 3, 1) := dk_29 (dk_at dksX3_digest_3 21 rfl rfl)
theorem dX3_digest_89 : decode cX3_digest 89 = .ok (.aload_n 2, 1) := dk_44 (dk_at dksX3_digest_3 22 rfl rfl)
theorem dX3_digest_90 : decode cX3_digest 90 = .ok (.getfield 59, 3) := dk_180 0 59 (dk_at dksX3_digest_4 0 rfl rfl)
theorem dX3_digest_93 : decode cX3_digest 93 = .ok (.arraylength, 1) := dk_190 (dk_at dksX3_digest_4 3 rfl rfl)
theorem dX3_digest_94 : decode cX3_digest 94 = .ok (.if_icmp .ge 40, 3) := dk_162 0 40 (dk_at dksX3_digest_4 4 rfl rfl)
theorem dX3_digest_97 : decode cX3_digest 97 = .ok (.iconst 0, 1) := dk_3 (dk_at dksX3_digest_4 7 rfl rfl)
theorem dX3_digest_98 : decode cX3_digest 98 = .ok (.istore 4, 2) := dk_54 4 (dk_at dksX3_digest_4 8 rfl rfl)
theorem dX3_digest_100 : decode cX3_digest 100 = .ok (.iload 4, 2) := dk_21 4 (dk_at dksX3_digest_4 10 rfl rfl)
theorem dX3_digest_102 : decode cX3_digest 102 = .ok (.iconst 3, 1) := dk_6 (dk_at dksX3_digest_4 12 rfl rfl)
theorem dX3_digest_103 : decode cX3_digest 103 = .ok (.if_icmp .ge 25, 3) := dk_162 0 25 (dk_at dksX3_digest_4 13 rfl rfl)
theorem dX3_digest_106 : decode cX3_digest 106 = .ok (.aload_n 0, 1) := dk_42 (dk_at dksX3_digest_4 16 rfl rfl)
theorem dX3_digest_107 : decode cX3_digest 107 = .ok (.aload_n 2, 1) := dk_44 (dk_at dksX3_digest_4 17 rfl rfl)
theorem dX3_digest_108 : decode cX3_digest 108 = .ok (.iload_n 3, 1) := dk_29 (dk_at dksX3_digest_4 18 rfl rfl)
theorem dX3_digest_109 : decode cX3_digest 109 = .ok (.iconst 2, 1) := dk_5 (dk_at dksX3_digest_4 19 rfl rfl)
theorem dX3_digest_110 : decode cX3_digest 110 = .ok (.idiv, 1) := dk_108 (dk_at dksX3_digest_4 20 rfl rfl)
theorem dX3_digest_111 : decode cX3_digest 111 = .ok (.iload_n 3, 1) := dk_29 (dk_at dksX3_digest_4 21 rfl rfl)
theorem dX3_digest_112 : decode cX3_digest 112 = .ok (.iconst 2, 1) := dk_5 (dk_at dksX3_digest_4 22 rfl rfl)
theorem dX3_digest_113 : decode cX3_digest 113 = .ok (.irem, 1) := dk_112 (dk_at dksX3_digest_4 23 rfl rfl)
theorem dX3_digest_114 : decode cX3_digest 114 = .ok (.iload 4, 2) := dk_21 4 (dk_at dksX3_digest_5 0 rfl rfl)
theorem dX3_digest_116 : decode cX3_digest 116 = .ok (.invokestatic 211, 3) := dk_184 0 211 (dk_at dksX3_digest_5 2 rfl rfl)
theorem dX3_digest_119 : decode cX3_digest 119 = .ok (.invokevirtual 269, 3) := dk_182 1 13 (dk_at dksX3_digest_5 5 rfl rfl)
theorem dX3_digest_122 : decode cX3_digest 122 = .ok (.iinc 4 1, 3) := dk_132 4 1 (dk_at dksX3_digest_5 8 rfl rfl)
theorem dX3_digest_125 : decode cX3_digest 125 = .ok (.goto (-25), 3) := dk_167 255 231 (dk_at dksX3_digest_5 11 rfl rfl)
theorem dX3_digest_128 : decode cX3_digest 128 = .ok (.iinc 3 1, 3) := dk_132 3 1 (dk_at dksX3_digest_5 14 rfl rfl)
theorem dX3_digest_131 : decode cX3_digest 131 = .ok (.goto (-43), 3) := dk_167 255 213 (dk_at dksX3_digest_5 17 rfl rfl)
theorem dX3_digest_134 : decode cX3_digest 134 = .ok (.aload_n 2, 1) := dk_44 (dk_at dksX3_digest_5 20 rfl rfl)
theorem dX3_digest_135 : decode cX3_digest 135 = .ok (.bipush 40, 2) := dk_16 40 (dk_at dksX3_digest_5 21 rfl rfl)
theorem dX3_digest_137 : decode cX3_digest 137 = .ok (.invokevirtual 81, 3) := dk_182 0 81 (dk_at dksX3_digest_6 0 rfl rfl)
theorem dX3_digest_140 : decode cX3_digest 140 = .ok (.astore_n 3, 1) := dk_78 (dk_at dksX3_digest_6 3 rfl rfl)
theorem dX3_digest_141 : decode cX3_digest 141 = .ok (.iconst 0, 1) := dk_3 (dk_at dksX3_digest_6 4 rfl rfl)
theorem dX3_digest_142 : decode cX3_digest 142 = .ok (.istore 4, 2) := dk_54 4 (dk_at dksX3_digest_6 5 rfl rfl)
theorem dX3_digest_144 : decode cX3_digest 144 = .ok (.iload 4, 2) := dk_21 4 (dk_at dksX3_digest_6 7 rfl rfl)
theorem dX3_digest_146 : decode cX3_digest 146 = .ok (.bipush 8, 2) := dk_16 8 (dk_at dksX3_digest_6 9 rfl rfl)
theorem dX3_digest_148 : decode cX3_digest 148 = .ok (.if_icmp .ge 19, 3) := dk_162 0 19 (dk_at dksX3_digest_6 11 rfl rfl)
theorem dX3_digest_151 : decode cX3_digest 151 = .ok (.aload_n 0, 1) := dk_42 (dk_at dksX3_digest_6 14 rfl rfl)
theorem dX3_digest_152 : decode cX3_digest 152 = .ok (.aload_n 3, 1) := dk_45 (dk_at dksX3_digest_6 15 rfl rfl)
theorem dX3_digest_153 : decode cX3_digest 153 = .ok (.iload 4, 2) := dk_21 4 (dk_at dksX3_digest_6 16 rfl rfl)
theorem dX3_digest_155 : decode cX3_digest 155 = .ok (.invokestatic 233, 3) := dk_184 0 233 (dk_at dksX3_digest_6 18 rfl rfl)
theorem dX3_digest_158 : decode cX3_digest 158 = .ok (.invokevirtual 269, 3) := dk_182 1 13 (dk_at dksX3_digest_6 21 rfl rfl)
theorem dX3_digest_161 : decode cX3_digest 161 = .ok (.iinc 4 1, 3) := dk_132 4 1 (dk_at dksX3_digest_7 0 rfl rfl)
theorem dX3_digest_164 : decode cX3_digest 164 = .ok (.goto (-20), 3) := dk_167 255 236 (dk_at dksX3_digest_7 3 rfl rfl)
theorem dX3_digest_167 : decode cX3_digest 167 = .ok (.aload_n 0, 1) := dk_42 (dk_at dksX3_digest_7 6 rfl rfl)
theorem dX3_digest_168 : decode cX3_digest 168 = .ok (.aload_n 2, 1) := dk_44 (dk_at dksX3_digest_7 7 rfl rfl)
theorem dX3_digest_169 : decode cX3_digest 169 = .ok (.bipush 8, 2) := dk_16 8 (dk_at dksX3_digest_7 8 rfl rfl)
theorem dX3_digest_171 : decode cX3_digest 171 = .ok (.invokestatic 201, 3) := dk_184 0 201 (dk_at dksX3_digest_7 10 rfl rfl)
theorem dX3_digest_174 : decode cX3_digest 174 = .ok (.invokevirtual 269, 3) := dk_182 1 13 (dk_at dksX3_digest_7 13 rfl rfl)
theorem dX3_digest_177 : decode cX3_digest 177 = .ok (.aload_n 0, 1) := dk_42 (dk_at dksX3_digest_7 16 rfl rfl)
theorem dX3_digest_178 : decode cX3_digest 178 = .ok (.aload_n 2, 1) := dk_44 (dk_at dksX3_digest_7 17 rfl rfl)
theorem dX3_digest_179 : decode cX3_digest 179 = .ok (.invokestatic 205, 3) := dk_184 0 205 (dk_at dksX3_digest_7 18 rfl rfl)
theorem dX3_digest_182 : decode cX3_digest 182 = .ok (.invokevirtual 269, 3) := dk_182 1 13 (dk_at dksX3_digest_7 21 rfl rfl)
theorem dX3_digest_185 : decode cX3_digest 185 = .ok (.goto (-142), 3) := dk_167 255 114 (dk_at dksX3_digest_8 0 rfl rfl)
theorem dX3_digest_188 : decode cX3_digest 188 = .ok (.iconst 0, 1) := dk_3 (dk_at dksX3_digest_8 3 rfl rfl)
theorem dX3_digest_189 : decode cX3_digest 189 = .ok (.istore_n 1, 1) := dk_60 (dk_at dksX3_digest_8 4 rfl rfl)
theorem dX3_digest_190 : decode cX3_digest 190 = .ok (.iload_n 1, 1) := dk_27 (dk_at dksX3_digest_8 5 rfl rfl)
theorem dX3_digest_191 : decode cX3_digest 191 = .ok (.aload_n 0, 1) := dk_42 (dk_at dksX3_digest_8 6 rfl rfl)
theorem dX3_digest_192 : decode cX3_digest 192 = .ok (.getfield 16, 3) := dk_180 0 16 (dk_at dksX3_digest_8 7 rfl rfl)
theorem dX3_digest_195 : decode cX3_digest 195 = .ok (.invokevirtual 23, 3) := dk_182 0 23 (dk_at dksX3_digest_8 10 rfl rfl)
theorem dX3_digest_198 : decode cX3_digest 198 = .ok (.if_icmp .ge 22, 3) := dk_162 0 22 (dk_at dksX3_digest_8 13 rfl rfl)
theorem dX3_digest_201 : decode cX3_digest 201 = .ok (.aload_n 0, 1) := dk_42 (dk_at dksX3_digest_8 16 rfl rfl)
theorem dX3_digest_202 : decode cX3_digest 202 = .ok (.aload_n 0, 1) := dk_42 (dk_at dksX3_digest_8 17 rfl rfl)
theorem dX3_digest_203 : decode cX3_digest 203 = .ok (.iload_n 1, 1) := dk_27 (dk_at dksX3_digest_8 18 rfl rfl)
theorem dX3_digest_204 : decode cX3_digest 204 = .ok (.bipush 10, 2) := dk_16 10 (dk_at dksX3_digest_8 19 rfl rfl)
theorem dX3_digest_206 : decode cX3_digest 206 = .ok (.bipush 9, 2) := dk_16 9 (dk_at dksX3_digest_8 21 rfl rfl)
theorem dX3_digest_208 : decode cX3_digest 208 = .ok (.invokevirtual 254, 3) := dk_182 0 254 (dk_at dksX3_digest_9 0 rfl rfl)
theorem dX3_digest_211 : decode cX3_digest 211 = .ok (.invokevirtual 269, 3) := dk_182 1 13 (dk_at dksX3_digest_9 3 rfl rfl)
theorem dX3_digest_214 : decode cX3_digest 214 = .ok (.iinc 1 1, 3) := dk_132 1 1 (dk_at dksX3_digest_9 6 rfl rfl)
theorem dX3_digest_217 : decode cX3_digest 217 = .ok (.goto (-27), 3) := dk_167 255 229 (dk_at dksX3_digest_9 9 rfl rfl)
theorem dX3_digest_220 : decode cX3_digest 220 = .ok (.aload_n 0, 1) := dk_42 (dk_at dksX3_digest_9 12 rfl rfl)
theorem dX3_digest_221 : decode cX3_digest 221 = .ok (.aload_n 0, 1) := dk_42 (dk_at dksX3_digest_9 13 rfl rfl)
theorem dX3_digest_222 : decode cX3_digest 222 = .ok (.iconst 0, 1) := dk_3 (dk_at dksX3_digest_9 14 rfl rfl)
theorem dX3_digest_223 : decode cX3_digest 223 = .ok (.invokevirtual 243, 3) := dk_182 0 243 (dk_at dksX3_digest_9 15 rfl rfl)
theorem dX3_digest_226 : decode cX3_digest 226 = .ok (.invokevirtual 269, 3) := dk_182 1 13 (dk_at dksX3_digest_9 18 rfl rfl)
theorem dX3_digest_229 : decode cX3_digest 229 = .ok (.aload_n 0, 1) := dk_42 (dk_at dksX3_digest_9 21 rfl rfl)
theorem dX3_digest_230 : decode cX3_digest 230 = .ok (.aload_n 0, 1) := dk_42 (dk_at dksX3_digest_9 22 rfl rfl)
theorem dX3_digest_231 : decode cX3_digest 231 = .ok (.iconst 1, 1) := dk_4 (dk_at dksX3_digest_9 23 rfl rfl)
theorem dX3_digest_232 : decode cX3_digest 232 = .ok (.invokevirtual 243, 3) := dk_182 0 243 (dk_at dksX3_digest_10 0 rfl rfl)
theorem dX3_digest_235 : decode cX3_digest 235 = .ok (.invokevirtual 269, 3) := dk_182 1 13 (dk_at dksX3_digest_10 3 rfl rfl)
theorem dX3_digest_238 : decode cX3_digest 238 = .ok (.aload_n 0, 1) := dk_42 (dk_at dksX3_digest_10 6 rfl rfl)
theorem dX3_digest_239 : decode cX3_digest 239 = .ok (.getfield 261, 3) := dk_180 1 5 (dk_at dksX3_digest_10 7 rfl rfl)
theorem dX3_digest_242 : decode cX3_digest 242 = .ok (.lreturn, 1) := dk_173 (dk_at dksX3_digest_10 10 rfl rfl)
abbrev cX3_add : ByteArray := prog_19_method_51_code
def yX3_add : MethodName := ⟨RX3, "add", "(I)V"⟩
def dkwX3_add_0 : List UInt8 := [42, 42, 180, 1, 5, 20, 1, 9, 105, 27, 133, 97, 181, 1, 5, 177]
abbrev dktX3_add_0 : List UInt8 := dkwX3_add_0 ++ []
theorem dksX3_add_0 : cX3_add.data.toList.drop 0 = dktX3_add_0 := by decide +kernel
theorem dX3_add_0 : decode cX3_add 0 = .ok (.aload_n 0, 1) := dk_42 (dk_at dksX3_add_0 0 rfl rfl)
theorem dX3_add_1 : decode cX3_add 1 = .ok (.aload_n 0, 1) := dk_42 (dk_at dksX3_add_0 1 rfl rfl)
theorem dX3_add_2 : decode cX3_add 2 = .ok (.getfield 261, 3) := dk_180 1 5 (dk_at dksX3_add_0 2 rfl rfl)
theorem dX3_add_5 : decode cX3_add 5 = .ok (.ldc2_w 265, 3) := dk_20 1 9 (dk_at dksX3_add_0 5 rfl rfl)
theorem dX3_add_8 : decode cX3_add 8 = .ok (.lmul, 1) := dk_105 (dk_at dksX3_add_0 8 rfl rfl)
theorem dX3_add_9 : decode cX3_add 9 = .ok (.iload_n 1, 1) := dk_27 (dk_at dksX3_add_0 9 rfl rfl)
theorem dX3_add_10 : decode cX3_add 10 = .ok (.i2l, 1) := dk_133 (dk_at dksX3_add_0 10 rfl rfl)
theorem dX3_add_11 : decode cX3_add 11 = .ok (.ladd, 1) := dk_97 (dk_at dksX3_add_0 11 rfl rfl)
theorem dX3_add_12 : decode cX3_add 12 = .ok (.putfield 261, 3) := dk_181 1 5 (dk_at dksX3_add_0 12 rfl rfl)
theorem dX3_add_15 : decode cX3_add 15 = .ok (.return_, 1) := dk_177 (dk_at dksX3_add_0 15 rfl rfl)
theorem q30 : (Jvm.Cond.initialized "HaltingaleModel") ∈ lw_all := lw_g (lw_at lw_m1 6 rfl) rfl
theorem q535 : (Jvm.Cond.selects "HaltingaleModel" ({ cls := "java/lang/Object", name := "getClass", desc := "()Ljava/lang/Class;" } : Jvm.MethodName) ({ cls := "java/lang/Object", name := "getClass", desc := "()Ljava/lang/Class;" } : Jvm.MethodName)) ∈ lw_all := lw_g (lw_at lw_m3 31 rfl) rfl
theorem q874 : (Jvm.Cond.selects "HaltingaleModel" ({ cls := "java/lang/Object", name := "notify", desc := "()V" } : Jvm.MethodName) ({ cls := "java/lang/Object", name := "notify", desc := "()V" } : Jvm.MethodName)) ∈ lw_all := lw_g (lw_at lw_m4 130 rfl) rfl
theorem q1056 : (Jvm.Cond.selects "HaltingaleModel" ({ cls := "java/lang/Object", name := "notifyAll", desc := "()V" } : Jvm.MethodName) ({ cls := "java/lang/Object", name := "notifyAll", desc := "()V" } : Jvm.MethodName)) ∈ lw_all := lw_g (lw_at lw_m5 72 rfl) rfl
theorem q1231 : (Jvm.Cond.instantiable "HaltingaleModel" (7 : Nat)) ∈ lw_all := lw_g (lw_at lw_m6 7 rfl) rfl
theorem q1233 : (Jvm.Cond.instanceMethod ({ cls := "HaltingaleModel", name := "<init>", desc := "()V" } : Jvm.MethodName)) ∈ lw_all := lw_g (lw_at lw_m6 9 rfl) rfl
theorem q1234 : (Jvm.Cond.code ({ cls := "HaltingaleModel", name := "<init>", desc := "()V" } : Jvm.MethodName) prog_19_method_1_code (1 : Nat) (Option.none : Option Jvm.ClassFile.FieldType)) ∈ lw_all := lw_g (lw_at lw_m6 10 rfl) rfl
theorem q1235 : (Jvm.Cond.methodLink "HaltingaleModel" (1 : Nat) ({ cls := "java/lang/Object", name := "<init>", desc := "()V" } : Jvm.MethodName)) ∈ lw_all := lw_g (lw_at lw_m6 11 rfl) rfl
theorem q1236 : (Jvm.Cond.classLink "HaltingaleModel" (7 : Nat) "java/util/ArrayList") ∈ lw_all := lw_g (lw_at lw_m6 12 rfl) rfl
theorem q1237 : (Jvm.Cond.methodLink "HaltingaleModel" (9 : Nat) ({ cls := "java/util/ArrayList", name := "<init>", desc := "()V" } : Jvm.MethodName)) ∈ lw_all := lw_g (lw_at lw_m6 13 rfl) rfl
theorem q1238 : (Jvm.Cond.fieldLink "HaltingaleModel" (19 : Nat) "HaltingaleModel" "thrown" "I") ∈ lw_all := lw_g (lw_at lw_m6 14 rfl) rfl
theorem q1239 : (Jvm.Cond.fieldLink "HaltingaleModel" (10 : Nat) "HaltingaleModel" "machines" "Ljava/util/ArrayList;") ∈ lw_all := lw_g (lw_at lw_m6 15 rfl) rfl
theorem q1240 : (Jvm.Cond.fieldLink "HaltingaleModel" (16 : Nat) "HaltingaleModel" "tags" "Ljava/util/ArrayList;") ∈ lw_all := lw_g (lw_at lw_m6 16 rfl) rfl
theorem q1241 : (Jvm.Cond.fieldLink "HaltingaleModel" (191 : Nat) "HaltingaleModel" "given" "I") ∈ lw_all := lw_g (lw_at lw_m6 17 rfl) rfl
theorem q1242 : (Jvm.Cond.fieldLink "HaltingaleModel" (194 : Nat) "HaltingaleModel" "taken" "I") ∈ lw_all := lw_g (lw_at lw_m6 18 rfl) rfl
theorem q1243 : (Jvm.Cond.fieldLink "HaltingaleModel" (67 : Nat) "HaltingaleModel" "back" "I") ∈ lw_all := lw_g (lw_at lw_m6 19 rfl) rfl
theorem q1244 : (Jvm.Cond.fieldLink "HaltingaleModel" (261 : Nat) "HaltingaleModel" "sum" "J") ∈ lw_all := lw_g (lw_at lw_m6 20 rfl) rfl
theorem q1245 : (Jvm.Cond.lays "HaltingaleModel" "HaltingaleModel" "thrown" "I") ∈ lw_all := lw_g (lw_at lw_m6 21 rfl) rfl
theorem q1246 : (Jvm.Cond.soleField "HaltingaleModel" "thrown") ∈ lw_all := lw_g (lw_at lw_m6 22 rfl) rfl
theorem q1247 : (Jvm.Cond.laysFinal "HaltingaleModel" "HaltingaleModel" "machines" "Ljava/util/ArrayList;") ∈ lw_all := lw_g (lw_at lw_m6 23 rfl) rfl
theorem q1248 : (Jvm.Cond.soleField "HaltingaleModel" "machines") ∈ lw_all := lw_g (lw_at lw_m6 24 rfl) rfl
theorem q1249 : (Jvm.Cond.laysFinal "HaltingaleModel" "HaltingaleModel" "tags" "Ljava/util/ArrayList;") ∈ lw_all := lw_g (lw_at lw_m6 25 rfl) rfl
theorem q1250 : (Jvm.Cond.soleField "HaltingaleModel" "tags") ∈ lw_all := lw_g (lw_at lw_m6 26 rfl) rfl
theorem q1251 : (Jvm.Cond.lays "HaltingaleModel" "HaltingaleModel" "given" "I") ∈ lw_all := lw_g (lw_at lw_m6 27 rfl) rfl
theorem q1252 : (Jvm.Cond.soleField "HaltingaleModel" "given") ∈ lw_all := lw_g (lw_at lw_m6 28 rfl) rfl
theorem q1253 : (Jvm.Cond.lays "HaltingaleModel" "HaltingaleModel" "taken" "I") ∈ lw_all := lw_g (lw_at lw_m6 29 rfl) rfl
theorem q1254 : (Jvm.Cond.soleField "HaltingaleModel" "taken") ∈ lw_all := lw_g (lw_at lw_m6 30 rfl) rfl
theorem q1255 : (Jvm.Cond.lays "HaltingaleModel" "HaltingaleModel" "back" "I") ∈ lw_all := lw_g (lw_at lw_m6 31 rfl) rfl
theorem q1256 : (Jvm.Cond.soleField "HaltingaleModel" "back") ∈ lw_all := lw_g (lw_at lw_m6 32 rfl) rfl
theorem q1257 : (Jvm.Cond.lays "HaltingaleModel" "HaltingaleModel" "sum" "J") ∈ lw_all := lw_g (lw_at lw_m6 33 rfl) rfl
theorem q1258 : (Jvm.Cond.soleField "HaltingaleModel" "sum") ∈ lw_all := lw_g (lw_at lw_m6 34 rfl) rfl
theorem q1259 : (Jvm.Cond.superclass "HaltingaleModel" "java/lang/Object") ∈ lw_all := lw_g (lw_at lw_m6 35 rfl) rfl
theorem q1261 : (Jvm.Cond.instanceMethod ({ cls := "HaltingaleModel", name := "thrown", desc := "()I" } : Jvm.MethodName)) ∈ lw_all := lw_g (lw_at lw_m6 37 rfl) rfl
theorem q1262 : (Jvm.Cond.selects "HaltingaleModel" ({ cls := "HaltingaleModel", name := "thrown", desc := "()I" } : Jvm.MethodName) ({ cls := "HaltingaleModel", name := "thrown", desc := "()I" } : Jvm.MethodName)) ∈ lw_all := lw_g (lw_at lw_m6 38 rfl) rfl
theorem q1263 : (Jvm.Cond.code ({ cls := "HaltingaleModel", name := "thrown", desc := "()I" } : Jvm.MethodName) prog_19_method_2_code (1 : Nat) (Option.some Jvm.ClassFile.FieldType.int)) ∈ lw_all := lw_g (lw_at lw_m6 39 rfl) rfl
theorem q1265 : (Jvm.Cond.instanceMethod ({ cls := "HaltingaleModel", name := "machine", desc := "(I)I" } : Jvm.MethodName)) ∈ lw_all := lw_g (lw_at lw_m6 41 rfl) rfl
theorem q1266 : (Jvm.Cond.selects "HaltingaleModel" ({ cls := "HaltingaleModel", name := "machine", desc := "(I)I" } : Jvm.MethodName) ({ cls := "HaltingaleModel", name := "machine", desc := "(I)I" } : Jvm.MethodName)) ∈ lw_all := lw_g (lw_at lw_m6 42 rfl) rfl
theorem q1267 : (Jvm.Cond.code ({ cls := "HaltingaleModel", name := "machine", desc := "(I)I" } : Jvm.MethodName) prog_19_method_6_code (2 : Nat) (Option.some Jvm.ClassFile.FieldType.int)) ∈ lw_all := lw_g (lw_at lw_m6 43 rfl) rfl
theorem q1268 : (Jvm.Cond.methodLink "HaltingaleModel" (27 : Nat) ({ cls := "HaltingaleModel", name := "is", desc := "(III)Z" } : Jvm.MethodName)) ∈ lw_all := lw_g (lw_at lw_m6 44 rfl) rfl
theorem q1269 : (Jvm.Cond.static ({ cls := "HaltingaleModel", name := "is", desc := "(III)Z" } : Jvm.MethodName)) ∈ lw_all := lw_g (lw_at lw_m6 45 rfl) rfl
theorem q1270 : (Jvm.Cond.code ({ cls := "HaltingaleModel", name := "is", desc := "(III)Z" } : Jvm.MethodName) prog_19_method_4_code (3 : Nat) (Option.some Jvm.ClassFile.FieldType.boolean)) ∈ lw_all := lw_g (lw_at lw_m6 46 rfl) rfl
theorem q1271 : (Jvm.Cond.methodLink "HaltingaleModel" (31 : Nat) ({ cls := "HaltingaleModel", name := "refuse", desc := "(I)I" } : Jvm.MethodName)) ∈ lw_all := lw_g (lw_at lw_m6 47 rfl) rfl
theorem q1272 : (Jvm.Cond.privateMethod ({ cls := "HaltingaleModel", name := "refuse", desc := "(I)I" } : Jvm.MethodName)) ∈ lw_tbl := lw_at lw_m6 48 rfl
theorem q1273 : (Jvm.Cond.instanceMethod ({ cls := "HaltingaleModel", name := "refuse", desc := "(I)I" } : Jvm.MethodName)) ∈ lw_all := lw_g (lw_at lw_m6 49 rfl) rfl
theorem q1274 : (Jvm.Cond.code ({ cls := "HaltingaleModel", name := "refuse", desc := "(I)I" } : Jvm.MethodName) prog_19_method_3_code (2 : Nat) (Option.some Jvm.ClassFile.FieldType.int)) ∈ lw_all := lw_g (lw_at lw_m6 50 rfl) rfl
theorem q1275 : (Jvm.Cond.methodLink "HaltingaleModel" (23 : Nat) ({ cls := "java/util/ArrayList", name := "size", desc := "()I" } : Jvm.MethodName)) ∈ lw_all := lw_g (lw_at lw_m6 51 rfl) rfl
theorem q1276 : (Jvm.Cond.classLink "HaltingaleModel" (35 : Nat) "HaltingaleModel$Machine") ∈ lw_all := lw_g (lw_at lw_m6 52 rfl) rfl
theorem q1278 : (Jvm.Cond.methodLink "HaltingaleModel" (37 : Nat) ({ cls := "HaltingaleModel$Machine", name := "<init>", desc := "(I)V" } : Jvm.MethodName)) ∈ lw_all := lw_g (lw_at lw_m6 54 rfl) rfl
theorem q1286 : (Jvm.Cond.fieldLinkNest "HaltingaleModel" (52 : Nat) "HaltingaleModel$Machine" "states" "I" "HaltingaleModel") ∈ lw_tbl := lw_at lw_m6 62 rfl
theorem q1288 : (Jvm.Cond.fieldLinkNest "HaltingaleModel" (59 : Nat) "HaltingaleModel$Machine" "cells" "[[I" "HaltingaleModel") ∈ lw_tbl := lw_at lw_m6 64 rfl
theorem q1290 : (Jvm.Cond.fieldLinkNest "HaltingaleModel" (175 : Nat) "HaltingaleModel$Machine" "kind" "I" "HaltingaleModel") ∈ lw_tbl := lw_at lw_m6 66 rfl
theorem q1292 : (Jvm.Cond.fieldLinkNest "HaltingaleModel" (178 : Nat) "HaltingaleModel$Machine" "a" "I" "HaltingaleModel") ∈ lw_tbl := lw_at lw_m6 68 rfl
theorem q1294 : (Jvm.Cond.fieldLinkNest "HaltingaleModel" (181 : Nat) "HaltingaleModel$Machine" "b" "I" "HaltingaleModel") ∈ lw_tbl := lw_at lw_m6 70 rfl
theorem q1306 : (Jvm.Cond.methodLink "HaltingaleModel" (40 : Nat) ({ cls := "java/util/ArrayList", name := "add", desc := "(Ljava/lang/Object;)Z" } : Jvm.MethodName)) ∈ lw_all := lw_g (lw_at lw_m6 82 rfl) rfl
theorem q1308 : (Jvm.Cond.instanceMethod ({ cls := "HaltingaleModel", name := "tell", desc := "(IIIIII)I" } : Jvm.MethodName)) ∈ lw_all := lw_g (lw_at lw_m6 84 rfl) rfl
theorem q1309 : (Jvm.Cond.selects "HaltingaleModel" ({ cls := "HaltingaleModel", name := "tell", desc := "(IIIIII)I" } : Jvm.MethodName) ({ cls := "HaltingaleModel", name := "tell", desc := "(IIIIII)I" } : Jvm.MethodName)) ∈ lw_all := lw_g (lw_at lw_m6 85 rfl) rfl
theorem q1310 : (Jvm.Cond.code ({ cls := "HaltingaleModel", name := "tell", desc := "(IIIIII)I" } : Jvm.MethodName) prog_19_method_9_code (7 : Nat) (Option.some Jvm.ClassFile.FieldType.int)) ∈ lw_all := lw_g (lw_at lw_m6 86 rfl) rfl
theorem q1311 : (Jvm.Cond.methodLink "HaltingaleModel" (70 : Nat) ({ cls := "HaltingaleModel", name := "refused", desc := "(IIIIIIZ)I" } : Jvm.MethodName)) ∈ lw_all := lw_g (lw_at lw_m6 87 rfl) rfl
theorem q1312 : (Jvm.Cond.privateMethod ({ cls := "HaltingaleModel", name := "refused", desc := "(IIIIIIZ)I" } : Jvm.MethodName)) ∈ lw_tbl := lw_at lw_m6 88 rfl
theorem q1313 : (Jvm.Cond.instanceMethod ({ cls := "HaltingaleModel", name := "refused", desc := "(IIIIIIZ)I" } : Jvm.MethodName)) ∈ lw_all := lw_g (lw_at lw_m6 89 rfl) rfl
theorem q1314 : (Jvm.Cond.code ({ cls := "HaltingaleModel", name := "refused", desc := "(IIIIIIZ)I" } : Jvm.MethodName) prog_19_method_7_code (9 : Nat) (Option.some Jvm.ClassFile.FieldType.int)) ∈ lw_all := lw_g (lw_at lw_m6 90 rfl) rfl
theorem q1315 : (Jvm.Cond.methodLink "HaltingaleModel" (44 : Nat) ({ cls := "HaltingaleModel", name := "isMachine", desc := "(I)Z" } : Jvm.MethodName)) ∈ lw_all := lw_g (lw_at lw_m6 91 rfl) rfl
theorem q1316 : (Jvm.Cond.privateMethod ({ cls := "HaltingaleModel", name := "isMachine", desc := "(I)Z" } : Jvm.MethodName)) ∈ lw_tbl := lw_at lw_m6 92 rfl
theorem q1317 : (Jvm.Cond.instanceMethod ({ cls := "HaltingaleModel", name := "isMachine", desc := "(I)Z" } : Jvm.MethodName)) ∈ lw_all := lw_g (lw_at lw_m6 93 rfl) rfl
theorem q1318 : (Jvm.Cond.code ({ cls := "HaltingaleModel", name := "isMachine", desc := "(I)Z" } : Jvm.MethodName) prog_19_method_5_code (2 : Nat) (Option.some Jvm.ClassFile.FieldType.boolean)) ∈ lw_all := lw_g (lw_at lw_m6 94 rfl) rfl
theorem q1319 : (Jvm.Cond.methodLink "HaltingaleModel" (48 : Nat) ({ cls := "java/util/ArrayList", name := "get", desc := "(I)Ljava/lang/Object;" } : Jvm.MethodName)) ∈ lw_all := lw_g (lw_at lw_m6 95 rfl) rfl
theorem q1320 : (Jvm.Cond.methodLink "HaltingaleModel" (55 : Nat) ({ cls := "HaltingaleModel$Machine", name := "cell", desc := "(II)[I" } : Jvm.MethodName)) ∈ lw_all := lw_g (lw_at lw_m6 96 rfl) rfl
theorem q1324 : (Jvm.Cond.methodLink "HaltingaleModel" (74 : Nat) ({ cls := "HaltingaleModel", name := "put", desc := "(LHaltingaleModel$Machine;IIIII)Z" } : Jvm.MethodName)) ∈ lw_all := lw_g (lw_at lw_m6 100 rfl) rfl
theorem q1325 : (Jvm.Cond.privateMethod ({ cls := "HaltingaleModel", name := "put", desc := "(LHaltingaleModel$Machine;IIIII)Z" } : Jvm.MethodName)) ∈ lw_tbl := lw_at lw_m6 101 rfl
theorem q1326 : (Jvm.Cond.instanceMethod ({ cls := "HaltingaleModel", name := "put", desc := "(LHaltingaleModel$Machine;IIIII)Z" } : Jvm.MethodName)) ∈ lw_all := lw_g (lw_at lw_m6 102 rfl) rfl
theorem q1327 : (Jvm.Cond.code ({ cls := "HaltingaleModel", name := "put", desc := "(LHaltingaleModel$Machine;IIIII)Z" } : Jvm.MethodName) prog_19_method_8_code (9 : Nat) (Option.some Jvm.ClassFile.FieldType.boolean)) ∈ lw_all := lw_g (lw_at lw_m6 103 rfl) rfl
theorem q1328 : (Jvm.Cond.methodLink "HaltingaleModel" (63 : Nat) ({ cls := "HaltingaleModel$Machine", name := "open", desc := "()Z" } : Jvm.MethodName)) ∈ lw_all := lw_g (lw_at lw_m6 104 rfl) rfl
theorem q1332 : (Jvm.Cond.methodLink "HaltingaleModel" (78 : Nat) ({ cls := "HaltingaleModel$Machine", name := "empty", desc := "()I" } : Jvm.MethodName)) ∈ lw_all := lw_g (lw_at lw_m6 108 rfl) rfl
theorem q1337 : (Jvm.Cond.instanceMethod ({ cls := "HaltingaleModel", name := "amend", desc := "(IIIIII)Z" } : Jvm.MethodName)) ∈ lw_all := lw_g (lw_at lw_m6 113 rfl) rfl
theorem q1338 : (Jvm.Cond.selects "HaltingaleModel" ({ cls := "HaltingaleModel", name := "amend", desc := "(IIIIII)Z" } : Jvm.MethodName) ({ cls := "HaltingaleModel", name := "amend", desc := "(IIIIII)Z" } : Jvm.MethodName)) ∈ lw_all := lw_g (lw_at lw_m6 114 rfl) rfl
theorem q1339 : (Jvm.Cond.code ({ cls := "HaltingaleModel", name := "amend", desc := "(IIIIII)Z" } : Jvm.MethodName) prog_19_method_10_code (7 : Nat) (Option.some Jvm.ClassFile.FieldType.boolean)) ∈ lw_all := lw_g (lw_at lw_m6 115 rfl) rfl
theorem q1341 : (Jvm.Cond.instanceMethod ({ cls := "HaltingaleModel", name := "child", desc := "(II)I" } : Jvm.MethodName)) ∈ lw_all := lw_g (lw_at lw_m6 117 rfl) rfl
theorem q1342 : (Jvm.Cond.selects "HaltingaleModel" ({ cls := "HaltingaleModel", name := "child", desc := "(II)I" } : Jvm.MethodName) ({ cls := "HaltingaleModel", name := "child", desc := "(II)I" } : Jvm.MethodName)) ∈ lw_all := lw_g (lw_at lw_m6 118 rfl) rfl
theorem q1343 : (Jvm.Cond.code ({ cls := "HaltingaleModel", name := "child", desc := "(II)I" } : Jvm.MethodName) prog_19_method_12_code (8 : Nat) (Option.some Jvm.ClassFile.FieldType.int)) ∈ lw_all := lw_g (lw_at lw_m6 119 rfl) rfl
theorem q1344 : (Jvm.Cond.methodLink "HaltingaleModel" (93 : Nat) ({ cls := "HaltingaleModel", name := "ways", desc := "(LHaltingaleModel$Machine;)I" } : Jvm.MethodName)) ∈ lw_all := lw_g (lw_at lw_m6 120 rfl) rfl
theorem q1345 : (Jvm.Cond.privateMethod ({ cls := "HaltingaleModel", name := "ways", desc := "(LHaltingaleModel$Machine;)I" } : Jvm.MethodName)) ∈ lw_tbl := lw_at lw_m6 121 rfl
theorem q1346 : (Jvm.Cond.instanceMethod ({ cls := "HaltingaleModel", name := "ways", desc := "(LHaltingaleModel$Machine;)I" } : Jvm.MethodName)) ∈ lw_all := lw_g (lw_at lw_m6 122 rfl) rfl
theorem q1347 : (Jvm.Cond.code ({ cls := "HaltingaleModel", name := "ways", desc := "(LHaltingaleModel$Machine;)I" } : Jvm.MethodName) prog_19_method_11_code (2 : Nat) (Option.some Jvm.ClassFile.FieldType.int)) ∈ lw_all := lw_g (lw_at lw_m6 123 rfl) rfl
theorem q1348 : (Jvm.Cond.methodLink "HaltingaleModel" (81 : Nat) ({ cls := "HaltingaleModel$Machine", name := "run", desc := "(I)LHaltingaleModel$Run;" } : Jvm.MethodName)) ∈ lw_all := lw_g (lw_at lw_m6 124 rfl) rfl
theorem q1362 : (Jvm.Cond.fieldLinkNest "HaltingaleModel" (103 : Nat) "HaltingaleModel$Run" "state" "I" "HaltingaleModel") ∈ lw_tbl := lw_at lw_m6 138 rfl
theorem q1364 : (Jvm.Cond.fieldLinkNest "HaltingaleModel" (132 : Nat) "HaltingaleModel$Run" "place" "I" "HaltingaleModel") ∈ lw_tbl := lw_at lw_m6 140 rfl
theorem q1367 : (Jvm.Cond.fieldLinkNest "HaltingaleModel" (112 : Nat) "HaltingaleModel$Run" "done" "I" "HaltingaleModel") ∈ lw_tbl := lw_at lw_m6 143 rfl
theorem q1369 : (Jvm.Cond.fieldLinkNest "HaltingaleModel" (227 : Nat) "HaltingaleModel$Run" "least" "I" "HaltingaleModel") ∈ lw_tbl := lw_at lw_m6 145 rfl
theorem q1371 : (Jvm.Cond.fieldLinkNest "HaltingaleModel" (230 : Nat) "HaltingaleModel$Run" "most" "I" "HaltingaleModel") ∈ lw_tbl := lw_at lw_m6 147 rfl
theorem q1408 : (Jvm.Cond.methodLink "HaltingaleModel" (85 : Nat) ({ cls := "HaltingaleModel$Run", name := "isHung", desc := "()Z" } : Jvm.MethodName)) ∈ lw_all := lw_g (lw_at lw_m6 184 rfl) rfl
theorem q1409 : (Jvm.Cond.methodLink "HaltingaleModel" (90 : Nat) ({ cls := "HaltingaleModel$Machine", name := "top", desc := "()I" } : Jvm.MethodName)) ∈ lw_all := lw_g (lw_at lw_m6 185 rfl) rfl
theorem q1415 : (Jvm.Cond.methodLink "HaltingaleModel" (97 : Nat) ({ cls := "[I", name := "clone", desc := "()Ljava/lang/Object;" } : Jvm.MethodName)) ∈ lw_all := lw_g (lw_at lw_m6 191 rfl) rfl
theorem q1421 : (Jvm.Cond.classLink "HaltingaleModel" (98 : Nat) "[I") ∈ lw_all := lw_g (lw_at lw_m6 197 rfl) rfl
theorem q1422 : (Jvm.Cond.methodLink "HaltingaleModel" (106 : Nat) ({ cls := "HaltingaleModel$Run", name := "under", desc := "()I" } : Jvm.MethodName)) ∈ lw_all := lw_g (lw_at lw_m6 198 rfl) rfl
theorem q1424 : (Jvm.Cond.instanceMethod ({ cls := "HaltingaleModel", name := "tag", desc := "(III)I" } : Jvm.MethodName)) ∈ lw_all := lw_g (lw_at lw_m6 200 rfl) rfl
theorem q1425 : (Jvm.Cond.selects "HaltingaleModel" ({ cls := "HaltingaleModel", name := "tag", desc := "(III)I" } : Jvm.MethodName) ({ cls := "HaltingaleModel", name := "tag", desc := "(III)I" } : Jvm.MethodName)) ∈ lw_all := lw_g (lw_at lw_m6 201 rfl) rfl
theorem q1426 : (Jvm.Cond.code ({ cls := "HaltingaleModel", name := "tag", desc := "(III)I" } : Jvm.MethodName) prog_19_method_13_code (5 : Nat) (Option.some Jvm.ClassFile.FieldType.int)) ∈ lw_all := lw_g (lw_at lw_m6 202 rfl) rfl
theorem q1428 : (Jvm.Cond.instanceMethod ({ cls := "HaltingaleModel", name := "prove", desc := "(IIII)Z" } : Jvm.MethodName)) ∈ lw_all := lw_g (lw_at lw_m6 204 rfl) rfl
theorem q1429 : (Jvm.Cond.selects "HaltingaleModel" ({ cls := "HaltingaleModel", name := "prove", desc := "(IIII)Z" } : Jvm.MethodName) ({ cls := "HaltingaleModel", name := "prove", desc := "(IIII)Z" } : Jvm.MethodName)) ∈ lw_all := lw_g (lw_at lw_m6 205 rfl) rfl
theorem q1430 : (Jvm.Cond.code ({ cls := "HaltingaleModel", name := "prove", desc := "(IIII)Z" } : Jvm.MethodName) prog_19_method_24_code (6 : Nat) (Option.some Jvm.ClassFile.FieldType.boolean)) ∈ lw_all := lw_g (lw_at lw_m6 206 rfl) rfl
theorem q1431 : (Jvm.Cond.methodLink "HaltingaleModel" (184 : Nat) ({ cls := "HaltingaleModel", name := "isCertificate", desc := "(III)Z" } : Jvm.MethodName)) ∈ lw_all := lw_g (lw_at lw_m6 207 rfl) rfl
theorem q1432 : (Jvm.Cond.static ({ cls := "HaltingaleModel", name := "isCertificate", desc := "(III)Z" } : Jvm.MethodName)) ∈ lw_all := lw_g (lw_at lw_m6 208 rfl) rfl
theorem q1433 : (Jvm.Cond.code ({ cls := "HaltingaleModel", name := "isCertificate", desc := "(III)Z" } : Jvm.MethodName) prog_19_method_14_code (3 : Nat) (Option.some Jvm.ClassFile.FieldType.boolean)) ∈ lw_all := lw_g (lw_at lw_m6 209 rfl) rfl
theorem q1434 : (Jvm.Cond.methodLink "HaltingaleModel" (187 : Nat) ({ cls := "HaltingaleModel", name := "isTaken", desc := "(LHaltingaleModel$Machine;III)Z" } : Jvm.MethodName)) ∈ lw_all := lw_g (lw_at lw_m6 210 rfl) rfl
theorem q1435 : (Jvm.Cond.static ({ cls := "HaltingaleModel", name := "isTaken", desc := "(LHaltingaleModel$Machine;III)Z" } : Jvm.MethodName)) ∈ lw_all := lw_g (lw_at lw_m6 211 rfl) rfl
theorem q1436 : (Jvm.Cond.code ({ cls := "HaltingaleModel", name := "isTaken", desc := "(LHaltingaleModel$Machine;III)Z" } : Jvm.MethodName) prog_19_method_15_code (4 : Nat) (Option.some Jvm.ClassFile.FieldType.boolean)) ∈ lw_all := lw_g (lw_at lw_m6 212 rfl) rfl
theorem q1437 : (Jvm.Cond.methodLink "HaltingaleModel" (109 : Nat) ({ cls := "HaltingaleModel$Run", name := "isStopped", desc := "()Z" } : Jvm.MethodName)) ∈ lw_all := lw_g (lw_at lw_m6 213 rfl) rfl
theorem q1438 : (Jvm.Cond.methodLink "HaltingaleModel" (115 : Nat) ({ cls := "HaltingaleModel", name := "isCycle", desc := "(LHaltingaleModel$Machine;II)Z" } : Jvm.MethodName)) ∈ lw_all := lw_g (lw_at lw_m6 214 rfl) rfl
theorem q1439 : (Jvm.Cond.static ({ cls := "HaltingaleModel", name := "isCycle", desc := "(LHaltingaleModel$Machine;II)Z" } : Jvm.MethodName)) ∈ lw_all := lw_g (lw_at lw_m6 215 rfl) rfl
theorem q1440 : (Jvm.Cond.code ({ cls := "HaltingaleModel", name := "isCycle", desc := "(LHaltingaleModel$Machine;II)Z" } : Jvm.MethodName) prog_19_method_16_code (11 : Nat) (Option.some Jvm.ClassFile.FieldType.boolean)) ∈ lw_all := lw_g (lw_at lw_m6 216 rfl) rfl
theorem q1441 : (Jvm.Cond.classLink "HaltingaleModel" (86 : Nat) "HaltingaleModel$Run") ∈ lw_all := lw_g (lw_at lw_m6 217 rfl) rfl
theorem q1442 : (Jvm.Cond.methodLink "HaltingaleModel" (126 : Nat) ({ cls := "HaltingaleModel$Run", name := "<init>", desc := "(LHaltingaleModel$Machine;I)V" } : Jvm.MethodName)) ∈ lw_all := lw_g (lw_at lw_m6 218 rfl) rfl
theorem q1443 : (Jvm.Cond.methodLink "HaltingaleModel" (129 : Nat) ({ cls := "HaltingaleModel$Run", name := "step", desc := "()Z" } : Jvm.MethodName)) ∈ lw_all := lw_g (lw_at lw_m6 219 rfl) rfl
theorem q1444 : (Jvm.Cond.methodLink "HaltingaleModel" (135 : Nat) ({ cls := "java/lang/Math", name := "min", desc := "(II)I" } : Jvm.MethodName)) ∈ lw_all := lw_g (lw_at lw_m6 220 rfl) rfl
theorem q1445 : (Jvm.Cond.methodLink "HaltingaleModel" (141 : Nat) ({ cls := "java/lang/Math", name := "max", desc := "(II)I" } : Jvm.MethodName)) ∈ lw_all := lw_g (lw_at lw_m6 221 rfl) rfl
theorem q1446 : (Jvm.Cond.methodLink "HaltingaleModel" (144 : Nat) ({ cls := "HaltingaleModel$Run", name := "at", desc := "(I)I" } : Jvm.MethodName)) ∈ lw_all := lw_g (lw_at lw_m6 222 rfl) rfl
theorem q1451 : (Jvm.Cond.methodLink "HaltingaleModel" (119 : Nat) ({ cls := "HaltingaleModel", name := "isBack", desc := "(LHaltingaleModel$Machine;I)Z" } : Jvm.MethodName)) ∈ lw_all := lw_g (lw_at lw_m6 227 rfl) rfl
theorem q1452 : (Jvm.Cond.static ({ cls := "HaltingaleModel", name := "isBack", desc := "(LHaltingaleModel$Machine;I)Z" } : Jvm.MethodName)) ∈ lw_all := lw_g (lw_at lw_m6 228 rfl) rfl
theorem q1453 : (Jvm.Cond.code ({ cls := "HaltingaleModel", name := "isBack", desc := "(LHaltingaleModel$Machine;I)Z" } : Jvm.MethodName) prog_19_method_17_code (4 : Nat) (Option.some Jvm.ClassFile.FieldType.boolean)) ∈ lw_all := lw_g (lw_at lw_m6 229 rfl) rfl
theorem q1454 : (Jvm.Cond.methodLink "HaltingaleModel" (147 : Nat) ({ cls := "HaltingaleModel", name := "lastRows", desc := "(LHaltingaleModel$Machine;)Ljava/util/ArrayList;" } : Jvm.MethodName)) ∈ lw_all := lw_g (lw_at lw_m6 230 rfl) rfl
theorem q1455 : (Jvm.Cond.static ({ cls := "HaltingaleModel", name := "lastRows", desc := "(LHaltingaleModel$Machine;)Ljava/util/ArrayList;" } : Jvm.MethodName)) ∈ lw_all := lw_g (lw_at lw_m6 231 rfl) rfl
theorem q1456 : (Jvm.Cond.code ({ cls := "HaltingaleModel", name := "lastRows", desc := "(LHaltingaleModel$Machine;)Ljava/util/ArrayList;" } : Jvm.MethodName) prog_19_method_18_code (4 : Nat) (Option.some (Jvm.ClassFile.FieldType.object "java/util/ArrayList"))) ∈ lw_all := lw_g (lw_at lw_m6 232 rfl) rfl
theorem q1457 : (Jvm.Cond.methodLink "HaltingaleModel" (151 : Nat) ({ cls := "HaltingaleModel", name := "ahead", desc := "(LHaltingaleModel$Machine;Ljava/util/ArrayList;)Ljava/util/ArrayList;" } : Jvm.MethodName)) ∈ lw_all := lw_g (lw_at lw_m6 233 rfl) rfl
theorem q1458 : (Jvm.Cond.static ({ cls := "HaltingaleModel", name := "ahead", desc := "(LHaltingaleModel$Machine;Ljava/util/ArrayList;)Ljava/util/ArrayList;" } : Jvm.MethodName)) ∈ lw_all := lw_g (lw_at lw_m6 234 rfl) rfl
theorem q1459 : (Jvm.Cond.code ({ cls := "HaltingaleModel", name := "ahead", desc := "(LHaltingaleModel$Machine;Ljava/util/ArrayList;)Ljava/util/ArrayList;" } : Jvm.MethodName) prog_19_method_20_code (5 : Nat) (Option.some (Jvm.ClassFile.FieldType.object "java/util/ArrayList"))) ∈ lw_all := lw_g (lw_at lw_m6 235 rfl) rfl
theorem q1460 : (Jvm.Cond.methodLink "HaltingaleModel" (158 : Nat) ({ cls := "java/util/ArrayList", name := "iterator", desc := "()Ljava/util/Iterator;" } : Jvm.MethodName)) ∈ lw_all := lw_g (lw_at lw_m6 236 rfl) rfl
theorem q1483 : (Jvm.Cond.interfaceEntry "HaltingaleModel" (162 : Nat)) ∈ lw_tbl := lw_at lw_m7 19 rfl
theorem q1484 : (Jvm.Cond.methodLink "HaltingaleModel" (162 : Nat) ({ cls := "java/util/Iterator", name := "hasNext", desc := "()Z" } : Jvm.MethodName)) ∈ lw_all := lw_g (lw_at lw_m7 20 rfl) rfl
theorem q1493 : (Jvm.Cond.interfaceEntry "HaltingaleModel" (167 : Nat)) ∈ lw_tbl := lw_at lw_m7 29 rfl
theorem q1494 : (Jvm.Cond.methodLink "HaltingaleModel" (167 : Nat) ({ cls := "java/util/Iterator", name := "next", desc := "()Ljava/lang/Object;" } : Jvm.MethodName)) ∈ lw_all := lw_g (lw_at lw_m7 30 rfl) rfl
theorem q1506 : (Jvm.Cond.methodLink "HaltingaleModel" (170 : Nat) ({ cls := "HaltingaleModel", name := "ahead", desc := "(LHaltingaleModel$Machine;[ILjava/util/ArrayList;)V" } : Jvm.MethodName)) ∈ lw_all := lw_g (lw_at lw_m7 42 rfl) rfl
theorem q1507 : (Jvm.Cond.static ({ cls := "HaltingaleModel", name := "ahead", desc := "(LHaltingaleModel$Machine;[ILjava/util/ArrayList;)V" } : Jvm.MethodName)) ∈ lw_all := lw_g (lw_at lw_m7 43 rfl) rfl
theorem q1508 : (Jvm.Cond.code ({ cls := "HaltingaleModel", name := "ahead", desc := "(LHaltingaleModel$Machine;[ILjava/util/ArrayList;)V" } : Jvm.MethodName) prog_19_method_21_code (7 : Nat) (Option.none : Option Jvm.ClassFile.FieldType)) ∈ lw_all := lw_g (lw_at lw_m7 44 rfl) rfl
theorem q1509 : (Jvm.Cond.methodLink "HaltingaleModel" (155 : Nat) ({ cls := "java/util/ArrayList", name := "isEmpty", desc := "()Z" } : Jvm.MethodName)) ∈ lw_all := lw_g (lw_at lw_m7 45 rfl) rfl
theorem q1510 : (Jvm.Cond.methodLink "HaltingaleModel" (123 : Nat) ({ cls := "HaltingaleModel", name := "isGram", desc := "(LHaltingaleModel$Machine;I)Z" } : Jvm.MethodName)) ∈ lw_all := lw_g (lw_at lw_m7 46 rfl) rfl
theorem q1511 : (Jvm.Cond.static ({ cls := "HaltingaleModel", name := "isGram", desc := "(LHaltingaleModel$Machine;I)Z" } : Jvm.MethodName)) ∈ lw_all := lw_g (lw_at lw_m7 47 rfl) rfl
theorem q1512 : (Jvm.Cond.code ({ cls := "HaltingaleModel", name := "isGram", desc := "(LHaltingaleModel$Machine;I)Z" } : Jvm.MethodName) prog_19_method_22_code (18 : Nat) (Option.some Jvm.ClassFile.FieldType.boolean)) ∈ lw_all := lw_g (lw_at lw_m7 48 rfl) rfl
theorem q1513 : (Jvm.Cond.classLink "HaltingaleModel" (173 : Nat) "[[Z") ∈ lw_all := lw_g (lw_at lw_m7 49 rfl) rfl
theorem q1515 : (Jvm.Cond.methodLink "HaltingaleModel" (197 : Nat) ({ cls := "HaltingaleModel", name := "decide", desc := "(LHaltingaleModel$Machine;III)V" } : Jvm.MethodName)) ∈ lw_all := lw_g (lw_at lw_m7 51 rfl) rfl
theorem q1516 : (Jvm.Cond.static ({ cls := "HaltingaleModel", name := "decide", desc := "(LHaltingaleModel$Machine;III)V" } : Jvm.MethodName)) ∈ lw_all := lw_g (lw_at lw_m7 52 rfl) rfl
theorem q1517 : (Jvm.Cond.code ({ cls := "HaltingaleModel", name := "decide", desc := "(LHaltingaleModel$Machine;III)V" } : Jvm.MethodName) prog_19_method_23_code (4 : Nat) (Option.none : Option Jvm.ClassFile.FieldType)) ∈ lw_all := lw_g (lw_at lw_m7 53 rfl) rfl
theorem q1519 : (Jvm.Cond.instanceMethod ({ cls := "HaltingaleModel", name := "doubt", desc := "(I)I" } : Jvm.MethodName)) ∈ lw_all := lw_g (lw_at lw_m7 55 rfl) rfl
theorem q1520 : (Jvm.Cond.selects "HaltingaleModel" ({ cls := "HaltingaleModel", name := "doubt", desc := "(I)I" } : Jvm.MethodName) ({ cls := "HaltingaleModel", name := "doubt", desc := "(I)I" } : Jvm.MethodName)) ∈ lw_all := lw_g (lw_at lw_m7 56 rfl) rfl
theorem q1521 : (Jvm.Cond.code ({ cls := "HaltingaleModel", name := "doubt", desc := "(I)I" } : Jvm.MethodName) prog_19_method_25_code (5 : Nat) (Option.some Jvm.ClassFile.FieldType.int)) ∈ lw_all := lw_g (lw_at lw_m7 57 rfl) rfl
theorem q1523 : (Jvm.Cond.instanceMethod ({ cls := "HaltingaleModel", name := "decide", desc := "(I)I" } : Jvm.MethodName)) ∈ lw_all := lw_g (lw_at lw_m7 59 rfl) rfl
theorem q1524 : (Jvm.Cond.selects "HaltingaleModel" ({ cls := "HaltingaleModel", name := "decide", desc := "(I)I" } : Jvm.MethodName) ({ cls := "HaltingaleModel", name := "decide", desc := "(I)I" } : Jvm.MethodName)) ∈ lw_all := lw_g (lw_at lw_m7 60 rfl) rfl
theorem q1525 : (Jvm.Cond.code ({ cls := "HaltingaleModel", name := "decide", desc := "(I)I" } : Jvm.MethodName) prog_19_method_28_code (7 : Nat) (Option.some Jvm.ClassFile.FieldType.int)) ∈ lw_all := lw_g (lw_at lw_m7 61 rfl) rfl
theorem q1526 : (Jvm.Cond.methodLink "HaltingaleModel" (201 : Nat) ({ cls := "HaltingaleModel", name := "cycleNow", desc := "(LHaltingaleModel$Machine;I)I" } : Jvm.MethodName)) ∈ lw_all := lw_g (lw_at lw_m7 62 rfl) rfl
theorem q1527 : (Jvm.Cond.static ({ cls := "HaltingaleModel", name := "cycleNow", desc := "(LHaltingaleModel$Machine;I)I" } : Jvm.MethodName)) ∈ lw_all := lw_g (lw_at lw_m7 63 rfl) rfl
theorem q1528 : (Jvm.Cond.code ({ cls := "HaltingaleModel", name := "cycleNow", desc := "(LHaltingaleModel$Machine;I)I" } : Jvm.MethodName) prog_19_method_27_code (6 : Nat) (Option.some Jvm.ClassFile.FieldType.int)) ∈ lw_all := lw_g (lw_at lw_m7 64 rfl) rfl
theorem q1529 : (Jvm.Cond.methodLink "HaltingaleModel" (205 : Nat) ({ cls := "HaltingaleModel", name := "backNow", desc := "(LHaltingaleModel$Machine;)I" } : Jvm.MethodName)) ∈ lw_all := lw_g (lw_at lw_m7 65 rfl) rfl
theorem q1530 : (Jvm.Cond.static ({ cls := "HaltingaleModel", name := "backNow", desc := "(LHaltingaleModel$Machine;)I" } : Jvm.MethodName)) ∈ lw_all := lw_g (lw_at lw_m7 66 rfl) rfl
theorem q1531 : (Jvm.Cond.code ({ cls := "HaltingaleModel", name := "backNow", desc := "(LHaltingaleModel$Machine;)I" } : Jvm.MethodName) prog_19_method_19_code (4 : Nat) (Option.some Jvm.ClassFile.FieldType.int)) ∈ lw_all := lw_g (lw_at lw_m7 67 rfl) rfl
theorem q1532 : (Jvm.Cond.methodLink "HaltingaleModel" (208 : Nat) ({ cls := "HaltingaleModel", name := "gramNow", desc := "(LHaltingaleModel$Machine;)I" } : Jvm.MethodName)) ∈ lw_all := lw_g (lw_at lw_m7 68 rfl) rfl
theorem q1533 : (Jvm.Cond.static ({ cls := "HaltingaleModel", name := "gramNow", desc := "(LHaltingaleModel$Machine;)I" } : Jvm.MethodName)) ∈ lw_all := lw_g (lw_at lw_m7 69 rfl) rfl
theorem q1534 : (Jvm.Cond.code ({ cls := "HaltingaleModel", name := "gramNow", desc := "(LHaltingaleModel$Machine;)I" } : Jvm.MethodName) prog_19_method_26_code (2 : Nat) (Option.some Jvm.ClassFile.FieldType.int)) ∈ lw_all := lw_g (lw_at lw_m7 70 rfl) rfl
theorem q1536 : (Jvm.Cond.instanceMethod ({ cls := "HaltingaleModel", name := "cell", desc := "(IIII)I" } : Jvm.MethodName)) ∈ lw_all := lw_g (lw_at lw_m7 72 rfl) rfl
theorem q1537 : (Jvm.Cond.selects "HaltingaleModel" ({ cls := "HaltingaleModel", name := "cell", desc := "(IIII)I" } : Jvm.MethodName) ({ cls := "HaltingaleModel", name := "cell", desc := "(IIII)I" } : Jvm.MethodName)) ∈ lw_all := lw_g (lw_at lw_m7 73 rfl) rfl
theorem q1538 : (Jvm.Cond.code ({ cls := "HaltingaleModel", name := "cell", desc := "(IIII)I" } : Jvm.MethodName) prog_19_method_30_code (5 : Nat) (Option.some Jvm.ClassFile.FieldType.int)) ∈ lw_all := lw_g (lw_at lw_m7 74 rfl) rfl
theorem q1539 : (Jvm.Cond.methodLink "HaltingaleModel" (211 : Nat) ({ cls := "HaltingaleModel", name := "cellNow", desc := "(LHaltingaleModel$Machine;III)I" } : Jvm.MethodName)) ∈ lw_all := lw_g (lw_at lw_m7 75 rfl) rfl
theorem q1540 : (Jvm.Cond.static ({ cls := "HaltingaleModel", name := "cellNow", desc := "(LHaltingaleModel$Machine;III)I" } : Jvm.MethodName)) ∈ lw_all := lw_g (lw_at lw_m7 76 rfl) rfl
theorem q1541 : (Jvm.Cond.code ({ cls := "HaltingaleModel", name := "cellNow", desc := "(LHaltingaleModel$Machine;III)I" } : Jvm.MethodName) prog_19_method_29_code (5 : Nat) (Option.some Jvm.ClassFile.FieldType.int)) ∈ lw_all := lw_g (lw_at lw_m7 77 rfl) rfl
theorem q1543 : (Jvm.Cond.instanceMethod ({ cls := "HaltingaleModel", name := "ofMachine", desc := "(II)I" } : Jvm.MethodName)) ∈ lw_all := lw_g (lw_at lw_m7 79 rfl) rfl
theorem q1544 : (Jvm.Cond.selects "HaltingaleModel" ({ cls := "HaltingaleModel", name := "ofMachine", desc := "(II)I" } : Jvm.MethodName) ({ cls := "HaltingaleModel", name := "ofMachine", desc := "(II)I" } : Jvm.MethodName)) ∈ lw_all := lw_g (lw_at lw_m7 80 rfl) rfl
theorem q1545 : (Jvm.Cond.code ({ cls := "HaltingaleModel", name := "ofMachine", desc := "(II)I" } : Jvm.MethodName) prog_19_method_32_code (3 : Nat) (Option.some Jvm.ClassFile.FieldType.int)) ∈ lw_all := lw_g (lw_at lw_m7 81 rfl) rfl
theorem q1546 : (Jvm.Cond.methodLink "HaltingaleModel" (221 : Nat) ({ cls := "HaltingaleModel", name := "ofMachineNow", desc := "(LHaltingaleModel$Machine;I)I" } : Jvm.MethodName)) ∈ lw_all := lw_g (lw_at lw_m7 82 rfl) rfl
theorem q1547 : (Jvm.Cond.privateMethod ({ cls := "HaltingaleModel", name := "ofMachineNow", desc := "(LHaltingaleModel$Machine;I)I" } : Jvm.MethodName)) ∈ lw_tbl := lw_at lw_m7 83 rfl
theorem q1548 : (Jvm.Cond.instanceMethod ({ cls := "HaltingaleModel", name := "ofMachineNow", desc := "(LHaltingaleModel$Machine;I)I" } : Jvm.MethodName)) ∈ lw_all := lw_g (lw_at lw_m7 84 rfl) rfl
theorem q1549 : (Jvm.Cond.code ({ cls := "HaltingaleModel", name := "ofMachineNow", desc := "(LHaltingaleModel$Machine;I)I" } : Jvm.MethodName) prog_19_method_31_code (5 : Nat) (Option.some Jvm.ClassFile.FieldType.int)) ∈ lw_all := lw_g (lw_at lw_m7 85 rfl) rfl
theorem q1550 : (Jvm.Cond.methodLink "HaltingaleModel" (215 : Nat) ({ cls := "HaltingaleModel$Run", name := "ones", desc := "()I" } : Jvm.MethodName)) ∈ lw_all := lw_g (lw_at lw_m7 86 rfl) rfl
theorem q1555 : (Jvm.Cond.methodLink "HaltingaleModel" (218 : Nat) ({ cls := "java/lang/Math", name := "abs", desc := "(I)I" } : Jvm.MethodName)) ∈ lw_all := lw_g (lw_at lw_m7 91 rfl) rfl
theorem q1557 : (Jvm.Cond.instanceMethod ({ cls := "HaltingaleModel", name := "at", desc := "(III)I" } : Jvm.MethodName)) ∈ lw_all := lw_g (lw_at lw_m7 93 rfl) rfl
theorem q1558 : (Jvm.Cond.selects "HaltingaleModel" ({ cls := "HaltingaleModel", name := "at", desc := "(III)I" } : Jvm.MethodName) ({ cls := "HaltingaleModel", name := "at", desc := "(III)I" } : Jvm.MethodName)) ∈ lw_all := lw_g (lw_at lw_m7 94 rfl) rfl
theorem q1559 : (Jvm.Cond.code ({ cls := "HaltingaleModel", name := "at", desc := "(III)I" } : Jvm.MethodName) prog_19_method_34_code (4 : Nat) (Option.some Jvm.ClassFile.FieldType.int)) ∈ lw_all := lw_g (lw_at lw_m7 95 rfl) rfl
theorem q1560 : (Jvm.Cond.methodLink "HaltingaleModel" (233 : Nat) ({ cls := "HaltingaleModel", name := "atNow", desc := "(LHaltingaleModel$Run;I)I" } : Jvm.MethodName)) ∈ lw_all := lw_g (lw_at lw_m7 96 rfl) rfl
theorem q1561 : (Jvm.Cond.static ({ cls := "HaltingaleModel", name := "atNow", desc := "(LHaltingaleModel$Run;I)I" } : Jvm.MethodName)) ∈ lw_all := lw_g (lw_at lw_m7 97 rfl) rfl
theorem q1562 : (Jvm.Cond.code ({ cls := "HaltingaleModel", name := "atNow", desc := "(LHaltingaleModel$Run;I)I" } : Jvm.MethodName) prog_19_method_33_code (3 : Nat) (Option.some Jvm.ClassFile.FieldType.int)) ∈ lw_all := lw_g (lw_at lw_m7 98 rfl) rfl
theorem q1563 : (Jvm.Cond.methodLink "HaltingaleModel" (224 : Nat) ({ cls := "HaltingaleModel$Run", name := "runs", desc := "()I" } : Jvm.MethodName)) ∈ lw_all := lw_g (lw_at lw_m7 99 rfl) rfl
theorem q1568 : (Jvm.Cond.instanceMethod ({ cls := "HaltingaleModel", name := "symbol", desc := "(III)I" } : Jvm.MethodName)) ∈ lw_all := lw_g (lw_at lw_m7 104 rfl) rfl
theorem q1569 : (Jvm.Cond.selects "HaltingaleModel" ({ cls := "HaltingaleModel", name := "symbol", desc := "(III)I" } : Jvm.MethodName) ({ cls := "HaltingaleModel", name := "symbol", desc := "(III)I" } : Jvm.MethodName)) ∈ lw_all := lw_g (lw_at lw_m7 105 rfl) rfl
theorem q1570 : (Jvm.Cond.code ({ cls := "HaltingaleModel", name := "symbol", desc := "(III)I" } : Jvm.MethodName) prog_19_method_35_code (4 : Nat) (Option.some Jvm.ClassFile.FieldType.int)) ∈ lw_all := lw_g (lw_at lw_m7 106 rfl) rfl
theorem q1572 : (Jvm.Cond.instanceMethod ({ cls := "HaltingaleModel", name := "lean", desc := "(II)D" } : Jvm.MethodName)) ∈ lw_all := lw_g (lw_at lw_m7 108 rfl) rfl
theorem q1573 : (Jvm.Cond.selects "HaltingaleModel" ({ cls := "HaltingaleModel", name := "lean", desc := "(II)D" } : Jvm.MethodName) ({ cls := "HaltingaleModel", name := "lean", desc := "(II)D" } : Jvm.MethodName)) ∈ lw_all := lw_g (lw_at lw_m7 109 rfl) rfl
theorem q1574 : (Jvm.Cond.code ({ cls := "HaltingaleModel", name := "lean", desc := "(II)D" } : Jvm.MethodName) prog_19_method_36_code (7 : Nat) (Option.some Jvm.ClassFile.FieldType.double)) ∈ lw_all := lw_g (lw_at lw_m7 110 rfl) rfl
theorem q1575 : (Jvm.Cond.constantDouble "HaltingaleModel" (237 : Nat) (4616189618054758400 : UInt64)) ∈ lw_all := lw_g (lw_at lw_m7 111 rfl) rfl
theorem q1577 : (Jvm.Cond.instanceMethod ({ cls := "HaltingaleModel", name := "meets", desc := "(IIII)I" } : Jvm.MethodName)) ∈ lw_all := lw_g (lw_at lw_m7 113 rfl) rfl
theorem q1578 : (Jvm.Cond.selects "HaltingaleModel" ({ cls := "HaltingaleModel", name := "meets", desc := "(IIII)I" } : Jvm.MethodName) ({ cls := "HaltingaleModel", name := "meets", desc := "(IIII)I" } : Jvm.MethodName)) ∈ lw_all := lw_g (lw_at lw_m7 114 rfl) rfl
theorem q1579 : (Jvm.Cond.code ({ cls := "HaltingaleModel", name := "meets", desc := "(IIII)I" } : Jvm.MethodName) prog_19_method_37_code (6 : Nat) (Option.some Jvm.ClassFile.FieldType.int)) ∈ lw_all := lw_g (lw_at lw_m7 115 rfl) rfl
theorem q1581 : (Jvm.Cond.instanceMethod ({ cls := "HaltingaleModel", name := "likeness", desc := "(II)I" } : Jvm.MethodName)) ∈ lw_all := lw_g (lw_at lw_m7 117 rfl) rfl
theorem q1582 : (Jvm.Cond.selects "HaltingaleModel" ({ cls := "HaltingaleModel", name := "likeness", desc := "(II)I" } : Jvm.MethodName) ({ cls := "HaltingaleModel", name := "likeness", desc := "(II)I" } : Jvm.MethodName)) ∈ lw_all := lw_g (lw_at lw_m7 118 rfl) rfl
theorem q1583 : (Jvm.Cond.code ({ cls := "HaltingaleModel", name := "likeness", desc := "(II)I" } : Jvm.MethodName) prog_19_method_39_code (3 : Nat) (Option.some Jvm.ClassFile.FieldType.int)) ∈ lw_all := lw_g (lw_at lw_m7 119 rfl) rfl
theorem q1584 : (Jvm.Cond.methodLink "HaltingaleModel" (239 : Nat) ({ cls := "HaltingaleModel", name := "areAlike", desc := "(LHaltingaleModel$Machine;LHaltingaleModel$Machine;I)Z" } : Jvm.MethodName)) ∈ lw_all := lw_g (lw_at lw_m7 120 rfl) rfl
theorem q1585 : (Jvm.Cond.static ({ cls := "HaltingaleModel", name := "areAlike", desc := "(LHaltingaleModel$Machine;LHaltingaleModel$Machine;I)Z" } : Jvm.MethodName)) ∈ lw_all := lw_g (lw_at lw_m7 121 rfl) rfl
theorem q1586 : (Jvm.Cond.code ({ cls := "HaltingaleModel", name := "areAlike", desc := "(LHaltingaleModel$Machine;LHaltingaleModel$Machine;I)Z" } : Jvm.MethodName) prog_19_method_38_code (6 : Nat) (Option.some Jvm.ClassFile.FieldType.boolean)) ∈ lw_all := lw_g (lw_at lw_m7 122 rfl) rfl
theorem q1588 : (Jvm.Cond.instanceMethod ({ cls := "HaltingaleModel", name := "champion", desc := "(I)I" } : Jvm.MethodName)) ∈ lw_all := lw_g (lw_at lw_m7 124 rfl) rfl
theorem q1589 : (Jvm.Cond.selects "HaltingaleModel" ({ cls := "HaltingaleModel", name := "champion", desc := "(I)I" } : Jvm.MethodName) ({ cls := "HaltingaleModel", name := "champion", desc := "(I)I" } : Jvm.MethodName)) ∈ lw_all := lw_g (lw_at lw_m7 125 rfl) rfl
theorem q1590 : (Jvm.Cond.code ({ cls := "HaltingaleModel", name := "champion", desc := "(I)I" } : Jvm.MethodName) prog_19_method_41_code (2 : Nat) (Option.some Jvm.ClassFile.FieldType.int)) ∈ lw_all := lw_g (lw_at lw_m7 126 rfl) rfl
theorem q1591 : (Jvm.Cond.methodLink "HaltingaleModel" (243 : Nat) ({ cls := "HaltingaleModel", name := "championNow", desc := "(I)I" } : Jvm.MethodName)) ∈ lw_all := lw_g (lw_at lw_m7 127 rfl) rfl
theorem q1592 : (Jvm.Cond.privateMethod ({ cls := "HaltingaleModel", name := "championNow", desc := "(I)I" } : Jvm.MethodName)) ∈ lw_tbl := lw_at lw_m7 128 rfl
theorem q1593 : (Jvm.Cond.instanceMethod ({ cls := "HaltingaleModel", name := "championNow", desc := "(I)I" } : Jvm.MethodName)) ∈ lw_all := lw_g (lw_at lw_m7 129 rfl) rfl
theorem q1594 : (Jvm.Cond.code ({ cls := "HaltingaleModel", name := "championNow", desc := "(I)I" } : Jvm.MethodName) prog_19_method_40_code (7 : Nat) (Option.some Jvm.ClassFile.FieldType.int)) ∈ lw_all := lw_g (lw_at lw_m7 130 rfl) rfl
theorem q1596 : (Jvm.Cond.instanceMethod ({ cls := "HaltingaleModel", name := "tagged", desc := "(III)I" } : Jvm.MethodName)) ∈ lw_all := lw_g (lw_at lw_m7 132 rfl) rfl
theorem q1597 : (Jvm.Cond.selects "HaltingaleModel" ({ cls := "HaltingaleModel", name := "tagged", desc := "(III)I" } : Jvm.MethodName) ({ cls := "HaltingaleModel", name := "tagged", desc := "(III)I" } : Jvm.MethodName)) ∈ lw_all := lw_g (lw_at lw_m7 133 rfl) rfl
theorem q1598 : (Jvm.Cond.code ({ cls := "HaltingaleModel", name := "tagged", desc := "(III)I" } : Jvm.MethodName) prog_19_method_44_code (4 : Nat) (Option.some Jvm.ClassFile.FieldType.int)) ∈ lw_all := lw_g (lw_at lw_m7 134 rfl) rfl
theorem q1599 : (Jvm.Cond.methodLink "HaltingaleModel" (254 : Nat) ({ cls := "HaltingaleModel", name := "taggedNow", desc := "(III)I" } : Jvm.MethodName)) ∈ lw_all := lw_g (lw_at lw_m7 135 rfl) rfl
theorem q1600 : (Jvm.Cond.privateMethod ({ cls := "HaltingaleModel", name := "taggedNow", desc := "(III)I" } : Jvm.MethodName)) ∈ lw_tbl := lw_at lw_m7 136 rfl
theorem q1601 : (Jvm.Cond.instanceMethod ({ cls := "HaltingaleModel", name := "taggedNow", desc := "(III)I" } : Jvm.MethodName)) ∈ lw_all := lw_g (lw_at lw_m7 137 rfl) rfl
theorem q1602 : (Jvm.Cond.code ({ cls := "HaltingaleModel", name := "taggedNow", desc := "(III)I" } : Jvm.MethodName) prog_19_method_43_code (10 : Nat) (Option.some Jvm.ClassFile.FieldType.int)) ∈ lw_all := lw_g (lw_at lw_m7 138 rfl) rfl
theorem q1603 : (Jvm.Cond.methodLink "HaltingaleModel" (251 : Nat) ({ cls := "HaltingaleModel", name := "length", desc := "(I)I" } : Jvm.MethodName)) ∈ lw_all := lw_g (lw_at lw_m7 139 rfl) rfl
theorem q1604 : (Jvm.Cond.static ({ cls := "HaltingaleModel", name := "length", desc := "(I)I" } : Jvm.MethodName)) ∈ lw_all := lw_g (lw_at lw_m7 140 rfl) rfl
theorem q1605 : (Jvm.Cond.code ({ cls := "HaltingaleModel", name := "length", desc := "(I)I" } : Jvm.MethodName) prog_19_method_42_code (1 : Nat) (Option.some Jvm.ClassFile.FieldType.int)) ∈ lw_all := lw_g (lw_at lw_m7 141 rfl) rfl
theorem q1606 : (Jvm.Cond.methodLink "HaltingaleModel" (246 : Nat) ({ cls := "java/lang/Integer", name := "numberOfLeadingZeros", desc := "(I)I" } : Jvm.MethodName)) ∈ lw_all := lw_g (lw_at lw_m7 142 rfl) rfl
theorem q1611 : (Jvm.Cond.instanceMethod ({ cls := "HaltingaleModel", name := "many", desc := "(I)I" } : Jvm.MethodName)) ∈ lw_all := lw_g (lw_at lw_m7 147 rfl) rfl
theorem q1612 : (Jvm.Cond.selects "HaltingaleModel" ({ cls := "HaltingaleModel", name := "many", desc := "(I)I" } : Jvm.MethodName) ({ cls := "HaltingaleModel", name := "many", desc := "(I)I" } : Jvm.MethodName)) ∈ lw_all := lw_g (lw_at lw_m7 148 rfl) rfl
theorem q1613 : (Jvm.Cond.code ({ cls := "HaltingaleModel", name := "many", desc := "(I)I" } : Jvm.MethodName) prog_19_method_46_code (2 : Nat) (Option.some Jvm.ClassFile.FieldType.int)) ∈ lw_all := lw_g (lw_at lw_m7 149 rfl) rfl
theorem q1614 : (Jvm.Cond.methodLink "HaltingaleModel" (258 : Nat) ({ cls := "HaltingaleModel", name := "manyNow", desc := "(I)I" } : Jvm.MethodName)) ∈ lw_all := lw_g (lw_at lw_m7 150 rfl) rfl
theorem q1615 : (Jvm.Cond.privateMethod ({ cls := "HaltingaleModel", name := "manyNow", desc := "(I)I" } : Jvm.MethodName)) ∈ lw_tbl := lw_at lw_m7 151 rfl
theorem q1616 : (Jvm.Cond.instanceMethod ({ cls := "HaltingaleModel", name := "manyNow", desc := "(I)I" } : Jvm.MethodName)) ∈ lw_all := lw_g (lw_at lw_m7 152 rfl) rfl
theorem q1617 : (Jvm.Cond.code ({ cls := "HaltingaleModel", name := "manyNow", desc := "(I)I" } : Jvm.MethodName) prog_19_method_45_code (6 : Nat) (Option.some Jvm.ClassFile.FieldType.int)) ∈ lw_all := lw_g (lw_at lw_m7 153 rfl) rfl
theorem q1619 : (Jvm.Cond.instanceMethod ({ cls := "HaltingaleModel", name := "meanStop", desc := "()D" } : Jvm.MethodName)) ∈ lw_all := lw_g (lw_at lw_m7 155 rfl) rfl
theorem q1620 : (Jvm.Cond.selects "HaltingaleModel" ({ cls := "HaltingaleModel", name := "meanStop", desc := "()D" } : Jvm.MethodName) ({ cls := "HaltingaleModel", name := "meanStop", desc := "()D" } : Jvm.MethodName)) ∈ lw_all := lw_g (lw_at lw_m7 156 rfl) rfl
theorem q1621 : (Jvm.Cond.code ({ cls := "HaltingaleModel", name := "meanStop", desc := "()D" } : Jvm.MethodName) prog_19_method_47_code (5 : Nat) (Option.some Jvm.ClassFile.FieldType.double)) ∈ lw_all := lw_g (lw_at lw_m7 157 rfl) rfl
theorem q1623 : (Jvm.Cond.instanceMethod ({ cls := "HaltingaleModel", name := "cycleIn", desc := "(II)I" } : Jvm.MethodName)) ∈ lw_all := lw_g (lw_at lw_m7 159 rfl) rfl
theorem q1624 : (Jvm.Cond.selects "HaltingaleModel" ({ cls := "HaltingaleModel", name := "cycleIn", desc := "(II)I" } : Jvm.MethodName) ({ cls := "HaltingaleModel", name := "cycleIn", desc := "(II)I" } : Jvm.MethodName)) ∈ lw_all := lw_g (lw_at lw_m7 160 rfl) rfl
theorem q1625 : (Jvm.Cond.code ({ cls := "HaltingaleModel", name := "cycleIn", desc := "(II)I" } : Jvm.MethodName) prog_19_method_48_code (3 : Nat) (Option.some Jvm.ClassFile.FieldType.int)) ∈ lw_all := lw_g (lw_at lw_m7 161 rfl) rfl
theorem q1627 : (Jvm.Cond.instanceMethod ({ cls := "HaltingaleModel", name := "backIn", desc := "(I)I" } : Jvm.MethodName)) ∈ lw_all := lw_g (lw_at lw_m7 163 rfl) rfl
theorem q1628 : (Jvm.Cond.selects "HaltingaleModel" ({ cls := "HaltingaleModel", name := "backIn", desc := "(I)I" } : Jvm.MethodName) ({ cls := "HaltingaleModel", name := "backIn", desc := "(I)I" } : Jvm.MethodName)) ∈ lw_all := lw_g (lw_at lw_m7 164 rfl) rfl
theorem q1629 : (Jvm.Cond.code ({ cls := "HaltingaleModel", name := "backIn", desc := "(I)I" } : Jvm.MethodName) prog_19_method_49_code (2 : Nat) (Option.some Jvm.ClassFile.FieldType.int)) ∈ lw_all := lw_g (lw_at lw_m7 165 rfl) rfl
theorem q1631 : (Jvm.Cond.instanceMethod ({ cls := "HaltingaleModel", name := "gramIn", desc := "(I)I" } : Jvm.MethodName)) ∈ lw_all := lw_g (lw_at lw_m7 167 rfl) rfl
theorem q1632 : (Jvm.Cond.selects "HaltingaleModel" ({ cls := "HaltingaleModel", name := "gramIn", desc := "(I)I" } : Jvm.MethodName) ({ cls := "HaltingaleModel", name := "gramIn", desc := "(I)I" } : Jvm.MethodName)) ∈ lw_all := lw_g (lw_at lw_m7 168 rfl) rfl
theorem q1633 : (Jvm.Cond.code ({ cls := "HaltingaleModel", name := "gramIn", desc := "(I)I" } : Jvm.MethodName) prog_19_method_50_code (2 : Nat) (Option.some Jvm.ClassFile.FieldType.int)) ∈ lw_all := lw_g (lw_at lw_m7 169 rfl) rfl
theorem q1635 : (Jvm.Cond.instanceMethod ({ cls := "HaltingaleModel", name := "digest", desc := "()J" } : Jvm.MethodName)) ∈ lw_all := lw_g (lw_at lw_m7 171 rfl) rfl
theorem q1636 : (Jvm.Cond.selects "HaltingaleModel" ({ cls := "HaltingaleModel", name := "digest", desc := "()J" } : Jvm.MethodName) ({ cls := "HaltingaleModel", name := "digest", desc := "()J" } : Jvm.MethodName)) ∈ lw_all := lw_g (lw_at lw_m7 172 rfl) rfl
theorem q1637 : (Jvm.Cond.code ({ cls := "HaltingaleModel", name := "digest", desc := "()J" } : Jvm.MethodName) prog_19_method_52_code (5 : Nat) (Option.some Jvm.ClassFile.FieldType.long)) ∈ lw_all := lw_g (lw_at lw_m7 173 rfl) rfl
theorem q1638 : (Jvm.Cond.constantLong "HaltingaleModel" (267 : Nat) (58237 : Int64)) ∈ lw_all := lw_g (lw_at lw_m7 174 rfl) rfl
theorem q1639 : (Jvm.Cond.methodLink "HaltingaleModel" (269 : Nat) ({ cls := "HaltingaleModel", name := "add", desc := "(I)V" } : Jvm.MethodName)) ∈ lw_all := lw_g (lw_at lw_m7 175 rfl) rfl
theorem q1640 : (Jvm.Cond.privateMethod ({ cls := "HaltingaleModel", name := "add", desc := "(I)V" } : Jvm.MethodName)) ∈ lw_tbl := lw_at lw_m7 176 rfl
theorem q1641 : (Jvm.Cond.instanceMethod ({ cls := "HaltingaleModel", name := "add", desc := "(I)V" } : Jvm.MethodName)) ∈ lw_all := lw_g (lw_at lw_m7 177 rfl) rfl
theorem q1642 : (Jvm.Cond.code ({ cls := "HaltingaleModel", name := "add", desc := "(I)V" } : Jvm.MethodName) prog_19_method_51_code (2 : Nat) (Option.none : Option Jvm.ClassFile.FieldType)) ∈ lw_all := lw_g (lw_at lw_m7 178 rfl) rfl
theorem q1643 : (Jvm.Cond.constantLong "HaltingaleModel" (265 : Nat) (31 : Int64)) ∈ lw_all := lw_g (lw_at lw_m7 179 rfl) rfl
theorem q1661 : (Jvm.Cond.castable "HaltingaleModel" "java/lang/Object") ∈ lw_tbl := lw_at lw_m7 197 rfl
theorem in_X3 : ∀ w ∈ wsX30, w ∈ lw_all := lw_in wsX30 [1245, 1247, 1249, 1251, 1253, 1255, 1257] (by decide +kernel) (by decide +kernel)
