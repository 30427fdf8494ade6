/-! Haltingale$Gate -/
set_option maxRecDepth 100000
def RX2 : String := "Haltingale$Gate"
def TX2 : u_T := fun k => match k with
  | 0 => ("Haltingale$Gate", "taken", "I", false)
  | 1 => ("Haltingale$Gate", "refused", "I", false)
  | _ => ("Haltingale$Gate", "takenBack", "I", false)
def tyX2 : Nat → FieldType := fun k => match k with
  | 0 => .int
  | 1 => .int
  | _ => .int
abbrev wsX20 : List Cond := u_ws RX2 TX2 3
theorem nmX2 : ∀ a, a < 3 → ∀ b, b < 3 → a ≠ b → (TX2 a).2.1 ≠ (TX2 b).2.1 := by decide +kernel
theorem tyX2_ok : ∀ k, k < 3 → parseFieldDescriptor (TX2 k).2.2.1 = some (tyX2 k) := by decide +kernel
abbrev cX2_init : ByteArray := prog_3_method_1_code
def yX2_init : MethodName := ⟨RX2, "<init>", "()V"⟩
theorem dX2_init_0 : decode cX2_init 0 = .ok (.aload_n 0, 1) := by decide +kernel
theorem dX2_init_1 : decode cX2_init 1 = .ok (.invokespecial 1, 3) := by decide +kernel
theorem dX2_init_4 : decode cX2_init 4 = .ok (.return_, 1) := by decide +kernel
theorem q29 : (Jvm.Cond.initialized "Haltingale$Gate") ∈ lw_all := lw_g (lw_at lw_m1 5 rfl) rfl
theorem q104 : (Jvm.Cond.instantiable "Haltingale$Gate" (3 : Nat)) ∈ lw_all := lw_g (lw_at lw_m1 80 rfl) rfl
theorem q106 : (Jvm.Cond.instanceMethod ({ cls := "Haltingale$Gate", name := "<init>", desc := "()V" } : Jvm.MethodName)) ∈ lw_all := lw_g (lw_at lw_m1 82 rfl) rfl
theorem q107 : (Jvm.Cond.code ({ cls := "Haltingale$Gate", name := "<init>", desc := "()V" } : Jvm.MethodName) prog_3_method_1_code (1 : Nat) (Option.none : Option Jvm.ClassFile.FieldType)) ∈ lw_all := lw_g (lw_at lw_m1 83 rfl) rfl
theorem q108 : (Jvm.Cond.methodLink "Haltingale$Gate" (1 : Nat) ({ cls := "java/lang/Object", name := "<init>", desc := "()V" } : Jvm.MethodName)) ∈ lw_all := lw_g (lw_at lw_m1 84 rfl) rfl
theorem q112 : (Jvm.Cond.lays "Haltingale$Gate" "Haltingale$Gate" "taken" "I") ∈ lw_all := lw_g (lw_at lw_m1 88 rfl) rfl
theorem q113 : (Jvm.Cond.soleField "Haltingale$Gate" "taken") ∈ lw_all := lw_g (lw_at lw_m1 89 rfl) rfl
theorem q114 : (Jvm.Cond.lays "Haltingale$Gate" "Haltingale$Gate" "refused" "I") ∈ lw_all := lw_g (lw_at lw_m1 90 rfl) rfl
theorem q115 : (Jvm.Cond.soleField "Haltingale$Gate" "refused") ∈ lw_all := lw_g (lw_at lw_m1 91 rfl) rfl
theorem q116 : (Jvm.Cond.lays "Haltingale$Gate" "Haltingale$Gate" "takenBack" "I") ∈ lw_all := lw_g (lw_at lw_m1 92 rfl) rfl
theorem q117 : (Jvm.Cond.soleField "Haltingale$Gate" "takenBack") ∈ lw_all := lw_g (lw_at lw_m1 93 rfl) rfl
theorem q118 : (Jvm.Cond.superclass "Haltingale$Gate" "java/lang/Object") ∈ lw_all := lw_g (lw_at lw_m1 94 rfl) rfl
theorem q521 : (Jvm.Cond.selects "Haltingale$Gate" ({ cls := "java/lang/Object", name := "getClass", desc := "()Ljava/lang/Class;" } : Jvm.MethodName) ({ cls := "java/lang/Object", name := "getClass", desc := "()Ljava/lang/Class;" } : Jvm.MethodName)) ∈ lw_all := lw_g (lw_at lw_m3 17 rfl) rfl
theorem q860 : (Jvm.Cond.selects "Haltingale$Gate" ({ cls := "java/lang/Object", name := "notify", desc := "()V" } : Jvm.MethodName) ({ cls := "java/lang/Object", name := "notify", desc := "()V" } : Jvm.MethodName)) ∈ lw_all := lw_g (lw_at lw_m4 116 rfl) rfl
theorem q1042 : (Jvm.Cond.selects "Haltingale$Gate" ({ cls := "java/lang/Object", name := "notifyAll", desc := "()V" } : Jvm.MethodName) ({ cls := "java/lang/Object", name := "notifyAll", desc := "()V" } : Jvm.MethodName)) ∈ lw_all := lw_g (lw_at lw_m5 58 rfl) rfl
theorem q1660 : (Jvm.Cond.castable "Haltingale$Gate" "java/lang/Object") ∈ lw_tbl := lw_at lw_m7 196 rfl
theorem in_X2 : ∀ w ∈ wsX20, w ∈ lw_all := lw_in wsX20 [112, 114, 116] (by decide +kernel) (by decide +kernel)
/-! Haltingale$Machine -/
set_option maxRecDepth 100000
def RX4 : String := "Haltingale$Machine"
def TX4 : u_T := fun k => match k with
  | 0 => ("Haltingale$Machine", "table", "LHaltingale$Table;", true)
  | 1 => ("Haltingale$Machine", "kind", "Ljava/util/Optional;", false)
  | 2 => ("Haltingale$Machine", "a", "I", false)
  | _ => ("Haltingale$Machine", "b", "I", false)
def tyX4 : Nat → FieldType := fun k => match k with
  | 0 => .object "Haltingale$Table"
  | 1 => .object "java/util/Optional"
  | 2 => .int
  | _ => .int
abbrev wsX40 : List Cond := u_ws RX4 TX4 4
theorem nmX4 : ∀ a, a < 4 → ∀ b, b < 4 → a ≠ b → (TX4 a).2.1 ≠ (TX4 b).2.1 := by decide +kernel
theorem tyX4_ok : ∀ k, k < 4 → parseFieldDescriptor (TX4 k).2.2.1 = some (tyX4 k) := by decide +kernel
abbrev cX4_isDecidedBy : ByteArray := prog_10_method_3_code
def yX4_isDecidedBy : MethodName := ⟨RX4, "isDecidedBy", "(LHaltingale$Kind;)Z"⟩
def dkwX4_isDecidedBy_1 : List UInt8 := [167, 0, 4, 3, 172]
abbrev dktX4_isDecidedBy_1 : List UInt8 := dkwX4_isDecidedBy_1 ++ []
def dkwX4_isDecidedBy_0 : List UInt8 := [42, 180, 0, 15, 182, 0, 32, 153, 0, 18, 42, 180, 0, 15, 182, 0, 36, 43, 166, 0, 7, 4]
abbrev dktX4_isDecidedBy_0 : List UInt8 := dkwX4_isDecidedBy_0 ++ dktX4_isDecidedBy_1
theorem dksX4_isDecidedBy_0 : cX4_isDecidedBy.data.toList.drop 0 = dktX4_isDecidedBy_0 := by decide +kernel
theorem dksX4_isDecidedBy_1 : cX4_isDecidedBy.data.toList.drop 22 = dktX4_isDecidedBy_1 := dk_seg dksX4_isDecidedBy_0 22 rfl rfl
theorem dX4_isDecidedBy_0 : decode cX4_isDecidedBy 0 = .ok (.aload_n 0, 1) := dk_42 (dk_at dksX4_isDecidedBy_0 0 rfl rfl)
theorem dX4_isDecidedBy_1 : decode cX4_isDecidedBy 1 = .ok (.getfield 15, 3) := dk_180 0 15 (dk_at dksX4_isDecidedBy_0 1 rfl rfl)
theorem dX4_isDecidedBy_4 : decode cX4_isDecidedBy 4 = .ok (.invokevirtual 32, 3) := dk_182 0 32 (dk_at dksX4_isDecidedBy_0 4 rfl rfl)
theorem dX4_isDecidedBy_7 : decode cX4_isDecidedBy 7 = .ok (.ifCond .eq 18, 3) := dk_153 0 18 (dk_at dksX4_isDecidedBy_0 7 rfl rfl)
theorem dX4_isDecidedBy_10 : decode cX4_isDecidedBy 10 = .ok (.aload_n 0, 1) := dk_42 (dk_at dksX4_isDecidedBy_0 10 rfl rfl)
theorem dX4_isDecidedBy_11 : decode cX4_isDecidedBy 11 = .ok (.getfield 15, 3) := dk_180 0 15 (dk_at dksX4_isDecidedBy_0 11 rfl rfl)
theorem dX4_isDecidedBy_14 : decode cX4_isDecidedBy 14 = .ok (.invokevirtual 36, 3) := dk_182 0 36 (dk_at dksX4_isDecidedBy_0 14 rfl rfl)
theorem dX4_isDecidedBy_17 : decode cX4_isDecidedBy 17 = .ok (.aload_n 1, 1) := dk_43 (dk_at dksX4_isDecidedBy_0 17 rfl rfl)
theorem dX4_isDecidedBy_18 : decode cX4_isDecidedBy 18 = .ok (.if_acmp .ne 7, 3) := dk_166 0 7 (dk_at dksX4_isDecidedBy_0 18 rfl rfl)
theorem dX4_isDecidedBy_21 : decode cX4_isDecidedBy 21 = .ok (.iconst 1, 1) := dk_4 (dk_at dksX4_isDecidedBy_0 21 rfl rfl)
theorem dX4_isDecidedBy_22 : decode cX4_isDecidedBy 22 = .ok (.goto 4, 3) := dk_167 0 4 (dk_at dksX4_isDecidedBy_1 0 rfl rfl)
theorem dX4_isDecidedBy_25 : decode cX4_isDecidedBy 25 = .ok (.iconst 0, 1) := dk_3 (dk_at dksX4_isDecidedBy_1 3 rfl rfl)
theorem dX4_isDecidedBy_26 : decode cX4_isDecidedBy 26 = .ok (.ireturn, 1) := dk_172 (dk_at dksX4_isDecidedBy_1 4 rfl rfl)
abbrev cX4_isDecided : ByteArray := prog_10_method_2_code
def yX4_isDecided : MethodName := ⟨RX4, "isDecided", "()Z"⟩
def dkwX4_isDecided_0 : List UInt8 := [42, 180, 0, 15, 182, 0, 32, 172]
abbrev dktX4_isDecided_0 : List UInt8 := dkwX4_isDecided_0 ++ []
theorem dksX4_isDecided_0 : cX4_isDecided.data.toList.drop 0 = dktX4_isDecided_0 := by decide +kernel
theorem dX4_isDecided_0 : decode cX4_isDecided 0 = .ok (.aload_n 0, 1) := dk_42 (dk_at dksX4_isDecided_0 0 rfl rfl)
theorem dX4_isDecided_1 : decode cX4_isDecided 1 = .ok (.getfield 15, 3) := dk_180 0 15 (dk_at dksX4_isDecided_0 1 rfl rfl)
theorem dX4_isDecided_4 : decode cX4_isDecided 4 = .ok (.invokevirtual 32, 3) := dk_182 0 32 (dk_at dksX4_isDecided_0 4 rfl rfl)
theorem dX4_isDecided_7 : decode cX4_isDecided 7 = .ok (.ireturn, 1) := dk_172 (dk_at dksX4_isDecided_0 7 rfl rfl)
abbrev cX4_init : ByteArray := prog_10_method_1_code
def yX4_init : MethodName := ⟨RX4, "<init>", "(LHaltingale$Table;)V"⟩
def dkwX4_init_1 : List UInt8 := [181, 0, 28, 177]
abbrev dktX4_init_1 : List UInt8 := dkwX4_init_1 ++ []
def dkwX4_init_0 : List UInt8 := [42, 183, 0, 3, 42, 184, 0, 9, 181, 0, 15, 42, 2, 181, 0, 21, 42, 2, 181, 0, 25, 42, 43]
abbrev dktX4_init_0 : List UInt8 := dkwX4_init_0 ++ dktX4_init_1
theorem dksX4_init_0 : cX4_init.data.toList.drop 0 = dktX4_init_0 := by decide +kernel
theorem dksX4_init_1 : cX4_init.data.toList.drop 23 = dktX4_init_1 := dk_seg dksX4_init_0 23 rfl rfl
theorem dX4_init_0 : decode cX4_init 0 = .ok (.aload_n 0, 1) := dk_42 (dk_at dksX4_init_0 0 rfl rfl)
theorem dX4_init_1 : decode cX4_init 1 = .ok (.invokespecial 3, 3) := dk_183 0 3 (dk_at dksX4_init_0 1 rfl rfl)
theorem dX4_init_4 : decode cX4_init 4 = .ok (.aload_n 0, 1) := dk_42 (dk_at dksX4_init_0 4 rfl rfl)
theorem dX4_init_5 : decode cX4_init 5 = .ok (.invokestatic 9, 3) := dk_184 0 9 (dk_at dksX4_init_0 5 rfl rfl)
theorem dX4_init_8 : decode cX4_init 8 = .ok (.putfield 15, 3) := dk_181 0 15 (dk_at dksX4_init_0 8 rfl rfl)
theorem dX4_init_11 : decode cX4_init 11 = .ok (.aload_n 0, 1) := dk_42 (dk_at dksX4_init_0 11 rfl rfl)
theorem dX4_init_12 : decode cX4_init 12 = .ok (.iconst (-1), 1) := dk_2 (dk_at dksX4_init_0 12 rfl rfl)
theorem dX4_init_13 : decode cX4_init 13 = .ok (.putfield 21, 3) := dk_181 0 21 (dk_at dksX4_init_0 13 rfl rfl)
theorem dX4_init_16 : decode cX4_init 16 = .ok (.aload_n 0, 1) := dk_42 (dk_at dksX4_init_0 16 rfl rfl)
theorem dX4_init_17 : decode cX4_init 17 = .ok (.iconst (-1), 1) := dk_2 (dk_at dksX4_init_0 17 rfl rfl)
theorem dX4_init_18 : decode cX4_init 18 = .ok (.putfield 25, 3) := dk_181 0 25 (dk_at dksX4_init_0 18 rfl rfl)
theorem dX4_init_21 : decode cX4_init 21 = .ok (.aload_n 0, 1) := dk_42 (dk_at dksX4_init_0 21 rfl rfl)
theorem dX4_init_22 : decode cX4_init 22 = .ok (.aload_n 1, 1) := dk_43 (dk_at dksX4_init_0 22 rfl rfl)
theorem dX4_init_23 : decode cX4_init 23 = .ok (.putfield 28, 3) := dk_181 0 28 (dk_at dksX4_init_1 0 rfl rfl)
theorem dX4_init_26 : decode cX4_init 26 = .ok (.return_, 1) := dk_177 (dk_at dksX4_init_1 3 rfl rfl)
abbrev cX4_open : ByteArray := prog_10_method_5_code
def yX4_open : MethodName := ⟨RX4, "open", "()Z"⟩
def dkwX4_open_0 : List UInt8 := [42, 182, 0, 44, 60, 42, 184, 0, 9, 181, 0, 15, 42, 2, 181, 0, 21, 42, 2, 181, 0, 25, 27, 172]
abbrev dktX4_open_0 : List UInt8 := dkwX4_open_0 ++ []
theorem dksX4_open_0 : cX4_open.data.toList.drop 0 = dktX4_open_0 := by decide +kernel
theorem dX4_open_0 : decode cX4_open 0 = .ok (.aload_n 0, 1) := dk_42 (dk_at dksX4_open_0 0 rfl rfl)
theorem dX4_open_1 : decode cX4_open 1 = .ok (.invokevirtual 44, 3) := dk_182 0 44 (dk_at dksX4_open_0 1 rfl rfl)
theorem dX4_open_4 : decode cX4_open 4 = .ok (.istore_n 1, 1) := dk_60 (dk_at dksX4_open_0 4 rfl rfl)
theorem dX4_open_5 : decode cX4_open 5 = .ok (.aload_n 0, 1) := dk_42 (dk_at dksX4_open_0 5 rfl rfl)
theorem dX4_open_6 : decode cX4_open 6 = .ok (.invokestatic 9, 3) := dk_184 0 9 (dk_at dksX4_open_0 6 rfl rfl)
theorem dX4_open_9 : decode cX4_open 9 = .ok (.putfield 15, 3) := dk_181 0 15 (dk_at dksX4_open_0 9 rfl rfl)
theorem dX4_open_12 : decode cX4_open 12 = .ok (.aload_n 0, 1) := dk_42 (dk_at dksX4_open_0 12 rfl rfl)
theorem dX4_open_13 : decode cX4_open 13 = .ok (.iconst (-1), 1) := dk_2 (dk_at dksX4_open_0 13 rfl rfl)
theorem dX4_open_14 : decode cX4_open 14 = .ok (.putfield 21, 3) := dk_181 0 21 (dk_at dksX4_open_0 14 rfl rfl)
theorem dX4_open_17 : decode cX4_open 17 = .ok (.aload_n 0, 1) := dk_42 (dk_at dksX4_open_0 17 rfl rfl)
theorem dX4_open_18 : decode cX4_open 18 = .ok (.iconst (-1), 1) := dk_2 (dk_at dksX4_open_0 18 rfl rfl)
theorem dX4_open_19 : decode cX4_open 19 = .ok (.putfield 25, 3) := dk_181 0 25 (dk_at dksX4_open_0 19 rfl rfl)
theorem dX4_open_22 : decode cX4_open 22 = .ok (.iload_n 1, 1) := dk_27 (dk_at dksX4_open_0 22 rfl rfl)
theorem dX4_open_23 : decode cX4_open 23 = .ok (.ireturn, 1) := dk_172 (dk_at dksX4_open_0 23 rfl rfl)
abbrev cX4_decide : ByteArray := prog_10_method_4_code
def yX4_decide : MethodName := ⟨RX4, "decide", "(LHaltingale$Kind;II)V"⟩
def dkwX4_decide_0 : List UInt8 := [42, 43, 184, 0, 40, 181, 0, 15, 42, 28, 181, 0, 21, 42, 29, 181, 0, 25, 177]
abbrev dktX4_decide_0 : List UInt8 := dkwX4_decide_0 ++ []
theorem dksX4_decide_0 : cX4_decide.data.toList.drop 0 = dktX4_decide_0 := by decide +kernel
theorem dX4_decide_0 : decode cX4_decide 0 = .ok (.aload_n 0, 1) := dk_42 (dk_at dksX4_decide_0 0 rfl rfl)
theorem dX4_decide_1 : decode cX4_decide 1 = .ok (.aload_n 1, 1) := dk_43 (dk_at dksX4_decide_0 1 rfl rfl)
theorem dX4_decide_2 : decode cX4_decide 2 = .ok (.invokestatic 40, 3) := dk_184 0 40 (dk_at dksX4_decide_0 2 rfl rfl)
theorem dX4_decide_5 : decode cX4_decide 5 = .ok (.putfield 15, 3) := dk_181 0 15 (dk_at dksX4_decide_0 5 rfl rfl)
theorem dX4_decide_8 : decode cX4_decide 8 = .ok (.aload_n 0, 1) := dk_42 (dk_at dksX4_decide_0 8 rfl rfl)
theorem dX4_decide_9 : decode cX4_decide 9 = .ok (.iload_n 2, 1) := dk_28 (dk_at dksX4_decide_0 9 rfl rfl)
theorem dX4_decide_10 : decode cX4_decide 10 = .ok (.putfield 21, 3) := dk_181 0 21 (dk_at dksX4_decide_0 10 rfl rfl)
theorem dX4_decide_13 : decode cX4_decide 13 = .ok (.aload_n 0, 1) := dk_42 (dk_at dksX4_decide_0 13 rfl rfl)
theorem dX4_decide_14 : decode cX4_decide 14 = .ok (.iload_n 3, 1) := dk_29 (dk_at dksX4_decide_0 14 rfl rfl)
theorem dX4_decide_15 : decode cX4_decide 15 = .ok (.putfield 25, 3) := dk_181 0 25 (dk_at dksX4_decide_0 15 rfl rfl)
theorem dX4_decide_18 : decode cX4_decide 18 = .ok (.return_, 1) := dk_177 (dk_at dksX4_decide_0 18 rfl rfl)
theorem q36 : (Jvm.Cond.initialized "Haltingale$Machine") ∈ lw_all := lw_g (lw_at lw_m1 12 rfl) rfl
theorem q166 : (Jvm.Cond.instanceMethod ({ cls := "Haltingale$Machine", name := "isDecidedBy", desc := "(LHaltingale$Kind;)Z" } : Jvm.MethodName)) ∈ lw_all := lw_g (lw_at lw_m1 142 rfl) rfl
theorem q167 : (Jvm.Cond.selects "Haltingale$Machine" ({ cls := "Haltingale$Machine", name := "isDecidedBy", desc := "(LHaltingale$Kind;)Z" } : Jvm.MethodName) ({ cls := "Haltingale$Machine", name := "isDecidedBy", desc := "(LHaltingale$Kind;)Z" } : Jvm.MethodName)) ∈ lw_all := lw_g (lw_at lw_m1 143 rfl) rfl
theorem q168 : (Jvm.Cond.code ({ cls := "Haltingale$Machine", name := "isDecidedBy", desc := "(LHaltingale$Kind;)Z" } : Jvm.MethodName) prog_10_method_3_code (2 : Nat) (Option.some Jvm.ClassFile.FieldType.boolean)) ∈ lw_all := lw_g (lw_at lw_m1 144 rfl) rfl
theorem q169 : (Jvm.Cond.methodLink "Haltingale$Machine" (32 : Nat) ({ cls := "java/util/Optional", name := "isPresent", desc := "()Z" } : Jvm.MethodName)) ∈ lw_all := lw_g (lw_at lw_m1 145 rfl) rfl
theorem q173 : (Jvm.Cond.methodLink "Haltingale$Machine" (36 : Nat) ({ cls := "java/util/Optional", name := "get", desc := "()Ljava/lang/Object;" } : Jvm.MethodName)) ∈ lw_all := lw_g (lw_at lw_m1 149 rfl) rfl
theorem q177 : (Jvm.Cond.superclass "Haltingale$Machine" "java/lang/Object") ∈ lw_all := lw_g (lw_at lw_m1 153 rfl) rfl
theorem q179 : (Jvm.Cond.unhidden "Haltingale$Machine" "count" "()I") ∈ lw_tbl := lw_at lw_m1 155 rfl
theorem q203 : (Jvm.Cond.instanceMethod ({ cls := "Haltingale$Machine", name := "isDecided", desc := "()Z" } : Jvm.MethodName)) ∈ lw_all := lw_g (lw_at lw_m1 179 rfl) rfl
theorem q204 : (Jvm.Cond.selects "Haltingale$Machine" ({ cls := "Haltingale$Machine", name := "isDecided", desc := "()Z" } : Jvm.MethodName) ({ cls := "Haltingale$Machine", name := "isDecided", desc := "()Z" } : Jvm.MethodName)) ∈ lw_all := lw_g (lw_at lw_m1 180 rfl) rfl
theorem q205 : (Jvm.Cond.code ({ cls := "Haltingale$Machine", name := "isDecided", desc := "()Z" } : Jvm.MethodName) prog_10_method_2_code (1 : Nat) (Option.some Jvm.ClassFile.FieldType.boolean)) ∈ lw_all := lw_g (lw_at lw_m1 181 rfl) rfl
theorem q527 : (Jvm.Cond.selects "Haltingale$Machine" ({ cls := "java/lang/Object", name := "getClass", desc := "()Ljava/lang/Class;" } : Jvm.MethodName) ({ cls := "java/lang/Object", name := "getClass", desc := "()Ljava/lang/Class;" } : Jvm.MethodName)) ∈ lw_all := lw_g (lw_at lw_m3 23 rfl) rfl
theorem q693 : (Jvm.Cond.instantiable "Haltingale$Machine" (4 : Nat)) ∈ lw_all := lw_g (lw_at lw_m3 189 rfl) rfl
theorem q716 : (Jvm.Cond.instanceMethod ({ cls := "Haltingale$Machine", name := "<init>", desc := "(LHaltingale$Table;)V" } : Jvm.MethodName)) ∈ lw_all := lw_g (lw_at lw_m3 212 rfl) rfl
theorem q717 : (Jvm.Cond.code ({ cls := "Haltingale$Machine", name := "<init>", desc := "(LHaltingale$Table;)V" } : Jvm.MethodName) prog_10_method_1_code (2 : Nat) (Option.none : Option Jvm.ClassFile.FieldType)) ∈ lw_all := lw_g (lw_at lw_m3 213 rfl) rfl
theorem q718 : (Jvm.Cond.methodLink "Haltingale$Machine" (3 : Nat) ({ cls := "java/lang/Object", name := "<init>", desc := "()V" } : Jvm.MethodName)) ∈ lw_all := lw_g (lw_at lw_m3 214 rfl) rfl
theorem q719 : (Jvm.Cond.methodLink "Haltingale$Machine" (9 : Nat) ({ cls := "java/util/Optional", name := "empty", desc := "()Ljava/util/Optional;" } : Jvm.MethodName)) ∈ lw_all := lw_g (lw_at lw_m3 215 rfl) rfl
theorem q720 : (Jvm.Cond.fieldLink "Haltingale$Machine" (28 : Nat) "Haltingale$Machine" "table" "LHaltingale$Table;") ∈ lw_all := lw_g (lw_at lw_m3 216 rfl) rfl
theorem q722 : (Jvm.Cond.fieldLink "Haltingale$Machine" (15 : Nat) "Haltingale$Machine" "kind" "Ljava/util/Optional;") ∈ lw_all := lw_g (lw_at lw_m3 218 rfl) rfl
theorem q724 : (Jvm.Cond.fieldLink "Haltingale$Machine" (21 : Nat) "Haltingale$Machine" "a" "I") ∈ lw_all := lw_g (lw_at lw_m3 220 rfl) rfl
theorem q726 : (Jvm.Cond.fieldLink "Haltingale$Machine" (25 : Nat) "Haltingale$Machine" "b" "I") ∈ lw_all := lw_g (lw_at lw_m3 222 rfl) rfl
theorem q728 : (Jvm.Cond.laysFinal "Haltingale$Machine" "Haltingale$Machine" "table" "LHaltingale$Table;") ∈ lw_all := lw_g (lw_at lw_m3 224 rfl) rfl
theorem q729 : (Jvm.Cond.soleField "Haltingale$Machine" "table") ∈ lw_all := lw_g (lw_at lw_m3 225 rfl) rfl
theorem q730 : (Jvm.Cond.lays "Haltingale$Machine" "Haltingale$Machine" "kind" "Ljava/util/Optional;") ∈ lw_all := lw_g (lw_at lw_m3 226 rfl) rfl
theorem q731 : (Jvm.Cond.soleField "Haltingale$Machine" "kind") ∈ lw_all := lw_g (lw_at lw_m3 227 rfl) rfl
theorem q732 : (Jvm.Cond.lays "Haltingale$Machine" "Haltingale$Machine" "a" "I") ∈ lw_all := lw_g (lw_at lw_m3 228 rfl) rfl
theorem q733 : (Jvm.Cond.soleField "Haltingale$Machine" "a") ∈ lw_all := lw_g (lw_at lw_m3 229 rfl) rfl
theorem q734 : (Jvm.Cond.lays "Haltingale$Machine" "Haltingale$Machine" "b" "I") ∈ lw_all := lw_g (lw_at lw_m3 230 rfl) rfl
theorem q735 : (Jvm.Cond.soleField "Haltingale$Machine" "b") ∈ lw_all := lw_g (lw_at lw_m3 231 rfl) rfl
theorem q852 : (Jvm.Cond.instanceMethod ({ cls := "Haltingale$Machine", name := "open", desc := "()Z" } : Jvm.MethodName)) ∈ lw_all := lw_g (lw_at lw_m4 108 rfl) rfl
theorem q853 : (Jvm.Cond.selects "Haltingale$Machine" ({ cls := "Haltingale$Machine", name := "open", desc := "()Z" } : Jvm.MethodName) ({ cls := "Haltingale$Machine", name := "open", desc := "()Z" } : Jvm.MethodName)) ∈ lw_all := lw_g (lw_at lw_m4 109 rfl) rfl
theorem q854 : (Jvm.Cond.code ({ cls := "Haltingale$Machine", name := "open", desc := "()Z" } : Jvm.MethodName) prog_10_method_5_code (2 : Nat) (Option.some Jvm.ClassFile.FieldType.boolean)) ∈ lw_all := lw_g (lw_at lw_m4 110 rfl) rfl
theorem q855 : (Jvm.Cond.methodLink "Haltingale$Machine" (44 : Nat) ({ cls := "Haltingale$Machine", name := "isDecided", desc := "()Z" } : Jvm.MethodName)) ∈ lw_all := lw_g (lw_at lw_m4 111 rfl) rfl
theorem q866 : (Jvm.Cond.selects "Haltingale$Machine" ({ cls := "java/lang/Object", name := "notify", desc := "()V" } : Jvm.MethodName) ({ cls := "java/lang/Object", name := "notify", desc := "()V" } : Jvm.MethodName)) ∈ lw_all := lw_g (lw_at lw_m4 122 rfl) rfl
theorem q1048 : (Jvm.Cond.selects "Haltingale$Machine" ({ cls := "java/lang/Object", name := "notifyAll", desc := "()V" } : Jvm.MethodName) ({ cls := "java/lang/Object", name := "notifyAll", desc := "()V" } : Jvm.MethodName)) ∈ lw_all := lw_g (lw_at lw_m5 64 rfl) rfl
theorem q1069 : (Jvm.Cond.instanceMethod ({ cls := "Haltingale$Machine", name := "decide", desc := "(LHaltingale$Kind;II)V" } : Jvm.MethodName)) ∈ lw_all := lw_g (lw_at lw_m5 85 rfl) rfl
theorem q1070 : (Jvm.Cond.selects "Haltingale$Machine" ({ cls := "Haltingale$Machine", name := "decide", desc := "(LHaltingale$Kind;II)V" } : Jvm.MethodName) ({ cls := "Haltingale$Machine", name := "decide", desc := "(LHaltingale$Kind;II)V" } : Jvm.MethodName)) ∈ lw_all := lw_g (lw_at lw_m5 86 rfl) rfl
theorem q1071 : (Jvm.Cond.code ({ cls := "Haltingale$Machine", name := "decide", desc := "(LHaltingale$Kind;II)V" } : Jvm.MethodName) prog_10_method_4_code (4 : Nat) (Option.none : Option Jvm.ClassFile.FieldType)) ∈ lw_all := lw_g (lw_at lw_m5 87 rfl) rfl
theorem q1072 : (Jvm.Cond.methodLink "Haltingale$Machine" (40 : Nat) ({ cls := "java/util/Optional", name := "of", desc := "(Ljava/lang/Object;)Ljava/util/Optional;" } : Jvm.MethodName)) ∈ lw_all := lw_g (lw_at lw_m5 88 rfl) rfl
theorem q1664 : (Jvm.Cond.castable "Haltingale$Machine" "java/lang/Object") ∈ lw_tbl := lw_at lw_m7 200 rfl
theorem in_X4 : ∀ w ∈ wsX40, w ∈ lw_all := lw_in wsX40 [728, 730, 732, 734] (by decide +kernel) (by decide +kernel)
/-! Haltingale$Table -/
set_option maxRecDepth 100000
def RX5 : String := "Haltingale$Table"
def TX5 : u_T := fun k => match k with
  | 0 => ("Haltingale$Table", "states", "I", true)
  | _ => ("Haltingale$Table", "cells", "Ljava/util/List;", true)
def tyX5 : Nat → FieldType := fun k => match k with
  | 0 => .int
  | _ => .object "java/util/List"
abbrev wsX50 : List Cond := u_ws RX5 TX5 2
theorem nmX5 : ∀ a, a < 2 → ∀ b, b < 2 → a ≠ b → (TX5 a).2.1 ≠ (TX5 b).2.1 := by decide +kernel
theorem tyX5_ok : ∀ k, k < 2 → parseFieldDescriptor (TX5 k).2.2.1 = some (tyX5 k) := by decide +kernel
abbrev cX5_empty : ByteArray := prog_14_method_5_code
def yX5_empty : MethodName := ⟨RX5, "empty", "()I"⟩
def dkwX5_empty_2 : List UInt8 := [167, 255, 213, 27, 172]
abbrev dktX5_empty_2 : List UInt8 := dkwX5_empty_2 ++ []
def dkwX5_empty_1 : List UInt8 := [185, 0, 39, 2, 0, 192, 0, 21, 182, 0, 51, 153, 0, 7, 3, 167, 0, 4, 4, 96, 60, 132, 2, 1]
abbrev dktX5_empty_1 : List UInt8 := dkwX5_empty_1 ++ dktX5_empty_2
def dkwX5_empty_0 : List UInt8 := [3, 60, 3, 61, 28, 42, 180, 0, 10, 185, 0, 35, 1, 0, 162, 0, 36, 27, 42, 180, 0, 10, 28]
abbrev dktX5_empty_0 : List UInt8 := dkwX5_empty_0 ++ dktX5_empty_1
theorem dksX5_empty_0 : cX5_empty.data.toList.drop 0 = dktX5_empty_0 := by decide +kernel
theorem dksX5_empty_1 : cX5_empty.data.toList.drop 23 = dktX5_empty_1 := dk_seg dksX5_empty_0 23 rfl rfl
theorem dksX5_empty_2 : cX5_empty.data.toList.drop 47 = dktX5_empty_2 := dk_seg dksX5_empty_1 24 rfl rfl
theorem dX5_empty_0 : decode cX5_empty 0 = .ok (.iconst 0, 1) := dk_3 (dk_at dksX5_empty_0 0 rfl rfl)
theorem dX5_empty_1 : decode cX5_empty 1 = .ok (.istore_n 1, 1) := dk_60 (dk_at dksX5_empty_0 1 rfl rfl)
theorem dX5_empty_2 : decode cX5_empty 2 = .ok (.iconst 0, 1) := dk_3 (dk_at dksX5_empty_0 2 rfl rfl)
theorem dX5_empty_3 : decode cX5_empty 3 = .ok (.istore_n 2, 1) := dk_61 (dk_at dksX5_empty_0 3 rfl rfl)
theorem dX5_empty_4 : decode cX5_empty 4 = .ok (.iload_n 2, 1) := dk_28 (dk_at dksX5_empty_0 4 rfl rfl)
theorem dX5_empty_5 : decode cX5_empty 5 = .ok (.aload_n 0, 1) := dk_42 (dk_at dksX5_empty_0 5 rfl rfl)
theorem dX5_empty_6 : decode cX5_empty 6 = .ok (.getfield 10, 3) := dk_180 0 10 (dk_at dksX5_empty_0 6 rfl rfl)
theorem dX5_empty_9 : decode cX5_empty 9 = .ok (.invokeinterface 35 1, 5) := by decide +kernel
theorem dX5_empty_14 : decode cX5_empty 14 = .ok (.if_icmp .ge 36, 3) := dk_162 0 36 (dk_at dksX5_empty_0 14 rfl rfl)
theorem dX5_empty_17 : decode cX5_empty 17 = .ok (.iload_n 1, 1) := dk_27 (dk_at dksX5_empty_0 17 rfl rfl)
theorem dX5_empty_18 : decode cX5_empty 18 = .ok (.aload_n 0, 1) := dk_42 (dk_at dksX5_empty_0 18 rfl rfl)
theorem dX5_empty_19 : decode cX5_empty 19 = .ok (.getfield 10, 3) := dk_180 0 10 (dk_at dksX5_empty_0 19 rfl rfl)
theorem dX5_empty_22 : decode cX5_empty 22 = .ok (.iload_n 2, 1) := dk_28 (dk_at dksX5_empty_0 22 rfl rfl)
theorem dX5_empty_23 : decode cX5_empty 23 = .ok (.invokeinterface 39 2, 5) := by decide +kernel
theorem dX5_empty_28 : decode cX5_empty 28 = .ok (.checkcast 21, 3) := dk_192 0 21 (dk_at dksX5_empty_1 5 rfl rfl)
theorem dX5_empty_31 : decode cX5_empty 31 = .ok (.invokevirtual 51, 3) := dk_182 0 51 (dk_at dksX5_empty_1 8 rfl rfl)
theorem dX5_empty_34 : decode cX5_empty 34 = .ok (.ifCond .eq 7, 3) := dk_153 0 7 (dk_at dksX5_empty_1 11 rfl rfl)
theorem dX5_empty_37 : decode cX5_empty 37 = .ok (.iconst 0, 1) := dk_3 (dk_at dksX5_empty_1 14 rfl rfl)
theorem dX5_empty_38 : decode cX5_empty 38 = .ok (.goto 4, 3) := dk_167 0 4 (dk_at dksX5_empty_1 15 rfl rfl)
theorem dX5_empty_41 : decode cX5_empty 41 = .ok (.iconst 1, 1) := dk_4 (dk_at dksX5_empty_1 18 rfl rfl)
theorem dX5_empty_42 : decode cX5_empty 42 = .ok (.iadd, 1) := dk_96 (dk_at dksX5_empty_1 19 rfl rfl)
theorem dX5_empty_43 : decode cX5_empty 43 = .ok (.istore_n 1, 1) := dk_60 (dk_at dksX5_empty_1 20 rfl rfl)
theorem dX5_empty_44 : decode cX5_empty 44 = .ok (.iinc 2 1, 3) := dk_132 2 1 (dk_at dksX5_empty_1 21 rfl rfl)
theorem dX5_empty_47 : decode cX5_empty 47 = .ok (.goto (-43), 3) := dk_167 255 213 (dk_at dksX5_empty_2 0 rfl rfl)
theorem dX5_empty_50 : decode cX5_empty 50 = .ok (.iload_n 1, 1) := dk_27 (dk_at dksX5_empty_2 3 rfl rfl)
theorem dX5_empty_51 : decode cX5_empty 51 = .ok (.ireturn, 1) := dk_172 (dk_at dksX5_empty_2 4 rfl rfl)
abbrev cX5_cell : ByteArray := prog_14_method_3_code
def yX5_cell : MethodName := ⟨RX5, "cell", "(II)Ljava/util/Optional;"⟩
def dkwX5_cell_0 : List UInt8 := [42, 180, 0, 10, 5, 27, 104, 28, 96, 185, 0, 39, 2, 0, 192, 0, 21, 176]
abbrev dktX5_cell_0 : List UInt8 := dkwX5_cell_0 ++ []
theorem dksX5_cell_0 : cX5_cell.data.toList.drop 0 = dktX5_cell_0 := by decide +kernel
theorem dX5_cell_0 : decode cX5_cell 0 = .ok (.aload_n 0, 1) := dk_42 (dk_at dksX5_cell_0 0 rfl rfl)
theorem dX5_cell_1 : decode cX5_cell 1 = .ok (.getfield 10, 3) := dk_180 0 10 (dk_at dksX5_cell_0 1 rfl rfl)
theorem dX5_cell_4 : decode cX5_cell 4 = .ok (.iconst 2, 1) := dk_5 (dk_at dksX5_cell_0 4 rfl rfl)
theorem dX5_cell_5 : decode cX5_cell 5 = .ok (.iload_n 1, 1) := dk_27 (dk_at dksX5_cell_0 5 rfl rfl)
theorem dX5_cell_6 : decode cX5_cell 6 = .ok (.imul, 1) := dk_104 (dk_at dksX5_cell_0 6 rfl rfl)
theorem dX5_cell_7 : decode cX5_cell 7 = .ok (.iload_n 2, 1) := dk_28 (dk_at dksX5_cell_0 7 rfl rfl)
theorem dX5_cell_8 : decode cX5_cell 8 = .ok (.iadd, 1) := dk_96 (dk_at dksX5_cell_0 8 rfl rfl)
theorem dX5_cell_9 : decode cX5_cell 9 = .ok (.invokeinterface 39 2, 5) := by decide +kernel
theorem dX5_cell_14 : decode cX5_cell 14 = .ok (.checkcast 21, 3) := dk_192 0 21 (dk_at dksX5_cell_0 14 rfl rfl)
theorem dX5_cell_17 : decode cX5_cell 17 = .ok (.areturn, 1) := dk_176 (dk_at dksX5_cell_0 17 rfl rfl)
abbrev cX5_reachable : ByteArray := prog_14_method_7_code
def yX5_reachable : MethodName := ⟨RX5, "reachable", "()I"⟩
def dkwX5_reachable_4 : List UInt8 := [5, 96, 184, 0, 73, 172]
abbrev dktX5_reachable_4 : List UInt8 := dkwX5_reachable_4 ++ []
def dkwX5_reachable_3 : List UInt8 := [162, 0, 11, 27, 29, 184, 0, 67, 167, 0, 4, 27, 60, 132, 2, 1, 167, 255, 176, 42, 180, 0, 16, 27]
abbrev dktX5_reachable_3 : List UInt8 := dkwX5_reachable_3 ++ dktX5_reachable_4
def dkwX5_reachable_2 : List UInt8 := [192, 0, 21, 182, 0, 59, 192, 0, 62, 180, 0, 64, 167, 0, 4, 3, 62, 29, 42, 180, 0, 16]
abbrev dktX5_reachable_2 : List UInt8 := dkwX5_reachable_2 ++ dktX5_reachable_3
def dkwX5_reachable_1 : List UInt8 := [185, 0, 39, 2, 0, 192, 0, 21, 182, 0, 51, 153, 0, 28, 42, 180, 0, 10, 28, 185, 0, 39, 2, 0]
abbrev dktX5_reachable_1 : List UInt8 := dkwX5_reachable_1 ++ dktX5_reachable_2
def dkwX5_reachable_0 : List UInt8 := [3, 60, 3, 61, 28, 42, 180, 0, 10, 185, 0, 35, 1, 0, 162, 0, 73, 42, 180, 0, 10, 28]
abbrev dktX5_reachable_0 : List UInt8 := dkwX5_reachable_0 ++ dktX5_reachable_1
theorem dksX5_reachable_0 : cX5_reachable.data.toList.drop 0 = dktX5_reachable_0 := by decide +kernel
theorem dksX5_reachable_1 : cX5_reachable.data.toList.drop 22 = dktX5_reachable_1 := dk_seg dksX5_reachable_0 22 rfl rfl
theorem dksX5_reachable_2 : cX5_reachable.data.toList.drop 46 = dktX5_reachable_2 := dk_seg dksX5_reachable_1 24 rfl rfl
theorem dksX5_reachable_3 : cX5_reachable.data.toList.drop 68 = dktX5_reachable_3 := dk_seg dksX5_reachable_2 22 rfl rfl
theorem dksX5_reachable_4 : cX5_reachable.data.toList.drop 92 = dktX5_reachable_4 := dk_seg dksX5_reachable_3 24 rfl rfl
theorem dX5_reachable_0 : decode cX5_reachable 0 = .ok (.iconst 0, 1) := dk_3 (dk_at dksX5_reachable_0 0 rfl rfl)
theorem dX5_reachable_1 : decode cX5_reachable 1 = .ok (.istore_n 1, 1) := dk_60 (dk_at dksX5_reachable_0 1 rfl rfl)
theorem dX5_reachable_2 : decode cX5_reachable 2 = .ok (.iconst 0, 1) := dk_3 (dk_at dksX5_reachable_0 2 rfl rfl)
theorem dX5_reachable_3 : decode cX5_reachable 3 = .ok (.istore_n 2, 1) := dk_61 (dk_at dksX5_reachable_0 3 rfl rfl)
theorem dX5_reachable_4 : decode cX5_reachable 4 = .ok (.iload_n 2, 1) := dk_28 (dk_at dksX5_reachable_0 4 rfl rfl)
theorem dX5_reachable_5 : decode cX5_reachable 5 = .ok (.aload_n 0, 1) := dk_42 (dk_at dksX5_reachable_0 5 rfl rfl)
theorem dX5_reachable_6 : decode cX5_reachable 6 = .ok (.getfield 10, 3) := dk_180 0 10 (dk_at dksX5_reachable_0 6 rfl rfl)
theorem dX5_reachable_9 : decode cX5_reachable 9 = .ok (.invokeinterface 35 1, 5) := by decide +kernel
theorem dX5_reachable_14 : decode cX5_reachable 14 = .ok (.if_icmp .ge 73, 3) := dk_162 0 73 (dk_at dksX5_reachable_0 14 rfl rfl)
theorem dX5_reachable_17 : decode cX5_reachable 17 = .ok (.aload_n 0, 1) := dk_42 (dk_at dksX5_reachable_0 17 rfl rfl)
theorem dX5_reachable_18 : decode cX5_reachable 18 = .ok (.getfield 10, 3) := dk_180 0 10 (dk_at dksX5_reachable_0 18 rfl rfl)
theorem dX5_reachable_21 : decode cX5_reachable 21 = .ok (.iload_n 2, 1) := dk_28 (dk_at dksX5_reachable_0 21 rfl rfl)
theorem dX5_reachable_22 : decode cX5_reachable 22 = .ok (.invokeinterface 39 2, 5) := by decide +kernel
theorem dX5_reachable_27 : decode cX5_reachable 27 = .ok (.checkcast 21, 3) := dk_192 0 21 (dk_at dksX5_reachable_1 5 rfl rfl)
theorem dX5_reachable_30 : decode cX5_reachable 30 = .ok (.invokevirtual 51, 3) := dk_182 0 51 (dk_at dksX5_reachable_1 8 rfl rfl)
theorem dX5_reachable_33 : decode cX5_reachable 33 = .ok (.ifCond .eq 28, 3) := dk_153 0 28 (dk_at dksX5_reachable_1 11 rfl rfl)
theorem dX5_reachable_36 : decode cX5_reachable 36 = .ok (.aload_n 0, 1) := dk_42 (dk_at dksX5_reachable_1 14 rfl rfl)
theorem dX5_reachable_37 : decode cX5_reachable 37 = .ok (.getfield 10, 3) := dk_180 0 10 (dk_at dksX5_reachable_1 15 rfl rfl)
theorem dX5_reachable_40 : decode cX5_reachable 40 = .ok (.iload_n 2, 1) := dk_28 (dk_at dksX5_reachable_1 18 rfl rfl)
theorem dX5_reachable_41 : decode cX5_reachable 41 = .ok (.invokeinterface 39 2, 5) := by decide +kernel
theorem dX5_reachable_46 : decode cX5_reachable 46 = .ok (.checkcast 21, 3) := dk_192 0 21 (dk_at dksX5_reachable_2 0 rfl rfl)
theorem dX5_reachable_49 : decode cX5_reachable 49 = .ok (.invokevirtual 59, 3) := dk_182 0 59 (dk_at dksX5_reachable_2 3 rfl rfl)
theorem dX5_reachable_52 : decode cX5_reachable 52 = .ok (.checkcast 62, 3) := dk_192 0 62 (dk_at dksX5_reachable_2 6 rfl rfl)
theorem dX5_reachable_55 : decode cX5_reachable 55 = .ok (.getfield 64, 3) := dk_180 0 64 (dk_at dksX5_reachable_2 9 rfl rfl)
theorem dX5_reachable_58 : decode cX5_reachable 58 = .ok (.goto 4, 3) := dk_167 0 4 (dk_at dksX5_reachable_2 12 rfl rfl)
theorem dX5_reachable_61 : decode cX5_reachable 61 = .ok (.iconst 0, 1) := dk_3 (dk_at dksX5_reachable_2 15 rfl rfl)
theorem dX5_reachable_62 : decode cX5_reachable 62 = .ok (.istore_n 3, 1) := dk_62 (dk_at dksX5_reachable_2 16 rfl rfl)
theorem dX5_reachable_63 : decode cX5_reachable 63 = .ok (.iload_n 3, 1) := dk_29 (dk_at dksX5_reachable_2 17 rfl rfl)
theorem dX5_reachable_64 : decode cX5_reachable 64 = .ok (.aload_n 0, 1) := dk_42 (dk_at dksX5_reachable_2 18 rfl rfl)
theorem dX5_reachable_65 : decode cX5_reachable 65 = .ok (.getfield 16, 3) := dk_180 0 16 (dk_at dksX5_reachable_2 19 rfl rfl)
theorem dX5_reachable_68 : decode cX5_reachable 68 = .ok (.if_icmp .ge 11, 3) := dk_162 0 11 (dk_at dksX5_reachable_3 0 rfl rfl)
theorem dX5_reachable_71 : decode cX5_reachable 71 = .ok (.iload_n 1, 1) := dk_27 (dk_at dksX5_reachable_3 3 rfl rfl)
theorem dX5_reachable_72 : decode cX5_reachable 72 = .ok (.iload_n 3, 1) := dk_29 (dk_at dksX5_reachable_3 4 rfl rfl)
theorem dX5_reachable_73 : decode cX5_reachable 73 = .ok (.invokestatic 67, 3) := dk_184 0 67 (dk_at dksX5_reachable_3 5 rfl rfl)
theorem dX5_reachable_76 : decode cX5_reachable 76 = .ok (.goto 4, 3) := dk_167 0 4 (dk_at dksX5_reachable_3 8 rfl rfl)
theorem dX5_reachable_79 : decode cX5_reachable 79 = .ok (.iload_n 1, 1) := dk_27 (dk_at dksX5_reachable_3 11 rfl rfl)
theorem dX5_reachable_80 : decode cX5_reachable 80 = .ok (.istore_n 1, 1) := dk_60 (dk_at dksX5_reachable_3 12 rfl rfl)
theorem dX5_reachable_81 : decode cX5_reachable 81 = .ok (.iinc 2 1, 3) := dk_132 2 1 (dk_at dksX5_reachable_3 13 rfl rfl)
theorem dX5_reachable_84 : decode cX5_reachable 84 = .ok (.goto (-80), 3) := dk_167 255 176 (dk_at dksX5_reachable_3 16 rfl rfl)
theorem dX5_reachable_87 : decode cX5_reachable 87 = .ok (.aload_n 0, 1) := dk_42 (dk_at dksX5_reachable_3 19 rfl rfl)
theorem dX5_reachable_88 : decode cX5_reachable 88 = .ok (.getfield 16, 3) := dk_180 0 16 (dk_at dksX5_reachable_3 20 rfl rfl)
theorem dX5_reachable_91 : decode cX5_reachable 91 = .ok (.iload_n 1, 1) := dk_27 (dk_at dksX5_reachable_3 23 rfl rfl)
theorem dX5_reachable_92 : decode cX5_reachable 92 = .ok (.iconst 2, 1) := dk_5 (dk_at dksX5_reachable_4 0 rfl rfl)
theorem dX5_reachable_93 : decode cX5_reachable 93 = .ok (.iadd, 1) := dk_96 (dk_at dksX5_reachable_4 1 rfl rfl)
theorem dX5_reachable_94 : decode cX5_reachable 94 = .ok (.invokestatic 73, 3) := dk_184 0 73 (dk_at dksX5_reachable_4 2 rfl rfl)
theorem dX5_reachable_97 : decode cX5_reachable 97 = .ok (.ireturn, 1) := dk_172 (dk_at dksX5_reachable_4 5 rfl rfl)
abbrev cX5_endsAt : ByteArray := prog_14_method_6_code
def yX5_endsAt : MethodName := ⟨RX5, "endsAt", "(II)Z"⟩
def dkwX5_endsAt_1 : List UInt8 := [180, 0, 64, 42, 180, 0, 16, 160, 0, 7, 4, 167, 0, 4, 3, 172]
abbrev dktX5_endsAt_1 : List UInt8 := dkwX5_endsAt_1 ++ []
def dkwX5_endsAt_0 : List UInt8 := [42, 27, 28, 182, 0, 55, 182, 0, 51, 153, 0, 25, 42, 27, 28, 182, 0, 55, 182, 0, 59, 192, 0, 62]
abbrev dktX5_endsAt_0 : List UInt8 := dkwX5_endsAt_0 ++ dktX5_endsAt_1
theorem dksX5_endsAt_0 : cX5_endsAt.data.toList.drop 0 = dktX5_endsAt_0 := by decide +kernel
theorem dksX5_endsAt_1 : cX5_endsAt.data.toList.drop 24 = dktX5_endsAt_1 := dk_seg dksX5_endsAt_0 24 rfl rfl
theorem dX5_endsAt_0 : decode cX5_endsAt 0 = .ok (.aload_n 0, 1) := dk_42 (dk_at dksX5_endsAt_0 0 rfl rfl)
theorem dX5_endsAt_1 : decode cX5_endsAt 1 = .ok (.iload_n 1, 1) := dk_27 (dk_at dksX5_endsAt_0 1 rfl rfl)
theorem dX5_endsAt_2 : decode cX5_endsAt 2 = .ok (.iload_n 2, 1) := dk_28 (dk_at dksX5_endsAt_0 2 rfl rfl)
theorem dX5_endsAt_3 : decode cX5_endsAt 3 = .ok (.invokevirtual 55, 3) := dk_182 0 55 (dk_at dksX5_endsAt_0 3 rfl rfl)
theorem dX5_endsAt_6 : decode cX5_endsAt 6 = .ok (.invokevirtual 51, 3) := dk_182 0 51 (dk_at dksX5_endsAt_0 6 rfl rfl)
theorem dX5_endsAt_9 : decode cX5_endsAt 9 = .ok (.ifCond .eq 25, 3) := dk_153 0 25 (dk_at dksX5_endsAt_0 9 rfl rfl)
theorem dX5_endsAt_12 : decode cX5_endsAt 12 = .ok (.aload_n 0, 1) := dk_42 (dk_at dksX5_endsAt_0 12 rfl rfl)
theorem dX5_endsAt_13 : decode cX5_endsAt 13 = .ok (.iload_n 1, 1) := dk_27 (dk_at dksX5_endsAt_0 13 rfl rfl)
theorem dX5_endsAt_14 : decode cX5_endsAt 14 = .ok (.iload_n 2, 1) := dk_28 (dk_at dksX5_endsAt_0 14 rfl rfl)
theorem dX5_endsAt_15 : decode cX5_endsAt 15 = .ok (.invokevirtual 55, 3) := dk_182 0 55 (dk_at dksX5_endsAt_0 15 rfl rfl)
theorem dX5_endsAt_18 : decode cX5_endsAt 18 = .ok (.invokevirtual 59, 3) := dk_182 0 59 (dk_at dksX5_endsAt_0 18 rfl rfl)
theorem dX5_endsAt_21 : decode cX5_endsAt 21 = .ok (.checkcast 62, 3) := dk_192 0 62 (dk_at dksX5_endsAt_0 21 rfl rfl)
theorem dX5_endsAt_24 : decode cX5_endsAt 24 = .ok (.getfield 64, 3) := dk_180 0 64 (dk_at dksX5_endsAt_1 0 rfl rfl)
theorem dX5_endsAt_27 : decode cX5_endsAt 27 = .ok (.aload_n 0, 1) := dk_42 (dk_at dksX5_endsAt_1 3 rfl rfl)
theorem dX5_endsAt_28 : decode cX5_endsAt 28 = .ok (.getfield 16, 3) := dk_180 0 16 (dk_at dksX5_endsAt_1 4 rfl rfl)
theorem dX5_endsAt_31 : decode cX5_endsAt 31 = .ok (.if_icmp .ne 7, 3) := dk_160 0 7 (dk_at dksX5_endsAt_1 7 rfl rfl)
theorem dX5_endsAt_34 : decode cX5_endsAt 34 = .ok (.iconst 1, 1) := dk_4 (dk_at dksX5_endsAt_1 10 rfl rfl)
theorem dX5_endsAt_35 : decode cX5_endsAt 35 = .ok (.goto 4, 3) := dk_167 0 4 (dk_at dksX5_endsAt_1 11 rfl rfl)
theorem dX5_endsAt_38 : decode cX5_endsAt 38 = .ok (.iconst 0, 1) := dk_3 (dk_at dksX5_endsAt_1 14 rfl rfl)
theorem dX5_endsAt_39 : decode cX5_endsAt 39 = .ok (.ireturn, 1) := dk_172 (dk_at dksX5_endsAt_1 15 rfl rfl)
abbrev cX5_init : ByteArray := prog_14_method_1_code
def yX5_init : MethodName := ⟨RX5, "<init>", "(I)V"⟩
def dkwX5_init_2 : List UInt8 := [177]
abbrev dktX5_init_2 : List UInt8 := dkwX5_init_2 ++ []
def dkwX5_init_1 : List UInt8 := [27, 104, 162, 0, 22, 42, 180, 0, 10, 184, 0, 20, 185, 0, 26, 2, 0, 87, 132, 2, 1, 167, 255, 233]
abbrev dktX5_init_1 : List UInt8 := dkwX5_init_1 ++ dktX5_init_2
def dkwX5_init_0 : List UInt8 := [42, 183, 0, 1, 42, 187, 0, 7, 89, 183, 0, 9, 181, 0, 10, 42, 27, 181, 0, 16, 3, 61, 28, 5]
abbrev dktX5_init_0 : List UInt8 := dkwX5_init_0 ++ dktX5_init_1
theorem dksX5_init_0 : cX5_init.data.toList.drop 0 = dktX5_init_0 := by decide +kernel
theorem dksX5_init_1 : cX5_init.data.toList.drop 24 = dktX5_init_1 := dk_seg dksX5_init_0 24 rfl rfl
theorem dksX5_init_2 : cX5_init.data.toList.drop 48 = dktX5_init_2 := dk_seg dksX5_init_1 24 rfl rfl
theorem dX5_init_0 : decode cX5_init 0 = .ok (.aload_n 0, 1) := dk_42 (dk_at dksX5_init_0 0 rfl rfl)
theorem dX5_init_1 : decode cX5_init 1 = .ok (.invokespecial 1, 3) := dk_183 0 1 (dk_at dksX5_init_0 1 rfl rfl)
theorem dX5_init_4 : decode cX5_init 4 = .ok (.aload_n 0, 1) := dk_42 (dk_at dksX5_init_0 4 rfl rfl)
theorem dX5_init_5 : decode cX5_init 5 = .ok (.new 7, 3) := dk_187 0 7 (dk_at dksX5_init_0 5 rfl rfl)
theorem dX5_init_8 : decode cX5_init 8 = .ok (.dup, 1) := dk_89 (dk_at dksX5_init_0 8 rfl rfl)
theorem dX5_init_9 : decode cX5_init 9 = .ok (.invokespecial 9, 3) := dk_183 0 9 (dk_at dksX5_init_0 9 rfl rfl)
theorem dX5_init_12 : decode cX5_init 12 = .ok (.putfield 10, 3) := dk_181 0 10 (dk_at dksX5_init_0 12 rfl rfl)
theorem dX5_init_15 : decode cX5_init 15 = .ok (.aload_n 0, 1) := dk_42 (dk_at dksX5_init_0 15 rfl rfl)
theorem dX5_init_16 : decode cX5_init 16 = .ok (.iload_n 1, 1) := dk_27 (dk_at dksX5_init_0 16 rfl rfl)
theorem dX5_init_17 : decode cX5_init 17 = .ok (.putfield 16, 3) := dk_181 0 16 (dk_at dksX5_init_0 17 rfl rfl)
theorem dX5_init_20 : decode cX5_init 20 = .ok (.iconst 0, 1) := dk_3 (dk_at dksX5_init_0 20 rfl rfl)
theorem dX5_init_21 : decode cX5_init 21 = .ok (.istore_n 2, 1) := dk_61 (dk_at dksX5_init_0 21 rfl rfl)
theorem dX5_init_22 : decode cX5_init 22 = .ok (.iload_n 2, 1) := dk_28 (dk_at dksX5_init_0 22 rfl rfl)
theorem dX5_init_23 : decode cX5_init 23 = .ok (.iconst 2, 1) := dk_5 (dk_at dksX5_init_0 23 rfl rfl)
theorem dX5_init_24 : decode cX5_init 24 = .ok (.iload_n 1, 1) := dk_27 (dk_at dksX5_init_1 0 rfl rfl)
theorem dX5_init_25 : decode cX5_init 25 = .ok (.imul, 1) := dk_104 (dk_at dksX5_init_1 1 rfl rfl)
theorem dX5_init_26 : decode cX5_init 26 = .ok (.if_icmp .ge 22, 3) := dk_162 0 22 (dk_at dksX5_init_1 2 rfl rfl)
theorem dX5_init_29 : decode cX5_init 29 = .ok (.aload_n 0, 1) := dk_42 (dk_at dksX5_init_1 5 rfl rfl)
theorem dX5_init_30 : decode cX5_init 30 = .ok (.getfield 10, 3) := dk_180 0 10 (dk_at dksX5_init_1 6 rfl rfl)
theorem dX5_init_33 : decode cX5_init 33 = .ok (.invokestatic 20, 3) := dk_184 0 20 (dk_at dksX5_init_1 9 rfl rfl)
theorem dX5_init_36 : decode cX5_init 36 = .ok (.invokeinterface 26 2, 5) := by decide +kernel
theorem dX5_init_41 : decode cX5_init 41 = .ok (.pop, 1) := dk_87 (dk_at dksX5_init_1 17 rfl rfl)
theorem dX5_init_42 : decode cX5_init 42 = .ok (.iinc 2 1, 3) := dk_132 2 1 (dk_at dksX5_init_1 18 rfl rfl)
theorem dX5_init_45 : decode cX5_init 45 = .ok (.goto (-23), 3) := dk_167 255 233 (dk_at dksX5_init_1 21 rfl rfl)
theorem dX5_init_48 : decode cX5_init 48 = .ok (.return_, 1) := dk_177 (dk_at dksX5_init_2 0 rfl rfl)
abbrev cX5_set : ByteArray := prog_14_method_4_code
def yX5_set : MethodName := ⟨RX5, "set", "(IILHaltingale$Rule;)V"⟩
def dkwX5_set_0 : List UInt8 := [42, 180, 0, 10, 5, 27, 104, 28, 96, 45, 184, 0, 47, 185, 0, 43, 3, 0, 87, 177]
abbrev dktX5_set_0 : List UInt8 := dkwX5_set_0 ++ []
theorem dksX5_set_0 : cX5_set.data.toList.drop 0 = dktX5_set_0 := by decide +kernel
theorem dX5_set_0 : decode cX5_set 0 = .ok (.aload_n 0, 1) := dk_42 (dk_at dksX5_set_0 0 rfl rfl)
theorem dX5_set_1 : decode cX5_set 1 = .ok (.getfield 10, 3) := dk_180 0 10 (dk_at dksX5_set_0 1 rfl rfl)
theorem dX5_set_4 : decode cX5_set 4 = .ok (.iconst 2, 1) := dk_5 (dk_at dksX5_set_0 4 rfl rfl)
theorem dX5_set_5 : decode cX5_set 5 = .ok (.iload_n 1, 1) := dk_27 (dk_at dksX5_set_0 5 rfl rfl)
theorem dX5_set_6 : decode cX5_set 6 = .ok (.imul, 1) := dk_104 (dk_at dksX5_set_0 6 rfl rfl)
theorem dX5_set_7 : decode cX5_set 7 = .ok (.iload_n 2, 1) := dk_28 (dk_at dksX5_set_0 7 rfl rfl)
theorem dX5_set_8 : decode cX5_set 8 = .ok (.iadd, 1) := dk_96 (dk_at dksX5_set_0 8 rfl rfl)
theorem dX5_set_9 : decode cX5_set 9 = .ok (.aload_n 3, 1) := dk_45 (dk_at dksX5_set_0 9 rfl rfl)
theorem dX5_set_10 : decode cX5_set 10 = .ok (.invokestatic 47, 3) := dk_184 0 47 (dk_at dksX5_set_0 10 rfl rfl)
theorem dX5_set_13 : decode cX5_set 13 = .ok (.invokeinterface 43 3, 5) := by decide +kernel
theorem dX5_set_18 : decode cX5_set 18 = .ok (.pop, 1) := dk_87 (dk_at dksX5_set_0 18 rfl rfl)
theorem dX5_set_19 : decode cX5_set 19 = .ok (.return_, 1) := dk_177 (dk_at dksX5_set_0 19 rfl rfl)
abbrev cX5_copy : ByteArray := prog_14_method_2_code
def yX5_copy : MethodName := ⟨RX5, "copy", "()LHaltingale$Table;"⟩
def dkwX5_copy_2 : List UInt8 := [185, 0, 43, 3, 0, 87, 132, 2, 1, 167, 255, 216, 43, 176]
abbrev dktX5_copy_2 : List UInt8 := dkwX5_copy_2 ++ []
def dkwX5_copy_1 : List UInt8 := [162, 0, 33, 43, 180, 0, 10, 28, 42, 180, 0, 10, 28, 185, 0, 39, 2, 0, 192, 0, 21]
abbrev dktX5_copy_1 : List UInt8 := dkwX5_copy_1 ++ dktX5_copy_2
def dkwX5_copy_0 : List UInt8 := [187, 0, 11, 89, 42, 180, 0, 16, 183, 0, 32, 76, 3, 61, 28, 42, 180, 0, 10, 185, 0, 35, 1, 0]
abbrev dktX5_copy_0 : List UInt8 := dkwX5_copy_0 ++ dktX5_copy_1
theorem dksX5_copy_0 : cX5_copy.data.toList.drop 0 = dktX5_copy_0 := by decide +kernel
theorem dksX5_copy_1 : cX5_copy.data.toList.drop 24 = dktX5_copy_1 := dk_seg dksX5_copy_0 24 rfl rfl
theorem dksX5_copy_2 : cX5_copy.data.toList.drop 45 = dktX5_copy_2 := dk_seg dksX5_copy_1 21 rfl rfl
theorem dX5_copy_0 : decode cX5_copy 0 = .ok (.new 11, 3) := dk_187 0 11 (dk_at dksX5_copy_0 0 rfl rfl)
theorem dX5_copy_3 : decode cX5_copy 3 = .ok (.dup, 1) := dk_89 (dk_at dksX5_copy_0 3 rfl rfl)
theorem dX5_copy_4 : decode cX5_copy 4 = .ok (.aload_n 0, 1) := dk_42 (dk_at dksX5_copy_0 4 rfl rfl)
theorem dX5_copy_5 : decode cX5_copy 5 = .ok (.getfield 16, 3) := dk_180 0 16 (dk_at dksX5_copy_0 5 rfl rfl)
theorem dX5_copy_8 : decode cX5_copy 8 = .ok (.invokespecial 32, 3) := dk_183 0 32 (dk_at dksX5_copy_0 8 rfl rfl)
theorem dX5_copy_11 : decode cX5_copy 11 = .ok (.astore_n 1, 1) := dk_76 (dk_at dksX5_copy_0 11 rfl rfl)
theorem dX5_copy_12 : decode cX5_copy 12 = .ok (.iconst 0, 1) := dk_3 (dk_at dksX5_copy_0 12 rfl rfl)
theorem dX5_copy_13 : decode cX5_copy 13 = .ok (.istore_n 2, 1) := dk_61 (dk_at dksX5_copy_0 13 rfl rfl)
theorem dX5_copy_14 : decode cX5_copy 14 = .ok (.iload_n 2, 1) := dk_28 (dk_at dksX5_copy_0 14 rfl rfl)
theorem dX5_copy_15 : decode cX5_copy 15 = .ok (.aload_n 0, 1) := dk_42 (dk_at dksX5_copy_0 15 rfl rfl)
theorem dX5_copy_16 : decode cX5_copy 16 = .ok (.getfield 10, 3) := dk_180 0 10 (dk_at dksX5_copy_0 16 rfl rfl)
theorem dX5_copy_19 : decode cX5_copy 19 = .ok (.invokeinterface 35 1, 5) := by decide +kernel
theorem dX5_copy_24 : decode cX5_copy 24 = .ok (.if_icmp .ge 33, 3) := dk_162 0 33 (dk_at dksX5_copy_1 0 rfl rfl)
theorem dX5_copy_27 : decode cX5_copy 27 = .ok (.aload_n 1, 1) := dk_43 (dk_at dksX5_copy_1 3 rfl rfl)
theorem dX5_copy_28 : decode cX5_copy 28 = .ok (.getfield 10, 3) := dk_180 0 10 (dk_at dksX5_copy_1 4 rfl rfl)
theorem dX5_copy_31 : decode cX5_copy 31 = .ok (.iload_n 2, 1) := dk_28 (dk_at dksX5_copy_1 7 rfl rfl)
theorem dX5_copy_32 : decode cX5_copy 32 = .ok (.aload_n 0, 1) := dk_42 (dk_at dksX5_copy_1 8 rfl rfl)
theorem dX5_copy_33 : decode cX5_copy 33 = .ok (.getfield 10, 3) := dk_180 0 10 (dk_at dksX5_copy_1 9 rfl rfl)
theorem dX5_copy_36 : decode cX5_copy 36 = .ok (.iload_n 2, 1) := dk_28 (dk_at dksX5_copy_1 12 rfl rfl)
theorem dX5_copy_37 : decode cX5_copy 37 = .ok (.invokeinterface 39 2, 5) := by decide +kernel
theorem dX5_copy_42 : decode cX5_copy 42 = .ok (.checkcast 21, 3) := dk_192 0 21 (dk_at dksX5_copy_1 18 rfl rfl)
theorem dX5_copy_45 : decode cX5_copy 45 = .ok (.invokeinterface 43 3, 5) := by decide +kernel
theorem dX5_copy_50 : decode cX5_copy 50 = .ok (.pop, 1) := dk_87 (dk_at dksX5_copy_2 5 rfl rfl)
theorem dX5_copy_51 : decode cX5_copy 51 = .ok (.iinc 2 1, 3) := dk_132 2 1 (dk_at dksX5_copy_2 6 rfl rfl)
theorem dX5_copy_54 : decode cX5_copy 54 = .ok (.goto (-40), 3) := dk_167 255 216 (dk_at dksX5_copy_2 9 rfl rfl)
theorem dX5_copy_57 : decode cX5_copy 57 = .ok (.aload_n 1, 1) := dk_43 (dk_at dksX5_copy_2 12 rfl rfl)
theorem dX5_copy_58 : decode cX5_copy 58 = .ok (.areturn, 1) := dk_176 (dk_at dksX5_copy_2 13 rfl rfl)
abbrev cX5_isAs : ByteArray := prog_14_method_8_code
def yX5_isAs : MethodName := ⟨RX5, "isAs", "(LHaltingale$Table;Z)Z"⟩
def dkwX5_isAs_7 : List UInt8 := [3, 172, 132, 3, 1, 167, 255, 105, 4, 172]
abbrev dktX5_isAs_7 : List UInt8 := dkwX5_isAs_7 ++ []
def dkwX5_isAs_6 : List UInt8 := [180, 0, 10, 29, 185, 0, 39, 2, 0, 192, 0, 21, 182, 0, 59, 192, 0, 62, 182, 0, 80, 154, 0, 5]
abbrev dktX5_isAs_6 : List UInt8 := dkwX5_isAs_6 ++ dktX5_isAs_7
def dkwX5_isAs_5 : List UInt8 := [42, 180, 0, 10, 29, 185, 0, 39, 2, 0, 192, 0, 21, 182, 0, 59, 192, 0, 62, 58, 4, 25, 4, 43]
abbrev dktX5_isAs_5 : List UInt8 := dkwX5_isAs_5 ++ dktX5_isAs_6
def dkwX5_isAs_4 : List UInt8 := [180, 0, 10, 29, 185, 0, 39, 2, 0, 192, 0, 21, 182, 0, 59, 192, 0, 62, 182, 0, 76, 167, 0, 22]
abbrev dktX5_isAs_4 : List UInt8 := dkwX5_isAs_4 ++ dktX5_isAs_5
def dkwX5_isAs_3 : List UInt8 := [180, 0, 10, 29, 185, 0, 39, 2, 0, 192, 0, 21, 182, 0, 51, 153, 0, 82, 28, 153, 0, 28, 42]
abbrev dktX5_isAs_3 : List UInt8 := dkwX5_isAs_3 ++ dktX5_isAs_4
def dkwX5_isAs_2 : List UInt8 := [43, 180, 0, 10, 29, 185, 0, 39, 2, 0, 192, 0, 21, 182, 0, 51, 159, 0, 5, 3, 172, 42]
abbrev dktX5_isAs_2 : List UInt8 := dkwX5_isAs_2 ++ dktX5_isAs_3
def dkwX5_isAs_1 : List UInt8 := [185, 0, 35, 1, 0, 162, 0, 144, 42, 180, 0, 10, 29, 185, 0, 39, 2, 0, 192, 0, 21, 182, 0, 51]
abbrev dktX5_isAs_1 : List UInt8 := dkwX5_isAs_1 ++ dktX5_isAs_2
def dkwX5_isAs_0 : List UInt8 := [42, 180, 0, 16, 43, 180, 0, 16, 159, 0, 5, 3, 172, 3, 62, 29, 42, 180, 0, 10]
abbrev dktX5_isAs_0 : List UInt8 := dkwX5_isAs_0 ++ dktX5_isAs_1
theorem dksX5_isAs_0 : cX5_isAs.data.toList.drop 0 = dktX5_isAs_0 := by decide +kernel
theorem dksX5_isAs_1 : cX5_isAs.data.toList.drop 20 = dktX5_isAs_1 := dk_seg dksX5_isAs_0 20 rfl rfl
theorem dksX5_isAs_2 : cX5_isAs.data.toList.drop 44 = dktX5_isAs_2 := dk_seg dksX5_isAs_1 24 rfl rfl
theorem dksX5_isAs_3 : cX5_isAs.data.toList.drop 66 = dktX5_isAs_3 := dk_seg dksX5_isAs_2 22 rfl rfl
theorem dksX5_isAs_4 : cX5_isAs.data.toList.drop 89 = dktX5_isAs_4 := dk_seg dksX5_isAs_3 23 rfl rfl
theorem dksX5_isAs_5 : cX5_isAs.data.toList.drop 113 = dktX5_isAs_5 := dk_seg dksX5_isAs_4 24 rfl rfl
theorem dksX5_isAs_6 : cX5_isAs.data.toList.drop 137 = dktX5_isAs_6 := dk_seg dksX5_isAs_5 24 rfl rfl
theorem dksX5_isAs_7 : cX5_isAs.data.toList.drop 161 = dktX5_isAs_7 := dk_seg dksX5_isAs_6 24 rfl rfl
theorem dX5_isAs_0 : decode cX5_isAs 0 = .ok (.aload_n 0, 1) := dk_42 (dk_at dksX5_isAs_0 0 rfl rfl)
theorem dX5_isAs_1 : decode cX5_isAs 1 = .ok (.getfield 16, 3) := dk_180 0 16 (dk_at dksX5_isAs_0 1 rfl rfl)
theorem dX5_isAs_4 : decode cX5_isAs 4 = .ok (.aload_n 1, 1) := dk_43 (dk_at dksX5_isAs_0 4 rfl rfl)
theorem dX5_isAs_5 : decode cX5_isAs 5 = .ok (.getfield 16, 3) := dk_180 0 16 (dk_at dksX5_isAs_0 5 rfl rfl)
theorem dX5_isAs_8 : decode cX5_isAs 8 = .ok (.if_icmp .eq 5, 3) := dk_159 0 5 (dk_at dksX5_isAs_0 8 rfl rfl)
theorem dX5_isAs_11 : decode cX5_isAs 11 = .ok (.iconst 0, 1) := dk_3 (dk_at dksX5_isAs_0 11 rfl rfl)
theorem dX5_isAs_12 : decode cX5_isAs 12 = .ok (.ireturn, 1) := dk_172 (dk_at dksX5_isAs_0 12 rfl rfl)
theorem dX5_isAs_13 : decode cX5_isAs 13 = .ok (.iconst 0, 1) := dk_3 (dk_at dksX5_isAs_0 13 rfl rfl)
theorem dX5_isAs_14 : decode cX5_isAs 14 = .ok (.istore_n 3, 1) := dk_62 (dk_at dksX5_isAs_0 14 rfl rfl)
theorem dX5_isAs_15 : decode cX5_isAs 15 = .ok (.iload_n 3, 1) := dk_29 (dk_at dksX5_isAs_0 15 rfl rfl)
theorem dX5_isAs_16 : decode cX5_isAs 16 = .ok (.aload_n 0, 1) := dk_42 (dk_at dksX5_isAs_0 16 rfl rfl)
theorem dX5_isAs_17 : decode cX5_isAs 17 = .ok (.getfield 10, 3) := dk_180 0 10 (dk_at dksX5_isAs_0 17 rfl rfl)
theorem dX5_isAs_20 : decode cX5_isAs 20 = .ok (.invokeinterface 35 1, 5) := by decide +kernel
theorem dX5_isAs_25 : decode cX5_isAs 25 = .ok (.if_icmp .ge 144, 3) := dk_162 0 144 (dk_at dksX5_isAs_1 5 rfl rfl)
theorem dX5_isAs_28 : decode cX5_isAs 28 = .ok (.aload_n 0, 1) := dk_42 (dk_at dksX5_isAs_1 8 rfl rfl)
theorem dX5_isAs_29 : decode cX5_isAs 29 = .ok (.getfield 10, 3) := dk_180 0 10 (dk_at dksX5_isAs_1 9 rfl rfl)
theorem dX5_isAs_32 : decode cX5_isAs 32 = .ok (.iload_n 3, 1) := dk_29 (dk_at dksX5_isAs_1 12 rfl rfl)
theorem dX5_isAs_33 : decode cX5_isAs 33 = .ok (.invokeinterface 39 2, 5) := by decide +kernel
theorem dX5_isAs_38 : decode cX5_isAs 38 = .ok (.checkcast 21, 3) := dk_192 0 21 (dk_at dksX5_isAs_1 18 rfl rfl)
theorem dX5_isAs_41 : decode cX5_isAs 41 = .ok (.invokevirtual 51, 3) := dk_182 0 51 (dk_at dksX5_isAs_1 21 rfl rfl)
theorem dX5_isAs_44 : decode cX5_isAs 44 = .ok (.aload_n 1, 1) := dk_43 (dk_at dksX5_isAs_2 0 rfl rfl)
theorem dX5_isAs_45 : decode cX5_isAs 45 = .ok (.getfield 10, 3) := dk_180 0 10 (dk_at dksX5_isAs_2 1 rfl rfl)
theorem dX5_isAs_48 : decode cX5_isAs 48 = .ok (.iload_n 3, 1) := dk_29 (dk_at dksX5_isAs_2 4 rfl rfl)
theorem dX5_isAs_49 : decode cX5_isAs 49 = .ok (.invokeinterface 39 2, 5) := by decide +kernel
theorem dX5_isAs_54 : decode cX5_isAs 54 = .ok (.checkcast 21, 3) := dk_192 0 21 (dk_at dksX5_isAs_2 10 rfl rfl)
theorem dX5_isAs_57 : decode cX5_isAs 57 = .ok (.invokevirtual 51, 3) := dk_182 0 51 (dk_at dksX5_isAs_2 13 rfl rfl)
theorem dX5_isAs_60 : decode cX5_isAs 60 = .ok (.if_icmp .eq 5, 3) := dk_159 0 5 (dk_at dksX5_isAs_2 16 rfl rfl)
theorem dX5_isAs_63 : decode cX5_isAs 63 = .ok (.iconst 0, 1) := dk_3 (dk_at dksX5_isAs_2 19 rfl rfl)
theorem dX5_isAs_64 : decode cX5_isAs 64 = .ok (.ireturn, 1) := dk_172 (dk_at dksX5_isAs_2 20 rfl rfl)
theorem dX5_isAs_65 : decode cX5_isAs 65 = .ok (.aload_n 0, 1) := dk_42 (dk_at dksX5_isAs_2 21 rfl rfl)
theorem dX5_isAs_66 : decode cX5_isAs 66 = .ok (.getfield 10, 3) := dk_180 0 10 (dk_at dksX5_isAs_3 0 rfl rfl)
theorem dX5_isAs_69 : decode cX5_isAs 69 = .ok (.iload_n 3, 1) := dk_29 (dk_at dksX5_isAs_3 3 rfl rfl)
theorem dX5_isAs_70 : decode cX5_isAs 70 = .ok (.invokeinterface 39 2, 5) := by decide +kernel
theorem dX5_isAs_75 : decode cX5_isAs 75 = .ok (.checkcast 21, 3) := dk_192 0 21 (dk_at dksX5_isAs_3 9 rfl rfl)
theorem dX5_isAs_78 : decode cX5_isAs 78 = .ok (.invokevirtual 51, 3) := dk_182 0 51 (dk_at dksX5_isAs_3 12 rfl rfl)
theorem dX5_isAs_81 : decode cX5_isAs 81 = .ok (.ifCond .eq 82, 3) := dk_153 0 82 (dk_at dksX5_isAs_3 15 rfl rfl)
theorem dX5_isAs_84 : decode cX5_isAs 84 = .ok (.iload_n 2, 1) := dk_28 (dk_at dksX5_isAs_3 18 rfl rfl)
theorem dX5_isAs_85 : decode cX5_isAs 85 = .ok (.ifCond .eq 28, 3) := dk_153 0 28 (dk_at dksX5_isAs_3 19 rfl rfl)
theorem dX5_isAs_88 : decode cX5_isAs 88 = .ok (.aload_n 0, 1) := dk_42 (dk_at dksX5_isAs_3 22 rfl rfl)
theorem dX5_isAs_89 : decode cX5_isAs 89 = .ok (.getfield 10, 3) := dk_180 0 10 (dk_at dksX5_isAs_4 0 rfl rfl)
theorem dX5_isAs_92 : decode cX5_isAs 92 = .ok (.iload_n 3, 1) := dk_29 (dk_at dksX5_isAs_4 3 rfl rfl)
theorem dX5_isAs_93 : decode cX5_isAs 93 = .ok (.invokeinterface 39 2, 5) := by decide +kernel
theorem dX5_isAs_98 : decode cX5_isAs 98 = .ok (.checkcast 21, 3) := dk_192 0 21 (dk_at dksX5_isAs_4 9 rfl rfl)
theorem dX5_isAs_101 : decode cX5_isAs 101 = .ok (.invokevirtual 59, 3) := dk_182 0 59 (dk_at dksX5_isAs_4 12 rfl rfl)
theorem dX5_isAs_104 : decode cX5_isAs 104 = .ok (.checkcast 62, 3) := dk_192 0 62 (dk_at dksX5_isAs_4 15 rfl rfl)
theorem dX5_isAs_107 : decode cX5_isAs 107 = .ok (.invokevirtual 76, 3) := dk_182 0 76 (dk_at dksX5_isAs_4 18 rfl rfl)
theorem dX5_isAs_110 : decode cX5_isAs 110 = .ok (.goto 22, 3) := dk_167 0 22 (dk_at dksX5_isAs_4 21 rfl rfl)
theorem dX5_isAs_113 : decode cX5_isAs 113 = .ok (.aload_n 0, 1) := dk_42 (dk_at dksX5_isAs_5 0 rfl rfl)
theorem dX5_isAs_114 : decode cX5_isAs 114 = .ok (.getfield 10, 3) := dk_180 0 10 (dk_at dksX5_isAs_5 1 rfl rfl)
theorem dX5_isAs_117 : decode cX5_isAs 117 = .ok (.iload_n 3, 1) := dk_29 (dk_at dksX5_isAs_5 4 rfl rfl)
theorem dX5_isAs_118 : decode cX5_isAs 118 = .ok (.invokeinterface 39 2, 5) := by decide +kernel
theorem dX5_isAs_123 : decode cX5_isAs 123 = .ok (.checkcast 21, 3) := dk_192 0 21 (dk_at dksX5_isAs_5 10 rfl rfl)
theorem dX5_isAs_126 : decode cX5_isAs 126 = .ok (.invokevirtual 59, 3) := dk_182 0 59 (dk_at dksX5_isAs_5 13 rfl rfl)
theorem dX5_isAs_129 : decode cX5_isAs 129 = .ok (.checkcast 62, 3) := dk_192 0 62 (dk_at dksX5_isAs_5 16 rfl rfl)
theorem dX5_isAs_132 : decode cX5_isAs 132 = .ok (.astore 4, 2) := dk_58 4 (dk_at dksX5_isAs_5 19 rfl rfl)
theorem dX5_isAs_134 : decode cX5_isAs 134 = .ok (.aload 4, 2) := dk_25 4 (dk_at dksX5_isAs_5 21 rfl rfl)
theorem dX5_isAs_136 : decode cX5_isAs 136 = .ok (.aload_n 1, 1) := dk_43 (dk_at dksX5_isAs_5 23 rfl rfl)
theorem dX5_isAs_137 : decode cX5_isAs 137 = .ok (.getfield 10, 3) := dk_180 0 10 (dk_at dksX5_isAs_6 0 rfl rfl)
theorem dX5_isAs_140 : decode cX5_isAs 140 = .ok (.iload_n 3, 1) := dk_29 (dk_at dksX5_isAs_6 3 rfl rfl)
theorem dX5_isAs_141 : decode cX5_isAs 141 = .ok (.invokeinterface 39 2, 5) := by decide +kernel
theorem dX5_isAs_146 : decode cX5_isAs 146 = .ok (.checkcast 21, 3) := dk_192 0 21 (dk_at dksX5_isAs_6 9 rfl rfl)
theorem dX5_isAs_149 : decode cX5_isAs 149 = .ok (.invokevirtual 59, 3) := dk_182 0 59 (dk_at dksX5_isAs_6 12 rfl rfl)
theorem dX5_isAs_152 : decode cX5_isAs 152 = .ok (.checkcast 62, 3) := dk_192 0 62 (dk_at dksX5_isAs_6 15 rfl rfl)
theorem dX5_isAs_155 : decode cX5_isAs 155 = .ok (.invokevirtual 80, 3) := dk_182 0 80 (dk_at dksX5_isAs_6 18 rfl rfl)
theorem dX5_isAs_158 : decode cX5_isAs 158 = .ok (.ifCond .ne 5, 3) := dk_154 0 5 (dk_at dksX5_isAs_6 21 rfl rfl)
theorem dX5_isAs_161 : decode cX5_isAs 161 = .ok (.iconst 0, 1) := dk_3 (dk_at dksX5_isAs_7 0 rfl rfl)
theorem dX5_isAs_162 : decode cX5_isAs 162 = .ok (.ireturn, 1) := dk_172 (dk_at dksX5_isAs_7 1 rfl rfl)
theorem dX5_isAs_163 : decode cX5_isAs 163 = .ok (.iinc 3 1, 3) := dk_132 3 1 (dk_at dksX5_isAs_7 2 rfl rfl)
theorem dX5_isAs_166 : decode cX5_isAs 166 = .ok (.goto (-151), 3) := dk_167 255 105 (dk_at dksX5_isAs_7 5 rfl rfl)
theorem dX5_isAs_169 : decode cX5_isAs 169 = .ok (.iconst 1, 1) := dk_4 (dk_at dksX5_isAs_7 8 rfl rfl)
theorem dX5_isAs_170 : decode cX5_isAs 170 = .ok (.ireturn, 1) := dk_172 (dk_at dksX5_isAs_7 9 rfl rfl)
theorem q37 : (Jvm.Cond.initialized "Haltingale$Table") ∈ lw_all := lw_g (lw_at lw_m1 13 rfl) rfl
theorem q210 : (Jvm.Cond.instanceMethod ({ cls := "Haltingale$Table", name := "empty", desc := "()I" } : Jvm.MethodName)) ∈ lw_all := lw_g (lw_at lw_m1 186 rfl) rfl
theorem q211 : (Jvm.Cond.selects "Haltingale$Table" ({ cls := "Haltingale$Table", name := "empty", desc := "()I" } : Jvm.MethodName) ({ cls := "Haltingale$Table", name := "empty", desc := "()I" } : Jvm.MethodName)) ∈ lw_all := lw_g (lw_at lw_m1 187 rfl) rfl
theorem q212 : (Jvm.Cond.code ({ cls := "Haltingale$Table", name := "empty", desc := "()I" } : Jvm.MethodName) prog_14_method_5_code (3 : Nat) (Option.some Jvm.ClassFile.FieldType.int)) ∈ lw_all := lw_g (lw_at lw_m1 188 rfl) rfl
theorem q213 : (Jvm.Cond.interfaceEntry "Haltingale$Table" (35 : Nat)) ∈ lw_tbl := lw_at lw_m1 189 rfl
theorem q214 : (Jvm.Cond.methodLink "Haltingale$Table" (35 : Nat) ({ cls := "java/util/List", name := "size", desc := "()I" } : Jvm.MethodName)) ∈ lw_all := lw_g (lw_at lw_m1 190 rfl) rfl
theorem q215 : (Jvm.Cond.interfaceEntry "Haltingale$Table" (39 : Nat)) ∈ lw_tbl := lw_at lw_m1 191 rfl
theorem q216 : (Jvm.Cond.methodLink "Haltingale$Table" (39 : Nat) ({ cls := "java/util/List", name := "get", desc := "(I)Ljava/lang/Object;" } : Jvm.MethodName)) ∈ lw_all := lw_g (lw_at lw_m1 192 rfl) rfl
theorem q217 : (Jvm.Cond.classLink "Haltingale$Table" (21 : Nat) "java/util/Optional") ∈ lw_all := lw_g (lw_at lw_m1 193 rfl) rfl
theorem q218 : (Jvm.Cond.methodLink "Haltingale$Table" (51 : Nat) ({ cls := "java/util/Optional", name := "isPresent", desc := "()Z" } : Jvm.MethodName)) ∈ lw_all := lw_g (lw_at lw_m1 194 rfl) rfl
theorem q380 : (Jvm.Cond.instanceMethod ({ cls := "Haltingale$Table", name := "cell", desc := "(II)Ljava/util/Optional;" } : Jvm.MethodName)) ∈ lw_all := lw_g (lw_at lw_m2 116 rfl) rfl
theorem q381 : (Jvm.Cond.selects "Haltingale$Table" ({ cls := "Haltingale$Table", name := "cell", desc := "(II)Ljava/util/Optional;" } : Jvm.MethodName) ({ cls := "Haltingale$Table", name := "cell", desc := "(II)Ljava/util/Optional;" } : Jvm.MethodName)) ∈ lw_all := lw_g (lw_at lw_m2 117 rfl) rfl
theorem q382 : (Jvm.Cond.code ({ cls := "Haltingale$Table", name := "cell", desc := "(II)Ljava/util/Optional;" } : Jvm.MethodName) prog_14_method_3_code (3 : Nat) (Option.some (Jvm.ClassFile.FieldType.object "java/util/Optional"))) ∈ lw_all := lw_g (lw_at lw_m2 118 rfl) rfl
theorem q415 : (Jvm.Cond.instanceMethod ({ cls := "Haltingale$Table", name := "reachable", desc := "()I" } : Jvm.MethodName)) ∈ lw_all := lw_g (lw_at lw_m2 151 rfl) rfl
theorem q416 : (Jvm.Cond.selects "Haltingale$Table" ({ cls := "Haltingale$Table", name := "reachable", desc := "()I" } : Jvm.MethodName) ({ cls := "Haltingale$Table", name := "reachable", desc := "()I" } : Jvm.MethodName)) ∈ lw_all := lw_g (lw_at lw_m2 152 rfl) rfl
theorem q417 : (Jvm.Cond.code ({ cls := "Haltingale$Table", name := "reachable", desc := "()I" } : Jvm.MethodName) prog_14_method_7_code (4 : Nat) (Option.some Jvm.ClassFile.FieldType.int)) ∈ lw_all := lw_g (lw_at lw_m2 153 rfl) rfl
theorem q418 : (Jvm.Cond.methodLink "Haltingale$Table" (59 : Nat) ({ cls := "java/util/Optional", name := "get", desc := "()Ljava/lang/Object;" } : Jvm.MethodName)) ∈ lw_all := lw_g (lw_at lw_m2 154 rfl) rfl
theorem q419 : (Jvm.Cond.classLink "Haltingale$Table" (62 : Nat) "Haltingale$Rule") ∈ lw_all := lw_g (lw_at lw_m2 155 rfl) rfl
theorem q420 : (Jvm.Cond.methodLink "Haltingale$Table" (67 : Nat) ({ cls := "java/lang/Math", name := "max", desc := "(II)I" } : Jvm.MethodName)) ∈ lw_all := lw_g (lw_at lw_m2 156 rfl) rfl
theorem q421 : (Jvm.Cond.methodLink "Haltingale$Table" (73 : Nat) ({ cls := "java/lang/Math", name := "min", desc := "(II)I" } : Jvm.MethodName)) ∈ lw_all := lw_g (lw_at lw_m2 157 rfl) rfl
theorem q531 : (Jvm.Cond.selects "Haltingale$Table" ({ cls := "java/lang/Object", name := "getClass", desc := "()Ljava/lang/Class;" } : Jvm.MethodName) ({ cls := "java/lang/Object", name := "getClass", desc := "()Ljava/lang/Class;" } : Jvm.MethodName)) ∈ lw_all := lw_g (lw_at lw_m3 27 rfl) rfl
theorem q581 : (Jvm.Cond.instanceMethod ({ cls := "Haltingale$Table", name := "endsAt", desc := "(II)Z" } : Jvm.MethodName)) ∈ lw_all := lw_g (lw_at lw_m3 77 rfl) rfl
theorem q582 : (Jvm.Cond.selects "Haltingale$Table" ({ cls := "Haltingale$Table", name := "endsAt", desc := "(II)Z" } : Jvm.MethodName) ({ cls := "Haltingale$Table", name := "endsAt", desc := "(II)Z" } : Jvm.MethodName)) ∈ lw_all := lw_g (lw_at lw_m3 78 rfl) rfl
theorem q583 : (Jvm.Cond.code ({ cls := "Haltingale$Table", name := "endsAt", desc := "(II)Z" } : Jvm.MethodName) prog_14_method_6_code (3 : Nat) (Option.some Jvm.ClassFile.FieldType.boolean)) ∈ lw_all := lw_g (lw_at lw_m3 79 rfl) rfl
theorem q584 : (Jvm.Cond.methodLink "Haltingale$Table" (55 : Nat) ({ cls := "Haltingale$Table", name := "cell", desc := "(II)Ljava/util/Optional;" } : Jvm.MethodName)) ∈ lw_all := lw_g (lw_at lw_m3 80 rfl) rfl
theorem q695 : (Jvm.Cond.instantiable "Haltingale$Table" (2 : Nat)) ∈ lw_all := lw_g (lw_at lw_m3 191 rfl) rfl
theorem q697 : (Jvm.Cond.instanceMethod ({ cls := "Haltingale$Table", name := "<init>", desc := "(I)V" } : Jvm.MethodName)) ∈ lw_all := lw_g (lw_at lw_m3 193 rfl) rfl
theorem q698 : (Jvm.Cond.code ({ cls := "Haltingale$Table", name := "<init>", desc := "(I)V" } : Jvm.MethodName) prog_14_method_1_code (3 : Nat) (Option.none : Option Jvm.ClassFile.FieldType)) ∈ lw_all := lw_g (lw_at lw_m3 194 rfl) rfl
theorem q699 : (Jvm.Cond.methodLink "Haltingale$Table" (1 : Nat) ({ cls := "java/lang/Object", name := "<init>", desc := "()V" } : Jvm.MethodName)) ∈ lw_all := lw_g (lw_at lw_m3 195 rfl) rfl
theorem q700 : (Jvm.Cond.classLink "Haltingale$Table" (7 : Nat) "java/util/ArrayList") ∈ lw_all := lw_g (lw_at lw_m3 196 rfl) rfl
theorem q701 : (Jvm.Cond.methodLink "Haltingale$Table" (9 : Nat) ({ cls := "java/util/ArrayList", name := "<init>", desc := "()V" } : Jvm.MethodName)) ∈ lw_all := lw_g (lw_at lw_m3 197 rfl) rfl
theorem q702 : (Jvm.Cond.methodLink "Haltingale$Table" (20 : Nat) ({ cls := "java/util/Optional", name := "empty", desc := "()Ljava/util/Optional;" } : Jvm.MethodName)) ∈ lw_all := lw_g (lw_at lw_m3 198 rfl) rfl
theorem q703 : (Jvm.Cond.interfaceEntry "Haltingale$Table" (26 : Nat)) ∈ lw_tbl := lw_at lw_m3 199 rfl
theorem q704 : (Jvm.Cond.methodLink "Haltingale$Table" (26 : Nat) ({ cls := "java/util/List", name := "add", desc := "(Ljava/lang/Object;)Z" } : Jvm.MethodName)) ∈ lw_all := lw_g (lw_at lw_m3 200 rfl) rfl
theorem q705 : (Jvm.Cond.fieldLink "Haltingale$Table" (16 : Nat) "Haltingale$Table" "states" "I") ∈ lw_all := lw_g (lw_at lw_m3 201 rfl) rfl
theorem q709 : (Jvm.Cond.fieldLink "Haltingale$Table" (10 : Nat) "Haltingale$Table" "cells" "Ljava/util/List;") ∈ lw_all := lw_g (lw_at lw_m3 205 rfl) rfl
theorem q710 : (Jvm.Cond.laysFinal "Haltingale$Table" "Haltingale$Table" "states" "I") ∈ lw_all := lw_g (lw_at lw_m3 206 rfl) rfl
theorem q711 : (Jvm.Cond.soleField "Haltingale$Table" "states") ∈ lw_all := lw_g (lw_at lw_m3 207 rfl) rfl
theorem q712 : (Jvm.Cond.laysFinal "Haltingale$Table" "Haltingale$Table" "cells" "Ljava/util/List;") ∈ lw_all := lw_g (lw_at lw_m3 208 rfl) rfl
theorem q713 : (Jvm.Cond.soleField "Haltingale$Table" "cells") ∈ lw_all := lw_g (lw_at lw_m3 209 rfl) rfl
theorem q714 : (Jvm.Cond.superclass "Haltingale$Table" "java/lang/Object") ∈ lw_all := lw_g (lw_at lw_m3 210 rfl) rfl
theorem q823 : (Jvm.Cond.fieldLinkNest "Haltingale$Table" (64 : Nat) "Haltingale$Rule" "next" "I" "Haltingale") ∈ lw_tbl := lw_at lw_m4 79 rfl
theorem q834 : (Jvm.Cond.instanceMethod ({ cls := "Haltingale$Table", name := "set", desc := "(IILHaltingale$Rule;)V" } : Jvm.MethodName)) ∈ lw_all := lw_g (lw_at lw_m4 90 rfl) rfl
theorem q835 : (Jvm.Cond.selects "Haltingale$Table" ({ cls := "Haltingale$Table", name := "set", desc := "(IILHaltingale$Rule;)V" } : Jvm.MethodName) ({ cls := "Haltingale$Table", name := "set", desc := "(IILHaltingale$Rule;)V" } : Jvm.MethodName)) ∈ lw_all := lw_g (lw_at lw_m4 91 rfl) rfl
theorem q836 : (Jvm.Cond.code ({ cls := "Haltingale$Table", name := "set", desc := "(IILHaltingale$Rule;)V" } : Jvm.MethodName) prog_14_method_4_code (4 : Nat) (Option.none : Option Jvm.ClassFile.FieldType)) ∈ lw_all := lw_g (lw_at lw_m4 92 rfl) rfl
theorem q837 : (Jvm.Cond.methodLink "Haltingale$Table" (47 : Nat) ({ cls := "java/util/Optional", name := "of", desc := "(Ljava/lang/Object;)Ljava/util/Optional;" } : Jvm.MethodName)) ∈ lw_all := lw_g (lw_at lw_m4 93 rfl) rfl
theorem q838 : (Jvm.Cond.interfaceEntry "Haltingale$Table" (43 : Nat)) ∈ lw_tbl := lw_at lw_m4 94 rfl
theorem q839 : (Jvm.Cond.methodLink "Haltingale$Table" (43 : Nat) ({ cls := "java/util/List", name := "set", desc := "(ILjava/lang/Object;)Ljava/lang/Object;" } : Jvm.MethodName)) ∈ lw_all := lw_g (lw_at lw_m4 95 rfl) rfl
theorem q870 : (Jvm.Cond.selects "Haltingale$Table" ({ cls := "java/lang/Object", name := "notify", desc := "()V" } : Jvm.MethodName) ({ cls := "java/lang/Object", name := "notify", desc := "()V" } : Jvm.MethodName)) ∈ lw_all := lw_g (lw_at lw_m4 126 rfl) rfl
theorem q901 : (Jvm.Cond.instanceMethod ({ cls := "Haltingale$Table", name := "copy", desc := "()LHaltingale$Table;" } : Jvm.MethodName)) ∈ lw_all := lw_g (lw_at lw_m4 157 rfl) rfl
theorem q902 : (Jvm.Cond.selects "Haltingale$Table" ({ cls := "Haltingale$Table", name := "copy", desc := "()LHaltingale$Table;" } : Jvm.MethodName) ({ cls := "Haltingale$Table", name := "copy", desc := "()LHaltingale$Table;" } : Jvm.MethodName)) ∈ lw_all := lw_g (lw_at lw_m4 158 rfl) rfl
theorem q903 : (Jvm.Cond.code ({ cls := "Haltingale$Table", name := "copy", desc := "()LHaltingale$Table;" } : Jvm.MethodName) prog_14_method_2_code (3 : Nat) (Option.some (Jvm.ClassFile.FieldType.object "Haltingale$Table"))) ∈ lw_all := lw_g (lw_at lw_m4 159 rfl) rfl
theorem q904 : (Jvm.Cond.classLink "Haltingale$Table" (11 : Nat) "Haltingale$Table") ∈ lw_all := lw_g (lw_at lw_m4 160 rfl) rfl
theorem q905 : (Jvm.Cond.methodLink "Haltingale$Table" (32 : Nat) ({ cls := "Haltingale$Table", name := "<init>", desc := "(I)V" } : Jvm.MethodName)) ∈ lw_all := lw_g (lw_at lw_m4 161 rfl) rfl
theorem q1052 : (Jvm.Cond.selects "Haltingale$Table" ({ cls := "java/lang/Object", name := "notifyAll", desc := "()V" } : Jvm.MethodName) ({ cls := "java/lang/Object", name := "notifyAll", desc := "()V" } : Jvm.MethodName)) ∈ lw_all := lw_g (lw_at lw_m5 68 rfl) rfl
theorem q1175 : (Jvm.Cond.instanceMethod ({ cls := "Haltingale$Table", name := "isAs", desc := "(LHaltingale$Table;Z)Z" } : Jvm.MethodName)) ∈ lw_all := lw_g (lw_at lw_m5 191 rfl) rfl
theorem q1176 : (Jvm.Cond.selects "Haltingale$Table" ({ cls := "Haltingale$Table", name := "isAs", desc := "(LHaltingale$Table;Z)Z" } : Jvm.MethodName) ({ cls := "Haltingale$Table", name := "isAs", desc := "(LHaltingale$Table;Z)Z" } : Jvm.MethodName)) ∈ lw_all := lw_g (lw_at lw_m5 192 rfl) rfl
theorem q1177 : (Jvm.Cond.code ({ cls := "Haltingale$Table", name := "isAs", desc := "(LHaltingale$Table;Z)Z" } : Jvm.MethodName) prog_14_method_8_code (5 : Nat) (Option.some Jvm.ClassFile.FieldType.boolean)) ∈ lw_all := lw_g (lw_at lw_m5 193 rfl) rfl
theorem q1178 : (Jvm.Cond.methodLink "Haltingale$Table" (76 : Nat) ({ cls := "Haltingale$Rule", name := "turned", desc := "()LHaltingale$Rule;" } : Jvm.MethodName)) ∈ lw_all := lw_g (lw_at lw_m5 194 rfl) rfl
theorem q1184 : (Jvm.Cond.methodLink "Haltingale$Table" (80 : Nat) ({ cls := "Haltingale$Rule", name := "isAs", desc := "(LHaltingale$Rule;)Z" } : Jvm.MethodName)) ∈ lw_all := lw_g (lw_at lw_m5 200 rfl) rfl
theorem q1665 : (Jvm.Cond.castable "Haltingale$Table" "java/lang/Object") ∈ lw_tbl := lw_at lw_m7 201 rfl
theorem in_X5 : ∀ w ∈ wsX50, w ∈ lw_all := lw_in wsX50 [710, 712] (by decide +kernel) (by decide +kernel)
/-! HaltingaleModel$Machine -/
set_option maxRecDepth 100000
def RX6 : String := "HaltingaleModel$Machine"
def TX6 : u_T := fun k => match k with
  | 0 => ("HaltingaleModel$Machine", "states", "I", true)
  | 1 => ("HaltingaleModel$Machine", "cells", "[[I", true)
  | 2 => ("HaltingaleModel$Machine", "kind", "I", false)
  | 3 => ("HaltingaleModel$Machine", "a", "I", false)
  | _ => ("HaltingaleModel$Machine", "b", "I", false)
def tyX6 : Nat → FieldType := fun k => match k with
  | 0 => .int
  | 1 => .array (.array .int)
  | 2 => .int
  | 3 => .int
  | _ => .int
abbrev wsX60 : List Cond := u_ws RX6 TX6 5
theorem nmX6 : ∀ a, a < 5 → ∀ b, b < 5 → a ≠ b → (TX6 a).2.1 ≠ (TX6 b).2.1 := by decide +kernel
theorem tyX6_ok : ∀ k, k < 5 → parseFieldDescriptor (TX6 k).2.2.1 = some (tyX6 k) := by decide +kernel
abbrev cX6_init : ByteArray := prog_20_method_1_code
def yX6_init : MethodName := ⟨RX6, "<init>", "(I)V"⟩
def dkwX6_init_1 : List UInt8 := [42, 5, 27, 104, 189, 0, 24, 181, 0, 26, 177]
abbrev dktX6_init_1 : List UInt8 := dkwX6_init_1 ++ []
def dkwX6_init_0 : List UInt8 := [42, 183, 0, 3, 42, 2, 181, 0, 9, 42, 2, 181, 0, 15, 42, 2, 181, 0, 18, 42, 27, 181, 0, 21]
abbrev dktX6_init_0 : List UInt8 := dkwX6_init_0 ++ dktX6_init_1
theorem dksX6_init_0 : cX6_init.data.toList.drop 0 = dktX6_init_0 := by decide +kernel
theorem dksX6_init_1 : cX6_init.data.toList.drop 24 = dktX6_init_1 := dk_seg dksX6_init_0 24 rfl rfl
theorem dX6_init_0 : decode cX6_init 0 = .ok (.aload_n 0, 1) := dk_42 (dk_at dksX6_init_0 0 rfl rfl)
theorem dX6_init_1 : decode cX6_init 1 = .ok (.invokespecial 3, 3) := dk_183 0 3 (dk_at dksX6_init_0 1 rfl rfl)
theorem dX6_init_4 : decode cX6_init 4 = .ok (.aload_n 0, 1) := dk_42 (dk_at dksX6_init_0 4 rfl rfl)
theorem dX6_init_5 : decode cX6_init 5 = .ok (.iconst (-1), 1) := dk_2 (dk_at dksX6_init_0 5 rfl rfl)
theorem dX6_init_6 : decode cX6_init 6 = .ok (.putfield 9, 3) := dk_181 0 9 (dk_at dksX6_init_0 6 rfl rfl)
theorem dX6_init_9 : decode cX6_init 9 = .ok (.aload_n 0, 1) := dk_42 (dk_at dksX6_init_0 9 rfl rfl)
theorem dX6_init_10 : decode cX6_init 10 = .ok (.iconst (-1), 1) := dk_2 (dk_at dksX6_init_0 10 rfl rfl)
theorem dX6_init_11 : decode cX6_init 11 = .ok (.putfield 15, 3) := dk_181 0 15 (dk_at dksX6_init_0 11 rfl rfl)
theorem dX6_init_14 : decode cX6_init 14 = .ok (.aload_n 0, 1) := dk_42 (dk_at dksX6_init_0 14 rfl rfl)
theorem dX6_init_15 : decode cX6_init 15 = .ok (.iconst (-1), 1) := dk_2 (dk_at dksX6_init_0 15 rfl rfl)
theorem dX6_init_16 : decode cX6_init 16 = .ok (.putfield 18, 3) := dk_181 0 18 (dk_at dksX6_init_0 16 rfl rfl)
theorem dX6_init_19 : decode cX6_init 19 = .ok (.aload_n 0, 1) := dk_42 (dk_at dksX6_init_0 19 rfl rfl)
theorem dX6_init_20 : decode cX6_init 20 = .ok (.iload_n 1, 1) := dk_27 (dk_at dksX6_init_0 20 rfl rfl)
theorem dX6_init_21 : decode cX6_init 21 = .ok (.putfield 21, 3) := dk_181 0 21 (dk_at dksX6_init_0 21 rfl rfl)
theorem dX6_init_24 : decode cX6_init 24 = .ok (.aload_n 0, 1) := dk_42 (dk_at dksX6_init_1 0 rfl rfl)
theorem dX6_init_25 : decode cX6_init 25 = .ok (.iconst 2, 1) := dk_5 (dk_at dksX6_init_1 1 rfl rfl)
theorem dX6_init_26 : decode cX6_init 26 = .ok (.iload_n 1, 1) := dk_27 (dk_at dksX6_init_1 2 rfl rfl)
theorem dX6_init_27 : decode cX6_init 27 = .ok (.imul, 1) := dk_104 (dk_at dksX6_init_1 3 rfl rfl)
theorem dX6_init_28 : decode cX6_init 28 = .ok (.anewarray 24, 3) := dk_189 0 24 (dk_at dksX6_init_1 4 rfl rfl)
theorem dX6_init_31 : decode cX6_init 31 = .ok (.putfield 26, 3) := dk_181 0 26 (dk_at dksX6_init_1 7 rfl rfl)
theorem dX6_init_34 : decode cX6_init 34 = .ok (.return_, 1) := dk_177 (dk_at dksX6_init_1 10 rfl rfl)
abbrev cX6_cell : ByteArray := prog_20_method_2_code
def yX6_cell : MethodName := ⟨RX6, "cell", "(II)[I"⟩
def dkwX6_cell_0 : List UInt8 := [42, 180, 0, 26, 5, 27, 104, 28, 96, 50, 176]
abbrev dktX6_cell_0 : List UInt8 := dkwX6_cell_0 ++ []
theorem dksX6_cell_0 : cX6_cell.data.toList.drop 0 = dktX6_cell_0 := by decide +kernel
theorem dX6_cell_0 : decode cX6_cell 0 = .ok (.aload_n 0, 1) := dk_42 (dk_at dksX6_cell_0 0 rfl rfl)
theorem dX6_cell_1 : decode cX6_cell 1 = .ok (.getfield 26, 3) := dk_180 0 26 (dk_at dksX6_cell_0 1 rfl rfl)
theorem dX6_cell_4 : decode cX6_cell 4 = .ok (.iconst 2, 1) := dk_5 (dk_at dksX6_cell_0 4 rfl rfl)
theorem dX6_cell_5 : decode cX6_cell 5 = .ok (.iload_n 1, 1) := dk_27 (dk_at dksX6_cell_0 5 rfl rfl)
theorem dX6_cell_6 : decode cX6_cell 6 = .ok (.imul, 1) := dk_104 (dk_at dksX6_cell_0 6 rfl rfl)
theorem dX6_cell_7 : decode cX6_cell 7 = .ok (.iload_n 2, 1) := dk_28 (dk_at dksX6_cell_0 7 rfl rfl)
theorem dX6_cell_8 : decode cX6_cell 8 = .ok (.iadd, 1) := dk_96 (dk_at dksX6_cell_0 8 rfl rfl)
theorem dX6_cell_9 : decode cX6_cell 9 = .ok (.aaload, 1) := dk_50 (dk_at dksX6_cell_0 9 rfl rfl)
theorem dX6_cell_10 : decode cX6_cell 10 = .ok (.areturn, 1) := dk_176 (dk_at dksX6_cell_0 10 rfl rfl)
abbrev cX6_open : ByteArray := prog_20_method_4_code
def yX6_open : MethodName := ⟨RX6, "open", "()Z"⟩
def dkwX6_open_1 : List UInt8 := [42, 2, 181, 0, 18, 27, 172]
abbrev dktX6_open_1 : List UInt8 := dkwX6_open_1 ++ []
def dkwX6_open_0 : List UInt8 := [42, 180, 0, 9, 2, 159, 0, 7, 4, 167, 0, 4, 3, 60, 42, 2, 181, 0, 9, 42, 2, 181, 0, 15]
abbrev dktX6_open_0 : List UInt8 := dkwX6_open_0 ++ dktX6_open_1
theorem dksX6_open_0 : cX6_open.data.toList.drop 0 = dktX6_open_0 := by decide +kernel
theorem dksX6_open_1 : cX6_open.data.toList.drop 24 = dktX6_open_1 := dk_seg dksX6_open_0 24 rfl rfl
theorem dX6_open_0 : decode cX6_open 0 = .ok (.aload_n 0, 1) := dk_42 (dk_at dksX6_open_0 0 rfl rfl)
theorem dX6_open_1 : decode cX6_open 1 = .ok (.getfield 9, 3) := dk_180 0 9 (dk_at dksX6_open_0 1 rfl rfl)
theorem dX6_open_4 : decode cX6_open 4 = .ok (.iconst (-1), 1) := dk_2 (dk_at dksX6_open_0 4 rfl rfl)
theorem dX6_open_5 : decode cX6_open 5 = .ok (.if_icmp .eq 7, 3) := dk_159 0 7 (dk_at dksX6_open_0 5 rfl rfl)
theorem dX6_open_8 : decode cX6_open 8 = .ok (.iconst 1, 1) := dk_4 (dk_at dksX6_open_0 8 rfl rfl)
theorem dX6_open_9 : decode cX6_open 9 = .ok (.goto 4, 3) := dk_167 0 4 (dk_at dksX6_open_0 9 rfl rfl)
theorem dX6_open_12 : decode cX6_open 12 = .ok (.iconst 0, 1) := dk_3 (dk_at dksX6_open_0 12 rfl rfl)
theorem dX6_open_13 : decode cX6_open 13 = .ok (.istore_n 1, 1) := dk_60 (dk_at dksX6_open_0 13 rfl rfl)
theorem dX6_open_14 : decode cX6_open 14 = .ok (.aload_n 0, 1) := dk_42 (dk_at dksX6_open_0 14 rfl rfl)
theorem dX6_open_15 : decode cX6_open 15 = .ok (.iconst (-1), 1) := dk_2 (dk_at dksX6_open_0 15 rfl rfl)
theorem dX6_open_16 : decode cX6_open 16 = .ok (.putfield 9, 3) := dk_181 0 9 (dk_at dksX6_open_0 16 rfl rfl)
theorem dX6_open_19 : decode cX6_open 19 = .ok (.aload_n 0, 1) := dk_42 (dk_at dksX6_open_0 19 rfl rfl)
theorem dX6_open_20 : decode cX6_open 20 = .ok (.iconst (-1), 1) := dk_2 (dk_at dksX6_open_0 20 rfl rfl)
theorem dX6_open_21 : decode cX6_open 21 = .ok (.putfield 15, 3) := dk_181 0 15 (dk_at dksX6_open_0 21 rfl rfl)
theorem dX6_open_24 : decode cX6_open 24 = .ok (.aload_n 0, 1) := dk_42 (dk_at dksX6_open_1 0 rfl rfl)
theorem dX6_open_25 : decode cX6_open 25 = .ok (.iconst (-1), 1) := dk_2 (dk_at dksX6_open_1 1 rfl rfl)
theorem dX6_open_26 : decode cX6_open 26 = .ok (.putfield 18, 3) := dk_181 0 18 (dk_at dksX6_open_1 2 rfl rfl)
theorem dX6_open_29 : decode cX6_open 29 = .ok (.iload_n 1, 1) := dk_27 (dk_at dksX6_open_1 5 rfl rfl)
theorem dX6_open_30 : decode cX6_open 30 = .ok (.ireturn, 1) := dk_172 (dk_at dksX6_open_1 6 rfl rfl)
abbrev cX6_empty : ByteArray := prog_20_method_3_code
def yX6_empty : MethodName := ⟨RX6, "empty", "()I"⟩
def dkwX6_empty_1 : List UInt8 := [58, 5, 27, 25, 5, 199, 0, 7, 4, 167, 0, 4, 3, 96, 60, 132, 4, 1, 167, 255, 228, 27, 172]
abbrev dktX6_empty_1 : List UInt8 := dkwX6_empty_1 ++ []
def dkwX6_empty_0 : List UInt8 := [3, 60, 42, 180, 0, 26, 77, 44, 190, 62, 3, 54, 4, 21, 4, 29, 162, 0, 28, 44, 21, 4, 50]
abbrev dktX6_empty_0 : List UInt8 := dkwX6_empty_0 ++ dktX6_empty_1
theorem dksX6_empty_0 : cX6_empty.data.toList.drop 0 = dktX6_empty_0 := by decide +kernel
theorem dksX6_empty_1 : cX6_empty.data.toList.drop 23 = dktX6_empty_1 := dk_seg dksX6_empty_0 23 rfl rfl
theorem dX6_empty_0 : decode cX6_empty 0 = .ok (.iconst 0, 1) := dk_3 (dk_at dksX6_empty_0 0 rfl rfl)
theorem dX6_empty_1 : decode cX6_empty 1 = .ok (.istore_n 1, 1) := dk_60 (dk_at dksX6_empty_0 1 rfl rfl)
theorem dX6_empty_2 : decode cX6_empty 2 = .ok (.aload_n 0, 1) := dk_42 (dk_at dksX6_empty_0 2 rfl rfl)
theorem dX6_empty_3 : decode cX6_empty 3 = .ok (.getfield 26, 3) := dk_180 0 26 (dk_at dksX6_empty_0 3 rfl rfl)
theorem dX6_empty_6 : decode cX6_empty 6 = .ok (.astore_n 2, 1) := dk_77 (dk_at dksX6_empty_0 6 rfl rfl)
theorem dX6_empty_7 : decode cX6_empty 7 = .ok (.aload_n 2, 1) := dk_44 (dk_at dksX6_empty_0 7 rfl rfl)
theorem dX6_empty_8 : decode cX6_empty 8 = .ok (.arraylength, 1) := dk_190 (dk_at dksX6_empty_0 8 rfl rfl)
theorem dX6_empty_9 : decode cX6_empty 9 = .ok (.istore_n 3, 1) := dk_62 (dk_at dksX6_empty_0 9 rfl rfl)
theorem dX6_empty_10 : decode cX6_empty 10 = .ok (.iconst 0, 1) := dk_3 (dk_at dksX6_empty_0 10 rfl rfl)
theorem dX6_empty_11 : decode cX6_empty 11 = .ok (.istore 4, 2) := dk_54 4 (dk_at dksX6_empty_0 11 rfl rfl)
theorem dX6_empty_13 : decode cX6_empty 13 = .ok (.iload 4, 2) := dk_21 4 (dk_at dksX6_empty_0 13 rfl rfl)
theorem dX6_empty_15 : decode cX6_empty 15 = .ok (.iload_n 3, 1) := dk_29 (dk_at dksX6_empty_0 15 rfl rfl)
theorem dX6_empty_16 : decode cX6_empty 16 = .ok (.if_icmp .ge 28, 3) := dk_162 0 28 (dk_at dksX6_empty_0 16 rfl rfl)
theorem dX6_empty_19 : decode cX6_empty 19 = .ok (.aload_n 2, 1) := dk_44 (dk_at dksX6_empty_0 19 rfl rfl)
theorem dX6_empty_20 : decode cX6_empty 20 = .ok (.iload 4, 2) := dk_21 4 (dk_at dksX6_empty_0 20 rfl rfl)
theorem dX6_empty_22 : decode cX6_empty 22 = .ok (.aaload, 1) := dk_50 (dk_at dksX6_empty_0 22 rfl rfl)
theorem dX6_empty_23 : decode cX6_empty 23 = .ok (.astore 5, 2) := dk_58 5 (dk_at dksX6_empty_1 0 rfl rfl)
theorem dX6_empty_25 : decode cX6_empty 25 = .ok (.iload_n 1, 1) := dk_27 (dk_at dksX6_empty_1 2 rfl rfl)
theorem dX6_empty_26 : decode cX6_empty 26 = .ok (.aload 5, 2) := dk_25 5 (dk_at dksX6_empty_1 3 rfl rfl)
theorem dX6_empty_28 : decode cX6_empty 28 = .ok (.ifnonnull 7, 3) := dk_199 0 7 (dk_at dksX6_empty_1 5 rfl rfl)
theorem dX6_empty_31 : decode cX6_empty 31 = .ok (.iconst 1, 1) := dk_4 (dk_at dksX6_empty_1 8 rfl rfl)
theorem dX6_empty_32 : decode cX6_empty 32 = .ok (.goto 4, 3) := dk_167 0 4 (dk_at dksX6_empty_1 9 rfl rfl)
theorem dX6_empty_35 : decode cX6_empty 35 = .ok (.iconst 0, 1) := dk_3 (dk_at dksX6_empty_1 12 rfl rfl)
theorem dX6_empty_36 : decode cX6_empty 36 = .ok (.iadd, 1) := dk_96 (dk_at dksX6_empty_1 13 rfl rfl)
theorem dX6_empty_37 : decode cX6_empty 37 = .ok (.istore_n 1, 1) := dk_60 (dk_at dksX6_empty_1 14 rfl rfl)
theorem dX6_empty_38 : decode cX6_empty 38 = .ok (.iinc 4 1, 3) := dk_132 4 1 (dk_at dksX6_empty_1 15 rfl rfl)
theorem dX6_empty_41 : decode cX6_empty 41 = .ok (.goto (-28), 3) := dk_167 255 228 (dk_at dksX6_empty_1 18 rfl rfl)
theorem dX6_empty_44 : decode cX6_empty 44 = .ok (.iload_n 1, 1) := dk_27 (dk_at dksX6_empty_1 21 rfl rfl)
theorem dX6_empty_45 : decode cX6_empty 45 = .ok (.ireturn, 1) := dk_172 (dk_at dksX6_empty_1 22 rfl rfl)
abbrev cX6_run : ByteArray := prog_20_method_5_code
def yX6_run : MethodName := ⟨RX6, "run", "(I)LHaltingaleModel$Run;"⟩
def dkwX6_run_1 : List UInt8 := [153, 0, 6, 167, 255, 241, 44, 176]
abbrev dktX6_run_1 : List UInt8 := dkwX6_run_1 ++ []
def dkwX6_run_0 : List UInt8 := [187, 0, 30, 89, 42, 27, 183, 0, 32, 77, 44, 180, 0, 35, 27, 162, 0, 13, 44, 182, 0, 38]
abbrev dktX6_run_0 : List UInt8 := dkwX6_run_0 ++ dktX6_run_1
theorem dksX6_run_0 : cX6_run.data.toList.drop 0 = dktX6_run_0 := by decide +kernel
theorem dksX6_run_1 : cX6_run.data.toList.drop 22 = dktX6_run_1 := dk_seg dksX6_run_0 22 rfl rfl
theorem dX6_run_0 : decode cX6_run 0 = .ok (.new 30, 3) := dk_187 0 30 (dk_at dksX6_run_0 0 rfl rfl)
theorem dX6_run_3 : decode cX6_run 3 = .ok (.dup, 1) := dk_89 (dk_at dksX6_run_0 3 rfl rfl)
theorem dX6_run_4 : decode cX6_run 4 = .ok (.aload_n 0, 1) := dk_42 (dk_at dksX6_run_0 4 rfl rfl)
theorem dX6_run_5 : decode cX6_run 5 = .ok (.iload_n 1, 1) := dk_27 (dk_at dksX6_run_0 5 rfl rfl)
theorem dX6_run_6 : decode cX6_run 6 = .ok (.invokespecial 32, 3) := dk_183 0 32 (dk_at dksX6_run_0 6 rfl rfl)
theorem dX6_run_9 : decode cX6_run 9 = .ok (.astore_n 2, 1) := dk_77 (dk_at dksX6_run_0 9 rfl rfl)
theorem dX6_run_10 : decode cX6_run 10 = .ok (.aload_n 2, 1) := dk_44 (dk_at dksX6_run_0 10 rfl rfl)
theorem dX6_run_11 : decode cX6_run 11 = .ok (.getfield 35, 3) := dk_180 0 35 (dk_at dksX6_run_0 11 rfl rfl)
theorem dX6_run_14 : decode cX6_run 14 = .ok (.iload_n 1, 1) := dk_27 (dk_at dksX6_run_0 14 rfl rfl)
theorem dX6_run_15 : decode cX6_run 15 = .ok (.if_icmp .ge 13, 3) := dk_162 0 13 (dk_at dksX6_run_0 15 rfl rfl)
theorem dX6_run_18 : decode cX6_run 18 = .ok (.aload_n 2, 1) := dk_44 (dk_at dksX6_run_0 18 rfl rfl)
theorem dX6_run_19 : decode cX6_run 19 = .ok (.invokevirtual 38, 3) := dk_182 0 38 (dk_at dksX6_run_0 19 rfl rfl)
theorem dX6_run_22 : decode cX6_run 22 = .ok (.ifCond .eq 6, 3) := dk_153 0 6 (dk_at dksX6_run_1 0 rfl rfl)
theorem dX6_run_25 : decode cX6_run 25 = .ok (.goto (-15), 3) := dk_167 255 241 (dk_at dksX6_run_1 3 rfl rfl)
theorem dX6_run_28 : decode cX6_run 28 = .ok (.aload_n 2, 1) := dk_44 (dk_at dksX6_run_1 6 rfl rfl)
theorem dX6_run_29 : decode cX6_run 29 = .ok (.areturn, 1) := dk_176 (dk_at dksX6_run_1 7 rfl rfl)
abbrev cX6_top : ByteArray := prog_20_method_6_code
def yX6_top : MethodName := ⟨RX6, "top", "()I"⟩
def dkwX6_top_2 : List UInt8 := [184, 0, 42, 60, 132, 4, 1, 167, 255, 216, 42, 180, 0, 21, 4, 100, 27, 4, 96, 184, 0, 48, 172]
abbrev dktX6_top_2 : List UInt8 := dkwX6_top_2 ++ []
def dkwX6_top_1 : List UInt8 := [58, 5, 25, 5, 198, 0, 23, 25, 5, 5, 46, 42, 180, 0, 21, 162, 0, 12, 27, 25, 5, 5, 46]
abbrev dktX6_top_1 : List UInt8 := dkwX6_top_1 ++ dktX6_top_2
def dkwX6_top_0 : List UInt8 := [3, 60, 42, 180, 0, 26, 77, 44, 190, 62, 3, 54, 4, 21, 4, 29, 162, 0, 40, 44, 21, 4, 50]
abbrev dktX6_top_0 : List UInt8 := dkwX6_top_0 ++ dktX6_top_1
theorem dksX6_top_0 : cX6_top.data.toList.drop 0 = dktX6_top_0 := by decide +kernel
theorem dksX6_top_1 : cX6_top.data.toList.drop 23 = dktX6_top_1 := dk_seg dksX6_top_0 23 rfl rfl
theorem dksX6_top_2 : cX6_top.data.toList.drop 46 = dktX6_top_2 := dk_seg dksX6_top_1 23 rfl rfl
theorem dX6_top_0 : decode cX6_top 0 = .ok (.iconst 0, 1) := dk_3 (dk_at dksX6_top_0 0 rfl rfl)
theorem dX6_top_1 : decode cX6_top 1 = .ok (.istore_n 1, 1) := dk_60 (dk_at dksX6_top_0 1 rfl rfl)
theorem dX6_top_2 : decode cX6_top 2 = .ok (.aload_n 0, 1) := dk_42 (dk_at dksX6_top_0 2 rfl rfl)
theorem dX6_top_3 : decode cX6_top 3 = .ok (.getfield 26, 3) := dk_180 0 26 (dk_at dksX6_top_0 3 rfl rfl)
theorem dX6_top_6 : decode cX6_top 6 = .ok (.astore_n 2, 1) := dk_77 (dk_at dksX6_top_0 6 rfl rfl)
theorem dX6_top_7 : decode cX6_top 7 = .ok (.aload_n 2, 1) := dk_44 (dk_at dksX6_top_0 7 rfl rfl)
theorem dX6_top_8 : decode cX6_top 8 = .ok (.arraylength, 1) := dk_190 (dk_at dksX6_top_0 8 rfl rfl)
theorem dX6_top_9 : decode cX6_top 9 = .ok (.istore_n 3, 1) := dk_62 (dk_at dksX6_top_0 9 rfl rfl)
theorem dX6_top_10 : decode cX6_top 10 = .ok (.iconst 0, 1) := dk_3 (dk_at dksX6_top_0 10 rfl rfl)
theorem dX6_top_11 : decode cX6_top 11 = .ok (.istore 4, 2) := dk_54 4 (dk_at dksX6_top_0 11 rfl rfl)
theorem dX6_top_13 : decode cX6_top 13 = .ok (.iload 4, 2) := dk_21 4 (dk_at dksX6_top_0 13 rfl rfl)
theorem dX6_top_15 : decode cX6_top 15 = .ok (.iload_n 3, 1) := dk_29 (dk_at dksX6_top_0 15 rfl rfl)
theorem dX6_top_16 : decode cX6_top 16 = .ok (.if_icmp .ge 40, 3) := dk_162 0 40 (dk_at dksX6_top_0 16 rfl rfl)
theorem dX6_top_19 : decode cX6_top 19 = .ok (.aload_n 2, 1) := dk_44 (dk_at dksX6_top_0 19 rfl rfl)
theorem dX6_top_20 : decode cX6_top 20 = .ok (.iload 4, 2) := dk_21 4 (dk_at dksX6_top_0 20 rfl rfl)
theorem dX6_top_22 : decode cX6_top 22 = .ok (.aaload, 1) := dk_50 (dk_at dksX6_top_0 22 rfl rfl)
theorem dX6_top_23 : decode cX6_top 23 = .ok (.astore 5, 2) := dk_58 5 (dk_at dksX6_top_1 0 rfl rfl)
theorem dX6_top_25 : decode cX6_top 25 = .ok (.aload 5, 2) := dk_25 5 (dk_at dksX6_top_1 2 rfl rfl)
theorem dX6_top_27 : decode cX6_top 27 = .ok (.ifnull 23, 3) := dk_198 0 23 (dk_at dksX6_top_1 4 rfl rfl)
theorem dX6_top_30 : decode cX6_top 30 = .ok (.aload 5, 2) := dk_25 5 (dk_at dksX6_top_1 7 rfl rfl)
theorem dX6_top_32 : decode cX6_top 32 = .ok (.iconst 2, 1) := dk_5 (dk_at dksX6_top_1 9 rfl rfl)
theorem dX6_top_33 : decode cX6_top 33 = .ok (.iaload, 1) := dk_46 (dk_at dksX6_top_1 10 rfl rfl)
theorem dX6_top_34 : decode cX6_top 34 = .ok (.aload_n 0, 1) := dk_42 (dk_at dksX6_top_1 11 rfl rfl)
theorem dX6_top_35 : decode cX6_top 35 = .ok (.getfield 21, 3) := dk_180 0 21 (dk_at dksX6_top_1 12 rfl rfl)
theorem dX6_top_38 : decode cX6_top 38 = .ok (.if_icmp .ge 12, 3) := dk_162 0 12 (dk_at dksX6_top_1 15 rfl rfl)
theorem dX6_top_41 : decode cX6_top 41 = .ok (.iload_n 1, 1) := dk_27 (dk_at dksX6_top_1 18 rfl rfl)
theorem dX6_top_42 : decode cX6_top 42 = .ok (.aload 5, 2) := dk_25 5 (dk_at dksX6_top_1 19 rfl rfl)
theorem dX6_top_44 : decode cX6_top 44 = .ok (.iconst 2, 1) := dk_5 (dk_at dksX6_top_1 21 rfl rfl)
theorem dX6_top_45 : decode cX6_top 45 = .ok (.iaload, 1) := dk_46 (dk_at dksX6_top_1 22 rfl rfl)
theorem dX6_top_46 : decode cX6_top 46 = .ok (.invokestatic 42, 3) := dk_184 0 42 (dk_at dksX6_top_2 0 rfl rfl)
theorem dX6_top_49 : decode cX6_top 49 = .ok (.istore_n 1, 1) := dk_60 (dk_at dksX6_top_2 3 rfl rfl)
theorem dX6_top_50 : decode cX6_top 50 = .ok (.iinc 4 1, 3) := dk_132 4 1 (dk_at dksX6_top_2 4 rfl rfl)
theorem dX6_top_53 : decode cX6_top 53 = .ok (.goto (-40), 3) := dk_167 255 216 (dk_at dksX6_top_2 7 rfl rfl)
theorem dX6_top_56 : decode cX6_top 56 = .ok (.aload_n 0, 1) := dk_42 (dk_at dksX6_top_2 10 rfl rfl)
theorem dX6_top_57 : decode cX6_top 57 = .ok (.getfield 21, 3) := dk_180 0 21 (dk_at dksX6_top_2 11 rfl rfl)
theorem dX6_top_60 : decode cX6_top 60 = .ok (.iconst 1, 1) := dk_4 (dk_at dksX6_top_2 14 rfl rfl)
theorem dX6_top_61 : decode cX6_top 61 = .ok (.isub, 1) := dk_100 (dk_at dksX6_top_2 15 rfl rfl)
theorem dX6_top_62 : decode cX6_top 62 = .ok (.iload_n 1, 1) := dk_27 (dk_at dksX6_top_2 16 rfl rfl)
theorem dX6_top_63 : decode cX6_top 63 = .ok (.iconst 1, 1) := dk_4 (dk_at dksX6_top_2 17 rfl rfl)
theorem dX6_top_64 : decode cX6_top 64 = .ok (.iadd, 1) := dk_96 (dk_at dksX6_top_2 18 rfl rfl)
theorem dX6_top_65 : decode cX6_top 65 = .ok (.invokestatic 48, 3) := dk_184 0 48 (dk_at dksX6_top_2 19 rfl rfl)
theorem dX6_top_68 : decode cX6_top 68 = .ok (.ireturn, 1) := dk_172 (dk_at dksX6_top_2 22 rfl rfl)
theorem q44 : (Jvm.Cond.initialized "HaltingaleModel$Machine") ∈ lw_all := lw_g (lw_at lw_m1 20 rfl) rfl
theorem q536 : (Jvm.Cond.selects "HaltingaleModel$Machine" ({ cls := "java/lang/Object", name := "getClass", desc := "()Ljava/lang/Class;" } : Jvm.MethodName) ({ cls := "java/lang/Object", name := "getClass", desc := "()Ljava/lang/Class;" } : Jvm.MethodName)) ∈ lw_all := lw_g (lw_at lw_m3 32 rfl) rfl
theorem q875 : (Jvm.Cond.selects "HaltingaleModel$Machine" ({ cls := "java/lang/Object", name := "notify", desc := "()V" } : Jvm.MethodName) ({ cls := "java/lang/Object", name := "notify", desc := "()V" } : Jvm.MethodName)) ∈ lw_all := lw_g (lw_at lw_m4 131 rfl) rfl
theorem q1057 : (Jvm.Cond.selects "HaltingaleModel$Machine" ({ cls := "java/lang/Object", name := "notifyAll", desc := "()V" } : Jvm.MethodName) ({ cls := "java/lang/Object", name := "notifyAll", desc := "()V" } : Jvm.MethodName)) ∈ lw_all := lw_g (lw_at lw_m5 73 rfl) rfl
theorem q1277 : (Jvm.Cond.instantiable "HaltingaleModel$Machine" (5 : Nat)) ∈ lw_all := lw_g (lw_at lw_m6 53 rfl) rfl
theorem q1279 : (Jvm.Cond.instanceMethod ({ cls := "HaltingaleModel$Machine", name := "<init>", desc := "(I)V" } : Jvm.MethodName)) ∈ lw_all := lw_g (lw_at lw_m6 55 rfl) rfl
theorem q1280 : (Jvm.Cond.code ({ cls := "HaltingaleModel$Machine", name := "<init>", desc := "(I)V" } : Jvm.MethodName) prog_20_method_1_code (2 : Nat) (Option.none : Option Jvm.ClassFile.FieldType)) ∈ lw_all := lw_g (lw_at lw_m6 56 rfl) rfl
theorem q1281 : (Jvm.Cond.methodLink "HaltingaleModel$Machine" (3 : Nat) ({ cls := "java/lang/Object", name := "<init>", desc := "()V" } : Jvm.MethodName)) ∈ lw_all := lw_g (lw_at lw_m6 57 rfl) rfl
theorem q1282 : (Jvm.Cond.classLink "HaltingaleModel$Machine" (24 : Nat) "[I") ∈ lw_all := lw_g (lw_at lw_m6 58 rfl) rfl
theorem q1284 : (Jvm.Cond.fieldLink "HaltingaleModel$Machine" (21 : Nat) "HaltingaleModel$Machine" "states" "I") ∈ lw_all := lw_g (lw_at lw_m6 60 rfl) rfl
theorem q1287 : (Jvm.Cond.fieldLink "HaltingaleModel$Machine" (26 : Nat) "HaltingaleModel$Machine" "cells" "[[I") ∈ lw_all := lw_g (lw_at lw_m6 63 rfl) rfl
theorem q1289 : (Jvm.Cond.fieldLink "HaltingaleModel$Machine" (9 : Nat) "HaltingaleModel$Machine" "kind" "I") ∈ lw_all := lw_g (lw_at lw_m6 65 rfl) rfl
theorem q1291 : (Jvm.Cond.fieldLink "HaltingaleModel$Machine" (15 : Nat) "HaltingaleModel$Machine" "a" "I") ∈ lw_all := lw_g (lw_at lw_m6 67 rfl) rfl
theorem q1293 : (Jvm.Cond.fieldLink "HaltingaleModel$Machine" (18 : Nat) "HaltingaleModel$Machine" "b" "I") ∈ lw_all := lw_g (lw_at lw_m6 69 rfl) rfl
theorem q1295 : (Jvm.Cond.laysFinal "HaltingaleModel$Machine" "HaltingaleModel$Machine" "states" "I") ∈ lw_all := lw_g (lw_at lw_m6 71 rfl) rfl
theorem q1296 : (Jvm.Cond.soleField "HaltingaleModel$Machine" "states") ∈ lw_all := lw_g (lw_at lw_m6 72 rfl) rfl
theorem q1297 : (Jvm.Cond.laysFinal "HaltingaleModel$Machine" "HaltingaleModel$Machine" "cells" "[[I") ∈ lw_all := lw_g (lw_at lw_m6 73 rfl) rfl
theorem q1298 : (Jvm.Cond.soleField "HaltingaleModel$Machine" "cells") ∈ lw_all := lw_g (lw_at lw_m6 74 rfl) rfl
theorem q1299 : (Jvm.Cond.lays "HaltingaleModel$Machine" "HaltingaleModel$Machine" "kind" "I") ∈ lw_all := lw_g (lw_at lw_m6 75 rfl) rfl
theorem q1300 : (Jvm.Cond.soleField "HaltingaleModel$Machine" "kind") ∈ lw_all := lw_g (lw_at lw_m6 76 rfl) rfl
theorem q1301 : (Jvm.Cond.lays "HaltingaleModel$Machine" "HaltingaleModel$Machine" "a" "I") ∈ lw_all := lw_g (lw_at lw_m6 77 rfl) rfl
theorem q1302 : (Jvm.Cond.soleField "HaltingaleModel$Machine" "a") ∈ lw_all := lw_g (lw_at lw_m6 78 rfl) rfl
theorem q1303 : (Jvm.Cond.lays "HaltingaleModel$Machine" "HaltingaleModel$Machine" "b" "I") ∈ lw_all := lw_g (lw_at lw_m6 79 rfl) rfl
theorem q1304 : (Jvm.Cond.soleField "HaltingaleModel$Machine" "b") ∈ lw_all := lw_g (lw_at lw_m6 80 rfl) rfl
theorem q1305 : (Jvm.Cond.superclass "HaltingaleModel$Machine" "java/lang/Object") ∈ lw_all := lw_g (lw_at lw_m6 81 rfl) rfl
theorem q1321 : (Jvm.Cond.instanceMethod ({ cls := "HaltingaleModel$Machine", name := "cell", desc := "(II)[I" } : Jvm.MethodName)) ∈ lw_all := lw_g (lw_at lw_m6 97 rfl) rfl
theorem q1322 : (Jvm.Cond.selects "HaltingaleModel$Machine" ({ cls := "HaltingaleModel$Machine", name := "cell", desc := "(II)[I" } : Jvm.MethodName) ({ cls := "HaltingaleModel$Machine", name := "cell", desc := "(II)[I" } : Jvm.MethodName)) ∈ lw_all := lw_g (lw_at lw_m6 98 rfl) rfl
theorem q1323 : (Jvm.Cond.code ({ cls := "HaltingaleModel$Machine", name := "cell", desc := "(II)[I" } : Jvm.MethodName) prog_20_method_2_code (3 : Nat) (Option.some (Jvm.ClassFile.FieldType.array Jvm.ClassFile.FieldType.int))) ∈ lw_all := lw_g (lw_at lw_m6 99 rfl) rfl
theorem q1329 : (Jvm.Cond.instanceMethod ({ cls := "HaltingaleModel$Machine", name := "open", desc := "()Z" } : Jvm.MethodName)) ∈ lw_all := lw_g (lw_at lw_m6 105 rfl) rfl
theorem q1330 : (Jvm.Cond.selects "HaltingaleModel$Machine" ({ cls := "HaltingaleModel$Machine", name := "open", desc := "()Z" } : Jvm.MethodName) ({ cls := "HaltingaleModel$Machine", name := "open", desc := "()Z" } : Jvm.MethodName)) ∈ lw_all := lw_g (lw_at lw_m6 106 rfl) rfl
theorem q1331 : (Jvm.Cond.code ({ cls := "HaltingaleModel$Machine", name := "open", desc := "()Z" } : Jvm.MethodName) prog_20_method_4_code (2 : Nat) (Option.some Jvm.ClassFile.FieldType.boolean)) ∈ lw_all := lw_g (lw_at lw_m6 107 rfl) rfl
theorem q1333 : (Jvm.Cond.instanceMethod ({ cls := "HaltingaleModel$Machine", name := "empty", desc := "()I" } : Jvm.MethodName)) ∈ lw_all := lw_g (lw_at lw_m6 109 rfl) rfl
theorem q1334 : (Jvm.Cond.selects "HaltingaleModel$Machine" ({ cls := "HaltingaleModel$Machine", name := "empty", desc := "()I" } : Jvm.MethodName) ({ cls := "HaltingaleModel$Machine", name := "empty", desc := "()I" } : Jvm.MethodName)) ∈ lw_all := lw_g (lw_at lw_m6 110 rfl) rfl
theorem q1335 : (Jvm.Cond.code ({ cls := "HaltingaleModel$Machine", name := "empty", desc := "()I" } : Jvm.MethodName) prog_20_method_3_code (6 : Nat) (Option.some Jvm.ClassFile.FieldType.int)) ∈ lw_all := lw_g (lw_at lw_m6 111 rfl) rfl
theorem q1349 : (Jvm.Cond.instanceMethod ({ cls := "HaltingaleModel$Machine", name := "run", desc := "(I)LHaltingaleModel$Run;" } : Jvm.MethodName)) ∈ lw_all := lw_g (lw_at lw_m6 125 rfl) rfl
theorem q1350 : (Jvm.Cond.selects "HaltingaleModel$Machine" ({ cls := "HaltingaleModel$Machine", name := "run", desc := "(I)LHaltingaleModel$Run;" } : Jvm.MethodName) ({ cls := "HaltingaleModel$Machine", name := "run", desc := "(I)LHaltingaleModel$Run;" } : Jvm.MethodName)) ∈ lw_all := lw_g (lw_at lw_m6 126 rfl) rfl
theorem q1351 : (Jvm.Cond.code ({ cls := "HaltingaleModel$Machine", name := "run", desc := "(I)LHaltingaleModel$Run;" } : Jvm.MethodName) prog_20_method_5_code (3 : Nat) (Option.some (Jvm.ClassFile.FieldType.object "HaltingaleModel$Run"))) ∈ lw_all := lw_g (lw_at lw_m6 127 rfl) rfl
theorem q1352 : (Jvm.Cond.classLink "HaltingaleModel$Machine" (30 : Nat) "HaltingaleModel$Run") ∈ lw_all := lw_g (lw_at lw_m6 128 rfl) rfl
theorem q1354 : (Jvm.Cond.methodLink "HaltingaleModel$Machine" (32 : Nat) ({ cls := "HaltingaleModel$Run", name := "<init>", desc := "(LHaltingaleModel$Machine;I)V" } : Jvm.MethodName)) ∈ lw_all := lw_g (lw_at lw_m6 130 rfl) rfl
theorem q1365 : (Jvm.Cond.fieldLinkNest "HaltingaleModel$Machine" (35 : Nat) "HaltingaleModel$Run" "done" "I" "HaltingaleModel") ∈ lw_tbl := lw_at lw_m6 141 rfl
theorem q1389 : (Jvm.Cond.methodLink "HaltingaleModel$Machine" (38 : Nat) ({ cls := "HaltingaleModel$Run", name := "step", desc := "()Z" } : Jvm.MethodName)) ∈ lw_all := lw_g (lw_at lw_m6 165 rfl) rfl
theorem q1410 : (Jvm.Cond.instanceMethod ({ cls := "HaltingaleModel$Machine", name := "top", desc := "()I" } : Jvm.MethodName)) ∈ lw_all := lw_g (lw_at lw_m6 186 rfl) rfl
theorem q1411 : (Jvm.Cond.selects "HaltingaleModel$Machine" ({ cls := "HaltingaleModel$Machine", name := "top", desc := "()I" } : Jvm.MethodName) ({ cls := "HaltingaleModel$Machine", name := "top", desc := "()I" } : Jvm.MethodName)) ∈ lw_all := lw_g (lw_at lw_m6 187 rfl) rfl
theorem q1412 : (Jvm.Cond.code ({ cls := "HaltingaleModel$Machine", name := "top", desc := "()I" } : Jvm.MethodName) prog_20_method_6_code (6 : Nat) (Option.some Jvm.ClassFile.FieldType.int)) ∈ lw_all := lw_g (lw_at lw_m6 188 rfl) rfl
theorem q1413 : (Jvm.Cond.methodLink "HaltingaleModel$Machine" (42 : Nat) ({ cls := "java/lang/Math", name := "max", desc := "(II)I" } : Jvm.MethodName)) ∈ lw_all := lw_g (lw_at lw_m6 189 rfl) rfl
theorem q1414 : (Jvm.Cond.methodLink "HaltingaleModel$Machine" (48 : Nat) ({ cls := "java/lang/Math", name := "min", desc := "(II)I" } : Jvm.MethodName)) ∈ lw_all := lw_g (lw_at lw_m6 190 rfl) rfl
theorem q1667 : (Jvm.Cond.castable "HaltingaleModel$Machine" "java/lang/Object") ∈ lw_tbl := lw_at lw_m7 203 rfl
theorem in_X6 : ∀ w ∈ wsX60, w ∈ lw_all := lw_in wsX60 [1295, 1297, 1299, 1301, 1303] (by decide +kernel) (by decide +kernel)
/-! Haltingale$Rule -/
set_option maxRecDepth 100000
def RX7 : String := "Haltingale$Rule"
def TX7 : u_T := fun k => match k with
  | 0 => ("Haltingale$Rule", "write", "I", true)
  | 1 => ("Haltingale$Rule", "move", "I", true)
  | _ => ("Haltingale$Rule", "next", "I", true)
def tyX7 : Nat → FieldType := fun k => match k with
  | 0 => .int
  | 1 => .int
  | _ => .int
abbrev wsX70 : List Cond := u_ws RX7 TX7 3
theorem nmX7 : ∀ a, a < 3 → ∀ b, b < 3 → a ≠ b → (TX7 a).2.1 ≠ (TX7 b).2.1 := by decide +kernel
theorem tyX7_ok : ∀ k, k < 3 → parseFieldDescriptor (TX7 k).2.2.1 = some (tyX7 k) := by decide +kernel
abbrev cX7_init : ByteArray := prog_12_method_1_code
def yX7_init : MethodName := ⟨RX7, "<init>", "(III)V"⟩
def dkwX7_init_0 : List UInt8 := [42, 183, 0, 1, 42, 27, 181, 0, 7, 42, 28, 181, 0, 13, 42, 29, 181, 0, 16, 177]
abbrev dktX7_init_0 : List UInt8 := dkwX7_init_0 ++ []
theorem dksX7_init_0 : cX7_init.data.toList.drop 0 = dktX7_init_0 := by decide +kernel
theorem dX7_init_0 : decode cX7_init 0 = .ok (.aload_n 0, 1) := dk_42 (dk_at dksX7_init_0 0 rfl rfl)
theorem dX7_init_1 : decode cX7_init 1 = .ok (.invokespecial 1, 3) := dk_183 0 1 (dk_at dksX7_init_0 1 rfl rfl)
theorem dX7_init_4 : decode cX7_init 4 = .ok (.aload_n 0, 1) := dk_42 (dk_at dksX7_init_0 4 rfl rfl)
theorem dX7_init_5 : decode cX7_init 5 = .ok (.iload_n 1, 1) := dk_27 (dk_at dksX7_init_0 5 rfl rfl)
theorem dX7_init_6 : decode cX7_init 6 = .ok (.putfield 7, 3) := dk_181 0 7 (dk_at dksX7_init_0 6 rfl rfl)
theorem dX7_init_9 : decode cX7_init 9 = .ok (.aload_n 0, 1) := dk_42 (dk_at dksX7_init_0 9 rfl rfl)
theorem dX7_init_10 : decode cX7_init 10 = .ok (.iload_n 2, 1) := dk_28 (dk_at dksX7_init_0 10 rfl rfl)
theorem dX7_init_11 : decode cX7_init 11 = .ok (.putfield 13, 3) := dk_181 0 13 (dk_at dksX7_init_0 11 rfl rfl)
theorem dX7_init_14 : decode cX7_init 14 = .ok (.aload_n 0, 1) := dk_42 (dk_at dksX7_init_0 14 rfl rfl)
theorem dX7_init_15 : decode cX7_init 15 = .ok (.iload_n 3, 1) := dk_29 (dk_at dksX7_init_0 15 rfl rfl)
theorem dX7_init_16 : decode cX7_init 16 = .ok (.putfield 16, 3) := dk_181 0 16 (dk_at dksX7_init_0 16 rfl rfl)
theorem dX7_init_19 : decode cX7_init 19 = .ok (.return_, 1) := dk_177 (dk_at dksX7_init_0 19 rfl rfl)
abbrev cX7_turned : ByteArray := prog_12_method_2_code
def yX7_turned : MethodName := ⟨RX7, "turned", "()LHaltingale$Rule;"⟩
def dkwX7_turned_0 : List UInt8 := [187, 0, 8, 89, 42, 180, 0, 7, 42, 180, 0, 13, 116, 42, 180, 0, 16, 183, 0, 19, 176]
abbrev dktX7_turned_0 : List UInt8 := dkwX7_turned_0 ++ []
theorem dksX7_turned_0 : cX7_turned.data.toList.drop 0 = dktX7_turned_0 := by decide +kernel
theorem dX7_turned_0 : decode cX7_turned 0 = .ok (.new 8, 3) := dk_187 0 8 (dk_at dksX7_turned_0 0 rfl rfl)
theorem dX7_turned_3 : decode cX7_turned 3 = .ok (.dup, 1) := dk_89 (dk_at dksX7_turned_0 3 rfl rfl)
theorem dX7_turned_4 : decode cX7_turned 4 = .ok (.aload_n 0, 1) := dk_42 (dk_at dksX7_turned_0 4 rfl rfl)
theorem dX7_turned_5 : decode cX7_turned 5 = .ok (.getfield 7, 3) := dk_180 0 7 (dk_at dksX7_turned_0 5 rfl rfl)
theorem dX7_turned_8 : decode cX7_turned 8 = .ok (.aload_n 0, 1) := dk_42 (dk_at dksX7_turned_0 8 rfl rfl)
theorem dX7_turned_9 : decode cX7_turned 9 = .ok (.getfield 13, 3) := dk_180 0 13 (dk_at dksX7_turned_0 9 rfl rfl)
theorem dX7_turned_12 : decode cX7_turned 12 = .ok (.ineg, 1) := dk_116 (dk_at dksX7_turned_0 12 rfl rfl)
theorem dX7_turned_13 : decode cX7_turned 13 = .ok (.aload_n 0, 1) := dk_42 (dk_at dksX7_turned_0 13 rfl rfl)
theorem dX7_turned_14 : decode cX7_turned 14 = .ok (.getfield 16, 3) := dk_180 0 16 (dk_at dksX7_turned_0 14 rfl rfl)
theorem dX7_turned_17 : decode cX7_turned 17 = .ok (.invokespecial 19, 3) := dk_183 0 19 (dk_at dksX7_turned_0 17 rfl rfl)
theorem dX7_turned_20 : decode cX7_turned 20 = .ok (.areturn, 1) := dk_176 (dk_at dksX7_turned_0 20 rfl rfl)
abbrev cX7_isAs : ByteArray := prog_12_method_3_code
def yX7_isAs : MethodName := ⟨RX7, "isAs", "(LHaltingale$Rule;)Z"⟩
def dkwX7_isAs_1 : List UInt8 := [180, 0, 16, 43, 180, 0, 16, 160, 0, 7, 4, 167, 0, 4, 3, 172]
abbrev dktX7_isAs_1 : List UInt8 := dkwX7_isAs_1 ++ []
def dkwX7_isAs_0 : List UInt8 := [42, 180, 0, 7, 43, 180, 0, 7, 160, 0, 29, 42, 180, 0, 13, 43, 180, 0, 13, 160, 0, 18, 42]
abbrev dktX7_isAs_0 : List UInt8 := dkwX7_isAs_0 ++ dktX7_isAs_1
theorem dksX7_isAs_0 : cX7_isAs.data.toList.drop 0 = dktX7_isAs_0 := by decide +kernel
theorem dksX7_isAs_1 : cX7_isAs.data.toList.drop 23 = dktX7_isAs_1 := dk_seg dksX7_isAs_0 23 rfl rfl
theorem dX7_isAs_0 : decode cX7_isAs 0 = .ok (.aload_n 0, 1) := dk_42 (dk_at dksX7_isAs_0 0 rfl rfl)
theorem dX7_isAs_1 : decode cX7_isAs 1 = .ok (.getfield 7, 3) := dk_180 0 7 (dk_at dksX7_isAs_0 1 rfl rfl)
theorem dX7_isAs_4 : decode cX7_isAs 4 = .ok (.aload_n 1, 1) := dk_43 (dk_at dksX7_isAs_0 4 rfl rfl)
theorem dX7_isAs_5 : decode cX7_isAs 5 = .ok (.getfield 7, 3) := dk_180 0 7 (dk_at dksX7_isAs_0 5 rfl rfl)
theorem dX7_isAs_8 : decode cX7_isAs 8 = .ok (.if_icmp .ne 29, 3) := dk_160 0 29 (dk_at dksX7_isAs_0 8 rfl rfl)
theorem dX7_isAs_11 : decode cX7_isAs 11 = .ok (.aload_n 0, 1) := dk_42 (dk_at dksX7_isAs_0 11 rfl rfl)
theorem dX7_isAs_12 : decode cX7_isAs 12 = .ok (.getfield 13, 3) := dk_180 0 13 (dk_at dksX7_isAs_0 12 rfl rfl)
theorem dX7_isAs_15 : decode cX7_isAs 15 = .ok (.aload_n 1, 1) := dk_43 (dk_at dksX7_isAs_0 15 rfl rfl)
theorem dX7_isAs_16 : decode cX7_isAs 16 = .ok (.getfield 13, 3) := dk_180 0 13 (dk_at dksX7_isAs_0 16 rfl rfl)
theorem dX7_isAs_19 : decode cX7_isAs 19 = .ok (.if_icmp .ne 18, 3) := dk_160 0 18 (dk_at dksX7_isAs_0 19 rfl rfl)
theorem dX7_isAs_22 : decode cX7_isAs 22 = .ok (.aload_n 0, 1) := dk_42 (dk_at dksX7_isAs_0 22 rfl rfl)
theorem dX7_isAs_23 : decode cX7_isAs 23 = .ok (.getfield 16, 3) := dk_180 0 16 (dk_at dksX7_isAs_1 0 rfl rfl)
theorem dX7_isAs_26 : decode cX7_isAs 26 = .ok (.aload_n 1, 1) := dk_43 (dk_at dksX7_isAs_1 3 rfl rfl)
theorem dX7_isAs_27 : decode cX7_isAs 27 = .ok (.getfield 16, 3) := dk_180 0 16 (dk_at dksX7_isAs_1 4 rfl rfl)
theorem dX7_isAs_30 : decode cX7_isAs 30 = .ok (.if_icmp .ne 7, 3) := dk_160 0 7 (dk_at dksX7_isAs_1 7 rfl rfl)
theorem dX7_isAs_33 : decode cX7_isAs 33 = .ok (.iconst 1, 1) := dk_4 (dk_at dksX7_isAs_1 10 rfl rfl)
theorem dX7_isAs_34 : decode cX7_isAs 34 = .ok (.goto 4, 3) := dk_167 0 4 (dk_at dksX7_isAs_1 11 rfl rfl)
theorem dX7_isAs_37 : decode cX7_isAs 37 = .ok (.iconst 0, 1) := dk_3 (dk_at dksX7_isAs_1 14 rfl rfl)
theorem dX7_isAs_38 : decode cX7_isAs 38 = .ok (.ireturn, 1) := dk_172 (dk_at dksX7_isAs_1 15 rfl rfl)
theorem q50 : (Jvm.Cond.initialized "Haltingale$Rule") ∈ lw_all := lw_g (lw_at lw_m1 26 rfl) rfl
theorem q529 : (Jvm.Cond.selects "Haltingale$Rule" ({ cls := "java/lang/Object", name := "getClass", desc := "()Ljava/lang/Class;" } : Jvm.MethodName) ({ cls := "java/lang/Object", name := "getClass", desc := "()Ljava/lang/Class;" } : Jvm.MethodName)) ∈ lw_all := lw_g (lw_at lw_m3 25 rfl) rfl
theorem q805 : (Jvm.Cond.instantiable "Haltingale$Rule" (3 : Nat)) ∈ lw_all := lw_g (lw_at lw_m4 61 rfl) rfl
theorem q807 : (Jvm.Cond.instanceMethod ({ cls := "Haltingale$Rule", name := "<init>", desc := "(III)V" } : Jvm.MethodName)) ∈ lw_all := lw_g (lw_at lw_m4 63 rfl) rfl
theorem q808 : (Jvm.Cond.code ({ cls := "Haltingale$Rule", name := "<init>", desc := "(III)V" } : Jvm.MethodName) prog_12_method_1_code (4 : Nat) (Option.none : Option Jvm.ClassFile.FieldType)) ∈ lw_all := lw_g (lw_at lw_m4 64 rfl) rfl
theorem q809 : (Jvm.Cond.methodLink "Haltingale$Rule" (1 : Nat) ({ cls := "java/lang/Object", name := "<init>", desc := "()V" } : Jvm.MethodName)) ∈ lw_all := lw_g (lw_at lw_m4 65 rfl) rfl
theorem q810 : (Jvm.Cond.fieldLink "Haltingale$Rule" (7 : Nat) "Haltingale$Rule" "write" "I") ∈ lw_all := lw_g (lw_at lw_m4 66 rfl) rfl
theorem q815 : (Jvm.Cond.fieldLink "Haltingale$Rule" (13 : Nat) "Haltingale$Rule" "move" "I") ∈ lw_all := lw_g (lw_at lw_m4 71 rfl) rfl
theorem q820 : (Jvm.Cond.fieldLink "Haltingale$Rule" (16 : Nat) "Haltingale$Rule" "next" "I") ∈ lw_all := lw_g (lw_at lw_m4 76 rfl) rfl
theorem q826 : (Jvm.Cond.laysFinal "Haltingale$Rule" "Haltingale$Rule" "write" "I") ∈ lw_all := lw_g (lw_at lw_m4 82 rfl) rfl
theorem q827 : (Jvm.Cond.soleField "Haltingale$Rule" "write") ∈ lw_all := lw_g (lw_at lw_m4 83 rfl) rfl
theorem q828 : (Jvm.Cond.laysFinal "Haltingale$Rule" "Haltingale$Rule" "move" "I") ∈ lw_all := lw_g (lw_at lw_m4 84 rfl) rfl
theorem q829 : (Jvm.Cond.soleField "Haltingale$Rule" "move") ∈ lw_all := lw_g (lw_at lw_m4 85 rfl) rfl
theorem q830 : (Jvm.Cond.laysFinal "Haltingale$Rule" "Haltingale$Rule" "next" "I") ∈ lw_all := lw_g (lw_at lw_m4 86 rfl) rfl
theorem q831 : (Jvm.Cond.soleField "Haltingale$Rule" "next") ∈ lw_all := lw_g (lw_at lw_m4 87 rfl) rfl
theorem q832 : (Jvm.Cond.superclass "Haltingale$Rule" "java/lang/Object") ∈ lw_all := lw_g (lw_at lw_m4 88 rfl) rfl
theorem q868 : (Jvm.Cond.selects "Haltingale$Rule" ({ cls := "java/lang/Object", name := "notify", desc := "()V" } : Jvm.MethodName) ({ cls := "java/lang/Object", name := "notify", desc := "()V" } : Jvm.MethodName)) ∈ lw_all := lw_g (lw_at lw_m4 124 rfl) rfl
theorem q1050 : (Jvm.Cond.selects "Haltingale$Rule" ({ cls := "java/lang/Object", name := "notifyAll", desc := "()V" } : Jvm.MethodName) ({ cls := "java/lang/Object", name := "notifyAll", desc := "()V" } : Jvm.MethodName)) ∈ lw_all := lw_g (lw_at lw_m5 66 rfl) rfl
theorem q1179 : (Jvm.Cond.instanceMethod ({ cls := "Haltingale$Rule", name := "turned", desc := "()LHaltingale$Rule;" } : Jvm.MethodName)) ∈ lw_all := lw_g (lw_at lw_m5 195 rfl) rfl
theorem q1180 : (Jvm.Cond.selects "Haltingale$Rule" ({ cls := "Haltingale$Rule", name := "turned", desc := "()LHaltingale$Rule;" } : Jvm.MethodName) ({ cls := "Haltingale$Rule", name := "turned", desc := "()LHaltingale$Rule;" } : Jvm.MethodName)) ∈ lw_all := lw_g (lw_at lw_m5 196 rfl) rfl
theorem q1181 : (Jvm.Cond.code ({ cls := "Haltingale$Rule", name := "turned", desc := "()LHaltingale$Rule;" } : Jvm.MethodName) prog_12_method_2_code (1 : Nat) (Option.some (Jvm.ClassFile.FieldType.object "Haltingale$Rule"))) ∈ lw_all := lw_g (lw_at lw_m5 197 rfl) rfl
theorem q1182 : (Jvm.Cond.classLink "Haltingale$Rule" (8 : Nat) "Haltingale$Rule") ∈ lw_all := lw_g (lw_at lw_m5 198 rfl) rfl
theorem q1183 : (Jvm.Cond.methodLink "Haltingale$Rule" (19 : Nat) ({ cls := "Haltingale$Rule", name := "<init>", desc := "(III)V" } : Jvm.MethodName)) ∈ lw_all := lw_g (lw_at lw_m5 199 rfl) rfl
theorem q1185 : (Jvm.Cond.instanceMethod ({ cls := "Haltingale$Rule", name := "isAs", desc := "(LHaltingale$Rule;)Z" } : Jvm.MethodName)) ∈ lw_all := lw_g (lw_at lw_m5 201 rfl) rfl
theorem q1186 : (Jvm.Cond.selects "Haltingale$Rule" ({ cls := "Haltingale$Rule", name := "isAs", desc := "(LHaltingale$Rule;)Z" } : Jvm.MethodName) ({ cls := "Haltingale$Rule", name := "isAs", desc := "(LHaltingale$Rule;)Z" } : Jvm.MethodName)) ∈ lw_all := lw_g (lw_at lw_m5 202 rfl) rfl
theorem q1187 : (Jvm.Cond.code ({ cls := "Haltingale$Rule", name := "isAs", desc := "(LHaltingale$Rule;)Z" } : Jvm.MethodName) prog_12_method_3_code (2 : Nat) (Option.some Jvm.ClassFile.FieldType.boolean)) ∈ lw_all := lw_g (lw_at lw_m5 203 rfl) rfl
theorem q1670 : (Jvm.Cond.castable "Haltingale$Rule" "java/lang/Object") ∈ lw_tbl := lw_at lw_m7 206 rfl
theorem in_X7 : ∀ w ∈ wsX70, w ∈ lw_all := lw_in wsX70 [826, 828, 830] (by decide +kernel) (by decide +kernel)
/-! Haltingale$Walker -/
set_option maxRecDepth 100000
def RX8 : String := "Haltingale$Walker"
def TX8 : u_T := fun k => match k with
  | 0 => ("Haltingale$Walker", "table", "LHaltingale$Table;", true)
  | 1 => ("Haltingale$Walker", "reach", "I", true)
  | 2 => ("Haltingale$Walker", "tape", "[I", true)
  | 3 => ("Haltingale$Walker", "state", "I", false)
  | 4 => ("Haltingale$Walker", "place", "I", false)
  | 5 => ("Haltingale$Walker", "least", "I", false)
  | 6 => ("Haltingale$Walker", "greatest", "I", false)
  | _ => ("Haltingale$Walker", "steps", "I", false)
def tyX8 : Nat → FieldType := fun k => match k with
  | 0 => .object "Haltingale$Table"
  | 1 => .int
  | 2 => .array .int
  | 3 => .int
  | 4 => .int
  | 5 => .int
  | 6 => .int
  | _ => .int
abbrev wsX80 : List Cond := u_ws RX8 TX8 8
theorem nmX8 : ∀ a, a < 8 → ∀ b, b < 8 → a ≠ b → (TX8 a).2.1 ≠ (TX8 b).2.1 := by decide +kernel
theorem tyX8_ok : ∀ k, k < 8 → parseFieldDescriptor (TX8 k).2.2.1 = some (tyX8 k) := by decide +kernel
abbrev cX8_init : ByteArray := prog_16_method_1_code
def yX8_init : MethodName := ⟨RX8, "<init>", "(LHaltingale$Table;I)V"⟩
def dkwX8_init_1 : List UInt8 := [181, 0, 17, 177]
abbrev dktX8_init_1 : List UInt8 := dkwX8_init_1 ++ []
def dkwX8_init_0 : List UInt8 := [42, 183, 0, 1, 42, 43, 181, 0, 7, 42, 28, 181, 0, 13, 42, 5, 28, 104, 4, 96, 188, 10]
abbrev dktX8_init_0 : List UInt8 := dkwX8_init_0 ++ dktX8_init_1
theorem dksX8_init_0 : cX8_init.data.toList.drop 0 = dktX8_init_0 := by decide +kernel
theorem dksX8_init_1 : cX8_init.data.toList.drop 22 = dktX8_init_1 := dk_seg dksX8_init_0 22 rfl rfl
theorem dX8_init_0 : decode cX8_init 0 = .ok (.aload_n 0, 1) := dk_42 (dk_at dksX8_init_0 0 rfl rfl)
theorem dX8_init_1 : decode cX8_init 1 = .ok (.invokespecial 1, 3) := dk_183 0 1 (dk_at dksX8_init_0 1 rfl rfl)
theorem dX8_init_4 : decode cX8_init 4 = .ok (.aload_n 0, 1) := dk_42 (dk_at dksX8_init_0 4 rfl rfl)
theorem dX8_init_5 : decode cX8_init 5 = .ok (.aload_n 1, 1) := dk_43 (dk_at dksX8_init_0 5 rfl rfl)
theorem dX8_init_6 : decode cX8_init 6 = .ok (.putfield 7, 3) := dk_181 0 7 (dk_at dksX8_init_0 6 rfl rfl)
theorem dX8_init_9 : decode cX8_init 9 = .ok (.aload_n 0, 1) := dk_42 (dk_at dksX8_init_0 9 rfl rfl)
theorem dX8_init_10 : decode cX8_init 10 = .ok (.iload_n 2, 1) := dk_28 (dk_at dksX8_init_0 10 rfl rfl)
theorem dX8_init_11 : decode cX8_init 11 = .ok (.putfield 13, 3) := dk_181 0 13 (dk_at dksX8_init_0 11 rfl rfl)
theorem dX8_init_14 : decode cX8_init 14 = .ok (.aload_n 0, 1) := dk_42 (dk_at dksX8_init_0 14 rfl rfl)
theorem dX8_init_15 : decode cX8_init 15 = .ok (.iconst 2, 1) := dk_5 (dk_at dksX8_init_0 15 rfl rfl)
theorem dX8_init_16 : decode cX8_init 16 = .ok (.iload_n 2, 1) := dk_28 (dk_at dksX8_init_0 16 rfl rfl)
theorem dX8_init_17 : decode cX8_init 17 = .ok (.imul, 1) := dk_104 (dk_at dksX8_init_0 17 rfl rfl)
theorem dX8_init_18 : decode cX8_init 18 = .ok (.iconst 1, 1) := dk_4 (dk_at dksX8_init_0 18 rfl rfl)
theorem dX8_init_19 : decode cX8_init 19 = .ok (.iadd, 1) := dk_96 (dk_at dksX8_init_0 19 rfl rfl)
theorem dX8_init_20 : decode cX8_init 20 = .ok (.newarray .int, 2) := dk_188_10 (dk_at dksX8_init_0 20 rfl rfl)
theorem dX8_init_22 : decode cX8_init 22 = .ok (.putfield 17, 3) := dk_181 0 17 (dk_at dksX8_init_1 0 rfl rfl)
theorem dX8_init_25 : decode cX8_init 25 = .ok (.return_, 1) := dk_177 (dk_at dksX8_init_1 3 rfl rfl)
abbrev cX8_walk : ByteArray := prog_16_method_7_code
def yX8_walk : MethodName := ⟨RX8, "walk", "(I)LHaltingale$Walker;"⟩
def dkwX8_walk_1 : List UInt8 := [42, 176]
abbrev dktX8_walk_1 : List UInt8 := dkwX8_walk_1 ++ []
def dkwX8_walk_0 : List UInt8 := [3, 61, 28, 27, 162, 0, 20, 42, 182, 0, 85, 153, 0, 13, 42, 182, 0, 88, 132, 2, 1, 167, 255, 237]
abbrev dktX8_walk_0 : List UInt8 := dkwX8_walk_0 ++ dktX8_walk_1
theorem dksX8_walk_0 : cX8_walk.data.toList.drop 0 = dktX8_walk_0 := by decide +kernel
theorem dksX8_walk_1 : cX8_walk.data.toList.drop 24 = dktX8_walk_1 := dk_seg dksX8_walk_0 24 rfl rfl
theorem dX8_walk_0 : decode cX8_walk 0 = .ok (.iconst 0, 1) := dk_3 (dk_at dksX8_walk_0 0 rfl rfl)
theorem dX8_walk_1 : decode cX8_walk 1 = .ok (.istore_n 2, 1) := dk_61 (dk_at dksX8_walk_0 1 rfl rfl)
theorem dX8_walk_2 : decode cX8_walk 2 = .ok (.iload_n 2, 1) := dk_28 (dk_at dksX8_walk_0 2 rfl rfl)
theorem dX8_walk_3 : decode cX8_walk 3 = .ok (.iload_n 1, 1) := dk_27 (dk_at dksX8_walk_0 3 rfl rfl)
theorem dX8_walk_4 : decode cX8_walk 4 = .ok (.if_icmp .ge 20, 3) := dk_162 0 20 (dk_at dksX8_walk_0 4 rfl rfl)
theorem dX8_walk_7 : decode cX8_walk 7 = .ok (.aload_n 0, 1) := dk_42 (dk_at dksX8_walk_0 7 rfl rfl)
theorem dX8_walk_8 : decode cX8_walk 8 = .ok (.invokevirtual 85, 3) := dk_182 0 85 (dk_at dksX8_walk_0 8 rfl rfl)
theorem dX8_walk_11 : decode cX8_walk 11 = .ok (.ifCond .eq 13, 3) := dk_153 0 13 (dk_at dksX8_walk_0 11 rfl rfl)
theorem dX8_walk_14 : decode cX8_walk 14 = .ok (.aload_n 0, 1) := dk_42 (dk_at dksX8_walk_0 14 rfl rfl)
theorem dX8_walk_15 : decode cX8_walk 15 = .ok (.invokevirtual 88, 3) := dk_182 0 88 (dk_at dksX8_walk_0 15 rfl rfl)
theorem dX8_walk_18 : decode cX8_walk 18 = .ok (.iinc 2 1, 3) := dk_132 2 1 (dk_at dksX8_walk_0 18 rfl rfl)
theorem dX8_walk_21 : decode cX8_walk 21 = .ok (.goto (-19), 3) := dk_167 255 237 (dk_at dksX8_walk_0 21 rfl rfl)
theorem dX8_walk_24 : decode cX8_walk 24 = .ok (.aload_n 0, 1) := dk_42 (dk_at dksX8_walk_1 0 rfl rfl)
theorem dX8_walk_25 : decode cX8_walk 25 = .ok (.areturn, 1) := dk_176 (dk_at dksX8_walk_1 1 rfl rfl)
abbrev cX8_goesOn : ByteArray := prog_16_method_5_code
def yX8_goesOn : MethodName := ⟨RX8, "goesOn", "()Z"⟩
def dkwX8_goesOn_0 : List UInt8 := [42, 182, 0, 29, 154, 0, 14, 42, 182, 0, 49, 154, 0, 7, 4, 167, 0, 4, 3, 172]
abbrev dktX8_goesOn_0 : List UInt8 := dkwX8_goesOn_0 ++ []
theorem dksX8_goesOn_0 : cX8_goesOn.data.toList.drop 0 = dktX8_goesOn_0 := by decide +kernel
theorem dX8_goesOn_0 : decode cX8_goesOn 0 = .ok (.aload_n 0, 1) := dk_42 (dk_at dksX8_goesOn_0 0 rfl rfl)
theorem dX8_goesOn_1 : decode cX8_goesOn 1 = .ok (.invokevirtual 29, 3) := dk_182 0 29 (dk_at dksX8_goesOn_0 1 rfl rfl)
theorem dX8_goesOn_4 : decode cX8_goesOn 4 = .ok (.ifCond .ne 14, 3) := dk_154 0 14 (dk_at dksX8_goesOn_0 4 rfl rfl)
theorem dX8_goesOn_7 : decode cX8_goesOn 7 = .ok (.aload_n 0, 1) := dk_42 (dk_at dksX8_goesOn_0 7 rfl rfl)
theorem dX8_goesOn_8 : decode cX8_goesOn 8 = .ok (.invokevirtual 49, 3) := dk_182 0 49 (dk_at dksX8_goesOn_0 8 rfl rfl)
theorem dX8_goesOn_11 : decode cX8_goesOn 11 = .ok (.ifCond .ne 7, 3) := dk_154 0 7 (dk_at dksX8_goesOn_0 11 rfl rfl)
theorem dX8_goesOn_14 : decode cX8_goesOn 14 = .ok (.iconst 1, 1) := dk_4 (dk_at dksX8_goesOn_0 14 rfl rfl)
theorem dX8_goesOn_15 : decode cX8_goesOn 15 = .ok (.goto 4, 3) := dk_167 0 4 (dk_at dksX8_goesOn_0 15 rfl rfl)
theorem dX8_goesOn_18 : decode cX8_goesOn 18 = .ok (.iconst 0, 1) := dk_3 (dk_at dksX8_goesOn_0 18 rfl rfl)
theorem dX8_goesOn_19 : decode cX8_goesOn 19 = .ok (.ireturn, 1) := dk_172 (dk_at dksX8_goesOn_0 19 rfl rfl)
abbrev cX8_hasStopped : ByteArray := prog_16_method_3_code
def yX8_hasStopped : MethodName := ⟨RX8, "hasStopped", "()Z"⟩
def dkwX8_hasStopped_0 : List UInt8 := [42, 180, 0, 21, 42, 180, 0, 7, 180, 0, 24, 160, 0, 7, 4, 167, 0, 4, 3, 172]
abbrev dktX8_hasStopped_0 : List UInt8 := dkwX8_hasStopped_0 ++ []
theorem dksX8_hasStopped_0 : cX8_hasStopped.data.toList.drop 0 = dktX8_hasStopped_0 := by decide +kernel
theorem dX8_hasStopped_0 : decode cX8_hasStopped 0 = .ok (.aload_n 0, 1) := dk_42 (dk_at dksX8_hasStopped_0 0 rfl rfl)
theorem dX8_hasStopped_1 : decode cX8_hasStopped 1 = .ok (.getfield 21, 3) := dk_180 0 21 (dk_at dksX8_hasStopped_0 1 rfl rfl)
theorem dX8_hasStopped_4 : decode cX8_hasStopped 4 = .ok (.aload_n 0, 1) := dk_42 (dk_at dksX8_hasStopped_0 4 rfl rfl)
theorem dX8_hasStopped_5 : decode cX8_hasStopped 5 = .ok (.getfield 7, 3) := dk_180 0 7 (dk_at dksX8_hasStopped_0 5 rfl rfl)
theorem dX8_hasStopped_8 : decode cX8_hasStopped 8 = .ok (.getfield 24, 3) := dk_180 0 24 (dk_at dksX8_hasStopped_0 8 rfl rfl)
theorem dX8_hasStopped_11 : decode cX8_hasStopped 11 = .ok (.if_icmp .ne 7, 3) := dk_160 0 7 (dk_at dksX8_hasStopped_0 11 rfl rfl)
theorem dX8_hasStopped_14 : decode cX8_hasStopped 14 = .ok (.iconst 1, 1) := dk_4 (dk_at dksX8_hasStopped_0 14 rfl rfl)
theorem dX8_hasStopped_15 : decode cX8_hasStopped 15 = .ok (.goto 4, 3) := dk_167 0 4 (dk_at dksX8_hasStopped_0 15 rfl rfl)
theorem dX8_hasStopped_18 : decode cX8_hasStopped 18 = .ok (.iconst 0, 1) := dk_3 (dk_at dksX8_hasStopped_0 18 rfl rfl)
theorem dX8_hasStopped_19 : decode cX8_hasStopped 19 = .ok (.ireturn, 1) := dk_172 (dk_at dksX8_hasStopped_0 19 rfl rfl)
abbrev cX8_hangs : ByteArray := prog_16_method_4_code
def yX8_hangs : MethodName := ⟨RX8, "hangs", "()Z"⟩
def dkwX8_hangs_1 : List UInt8 := [182, 0, 40, 182, 0, 44, 154, 0, 7, 4, 167, 0, 4, 3, 172]
abbrev dktX8_hangs_1 : List UInt8 := dkwX8_hangs_1 ++ []
def dkwX8_hangs_0 : List UInt8 := [42, 182, 0, 29, 154, 0, 32, 42, 180, 0, 7, 42, 180, 0, 21, 42, 42, 180, 0, 33, 182, 0, 36]
abbrev dktX8_hangs_0 : List UInt8 := dkwX8_hangs_0 ++ dktX8_hangs_1
theorem dksX8_hangs_0 : cX8_hangs.data.toList.drop 0 = dktX8_hangs_0 := by decide +kernel
theorem dksX8_hangs_1 : cX8_hangs.data.toList.drop 23 = dktX8_hangs_1 := dk_seg dksX8_hangs_0 23 rfl rfl
theorem dX8_hangs_0 : decode cX8_hangs 0 = .ok (.aload_n 0, 1) := dk_42 (dk_at dksX8_hangs_0 0 rfl rfl)
theorem dX8_hangs_1 : decode cX8_hangs 1 = .ok (.invokevirtual 29, 3) := dk_182 0 29 (dk_at dksX8_hangs_0 1 rfl rfl)
theorem dX8_hangs_4 : decode cX8_hangs 4 = .ok (.ifCond .ne 32, 3) := dk_154 0 32 (dk_at dksX8_hangs_0 4 rfl rfl)
theorem dX8_hangs_7 : decode cX8_hangs 7 = .ok (.aload_n 0, 1) := dk_42 (dk_at dksX8_hangs_0 7 rfl rfl)
theorem dX8_hangs_8 : decode cX8_hangs 8 = .ok (.getfield 7, 3) := dk_180 0 7 (dk_at dksX8_hangs_0 8 rfl rfl)
theorem dX8_hangs_11 : decode cX8_hangs 11 = .ok (.aload_n 0, 1) := dk_42 (dk_at dksX8_hangs_0 11 rfl rfl)
theorem dX8_hangs_12 : decode cX8_hangs 12 = .ok (.getfield 21, 3) := dk_180 0 21 (dk_at dksX8_hangs_0 12 rfl rfl)
theorem dX8_hangs_15 : decode cX8_hangs 15 = .ok (.aload_n 0, 1) := dk_42 (dk_at dksX8_hangs_0 15 rfl rfl)
theorem dX8_hangs_16 : decode cX8_hangs 16 = .ok (.aload_n 0, 1) := dk_42 (dk_at dksX8_hangs_0 16 rfl rfl)
theorem dX8_hangs_17 : decode cX8_hangs 17 = .ok (.getfield 33, 3) := dk_180 0 33 (dk_at dksX8_hangs_0 17 rfl rfl)
theorem dX8_hangs_20 : decode cX8_hangs 20 = .ok (.invokevirtual 36, 3) := dk_182 0 36 (dk_at dksX8_hangs_0 20 rfl rfl)
theorem dX8_hangs_23 : decode cX8_hangs 23 = .ok (.invokevirtual 40, 3) := dk_182 0 40 (dk_at dksX8_hangs_1 0 rfl rfl)
theorem dX8_hangs_26 : decode cX8_hangs 26 = .ok (.invokevirtual 44, 3) := dk_182 0 44 (dk_at dksX8_hangs_1 3 rfl rfl)
theorem dX8_hangs_29 : decode cX8_hangs 29 = .ok (.ifCond .ne 7, 3) := dk_154 0 7 (dk_at dksX8_hangs_1 6 rfl rfl)
theorem dX8_hangs_32 : decode cX8_hangs 32 = .ok (.iconst 1, 1) := dk_4 (dk_at dksX8_hangs_1 9 rfl rfl)
theorem dX8_hangs_33 : decode cX8_hangs 33 = .ok (.goto 4, 3) := dk_167 0 4 (dk_at dksX8_hangs_1 10 rfl rfl)
theorem dX8_hangs_36 : decode cX8_hangs 36 = .ok (.iconst 0, 1) := dk_3 (dk_at dksX8_hangs_1 13 rfl rfl)
theorem dX8_hangs_37 : decode cX8_hangs 37 = .ok (.ireturn, 1) := dk_172 (dk_at dksX8_hangs_1 14 rfl rfl)
abbrev cX8_symbol : ByteArray := prog_16_method_2_code
def yX8_symbol : MethodName := ⟨RX8, "symbol", "(I)I"⟩
def dkwX8_symbol_1 : List UInt8 := [180, 0, 17, 42, 180, 0, 13, 27, 96, 46, 172]
abbrev dktX8_symbol_1 : List UInt8 := dkwX8_symbol_1 ++ []
def dkwX8_symbol_0 : List UInt8 := [27, 42, 180, 0, 13, 116, 161, 0, 11, 27, 42, 180, 0, 13, 164, 0, 7, 3, 167, 0, 14, 42]
abbrev dktX8_symbol_0 : List UInt8 := dkwX8_symbol_0 ++ dktX8_symbol_1
theorem dksX8_symbol_0 : cX8_symbol.data.toList.drop 0 = dktX8_symbol_0 := by decide +kernel
theorem dksX8_symbol_1 : cX8_symbol.data.toList.drop 22 = dktX8_symbol_1 := dk_seg dksX8_symbol_0 22 rfl rfl
theorem dX8_symbol_0 : decode cX8_symbol 0 = .ok (.iload_n 1, 1) := dk_27 (dk_at dksX8_symbol_0 0 rfl rfl)
theorem dX8_symbol_1 : decode cX8_symbol 1 = .ok (.aload_n 0, 1) := dk_42 (dk_at dksX8_symbol_0 1 rfl rfl)
theorem dX8_symbol_2 : decode cX8_symbol 2 = .ok (.getfield 13, 3) := dk_180 0 13 (dk_at dksX8_symbol_0 2 rfl rfl)
theorem dX8_symbol_5 : decode cX8_symbol 5 = .ok (.ineg, 1) := dk_116 (dk_at dksX8_symbol_0 5 rfl rfl)
theorem dX8_symbol_6 : decode cX8_symbol 6 = .ok (.if_icmp .lt 11, 3) := dk_161 0 11 (dk_at dksX8_symbol_0 6 rfl rfl)
theorem dX8_symbol_9 : decode cX8_symbol 9 = .ok (.iload_n 1, 1) := dk_27 (dk_at dksX8_symbol_0 9 rfl rfl)
theorem dX8_symbol_10 : decode cX8_symbol 10 = .ok (.aload_n 0, 1) := dk_42 (dk_at dksX8_symbol_0 10 rfl rfl)
theorem dX8_symbol_11 : decode cX8_symbol 11 = .ok (.getfield 13, 3) := dk_180 0 13 (dk_at dksX8_symbol_0 11 rfl rfl)
theorem dX8_symbol_14 : decode cX8_symbol 14 = .ok (.if_icmp .le 7, 3) := dk_164 0 7 (dk_at dksX8_symbol_0 14 rfl rfl)
theorem dX8_symbol_17 : decode cX8_symbol 17 = .ok (.iconst 0, 1) := dk_3 (dk_at dksX8_symbol_0 17 rfl rfl)
theorem dX8_symbol_18 : decode cX8_symbol 18 = .ok (.goto 14, 3) := dk_167 0 14 (dk_at dksX8_symbol_0 18 rfl rfl)
theorem dX8_symbol_21 : decode cX8_symbol 21 = .ok (.aload_n 0, 1) := dk_42 (dk_at dksX8_symbol_0 21 rfl rfl)
theorem dX8_symbol_22 : decode cX8_symbol 22 = .ok (.getfield 17, 3) := dk_180 0 17 (dk_at dksX8_symbol_1 0 rfl rfl)
theorem dX8_symbol_25 : decode cX8_symbol 25 = .ok (.aload_n 0, 1) := dk_42 (dk_at dksX8_symbol_1 3 rfl rfl)
theorem dX8_symbol_26 : decode cX8_symbol 26 = .ok (.getfield 13, 3) := dk_180 0 13 (dk_at dksX8_symbol_1 4 rfl rfl)
theorem dX8_symbol_29 : decode cX8_symbol 29 = .ok (.iload_n 1, 1) := dk_27 (dk_at dksX8_symbol_1 7 rfl rfl)
theorem dX8_symbol_30 : decode cX8_symbol 30 = .ok (.iadd, 1) := dk_96 (dk_at dksX8_symbol_1 8 rfl rfl)
theorem dX8_symbol_31 : decode cX8_symbol 31 = .ok (.iaload, 1) := dk_46 (dk_at dksX8_symbol_1 9 rfl rfl)
theorem dX8_symbol_32 : decode cX8_symbol 32 = .ok (.ireturn, 1) := dk_172 (dk_at dksX8_symbol_1 10 rfl rfl)
abbrev cX8_step : ByteArray := prog_16_method_6_code
def yX8_step : MethodName := ⟨RX8, "step", "()V"⟩
def dkwX8_step_4 : List UInt8 := [181, 0, 76, 42, 89, 180, 0, 82, 4, 96, 181, 0, 82, 177]
abbrev dktX8_step_4 : List UInt8 := dkwX8_step_4 ++ []
def dkwX8_step_3 : List UInt8 := [42, 180, 0, 33, 184, 0, 70, 181, 0, 67, 42, 42, 180, 0, 76, 42, 180, 0, 33, 184, 0, 79]
abbrev dktX8_step_3 : List UInt8 := dkwX8_step_3 ++ dktX8_step_4
def dkwX8_step_2 : List UInt8 := [180, 0, 33, 43, 180, 0, 61, 96, 181, 0, 33, 42, 43, 180, 0, 64, 181, 0, 21, 42, 42, 180, 0, 67]
abbrev dktX8_step_2 : List UInt8 := dkwX8_step_2 ++ dktX8_step_3
def dkwX8_step_1 : List UInt8 := [192, 0, 56, 76, 42, 180, 0, 17, 42, 180, 0, 13, 42, 180, 0, 33, 96, 43, 180, 0, 58, 79, 42, 89]
abbrev dktX8_step_1 : List UInt8 := dkwX8_step_1 ++ dktX8_step_2
def dkwX8_step_0 : List UInt8 := [42, 180, 0, 7, 42, 180, 0, 21, 42, 42, 180, 0, 33, 182, 0, 36, 182, 0, 40, 182, 0, 52]
abbrev dktX8_step_0 : List UInt8 := dkwX8_step_0 ++ dktX8_step_1
theorem dksX8_step_0 : cX8_step.data.toList.drop 0 = dktX8_step_0 := by decide +kernel
theorem dksX8_step_1 : cX8_step.data.toList.drop 22 = dktX8_step_1 := dk_seg dksX8_step_0 22 rfl rfl
theorem dksX8_step_2 : cX8_step.data.toList.drop 46 = dktX8_step_2 := dk_seg dksX8_step_1 24 rfl rfl
theorem dksX8_step_3 : cX8_step.data.toList.drop 70 = dktX8_step_3 := dk_seg dksX8_step_2 24 rfl rfl
theorem dksX8_step_4 : cX8_step.data.toList.drop 92 = dktX8_step_4 := dk_seg dksX8_step_3 22 rfl rfl
theorem dX8_step_0 : decode cX8_step 0 = .ok (.aload_n 0, 1) := dk_42 (dk_at dksX8_step_0 0 rfl rfl)
theorem dX8_step_1 : decode cX8_step 1 = .ok (.getfield 7, 3) := dk_180 0 7 (dk_at dksX8_step_0 1 rfl rfl)
theorem dX8_step_4 : decode cX8_step 4 = .ok (.aload_n 0, 1) := dk_42 (dk_at dksX8_step_0 4 rfl rfl)
theorem dX8_step_5 : decode cX8_step 5 = .ok (.getfield 21, 3) := dk_180 0 21 (dk_at dksX8_step_0 5 rfl rfl)
theorem dX8_step_8 : decode cX8_step 8 = .ok (.aload_n 0, 1) := dk_42 (dk_at dksX8_step_0 8 rfl rfl)
theorem dX8_step_9 : decode cX8_step 9 = .ok (.aload_n 0, 1) := dk_42 (dk_at dksX8_step_0 9 rfl rfl)
theorem dX8_step_10 : decode cX8_step 10 = .ok (.getfield 33, 3) := dk_180 0 33 (dk_at dksX8_step_0 10 rfl rfl)
theorem dX8_step_13 : decode cX8_step 13 = .ok (.invokevirtual 36, 3) := dk_182 0 36 (dk_at dksX8_step_0 13 rfl rfl)
theorem dX8_step_16 : decode cX8_step 16 = .ok (.invokevirtual 40, 3) := dk_182 0 40 (dk_at dksX8_step_0 16 rfl rfl)
theorem dX8_step_19 : decode cX8_step 19 = .ok (.invokevirtual 52, 3) := dk_182 0 52 (dk_at dksX8_step_0 19 rfl rfl)
theorem dX8_step_22 : decode cX8_step 22 = .ok (.checkcast 56, 3) := dk_192 0 56 (dk_at dksX8_step_1 0 rfl rfl)
theorem dX8_step_25 : decode cX8_step 25 = .ok (.astore_n 1, 1) := dk_76 (dk_at dksX8_step_1 3 rfl rfl)
theorem dX8_step_26 : decode cX8_step 26 = .ok (.aload_n 0, 1) := dk_42 (dk_at dksX8_step_1 4 rfl rfl)
theorem dX8_step_27 : decode cX8_step 27 = .ok (.getfield 17, 3) := dk_180 0 17 (dk_at dksX8_step_1 5 rfl rfl)
theorem dX8_step_30 : decode cX8_step 30 = .ok (.aload_n 0, 1) := dk_42 (dk_at dksX8_step_1 8 rfl rfl)
theorem dX8_step_31 : decode cX8_step 31 = .ok (.getfield 13, 3) := dk_180 0 13 (dk_at dksX8_step_1 9 rfl rfl)
theorem dX8_step_34 : decode cX8_step 34 = .ok (.aload_n 0, 1) := dk_42 (dk_at dksX8_step_1 12 rfl rfl)
theorem dX8_step_35 : decode cX8_step 35 = .ok (.getfield 33, 3) := dk_180 0 33 (dk_at dksX8_step_1 13 rfl rfl)
theorem dX8_step_38 : decode cX8_step 38 = .ok (.iadd, 1) := dk_96 (dk_at dksX8_step_1 16 rfl rfl)
theorem dX8_step_39 : decode cX8_step 39 = .ok (.aload_n 1, 1) := dk_43 (dk_at dksX8_step_1 17 rfl rfl)
theorem dX8_step_40 : decode cX8_step 40 = .ok (.getfield 58, 3) := dk_180 0 58 (dk_at dksX8_step_1 18 rfl rfl)
theorem dX8_step_43 : decode cX8_step 43 = .ok (.iastore, 1) := dk_79 (dk_at dksX8_step_1 21 rfl rfl)
theorem dX8_step_44 : decode cX8_step 44 = .ok (.aload_n 0, 1) := dk_42 (dk_at dksX8_step_1 22 rfl rfl)
theorem dX8_step_45 : decode cX8_step 45 = .ok (.dup, 1) := dk_89 (dk_at dksX8_step_1 23 rfl rfl)
theorem dX8_step_46 : decode cX8_step 46 = .ok (.getfield 33, 3) := dk_180 0 33 (dk_at dksX8_step_2 0 rfl rfl)
theorem dX8_step_49 : decode cX8_step 49 = .ok (.aload_n 1, 1) := dk_43 (dk_at dksX8_step_2 3 rfl rfl)
theorem dX8_step_50 : decode cX8_step 50 = .ok (.getfield 61, 3) := dk_180 0 61 (dk_at dksX8_step_2 4 rfl rfl)
theorem dX8_step_53 : decode cX8_step 53 = .ok (.iadd, 1) := dk_96 (dk_at dksX8_step_2 7 rfl rfl)
theorem dX8_step_54 : decode cX8_step 54 = .ok (.putfield 33, 3) := dk_181 0 33 (dk_at dksX8_step_2 8 rfl rfl)
theorem dX8_step_57 : decode cX8_step 57 = .ok (.aload_n 0, 1) := dk_42 (dk_at dksX8_step_2 11 rfl rfl)
theorem dX8_step_58 : decode cX8_step 58 = .ok (.aload_n 1, 1) := dk_43 (dk_at dksX8_step_2 12 rfl rfl)
theorem dX8_step_59 : decode cX8_step 59 = .ok (.getfield 64, 3) := dk_180 0 64 (dk_at dksX8_step_2 13 rfl rfl)
theorem dX8_step_62 : decode cX8_step 62 = .ok (.putfield 21, 3) := dk_181 0 21 (dk_at dksX8_step_2 16 rfl rfl)
theorem dX8_step_65 : decode cX8_step 65 = .ok (.aload_n 0, 1) := dk_42 (dk_at dksX8_step_2 19 rfl rfl)
theorem dX8_step_66 : decode cX8_step 66 = .ok (.aload_n 0, 1) := dk_42 (dk_at dksX8_step_2 20 rfl rfl)
theorem dX8_step_67 : decode cX8_step 67 = .ok (.getfield 67, 3) := dk_180 0 67 (dk_at dksX8_step_2 21 rfl rfl)
theorem dX8_step_70 : decode cX8_step 70 = .ok (.aload_n 0, 1) := dk_42 (dk_at dksX8_step_3 0 rfl rfl)
theorem dX8_step_71 : decode cX8_step 71 = .ok (.getfield 33, 3) := dk_180 0 33 (dk_at dksX8_step_3 1 rfl rfl)
theorem dX8_step_74 : decode cX8_step 74 = .ok (.invokestatic 70, 3) := dk_184 0 70 (dk_at dksX8_step_3 4 rfl rfl)
theorem dX8_step_77 : decode cX8_step 77 = .ok (.putfield 67, 3) := dk_181 0 67 (dk_at dksX8_step_3 7 rfl rfl)
theorem dX8_step_80 : decode cX8_step 80 = .ok (.aload_n 0, 1) := dk_42 (dk_at dksX8_step_3 10 rfl rfl)
theorem dX8_step_81 : decode cX8_step 81 = .ok (.aload_n 0, 1) := dk_42 (dk_at dksX8_step_3 11 rfl rfl)
theorem dX8_step_82 : decode cX8_step 82 = .ok (.getfield 76, 3) := dk_180 0 76 (dk_at dksX8_step_3 12 rfl rfl)
theorem dX8_step_85 : decode cX8_step 85 = .ok (.aload_n 0, 1) := dk_42 (dk_at dksX8_step_3 15 rfl rfl)
theorem dX8_step_86 : decode cX8_step 86 = .ok (.getfield 33, 3) := dk_180 0 33 (dk_at dksX8_step_3 16 rfl rfl)
theorem dX8_step_89 : decode cX8_step 89 = .ok (.invokestatic 79, 3) := dk_184 0 79 (dk_at dksX8_step_3 19 rfl rfl)
theorem dX8_step_92 : decode cX8_step 92 = .ok (.putfield 76, 3) := dk_181 0 76 (dk_at dksX8_step_4 0 rfl rfl)
theorem dX8_step_95 : decode cX8_step 95 = .ok (.aload_n 0, 1) := dk_42 (dk_at dksX8_step_4 3 rfl rfl)
theorem dX8_step_96 : decode cX8_step 96 = .ok (.dup, 1) := dk_89 (dk_at dksX8_step_4 4 rfl rfl)
theorem dX8_step_97 : decode cX8_step 97 = .ok (.getfield 82, 3) := dk_180 0 82 (dk_at dksX8_step_4 5 rfl rfl)
theorem dX8_step_100 : decode cX8_step 100 = .ok (.iconst 1, 1) := dk_4 (dk_at dksX8_step_4 8 rfl rfl)
theorem dX8_step_101 : decode cX8_step 101 = .ok (.iadd, 1) := dk_96 (dk_at dksX8_step_4 9 rfl rfl)
theorem dX8_step_102 : decode cX8_step 102 = .ok (.putfield 82, 3) := dk_181 0 82 (dk_at dksX8_step_4 10 rfl rfl)
theorem dX8_step_105 : decode cX8_step 105 = .ok (.return_, 1) := dk_177 (dk_at dksX8_step_4 13 rfl rfl)
abbrev cX8_ones : ByteArray := prog_16_method_8_code
def yX8_ones : MethodName := ⟨RX8, "ones", "()I"⟩
def dkwX8_ones_1 : List UInt8 := [54, 5, 27, 21, 5, 96, 60, 132, 4, 1, 167, 255, 236, 27, 172]
abbrev dktX8_ones_1 : List UInt8 := dkwX8_ones_1 ++ []
def dkwX8_ones_0 : List UInt8 := [3, 60, 42, 180, 0, 17, 77, 44, 190, 62, 3, 54, 4, 21, 4, 29, 162, 0, 20, 44, 21, 4, 46]
abbrev dktX8_ones_0 : List UInt8 := dkwX8_ones_0 ++ dktX8_ones_1
theorem dksX8_ones_0 : cX8_ones.data.toList.drop 0 = dktX8_ones_0 := by decide +kernel
theorem dksX8_ones_1 : cX8_ones.data.toList.drop 23 = dktX8_ones_1 := dk_seg dksX8_ones_0 23 rfl rfl
theorem dX8_ones_0 : decode cX8_ones 0 = .ok (.iconst 0, 1) := dk_3 (dk_at dksX8_ones_0 0 rfl rfl)
theorem dX8_ones_1 : decode cX8_ones 1 = .ok (.istore_n 1, 1) := dk_60 (dk_at dksX8_ones_0 1 rfl rfl)
theorem dX8_ones_2 : decode cX8_ones 2 = .ok (.aload_n 0, 1) := dk_42 (dk_at dksX8_ones_0 2 rfl rfl)
theorem dX8_ones_3 : decode cX8_ones 3 = .ok (.getfield 17, 3) := dk_180 0 17 (dk_at dksX8_ones_0 3 rfl rfl)
theorem dX8_ones_6 : decode cX8_ones 6 = .ok (.astore_n 2, 1) := dk_77 (dk_at dksX8_ones_0 6 rfl rfl)
theorem dX8_ones_7 : decode cX8_ones 7 = .ok (.aload_n 2, 1) := dk_44 (dk_at dksX8_ones_0 7 rfl rfl)
theorem dX8_ones_8 : decode cX8_ones 8 = .ok (.arraylength, 1) := dk_190 (dk_at dksX8_ones_0 8 rfl rfl)
theorem dX8_ones_9 : decode cX8_ones 9 = .ok (.istore_n 3, 1) := dk_62 (dk_at dksX8_ones_0 9 rfl rfl)
theorem dX8_ones_10 : decode cX8_ones 10 = .ok (.iconst 0, 1) := dk_3 (dk_at dksX8_ones_0 10 rfl rfl)
theorem dX8_ones_11 : decode cX8_ones 11 = .ok (.istore 4, 2) := dk_54 4 (dk_at dksX8_ones_0 11 rfl rfl)
theorem dX8_ones_13 : decode cX8_ones 13 = .ok (.iload 4, 2) := dk_21 4 (dk_at dksX8_ones_0 13 rfl rfl)
theorem dX8_ones_15 : decode cX8_ones 15 = .ok (.iload_n 3, 1) := dk_29 (dk_at dksX8_ones_0 15 rfl rfl)
theorem dX8_ones_16 : decode cX8_ones 16 = .ok (.if_icmp .ge 20, 3) := dk_162 0 20 (dk_at dksX8_ones_0 16 rfl rfl)
theorem dX8_ones_19 : decode cX8_ones 19 = .ok (.aload_n 2, 1) := dk_44 (dk_at dksX8_ones_0 19 rfl rfl)
theorem dX8_ones_20 : decode cX8_ones 20 = .ok (.iload 4, 2) := dk_21 4 (dk_at dksX8_ones_0 20 rfl rfl)
theorem dX8_ones_22 : decode cX8_ones 22 = .ok (.iaload, 1) := dk_46 (dk_at dksX8_ones_0 22 rfl rfl)
theorem dX8_ones_23 : decode cX8_ones 23 = .ok (.istore 5, 2) := dk_54 5 (dk_at dksX8_ones_1 0 rfl rfl)
theorem dX8_ones_25 : decode cX8_ones 25 = .ok (.iload_n 1, 1) := dk_27 (dk_at dksX8_ones_1 2 rfl rfl)
theorem dX8_ones_26 : decode cX8_ones 26 = .ok (.iload 5, 2) := dk_21 5 (dk_at dksX8_ones_1 3 rfl rfl)
theorem dX8_ones_28 : decode cX8_ones 28 = .ok (.iadd, 1) := dk_96 (dk_at dksX8_ones_1 5 rfl rfl)
theorem dX8_ones_29 : decode cX8_ones 29 = .ok (.istore_n 1, 1) := dk_60 (dk_at dksX8_ones_1 6 rfl rfl)
theorem dX8_ones_30 : decode cX8_ones 30 = .ok (.iinc 4 1, 3) := dk_132 4 1 (dk_at dksX8_ones_1 7 rfl rfl)
theorem dX8_ones_33 : decode cX8_ones 33 = .ok (.goto (-20), 3) := dk_167 255 236 (dk_at dksX8_ones_1 10 rfl rfl)
theorem dX8_ones_36 : decode cX8_ones 36 = .ok (.iload_n 1, 1) := dk_27 (dk_at dksX8_ones_1 13 rfl rfl)
theorem dX8_ones_37 : decode cX8_ones 37 = .ok (.ireturn, 1) := dk_172 (dk_at dksX8_ones_1 14 rfl rfl)
abbrev cX8_told : ByteArray := prog_16_method_10_code
def yX8_told : MethodName := ⟨RX8, "told", "(I)I"⟩
def dkwX8_told_3 : List UInt8 := [172, 42, 180, 0, 67, 172, 42, 180, 0, 76, 172]
abbrev dktX8_told_3 : List UInt8 := dkwX8_told_3 ++ []
def dkwX8_told_2 : List UInt8 := [42, 180, 0, 82, 172, 42, 180, 0, 21, 172, 42, 180, 0, 33, 172, 42, 182, 0, 91, 172, 42, 182, 0, 95]
abbrev dktX8_told_2 : List UInt8 := dkwX8_told_2 ++ dktX8_told_3
def dkwX8_told_1 : List UInt8 := [170, 0, 0, 0, 0, 0, 69, 0, 0, 0, 0, 0, 0, 0, 5, 0, 0, 0, 39, 0, 0, 0, 44, 0, 0, 0, 49, 0, 0, 0, 54, 0, 0, 0, 59, 0, 0, 0, 64]
abbrev dktX8_told_1 : List UInt8 := dkwX8_told_1 ++ dktX8_told_2
def dkwX8_told_0 : List UInt8 := [27]
abbrev dktX8_told_0 : List UInt8 := dkwX8_told_0 ++ dktX8_told_1
theorem dksX8_told_0 : cX8_told.data.toList.drop 0 = dktX8_told_0 := by decide +kernel
theorem dksX8_told_1 : cX8_told.data.toList.drop 1 = dktX8_told_1 := dk_seg dksX8_told_0 1 rfl rfl
theorem dksX8_told_2 : cX8_told.data.toList.drop 40 = dktX8_told_2 := dk_seg dksX8_told_1 39 rfl rfl
theorem dksX8_told_3 : cX8_told.data.toList.drop 64 = dktX8_told_3 := dk_seg dksX8_told_2 24 rfl rfl
theorem dX8_told_0 : decode cX8_told 0 = .ok (.iload_n 1, 1) := dk_27 (dk_at dksX8_told_0 0 rfl rfl)
theorem dX8_told_1 : decode cX8_told 1 = .ok (.tableswitch 69 0 5 #[39, 44, 49, 54, 59, 64], 39) := by decide +kernel
theorem dX8_told_40 : decode cX8_told 40 = .ok (.aload_n 0, 1) := dk_42 (dk_at dksX8_told_2 0 rfl rfl)
theorem dX8_told_41 : decode cX8_told 41 = .ok (.getfield 82, 3) := dk_180 0 82 (dk_at dksX8_told_2 1 rfl rfl)
theorem dX8_told_44 : decode cX8_told 44 = .ok (.ireturn, 1) := dk_172 (dk_at dksX8_told_2 4 rfl rfl)
theorem dX8_told_45 : decode cX8_told 45 = .ok (.aload_n 0, 1) := dk_42 (dk_at dksX8_told_2 5 rfl rfl)
theorem dX8_told_46 : decode cX8_told 46 = .ok (.getfield 21, 3) := dk_180 0 21 (dk_at dksX8_told_2 6 rfl rfl)
theorem dX8_told_49 : decode cX8_told 49 = .ok (.ireturn, 1) := dk_172 (dk_at dksX8_told_2 9 rfl rfl)
theorem dX8_told_50 : decode cX8_told 50 = .ok (.aload_n 0, 1) := dk_42 (dk_at dksX8_told_2 10 rfl rfl)
theorem dX8_told_51 : decode cX8_told 51 = .ok (.getfield 33, 3) := dk_180 0 33 (dk_at dksX8_told_2 11 rfl rfl)
theorem dX8_told_54 : decode cX8_told 54 = .ok (.ireturn, 1) := dk_172 (dk_at dksX8_told_2 14 rfl rfl)
theorem dX8_told_55 : decode cX8_told 55 = .ok (.aload_n 0, 1) := dk_42 (dk_at dksX8_told_2 15 rfl rfl)
theorem dX8_told_56 : decode cX8_told 56 = .ok (.invokevirtual 91, 3) := dk_182 0 91 (dk_at dksX8_told_2 16 rfl rfl)
theorem dX8_told_59 : decode cX8_told 59 = .ok (.ireturn, 1) := dk_172 (dk_at dksX8_told_2 19 rfl rfl)
theorem dX8_told_60 : decode cX8_told 60 = .ok (.aload_n 0, 1) := dk_42 (dk_at dksX8_told_2 20 rfl rfl)
theorem dX8_told_61 : decode cX8_told 61 = .ok (.invokevirtual 95, 3) := dk_182 0 95 (dk_at dksX8_told_2 21 rfl rfl)
theorem dX8_told_64 : decode cX8_told 64 = .ok (.ireturn, 1) := dk_172 (dk_at dksX8_told_3 0 rfl rfl)
theorem dX8_told_65 : decode cX8_told 65 = .ok (.aload_n 0, 1) := dk_42 (dk_at dksX8_told_3 1 rfl rfl)
theorem dX8_told_66 : decode cX8_told 66 = .ok (.getfield 67, 3) := dk_180 0 67 (dk_at dksX8_told_3 2 rfl rfl)
theorem dX8_told_69 : decode cX8_told 69 = .ok (.ireturn, 1) := dk_172 (dk_at dksX8_told_3 5 rfl rfl)
theorem dX8_told_70 : decode cX8_told 70 = .ok (.aload_n 0, 1) := dk_42 (dk_at dksX8_told_3 6 rfl rfl)
theorem dX8_told_71 : decode cX8_told 71 = .ok (.getfield 76, 3) := dk_180 0 76 (dk_at dksX8_told_3 7 rfl rfl)
theorem dX8_told_74 : decode cX8_told 74 = .ok (.ireturn, 1) := dk_172 (dk_at dksX8_told_3 10 rfl rfl)
abbrev cX8_runs : ByteArray := prog_16_method_9_code
def yX8_runs : MethodName := ⟨RX8, "runs", "()I"⟩
def dkwX8_runs_1 : List UInt8 := [28, 4, 100, 182, 0, 36, 160, 0, 7, 3, 167, 0, 4, 4, 96, 60, 132, 2, 1, 167, 255, 222, 27, 172]
abbrev dktX8_runs_1 : List UInt8 := dkwX8_runs_1 ++ []
def dkwX8_runs_0 : List UInt8 := [4, 60, 42, 180, 0, 67, 4, 96, 61, 28, 42, 180, 0, 76, 163, 0, 32, 27, 42, 28, 182, 0, 36, 42]
abbrev dktX8_runs_0 : List UInt8 := dkwX8_runs_0 ++ dktX8_runs_1
theorem dksX8_runs_0 : cX8_runs.data.toList.drop 0 = dktX8_runs_0 := by decide +kernel
theorem dksX8_runs_1 : cX8_runs.data.toList.drop 24 = dktX8_runs_1 := dk_seg dksX8_runs_0 24 rfl rfl
theorem dX8_runs_0 : decode cX8_runs 0 = .ok (.iconst 1, 1) := dk_4 (dk_at dksX8_runs_0 0 rfl rfl)
theorem dX8_runs_1 : decode cX8_runs 1 = .ok (.istore_n 1, 1) := dk_60 (dk_at dksX8_runs_0 1 rfl rfl)
theorem dX8_runs_2 : decode cX8_runs 2 = .ok (.aload_n 0, 1) := dk_42 (dk_at dksX8_runs_0 2 rfl rfl)
theorem dX8_runs_3 : decode cX8_runs 3 = .ok (.getfield 67, 3) := dk_180 0 67 (dk_at dksX8_runs_0 3 rfl rfl)
theorem dX8_runs_6 : decode cX8_runs 6 = .ok (.iconst 1, 1) := dk_4 (dk_at dksX8_runs_0 6 rfl rfl)
theorem dX8_runs_7 : decode cX8_runs 7 = .ok (.iadd, 1) := dk_96 (dk_at dksX8_runs_0 7 rfl rfl)
theorem dX8_runs_8 : decode cX8_runs 8 = .ok (.istore_n 2, 1) := dk_61 (dk_at dksX8_runs_0 8 rfl rfl)
theorem dX8_runs_9 : decode cX8_runs 9 = .ok (.iload_n 2, 1) := dk_28 (dk_at dksX8_runs_0 9 rfl rfl)
theorem dX8_runs_10 : decode cX8_runs 10 = .ok (.aload_n 0, 1) := dk_42 (dk_at dksX8_runs_0 10 rfl rfl)
theorem dX8_runs_11 : decode cX8_runs 11 = .ok (.getfield 76, 3) := dk_180 0 76 (dk_at dksX8_runs_0 11 rfl rfl)
theorem dX8_runs_14 : decode cX8_runs 14 = .ok (.if_icmp .gt 32, 3) := dk_163 0 32 (dk_at dksX8_runs_0 14 rfl rfl)
theorem dX8_runs_17 : decode cX8_runs 17 = .ok (.iload_n 1, 1) := dk_27 (dk_at dksX8_runs_0 17 rfl rfl)
theorem dX8_runs_18 : decode cX8_runs 18 = .ok (.aload_n 0, 1) := dk_42 (dk_at dksX8_runs_0 18 rfl rfl)
theorem dX8_runs_19 : decode cX8_runs 19 = .ok (.iload_n 2, 1) := dk_28 (dk_at dksX8_runs_0 19 rfl rfl)
theorem dX8_runs_20 : decode cX8_runs 20 = .ok (.invokevirtual 36, 3) := dk_182 0 36 (dk_at dksX8_runs_0 20 rfl rfl)
theorem dX8_runs_23 : decode cX8_runs 23 = .ok (.aload_n 0, 1) := dk_42 (dk_at dksX8_runs_0 23 rfl rfl)
theorem dX8_runs_24 : decode cX8_runs 24 = .ok (.iload_n 2, 1) := dk_28 (dk_at dksX8_runs_1 0 rfl rfl)
theorem dX8_runs_25 : decode cX8_runs 25 = .ok (.iconst 1, 1) := dk_4 (dk_at dksX8_runs_1 1 rfl rfl)
theorem dX8_runs_26 : decode cX8_runs 26 = .ok (.isub, 1) := dk_100 (dk_at dksX8_runs_1 2 rfl rfl)
theorem dX8_runs_27 : decode cX8_runs 27 = .ok (.invokevirtual 36, 3) := dk_182 0 36 (dk_at dksX8_runs_1 3 rfl rfl)
theorem dX8_runs_30 : decode cX8_runs 30 = .ok (.if_icmp .ne 7, 3) := dk_160 0 7 (dk_at dksX8_runs_1 6 rfl rfl)
theorem dX8_runs_33 : decode cX8_runs 33 = .ok (.iconst 0, 1) := dk_3 (dk_at dksX8_runs_1 9 rfl rfl)
theorem dX8_runs_34 : decode cX8_runs 34 = .ok (.goto 4, 3) := dk_167 0 4 (dk_at dksX8_runs_1 10 rfl rfl)
theorem dX8_runs_37 : decode cX8_runs 37 = .ok (.iconst 1, 1) := dk_4 (dk_at dksX8_runs_1 13 rfl rfl)
theorem dX8_runs_38 : decode cX8_runs 38 = .ok (.iadd, 1) := dk_96 (dk_at dksX8_runs_1 14 rfl rfl)
theorem dX8_runs_39 : decode cX8_runs 39 = .ok (.istore_n 1, 1) := dk_60 (dk_at dksX8_runs_1 15 rfl rfl)
theorem dX8_runs_40 : decode cX8_runs 40 = .ok (.iinc 2 1, 3) := dk_132 2 1 (dk_at dksX8_runs_1 16 rfl rfl)
theorem dX8_runs_43 : decode cX8_runs 43 = .ok (.goto (-34), 3) := dk_167 255 222 (dk_at dksX8_runs_1 19 rfl rfl)
theorem dX8_runs_46 : decode cX8_runs 46 = .ok (.iload_n 1, 1) := dk_27 (dk_at dksX8_runs_1 22 rfl rfl)
theorem dX8_runs_47 : decode cX8_runs 47 = .ok (.ireturn, 1) := dk_172 (dk_at dksX8_runs_1 23 rfl rfl)
theorem q51 : (Jvm.Cond.initialized "Haltingale$Walker") ∈ lw_all := lw_g (lw_at lw_m1 27 rfl) rfl
theorem q316 : (Jvm.Cond.instantiable "Haltingale$Walker" (8 : Nat)) ∈ lw_all := lw_g (lw_at lw_m2 52 rfl) rfl
theorem q318 : (Jvm.Cond.instanceMethod ({ cls := "Haltingale$Walker", name := "<init>", desc := "(LHaltingale$Table;I)V" } : Jvm.MethodName)) ∈ lw_all := lw_g (lw_at lw_m2 54 rfl) rfl
theorem q319 : (Jvm.Cond.code ({ cls := "Haltingale$Walker", name := "<init>", desc := "(LHaltingale$Table;I)V" } : Jvm.MethodName) prog_16_method_1_code (3 : Nat) (Option.none : Option Jvm.ClassFile.FieldType)) ∈ lw_all := lw_g (lw_at lw_m2 55 rfl) rfl
theorem q320 : (Jvm.Cond.methodLink "Haltingale$Walker" (1 : Nat) ({ cls := "java/lang/Object", name := "<init>", desc := "()V" } : Jvm.MethodName)) ∈ lw_all := lw_g (lw_at lw_m2 56 rfl) rfl
theorem q321 : (Jvm.Cond.fieldLink "Haltingale$Walker" (7 : Nat) "Haltingale$Walker" "table" "LHaltingale$Table;") ∈ lw_all := lw_g (lw_at lw_m2 57 rfl) rfl
theorem q323 : (Jvm.Cond.fieldLink "Haltingale$Walker" (13 : Nat) "Haltingale$Walker" "reach" "I") ∈ lw_all := lw_g (lw_at lw_m2 59 rfl) rfl
theorem q325 : (Jvm.Cond.fieldLink "Haltingale$Walker" (17 : Nat) "Haltingale$Walker" "tape" "[I") ∈ lw_all := lw_g (lw_at lw_m2 61 rfl) rfl
theorem q328 : (Jvm.Cond.fieldLink "Haltingale$Walker" (21 : Nat) "Haltingale$Walker" "state" "I") ∈ lw_all := lw_g (lw_at lw_m2 64 rfl) rfl
theorem q332 : (Jvm.Cond.fieldLink "Haltingale$Walker" (33 : Nat) "Haltingale$Walker" "place" "I") ∈ lw_all := lw_g (lw_at lw_m2 68 rfl) rfl
theorem q333 : (Jvm.Cond.fieldLink "Haltingale$Walker" (67 : Nat) "Haltingale$Walker" "least" "I") ∈ lw_all := lw_g (lw_at lw_m2 69 rfl) rfl
theorem q335 : (Jvm.Cond.fieldLink "Haltingale$Walker" (76 : Nat) "Haltingale$Walker" "greatest" "I") ∈ lw_all := lw_g (lw_at lw_m2 71 rfl) rfl
theorem q340 : (Jvm.Cond.fieldLink "Haltingale$Walker" (82 : Nat) "Haltingale$Walker" "steps" "I") ∈ lw_all := lw_g (lw_at lw_m2 76 rfl) rfl
theorem q341 : (Jvm.Cond.laysFinal "Haltingale$Walker" "Haltingale$Walker" "table" "LHaltingale$Table;") ∈ lw_all := lw_g (lw_at lw_m2 77 rfl) rfl
theorem q342 : (Jvm.Cond.soleField "Haltingale$Walker" "table") ∈ lw_all := lw_g (lw_at lw_m2 78 rfl) rfl
theorem q343 : (Jvm.Cond.laysFinal "Haltingale$Walker" "Haltingale$Walker" "reach" "I") ∈ lw_all := lw_g (lw_at lw_m2 79 rfl) rfl
theorem q344 : (Jvm.Cond.soleField "Haltingale$Walker" "reach") ∈ lw_all := lw_g (lw_at lw_m2 80 rfl) rfl
theorem q345 : (Jvm.Cond.laysFinal "Haltingale$Walker" "Haltingale$Walker" "tape" "[I") ∈ lw_all := lw_g (lw_at lw_m2 81 rfl) rfl
theorem q346 : (Jvm.Cond.soleField "Haltingale$Walker" "tape") ∈ lw_all := lw_g (lw_at lw_m2 82 rfl) rfl
theorem q347 : (Jvm.Cond.lays "Haltingale$Walker" "Haltingale$Walker" "state" "I") ∈ lw_all := lw_g (lw_at lw_m2 83 rfl) rfl
theorem q348 : (Jvm.Cond.soleField "Haltingale$Walker" "state") ∈ lw_all := lw_g (lw_at lw_m2 84 rfl) rfl
theorem q349 : (Jvm.Cond.lays "Haltingale$Walker" "Haltingale$Walker" "place" "I") ∈ lw_all := lw_g (lw_at lw_m2 85 rfl) rfl
theorem q350 : (Jvm.Cond.soleField "Haltingale$Walker" "place") ∈ lw_all := lw_g (lw_at lw_m2 86 rfl) rfl
theorem q351 : (Jvm.Cond.lays "Haltingale$Walker" "Haltingale$Walker" "least" "I") ∈ lw_all := lw_g (lw_at lw_m2 87 rfl) rfl
theorem q352 : (Jvm.Cond.soleField "Haltingale$Walker" "least") ∈ lw_all := lw_g (lw_at lw_m2 88 rfl) rfl
theorem q353 : (Jvm.Cond.lays "Haltingale$Walker" "Haltingale$Walker" "greatest" "I") ∈ lw_all := lw_g (lw_at lw_m2 89 rfl) rfl
theorem q354 : (Jvm.Cond.soleField "Haltingale$Walker" "greatest") ∈ lw_all := lw_g (lw_at lw_m2 90 rfl) rfl
theorem q355 : (Jvm.Cond.lays "Haltingale$Walker" "Haltingale$Walker" "steps" "I") ∈ lw_all := lw_g (lw_at lw_m2 91 rfl) rfl
theorem q356 : (Jvm.Cond.soleField "Haltingale$Walker" "steps") ∈ lw_all := lw_g (lw_at lw_m2 92 rfl) rfl
theorem q357 : (Jvm.Cond.superclass "Haltingale$Walker" "java/lang/Object") ∈ lw_all := lw_g (lw_at lw_m2 93 rfl) rfl
theorem q360 : (Jvm.Cond.instanceMethod ({ cls := "Haltingale$Walker", name := "walk", desc := "(I)LHaltingale$Walker;" } : Jvm.MethodName)) ∈ lw_all := lw_g (lw_at lw_m2 96 rfl) rfl
theorem q361 : (Jvm.Cond.selects "Haltingale$Walker" ({ cls := "Haltingale$Walker", name := "walk", desc := "(I)LHaltingale$Walker;" } : Jvm.MethodName) ({ cls := "Haltingale$Walker", name := "walk", desc := "(I)LHaltingale$Walker;" } : Jvm.MethodName)) ∈ lw_all := lw_g (lw_at lw_m2 97 rfl) rfl
theorem q362 : (Jvm.Cond.code ({ cls := "Haltingale$Walker", name := "walk", desc := "(I)LHaltingale$Walker;" } : Jvm.MethodName) prog_16_method_7_code (3 : Nat) (Option.some (Jvm.ClassFile.FieldType.object "Haltingale$Walker"))) ∈ lw_all := lw_g (lw_at lw_m2 98 rfl) rfl
theorem q363 : (Jvm.Cond.methodLink "Haltingale$Walker" (85 : Nat) ({ cls := "Haltingale$Walker", name := "goesOn", desc := "()Z" } : Jvm.MethodName)) ∈ lw_all := lw_g (lw_at lw_m2 99 rfl) rfl
theorem q364 : (Jvm.Cond.instanceMethod ({ cls := "Haltingale$Walker", name := "goesOn", desc := "()Z" } : Jvm.MethodName)) ∈ lw_all := lw_g (lw_at lw_m2 100 rfl) rfl
theorem q365 : (Jvm.Cond.selects "Haltingale$Walker" ({ cls := "Haltingale$Walker", name := "goesOn", desc := "()Z" } : Jvm.MethodName) ({ cls := "Haltingale$Walker", name := "goesOn", desc := "()Z" } : Jvm.MethodName)) ∈ lw_all := lw_g (lw_at lw_m2 101 rfl) rfl
theorem q366 : (Jvm.Cond.code ({ cls := "Haltingale$Walker", name := "goesOn", desc := "()Z" } : Jvm.MethodName) prog_16_method_5_code (1 : Nat) (Option.some Jvm.ClassFile.FieldType.boolean)) ∈ lw_all := lw_g (lw_at lw_m2 102 rfl) rfl
theorem q367 : (Jvm.Cond.methodLink "Haltingale$Walker" (29 : Nat) ({ cls := "Haltingale$Walker", name := "hasStopped", desc := "()Z" } : Jvm.MethodName)) ∈ lw_all := lw_g (lw_at lw_m2 103 rfl) rfl
theorem q368 : (Jvm.Cond.instanceMethod ({ cls := "Haltingale$Walker", name := "hasStopped", desc := "()Z" } : Jvm.MethodName)) ∈ lw_all := lw_g (lw_at lw_m2 104 rfl) rfl
theorem q369 : (Jvm.Cond.selects "Haltingale$Walker" ({ cls := "Haltingale$Walker", name := "hasStopped", desc := "()Z" } : Jvm.MethodName) ({ cls := "Haltingale$Walker", name := "hasStopped", desc := "()Z" } : Jvm.MethodName)) ∈ lw_all := lw_g (lw_at lw_m2 105 rfl) rfl
theorem q370 : (Jvm.Cond.code ({ cls := "Haltingale$Walker", name := "hasStopped", desc := "()Z" } : Jvm.MethodName) prog_16_method_3_code (1 : Nat) (Option.some Jvm.ClassFile.FieldType.boolean)) ∈ lw_all := lw_g (lw_at lw_m2 106 rfl) rfl
theorem q371 : (Jvm.Cond.methodLink "Haltingale$Walker" (49 : Nat) ({ cls := "Haltingale$Walker", name := "hangs", desc := "()Z" } : Jvm.MethodName)) ∈ lw_all := lw_g (lw_at lw_m2 107 rfl) rfl
theorem q372 : (Jvm.Cond.instanceMethod ({ cls := "Haltingale$Walker", name := "hangs", desc := "()Z" } : Jvm.MethodName)) ∈ lw_all := lw_g (lw_at lw_m2 108 rfl) rfl
theorem q373 : (Jvm.Cond.selects "Haltingale$Walker" ({ cls := "Haltingale$Walker", name := "hangs", desc := "()Z" } : Jvm.MethodName) ({ cls := "Haltingale$Walker", name := "hangs", desc := "()Z" } : Jvm.MethodName)) ∈ lw_all := lw_g (lw_at lw_m2 109 rfl) rfl
theorem q374 : (Jvm.Cond.code ({ cls := "Haltingale$Walker", name := "hangs", desc := "()Z" } : Jvm.MethodName) prog_16_method_4_code (1 : Nat) (Option.some Jvm.ClassFile.FieldType.boolean)) ∈ lw_all := lw_g (lw_at lw_m2 110 rfl) rfl
theorem q375 : (Jvm.Cond.methodLink "Haltingale$Walker" (36 : Nat) ({ cls := "Haltingale$Walker", name := "symbol", desc := "(I)I" } : Jvm.MethodName)) ∈ lw_all := lw_g (lw_at lw_m2 111 rfl) rfl
theorem q376 : (Jvm.Cond.instanceMethod ({ cls := "Haltingale$Walker", name := "symbol", desc := "(I)I" } : Jvm.MethodName)) ∈ lw_all := lw_g (lw_at lw_m2 112 rfl) rfl
theorem q377 : (Jvm.Cond.selects "Haltingale$Walker" ({ cls := "Haltingale$Walker", name := "symbol", desc := "(I)I" } : Jvm.MethodName) ({ cls := "Haltingale$Walker", name := "symbol", desc := "(I)I" } : Jvm.MethodName)) ∈ lw_all := lw_g (lw_at lw_m2 113 rfl) rfl
theorem q378 : (Jvm.Cond.code ({ cls := "Haltingale$Walker", name := "symbol", desc := "(I)I" } : Jvm.MethodName) prog_16_method_2_code (2 : Nat) (Option.some Jvm.ClassFile.FieldType.int)) ∈ lw_all := lw_g (lw_at lw_m2 114 rfl) rfl
theorem q379 : (Jvm.Cond.methodLink "Haltingale$Walker" (40 : Nat) ({ cls := "Haltingale$Table", name := "cell", desc := "(II)Ljava/util/Optional;" } : Jvm.MethodName)) ∈ lw_all := lw_g (lw_at lw_m2 115 rfl) rfl
theorem q383 : (Jvm.Cond.methodLink "Haltingale$Walker" (44 : Nat) ({ cls := "java/util/Optional", name := "isPresent", desc := "()Z" } : Jvm.MethodName)) ∈ lw_all := lw_g (lw_at lw_m2 119 rfl) rfl
theorem q384 : (Jvm.Cond.methodLink "Haltingale$Walker" (88 : Nat) ({ cls := "Haltingale$Walker", name := "step", desc := "()V" } : Jvm.MethodName)) ∈ lw_all := lw_g (lw_at lw_m2 120 rfl) rfl
theorem q385 : (Jvm.Cond.instanceMethod ({ cls := "Haltingale$Walker", name := "step", desc := "()V" } : Jvm.MethodName)) ∈ lw_all := lw_g (lw_at lw_m2 121 rfl) rfl
theorem q386 : (Jvm.Cond.selects "Haltingale$Walker" ({ cls := "Haltingale$Walker", name := "step", desc := "()V" } : Jvm.MethodName) ({ cls := "Haltingale$Walker", name := "step", desc := "()V" } : Jvm.MethodName)) ∈ lw_all := lw_g (lw_at lw_m2 122 rfl) rfl
theorem q387 : (Jvm.Cond.code ({ cls := "Haltingale$Walker", name := "step", desc := "()V" } : Jvm.MethodName) prog_16_method_6_code (2 : Nat) (Option.none : Option Jvm.ClassFile.FieldType)) ∈ lw_all := lw_g (lw_at lw_m2 123 rfl) rfl
theorem q388 : (Jvm.Cond.methodLink "Haltingale$Walker" (52 : Nat) ({ cls := "java/util/Optional", name := "get", desc := "()Ljava/lang/Object;" } : Jvm.MethodName)) ∈ lw_all := lw_g (lw_at lw_m2 124 rfl) rfl
theorem q389 : (Jvm.Cond.classLink "Haltingale$Walker" (56 : Nat) "Haltingale$Rule") ∈ lw_all := lw_g (lw_at lw_m2 125 rfl) rfl
theorem q390 : (Jvm.Cond.methodLink "Haltingale$Walker" (70 : Nat) ({ cls := "java/lang/Math", name := "min", desc := "(II)I" } : Jvm.MethodName)) ∈ lw_all := lw_g (lw_at lw_m2 126 rfl) rfl
theorem q393 : (Jvm.Cond.methodLink "Haltingale$Walker" (79 : Nat) ({ cls := "java/lang/Math", name := "max", desc := "(II)I" } : Jvm.MethodName)) ∈ lw_all := lw_g (lw_at lw_m2 129 rfl) rfl
theorem q427 : (Jvm.Cond.instanceMethod ({ cls := "Haltingale$Walker", name := "ones", desc := "()I" } : Jvm.MethodName)) ∈ lw_all := lw_g (lw_at lw_m2 163 rfl) rfl
theorem q428 : (Jvm.Cond.selects "Haltingale$Walker" ({ cls := "Haltingale$Walker", name := "ones", desc := "()I" } : Jvm.MethodName) ({ cls := "Haltingale$Walker", name := "ones", desc := "()I" } : Jvm.MethodName)) ∈ lw_all := lw_g (lw_at lw_m2 164 rfl) rfl
theorem q429 : (Jvm.Cond.code ({ cls := "Haltingale$Walker", name := "ones", desc := "()I" } : Jvm.MethodName) prog_16_method_8_code (6 : Nat) (Option.some Jvm.ClassFile.FieldType.int)) ∈ lw_all := lw_g (lw_at lw_m2 165 rfl) rfl
theorem q448 : (Jvm.Cond.instanceMethod ({ cls := "Haltingale$Walker", name := "told", desc := "(I)I" } : Jvm.MethodName)) ∈ lw_all := lw_g (lw_at lw_m2 184 rfl) rfl
theorem q449 : (Jvm.Cond.selects "Haltingale$Walker" ({ cls := "Haltingale$Walker", name := "told", desc := "(I)I" } : Jvm.MethodName) ({ cls := "Haltingale$Walker", name := "told", desc := "(I)I" } : Jvm.MethodName)) ∈ lw_all := lw_g (lw_at lw_m2 185 rfl) rfl
theorem q450 : (Jvm.Cond.code ({ cls := "Haltingale$Walker", name := "told", desc := "(I)I" } : Jvm.MethodName) prog_16_method_10_code (2 : Nat) (Option.some Jvm.ClassFile.FieldType.int)) ∈ lw_all := lw_g (lw_at lw_m2 186 rfl) rfl
theorem q451 : (Jvm.Cond.methodLink "Haltingale$Walker" (91 : Nat) ({ cls := "Haltingale$Walker", name := "ones", desc := "()I" } : Jvm.MethodName)) ∈ lw_all := lw_g (lw_at lw_m2 187 rfl) rfl
theorem q452 : (Jvm.Cond.methodLink "Haltingale$Walker" (95 : Nat) ({ cls := "Haltingale$Walker", name := "runs", desc := "()I" } : Jvm.MethodName)) ∈ lw_all := lw_g (lw_at lw_m2 188 rfl) rfl
theorem q453 : (Jvm.Cond.instanceMethod ({ cls := "Haltingale$Walker", name := "runs", desc := "()I" } : Jvm.MethodName)) ∈ lw_all := lw_g (lw_at lw_m2 189 rfl) rfl
theorem q454 : (Jvm.Cond.selects "Haltingale$Walker" ({ cls := "Haltingale$Walker", name := "runs", desc := "()I" } : Jvm.MethodName) ({ cls := "Haltingale$Walker", name := "runs", desc := "()I" } : Jvm.MethodName)) ∈ lw_all := lw_g (lw_at lw_m2 190 rfl) rfl
theorem q455 : (Jvm.Cond.code ({ cls := "Haltingale$Walker", name := "runs", desc := "()I" } : Jvm.MethodName) prog_16_method_9_code (3 : Nat) (Option.some Jvm.ClassFile.FieldType.int)) ∈ lw_all := lw_g (lw_at lw_m2 191 rfl) rfl
theorem q533 : (Jvm.Cond.selects "Haltingale$Walker" ({ cls := "java/lang/Object", name := "getClass", desc := "()Ljava/lang/Class;" } : Jvm.MethodName) ({ cls := "java/lang/Object", name := "getClass", desc := "()Ljava/lang/Class;" } : Jvm.MethodName)) ∈ lw_all := lw_g (lw_at lw_m3 29 rfl) rfl
theorem q707 : (Jvm.Cond.fieldLinkNest "Haltingale$Walker" (24 : Nat) "Haltingale$Table" "states" "I" "Haltingale") ∈ lw_tbl := lw_at lw_m3 203 rfl
theorem q813 : (Jvm.Cond.fieldLinkNest "Haltingale$Walker" (58 : Nat) "Haltingale$Rule" "write" "I" "Haltingale") ∈ lw_tbl := lw_at lw_m4 69 rfl
theorem q818 : (Jvm.Cond.fieldLinkNest "Haltingale$Walker" (61 : Nat) "Haltingale$Rule" "move" "I" "Haltingale") ∈ lw_tbl := lw_at lw_m4 74 rfl
theorem q824 : (Jvm.Cond.fieldLinkNest "Haltingale$Walker" (64 : Nat) "Haltingale$Rule" "next" "I" "Haltingale") ∈ lw_tbl := lw_at lw_m4 80 rfl
theorem q872 : (Jvm.Cond.selects "Haltingale$Walker" ({ cls := "java/lang/Object", name := "notify", desc := "()V" } : Jvm.MethodName) ({ cls := "java/lang/Object", name := "notify", desc := "()V" } : Jvm.MethodName)) ∈ lw_all := lw_g (lw_at lw_m4 128 rfl) rfl
theorem q1054 : (Jvm.Cond.selects "Haltingale$Walker" ({ cls := "java/lang/Object", name := "notifyAll", desc := "()V" } : Jvm.MethodName) ({ cls := "java/lang/Object", name := "notifyAll", desc := "()V" } : Jvm.MethodName)) ∈ lw_all := lw_g (lw_at lw_m5 70 rfl) rfl
theorem q1671 : (Jvm.Cond.castable "Haltingale$Walker" "java/lang/Object") ∈ lw_tbl := lw_at lw_m7 207 rfl
theorem in_X8 : ∀ w ∈ wsX80, w ∈ lw_all := lw_in wsX80 [341, 343, 345, 347, 349, 351, 353, 355] (by decide +kernel) (by decide +kernel)
/-! HaltingaleModel$Run -/
set_option maxRecDepth 100000
def RX9 : String := "HaltingaleModel$Run"
def TX9 : u_T := fun k => match k with
  | 0 => ("HaltingaleModel$Run", "machine", "LHaltingaleModel$Machine;", true)
  | 1 => ("HaltingaleModel$Run", "tape", "[I", true)
  | 2 => ("HaltingaleModel$Run", "home", "I", true)
  | 3 => ("HaltingaleModel$Run", "state", "I", false)
  | 4 => ("HaltingaleModel$Run", "place", "I", false)
  | 5 => ("HaltingaleModel$Run", "done", "I", false)
  | 6 => ("HaltingaleModel$Run", "least", "I", false)
  | _ => ("HaltingaleModel$Run", "most", "I", false)
def tyX9 : Nat → FieldType := fun k => match k with
  | 0 => .object "HaltingaleModel$Machine"
  | 1 => .array .int
  | 2 => .int
  | 3 => .int
  | 4 => .int
  | 5 => .int
  | 6 => .int
  | _ => .int
abbrev wsX90 : List Cond := u_ws RX9 TX9 8
theorem nmX9 : ∀ a, a < 8 → ∀ b, b < 8 → a ≠ b → (TX9 a).2.1 ≠ (TX9 b).2.1 := by decide +kernel
theorem tyX9_ok : ∀ k, k < 8 → parseFieldDescriptor (TX9 k).2.2.1 = some (tyX9 k) := by decide +kernel
abbrev cX9_init : ByteArray := prog_21_method_1_code
def yX9_init : MethodName := ⟨RX9, "<init>", "(LHaltingaleModel$Machine;I)V"⟩
def dkwX9_init_1 : List UInt8 := [181, 0, 19, 177]
abbrev dktX9_init_1 : List UInt8 := dkwX9_init_1 ++ []
def dkwX9_init_0 : List UInt8 := [42, 183, 0, 3, 42, 43, 181, 0, 9, 42, 28, 4, 96, 181, 0, 15, 42, 5, 28, 104, 6, 96, 188, 10]
abbrev dktX9_init_0 : List UInt8 := dkwX9_init_0 ++ dktX9_init_1
theorem dksX9_init_0 : cX9_init.data.toList.drop 0 = dktX9_init_0 := by decide +kernel
theorem dksX9_init_1 : cX9_init.data.toList.drop 24 = dktX9_init_1 := dk_seg dksX9_init_0 24 rfl rfl
theorem dX9_init_0 : decode cX9_init 0 = .ok (.aload_n 0, 1) := dk_42 (dk_at dksX9_init_0 0 rfl rfl)
theorem dX9_init_1 : decode cX9_init 1 = .ok (.invokespecial 3, 3) := dk_183 0 3 (dk_at dksX9_init_0 1 rfl rfl)
theorem dX9_init_4 : decode cX9_init 4 = .ok (.aload_n 0, 1) := dk_42 (dk_at dksX9_init_0 4 rfl rfl)
theorem dX9_init_5 : decode cX9_init 5 = .ok (.aload_n 1, 1) := dk_43 (dk_at dksX9_init_0 5 rfl rfl)
theorem dX9_init_6 : decode cX9_init 6 = .ok (.putfield 9, 3) := dk_181 0 9 (dk_at dksX9_init_0 6 rfl rfl)
theorem dX9_init_9 : decode cX9_init 9 = .ok (.aload_n 0, 1) := dk_42 (dk_at dksX9_init_0 9 rfl rfl)
theorem dX9_init_10 : decode cX9_init 10 = .ok (.iload_n 2, 1) := dk_28 (dk_at dksX9_init_0 10 rfl rfl)
theorem dX9_init_11 : decode cX9_init 11 = .ok (.iconst 1, 1) := dk_4 (dk_at dksX9_init_0 11 rfl rfl)
theorem dX9_init_12 : decode cX9_init 12 = .ok (.iadd, 1) := dk_96 (dk_at dksX9_init_0 12 rfl rfl)
theorem dX9_init_13 : decode cX9_init 13 = .ok (.putfield 15, 3) := dk_181 0 15 (dk_at dksX9_init_0 13 rfl rfl)
theorem dX9_init_16 : decode cX9_init 16 = .ok (.aload_n 0, 1) := dk_42 (dk_at dksX9_init_0 16 rfl rfl)
theorem dX9_init_17 : decode cX9_init 17 = .ok (.iconst 2, 1) := dk_5 (dk_at dksX9_init_0 17 rfl rfl)
theorem dX9_init_18 : decode cX9_init 18 = .ok (.iload_n 2, 1) := dk_28 (dk_at dksX9_init_0 18 rfl rfl)
theorem dX9_init_19 : decode cX9_init 19 = .ok (.imul, 1) := dk_104 (dk_at dksX9_init_0 19 rfl rfl)
theorem dX9_init_20 : decode cX9_init 20 = .ok (.iconst 3, 1) := dk_6 (dk_at dksX9_init_0 20 rfl rfl)
theorem dX9_init_21 : decode cX9_init 21 = .ok (.iadd, 1) := dk_96 (dk_at dksX9_init_0 21 rfl rfl)
theorem dX9_init_22 : decode cX9_init 22 = .ok (.newarray .int, 2) := dk_188_10 (dk_at dksX9_init_0 22 rfl rfl)
theorem dX9_init_24 : decode cX9_init 24 = .ok (.putfield 19, 3) := dk_181 0 19 (dk_at dksX9_init_1 0 rfl rfl)
theorem dX9_init_27 : decode cX9_init 27 = .ok (.return_, 1) := dk_177 (dk_at dksX9_init_1 3 rfl rfl)
abbrev cX9_step : ByteArray := prog_21_method_6_code
def yX9_step : MethodName := ⟨RX9, "step", "()Z"⟩
def dkwX9_step_4 : List UInt8 := [184, 0, 65, 181, 0, 62, 42, 89, 180, 0, 68, 4, 96, 181, 0, 68, 4, 172]
abbrev dktX9_step_4 : List UInt8 := dkwX9_step_4 ++ []
def dkwX9_step_3 : List UInt8 := [180, 0, 53, 42, 180, 0, 35, 184, 0, 56, 181, 0, 53, 42, 42, 180, 0, 62, 42, 180, 0, 35]
abbrev dktX9_step_3 : List UInt8 := dkwX9_step_3 ++ dktX9_step_4
def dkwX9_step_2 : List UInt8 := [79, 42, 89, 180, 0, 35, 43, 4, 46, 96, 181, 0, 35, 42, 43, 5, 46, 181, 0, 23, 42, 42]
abbrev dktX9_step_2 : List UInt8 := dkwX9_step_2 ++ dktX9_step_3
def dkwX9_step_1 : List UInt8 := [42, 182, 0, 42, 182, 0, 46, 76, 42, 180, 0, 19, 42, 180, 0, 15, 42, 180, 0, 35, 96, 43, 3, 46]
abbrev dktX9_step_1 : List UInt8 := dkwX9_step_1 ++ dktX9_step_2
def dkwX9_step_0 : List UInt8 := [42, 182, 0, 38, 154, 0, 10, 42, 182, 0, 50, 153, 0, 5, 3, 172, 42, 180, 0, 9, 42, 180, 0, 23]
abbrev dktX9_step_0 : List UInt8 := dkwX9_step_0 ++ dktX9_step_1
theorem dksX9_step_0 : cX9_step.data.toList.drop 0 = dktX9_step_0 := by decide +kernel
theorem dksX9_step_1 : cX9_step.data.toList.drop 24 = dktX9_step_1 := dk_seg dksX9_step_0 24 rfl rfl
theorem dksX9_step_2 : cX9_step.data.toList.drop 48 = dktX9_step_2 := dk_seg dksX9_step_1 24 rfl rfl
theorem dksX9_step_3 : cX9_step.data.toList.drop 70 = dktX9_step_3 := dk_seg dksX9_step_2 22 rfl rfl
theorem dksX9_step_4 : cX9_step.data.toList.drop 92 = dktX9_step_4 := dk_seg dksX9_step_3 22 rfl rfl
theorem dX9_step_0 : decode cX9_step 0 = .ok (.aload_n 0, 1) := dk_42 (dk_at dksX9_step_0 0 rfl rfl)
theorem dX9_step_1 : decode cX9_step 1 = .ok (.invokevirtual 38, 3) := dk_182 0 38 (dk_at dksX9_step_0 1 rfl rfl)
theorem dX9_step_4 : decode cX9_step 4 = .ok (.ifCond .ne 10, 3) := dk_154 0 10 (dk_at dksX9_step_0 4 rfl rfl)
theorem dX9_step_7 : decode cX9_step 7 = .ok (.aload_n 0, 1) := dk_42 (dk_at dksX9_step_0 7 rfl rfl)
theorem dX9_step_8 : decode cX9_step 8 = .ok (.invokevirtual 50, 3) := dk_182 0 50 (dk_at dksX9_step_0 8 rfl rfl)
theorem dX9_step_11 : decode cX9_step 11 = .ok (.ifCond .eq 5, 3) := dk_153 0 5 (dk_at dksX9_step_0 11 rfl rfl)
theorem dX9_step_14 : decode cX9_step 14 = .ok (.iconst 0, 1) := dk_3 (dk_at dksX9_step_0 14 rfl rfl)
theorem dX9_step_15 : decode cX9_step 15 = .ok (.ireturn, 1) := dk_172 (dk_at dksX9_step_0 15 rfl rfl)
theorem dX9_step_16 : decode cX9_step 16 = .ok (.aload_n 0, 1) := dk_42 (dk_at dksX9_step_0 16 rfl rfl)
theorem dX9_step_17 : decode cX9_step 17 = .ok (.getfield 9, 3) := dk_180 0 9 (dk_at dksX9_step_0 17 rfl rfl)
theorem dX9_step_20 : decode cX9_step 20 = .ok (.aload_n 0, 1) := dk_42 (dk_at dksX9_step_0 20 rfl rfl)
theorem dX9_step_21 : decode cX9_step 21 = .ok (.getfield 23, 3) := dk_180 0 23 (dk_at dksX9_step_0 21 rfl rfl)
theorem dX9_step_24 : decode cX9_step 24 = .ok (.aload_n 0, 1) := dk_42 (dk_at dksX9_step_1 0 rfl rfl)
theorem dX9_step_25 : decode cX9_step 25 = .ok (.invokevirtual 42, 3) := dk_182 0 42 (dk_at dksX9_step_1 1 rfl rfl)
theorem dX9_step_28 : decode cX9_step 28 = .ok (.invokevirtual 46, 3) := dk_182 0 46 (dk_at dksX9_step_1 4 rfl rfl)
theorem dX9_step_31 : decode cX9_step 31 = .ok (.astore_n 1, 1) := dk_76 (dk_at dksX9_step_1 7 rfl rfl)
theorem dX9_step_32 : decode cX9_step 32 = .ok (.aload_n 0, 1) := dk_42 (dk_at dksX9_step_1 8 rfl rfl)
theorem dX9_step_33 : decode cX9_step 33 = .ok (.getfield 19, 3) := dk_180 0 19 (dk_at dksX9_step_1 9 rfl rfl)
theorem dX9_step_36 : decode cX9_step 36 = .ok (.aload_n 0, 1) := dk_42 (dk_at dksX9_step_1 12 rfl rfl)
theorem dX9_step_37 : decode cX9_step 37 = .ok (.getfield 15, 3) := dk_180 0 15 (dk_at dksX9_step_1 13 rfl rfl)
theorem dX9_step_40 : decode cX9_step 40 = .ok (.aload_n 0, 1) := dk_42 (dk_at dksX9_step_1 16 rfl rfl)
theorem dX9_step_41 : decode cX9_step 41 = .ok (.getfield 35, 3) := dk_180 0 35 (dk_at dksX9_step_1 17 rfl rfl)
theorem dX9_step_44 : decode cX9_step 44 = .ok (.iadd, 1) := dk_96 (dk_at dksX9_step_1 20 rfl rfl)
theorem dX9_step_45 : decode cX9_step 45 = .ok (.aload_n 1, 1) := dk_43 (dk_at dksX9_step_1 21 rfl rfl)
theorem dX9_step_46 : decode cX9_step 46 = .ok (.iconst 0, 1) := dk_3 (dk_at dksX9_step_1 22 rfl rfl)
theorem dX9_step_47 : decode cX9_step 47 = .ok (.iaload, 1) := dk_46 (dk_at dksX9_step_1 23 rfl rfl)
theorem dX9_step_48 : decode cX9_step 48 = .ok (.iastore, 1) := dk_79 (dk_at dksX9_step_2 0 rfl rfl)
theorem dX9_step_49 : decode cX9_step 49 = .ok (.aload_n 0, 1) := dk_42 (dk_at dksX9_step_2 1 rfl rfl)
theorem dX9_step_50 : decode cX9_step 50 = .ok (.dup, 1) := dk_89 (dk_at dksX9_step_2 2 rfl rfl)
theorem dX9_step_51 : decode cX9_step 51 = .ok (.getfield 35, 3) := dk_180 0 35 (dk_at dksX9_step_2 3 rfl rfl)
theorem dX9_step_54 : decode cX9_step 54 = .ok (.aload_n 1, 1) := dk_43 (dk_at dksX9_step_2 6 rfl rfl)
theorem dX9_step_55 : decode cX9_step 55 = .ok (.iconst 1, 1) := dk_4 (dk_at dksX9_step_2 7 rfl rfl)
theorem dX9_step_56 : decode cX9_step 56 = .ok (.iaload, 1) := dk_46 (dk_at dksX9_step_2 8 rfl rfl)
theorem dX9_step_57 : decode cX9_step 57 = .ok (.iadd, 1) := dk_96 (dk_at dksX9_step_2 9 rfl rfl)
theorem dX9_step_58 : decode cX9_step 58 = .ok (.putfield 35, 3) := dk_181 0 35 (dk_at dksX9_step_2 10 rfl rfl)
theorem dX9_step_61 : decode cX9_step 61 = .ok (.aload_n 0, 1) := dk_42 (dk_at dksX9_step_2 13 rfl rfl)
theorem dX9_step_62 : decode cX9_step 62 = .ok (.aload_n 1, 1) := dk_43 (dk_at dksX9_step_2 14 rfl rfl)
theorem dX9_step_63 : decode cX9_step 63 = .ok (.iconst 2, 1) := dk_5 (dk_at dksX9_step_2 15 rfl rfl)
theorem dX9_step_64 : decode cX9_step 64 = .ok (.iaload, 1) := dk_46 (dk_at dksX9_step_2 16 rfl rfl)
theorem dX9_step_65 : decode cX9_step 65 = .ok (.putfield 23, 3) := dk_181 0 23 (dk_at dksX9_step_2 17 rfl rfl)
theorem dX9_step_68 : decode cX9_step 68 = .ok (.aload_n 0, 1) := dk_42 (dk_at dksX9_step_2 20 rfl rfl)
theorem dX9_step_69 : decode cX9_step 69 = .ok (.aload_n 0, 1) := dk_42 (dk_at dksX9_step_2 21 rfl rfl)
theorem dX9_step_70 : decode cX9_step 70 = .ok (.getfield 53, 3) := dk_180 0 53 (dk_at dksX9_step_3 0 rfl rfl)
theorem dX9_step_73 : decode cX9_step 73 = .ok (.aload_n 0, 1) := dk_42 (dk_at dksX9_step_3 3 rfl rfl)
theorem dX9_step_74 : decode cX9_step 74 = .ok (.getfield 35, 3) := dk_180 0 35 (dk_at dksX9_step_3 4 rfl rfl)
theorem dX9_step_77 : decode cX9_step 77 = .ok (.invokestatic 56, 3) := dk_184 0 56 (dk_at dksX9_step_3 7 rfl rfl)
theorem dX9_step_80 : decode cX9_step 80 = .ok (.putfield 53, 3) := dk_181 0 53 (dk_at dksX9_step_3 10 rfl rfl)
theorem dX9_step_83 : decode cX9_step 83 = .ok (.aload_n 0, 1) := dk_42 (dk_at dksX9_step_3 13 rfl rfl)
theorem dX9_step_84 : decode cX9_step 84 = .ok (.aload_n 0, 1) := dk_42 (dk_at dksX9_step_3 14 rfl rfl)
theorem dX9_step_85 : decode cX9_step 85 = .ok (.getfield 62, 3) := dk_180 0 62 (dk_at dksX9_step_3 15 rfl rfl)
theorem dX9_step_88 : decode cX9_step 88 = .ok (.aload_n 0, 1) := dk_42 (dk_at dksX9_step_3 18 rfl rfl)
theorem dX9_step_89 : decode cX9_step 89 = .ok (.getfield 35, 3) := dk_180 0 35 (dk_at dksX9_step_3 19 rfl rfl)
theorem dX9_step_92 : decode cX9_step 92 = .ok (.invokestatic 65, 3) := dk_184 0 65 (dk_at dksX9_step_4 0 rfl rfl)
theorem dX9_step_95 : decode cX9_step 95 = .ok (.putfield 62, 3) := dk_181 0 62 (dk_at dksX9_step_4 3 rfl rfl)
theorem dX9_step_98 : decode cX9_step 98 = .ok (.aload_n 0, 1) := dk_42 (dk_at dksX9_step_4 6 rfl rfl)
theorem dX9_step_99 : decode cX9_step 99 = .ok (.dup, 1) := dk_89 (dk_at dksX9_step_4 7 rfl rfl)
theorem dX9_step_100 : decode cX9_step 100 = .ok (.getfield 68, 3) := dk_180 0 68 (dk_at dksX9_step_4 8 rfl rfl)
theorem dX9_step_103 : decode cX9_step 103 = .ok (.iconst 1, 1) := dk_4 (dk_at dksX9_step_4 11 rfl rfl)
theorem dX9_step_104 : decode cX9_step 104 = .ok (.iadd, 1) := dk_96 (dk_at dksX9_step_4 12 rfl rfl)
theorem dX9_step_105 : decode cX9_step 105 = .ok (.putfield 68, 3) := dk_181 0 68 (dk_at dksX9_step_4 13 rfl rfl)
theorem dX9_step_108 : decode cX9_step 108 = .ok (.iconst 1, 1) := dk_4 (dk_at dksX9_step_4 16 rfl rfl)
theorem dX9_step_109 : decode cX9_step 109 = .ok (.ireturn, 1) := dk_172 (dk_at dksX9_step_4 17 rfl rfl)
abbrev cX9_isStopped : ByteArray := prog_21_method_2_code
def yX9_isStopped : MethodName := ⟨RX9, "isStopped", "()Z"⟩
def dkwX9_isStopped_0 : List UInt8 := [42, 180, 0, 23, 42, 180, 0, 9, 180, 0, 26, 160, 0, 7, 4, 167, 0, 4, 3, 172]
abbrev dktX9_isStopped_0 : List UInt8 := dkwX9_isStopped_0 ++ []
theorem dksX9_isStopped_0 : cX9_isStopped.data.toList.drop 0 = dktX9_isStopped_0 := by decide +kernel
theorem dX9_isStopped_0 : decode cX9_isStopped 0 = .ok (.aload_n 0, 1) := dk_42 (dk_at dksX9_isStopped_0 0 rfl rfl)
theorem dX9_isStopped_1 : decode cX9_isStopped 1 = .ok (.getfield 23, 3) := dk_180 0 23 (dk_at dksX9_isStopped_0 1 rfl rfl)
theorem dX9_isStopped_4 : decode cX9_isStopped 4 = .ok (.aload_n 0, 1) := dk_42 (dk_at dksX9_isStopped_0 4 rfl rfl)
theorem dX9_isStopped_5 : decode cX9_isStopped 5 = .ok (.getfield 9, 3) := dk_180 0 9 (dk_at dksX9_isStopped_0 5 rfl rfl)
theorem dX9_isStopped_8 : decode cX9_isStopped 8 = .ok (.getfield 26, 3) := dk_180 0 26 (dk_at dksX9_isStopped_0 8 rfl rfl)
theorem dX9_isStopped_11 : decode cX9_isStopped 11 = .ok (.if_icmp .ne 7, 3) := dk_160 0 7 (dk_at dksX9_isStopped_0 11 rfl rfl)
theorem dX9_isStopped_14 : decode cX9_isStopped 14 = .ok (.iconst 1, 1) := dk_4 (dk_at dksX9_isStopped_0 14 rfl rfl)
theorem dX9_isStopped_15 : decode cX9_isStopped 15 = .ok (.goto 4, 3) := dk_167 0 4 (dk_at dksX9_isStopped_0 15 rfl rfl)
theorem dX9_isStopped_18 : decode cX9_isStopped 18 = .ok (.iconst 0, 1) := dk_3 (dk_at dksX9_isStopped_0 18 rfl rfl)
theorem dX9_isStopped_19 : decode cX9_isStopped 19 = .ok (.ireturn, 1) := dk_172 (dk_at dksX9_isStopped_0 19 rfl rfl)
abbrev cX9_isHung : ByteArray := prog_21_method_5_code
def yX9_isHung : MethodName := ⟨RX9, "isHung", "()Z"⟩
def dkwX9_isHung_1 : List UInt8 := [199, 0, 7, 4, 167, 0, 4, 3, 172]
abbrev dktX9_isHung_1 : List UInt8 := dkwX9_isHung_1 ++ []
def dkwX9_isHung_0 : List UInt8 := [42, 182, 0, 38, 154, 0, 25, 42, 180, 0, 9, 42, 180, 0, 23, 42, 182, 0, 42, 182, 0, 46]
abbrev dktX9_isHung_0 : List UInt8 := dkwX9_isHung_0 ++ dktX9_isHung_1
theorem dksX9_isHung_0 : cX9_isHung.data.toList.drop 0 = dktX9_isHung_0 := by decide +kernel
theorem dksX9_isHung_1 : cX9_isHung.data.toList.drop 22 = dktX9_isHung_1 := dk_seg dksX9_isHung_0 22 rfl rfl
theorem dX9_isHung_0 : decode cX9_isHung 0 = .ok (.aload_n 0, 1) := dk_42 (dk_at dksX9_isHung_0 0 rfl rfl)
theorem dX9_isHung_1 : decode cX9_isHung 1 = .ok (.invokevirtual 38, 3) := dk_182 0 38 (dk_at dksX9_isHung_0 1 rfl rfl)
theorem dX9_isHung_4 : decode cX9_isHung 4 = .ok (.ifCond .ne 25, 3) := dk_154 0 25 (dk_at dksX9_isHung_0 4 rfl rfl)
theorem dX9_isHung_7 : decode cX9_isHung 7 = .ok (.aload_n 0, 1) := dk_42 (dk_at dksX9_isHung_0 7 rfl rfl)
theorem dX9_isHung_8 : decode cX9_isHung 8 = .ok (.getfield 9, 3) := dk_180 0 9 (dk_at dksX9_isHung_0 8 rfl rfl)
theorem dX9_isHung_11 : decode cX9_isHung 11 = .ok (.aload_n 0, 1) := dk_42 (dk_at dksX9_isHung_0 11 rfl rfl)
theorem dX9_isHung_12 : decode cX9_isHung 12 = .ok (.getfield 23, 3) := dk_180 0 23 (dk_at dksX9_isHung_0 12 rfl rfl)
theorem dX9_isHung_15 : decode cX9_isHung 15 = .ok (.aload_n 0, 1) := dk_42 (dk_at dksX9_isHung_0 15 rfl rfl)
theorem dX9_isHung_16 : decode cX9_isHung 16 = .ok (.invokevirtual 42, 3) := dk_182 0 42 (dk_at dksX9_isHung_0 16 rfl rfl)
theorem dX9_isHung_19 : decode cX9_isHung 19 = .ok (.invokevirtual 46, 3) := dk_182 0 46 (dk_at dksX9_isHung_0 19 rfl rfl)
theorem dX9_isHung_22 : decode cX9_isHung 22 = .ok (.ifnonnull 7, 3) := dk_199 0 7 (dk_at dksX9_isHung_1 0 rfl rfl)
theorem dX9_isHung_25 : decode cX9_isHung 25 = .ok (.iconst 1, 1) := dk_4 (dk_at dksX9_isHung_1 3 rfl rfl)
theorem dX9_isHung_26 : decode cX9_isHung 26 = .ok (.goto 4, 3) := dk_167 0 4 (dk_at dksX9_isHung_1 4 rfl rfl)
theorem dX9_isHung_29 : decode cX9_isHung 29 = .ok (.iconst 0, 1) := dk_3 (dk_at dksX9_isHung_1 7 rfl rfl)
theorem dX9_isHung_30 : decode cX9_isHung 30 = .ok (.ireturn, 1) := dk_172 (dk_at dksX9_isHung_1 8 rfl rfl)
abbrev cX9_under : ByteArray := prog_21_method_4_code
def yX9_under : MethodName := ⟨RX9, "under", "()I"⟩
def dkwX9_under_0 : List UInt8 := [42, 180, 0, 19, 42, 180, 0, 15, 42, 180, 0, 35, 96, 46, 172]
abbrev dktX9_under_0 : List UInt8 := dkwX9_under_0 ++ []
theorem dksX9_under_0 : cX9_under.data.toList.drop 0 = dktX9_under_0 := by decide +kernel
theorem dX9_under_0 : decode cX9_under 0 = .ok (.aload_n 0, 1) := dk_42 (dk_at dksX9_under_0 0 rfl rfl)
theorem dX9_under_1 : decode cX9_under 1 = .ok (.getfield 19, 3) := dk_180 0 19 (dk_at dksX9_under_0 1 rfl rfl)
theorem dX9_under_4 : decode cX9_under 4 = .ok (.aload_n 0, 1) := dk_42 (dk_at dksX9_under_0 4 rfl rfl)
theorem dX9_under_5 : decode cX9_under 5 = .ok (.getfield 15, 3) := dk_180 0 15 (dk_at dksX9_under_0 5 rfl rfl)
theorem dX9_under_8 : decode cX9_under 8 = .ok (.aload_n 0, 1) := dk_42 (dk_at dksX9_under_0 8 rfl rfl)
theorem dX9_under_9 : decode cX9_under 9 = .ok (.getfield 35, 3) := dk_180 0 35 (dk_at dksX9_under_0 9 rfl rfl)
theorem dX9_under_12 : decode cX9_under 12 = .ok (.iadd, 1) := dk_96 (dk_at dksX9_under_0 12 rfl rfl)
theorem dX9_under_13 : decode cX9_under 13 = .ok (.iaload, 1) := dk_46 (dk_at dksX9_under_0 13 rfl rfl)
theorem dX9_under_14 : decode cX9_under 14 = .ok (.ireturn, 1) := dk_172 (dk_at dksX9_under_0 14 rfl rfl)
abbrev cX9_at : ByteArray := prog_21_method_3_code
def yX9_at : MethodName := ⟨RX9, "at", "(I)I"⟩
def dkwX9_at_1 : List UInt8 := [27, 96, 46, 167, 0, 4, 3, 172]
abbrev dktX9_at_1 : List UInt8 := dkwX9_at_1 ++ []
def dkwX9_at_0 : List UInt8 := [27, 42, 180, 0, 15, 116, 42, 180, 0, 15, 184, 0, 31, 153, 0, 17, 42, 180, 0, 19, 42, 180, 0, 15]
abbrev dktX9_at_0 : List UInt8 := dkwX9_at_0 ++ dktX9_at_1
theorem dksX9_at_0 : cX9_at.data.toList.drop 0 = dktX9_at_0 := by decide +kernel
theorem dksX9_at_1 : cX9_at.data.toList.drop 24 = dktX9_at_1 := dk_seg dksX9_at_0 24 rfl rfl
theorem dX9_at_0 : decode cX9_at 0 = .ok (.iload_n 1, 1) := dk_27 (dk_at dksX9_at_0 0 rfl rfl)
theorem dX9_at_1 : decode cX9_at 1 = .ok (.aload_n 0, 1) := dk_42 (dk_at dksX9_at_0 1 rfl rfl)
theorem dX9_at_2 : decode cX9_at 2 = .ok (.getfield 15, 3) := dk_180 0 15 (dk_at dksX9_at_0 2 rfl rfl)
theorem dX9_at_5 : decode cX9_at 5 = .ok (.ineg, 1) := dk_116 (dk_at dksX9_at_0 5 rfl rfl)
theorem dX9_at_6 : decode cX9_at 6 = .ok (.aload_n 0, 1) := dk_42 (dk_at dksX9_at_0 6 rfl rfl)
theorem dX9_at_7 : decode cX9_at 7 = .ok (.getfield 15, 3) := dk_180 0 15 (dk_at dksX9_at_0 7 rfl rfl)
theorem dX9_at_10 : decode cX9_at 10 = .ok (.invokestatic 31, 3) := dk_184 0 31 (dk_at dksX9_at_0 10 rfl rfl)
theorem dX9_at_13 : decode cX9_at 13 = .ok (.ifCond .eq 17, 3) := dk_153 0 17 (dk_at dksX9_at_0 13 rfl rfl)
theorem dX9_at_16 : decode cX9_at 16 = .ok (.aload_n 0, 1) := dk_42 (dk_at dksX9_at_0 16 rfl rfl)
theorem dX9_at_17 : decode cX9_at 17 = .ok (.getfield 19, 3) := dk_180 0 19 (dk_at dksX9_at_0 17 rfl rfl)
theorem dX9_at_20 : decode cX9_at 20 = .ok (.aload_n 0, 1) := dk_42 (dk_at dksX9_at_0 20 rfl rfl)
theorem dX9_at_21 : decode cX9_at 21 = .ok (.getfield 15, 3) := dk_180 0 15 (dk_at dksX9_at_0 21 rfl rfl)
theorem dX9_at_24 : decode cX9_at 24 = .ok (.iload_n 1, 1) := dk_27 (dk_at dksX9_at_1 0 rfl rfl)
theorem dX9_at_25 : decode cX9_at 25 = .ok (.iadd, 1) := dk_96 (dk_at dksX9_at_1 1 rfl rfl)
theorem dX9_at_26 : decode cX9_at 26 = .ok (.iaload, 1) := dk_46 (dk_at dksX9_at_1 2 rfl rfl)
theorem dX9_at_27 : decode cX9_at 27 = .ok (.goto 4, 3) := dk_167 0 4 (dk_at dksX9_at_1 3 rfl rfl)
theorem dX9_at_30 : decode cX9_at 30 = .ok (.iconst 0, 1) := dk_3 (dk_at dksX9_at_1 6 rfl rfl)
theorem dX9_at_31 : decode cX9_at 31 = .ok (.ireturn, 1) := dk_172 (dk_at dksX9_at_1 7 rfl rfl)
abbrev cX9_ones : ByteArray := prog_21_method_7_code
def yX9_ones : MethodName := ⟨RX9, "ones", "()I"⟩
def dkwX9_ones_1 : List UInt8 := [132, 2, 1, 167, 255, 237, 27, 172]
abbrev dktX9_ones_1 : List UInt8 := dkwX9_ones_1 ++ []
def dkwX9_ones_0 : List UInt8 := [3, 60, 42, 180, 0, 53, 61, 28, 42, 180, 0, 62, 163, 0, 17, 27, 42, 28, 182, 0, 71, 96, 60]
abbrev dktX9_ones_0 : List UInt8 := dkwX9_ones_0 ++ dktX9_ones_1
theorem dksX9_ones_0 : cX9_ones.data.toList.drop 0 = dktX9_ones_0 := by decide +kernel
theorem dksX9_ones_1 : cX9_ones.data.toList.drop 23 = dktX9_ones_1 := dk_seg dksX9_ones_0 23 rfl rfl
theorem dX9_ones_0 : decode cX9_ones 0 = .ok (.iconst 0, 1) := dk_3 (dk_at dksX9_ones_0 0 rfl rfl)
theorem dX9_ones_1 : decode cX9_ones 1 = .ok (.istore_n 1, 1) := dk_60 (dk_at dksX9_ones_0 1 rfl rfl)
theorem dX9_ones_2 : decode cX9_ones 2 = .ok (.aload_n 0, 1) := dk_42 (dk_at dksX9_ones_0 2 rfl rfl)
theorem dX9_ones_3 : decode cX9_ones 3 = .ok (.getfield 53, 3) := dk_180 0 53 (dk_at dksX9_ones_0 3 rfl rfl)
theorem dX9_ones_6 : decode cX9_ones 6 = .ok (.istore_n 2, 1) := dk_61 (dk_at dksX9_ones_0 6 rfl rfl)
theorem dX9_ones_7 : decode cX9_ones 7 = .ok (.iload_n 2, 1) := dk_28 (dk_at dksX9_ones_0 7 rfl rfl)
theorem dX9_ones_8 : decode cX9_ones 8 = .ok (.aload_n 0, 1) := dk_42 (dk_at dksX9_ones_0 8 rfl rfl)
theorem dX9_ones_9 : decode cX9_ones 9 = .ok (.getfield 62, 3) := dk_180 0 62 (dk_at dksX9_ones_0 9 rfl rfl)
theorem dX9_ones_12 : decode cX9_ones 12 = .ok (.if_icmp .gt 17, 3) := dk_163 0 17 (dk_at dksX9_ones_0 12 rfl rfl)
theorem dX9_ones_15 : decode cX9_ones 15 = .ok (.iload_n 1, 1) := dk_27 (dk_at dksX9_ones_0 15 rfl rfl)
theorem dX9_ones_16 : decode cX9_ones 16 = .ok (.aload_n 0, 1) := dk_42 (dk_at dksX9_ones_0 16 rfl rfl)
theorem dX9_ones_17 : decode cX9_ones 17 = .ok (.iload_n 2, 1) := dk_28 (dk_at dksX9_ones_0 17 rfl rfl)
theorem dX9_ones_18 : decode cX9_ones 18 = .ok (.invokevirtual 71, 3) := dk_182 0 71 (dk_at dksX9_ones_0 18 rfl rfl)
theorem dX9_ones_21 : decode cX9_ones 21 = .ok (.iadd, 1) := dk_96 (dk_at dksX9_ones_0 21 rfl rfl)
theorem dX9_ones_22 : decode cX9_ones 22 = .ok (.istore_n 1, 1) := dk_60 (dk_at dksX9_ones_0 22 rfl rfl)
theorem dX9_ones_23 : decode cX9_ones 23 = .ok (.iinc 2 1, 3) := dk_132 2 1 (dk_at dksX9_ones_1 0 rfl rfl)
theorem dX9_ones_26 : decode cX9_ones 26 = .ok (.goto (-19), 3) := dk_167 255 237 (dk_at dksX9_ones_1 3 rfl rfl)
theorem dX9_ones_29 : decode cX9_ones 29 = .ok (.iload_n 1, 1) := dk_27 (dk_at dksX9_ones_1 6 rfl rfl)
theorem dX9_ones_30 : decode cX9_ones 30 = .ok (.ireturn, 1) := dk_172 (dk_at dksX9_ones_1 7 rfl rfl)
abbrev cX9_runs : ByteArray := prog_21_method_8_code
def yX9_runs : MethodName := ⟨RX9, "runs", "()I"⟩
def dkwX9_runs_1 : List UInt8 := [96, 182, 0, 71, 160, 0, 7, 3, 167, 0, 4, 4, 96, 60, 132, 2, 1, 167, 255, 222, 27, 172]
abbrev dktX9_runs_1 : List UInt8 := dkwX9_runs_1 ++ []
def dkwX9_runs_0 : List UInt8 := [4, 60, 42, 180, 0, 53, 61, 28, 42, 180, 0, 62, 162, 0, 32, 27, 42, 28, 182, 0, 71, 42, 28, 4]
abbrev dktX9_runs_0 : List UInt8 := dkwX9_runs_0 ++ dktX9_runs_1
theorem dksX9_runs_0 : cX9_runs.data.toList.drop 0 = dktX9_runs_0 := by decide +kernel
theorem dksX9_runs_1 : cX9_runs.data.toList.drop 24 = dktX9_runs_1 := dk_seg dksX9_runs_0 24 rfl rfl
theorem dX9_runs_0 : decode cX9_runs 0 = .ok (.iconst 1, 1) := dk_4 (dk_at dksX9_runs_0 0 rfl rfl)
theorem dX9_runs_1 : decode cX9_runs 1 = .ok (.istore_n 1, 1) := dk_60 (dk_at dksX9_runs_0 1 rfl rfl)
theorem dX9_runs_2 : decode cX9_runs 2 = .ok (.aload_n 0, 1) := dk_42 (dk_at dksX9_runs_0 2 rfl rfl)
theorem dX9_runs_3 : decode cX9_runs 3 = .ok (.getfield 53, 3) := dk_180 0 53 (dk_at dksX9_runs_0 3 rfl rfl)
theorem dX9_runs_6 : decode cX9_runs 6 = .ok (.istore_n 2, 1) := dk_61 (dk_at dksX9_runs_0 6 rfl rfl)
theorem dX9_runs_7 : decode cX9_runs 7 = .ok (.iload_n 2, 1) := dk_28 (dk_at dksX9_runs_0 7 rfl rfl)
theorem dX9_runs_8 : decode cX9_runs 8 = .ok (.aload_n 0, 1) := dk_42 (dk_at dksX9_runs_0 8 rfl rfl)
theorem dX9_runs_9 : decode cX9_runs 9 = .ok (.getfield 62, 3) := dk_180 0 62 (dk_at dksX9_runs_0 9 rfl rfl)
theorem dX9_runs_12 : decode cX9_runs 12 = .ok (.if_icmp .ge 32, 3) := dk_162 0 32 (dk_at dksX9_runs_0 12 rfl rfl)
theorem dX9_runs_15 : decode cX9_runs 15 = .ok (.iload_n 1, 1) := dk_27 (dk_at dksX9_runs_0 15 rfl rfl)
theorem dX9_runs_16 : decode cX9_runs 16 = .ok (.aload_n 0, 1) := dk_42 (dk_at dksX9_runs_0 16 rfl rfl)
theorem dX9_runs_17 : decode cX9_runs 17 = .ok (.iload_n 2, 1) := dk_28 (dk_at dksX9_runs_0 17 rfl rfl)
theorem dX9_runs_18 : decode cX9_runs 18 = .ok (.invokevirtual 71, 3) := dk_182 0 71 (dk_at dksX9_runs_0 18 rfl rfl)
theorem dX9_runs_21 : decode cX9_runs 21 = .ok (.aload_n 0, 1) := dk_42 (dk_at dksX9_runs_0 21 rfl rfl)
theorem dX9_runs_22 : decode cX9_runs 22 = .ok (.iload_n 2, 1) := dk_28 (dk_at dksX9_runs_0 22 rfl rfl)
theorem dX9_runs_23 : decode cX9_runs 23 = .ok (.iconst 1, 1) := dk_4 (dk_at dksX9_runs_0 23 rfl rfl)
theorem dX9_runs_24 : decode cX9_runs 24 = .ok (.iadd, 1) := dk_96 (dk_at dksX9_runs_1 0 rfl rfl)
theorem dX9_runs_25 : decode cX9_runs 25 = .ok (.invokevirtual 71, 3) := dk_182 0 71 (dk_at dksX9_runs_1 1 rfl rfl)
theorem dX9_runs_28 : decode cX9_runs 28 = .ok (.if_icmp .ne 7, 3) := dk_160 0 7 (dk_at dksX9_runs_1 4 rfl rfl)
theorem dX9_runs_31 : decode cX9_runs 31 = .ok (.iconst 0, 1) := dk_3 (dk_at dksX9_runs_1 7 rfl rfl)
theorem dX9_runs_32 : decode cX9_runs 32 = .ok (.goto 4, 3) := dk_167 0 4 (dk_at dksX9_runs_1 8 rfl rfl)
theorem dX9_runs_35 : decode cX9_runs 35 = .ok (.iconst 1, 1) := dk_4 (dk_at dksX9_runs_1 11 rfl rfl)
theorem dX9_runs_36 : decode cX9_runs 36 = .ok (.iadd, 1) := dk_96 (dk_at dksX9_runs_1 12 rfl rfl)
theorem dX9_runs_37 : decode cX9_runs 37 = .ok (.istore_n 1, 1) := dk_60 (dk_at dksX9_runs_1 13 rfl rfl)
theorem dX9_runs_38 : decode cX9_runs 38 = .ok (.iinc 2 1, 3) := dk_132 2 1 (dk_at dksX9_runs_1 14 rfl rfl)
theorem dX9_runs_41 : decode cX9_runs 41 = .ok (.goto (-34), 3) := dk_167 255 222 (dk_at dksX9_runs_1 17 rfl rfl)
theorem dX9_runs_44 : decode cX9_runs 44 = .ok (.iload_n 1, 1) := dk_27 (dk_at dksX9_runs_1 20 rfl rfl)
theorem dX9_runs_45 : decode cX9_runs 45 = .ok (.ireturn, 1) := dk_172 (dk_at dksX9_runs_1 21 rfl rfl)
theorem q52 : (Jvm.Cond.initialized "HaltingaleModel$Run") ∈ lw_all := lw_g (lw_at lw_m1 28 rfl) rfl
theorem q537 : (Jvm.Cond.selects "HaltingaleModel$Run" ({ cls := "java/lang/Object", name := "getClass", desc := "()Ljava/lang/Class;" } : Jvm.MethodName) ({ cls := "java/lang/Object", name := "getClass", desc := "()Ljava/lang/Class;" } : Jvm.MethodName)) ∈ lw_all := lw_g (lw_at lw_m3 33 rfl) rfl
theorem q876 : (Jvm.Cond.selects "HaltingaleModel$Run" ({ cls := "java/lang/Object", name := "notify", desc := "()V" } : Jvm.MethodName) ({ cls := "java/lang/Object", name := "notify", desc := "()V" } : Jvm.MethodName)) ∈ lw_all := lw_g (lw_at lw_m4 132 rfl) rfl
theorem q1058 : (Jvm.Cond.selects "HaltingaleModel$Run" ({ cls := "java/lang/Object", name := "notifyAll", desc := "()V" } : Jvm.MethodName) ({ cls := "java/lang/Object", name := "notifyAll", desc := "()V" } : Jvm.MethodName)) ∈ lw_all := lw_g (lw_at lw_m5 74 rfl) rfl
theorem q1285 : (Jvm.Cond.fieldLinkNest "HaltingaleModel$Run" (26 : Nat) "HaltingaleModel$Machine" "states" "I" "HaltingaleModel") ∈ lw_tbl := lw_at lw_m6 61 rfl
theorem q1353 : (Jvm.Cond.instantiable "HaltingaleModel$Run" (8 : Nat)) ∈ lw_all := lw_g (lw_at lw_m6 129 rfl) rfl
theorem q1355 : (Jvm.Cond.instanceMethod ({ cls := "HaltingaleModel$Run", name := "<init>", desc := "(LHaltingaleModel$Machine;I)V" } : Jvm.MethodName)) ∈ lw_all := lw_g (lw_at lw_m6 131 rfl) rfl
theorem q1356 : (Jvm.Cond.code ({ cls := "HaltingaleModel$Run", name := "<init>", desc := "(LHaltingaleModel$Machine;I)V" } : Jvm.MethodName) prog_21_method_1_code (3 : Nat) (Option.none : Option Jvm.ClassFile.FieldType)) ∈ lw_all := lw_g (lw_at lw_m6 132 rfl) rfl
theorem q1357 : (Jvm.Cond.methodLink "HaltingaleModel$Run" (3 : Nat) ({ cls := "java/lang/Object", name := "<init>", desc := "()V" } : Jvm.MethodName)) ∈ lw_all := lw_g (lw_at lw_m6 133 rfl) rfl
theorem q1358 : (Jvm.Cond.fieldLink "HaltingaleModel$Run" (9 : Nat) "HaltingaleModel$Run" "machine" "LHaltingaleModel$Machine;") ∈ lw_all := lw_g (lw_at lw_m6 134 rfl) rfl
theorem q1359 : (Jvm.Cond.fieldLink "HaltingaleModel$Run" (19 : Nat) "HaltingaleModel$Run" "tape" "[I") ∈ lw_all := lw_g (lw_at lw_m6 135 rfl) rfl
theorem q1360 : (Jvm.Cond.fieldLink "HaltingaleModel$Run" (15 : Nat) "HaltingaleModel$Run" "home" "I") ∈ lw_all := lw_g (lw_at lw_m6 136 rfl) rfl
theorem q1361 : (Jvm.Cond.fieldLink "HaltingaleModel$Run" (23 : Nat) "HaltingaleModel$Run" "state" "I") ∈ lw_all := lw_g (lw_at lw_m6 137 rfl) rfl
theorem q1363 : (Jvm.Cond.fieldLink "HaltingaleModel$Run" (35 : Nat) "HaltingaleModel$Run" "place" "I") ∈ lw_all := lw_g (lw_at lw_m6 139 rfl) rfl
theorem q1366 : (Jvm.Cond.fieldLink "HaltingaleModel$Run" (68 : Nat) "HaltingaleModel$Run" "done" "I") ∈ lw_all := lw_g (lw_at lw_m6 142 rfl) rfl
theorem q1368 : (Jvm.Cond.fieldLink "HaltingaleModel$Run" (53 : Nat) "HaltingaleModel$Run" "least" "I") ∈ lw_all := lw_g (lw_at lw_m6 144 rfl) rfl
theorem q1370 : (Jvm.Cond.fieldLink "HaltingaleModel$Run" (62 : Nat) "HaltingaleModel$Run" "most" "I") ∈ lw_all := lw_g (lw_at lw_m6 146 rfl) rfl
theorem q1372 : (Jvm.Cond.laysFinal "HaltingaleModel$Run" "HaltingaleModel$Run" "machine" "LHaltingaleModel$Machine;") ∈ lw_all := lw_g (lw_at lw_m6 148 rfl) rfl
theorem q1373 : (Jvm.Cond.soleField "HaltingaleModel$Run" "machine") ∈ lw_all := lw_g (lw_at lw_m6 149 rfl) rfl
theorem q1374 : (Jvm.Cond.laysFinal "HaltingaleModel$Run" "HaltingaleModel$Run" "tape" "[I") ∈ lw_all := lw_g (lw_at lw_m6 150 rfl) rfl
theorem q1375 : (Jvm.Cond.soleField "HaltingaleModel$Run" "tape") ∈ lw_all := lw_g (lw_at lw_m6 151 rfl) rfl
theorem q1376 : (Jvm.Cond.laysFinal "HaltingaleModel$Run" "HaltingaleModel$Run" "home" "I") ∈ lw_all := lw_g (lw_at lw_m6 152 rfl) rfl
theorem q1377 : (Jvm.Cond.soleField "HaltingaleModel$Run" "home") ∈ lw_all := lw_g (lw_at lw_m6 153 rfl) rfl
theorem q1378 : (Jvm.Cond.lays "HaltingaleModel$Run" "HaltingaleModel$Run" "state" "I") ∈ lw_all := lw_g (lw_at lw_m6 154 rfl) rfl
theorem q1379 : (Jvm.Cond.soleField "HaltingaleModel$Run" "state") ∈ lw_all := lw_g (lw_at lw_m6 155 rfl) rfl
theorem q1380 : (Jvm.Cond.lays "HaltingaleModel$Run" "HaltingaleModel$Run" "place" "I") ∈ lw_all := lw_g (lw_at lw_m6 156 rfl) rfl
theorem q1381 : (Jvm.Cond.soleField "HaltingaleModel$Run" "place") ∈ lw_all := lw_g (lw_at lw_m6 157 rfl) rfl
theorem q1382 : (Jvm.Cond.lays "HaltingaleModel$Run" "HaltingaleModel$Run" "done" "I") ∈ lw_all := lw_g (lw_at lw_m6 158 rfl) rfl
theorem q1383 : (Jvm.Cond.soleField "HaltingaleModel$Run" "done") ∈ lw_all := lw_g (lw_at lw_m6 159 rfl) rfl
theorem q1384 : (Jvm.Cond.lays "HaltingaleModel$Run" "HaltingaleModel$Run" "least" "I") ∈ lw_all := lw_g (lw_at lw_m6 160 rfl) rfl
theorem q1385 : (Jvm.Cond.soleField "HaltingaleModel$Run" "least") ∈ lw_all := lw_g (lw_at lw_m6 161 rfl) rfl
theorem q1386 : (Jvm.Cond.lays "HaltingaleModel$Run" "HaltingaleModel$Run" "most" "I") ∈ lw_all := lw_g (lw_at lw_m6 162 rfl) rfl
theorem q1387 : (Jvm.Cond.soleField "HaltingaleModel$Run" "most") ∈ lw_all := lw_g (lw_at lw_m6 163 rfl) rfl
theorem q1388 : (Jvm.Cond.superclass "HaltingaleModel$Run" "java/lang/Object") ∈ lw_all := lw_g (lw_at lw_m6 164 rfl) rfl
theorem q1390 : (Jvm.Cond.instanceMethod ({ cls := "HaltingaleModel$Run", name := "step", desc := "()Z" } : Jvm.MethodName)) ∈ lw_all := lw_g (lw_at lw_m6 166 rfl) rfl
theorem q1391 : (Jvm.Cond.selects "HaltingaleModel$Run" ({ cls := "HaltingaleModel$Run", name := "step", desc := "()Z" } : Jvm.MethodName) ({ cls := "HaltingaleModel$Run", name := "step", desc := "()Z" } : Jvm.MethodName)) ∈ lw_all := lw_g (lw_at lw_m6 167 rfl) rfl
theorem q1392 : (Jvm.Cond.code ({ cls := "HaltingaleModel$Run", name := "step", desc := "()Z" } : Jvm.MethodName) prog_21_method_6_code (2 : Nat) (Option.some Jvm.ClassFile.FieldType.boolean)) ∈ lw_all := lw_g (lw_at lw_m6 168 rfl) rfl
theorem q1393 : (Jvm.Cond.methodLink "HaltingaleModel$Run" (38 : Nat) ({ cls := "HaltingaleModel$Run", name := "isStopped", desc := "()Z" } : Jvm.MethodName)) ∈ lw_all := lw_g (lw_at lw_m6 169 rfl) rfl
theorem q1394 : (Jvm.Cond.instanceMethod ({ cls := "HaltingaleModel$Run", name := "isStopped", desc := "()Z" } : Jvm.MethodName)) ∈ lw_all := lw_g (lw_at lw_m6 170 rfl) rfl
theorem q1395 : (Jvm.Cond.selects "HaltingaleModel$Run" ({ cls := "HaltingaleModel$Run", name := "isStopped", desc := "()Z" } : Jvm.MethodName) ({ cls := "HaltingaleModel$Run", name := "isStopped", desc := "()Z" } : Jvm.MethodName)) ∈ lw_all := lw_g (lw_at lw_m6 171 rfl) rfl
theorem q1396 : (Jvm.Cond.code ({ cls := "HaltingaleModel$Run", name := "isStopped", desc := "()Z" } : Jvm.MethodName) prog_21_method_2_code (1 : Nat) (Option.some Jvm.ClassFile.FieldType.boolean)) ∈ lw_all := lw_g (lw_at lw_m6 172 rfl) rfl
theorem q1397 : (Jvm.Cond.methodLink "HaltingaleModel$Run" (50 : Nat) ({ cls := "HaltingaleModel$Run", name := "isHung", desc := "()Z" } : Jvm.MethodName)) ∈ lw_all := lw_g (lw_at lw_m6 173 rfl) rfl
theorem q1398 : (Jvm.Cond.instanceMethod ({ cls := "HaltingaleModel$Run", name := "isHung", desc := "()Z" } : Jvm.MethodName)) ∈ lw_all := lw_g (lw_at lw_m6 174 rfl) rfl
theorem q1399 : (Jvm.Cond.selects "HaltingaleModel$Run" ({ cls := "HaltingaleModel$Run", name := "isHung", desc := "()Z" } : Jvm.MethodName) ({ cls := "HaltingaleModel$Run", name := "isHung", desc := "()Z" } : Jvm.MethodName)) ∈ lw_all := lw_g (lw_at lw_m6 175 rfl) rfl
theorem q1400 : (Jvm.Cond.code ({ cls := "HaltingaleModel$Run", name := "isHung", desc := "()Z" } : Jvm.MethodName) prog_21_method_5_code (1 : Nat) (Option.some Jvm.ClassFile.FieldType.boolean)) ∈ lw_all := lw_g (lw_at lw_m6 176 rfl) rfl
theorem q1401 : (Jvm.Cond.methodLink "HaltingaleModel$Run" (42 : Nat) ({ cls := "HaltingaleModel$Run", name := "under", desc := "()I" } : Jvm.MethodName)) ∈ lw_all := lw_g (lw_at lw_m6 177 rfl) rfl
theorem q1402 : (Jvm.Cond.instanceMethod ({ cls := "HaltingaleModel$Run", name := "under", desc := "()I" } : Jvm.MethodName)) ∈ lw_all := lw_g (lw_at lw_m6 178 rfl) rfl
theorem q1403 : (Jvm.Cond.selects "HaltingaleModel$Run" ({ cls := "HaltingaleModel$Run", name := "under", desc := "()I" } : Jvm.MethodName) ({ cls := "HaltingaleModel$Run", name := "under", desc := "()I" } : Jvm.MethodName)) ∈ lw_all := lw_g (lw_at lw_m6 179 rfl) rfl
theorem q1404 : (Jvm.Cond.code ({ cls := "HaltingaleModel$Run", name := "under", desc := "()I" } : Jvm.MethodName) prog_21_method_4_code (1 : Nat) (Option.some Jvm.ClassFile.FieldType.int)) ∈ lw_all := lw_g (lw_at lw_m6 180 rfl) rfl
theorem q1405 : (Jvm.Cond.methodLink "HaltingaleModel$Run" (46 : Nat) ({ cls := "HaltingaleModel$Machine", name := "cell", desc := "(II)[I" } : Jvm.MethodName)) ∈ lw_all := lw_g (lw_at lw_m6 181 rfl) rfl
theorem q1406 : (Jvm.Cond.methodLink "HaltingaleModel$Run" (56 : Nat) ({ cls := "java/lang/Math", name := "min", desc := "(II)I" } : Jvm.MethodName)) ∈ lw_all := lw_g (lw_at lw_m6 182 rfl) rfl
theorem q1407 : (Jvm.Cond.methodLink "HaltingaleModel$Run" (65 : Nat) ({ cls := "java/lang/Math", name := "max", desc := "(II)I" } : Jvm.MethodName)) ∈ lw_all := lw_g (lw_at lw_m6 183 rfl) rfl
theorem q1447 : (Jvm.Cond.instanceMethod ({ cls := "HaltingaleModel$Run", name := "at", desc := "(I)I" } : Jvm.MethodName)) ∈ lw_all := lw_g (lw_at lw_m6 223 rfl) rfl
theorem q1448 : (Jvm.Cond.selects "HaltingaleModel$Run" ({ cls := "HaltingaleModel$Run", name := "at", desc := "(I)I" } : Jvm.MethodName) ({ cls := "HaltingaleModel$Run", name := "at", desc := "(I)I" } : Jvm.MethodName)) ∈ lw_all := lw_g (lw_at lw_m6 224 rfl) rfl
theorem q1449 : (Jvm.Cond.code ({ cls := "HaltingaleModel$Run", name := "at", desc := "(I)I" } : Jvm.MethodName) prog_21_method_3_code (2 : Nat) (Option.some Jvm.ClassFile.FieldType.int)) ∈ lw_all := lw_g (lw_at lw_m6 225 rfl) rfl
theorem q1450 : (Jvm.Cond.methodLinkNest "HaltingaleModel$Run" (31 : Nat) ({ cls := "HaltingaleModel", name := "is", desc := "(III)Z" } : Jvm.MethodName) "HaltingaleModel") ∈ lw_tbl := lw_at lw_m6 226 rfl
theorem q1551 : (Jvm.Cond.instanceMethod ({ cls := "HaltingaleModel$Run", name := "ones", desc := "()I" } : Jvm.MethodName)) ∈ lw_all := lw_g (lw_at lw_m7 87 rfl) rfl
theorem q1552 : (Jvm.Cond.selects "HaltingaleModel$Run" ({ cls := "HaltingaleModel$Run", name := "ones", desc := "()I" } : Jvm.MethodName) ({ cls := "HaltingaleModel$Run", name := "ones", desc := "()I" } : Jvm.MethodName)) ∈ lw_all := lw_g (lw_at lw_m7 88 rfl) rfl
theorem q1553 : (Jvm.Cond.code ({ cls := "HaltingaleModel$Run", name := "ones", desc := "()I" } : Jvm.MethodName) prog_21_method_7_code (3 : Nat) (Option.some Jvm.ClassFile.FieldType.int)) ∈ lw_all := lw_g (lw_at lw_m7 89 rfl) rfl
theorem q1554 : (Jvm.Cond.methodLink "HaltingaleModel$Run" (71 : Nat) ({ cls := "HaltingaleModel$Run", name := "at", desc := "(I)I" } : Jvm.MethodName)) ∈ lw_all := lw_g (lw_at lw_m7 90 rfl) rfl
theorem q1564 : (Jvm.Cond.instanceMethod ({ cls := "HaltingaleModel$Run", name := "runs", desc := "()I" } : Jvm.MethodName)) ∈ lw_all := lw_g (lw_at lw_m7 100 rfl) rfl
theorem q1565 : (Jvm.Cond.selects "HaltingaleModel$Run" ({ cls := "HaltingaleModel$Run", name := "runs", desc := "()I" } : Jvm.MethodName) ({ cls := "HaltingaleModel$Run", name := "runs", desc := "()I" } : Jvm.MethodName)) ∈ lw_all := lw_g (lw_at lw_m7 101 rfl) rfl
theorem q1566 : (Jvm.Cond.code ({ cls := "HaltingaleModel$Run", name := "runs", desc := "()I" } : Jvm.MethodName) prog_21_method_8_code (3 : Nat) (Option.some Jvm.ClassFile.FieldType.int)) ∈ lw_all := lw_g (lw_at lw_m7 102 rfl) rfl
theorem q1672 : (Jvm.Cond.castable "HaltingaleModel$Run" "java/lang/Object") ∈ lw_tbl := lw_at lw_m7 208 rfl
theorem in_X9 : ∀ w ∈ wsX90, w ∈ lw_all := lw_in wsX90 [1372, 1374, 1376, 1378, 1380, 1382, 1384, 1386] (by decide +kernel) (by decide +kernel)
/-! Haltingale$Tag -/
set_option maxRecDepth 100000
def RX10 : String := "Haltingale$Tag"
def TX10 : u_T := fun k => match k with
  | 0 => ("Haltingale$Tag", "cut", "I", true)
  | _ => ("Haltingale$Tag", "words", "[I", true)
def tyX10 : Nat → FieldType := fun k => match k with
  | 0 => .int
  | _ => .array .int
abbrev wsX100 : List Cond := u_ws RX10 TX10 2
theorem nmX10 : ∀ a, a < 2 → ∀ b, b < 2 → a ≠ b → (TX10 a).2.1 ≠ (TX10 b).2.1 := by decide +kernel
theorem tyX10_ok : ∀ k, k < 2 → parseFieldDescriptor (TX10 k).2.2.1 = some (tyX10 k) := by decide +kernel
abbrev cX10_canGo : ByteArray := prog_15_method_3_code
def yX10_canGo : MethodName := ⟨RX10, "canGo", "(I)Z"⟩
def dkwX10_canGo_0 : List UInt8 := [27, 184, 0, 17, 42, 180, 0, 7, 161, 0, 7, 4, 167, 0, 4, 3, 172]
abbrev dktX10_canGo_0 : List UInt8 := dkwX10_canGo_0 ++ []
theorem dksX10_canGo_0 : cX10_canGo.data.toList.drop 0 = dktX10_canGo_0 := by decide +kernel
theorem dX10_canGo_0 : decode cX10_canGo 0 = .ok (.iload_n 1, 1) := dk_27 (dk_at dksX10_canGo_0 0 rfl rfl)
theorem dX10_canGo_1 : decode cX10_canGo 1 = .ok (.invokestatic 17, 3) := dk_184 0 17 (dk_at dksX10_canGo_0 1 rfl rfl)
theorem dX10_canGo_4 : decode cX10_canGo 4 = .ok (.aload_n 0, 1) := dk_42 (dk_at dksX10_canGo_0 4 rfl rfl)
theorem dX10_canGo_5 : decode cX10_canGo 5 = .ok (.getfield 7, 3) := dk_180 0 7 (dk_at dksX10_canGo_0 5 rfl rfl)
theorem dX10_canGo_8 : decode cX10_canGo 8 = .ok (.if_icmp .lt 7, 3) := dk_161 0 7 (dk_at dksX10_canGo_0 8 rfl rfl)
theorem dX10_canGo_11 : decode cX10_canGo 11 = .ok (.iconst 1, 1) := dk_4 (dk_at dksX10_canGo_0 11 rfl rfl)
theorem dX10_canGo_12 : decode cX10_canGo 12 = .ok (.goto 4, 3) := dk_167 0 4 (dk_at dksX10_canGo_0 12 rfl rfl)
theorem dX10_canGo_15 : decode cX10_canGo 15 = .ok (.iconst 0, 1) := dk_3 (dk_at dksX10_canGo_0 15 rfl rfl)
theorem dX10_canGo_16 : decode cX10_canGo 16 = .ok (.ireturn, 1) := dk_172 (dk_at dksX10_canGo_0 16 rfl rfl)
abbrev cX10_length : ByteArray := prog_15_method_2_code
def yX10_length : MethodName := ⟨RX10, "length", "(I)I"⟩
def dkwX10_length_0 : List UInt8 := [3, 60, 26, 27, 122, 4, 164, 0, 9, 132, 1, 1, 167, 255, 246, 27, 172]
abbrev dktX10_length_0 : List UInt8 := dkwX10_length_0 ++ []
theorem dksX10_length_0 : cX10_length.data.toList.drop 0 = dktX10_length_0 := by decide +kernel
theorem dX10_length_0 : decode cX10_length 0 = .ok (.iconst 0, 1) := dk_3 (dk_at dksX10_length_0 0 rfl rfl)
theorem dX10_length_1 : decode cX10_length 1 = .ok (.istore_n 1, 1) := dk_60 (dk_at dksX10_length_0 1 rfl rfl)
theorem dX10_length_2 : decode cX10_length 2 = .ok (.iload_n 0, 1) := dk_26 (dk_at dksX10_length_0 2 rfl rfl)
theorem dX10_length_3 : decode cX10_length 3 = .ok (.iload_n 1, 1) := dk_27 (dk_at dksX10_length_0 3 rfl rfl)
theorem dX10_length_4 : decode cX10_length 4 = .ok (.ishr, 1) := dk_122 (dk_at dksX10_length_0 4 rfl rfl)
theorem dX10_length_5 : decode cX10_length 5 = .ok (.iconst 1, 1) := dk_4 (dk_at dksX10_length_0 5 rfl rfl)
theorem dX10_length_6 : decode cX10_length 6 = .ok (.if_icmp .le 9, 3) := dk_164 0 9 (dk_at dksX10_length_0 6 rfl rfl)
theorem dX10_length_9 : decode cX10_length 9 = .ok (.iinc 1 1, 3) := dk_132 1 1 (dk_at dksX10_length_0 9 rfl rfl)
theorem dX10_length_12 : decode cX10_length 12 = .ok (.goto (-10), 3) := dk_167 255 246 (dk_at dksX10_length_0 12 rfl rfl)
theorem dX10_length_15 : decode cX10_length 15 = .ok (.iload_n 1, 1) := dk_27 (dk_at dksX10_length_0 15 rfl rfl)
theorem dX10_length_16 : decode cX10_length 16 = .ok (.ireturn, 1) := dk_172 (dk_at dksX10_length_0 16 rfl rfl)
abbrev cX10_go : ByteArray := prog_15_method_4_code
def yX10_go : MethodName := ⟨RX10, "go", "(I)I"⟩
def dkwX10_go_2 : List UInt8 := [21, 5, 4, 21, 6, 120, 4, 100, 126, 4, 21, 6, 120, 128, 172]
abbrev dktX10_go_2 : List UInt8 := dkwX10_go_2 ++ []
def dkwX10_go_1 : List UInt8 := [27, 21, 4, 120, 29, 4, 21, 4, 120, 100, 128, 54, 5, 28, 21, 4, 96, 42, 180, 0, 7, 100, 54, 6]
abbrev dktX10_go_1 : List UInt8 := dkwX10_go_1 ++ dktX10_go_2
def dkwX10_go_0 : List UInt8 := [27, 184, 0, 17, 61, 42, 180, 0, 13, 27, 28, 4, 100, 122, 4, 126, 46, 62, 29, 184, 0, 17, 54, 4]
abbrev dktX10_go_0 : List UInt8 := dkwX10_go_0 ++ dktX10_go_1
theorem dksX10_go_0 : cX10_go.data.toList.drop 0 = dktX10_go_0 := by decide +kernel
theorem dksX10_go_1 : cX10_go.data.toList.drop 24 = dktX10_go_1 := dk_seg dksX10_go_0 24 rfl rfl
theorem dksX10_go_2 : cX10_go.data.toList.drop 48 = dktX10_go_2 := dk_seg dksX10_go_1 24 rfl rfl
theorem dX10_go_0 : decode cX10_go 0 = .ok (.iload_n 1, 1) := dk_27 (dk_at dksX10_go_0 0 rfl rfl)
theorem dX10_go_1 : decode cX10_go 1 = .ok (.invokestatic 17, 3) := dk_184 0 17 (dk_at dksX10_go_0 1 rfl rfl)
theorem dX10_go_4 : decode cX10_go 4 = .ok (.istore_n 2, 1) := dk_61 (dk_at dksX10_go_0 4 rfl rfl)
theorem dX10_go_5 : decode cX10_go 5 = .ok (.aload_n 0, 1) := dk_42 (dk_at dksX10_go_0 5 rfl rfl)
theorem dX10_go_6 : decode cX10_go 6 = .ok (.getfield 13, 3) := dk_180 0 13 (dk_at dksX10_go_0 6 rfl rfl)
theorem dX10_go_9 : decode cX10_go 9 = .ok (.iload_n 1, 1) := dk_27 (dk_at dksX10_go_0 9 rfl rfl)
theorem dX10_go_10 : decode cX10_go 10 = .ok (.iload_n 2, 1) := dk_28 (dk_at dksX10_go_0 10 rfl rfl)
theorem dX10_go_11 : decode cX10_go 11 = .ok (.iconst 1, 1) := dk_4 (dk_at dksX10_go_0 11 rfl rfl)
theorem dX10_go_12 : decode cX10_go 12 = .ok (.isub, 1) := dk_100 (dk_at dksX10_go_0 12 rfl rfl)
theorem dX10_go_13 : decode cX10_go 13 = .ok (.ishr, 1) := dk_122 (dk_at dksX10_go_0 13 rfl rfl)
theorem dX10_go_14 : decode cX10_go 14 = .ok (.iconst 1, 1) := dk_4 (dk_at dksX10_go_0 14 rfl rfl)
theorem dX10_go_15 : decode cX10_go 15 = .ok (.iand, 1) := dk_126 (dk_at dksX10_go_0 15 rfl rfl)
theorem dX10_go_16 : decode cX10_go 16 = .ok (.iaload, 1) := dk_46 (dk_at dksX10_go_0 16 rfl rfl)
theorem dX10_go_17 : decode cX10_go 17 = .ok (.istore_n 3, 1) := dk_62 (dk_at dksX10_go_0 17 rfl rfl)
theorem dX10_go_18 : decode cX10_go 18 = .ok (.iload_n 3, 1) := dk_29 (dk_at dksX10_go_0 18 rfl rfl)
theorem dX10_go_19 : decode cX10_go 19 = .ok (.invokestatic 17, 3) := dk_184 0 17 (dk_at dksX10_go_0 19 rfl rfl)
theorem dX10_go_22 : decode cX10_go 22 = .ok (.istore 4, 2) := dk_54 4 (dk_at dksX10_go_0 22 rfl rfl)
theorem dX10_go_24 : decode cX10_go 24 = .ok (.iload_n 1, 1) := dk_27 (dk_at dksX10_go_1 0 rfl rfl)
theorem dX10_go_25 : decode cX10_go 25 = .ok (.iload 4, 2) := dk_21 4 (dk_at dksX10_go_1 1 rfl rfl)
theorem dX10_go_27 : decode cX10_go 27 = .ok (.ishl, 1) := dk_120 (dk_at dksX10_go_1 3 rfl rfl)
theorem dX10_go_28 : decode cX10_go 28 = .ok (.iload_n 3, 1) := dk_29 (dk_at dksX10_go_1 4 rfl rfl)
theorem dX10_go_29 : decode cX10_go 29 = .ok (.iconst 1, 1) := dk_4 (dk_at dksX10_go_1 5 rfl rfl)
theorem dX10_go_30 : decode cX10_go 30 = .ok (.iload 4, 2) := dk_21 4 (dk_at dksX10_go_1 6 rfl rfl)
theorem dX10_go_32 : decode cX10_go 32 = .ok (.ishl, 1) := dk_120 (dk_at dksX10_go_1 8 rfl rfl)
theorem dX10_go_33 : decode cX10_go 33 = .ok (.isub, 1) := dk_100 (dk_at dksX10_go_1 9 rfl rfl)
theorem dX10_go_34 : decode cX10_go 34 = .ok (.ior, 1) := dk_128 (dk_at dksX10_go_1 10 rfl rfl)
theorem dX10_go_35 : decode cX10_go 35 = .ok (.istore 5, 2) := dk_54 5 (dk_at dksX10_go_1 11 rfl rfl)
theorem dX10_go_37 : decode cX10_go 37 = .ok (.iload_n 2, 1) := dk_28 (dk_at dksX10_go_1 13 rfl rfl)
theorem dX10_go_38 : decode cX10_go 38 = .ok (.iload 4, 2) := dk_21 4 (dk_at dksX10_go_1 14 rfl rfl)
theorem dX10_go_40 : decode cX10_go 40 = .ok (.iadd, 1) := dk_96 (dk_at dksX10_go_1 16 rfl rfl)
theorem dX10_go_41 : decode cX10_go 41 = .ok (.aload_n 0, 1) := dk_42 (dk_at dksX10_go_1 17 rfl rfl)
theorem dX10_go_42 : decode cX10_go 42 = .ok (.getfield 7, 3) := dk_180 0 7 (dk_at dksX10_go_1 18 rfl rfl)
theorem dX10_go_45 : decode cX10_go 45 = .ok (.isub, 1) := dk_100 (dk_at dksX10_go_1 21 rfl rfl)
theorem dX10_go_46 : decode cX10_go 46 = .ok (.istore 6, 2) := dk_54 6 (dk_at dksX10_go_1 22 rfl rfl)
theorem dX10_go_48 : decode cX10_go 48 = .ok (.iload 5, 2) := dk_21 5 (dk_at dksX10_go_2 0 rfl rfl)
theorem dX10_go_50 : decode cX10_go 50 = .ok (.iconst 1, 1) := dk_4 (dk_at dksX10_go_2 2 rfl rfl)
theorem dX10_go_51 : decode cX10_go 51 = .ok (.iload 6, 2) := dk_21 6 (dk_at dksX10_go_2 3 rfl rfl)
theorem dX10_go_53 : decode cX10_go 53 = .ok (.ishl, 1) := dk_120 (dk_at dksX10_go_2 5 rfl rfl)
theorem dX10_go_54 : decode cX10_go 54 = .ok (.iconst 1, 1) := dk_4 (dk_at dksX10_go_2 6 rfl rfl)
theorem dX10_go_55 : decode cX10_go 55 = .ok (.isub, 1) := dk_100 (dk_at dksX10_go_2 7 rfl rfl)
theorem dX10_go_56 : decode cX10_go 56 = .ok (.iand, 1) := dk_126 (dk_at dksX10_go_2 8 rfl rfl)
theorem dX10_go_57 : decode cX10_go 57 = .ok (.iconst 1, 1) := dk_4 (dk_at dksX10_go_2 9 rfl rfl)
theorem dX10_go_58 : decode cX10_go 58 = .ok (.iload 6, 2) := dk_21 6 (dk_at dksX10_go_2 10 rfl rfl)
theorem dX10_go_60 : decode cX10_go 60 = .ok (.ishl, 1) := dk_120 (dk_at dksX10_go_2 12 rfl rfl)
theorem dX10_go_61 : decode cX10_go 61 = .ok (.ior, 1) := dk_128 (dk_at dksX10_go_2 13 rfl rfl)
theorem dX10_go_62 : decode cX10_go 62 = .ok (.ireturn, 1) := dk_172 (dk_at dksX10_go_2 14 rfl rfl)
abbrev cX10_init : ByteArray := prog_15_method_1_code
def yX10_init : MethodName := ⟨RX10, "<init>", "(III)V"⟩
def dkwX10_init_1 : List UInt8 := [177]
abbrev dktX10_init_1 : List UInt8 := dkwX10_init_1 ++ []
def dkwX10_init_0 : List UInt8 := [42, 183, 0, 1, 42, 27, 181, 0, 7, 42, 5, 188, 10, 89, 3, 28, 79, 89, 4, 29, 79, 181, 0, 13]
abbrev dktX10_init_0 : List UInt8 := dkwX10_init_0 ++ dktX10_init_1
theorem dksX10_init_0 : cX10_init.data.toList.drop 0 = dktX10_init_0 := by decide +kernel
theorem dksX10_init_1 : cX10_init.data.toList.drop 24 = dktX10_init_1 := dk_seg dksX10_init_0 24 rfl rfl
theorem dX10_init_0 : decode cX10_init 0 = .ok (.aload_n 0, 1) := dk_42 (dk_at dksX10_init_0 0 rfl rfl)
theorem dX10_init_1 : decode cX10_init 1 = .ok (.invokespecial 1, 3) := dk_183 0 1 (dk_at dksX10_init_0 1 rfl rfl)
theorem dX10_init_4 : decode cX10_init 4 = .ok (.aload_n 0, 1) := dk_42 (dk_at dksX10_init_0 4 rfl rfl)
theorem dX10_init_5 : decode cX10_init 5 = .ok (.iload_n 1, 1) := dk_27 (dk_at dksX10_init_0 5 rfl rfl)
theorem dX10_init_6 : decode cX10_init 6 = .ok (.putfield 7, 3) := dk_181 0 7 (dk_at dksX10_init_0 6 rfl rfl)
theorem dX10_init_9 : decode cX10_init 9 = .ok (.aload_n 0, 1) := dk_42 (dk_at dksX10_init_0 9 rfl rfl)
theorem dX10_init_10 : decode cX10_init 10 = .ok (.iconst 2, 1) := dk_5 (dk_at dksX10_init_0 10 rfl rfl)
theorem dX10_init_11 : decode cX10_init 11 = .ok (.newarray .int, 2) := dk_188_10 (dk_at dksX10_init_0 11 rfl rfl)
theorem dX10_init_13 : decode cX10_init 13 = .ok (.dup, 1) := dk_89 (dk_at dksX10_init_0 13 rfl rfl)
theorem dX10_init_14 : decode cX10_init 14 = .ok (.iconst 0, 1) := dk_3 (dk_at dksX10_init_0 14 rfl rfl)
theorem dX10_init_15 : decode cX10_init 15 = .ok (.iload_n 2, 1) := dk_28 (dk_at dksX10_init_0 15 rfl rfl)
theorem dX10_init_16 : decode cX10_init 16 = .ok (.iastore, 1) := dk_79 (dk_at dksX10_init_0 16 rfl rfl)
theorem dX10_init_17 : decode cX10_init 17 = .ok (.dup, 1) := dk_89 (dk_at dksX10_init_0 17 rfl rfl)
theorem dX10_init_18 : decode cX10_init 18 = .ok (.iconst 1, 1) := dk_4 (dk_at dksX10_init_0 18 rfl rfl)
theorem dX10_init_19 : decode cX10_init 19 = .ok (.iload_n 3, 1) := dk_29 (dk_at dksX10_init_0 19 rfl rfl)
theorem dX10_init_20 : decode cX10_init 20 = .ok (.iastore, 1) := dk_79 (dk_at dksX10_init_0 20 rfl rfl)
theorem dX10_init_21 : decode cX10_init 21 = .ok (.putfield 13, 3) := dk_181 0 13 (dk_at dksX10_init_0 21 rfl rfl)
theorem dX10_init_24 : decode cX10_init 24 = .ok (.return_, 1) := dk_177 (dk_at dksX10_init_1 0 rfl rfl)
theorem q53 : (Jvm.Cond.initialized "Haltingale$Tag") ∈ lw_all := lw_g (lw_at lw_m1 29 rfl) rfl
theorem q207 : (Jvm.Cond.superclass "Haltingale$Tag" "java/lang/Object") ∈ lw_all := lw_g (lw_at lw_m1 183 rfl) rfl
theorem q208 : (Jvm.Cond.unhidden "Haltingale$Tag" "count" "()I") ∈ lw_tbl := lw_at lw_m1 184 rfl
theorem q532 : (Jvm.Cond.selects "Haltingale$Tag" ({ cls := "java/lang/Object", name := "getClass", desc := "()Ljava/lang/Class;" } : Jvm.MethodName) ({ cls := "java/lang/Object", name := "getClass", desc := "()Ljava/lang/Class;" } : Jvm.MethodName)) ∈ lw_all := lw_g (lw_at lw_m3 28 rfl) rfl
theorem q651 : (Jvm.Cond.instanceMethod ({ cls := "Haltingale$Tag", name := "canGo", desc := "(I)Z" } : Jvm.MethodName)) ∈ lw_all := lw_g (lw_at lw_m3 147 rfl) rfl
theorem q652 : (Jvm.Cond.selects "Haltingale$Tag" ({ cls := "Haltingale$Tag", name := "canGo", desc := "(I)Z" } : Jvm.MethodName) ({ cls := "Haltingale$Tag", name := "canGo", desc := "(I)Z" } : Jvm.MethodName)) ∈ lw_all := lw_g (lw_at lw_m3 148 rfl) rfl
theorem q653 : (Jvm.Cond.code ({ cls := "Haltingale$Tag", name := "canGo", desc := "(I)Z" } : Jvm.MethodName) prog_15_method_3_code (2 : Nat) (Option.some Jvm.ClassFile.FieldType.boolean)) ∈ lw_all := lw_g (lw_at lw_m3 149 rfl) rfl
theorem q654 : (Jvm.Cond.methodLink "Haltingale$Tag" (17 : Nat) ({ cls := "Haltingale$Tag", name := "length", desc := "(I)I" } : Jvm.MethodName)) ∈ lw_all := lw_g (lw_at lw_m3 150 rfl) rfl
theorem q655 : (Jvm.Cond.static ({ cls := "Haltingale$Tag", name := "length", desc := "(I)I" } : Jvm.MethodName)) ∈ lw_all := lw_g (lw_at lw_m3 151 rfl) rfl
theorem q656 : (Jvm.Cond.code ({ cls := "Haltingale$Tag", name := "length", desc := "(I)I" } : Jvm.MethodName) prog_15_method_2_code (2 : Nat) (Option.some Jvm.ClassFile.FieldType.int)) ∈ lw_all := lw_g (lw_at lw_m3 152 rfl) rfl
theorem q658 : (Jvm.Cond.instanceMethod ({ cls := "Haltingale$Tag", name := "go", desc := "(I)I" } : Jvm.MethodName)) ∈ lw_all := lw_g (lw_at lw_m3 154 rfl) rfl
theorem q659 : (Jvm.Cond.selects "Haltingale$Tag" ({ cls := "Haltingale$Tag", name := "go", desc := "(I)I" } : Jvm.MethodName) ({ cls := "Haltingale$Tag", name := "go", desc := "(I)I" } : Jvm.MethodName)) ∈ lw_all := lw_g (lw_at lw_m3 155 rfl) rfl
theorem q660 : (Jvm.Cond.code ({ cls := "Haltingale$Tag", name := "go", desc := "(I)I" } : Jvm.MethodName) prog_15_method_4_code (7 : Nat) (Option.some Jvm.ClassFile.FieldType.int)) ∈ lw_all := lw_g (lw_at lw_m3 156 rfl) rfl
theorem q871 : (Jvm.Cond.selects "Haltingale$Tag" ({ cls := "java/lang/Object", name := "notify", desc := "()V" } : Jvm.MethodName) ({ cls := "java/lang/Object", name := "notify", desc := "()V" } : Jvm.MethodName)) ∈ lw_all := lw_g (lw_at lw_m4 127 rfl) rfl
theorem q914 : (Jvm.Cond.instantiable "Haltingale$Tag" (2 : Nat)) ∈ lw_all := lw_g (lw_at lw_m4 170 rfl) rfl
theorem q916 : (Jvm.Cond.instanceMethod ({ cls := "Haltingale$Tag", name := "<init>", desc := "(III)V" } : Jvm.MethodName)) ∈ lw_all := lw_g (lw_at lw_m4 172 rfl) rfl
theorem q917 : (Jvm.Cond.code ({ cls := "Haltingale$Tag", name := "<init>", desc := "(III)V" } : Jvm.MethodName) prog_15_method_1_code (4 : Nat) (Option.none : Option Jvm.ClassFile.FieldType)) ∈ lw_all := lw_g (lw_at lw_m4 173 rfl) rfl
theorem q918 : (Jvm.Cond.methodLink "Haltingale$Tag" (1 : Nat) ({ cls := "java/lang/Object", name := "<init>", desc := "()V" } : Jvm.MethodName)) ∈ lw_all := lw_g (lw_at lw_m4 174 rfl) rfl
theorem q919 : (Jvm.Cond.fieldLink "Haltingale$Tag" (7 : Nat) "Haltingale$Tag" "cut" "I") ∈ lw_all := lw_g (lw_at lw_m4 175 rfl) rfl
theorem q920 : (Jvm.Cond.fieldLink "Haltingale$Tag" (13 : Nat) "Haltingale$Tag" "words" "[I") ∈ lw_all := lw_g (lw_at lw_m4 176 rfl) rfl
theorem q921 : (Jvm.Cond.laysFinal "Haltingale$Tag" "Haltingale$Tag" "cut" "I") ∈ lw_all := lw_g (lw_at lw_m4 177 rfl) rfl
theorem q922 : (Jvm.Cond.soleField "Haltingale$Tag" "cut") ∈ lw_all := lw_g (lw_at lw_m4 178 rfl) rfl
theorem q923 : (Jvm.Cond.laysFinal "Haltingale$Tag" "Haltingale$Tag" "words" "[I") ∈ lw_all := lw_g (lw_at lw_m4 179 rfl) rfl
theorem q924 : (Jvm.Cond.soleField "Haltingale$Tag" "words") ∈ lw_all := lw_g (lw_at lw_m4 180 rfl) rfl
theorem q1053 : (Jvm.Cond.selects "Haltingale$Tag" ({ cls := "java/lang/Object", name := "notifyAll", desc := "()V" } : Jvm.MethodName) ({ cls := "java/lang/Object", name := "notifyAll", desc := "()V" } : Jvm.MethodName)) ∈ lw_all := lw_g (lw_at lw_m5 69 rfl) rfl
theorem q1673 : (Jvm.Cond.castable "Haltingale$Tag" "java/lang/Object") ∈ lw_tbl := lw_at lw_m7 209 rfl
theorem in_X10 : ∀ w ∈ wsX100, w ∈ lw_all := lw_in wsX100 [921, 923] (by decide +kernel) (by decide +kernel)
/-! Haltingale$Look -/
set_option maxRecDepth 100000
def RX11 : String := "Haltingale$Look"
def TX11 : u_T := fun k => match k with
  | 0 => ("Haltingale$Look", "state", "I", true)
  | 1 => ("Haltingale$Look", "place", "I", true)
  | 2 => ("Haltingale$Look", "reach", "I", true)
  | _ => ("Haltingale$Look", "tape", "[I", true)
def tyX11 : Nat → FieldType := fun k => match k with
  | 0 => .int
  | 1 => .int
  | 2 => .int
  | _ => .array .int
abbrev wsX110 : List Cond := u_ws RX11 TX11 4
theorem nmX11 : ∀ a, a < 4 → ∀ b, b < 4 → a ≠ b → (TX11 a).2.1 ≠ (TX11 b).2.1 := by decide +kernel
theorem tyX11_ok : ∀ k, k < 4 → parseFieldDescriptor (TX11 k).2.2.1 = some (tyX11 k) := by decide +kernel
abbrev cX11_init : ByteArray := prog_9_method_1_code
def yX11_init : MethodName := ⟨RX11, "<init>", "(LHaltingale$Walker;)V"⟩
def dkwX11_init_2 : List UInt8 := [180, 0, 28, 3, 42, 180, 0, 28, 190, 184, 0, 29, 177]
abbrev dktX11_init_2 : List UInt8 := dkwX11_init_2 ++ []
def dkwX11_init_1 : List UInt8 := [180, 0, 20, 181, 0, 23, 42, 43, 180, 0, 24, 190, 188, 10, 181, 0, 28, 43, 180, 0, 24, 3, 42]
abbrev dktX11_init_1 : List UInt8 := dkwX11_init_1 ++ dktX11_init_2
def dkwX11_init_0 : List UInt8 := [42, 183, 0, 1, 42, 43, 180, 0, 7, 181, 0, 13, 42, 43, 180, 0, 16, 181, 0, 19, 42, 43]
abbrev dktX11_init_0 : List UInt8 := dkwX11_init_0 ++ dktX11_init_1
theorem dksX11_init_0 : cX11_init.data.toList.drop 0 = dktX11_init_0 := by decide +kernel
theorem dksX11_init_1 : cX11_init.data.toList.drop 22 = dktX11_init_1 := dk_seg dksX11_init_0 22 rfl rfl
theorem dksX11_init_2 : cX11_init.data.toList.drop 45 = dktX11_init_2 := dk_seg dksX11_init_1 23 rfl rfl
theorem dX11_init_0 : decode cX11_init 0 = .ok (.aload_n 0, 1) := dk_42 (dk_at dksX11_init_0 0 rfl rfl)
theorem dX11_init_1 : decode cX11_init 1 = .ok (.invokespecial 1, 3) := dk_183 0 1 (dk_at dksX11_init_0 1 rfl rfl)
theorem dX11_init_4 : decode cX11_init 4 = .ok (.aload_n 0, 1) := dk_42 (dk_at dksX11_init_0 4 rfl rfl)
theorem dX11_init_5 : decode cX11_init 5 = .ok (.aload_n 1, 1) := dk_43 (dk_at dksX11_init_0 5 rfl rfl)
theorem dX11_init_6 : decode cX11_init 6 = .ok (.getfield 7, 3) := dk_180 0 7 (dk_at dksX11_init_0 6 rfl rfl)
theorem dX11_init_9 : decode cX11_init 9 = .ok (.putfield 13, 3) := dk_181 0 13 (dk_at dksX11_init_0 9 rfl rfl)
theorem dX11_init_12 : decode cX11_init 12 = .ok (.aload_n 0, 1) := dk_42 (dk_at dksX11_init_0 12 rfl rfl)
theorem dX11_init_13 : decode cX11_init 13 = .ok (.aload_n 1, 1) := dk_43 (dk_at dksX11_init_0 13 rfl rfl)
theorem dX11_init_14 : decode cX11_init 14 = .ok (.getfield 16, 3) := dk_180 0 16 (dk_at dksX11_init_0 14 rfl rfl)
theorem dX11_init_17 : decode cX11_init 17 = .ok (.putfield 19, 3) := dk_181 0 19 (dk_at dksX11_init_0 17 rfl rfl)
theorem dX11_init_20 : decode cX11_init 20 = .ok (.aload_n 0, 1) := dk_42 (dk_at dksX11_init_0 20 rfl rfl)
theorem dX11_init_21 : decode cX11_init 21 = .ok (.aload_n 1, 1) := dk_43 (dk_at dksX11_init_0 21 rfl rfl)
theorem dX11_init_22 : decode cX11_init 22 = .ok (.getfield 20, 3) := dk_180 0 20 (dk_at dksX11_init_1 0 rfl rfl)
theorem dX11_init_25 : decode cX11_init 25 = .ok (.putfield 23, 3) := dk_181 0 23 (dk_at dksX11_init_1 3 rfl rfl)
theorem dX11_init_28 : decode cX11_init 28 = .ok (.aload_n 0, 1) := dk_42 (dk_at dksX11_init_1 6 rfl rfl)
theorem dX11_init_29 : decode cX11_init 29 = .ok (.aload_n 1, 1) := dk_43 (dk_at dksX11_init_1 7 rfl rfl)
theorem dX11_init_30 : decode cX11_init 30 = .ok (.getfield 24, 3) := dk_180 0 24 (dk_at dksX11_init_1 8 rfl rfl)
theorem dX11_init_33 : decode cX11_init 33 = .ok (.arraylength, 1) := dk_190 (dk_at dksX11_init_1 11 rfl rfl)
theorem dX11_init_34 : decode cX11_init 34 = .ok (.newarray .int, 2) := dk_188_10 (dk_at dksX11_init_1 12 rfl rfl)
theorem dX11_init_36 : decode cX11_init 36 = .ok (.putfield 28, 3) := dk_181 0 28 (dk_at dksX11_init_1 14 rfl rfl)
theorem dX11_init_39 : decode cX11_init 39 = .ok (.aload_n 1, 1) := dk_43 (dk_at dksX11_init_1 17 rfl rfl)
theorem dX11_init_40 : decode cX11_init 40 = .ok (.getfield 24, 3) := dk_180 0 24 (dk_at dksX11_init_1 18 rfl rfl)
theorem dX11_init_43 : decode cX11_init 43 = .ok (.iconst 0, 1) := dk_3 (dk_at dksX11_init_1 21 rfl rfl)
theorem dX11_init_44 : decode cX11_init 44 = .ok (.aload_n 0, 1) := dk_42 (dk_at dksX11_init_1 22 rfl rfl)
theorem dX11_init_45 : decode cX11_init 45 = .ok (.getfield 28, 3) := dk_180 0 28 (dk_at dksX11_init_2 0 rfl rfl)
theorem dX11_init_48 : decode cX11_init 48 = .ok (.iconst 0, 1) := dk_3 (dk_at dksX11_init_2 3 rfl rfl)
theorem dX11_init_49 : decode cX11_init 49 = .ok (.aload_n 0, 1) := dk_42 (dk_at dksX11_init_2 4 rfl rfl)
theorem dX11_init_50 : decode cX11_init 50 = .ok (.getfield 28, 3) := dk_180 0 28 (dk_at dksX11_init_2 5 rfl rfl)
theorem dX11_init_53 : decode cX11_init 53 = .ok (.arraylength, 1) := dk_190 (dk_at dksX11_init_2 8 rfl rfl)
theorem dX11_init_54 : decode cX11_init 54 = .ok (.invokestatic 29, 3) := dk_184 0 29 (dk_at dksX11_init_2 9 rfl rfl)
theorem dX11_init_57 : decode cX11_init 57 = .ok (.return_, 1) := dk_177 (dk_at dksX11_init_2 12 rfl rfl)
abbrev cX11_comesAgain : ByteArray := prog_9_method_3_code
def yX11_comesAgain : MethodName := ⟨RX11, "comesAgain", "(LHaltingale$Look;II)Z"⟩
def dkwX11_comesAgain_4 : List UInt8 := [167, 255, 226, 4, 172]
abbrev dktX11_comesAgain_4 : List UInt8 := dkwX11_comesAgain_4 ++ []
def dkwX11_comesAgain_3 : List UInt8 := [21, 7, 182, 0, 35, 43, 21, 7, 21, 4, 96, 182, 0, 35, 159, 0, 5, 3, 172, 132, 7, 1]
abbrev dktX11_comesAgain_3 : List UInt8 := dkwX11_comesAgain_3 ++ dktX11_comesAgain_4
def dkwX11_comesAgain_2 : List UInt8 := [167, 0, 9, 5, 42, 180, 0, 23, 104, 54, 6, 21, 5, 54, 7, 21, 7, 21, 6, 163, 0, 29, 42]
abbrev dktX11_comesAgain_2 : List UInt8 := dkwX11_comesAgain_2 ++ dktX11_comesAgain_3
def dkwX11_comesAgain_1 : List UInt8 := [21, 4, 158, 0, 7, 28, 167, 0, 10, 16, 254, 42, 180, 0, 23, 104, 54, 5, 21, 4, 156, 0, 7, 29]
abbrev dktX11_comesAgain_1 : List UInt8 := dkwX11_comesAgain_1 ++ dktX11_comesAgain_2
def dkwX11_comesAgain_0 : List UInt8 := [42, 180, 0, 13, 43, 180, 0, 13, 159, 0, 5, 3, 172, 43, 180, 0, 19, 42, 180, 0, 19, 100, 54, 4]
abbrev dktX11_comesAgain_0 : List UInt8 := dkwX11_comesAgain_0 ++ dktX11_comesAgain_1
theorem dksX11_comesAgain_0 : cX11_comesAgain.data.toList.drop 0 = dktX11_comesAgain_0 := by decide +kernel
theorem dksX11_comesAgain_1 : cX11_comesAgain.data.toList.drop 24 = dktX11_comesAgain_1 := dk_seg dksX11_comesAgain_0 24 rfl rfl
theorem dksX11_comesAgain_2 : cX11_comesAgain.data.toList.drop 48 = dktX11_comesAgain_2 := dk_seg dksX11_comesAgain_1 24 rfl rfl
theorem dksX11_comesAgain_3 : cX11_comesAgain.data.toList.drop 71 = dktX11_comesAgain_3 := dk_seg dksX11_comesAgain_2 23 rfl rfl
theorem dksX11_comesAgain_4 : cX11_comesAgain.data.toList.drop 93 = dktX11_comesAgain_4 := dk_seg dksX11_comesAgain_3 22 rfl rfl
theorem dX11_comesAgain_0 : decode cX11_comesAgain 0 = .ok (.aload_n 0, 1) := dk_42 (dk_at dksX11_comesAgain_0 0 rfl rfl)
theorem dX11_comesAgain_1 : decode cX11_comesAgain 1 = .ok (.getfield 13, 3) := dk_180 0 13 (dk_at dksX11_comesAgain_0 1 rfl rfl)
theorem dX11_comesAgain_4 : decode cX11_comesAgain 4 = .ok (.aload_n 1, 1) := dk_43 (dk_at dksX11_comesAgain_0 4 rfl rfl)
theorem dX11_comesAgain_5 : decode cX11_comesAgain 5 = .ok (.getfield 13, 3) := dk_180 0 13 (dk_at dksX11_comesAgain_0 5 rfl rfl)
theorem dX11_comesAgain_8 : decode cX11_comesAgain 8 = .ok (.if_icmp .eq 5, 3) := dk_159 0 5 (dk_at dksX11_comesAgain_0 8 rfl rfl)
theorem dX11_comesAgain_11 : decode cX11_comesAgain 11 = .ok (.iconst 0, 1) := dk_3 (dk_at dksX11_comesAgain_0 11 rfl rfl)
theorem dX11_comesAgain_12 : decode cX11_comesAgain 12 = .ok (.ireturn, 1) := dk_172 (dk_at dksX11_comesAgain_0 12 rfl rfl)
theorem dX11_comesAgain_13 : decode cX11_comesAgain 13 = .ok (.aload_n 1, 1) := dk_43 (dk_at dksX11_comesAgain_0 13 rfl rfl)
theorem dX11_comesAgain_14 : decode cX11_comesAgain 14 = .ok (.getfield 19, 3) := dk_180 0 19 (dk_at dksX11_comesAgain_0 14 rfl rfl)
theorem dX11_comesAgain_17 : decode cX11_comesAgain 17 = .ok (.aload_n 0, 1) := dk_42 (dk_at dksX11_comesAgain_0 17 rfl rfl)
theorem dX11_comesAgain_18 : decode cX11_comesAgain 18 = .ok (.getfield 19, 3) := dk_180 0 19 (dk_at dksX11_comesAgain_0 18 rfl rfl)
theorem dX11_comesAgain_21 : decode cX11_comesAgain 21 = .ok (.isub, 1) := dk_100 (dk_at dksX11_comesAgain_0 21 rfl rfl)
theorem dX11_comesAgain_22 : decode cX11_comesAgain 22 = .ok (.istore 4, 2) := dk_54 4 (dk_at dksX11_comesAgain_0 22 rfl rfl)
theorem dX11_comesAgain_24 : decode cX11_comesAgain 24 = .ok (.iload 4, 2) := dk_21 4 (dk_at dksX11_comesAgain_1 0 rfl rfl)
theorem dX11_comesAgain_26 : decode cX11_comesAgain 26 = .ok (.ifCond .le 7, 3) := dk_158 0 7 (dk_at dksX11_comesAgain_1 2 rfl rfl)
theorem dX11_comesAgain_29 : decode cX11_comesAgain 29 = .ok (.iload_n 2, 1) := dk_28 (dk_at dksX11_comesAgain_1 5 rfl rfl)
theorem dX11_comesAgain_30 : decode cX11_comesAgain 30 = .ok (.goto 10, 3) := dk_167 0 10 (dk_at dksX11_comesAgain_1 6 rfl rfl)
theorem dX11_comesAgain_33 : decode cX11_comesAgain 33 = .ok (.bipush (-2), 2) := dk_16 254 (dk_at dksX11_comesAgain_1 9 rfl rfl)
theorem dX11_comesAgain_35 : decode cX11_comesAgain 35 = .ok (.aload_n 0, 1) := dk_42 (dk_at dksX11_comesAgain_1 11 rfl rfl)
theorem dX11_comesAgain_36 : decode cX11_comesAgain 36 = .ok (.getfield 23, 3) := dk_180 0 23 (dk_at dksX11_comesAgain_1 12 rfl rfl)
theorem dX11_comesAgain_39 : decode cX11_comesAgain 39 = .ok (.imul, 1) := dk_104 (dk_at dksX11_comesAgain_1 15 rfl rfl)
theorem dX11_comesAgain_40 : decode cX11_comesAgain 40 = .ok (.istore 5, 2) := dk_54 5 (dk_at dksX11_comesAgain_1 16 rfl rfl)
theorem dX11_comesAgain_42 : decode cX11_comesAgain 42 = .ok (.iload 4, 2) := dk_21 4 (dk_at dksX11_comesAgain_1 18 rfl rfl)
theorem dX11_comesAgain_44 : decode cX11_comesAgain 44 = .ok (.ifCond .ge 7, 3) := dk_156 0 7 (dk_at dksX11_comesAgain_1 20 rfl rfl)
theorem dX11_comesAgain_47 : decode cX11_comesAgain 47 = .ok (.iload_n 3, 1) := dk_29 (dk_at dksX11_comesAgain_1 23 rfl rfl)
theorem dX11_comesAgain_48 : decode cX11_comesAgain 48 = .ok (.goto 9, 3) := dk_167 0 9 (dk_at dksX11_comesAgain_2 0 rfl rfl)
theorem dX11_comesAgain_51 : decode cX11_comesAgain 51 = .ok (.iconst 2, 1) := dk_5 (dk_at dksX11_comesAgain_2 3 rfl rfl)
theorem dX11_comesAgain_52 : decode cX11_comesAgain 52 = .ok (.aload_n 0, 1) := dk_42 (dk_at dksX11_comesAgain_2 4 rfl rfl)
theorem dX11_comesAgain_53 : decode cX11_comesAgain 53 = .ok (.getfield 23, 3) := dk_180 0 23 (dk_at dksX11_comesAgain_2 5 rfl rfl)
theorem dX11_comesAgain_56 : decode cX11_comesAgain 56 = .ok (.imul, 1) := dk_104 (dk_at dksX11_comesAgain_2 8 rfl rfl)
theorem dX11_comesAgain_57 : decode cX11_comesAgain 57 = .ok (.istore 6, 2) := dk_54 6 (dk_at dksX11_comesAgain_2 9 rfl rfl)
theorem dX11_comesAgain_59 : decode cX11_comesAgain 59 = .ok (.iload 5, 2) := dk_21 5 (dk_at dksX11_comesAgain_2 11 rfl rfl)
theorem dX11_comesAgain_61 : decode cX11_comesAgain 61 = .ok (.istore 7, 2) := dk_54 7 (dk_at dksX11_comesAgain_2 13 rfl rfl)
theorem dX11_comesAgain_63 : decode cX11_comesAgain 63 = .ok (.iload 7, 2) := dk_21 7 (dk_at dksX11_comesAgain_2 15 rfl rfl)
theorem dX11_comesAgain_65 : decode cX11_comesAgain 65 = .ok (.iload 6, 2) := dk_21 6 (dk_at dksX11_comesAgain_2 17 rfl rfl)
theorem dX11_comesAgain_67 : decode cX11_comesAgain 67 = .ok (.if_icmp .gt 29, 3) := dk_163 0 29 (dk_at dksX11_comesAgain_2 19 rfl rfl)
theorem dX11_comesAgain_70 : decode cX11_comesAgain 70 = .ok (.aload_n 0, 1) := dk_42 (dk_at dksX11_comesAgain_2 22 rfl rfl)
theorem dX11_comesAgain_71 : decode cX11_comesAgain 71 = .ok (.iload 7, 2) := dk_21 7 (dk_at dksX11_comesAgain_3 0 rfl rfl)
theorem dX11_comesAgain_73 : decode cX11_comesAgain 73 = .ok (.invokevirtual 35, 3) := dk_182 0 35 (dk_at dksX11_comesAgain_3 2 rfl rfl)
theorem dX11_comesAgain_76 : decode cX11_comesAgain 76 = .ok (.aload_n 1, 1) := dk_43 (dk_at dksX11_comesAgain_3 5 rfl rfl)
theorem dX11_comesAgain_77 : decode cX11_comesAgain 77 = .ok (.iload 7, 2) := dk_21 7 (dk_at dksX11_comesAgain_3 6 rfl rfl)
theorem dX11_comesAgain_79 : decode cX11_comesAgain 79 = .ok (.iload 4, 2) := dk_21 4 (dk_at dksX11_comesAgain_3 8 rfl rfl)
theorem dX11_comesAgain_81 : decode cX11_comesAgain 81 = .ok (.iadd, 1) := dk_96 (dk_at dksX11_comesAgain_3 10 rfl rfl)
theorem dX11_comesAgain_82 : decode cX11_comesAgain 82 = .ok (.invokevirtual 35, 3) := dk_182 0 35 (dk_at dksX11_comesAgain_3 11 rfl rfl)
theorem dX11_comesAgain_85 : decode cX11_comesAgain 85 = .ok (.if_icmp .eq 5, 3) := dk_159 0 5 (dk_at dksX11_comesAgain_3 14 rfl rfl)
theorem dX11_comesAgain_88 : decode cX11_comesAgain 88 = .ok (.iconst 0, 1) := dk_3 (dk_at dksX11_comesAgain_3 17 rfl rfl)
theorem dX11_comesAgain_89 : decode cX11_comesAgain 89 = .ok (.ireturn, 1) := dk_172 (dk_at dksX11_comesAgain_3 18 rfl rfl)
theorem dX11_comesAgain_90 : decode cX11_comesAgain 90 = .ok (.iinc 7 1, 3) := dk_132 7 1 (dk_at dksX11_comesAgain_3 19 rfl rfl)
theorem dX11_comesAgain_93 : decode cX11_comesAgain 93 = .ok (.goto (-30), 3) := dk_167 255 226 (dk_at dksX11_comesAgain_4 0 rfl rfl)
theorem dX11_comesAgain_96 : decode cX11_comesAgain 96 = .ok (.iconst 1, 1) := dk_4 (dk_at dksX11_comesAgain_4 3 rfl rfl)
theorem dX11_comesAgain_97 : decode cX11_comesAgain 97 = .ok (.ireturn, 1) := dk_172 (dk_at dksX11_comesAgain_4 4 rfl rfl)
abbrev cX11_symbol : ByteArray := prog_9_method_2_code
def yX11_symbol : MethodName := ⟨RX11, "symbol", "(I)I"⟩
def dkwX11_symbol_1 : List UInt8 := [180, 0, 28, 42, 180, 0, 23, 27, 96, 46, 172]
abbrev dktX11_symbol_1 : List UInt8 := dkwX11_symbol_1 ++ []
def dkwX11_symbol_0 : List UInt8 := [27, 42, 180, 0, 23, 116, 161, 0, 11, 27, 42, 180, 0, 23, 164, 0, 7, 3, 167, 0, 14, 42]
abbrev dktX11_symbol_0 : List UInt8 := dkwX11_symbol_0 ++ dktX11_symbol_1
theorem dksX11_symbol_0 : cX11_symbol.data.toList.drop 0 = dktX11_symbol_0 := by decide +kernel
theorem dksX11_symbol_1 : cX11_symbol.data.toList.drop 22 = dktX11_symbol_1 := dk_seg dksX11_symbol_0 22 rfl rfl
theorem dX11_symbol_0 : decode cX11_symbol 0 = .ok (.iload_n 1, 1) := dk_27 (dk_at dksX11_symbol_0 0 rfl rfl)
theorem dX11_symbol_1 : decode cX11_symbol 1 = .ok (.aload_n 0, 1) := dk_42 (dk_at dksX11_symbol_0 1 rfl rfl)
theorem dX11_symbol_2 : decode cX11_symbol 2 = .ok (.getfield 23, 3) := dk_180 0 23 (dk_at dksX11_symbol_0 2 rfl rfl)
theorem dX11_symbol_5 : decode cX11_symbol 5 = .ok (.ineg, 1) := dk_116 (dk_at dksX11_symbol_0 5 rfl rfl)
theorem dX11_symbol_6 : decode cX11_symbol 6 = .ok (.if_icmp .lt 11, 3) := dk_161 0 11 (dk_at dksX11_symbol_0 6 rfl rfl)
theorem dX11_symbol_9 : decode cX11_symbol 9 = .ok (.iload_n 1, 1) := dk_27 (dk_at dksX11_symbol_0 9 rfl rfl)
theorem dX11_symbol_10 : decode cX11_symbol 10 = .ok (.aload_n 0, 1) := dk_42 (dk_at dksX11_symbol_0 10 rfl rfl)
theorem dX11_symbol_11 : decode cX11_symbol 11 = .ok (.getfield 23, 3) := dk_180 0 23 (dk_at dksX11_symbol_0 11 rfl rfl)
theorem dX11_symbol_14 : decode cX11_symbol 14 = .ok (.if_icmp .le 7, 3) := dk_164 0 7 (dk_at dksX11_symbol_0 14 rfl rfl)
theorem dX11_symbol_17 : decode cX11_symbol 17 = .ok (.iconst 0, 1) := dk_3 (dk_at dksX11_symbol_0 17 rfl rfl)
theorem dX11_symbol_18 : decode cX11_symbol 18 = .ok (.goto 14, 3) := dk_167 0 14 (dk_at dksX11_symbol_0 18 rfl rfl)
theorem dX11_symbol_21 : decode cX11_symbol 21 = .ok (.aload_n 0, 1) := dk_42 (dk_at dksX11_symbol_0 21 rfl rfl)
theorem dX11_symbol_22 : decode cX11_symbol 22 = .ok (.getfield 28, 3) := dk_180 0 28 (dk_at dksX11_symbol_1 0 rfl rfl)
theorem dX11_symbol_25 : decode cX11_symbol 25 = .ok (.aload_n 0, 1) := dk_42 (dk_at dksX11_symbol_1 3 rfl rfl)
theorem dX11_symbol_26 : decode cX11_symbol 26 = .ok (.getfield 23, 3) := dk_180 0 23 (dk_at dksX11_symbol_1 4 rfl rfl)
theorem dX11_symbol_29 : decode cX11_symbol 29 = .ok (.iload_n 1, 1) := dk_27 (dk_at dksX11_symbol_1 7 rfl rfl)
theorem dX11_symbol_30 : decode cX11_symbol 30 = .ok (.iadd, 1) := dk_96 (dk_at dksX11_symbol_1 8 rfl rfl)
theorem dX11_symbol_31 : decode cX11_symbol 31 = .ok (.iaload, 1) := dk_46 (dk_at dksX11_symbol_1 9 rfl rfl)
theorem dX11_symbol_32 : decode cX11_symbol 32 = .ok (.ireturn, 1) := dk_172 (dk_at dksX11_symbol_1 10 rfl rfl)
theorem q56 : (Jvm.Cond.initialized "Haltingale$Look") ∈ lw_all := lw_g (lw_at lw_m1 32 rfl) rfl
theorem q324 : (Jvm.Cond.fieldLinkNest "Haltingale$Look" (20 : Nat) "Haltingale$Walker" "reach" "I" "Haltingale") ∈ lw_tbl := lw_at lw_m2 60 rfl
theorem q326 : (Jvm.Cond.fieldLinkNest "Haltingale$Look" (24 : Nat) "Haltingale$Walker" "tape" "[I" "Haltingale") ∈ lw_tbl := lw_at lw_m2 62 rfl
theorem q327 : (Jvm.Cond.fieldLinkNest "Haltingale$Look" (7 : Nat) "Haltingale$Walker" "state" "I" "Haltingale") ∈ lw_tbl := lw_at lw_m2 63 rfl
theorem q330 : (Jvm.Cond.fieldLinkNest "Haltingale$Look" (16 : Nat) "Haltingale$Walker" "place" "I" "Haltingale") ∈ lw_tbl := lw_at lw_m2 66 rfl
theorem q463 : (Jvm.Cond.instantiable "Haltingale$Look" (4 : Nat)) ∈ lw_all := lw_g (lw_at lw_m2 199 rfl) rfl
theorem q465 : (Jvm.Cond.instanceMethod ({ cls := "Haltingale$Look", name := "<init>", desc := "(LHaltingale$Walker;)V" } : Jvm.MethodName)) ∈ lw_all := lw_g (lw_at lw_m2 201 rfl) rfl
theorem q466 : (Jvm.Cond.code ({ cls := "Haltingale$Look", name := "<init>", desc := "(LHaltingale$Walker;)V" } : Jvm.MethodName) prog_9_method_1_code (2 : Nat) (Option.none : Option Jvm.ClassFile.FieldType)) ∈ lw_all := lw_g (lw_at lw_m2 202 rfl) rfl
theorem q467 : (Jvm.Cond.methodLink "Haltingale$Look" (1 : Nat) ({ cls := "java/lang/Object", name := "<init>", desc := "()V" } : Jvm.MethodName)) ∈ lw_all := lw_g (lw_at lw_m2 203 rfl) rfl
theorem q468 : (Jvm.Cond.methodLink "Haltingale$Look" (29 : Nat) ({ cls := "java/lang/System", name := "arraycopy", desc := "(Ljava/lang/Object;ILjava/lang/Object;II)V" } : Jvm.MethodName)) ∈ lw_all := lw_g (lw_at lw_m2 204 rfl) rfl
theorem q471 : (Jvm.Cond.fieldLink "Haltingale$Look" (13 : Nat) "Haltingale$Look" "state" "I") ∈ lw_all := lw_g (lw_at lw_m2 207 rfl) rfl
theorem q472 : (Jvm.Cond.fieldLink "Haltingale$Look" (19 : Nat) "Haltingale$Look" "place" "I") ∈ lw_all := lw_g (lw_at lw_m2 208 rfl) rfl
theorem q474 : (Jvm.Cond.fieldLink "Haltingale$Look" (23 : Nat) "Haltingale$Look" "reach" "I") ∈ lw_all := lw_g (lw_at lw_m2 210 rfl) rfl
theorem q475 : (Jvm.Cond.fieldLink "Haltingale$Look" (28 : Nat) "Haltingale$Look" "tape" "[I") ∈ lw_all := lw_g (lw_at lw_m2 211 rfl) rfl
theorem q476 : (Jvm.Cond.laysFinal "Haltingale$Look" "Haltingale$Look" "state" "I") ∈ lw_all := lw_g (lw_at lw_m2 212 rfl) rfl
theorem q477 : (Jvm.Cond.soleField "Haltingale$Look" "state") ∈ lw_all := lw_g (lw_at lw_m2 213 rfl) rfl
theorem q478 : (Jvm.Cond.laysFinal "Haltingale$Look" "Haltingale$Look" "place" "I") ∈ lw_all := lw_g (lw_at lw_m2 214 rfl) rfl
theorem q479 : (Jvm.Cond.soleField "Haltingale$Look" "place") ∈ lw_all := lw_g (lw_at lw_m2 215 rfl) rfl
theorem q480 : (Jvm.Cond.laysFinal "Haltingale$Look" "Haltingale$Look" "reach" "I") ∈ lw_all := lw_g (lw_at lw_m2 216 rfl) rfl
theorem q481 : (Jvm.Cond.soleField "Haltingale$Look" "reach") ∈ lw_all := lw_g (lw_at lw_m2 217 rfl) rfl
theorem q482 : (Jvm.Cond.laysFinal "Haltingale$Look" "Haltingale$Look" "tape" "[I") ∈ lw_all := lw_g (lw_at lw_m2 218 rfl) rfl
theorem q483 : (Jvm.Cond.soleField "Haltingale$Look" "tape") ∈ lw_all := lw_g (lw_at lw_m2 219 rfl) rfl
theorem q484 : (Jvm.Cond.superclass "Haltingale$Look" "java/lang/Object") ∈ lw_all := lw_g (lw_at lw_m2 220 rfl) rfl
theorem q526 : (Jvm.Cond.selects "Haltingale$Look" ({ cls := "java/lang/Object", name := "getClass", desc := "()Ljava/lang/Class;" } : Jvm.MethodName) ({ cls := "java/lang/Object", name := "getClass", desc := "()Ljava/lang/Class;" } : Jvm.MethodName)) ∈ lw_all := lw_g (lw_at lw_m3 22 rfl) rfl
theorem q564 : (Jvm.Cond.instanceMethod ({ cls := "Haltingale$Look", name := "comesAgain", desc := "(LHaltingale$Look;II)Z" } : Jvm.MethodName)) ∈ lw_all := lw_g (lw_at lw_m3 60 rfl) rfl
theorem q565 : (Jvm.Cond.selects "Haltingale$Look" ({ cls := "Haltingale$Look", name := "comesAgain", desc := "(LHaltingale$Look;II)Z" } : Jvm.MethodName) ({ cls := "Haltingale$Look", name := "comesAgain", desc := "(LHaltingale$Look;II)Z" } : Jvm.MethodName)) ∈ lw_all := lw_g (lw_at lw_m3 61 rfl) rfl
theorem q566 : (Jvm.Cond.code ({ cls := "Haltingale$Look", name := "comesAgain", desc := "(LHaltingale$Look;II)Z" } : Jvm.MethodName) prog_9_method_3_code (8 : Nat) (Option.some Jvm.ClassFile.FieldType.boolean)) ∈ lw_all := lw_g (lw_at lw_m3 62 rfl) rfl
theorem q567 : (Jvm.Cond.methodLink "Haltingale$Look" (35 : Nat) ({ cls := "Haltingale$Look", name := "symbol", desc := "(I)I" } : Jvm.MethodName)) ∈ lw_all := lw_g (lw_at lw_m3 63 rfl) rfl
theorem q568 : (Jvm.Cond.instanceMethod ({ cls := "Haltingale$Look", name := "symbol", desc := "(I)I" } : Jvm.MethodName)) ∈ lw_all := lw_g (lw_at lw_m3 64 rfl) rfl
theorem q569 : (Jvm.Cond.selects "Haltingale$Look" ({ cls := "Haltingale$Look", name := "symbol", desc := "(I)I" } : Jvm.MethodName) ({ cls := "Haltingale$Look", name := "symbol", desc := "(I)I" } : Jvm.MethodName)) ∈ lw_all := lw_g (lw_at lw_m3 65 rfl) rfl
theorem q570 : (Jvm.Cond.code ({ cls := "Haltingale$Look", name := "symbol", desc := "(I)I" } : Jvm.MethodName) prog_9_method_2_code (2 : Nat) (Option.some Jvm.ClassFile.FieldType.int)) ∈ lw_all := lw_g (lw_at lw_m3 66 rfl) rfl
theorem q865 : (Jvm.Cond.selects "Haltingale$Look" ({ cls := "java/lang/Object", name := "notify", desc := "()V" } : Jvm.MethodName) ({ cls := "java/lang/Object", name := "notify", desc := "()V" } : Jvm.MethodName)) ∈ lw_all := lw_g (lw_at lw_m4 121 rfl) rfl
theorem q1047 : (Jvm.Cond.selects "Haltingale$Look" ({ cls := "java/lang/Object", name := "notifyAll", desc := "()V" } : Jvm.MethodName) ({ cls := "java/lang/Object", name := "notifyAll", desc := "()V" } : Jvm.MethodName)) ∈ lw_all := lw_g (lw_at lw_m5 63 rfl) rfl
theorem q1678 : (Jvm.Cond.castable "Haltingale$Look" "java/lang/Object") ∈ lw_tbl := lw_at lw_m7 214 rfl
theorem in_X11 : ∀ w ∈ wsX110, w ∈ lw_all := lw_in wsX110 [476, 478, 480, 482] (by decide +kernel) (by decide +kernel)
/-! Haltingale$Row -/
set_option maxRecDepth 100000
def RX12 : String := "Haltingale$Row"
def TX12 : u_T := fun k => match k with
  | 0 => ("Haltingale$Row", "state", "I", true)
  | 1 => ("Haltingale$Row", "place", "I", true)
  | _ => ("Haltingale$Row", "known", "[I", true)
def tyX12 : Nat → FieldType := fun k => match k with
  | 0 => .int
  | 1 => .int
  | _ => .array .int
abbrev wsX120 : List Cond := u_ws RX12 TX12 3
theorem nmX12 : ∀ a, a < 3 → ∀ b, b < 3 → a ≠ b → (TX12 a).2.1 ≠ (TX12 b).2.1 := by decide +kernel
theorem tyX12_ok : ∀ k, k < 3 → parseFieldDescriptor (TX12 k).2.2.1 = some (tyX12 k) := by decide +kernel
abbrev cX12_init : ByteArray := prog_11_method_1_code
def yX12_init : MethodName := ⟨RX12, "<init>", "(II)V"⟩
def dkwX12_init_1 : List UInt8 := [29, 42, 180, 0, 9, 190, 162, 0, 16, 42, 180, 0, 9, 29, 2, 79, 132, 3, 1, 167, 255, 237, 177]
abbrev dktX12_init_1 : List UInt8 := dkwX12_init_1 ++ []
def dkwX12_init_0 : List UInt8 := [42, 183, 0, 3, 42, 16, 15, 188, 10, 181, 0, 9, 42, 27, 181, 0, 15, 42, 28, 181, 0, 19, 3, 62]
abbrev dktX12_init_0 : List UInt8 := dkwX12_init_0 ++ dktX12_init_1
theorem dksX12_init_0 : cX12_init.data.toList.drop 0 = dktX12_init_0 := by decide +kernel
theorem dksX12_init_1 : cX12_init.data.toList.drop 24 = dktX12_init_1 := dk_seg dksX12_init_0 24 rfl rfl
theorem dX12_init_0 : decode cX12_init 0 = .ok (.aload_n 0, 1) := dk_42 (dk_at dksX12_init_0 0 rfl rfl)
theorem dX12_init_1 : decode cX12_init 1 = .ok (.invokespecial 3, 3) := dk_183 0 3 (dk_at dksX12_init_0 1 rfl rfl)
theorem dX12_init_4 : decode cX12_init 4 = .ok (.aload_n 0, 1) := dk_42 (dk_at dksX12_init_0 4 rfl rfl)
theorem dX12_init_5 : decode cX12_init 5 = .ok (.bipush 15, 2) := dk_16 15 (dk_at dksX12_init_0 5 rfl rfl)
theorem dX12_init_7 : decode cX12_init 7 = .ok (.newarray .int, 2) := dk_188_10 (dk_at dksX12_init_0 7 rfl rfl)
theorem dX12_init_9 : decode cX12_init 9 = .ok (.putfield 9, 3) := dk_181 0 9 (dk_at dksX12_init_0 9 rfl rfl)
theorem dX12_init_12 : decode cX12_init 12 = .ok (.aload_n 0, 1) := dk_42 (dk_at dksX12_init_0 12 rfl rfl)
theorem dX12_init_13 : decode cX12_init 13 = .ok (.iload_n 1, 1) := dk_27 (dk_at dksX12_init_0 13 rfl rfl)
theorem dX12_init_14 : decode cX12_init 14 = .ok (.putfield 15, 3) := dk_181 0 15 (dk_at dksX12_init_0 14 rfl rfl)
theorem dX12_init_17 : decode cX12_init 17 = .ok (.aload_n 0, 1) := dk_42 (dk_at dksX12_init_0 17 rfl rfl)
theorem dX12_init_18 : decode cX12_init 18 = .ok (.iload_n 2, 1) := dk_28 (dk_at dksX12_init_0 18 rfl rfl)
theorem dX12_init_19 : decode cX12_init 19 = .ok (.putfield 19, 3) := dk_181 0 19 (dk_at dksX12_init_0 19 rfl rfl)
theorem dX12_init_22 : decode cX12_init 22 = .ok (.iconst 0, 1) := dk_3 (dk_at dksX12_init_0 22 rfl rfl)
theorem dX12_init_23 : decode cX12_init 23 = .ok (.istore_n 3, 1) := dk_62 (dk_at dksX12_init_0 23 rfl rfl)
theorem dX12_init_24 : decode cX12_init 24 = .ok (.iload_n 3, 1) := dk_29 (dk_at dksX12_init_1 0 rfl rfl)
theorem dX12_init_25 : decode cX12_init 25 = .ok (.aload_n 0, 1) := dk_42 (dk_at dksX12_init_1 1 rfl rfl)
theorem dX12_init_26 : decode cX12_init 26 = .ok (.getfield 9, 3) := dk_180 0 9 (dk_at dksX12_init_1 2 rfl rfl)
theorem dX12_init_29 : decode cX12_init 29 = .ok (.arraylength, 1) := dk_190 (dk_at dksX12_init_1 5 rfl rfl)
theorem dX12_init_30 : decode cX12_init 30 = .ok (.if_icmp .ge 16, 3) := dk_162 0 16 (dk_at dksX12_init_1 6 rfl rfl)
theorem dX12_init_33 : decode cX12_init 33 = .ok (.aload_n 0, 1) := dk_42 (dk_at dksX12_init_1 9 rfl rfl)
theorem dX12_init_34 : decode cX12_init 34 = .ok (.getfield 9, 3) := dk_180 0 9 (dk_at dksX12_init_1 10 rfl rfl)
theorem dX12_init_37 : decode cX12_init 37 = .ok (.iload_n 3, 1) := dk_29 (dk_at dksX12_init_1 13 rfl rfl)
theorem dX12_init_38 : decode cX12_init 38 = .ok (.iconst (-1), 1) := dk_2 (dk_at dksX12_init_1 14 rfl rfl)
theorem dX12_init_39 : decode cX12_init 39 = .ok (.iastore, 1) := dk_79 (dk_at dksX12_init_1 15 rfl rfl)
theorem dX12_init_40 : decode cX12_init 40 = .ok (.iinc 3 1, 3) := dk_132 3 1 (dk_at dksX12_init_1 16 rfl rfl)
theorem dX12_init_43 : decode cX12_init 43 = .ok (.goto (-19), 3) := dk_167 255 237 (dk_at dksX12_init_1 19 rfl rfl)
theorem dX12_init_46 : decode cX12_init 46 = .ok (.return_, 1) := dk_177 (dk_at dksX12_init_1 22 rfl rfl)
abbrev cX12_at : ByteArray := prog_11_method_2_code
def yX12_at : MethodName := ⟨RX12, "at", "(I)I"⟩
def dkwX12_at_0 : List UInt8 := [26, 16, 6, 96, 4, 96, 172]
abbrev dktX12_at_0 : List UInt8 := dkwX12_at_0 ++ []
theorem dksX12_at_0 : cX12_at.data.toList.drop 0 = dktX12_at_0 := by decide +kernel
theorem dX12_at_0 : decode cX12_at 0 = .ok (.iload_n 0, 1) := dk_26 (dk_at dksX12_at_0 0 rfl rfl)
theorem dX12_at_1 : decode cX12_at 1 = .ok (.bipush 6, 2) := dk_16 6 (dk_at dksX12_at_0 1 rfl rfl)
theorem dX12_at_3 : decode cX12_at 3 = .ok (.iadd, 1) := dk_96 (dk_at dksX12_at_0 3 rfl rfl)
theorem dX12_at_4 : decode cX12_at 4 = .ok (.iconst 1, 1) := dk_4 (dk_at dksX12_at_0 4 rfl rfl)
theorem dX12_at_5 : decode cX12_at 5 = .ok (.iadd, 1) := dk_96 (dk_at dksX12_at_0 5 rfl rfl)
theorem dX12_at_6 : decode cX12_at 6 = .ok (.ireturn, 1) := dk_172 (dk_at dksX12_at_0 6 rfl rfl)
abbrev cX12_ahead : ByteArray := prog_11_method_3_code
def yX12_ahead : MethodName := ⟨RX12, "ahead", "(IILHaltingale$Rule;)Ljava/util/Optional;"⟩
def dkwX12_ahead_4 : List UInt8 := [28, 79, 25, 6, 184, 0, 52, 176]
abbrev dktX12_ahead_4 : List UInt8 := dkwX12_ahead_4 ++ []
def dkwX12_ahead_3 : List UInt8 := [25, 6, 180, 0, 9, 3, 42, 180, 0, 9, 190, 184, 0, 46, 25, 6, 180, 0, 9, 21, 4, 184, 0, 27]
abbrev dktX12_ahead_3 : List UInt8 := dkwX12_ahead_3 ++ dktX12_ahead_4
def dkwX12_ahead_2 : List UInt8 := [159, 0, 7, 184, 0, 37, 176, 187, 0, 10, 89, 27, 21, 4, 183, 0, 43, 58, 6, 42, 180, 0, 9, 3]
abbrev dktX12_ahead_2 : List UInt8 := dkwX12_ahead_2 ++ dktX12_ahead_3
def dkwX12_ahead_1 : List UInt8 := [180, 0, 31, 42, 180, 0, 15, 160, 0, 18, 21, 5, 2, 159, 0, 16, 21, 5, 45, 180, 0, 34]
abbrev dktX12_ahead_1 : List UInt8 := dkwX12_ahead_1 ++ dktX12_ahead_2
def dkwX12_ahead_0 : List UInt8 := [42, 180, 0, 19, 45, 180, 0, 22, 100, 54, 4, 42, 180, 0, 9, 21, 4, 184, 0, 27, 46, 54, 5, 45]
abbrev dktX12_ahead_0 : List UInt8 := dkwX12_ahead_0 ++ dktX12_ahead_1
theorem dksX12_ahead_0 : cX12_ahead.data.toList.drop 0 = dktX12_ahead_0 := by decide +kernel
theorem dksX12_ahead_1 : cX12_ahead.data.toList.drop 24 = dktX12_ahead_1 := dk_seg dksX12_ahead_0 24 rfl rfl
theorem dksX12_ahead_2 : cX12_ahead.data.toList.drop 46 = dktX12_ahead_2 := dk_seg dksX12_ahead_1 22 rfl rfl
theorem dksX12_ahead_3 : cX12_ahead.data.toList.drop 70 = dktX12_ahead_3 := dk_seg dksX12_ahead_2 24 rfl rfl
theorem dksX12_ahead_4 : cX12_ahead.data.toList.drop 94 = dktX12_ahead_4 := dk_seg dksX12_ahead_3 24 rfl rfl
theorem dX12_ahead_0 : decode cX12_ahead 0 = .ok (.aload_n 0, 1) := dk_42 (dk_at dksX12_ahead_0 0 rfl rfl)
theorem dX12_ahead_1 : decode cX12_ahead 1 = .ok (.getfield 19, 3) := dk_180 0 19 (dk_at dksX12_ahead_0 1 rfl rfl)
theorem dX12_ahead_4 : decode cX12_ahead 4 = .ok (.aload_n 3, 1) := dk_45 (dk_at dksX12_ahead_0 4 rfl rfl)
theorem dX12_ahead_5 : decode cX12_ahead 5 = .ok (.getfield 22, 3) := dk_180 0 22 (dk_at dksX12_ahead_0 5 rfl rfl)
theorem dX12_ahead_8 : decode cX12_ahead 8 = .ok (.isub, 1) := dk_100 (dk_at dksX12_ahead_0 8 rfl rfl)
theorem dX12_ahead_9 : decode cX12_ahead 9 = .ok (.istore 4, 2) := dk_54 4 (dk_at dksX12_ahead_0 9 rfl rfl)
theorem dX12_ahead_11 : decode cX12_ahead 11 = .ok (.aload_n 0, 1) := dk_42 (dk_at dksX12_ahead_0 11 rfl rfl)
theorem dX12_ahead_12 : decode cX12_ahead 12 = .ok (.getfield 9, 3) := dk_180 0 9 (dk_at dksX12_ahead_0 12 rfl rfl)
theorem dX12_ahead_15 : decode cX12_ahead 15 = .ok (.iload 4, 2) := dk_21 4 (dk_at dksX12_ahead_0 15 rfl rfl)
theorem dX12_ahead_17 : decode cX12_ahead 17 = .ok (.invokestatic 27, 3) := dk_184 0 27 (dk_at dksX12_ahead_0 17 rfl rfl)
theorem dX12_ahead_20 : decode cX12_ahead 20 = .ok (.iaload, 1) := dk_46 (dk_at dksX12_ahead_0 20 rfl rfl)
theorem dX12_ahead_21 : decode cX12_ahead 21 = .ok (.istore 5, 2) := dk_54 5 (dk_at dksX12_ahead_0 21 rfl rfl)
theorem dX12_ahead_23 : decode cX12_ahead 23 = .ok (.aload_n 3, 1) := dk_45 (dk_at dksX12_ahead_0 23 rfl rfl)
theorem dX12_ahead_24 : decode cX12_ahead 24 = .ok (.getfield 31, 3) := dk_180 0 31 (dk_at dksX12_ahead_1 0 rfl rfl)
theorem dX12_ahead_27 : decode cX12_ahead 27 = .ok (.aload_n 0, 1) := dk_42 (dk_at dksX12_ahead_1 3 rfl rfl)
theorem dX12_ahead_28 : decode cX12_ahead 28 = .ok (.getfield 15, 3) := dk_180 0 15 (dk_at dksX12_ahead_1 4 rfl rfl)
theorem dX12_ahead_31 : decode cX12_ahead 31 = .ok (.if_icmp .ne 18, 3) := dk_160 0 18 (dk_at dksX12_ahead_1 7 rfl rfl)
theorem dX12_ahead_34 : decode cX12_ahead 34 = .ok (.iload 5, 2) := dk_21 5 (dk_at dksX12_ahead_1 10 rfl rfl)
theorem dX12_ahead_36 : decode cX12_ahead 36 = .ok (.iconst (-1), 1) := dk_2 (dk_at dksX12_ahead_1 12 rfl rfl)
theorem dX12_ahead_37 : decode cX12_ahead 37 = .ok (.if_icmp .eq 16, 3) := dk_159 0 16 (dk_at dksX12_ahead_1 13 rfl rfl)
theorem dX12_ahead_40 : decode cX12_ahead 40 = .ok (.iload 5, 2) := dk_21 5 (dk_at dksX12_ahead_1 16 rfl rfl)
theorem dX12_ahead_42 : decode cX12_ahead 42 = .ok (.aload_n 3, 1) := dk_45 (dk_at dksX12_ahead_1 18 rfl rfl)
theorem dX12_ahead_43 : decode cX12_ahead 43 = .ok (.getfield 34, 3) := dk_180 0 34 (dk_at dksX12_ahead_1 19 rfl rfl)
theorem dX12_ahead_46 : decode cX12_ahead 46 = .ok (.if_icmp .eq 7, 3) := dk_159 0 7 (dk_at dksX12_ahead_2 0 rfl rfl)
theorem dX12_ahead_49 : decode cX12_ahead 49 = .ok (.invokestatic 37, 3) := dk_184 0 37 (dk_at dksX12_ahead_2 3 rfl rfl)
theorem dX12_ahead_52 : decode cX12_ahead 52 = .ok (.areturn, 1) := dk_176 (dk_at dksX12_ahead_2 6 rfl rfl)
theorem dX12_ahead_53 : decode cX12_ahead 53 = .ok (.new 10, 3) := dk_187 0 10 (dk_at dksX12_ahead_2 7 rfl rfl)
theorem dX12_ahead_56 : decode cX12_ahead 56 = .ok (.dup, 1) := dk_89 (dk_at dksX12_ahead_2 10 rfl rfl)
theorem dX12_ahead_57 : decode cX12_ahead 57 = .ok (.iload_n 1, 1) := dk_27 (dk_at dksX12_ahead_2 11 rfl rfl)
theorem dX12_ahead_58 : decode cX12_ahead 58 = .ok (.iload 4, 2) := dk_21 4 (dk_at dksX12_ahead_2 12 rfl rfl)
theorem dX12_ahead_60 : decode cX12_ahead 60 = .ok (.invokespecial 43, 3) := dk_183 0 43 (dk_at dksX12_ahead_2 14 rfl rfl)
theorem dX12_ahead_63 : decode cX12_ahead 63 = .ok (.astore 6, 2) := dk_58 6 (dk_at dksX12_ahead_2 17 rfl rfl)
theorem dX12_ahead_65 : decode cX12_ahead 65 = .ok (.aload_n 0, 1) := dk_42 (dk_at dksX12_ahead_2 19 rfl rfl)
theorem dX12_ahead_66 : decode cX12_ahead 66 = .ok (.getfield 9, 3) := dk_180 0 9 (dk_at dksX12_ahead_2 20 rfl rfl)
theorem dX12_ahead_69 : decode cX12_ahead 69 = .ok (.iconst 0, 1) := dk_3 (dk_at dksX12_ahead_2 23 rfl rfl)
theorem dX12_ahead_70 : decode cX12_ahead 70 = .ok (.aload 6, 2) := dk_25 6 (dk_at dksX12_ahead_3 0 rfl rfl)
theorem dX12_ahead_72 : decode cX12_ahead 72 = .ok (.getfield 9, 3) := dk_180 0 9 (dk_at dksX12_ahead_3 2 rfl rfl)
theorem dX12_ahead_75 : decode cX12_ahead 75 = .ok (.iconst 0, 1) := dk_3 (dk_at dksX12_ahead_3 5 rfl rfl)
theorem dX12_ahead_76 : decode cX12_ahead 76 = .ok (.aload_n 0, 1) := dk_42 (dk_at dksX12_ahead_3 6 rfl rfl)
theorem dX12_ahead_77 : decode cX12_ahead 77 = .ok (.getfield 9, 3) := dk_180 0 9 (dk_at dksX12_ahead_3 7 rfl rfl)
theorem dX12_ahead_80 : decode cX12_ahead 80 = .ok (.arraylength, 1) := dk_190 (dk_at dksX12_ahead_3 10 rfl rfl)
theorem dX12_ahead_81 : decode cX12_ahead 81 = .ok (.invokestatic 46, 3) := dk_184 0 46 (dk_at dksX12_ahead_3 11 rfl rfl)
theorem dX12_ahead_84 : decode cX12_ahead 84 = .ok (.aload 6, 2) := dk_25 6 (dk_at dksX12_ahead_3 14 rfl rfl)
theorem dX12_ahead_86 : decode cX12_ahead 86 = .ok (.getfield 9, 3) := dk_180 0 9 (dk_at dksX12_ahead_3 16 rfl rfl)
theorem dX12_ahead_89 : decode cX12_ahead 89 = .ok (.iload 4, 2) := dk_21 4 (dk_at dksX12_ahead_3 19 rfl rfl)
theorem dX12_ahead_91 : decode cX12_ahead 91 = .ok (.invokestatic 27, 3) := dk_184 0 27 (dk_at dksX12_ahead_3 21 rfl rfl)
theorem dX12_ahead_94 : decode cX12_ahead 94 = .ok (.iload_n 2, 1) := dk_28 (dk_at dksX12_ahead_4 0 rfl rfl)
theorem dX12_ahead_95 : decode cX12_ahead 95 = .ok (.iastore, 1) := dk_79 (dk_at dksX12_ahead_4 1 rfl rfl)
theorem dX12_ahead_96 : decode cX12_ahead 96 = .ok (.aload 6, 2) := dk_25 6 (dk_at dksX12_ahead_4 2 rfl rfl)
theorem dX12_ahead_98 : decode cX12_ahead 98 = .ok (.invokestatic 52, 3) := dk_184 0 52 (dk_at dksX12_ahead_4 4 rfl rfl)
theorem dX12_ahead_101 : decode cX12_ahead 101 = .ok (.areturn, 1) := dk_176 (dk_at dksX12_ahead_4 7 rfl rfl)
theorem q57 : (Jvm.Cond.initialized "Haltingale$Row") ∈ lw_all := lw_g (lw_at lw_m1 33 rfl) rfl
theorem q528 : (Jvm.Cond.selects "Haltingale$Row" ({ cls := "java/lang/Object", name := "getClass", desc := "()Ljava/lang/Class;" } : Jvm.MethodName) ({ cls := "java/lang/Object", name := "getClass", desc := "()Ljava/lang/Class;" } : Jvm.MethodName)) ∈ lw_all := lw_g (lw_at lw_m3 24 rfl) rfl
theorem q586 : (Jvm.Cond.instantiable "Haltingale$Row" (3 : Nat)) ∈ lw_all := lw_g (lw_at lw_m3 82 rfl) rfl
theorem q588 : (Jvm.Cond.instanceMethod ({ cls := "Haltingale$Row", name := "<init>", desc := "(II)V" } : Jvm.MethodName)) ∈ lw_all := lw_g (lw_at lw_m3 84 rfl) rfl
theorem q589 : (Jvm.Cond.code ({ cls := "Haltingale$Row", name := "<init>", desc := "(II)V" } : Jvm.MethodName) prog_11_method_1_code (4 : Nat) (Option.none : Option Jvm.ClassFile.FieldType)) ∈ lw_all := lw_g (lw_at lw_m3 85 rfl) rfl
theorem q590 : (Jvm.Cond.methodLink "Haltingale$Row" (3 : Nat) ({ cls := "java/lang/Object", name := "<init>", desc := "()V" } : Jvm.MethodName)) ∈ lw_all := lw_g (lw_at lw_m3 86 rfl) rfl
theorem q591 : (Jvm.Cond.fieldLink "Haltingale$Row" (15 : Nat) "Haltingale$Row" "state" "I") ∈ lw_all := lw_g (lw_at lw_m3 87 rfl) rfl
theorem q592 : (Jvm.Cond.fieldLink "Haltingale$Row" (19 : Nat) "Haltingale$Row" "place" "I") ∈ lw_all := lw_g (lw_at lw_m3 88 rfl) rfl
theorem q593 : (Jvm.Cond.fieldLink "Haltingale$Row" (9 : Nat) "Haltingale$Row" "known" "[I") ∈ lw_all := lw_g (lw_at lw_m3 89 rfl) rfl
theorem q595 : (Jvm.Cond.laysFinal "Haltingale$Row" "Haltingale$Row" "state" "I") ∈ lw_all := lw_g (lw_at lw_m3 91 rfl) rfl
theorem q596 : (Jvm.Cond.soleField "Haltingale$Row" "state") ∈ lw_all := lw_g (lw_at lw_m3 92 rfl) rfl
theorem q597 : (Jvm.Cond.laysFinal "Haltingale$Row" "Haltingale$Row" "place" "I") ∈ lw_all := lw_g (lw_at lw_m3 93 rfl) rfl
theorem q598 : (Jvm.Cond.soleField "Haltingale$Row" "place") ∈ lw_all := lw_g (lw_at lw_m3 94 rfl) rfl
theorem q599 : (Jvm.Cond.laysFinal "Haltingale$Row" "Haltingale$Row" "known" "[I") ∈ lw_all := lw_g (lw_at lw_m3 95 rfl) rfl
theorem q600 : (Jvm.Cond.soleField "Haltingale$Row" "known") ∈ lw_all := lw_g (lw_at lw_m3 96 rfl) rfl
theorem q601 : (Jvm.Cond.superclass "Haltingale$Row" "java/lang/Object") ∈ lw_all := lw_g (lw_at lw_m3 97 rfl) rfl
theorem q603 : (Jvm.Cond.static ({ cls := "Haltingale$Row", name := "at", desc := "(I)I" } : Jvm.MethodName)) ∈ lw_all := lw_g (lw_at lw_m3 99 rfl) rfl
theorem q604 : (Jvm.Cond.code ({ cls := "Haltingale$Row", name := "at", desc := "(I)I" } : Jvm.MethodName) prog_11_method_2_code (1 : Nat) (Option.some Jvm.ClassFile.FieldType.int)) ∈ lw_all := lw_g (lw_at lw_m3 100 rfl) rfl
theorem q609 : (Jvm.Cond.instanceMethod ({ cls := "Haltingale$Row", name := "ahead", desc := "(IILHaltingale$Rule;)Ljava/util/Optional;" } : Jvm.MethodName)) ∈ lw_all := lw_g (lw_at lw_m3 105 rfl) rfl
theorem q610 : (Jvm.Cond.selects "Haltingale$Row" ({ cls := "Haltingale$Row", name := "ahead", desc := "(IILHaltingale$Rule;)Ljava/util/Optional;" } : Jvm.MethodName) ({ cls := "Haltingale$Row", name := "ahead", desc := "(IILHaltingale$Rule;)Ljava/util/Optional;" } : Jvm.MethodName)) ∈ lw_all := lw_g (lw_at lw_m3 106 rfl) rfl
theorem q611 : (Jvm.Cond.code ({ cls := "Haltingale$Row", name := "ahead", desc := "(IILHaltingale$Rule;)Ljava/util/Optional;" } : Jvm.MethodName) prog_11_method_3_code (7 : Nat) (Option.some (Jvm.ClassFile.FieldType.object "java/util/Optional"))) ∈ lw_all := lw_g (lw_at lw_m3 107 rfl) rfl
theorem q612 : (Jvm.Cond.methodLink "Haltingale$Row" (27 : Nat) ({ cls := "Haltingale$Row", name := "at", desc := "(I)I" } : Jvm.MethodName)) ∈ lw_all := lw_g (lw_at lw_m3 108 rfl) rfl
theorem q613 : (Jvm.Cond.methodLink "Haltingale$Row" (37 : Nat) ({ cls := "java/util/Optional", name := "empty", desc := "()Ljava/util/Optional;" } : Jvm.MethodName)) ∈ lw_all := lw_g (lw_at lw_m3 109 rfl) rfl
theorem q618 : (Jvm.Cond.classLink "Haltingale$Row" (10 : Nat) "Haltingale$Row") ∈ lw_all := lw_g (lw_at lw_m3 114 rfl) rfl
theorem q619 : (Jvm.Cond.methodLink "Haltingale$Row" (43 : Nat) ({ cls := "Haltingale$Row", name := "<init>", desc := "(II)V" } : Jvm.MethodName)) ∈ lw_all := lw_g (lw_at lw_m3 115 rfl) rfl
theorem q620 : (Jvm.Cond.methodLink "Haltingale$Row" (46 : Nat) ({ cls := "java/lang/System", name := "arraycopy", desc := "(Ljava/lang/Object;ILjava/lang/Object;II)V" } : Jvm.MethodName)) ∈ lw_all := lw_g (lw_at lw_m3 116 rfl) rfl
theorem q621 : (Jvm.Cond.methodLink "Haltingale$Row" (52 : Nat) ({ cls := "java/util/Optional", name := "of", desc := "(Ljava/lang/Object;)Ljava/util/Optional;" } : Jvm.MethodName)) ∈ lw_all := lw_g (lw_at lw_m3 117 rfl) rfl
theorem q811 : (Jvm.Cond.fieldLinkNest "Haltingale$Row" (34 : Nat) "Haltingale$Rule" "write" "I" "Haltingale") ∈ lw_tbl := lw_at lw_m4 67 rfl
theorem q816 : (Jvm.Cond.fieldLinkNest "Haltingale$Row" (22 : Nat) "Haltingale$Rule" "move" "I" "Haltingale") ∈ lw_tbl := lw_at lw_m4 72 rfl
theorem q821 : (Jvm.Cond.fieldLinkNest "Haltingale$Row" (31 : Nat) "Haltingale$Rule" "next" "I" "Haltingale") ∈ lw_tbl := lw_at lw_m4 77 rfl
theorem q867 : (Jvm.Cond.selects "Haltingale$Row" ({ cls := "java/lang/Object", name := "notify", desc := "()V" } : Jvm.MethodName) ({ cls := "java/lang/Object", name := "notify", desc := "()V" } : Jvm.MethodName)) ∈ lw_all := lw_g (lw_at lw_m4 123 rfl) rfl
theorem q1049 : (Jvm.Cond.selects "Haltingale$Row" ({ cls := "java/lang/Object", name := "notifyAll", desc := "()V" } : Jvm.MethodName) ({ cls := "java/lang/Object", name := "notifyAll", desc := "()V" } : Jvm.MethodName)) ∈ lw_all := lw_g (lw_at lw_m5 65 rfl) rfl
theorem q1679 : (Jvm.Cond.castable "Haltingale$Row" "java/lang/Object") ∈ lw_tbl := lw_at lw_m7 215 rfl
theorem in_X12 : ∀ w ∈ wsX120, w ∈ lw_all := lw_in wsX120 [595, 597, 599] (by decide +kernel) (by decide +kernel)
/-! Haltingale$Windows -/
set_option maxRecDepth 100000
def RX13 : String := "Haltingale$Windows"
def TX13 : u_T := fun k => match k with
  | 0 => ("Haltingale$Windows", "table", "LHaltingale$Table;", true)
  | 1 => ("Haltingale$Windows", "n", "I", true)
  | 2 => ("Haltingale$Windows", "lefts", "[Z", true)
  | 3 => ("Haltingale$Windows", "rights", "[Z", true)
  | 4 => ("Haltingale$Windows", "seen", "[Z", true)
  | _ => ("Haltingale$Windows", "grows", "Z", false)
def tyX13 : Nat → FieldType := fun k => match k with
  | 0 => .object "Haltingale$Table"
  | 1 => .int
  | 2 => .array .boolean
  | 3 => .array .boolean
  | 4 => .array .boolean
  | _ => .boolean
abbrev wsX130 : List Cond := u_ws RX13 TX13 6
theorem nmX13 : ∀ a, a < 6 → ∀ b, b < 6 → a ≠ b → (TX13 a).2.1 ≠ (TX13 b).2.1 := by decide +kernel
theorem tyX13_ok : ∀ k, k < 6 → parseFieldDescriptor (TX13 k).2.2.1 = some (tyX13 k) := by decide +kernel
abbrev cX13_init : ByteArray := prog_17_method_1_code
def yX13_init : MethodName := ⟨RX13, "<init>", "(LHaltingale$Table;I)V"⟩
def dkwX13_init_3 : List UInt8 := [3, 4, 84, 177]
abbrev dktX13_init_3 : List UInt8 := dkwX13_init_3 ++ []
def dkwX13_init_2 : List UInt8 := [120, 188, 4, 181, 0, 33, 42, 180, 0, 21, 3, 4, 84, 42, 180, 0, 25, 3, 4, 84, 42, 180, 0, 33]
abbrev dktX13_init_2 : List UInt8 := dkwX13_init_2 ++ dktX13_init_3
def dkwX13_init_1 : List UInt8 := [188, 4, 181, 0, 21, 42, 4, 28, 120, 188, 4, 181, 0, 25, 42, 43, 180, 0, 28, 5, 28, 104, 4, 96]
abbrev dktX13_init_1 : List UInt8 := dkwX13_init_1 ++ dktX13_init_2
def dkwX13_init_0 : List UInt8 := [42, 183, 0, 1, 42, 4, 181, 0, 7, 42, 43, 181, 0, 13, 42, 28, 181, 0, 17, 42, 4, 28, 120]
abbrev dktX13_init_0 : List UInt8 := dkwX13_init_0 ++ dktX13_init_1
theorem dksX13_init_0 : cX13_init.data.toList.drop 0 = dktX13_init_0 := by decide +kernel
theorem dksX13_init_1 : cX13_init.data.toList.drop 23 = dktX13_init_1 := dk_seg dksX13_init_0 23 rfl rfl
theorem dksX13_init_2 : cX13_init.data.toList.drop 47 = dktX13_init_2 := dk_seg dksX13_init_1 24 rfl rfl
theorem dksX13_init_3 : cX13_init.data.toList.drop 71 = dktX13_init_3 := dk_seg dksX13_init_2 24 rfl rfl
theorem dX13_init_0 : decode cX13_init 0 = .ok (.aload_n 0, 1) := dk_42 (dk_at dksX13_init_0 0 rfl rfl)
theorem dX13_init_1 : decode cX13_init 1 = .ok (.invokespecial 1, 3) := dk_183 0 1 (dk_at dksX13_init_0 1 rfl rfl)
theorem dX13_init_4 : decode cX13_init 4 = .ok (.aload_n 0, 1) := dk_42 (dk_at dksX13_init_0 4 rfl rfl)
theorem dX13_init_5 : decode cX13_init 5 = .ok (.iconst 1, 1) := dk_4 (dk_at dksX13_init_0 5 rfl rfl)
theorem dX13_init_6 : decode cX13_init 6 = .ok (.putfield 7, 3) := dk_181 0 7 (dk_at dksX13_init_0 6 rfl rfl)
theorem dX13_init_9 : decode cX13_init 9 = .ok (.aload_n 0, 1) := dk_42 (dk_at dksX13_init_0 9 rfl rfl)
theorem dX13_init_10 : decode cX13_init 10 = .ok (.aload_n 1, 1) := dk_43 (dk_at dksX13_init_0 10 rfl rfl)
theorem dX13_init_11 : decode cX13_init 11 = .ok (.putfield 13, 3) := dk_181 0 13 (dk_at dksX13_init_0 11 rfl rfl)
theorem dX13_init_14 : decode cX13_init 14 = .ok (.aload_n 0, 1) := dk_42 (dk_at dksX13_init_0 14 rfl rfl)
theorem dX13_init_15 : decode cX13_init 15 = .ok (.iload_n 2, 1) := dk_28 (dk_at dksX13_init_0 15 rfl rfl)
theorem dX13_init_16 : decode cX13_init 16 = .ok (.putfield 17, 3) := dk_181 0 17 (dk_at dksX13_init_0 16 rfl rfl)
theorem dX13_init_19 : decode cX13_init 19 = .ok (.aload_n 0, 1) := dk_42 (dk_at dksX13_init_0 19 rfl rfl)
theorem dX13_init_20 : decode cX13_init 20 = .ok (.iconst 1, 1) := dk_4 (dk_at dksX13_init_0 20 rfl rfl)
theorem dX13_init_21 : decode cX13_init 21 = .ok (.iload_n 2, 1) := dk_28 (dk_at dksX13_init_0 21 rfl rfl)
theorem dX13_init_22 : decode cX13_init 22 = .ok (.ishl, 1) := dk_120 (dk_at dksX13_init_0 22 rfl rfl)
theorem dX13_init_23 : decode cX13_init 23 = .ok (.newarray .boolean, 2) := dk_188_4 (dk_at dksX13_init_1 0 rfl rfl)
theorem dX13_init_25 : decode cX13_init 25 = .ok (.putfield 21, 3) := dk_181 0 21 (dk_at dksX13_init_1 2 rfl rfl)
theorem dX13_init_28 : decode cX13_init 28 = .ok (.aload_n 0, 1) := dk_42 (dk_at dksX13_init_1 5 rfl rfl)
theorem dX13_init_29 : decode cX13_init 29 = .ok (.iconst 1, 1) := dk_4 (dk_at dksX13_init_1 6 rfl rfl)
theorem dX13_init_30 : decode cX13_init 30 = .ok (.iload_n 2, 1) := dk_28 (dk_at dksX13_init_1 7 rfl rfl)
theorem dX13_init_31 : decode cX13_init 31 = .ok (.ishl, 1) := dk_120 (dk_at dksX13_init_1 8 rfl rfl)
theorem dX13_init_32 : decode cX13_init 32 = .ok (.newarray .boolean, 2) := dk_188_4 (dk_at dksX13_init_1 9 rfl rfl)
theorem dX13_init_34 : decode cX13_init 34 = .ok (.putfield 25, 3) := dk_181 0 25 (dk_at dksX13_init_1 11 rfl rfl)
theorem dX13_init_37 : decode cX13_init 37 = .ok (.aload_n 0, 1) := dk_42 (dk_at dksX13_init_1 14 rfl rfl)
theorem dX13_init_38 : decode cX13_init 38 = .ok (.aload_n 1, 1) := dk_43 (dk_at dksX13_init_1 15 rfl rfl)
theorem dX13_init_39 : decode cX13_init 39 = .ok (.getfield 28, 3) := dk_180 0 28 (dk_at dksX13_init_1 16 rfl rfl)
theorem dX13_init_42 : decode cX13_init 42 = .ok (.iconst 2, 1) := dk_5 (dk_at dksX13_init_1 19 rfl rfl)
theorem dX13_init_43 : decode cX13_init 43 = .ok (.iload_n 2, 1) := dk_28 (dk_at dksX13_init_1 20 rfl rfl)
theorem dX13_init_44 : decode cX13_init 44 = .ok (.imul, 1) := dk_104 (dk_at dksX13_init_1 21 rfl rfl)
theorem dX13_init_45 : decode cX13_init 45 = .ok (.iconst 1, 1) := dk_4 (dk_at dksX13_init_1 22 rfl rfl)
theorem dX13_init_46 : decode cX13_init 46 = .ok (.iadd, 1) := dk_96 (dk_at dksX13_init_1 23 rfl rfl)
theorem dX13_init_47 : decode cX13_init 47 = .ok (.ishl, 1) := dk_120 (dk_at dksX13_init_2 0 rfl rfl)
theorem dX13_init_48 : decode cX13_init 48 = .ok (.newarray .boolean, 2) := dk_188_4 (dk_at dksX13_init_2 1 rfl rfl)
theorem dX13_init_50 : decode cX13_init 50 = .ok (.putfield 33, 3) := dk_181 0 33 (dk_at dksX13_init_2 3 rfl rfl)
theorem dX13_init_53 : decode cX13_init 53 = .ok (.aload_n 0, 1) := dk_42 (dk_at dksX13_init_2 6 rfl rfl)
theorem dX13_init_54 : decode cX13_init 54 = .ok (.getfield 21, 3) := dk_180 0 21 (dk_at dksX13_init_2 7 rfl rfl)
theorem dX13_init_57 : decode cX13_init 57 = .ok (.iconst 0, 1) := dk_3 (dk_at dksX13_init_2 10 rfl rfl)
theorem dX13_init_58 : decode cX13_init 58 = .ok (.iconst 1, 1) := dk_4 (dk_at dksX13_init_2 11 rfl rfl)
theorem dX13_init_59 : decode cX13_init 59 = .ok (.bastore, 1) := dk_84 (dk_at dksX13_init_2 12 rfl rfl)
theorem dX13_init_60 : decode cX13_init 60 = .ok (.aload_n 0, 1) := dk_42 (dk_at dksX13_init_2 13 rfl rfl)
theorem dX13_init_61 : decode cX13_init 61 = .ok (.getfield 25, 3) := dk_180 0 25 (dk_at dksX13_init_2 14 rfl rfl)
theorem dX13_init_64 : decode cX13_init 64 = .ok (.iconst 0, 1) := dk_3 (dk_at dksX13_init_2 17 rfl rfl)
theorem dX13_init_65 : decode cX13_init 65 = .ok (.iconst 1, 1) := dk_4 (dk_at dksX13_init_2 18 rfl rfl)
theorem dX13_init_66 : decode cX13_init 66 = .ok (.bastore, 1) := dk_84 (dk_at dksX13_init_2 19 rfl rfl)
theorem dX13_init_67 : decode cX13_init 67 = .ok (.aload_n 0, 1) := dk_42 (dk_at dksX13_init_2 20 rfl rfl)
theorem dX13_init_68 : decode cX13_init 68 = .ok (.getfield 33, 3) := dk_180 0 33 (dk_at dksX13_init_2 21 rfl rfl)
theorem dX13_init_71 : decode cX13_init 71 = .ok (.iconst 0, 1) := dk_3 (dk_at dksX13_init_3 0 rfl rfl)
theorem dX13_init_72 : decode cX13_init 72 = .ok (.iconst 1, 1) := dk_4 (dk_at dksX13_init_3 1 rfl rfl)
theorem dX13_init_73 : decode cX13_init 73 = .ok (.bastore, 1) := dk_84 (dk_at dksX13_init_3 2 rfl rfl)
theorem dX13_init_74 : decode cX13_init 74 = .ok (.return_, 1) := dk_177 (dk_at dksX13_init_3 3 rfl rfl)
abbrev cX13_close : ByteArray := prog_17_method_5_code
def yX13_close : MethodName := ⟨RX13, "close", "()Z"⟩
def dkwX13_close_2 : List UInt8 := [167, 255, 208, 4, 172]
abbrev dktX13_close_2 : List UInt8 := dkwX13_close_2 ++ []
def dkwX13_close_1 : List UInt8 := [180, 0, 33, 27, 51, 153, 0, 13, 42, 27, 182, 0, 69, 154, 0, 5, 3, 172, 132, 1, 1, 167, 255, 225]
abbrev dktX13_close_1 : List UInt8 := dkwX13_close_1 ++ dktX13_close_2
def dkwX13_close_0 : List UInt8 := [42, 180, 0, 7, 153, 0, 47, 42, 3, 181, 0, 7, 3, 60, 27, 42, 180, 0, 33, 190, 162, 0, 28, 42]
abbrev dktX13_close_0 : List UInt8 := dkwX13_close_0 ++ dktX13_close_1
theorem dksX13_close_0 : cX13_close.data.toList.drop 0 = dktX13_close_0 := by decide +kernel
theorem dksX13_close_1 : cX13_close.data.toList.drop 24 = dktX13_close_1 := dk_seg dksX13_close_0 24 rfl rfl
theorem dksX13_close_2 : cX13_close.data.toList.drop 48 = dktX13_close_2 := dk_seg dksX13_close_1 24 rfl rfl
theorem dX13_close_0 : decode cX13_close 0 = .ok (.aload_n 0, 1) := dk_42 (dk_at dksX13_close_0 0 rfl rfl)
theorem dX13_close_1 : decode cX13_close 1 = .ok (.getfield 7, 3) := dk_180 0 7 (dk_at dksX13_close_0 1 rfl rfl)
theorem dX13_close_4 : decode cX13_close 4 = .ok (.ifCond .eq 47, 3) := dk_153 0 47 (dk_at dksX13_close_0 4 rfl rfl)
theorem dX13_close_7 : decode cX13_close 7 = .ok (.aload_n 0, 1) := dk_42 (dk_at dksX13_close_0 7 rfl rfl)
theorem dX13_close_8 : decode cX13_close 8 = .ok (.iconst 0, 1) := dk_3 (dk_at dksX13_close_0 8 rfl rfl)
theorem dX13_close_9 : decode cX13_close 9 = .ok (.putfield 7, 3) := dk_181 0 7 (dk_at dksX13_close_0 9 rfl rfl)
theorem dX13_close_12 : decode cX13_close 12 = .ok (.iconst 0, 1) := dk_3 (dk_at dksX13_close_0 12 rfl rfl)
theorem dX13_close_13 : decode cX13_close 13 = .ok (.istore_n 1, 1) := dk_60 (dk_at dksX13_close_0 13 rfl rfl)
theorem dX13_close_14 : decode cX13_close 14 = .ok (.iload_n 1, 1) := dk_27 (dk_at dksX13_close_0 14 rfl rfl)
theorem dX13_close_15 : decode cX13_close 15 = .ok (.aload_n 0, 1) := dk_42 (dk_at dksX13_close_0 15 rfl rfl)
theorem dX13_close_16 : decode cX13_close 16 = .ok (.getfield 33, 3) := dk_180 0 33 (dk_at dksX13_close_0 16 rfl rfl)
theorem dX13_close_19 : decode cX13_close 19 = .ok (.arraylength, 1) := dk_190 (dk_at dksX13_close_0 19 rfl rfl)
theorem dX13_close_20 : decode cX13_close 20 = .ok (.if_icmp .ge 28, 3) := dk_162 0 28 (dk_at dksX13_close_0 20 rfl rfl)
theorem dX13_close_23 : decode cX13_close 23 = .ok (.aload_n 0, 1) := dk_42 (dk_at dksX13_close_0 23 rfl rfl)
theorem dX13_close_24 : decode cX13_close 24 = .ok (.getfield 33, 3) := dk_180 0 33 (dk_at dksX13_close_1 0 rfl rfl)
theorem dX13_close_27 : decode cX13_close 27 = .ok (.iload_n 1, 1) := dk_27 (dk_at dksX13_close_1 3 rfl rfl)
theorem dX13_close_28 : decode cX13_close 28 = .ok (.baload, 1) := dk_51 (dk_at dksX13_close_1 4 rfl rfl)
theorem dX13_close_29 : decode cX13_close 29 = .ok (.ifCond .eq 13, 3) := dk_153 0 13 (dk_at dksX13_close_1 5 rfl rfl)
theorem dX13_close_32 : decode cX13_close 32 = .ok (.aload_n 0, 1) := dk_42 (dk_at dksX13_close_1 8 rfl rfl)
theorem dX13_close_33 : decode cX13_close 33 = .ok (.iload_n 1, 1) := dk_27 (dk_at dksX13_close_1 9 rfl rfl)
theorem dX13_close_34 : decode cX13_close 34 = .ok (.invokevirtual 69, 3) := dk_182 0 69 (dk_at dksX13_close_1 10 rfl rfl)
theorem dX13_close_37 : decode cX13_close 37 = .ok (.ifCond .ne 5, 3) := dk_154 0 5 (dk_at dksX13_close_1 13 rfl rfl)
theorem dX13_close_40 : decode cX13_close 40 = .ok (.iconst 0, 1) := dk_3 (dk_at dksX13_close_1 16 rfl rfl)
theorem dX13_close_41 : decode cX13_close 41 = .ok (.ireturn, 1) := dk_172 (dk_at dksX13_close_1 17 rfl rfl)
theorem dX13_close_42 : decode cX13_close 42 = .ok (.iinc 1 1, 3) := dk_132 1 1 (dk_at dksX13_close_1 18 rfl rfl)
theorem dX13_close_45 : decode cX13_close 45 = .ok (.goto (-31), 3) := dk_167 255 225 (dk_at dksX13_close_1 21 rfl rfl)
theorem dX13_close_48 : decode cX13_close 48 = .ok (.goto (-48), 3) := dk_167 255 208 (dk_at dksX13_close_2 0 rfl rfl)
theorem dX13_close_51 : decode cX13_close 51 = .ok (.iconst 1, 1) := dk_4 (dk_at dksX13_close_2 3 rfl rfl)
theorem dX13_close_52 : decode cX13_close 52 = .ok (.ireturn, 1) := dk_172 (dk_at dksX13_close_2 4 rfl rfl)
abbrev cX13_go : ByteArray := prog_17_method_4_code
def yX13_go : MethodName := ⟨RX13, "go", "(I)Z"⟩
def dkwX13_go_11 : List UInt8 := [182, 0, 65, 182, 0, 55, 132, 11, 1, 167, 255, 153, 4, 172]
abbrev dktX13_go_11 : List UInt8 := dkwX13_go_11 ++ []
def dkwX13_go_10 : List UInt8 := [21, 10, 21, 12, 182, 0, 65, 167, 0, 20, 42, 25, 6, 180, 0, 62, 21, 9, 5, 112, 21, 12, 21, 10]
abbrev dktX13_go_10 : List UInt8 := dkwX13_go_10 ++ dktX13_go_11
def dkwX13_go_9 : List UInt8 := [153, 0, 53, 42, 42, 180, 0, 33, 21, 7, 153, 0, 23, 42, 25, 6, 180, 0, 62, 21, 9, 5, 112]
abbrev dktX13_go_9 : List UInt8 := dkwX13_go_9 ++ dktX13_go_10
def dkwX13_go_8 : List UInt8 := [153, 0, 16, 42, 180, 0, 25, 21, 12, 51, 153, 0, 66, 167, 0, 13, 42, 180, 0, 21, 21, 12, 51]
abbrev dktX13_go_8 : List UInt8 := dkwX13_go_8 ++ dktX13_go_9
def dkwX13_go_7 : List UInt8 := [5, 162, 0, 103, 21, 9, 4, 122, 21, 11, 42, 180, 0, 17, 4, 100, 120, 128, 54, 12, 21, 7]
abbrev dktX13_go_7 : List UInt8 := dkwX13_go_7 ++ dktX13_go_8
def dkwX13_go_6 : List UInt8 := [21, 8, 4, 120, 25, 6, 180, 0, 59, 128, 4, 42, 180, 0, 17, 120, 112, 54, 10, 3, 54, 11, 21, 11]
abbrev dktX13_go_6 : List UInt8 := dkwX13_go_6 ++ dktX13_go_7
def dkwX13_go_5 : List UInt8 := [54, 9, 42, 21, 7, 153, 0, 10, 42, 180, 0, 21, 167, 0, 7, 42, 180, 0, 25, 21, 8, 182, 0, 55]
abbrev dktX13_go_5 : List UInt8 := dkwX13_go_5 ++ dktX13_go_6
def dkwX13_go_4 : List UInt8 := [54, 7, 21, 7, 153, 0, 7, 29, 167, 0, 4, 28, 54, 8, 21, 7, 153, 0, 7, 28, 167, 0, 4, 29]
abbrev dktX13_go_4 : List UInt8 := dkwX13_go_4 ++ dktX13_go_5
def dkwX13_go_3 : List UInt8 := [182, 0, 40, 182, 0, 44, 192, 0, 50, 58, 6, 25, 6, 180, 0, 52, 158, 0, 7, 4, 167, 0, 4, 3]
abbrev dktX13_go_3 : List UInt8 := dkwX13_go_3 ++ dktX13_go_4
def dkwX13_go_2 : List UInt8 := [180, 0, 13, 21, 5, 21, 4, 182, 0, 36, 153, 0, 5, 3, 172, 42, 180, 0, 13, 21, 5, 21, 4]
abbrev dktX13_go_2 : List UInt8 := dkwX13_go_2 ++ dktX13_go_3
def dkwX13_go_1 : List UInt8 := [5, 42, 180, 0, 17, 104, 122, 5, 112, 54, 4, 27, 5, 42, 180, 0, 17, 104, 4, 96, 122, 54, 5, 42]
abbrev dktX13_go_1 : List UInt8 := dkwX13_go_1 ++ dktX13_go_2
def dkwX13_go_0 : List UInt8 := [27, 4, 42, 180, 0, 17, 120, 112, 61, 27, 42, 180, 0, 17, 122, 4, 42, 180, 0, 17, 120, 112, 62, 27]
abbrev dktX13_go_0 : List UInt8 := dkwX13_go_0 ++ dktX13_go_1
theorem dksX13_go_0 : cX13_go.data.toList.drop 0 = dktX13_go_0 := by decide +kernel
theorem dksX13_go_1 : cX13_go.data.toList.drop 24 = dktX13_go_1 := dk_seg dksX13_go_0 24 rfl rfl
theorem dksX13_go_2 : cX13_go.data.toList.drop 48 = dktX13_go_2 := dk_seg dksX13_go_1 24 rfl rfl
theorem dksX13_go_3 : cX13_go.data.toList.drop 71 = dktX13_go_3 := dk_seg dksX13_go_2 23 rfl rfl
theorem dksX13_go_4 : cX13_go.data.toList.drop 95 = dktX13_go_4 := dk_seg dksX13_go_3 24 rfl rfl
theorem dksX13_go_5 : cX13_go.data.toList.drop 119 = dktX13_go_5 := dk_seg dksX13_go_4 24 rfl rfl
theorem dksX13_go_6 : cX13_go.data.toList.drop 143 = dktX13_go_6 := dk_seg dksX13_go_5 24 rfl rfl
theorem dksX13_go_7 : cX13_go.data.toList.drop 167 = dktX13_go_7 := dk_seg dksX13_go_6 24 rfl rfl
theorem dksX13_go_8 : cX13_go.data.toList.drop 189 = dktX13_go_8 := dk_seg dksX13_go_7 22 rfl rfl
theorem dksX13_go_9 : cX13_go.data.toList.drop 212 = dktX13_go_9 := dk_seg dksX13_go_8 23 rfl rfl
theorem dksX13_go_10 : cX13_go.data.toList.drop 235 = dktX13_go_10 := dk_seg dksX13_go_9 23 rfl rfl
theorem dksX13_go_11 : cX13_go.data.toList.drop 259 = dktX13_go_11 := dk_seg dksX13_go_10 24 rfl rfl
theorem dX13_go_0 : decode cX13_go 0 = .ok (.iload_n 1, 1) := dk_27 (dk_at dksX13_go_0 0 rfl rfl)
theorem dX13_go_1 : decode cX13_go 1 = .ok (.iconst 1, 1) := dk_4 (dk_at dksX13_go_0 1 rfl rfl)
theorem dX13_go_2 : decode cX13_go 2 = .ok (.aload_n 0, 1) := dk_42 (dk_at dksX13_go_0 2 rfl rfl)
theorem dX13_go_3 : decode cX13_go 3 = .ok (.getfield 17, 3) := dk_180 0 17 (dk_at dksX13_go_0 3 rfl rfl)
theorem dX13_go_6 : decode cX13_go 6 = .ok (.ishl, 1) := dk_120 (dk_at dksX13_go_0 6 rfl rfl)
theorem dX13_go_7 : decode cX13_go 7 = .ok (.irem, 1) := dk_112 (dk_at dksX13_go_0 7 rfl rfl)
theorem dX13_go_8 : decode cX13_go 8 = .ok (.istore_n 2, 1) := dk_61 (dk_at dksX13_go_0 8 rfl rfl)
theorem dX13_go_9 : decode cX13_go 9 = .ok (.iload_n 1, 1) := dk_27 (dk_at dksX13_go_0 9 rfl rfl)
theorem dX13_go_10 : decode cX13_go 10 = .ok (.aload_n 0, 1) := dk_42 (dk_at dksX13_go_0 10 rfl rfl)
theorem dX13_go_11 : decode cX13_go 11 = .ok (.getfield 17, 3) := dk_180 0 17 (dk_at dksX13_go_0 11 rfl rfl)
theorem dX13_go_14 : decode cX13_go 14 = .ok (.ishr, 1) := dk_122 (dk_at dksX13_go_0 14 rfl rfl)
theorem dX13_go_15 : decode cX13_go 15 = .ok (.iconst 1, 1) := dk_4 (dk_at dksX13_go_0 15 rfl rfl)
theorem dX13_go_16 : decode cX13_go 16 = .ok (.aload_n 0, 1) := dk_42 (dk_at dksX13_go_0 16 rfl rfl)
theorem dX13_go_17 : decode cX13_go 17 = .ok (.getfield 17, 3) := dk_180 0 17 (dk_at dksX13_go_0 17 rfl rfl)
theorem dX13_go_20 : decode cX13_go 20 = .ok (.ishl, 1) := dk_120 (dk_at dksX13_go_0 20 rfl rfl)
theorem dX13_go_21 : decode cX13_go 21 = .ok (.irem, 1) := dk_112 (dk_at dksX13_go_0 21 rfl rfl)
theorem dX13_go_22 : decode cX13_go 22 = .ok (.istore_n 3, 1) := dk_62 (dk_at dksX13_go_0 22 rfl rfl)
theorem dX13_go_23 : decode cX13_go 23 = .ok (.iload_n 1, 1) := dk_27 (dk_at dksX13_go_0 23 rfl rfl)
theorem dX13_go_24 : decode cX13_go 24 = .ok (.iconst 2, 1) := dk_5 (dk_at dksX13_go_1 0 rfl rfl)
theorem dX13_go_25 : decode cX13_go 25 = .ok (.aload_n 0, 1) := dk_42 (dk_at dksX13_go_1 1 rfl rfl)
theorem dX13_go_26 : decode cX13_go 26 = .ok (.getfield 17, 3) := dk_180 0 17 (dk_at dksX13_go_1 2 rfl rfl)
theorem dX13_go_29 : decode cX13_go 29 = .ok (.imul, 1) := dk_104 (dk_at dksX13_go_1 5 rfl rfl)
theorem dX13_go_30 : decode cX13_go 30 = .ok (.ishr, 1) := dk_122 (dk_at dksX13_go_1 6 rfl rfl)
theorem dX13_go_31 : decode cX13_go 31 = .ok (.iconst 2, 1) := dk_5 (dk_at dksX13_go_1 7 rfl rfl)
theorem dX13_go_32 : decode cX13_go 32 = .ok (.irem, 1) := dk_112 (dk_at dksX13_go_1 8 rfl rfl)
theorem dX13_go_33 : decode cX13_go 33 = .ok (.istore 4, 2) := dk_54 4 (dk_at dksX13_go_1 9 rfl rfl)
theorem dX13_go_35 : decode cX13_go 35 = .ok (.iload_n 1, 1) := dk_27 (dk_at dksX13_go_1 11 rfl rfl)
theorem dX13_go_36 : decode cX13_go 36 = .ok (.iconst 2, 1) := dk_5 (dk_at dksX13_go_1 12 rfl rfl)
theorem dX13_go_37 : decode cX13_go 37 = .ok (.aload_n 0, 1) := dk_42 (dk_at dksX13_go_1 13 rfl rfl)
theorem dX13_go_38 : decode cX13_go 38 = .ok (.getfield 17, 3) := dk_180 0 17 (dk_at dksX13_go_1 14 rfl rfl)
theorem dX13_go_41 : decode cX13_go 41 = .ok (.imul, 1) := dk_104 (dk_at dksX13_go_1 17 rfl rfl)
theorem dX13_go_42 : decode cX13_go 42 = .ok (.iconst 1, 1) := dk_4 (dk_at dksX13_go_1 18 rfl rfl)
theorem dX13_go_43 : decode cX13_go 43 = .ok (.iadd, 1) := dk_96 (dk_at dksX13_go_1 19 rfl rfl)
theorem dX13_go_44 : decode cX13_go 44 = .ok (.ishr, 1) := dk_122 (dk_at dksX13_go_1 20 rfl rfl)
theorem dX13_go_45 : decode cX13_go 45 = .ok (.istore 5, 2) := dk_54 5 (dk_at dksX13_go_1 21 rfl rfl)
theorem dX13_go_47 : decode cX13_go 47 = .ok (.aload_n 0, 1) := dk_42 (dk_at dksX13_go_1 23 rfl rfl)
theorem dX13_go_48 : decode cX13_go 48 = .ok (.getfield 13, 3) := dk_180 0 13 (dk_at dksX13_go_2 0 rfl rfl)
theorem dX13_go_51 : decode cX13_go 51 = .ok (.iload 5, 2) := dk_21 5 (dk_at dksX13_go_2 3 rfl rfl)
theorem dX13_go_53 : decode cX13_go 53 = .ok (.iload 4, 2) := dk_21 4 (dk_at dksX13_go_2 5 rfl rfl)
theorem dX13_go_55 : decode cX13_go 55 = .ok (.invokevirtual 36, 3) := dk_182 0 36 (dk_at dksX13_go_2 7 rfl rfl)
theorem dX13_go_58 : decode cX13_go 58 = .ok (.ifCond .eq 5, 3) := dk_153 0 5 (dk_at dksX13_go_2 10 rfl rfl)
theorem dX13_go_61 : decode cX13_go 61 = .ok (.iconst 0, 1) := dk_3 (dk_at dksX13_go_2 13 rfl rfl)
theorem dX13_go_62 : decode cX13_go 62 = .ok (.ireturn, 1) := dk_172 (dk_at dksX13_go_2 14 rfl rfl)
theorem dX13_go_63 : decode cX13_go 63 = .ok (.aload_n 0, 1) := dk_42 (dk_at dksX13_go_2 15 rfl rfl)
theorem dX13_go_64 : decode cX13_go 64 = .ok (.getfield 13, 3) := dk_180 0 13 (dk_at dksX13_go_2 16 rfl rfl)
theorem dX13_go_67 : decode cX13_go 67 = .ok (.iload 5, 2) := dk_21 5 (dk_at dksX13_go_2 19 rfl rfl)
theorem dX13_go_69 : decode cX13_go 69 = .ok (.iload 4, 2) := dk_21 4 (dk_at dksX13_go_2 21 rfl rfl)
theorem dX13_go_71 : decode cX13_go 71 = .ok (.invokevirtual 40, 3) := dk_182 0 40 (dk_at dksX13_go_3 0 rfl rfl)
theorem dX13_go_74 : decode cX13_go 74 = .ok (.invokevirtual 44, 3) := dk_182 0 44 (dk_at dksX13_go_3 3 rfl rfl)
theorem dX13_go_77 : decode cX13_go 77 = .ok (.checkcast 50, 3) := dk_192 0 50 (dk_at dksX13_go_3 6 rfl rfl)
theorem dX13_go_80 : decode cX13_go 80 = .ok (.astore 6, 2) := dk_58 6 (dk_at dksX13_go_3 9 rfl rfl)
theorem dX13_go_82 : decode cX13_go 82 = .ok (.aload 6, 2) := dk_25 6 (dk_at dksX13_go_3 11 rfl rfl)
theorem dX13_go_84 : decode cX13_go 84 = .ok (.getfield 52, 3) := dk_180 0 52 (dk_at dksX13_go_3 13 rfl rfl)
theorem dX13_go_87 : decode cX13_go 87 = .ok (.ifCond .le 7, 3) := dk_158 0 7 (dk_at dksX13_go_3 16 rfl rfl)
theorem dX13_go_90 : decode cX13_go 90 = .ok (.iconst 1, 1) := dk_4 (dk_at dksX13_go_3 19 rfl rfl)
theorem dX13_go_91 : decode cX13_go 91 = .ok (.goto 4, 3) := dk_167 0 4 (dk_at dksX13_go_3 20 rfl rfl)
theorem dX13_go_94 : decode cX13_go 94 = .ok (.iconst 0, 1) := dk_3 (dk_at dksX13_go_3 23 rfl rfl)
theorem dX13_go_95 : decode cX13_go 95 = .ok (.istore 7, 2) := dk_54 7 (dk_at dksX13_go_4 0 rfl rfl)
theorem dX13_go_97 : decode cX13_go 97 = .ok (.iload 7, 2) := dk_21 7 (dk_at dksX13_go_4 2 rfl rfl)
theorem dX13_go_99 : decode cX13_go 99 = .ok (.ifCond .eq 7, 3) := dk_153 0 7 (dk_at dksX13_go_4 4 rfl rfl)
theorem dX13_go_102 : decode cX13_go 102 = .ok (.iload_n 3, 1) := dk_29 (dk_at dksX13_go_4 7 rfl rfl)
theorem dX13_go_103 : decode cX13_go 103 = .ok (.goto 4, 3) := dk_167 0 4 (dk_at dksX13_go_4 8 rfl rfl)
theorem dX13_go_106 : decode cX13_go 106 = .ok (.iload_n 2, 1) := dk_28 (dk_at dksX13_go_4 11 rfl rfl)
theorem dX13_go_107 : decode cX13_go 107 = .ok (.istore 8, 2) := dk_54 8 (dk_at dksX13_go_4 12 rfl rfl)
theorem dX13_go_109 : decode cX13_go 109 = .ok (.iload 7, 2) := dk_21 7 (dk_at dksX13_go_4 14 rfl rfl)
theorem dX13_go_111 : decode cX13_go 111 = .ok (.ifCond .eq 7, 3) := dk_153 0 7 (dk_at dksX13_go_4 16 rfl rfl)
theorem dX13_go_114 : decode cX13_go 114 = .ok (.iload_n 2, 1) := dk_28 (dk_at dksX13_go_4 19 rfl rfl)
theorem dX13_go_115 : decode cX13_go 115 = .ok (.goto 4, 3) := dk_167 0 4 (dk_at dksX13_go_4 20 rfl rfl)
theorem dX13_go_118 : decode cX13_go 118 = .ok (.iload_n 3, 1) := dk_29 (dk_at dksX13_go_4 23 rfl rfl)
theorem dX13_go_119 : decode cX13_go 119 = .ok (.istore 9, 2) := dk_54 9 (dk_at dksX13_go_5 0 rfl rfl)
theorem dX13_go_121 : decode cX13_go 121 = .ok (.aload_n 0, 1) := dk_42 (dk_at dksX13_go_5 2 rfl rfl)
theorem dX13_go_122 : decode cX13_go 122 = .ok (.iload 7, 2) := dk_21 7 (dk_at dksX13_go_5 3 rfl rfl)
theorem dX13_go_124 : decode cX13_go 124 = .ok (.ifCond .eq 10, 3) := dk_153 0 10 (dk_at dksX13_go_5 5 rfl rfl)
theorem dX13_go_127 : decode cX13_go 127 = .ok (.aload_n 0, 1) := dk_42 (dk_at dksX13_go_5 8 rfl rfl)
theorem dX13_go_128 : decode cX13_go 128 = .ok (.getfield 21, 3) := dk_180 0 21 (dk_at dksX13_go_5 9 rfl rfl)
theorem dX13_go_131 : decode cX13_go 131 = .ok (.goto 7, 3) := dk_167 0 7 (dk_at dksX13_go_5 12 rfl rfl)
theorem dX13_go_134 : decode cX13_go 134 = .ok (.aload_n 0, 1) := dk_42 (dk_at dksX13_go_5 15 rfl rfl)
theorem dX13_go_135 : decode cX13_go 135 = .ok (.getfield 25, 3) := dk_180 0 25 (dk_at dksX13_go_5 16 rfl rfl)
theorem dX13_go_138 : decode cX13_go 138 = .ok (.iload 8, 2) := dk_21 8 (dk_at dksX13_go_5 19 rfl rfl)
theorem dX13_go_140 : decode cX13_go 140 = .ok (.invokevirtual 55, 3) := dk_182 0 55 (dk_at dksX13_go_5 21 rfl rfl)
theorem dX13_go_143 : decode cX13_go 143 = .ok (.iload 8, 2) := dk_21 8 (dk_at dksX13_go_6 0 rfl rfl)
theorem dX13_go_145 : decode cX13_go 145 = .ok (.iconst 1, 1) := dk_4 (dk_at dksX13_go_6 2 rfl rfl)
theorem dX13_go_146 : decode cX13_go 146 = .ok (.ishl, 1) := dk_120 (dk_at dksX13_go_6 3 rfl rfl)
theorem dX13_go_147 : decode cX13_go 147 = .ok (.aload 6, 2) := dk_25 6 (dk_at dksX13_go_6 4 rfl rfl)
theorem dX13_go_149 : decode cX13_go 149 = .ok (.getfield 59, 3) := dk_180 0 59 (dk_at dksX13_go_6 6 rfl rfl)
theorem dX13_go_152 : decode cX13_go 152 = .ok (.ior, 1) := dk_128 (dk_at dksX13_go_6 9 rfl rfl)
theorem dX13_go_153 : decode cX13_go 153 = .ok (.iconst 1, 1) := dk_4 (dk_at dksX13_go_6 10 rfl rfl)
theorem dX13_go_154 : decode cX13_go 154 = .ok (.aload_n 0, 1) := dk_42 (dk_at dksX13_go_6 11 rfl rfl)
theorem dX13_go_155 : decode cX13_go 155 = .ok (.getfield 17, 3) := dk_180 0 17 (dk_at dksX13_go_6 12 rfl rfl)
theorem dX13_go_158 : decode cX13_go 158 = .ok (.ishl, 1) := dk_120 (dk_at dksX13_go_6 15 rfl rfl)
theorem dX13_go_159 : decode cX13_go 159 = .ok (.irem, 1) := dk_112 (dk_at dksX13_go_6 16 rfl rfl)
theorem dX13_go_160 : decode cX13_go 160 = .ok (.istore 10, 2) := dk_54 10 (dk_at dksX13_go_6 17 rfl rfl)
theorem dX13_go_162 : decode cX13_go 162 = .ok (.iconst 0, 1) := dk_3 (dk_at dksX13_go_6 19 rfl rfl)
theorem dX13_go_163 : decode cX13_go 163 = .ok (.istore 11, 2) := dk_54 11 (dk_at dksX13_go_6 20 rfl rfl)
theorem dX13_go_165 : decode cX13_go 165 = .ok (.iload 11, 2) := dk_21 11 (dk_at dksX13_go_6 22 rfl rfl)
theorem dX13_go_167 : decode cX13_go 167 = .ok (.iconst 2, 1) := dk_5 (dk_at dksX13_go_7 0 rfl rfl)
theorem dX13_go_168 : decode cX13_go 168 = .ok (.if_icmp .ge 103, 3) := dk_162 0 103 (dk_at dksX13_go_7 1 rfl rfl)
theorem dX13_go_171 : decode cX13_go 171 = .ok (.iload 9, 2) := dk_21 9 (dk_at dksX13_go_7 4 rfl rfl)
theorem dX13_go_173 : decode cX13_go 173 = .ok (.iconst 1, 1) := dk_4 (dk_at dksX13_go_7 6 rfl rfl)
theorem dX13_go_174 : decode cX13_go 174 = .ok (.ishr, 1) := dk_122 (dk_at dksX13_go_7 7 rfl rfl)
theorem dX13_go_175 : decode cX13_go 175 = .ok (.iload 11, 2) := dk_21 11 (dk_at dksX13_go_7 8 rfl rfl)
theorem dX13_go_177 : decode cX13_go 177 = .ok (.aload_n 0, 1) := dk_42 (dk_at dksX13_go_7 10 rfl rfl)
theorem dX13_go_178 : decode cX13_go 178 = .ok (.getfield 17, 3) := dk_180 0 17 (dk_at dksX13_go_7 11 rfl rfl)
theorem dX13_go_181 : decode cX13_go 181 = .ok (.iconst 1, 1) := dk_4 (dk_at dksX13_go_7 14 rfl rfl)
theorem dX13_go_182 : decode cX13_go 182 = .ok (.isub, 1) := dk_100 (dk_at dksX13_go_7 15 rfl rfl)
theorem dX13_go_183 : decode cX13_go 183 = .ok (.ishl, 1) := dk_120 (dk_at dksX13_go_7 16 rfl rfl)
theorem dX13_go_184 : decode cX13_go 184 = .ok (.ior, 1) := dk_128 (dk_at dksX13_go_7 17 rfl rfl)
theorem dX13_go_185 : decode cX13_go 185 = .ok (.istore 12, 2) := dk_54 12 (dk_at dksX13_go_7 18 rfl rfl)
theorem dX13_go_187 : decode cX13_go 187 = .ok (.iload 7, 2) := dk_21 7 (dk_at dksX13_go_7 20 rfl rfl)
theorem dX13_go_189 : decode cX13_go 189 = .ok (.ifCond .eq 16, 3) := dk_153 0 16 (dk_at dksX13_go_8 0 rfl rfl)
theorem dX13_go_192 : decode cX13_go 192 = .ok (.aload_n 0, 1) := dk_42 (dk_at dksX13_go_8 3 rfl rfl)
theorem dX13_go_193 : decode cX13_go 193 = .ok (.getfield 25, 3) := dk_180 0 25 (dk_at dksX13_go_8 4 rfl rfl)
theorem dX13_go_196 : decode cX13_go 196 = .ok (.iload 12, 2) := dk_21 12 (dk_at dksX13_go_8 7 rfl rfl)
theorem dX13_go_198 : decode cX13_go 198 = .ok (.baload, 1) := dk_51 (dk_at dksX13_go_8 9 rfl rfl)
theorem dX13_go_199 : decode cX13_go 199 = .ok (.ifCond .eq 66, 3) := dk_153 0 66 (dk_at dksX13_go_8 10 rfl rfl)
theorem dX13_go_202 : decode cX13_go 202 = .ok (.goto 13, 3) := dk_167 0 13 (dk_at dksX13_go_8 13 rfl rfl)
theorem dX13_go_205 : decode cX13_go 205 = .ok (.aload_n 0, 1) := dk_42 (dk_at dksX13_go_8 16 rfl rfl)
theorem dX13_go_206 : decode cX13_go 206 = .ok (.getfield 21, 3) := dk_180 0 21 (dk_at dksX13_go_8 17 rfl rfl)
theorem dX13_go_209 : decode cX13_go 209 = .ok (.iload 12, 2) := dk_21 12 (dk_at dksX13_go_8 20 rfl rfl)
theorem dX13_go_211 : decode cX13_go 211 = .ok (.baload, 1) := dk_51 (dk_at dksX13_go_8 22 rfl rfl)
theorem dX13_go_212 : decode cX13_go 212 = .ok (.ifCond .eq 53, 3) := dk_153 0 53 (dk_at dksX13_go_9 0 rfl rfl)
theorem dX13_go_215 : decode cX13_go 215 = .ok (.aload_n 0, 1) := dk_42 (dk_at dksX13_go_9 3 rfl rfl)
theorem dX13_go_216 : decode cX13_go 216 = .ok (.aload_n 0, 1) := dk_42 (dk_at dksX13_go_9 4 rfl rfl)
theorem dX13_go_217 : decode cX13_go 217 = .ok (.getfield 33, 3) := dk_180 0 33 (dk_at dksX13_go_9 5 rfl rfl)
theorem dX13_go_220 : decode cX13_go 220 = .ok (.iload 7, 2) := dk_21 7 (dk_at dksX13_go_9 8 rfl rfl)
theorem dX13_go_222 : decode cX13_go 222 = .ok (.ifCond .eq 23, 3) := dk_153 0 23 (dk_at dksX13_go_9 10 rfl rfl)
theorem dX13_go_225 : decode cX13_go 225 = .ok (.aload_n 0, 1) := dk_42 (dk_at dksX13_go_9 13 rfl rfl)
theorem dX13_go_226 : decode cX13_go 226 = .ok (.aload 6, 2) := dk_25 6 (dk_at dksX13_go_9 14 rfl rfl)
theorem dX13_go_228 : decode cX13_go 228 = .ok (.getfield 62, 3) := dk_180 0 62 (dk_at dksX13_go_9 16 rfl rfl)
theorem dX13_go_231 : decode cX13_go 231 = .ok (.iload 9, 2) := dk_21 9 (dk_at dksX13_go_9 19 rfl rfl)
theorem dX13_go_233 : decode cX13_go 233 = .ok (.iconst 2, 1) := dk_5 (dk_at dksX13_go_9 21 rfl rfl)
theorem dX13_go_234 : decode cX13_go 234 = .ok (.irem, 1) := dk_112 (dk_at dksX13_go_9 22 rfl rfl)
theorem dX13_go_235 : decode cX13_go 235 = .ok (.iload 10, 2) := dk_21 10 (dk_at dksX13_go_10 0 rfl rfl)
theorem dX13_go_237 : decode cX13_go 237 = .ok (.iload 12, 2) := dk_21 12 (dk_at dksX13_go_10 2 rfl rfl)
theorem dX13_go_239 : decode cX13_go 239 = .ok (.invokevirtual 65, 3) := dk_182 0 65 (dk_at dksX13_go_10 4 rfl rfl)
theorem dX13_go_242 : decode cX13_go 242 = .ok (.goto 20, 3) := dk_167 0 20 (dk_at dksX13_go_10 7 rfl rfl)
theorem dX13_go_245 : decode cX13_go 245 = .ok (.aload_n 0, 1) := dk_42 (dk_at dksX13_go_10 10 rfl rfl)
theorem dX13_go_246 : decode cX13_go 246 = .ok (.aload 6, 2) := dk_25 6 (dk_at dksX13_go_10 11 rfl rfl)
theorem dX13_go_248 : decode cX13_go 248 = .ok (.getfield 62, 3) := dk_180 0 62 (dk_at dksX13_go_10 13 rfl rfl)
theorem dX13_go_251 : decode cX13_go 251 = .ok (.iload 9, 2) := dk_21 9 (dk_at dksX13_go_10 16 rfl rfl)
theorem dX13_go_253 : decode cX13_go 253 = .ok (.iconst 2, 1) := dk_5 (dk_at dksX13_go_10 18 rfl rfl)
theorem dX13_go_254 : decode cX13_go 254 = .ok (.irem, 1) := dk_112 (dk_at dksX13_go_10 19 rfl rfl)
theorem dX13_go_255 : decode cX13_go 255 = .ok (.iload 12, 2) := dk_21 12 (dk_at dksX13_go_10 20 rfl rfl)
theorem dX13_go_257 : decode cX13_go 257 = .ok (.iload 10, 2) := dk_21 10 (dk_at dksX13_go_10 22 rfl rfl)
theorem dX13_go_259 : decode cX13_go 259 = .ok (.invokevirtual 65, 3) := dk_182 0 65 (dk_at dksX13_go_11 0 rfl rfl)
theorem dX13_go_262 : decode cX13_go 262 = .ok (.invokevirtual 55, 3) := dk_182 0 55 (dk_at dksX13_go_11 3 rfl rfl)
theorem dX13_go_265 : decode cX13_go 265 = .ok (.iinc 11 1, 3) := dk_132 11 1 (dk_at dksX13_go_11 6 rfl rfl)
theorem dX13_go_268 : decode cX13_go 268 = .ok (.goto (-103), 3) := dk_167 255 153 (dk_at dksX13_go_11 9 rfl rfl)
theorem dX13_go_271 : decode cX13_go 271 = .ok (.iconst 1, 1) := dk_4 (dk_at dksX13_go_11 12 rfl rfl)
theorem dX13_go_272 : decode cX13_go 272 = .ok (.ireturn, 1) := dk_172 (dk_at dksX13_go_11 13 rfl rfl)
abbrev cX13_mark : ByteArray := prog_17_method_3_code
def yX13_mark : MethodName := ⟨RX13, "mark", "([ZI)V"⟩
def dkwX13_mark_1 : List UInt8 := [177]
abbrev dktX13_mark_1 : List UInt8 := dkwX13_mark_1 ++ []
def dkwX13_mark_0 : List UInt8 := [42, 89, 180, 0, 7, 43, 28, 51, 154, 0, 7, 4, 167, 0, 4, 3, 128, 181, 0, 7, 43, 28, 4, 84]
abbrev dktX13_mark_0 : List UInt8 := dkwX13_mark_0 ++ dktX13_mark_1
theorem dksX13_mark_0 : cX13_mark.data.toList.drop 0 = dktX13_mark_0 := by decide +kernel
theorem dksX13_mark_1 : cX13_mark.data.toList.drop 24 = dktX13_mark_1 := dk_seg dksX13_mark_0 24 rfl rfl
theorem dX13_mark_0 : decode cX13_mark 0 = .ok (.aload_n 0, 1) := dk_42 (dk_at dksX13_mark_0 0 rfl rfl)
theorem dX13_mark_1 : decode cX13_mark 1 = .ok (.dup, 1) := dk_89 (dk_at dksX13_mark_0 1 rfl rfl)
theorem dX13_mark_2 : decode cX13_mark 2 = .ok (.getfield 7, 3) := dk_180 0 7 (dk_at dksX13_mark_0 2 rfl rfl)
theorem dX13_mark_5 : decode cX13_mark 5 = .ok (.aload_n 1, 1) := dk_43 (dk_at dksX13_mark_0 5 rfl rfl)
theorem dX13_mark_6 : decode cX13_mark 6 = .ok (.iload_n 2, 1) := dk_28 (dk_at dksX13_mark_0 6 rfl rfl)
theorem dX13_mark_7 : decode cX13_mark 7 = .ok (.baload, 1) := dk_51 (dk_at dksX13_mark_0 7 rfl rfl)
theorem dX13_mark_8 : decode cX13_mark 8 = .ok (.ifCond .ne 7, 3) := dk_154 0 7 (dk_at dksX13_mark_0 8 rfl rfl)
theorem dX13_mark_11 : decode cX13_mark 11 = .ok (.iconst 1, 1) := dk_4 (dk_at dksX13_mark_0 11 rfl rfl)
theorem dX13_mark_12 : decode cX13_mark 12 = .ok (.goto 4, 3) := dk_167 0 4 (dk_at dksX13_mark_0 12 rfl rfl)
theorem dX13_mark_15 : decode cX13_mark 15 = .ok (.iconst 0, 1) := dk_3 (dk_at dksX13_mark_0 15 rfl rfl)
theorem dX13_mark_16 : decode cX13_mark 16 = .ok (.ior, 1) := dk_128 (dk_at dksX13_mark_0 16 rfl rfl)
theorem dX13_mark_17 : decode cX13_mark 17 = .ok (.putfield 7, 3) := dk_181 0 7 (dk_at dksX13_mark_0 17 rfl rfl)
theorem dX13_mark_20 : decode cX13_mark 20 = .ok (.aload_n 1, 1) := dk_43 (dk_at dksX13_mark_0 20 rfl rfl)
theorem dX13_mark_21 : decode cX13_mark 21 = .ok (.iload_n 2, 1) := dk_28 (dk_at dksX13_mark_0 21 rfl rfl)
theorem dX13_mark_22 : decode cX13_mark 22 = .ok (.iconst 1, 1) := dk_4 (dk_at dksX13_mark_0 22 rfl rfl)
theorem dX13_mark_23 : decode cX13_mark 23 = .ok (.bastore, 1) := dk_84 (dk_at dksX13_mark_0 23 rfl rfl)
theorem dX13_mark_24 : decode cX13_mark 24 = .ok (.return_, 1) := dk_177 (dk_at dksX13_mark_1 0 rfl rfl)
abbrev cX13_number : ByteArray := prog_17_method_2_code
def yX13_number : MethodName := ⟨RX13, "number", "(IIII)I"⟩
def dkwX13_number_0 : List UInt8 := [27, 5, 104, 28, 96, 42, 180, 0, 17, 120, 29, 96, 42, 180, 0, 17, 120, 21, 4, 96, 172]
abbrev dktX13_number_0 : List UInt8 := dkwX13_number_0 ++ []
theorem dksX13_number_0 : cX13_number.data.toList.drop 0 = dktX13_number_0 := by decide +kernel
theorem dX13_number_0 : decode cX13_number 0 = .ok (.iload_n 1, 1) := dk_27 (dk_at dksX13_number_0 0 rfl rfl)
theorem dX13_number_1 : decode cX13_number 1 = .ok (.iconst 2, 1) := dk_5 (dk_at dksX13_number_0 1 rfl rfl)
theorem dX13_number_2 : decode cX13_number 2 = .ok (.imul, 1) := dk_104 (dk_at dksX13_number_0 2 rfl rfl)
theorem dX13_number_3 : decode cX13_number 3 = .ok (.iload_n 2, 1) := dk_28 (dk_at dksX13_number_0 3 rfl rfl)
theorem dX13_number_4 : decode cX13_number 4 = .ok (.iadd, 1) := dk_96 (dk_at dksX13_number_0 4 rfl rfl)
theorem dX13_number_5 : decode cX13_number 5 = .ok (.aload_n 0, 1) := dk_42 (dk_at dksX13_number_0 5 rfl rfl)
theorem dX13_number_6 : decode cX13_number 6 = .ok (.getfield 17, 3) := dk_180 0 17 (dk_at dksX13_number_0 6 rfl rfl)
theorem dX13_number_9 : decode cX13_number 9 = .ok (.ishl, 1) := dk_120 (dk_at dksX13_number_0 9 rfl rfl)
theorem dX13_number_10 : decode cX13_number 10 = .ok (.iload_n 3, 1) := dk_29 (dk_at dksX13_number_0 10 rfl rfl)
theorem dX13_number_11 : decode cX13_number 11 = .ok (.iadd, 1) := dk_96 (dk_at dksX13_number_0 11 rfl rfl)
theorem dX13_number_12 : decode cX13_number 12 = .ok (.aload_n 0, 1) := dk_42 (dk_at dksX13_number_0 12 rfl rfl)
theorem dX13_number_13 : decode cX13_number 13 = .ok (.getfield 17, 3) := dk_180 0 17 (dk_at dksX13_number_0 13 rfl rfl)
theorem dX13_number_16 : decode cX13_number 16 = .ok (.ishl, 1) := dk_120 (dk_at dksX13_number_0 16 rfl rfl)
theorem dX13_number_17 : decode cX13_number 17 = .ok (.iload 4, 2) := dk_21 4 (dk_at dksX13_number_0 17 rfl rfl)
theorem dX13_number_19 : decode cX13_number 19 = .ok (.iadd, 1) := dk_96 (dk_at dksX13_number_0 19 rfl rfl)
theorem dX13_number_20 : decode cX13_number 20 = .ok (.ireturn, 1) := dk_172 (dk_at dksX13_number_0 20 rfl rfl)
theorem q58 : (Jvm.Cond.initialized "Haltingale$Windows") ∈ lw_all := lw_g (lw_at lw_m1 34 rfl) rfl
theorem q534 : (Jvm.Cond.selects "Haltingale$Windows" ({ cls := "java/lang/Object", name := "getClass", desc := "()Ljava/lang/Class;" } : Jvm.MethodName) ({ cls := "java/lang/Object", name := "getClass", desc := "()Ljava/lang/Class;" } : Jvm.MethodName)) ∈ lw_all := lw_g (lw_at lw_m3 30 rfl) rfl
theorem q706 : (Jvm.Cond.fieldLinkNest "Haltingale$Windows" (28 : Nat) "Haltingale$Table" "states" "I" "Haltingale") ∈ lw_tbl := lw_at lw_m3 202 rfl
theorem q812 : (Jvm.Cond.fieldLinkNest "Haltingale$Windows" (59 : Nat) "Haltingale$Rule" "write" "I" "Haltingale") ∈ lw_tbl := lw_at lw_m4 68 rfl
theorem q817 : (Jvm.Cond.fieldLinkNest "Haltingale$Windows" (52 : Nat) "Haltingale$Rule" "move" "I" "Haltingale") ∈ lw_tbl := lw_at lw_m4 73 rfl
theorem q822 : (Jvm.Cond.fieldLinkNest "Haltingale$Windows" (62 : Nat) "Haltingale$Rule" "next" "I" "Haltingale") ∈ lw_tbl := lw_at lw_m4 78 rfl
theorem q873 : (Jvm.Cond.selects "Haltingale$Windows" ({ cls := "java/lang/Object", name := "notify", desc := "()V" } : Jvm.MethodName) ({ cls := "java/lang/Object", name := "notify", desc := "()V" } : Jvm.MethodName)) ∈ lw_all := lw_g (lw_at lw_m4 129 rfl) rfl
theorem q975 : (Jvm.Cond.instantiable "Haltingale$Windows" (6 : Nat)) ∈ lw_all := lw_g (lw_at lw_m4 231 rfl) rfl
theorem q977 : (Jvm.Cond.instanceMethod ({ cls := "Haltingale$Windows", name := "<init>", desc := "(LHaltingale$Table;I)V" } : Jvm.MethodName)) ∈ lw_all := lw_g (lw_at lw_m4 233 rfl) rfl
theorem q978 : (Jvm.Cond.code ({ cls := "Haltingale$Windows", name := "<init>", desc := "(LHaltingale$Table;I)V" } : Jvm.MethodName) prog_17_method_1_code (3 : Nat) (Option.none : Option Jvm.ClassFile.FieldType)) ∈ lw_all := lw_g (lw_at lw_m4 234 rfl) rfl
theorem q979 : (Jvm.Cond.methodLink "Haltingale$Windows" (1 : Nat) ({ cls := "java/lang/Object", name := "<init>", desc := "()V" } : Jvm.MethodName)) ∈ lw_all := lw_g (lw_at lw_m4 235 rfl) rfl
theorem q980 : (Jvm.Cond.fieldLink "Haltingale$Windows" (13 : Nat) "Haltingale$Windows" "table" "LHaltingale$Table;") ∈ lw_all := lw_g (lw_at lw_m4 236 rfl) rfl
theorem q981 : (Jvm.Cond.fieldLink "Haltingale$Windows" (17 : Nat) "Haltingale$Windows" "n" "I") ∈ lw_all := lw_g (lw_at lw_m4 237 rfl) rfl
theorem q982 : (Jvm.Cond.fieldLink "Haltingale$Windows" (21 : Nat) "Haltingale$Windows" "lefts" "[Z") ∈ lw_all := lw_g (lw_at lw_m4 238 rfl) rfl
theorem q983 : (Jvm.Cond.fieldLink "Haltingale$Windows" (25 : Nat) "Haltingale$Windows" "rights" "[Z") ∈ lw_all := lw_g (lw_at lw_m4 239 rfl) rfl
theorem q984 : (Jvm.Cond.fieldLink "Haltingale$Windows" (33 : Nat) "Haltingale$Windows" "seen" "[Z") ∈ lw_all := lw_g (lw_at lw_m5 0 rfl) rfl
theorem q985 : (Jvm.Cond.fieldLink "Haltingale$Windows" (7 : Nat) "Haltingale$Windows" "grows" "Z") ∈ lw_all := lw_g (lw_at lw_m5 1 rfl) rfl
theorem q986 : (Jvm.Cond.laysFinal "Haltingale$Windows" "Haltingale$Windows" "table" "LHaltingale$Table;") ∈ lw_all := lw_g (lw_at lw_m5 2 rfl) rfl
theorem q987 : (Jvm.Cond.soleField "Haltingale$Windows" "table") ∈ lw_all := lw_g (lw_at lw_m5 3 rfl) rfl
theorem q988 : (Jvm.Cond.laysFinal "Haltingale$Windows" "Haltingale$Windows" "n" "I") ∈ lw_all := lw_g (lw_at lw_m5 4 rfl) rfl
theorem q989 : (Jvm.Cond.soleField "Haltingale$Windows" "n") ∈ lw_all := lw_g (lw_at lw_m5 5 rfl) rfl
theorem q990 : (Jvm.Cond.laysFinal "Haltingale$Windows" "Haltingale$Windows" "lefts" "[Z") ∈ lw_all := lw_g (lw_at lw_m5 6 rfl) rfl
theorem q991 : (Jvm.Cond.soleField "Haltingale$Windows" "lefts") ∈ lw_all := lw_g (lw_at lw_m5 7 rfl) rfl
theorem q992 : (Jvm.Cond.laysFinal "Haltingale$Windows" "Haltingale$Windows" "rights" "[Z") ∈ lw_all := lw_g (lw_at lw_m5 8 rfl) rfl
theorem q993 : (Jvm.Cond.soleField "Haltingale$Windows" "rights") ∈ lw_all := lw_g (lw_at lw_m5 9 rfl) rfl
theorem q994 : (Jvm.Cond.laysFinal "Haltingale$Windows" "Haltingale$Windows" "seen" "[Z") ∈ lw_all := lw_g (lw_at lw_m5 10 rfl) rfl
theorem q995 : (Jvm.Cond.soleField "Haltingale$Windows" "seen") ∈ lw_all := lw_g (lw_at lw_m5 11 rfl) rfl
theorem q996 : (Jvm.Cond.lays "Haltingale$Windows" "Haltingale$Windows" "grows" "Z") ∈ lw_all := lw_g (lw_at lw_m5 12 rfl) rfl
theorem q997 : (Jvm.Cond.soleField "Haltingale$Windows" "grows") ∈ lw_all := lw_g (lw_at lw_m5 13 rfl) rfl
theorem q998 : (Jvm.Cond.superclass "Haltingale$Windows" "java/lang/Object") ∈ lw_all := lw_g (lw_at lw_m5 14 rfl) rfl
theorem q1001 : (Jvm.Cond.instanceMethod ({ cls := "Haltingale$Windows", name := "close", desc := "()Z" } : Jvm.MethodName)) ∈ lw_all := lw_g (lw_at lw_m5 17 rfl) rfl
theorem q1002 : (Jvm.Cond.selects "Haltingale$Windows" ({ cls := "Haltingale$Windows", name := "close", desc := "()Z" } : Jvm.MethodName) ({ cls := "Haltingale$Windows", name := "close", desc := "()Z" } : Jvm.MethodName)) ∈ lw_all := lw_g (lw_at lw_m5 18 rfl) rfl
theorem q1003 : (Jvm.Cond.code ({ cls := "Haltingale$Windows", name := "close", desc := "()Z" } : Jvm.MethodName) prog_17_method_5_code (2 : Nat) (Option.some Jvm.ClassFile.FieldType.boolean)) ∈ lw_all := lw_g (lw_at lw_m5 19 rfl) rfl
theorem q1004 : (Jvm.Cond.methodLink "Haltingale$Windows" (69 : Nat) ({ cls := "Haltingale$Windows", name := "go", desc := "(I)Z" } : Jvm.MethodName)) ∈ lw_all := lw_g (lw_at lw_m5 20 rfl) rfl
theorem q1005 : (Jvm.Cond.privateMethod ({ cls := "Haltingale$Windows", name := "go", desc := "(I)Z" } : Jvm.MethodName)) ∈ lw_tbl := lw_at lw_m5 21 rfl
theorem q1006 : (Jvm.Cond.instanceMethod ({ cls := "Haltingale$Windows", name := "go", desc := "(I)Z" } : Jvm.MethodName)) ∈ lw_all := lw_g (lw_at lw_m5 22 rfl) rfl
theorem q1007 : (Jvm.Cond.code ({ cls := "Haltingale$Windows", name := "go", desc := "(I)Z" } : Jvm.MethodName) prog_17_method_4_code (13 : Nat) (Option.some Jvm.ClassFile.FieldType.boolean)) ∈ lw_all := lw_g (lw_at lw_m5 23 rfl) rfl
theorem q1008 : (Jvm.Cond.methodLink "Haltingale$Windows" (36 : Nat) ({ cls := "Haltingale$Table", name := "endsAt", desc := "(II)Z" } : Jvm.MethodName)) ∈ lw_all := lw_g (lw_at lw_m5 24 rfl) rfl
theorem q1009 : (Jvm.Cond.methodLink "Haltingale$Windows" (40 : Nat) ({ cls := "Haltingale$Table", name := "cell", desc := "(II)Ljava/util/Optional;" } : Jvm.MethodName)) ∈ lw_all := lw_g (lw_at lw_m5 25 rfl) rfl
theorem q1010 : (Jvm.Cond.methodLink "Haltingale$Windows" (44 : Nat) ({ cls := "java/util/Optional", name := "get", desc := "()Ljava/lang/Object;" } : Jvm.MethodName)) ∈ lw_all := lw_g (lw_at lw_m5 26 rfl) rfl
theorem q1011 : (Jvm.Cond.classLink "Haltingale$Windows" (50 : Nat) "Haltingale$Rule") ∈ lw_all := lw_g (lw_at lw_m5 27 rfl) rfl
theorem q1012 : (Jvm.Cond.methodLink "Haltingale$Windows" (55 : Nat) ({ cls := "Haltingale$Windows", name := "mark", desc := "([ZI)V" } : Jvm.MethodName)) ∈ lw_all := lw_g (lw_at lw_m5 28 rfl) rfl
theorem q1013 : (Jvm.Cond.privateMethod ({ cls := "Haltingale$Windows", name := "mark", desc := "([ZI)V" } : Jvm.MethodName)) ∈ lw_tbl := lw_at lw_m5 29 rfl
theorem q1014 : (Jvm.Cond.instanceMethod ({ cls := "Haltingale$Windows", name := "mark", desc := "([ZI)V" } : Jvm.MethodName)) ∈ lw_all := lw_g (lw_at lw_m5 30 rfl) rfl
theorem q1015 : (Jvm.Cond.code ({ cls := "Haltingale$Windows", name := "mark", desc := "([ZI)V" } : Jvm.MethodName) prog_17_method_3_code (3 : Nat) (Option.none : Option Jvm.ClassFile.FieldType)) ∈ lw_all := lw_g (lw_at lw_m5 31 rfl) rfl
theorem q1016 : (Jvm.Cond.methodLink "Haltingale$Windows" (65 : Nat) ({ cls := "Haltingale$Windows", name := "number", desc := "(IIII)I" } : Jvm.MethodName)) ∈ lw_all := lw_g (lw_at lw_m5 32 rfl) rfl
theorem q1017 : (Jvm.Cond.privateMethod ({ cls := "Haltingale$Windows", name := "number", desc := "(IIII)I" } : Jvm.MethodName)) ∈ lw_tbl := lw_at lw_m5 33 rfl
theorem q1018 : (Jvm.Cond.instanceMethod ({ cls := "Haltingale$Windows", name := "number", desc := "(IIII)I" } : Jvm.MethodName)) ∈ lw_all := lw_g (lw_at lw_m5 34 rfl) rfl
theorem q1019 : (Jvm.Cond.code ({ cls := "Haltingale$Windows", name := "number", desc := "(IIII)I" } : Jvm.MethodName) prog_17_method_2_code (5 : Nat) (Option.some Jvm.ClassFile.FieldType.int)) ∈ lw_all := lw_g (lw_at lw_m5 35 rfl) rfl
theorem q1055 : (Jvm.Cond.selects "Haltingale$Windows" ({ cls := "java/lang/Object", name := "notifyAll", desc := "()V" } : Jvm.MethodName) ({ cls := "java/lang/Object", name := "notifyAll", desc := "()V" } : Jvm.MethodName)) ∈ lw_all := lw_g (lw_at lw_m5 71 rfl) rfl
theorem q1680 : (Jvm.Cond.castable "Haltingale$Windows" "java/lang/Object") ∈ lw_tbl := lw_at lw_m7 216 rfl
theorem in_X13 : ∀ w ∈ wsX130, w ∈ lw_all := lw_in wsX130 [986, 988, 990, 992, 994, 996] (by decide +kernel) (by decide +kernel)
/-! Haltingale$Sum -/
set_option maxRecDepth 100000
def RX14 : String := "Haltingale$Sum"
def TX14 : u_T := fun k => match k with
  | _ => ("Haltingale$Sum", "total", "J", false)
def tyX14 : Nat → FieldType := fun k => match k with
  | _ => .long
abbrev wsX140 : List Cond := u_ws RX14 TX14 1
theorem nmX14 : ∀ a, a < 1 → ∀ b, b < 1 → a ≠ b → (TX14 a).2.1 ≠ (TX14 b).2.1 := by decide +kernel
theorem tyX14_ok : ∀ k, k < 1 → parseFieldDescriptor (TX14 k).2.2.1 = some (tyX14 k) := by decide +kernel
abbrev cX14_init : ByteArray := prog_13_method_1_code
def yX14_init : MethodName := ⟨RX14, "<init>", "(J)V"⟩
def dkwX14_init_0 : List UInt8 := [42, 183, 0, 1, 42, 31, 181, 0, 7, 177]
abbrev dktX14_init_0 : List UInt8 := dkwX14_init_0 ++ []
theorem dksX14_init_0 : cX14_init.data.toList.drop 0 = dktX14_init_0 := by decide +kernel
theorem dX14_init_0 : decode cX14_init 0 = .ok (.aload_n 0, 1) := dk_42 (dk_at dksX14_init_0 0 rfl rfl)
theorem dX14_init_1 : decode cX14_init 1 = .ok (.invokespecial 1, 3) := dk_183 0 1 (dk_at dksX14_init_0 1 rfl rfl)
theorem dX14_init_4 : decode cX14_init 4 = .ok (.aload_n 0, 1) := dk_42 (dk_at dksX14_init_0 4 rfl rfl)
theorem dX14_init_5 : decode cX14_init 5 = .ok (.lload_n 1, 1) := dk_31 (dk_at dksX14_init_0 5 rfl rfl)
theorem dX14_init_6 : decode cX14_init 6 = .ok (.putfield 7, 3) := dk_181 0 7 (dk_at dksX14_init_0 6 rfl rfl)
theorem dX14_init_9 : decode cX14_init 9 = .ok (.return_, 1) := dk_177 (dk_at dksX14_init_0 9 rfl rfl)
abbrev cX14_add : ByteArray := prog_13_method_2_code
def yX14_add : MethodName := ⟨RX14, "add", "(I)J"⟩
def dkwX14_add_0 : List UInt8 := [42, 42, 180, 0, 7, 20, 0, 13, 105, 27, 133, 97, 93, 181, 0, 7, 65, 32, 173]
abbrev dktX14_add_0 : List UInt8 := dkwX14_add_0 ++ []
theorem dksX14_add_0 : cX14_add.data.toList.drop 0 = dktX14_add_0 := by decide +kernel
theorem dX14_add_0 : decode cX14_add 0 = .ok (.aload_n 0, 1) := dk_42 (dk_at dksX14_add_0 0 rfl rfl)
theorem dX14_add_1 : decode cX14_add 1 = .ok (.aload_n 0, 1) := dk_42 (dk_at dksX14_add_0 1 rfl rfl)
theorem dX14_add_2 : decode cX14_add 2 = .ok (.getfield 7, 3) := dk_180 0 7 (dk_at dksX14_add_0 2 rfl rfl)
theorem dX14_add_5 : decode cX14_add 5 = .ok (.ldc2_w 13, 3) := dk_20 0 13 (dk_at dksX14_add_0 5 rfl rfl)
theorem dX14_add_8 : decode cX14_add 8 = .ok (.lmul, 1) := dk_105 (dk_at dksX14_add_0 8 rfl rfl)
theorem dX14_add_9 : decode cX14_add 9 = .ok (.iload_n 1, 1) := dk_27 (dk_at dksX14_add_0 9 rfl rfl)
theorem dX14_add_10 : decode cX14_add 10 = .ok (.i2l, 1) := dk_133 (dk_at dksX14_add_0 10 rfl rfl)
theorem dX14_add_11 : decode cX14_add 11 = .ok (.ladd, 1) := dk_97 (dk_at dksX14_add_0 11 rfl rfl)
theorem dX14_add_12 : decode cX14_add 12 = .ok (.dup2_x1, 1) := dk_93 (dk_at dksX14_add_0 12 rfl rfl)
theorem dX14_add_13 : decode cX14_add 13 = .ok (.putfield 7, 3) := dk_181 0 7 (dk_at dksX14_add_0 13 rfl rfl)
theorem dX14_add_16 : decode cX14_add 16 = .ok (.lstore_n 2, 1) := dk_65 (dk_at dksX14_add_0 16 rfl rfl)
theorem dX14_add_17 : decode cX14_add 17 = .ok (.lload_n 2, 1) := dk_32 (dk_at dksX14_add_0 17 rfl rfl)
theorem dX14_add_18 : decode cX14_add 18 = .ok (.lreturn, 1) := dk_173 (dk_at dksX14_add_0 18 rfl rfl)
theorem q65 : (Jvm.Cond.initialized "Haltingale$Sum") ∈ lw_all := lw_g (lw_at lw_m1 41 rfl) rfl
theorem q188 : (Jvm.Cond.instantiable "Haltingale$Sum" (1 : Nat)) ∈ lw_all := lw_g (lw_at lw_m1 164 rfl) rfl
theorem q191 : (Jvm.Cond.instanceMethod ({ cls := "Haltingale$Sum", name := "<init>", desc := "(J)V" } : Jvm.MethodName)) ∈ lw_all := lw_g (lw_at lw_m1 167 rfl) rfl
theorem q192 : (Jvm.Cond.code ({ cls := "Haltingale$Sum", name := "<init>", desc := "(J)V" } : Jvm.MethodName) prog_13_method_1_code (3 : Nat) (Option.none : Option Jvm.ClassFile.FieldType)) ∈ lw_all := lw_g (lw_at lw_m1 168 rfl) rfl
theorem q193 : (Jvm.Cond.methodLink "Haltingale$Sum" (1 : Nat) ({ cls := "java/lang/Object", name := "<init>", desc := "()V" } : Jvm.MethodName)) ∈ lw_all := lw_g (lw_at lw_m1 169 rfl) rfl
theorem q194 : (Jvm.Cond.fieldLink "Haltingale$Sum" (7 : Nat) "Haltingale$Sum" "total" "J") ∈ lw_all := lw_g (lw_at lw_m1 170 rfl) rfl
theorem q195 : (Jvm.Cond.lays "Haltingale$Sum" "Haltingale$Sum" "total" "J") ∈ lw_all := lw_g (lw_at lw_m1 171 rfl) rfl
theorem q196 : (Jvm.Cond.soleField "Haltingale$Sum" "total") ∈ lw_all := lw_g (lw_at lw_m1 172 rfl) rfl
theorem q197 : (Jvm.Cond.superclass "Haltingale$Sum" "java/lang/Object") ∈ lw_all := lw_g (lw_at lw_m1 173 rfl) rfl
theorem q305 : (Jvm.Cond.instanceMethod ({ cls := "Haltingale$Sum", name := "add", desc := "(I)J" } : Jvm.MethodName)) ∈ lw_all := lw_g (lw_at lw_m2 41 rfl) rfl
theorem q306 : (Jvm.Cond.selects "Haltingale$Sum" ({ cls := "Haltingale$Sum", name := "add", desc := "(I)J" } : Jvm.MethodName) ({ cls := "Haltingale$Sum", name := "add", desc := "(I)J" } : Jvm.MethodName)) ∈ lw_all := lw_g (lw_at lw_m2 42 rfl) rfl
theorem q307 : (Jvm.Cond.code ({ cls := "Haltingale$Sum", name := "add", desc := "(I)J" } : Jvm.MethodName) prog_13_method_2_code (4 : Nat) (Option.some Jvm.ClassFile.FieldType.long)) ∈ lw_all := lw_g (lw_at lw_m2 43 rfl) rfl
theorem q308 : (Jvm.Cond.constantLong "Haltingale$Sum" (13 : Nat) (31 : Int64)) ∈ lw_all := lw_g (lw_at lw_m2 44 rfl) rfl
theorem q530 : (Jvm.Cond.selects "Haltingale$Sum" ({ cls := "java/lang/Object", name := "getClass", desc := "()Ljava/lang/Class;" } : Jvm.MethodName) ({ cls := "java/lang/Object", name := "getClass", desc := "()Ljava/lang/Class;" } : Jvm.MethodName)) ∈ lw_all := lw_g (lw_at lw_m3 26 rfl) rfl
theorem q869 : (Jvm.Cond.selects "Haltingale$Sum" ({ cls := "java/lang/Object", name := "notify", desc := "()V" } : Jvm.MethodName) ({ cls := "java/lang/Object", name := "notify", desc := "()V" } : Jvm.MethodName)) ∈ lw_all := lw_g (lw_at lw_m4 125 rfl) rfl
theorem q1051 : (Jvm.Cond.selects "Haltingale$Sum" ({ cls := "java/lang/Object", name := "notifyAll", desc := "()V" } : Jvm.MethodName) ({ cls := "java/lang/Object", name := "notifyAll", desc := "()V" } : Jvm.MethodName)) ∈ lw_all := lw_g (lw_at lw_m5 67 rfl) rfl
theorem q1683 : (Jvm.Cond.castable "Haltingale$Sum" "java/lang/Object") ∈ lw_tbl := lw_at lw_m7 219 rfl
theorem in_X14 : ∀ w ∈ wsX140, w ∈ lw_all := lw_in wsX140 [195] (by decide +kernel) (by decide +kernel)
/-! Haltingale$Counted -/
set_option maxRecDepth 100000
def RX15 : String := "Haltingale$Counted"
abbrev cX15_count : ByteArray := prog_2_method_1_code
def yX15_count : MethodName := ⟨RX15, "count", "()I"⟩
theorem dX15_count_0 : decode cX15_count 0 = .ok (.iconst 1, 1) := by decide +kernel
theorem dX15_count_1 : decode cX15_count 1 = .ok (.ireturn, 1) := by decide +kernel
theorem q178 : (Jvm.Cond.declares ({ cls := "Haltingale$Counted", name := "count", desc := "()I" } : Jvm.MethodName)) ∈ lw_tbl := lw_at lw_m1 154 rfl
theorem q180 : (Jvm.Cond.instanceMethod ({ cls := "Haltingale$Counted", name := "count", desc := "()I" } : Jvm.MethodName)) ∈ lw_all := lw_g (lw_at lw_m1 156 rfl) rfl
theorem q181 : (Jvm.Cond.publicMethod ({ cls := "Haltingale$Counted", name := "count", desc := "()I" } : Jvm.MethodName)) ∈ lw_tbl := lw_at lw_m1 157 rfl
theorem q182 : (Jvm.Cond.code ({ cls := "Haltingale$Counted", name := "count", desc := "()I" } : Jvm.MethodName) prog_2_method_1_code (1 : Nat) (Option.some Jvm.ClassFile.FieldType.int)) ∈ lw_all := lw_g (lw_at lw_m1 158 rfl) rfl
theorem q1652 : (Jvm.Cond.initialized "Haltingale$Counted") ∈ lw_all := lw_g (lw_at lw_m7 188 rfl) rfl
/-! Haltingale$Kind$1 -/
set_option maxRecDepth 100000
def RX16 : String := "Haltingale$Kind$1"
abbrev cX16_isFit : ByteArray := prog_5_method_2_code
def yX16_isFit : MethodName := ⟨RX16, "isFit", "(II)Z"⟩
def dkwX16_isFit_0 : List UInt8 := [27, 4, 161, 0, 18, 27, 17, 1, 244, 163, 0, 11, 28, 154, 0, 7, 4, 167, 0, 4, 3, 172]
abbrev dktX16_isFit_0 : List UInt8 := dkwX16_isFit_0 ++ []
theorem dksX16_isFit_0 : cX16_isFit.data.toList.drop 0 = dktX16_isFit_0 := by decide +kernel
theorem dX16_isFit_0 : decode cX16_isFit 0 = .ok (.iload_n 1, 1) := dk_27 (dk_at dksX16_isFit_0 0 rfl rfl)
theorem dX16_isFit_1 : decode cX16_isFit 1 = .ok (.iconst 1, 1) := dk_4 (dk_at dksX16_isFit_0 1 rfl rfl)
theorem dX16_isFit_2 : decode cX16_isFit 2 = .ok (.if_icmp .lt 18, 3) := dk_161 0 18 (dk_at dksX16_isFit_0 2 rfl rfl)
theorem dX16_isFit_5 : decode cX16_isFit 5 = .ok (.iload_n 1, 1) := dk_27 (dk_at dksX16_isFit_0 5 rfl rfl)
theorem dX16_isFit_6 : decode cX16_isFit 6 = .ok (.sipush 500, 3) := dk_17 1 244 (dk_at dksX16_isFit_0 6 rfl rfl)
theorem dX16_isFit_9 : decode cX16_isFit 9 = .ok (.if_icmp .gt 11, 3) := dk_163 0 11 (dk_at dksX16_isFit_0 9 rfl rfl)
theorem dX16_isFit_12 : decode cX16_isFit 12 = .ok (.iload_n 2, 1) := dk_28 (dk_at dksX16_isFit_0 12 rfl rfl)
theorem dX16_isFit_13 : decode cX16_isFit 13 = .ok (.ifCond .ne 7, 3) := dk_154 0 7 (dk_at dksX16_isFit_0 13 rfl rfl)
theorem dX16_isFit_16 : decode cX16_isFit 16 = .ok (.iconst 1, 1) := dk_4 (dk_at dksX16_isFit_0 16 rfl rfl)
theorem dX16_isFit_17 : decode cX16_isFit 17 = .ok (.goto 4, 3) := dk_167 0 4 (dk_at dksX16_isFit_0 17 rfl rfl)
theorem dX16_isFit_20 : decode cX16_isFit 20 = .ok (.iconst 0, 1) := dk_3 (dk_at dksX16_isFit_0 20 rfl rfl)
theorem dX16_isFit_21 : decode cX16_isFit 21 = .ok (.ireturn, 1) := dk_172 (dk_at dksX16_isFit_0 21 rfl rfl)
abbrev cX16_takes : ByteArray := prog_5_method_3_code
def yX16_takes : MethodName := ⟨RX16, "takes", "(LHaltingale$Table;II)Z"⟩
def dkwX16_takes_1 : List UInt8 := [25, 4, 180, 0, 22, 28, 160, 0, 7, 4, 167, 0, 4, 3, 172]
abbrev dktX16_takes_1 : List UInt8 := dkwX16_takes_1 ++ []
def dkwX16_takes_0 : List UInt8 := [187, 0, 9, 89, 43, 28, 183, 0, 11, 28, 182, 0, 14, 58, 4, 25, 4, 182, 0, 18, 153, 0, 16]
abbrev dktX16_takes_0 : List UInt8 := dkwX16_takes_0 ++ dktX16_takes_1
theorem dksX16_takes_0 : cX16_takes.data.toList.drop 0 = dktX16_takes_0 := by decide +kernel
theorem dksX16_takes_1 : cX16_takes.data.toList.drop 23 = dktX16_takes_1 := dk_seg dksX16_takes_0 23 rfl rfl
theorem dX16_takes_0 : decode cX16_takes 0 = .ok (.new 9, 3) := dk_187 0 9 (dk_at dksX16_takes_0 0 rfl rfl)
theorem dX16_takes_3 : decode cX16_takes 3 = .ok (.dup, 1) := dk_89 (dk_at dksX16_takes_0 3 rfl rfl)
theorem dX16_takes_4 : decode cX16_takes 4 = .ok (.aload_n 1, 1) := dk_43 (dk_at dksX16_takes_0 4 rfl rfl)
theorem dX16_takes_5 : decode cX16_takes 5 = .ok (.iload_n 2, 1) := dk_28 (dk_at dksX16_takes_0 5 rfl rfl)
theorem dX16_takes_6 : decode cX16_takes 6 = .ok (.invokespecial 11, 3) := dk_183 0 11 (dk_at dksX16_takes_0 6 rfl rfl)
theorem dX16_takes_9 : decode cX16_takes 9 = .ok (.iload_n 2, 1) := dk_28 (dk_at dksX16_takes_0 9 rfl rfl)
theorem dX16_takes_10 : decode cX16_takes 10 = .ok (.invokevirtual 14, 3) := dk_182 0 14 (dk_at dksX16_takes_0 10 rfl rfl)
theorem dX16_takes_13 : decode cX16_takes 13 = .ok (.astore 4, 2) := dk_58 4 (dk_at dksX16_takes_0 13 rfl rfl)
theorem dX16_takes_15 : decode cX16_takes 15 = .ok (.aload 4, 2) := dk_25 4 (dk_at dksX16_takes_0 15 rfl rfl)
theorem dX16_takes_17 : decode cX16_takes 17 = .ok (.invokevirtual 18, 3) := dk_182 0 18 (dk_at dksX16_takes_0 17 rfl rfl)
theorem dX16_takes_20 : decode cX16_takes 20 = .ok (.ifCond .eq 16, 3) := dk_153 0 16 (dk_at dksX16_takes_0 20 rfl rfl)
theorem dX16_takes_23 : decode cX16_takes 23 = .ok (.aload 4, 2) := dk_25 4 (dk_at dksX16_takes_1 0 rfl rfl)
theorem dX16_takes_25 : decode cX16_takes 25 = .ok (.getfield 22, 3) := dk_180 0 22 (dk_at dksX16_takes_1 2 rfl rfl)
theorem dX16_takes_28 : decode cX16_takes 28 = .ok (.iload_n 2, 1) := dk_28 (dk_at dksX16_takes_1 5 rfl rfl)
theorem dX16_takes_29 : decode cX16_takes 29 = .ok (.if_icmp .ne 7, 3) := dk_160 0 7 (dk_at dksX16_takes_1 6 rfl rfl)
theorem dX16_takes_32 : decode cX16_takes 32 = .ok (.iconst 1, 1) := dk_4 (dk_at dksX16_takes_1 9 rfl rfl)
theorem dX16_takes_33 : decode cX16_takes 33 = .ok (.goto 4, 3) := dk_167 0 4 (dk_at dksX16_takes_1 10 rfl rfl)
theorem dX16_takes_36 : decode cX16_takes 36 = .ok (.iconst 0, 1) := dk_3 (dk_at dksX16_takes_1 13 rfl rfl)
theorem dX16_takes_37 : decode cX16_takes 37 = .ok (.ireturn, 1) := dk_172 (dk_at dksX16_takes_1 14 rfl rfl)
theorem q338 : (Jvm.Cond.fieldLinkNest "Haltingale$Kind$1" (22 : Nat) "Haltingale$Walker" "steps" "I" "Haltingale") ∈ lw_tbl := lw_at lw_m2 74 rfl
theorem q404 : (Jvm.Cond.selects "Haltingale$Kind$1" ({ cls := "Haltingale$Kind", name := "ordinal", desc := "()I" } : Jvm.MethodName) ({ cls := "java/lang/Enum", name := "ordinal", desc := "()I" } : Jvm.MethodName)) ∈ lw_all := lw_g (lw_at lw_m2 140 rfl) rfl
theorem q522 : (Jvm.Cond.selects "Haltingale$Kind$1" ({ cls := "java/lang/Object", name := "getClass", desc := "()Ljava/lang/Class;" } : Jvm.MethodName) ({ cls := "java/lang/Object", name := "getClass", desc := "()Ljava/lang/Class;" } : Jvm.MethodName)) ∈ lw_all := lw_g (lw_at lw_m3 18 rfl) rfl
theorem q861 : (Jvm.Cond.selects "Haltingale$Kind$1" ({ cls := "java/lang/Object", name := "notify", desc := "()V" } : Jvm.MethodName) ({ cls := "java/lang/Object", name := "notify", desc := "()V" } : Jvm.MethodName)) ∈ lw_all := lw_g (lw_at lw_m4 117 rfl) rfl
theorem q935 : (Jvm.Cond.selects "Haltingale$Kind$1" ({ cls := "Haltingale$Kind", name := "isFit", desc := "(II)Z" } : Jvm.MethodName) ({ cls := "Haltingale$Kind$1", name := "isFit", desc := "(II)Z" } : Jvm.MethodName)) ∈ lw_all := lw_g (lw_at lw_m4 191 rfl) rfl
theorem q936 : (Jvm.Cond.instanceMethod ({ cls := "Haltingale$Kind$1", name := "isFit", desc := "(II)Z" } : Jvm.MethodName)) ∈ lw_all := lw_g (lw_at lw_m4 192 rfl) rfl
theorem q937 : (Jvm.Cond.code ({ cls := "Haltingale$Kind$1", name := "isFit", desc := "(II)Z" } : Jvm.MethodName) prog_5_method_2_code (3 : Nat) (Option.some Jvm.ClassFile.FieldType.boolean)) ∈ lw_all := lw_g (lw_at lw_m4 193 rfl) rfl
theorem q950 : (Jvm.Cond.selects "Haltingale$Kind$1" ({ cls := "Haltingale$Kind", name := "takes", desc := "(LHaltingale$Table;II)Z" } : Jvm.MethodName) ({ cls := "Haltingale$Kind$1", name := "takes", desc := "(LHaltingale$Table;II)Z" } : Jvm.MethodName)) ∈ lw_all := lw_g (lw_at lw_m4 206 rfl) rfl
theorem q951 : (Jvm.Cond.instanceMethod ({ cls := "Haltingale$Kind$1", name := "takes", desc := "(LHaltingale$Table;II)Z" } : Jvm.MethodName)) ∈ lw_all := lw_g (lw_at lw_m4 207 rfl) rfl
theorem q952 : (Jvm.Cond.code ({ cls := "Haltingale$Kind$1", name := "takes", desc := "(LHaltingale$Table;II)Z" } : Jvm.MethodName) prog_5_method_3_code (5 : Nat) (Option.some Jvm.ClassFile.FieldType.boolean)) ∈ lw_all := lw_g (lw_at lw_m4 208 rfl) rfl
theorem q953 : (Jvm.Cond.classLink "Haltingale$Kind$1" (9 : Nat) "Haltingale$Walker") ∈ lw_all := lw_g (lw_at lw_m4 209 rfl) rfl
theorem q954 : (Jvm.Cond.methodLink "Haltingale$Kind$1" (11 : Nat) ({ cls := "Haltingale$Walker", name := "<init>", desc := "(LHaltingale$Table;I)V" } : Jvm.MethodName)) ∈ lw_all := lw_g (lw_at lw_m4 210 rfl) rfl
theorem q955 : (Jvm.Cond.methodLink "Haltingale$Kind$1" (14 : Nat) ({ cls := "Haltingale$Walker", name := "walk", desc := "(I)LHaltingale$Walker;" } : Jvm.MethodName)) ∈ lw_all := lw_g (lw_at lw_m4 211 rfl) rfl
theorem q956 : (Jvm.Cond.methodLink "Haltingale$Kind$1" (18 : Nat) ({ cls := "Haltingale$Walker", name := "hasStopped", desc := "()Z" } : Jvm.MethodName)) ∈ lw_all := lw_g (lw_at lw_m4 212 rfl) rfl
theorem q1043 : (Jvm.Cond.selects "Haltingale$Kind$1" ({ cls := "java/lang/Object", name := "notifyAll", desc := "()V" } : Jvm.MethodName) ({ cls := "java/lang/Object", name := "notifyAll", desc := "()V" } : Jvm.MethodName)) ∈ lw_all := lw_g (lw_at lw_m5 59 rfl) rfl
theorem q1654 : (Jvm.Cond.castable "Haltingale$Kind$1" "Haltingale$Kind") ∈ lw_tbl := lw_at lw_m7 190 rfl
theorem q1674 : (Jvm.Cond.castable "Haltingale$Kind$1" "java/lang/Object") ∈ lw_tbl := lw_at lw_m7 210 rfl
/-! Haltingale$Kind$3 -/
set_option maxRecDepth 100000
def RX17 : String := "Haltingale$Kind$3"
abbrev cX17_isFit : ByteArray := prog_7_method_2_code
def yX17_isFit : MethodName := ⟨RX17, "isFit", "(II)Z"⟩
def dkwX17_isFit_0 : List UInt8 := [27, 4, 161, 0, 17, 27, 16, 6, 163, 0, 11, 28, 154, 0, 7, 4, 167, 0, 4, 3, 172]
abbrev dktX17_isFit_0 : List UInt8 := dkwX17_isFit_0 ++ []
theorem dksX17_isFit_0 : cX17_isFit.data.toList.drop 0 = dktX17_isFit_0 := by decide +kernel
theorem dX17_isFit_0 : decode cX17_isFit 0 = .ok (.iload_n 1, 1) := dk_27 (dk_at dksX17_isFit_0 0 rfl rfl)
theorem dX17_isFit_1 : decode cX17_isFit 1 = .ok (.iconst 1, 1) := dk_4 (dk_at dksX17_isFit_0 1 rfl rfl)
theorem dX17_isFit_2 : decode cX17_isFit 2 = .ok (.if_icmp .lt 17, 3) := dk_161 0 17 (dk_at dksX17_isFit_0 2 rfl rfl)
theorem dX17_isFit_5 : decode cX17_isFit 5 = .ok (.iload_n 1, 1) := dk_27 (dk_at dksX17_isFit_0 5 rfl rfl)
theorem dX17_isFit_6 : decode cX17_isFit 6 = .ok (.bipush 6, 2) := dk_16 6 (dk_at dksX17_isFit_0 6 rfl rfl)
theorem dX17_isFit_8 : decode cX17_isFit 8 = .ok (.if_icmp .gt 11, 3) := dk_163 0 11 (dk_at dksX17_isFit_0 8 rfl rfl)
theorem dX17_isFit_11 : decode cX17_isFit 11 = .ok (.iload_n 2, 1) := dk_28 (dk_at dksX17_isFit_0 11 rfl rfl)
theorem dX17_isFit_12 : decode cX17_isFit 12 = .ok (.ifCond .ne 7, 3) := dk_154 0 7 (dk_at dksX17_isFit_0 12 rfl rfl)
theorem dX17_isFit_15 : decode cX17_isFit 15 = .ok (.iconst 1, 1) := dk_4 (dk_at dksX17_isFit_0 15 rfl rfl)
theorem dX17_isFit_16 : decode cX17_isFit 16 = .ok (.goto 4, 3) := dk_167 0 4 (dk_at dksX17_isFit_0 16 rfl rfl)
theorem dX17_isFit_19 : decode cX17_isFit 19 = .ok (.iconst 0, 1) := dk_3 (dk_at dksX17_isFit_0 19 rfl rfl)
theorem dX17_isFit_20 : decode cX17_isFit 20 = .ok (.ireturn, 1) := dk_172 (dk_at dksX17_isFit_0 20 rfl rfl)
abbrev cX17_takes : ByteArray := prog_7_method_3_code
def yX17_takes : MethodName := ⟨RX17, "takes", "(LHaltingale$Table;II)Z"⟩
def dkwX17_takes_2 : List UInt8 := [154, 0, 7, 4, 167, 0, 4, 3, 172]
abbrev dktX17_takes_2 : List UInt8 := dkwX17_takes_2 ++ []
def dkwX17_takes_1 : List UInt8 := [159, 0, 30, 21, 4, 28, 163, 0, 24, 25, 5, 180, 0, 22, 28, 160, 0, 15, 25, 5, 182, 0, 26]
abbrev dktX17_takes_1 : List UInt8 := dkwX17_takes_1 ++ dktX17_takes_2
def dkwX17_takes_0 : List UInt8 := [43, 184, 0, 9, 54, 4, 187, 0, 13, 89, 43, 28, 183, 0, 15, 28, 182, 0, 18, 58, 5, 21, 4, 2]
abbrev dktX17_takes_0 : List UInt8 := dkwX17_takes_0 ++ dktX17_takes_1
theorem dksX17_takes_0 : cX17_takes.data.toList.drop 0 = dktX17_takes_0 := by decide +kernel
theorem dksX17_takes_1 : cX17_takes.data.toList.drop 24 = dktX17_takes_1 := dk_seg dksX17_takes_0 24 rfl rfl
theorem dksX17_takes_2 : cX17_takes.data.toList.drop 47 = dktX17_takes_2 := dk_seg dksX17_takes_1 23 rfl rfl
theorem dX17_takes_0 : decode cX17_takes 0 = .ok (.aload_n 1, 1) := dk_43 (dk_at dksX17_takes_0 0 rfl rfl)
theorem dX17_takes_1 : decode cX17_takes 1 = .ok (.invokestatic 9, 3) := dk_184 0 9 (dk_at dksX17_takes_0 1 rfl rfl)
theorem dX17_takes_4 : decode cX17_takes 4 = .ok (.istore 4, 2) := dk_54 4 (dk_at dksX17_takes_0 4 rfl rfl)
theorem dX17_takes_6 : decode cX17_takes 6 = .ok (.new 13, 3) := dk_187 0 13 (dk_at dksX17_takes_0 6 rfl rfl)
theorem dX17_takes_9 : decode cX17_takes 9 = .ok (.dup, 1) := dk_89 (dk_at dksX17_takes_0 9 rfl rfl)
theorem dX17_takes_10 : decode cX17_takes 10 = .ok (.aload_n 1, 1) := dk_43 (dk_at dksX17_takes_0 10 rfl rfl)
theorem dX17_takes_11 : decode cX17_takes 11 = .ok (.iload_n 2, 1) := dk_28 (dk_at dksX17_takes_0 11 rfl rfl)
theorem dX17_takes_12 : decode cX17_takes 12 = .ok (.invokespecial 15, 3) := dk_183 0 15 (dk_at dksX17_takes_0 12 rfl rfl)
theorem dX17_takes_15 : decode cX17_takes 15 = .ok (.iload_n 2, 1) := dk_28 (dk_at dksX17_takes_0 15 rfl rfl)
theorem dX17_takes_16 : decode cX17_takes 16 = .ok (.invokevirtual 18, 3) := dk_182 0 18 (dk_at dksX17_takes_0 16 rfl rfl)
theorem dX17_takes_19 : decode cX17_takes 19 = .ok (.astore 5, 2) := dk_58 5 (dk_at dksX17_takes_0 19 rfl rfl)
theorem dX17_takes_21 : decode cX17_takes 21 = .ok (.iload 4, 2) := dk_21 4 (dk_at dksX17_takes_0 21 rfl rfl)
theorem dX17_takes_23 : decode cX17_takes 23 = .ok (.iconst (-1), 1) := dk_2 (dk_at dksX17_takes_0 23 rfl rfl)
theorem dX17_takes_24 : decode cX17_takes 24 = .ok (.if_icmp .eq 30, 3) := dk_159 0 30 (dk_at dksX17_takes_1 0 rfl rfl)
theorem dX17_takes_27 : decode cX17_takes 27 = .ok (.iload 4, 2) := dk_21 4 (dk_at dksX17_takes_1 3 rfl rfl)
theorem dX17_takes_29 : decode cX17_takes 29 = .ok (.iload_n 2, 1) := dk_28 (dk_at dksX17_takes_1 5 rfl rfl)
theorem dX17_takes_30 : decode cX17_takes 30 = .ok (.if_icmp .gt 24, 3) := dk_163 0 24 (dk_at dksX17_takes_1 6 rfl rfl)
theorem dX17_takes_33 : decode cX17_takes 33 = .ok (.aload 5, 2) := dk_25 5 (dk_at dksX17_takes_1 9 rfl rfl)
theorem dX17_takes_35 : decode cX17_takes 35 = .ok (.getfield 22, 3) := dk_180 0 22 (dk_at dksX17_takes_1 11 rfl rfl)
theorem dX17_takes_38 : decode cX17_takes 38 = .ok (.iload_n 2, 1) := dk_28 (dk_at dksX17_takes_1 14 rfl rfl)
theorem dX17_takes_39 : decode cX17_takes 39 = .ok (.if_icmp .ne 15, 3) := dk_160 0 15 (dk_at dksX17_takes_1 15 rfl rfl)
theorem dX17_takes_42 : decode cX17_takes 42 = .ok (.aload 5, 2) := dk_25 5 (dk_at dksX17_takes_1 18 rfl rfl)
theorem dX17_takes_44 : decode cX17_takes 44 = .ok (.invokevirtual 26, 3) := dk_182 0 26 (dk_at dksX17_takes_1 20 rfl rfl)
theorem dX17_takes_47 : decode cX17_takes 47 = .ok (.ifCond .ne 7, 3) := dk_154 0 7 (dk_at dksX17_takes_2 0 rfl rfl)
theorem dX17_takes_50 : decode cX17_takes 50 = .ok (.iconst 1, 1) := dk_4 (dk_at dksX17_takes_2 3 rfl rfl)
theorem dX17_takes_51 : decode cX17_takes 51 = .ok (.goto 4, 3) := dk_167 0 4 (dk_at dksX17_takes_2 4 rfl rfl)
theorem dX17_takes_54 : decode cX17_takes 54 = .ok (.iconst 0, 1) := dk_3 (dk_at dksX17_takes_2 7 rfl rfl)
theorem dX17_takes_55 : decode cX17_takes 55 = .ok (.ireturn, 1) := dk_172 (dk_at dksX17_takes_2 8 rfl rfl)
theorem q339 : (Jvm.Cond.fieldLinkNest "Haltingale$Kind$3" (22 : Nat) "Haltingale$Walker" "steps" "I" "Haltingale") ∈ lw_tbl := lw_at lw_m2 75 rfl
theorem q406 : (Jvm.Cond.selects "Haltingale$Kind$3" ({ cls := "Haltingale$Kind", name := "ordinal", desc := "()I" } : Jvm.MethodName) ({ cls := "java/lang/Enum", name := "ordinal", desc := "()I" } : Jvm.MethodName)) ∈ lw_all := lw_g (lw_at lw_m2 142 rfl) rfl
theorem q524 : (Jvm.Cond.selects "Haltingale$Kind$3" ({ cls := "java/lang/Object", name := "getClass", desc := "()Ljava/lang/Class;" } : Jvm.MethodName) ({ cls := "java/lang/Object", name := "getClass", desc := "()Ljava/lang/Class;" } : Jvm.MethodName)) ∈ lw_all := lw_g (lw_at lw_m3 20 rfl) rfl
theorem q863 : (Jvm.Cond.selects "Haltingale$Kind$3" ({ cls := "java/lang/Object", name := "notify", desc := "()V" } : Jvm.MethodName) ({ cls := "java/lang/Object", name := "notify", desc := "()V" } : Jvm.MethodName)) ∈ lw_all := lw_g (lw_at lw_m4 119 rfl) rfl
theorem q941 : (Jvm.Cond.selects "Haltingale$Kind$3" ({ cls := "Haltingale$Kind", name := "isFit", desc := "(II)Z" } : Jvm.MethodName) ({ cls := "Haltingale$Kind$3", name := "isFit", desc := "(II)Z" } : Jvm.MethodName)) ∈ lw_all := lw_g (lw_at lw_m4 197 rfl) rfl
theorem q942 : (Jvm.Cond.instanceMethod ({ cls := "Haltingale$Kind$3", name := "isFit", desc := "(II)Z" } : Jvm.MethodName)) ∈ lw_all := lw_g (lw_at lw_m4 198 rfl) rfl
theorem q943 : (Jvm.Cond.code ({ cls := "Haltingale$Kind$3", name := "isFit", desc := "(II)Z" } : Jvm.MethodName) prog_7_method_2_code (3 : Nat) (Option.some Jvm.ClassFile.FieldType.boolean)) ∈ lw_all := lw_g (lw_at lw_m4 199 rfl) rfl
theorem q963 : (Jvm.Cond.selects "Haltingale$Kind$3" ({ cls := "Haltingale$Kind", name := "takes", desc := "(LHaltingale$Table;II)Z" } : Jvm.MethodName) ({ cls := "Haltingale$Kind$3", name := "takes", desc := "(LHaltingale$Table;II)Z" } : Jvm.MethodName)) ∈ lw_all := lw_g (lw_at lw_m4 219 rfl) rfl
theorem q964 : (Jvm.Cond.instanceMethod ({ cls := "Haltingale$Kind$3", name := "takes", desc := "(LHaltingale$Table;II)Z" } : Jvm.MethodName)) ∈ lw_all := lw_g (lw_at lw_m4 220 rfl) rfl
theorem q965 : (Jvm.Cond.code ({ cls := "Haltingale$Kind$3", name := "takes", desc := "(LHaltingale$Table;II)Z" } : Jvm.MethodName) prog_7_method_3_code (6 : Nat) (Option.some Jvm.ClassFile.FieldType.boolean)) ∈ lw_all := lw_g (lw_at lw_m4 221 rfl) rfl
theorem q966 : (Jvm.Cond.methodLinkNest "Haltingale$Kind$3" (9 : Nat) ({ cls := "Haltingale", name := "emptyDepth", desc := "(LHaltingale$Table;)I" } : Jvm.MethodName) "Haltingale") ∈ lw_tbl := lw_at lw_m4 222 rfl
theorem q967 : (Jvm.Cond.classLink "Haltingale$Kind$3" (13 : Nat) "Haltingale$Walker") ∈ lw_all := lw_g (lw_at lw_m4 223 rfl) rfl
theorem q968 : (Jvm.Cond.methodLink "Haltingale$Kind$3" (15 : Nat) ({ cls := "Haltingale$Walker", name := "<init>", desc := "(LHaltingale$Table;I)V" } : Jvm.MethodName)) ∈ lw_all := lw_g (lw_at lw_m4 224 rfl) rfl
theorem q969 : (Jvm.Cond.methodLink "Haltingale$Kind$3" (18 : Nat) ({ cls := "Haltingale$Walker", name := "walk", desc := "(I)LHaltingale$Walker;" } : Jvm.MethodName)) ∈ lw_all := lw_g (lw_at lw_m4 225 rfl) rfl
theorem q970 : (Jvm.Cond.methodLink "Haltingale$Kind$3" (26 : Nat) ({ cls := "Haltingale$Walker", name := "hasStopped", desc := "()Z" } : Jvm.MethodName)) ∈ lw_all := lw_g (lw_at lw_m4 226 rfl) rfl
theorem q1045 : (Jvm.Cond.selects "Haltingale$Kind$3" ({ cls := "java/lang/Object", name := "notifyAll", desc := "()V" } : Jvm.MethodName) ({ cls := "java/lang/Object", name := "notifyAll", desc := "()V" } : Jvm.MethodName)) ∈ lw_all := lw_g (lw_at lw_m5 61 rfl) rfl
theorem q1656 : (Jvm.Cond.castable "Haltingale$Kind$3" "Haltingale$Kind") ∈ lw_tbl := lw_at lw_m7 192 rfl
theorem q1676 : (Jvm.Cond.castable "Haltingale$Kind$3" "java/lang/Object") ∈ lw_tbl := lw_at lw_m7 212 rfl
/-! Haltingale$Kind$2 -/
set_option maxRecDepth 100000
def RX18 : String := "Haltingale$Kind$2"
abbrev cX18_isFit : ByteArray := prog_6_method_2_code
def yX18_isFit : MethodName := ⟨RX18, "isFit", "(II)Z"⟩
def dkwX18_isFit_1 : List UInt8 := [167, 0, 4, 3, 172]
abbrev dktX18_isFit_1 : List UInt8 := dkwX18_isFit_1 ++ []
def dkwX18_isFit_0 : List UInt8 := [27, 155, 0, 26, 27, 17, 0, 150, 163, 0, 19, 28, 4, 161, 0, 14, 28, 17, 0, 150, 163, 0, 7, 4]
abbrev dktX18_isFit_0 : List UInt8 := dkwX18_isFit_0 ++ dktX18_isFit_1
theorem dksX18_isFit_0 : cX18_isFit.data.toList.drop 0 = dktX18_isFit_0 := by decide +kernel
theorem dksX18_isFit_1 : cX18_isFit.data.toList.drop 24 = dktX18_isFit_1 := dk_seg dksX18_isFit_0 24 rfl rfl
theorem dX18_isFit_0 : decode cX18_isFit 0 = .ok (.iload_n 1, 1) := dk_27 (dk_at dksX18_isFit_0 0 rfl rfl)
theorem dX18_isFit_1 : decode cX18_isFit 1 = .ok (.ifCond .lt 26, 3) := dk_155 0 26 (dk_at dksX18_isFit_0 1 rfl rfl)
theorem dX18_isFit_4 : decode cX18_isFit 4 = .ok (.iload_n 1, 1) := dk_27 (dk_at dksX18_isFit_0 4 rfl rfl)
theorem dX18_isFit_5 : decode cX18_isFit 5 = .ok (.sipush 150, 3) := dk_17 0 150 (dk_at dksX18_isFit_0 5 rfl rfl)
theorem dX18_isFit_8 : decode cX18_isFit 8 = .ok (.if_icmp .gt 19, 3) := dk_163 0 19 (dk_at dksX18_isFit_0 8 rfl rfl)
theorem dX18_isFit_11 : decode cX18_isFit 11 = .ok (.iload_n 2, 1) := dk_28 (dk_at dksX18_isFit_0 11 rfl rfl)
theorem dX18_isFit_12 : decode cX18_isFit 12 = .ok (.iconst 1, 1) := dk_4 (dk_at dksX18_isFit_0 12 rfl rfl)
theorem dX18_isFit_13 : decode cX18_isFit 13 = .ok (.if_icmp .lt 14, 3) := dk_161 0 14 (dk_at dksX18_isFit_0 13 rfl rfl)
theorem dX18_isFit_16 : decode cX18_isFit 16 = .ok (.iload_n 2, 1) := dk_28 (dk_at dksX18_isFit_0 16 rfl rfl)
theorem dX18_isFit_17 : decode cX18_isFit 17 = .ok (.sipush 150, 3) := dk_17 0 150 (dk_at dksX18_isFit_0 17 rfl rfl)
theorem dX18_isFit_20 : decode cX18_isFit 20 = .ok (.if_icmp .gt 7, 3) := dk_163 0 7 (dk_at dksX18_isFit_0 20 rfl rfl)
theorem dX18_isFit_23 : decode cX18_isFit 23 = .ok (.iconst 1, 1) := dk_4 (dk_at dksX18_isFit_0 23 rfl rfl)
theorem dX18_isFit_24 : decode cX18_isFit 24 = .ok (.goto 4, 3) := dk_167 0 4 (dk_at dksX18_isFit_1 0 rfl rfl)
theorem dX18_isFit_27 : decode cX18_isFit 27 = .ok (.iconst 0, 1) := dk_3 (dk_at dksX18_isFit_1 3 rfl rfl)
theorem dX18_isFit_28 : decode cX18_isFit 28 = .ok (.ireturn, 1) := dk_172 (dk_at dksX18_isFit_1 4 rfl rfl)
abbrev cX18_takes : ByteArray := prog_6_method_3_code
def yX18_takes : MethodName := ⟨RX18, "takes", "(LHaltingale$Table;II)Z"⟩
def dkwX18_takes_0 : List UInt8 := [43, 28, 29, 184, 0, 9, 172]
abbrev dktX18_takes_0 : List UInt8 := dkwX18_takes_0 ++ []
theorem dksX18_takes_0 : cX18_takes.data.toList.drop 0 = dktX18_takes_0 := by decide +kernel
theorem dX18_takes_0 : decode cX18_takes 0 = .ok (.aload_n 1, 1) := dk_43 (dk_at dksX18_takes_0 0 rfl rfl)
theorem dX18_takes_1 : decode cX18_takes 1 = .ok (.iload_n 2, 1) := dk_28 (dk_at dksX18_takes_0 1 rfl rfl)
theorem dX18_takes_2 : decode cX18_takes 2 = .ok (.iload_n 3, 1) := dk_29 (dk_at dksX18_takes_0 2 rfl rfl)
theorem dX18_takes_3 : decode cX18_takes 3 = .ok (.invokestatic 9, 3) := dk_184 0 9 (dk_at dksX18_takes_0 3 rfl rfl)
theorem dX18_takes_6 : decode cX18_takes 6 = .ok (.ireturn, 1) := dk_172 (dk_at dksX18_takes_0 6 rfl rfl)
theorem q405 : (Jvm.Cond.selects "Haltingale$Kind$2" ({ cls := "Haltingale$Kind", name := "ordinal", desc := "()I" } : Jvm.MethodName) ({ cls := "java/lang/Enum", name := "ordinal", desc := "()I" } : Jvm.MethodName)) ∈ lw_all := lw_g (lw_at lw_m2 141 rfl) rfl
theorem q523 : (Jvm.Cond.selects "Haltingale$Kind$2" ({ cls := "java/lang/Object", name := "getClass", desc := "()Ljava/lang/Class;" } : Jvm.MethodName) ({ cls := "java/lang/Object", name := "getClass", desc := "()Ljava/lang/Class;" } : Jvm.MethodName)) ∈ lw_all := lw_g (lw_at lw_m3 19 rfl) rfl
theorem q862 : (Jvm.Cond.selects "Haltingale$Kind$2" ({ cls := "java/lang/Object", name := "notify", desc := "()V" } : Jvm.MethodName) ({ cls := "java/lang/Object", name := "notify", desc := "()V" } : Jvm.MethodName)) ∈ lw_all := lw_g (lw_at lw_m4 118 rfl) rfl
theorem q938 : (Jvm.Cond.selects "Haltingale$Kind$2" ({ cls := "Haltingale$Kind", name := "isFit", desc := "(II)Z" } : Jvm.MethodName) ({ cls := "Haltingale$Kind$2", name := "isFit", desc := "(II)Z" } : Jvm.MethodName)) ∈ lw_all := lw_g (lw_at lw_m4 194 rfl) rfl
theorem q939 : (Jvm.Cond.instanceMethod ({ cls := "Haltingale$Kind$2", name := "isFit", desc := "(II)Z" } : Jvm.MethodName)) ∈ lw_all := lw_g (lw_at lw_m4 195 rfl) rfl
theorem q940 : (Jvm.Cond.code ({ cls := "Haltingale$Kind$2", name := "isFit", desc := "(II)Z" } : Jvm.MethodName) prog_6_method_2_code (3 : Nat) (Option.some Jvm.ClassFile.FieldType.boolean)) ∈ lw_all := lw_g (lw_at lw_m4 196 rfl) rfl
theorem q957 : (Jvm.Cond.selects "Haltingale$Kind$2" ({ cls := "Haltingale$Kind", name := "takes", desc := "(LHaltingale$Table;II)Z" } : Jvm.MethodName) ({ cls := "Haltingale$Kind$2", name := "takes", desc := "(LHaltingale$Table;II)Z" } : Jvm.MethodName)) ∈ lw_all := lw_g (lw_at lw_m4 213 rfl) rfl
theorem q958 : (Jvm.Cond.instanceMethod ({ cls := "Haltingale$Kind$2", name := "takes", desc := "(LHaltingale$Table;II)Z" } : Jvm.MethodName)) ∈ lw_all := lw_g (lw_at lw_m4 214 rfl) rfl
theorem q959 : (Jvm.Cond.code ({ cls := "Haltingale$Kind$2", name := "takes", desc := "(LHaltingale$Table;II)Z" } : Jvm.MethodName) prog_6_method_3_code (4 : Nat) (Option.some Jvm.ClassFile.FieldType.boolean)) ∈ lw_all := lw_g (lw_at lw_m4 215 rfl) rfl
theorem q960 : (Jvm.Cond.methodLinkNest "Haltingale$Kind$2" (9 : Nat) ({ cls := "Haltingale", name := "isCycle", desc := "(LHaltingale$Table;II)Z" } : Jvm.MethodName) "Haltingale") ∈ lw_tbl := lw_at lw_m4 216 rfl
theorem q1044 : (Jvm.Cond.selects "Haltingale$Kind$2" ({ cls := "java/lang/Object", name := "notifyAll", desc := "()V" } : Jvm.MethodName) ({ cls := "java/lang/Object", name := "notifyAll", desc := "()V" } : Jvm.MethodName)) ∈ lw_all := lw_g (lw_at lw_m5 60 rfl) rfl
theorem q1655 : (Jvm.Cond.castable "Haltingale$Kind$2" "Haltingale$Kind") ∈ lw_tbl := lw_at lw_m7 191 rfl
theorem q1675 : (Jvm.Cond.castable "Haltingale$Kind$2" "java/lang/Object") ∈ lw_tbl := lw_at lw_m7 211 rfl
/-! Haltingale$Kind$4 -/
set_option maxRecDepth 100000
def RX19 : String := "Haltingale$Kind$4"
abbrev cX19_isFit : ByteArray := prog_8_method_2_code
def yX19_isFit : MethodName := ⟨RX19, "isFit", "(II)Z"⟩
def dkwX19_isFit_0 : List UInt8 := [27, 4, 161, 0, 16, 27, 6, 163, 0, 11, 28, 154, 0, 7, 4, 167, 0, 4, 3, 172]
abbrev dktX19_isFit_0 : List UInt8 := dkwX19_isFit_0 ++ []
theorem dksX19_isFit_0 : cX19_isFit.data.toList.drop 0 = dktX19_isFit_0 := by decide +kernel
theorem dX19_isFit_0 : decode cX19_isFit 0 = .ok (.iload_n 1, 1) := dk_27 (dk_at dksX19_isFit_0 0 rfl rfl)
theorem dX19_isFit_1 : decode cX19_isFit 1 = .ok (.iconst 1, 1) := dk_4 (dk_at dksX19_isFit_0 1 rfl rfl)
theorem dX19_isFit_2 : decode cX19_isFit 2 = .ok (.if_icmp .lt 16, 3) := dk_161 0 16 (dk_at dksX19_isFit_0 2 rfl rfl)
theorem dX19_isFit_5 : decode cX19_isFit 5 = .ok (.iload_n 1, 1) := dk_27 (dk_at dksX19_isFit_0 5 rfl rfl)
theorem dX19_isFit_6 : decode cX19_isFit 6 = .ok (.iconst 3, 1) := dk_6 (dk_at dksX19_isFit_0 6 rfl rfl)
theorem dX19_isFit_7 : decode cX19_isFit 7 = .ok (.if_icmp .gt 11, 3) := dk_163 0 11 (dk_at dksX19_isFit_0 7 rfl rfl)
theorem dX19_isFit_10 : decode cX19_isFit 10 = .ok (.iload_n 2, 1) := dk_28 (dk_at dksX19_isFit_0 10 rfl rfl)
theorem dX19_isFit_11 : decode cX19_isFit 11 = .ok (.ifCond .ne 7, 3) := dk_154 0 7 (dk_at dksX19_isFit_0 11 rfl rfl)
theorem dX19_isFit_14 : decode cX19_isFit 14 = .ok (.iconst 1, 1) := dk_4 (dk_at dksX19_isFit_0 14 rfl rfl)
theorem dX19_isFit_15 : decode cX19_isFit 15 = .ok (.goto 4, 3) := dk_167 0 4 (dk_at dksX19_isFit_0 15 rfl rfl)
theorem dX19_isFit_18 : decode cX19_isFit 18 = .ok (.iconst 0, 1) := dk_3 (dk_at dksX19_isFit_0 18 rfl rfl)
theorem dX19_isFit_19 : decode cX19_isFit 19 = .ok (.ireturn, 1) := dk_172 (dk_at dksX19_isFit_0 19 rfl rfl)
abbrev cX19_takes : ByteArray := prog_8_method_3_code
def yX19_takes : MethodName := ⟨RX19, "takes", "(LHaltingale$Table;II)Z"⟩
def dkwX19_takes_0 : List UInt8 := [187, 0, 9, 89, 43, 28, 183, 0, 11, 182, 0, 14, 172]
abbrev dktX19_takes_0 : List UInt8 := dkwX19_takes_0 ++ []
theorem dksX19_takes_0 : cX19_takes.data.toList.drop 0 = dktX19_takes_0 := by decide +kernel
theorem dX19_takes_0 : decode cX19_takes 0 = .ok (.new 9, 3) := dk_187 0 9 (dk_at dksX19_takes_0 0 rfl rfl)
theorem dX19_takes_3 : decode cX19_takes 3 = .ok (.dup, 1) := dk_89 (dk_at dksX19_takes_0 3 rfl rfl)
theorem dX19_takes_4 : decode cX19_takes 4 = .ok (.aload_n 1, 1) := dk_43 (dk_at dksX19_takes_0 4 rfl rfl)
theorem dX19_takes_5 : decode cX19_takes 5 = .ok (.iload_n 2, 1) := dk_28 (dk_at dksX19_takes_0 5 rfl rfl)
theorem dX19_takes_6 : decode cX19_takes 6 = .ok (.invokespecial 11, 3) := dk_183 0 11 (dk_at dksX19_takes_0 6 rfl rfl)
theorem dX19_takes_9 : decode cX19_takes 9 = .ok (.invokevirtual 14, 3) := dk_182 0 14 (dk_at dksX19_takes_0 9 rfl rfl)
theorem dX19_takes_12 : decode cX19_takes 12 = .ok (.ireturn, 1) := dk_172 (dk_at dksX19_takes_0 12 rfl rfl)
theorem q407 : (Jvm.Cond.selects "Haltingale$Kind$4" ({ cls := "Haltingale$Kind", name := "ordinal", desc := "()I" } : Jvm.MethodName) ({ cls := "java/lang/Enum", name := "ordinal", desc := "()I" } : Jvm.MethodName)) ∈ lw_all := lw_g (lw_at lw_m2 143 rfl) rfl
theorem q525 : (Jvm.Cond.selects "Haltingale$Kind$4" ({ cls := "java/lang/Object", name := "getClass", desc := "()Ljava/lang/Class;" } : Jvm.MethodName) ({ cls := "java/lang/Object", name := "getClass", desc := "()Ljava/lang/Class;" } : Jvm.MethodName)) ∈ lw_all := lw_g (lw_at lw_m3 21 rfl) rfl
theorem q864 : (Jvm.Cond.selects "Haltingale$Kind$4" ({ cls := "java/lang/Object", name := "notify", desc := "()V" } : Jvm.MethodName) ({ cls := "java/lang/Object", name := "notify", desc := "()V" } : Jvm.MethodName)) ∈ lw_all := lw_g (lw_at lw_m4 120 rfl) rfl
theorem q944 : (Jvm.Cond.selects "Haltingale$Kind$4" ({ cls := "Haltingale$Kind", name := "isFit", desc := "(II)Z" } : Jvm.MethodName) ({ cls := "Haltingale$Kind$4", name := "isFit", desc := "(II)Z" } : Jvm.MethodName)) ∈ lw_all := lw_g (lw_at lw_m4 200 rfl) rfl
theorem q945 : (Jvm.Cond.instanceMethod ({ cls := "Haltingale$Kind$4", name := "isFit", desc := "(II)Z" } : Jvm.MethodName)) ∈ lw_all := lw_g (lw_at lw_m4 201 rfl) rfl
theorem q946 : (Jvm.Cond.code ({ cls := "Haltingale$Kind$4", name := "isFit", desc := "(II)Z" } : Jvm.MethodName) prog_8_method_2_code (3 : Nat) (Option.some Jvm.ClassFile.FieldType.boolean)) ∈ lw_all := lw_g (lw_at lw_m4 202 rfl) rfl
theorem q971 : (Jvm.Cond.selects "Haltingale$Kind$4" ({ cls := "Haltingale$Kind", name := "takes", desc := "(LHaltingale$Table;II)Z" } : Jvm.MethodName) ({ cls := "Haltingale$Kind$4", name := "takes", desc := "(LHaltingale$Table;II)Z" } : Jvm.MethodName)) ∈ lw_all := lw_g (lw_at lw_m4 227 rfl) rfl
theorem q972 : (Jvm.Cond.instanceMethod ({ cls := "Haltingale$Kind$4", name := "takes", desc := "(LHaltingale$Table;II)Z" } : Jvm.MethodName)) ∈ lw_all := lw_g (lw_at lw_m4 228 rfl) rfl
theorem q973 : (Jvm.Cond.code ({ cls := "Haltingale$Kind$4", name := "takes", desc := "(LHaltingale$Table;II)Z" } : Jvm.MethodName) prog_8_method_3_code (4 : Nat) (Option.some Jvm.ClassFile.FieldType.boolean)) ∈ lw_all := lw_g (lw_at lw_m4 229 rfl) rfl
theorem q974 : (Jvm.Cond.classLink "Haltingale$Kind$4" (9 : Nat) "Haltingale$Windows") ∈ lw_all := lw_g (lw_at lw_m4 230 rfl) rfl
theorem q976 : (Jvm.Cond.methodLink "Haltingale$Kind$4" (11 : Nat) ({ cls := "Haltingale$Windows", name := "<init>", desc := "(LHaltingale$Table;I)V" } : Jvm.MethodName)) ∈ lw_all := lw_g (lw_at lw_m4 232 rfl) rfl
theorem q1000 : (Jvm.Cond.methodLink "Haltingale$Kind$4" (14 : Nat) ({ cls := "Haltingale$Windows", name := "close", desc := "()Z" } : Jvm.MethodName)) ∈ lw_all := lw_g (lw_at lw_m5 16 rfl) rfl
theorem q1046 : (Jvm.Cond.selects "Haltingale$Kind$4" ({ cls := "java/lang/Object", name := "notifyAll", desc := "()V" } : Jvm.MethodName) ({ cls := "java/lang/Object", name := "notifyAll", desc := "()V" } : Jvm.MethodName)) ∈ lw_all := lw_g (lw_at lw_m5 62 rfl) rfl
theorem q1657 : (Jvm.Cond.castable "Haltingale$Kind$4" "Haltingale$Kind") ∈ lw_tbl := lw_at lw_m7 193 rfl
theorem q1677 : (Jvm.Cond.castable "Haltingale$Kind$4" "java/lang/Object") ∈ lw_tbl := lw_at lw_m7 213 rfl
