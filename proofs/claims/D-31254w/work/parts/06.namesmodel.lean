/-! CheckoutDeskModel -/
set_option maxRecDepth 100000
def RX4 : String := "CheckoutDeskModel"
def TX4 : u_T := fun k => match k with
  | 0 => ("CheckoutDeskModel", "w", "[I", true)
  | 1 => ("CheckoutDeskModel", "kept", "[I", true)
  | 2 => ("CheckoutDeskModel", "log", "[I", true)
  | 3 => ("CheckoutDeskModel", "hours", "[I", true)
  | 4 => ("CheckoutDeskModel", "events", "I", false)
  | 5 => ("CheckoutDeskModel", "isRedoing", "Z", false)
  | _ => ("CheckoutDeskModel", "thrown", "I", false)
def tyX4 : Nat → FieldType := fun k => match k with
  | 0 => .array .int
  | 1 => .array .int
  | 2 => .array .int
  | 3 => .array .int
  | 4 => .int
  | 5 => .boolean
  | _ => .int
abbrev wsX40 : List Cond := u_ws RX4 TX4 7
theorem nmX4 : ∀ a, a < 7 → ∀ b, b < 7 → a ≠ b → (TX4 a).2.1 ≠ (TX4 b).2.1 := by decide +kernel
theorem tyX4_ok : ∀ k, k < 7 → parseFieldDescriptor (TX4 k).2.2.1 = some (tyX4 k) := by decide +kernel
abbrev cX4_init : ByteArray := prog_38_method_1_code
def yX4_init : MethodName := ⟨RX4, "<init>", "()V"⟩
def dkwX4_init_1 : List UInt8 := [17, 46, 224, 188, 10, 181, 0, 16, 42, 17, 7, 208, 188, 10, 181, 0, 19, 42, 182, 0, 22, 177]
abbrev dktX4_init_1 : List UInt8 := dkwX4_init_1 ++ []
def dkwX4_init_0 : List UInt8 := [42, 183, 0, 1, 42, 17, 3, 105, 188, 10, 181, 0, 9, 42, 17, 3, 105, 188, 10, 181, 0, 13, 42]
abbrev dktX4_init_0 : List UInt8 := dkwX4_init_0 ++ dktX4_init_1
theorem dksX4_init_0 : cX4_init.data.toList.drop 0 = dktX4_init_0 := by decide +kernel
theorem dksX4_init_1 : cX4_init.data.toList.drop 23 = dktX4_init_1 := dk_seg dksX4_init_0 23 rfl rfl
theorem dX4_init_0 : decode cX4_init 0 = .ok (.aload_n 0, 1) := dk_42 (dk_at dksX4_init_0 0 rfl rfl)
theorem dX4_init_1 : decode cX4_init 1 = .ok (.invokespecial 1, 3) := dk_183 0 1 (dk_at dksX4_init_0 1 rfl rfl)
theorem dX4_init_4 : decode cX4_init 4 = .ok (.aload_n 0, 1) := dk_42 (dk_at dksX4_init_0 4 rfl rfl)
theorem dX4_init_5 : decode cX4_init 5 = .ok (.sipush 873, 3) := dk_17 3 105 (dk_at dksX4_init_0 5 rfl rfl)
theorem dX4_init_8 : decode cX4_init 8 = .ok (.newarray .int, 2) := dk_188_10 (dk_at dksX4_init_0 8 rfl rfl)
theorem dX4_init_10 : decode cX4_init 10 = .ok (.putfield 9, 3) := dk_181 0 9 (dk_at dksX4_init_0 10 rfl rfl)
theorem dX4_init_13 : decode cX4_init 13 = .ok (.aload_n 0, 1) := dk_42 (dk_at dksX4_init_0 13 rfl rfl)
theorem dX4_init_14 : decode cX4_init 14 = .ok (.sipush 873, 3) := dk_17 3 105 (dk_at dksX4_init_0 14 rfl rfl)
theorem dX4_init_17 : decode cX4_init 17 = .ok (.newarray .int, 2) := dk_188_10 (dk_at dksX4_init_0 17 rfl rfl)
theorem dX4_init_19 : decode cX4_init 19 = .ok (.putfield 13, 3) := dk_181 0 13 (dk_at dksX4_init_0 19 rfl rfl)
theorem dX4_init_22 : decode cX4_init 22 = .ok (.aload_n 0, 1) := dk_42 (dk_at dksX4_init_0 22 rfl rfl)
theorem dX4_init_23 : decode cX4_init 23 = .ok (.sipush 12000, 3) := dk_17 46 224 (dk_at dksX4_init_1 0 rfl rfl)
theorem dX4_init_26 : decode cX4_init 26 = .ok (.newarray .int, 2) := dk_188_10 (dk_at dksX4_init_1 3 rfl rfl)
theorem dX4_init_28 : decode cX4_init 28 = .ok (.putfield 16, 3) := dk_181 0 16 (dk_at dksX4_init_1 5 rfl rfl)
theorem dX4_init_31 : decode cX4_init 31 = .ok (.aload_n 0, 1) := dk_42 (dk_at dksX4_init_1 8 rfl rfl)
theorem dX4_init_32 : decode cX4_init 32 = .ok (.sipush 2000, 3) := dk_17 7 208 (dk_at dksX4_init_1 9 rfl rfl)
theorem dX4_init_35 : decode cX4_init 35 = .ok (.newarray .int, 2) := dk_188_10 (dk_at dksX4_init_1 12 rfl rfl)
theorem dX4_init_37 : decode cX4_init 37 = .ok (.putfield 19, 3) := dk_181 0 19 (dk_at dksX4_init_1 14 rfl rfl)
theorem dX4_init_40 : decode cX4_init 40 = .ok (.aload_n 0, 1) := dk_42 (dk_at dksX4_init_1 17 rfl rfl)
theorem dX4_init_41 : decode cX4_init 41 = .ok (.invokevirtual 22, 3) := dk_182 0 22 (dk_at dksX4_init_1 18 rfl rfl)
theorem dX4_init_44 : decode cX4_init 44 = .ok (.return_, 1) := dk_177 (dk_at dksX4_init_1 21 rfl rfl)
abbrev cX4_clear : ByteArray := prog_38_method_7_code
def yX4_clear : MethodName := ⟨RX4, "clear", "()V"⟩
def dkwX4_clear_1 : List UInt8 := [180, 0, 9, 4, 16, 24, 79, 177]
abbrev dktX4_clear_1 : List UInt8 := dkwX4_clear_1 ++ []
def dkwX4_clear_0 : List UInt8 := [3, 60, 27, 17, 3, 105, 162, 0, 16, 42, 180, 0, 9, 27, 3, 79, 132, 1, 1, 167, 255, 239, 42]
abbrev dktX4_clear_0 : List UInt8 := dkwX4_clear_0 ++ dktX4_clear_1
theorem dksX4_clear_0 : cX4_clear.data.toList.drop 0 = dktX4_clear_0 := by decide +kernel
theorem dksX4_clear_1 : cX4_clear.data.toList.drop 23 = dktX4_clear_1 := dk_seg dksX4_clear_0 23 rfl rfl
theorem dX4_clear_0 : decode cX4_clear 0 = .ok (.iconst 0, 1) := dk_3 (dk_at dksX4_clear_0 0 rfl rfl)
theorem dX4_clear_1 : decode cX4_clear 1 = .ok (.istore_n 1, 1) := dk_60 (dk_at dksX4_clear_0 1 rfl rfl)
theorem dX4_clear_2 : decode cX4_clear 2 = .ok (.iload_n 1, 1) := dk_27 (dk_at dksX4_clear_0 2 rfl rfl)
theorem dX4_clear_3 : decode cX4_clear 3 = .ok (.sipush 873, 3) := dk_17 3 105 (dk_at dksX4_clear_0 3 rfl rfl)
theorem dX4_clear_6 : decode cX4_clear 6 = .ok (.if_icmp .ge 16, 3) := dk_162 0 16 (dk_at dksX4_clear_0 6 rfl rfl)
theorem dX4_clear_9 : decode cX4_clear 9 = .ok (.aload_n 0, 1) := dk_42 (dk_at dksX4_clear_0 9 rfl rfl)
theorem dX4_clear_10 : decode cX4_clear 10 = .ok (.getfield 9, 3) := dk_180 0 9 (dk_at dksX4_clear_0 10 rfl rfl)
theorem dX4_clear_13 : decode cX4_clear 13 = .ok (.iload_n 1, 1) := dk_27 (dk_at dksX4_clear_0 13 rfl rfl)
theorem dX4_clear_14 : decode cX4_clear 14 = .ok (.iconst 0, 1) := dk_3 (dk_at dksX4_clear_0 14 rfl rfl)
theorem dX4_clear_15 : decode cX4_clear 15 = .ok (.iastore, 1) := dk_79 (dk_at dksX4_clear_0 15 rfl rfl)
theorem dX4_clear_16 : decode cX4_clear 16 = .ok (.iinc 1 1, 3) := dk_132 1 1 (dk_at dksX4_clear_0 16 rfl rfl)
theorem dX4_clear_19 : decode cX4_clear 19 = .ok (.goto (-17), 3) := dk_167 255 239 (dk_at dksX4_clear_0 19 rfl rfl)
theorem dX4_clear_22 : decode cX4_clear 22 = .ok (.aload_n 0, 1) := dk_42 (dk_at dksX4_clear_0 22 rfl rfl)
theorem dX4_clear_23 : decode cX4_clear 23 = .ok (.getfield 9, 3) := dk_180 0 9 (dk_at dksX4_clear_1 0 rfl rfl)
theorem dX4_clear_26 : decode cX4_clear 26 = .ok (.iconst 1, 1) := dk_4 (dk_at dksX4_clear_1 3 rfl rfl)
theorem dX4_clear_27 : decode cX4_clear 27 = .ok (.bipush 24, 2) := dk_16 24 (dk_at dksX4_clear_1 4 rfl rfl)
theorem dX4_clear_29 : decode cX4_clear 29 = .ok (.iastore, 1) := dk_79 (dk_at dksX4_clear_1 6 rfl rfl)
theorem dX4_clear_30 : decode cX4_clear 30 = .ok (.return_, 1) := dk_177 (dk_at dksX4_clear_1 7 rfl rfl)
abbrev cX4_thrown : ByteArray := prog_38_method_2_code
def yX4_thrown : MethodName := ⟨RX4, "thrown", "()I"⟩
theorem dX4_thrown_0 : decode cX4_thrown 0 = .ok (.aload_n 0, 1) := by decide +kernel
theorem dX4_thrown_1 : decode cX4_thrown 1 = .ok (.getfield 25, 3) := by decide +kernel
theorem dX4_thrown_4 : decode cX4_thrown 4 = .ok (.ireturn, 1) := by decide +kernel
abbrev cX4_reset : ByteArray := prog_38_method_8_code
def yX4_reset : MethodName := ⟨RX4, "reset", "()I"⟩
def dkwX4_reset_0 : List UInt8 := [42, 3, 181, 0, 25, 42, 180, 0, 33, 60, 42, 182, 0, 22, 42, 3, 181, 0, 33, 27, 172]
abbrev dktX4_reset_0 : List UInt8 := dkwX4_reset_0 ++ []
theorem dksX4_reset_0 : cX4_reset.data.toList.drop 0 = dktX4_reset_0 := by decide +kernel
theorem dX4_reset_0 : decode cX4_reset 0 = .ok (.aload_n 0, 1) := dk_42 (dk_at dksX4_reset_0 0 rfl rfl)
theorem dX4_reset_1 : decode cX4_reset 1 = .ok (.iconst 0, 1) := dk_3 (dk_at dksX4_reset_0 1 rfl rfl)
theorem dX4_reset_2 : decode cX4_reset 2 = .ok (.putfield 25, 3) := dk_181 0 25 (dk_at dksX4_reset_0 2 rfl rfl)
theorem dX4_reset_5 : decode cX4_reset 5 = .ok (.aload_n 0, 1) := dk_42 (dk_at dksX4_reset_0 5 rfl rfl)
theorem dX4_reset_6 : decode cX4_reset 6 = .ok (.getfield 33, 3) := dk_180 0 33 (dk_at dksX4_reset_0 6 rfl rfl)
theorem dX4_reset_9 : decode cX4_reset 9 = .ok (.istore_n 1, 1) := dk_60 (dk_at dksX4_reset_0 9 rfl rfl)
theorem dX4_reset_10 : decode cX4_reset 10 = .ok (.aload_n 0, 1) := dk_42 (dk_at dksX4_reset_0 10 rfl rfl)
theorem dX4_reset_11 : decode cX4_reset 11 = .ok (.invokevirtual 22, 3) := dk_182 0 22 (dk_at dksX4_reset_0 11 rfl rfl)
theorem dX4_reset_14 : decode cX4_reset 14 = .ok (.aload_n 0, 1) := dk_42 (dk_at dksX4_reset_0 14 rfl rfl)
theorem dX4_reset_15 : decode cX4_reset 15 = .ok (.iconst 0, 1) := dk_3 (dk_at dksX4_reset_0 15 rfl rfl)
theorem dX4_reset_16 : decode cX4_reset 16 = .ok (.putfield 33, 3) := dk_181 0 33 (dk_at dksX4_reset_0 16 rfl rfl)
theorem dX4_reset_19 : decode cX4_reset 19 = .ok (.iload_n 1, 1) := dk_27 (dk_at dksX4_reset_0 19 rfl rfl)
theorem dX4_reset_20 : decode cX4_reset 20 = .ok (.ireturn, 1) := dk_172 (dk_at dksX4_reset_0 20 rfl rfl)
abbrev cX4_pass : ByteArray := prog_38_method_30_code
def yX4_pass : MethodName := ⟨RX4, "pass", "(I)I"⟩
def dkwX4_pass_2 : List UInt8 := [27, 3, 3, 3, 3, 182, 0, 80, 42, 180, 0, 9, 3, 46, 172]
abbrev dktX4_pass_2 : List UInt8 := dkwX4_pass_2 ++ []
def dkwX4_pass_1 : List UInt8 := [167, 0, 4, 3, 182, 0, 77, 154, 0, 5, 3, 172, 42, 180, 0, 9, 3, 92, 46, 27, 96, 79, 42, 3]
abbrev dktX4_pass_1 : List UInt8 := dkwX4_pass_1 ++ dktX4_pass_2
def dkwX4_pass_0 : List UInt8 := [42, 27, 4, 16, 100, 184, 0, 44, 42, 180, 0, 9, 3, 46, 27, 96, 17, 39, 15, 163, 0, 7, 4]
abbrev dktX4_pass_0 : List UInt8 := dkwX4_pass_0 ++ dktX4_pass_1
theorem dksX4_pass_0 : cX4_pass.data.toList.drop 0 = dktX4_pass_0 := by decide +kernel
theorem dksX4_pass_1 : cX4_pass.data.toList.drop 23 = dktX4_pass_1 := dk_seg dksX4_pass_0 23 rfl rfl
theorem dksX4_pass_2 : cX4_pass.data.toList.drop 47 = dktX4_pass_2 := dk_seg dksX4_pass_1 24 rfl rfl
theorem dX4_pass_0 : decode cX4_pass 0 = .ok (.aload_n 0, 1) := dk_42 (dk_at dksX4_pass_0 0 rfl rfl)
theorem dX4_pass_1 : decode cX4_pass 1 = .ok (.iload_n 1, 1) := dk_27 (dk_at dksX4_pass_0 1 rfl rfl)
theorem dX4_pass_2 : decode cX4_pass 2 = .ok (.iconst 1, 1) := dk_4 (dk_at dksX4_pass_0 2 rfl rfl)
theorem dX4_pass_3 : decode cX4_pass 3 = .ok (.bipush 100, 2) := dk_16 100 (dk_at dksX4_pass_0 3 rfl rfl)
theorem dX4_pass_5 : decode cX4_pass 5 = .ok (.invokestatic 44, 3) := dk_184 0 44 (dk_at dksX4_pass_0 5 rfl rfl)
theorem dX4_pass_8 : decode cX4_pass 8 = .ok (.aload_n 0, 1) := dk_42 (dk_at dksX4_pass_0 8 rfl rfl)
theorem dX4_pass_9 : decode cX4_pass 9 = .ok (.getfield 9, 3) := dk_180 0 9 (dk_at dksX4_pass_0 9 rfl rfl)
theorem dX4_pass_12 : decode cX4_pass 12 = .ok (.iconst 0, 1) := dk_3 (dk_at dksX4_pass_0 12 rfl rfl)
theorem dX4_pass_13 : decode cX4_pass 13 = .ok (.iaload, 1) := dk_46 (dk_at dksX4_pass_0 13 rfl rfl)
theorem dX4_pass_14 : decode cX4_pass 14 = .ok (.iload_n 1, 1) := dk_27 (dk_at dksX4_pass_0 14 rfl rfl)
theorem dX4_pass_15 : decode cX4_pass 15 = .ok (.iadd, 1) := dk_96 (dk_at dksX4_pass_0 15 rfl rfl)
theorem dX4_pass_16 : decode cX4_pass 16 = .ok (.sipush 9999, 3) := dk_17 39 15 (dk_at dksX4_pass_0 16 rfl rfl)
theorem dX4_pass_19 : decode cX4_pass 19 = .ok (.if_icmp .gt 7, 3) := dk_163 0 7 (dk_at dksX4_pass_0 19 rfl rfl)
theorem dX4_pass_22 : decode cX4_pass 22 = .ok (.iconst 1, 1) := dk_4 (dk_at dksX4_pass_0 22 rfl rfl)
theorem dX4_pass_23 : decode cX4_pass 23 = .ok (.goto 4, 3) := dk_167 0 4 (dk_at dksX4_pass_1 0 rfl rfl)
theorem dX4_pass_26 : decode cX4_pass 26 = .ok (.iconst 0, 1) := dk_3 (dk_at dksX4_pass_1 3 rfl rfl)
theorem dX4_pass_27 : decode cX4_pass 27 = .ok (.invokevirtual 77, 3) := dk_182 0 77 (dk_at dksX4_pass_1 4 rfl rfl)
theorem dX4_pass_30 : decode cX4_pass 30 = .ok (.ifCond .ne 5, 3) := dk_154 0 5 (dk_at dksX4_pass_1 7 rfl rfl)
theorem dX4_pass_33 : decode cX4_pass 33 = .ok (.iconst 0, 1) := dk_3 (dk_at dksX4_pass_1 10 rfl rfl)
theorem dX4_pass_34 : decode cX4_pass 34 = .ok (.ireturn, 1) := dk_172 (dk_at dksX4_pass_1 11 rfl rfl)
theorem dX4_pass_35 : decode cX4_pass 35 = .ok (.aload_n 0, 1) := dk_42 (dk_at dksX4_pass_1 12 rfl rfl)
theorem dX4_pass_36 : decode cX4_pass 36 = .ok (.getfield 9, 3) := dk_180 0 9 (dk_at dksX4_pass_1 13 rfl rfl)
theorem dX4_pass_39 : decode cX4_pass 39 = .ok (.iconst 0, 1) := dk_3 (dk_at dksX4_pass_1 16 rfl rfl)
theorem dX4_pass_40 : decode cX4_pass 40 = .ok (.dup2, 1) := dk_92 (dk_at dksX4_pass_1 17 rfl rfl)
theorem dX4_pass_41 : decode cX4_pass 41 = .ok (.iaload, 1) := dk_46 (dk_at dksX4_pass_1 18 rfl rfl)
theorem dX4_pass_42 : decode cX4_pass 42 = .ok (.iload_n 1, 1) := dk_27 (dk_at dksX4_pass_1 19 rfl rfl)
theorem dX4_pass_43 : decode cX4_pass 43 = .ok (.iadd, 1) := dk_96 (dk_at dksX4_pass_1 20 rfl rfl)
theorem dX4_pass_44 : decode cX4_pass 44 = .ok (.iastore, 1) := dk_79 (dk_at dksX4_pass_1 21 rfl rfl)
theorem dX4_pass_45 : decode cX4_pass 45 = .ok (.aload_n 0, 1) := dk_42 (dk_at dksX4_pass_1 22 rfl rfl)
theorem dX4_pass_46 : decode cX4_pass 46 = .ok (.iconst 0, 1) := dk_3 (dk_at dksX4_pass_1 23 rfl rfl)
theorem dX4_pass_47 : decode cX4_pass 47 = .ok (.iload_n 1, 1) := dk_27 (dk_at dksX4_pass_2 0 rfl rfl)
theorem dX4_pass_48 : decode cX4_pass 48 = .ok (.iconst 0, 1) := dk_3 (dk_at dksX4_pass_2 1 rfl rfl)
theorem dX4_pass_49 : decode cX4_pass 49 = .ok (.iconst 0, 1) := dk_3 (dk_at dksX4_pass_2 2 rfl rfl)
theorem dX4_pass_50 : decode cX4_pass 50 = .ok (.iconst 0, 1) := dk_3 (dk_at dksX4_pass_2 3 rfl rfl)
theorem dX4_pass_51 : decode cX4_pass 51 = .ok (.iconst 0, 1) := dk_3 (dk_at dksX4_pass_2 4 rfl rfl)
theorem dX4_pass_52 : decode cX4_pass 52 = .ok (.invokevirtual 80, 3) := dk_182 0 80 (dk_at dksX4_pass_2 5 rfl rfl)
theorem dX4_pass_55 : decode cX4_pass 55 = .ok (.aload_n 0, 1) := dk_42 (dk_at dksX4_pass_2 8 rfl rfl)
theorem dX4_pass_56 : decode cX4_pass 56 = .ok (.getfield 9, 3) := dk_180 0 9 (dk_at dksX4_pass_2 9 rfl rfl)
theorem dX4_pass_59 : decode cX4_pass 59 = .ok (.iconst 0, 1) := dk_3 (dk_at dksX4_pass_2 12 rfl rfl)
theorem dX4_pass_60 : decode cX4_pass 60 = .ok (.iaload, 1) := dk_46 (dk_at dksX4_pass_2 13 rfl rfl)
theorem dX4_pass_61 : decode cX4_pass 61 = .ok (.ireturn, 1) := dk_172 (dk_at dksX4_pass_2 14 rfl rfl)
abbrev cX4_lies : ByteArray := prog_38_method_6_code
def yX4_lies : MethodName := ⟨RX4, "lies", "(III)Z"⟩
def dkwX4_lies_0 : List UInt8 := [26, 27, 161, 0, 12, 26, 28, 163, 0, 7, 4, 167, 0, 4, 3, 172]
abbrev dktX4_lies_0 : List UInt8 := dkwX4_lies_0 ++ []
theorem dksX4_lies_0 : cX4_lies.data.toList.drop 0 = dktX4_lies_0 := by decide +kernel
theorem dX4_lies_0 : decode cX4_lies 0 = .ok (.iload_n 0, 1) := dk_26 (dk_at dksX4_lies_0 0 rfl rfl)
theorem dX4_lies_1 : decode cX4_lies 1 = .ok (.iload_n 1, 1) := dk_27 (dk_at dksX4_lies_0 1 rfl rfl)
theorem dX4_lies_2 : decode cX4_lies 2 = .ok (.if_icmp .lt 12, 3) := dk_161 0 12 (dk_at dksX4_lies_0 2 rfl rfl)
theorem dX4_lies_5 : decode cX4_lies 5 = .ok (.iload_n 0, 1) := dk_26 (dk_at dksX4_lies_0 5 rfl rfl)
theorem dX4_lies_6 : decode cX4_lies 6 = .ok (.iload_n 2, 1) := dk_28 (dk_at dksX4_lies_0 6 rfl rfl)
theorem dX4_lies_7 : decode cX4_lies 7 = .ok (.if_icmp .gt 7, 3) := dk_163 0 7 (dk_at dksX4_lies_0 7 rfl rfl)
theorem dX4_lies_10 : decode cX4_lies 10 = .ok (.iconst 1, 1) := dk_4 (dk_at dksX4_lies_0 10 rfl rfl)
theorem dX4_lies_11 : decode cX4_lies 11 = .ok (.goto 4, 3) := dk_167 0 4 (dk_at dksX4_lies_0 11 rfl rfl)
theorem dX4_lies_14 : decode cX4_lies 14 = .ok (.iconst 0, 1) := dk_3 (dk_at dksX4_lies_0 14 rfl rfl)
theorem dX4_lies_15 : decode cX4_lies 15 = .ok (.ireturn, 1) := dk_172 (dk_at dksX4_lies_0 15 rfl rfl)
abbrev cX4_ok : ByteArray := prog_38_method_4_code
def yX4_ok : MethodName := ⟨RX4, "ok", "(ZZ)Z"⟩
def dkwX4_ok_0 : List UInt8 := [42, 27, 28, 4, 182, 0, 29, 172]
abbrev dktX4_ok_0 : List UInt8 := dkwX4_ok_0 ++ []
theorem dksX4_ok_0 : cX4_ok.data.toList.drop 0 = dktX4_ok_0 := by decide +kernel
theorem dX4_ok_0 : decode cX4_ok 0 = .ok (.aload_n 0, 1) := dk_42 (dk_at dksX4_ok_0 0 rfl rfl)
theorem dX4_ok_1 : decode cX4_ok 1 = .ok (.iload_n 1, 1) := dk_27 (dk_at dksX4_ok_0 1 rfl rfl)
theorem dX4_ok_2 : decode cX4_ok 2 = .ok (.iload_n 2, 1) := dk_28 (dk_at dksX4_ok_0 2 rfl rfl)
theorem dX4_ok_3 : decode cX4_ok 3 = .ok (.iconst 1, 1) := dk_4 (dk_at dksX4_ok_0 3 rfl rfl)
theorem dX4_ok_4 : decode cX4_ok 4 = .ok (.invokevirtual 29, 3) := dk_182 0 29 (dk_at dksX4_ok_0 4 rfl rfl)
theorem dX4_ok_7 : decode cX4_ok 7 = .ok (.ireturn, 1) := dk_172 (dk_at dksX4_ok_0 7 rfl rfl)
abbrev cX4_ok_2 : ByteArray := prog_38_method_3_code
def yX4_ok_2 : MethodName := ⟨RX4, "ok", "(ZZZ)Z"⟩
def dkwX4_ok_2_1 : List UInt8 := [167, 0, 4, 4, 181, 0, 25, 42, 180, 0, 25, 154, 0, 7, 4, 167, 0, 4, 3, 172]
abbrev dktX4_ok_2_1 : List UInt8 := dkwX4_ok_2_1 ++ []
def dkwX4_ok_2_0 : List UInt8 := [42, 27, 153, 0, 23, 28, 153, 0, 15, 29, 153, 0, 7, 3, 167, 0, 12, 6, 167, 0, 8, 5]
abbrev dktX4_ok_2_0 : List UInt8 := dkwX4_ok_2_0 ++ dktX4_ok_2_1
theorem dksX4_ok_2_0 : cX4_ok_2.data.toList.drop 0 = dktX4_ok_2_0 := by decide +kernel
theorem dksX4_ok_2_1 : cX4_ok_2.data.toList.drop 22 = dktX4_ok_2_1 := dk_seg dksX4_ok_2_0 22 rfl rfl
theorem dX4_ok_2_0 : decode cX4_ok_2 0 = .ok (.aload_n 0, 1) := dk_42 (dk_at dksX4_ok_2_0 0 rfl rfl)
theorem dX4_ok_2_1 : decode cX4_ok_2 1 = .ok (.iload_n 1, 1) := dk_27 (dk_at dksX4_ok_2_0 1 rfl rfl)
theorem dX4_ok_2_2 : decode cX4_ok_2 2 = .ok (.ifCond .eq 23, 3) := dk_153 0 23 (dk_at dksX4_ok_2_0 2 rfl rfl)
theorem dX4_ok_2_5 : decode cX4_ok_2 5 = .ok (.iload_n 2, 1) := dk_28 (dk_at dksX4_ok_2_0 5 rfl rfl)
theorem dX4_ok_2_6 : decode cX4_ok_2 6 = .ok (.ifCond .eq 15, 3) := dk_153 0 15 (dk_at dksX4_ok_2_0 6 rfl rfl)
theorem dX4_ok_2_9 : decode cX4_ok_2 9 = .ok (.iload_n 3, 1) := dk_29 (dk_at dksX4_ok_2_0 9 rfl rfl)
theorem dX4_ok_2_10 : decode cX4_ok_2 10 = .ok (.ifCond .eq 7, 3) := dk_153 0 7 (dk_at dksX4_ok_2_0 10 rfl rfl)
theorem dX4_ok_2_13 : decode cX4_ok_2 13 = .ok (.iconst 0, 1) := dk_3 (dk_at dksX4_ok_2_0 13 rfl rfl)
theorem dX4_ok_2_14 : decode cX4_ok_2 14 = .ok (.goto 12, 3) := dk_167 0 12 (dk_at dksX4_ok_2_0 14 rfl rfl)
theorem dX4_ok_2_17 : decode cX4_ok_2 17 = .ok (.iconst 3, 1) := dk_6 (dk_at dksX4_ok_2_0 17 rfl rfl)
theorem dX4_ok_2_18 : decode cX4_ok_2 18 = .ok (.goto 8, 3) := dk_167 0 8 (dk_at dksX4_ok_2_0 18 rfl rfl)
theorem dX4_ok_2_21 : decode cX4_ok_2 21 = .ok (.iconst 2, 1) := dk_5 (dk_at dksX4_ok_2_0 21 rfl rfl)
theorem dX4_ok_2_22 : decode cX4_ok_2 22 = .ok (.goto 4, 3) := dk_167 0 4 (dk_at dksX4_ok_2_1 0 rfl rfl)
theorem dX4_ok_2_25 : decode cX4_ok_2 25 = .ok (.iconst 1, 1) := dk_4 (dk_at dksX4_ok_2_1 3 rfl rfl)
theorem dX4_ok_2_26 : decode cX4_ok_2 26 = .ok (.putfield 25, 3) := dk_181 0 25 (dk_at dksX4_ok_2_1 4 rfl rfl)
theorem dX4_ok_2_29 : decode cX4_ok_2 29 = .ok (.aload_n 0, 1) := dk_42 (dk_at dksX4_ok_2_1 7 rfl rfl)
theorem dX4_ok_2_30 : decode cX4_ok_2 30 = .ok (.getfield 25, 3) := dk_180 0 25 (dk_at dksX4_ok_2_1 8 rfl rfl)
theorem dX4_ok_2_33 : decode cX4_ok_2 33 = .ok (.ifCond .ne 7, 3) := dk_154 0 7 (dk_at dksX4_ok_2_1 11 rfl rfl)
theorem dX4_ok_2_36 : decode cX4_ok_2 36 = .ok (.iconst 1, 1) := dk_4 (dk_at dksX4_ok_2_1 14 rfl rfl)
theorem dX4_ok_2_37 : decode cX4_ok_2 37 = .ok (.goto 4, 3) := dk_167 0 4 (dk_at dksX4_ok_2_1 15 rfl rfl)
theorem dX4_ok_2_40 : decode cX4_ok_2 40 = .ok (.iconst 0, 1) := dk_3 (dk_at dksX4_ok_2_1 18 rfl rfl)
theorem dX4_ok_2_41 : decode cX4_ok_2 41 = .ok (.ireturn, 1) := dk_172 (dk_at dksX4_ok_2_1 19 rfl rfl)
abbrev cX4_keep : ByteArray := prog_38_method_9_code
def yX4_keep : MethodName := ⟨RX4, "keep", "(IIIIII)V"⟩
def dkwX4_keep_4 : List UInt8 := [79, 42, 89, 180, 0, 33, 4, 96, 181, 0, 33, 177]
abbrev dktX4_keep_4 : List UInt8 := dkwX4_keep_4 ++ []
def dkwX4_keep_3 : List UInt8 := [180, 0, 16, 21, 7, 8, 96, 21, 6, 79, 42, 180, 0, 19, 42, 180, 0, 33, 42, 180, 0, 9, 3, 46]
abbrev dktX4_keep_3 : List UInt8 := dkwX4_keep_3 ++ dktX4_keep_4
def dkwX4_keep_2 : List UInt8 := [180, 0, 16, 21, 7, 6, 96, 21, 4, 79, 42, 180, 0, 16, 21, 7, 7, 96, 21, 5, 79, 42]
abbrev dktX4_keep_2 : List UInt8 := dkwX4_keep_2 ++ dktX4_keep_3
def dkwX4_keep_1 : List UInt8 := [79, 42, 180, 0, 16, 21, 7, 4, 96, 28, 79, 42, 180, 0, 16, 21, 7, 5, 96, 29, 79, 42]
abbrev dktX4_keep_1 : List UInt8 := dkwX4_keep_1 ++ dktX4_keep_2
def dkwX4_keep_0 : List UInt8 := [42, 180, 0, 36, 153, 0, 4, 177, 16, 6, 42, 180, 0, 33, 104, 54, 7, 42, 180, 0, 16, 21, 7, 27]
abbrev dktX4_keep_0 : List UInt8 := dkwX4_keep_0 ++ dktX4_keep_1
theorem dksX4_keep_0 : cX4_keep.data.toList.drop 0 = dktX4_keep_0 := by decide +kernel
theorem dksX4_keep_1 : cX4_keep.data.toList.drop 24 = dktX4_keep_1 := dk_seg dksX4_keep_0 24 rfl rfl
theorem dksX4_keep_2 : cX4_keep.data.toList.drop 46 = dktX4_keep_2 := dk_seg dksX4_keep_1 22 rfl rfl
theorem dksX4_keep_3 : cX4_keep.data.toList.drop 68 = dktX4_keep_3 := dk_seg dksX4_keep_2 22 rfl rfl
theorem dksX4_keep_4 : cX4_keep.data.toList.drop 92 = dktX4_keep_4 := dk_seg dksX4_keep_3 24 rfl rfl
theorem dX4_keep_0 : decode cX4_keep 0 = .ok (.aload_n 0, 1) := dk_42 (dk_at dksX4_keep_0 0 rfl rfl)
theorem dX4_keep_1 : decode cX4_keep 1 = .ok (.getfield 36, 3) := dk_180 0 36 (dk_at dksX4_keep_0 1 rfl rfl)
theorem dX4_keep_4 : decode cX4_keep 4 = .ok (.ifCond .eq 4, 3) := dk_153 0 4 (dk_at dksX4_keep_0 4 rfl rfl)
theorem dX4_keep_7 : decode cX4_keep 7 = .ok (.return_, 1) := dk_177 (dk_at dksX4_keep_0 7 rfl rfl)
theorem dX4_keep_8 : decode cX4_keep 8 = .ok (.bipush 6, 2) := dk_16 6 (dk_at dksX4_keep_0 8 rfl rfl)
theorem dX4_keep_10 : decode cX4_keep 10 = .ok (.aload_n 0, 1) := dk_42 (dk_at dksX4_keep_0 10 rfl rfl)
theorem dX4_keep_11 : decode cX4_keep 11 = .ok (.getfield 33, 3) := dk_180 0 33 (dk_at dksX4_keep_0 11 rfl rfl)
theorem dX4_keep_14 : decode cX4_keep 14 = .ok (.imul, 1) := dk_104 (dk_at dksX4_keep_0 14 rfl rfl)
theorem dX4_keep_15 : decode cX4_keep 15 = .ok (.istore 7, 2) := dk_54 7 (dk_at dksX4_keep_0 15 rfl rfl)
theorem dX4_keep_17 : decode cX4_keep 17 = .ok (.aload_n 0, 1) := dk_42 (dk_at dksX4_keep_0 17 rfl rfl)
theorem dX4_keep_18 : decode cX4_keep 18 = .ok (.getfield 16, 3) := dk_180 0 16 (dk_at dksX4_keep_0 18 rfl rfl)
theorem dX4_keep_21 : decode cX4_keep 21 = .ok (.iload 7, 2) := dk_21 7 (dk_at dksX4_keep_0 21 rfl rfl)
theorem dX4_keep_23 : decode cX4_keep 23 = .ok (.iload_n 1, 1) := dk_27 (dk_at dksX4_keep_0 23 rfl rfl)
theorem dX4_keep_24 : decode cX4_keep 24 = .ok (.iastore, 1) := dk_79 (dk_at dksX4_keep_1 0 rfl rfl)
theorem dX4_keep_25 : decode cX4_keep 25 = .ok (.aload_n 0, 1) := dk_42 (dk_at dksX4_keep_1 1 rfl rfl)
theorem dX4_keep_26 : decode cX4_keep 26 = .ok (.getfield 16, 3) := dk_180 0 16 (dk_at dksX4_keep_1 2 rfl rfl)
theorem dX4_keep_29 : decode cX4_keep 29 = .ok (.iload 7, 2) := dk_21 7 (dk_at dksX4_keep_1 5 rfl rfl)
theorem dX4_keep_31 : decode cX4_keep 31 = .ok (.iconst 1, 1) := dk_4 (dk_at dksX4_keep_1 7 rfl rfl)
theorem dX4_keep_32 : decode cX4_keep 32 = .ok (.iadd, 1) := dk_96 (dk_at dksX4_keep_1 8 rfl rfl)
theorem dX4_keep_33 : decode cX4_keep 33 = .ok (.iload_n 2, 1) := dk_28 (dk_at dksX4_keep_1 9 rfl rfl)
theorem dX4_keep_34 : decode cX4_keep 34 = .ok (.iastore, 1) := dk_79 (dk_at dksX4_keep_1 10 rfl rfl)
theorem dX4_keep_35 : decode cX4_keep 35 = .ok (.aload_n 0, 1) := dk_42 (dk_at dksX4_keep_1 11 rfl rfl)
theorem dX4_keep_36 : decode cX4_keep 36 = .ok (.getfield 16, 3) := dk_180 0 16 (dk_at dksX4_keep_1 12 rfl rfl)
theorem dX4_keep_39 : decode cX4_keep 39 = .ok (.iload 7, 2) := dk_21 7 (dk_at dksX4_keep_1 15 rfl rfl)
theorem dX4_keep_41 : decode cX4_keep 41 = .ok (.iconst 2, 1) := dk_5 (dk_at dksX4_keep_1 17 rfl rfl)
theorem dX4_keep_42 : decode cX4_keep 42 = .ok (.iadd, 1) := dk_96 (dk_at dksX4_keep_1 18 rfl rfl)
theorem dX4_keep_43 : decode cX4_keep 43 = .ok (.iload_n 3, 1) := dk_29 (dk_at dksX4_keep_1 19 rfl rfl)
theorem dX4_keep_44 : decode cX4_keep 44 = .ok (.iastore, 1) := dk_79 (dk_at dksX4_keep_1 20 rfl rfl)
theorem dX4_keep_45 : decode cX4_keep 45 = .ok (.aload_n 0, 1) := dk_42 (dk_at dksX4_keep_1 21 rfl rfl)
theorem dX4_keep_46 : decode cX4_keep 46 = .ok (.getfield 16, 3) := dk_180 0 16 (dk_at dksX4_keep_2 0 rfl rfl)
theorem dX4_keep_49 : decode cX4_keep 49 = .ok (.iload 7, 2) := dk_21 7 (dk_at dksX4_keep_2 3 rfl rfl)
theorem dX4_keep_51 : decode cX4_keep 51 = .ok (.iconst 3, 1) := dk_6 (dk_at dksX4_keep_2 5 rfl rfl)
theorem dX4_keep_52 : decode cX4_keep 52 = .ok (.iadd, 1) := dk_96 (dk_at dksX4_keep_2 6 rfl rfl)
theorem dX4_keep_53 : decode cX4_keep 53 = .ok (.iload 4, 2) := dk_21 4 (dk_at dksX4_keep_2 7 rfl rfl)
theorem dX4_keep_55 : decode cX4_keep 55 = .ok (.iastore, 1) := dk_79 (dk_at dksX4_keep_2 9 rfl rfl)
theorem dX4_keep_56 : decode cX4_keep 56 = .ok (.aload_n 0, 1) := dk_42 (dk_at dksX4_keep_2 10 rfl rfl)
theorem dX4_keep_57 : decode cX4_keep 57 = .ok (.getfield 16, 3) := dk_180 0 16 (dk_at dksX4_keep_2 11 rfl rfl)
theorem dX4_keep_60 : decode cX4_keep 60 = .ok (.iload 7, 2) := dk_21 7 (dk_at dksX4_keep_2 14 rfl rfl)
theorem dX4_keep_62 : decode cX4_keep 62 = .ok (.iconst 4, 1) := dk_7 (dk_at dksX4_keep_2 16 rfl rfl)
theorem dX4_keep_63 : decode cX4_keep 63 = .ok (.iadd, 1) := dk_96 (dk_at dksX4_keep_2 17 rfl rfl)
theorem dX4_keep_64 : decode cX4_keep 64 = .ok (.iload 5, 2) := dk_21 5 (dk_at dksX4_keep_2 18 rfl rfl)
theorem dX4_keep_66 : decode cX4_keep 66 = .ok (.iastore, 1) := dk_79 (dk_at dksX4_keep_2 20 rfl rfl)
theorem dX4_keep_67 : decode cX4_keep 67 = .ok (.aload_n 0, 1) := dk_42 (dk_at dksX4_keep_2 21 rfl rfl)
theorem dX4_keep_68 : decode cX4_keep 68 = .ok (.getfield 16, 3) := dk_180 0 16 (dk_at dksX4_keep_3 0 rfl rfl)
theorem dX4_keep_71 : decode cX4_keep 71 = .ok (.iload 7, 2) := dk_21 7 (dk_at dksX4_keep_3 3 rfl rfl)
theorem dX4_keep_73 : decode cX4_keep 73 = .ok (.iconst 5, 1) := dk_8 (dk_at dksX4_keep_3 5 rfl rfl)
theorem dX4_keep_74 : decode cX4_keep 74 = .ok (.iadd, 1) := dk_96 (dk_at dksX4_keep_3 6 rfl rfl)
theorem dX4_keep_75 : decode cX4_keep 75 = .ok (.iload 6, 2) := dk_21 6 (dk_at dksX4_keep_3 7 rfl rfl)
theorem dX4_keep_77 : decode cX4_keep 77 = .ok (.iastore, 1) := dk_79 (dk_at dksX4_keep_3 9 rfl rfl)
theorem dX4_keep_78 : decode cX4_keep 78 = .ok (.aload_n 0, 1) := dk_42 (dk_at dksX4_keep_3 10 rfl rfl)
theorem dX4_keep_79 : decode cX4_keep 79 = .ok (.getfield 19, 3) := dk_180 0 19 (dk_at dksX4_keep_3 11 rfl rfl)
theorem dX4_keep_82 : decode cX4_keep 82 = .ok (.aload_n 0, 1) := dk_42 (dk_at dksX4_keep_3 14 rfl rfl)
theorem dX4_keep_83 : decode cX4_keep 83 = .ok (.getfield 33, 3) := dk_180 0 33 (dk_at dksX4_keep_3 15 rfl rfl)
theorem dX4_keep_86 : decode cX4_keep 86 = .ok (.aload_n 0, 1) := dk_42 (dk_at dksX4_keep_3 18 rfl rfl)
theorem dX4_keep_87 : decode cX4_keep 87 = .ok (.getfield 9, 3) := dk_180 0 9 (dk_at dksX4_keep_3 19 rfl rfl)
theorem dX4_keep_90 : decode cX4_keep 90 = .ok (.iconst 0, 1) := dk_3 (dk_at dksX4_keep_3 22 rfl rfl)
theorem dX4_keep_91 : decode cX4_keep 91 = .ok (.iaload, 1) := dk_46 (dk_at dksX4_keep_3 23 rfl rfl)
theorem dX4_keep_92 : decode cX4_keep 92 = .ok (.iastore, 1) := dk_79 (dk_at dksX4_keep_4 0 rfl rfl)
theorem dX4_keep_93 : decode cX4_keep 93 = .ok (.aload_n 0, 1) := dk_42 (dk_at dksX4_keep_4 1 rfl rfl)
theorem dX4_keep_94 : decode cX4_keep 94 = .ok (.dup, 1) := dk_89 (dk_at dksX4_keep_4 2 rfl rfl)
theorem dX4_keep_95 : decode cX4_keep 95 = .ok (.getfield 33, 3) := dk_180 0 33 (dk_at dksX4_keep_4 3 rfl rfl)
theorem dX4_keep_98 : decode cX4_keep 98 = .ok (.iconst 1, 1) := dk_4 (dk_at dksX4_keep_4 6 rfl rfl)
theorem dX4_keep_99 : decode cX4_keep 99 = .ok (.iadd, 1) := dk_96 (dk_at dksX4_keep_4 7 rfl rfl)
theorem dX4_keep_100 : decode cX4_keep 100 = .ok (.putfield 33, 3) := dk_181 0 33 (dk_at dksX4_keep_4 8 rfl rfl)
theorem dX4_keep_103 : decode cX4_keep 103 = .ok (.return_, 1) := dk_177 (dk_at dksX4_keep_4 11 rfl rfl)
abbrev cX4_setLapse : ByteArray := prog_38_method_31_code
def yX4_setLapse : MethodName := ⟨RX4, "setLapse", "(I)I"⟩
def dkwX4_setLapse_1 : List UInt8 := [180, 0, 9, 4, 27, 79, 42, 4, 27, 3, 3, 3, 3, 182, 0, 80, 28, 172]
abbrev dktX4_setLapse_1 : List UInt8 := dkwX4_setLapse_1 ++ []
def dkwX4_setLapse_0 : List UInt8 := [42, 27, 4, 16, 100, 184, 0, 44, 182, 0, 84, 154, 0, 5, 3, 172, 42, 180, 0, 9, 4, 46, 61, 42]
abbrev dktX4_setLapse_0 : List UInt8 := dkwX4_setLapse_0 ++ dktX4_setLapse_1
theorem dksX4_setLapse_0 : cX4_setLapse.data.toList.drop 0 = dktX4_setLapse_0 := by decide +kernel
theorem dksX4_setLapse_1 : cX4_setLapse.data.toList.drop 24 = dktX4_setLapse_1 := dk_seg dksX4_setLapse_0 24 rfl rfl
theorem dX4_setLapse_0 : decode cX4_setLapse 0 = .ok (.aload_n 0, 1) := dk_42 (dk_at dksX4_setLapse_0 0 rfl rfl)
theorem dX4_setLapse_1 : decode cX4_setLapse 1 = .ok (.iload_n 1, 1) := dk_27 (dk_at dksX4_setLapse_0 1 rfl rfl)
theorem dX4_setLapse_2 : decode cX4_setLapse 2 = .ok (.iconst 1, 1) := dk_4 (dk_at dksX4_setLapse_0 2 rfl rfl)
theorem dX4_setLapse_3 : decode cX4_setLapse 3 = .ok (.bipush 100, 2) := dk_16 100 (dk_at dksX4_setLapse_0 3 rfl rfl)
theorem dX4_setLapse_5 : decode cX4_setLapse 5 = .ok (.invokestatic 44, 3) := dk_184 0 44 (dk_at dksX4_setLapse_0 5 rfl rfl)
theorem dX4_setLapse_8 : decode cX4_setLapse 8 = .ok (.invokevirtual 84, 3) := dk_182 0 84 (dk_at dksX4_setLapse_0 8 rfl rfl)
theorem dX4_setLapse_11 : decode cX4_setLapse 11 = .ok (.ifCond .ne 5, 3) := dk_154 0 5 (dk_at dksX4_setLapse_0 11 rfl rfl)
theorem dX4_setLapse_14 : decode cX4_setLapse 14 = .ok (.iconst 0, 1) := dk_3 (dk_at dksX4_setLapse_0 14 rfl rfl)
theorem dX4_setLapse_15 : decode cX4_setLapse 15 = .ok (.ireturn, 1) := dk_172 (dk_at dksX4_setLapse_0 15 rfl rfl)
theorem dX4_setLapse_16 : decode cX4_setLapse 16 = .ok (.aload_n 0, 1) := dk_42 (dk_at dksX4_setLapse_0 16 rfl rfl)
theorem dX4_setLapse_17 : decode cX4_setLapse 17 = .ok (.getfield 9, 3) := dk_180 0 9 (dk_at dksX4_setLapse_0 17 rfl rfl)
theorem dX4_setLapse_20 : decode cX4_setLapse 20 = .ok (.iconst 1, 1) := dk_4 (dk_at dksX4_setLapse_0 20 rfl rfl)
theorem dX4_setLapse_21 : decode cX4_setLapse 21 = .ok (.iaload, 1) := dk_46 (dk_at dksX4_setLapse_0 21 rfl rfl)
theorem dX4_setLapse_22 : decode cX4_setLapse 22 = .ok (.istore_n 2, 1) := dk_61 (dk_at dksX4_setLapse_0 22 rfl rfl)
theorem dX4_setLapse_23 : decode cX4_setLapse 23 = .ok (.aload_n 0, 1) := dk_42 (dk_at dksX4_setLapse_0 23 rfl rfl)
theorem dX4_setLapse_24 : decode cX4_setLapse 24 = .ok (.getfield 9, 3) := dk_180 0 9 (dk_at dksX4_setLapse_1 0 rfl rfl)
theorem dX4_setLapse_27 : decode cX4_setLapse 27 = .ok (.iconst 1, 1) := dk_4 (dk_at dksX4_setLapse_1 3 rfl rfl)
theorem dX4_setLapse_28 : decode cX4_setLapse 28 = .ok (.iload_n 1, 1) := dk_27 (dk_at dksX4_setLapse_1 4 rfl rfl)
theorem dX4_setLapse_29 : decode cX4_setLapse 29 = .ok (.iastore, 1) := dk_79 (dk_at dksX4_setLapse_1 5 rfl rfl)
theorem dX4_setLapse_30 : decode cX4_setLapse 30 = .ok (.aload_n 0, 1) := dk_42 (dk_at dksX4_setLapse_1 6 rfl rfl)
theorem dX4_setLapse_31 : decode cX4_setLapse 31 = .ok (.iconst 1, 1) := dk_4 (dk_at dksX4_setLapse_1 7 rfl rfl)
theorem dX4_setLapse_32 : decode cX4_setLapse 32 = .ok (.iload_n 1, 1) := dk_27 (dk_at dksX4_setLapse_1 8 rfl rfl)
theorem dX4_setLapse_33 : decode cX4_setLapse 33 = .ok (.iconst 0, 1) := dk_3 (dk_at dksX4_setLapse_1 9 rfl rfl)
theorem dX4_setLapse_34 : decode cX4_setLapse 34 = .ok (.iconst 0, 1) := dk_3 (dk_at dksX4_setLapse_1 10 rfl rfl)
theorem dX4_setLapse_35 : decode cX4_setLapse 35 = .ok (.iconst 0, 1) := dk_3 (dk_at dksX4_setLapse_1 11 rfl rfl)
theorem dX4_setLapse_36 : decode cX4_setLapse 36 = .ok (.iconst 0, 1) := dk_3 (dk_at dksX4_setLapse_1 12 rfl rfl)
theorem dX4_setLapse_37 : decode cX4_setLapse 37 = .ok (.invokevirtual 80, 3) := dk_182 0 80 (dk_at dksX4_setLapse_1 13 rfl rfl)
theorem dX4_setLapse_40 : decode cX4_setLapse 40 = .ok (.iload_n 2, 1) := dk_28 (dk_at dksX4_setLapse_1 16 rfl rfl)
theorem dX4_setLapse_41 : decode cX4_setLapse 41 = .ok (.ireturn, 1) := dk_172 (dk_at dksX4_setLapse_1 17 rfl rfl)
abbrev cX4_ok_3 : ByteArray := prog_38_method_5_code
def yX4_ok_3 : MethodName := ⟨RX4, "ok", "(Z)Z"⟩
def dkwX4_ok_3_0 : List UInt8 := [42, 27, 4, 4, 182, 0, 29, 172]
abbrev dktX4_ok_3_0 : List UInt8 := dkwX4_ok_3_0 ++ []
theorem dksX4_ok_3_0 : cX4_ok_3.data.toList.drop 0 = dktX4_ok_3_0 := by decide +kernel
theorem dX4_ok_3_0 : decode cX4_ok_3 0 = .ok (.aload_n 0, 1) := dk_42 (dk_at dksX4_ok_3_0 0 rfl rfl)
theorem dX4_ok_3_1 : decode cX4_ok_3 1 = .ok (.iload_n 1, 1) := dk_27 (dk_at dksX4_ok_3_0 1 rfl rfl)
theorem dX4_ok_3_2 : decode cX4_ok_3 2 = .ok (.iconst 1, 1) := dk_4 (dk_at dksX4_ok_3_0 2 rfl rfl)
theorem dX4_ok_3_3 : decode cX4_ok_3 3 = .ok (.iconst 1, 1) := dk_4 (dk_at dksX4_ok_3_0 3 rfl rfl)
theorem dX4_ok_3_4 : decode cX4_ok_3 4 = .ok (.invokevirtual 29, 3) := dk_182 0 29 (dk_at dksX4_ok_3_0 4 rfl rfl)
theorem dX4_ok_3_7 : decode cX4_ok_3 7 = .ok (.ireturn, 1) := dk_172 (dk_at dksX4_ok_3_0 7 rfl rfl)
abbrev cX4_create : ByteArray := prog_38_method_32_code
def yX4_create : MethodName := ⟨RX4, "create", "(II)I"⟩
def dkwX4_create_7 : List UInt8 := [28, 3, 3, 3, 182, 0, 80, 29, 172]
abbrev dktX4_create_7 : List UInt8 := dkwX4_create_7 ++ []
def dkwX4_create_6 : List UInt8 := [180, 0, 9, 21, 4, 6, 96, 28, 79, 42, 29, 3, 3, 4, 21, 4, 182, 0, 90, 54, 5, 42, 5, 27]
abbrev dktX4_create_6 : List UInt8 := dkwX4_create_6 ++ dktX4_create_7
def dkwX4_create_5 : List UInt8 := [96, 2, 79, 42, 180, 0, 9, 5, 92, 46, 4, 96, 79, 29, 3, 184, 0, 69, 7, 96, 54, 4, 42]
abbrev dktX4_create_5 : List UInt8 := dkwX4_create_5 ++ dktX4_create_6
def dkwX4_create_4 : List UInt8 := [27, 79, 42, 180, 0, 9, 29, 184, 0, 40, 4, 96, 4, 79, 42, 180, 0, 9, 29, 3, 184, 0, 69, 3]
abbrev dktX4_create_4 : List UInt8 := dkwX4_create_4 ++ dktX4_create_5
def dkwX4_create_3 : List UInt8 := [184, 0, 40, 21, 4, 96, 3, 79, 132, 4, 1, 167, 255, 233, 42, 180, 0, 9, 29, 184, 0, 40, 3, 96]
abbrev dktX4_create_3 : List UInt8 := dkwX4_create_3 ++ dktX4_create_4
def dkwX4_create_2 : List UInt8 := [42, 180, 0, 9, 5, 46, 62, 3, 54, 4, 21, 4, 16, 32, 162, 0, 22, 42, 180, 0, 9, 29]
abbrev dktX4_create_2 : List UInt8 := dkwX4_create_2 ++ dktX4_create_3
def dkwX4_create_1 : List UInt8 := [42, 180, 0, 9, 6, 46, 16, 60, 162, 0, 7, 4, 167, 0, 4, 3, 182, 0, 29, 154, 0, 5, 3, 172]
abbrev dktX4_create_1 : List UInt8 := dkwX4_create_1 ++ dktX4_create_2
def dkwX4_create_0 : List UInt8 := [42, 27, 184, 0, 87, 28, 3, 17, 39, 15, 184, 0, 44, 42, 180, 0, 9, 5, 46, 16, 8, 162, 0, 18]
abbrev dktX4_create_0 : List UInt8 := dkwX4_create_0 ++ dktX4_create_1
theorem dksX4_create_0 : cX4_create.data.toList.drop 0 = dktX4_create_0 := by decide +kernel
theorem dksX4_create_1 : cX4_create.data.toList.drop 24 = dktX4_create_1 := dk_seg dksX4_create_0 24 rfl rfl
theorem dksX4_create_2 : cX4_create.data.toList.drop 48 = dktX4_create_2 := dk_seg dksX4_create_1 24 rfl rfl
theorem dksX4_create_3 : cX4_create.data.toList.drop 70 = dktX4_create_3 := dk_seg dksX4_create_2 22 rfl rfl
theorem dksX4_create_4 : cX4_create.data.toList.drop 94 = dktX4_create_4 := dk_seg dksX4_create_3 24 rfl rfl
theorem dksX4_create_5 : cX4_create.data.toList.drop 118 = dktX4_create_5 := dk_seg dksX4_create_4 24 rfl rfl
theorem dksX4_create_6 : cX4_create.data.toList.drop 141 = dktX4_create_6 := dk_seg dksX4_create_5 23 rfl rfl
theorem dksX4_create_7 : cX4_create.data.toList.drop 165 = dktX4_create_7 := dk_seg dksX4_create_6 24 rfl rfl
theorem dX4_create_0 : decode cX4_create 0 = .ok (.aload_n 0, 1) := dk_42 (dk_at dksX4_create_0 0 rfl rfl)
theorem dX4_create_1 : decode cX4_create 1 = .ok (.iload_n 1, 1) := dk_27 (dk_at dksX4_create_0 1 rfl rfl)
theorem dX4_create_2 : decode cX4_create 2 = .ok (.invokestatic 87, 3) := dk_184 0 87 (dk_at dksX4_create_0 2 rfl rfl)
theorem dX4_create_5 : decode cX4_create 5 = .ok (.iload_n 2, 1) := dk_28 (dk_at dksX4_create_0 5 rfl rfl)
theorem dX4_create_6 : decode cX4_create 6 = .ok (.iconst 0, 1) := dk_3 (dk_at dksX4_create_0 6 rfl rfl)
theorem dX4_create_7 : decode cX4_create 7 = .ok (.sipush 9999, 3) := dk_17 39 15 (dk_at dksX4_create_0 7 rfl rfl)
theorem dX4_create_10 : decode cX4_create 10 = .ok (.invokestatic 44, 3) := dk_184 0 44 (dk_at dksX4_create_0 10 rfl rfl)
theorem dX4_create_13 : decode cX4_create 13 = .ok (.aload_n 0, 1) := dk_42 (dk_at dksX4_create_0 13 rfl rfl)
theorem dX4_create_14 : decode cX4_create 14 = .ok (.getfield 9, 3) := dk_180 0 9 (dk_at dksX4_create_0 14 rfl rfl)
theorem dX4_create_17 : decode cX4_create 17 = .ok (.iconst 2, 1) := dk_5 (dk_at dksX4_create_0 17 rfl rfl)
theorem dX4_create_18 : decode cX4_create 18 = .ok (.iaload, 1) := dk_46 (dk_at dksX4_create_0 18 rfl rfl)
theorem dX4_create_19 : decode cX4_create 19 = .ok (.bipush 8, 2) := dk_16 8 (dk_at dksX4_create_0 19 rfl rfl)
theorem dX4_create_21 : decode cX4_create 21 = .ok (.if_icmp .ge 18, 3) := dk_162 0 18 (dk_at dksX4_create_0 21 rfl rfl)
theorem dX4_create_24 : decode cX4_create 24 = .ok (.aload_n 0, 1) := dk_42 (dk_at dksX4_create_1 0 rfl rfl)
theorem dX4_create_25 : decode cX4_create 25 = .ok (.getfield 9, 3) := dk_180 0 9 (dk_at dksX4_create_1 1 rfl rfl)
theorem dX4_create_28 : decode cX4_create 28 = .ok (.iconst 3, 1) := dk_6 (dk_at dksX4_create_1 4 rfl rfl)
theorem dX4_create_29 : decode cX4_create 29 = .ok (.iaload, 1) := dk_46 (dk_at dksX4_create_1 5 rfl rfl)
theorem dX4_create_30 : decode cX4_create 30 = .ok (.bipush 60, 2) := dk_16 60 (dk_at dksX4_create_1 6 rfl rfl)
theorem dX4_create_32 : decode cX4_create 32 = .ok (.if_icmp .ge 7, 3) := dk_162 0 7 (dk_at dksX4_create_1 8 rfl rfl)
theorem dX4_create_35 : decode cX4_create 35 = .ok (.iconst 1, 1) := dk_4 (dk_at dksX4_create_1 11 rfl rfl)
theorem dX4_create_36 : decode cX4_create 36 = .ok (.goto 4, 3) := dk_167 0 4 (dk_at dksX4_create_1 12 rfl rfl)
theorem dX4_create_39 : decode cX4_create 39 = .ok (.iconst 0, 1) := dk_3 (dk_at dksX4_create_1 15 rfl rfl)
theorem dX4_create_40 : decode cX4_create 40 = .ok (.invokevirtual 29, 3) := dk_182 0 29 (dk_at dksX4_create_1 16 rfl rfl)
theorem dX4_create_43 : decode cX4_create 43 = .ok (.ifCond .ne 5, 3) := dk_154 0 5 (dk_at dksX4_create_1 19 rfl rfl)
theorem dX4_create_46 : decode cX4_create 46 = .ok (.iconst 0, 1) := dk_3 (dk_at dksX4_create_1 22 rfl rfl)
theorem dX4_create_47 : decode cX4_create 47 = .ok (.ireturn, 1) := dk_172 (dk_at dksX4_create_1 23 rfl rfl)
theorem dX4_create_48 : decode cX4_create 48 = .ok (.aload_n 0, 1) := dk_42 (dk_at dksX4_create_2 0 rfl rfl)
theorem dX4_create_49 : decode cX4_create 49 = .ok (.getfield 9, 3) := dk_180 0 9 (dk_at dksX4_create_2 1 rfl rfl)
theorem dX4_create_52 : decode cX4_create 52 = .ok (.iconst 2, 1) := dk_5 (dk_at dksX4_create_2 4 rfl rfl)
theorem dX4_create_53 : decode cX4_create 53 = .ok (.iaload, 1) := dk_46 (dk_at dksX4_create_2 5 rfl rfl)
theorem dX4_create_54 : decode cX4_create 54 = .ok (.istore_n 3, 1) := dk_62 (dk_at dksX4_create_2 6 rfl rfl)
theorem dX4_create_55 : decode cX4_create 55 = .ok (.iconst 0, 1) := dk_3 (dk_at dksX4_create_2 7 rfl rfl)
theorem dX4_create_56 : decode cX4_create 56 = .ok (.istore 4, 2) := dk_54 4 (dk_at dksX4_create_2 8 rfl rfl)
theorem dX4_create_58 : decode cX4_create 58 = .ok (.iload 4, 2) := dk_21 4 (dk_at dksX4_create_2 10 rfl rfl)
theorem dX4_create_60 : decode cX4_create 60 = .ok (.bipush 32, 2) := dk_16 32 (dk_at dksX4_create_2 12 rfl rfl)
theorem dX4_create_62 : decode cX4_create 62 = .ok (.if_icmp .ge 22, 3) := dk_162 0 22 (dk_at dksX4_create_2 14 rfl rfl)
theorem dX4_create_65 : decode cX4_create 65 = .ok (.aload_n 0, 1) := dk_42 (dk_at dksX4_create_2 17 rfl rfl)
theorem dX4_create_66 : decode cX4_create 66 = .ok (.getfield 9, 3) := dk_180 0 9 (dk_at dksX4_create_2 18 rfl rfl)
theorem dX4_create_69 : decode cX4_create 69 = .ok (.iload_n 3, 1) := dk_29 (dk_at dksX4_create_2 21 rfl rfl)
theorem dX4_create_70 : decode cX4_create 70 = .ok (.invokestatic 40, 3) := dk_184 0 40 (dk_at dksX4_create_3 0 rfl rfl)
theorem dX4_create_73 : decode cX4_create 73 = .ok (.iload 4, 2) := dk_21 4 (dk_at dksX4_create_3 3 rfl rfl)
theorem dX4_create_75 : decode cX4_create 75 = .ok (.iadd, 1) := dk_96 (dk_at dksX4_create_3 5 rfl rfl)
theorem dX4_create_76 : decode cX4_create 76 = .ok (.iconst 0, 1) := dk_3 (dk_at dksX4_create_3 6 rfl rfl)
theorem dX4_create_77 : decode cX4_create 77 = .ok (.iastore, 1) := dk_79 (dk_at dksX4_create_3 7 rfl rfl)
theorem dX4_create_78 : decode cX4_create 78 = .ok (.iinc 4 1, 3) := dk_132 4 1 (dk_at dksX4_create_3 8 rfl rfl)
theorem dX4_create_81 : decode cX4_create 81 = .ok (.goto (-23), 3) := dk_167 255 233 (dk_at dksX4_create_3 11 rfl rfl)
theorem dX4_create_84 : decode cX4_create 84 = .ok (.aload_n 0, 1) := dk_42 (dk_at dksX4_create_3 14 rfl rfl)
theorem dX4_create_85 : decode cX4_create 85 = .ok (.getfield 9, 3) := dk_180 0 9 (dk_at dksX4_create_3 15 rfl rfl)
theorem dX4_create_88 : decode cX4_create 88 = .ok (.iload_n 3, 1) := dk_29 (dk_at dksX4_create_3 18 rfl rfl)
theorem dX4_create_89 : decode cX4_create 89 = .ok (.invokestatic 40, 3) := dk_184 0 40 (dk_at dksX4_create_3 19 rfl rfl)
theorem dX4_create_92 : decode cX4_create 92 = .ok (.iconst 0, 1) := dk_3 (dk_at dksX4_create_3 22 rfl rfl)
theorem dX4_create_93 : decode cX4_create 93 = .ok (.iadd, 1) := dk_96 (dk_at dksX4_create_3 23 rfl rfl)
theorem dX4_create_94 : decode cX4_create 94 = .ok (.iload_n 1, 1) := dk_27 (dk_at dksX4_create_4 0 rfl rfl)
theorem dX4_create_95 : decode cX4_create 95 = .ok (.iastore, 1) := dk_79 (dk_at dksX4_create_4 1 rfl rfl)
theorem dX4_create_96 : decode cX4_create 96 = .ok (.aload_n 0, 1) := dk_42 (dk_at dksX4_create_4 2 rfl rfl)
theorem dX4_create_97 : decode cX4_create 97 = .ok (.getfield 9, 3) := dk_180 0 9 (dk_at dksX4_create_4 3 rfl rfl)
theorem dX4_create_100 : decode cX4_create 100 = .ok (.iload_n 3, 1) := dk_29 (dk_at dksX4_create_4 6 rfl rfl)
theorem dX4_create_101 : decode cX4_create 101 = .ok (.invokestatic 40, 3) := dk_184 0 40 (dk_at dksX4_create_4 7 rfl rfl)
theorem dX4_create_104 : decode cX4_create 104 = .ok (.iconst 1, 1) := dk_4 (dk_at dksX4_create_4 10 rfl rfl)
theorem dX4_create_105 : decode cX4_create 105 = .ok (.iadd, 1) := dk_96 (dk_at dksX4_create_4 11 rfl rfl)
theorem dX4_create_106 : decode cX4_create 106 = .ok (.iconst 1, 1) := dk_4 (dk_at dksX4_create_4 12 rfl rfl)
theorem dX4_create_107 : decode cX4_create 107 = .ok (.iastore, 1) := dk_79 (dk_at dksX4_create_4 13 rfl rfl)
theorem dX4_create_108 : decode cX4_create 108 = .ok (.aload_n 0, 1) := dk_42 (dk_at dksX4_create_4 14 rfl rfl)
theorem dX4_create_109 : decode cX4_create 109 = .ok (.getfield 9, 3) := dk_180 0 9 (dk_at dksX4_create_4 15 rfl rfl)
theorem dX4_create_112 : decode cX4_create 112 = .ok (.iload_n 3, 1) := dk_29 (dk_at dksX4_create_4 18 rfl rfl)
theorem dX4_create_113 : decode cX4_create 113 = .ok (.iconst 0, 1) := dk_3 (dk_at dksX4_create_4 19 rfl rfl)
theorem dX4_create_114 : decode cX4_create 114 = .ok (.invokestatic 69, 3) := dk_184 0 69 (dk_at dksX4_create_4 20 rfl rfl)
theorem dX4_create_117 : decode cX4_create 117 = .ok (.iconst 0, 1) := dk_3 (dk_at dksX4_create_4 23 rfl rfl)
theorem dX4_create_118 : decode cX4_create 118 = .ok (.iadd, 1) := dk_96 (dk_at dksX4_create_5 0 rfl rfl)
theorem dX4_create_119 : decode cX4_create 119 = .ok (.iconst (-1), 1) := dk_2 (dk_at dksX4_create_5 1 rfl rfl)
theorem dX4_create_120 : decode cX4_create 120 = .ok (.iastore, 1) := dk_79 (dk_at dksX4_create_5 2 rfl rfl)
theorem dX4_create_121 : decode cX4_create 121 = .ok (.aload_n 0, 1) := dk_42 (dk_at dksX4_create_5 3 rfl rfl)
theorem dX4_create_122 : decode cX4_create 122 = .ok (.getfield 9, 3) := dk_180 0 9 (dk_at dksX4_create_5 4 rfl rfl)
theorem dX4_create_125 : decode cX4_create 125 = .ok (.iconst 2, 1) := dk_5 (dk_at dksX4_create_5 7 rfl rfl)
theorem dX4_create_126 : decode cX4_create 126 = .ok (.dup2, 1) := dk_92 (dk_at dksX4_create_5 8 rfl rfl)
theorem dX4_create_127 : decode cX4_create 127 = .ok (.iaload, 1) := dk_46 (dk_at dksX4_create_5 9 rfl rfl)
theorem dX4_create_128 : decode cX4_create 128 = .ok (.iconst 1, 1) := dk_4 (dk_at dksX4_create_5 10 rfl rfl)
theorem dX4_create_129 : decode cX4_create 129 = .ok (.iadd, 1) := dk_96 (dk_at dksX4_create_5 11 rfl rfl)
theorem dX4_create_130 : decode cX4_create 130 = .ok (.iastore, 1) := dk_79 (dk_at dksX4_create_5 12 rfl rfl)
theorem dX4_create_131 : decode cX4_create 131 = .ok (.iload_n 3, 1) := dk_29 (dk_at dksX4_create_5 13 rfl rfl)
theorem dX4_create_132 : decode cX4_create 132 = .ok (.iconst 0, 1) := dk_3 (dk_at dksX4_create_5 14 rfl rfl)
theorem dX4_create_133 : decode cX4_create 133 = .ok (.invokestatic 69, 3) := dk_184 0 69 (dk_at dksX4_create_5 15 rfl rfl)
theorem dX4_create_136 : decode cX4_create 136 = .ok (.iconst 4, 1) := dk_7 (dk_at dksX4_create_5 18 rfl rfl)
theorem dX4_create_137 : decode cX4_create 137 = .ok (.iadd, 1) := dk_96 (dk_at dksX4_create_5 19 rfl rfl)
theorem dX4_create_138 : decode cX4_create 138 = .ok (.istore 4, 2) := dk_54 4 (dk_at dksX4_create_5 20 rfl rfl)
theorem dX4_create_140 : decode cX4_create 140 = .ok (.aload_n 0, 1) := dk_42 (dk_at dksX4_create_5 22 rfl rfl)
theorem dX4_create_141 : decode cX4_create 141 = .ok (.getfield 9, 3) := dk_180 0 9 (dk_at dksX4_create_6 0 rfl rfl)
theorem dX4_create_144 : decode cX4_create 144 = .ok (.iload 4, 2) := dk_21 4 (dk_at dksX4_create_6 3 rfl rfl)
theorem dX4_create_146 : decode cX4_create 146 = .ok (.iconst 3, 1) := dk_6 (dk_at dksX4_create_6 5 rfl rfl)
theorem dX4_create_147 : decode cX4_create 147 = .ok (.iadd, 1) := dk_96 (dk_at dksX4_create_6 6 rfl rfl)
theorem dX4_create_148 : decode cX4_create 148 = .ok (.iload_n 2, 1) := dk_28 (dk_at dksX4_create_6 7 rfl rfl)
theorem dX4_create_149 : decode cX4_create 149 = .ok (.iastore, 1) := dk_79 (dk_at dksX4_create_6 8 rfl rfl)
theorem dX4_create_150 : decode cX4_create 150 = .ok (.aload_n 0, 1) := dk_42 (dk_at dksX4_create_6 9 rfl rfl)
theorem dX4_create_151 : decode cX4_create 151 = .ok (.iload_n 3, 1) := dk_29 (dk_at dksX4_create_6 10 rfl rfl)
theorem dX4_create_152 : decode cX4_create 152 = .ok (.iconst 0, 1) := dk_3 (dk_at dksX4_create_6 11 rfl rfl)
theorem dX4_create_153 : decode cX4_create 153 = .ok (.iconst 0, 1) := dk_3 (dk_at dksX4_create_6 12 rfl rfl)
theorem dX4_create_154 : decode cX4_create 154 = .ok (.iconst 1, 1) := dk_4 (dk_at dksX4_create_6 13 rfl rfl)
theorem dX4_create_155 : decode cX4_create 155 = .ok (.iload 4, 2) := dk_21 4 (dk_at dksX4_create_6 14 rfl rfl)
theorem dX4_create_157 : decode cX4_create 157 = .ok (.invokevirtual 90, 3) := dk_182 0 90 (dk_at dksX4_create_6 16 rfl rfl)
theorem dX4_create_160 : decode cX4_create 160 = .ok (.istore 5, 2) := dk_54 5 (dk_at dksX4_create_6 19 rfl rfl)
theorem dX4_create_162 : decode cX4_create 162 = .ok (.aload_n 0, 1) := dk_42 (dk_at dksX4_create_6 21 rfl rfl)
theorem dX4_create_163 : decode cX4_create 163 = .ok (.iconst 2, 1) := dk_5 (dk_at dksX4_create_6 22 rfl rfl)
theorem dX4_create_164 : decode cX4_create 164 = .ok (.iload_n 1, 1) := dk_27 (dk_at dksX4_create_6 23 rfl rfl)
theorem dX4_create_165 : decode cX4_create 165 = .ok (.iload_n 2, 1) := dk_28 (dk_at dksX4_create_7 0 rfl rfl)
theorem dX4_create_166 : decode cX4_create 166 = .ok (.iconst 0, 1) := dk_3 (dk_at dksX4_create_7 1 rfl rfl)
theorem dX4_create_167 : decode cX4_create 167 = .ok (.iconst 0, 1) := dk_3 (dk_at dksX4_create_7 2 rfl rfl)
theorem dX4_create_168 : decode cX4_create 168 = .ok (.iconst 0, 1) := dk_3 (dk_at dksX4_create_7 3 rfl rfl)
theorem dX4_create_169 : decode cX4_create 169 = .ok (.invokevirtual 80, 3) := dk_182 0 80 (dk_at dksX4_create_7 4 rfl rfl)
theorem dX4_create_172 : decode cX4_create 172 = .ok (.iload_n 3, 1) := dk_29 (dk_at dksX4_create_7 7 rfl rfl)
theorem dX4_create_173 : decode cX4_create 173 = .ok (.ireturn, 1) := dk_172 (dk_at dksX4_create_7 8 rfl rfl)
abbrev cX4_isPerson : ByteArray := prog_38_method_13_code
def yX4_isPerson : MethodName := ⟨RX4, "isPerson", "(I)Z"⟩
def dkwX4_isPerson_0 : List UInt8 := [26, 3, 8, 184, 0, 44, 172]
abbrev dktX4_isPerson_0 : List UInt8 := dkwX4_isPerson_0 ++ []
theorem dksX4_isPerson_0 : cX4_isPerson.data.toList.drop 0 = dktX4_isPerson_0 := by decide +kernel
theorem dX4_isPerson_0 : decode cX4_isPerson 0 = .ok (.iload_n 0, 1) := dk_26 (dk_at dksX4_isPerson_0 0 rfl rfl)
theorem dX4_isPerson_1 : decode cX4_isPerson 1 = .ok (.iconst 0, 1) := dk_3 (dk_at dksX4_isPerson_0 1 rfl rfl)
theorem dX4_isPerson_2 : decode cX4_isPerson 2 = .ok (.iconst 5, 1) := dk_8 (dk_at dksX4_isPerson_0 2 rfl rfl)
theorem dX4_isPerson_3 : decode cX4_isPerson 3 = .ok (.invokestatic 44, 3) := dk_184 0 44 (dk_at dksX4_isPerson_0 3 rfl rfl)
theorem dX4_isPerson_6 : decode cX4_isPerson 6 = .ok (.ireturn, 1) := dk_172 (dk_at dksX4_isPerson_0 6 rfl rfl)
abbrev cX4_doc : ByteArray := prog_38_method_10_code
def yX4_doc : MethodName := ⟨RX4, "doc", "(I)I"⟩
def dkwX4_doc_0 : List UInt8 := [8, 16, 32, 26, 104, 96, 172]
abbrev dktX4_doc_0 : List UInt8 := dkwX4_doc_0 ++ []
theorem dksX4_doc_0 : cX4_doc.data.toList.drop 0 = dktX4_doc_0 := by decide +kernel
theorem dX4_doc_0 : decode cX4_doc 0 = .ok (.iconst 5, 1) := dk_8 (dk_at dksX4_doc_0 0 rfl rfl)
theorem dX4_doc_1 : decode cX4_doc 1 = .ok (.bipush 32, 2) := dk_16 32 (dk_at dksX4_doc_0 1 rfl rfl)
theorem dX4_doc_3 : decode cX4_doc 3 = .ok (.iload_n 0, 1) := dk_26 (dk_at dksX4_doc_0 3 rfl rfl)
theorem dX4_doc_4 : decode cX4_doc 4 = .ok (.imul, 1) := dk_104 (dk_at dksX4_doc_0 4 rfl rfl)
theorem dX4_doc_5 : decode cX4_doc 5 = .ok (.iadd, 1) := dk_96 (dk_at dksX4_doc_0 5 rfl rfl)
theorem dX4_doc_6 : decode cX4_doc 6 = .ok (.ireturn, 1) := dk_172 (dk_at dksX4_doc_0 6 rfl rfl)
abbrev cX4_place : ByteArray := prog_38_method_11_code
def yX4_place : MethodName := ⟨RX4, "place", "(II)I"⟩
def dkwX4_place_0 : List UInt8 := [26, 184, 0, 40, 16, 8, 96, 16, 8, 27, 104, 96, 172]
abbrev dktX4_place_0 : List UInt8 := dkwX4_place_0 ++ []
theorem dksX4_place_0 : cX4_place.data.toList.drop 0 = dktX4_place_0 := by decide +kernel
theorem dX4_place_0 : decode cX4_place 0 = .ok (.iload_n 0, 1) := dk_26 (dk_at dksX4_place_0 0 rfl rfl)
theorem dX4_place_1 : decode cX4_place 1 = .ok (.invokestatic 40, 3) := dk_184 0 40 (dk_at dksX4_place_0 1 rfl rfl)
theorem dX4_place_4 : decode cX4_place 4 = .ok (.bipush 8, 2) := dk_16 8 (dk_at dksX4_place_0 4 rfl rfl)
theorem dX4_place_6 : decode cX4_place 6 = .ok (.iadd, 1) := dk_96 (dk_at dksX4_place_0 6 rfl rfl)
theorem dX4_place_7 : decode cX4_place 7 = .ok (.bipush 8, 2) := dk_16 8 (dk_at dksX4_place_0 7 rfl rfl)
theorem dX4_place_9 : decode cX4_place 9 = .ok (.iload_n 1, 1) := dk_27 (dk_at dksX4_place_0 9 rfl rfl)
theorem dX4_place_10 : decode cX4_place 10 = .ok (.imul, 1) := dk_104 (dk_at dksX4_place_0 10 rfl rfl)
theorem dX4_place_11 : decode cX4_place 11 = .ok (.iadd, 1) := dk_96 (dk_at dksX4_place_0 11 rfl rfl)
theorem dX4_place_12 : decode cX4_place 12 = .ok (.ireturn, 1) := dk_172 (dk_at dksX4_place_0 12 rfl rfl)
abbrev cX4_make : ByteArray := prog_38_method_29_code
def yX4_make : MethodName := ⟨RX4, "make", "(IIIII)I"⟩
def dkwX4_make_5 : List UInt8 := [100, 172]
abbrev dktX4_make_5 : List UInt8 := dkwX4_make_5 ++ []
def dkwX4_make_4 : List UInt8 := [21, 6, 16, 8, 96, 4, 79, 42, 180, 0, 9, 6, 92, 46, 4, 96, 79, 42, 180, 0, 9, 6, 46, 4]
abbrev dktX4_make_4 : List UInt8 := dkwX4_make_4 ++ dktX4_make_5
def dkwX4_make_3 : List UInt8 := [21, 7, 96, 42, 180, 0, 9, 21, 5, 21, 7, 96, 46, 79, 132, 7, 1, 167, 255, 225, 42, 180, 0, 9]
abbrev dktX4_make_3 : List UInt8 := dkwX4_make_3 ++ dktX4_make_4
def dkwX4_make_2 : List UInt8 := [21, 6, 6, 96, 21, 4, 79, 3, 54, 7, 21, 7, 7, 162, 0, 31, 42, 180, 0, 9, 21, 6, 7, 96]
abbrev dktX4_make_2 : List UInt8 := dkwX4_make_2 ++ dktX4_make_3
def dkwX4_make_1 : List UInt8 := [180, 0, 9, 21, 6, 4, 96, 28, 79, 42, 180, 0, 9, 21, 6, 5, 96, 29, 79, 42, 180, 0, 9]
abbrev dktX4_make_1 : List UInt8 := dkwX4_make_1 ++ dktX4_make_2
def dkwX4_make_0 : List UInt8 := [42, 180, 0, 9, 6, 46, 184, 0, 52, 54, 6, 42, 180, 0, 9, 21, 6, 3, 96, 27, 79, 42]
abbrev dktX4_make_0 : List UInt8 := dkwX4_make_0 ++ dktX4_make_1
theorem dksX4_make_0 : cX4_make.data.toList.drop 0 = dktX4_make_0 := by decide +kernel
theorem dksX4_make_1 : cX4_make.data.toList.drop 22 = dktX4_make_1 := dk_seg dksX4_make_0 22 rfl rfl
theorem dksX4_make_2 : cX4_make.data.toList.drop 45 = dktX4_make_2 := dk_seg dksX4_make_1 23 rfl rfl
theorem dksX4_make_3 : cX4_make.data.toList.drop 69 = dktX4_make_3 := dk_seg dksX4_make_2 24 rfl rfl
theorem dksX4_make_4 : cX4_make.data.toList.drop 93 = dktX4_make_4 := dk_seg dksX4_make_3 24 rfl rfl
theorem dksX4_make_5 : cX4_make.data.toList.drop 117 = dktX4_make_5 := dk_seg dksX4_make_4 24 rfl rfl
theorem dX4_make_0 : decode cX4_make 0 = .ok (.aload_n 0, 1) := dk_42 (dk_at dksX4_make_0 0 rfl rfl)
theorem dX4_make_1 : decode cX4_make 1 = .ok (.getfield 9, 3) := dk_180 0 9 (dk_at dksX4_make_0 1 rfl rfl)
theorem dX4_make_4 : decode cX4_make 4 = .ok (.iconst 3, 1) := dk_6 (dk_at dksX4_make_0 4 rfl rfl)
theorem dX4_make_5 : decode cX4_make 5 = .ok (.iaload, 1) := dk_46 (dk_at dksX4_make_0 5 rfl rfl)
theorem dX4_make_6 : decode cX4_make 6 = .ok (.invokestatic 52, 3) := dk_184 0 52 (dk_at dksX4_make_0 6 rfl rfl)
theorem dX4_make_9 : decode cX4_make 9 = .ok (.istore 6, 2) := dk_54 6 (dk_at dksX4_make_0 9 rfl rfl)
theorem dX4_make_11 : decode cX4_make 11 = .ok (.aload_n 0, 1) := dk_42 (dk_at dksX4_make_0 11 rfl rfl)
theorem dX4_make_12 : decode cX4_make 12 = .ok (.getfield 9, 3) := dk_180 0 9 (dk_at dksX4_make_0 12 rfl rfl)
theorem dX4_make_15 : decode cX4_make 15 = .ok (.iload 6, 2) := dk_21 6 (dk_at dksX4_make_0 15 rfl rfl)
theorem dX4_make_17 : decode cX4_make 17 = .ok (.iconst 0, 1) := dk_3 (dk_at dksX4_make_0 17 rfl rfl)
theorem dX4_make_18 : decode cX4_make 18 = .ok (.iadd, 1) := dk_96 (dk_at dksX4_make_0 18 rfl rfl)
theorem dX4_make_19 : decode cX4_make 19 = .ok (.iload_n 1, 1) := dk_27 (dk_at dksX4_make_0 19 rfl rfl)
theorem dX4_make_20 : decode cX4_make 20 = .ok (.iastore, 1) := dk_79 (dk_at dksX4_make_0 20 rfl rfl)
theorem dX4_make_21 : decode cX4_make 21 = .ok (.aload_n 0, 1) := dk_42 (dk_at dksX4_make_0 21 rfl rfl)
theorem dX4_make_22 : decode cX4_make 22 = .ok (.getfield 9, 3) := dk_180 0 9 (dk_at dksX4_make_1 0 rfl rfl)
theorem dX4_make_25 : decode cX4_make 25 = .ok (.iload 6, 2) := dk_21 6 (dk_at dksX4_make_1 3 rfl rfl)
theorem dX4_make_27 : decode cX4_make 27 = .ok (.iconst 1, 1) := dk_4 (dk_at dksX4_make_1 5 rfl rfl)
theorem dX4_make_28 : decode cX4_make 28 = .ok (.iadd, 1) := dk_96 (dk_at dksX4_make_1 6 rfl rfl)
theorem dX4_make_29 : decode cX4_make 29 = .ok (.iload_n 2, 1) := dk_28 (dk_at dksX4_make_1 7 rfl rfl)
theorem dX4_make_30 : decode cX4_make 30 = .ok (.iastore, 1) := dk_79 (dk_at dksX4_make_1 8 rfl rfl)
theorem dX4_make_31 : decode cX4_make 31 = .ok (.aload_n 0, 1) := dk_42 (dk_at dksX4_make_1 9 rfl rfl)
theorem dX4_make_32 : decode cX4_make 32 = .ok (.getfield 9, 3) := dk_180 0 9 (dk_at dksX4_make_1 10 rfl rfl)
theorem dX4_make_35 : decode cX4_make 35 = .ok (.iload 6, 2) := dk_21 6 (dk_at dksX4_make_1 13 rfl rfl)
theorem dX4_make_37 : decode cX4_make 37 = .ok (.iconst 2, 1) := dk_5 (dk_at dksX4_make_1 15 rfl rfl)
theorem dX4_make_38 : decode cX4_make 38 = .ok (.iadd, 1) := dk_96 (dk_at dksX4_make_1 16 rfl rfl)
theorem dX4_make_39 : decode cX4_make 39 = .ok (.iload_n 3, 1) := dk_29 (dk_at dksX4_make_1 17 rfl rfl)
theorem dX4_make_40 : decode cX4_make 40 = .ok (.iastore, 1) := dk_79 (dk_at dksX4_make_1 18 rfl rfl)
theorem dX4_make_41 : decode cX4_make 41 = .ok (.aload_n 0, 1) := dk_42 (dk_at dksX4_make_1 19 rfl rfl)
theorem dX4_make_42 : decode cX4_make 42 = .ok (.getfield 9, 3) := dk_180 0 9 (dk_at dksX4_make_1 20 rfl rfl)
theorem dX4_make_45 : decode cX4_make 45 = .ok (.iload 6, 2) := dk_21 6 (dk_at dksX4_make_2 0 rfl rfl)
theorem dX4_make_47 : decode cX4_make 47 = .ok (.iconst 3, 1) := dk_6 (dk_at dksX4_make_2 2 rfl rfl)
theorem dX4_make_48 : decode cX4_make 48 = .ok (.iadd, 1) := dk_96 (dk_at dksX4_make_2 3 rfl rfl)
theorem dX4_make_49 : decode cX4_make 49 = .ok (.iload 4, 2) := dk_21 4 (dk_at dksX4_make_2 4 rfl rfl)
theorem dX4_make_51 : decode cX4_make 51 = .ok (.iastore, 1) := dk_79 (dk_at dksX4_make_2 6 rfl rfl)
theorem dX4_make_52 : decode cX4_make 52 = .ok (.iconst 0, 1) := dk_3 (dk_at dksX4_make_2 7 rfl rfl)
theorem dX4_make_53 : decode cX4_make 53 = .ok (.istore 7, 2) := dk_54 7 (dk_at dksX4_make_2 8 rfl rfl)
theorem dX4_make_55 : decode cX4_make 55 = .ok (.iload 7, 2) := dk_21 7 (dk_at dksX4_make_2 10 rfl rfl)
theorem dX4_make_57 : decode cX4_make 57 = .ok (.iconst 4, 1) := dk_7 (dk_at dksX4_make_2 12 rfl rfl)
theorem dX4_make_58 : decode cX4_make 58 = .ok (.if_icmp .ge 31, 3) := dk_162 0 31 (dk_at dksX4_make_2 13 rfl rfl)
theorem dX4_make_61 : decode cX4_make 61 = .ok (.aload_n 0, 1) := dk_42 (dk_at dksX4_make_2 16 rfl rfl)
theorem dX4_make_62 : decode cX4_make 62 = .ok (.getfield 9, 3) := dk_180 0 9 (dk_at dksX4_make_2 17 rfl rfl)
theorem dX4_make_65 : decode cX4_make 65 = .ok (.iload 6, 2) := dk_21 6 (dk_at dksX4_make_2 20 rfl rfl)
theorem dX4_make_67 : decode cX4_make 67 = .ok (.iconst 4, 1) := dk_7 (dk_at dksX4_make_2 22 rfl rfl)
theorem dX4_make_68 : decode cX4_make 68 = .ok (.iadd, 1) := dk_96 (dk_at dksX4_make_2 23 rfl rfl)
theorem dX4_make_69 : decode cX4_make 69 = .ok (.iload 7, 2) := dk_21 7 (dk_at dksX4_make_3 0 rfl rfl)
theorem dX4_make_71 : decode cX4_make 71 = .ok (.iadd, 1) := dk_96 (dk_at dksX4_make_3 2 rfl rfl)
theorem dX4_make_72 : decode cX4_make 72 = .ok (.aload_n 0, 1) := dk_42 (dk_at dksX4_make_3 3 rfl rfl)
theorem dX4_make_73 : decode cX4_make 73 = .ok (.getfield 9, 3) := dk_180 0 9 (dk_at dksX4_make_3 4 rfl rfl)
theorem dX4_make_76 : decode cX4_make 76 = .ok (.iload 5, 2) := dk_21 5 (dk_at dksX4_make_3 7 rfl rfl)
theorem dX4_make_78 : decode cX4_make 78 = .ok (.iload 7, 2) := dk_21 7 (dk_at dksX4_make_3 9 rfl rfl)
theorem dX4_make_80 : decode cX4_make 80 = .ok (.iadd, 1) := dk_96 (dk_at dksX4_make_3 11 rfl rfl)
theorem dX4_make_81 : decode cX4_make 81 = .ok (.iaload, 1) := dk_46 (dk_at dksX4_make_3 12 rfl rfl)
theorem dX4_make_82 : decode cX4_make 82 = .ok (.iastore, 1) := dk_79 (dk_at dksX4_make_3 13 rfl rfl)
theorem dX4_make_83 : decode cX4_make 83 = .ok (.iinc 7 1, 3) := dk_132 7 1 (dk_at dksX4_make_3 14 rfl rfl)
theorem dX4_make_86 : decode cX4_make 86 = .ok (.goto (-31), 3) := dk_167 255 225 (dk_at dksX4_make_3 17 rfl rfl)
theorem dX4_make_89 : decode cX4_make 89 = .ok (.aload_n 0, 1) := dk_42 (dk_at dksX4_make_3 20 rfl rfl)
theorem dX4_make_90 : decode cX4_make 90 = .ok (.getfield 9, 3) := dk_180 0 9 (dk_at dksX4_make_3 21 rfl rfl)
theorem dX4_make_93 : decode cX4_make 93 = .ok (.iload 6, 2) := dk_21 6 (dk_at dksX4_make_4 0 rfl rfl)
theorem dX4_make_95 : decode cX4_make 95 = .ok (.bipush 8, 2) := dk_16 8 (dk_at dksX4_make_4 2 rfl rfl)
theorem dX4_make_97 : decode cX4_make 97 = .ok (.iadd, 1) := dk_96 (dk_at dksX4_make_4 4 rfl rfl)
theorem dX4_make_98 : decode cX4_make 98 = .ok (.iconst 1, 1) := dk_4 (dk_at dksX4_make_4 5 rfl rfl)
theorem dX4_make_99 : decode cX4_make 99 = .ok (.iastore, 1) := dk_79 (dk_at dksX4_make_4 6 rfl rfl)
theorem dX4_make_100 : decode cX4_make 100 = .ok (.aload_n 0, 1) := dk_42 (dk_at dksX4_make_4 7 rfl rfl)
theorem dX4_make_101 : decode cX4_make 101 = .ok (.getfield 9, 3) := dk_180 0 9 (dk_at dksX4_make_4 8 rfl rfl)
theorem dX4_make_104 : decode cX4_make 104 = .ok (.iconst 3, 1) := dk_6 (dk_at dksX4_make_4 11 rfl rfl)
theorem dX4_make_105 : decode cX4_make 105 = .ok (.dup2, 1) := dk_92 (dk_at dksX4_make_4 12 rfl rfl)
theorem dX4_make_106 : decode cX4_make 106 = .ok (.iaload, 1) := dk_46 (dk_at dksX4_make_4 13 rfl rfl)
theorem dX4_make_107 : decode cX4_make 107 = .ok (.iconst 1, 1) := dk_4 (dk_at dksX4_make_4 14 rfl rfl)
theorem dX4_make_108 : decode cX4_make 108 = .ok (.iadd, 1) := dk_96 (dk_at dksX4_make_4 15 rfl rfl)
theorem dX4_make_109 : decode cX4_make 109 = .ok (.iastore, 1) := dk_79 (dk_at dksX4_make_4 16 rfl rfl)
theorem dX4_make_110 : decode cX4_make 110 = .ok (.aload_n 0, 1) := dk_42 (dk_at dksX4_make_4 17 rfl rfl)
theorem dX4_make_111 : decode cX4_make 111 = .ok (.getfield 9, 3) := dk_180 0 9 (dk_at dksX4_make_4 18 rfl rfl)
theorem dX4_make_114 : decode cX4_make 114 = .ok (.iconst 3, 1) := dk_6 (dk_at dksX4_make_4 21 rfl rfl)
theorem dX4_make_115 : decode cX4_make 115 = .ok (.iaload, 1) := dk_46 (dk_at dksX4_make_4 22 rfl rfl)
theorem dX4_make_116 : decode cX4_make 116 = .ok (.iconst 1, 1) := dk_4 (dk_at dksX4_make_4 23 rfl rfl)
theorem dX4_make_117 : decode cX4_make 117 = .ok (.isub, 1) := dk_100 (dk_at dksX4_make_5 0 rfl rfl)
theorem dX4_make_118 : decode cX4_make 118 = .ok (.ireturn, 1) := dk_172 (dk_at dksX4_make_5 1 rfl rfl)
abbrev cX4_ver : ByteArray := prog_38_method_12_code
def yX4_ver : MethodName := ⟨RX4, "ver", "(I)I"⟩
def dkwX4_ver_0 : List UInt8 := [17, 1, 5, 16, 9, 26, 104, 96, 172]
abbrev dktX4_ver_0 : List UInt8 := dkwX4_ver_0 ++ []
theorem dksX4_ver_0 : cX4_ver.data.toList.drop 0 = dktX4_ver_0 := by decide +kernel
theorem dX4_ver_0 : decode cX4_ver 0 = .ok (.sipush 261, 3) := dk_17 1 5 (dk_at dksX4_ver_0 0 rfl rfl)
theorem dX4_ver_3 : decode cX4_ver 3 = .ok (.bipush 9, 2) := dk_16 9 (dk_at dksX4_ver_0 3 rfl rfl)
theorem dX4_ver_5 : decode cX4_ver 5 = .ok (.iload_n 0, 1) := dk_26 (dk_at dksX4_ver_0 5 rfl rfl)
theorem dX4_ver_6 : decode cX4_ver 6 = .ok (.imul, 1) := dk_104 (dk_at dksX4_ver_0 6 rfl rfl)
theorem dX4_ver_7 : decode cX4_ver 7 = .ok (.iadd, 1) := dk_96 (dk_at dksX4_ver_0 7 rfl rfl)
theorem dX4_ver_8 : decode cX4_ver 8 = .ok (.ireturn, 1) := dk_172 (dk_at dksX4_ver_0 8 rfl rfl)
abbrev cX4_grant : ByteArray := prog_38_method_33_code
def yX4_grant : MethodName := ⟨RX4, "grant", "(IIII)I"⟩
def dkwX4_grant_5 : List UInt8 := [21, 4, 79, 42, 6, 27, 28, 29, 21, 4, 3, 182, 0, 80, 21, 8, 172]
abbrev dktX4_grant_5 : List UInt8 := dkwX4_grant_5 ++ []
def dkwX4_grant_4 : List UInt8 := [184, 0, 40, 5, 96, 29, 96, 54, 7, 42, 180, 0, 9, 21, 7, 46, 54, 8, 42, 180, 0, 9, 21, 7]
abbrev dktX4_grant_4 : List UInt8 := dkwX4_grant_4 ++ dktX4_grant_5
def dkwX4_grant_3 : List UInt8 := [27, 28, 182, 0, 94, 153, 0, 7, 4, 167, 0, 4, 3, 182, 0, 29, 154, 0, 5, 3, 172, 28]
abbrev dktX4_grant_3 : List UInt8 := dkwX4_grant_3 ++ dktX4_grant_4
def dkwX4_grant_2 : List UInt8 := [182, 0, 94, 154, 0, 7, 4, 167, 0, 4, 3, 54, 6, 42, 21, 5, 21, 6, 21, 6, 153, 0, 16, 42]
abbrev dktX4_grant_2 : List UInt8 := dkwX4_grant_2 ++ dktX4_grant_3
def dkwX4_grant_1 : List UInt8 := [167, 0, 4, 3, 54, 5, 21, 5, 153, 0, 26, 21, 4, 3, 5, 184, 0, 44, 153, 0, 16, 42, 29, 28]
abbrev dktX4_grant_1 : List UInt8 := dkwX4_grant_1 ++ dktX4_grant_2
def dkwX4_grant_0 : List UInt8 := [27, 184, 0, 87, 153, 0, 22, 42, 28, 182, 0, 48, 153, 0, 14, 29, 184, 0, 87, 153, 0, 7, 4]
abbrev dktX4_grant_0 : List UInt8 := dkwX4_grant_0 ++ dktX4_grant_1
theorem dksX4_grant_0 : cX4_grant.data.toList.drop 0 = dktX4_grant_0 := by decide +kernel
theorem dksX4_grant_1 : cX4_grant.data.toList.drop 23 = dktX4_grant_1 := dk_seg dksX4_grant_0 23 rfl rfl
theorem dksX4_grant_2 : cX4_grant.data.toList.drop 47 = dktX4_grant_2 := dk_seg dksX4_grant_1 24 rfl rfl
theorem dksX4_grant_3 : cX4_grant.data.toList.drop 71 = dktX4_grant_3 := dk_seg dksX4_grant_2 24 rfl rfl
theorem dksX4_grant_4 : cX4_grant.data.toList.drop 93 = dktX4_grant_4 := dk_seg dksX4_grant_3 22 rfl rfl
theorem dksX4_grant_5 : cX4_grant.data.toList.drop 117 = dktX4_grant_5 := dk_seg dksX4_grant_4 24 rfl rfl
theorem dX4_grant_0 : decode cX4_grant 0 = .ok (.iload_n 1, 1) := dk_27 (dk_at dksX4_grant_0 0 rfl rfl)
theorem dX4_grant_1 : decode cX4_grant 1 = .ok (.invokestatic 87, 3) := dk_184 0 87 (dk_at dksX4_grant_0 1 rfl rfl)
theorem dX4_grant_4 : decode cX4_grant 4 = .ok (.ifCond .eq 22, 3) := dk_153 0 22 (dk_at dksX4_grant_0 4 rfl rfl)
theorem dX4_grant_7 : decode cX4_grant 7 = .ok (.aload_n 0, 1) := dk_42 (dk_at dksX4_grant_0 7 rfl rfl)
theorem dX4_grant_8 : decode cX4_grant 8 = .ok (.iload_n 2, 1) := dk_28 (dk_at dksX4_grant_0 8 rfl rfl)
theorem dX4_grant_9 : decode cX4_grant 9 = .ok (.invokevirtual 48, 3) := dk_182 0 48 (dk_at dksX4_grant_0 9 rfl rfl)
theorem dX4_grant_12 : decode cX4_grant 12 = .ok (.ifCond .eq 14, 3) := dk_153 0 14 (dk_at dksX4_grant_0 12 rfl rfl)
theorem dX4_grant_15 : decode cX4_grant 15 = .ok (.iload_n 3, 1) := dk_29 (dk_at dksX4_grant_0 15 rfl rfl)
theorem dX4_grant_16 : decode cX4_grant 16 = .ok (.invokestatic 87, 3) := dk_184 0 87 (dk_at dksX4_grant_0 16 rfl rfl)
theorem dX4_grant_19 : decode cX4_grant 19 = .ok (.ifCond .eq 7, 3) := dk_153 0 7 (dk_at dksX4_grant_0 19 rfl rfl)
theorem dX4_grant_22 : decode cX4_grant 22 = .ok (.iconst 1, 1) := dk_4 (dk_at dksX4_grant_0 22 rfl rfl)
theorem dX4_grant_23 : decode cX4_grant 23 = .ok (.goto 4, 3) := dk_167 0 4 (dk_at dksX4_grant_1 0 rfl rfl)
theorem dX4_grant_26 : decode cX4_grant 26 = .ok (.iconst 0, 1) := dk_3 (dk_at dksX4_grant_1 3 rfl rfl)
theorem dX4_grant_27 : decode cX4_grant 27 = .ok (.istore 5, 2) := dk_54 5 (dk_at dksX4_grant_1 4 rfl rfl)
theorem dX4_grant_29 : decode cX4_grant 29 = .ok (.iload 5, 2) := dk_21 5 (dk_at dksX4_grant_1 6 rfl rfl)
theorem dX4_grant_31 : decode cX4_grant 31 = .ok (.ifCond .eq 26, 3) := dk_153 0 26 (dk_at dksX4_grant_1 8 rfl rfl)
theorem dX4_grant_34 : decode cX4_grant 34 = .ok (.iload 4, 2) := dk_21 4 (dk_at dksX4_grant_1 11 rfl rfl)
theorem dX4_grant_36 : decode cX4_grant 36 = .ok (.iconst 0, 1) := dk_3 (dk_at dksX4_grant_1 13 rfl rfl)
theorem dX4_grant_37 : decode cX4_grant 37 = .ok (.iconst 2, 1) := dk_5 (dk_at dksX4_grant_1 14 rfl rfl)
theorem dX4_grant_38 : decode cX4_grant 38 = .ok (.invokestatic 44, 3) := dk_184 0 44 (dk_at dksX4_grant_1 15 rfl rfl)
theorem dX4_grant_41 : decode cX4_grant 41 = .ok (.ifCond .eq 16, 3) := dk_153 0 16 (dk_at dksX4_grant_1 18 rfl rfl)
theorem dX4_grant_44 : decode cX4_grant 44 = .ok (.aload_n 0, 1) := dk_42 (dk_at dksX4_grant_1 21 rfl rfl)
theorem dX4_grant_45 : decode cX4_grant 45 = .ok (.iload_n 3, 1) := dk_29 (dk_at dksX4_grant_1 22 rfl rfl)
theorem dX4_grant_46 : decode cX4_grant 46 = .ok (.iload_n 2, 1) := dk_28 (dk_at dksX4_grant_1 23 rfl rfl)
theorem dX4_grant_47 : decode cX4_grant 47 = .ok (.invokevirtual 94, 3) := dk_182 0 94 (dk_at dksX4_grant_2 0 rfl rfl)
theorem dX4_grant_50 : decode cX4_grant 50 = .ok (.ifCond .ne 7, 3) := dk_154 0 7 (dk_at dksX4_grant_2 3 rfl rfl)
theorem dX4_grant_53 : decode cX4_grant 53 = .ok (.iconst 1, 1) := dk_4 (dk_at dksX4_grant_2 6 rfl rfl)
theorem dX4_grant_54 : decode cX4_grant 54 = .ok (.goto 4, 3) := dk_167 0 4 (dk_at dksX4_grant_2 7 rfl rfl)
theorem dX4_grant_57 : decode cX4_grant 57 = .ok (.iconst 0, 1) := dk_3 (dk_at dksX4_grant_2 10 rfl rfl)
theorem dX4_grant_58 : decode cX4_grant 58 = .ok (.istore 6, 2) := dk_54 6 (dk_at dksX4_grant_2 11 rfl rfl)
theorem dX4_grant_60 : decode cX4_grant 60 = .ok (.aload_n 0, 1) := dk_42 (dk_at dksX4_grant_2 13 rfl rfl)
theorem dX4_grant_61 : decode cX4_grant 61 = .ok (.iload 5, 2) := dk_21 5 (dk_at dksX4_grant_2 14 rfl rfl)
theorem dX4_grant_63 : decode cX4_grant 63 = .ok (.iload 6, 2) := dk_21 6 (dk_at dksX4_grant_2 16 rfl rfl)
theorem dX4_grant_65 : decode cX4_grant 65 = .ok (.iload 6, 2) := dk_21 6 (dk_at dksX4_grant_2 18 rfl rfl)
theorem dX4_grant_67 : decode cX4_grant 67 = .ok (.ifCond .eq 16, 3) := dk_153 0 16 (dk_at dksX4_grant_2 20 rfl rfl)
theorem dX4_grant_70 : decode cX4_grant 70 = .ok (.aload_n 0, 1) := dk_42 (dk_at dksX4_grant_2 23 rfl rfl)
theorem dX4_grant_71 : decode cX4_grant 71 = .ok (.iload_n 1, 1) := dk_27 (dk_at dksX4_grant_3 0 rfl rfl)
theorem dX4_grant_72 : decode cX4_grant 72 = .ok (.iload_n 2, 1) := dk_28 (dk_at dksX4_grant_3 1 rfl rfl)
theorem dX4_grant_73 : decode cX4_grant 73 = .ok (.invokevirtual 94, 3) := dk_182 0 94 (dk_at dksX4_grant_3 2 rfl rfl)
theorem dX4_grant_76 : decode cX4_grant 76 = .ok (.ifCond .eq 7, 3) := dk_153 0 7 (dk_at dksX4_grant_3 5 rfl rfl)
theorem dX4_grant_79 : decode cX4_grant 79 = .ok (.iconst 1, 1) := dk_4 (dk_at dksX4_grant_3 8 rfl rfl)
theorem dX4_grant_80 : decode cX4_grant 80 = .ok (.goto 4, 3) := dk_167 0 4 (dk_at dksX4_grant_3 9 rfl rfl)
theorem dX4_grant_83 : decode cX4_grant 83 = .ok (.iconst 0, 1) := dk_3 (dk_at dksX4_grant_3 12 rfl rfl)
theorem dX4_grant_84 : decode cX4_grant 84 = .ok (.invokevirtual 29, 3) := dk_182 0 29 (dk_at dksX4_grant_3 13 rfl rfl)
theorem dX4_grant_87 : decode cX4_grant 87 = .ok (.ifCond .ne 5, 3) := dk_154 0 5 (dk_at dksX4_grant_3 16 rfl rfl)
theorem dX4_grant_90 : decode cX4_grant 90 = .ok (.iconst 0, 1) := dk_3 (dk_at dksX4_grant_3 19 rfl rfl)
theorem dX4_grant_91 : decode cX4_grant 91 = .ok (.ireturn, 1) := dk_172 (dk_at dksX4_grant_3 20 rfl rfl)
theorem dX4_grant_92 : decode cX4_grant 92 = .ok (.iload_n 2, 1) := dk_28 (dk_at dksX4_grant_3 21 rfl rfl)
theorem dX4_grant_93 : decode cX4_grant 93 = .ok (.invokestatic 40, 3) := dk_184 0 40 (dk_at dksX4_grant_4 0 rfl rfl)
theorem dX4_grant_96 : decode cX4_grant 96 = .ok (.iconst 2, 1) := dk_5 (dk_at dksX4_grant_4 3 rfl rfl)
theorem dX4_grant_97 : decode cX4_grant 97 = .ok (.iadd, 1) := dk_96 (dk_at dksX4_grant_4 4 rfl rfl)
theorem dX4_grant_98 : decode cX4_grant 98 = .ok (.iload_n 3, 1) := dk_29 (dk_at dksX4_grant_4 5 rfl rfl)
theorem dX4_grant_99 : decode cX4_grant 99 = .ok (.iadd, 1) := dk_96 (dk_at dksX4_grant_4 6 rfl rfl)
theorem dX4_grant_100 : decode cX4_grant 100 = .ok (.istore 7, 2) := dk_54 7 (dk_at dksX4_grant_4 7 rfl rfl)
theorem dX4_grant_102 : decode cX4_grant 102 = .ok (.aload_n 0, 1) := dk_42 (dk_at dksX4_grant_4 9 rfl rfl)
theorem dX4_grant_103 : decode cX4_grant 103 = .ok (.getfield 9, 3) := dk_180 0 9 (dk_at dksX4_grant_4 10 rfl rfl)
theorem dX4_grant_106 : decode cX4_grant 106 = .ok (.iload 7, 2) := dk_21 7 (dk_at dksX4_grant_4 13 rfl rfl)
theorem dX4_grant_108 : decode cX4_grant 108 = .ok (.iaload, 1) := dk_46 (dk_at dksX4_grant_4 15 rfl rfl)
theorem dX4_grant_109 : decode cX4_grant 109 = .ok (.istore 8, 2) := dk_54 8 (dk_at dksX4_grant_4 16 rfl rfl)
theorem dX4_grant_111 : decode cX4_grant 111 = .ok (.aload_n 0, 1) := dk_42 (dk_at dksX4_grant_4 18 rfl rfl)
theorem dX4_grant_112 : decode cX4_grant 112 = .ok (.getfield 9, 3) := dk_180 0 9 (dk_at dksX4_grant_4 19 rfl rfl)
theorem dX4_grant_115 : decode cX4_grant 115 = .ok (.iload 7, 2) := dk_21 7 (dk_at dksX4_grant_4 22 rfl rfl)
theorem dX4_grant_117 : decode cX4_grant 117 = .ok (.iload 4, 2) := dk_21 4 (dk_at dksX4_grant_5 0 rfl rfl)
theorem dX4_grant_119 : decode cX4_grant 119 = .ok (.iastore, 1) := dk_79 (dk_at dksX4_grant_5 2 rfl rfl)
theorem dX4_grant_120 : decode cX4_grant 120 = .ok (.aload_n 0, 1) := dk_42 (dk_at dksX4_grant_5 3 rfl rfl)
theorem dX4_grant_121 : decode cX4_grant 121 = .ok (.iconst 3, 1) := dk_6 (dk_at dksX4_grant_5 4 rfl rfl)
theorem dX4_grant_122 : decode cX4_grant 122 = .ok (.iload_n 1, 1) := dk_27 (dk_at dksX4_grant_5 5 rfl rfl)
theorem dX4_grant_123 : decode cX4_grant 123 = .ok (.iload_n 2, 1) := dk_28 (dk_at dksX4_grant_5 6 rfl rfl)
theorem dX4_grant_124 : decode cX4_grant 124 = .ok (.iload_n 3, 1) := dk_29 (dk_at dksX4_grant_5 7 rfl rfl)
theorem dX4_grant_125 : decode cX4_grant 125 = .ok (.iload 4, 2) := dk_21 4 (dk_at dksX4_grant_5 8 rfl rfl)
theorem dX4_grant_127 : decode cX4_grant 127 = .ok (.iconst 0, 1) := dk_3 (dk_at dksX4_grant_5 10 rfl rfl)
theorem dX4_grant_128 : decode cX4_grant 128 = .ok (.invokevirtual 80, 3) := dk_182 0 80 (dk_at dksX4_grant_5 11 rfl rfl)
theorem dX4_grant_131 : decode cX4_grant 131 = .ok (.iload 8, 2) := dk_21 8 (dk_at dksX4_grant_5 14 rfl rfl)
theorem dX4_grant_133 : decode cX4_grant 133 = .ok (.ireturn, 1) := dk_172 (dk_at dksX4_grant_5 16 rfl rfl)
abbrev cX4_isDocument : ByteArray := prog_38_method_14_code
def yX4_isDocument : MethodName := ⟨RX4, "isDocument", "(I)Z"⟩
def dkwX4_isDocument_0 : List UInt8 := [27, 3, 42, 180, 0, 9, 5, 46, 4, 100, 184, 0, 44, 172]
abbrev dktX4_isDocument_0 : List UInt8 := dkwX4_isDocument_0 ++ []
theorem dksX4_isDocument_0 : cX4_isDocument.data.toList.drop 0 = dktX4_isDocument_0 := by decide +kernel
theorem dX4_isDocument_0 : decode cX4_isDocument 0 = .ok (.iload_n 1, 1) := dk_27 (dk_at dksX4_isDocument_0 0 rfl rfl)
theorem dX4_isDocument_1 : decode cX4_isDocument 1 = .ok (.iconst 0, 1) := dk_3 (dk_at dksX4_isDocument_0 1 rfl rfl)
theorem dX4_isDocument_2 : decode cX4_isDocument 2 = .ok (.aload_n 0, 1) := dk_42 (dk_at dksX4_isDocument_0 2 rfl rfl)
theorem dX4_isDocument_3 : decode cX4_isDocument 3 = .ok (.getfield 9, 3) := dk_180 0 9 (dk_at dksX4_isDocument_0 3 rfl rfl)
theorem dX4_isDocument_6 : decode cX4_isDocument 6 = .ok (.iconst 2, 1) := dk_5 (dk_at dksX4_isDocument_0 6 rfl rfl)
theorem dX4_isDocument_7 : decode cX4_isDocument 7 = .ok (.iaload, 1) := dk_46 (dk_at dksX4_isDocument_0 7 rfl rfl)
theorem dX4_isDocument_8 : decode cX4_isDocument 8 = .ok (.iconst 1, 1) := dk_4 (dk_at dksX4_isDocument_0 8 rfl rfl)
theorem dX4_isDocument_9 : decode cX4_isDocument 9 = .ok (.isub, 1) := dk_100 (dk_at dksX4_isDocument_0 9 rfl rfl)
theorem dX4_isDocument_10 : decode cX4_isDocument 10 = .ok (.invokestatic 44, 3) := dk_184 0 44 (dk_at dksX4_isDocument_0 10 rfl rfl)
theorem dX4_isDocument_13 : decode cX4_isDocument 13 = .ok (.ireturn, 1) := dk_172 (dk_at dksX4_isDocument_0 13 rfl rfl)
abbrev cX4_owns : ByteArray := prog_38_method_20_code
def yX4_owns : MethodName := ⟨RX4, "owns", "(II)Z"⟩
def dkwX4_owns_0 : List UInt8 := [42, 180, 0, 9, 28, 184, 0, 40, 3, 96, 46, 27, 160, 0, 7, 4, 167, 0, 4, 3, 172]
abbrev dktX4_owns_0 : List UInt8 := dkwX4_owns_0 ++ []
theorem dksX4_owns_0 : cX4_owns.data.toList.drop 0 = dktX4_owns_0 := by decide +kernel
theorem dX4_owns_0 : decode cX4_owns 0 = .ok (.aload_n 0, 1) := dk_42 (dk_at dksX4_owns_0 0 rfl rfl)
theorem dX4_owns_1 : decode cX4_owns 1 = .ok (.getfield 9, 3) := dk_180 0 9 (dk_at dksX4_owns_0 1 rfl rfl)
theorem dX4_owns_4 : decode cX4_owns 4 = .ok (.iload_n 2, 1) := dk_28 (dk_at dksX4_owns_0 4 rfl rfl)
theorem dX4_owns_5 : decode cX4_owns 5 = .ok (.invokestatic 40, 3) := dk_184 0 40 (dk_at dksX4_owns_0 5 rfl rfl)
theorem dX4_owns_8 : decode cX4_owns 8 = .ok (.iconst 0, 1) := dk_3 (dk_at dksX4_owns_0 8 rfl rfl)
theorem dX4_owns_9 : decode cX4_owns 9 = .ok (.iadd, 1) := dk_96 (dk_at dksX4_owns_0 9 rfl rfl)
theorem dX4_owns_10 : decode cX4_owns 10 = .ok (.iaload, 1) := dk_46 (dk_at dksX4_owns_0 10 rfl rfl)
theorem dX4_owns_11 : decode cX4_owns 11 = .ok (.iload_n 1, 1) := dk_27 (dk_at dksX4_owns_0 11 rfl rfl)
theorem dX4_owns_12 : decode cX4_owns 12 = .ok (.if_icmp .ne 7, 3) := dk_160 0 7 (dk_at dksX4_owns_0 12 rfl rfl)
theorem dX4_owns_15 : decode cX4_owns 15 = .ok (.iconst 1, 1) := dk_4 (dk_at dksX4_owns_0 15 rfl rfl)
theorem dX4_owns_16 : decode cX4_owns 16 = .ok (.goto 4, 3) := dk_167 0 4 (dk_at dksX4_owns_0 16 rfl rfl)
theorem dX4_owns_19 : decode cX4_owns 19 = .ok (.iconst 0, 1) := dk_3 (dk_at dksX4_owns_0 19 rfl rfl)
theorem dX4_owns_20 : decode cX4_owns 20 = .ok (.ireturn, 1) := dk_172 (dk_at dksX4_owns_0 20 rfl rfl)
abbrev cX4_checkOut : ByteArray := prog_38_method_34_code
def yX4_checkOut : MethodName := ⟨RX4, "checkOut", "(III)I"⟩
def dkwX4_checkOut_7 : List UInt8 := [3, 182, 0, 80, 21, 6, 172]
abbrev dktX4_checkOut_7 : List UInt8 := dkwX4_checkOut_7 ++ []
def dkwX4_checkOut_6 : List UInt8 := [21, 6, 184, 0, 52, 7, 96, 21, 7, 96, 46, 79, 132, 7, 1, 167, 255, 220, 42, 7, 27, 28, 29, 3]
abbrev dktX4_checkOut_6 : List UInt8 := dkwX4_checkOut_6 ++ dktX4_checkOut_7
def dkwX4_checkOut_5 : List UInt8 := [54, 7, 21, 7, 7, 162, 0, 36, 42, 180, 0, 9, 21, 5, 7, 96, 21, 7, 96, 42, 180, 0, 9]
abbrev dktX4_checkOut_5 : List UInt8 := dkwX4_checkOut_5 ++ dktX4_checkOut_6
def dkwX4_checkOut_4 : List UInt8 := [21, 5, 5, 96, 42, 180, 0, 9, 3, 46, 79, 42, 180, 0, 9, 21, 5, 6, 96, 21, 6, 79, 3]
abbrev dktX4_checkOut_4 : List UInt8 := dkwX4_checkOut_4 ++ dktX4_checkOut_5
def dkwX4_checkOut_3 : List UInt8 := [28, 29, 182, 0, 106, 54, 6, 42, 180, 0, 9, 21, 5, 4, 96, 27, 4, 96, 79, 42, 180, 0, 9]
abbrev dktX4_checkOut_3 : List UInt8 := dkwX4_checkOut_3 ++ dktX4_checkOut_4
def dkwX4_checkOut_2 : List UInt8 := [154, 0, 7, 4, 167, 0, 4, 3, 182, 0, 77, 154, 0, 5, 3, 172, 28, 29, 184, 0, 69, 54, 5, 42]
abbrev dktX4_checkOut_2 : List UInt8 := dkwX4_checkOut_2 ++ dktX4_checkOut_3
def dkwX4_checkOut_1 : List UInt8 := [21, 4, 21, 4, 153, 0, 25, 42, 27, 28, 182, 0, 100, 153, 0, 16, 42, 28, 29, 182, 0, 103]
abbrev dktX4_checkOut_1 : List UInt8 := dkwX4_checkOut_1 ++ dktX4_checkOut_2
def dkwX4_checkOut_0 : List UInt8 := [27, 184, 0, 87, 153, 0, 16, 42, 28, 29, 182, 0, 97, 153, 0, 7, 4, 167, 0, 4, 3, 54, 4, 42]
abbrev dktX4_checkOut_0 : List UInt8 := dkwX4_checkOut_0 ++ dktX4_checkOut_1
theorem dksX4_checkOut_0 : cX4_checkOut.data.toList.drop 0 = dktX4_checkOut_0 := by decide +kernel
theorem dksX4_checkOut_1 : cX4_checkOut.data.toList.drop 24 = dktX4_checkOut_1 := dk_seg dksX4_checkOut_0 24 rfl rfl
theorem dksX4_checkOut_2 : cX4_checkOut.data.toList.drop 46 = dktX4_checkOut_2 := dk_seg dksX4_checkOut_1 22 rfl rfl
theorem dksX4_checkOut_3 : cX4_checkOut.data.toList.drop 70 = dktX4_checkOut_3 := dk_seg dksX4_checkOut_2 24 rfl rfl
theorem dksX4_checkOut_4 : cX4_checkOut.data.toList.drop 93 = dktX4_checkOut_4 := dk_seg dksX4_checkOut_3 23 rfl rfl
theorem dksX4_checkOut_5 : cX4_checkOut.data.toList.drop 116 = dktX4_checkOut_5 := dk_seg dksX4_checkOut_4 23 rfl rfl
theorem dksX4_checkOut_6 : cX4_checkOut.data.toList.drop 139 = dktX4_checkOut_6 := dk_seg dksX4_checkOut_5 23 rfl rfl
theorem dksX4_checkOut_7 : cX4_checkOut.data.toList.drop 163 = dktX4_checkOut_7 := dk_seg dksX4_checkOut_6 24 rfl rfl
theorem dX4_checkOut_0 : decode cX4_checkOut 0 = .ok (.iload_n 1, 1) := dk_27 (dk_at dksX4_checkOut_0 0 rfl rfl)
theorem dX4_checkOut_1 : decode cX4_checkOut 1 = .ok (.invokestatic 87, 3) := dk_184 0 87 (dk_at dksX4_checkOut_0 1 rfl rfl)
theorem dX4_checkOut_4 : decode cX4_checkOut 4 = .ok (.ifCond .eq 16, 3) := dk_153 0 16 (dk_at dksX4_checkOut_0 4 rfl rfl)
theorem dX4_checkOut_7 : decode cX4_checkOut 7 = .ok (.aload_n 0, 1) := dk_42 (dk_at dksX4_checkOut_0 7 rfl rfl)
theorem dX4_checkOut_8 : decode cX4_checkOut 8 = .ok (.iload_n 2, 1) := dk_28 (dk_at dksX4_checkOut_0 8 rfl rfl)
theorem dX4_checkOut_9 : decode cX4_checkOut 9 = .ok (.iload_n 3, 1) := dk_29 (dk_at dksX4_checkOut_0 9 rfl rfl)
theorem dX4_checkOut_10 : decode cX4_checkOut 10 = .ok (.invokevirtual 97, 3) := dk_182 0 97 (dk_at dksX4_checkOut_0 10 rfl rfl)
theorem dX4_checkOut_13 : decode cX4_checkOut 13 = .ok (.ifCond .eq 7, 3) := dk_153 0 7 (dk_at dksX4_checkOut_0 13 rfl rfl)
theorem dX4_checkOut_16 : decode cX4_checkOut 16 = .ok (.iconst 1, 1) := dk_4 (dk_at dksX4_checkOut_0 16 rfl rfl)
theorem dX4_checkOut_17 : decode cX4_checkOut 17 = .ok (.goto 4, 3) := dk_167 0 4 (dk_at dksX4_checkOut_0 17 rfl rfl)
theorem dX4_checkOut_20 : decode cX4_checkOut 20 = .ok (.iconst 0, 1) := dk_3 (dk_at dksX4_checkOut_0 20 rfl rfl)
theorem dX4_checkOut_21 : decode cX4_checkOut 21 = .ok (.istore 4, 2) := dk_54 4 (dk_at dksX4_checkOut_0 21 rfl rfl)
theorem dX4_checkOut_23 : decode cX4_checkOut 23 = .ok (.aload_n 0, 1) := dk_42 (dk_at dksX4_checkOut_0 23 rfl rfl)
theorem dX4_checkOut_24 : decode cX4_checkOut 24 = .ok (.iload 4, 2) := dk_21 4 (dk_at dksX4_checkOut_1 0 rfl rfl)
theorem dX4_checkOut_26 : decode cX4_checkOut 26 = .ok (.iload 4, 2) := dk_21 4 (dk_at dksX4_checkOut_1 2 rfl rfl)
theorem dX4_checkOut_28 : decode cX4_checkOut 28 = .ok (.ifCond .eq 25, 3) := dk_153 0 25 (dk_at dksX4_checkOut_1 4 rfl rfl)
theorem dX4_checkOut_31 : decode cX4_checkOut 31 = .ok (.aload_n 0, 1) := dk_42 (dk_at dksX4_checkOut_1 7 rfl rfl)
theorem dX4_checkOut_32 : decode cX4_checkOut 32 = .ok (.iload_n 1, 1) := dk_27 (dk_at dksX4_checkOut_1 8 rfl rfl)
theorem dX4_checkOut_33 : decode cX4_checkOut 33 = .ok (.iload_n 2, 1) := dk_28 (dk_at dksX4_checkOut_1 9 rfl rfl)
theorem dX4_checkOut_34 : decode cX4_checkOut 34 = .ok (.invokevirtual 100, 3) := dk_182 0 100 (dk_at dksX4_checkOut_1 10 rfl rfl)
theorem dX4_checkOut_37 : decode cX4_checkOut 37 = .ok (.ifCond .eq 16, 3) := dk_153 0 16 (dk_at dksX4_checkOut_1 13 rfl rfl)
theorem dX4_checkOut_40 : decode cX4_checkOut 40 = .ok (.aload_n 0, 1) := dk_42 (dk_at dksX4_checkOut_1 16 rfl rfl)
theorem dX4_checkOut_41 : decode cX4_checkOut 41 = .ok (.iload_n 2, 1) := dk_28 (dk_at dksX4_checkOut_1 17 rfl rfl)
theorem dX4_checkOut_42 : decode cX4_checkOut 42 = .ok (.iload_n 3, 1) := dk_29 (dk_at dksX4_checkOut_1 18 rfl rfl)
theorem dX4_checkOut_43 : decode cX4_checkOut 43 = .ok (.invokevirtual 103, 3) := dk_182 0 103 (dk_at dksX4_checkOut_1 19 rfl rfl)
theorem dX4_checkOut_46 : decode cX4_checkOut 46 = .ok (.ifCond .ne 7, 3) := dk_154 0 7 (dk_at dksX4_checkOut_2 0 rfl rfl)
theorem dX4_checkOut_49 : decode cX4_checkOut 49 = .ok (.iconst 1, 1) := dk_4 (dk_at dksX4_checkOut_2 3 rfl rfl)
theorem dX4_checkOut_50 : decode cX4_checkOut 50 = .ok (.goto 4, 3) := dk_167 0 4 (dk_at dksX4_checkOut_2 4 rfl rfl)
theorem dX4_checkOut_53 : decode cX4_checkOut 53 = .ok (.iconst 0, 1) := dk_3 (dk_at dksX4_checkOut_2 7 rfl rfl)
theorem dX4_checkOut_54 : decode cX4_checkOut 54 = .ok (.invokevirtual 77, 3) := dk_182 0 77 (dk_at dksX4_checkOut_2 8 rfl rfl)
theorem dX4_checkOut_57 : decode cX4_checkOut 57 = .ok (.ifCond .ne 5, 3) := dk_154 0 5 (dk_at dksX4_checkOut_2 11 rfl rfl)
theorem dX4_checkOut_60 : decode cX4_checkOut 60 = .ok (.iconst 0, 1) := dk_3 (dk_at dksX4_checkOut_2 14 rfl rfl)
theorem dX4_checkOut_61 : decode cX4_checkOut 61 = .ok (.ireturn, 1) := dk_172 (dk_at dksX4_checkOut_2 15 rfl rfl)
theorem dX4_checkOut_62 : decode cX4_checkOut 62 = .ok (.iload_n 2, 1) := dk_28 (dk_at dksX4_checkOut_2 16 rfl rfl)
theorem dX4_checkOut_63 : decode cX4_checkOut 63 = .ok (.iload_n 3, 1) := dk_29 (dk_at dksX4_checkOut_2 17 rfl rfl)
theorem dX4_checkOut_64 : decode cX4_checkOut 64 = .ok (.invokestatic 69, 3) := dk_184 0 69 (dk_at dksX4_checkOut_2 18 rfl rfl)
theorem dX4_checkOut_67 : decode cX4_checkOut 67 = .ok (.istore 5, 2) := dk_54 5 (dk_at dksX4_checkOut_2 21 rfl rfl)
theorem dX4_checkOut_69 : decode cX4_checkOut 69 = .ok (.aload_n 0, 1) := dk_42 (dk_at dksX4_checkOut_2 23 rfl rfl)
theorem dX4_checkOut_70 : decode cX4_checkOut 70 = .ok (.iload_n 2, 1) := dk_28 (dk_at dksX4_checkOut_3 0 rfl rfl)
theorem dX4_checkOut_71 : decode cX4_checkOut 71 = .ok (.iload_n 3, 1) := dk_29 (dk_at dksX4_checkOut_3 1 rfl rfl)
theorem dX4_checkOut_72 : decode cX4_checkOut 72 = .ok (.invokevirtual 106, 3) := dk_182 0 106 (dk_at dksX4_checkOut_3 2 rfl rfl)
theorem dX4_checkOut_75 : decode cX4_checkOut 75 = .ok (.istore 6, 2) := dk_54 6 (dk_at dksX4_checkOut_3 5 rfl rfl)
theorem dX4_checkOut_77 : decode cX4_checkOut 77 = .ok (.aload_n 0, 1) := dk_42 (dk_at dksX4_checkOut_3 7 rfl rfl)
theorem dX4_checkOut_78 : decode cX4_checkOut 78 = .ok (.getfield 9, 3) := dk_180 0 9 (dk_at dksX4_checkOut_3 8 rfl rfl)
theorem dX4_checkOut_81 : decode cX4_checkOut 81 = .ok (.iload 5, 2) := dk_21 5 (dk_at dksX4_checkOut_3 11 rfl rfl)
theorem dX4_checkOut_83 : decode cX4_checkOut 83 = .ok (.iconst 1, 1) := dk_4 (dk_at dksX4_checkOut_3 13 rfl rfl)
theorem dX4_checkOut_84 : decode cX4_checkOut 84 = .ok (.iadd, 1) := dk_96 (dk_at dksX4_checkOut_3 14 rfl rfl)
theorem dX4_checkOut_85 : decode cX4_checkOut 85 = .ok (.iload_n 1, 1) := dk_27 (dk_at dksX4_checkOut_3 15 rfl rfl)
theorem dX4_checkOut_86 : decode cX4_checkOut 86 = .ok (.iconst 1, 1) := dk_4 (dk_at dksX4_checkOut_3 16 rfl rfl)
theorem dX4_checkOut_87 : decode cX4_checkOut 87 = .ok (.iadd, 1) := dk_96 (dk_at dksX4_checkOut_3 17 rfl rfl)
theorem dX4_checkOut_88 : decode cX4_checkOut 88 = .ok (.iastore, 1) := dk_79 (dk_at dksX4_checkOut_3 18 rfl rfl)
theorem dX4_checkOut_89 : decode cX4_checkOut 89 = .ok (.aload_n 0, 1) := dk_42 (dk_at dksX4_checkOut_3 19 rfl rfl)
theorem dX4_checkOut_90 : decode cX4_checkOut 90 = .ok (.getfield 9, 3) := dk_180 0 9 (dk_at dksX4_checkOut_3 20 rfl rfl)
theorem dX4_checkOut_93 : decode cX4_checkOut 93 = .ok (.iload 5, 2) := dk_21 5 (dk_at dksX4_checkOut_4 0 rfl rfl)
theorem dX4_checkOut_95 : decode cX4_checkOut 95 = .ok (.iconst 2, 1) := dk_5 (dk_at dksX4_checkOut_4 2 rfl rfl)
theorem dX4_checkOut_96 : decode cX4_checkOut 96 = .ok (.iadd, 1) := dk_96 (dk_at dksX4_checkOut_4 3 rfl rfl)
theorem dX4_checkOut_97 : decode cX4_checkOut 97 = .ok (.aload_n 0, 1) := dk_42 (dk_at dksX4_checkOut_4 4 rfl rfl)
theorem dX4_checkOut_98 : decode cX4_checkOut 98 = .ok (.getfield 9, 3) := dk_180 0 9 (dk_at dksX4_checkOut_4 5 rfl rfl)
theorem dX4_checkOut_101 : decode cX4_checkOut 101 = .ok (.iconst 0, 1) := dk_3 (dk_at dksX4_checkOut_4 8 rfl rfl)
theorem dX4_checkOut_102 : decode cX4_checkOut 102 = .ok (.iaload, 1) := dk_46 (dk_at dksX4_checkOut_4 9 rfl rfl)
theorem dX4_checkOut_103 : decode cX4_checkOut 103 = .ok (.iastore, 1) := dk_79 (dk_at dksX4_checkOut_4 10 rfl rfl)
theorem dX4_checkOut_104 : decode cX4_checkOut 104 = .ok (.aload_n 0, 1) := dk_42 (dk_at dksX4_checkOut_4 11 rfl rfl)
theorem dX4_checkOut_105 : decode cX4_checkOut 105 = .ok (.getfield 9, 3) := dk_180 0 9 (dk_at dksX4_checkOut_4 12 rfl rfl)
theorem dX4_checkOut_108 : decode cX4_checkOut 108 = .ok (.iload 5, 2) := dk_21 5 (dk_at dksX4_checkOut_4 15 rfl rfl)
theorem dX4_checkOut_110 : decode cX4_checkOut 110 = .ok (.iconst 3, 1) := dk_6 (dk_at dksX4_checkOut_4 17 rfl rfl)
theorem dX4_checkOut_111 : decode cX4_checkOut 111 = .ok (.iadd, 1) := dk_96 (dk_at dksX4_checkOut_4 18 rfl rfl)
theorem dX4_checkOut_112 : decode cX4_checkOut 112 = .ok (.iload 6, 2) := dk_21 6 (dk_at dksX4_checkOut_4 19 rfl rfl)
theorem dX4_checkOut_114 : decode cX4_checkOut 114 = .ok (.iastore, 1) := dk_79 (dk_at dksX4_checkOut_4 21 rfl rfl)
theorem dX4_checkOut_115 : decode cX4_checkOut 115 = .ok (.iconst 0, 1) := dk_3 (dk_at dksX4_checkOut_4 22 rfl rfl)
theorem dX4_checkOut_116 : decode cX4_checkOut 116 = .ok (.istore 7, 2) := dk_54 7 (dk_at dksX4_checkOut_5 0 rfl rfl)
theorem dX4_checkOut_118 : decode cX4_checkOut 118 = .ok (.iload 7, 2) := dk_21 7 (dk_at dksX4_checkOut_5 2 rfl rfl)
theorem dX4_checkOut_120 : decode cX4_checkOut 120 = .ok (.iconst 4, 1) := dk_7 (dk_at dksX4_checkOut_5 4 rfl rfl)
theorem dX4_checkOut_121 : decode cX4_checkOut 121 = .ok (.if_icmp .ge 36, 3) := dk_162 0 36 (dk_at dksX4_checkOut_5 5 rfl rfl)
theorem dX4_checkOut_124 : decode cX4_checkOut 124 = .ok (.aload_n 0, 1) := dk_42 (dk_at dksX4_checkOut_5 8 rfl rfl)
theorem dX4_checkOut_125 : decode cX4_checkOut 125 = .ok (.getfield 9, 3) := dk_180 0 9 (dk_at dksX4_checkOut_5 9 rfl rfl)
theorem dX4_checkOut_128 : decode cX4_checkOut 128 = .ok (.iload 5, 2) := dk_21 5 (dk_at dksX4_checkOut_5 12 rfl rfl)
theorem dX4_checkOut_130 : decode cX4_checkOut 130 = .ok (.iconst 4, 1) := dk_7 (dk_at dksX4_checkOut_5 14 rfl rfl)
theorem dX4_checkOut_131 : decode cX4_checkOut 131 = .ok (.iadd, 1) := dk_96 (dk_at dksX4_checkOut_5 15 rfl rfl)
theorem dX4_checkOut_132 : decode cX4_checkOut 132 = .ok (.iload 7, 2) := dk_21 7 (dk_at dksX4_checkOut_5 16 rfl rfl)
theorem dX4_checkOut_134 : decode cX4_checkOut 134 = .ok (.iadd, 1) := dk_96 (dk_at dksX4_checkOut_5 18 rfl rfl)
theorem dX4_checkOut_135 : decode cX4_checkOut 135 = .ok (.aload_n 0, 1) := dk_42 (dk_at dksX4_checkOut_5 19 rfl rfl)
theorem dX4_checkOut_136 : decode cX4_checkOut 136 = .ok (.getfield 9, 3) := dk_180 0 9 (dk_at dksX4_checkOut_5 20 rfl rfl)
theorem dX4_checkOut_139 : decode cX4_checkOut 139 = .ok (.iload 6, 2) := dk_21 6 (dk_at dksX4_checkOut_6 0 rfl rfl)
theorem dX4_checkOut_141 : decode cX4_checkOut 141 = .ok (.invokestatic 52, 3) := dk_184 0 52 (dk_at dksX4_checkOut_6 2 rfl rfl)
theorem dX4_checkOut_144 : decode cX4_checkOut 144 = .ok (.iconst 4, 1) := dk_7 (dk_at dksX4_checkOut_6 5 rfl rfl)
theorem dX4_checkOut_145 : decode cX4_checkOut 145 = .ok (.iadd, 1) := dk_96 (dk_at dksX4_checkOut_6 6 rfl rfl)
theorem dX4_checkOut_146 : decode cX4_checkOut 146 = .ok (.iload 7, 2) := dk_21 7 (dk_at dksX4_checkOut_6 7 rfl rfl)
theorem dX4_checkOut_148 : decode cX4_checkOut 148 = .ok (.iadd, 1) := dk_96 (dk_at dksX4_checkOut_6 9 rfl rfl)
theorem dX4_checkOut_149 : decode cX4_checkOut 149 = .ok (.iaload, 1) := dk_46 (dk_at dksX4_checkOut_6 10 rfl rfl)
theorem dX4_checkOut_150 : decode cX4_checkOut 150 = .ok (.iastore, 1) := dk_79 (dk_at dksX4_checkOut_6 11 rfl rfl)
theorem dX4_checkOut_151 : decode cX4_checkOut 151 = .ok (.iinc 7 1, 3) := dk_132 7 1 (dk_at dksX4_checkOut_6 12 rfl rfl)
theorem dX4_checkOut_154 : decode cX4_checkOut 154 = .ok (.goto (-36), 3) := dk_167 255 220 (dk_at dksX4_checkOut_6 15 rfl rfl)
theorem dX4_checkOut_157 : decode cX4_checkOut 157 = .ok (.aload_n 0, 1) := dk_42 (dk_at dksX4_checkOut_6 18 rfl rfl)
theorem dX4_checkOut_158 : decode cX4_checkOut 158 = .ok (.iconst 4, 1) := dk_7 (dk_at dksX4_checkOut_6 19 rfl rfl)
theorem dX4_checkOut_159 : decode cX4_checkOut 159 = .ok (.iload_n 1, 1) := dk_27 (dk_at dksX4_checkOut_6 20 rfl rfl)
theorem dX4_checkOut_160 : decode cX4_checkOut 160 = .ok (.iload_n 2, 1) := dk_28 (dk_at dksX4_checkOut_6 21 rfl rfl)
theorem dX4_checkOut_161 : decode cX4_checkOut 161 = .ok (.iload_n 3, 1) := dk_29 (dk_at dksX4_checkOut_6 22 rfl rfl)
theorem dX4_checkOut_162 : decode cX4_checkOut 162 = .ok (.iconst 0, 1) := dk_3 (dk_at dksX4_checkOut_6 23 rfl rfl)
theorem dX4_checkOut_163 : decode cX4_checkOut 163 = .ok (.iconst 0, 1) := dk_3 (dk_at dksX4_checkOut_7 0 rfl rfl)
theorem dX4_checkOut_164 : decode cX4_checkOut 164 = .ok (.invokevirtual 80, 3) := dk_182 0 80 (dk_at dksX4_checkOut_7 1 rfl rfl)
theorem dX4_checkOut_167 : decode cX4_checkOut 167 = .ok (.iload 6, 2) := dk_21 6 (dk_at dksX4_checkOut_7 4 rfl rfl)
theorem dX4_checkOut_169 : decode cX4_checkOut 169 = .ok (.ireturn, 1) := dk_172 (dk_at dksX4_checkOut_7 6 rfl rfl)
abbrev cX4_isBranch : ByteArray := prog_38_method_15_code
def yX4_isBranch : MethodName := ⟨RX4, "isBranch", "(II)Z"⟩
def dkwX4_isBranch_1 : List UInt8 := [184, 0, 44, 153, 0, 7, 4, 167, 0, 4, 3, 172]
abbrev dktX4_isBranch_1 : List UInt8 := dkwX4_isBranch_1 ++ []
def dkwX4_isBranch_0 : List UInt8 := [42, 27, 182, 0, 48, 153, 0, 28, 28, 3, 42, 180, 0, 9, 27, 184, 0, 40, 4, 96, 46, 4, 100]
abbrev dktX4_isBranch_0 : List UInt8 := dkwX4_isBranch_0 ++ dktX4_isBranch_1
theorem dksX4_isBranch_0 : cX4_isBranch.data.toList.drop 0 = dktX4_isBranch_0 := by decide +kernel
theorem dksX4_isBranch_1 : cX4_isBranch.data.toList.drop 23 = dktX4_isBranch_1 := dk_seg dksX4_isBranch_0 23 rfl rfl
theorem dX4_isBranch_0 : decode cX4_isBranch 0 = .ok (.aload_n 0, 1) := dk_42 (dk_at dksX4_isBranch_0 0 rfl rfl)
theorem dX4_isBranch_1 : decode cX4_isBranch 1 = .ok (.iload_n 1, 1) := dk_27 (dk_at dksX4_isBranch_0 1 rfl rfl)
theorem dX4_isBranch_2 : decode cX4_isBranch 2 = .ok (.invokevirtual 48, 3) := dk_182 0 48 (dk_at dksX4_isBranch_0 2 rfl rfl)
theorem dX4_isBranch_5 : decode cX4_isBranch 5 = .ok (.ifCond .eq 28, 3) := dk_153 0 28 (dk_at dksX4_isBranch_0 5 rfl rfl)
theorem dX4_isBranch_8 : decode cX4_isBranch 8 = .ok (.iload_n 2, 1) := dk_28 (dk_at dksX4_isBranch_0 8 rfl rfl)
theorem dX4_isBranch_9 : decode cX4_isBranch 9 = .ok (.iconst 0, 1) := dk_3 (dk_at dksX4_isBranch_0 9 rfl rfl)
theorem dX4_isBranch_10 : decode cX4_isBranch 10 = .ok (.aload_n 0, 1) := dk_42 (dk_at dksX4_isBranch_0 10 rfl rfl)
theorem dX4_isBranch_11 : decode cX4_isBranch 11 = .ok (.getfield 9, 3) := dk_180 0 9 (dk_at dksX4_isBranch_0 11 rfl rfl)
theorem dX4_isBranch_14 : decode cX4_isBranch 14 = .ok (.iload_n 1, 1) := dk_27 (dk_at dksX4_isBranch_0 14 rfl rfl)
theorem dX4_isBranch_15 : decode cX4_isBranch 15 = .ok (.invokestatic 40, 3) := dk_184 0 40 (dk_at dksX4_isBranch_0 15 rfl rfl)
theorem dX4_isBranch_18 : decode cX4_isBranch 18 = .ok (.iconst 1, 1) := dk_4 (dk_at dksX4_isBranch_0 18 rfl rfl)
theorem dX4_isBranch_19 : decode cX4_isBranch 19 = .ok (.iadd, 1) := dk_96 (dk_at dksX4_isBranch_0 19 rfl rfl)
theorem dX4_isBranch_20 : decode cX4_isBranch 20 = .ok (.iaload, 1) := dk_46 (dk_at dksX4_isBranch_0 20 rfl rfl)
theorem dX4_isBranch_21 : decode cX4_isBranch 21 = .ok (.iconst 1, 1) := dk_4 (dk_at dksX4_isBranch_0 21 rfl rfl)
theorem dX4_isBranch_22 : decode cX4_isBranch 22 = .ok (.isub, 1) := dk_100 (dk_at dksX4_isBranch_0 22 rfl rfl)
theorem dX4_isBranch_23 : decode cX4_isBranch 23 = .ok (.invokestatic 44, 3) := dk_184 0 44 (dk_at dksX4_isBranch_1 0 rfl rfl)
theorem dX4_isBranch_26 : decode cX4_isBranch 26 = .ok (.ifCond .eq 7, 3) := dk_153 0 7 (dk_at dksX4_isBranch_1 3 rfl rfl)
theorem dX4_isBranch_29 : decode cX4_isBranch 29 = .ok (.iconst 1, 1) := dk_4 (dk_at dksX4_isBranch_1 6 rfl rfl)
theorem dX4_isBranch_30 : decode cX4_isBranch 30 = .ok (.goto 4, 3) := dk_167 0 4 (dk_at dksX4_isBranch_1 7 rfl rfl)
theorem dX4_isBranch_33 : decode cX4_isBranch 33 = .ok (.iconst 0, 1) := dk_3 (dk_at dksX4_isBranch_1 10 rfl rfl)
theorem dX4_isBranch_34 : decode cX4_isBranch 34 = .ok (.ireturn, 1) := dk_172 (dk_at dksX4_isBranch_1 11 rfl rfl)
abbrev cX4_writes : ByteArray := prog_38_method_19_code
def yX4_writes : MethodName := ⟨RX4, "writes", "(II)Z"⟩
def dkwX4_writes_0 : List UInt8 := [42, 27, 28, 182, 0, 55, 5, 160, 0, 7, 4, 167, 0, 4, 3, 172]
abbrev dktX4_writes_0 : List UInt8 := dkwX4_writes_0 ++ []
theorem dksX4_writes_0 : cX4_writes.data.toList.drop 0 = dktX4_writes_0 := by decide +kernel
theorem dX4_writes_0 : decode cX4_writes 0 = .ok (.aload_n 0, 1) := dk_42 (dk_at dksX4_writes_0 0 rfl rfl)
theorem dX4_writes_1 : decode cX4_writes 1 = .ok (.iload_n 1, 1) := dk_27 (dk_at dksX4_writes_0 1 rfl rfl)
theorem dX4_writes_2 : decode cX4_writes 2 = .ok (.iload_n 2, 1) := dk_28 (dk_at dksX4_writes_0 2 rfl rfl)
theorem dX4_writes_3 : decode cX4_writes 3 = .ok (.invokevirtual 55, 3) := dk_182 0 55 (dk_at dksX4_writes_0 3 rfl rfl)
theorem dX4_writes_6 : decode cX4_writes 6 = .ok (.iconst 2, 1) := dk_5 (dk_at dksX4_writes_0 6 rfl rfl)
theorem dX4_writes_7 : decode cX4_writes 7 = .ok (.if_icmp .ne 7, 3) := dk_160 0 7 (dk_at dksX4_writes_0 7 rfl rfl)
theorem dX4_writes_10 : decode cX4_writes 10 = .ok (.iconst 1, 1) := dk_4 (dk_at dksX4_writes_0 10 rfl rfl)
theorem dX4_writes_11 : decode cX4_writes 11 = .ok (.goto 4, 3) := dk_167 0 4 (dk_at dksX4_writes_0 11 rfl rfl)
theorem dX4_writes_14 : decode cX4_writes 14 = .ok (.iconst 0, 1) := dk_3 (dk_at dksX4_writes_0 14 rfl rfl)
theorem dX4_writes_15 : decode cX4_writes 15 = .ok (.ireturn, 1) := dk_172 (dk_at dksX4_writes_0 15 rfl rfl)
abbrev cX4_right : ByteArray := prog_38_method_18_code
def yX4_right : MethodName := ⟨RX4, "right", "(II)I"⟩
def dkwX4_right_1 : List UInt8 := [184, 0, 40, 5, 96, 27, 96, 46, 172]
abbrev dktX4_right_1 : List UInt8 := dkwX4_right_1 ++ []
def dkwX4_right_0 : List UInt8 := [42, 180, 0, 9, 28, 184, 0, 40, 3, 96, 46, 27, 160, 0, 7, 5, 167, 0, 16, 42, 180, 0, 9, 28]
abbrev dktX4_right_0 : List UInt8 := dkwX4_right_0 ++ dktX4_right_1
theorem dksX4_right_0 : cX4_right.data.toList.drop 0 = dktX4_right_0 := by decide +kernel
theorem dksX4_right_1 : cX4_right.data.toList.drop 24 = dktX4_right_1 := dk_seg dksX4_right_0 24 rfl rfl
theorem dX4_right_0 : decode cX4_right 0 = .ok (.aload_n 0, 1) := dk_42 (dk_at dksX4_right_0 0 rfl rfl)
theorem dX4_right_1 : decode cX4_right 1 = .ok (.getfield 9, 3) := dk_180 0 9 (dk_at dksX4_right_0 1 rfl rfl)
theorem dX4_right_4 : decode cX4_right 4 = .ok (.iload_n 2, 1) := dk_28 (dk_at dksX4_right_0 4 rfl rfl)
theorem dX4_right_5 : decode cX4_right 5 = .ok (.invokestatic 40, 3) := dk_184 0 40 (dk_at dksX4_right_0 5 rfl rfl)
theorem dX4_right_8 : decode cX4_right 8 = .ok (.iconst 0, 1) := dk_3 (dk_at dksX4_right_0 8 rfl rfl)
theorem dX4_right_9 : decode cX4_right 9 = .ok (.iadd, 1) := dk_96 (dk_at dksX4_right_0 9 rfl rfl)
theorem dX4_right_10 : decode cX4_right 10 = .ok (.iaload, 1) := dk_46 (dk_at dksX4_right_0 10 rfl rfl)
theorem dX4_right_11 : decode cX4_right 11 = .ok (.iload_n 1, 1) := dk_27 (dk_at dksX4_right_0 11 rfl rfl)
theorem dX4_right_12 : decode cX4_right 12 = .ok (.if_icmp .ne 7, 3) := dk_160 0 7 (dk_at dksX4_right_0 12 rfl rfl)
theorem dX4_right_15 : decode cX4_right 15 = .ok (.iconst 2, 1) := dk_5 (dk_at dksX4_right_0 15 rfl rfl)
theorem dX4_right_16 : decode cX4_right 16 = .ok (.goto 16, 3) := dk_167 0 16 (dk_at dksX4_right_0 16 rfl rfl)
theorem dX4_right_19 : decode cX4_right 19 = .ok (.aload_n 0, 1) := dk_42 (dk_at dksX4_right_0 19 rfl rfl)
theorem dX4_right_20 : decode cX4_right 20 = .ok (.getfield 9, 3) := dk_180 0 9 (dk_at dksX4_right_0 20 rfl rfl)
theorem dX4_right_23 : decode cX4_right 23 = .ok (.iload_n 2, 1) := dk_28 (dk_at dksX4_right_0 23 rfl rfl)
theorem dX4_right_24 : decode cX4_right 24 = .ok (.invokestatic 40, 3) := dk_184 0 40 (dk_at dksX4_right_1 0 rfl rfl)
theorem dX4_right_27 : decode cX4_right 27 = .ok (.iconst 2, 1) := dk_5 (dk_at dksX4_right_1 3 rfl rfl)
theorem dX4_right_28 : decode cX4_right 28 = .ok (.iadd, 1) := dk_96 (dk_at dksX4_right_1 4 rfl rfl)
theorem dX4_right_29 : decode cX4_right 29 = .ok (.iload_n 1, 1) := dk_27 (dk_at dksX4_right_1 5 rfl rfl)
theorem dX4_right_30 : decode cX4_right 30 = .ok (.iadd, 1) := dk_96 (dk_at dksX4_right_1 6 rfl rfl)
theorem dX4_right_31 : decode cX4_right 31 = .ok (.iaload, 1) := dk_46 (dk_at dksX4_right_1 7 rfl rfl)
theorem dX4_right_32 : decode cX4_right 32 = .ok (.ireturn, 1) := dk_172 (dk_at dksX4_right_1 8 rfl rfl)
abbrev cX4_left : ByteArray := prog_38_method_27_code
def yX4_left : MethodName := ⟨RX4, "left", "(II)I"⟩
def dkwX4_left_2 : List UInt8 := [172]
abbrev dktX4_left_2 : List UInt8 := dkwX4_left_2 ++ []
def dkwX4_left_1 : List UInt8 := [180, 0, 9, 29, 5, 96, 46, 42, 180, 0, 9, 4, 46, 96, 42, 180, 0, 9, 3, 46, 100, 184, 0, 72]
abbrev dktX4_left_1 : List UInt8 := dkwX4_left_1 ++ dktX4_left_2
def dkwX4_left_0 : List UInt8 := [27, 28, 184, 0, 69, 62, 42, 180, 0, 9, 29, 4, 96, 46, 154, 0, 7, 3, 167, 0, 29, 3, 42]
abbrev dktX4_left_0 : List UInt8 := dkwX4_left_0 ++ dktX4_left_1
theorem dksX4_left_0 : cX4_left.data.toList.drop 0 = dktX4_left_0 := by decide +kernel
theorem dksX4_left_1 : cX4_left.data.toList.drop 23 = dktX4_left_1 := dk_seg dksX4_left_0 23 rfl rfl
theorem dksX4_left_2 : cX4_left.data.toList.drop 47 = dktX4_left_2 := dk_seg dksX4_left_1 24 rfl rfl
theorem dX4_left_0 : decode cX4_left 0 = .ok (.iload_n 1, 1) := dk_27 (dk_at dksX4_left_0 0 rfl rfl)
theorem dX4_left_1 : decode cX4_left 1 = .ok (.iload_n 2, 1) := dk_28 (dk_at dksX4_left_0 1 rfl rfl)
theorem dX4_left_2 : decode cX4_left 2 = .ok (.invokestatic 69, 3) := dk_184 0 69 (dk_at dksX4_left_0 2 rfl rfl)
theorem dX4_left_5 : decode cX4_left 5 = .ok (.istore_n 3, 1) := dk_62 (dk_at dksX4_left_0 5 rfl rfl)
theorem dX4_left_6 : decode cX4_left 6 = .ok (.aload_n 0, 1) := dk_42 (dk_at dksX4_left_0 6 rfl rfl)
theorem dX4_left_7 : decode cX4_left 7 = .ok (.getfield 9, 3) := dk_180 0 9 (dk_at dksX4_left_0 7 rfl rfl)
theorem dX4_left_10 : decode cX4_left 10 = .ok (.iload_n 3, 1) := dk_29 (dk_at dksX4_left_0 10 rfl rfl)
theorem dX4_left_11 : decode cX4_left 11 = .ok (.iconst 1, 1) := dk_4 (dk_at dksX4_left_0 11 rfl rfl)
theorem dX4_left_12 : decode cX4_left 12 = .ok (.iadd, 1) := dk_96 (dk_at dksX4_left_0 12 rfl rfl)
theorem dX4_left_13 : decode cX4_left 13 = .ok (.iaload, 1) := dk_46 (dk_at dksX4_left_0 13 rfl rfl)
theorem dX4_left_14 : decode cX4_left 14 = .ok (.ifCond .ne 7, 3) := dk_154 0 7 (dk_at dksX4_left_0 14 rfl rfl)
theorem dX4_left_17 : decode cX4_left 17 = .ok (.iconst 0, 1) := dk_3 (dk_at dksX4_left_0 17 rfl rfl)
theorem dX4_left_18 : decode cX4_left 18 = .ok (.goto 29, 3) := dk_167 0 29 (dk_at dksX4_left_0 18 rfl rfl)
theorem dX4_left_21 : decode cX4_left 21 = .ok (.iconst 0, 1) := dk_3 (dk_at dksX4_left_0 21 rfl rfl)
theorem dX4_left_22 : decode cX4_left 22 = .ok (.aload_n 0, 1) := dk_42 (dk_at dksX4_left_0 22 rfl rfl)
theorem dX4_left_23 : decode cX4_left 23 = .ok (.getfield 9, 3) := dk_180 0 9 (dk_at dksX4_left_1 0 rfl rfl)
theorem dX4_left_26 : decode cX4_left 26 = .ok (.iload_n 3, 1) := dk_29 (dk_at dksX4_left_1 3 rfl rfl)
theorem dX4_left_27 : decode cX4_left 27 = .ok (.iconst 2, 1) := dk_5 (dk_at dksX4_left_1 4 rfl rfl)
theorem dX4_left_28 : decode cX4_left 28 = .ok (.iadd, 1) := dk_96 (dk_at dksX4_left_1 5 rfl rfl)
theorem dX4_left_29 : decode cX4_left 29 = .ok (.iaload, 1) := dk_46 (dk_at dksX4_left_1 6 rfl rfl)
theorem dX4_left_30 : decode cX4_left 30 = .ok (.aload_n 0, 1) := dk_42 (dk_at dksX4_left_1 7 rfl rfl)
theorem dX4_left_31 : decode cX4_left 31 = .ok (.getfield 9, 3) := dk_180 0 9 (dk_at dksX4_left_1 8 rfl rfl)
theorem dX4_left_34 : decode cX4_left 34 = .ok (.iconst 1, 1) := dk_4 (dk_at dksX4_left_1 11 rfl rfl)
theorem dX4_left_35 : decode cX4_left 35 = .ok (.iaload, 1) := dk_46 (dk_at dksX4_left_1 12 rfl rfl)
theorem dX4_left_36 : decode cX4_left 36 = .ok (.iadd, 1) := dk_96 (dk_at dksX4_left_1 13 rfl rfl)
theorem dX4_left_37 : decode cX4_left 37 = .ok (.aload_n 0, 1) := dk_42 (dk_at dksX4_left_1 14 rfl rfl)
theorem dX4_left_38 : decode cX4_left 38 = .ok (.getfield 9, 3) := dk_180 0 9 (dk_at dksX4_left_1 15 rfl rfl)
theorem dX4_left_41 : decode cX4_left 41 = .ok (.iconst 0, 1) := dk_3 (dk_at dksX4_left_1 18 rfl rfl)
theorem dX4_left_42 : decode cX4_left 42 = .ok (.iaload, 1) := dk_46 (dk_at dksX4_left_1 19 rfl rfl)
theorem dX4_left_43 : decode cX4_left 43 = .ok (.isub, 1) := dk_100 (dk_at dksX4_left_1 20 rfl rfl)
theorem dX4_left_44 : decode cX4_left 44 = .ok (.invokestatic 72, 3) := dk_184 0 72 (dk_at dksX4_left_1 21 rfl rfl)
theorem dX4_left_47 : decode cX4_left 47 = .ok (.ireturn, 1) := dk_172 (dk_at dksX4_left_2 0 rfl rfl)
abbrev cX4_newestOf : ByteArray := prog_38_method_25_code
def yX4_newestOf : MethodName := ⟨RX4, "newestOf", "(II)I"⟩
def dkwX4_newestOf_2 : List UInt8 := [62, 132, 4, 1, 167, 255, 209, 29, 172]
abbrev dktX4_newestOf_2 : List UInt8 := dkwX4_newestOf_2 ++ []
def dkwX4_newestOf_1 : List UInt8 := [153, 0, 23, 29, 2, 159, 0, 13, 42, 21, 4, 29, 182, 0, 65, 153, 0, 8, 21, 4, 167, 0, 4, 29]
abbrev dktX4_newestOf_1 : List UInt8 := dkwX4_newestOf_1 ++ dktX4_newestOf_2
def dkwX4_newestOf_0 : List UInt8 := [2, 62, 3, 54, 4, 21, 4, 42, 180, 0, 9, 6, 46, 162, 0, 42, 42, 21, 4, 27, 28, 182, 0, 62]
abbrev dktX4_newestOf_0 : List UInt8 := dkwX4_newestOf_0 ++ dktX4_newestOf_1
theorem dksX4_newestOf_0 : cX4_newestOf.data.toList.drop 0 = dktX4_newestOf_0 := by decide +kernel
theorem dksX4_newestOf_1 : cX4_newestOf.data.toList.drop 24 = dktX4_newestOf_1 := dk_seg dksX4_newestOf_0 24 rfl rfl
theorem dksX4_newestOf_2 : cX4_newestOf.data.toList.drop 48 = dktX4_newestOf_2 := dk_seg dksX4_newestOf_1 24 rfl rfl
theorem dX4_newestOf_0 : decode cX4_newestOf 0 = .ok (.iconst (-1), 1) := dk_2 (dk_at dksX4_newestOf_0 0 rfl rfl)
theorem dX4_newestOf_1 : decode cX4_newestOf 1 = .ok (.istore_n 3, 1) := dk_62 (dk_at dksX4_newestOf_0 1 rfl rfl)
theorem dX4_newestOf_2 : decode cX4_newestOf 2 = .ok (.iconst 0, 1) := dk_3 (dk_at dksX4_newestOf_0 2 rfl rfl)
theorem dX4_newestOf_3 : decode cX4_newestOf 3 = .ok (.istore 4, 2) := dk_54 4 (dk_at dksX4_newestOf_0 3 rfl rfl)
theorem dX4_newestOf_5 : decode cX4_newestOf 5 = .ok (.iload 4, 2) := dk_21 4 (dk_at dksX4_newestOf_0 5 rfl rfl)
theorem dX4_newestOf_7 : decode cX4_newestOf 7 = .ok (.aload_n 0, 1) := dk_42 (dk_at dksX4_newestOf_0 7 rfl rfl)
theorem dX4_newestOf_8 : decode cX4_newestOf 8 = .ok (.getfield 9, 3) := dk_180 0 9 (dk_at dksX4_newestOf_0 8 rfl rfl)
theorem dX4_newestOf_11 : decode cX4_newestOf 11 = .ok (.iconst 3, 1) := dk_6 (dk_at dksX4_newestOf_0 11 rfl rfl)
theorem dX4_newestOf_12 : decode cX4_newestOf 12 = .ok (.iaload, 1) := dk_46 (dk_at dksX4_newestOf_0 12 rfl rfl)
theorem dX4_newestOf_13 : decode cX4_newestOf 13 = .ok (.if_icmp .ge 42, 3) := dk_162 0 42 (dk_at dksX4_newestOf_0 13 rfl rfl)
theorem dX4_newestOf_16 : decode cX4_newestOf 16 = .ok (.aload_n 0, 1) := dk_42 (dk_at dksX4_newestOf_0 16 rfl rfl)
theorem dX4_newestOf_17 : decode cX4_newestOf 17 = .ok (.iload 4, 2) := dk_21 4 (dk_at dksX4_newestOf_0 17 rfl rfl)
theorem dX4_newestOf_19 : decode cX4_newestOf 19 = .ok (.iload_n 1, 1) := dk_27 (dk_at dksX4_newestOf_0 19 rfl rfl)
theorem dX4_newestOf_20 : decode cX4_newestOf 20 = .ok (.iload_n 2, 1) := dk_28 (dk_at dksX4_newestOf_0 20 rfl rfl)
theorem dX4_newestOf_21 : decode cX4_newestOf 21 = .ok (.invokevirtual 62, 3) := dk_182 0 62 (dk_at dksX4_newestOf_0 21 rfl rfl)
theorem dX4_newestOf_24 : decode cX4_newestOf 24 = .ok (.ifCond .eq 23, 3) := dk_153 0 23 (dk_at dksX4_newestOf_1 0 rfl rfl)
theorem dX4_newestOf_27 : decode cX4_newestOf 27 = .ok (.iload_n 3, 1) := dk_29 (dk_at dksX4_newestOf_1 3 rfl rfl)
theorem dX4_newestOf_28 : decode cX4_newestOf 28 = .ok (.iconst (-1), 1) := dk_2 (dk_at dksX4_newestOf_1 4 rfl rfl)
theorem dX4_newestOf_29 : decode cX4_newestOf 29 = .ok (.if_icmp .eq 13, 3) := dk_159 0 13 (dk_at dksX4_newestOf_1 5 rfl rfl)
theorem dX4_newestOf_32 : decode cX4_newestOf 32 = .ok (.aload_n 0, 1) := dk_42 (dk_at dksX4_newestOf_1 8 rfl rfl)
theorem dX4_newestOf_33 : decode cX4_newestOf 33 = .ok (.iload 4, 2) := dk_21 4 (dk_at dksX4_newestOf_1 9 rfl rfl)
theorem dX4_newestOf_35 : decode cX4_newestOf 35 = .ok (.iload_n 3, 1) := dk_29 (dk_at dksX4_newestOf_1 11 rfl rfl)
theorem dX4_newestOf_36 : decode cX4_newestOf 36 = .ok (.invokevirtual 65, 3) := dk_182 0 65 (dk_at dksX4_newestOf_1 12 rfl rfl)
theorem dX4_newestOf_39 : decode cX4_newestOf 39 = .ok (.ifCond .eq 8, 3) := dk_153 0 8 (dk_at dksX4_newestOf_1 15 rfl rfl)
theorem dX4_newestOf_42 : decode cX4_newestOf 42 = .ok (.iload 4, 2) := dk_21 4 (dk_at dksX4_newestOf_1 18 rfl rfl)
theorem dX4_newestOf_44 : decode cX4_newestOf 44 = .ok (.goto 4, 3) := dk_167 0 4 (dk_at dksX4_newestOf_1 20 rfl rfl)
theorem dX4_newestOf_47 : decode cX4_newestOf 47 = .ok (.iload_n 3, 1) := dk_29 (dk_at dksX4_newestOf_1 23 rfl rfl)
theorem dX4_newestOf_48 : decode cX4_newestOf 48 = .ok (.istore_n 3, 1) := dk_62 (dk_at dksX4_newestOf_2 0 rfl rfl)
theorem dX4_newestOf_49 : decode cX4_newestOf 49 = .ok (.iinc 4 1, 3) := dk_132 4 1 (dk_at dksX4_newestOf_2 1 rfl rfl)
theorem dX4_newestOf_52 : decode cX4_newestOf 52 = .ok (.goto (-47), 3) := dk_167 255 209 (dk_at dksX4_newestOf_2 4 rfl rfl)
theorem dX4_newestOf_55 : decode cX4_newestOf 55 = .ok (.iload_n 3, 1) := dk_29 (dk_at dksX4_newestOf_2 7 rfl rfl)
theorem dX4_newestOf_56 : decode cX4_newestOf 56 = .ok (.ireturn, 1) := dk_172 (dk_at dksX4_newestOf_2 8 rfl rfl)
abbrev cX4_isOn : ByteArray := prog_38_method_23_code
def yX4_isOn : MethodName := ⟨RX4, "isOn", "(III)Z"⟩
def dkwX4_isOn_2 : List UInt8 := [167, 0, 4, 3, 172]
abbrev dktX4_isOn_2 : List UInt8 := dkwX4_isOn_2 ++ []
def dkwX4_isOn_1 : List UInt8 := [3, 96, 46, 28, 160, 0, 22, 42, 180, 0, 9, 27, 184, 0, 52, 4, 96, 46, 29, 160, 0, 7, 4]
abbrev dktX4_isOn_1 : List UInt8 := dkwX4_isOn_1 ++ dktX4_isOn_2
def dkwX4_isOn_0 : List UInt8 := [42, 180, 0, 9, 27, 184, 0, 52, 16, 8, 96, 46, 4, 160, 0, 37, 42, 180, 0, 9, 27, 184, 0, 52]
abbrev dktX4_isOn_0 : List UInt8 := dkwX4_isOn_0 ++ dktX4_isOn_1
theorem dksX4_isOn_0 : cX4_isOn.data.toList.drop 0 = dktX4_isOn_0 := by decide +kernel
theorem dksX4_isOn_1 : cX4_isOn.data.toList.drop 24 = dktX4_isOn_1 := dk_seg dksX4_isOn_0 24 rfl rfl
theorem dksX4_isOn_2 : cX4_isOn.data.toList.drop 47 = dktX4_isOn_2 := dk_seg dksX4_isOn_1 23 rfl rfl
theorem dX4_isOn_0 : decode cX4_isOn 0 = .ok (.aload_n 0, 1) := dk_42 (dk_at dksX4_isOn_0 0 rfl rfl)
theorem dX4_isOn_1 : decode cX4_isOn 1 = .ok (.getfield 9, 3) := dk_180 0 9 (dk_at dksX4_isOn_0 1 rfl rfl)
theorem dX4_isOn_4 : decode cX4_isOn 4 = .ok (.iload_n 1, 1) := dk_27 (dk_at dksX4_isOn_0 4 rfl rfl)
theorem dX4_isOn_5 : decode cX4_isOn 5 = .ok (.invokestatic 52, 3) := dk_184 0 52 (dk_at dksX4_isOn_0 5 rfl rfl)
theorem dX4_isOn_8 : decode cX4_isOn 8 = .ok (.bipush 8, 2) := dk_16 8 (dk_at dksX4_isOn_0 8 rfl rfl)
theorem dX4_isOn_10 : decode cX4_isOn 10 = .ok (.iadd, 1) := dk_96 (dk_at dksX4_isOn_0 10 rfl rfl)
theorem dX4_isOn_11 : decode cX4_isOn 11 = .ok (.iaload, 1) := dk_46 (dk_at dksX4_isOn_0 11 rfl rfl)
theorem dX4_isOn_12 : decode cX4_isOn 12 = .ok (.iconst 1, 1) := dk_4 (dk_at dksX4_isOn_0 12 rfl rfl)
theorem dX4_isOn_13 : decode cX4_isOn 13 = .ok (.if_icmp .ne 37, 3) := dk_160 0 37 (dk_at dksX4_isOn_0 13 rfl rfl)
theorem dX4_isOn_16 : decode cX4_isOn 16 = .ok (.aload_n 0, 1) := dk_42 (dk_at dksX4_isOn_0 16 rfl rfl)
theorem dX4_isOn_17 : decode cX4_isOn 17 = .ok (.getfield 9, 3) := dk_180 0 9 (dk_at dksX4_isOn_0 17 rfl rfl)
theorem dX4_isOn_20 : decode cX4_isOn 20 = .ok (.iload_n 1, 1) := dk_27 (dk_at dksX4_isOn_0 20 rfl rfl)
theorem dX4_isOn_21 : decode cX4_isOn 21 = .ok (.invokestatic 52, 3) := dk_184 0 52 (dk_at dksX4_isOn_0 21 rfl rfl)
theorem dX4_isOn_24 : decode cX4_isOn 24 = .ok (.iconst 0, 1) := dk_3 (dk_at dksX4_isOn_1 0 rfl rfl)
theorem dX4_isOn_25 : decode cX4_isOn 25 = .ok (.iadd, 1) := dk_96 (dk_at dksX4_isOn_1 1 rfl rfl)
theorem dX4_isOn_26 : decode cX4_isOn 26 = .ok (.iaload, 1) := dk_46 (dk_at dksX4_isOn_1 2 rfl rfl)
theorem dX4_isOn_27 : decode cX4_isOn 27 = .ok (.iload_n 2, 1) := dk_28 (dk_at dksX4_isOn_1 3 rfl rfl)
theorem dX4_isOn_28 : decode cX4_isOn 28 = .ok (.if_icmp .ne 22, 3) := dk_160 0 22 (dk_at dksX4_isOn_1 4 rfl rfl)
theorem dX4_isOn_31 : decode cX4_isOn 31 = .ok (.aload_n 0, 1) := dk_42 (dk_at dksX4_isOn_1 7 rfl rfl)
theorem dX4_isOn_32 : decode cX4_isOn 32 = .ok (.getfield 9, 3) := dk_180 0 9 (dk_at dksX4_isOn_1 8 rfl rfl)
theorem dX4_isOn_35 : decode cX4_isOn 35 = .ok (.iload_n 1, 1) := dk_27 (dk_at dksX4_isOn_1 11 rfl rfl)
theorem dX4_isOn_36 : decode cX4_isOn 36 = .ok (.invokestatic 52, 3) := dk_184 0 52 (dk_at dksX4_isOn_1 12 rfl rfl)
theorem dX4_isOn_39 : decode cX4_isOn 39 = .ok (.iconst 1, 1) := dk_4 (dk_at dksX4_isOn_1 15 rfl rfl)
theorem dX4_isOn_40 : decode cX4_isOn 40 = .ok (.iadd, 1) := dk_96 (dk_at dksX4_isOn_1 16 rfl rfl)
theorem dX4_isOn_41 : decode cX4_isOn 41 = .ok (.iaload, 1) := dk_46 (dk_at dksX4_isOn_1 17 rfl rfl)
theorem dX4_isOn_42 : decode cX4_isOn 42 = .ok (.iload_n 3, 1) := dk_29 (dk_at dksX4_isOn_1 18 rfl rfl)
theorem dX4_isOn_43 : decode cX4_isOn 43 = .ok (.if_icmp .ne 7, 3) := dk_160 0 7 (dk_at dksX4_isOn_1 19 rfl rfl)
theorem dX4_isOn_46 : decode cX4_isOn 46 = .ok (.iconst 1, 1) := dk_4 (dk_at dksX4_isOn_1 22 rfl rfl)
theorem dX4_isOn_47 : decode cX4_isOn 47 = .ok (.goto 4, 3) := dk_167 0 4 (dk_at dksX4_isOn_2 0 rfl rfl)
theorem dX4_isOn_50 : decode cX4_isOn 50 = .ok (.iconst 0, 1) := dk_3 (dk_at dksX4_isOn_2 3 rfl rfl)
theorem dX4_isOn_51 : decode cX4_isOn 51 = .ok (.ireturn, 1) := dk_172 (dk_at dksX4_isOn_2 4 rfl rfl)
abbrev cX4_isBehind : ByteArray := prog_38_method_24_code
def yX4_isBehind : MethodName := ⟨RX4, "isBehind", "(II)Z"⟩
def dkwX4_isBehind_3 : List UInt8 := [4, 167, 0, 4, 3, 172]
abbrev dktX4_isBehind_3 : List UInt8 := dkwX4_isBehind_3 ++ []
def dkwX4_isBehind_2 : List UInt8 := [46, 160, 0, 27, 42, 180, 0, 9, 29, 6, 96, 46, 42, 180, 0, 9, 21, 4, 6, 96, 46, 164, 0, 7]
abbrev dktX4_isBehind_2 : List UInt8 := dkwX4_isBehind_2 ++ dktX4_isBehind_3
def dkwX4_isBehind_1 : List UInt8 := [21, 4, 5, 96, 46, 163, 0, 43, 42, 180, 0, 9, 29, 5, 96, 46, 42, 180, 0, 9, 21, 4, 5, 96]
abbrev dktX4_isBehind_1 : List UInt8 := dkwX4_isBehind_1 ++ dktX4_isBehind_2
def dkwX4_isBehind_0 : List UInt8 := [27, 184, 0, 52, 62, 28, 184, 0, 52, 54, 4, 42, 180, 0, 9, 29, 5, 96, 46, 42, 180, 0, 9]
abbrev dktX4_isBehind_0 : List UInt8 := dkwX4_isBehind_0 ++ dktX4_isBehind_1
theorem dksX4_isBehind_0 : cX4_isBehind.data.toList.drop 0 = dktX4_isBehind_0 := by decide +kernel
theorem dksX4_isBehind_1 : cX4_isBehind.data.toList.drop 23 = dktX4_isBehind_1 := dk_seg dksX4_isBehind_0 23 rfl rfl
theorem dksX4_isBehind_2 : cX4_isBehind.data.toList.drop 47 = dktX4_isBehind_2 := dk_seg dksX4_isBehind_1 24 rfl rfl
theorem dksX4_isBehind_3 : cX4_isBehind.data.toList.drop 71 = dktX4_isBehind_3 := dk_seg dksX4_isBehind_2 24 rfl rfl
theorem dX4_isBehind_0 : decode cX4_isBehind 0 = .ok (.iload_n 1, 1) := dk_27 (dk_at dksX4_isBehind_0 0 rfl rfl)
theorem dX4_isBehind_1 : decode cX4_isBehind 1 = .ok (.invokestatic 52, 3) := dk_184 0 52 (dk_at dksX4_isBehind_0 1 rfl rfl)
theorem dX4_isBehind_4 : decode cX4_isBehind 4 = .ok (.istore_n 3, 1) := dk_62 (dk_at dksX4_isBehind_0 4 rfl rfl)
theorem dX4_isBehind_5 : decode cX4_isBehind 5 = .ok (.iload_n 2, 1) := dk_28 (dk_at dksX4_isBehind_0 5 rfl rfl)
theorem dX4_isBehind_6 : decode cX4_isBehind 6 = .ok (.invokestatic 52, 3) := dk_184 0 52 (dk_at dksX4_isBehind_0 6 rfl rfl)
theorem dX4_isBehind_9 : decode cX4_isBehind 9 = .ok (.istore 4, 2) := dk_54 4 (dk_at dksX4_isBehind_0 9 rfl rfl)
theorem dX4_isBehind_11 : decode cX4_isBehind 11 = .ok (.aload_n 0, 1) := dk_42 (dk_at dksX4_isBehind_0 11 rfl rfl)
theorem dX4_isBehind_12 : decode cX4_isBehind 12 = .ok (.getfield 9, 3) := dk_180 0 9 (dk_at dksX4_isBehind_0 12 rfl rfl)
theorem dX4_isBehind_15 : decode cX4_isBehind 15 = .ok (.iload_n 3, 1) := dk_29 (dk_at dksX4_isBehind_0 15 rfl rfl)
theorem dX4_isBehind_16 : decode cX4_isBehind 16 = .ok (.iconst 2, 1) := dk_5 (dk_at dksX4_isBehind_0 16 rfl rfl)
theorem dX4_isBehind_17 : decode cX4_isBehind 17 = .ok (.iadd, 1) := dk_96 (dk_at dksX4_isBehind_0 17 rfl rfl)
theorem dX4_isBehind_18 : decode cX4_isBehind 18 = .ok (.iaload, 1) := dk_46 (dk_at dksX4_isBehind_0 18 rfl rfl)
theorem dX4_isBehind_19 : decode cX4_isBehind 19 = .ok (.aload_n 0, 1) := dk_42 (dk_at dksX4_isBehind_0 19 rfl rfl)
theorem dX4_isBehind_20 : decode cX4_isBehind 20 = .ok (.getfield 9, 3) := dk_180 0 9 (dk_at dksX4_isBehind_0 20 rfl rfl)
theorem dX4_isBehind_23 : decode cX4_isBehind 23 = .ok (.iload 4, 2) := dk_21 4 (dk_at dksX4_isBehind_1 0 rfl rfl)
theorem dX4_isBehind_25 : decode cX4_isBehind 25 = .ok (.iconst 2, 1) := dk_5 (dk_at dksX4_isBehind_1 2 rfl rfl)
theorem dX4_isBehind_26 : decode cX4_isBehind 26 = .ok (.iadd, 1) := dk_96 (dk_at dksX4_isBehind_1 3 rfl rfl)
theorem dX4_isBehind_27 : decode cX4_isBehind 27 = .ok (.iaload, 1) := dk_46 (dk_at dksX4_isBehind_1 4 rfl rfl)
theorem dX4_isBehind_28 : decode cX4_isBehind 28 = .ok (.if_icmp .gt 43, 3) := dk_163 0 43 (dk_at dksX4_isBehind_1 5 rfl rfl)
theorem dX4_isBehind_31 : decode cX4_isBehind 31 = .ok (.aload_n 0, 1) := dk_42 (dk_at dksX4_isBehind_1 8 rfl rfl)
theorem dX4_isBehind_32 : decode cX4_isBehind 32 = .ok (.getfield 9, 3) := dk_180 0 9 (dk_at dksX4_isBehind_1 9 rfl rfl)
theorem dX4_isBehind_35 : decode cX4_isBehind 35 = .ok (.iload_n 3, 1) := dk_29 (dk_at dksX4_isBehind_1 12 rfl rfl)
theorem dX4_isBehind_36 : decode cX4_isBehind 36 = .ok (.iconst 2, 1) := dk_5 (dk_at dksX4_isBehind_1 13 rfl rfl)
theorem dX4_isBehind_37 : decode cX4_isBehind 37 = .ok (.iadd, 1) := dk_96 (dk_at dksX4_isBehind_1 14 rfl rfl)
theorem dX4_isBehind_38 : decode cX4_isBehind 38 = .ok (.iaload, 1) := dk_46 (dk_at dksX4_isBehind_1 15 rfl rfl)
theorem dX4_isBehind_39 : decode cX4_isBehind 39 = .ok (.aload_n 0, 1) := dk_42 (dk_at dksX4_isBehind_1 16 rfl rfl)
theorem dX4_isBehind_40 : decode cX4_isBehind 40 = .ok (.getfield 9, 3) := dk_180 0 9 (dk_at dksX4_isBehind_1 17 rfl rfl)
theorem dX4_isBehind_43 : decode cX4_isBehind 43 = .ok (.iload 4, 2) := dk_21 4 (dk_at dksX4_isBehind_1 20 rfl rfl)
theorem dX4_isBehind_45 : decode cX4_isBehind 45 = .ok (.iconst 2, 1) := dk_5 (dk_at dksX4_isBehind_1 22 rfl rfl)
theorem dX4_isBehind_46 : decode cX4_isBehind 46 = .ok (.iadd, 1) := dk_96 (dk_at dksX4_isBehind_1 23 rfl rfl)
theorem dX4_isBehind_47 : decode cX4_isBehind 47 = .ok (.iaload, 1) := dk_46 (dk_at dksX4_isBehind_2 0 rfl rfl)
theorem dX4_isBehind_48 : decode cX4_isBehind 48 = .ok (.if_icmp .ne 27, 3) := dk_160 0 27 (dk_at dksX4_isBehind_2 1 rfl rfl)
theorem dX4_isBehind_51 : decode cX4_isBehind 51 = .ok (.aload_n 0, 1) := dk_42 (dk_at dksX4_isBehind_2 4 rfl rfl)
theorem dX4_isBehind_52 : decode cX4_isBehind 52 = .ok (.getfield 9, 3) := dk_180 0 9 (dk_at dksX4_isBehind_2 5 rfl rfl)
theorem dX4_isBehind_55 : decode cX4_isBehind 55 = .ok (.iload_n 3, 1) := dk_29 (dk_at dksX4_isBehind_2 8 rfl rfl)
theorem dX4_isBehind_56 : decode cX4_isBehind 56 = .ok (.iconst 3, 1) := dk_6 (dk_at dksX4_isBehind_2 9 rfl rfl)
theorem dX4_isBehind_57 : decode cX4_isBehind 57 = .ok (.iadd, 1) := dk_96 (dk_at dksX4_isBehind_2 10 rfl rfl)
theorem dX4_isBehind_58 : decode cX4_isBehind 58 = .ok (.iaload, 1) := dk_46 (dk_at dksX4_isBehind_2 11 rfl rfl)
theorem dX4_isBehind_59 : decode cX4_isBehind 59 = .ok (.aload_n 0, 1) := dk_42 (dk_at dksX4_isBehind_2 12 rfl rfl)
theorem dX4_isBehind_60 : decode cX4_isBehind 60 = .ok (.getfield 9, 3) := dk_180 0 9 (dk_at dksX4_isBehind_2 13 rfl rfl)
theorem dX4_isBehind_63 : decode cX4_isBehind 63 = .ok (.iload 4, 2) := dk_21 4 (dk_at dksX4_isBehind_2 16 rfl rfl)
theorem dX4_isBehind_65 : decode cX4_isBehind 65 = .ok (.iconst 3, 1) := dk_6 (dk_at dksX4_isBehind_2 18 rfl rfl)
theorem dX4_isBehind_66 : decode cX4_isBehind 66 = .ok (.iadd, 1) := dk_96 (dk_at dksX4_isBehind_2 19 rfl rfl)
theorem dX4_isBehind_67 : decode cX4_isBehind 67 = .ok (.iaload, 1) := dk_46 (dk_at dksX4_isBehind_2 20 rfl rfl)
theorem dX4_isBehind_68 : decode cX4_isBehind 68 = .ok (.if_icmp .le 7, 3) := dk_164 0 7 (dk_at dksX4_isBehind_2 21 rfl rfl)
theorem dX4_isBehind_71 : decode cX4_isBehind 71 = .ok (.iconst 1, 1) := dk_4 (dk_at dksX4_isBehind_3 0 rfl rfl)
theorem dX4_isBehind_72 : decode cX4_isBehind 72 = .ok (.goto 4, 3) := dk_167 0 4 (dk_at dksX4_isBehind_3 1 rfl rfl)
theorem dX4_isBehind_75 : decode cX4_isBehind 75 = .ok (.iconst 0, 1) := dk_3 (dk_at dksX4_isBehind_3 4 rfl rfl)
theorem dX4_isBehind_76 : decode cX4_isBehind 76 = .ok (.ireturn, 1) := dk_172 (dk_at dksX4_isBehind_3 5 rfl rfl)
abbrev cX4_edit : ByteArray := prog_38_method_36_code
def yX4_edit : MethodName := ⟨RX4, "edit", "(IIIII)I"⟩
def dkwX4_edit_6 : List UInt8 := [21, 9, 172]
abbrev dktX4_edit_6 : List UInt8 := dkwX4_edit_6 ++ []
def dkwX4_edit_5 : List UInt8 := [54, 9, 42, 180, 0, 9, 21, 8, 21, 5, 79, 42, 8, 27, 28, 29, 21, 4, 21, 5, 182, 0, 80]
abbrev dktX4_edit_5 : List UInt8 := dkwX4_edit_5 ++ dktX4_edit_6
def dkwX4_edit_4 : List UInt8 := [154, 0, 5, 3, 172, 28, 29, 184, 0, 69, 7, 96, 21, 4, 96, 54, 8, 42, 180, 0, 9, 21, 8, 46]
abbrev dktX4_edit_4 : List UInt8 := dkwX4_edit_4 ++ dktX4_edit_5
def dkwX4_edit_3 : List UInt8 := [21, 6, 153, 0, 17, 42, 27, 28, 29, 182, 0, 112, 153, 0, 7, 4, 167, 0, 4, 3, 182, 0, 29]
abbrev dktX4_edit_3 : List UInt8 := dkwX4_edit_3 ++ dktX4_edit_4
def dkwX4_edit_2 : List UInt8 := [167, 0, 5, 16, 99, 184, 0, 44, 153, 0, 7, 4, 167, 0, 4, 3, 54, 7, 42, 21, 6, 21, 7]
abbrev dktX4_edit_2 : List UInt8 := dkwX4_edit_2 ++ dktX4_edit_3
def dkwX4_edit_1 : List UInt8 := [21, 4, 3, 6, 184, 0, 44, 153, 0, 30, 21, 5, 3, 21, 4, 6, 160, 0, 9, 17, 39, 15]
abbrev dktX4_edit_1 : List UInt8 := dkwX4_edit_1 ++ dktX4_edit_2
def dkwX4_edit_0 : List UInt8 := [27, 184, 0, 87, 153, 0, 16, 42, 28, 29, 182, 0, 97, 153, 0, 7, 4, 167, 0, 4, 3, 54, 6]
abbrev dktX4_edit_0 : List UInt8 := dkwX4_edit_0 ++ dktX4_edit_1
theorem dksX4_edit_0 : cX4_edit.data.toList.drop 0 = dktX4_edit_0 := by decide +kernel
theorem dksX4_edit_1 : cX4_edit.data.toList.drop 23 = dktX4_edit_1 := dk_seg dksX4_edit_0 23 rfl rfl
theorem dksX4_edit_2 : cX4_edit.data.toList.drop 45 = dktX4_edit_2 := dk_seg dksX4_edit_1 22 rfl rfl
theorem dksX4_edit_3 : cX4_edit.data.toList.drop 68 = dktX4_edit_3 := dk_seg dksX4_edit_2 23 rfl rfl
theorem dksX4_edit_4 : cX4_edit.data.toList.drop 91 = dktX4_edit_4 := dk_seg dksX4_edit_3 23 rfl rfl
theorem dksX4_edit_5 : cX4_edit.data.toList.drop 115 = dktX4_edit_5 := dk_seg dksX4_edit_4 24 rfl rfl
theorem dksX4_edit_6 : cX4_edit.data.toList.drop 138 = dktX4_edit_6 := dk_seg dksX4_edit_5 23 rfl rfl
theorem dX4_edit_0 : decode cX4_edit 0 = .ok (.iload_n 1, 1) := dk_27 (dk_at dksX4_edit_0 0 rfl rfl)
theorem dX4_edit_1 : decode cX4_edit 1 = .ok (.invokestatic 87, 3) := dk_184 0 87 (dk_at dksX4_edit_0 1 rfl rfl)
theorem dX4_edit_4 : decode cX4_edit 4 = .ok (.ifCond .eq 16, 3) := dk_153 0 16 (dk_at dksX4_edit_0 4 rfl rfl)
theorem dX4_edit_7 : decode cX4_edit 7 = .ok (.aload_n 0, 1) := dk_42 (dk_at dksX4_edit_0 7 rfl rfl)
theorem dX4_edit_8 : decode cX4_edit 8 = .ok (.iload_n 2, 1) := dk_28 (dk_at dksX4_edit_0 8 rfl rfl)
theorem dX4_edit_9 : decode cX4_edit 9 = .ok (.iload_n 3, 1) := dk_29 (dk_at dksX4_edit_0 9 rfl rfl)
theorem dX4_edit_10 : decode cX4_edit 10 = .ok (.invokevirtual 97, 3) := dk_182 0 97 (dk_at dksX4_edit_0 10 rfl rfl)
theorem dX4_edit_13 : decode cX4_edit 13 = .ok (.ifCond .eq 7, 3) := dk_153 0 7 (dk_at dksX4_edit_0 13 rfl rfl)
theorem dX4_edit_16 : decode cX4_edit 16 = .ok (.iconst 1, 1) := dk_4 (dk_at dksX4_edit_0 16 rfl rfl)
theorem dX4_edit_17 : decode cX4_edit 17 = .ok (.goto 4, 3) := dk_167 0 4 (dk_at dksX4_edit_0 17 rfl rfl)
theorem dX4_edit_20 : decode cX4_edit 20 = .ok (.iconst 0, 1) := dk_3 (dk_at dksX4_edit_0 20 rfl rfl)
theorem dX4_edit_21 : decode cX4_edit 21 = .ok (.istore 6, 2) := dk_54 6 (dk_at dksX4_edit_0 21 rfl rfl)
theorem dX4_edit_23 : decode cX4_edit 23 = .ok (.iload 4, 2) := dk_21 4 (dk_at dksX4_edit_1 0 rfl rfl)
theorem dX4_edit_25 : decode cX4_edit 25 = .ok (.iconst 0, 1) := dk_3 (dk_at dksX4_edit_1 2 rfl rfl)
theorem dX4_edit_26 : decode cX4_edit 26 = .ok (.iconst 3, 1) := dk_6 (dk_at dksX4_edit_1 3 rfl rfl)
theorem dX4_edit_27 : decode cX4_edit 27 = .ok (.invokestatic 44, 3) := dk_184 0 44 (dk_at dksX4_edit_1 4 rfl rfl)
theorem dX4_edit_30 : decode cX4_edit 30 = .ok (.ifCond .eq 30, 3) := dk_153 0 30 (dk_at dksX4_edit_1 7 rfl rfl)
theorem dX4_edit_33 : decode cX4_edit 33 = .ok (.iload 5, 2) := dk_21 5 (dk_at dksX4_edit_1 10 rfl rfl)
theorem dX4_edit_35 : decode cX4_edit 35 = .ok (.iconst 0, 1) := dk_3 (dk_at dksX4_edit_1 12 rfl rfl)
theorem dX4_edit_36 : decode cX4_edit 36 = .ok (.iload 4, 2) := dk_21 4 (dk_at dksX4_edit_1 13 rfl rfl)
theorem dX4_edit_38 : decode cX4_edit 38 = .ok (.iconst 3, 1) := dk_6 (dk_at dksX4_edit_1 15 rfl rfl)
theorem dX4_edit_39 : decode cX4_edit 39 = .ok (.if_icmp .ne 9, 3) := dk_160 0 9 (dk_at dksX4_edit_1 16 rfl rfl)
theorem dX4_edit_42 : decode cX4_edit 42 = .ok (.sipush 9999, 3) := dk_17 39 15 (dk_at dksX4_edit_1 19 rfl rfl)
theorem dX4_edit_45 : decode cX4_edit 45 = .ok (.goto 5, 3) := dk_167 0 5 (dk_at dksX4_edit_2 0 rfl rfl)
theorem dX4_edit_48 : decode cX4_edit 48 = .ok (.bipush 99, 2) := dk_16 99 (dk_at dksX4_edit_2 3 rfl rfl)
theorem dX4_edit_50 : decode cX4_edit 50 = .ok (.invokestatic 44, 3) := dk_184 0 44 (dk_at dksX4_edit_2 5 rfl rfl)
theorem dX4_edit_53 : decode cX4_edit 53 = .ok (.ifCond .eq 7, 3) := dk_153 0 7 (dk_at dksX4_edit_2 8 rfl rfl)
theorem dX4_edit_56 : decode cX4_edit 56 = .ok (.iconst 1, 1) := dk_4 (dk_at dksX4_edit_2 11 rfl rfl)
theorem dX4_edit_57 : decode cX4_edit 57 = .ok (.goto 4, 3) := dk_167 0 4 (dk_at dksX4_edit_2 12 rfl rfl)
theorem dX4_edit_60 : decode cX4_edit 60 = .ok (.iconst 0, 1) := dk_3 (dk_at dksX4_edit_2 15 rfl rfl)
theorem dX4_edit_61 : decode cX4_edit 61 = .ok (.istore 7, 2) := dk_54 7 (dk_at dksX4_edit_2 16 rfl rfl)
theorem dX4_edit_63 : decode cX4_edit 63 = .ok (.aload_n 0, 1) := dk_42 (dk_at dksX4_edit_2 18 rfl rfl)
theorem dX4_edit_64 : decode cX4_edit 64 = .ok (.iload 6, 2) := dk_21 6 (dk_at dksX4_edit_2 19 rfl rfl)
theorem dX4_edit_66 : decode cX4_edit 66 = .ok (.iload 7, 2) := dk_21 7 (dk_at dksX4_edit_2 21 rfl rfl)
theorem dX4_edit_68 : decode cX4_edit 68 = .ok (.iload 6, 2) := dk_21 6 (dk_at dksX4_edit_3 0 rfl rfl)
theorem dX4_edit_70 : decode cX4_edit 70 = .ok (.ifCond .eq 17, 3) := dk_153 0 17 (dk_at dksX4_edit_3 2 rfl rfl)
theorem dX4_edit_73 : decode cX4_edit 73 = .ok (.aload_n 0, 1) := dk_42 (dk_at dksX4_edit_3 5 rfl rfl)
theorem dX4_edit_74 : decode cX4_edit 74 = .ok (.iload_n 1, 1) := dk_27 (dk_at dksX4_edit_3 6 rfl rfl)
theorem dX4_edit_75 : decode cX4_edit 75 = .ok (.iload_n 2, 1) := dk_28 (dk_at dksX4_edit_3 7 rfl rfl)
theorem dX4_edit_76 : decode cX4_edit 76 = .ok (.iload_n 3, 1) := dk_29 (dk_at dksX4_edit_3 8 rfl rfl)
theorem dX4_edit_77 : decode cX4_edit 77 = .ok (.invokevirtual 112, 3) := dk_182 0 112 (dk_at dksX4_edit_3 9 rfl rfl)
theorem dX4_edit_80 : decode cX4_edit 80 = .ok (.ifCond .eq 7, 3) := dk_153 0 7 (dk_at dksX4_edit_3 12 rfl rfl)
theorem dX4_edit_83 : decode cX4_edit 83 = .ok (.iconst 1, 1) := dk_4 (dk_at dksX4_edit_3 15 rfl rfl)
theorem dX4_edit_84 : decode cX4_edit 84 = .ok (.goto 4, 3) := dk_167 0 4 (dk_at dksX4_edit_3 16 rfl rfl)
theorem dX4_edit_87 : decode cX4_edit 87 = .ok (.iconst 0, 1) := dk_3 (dk_at dksX4_edit_3 19 rfl rfl)
theorem dX4_edit_88 : decode cX4_edit 88 = .ok (.invokevirtual 29, 3) := dk_182 0 29 (dk_at dksX4_edit_3 20 rfl rfl)
theorem dX4_edit_91 : decode cX4_edit 91 = .ok (.ifCond .ne 5, 3) := dk_154 0 5 (dk_at dksX4_edit_4 0 rfl rfl)
theorem dX4_edit_94 : decode cX4_edit 94 = .ok (.iconst 0, 1) := dk_3 (dk_at dksX4_edit_4 3 rfl rfl)
theorem dX4_edit_95 : decode cX4_edit 95 = .ok (.ireturn, 1) := dk_172 (dk_at dksX4_edit_4 4 rfl rfl)
theorem dX4_edit_96 : decode cX4_edit 96 = .ok (.iload_n 2, 1) := dk_28 (dk_at dksX4_edit_4 5 rfl rfl)
theorem dX4_edit_97 : decode cX4_edit 97 = .ok (.iload_n 3, 1) := dk_29 (dk_at dksX4_edit_4 6 rfl rfl)
theorem dX4_edit_98 : decode cX4_edit 98 = .ok (.invokestatic 69, 3) := dk_184 0 69 (dk_at dksX4_edit_4 7 rfl rfl)
theorem dX4_edit_101 : decode cX4_edit 101 = .ok (.iconst 4, 1) := dk_7 (dk_at dksX4_edit_4 10 rfl rfl)
theorem dX4_edit_102 : decode cX4_edit 102 = .ok (.iadd, 1) := dk_96 (dk_at dksX4_edit_4 11 rfl rfl)
theorem dX4_edit_103 : decode cX4_edit 103 = .ok (.iload 4, 2) := dk_21 4 (dk_at dksX4_edit_4 12 rfl rfl)
theorem dX4_edit_105 : decode cX4_edit 105 = .ok (.iadd, 1) := dk_96 (dk_at dksX4_edit_4 14 rfl rfl)
theorem dX4_edit_106 : decode cX4_edit 106 = .ok (.istore 8, 2) := dk_54 8 (dk_at dksX4_edit_4 15 rfl rfl)
theorem dX4_edit_108 : decode cX4_edit 108 = .ok (.aload_n 0, 1) := dk_42 (dk_at dksX4_edit_4 17 rfl rfl)
theorem dX4_edit_109 : decode cX4_edit 109 = .ok (.getfield 9, 3) := dk_180 0 9 (dk_at dksX4_edit_4 18 rfl rfl)
theorem dX4_edit_112 : decode cX4_edit 112 = .ok (.iload 8, 2) := dk_21 8 (dk_at dksX4_edit_4 21 rfl rfl)
theorem dX4_edit_114 : decode cX4_edit 114 = .ok (.iaload, 1) := dk_46 (dk_at dksX4_edit_4 23 rfl rfl)
theorem dX4_edit_115 : decode cX4_edit 115 = .ok (.istore 9, 2) := dk_54 9 (dk_at dksX4_edit_5 0 rfl rfl)
theorem dX4_edit_117 : decode cX4_edit 117 = .ok (.aload_n 0, 1) := dk_42 (dk_at dksX4_edit_5 2 rfl rfl)
theorem dX4_edit_118 : decode cX4_edit 118 = .ok (.getfield 9, 3) := dk_180 0 9 (dk_at dksX4_edit_5 3 rfl rfl)
theorem dX4_edit_121 : decode cX4_edit 121 = .ok (.iload 8, 2) := dk_21 8 (dk_at dksX4_edit_5 6 rfl rfl)
theorem dX4_edit_123 : decode cX4_edit 123 = .ok (.iload 5, 2) := dk_21 5 (dk_at dksX4_edit_5 8 rfl rfl)
theorem dX4_edit_125 : decode cX4_edit 125 = .ok (.iastore, 1) := dk_79 (dk_at dksX4_edit_5 10 rfl rfl)
theorem dX4_edit_126 : decode cX4_edit 126 = .ok (.aload_n 0, 1) := dk_42 (dk_at dksX4_edit_5 11 rfl rfl)
theorem dX4_edit_127 : decode cX4_edit 127 = .ok (.iconst 5, 1) := dk_8 (dk_at dksX4_edit_5 12 rfl rfl)
theorem dX4_edit_128 : decode cX4_edit 128 = .ok (.iload_n 1, 1) := dk_27 (dk_at dksX4_edit_5 13 rfl rfl)
theorem dX4_edit_129 : decode cX4_edit 129 = .ok (.iload_n 2, 1) := dk_28 (dk_at dksX4_edit_5 14 rfl rfl)
theorem dX4_edit_130 : decode cX4_edit 130 = .ok (.iload_n 3, 1) := dk_29 (dk_at dksX4_edit_5 15 rfl rfl)
theorem dX4_edit_131 : decode cX4_edit 131 = .ok (.iload 4, 2) := dk_21 4 (dk_at dksX4_edit_5 16 rfl rfl)
theorem dX4_edit_133 : decode cX4_edit 133 = .ok (.iload 5, 2) := dk_21 5 (dk_at dksX4_edit_5 18 rfl rfl)
theorem dX4_edit_135 : decode cX4_edit 135 = .ok (.invokevirtual 80, 3) := dk_182 0 80 (dk_at dksX4_edit_5 20 rfl rfl)
theorem dX4_edit_138 : decode cX4_edit 138 = .ok (.iload 9, 2) := dk_21 9 (dk_at dksX4_edit_6 0 rfl rfl)
theorem dX4_edit_140 : decode cX4_edit 140 = .ok (.ireturn, 1) := dk_172 (dk_at dksX4_edit_6 2 rfl rfl)
abbrev cX4_holds : ByteArray := prog_38_method_35_code
def yX4_holds : MethodName := ⟨RX4, "holds", "(III)Z"⟩
def dkwX4_holds_0 : List UInt8 := [42, 28, 29, 182, 0, 109, 27, 160, 0, 7, 4, 167, 0, 4, 3, 172]
abbrev dktX4_holds_0 : List UInt8 := dkwX4_holds_0 ++ []
theorem dksX4_holds_0 : cX4_holds.data.toList.drop 0 = dktX4_holds_0 := by decide +kernel
theorem dX4_holds_0 : decode cX4_holds 0 = .ok (.aload_n 0, 1) := dk_42 (dk_at dksX4_holds_0 0 rfl rfl)
theorem dX4_holds_1 : decode cX4_holds 1 = .ok (.iload_n 2, 1) := dk_28 (dk_at dksX4_holds_0 1 rfl rfl)
theorem dX4_holds_2 : decode cX4_holds 2 = .ok (.iload_n 3, 1) := dk_29 (dk_at dksX4_holds_0 2 rfl rfl)
theorem dX4_holds_3 : decode cX4_holds 3 = .ok (.invokevirtual 109, 3) := dk_182 0 109 (dk_at dksX4_holds_0 3 rfl rfl)
theorem dX4_holds_6 : decode cX4_holds 6 = .ok (.iload_n 1, 1) := dk_27 (dk_at dksX4_holds_0 6 rfl rfl)
theorem dX4_holds_7 : decode cX4_holds 7 = .ok (.if_icmp .ne 7, 3) := dk_160 0 7 (dk_at dksX4_holds_0 7 rfl rfl)
theorem dX4_holds_10 : decode cX4_holds 10 = .ok (.iconst 1, 1) := dk_4 (dk_at dksX4_holds_0 10 rfl rfl)
theorem dX4_holds_11 : decode cX4_holds 11 = .ok (.goto 4, 3) := dk_167 0 4 (dk_at dksX4_holds_0 11 rfl rfl)
theorem dX4_holds_14 : decode cX4_holds 14 = .ok (.iconst 0, 1) := dk_3 (dk_at dksX4_holds_0 14 rfl rfl)
theorem dX4_holds_15 : decode cX4_holds 15 = .ok (.ireturn, 1) := dk_172 (dk_at dksX4_holds_0 15 rfl rfl)
abbrev cX4_holderOf : ByteArray := prog_38_method_26_code
def yX4_holderOf : MethodName := ⟨RX4, "holderOf", "(II)I"⟩
def dkwX4_holderOf_0 : List UInt8 := [42, 180, 0, 9, 27, 28, 184, 0, 69, 4, 96, 46, 4, 100, 172]
abbrev dktX4_holderOf_0 : List UInt8 := dkwX4_holderOf_0 ++ []
theorem dksX4_holderOf_0 : cX4_holderOf.data.toList.drop 0 = dktX4_holderOf_0 := by decide +kernel
theorem dX4_holderOf_0 : decode cX4_holderOf 0 = .ok (.aload_n 0, 1) := dk_42 (dk_at dksX4_holderOf_0 0 rfl rfl)
theorem dX4_holderOf_1 : decode cX4_holderOf 1 = .ok (.getfield 9, 3) := dk_180 0 9 (dk_at dksX4_holderOf_0 1 rfl rfl)
theorem dX4_holderOf_4 : decode cX4_holderOf 4 = .ok (.iload_n 1, 1) := dk_27 (dk_at dksX4_holderOf_0 4 rfl rfl)
theorem dX4_holderOf_5 : decode cX4_holderOf 5 = .ok (.iload_n 2, 1) := dk_28 (dk_at dksX4_holderOf_0 5 rfl rfl)
theorem dX4_holderOf_6 : decode cX4_holderOf 6 = .ok (.invokestatic 69, 3) := dk_184 0 69 (dk_at dksX4_holderOf_0 6 rfl rfl)
theorem dX4_holderOf_9 : decode cX4_holderOf 9 = .ok (.iconst 1, 1) := dk_4 (dk_at dksX4_holderOf_0 9 rfl rfl)
theorem dX4_holderOf_10 : decode cX4_holderOf 10 = .ok (.iadd, 1) := dk_96 (dk_at dksX4_holderOf_0 10 rfl rfl)
theorem dX4_holderOf_11 : decode cX4_holderOf 11 = .ok (.iaload, 1) := dk_46 (dk_at dksX4_holderOf_0 11 rfl rfl)
theorem dX4_holderOf_12 : decode cX4_holderOf 12 = .ok (.iconst 1, 1) := dk_4 (dk_at dksX4_holderOf_0 12 rfl rfl)
theorem dX4_holderOf_13 : decode cX4_holderOf 13 = .ok (.isub, 1) := dk_100 (dk_at dksX4_holderOf_0 13 rfl rfl)
theorem dX4_holderOf_14 : decode cX4_holderOf 14 = .ok (.ireturn, 1) := dk_172 (dk_at dksX4_holderOf_0 14 rfl rfl)
abbrev cX4_checkIn : ByteArray := prog_38_method_37_code
def yX4_checkIn : MethodName := ⟨RX4, "checkIn", "(IIIZ)I"⟩
def dkwX4_checkIn_6 : List UInt8 := [29, 21, 4, 153, 0, 7, 4, 167, 0, 4, 3, 3, 182, 0, 80, 21, 7, 172]
abbrev dktX4_checkIn_6 : List UInt8 := dkwX4_checkIn_6 ++ []
def dkwX4_checkIn_5 : List UInt8 := [96, 28, 29, 184, 0, 69, 7, 96, 182, 0, 90, 54, 7, 42, 28, 29, 182, 0, 115, 42, 16, 6, 27, 28]
abbrev dktX4_checkIn_5 : List UInt8 := dkwX4_checkIn_5 ++ dktX4_checkIn_6
def dkwX4_checkIn_4 : List UInt8 := [167, 0, 4, 3, 96, 21, 4, 153, 0, 7, 3, 167, 0, 14, 42, 180, 0, 9, 21, 6, 6, 96, 46, 4]
abbrev dktX4_checkIn_4 : List UInt8 := dkwX4_checkIn_4 ++ dktX4_checkIn_5
def dkwX4_checkIn_3 : List UInt8 := [184, 0, 52, 54, 6, 42, 28, 29, 42, 180, 0, 9, 21, 6, 5, 96, 46, 21, 4, 153, 0, 7, 4]
abbrev dktX4_checkIn_3 : List UInt8 := dkwX4_checkIn_3 ++ dktX4_checkIn_4
def dkwX4_checkIn_2 : List UInt8 := [16, 60, 162, 0, 7, 4, 167, 0, 4, 3, 182, 0, 77, 154, 0, 5, 3, 172, 42, 28, 29, 182, 0, 106]
abbrev dktX4_checkIn_2 : List UInt8 := dkwX4_checkIn_2 ++ dktX4_checkIn_3
def dkwX4_checkIn_1 : List UInt8 := [21, 5, 21, 5, 153, 0, 28, 42, 27, 28, 29, 182, 0, 112, 153, 0, 18, 42, 180, 0, 9, 6, 46]
abbrev dktX4_checkIn_1 : List UInt8 := dkwX4_checkIn_1 ++ dktX4_checkIn_2
def dkwX4_checkIn_0 : List UInt8 := [27, 184, 0, 87, 153, 0, 16, 42, 28, 29, 182, 0, 97, 153, 0, 7, 4, 167, 0, 4, 3, 54, 5, 42]
abbrev dktX4_checkIn_0 : List UInt8 := dkwX4_checkIn_0 ++ dktX4_checkIn_1
theorem dksX4_checkIn_0 : cX4_checkIn.data.toList.drop 0 = dktX4_checkIn_0 := by decide +kernel
theorem dksX4_checkIn_1 : cX4_checkIn.data.toList.drop 24 = dktX4_checkIn_1 := dk_seg dksX4_checkIn_0 24 rfl rfl
theorem dksX4_checkIn_2 : cX4_checkIn.data.toList.drop 47 = dktX4_checkIn_2 := dk_seg dksX4_checkIn_1 23 rfl rfl
theorem dksX4_checkIn_3 : cX4_checkIn.data.toList.drop 71 = dktX4_checkIn_3 := dk_seg dksX4_checkIn_2 24 rfl rfl
theorem dksX4_checkIn_4 : cX4_checkIn.data.toList.drop 94 = dktX4_checkIn_4 := dk_seg dksX4_checkIn_3 23 rfl rfl
theorem dksX4_checkIn_5 : cX4_checkIn.data.toList.drop 118 = dktX4_checkIn_5 := dk_seg dksX4_checkIn_4 24 rfl rfl
theorem dksX4_checkIn_6 : cX4_checkIn.data.toList.drop 142 = dktX4_checkIn_6 := dk_seg dksX4_checkIn_5 24 rfl rfl
theorem dX4_checkIn_0 : decode cX4_checkIn 0 = .ok (.iload_n 1, 1) := dk_27 (dk_at dksX4_checkIn_0 0 rfl rfl)
theorem dX4_checkIn_1 : decode cX4_checkIn 1 = .ok (.invokestatic 87, 3) := dk_184 0 87 (dk_at dksX4_checkIn_0 1 rfl rfl)
theorem dX4_checkIn_4 : decode cX4_checkIn 4 = .ok (.ifCond .eq 16, 3) := dk_153 0 16 (dk_at dksX4_checkIn_0 4 rfl rfl)
theorem dX4_checkIn_7 : decode cX4_checkIn 7 = .ok (.aload_n 0, 1) := dk_42 (dk_at dksX4_checkIn_0 7 rfl rfl)
theorem dX4_checkIn_8 : decode cX4_checkIn 8 = .ok (.iload_n 2, 1) := dk_28 (dk_at dksX4_checkIn_0 8 rfl rfl)
theorem dX4_checkIn_9 : decode cX4_checkIn 9 = .ok (.iload_n 3, 1) := dk_29 (dk_at dksX4_checkIn_0 9 rfl rfl)
theorem dX4_checkIn_10 : decode cX4_checkIn 10 = .ok (.invokevirtual 97, 3) := dk_182 0 97 (dk_at dksX4_checkIn_0 10 rfl rfl)
theorem dX4_checkIn_13 : decode cX4_checkIn 13 = .ok (.ifCond .eq 7, 3) := dk_153 0 7 (dk_at dksX4_checkIn_0 13 rfl rfl)
theorem dX4_checkIn_16 : decode cX4_checkIn 16 = .ok (.iconst 1, 1) := dk_4 (dk_at dksX4_checkIn_0 16 rfl rfl)
theorem dX4_checkIn_17 : decode cX4_checkIn 17 = .ok (.goto 4, 3) := dk_167 0 4 (dk_at dksX4_checkIn_0 17 rfl rfl)
theorem dX4_checkIn_20 : decode cX4_checkIn 20 = .ok (.iconst 0, 1) := dk_3 (dk_at dksX4_checkIn_0 20 rfl rfl)
theorem dX4_checkIn_21 : decode cX4_checkIn 21 = .ok (.istore 5, 2) := dk_54 5 (dk_at dksX4_checkIn_0 21 rfl rfl)
theorem dX4_checkIn_23 : decode cX4_checkIn 23 = .ok (.aload_n 0, 1) := dk_42 (dk_at dksX4_checkIn_0 23 rfl rfl)
theorem dX4_checkIn_24 : decode cX4_checkIn 24 = .ok (.iload 5, 2) := dk_21 5 (dk_at dksX4_checkIn_1 0 rfl rfl)
theorem dX4_checkIn_26 : decode cX4_checkIn 26 = .ok (.iload 5, 2) := dk_21 5 (dk_at dksX4_checkIn_1 2 rfl rfl)
theorem dX4_checkIn_28 : decode cX4_checkIn 28 = .ok (.ifCond .eq 28, 3) := dk_153 0 28 (dk_at dksX4_checkIn_1 4 rfl rfl)
theorem dX4_checkIn_31 : decode cX4_checkIn 31 = .ok (.aload_n 0, 1) := dk_42 (dk_at dksX4_checkIn_1 7 rfl rfl)
theorem dX4_checkIn_32 : decode cX4_checkIn 32 = .ok (.iload_n 1, 1) := dk_27 (dk_at dksX4_checkIn_1 8 rfl rfl)
theorem dX4_checkIn_33 : decode cX4_checkIn 33 = .ok (.iload_n 2, 1) := dk_28 (dk_at dksX4_checkIn_1 9 rfl rfl)
theorem dX4_checkIn_34 : decode cX4_checkIn 34 = .ok (.iload_n 3, 1) := dk_29 (dk_at dksX4_checkIn_1 10 rfl rfl)
theorem dX4_checkIn_35 : decode cX4_checkIn 35 = .ok (.invokevirtual 112, 3) := dk_182 0 112 (dk_at dksX4_checkIn_1 11 rfl rfl)
theorem dX4_checkIn_38 : decode cX4_checkIn 38 = .ok (.ifCond .eq 18, 3) := dk_153 0 18 (dk_at dksX4_checkIn_1 14 rfl rfl)
theorem dX4_checkIn_41 : decode cX4_checkIn 41 = .ok (.aload_n 0, 1) := dk_42 (dk_at dksX4_checkIn_1 17 rfl rfl)
theorem dX4_checkIn_42 : decode cX4_checkIn 42 = .ok (.getfield 9, 3) := dk_180 0 9 (dk_at dksX4_checkIn_1 18 rfl rfl)
theorem dX4_checkIn_45 : decode cX4_checkIn 45 = .ok (.iconst 3, 1) := dk_6 (dk_at dksX4_checkIn_1 21 rfl rfl)
theorem dX4_checkIn_46 : decode cX4_checkIn 46 = .ok (.iaload, 1) := dk_46 (dk_at dksX4_checkIn_1 22 rfl rfl)
theorem dX4_checkIn_47 : decode cX4_checkIn 47 = .ok (.bipush 60, 2) := dk_16 60 (dk_at dksX4_checkIn_2 0 rfl rfl)
theorem dX4_checkIn_49 : decode cX4_checkIn 49 = .ok (.if_icmp .ge 7, 3) := dk_162 0 7 (dk_at dksX4_checkIn_2 2 rfl rfl)
theorem dX4_checkIn_52 : decode cX4_checkIn 52 = .ok (.iconst 1, 1) := dk_4 (dk_at dksX4_checkIn_2 5 rfl rfl)
theorem dX4_checkIn_53 : decode cX4_checkIn 53 = .ok (.goto 4, 3) := dk_167 0 4 (dk_at dksX4_checkIn_2 6 rfl rfl)
theorem dX4_checkIn_56 : decode cX4_checkIn 56 = .ok (.iconst 0, 1) := dk_3 (dk_at dksX4_checkIn_2 9 rfl rfl)
theorem dX4_checkIn_57 : decode cX4_checkIn 57 = .ok (.invokevirtual 77, 3) := dk_182 0 77 (dk_at dksX4_checkIn_2 10 rfl rfl)
theorem dX4_checkIn_60 : decode cX4_checkIn 60 = .ok (.ifCond .ne 5, 3) := dk_154 0 5 (dk_at dksX4_checkIn_2 13 rfl rfl)
theorem dX4_checkIn_63 : decode cX4_checkIn 63 = .ok (.iconst 0, 1) := dk_3 (dk_at dksX4_checkIn_2 16 rfl rfl)
theorem dX4_checkIn_64 : decode cX4_checkIn 64 = .ok (.ireturn, 1) := dk_172 (dk_at dksX4_checkIn_2 17 rfl rfl)
theorem dX4_checkIn_65 : decode cX4_checkIn 65 = .ok (.aload_n 0, 1) := dk_42 (dk_at dksX4_checkIn_2 18 rfl rfl)
theorem dX4_checkIn_66 : decode cX4_checkIn 66 = .ok (.iload_n 2, 1) := dk_28 (dk_at dksX4_checkIn_2 19 rfl rfl)
theorem dX4_checkIn_67 : decode cX4_checkIn 67 = .ok (.iload_n 3, 1) := dk_29 (dk_at dksX4_checkIn_2 20 rfl rfl)
theorem dX4_checkIn_68 : decode cX4_checkIn 68 = .ok (.invokevirtual 106, 3) := dk_182 0 106 (dk_at dksX4_checkIn_2 21 rfl rfl)
theorem dX4_checkIn_71 : decode cX4_checkIn 71 = .ok (.invokestatic 52, 3) := dk_184 0 52 (dk_at dksX4_checkIn_3 0 rfl rfl)
theorem dX4_checkIn_74 : decode cX4_checkIn 74 = .ok (.istore 6, 2) := dk_54 6 (dk_at dksX4_checkIn_3 3 rfl rfl)
theorem dX4_checkIn_76 : decode cX4_checkIn 76 = .ok (.aload_n 0, 1) := dk_42 (dk_at dksX4_checkIn_3 5 rfl rfl)
theorem dX4_checkIn_77 : decode cX4_checkIn 77 = .ok (.iload_n 2, 1) := dk_28 (dk_at dksX4_checkIn_3 6 rfl rfl)
theorem dX4_checkIn_78 : decode cX4_checkIn 78 = .ok (.iload_n 3, 1) := dk_29 (dk_at dksX4_checkIn_3 7 rfl rfl)
theorem dX4_checkIn_79 : decode cX4_checkIn 79 = .ok (.aload_n 0, 1) := dk_42 (dk_at dksX4_checkIn_3 8 rfl rfl)
theorem dX4_checkIn_80 : decode cX4_checkIn 80 = .ok (.getfield 9, 3) := dk_180 0 9 (dk_at dksX4_checkIn_3 9 rfl rfl)
theorem dX4_checkIn_83 : decode cX4_checkIn 83 = .ok (.iload 6, 2) := dk_21 6 (dk_at dksX4_checkIn_3 12 rfl rfl)
theorem dX4_checkIn_85 : decode cX4_checkIn 85 = .ok (.iconst 2, 1) := dk_5 (dk_at dksX4_checkIn_3 14 rfl rfl)
theorem dX4_checkIn_86 : decode cX4_checkIn 86 = .ok (.iadd, 1) := dk_96 (dk_at dksX4_checkIn_3 15 rfl rfl)
theorem dX4_checkIn_87 : decode cX4_checkIn 87 = .ok (.iaload, 1) := dk_46 (dk_at dksX4_checkIn_3 16 rfl rfl)
theorem dX4_checkIn_88 : decode cX4_checkIn 88 = .ok (.iload 4, 2) := dk_21 4 (dk_at dksX4_checkIn_3 17 rfl rfl)
theorem dX4_checkIn_90 : decode cX4_checkIn 90 = .ok (.ifCond .eq 7, 3) := dk_153 0 7 (dk_at dksX4_checkIn_3 19 rfl rfl)
theorem dX4_checkIn_93 : decode cX4_checkIn 93 = .ok (.iconst 1, 1) := dk_4 (dk_at dksX4_checkIn_3 22 rfl rfl)
theorem dX4_checkIn_94 : decode cX4_checkIn 94 = .ok (.goto 4, 3) := dk_167 0 4 (dk_at dksX4_checkIn_4 0 rfl rfl)
theorem dX4_checkIn_97 : decode cX4_checkIn 97 = .ok (.iconst 0, 1) := dk_3 (dk_at dksX4_checkIn_4 3 rfl rfl)
theorem dX4_checkIn_98 : decode cX4_checkIn 98 = .ok (.iadd, 1) := dk_96 (dk_at dksX4_checkIn_4 4 rfl rfl)
theorem dX4_checkIn_99 : decode cX4_checkIn 99 = .ok (.iload 4, 2) := dk_21 4 (dk_at dksX4_checkIn_4 5 rfl rfl)
theorem dX4_checkIn_101 : decode cX4_checkIn 101 = .ok (.ifCond .eq 7, 3) := dk_153 0 7 (dk_at dksX4_checkIn_4 7 rfl rfl)
theorem dX4_checkIn_104 : decode cX4_checkIn 104 = .ok (.iconst 0, 1) := dk_3 (dk_at dksX4_checkIn_4 10 rfl rfl)
theorem dX4_checkIn_105 : decode cX4_checkIn 105 = .ok (.goto 14, 3) := dk_167 0 14 (dk_at dksX4_checkIn_4 11 rfl rfl)
theorem dX4_checkIn_108 : decode cX4_checkIn 108 = .ok (.aload_n 0, 1) := dk_42 (dk_at dksX4_checkIn_4 14 rfl rfl)
theorem dX4_checkIn_109 : decode cX4_checkIn 109 = .ok (.getfield 9, 3) := dk_180 0 9 (dk_at dksX4_checkIn_4 15 rfl rfl)
theorem dX4_checkIn_112 : decode cX4_checkIn 112 = .ok (.iload 6, 2) := dk_21 6 (dk_at dksX4_checkIn_4 18 rfl rfl)
theorem dX4_checkIn_114 : decode cX4_checkIn 114 = .ok (.iconst 3, 1) := dk_6 (dk_at dksX4_checkIn_4 20 rfl rfl)
theorem dX4_checkIn_115 : decode cX4_checkIn 115 = .ok (.iadd, 1) := dk_96 (dk_at dksX4_checkIn_4 21 rfl rfl)
theorem dX4_checkIn_116 : decode cX4_checkIn 116 = .ok (.iaload, 1) := dk_46 (dk_at dksX4_checkIn_4 22 rfl rfl)
theorem dX4_checkIn_117 : decode cX4_checkIn 117 = .ok (.iconst 1, 1) := dk_4 (dk_at dksX4_checkIn_4 23 rfl rfl)
theorem dX4_checkIn_118 : decode cX4_checkIn 118 = .ok (.iadd, 1) := dk_96 (dk_at dksX4_checkIn_5 0 rfl rfl)
theorem dX4_checkIn_119 : decode cX4_checkIn 119 = .ok (.iload_n 2, 1) := dk_28 (dk_at dksX4_checkIn_5 1 rfl rfl)
theorem dX4_checkIn_120 : decode cX4_checkIn 120 = .ok (.iload_n 3, 1) := dk_29 (dk_at dksX4_checkIn_5 2 rfl rfl)
theorem dX4_checkIn_121 : decode cX4_checkIn 121 = .ok (.invokestatic 69, 3) := dk_184 0 69 (dk_at dksX4_checkIn_5 3 rfl rfl)
theorem dX4_checkIn_124 : decode cX4_checkIn 124 = .ok (.iconst 4, 1) := dk_7 (dk_at dksX4_checkIn_5 6 rfl rfl)
theorem dX4_checkIn_125 : decode cX4_checkIn 125 = .ok (.iadd, 1) := dk_96 (dk_at dksX4_checkIn_5 7 rfl rfl)
theorem dX4_checkIn_126 : decode cX4_checkIn 126 = .ok (.invokevirtual 90, 3) := dk_182 0 90 (dk_at dksX4_checkIn_5 8 rfl rfl)
theorem dX4_checkIn_129 : decode cX4_checkIn 129 = .ok (.istore 7, 2) := dk_54 7 (dk_at dksX4_checkIn_5 11 rfl rfl)
theorem dX4_checkIn_131 : decode cX4_checkIn 131 = .ok (.aload_n 0, 1) := dk_42 (dk_at dksX4_checkIn_5 13 rfl rfl)
theorem dX4_checkIn_132 : decode cX4_checkIn 132 = .ok (.iload_n 2, 1) := dk_28 (dk_at dksX4_checkIn_5 14 rfl rfl)
theorem dX4_checkIn_133 : decode cX4_checkIn 133 = .ok (.iload_n 3, 1) := dk_29 (dk_at dksX4_checkIn_5 15 rfl rfl)
theorem dX4_checkIn_134 : decode cX4_checkIn 134 = .ok (.invokevirtual 115, 3) := dk_182 0 115 (dk_at dksX4_checkIn_5 16 rfl rfl)
theorem dX4_checkIn_137 : decode cX4_checkIn 137 = .ok (.aload_n 0, 1) := dk_42 (dk_at dksX4_checkIn_5 19 rfl rfl)
theorem dX4_checkIn_138 : decode cX4_checkIn 138 = .ok (.bipush 6, 2) := dk_16 6 (dk_at dksX4_checkIn_5 20 rfl rfl)
theorem dX4_checkIn_140 : decode cX4_checkIn 140 = .ok (.iload_n 1, 1) := dk_27 (dk_at dksX4_checkIn_5 22 rfl rfl)
theorem dX4_checkIn_141 : decode cX4_checkIn 141 = .ok (.iload_n 2, 1) := dk_28 (dk_at dksX4_checkIn_5 23 rfl rfl)
theorem dX4_checkIn_142 : decode cX4_checkIn 142 = .ok (.iload_n 3, 1) := dk_29 (dk_at dksX4_checkIn_6 0 rfl rfl)
theorem dX4_checkIn_143 : decode cX4_checkIn 143 = .ok (.iload 4, 2) := dk_21 4 (dk_at dksX4_checkIn_6 1 rfl rfl)
theorem dX4_checkIn_145 : decode cX4_checkIn 145 = .ok (.ifCond .eq 7, 3) := dk_153 0 7 (dk_at dksX4_checkIn_6 3 rfl rfl)
theorem dX4_checkIn_148 : decode cX4_checkIn 148 = .ok (.iconst 1, 1) := dk_4 (dk_at dksX4_checkIn_6 6 rfl rfl)
theorem dX4_checkIn_149 : decode cX4_checkIn 149 = .ok (.goto 4, 3) := dk_167 0 4 (dk_at dksX4_checkIn_6 7 rfl rfl)
theorem dX4_checkIn_152 : decode cX4_checkIn 152 = .ok (.iconst 0, 1) := dk_3 (dk_at dksX4_checkIn_6 10 rfl rfl)
theorem dX4_checkIn_153 : decode cX4_checkIn 153 = .ok (.iconst 0, 1) := dk_3 (dk_at dksX4_checkIn_6 11 rfl rfl)
theorem dX4_checkIn_154 : decode cX4_checkIn 154 = .ok (.invokevirtual 80, 3) := dk_182 0 80 (dk_at dksX4_checkIn_6 12 rfl rfl)
theorem dX4_checkIn_157 : decode cX4_checkIn 157 = .ok (.iload 7, 2) := dk_21 7 (dk_at dksX4_checkIn_6 15 rfl rfl)
theorem dX4_checkIn_159 : decode cX4_checkIn 159 = .ok (.ireturn, 1) := dk_172 (dk_at dksX4_checkIn_6 17 rfl rfl)
abbrev cX4_unlock : ByteArray := prog_38_method_28_code
def yX4_unlock : MethodName := ⟨RX4, "unlock", "(II)V"⟩
def dkwX4_unlock_0 : List UInt8 := [42, 180, 0, 9, 27, 28, 184, 0, 69, 4, 96, 3, 79, 177]
abbrev dktX4_unlock_0 : List UInt8 := dkwX4_unlock_0 ++ []
theorem dksX4_unlock_0 : cX4_unlock.data.toList.drop 0 = dktX4_unlock_0 := by decide +kernel
theorem dX4_unlock_0 : decode cX4_unlock 0 = .ok (.aload_n 0, 1) := dk_42 (dk_at dksX4_unlock_0 0 rfl rfl)
theorem dX4_unlock_1 : decode cX4_unlock 1 = .ok (.getfield 9, 3) := dk_180 0 9 (dk_at dksX4_unlock_0 1 rfl rfl)
theorem dX4_unlock_4 : decode cX4_unlock 4 = .ok (.iload_n 1, 1) := dk_27 (dk_at dksX4_unlock_0 4 rfl rfl)
theorem dX4_unlock_5 : decode cX4_unlock 5 = .ok (.iload_n 2, 1) := dk_28 (dk_at dksX4_unlock_0 5 rfl rfl)
theorem dX4_unlock_6 : decode cX4_unlock 6 = .ok (.invokestatic 69, 3) := dk_184 0 69 (dk_at dksX4_unlock_0 6 rfl rfl)
theorem dX4_unlock_9 : decode cX4_unlock 9 = .ok (.iconst 1, 1) := dk_4 (dk_at dksX4_unlock_0 9 rfl rfl)
theorem dX4_unlock_10 : decode cX4_unlock 10 = .ok (.iadd, 1) := dk_96 (dk_at dksX4_unlock_0 10 rfl rfl)
theorem dX4_unlock_11 : decode cX4_unlock 11 = .ok (.iconst 0, 1) := dk_3 (dk_at dksX4_unlock_0 11 rfl rfl)
theorem dX4_unlock_12 : decode cX4_unlock 12 = .ok (.iastore, 1) := dk_79 (dk_at dksX4_unlock_0 12 rfl rfl)
theorem dX4_unlock_13 : decode cX4_unlock 13 = .ok (.return_, 1) := dk_177 (dk_at dksX4_unlock_0 13 rfl rfl)
abbrev cX4_renew : ByteArray := prog_38_method_38_code
def yX4_renew : MethodName := ⟨RX4, "renew", "(III)I"⟩
def dkwX4_renew_4 : List UInt8 := [16, 7, 27, 28, 29, 3, 3, 182, 0, 80, 21, 6, 172]
abbrev dktX4_renew_4 : List UInt8 := dkwX4_renew_4 ++ []
def dkwX4_renew_3 : List UInt8 := [180, 0, 9, 21, 5, 46, 100, 54, 6, 42, 180, 0, 9, 21, 5, 42, 180, 0, 9, 3, 46, 79, 42]
abbrev dktX4_renew_3 : List UInt8 := dkwX4_renew_3 ++ dktX4_renew_4
def dkwX4_renew_2 : List UInt8 := [182, 0, 77, 154, 0, 5, 3, 172, 28, 29, 184, 0, 69, 5, 96, 54, 5, 42, 180, 0, 9, 3, 46, 42]
abbrev dktX4_renew_2 : List UInt8 := dkwX4_renew_2 ++ dktX4_renew_3
def dkwX4_renew_1 : List UInt8 := [21, 4, 21, 4, 153, 0, 17, 42, 27, 28, 29, 182, 0, 112, 153, 0, 7, 4, 167, 0, 4, 3]
abbrev dktX4_renew_1 : List UInt8 := dkwX4_renew_1 ++ dktX4_renew_2
def dkwX4_renew_0 : List UInt8 := [27, 184, 0, 87, 153, 0, 16, 42, 28, 29, 182, 0, 97, 153, 0, 7, 4, 167, 0, 4, 3, 54, 4, 42]
abbrev dktX4_renew_0 : List UInt8 := dkwX4_renew_0 ++ dktX4_renew_1
theorem dksX4_renew_0 : cX4_renew.data.toList.drop 0 = dktX4_renew_0 := by decide +kernel
theorem dksX4_renew_1 : cX4_renew.data.toList.drop 24 = dktX4_renew_1 := dk_seg dksX4_renew_0 24 rfl rfl
theorem dksX4_renew_2 : cX4_renew.data.toList.drop 46 = dktX4_renew_2 := dk_seg dksX4_renew_1 22 rfl rfl
theorem dksX4_renew_3 : cX4_renew.data.toList.drop 70 = dktX4_renew_3 := dk_seg dksX4_renew_2 24 rfl rfl
theorem dksX4_renew_4 : cX4_renew.data.toList.drop 93 = dktX4_renew_4 := dk_seg dksX4_renew_3 23 rfl rfl
theorem dX4_renew_0 : decode cX4_renew 0 = .ok (.iload_n 1, 1) := dk_27 (dk_at dksX4_renew_0 0 rfl rfl)
theorem dX4_renew_1 : decode cX4_renew 1 = .ok (.invokestatic 87, 3) := dk_184 0 87 (dk_at dksX4_renew_0 1 rfl rfl)
theorem dX4_renew_4 : decode cX4_renew 4 = .ok (.ifCond .eq 16, 3) := dk_153 0 16 (dk_at dksX4_renew_0 4 rfl rfl)
theorem dX4_renew_7 : decode cX4_renew 7 = .ok (.aload_n 0, 1) := dk_42 (dk_at dksX4_renew_0 7 rfl rfl)
theorem dX4_renew_8 : decode cX4_renew 8 = .ok (.iload_n 2, 1) := dk_28 (dk_at dksX4_renew_0 8 rfl rfl)
theorem dX4_renew_9 : decode cX4_renew 9 = .ok (.iload_n 3, 1) := dk_29 (dk_at dksX4_renew_0 9 rfl rfl)
theorem dX4_renew_10 : decode cX4_renew 10 = .ok (.invokevirtual 97, 3) := dk_182 0 97 (dk_at dksX4_renew_0 10 rfl rfl)
theorem dX4_renew_13 : decode cX4_renew 13 = .ok (.ifCond .eq 7, 3) := dk_153 0 7 (dk_at dksX4_renew_0 13 rfl rfl)
theorem dX4_renew_16 : decode cX4_renew 16 = .ok (.iconst 1, 1) := dk_4 (dk_at dksX4_renew_0 16 rfl rfl)
theorem dX4_renew_17 : decode cX4_renew 17 = .ok (.goto 4, 3) := dk_167 0 4 (dk_at dksX4_renew_0 17 rfl rfl)
theorem dX4_renew_20 : decode cX4_renew 20 = .ok (.iconst 0, 1) := dk_3 (dk_at dksX4_renew_0 20 rfl rfl)
theorem dX4_renew_21 : decode cX4_renew 21 = .ok (.istore 4, 2) := dk_54 4 (dk_at dksX4_renew_0 21 rfl rfl)
theorem dX4_renew_23 : decode cX4_renew 23 = .ok (.aload_n 0, 1) := dk_42 (dk_at dksX4_renew_0 23 rfl rfl)
theorem dX4_renew_24 : decode cX4_renew 24 = .ok (.iload 4, 2) := dk_21 4 (dk_at dksX4_renew_1 0 rfl rfl)
theorem dX4_renew_26 : decode cX4_renew 26 = .ok (.iload 4, 2) := dk_21 4 (dk_at dksX4_renew_1 2 rfl rfl)
theorem dX4_renew_28 : decode cX4_renew 28 = .ok (.ifCond .eq 17, 3) := dk_153 0 17 (dk_at dksX4_renew_1 4 rfl rfl)
theorem dX4_renew_31 : decode cX4_renew 31 = .ok (.aload_n 0, 1) := dk_42 (dk_at dksX4_renew_1 7 rfl rfl)
theorem dX4_renew_32 : decode cX4_renew 32 = .ok (.iload_n 1, 1) := dk_27 (dk_at dksX4_renew_1 8 rfl rfl)
theorem dX4_renew_33 : decode cX4_renew 33 = .ok (.iload_n 2, 1) := dk_28 (dk_at dksX4_renew_1 9 rfl rfl)
theorem dX4_renew_34 : decode cX4_renew 34 = .ok (.iload_n 3, 1) := dk_29 (dk_at dksX4_renew_1 10 rfl rfl)
theorem dX4_renew_35 : decode cX4_renew 35 = .ok (.invokevirtual 112, 3) := dk_182 0 112 (dk_at dksX4_renew_1 11 rfl rfl)
theorem dX4_renew_38 : decode cX4_renew 38 = .ok (.ifCond .eq 7, 3) := dk_153 0 7 (dk_at dksX4_renew_1 14 rfl rfl)
theorem dX4_renew_41 : decode cX4_renew 41 = .ok (.iconst 1, 1) := dk_4 (dk_at dksX4_renew_1 17 rfl rfl)
theorem dX4_renew_42 : decode cX4_renew 42 = .ok (.goto 4, 3) := dk_167 0 4 (dk_at dksX4_renew_1 18 rfl rfl)
theorem dX4_renew_45 : decode cX4_renew 45 = .ok (.iconst 0, 1) := dk_3 (dk_at dksX4_renew_1 21 rfl rfl)
theorem dX4_renew_46 : decode cX4_renew 46 = .ok (.invokevirtual 77, 3) := dk_182 0 77 (dk_at dksX4_renew_2 0 rfl rfl)
theorem dX4_renew_49 : decode cX4_renew 49 = .ok (.ifCond .ne 5, 3) := dk_154 0 5 (dk_at dksX4_renew_2 3 rfl rfl)
theorem dX4_renew_52 : decode cX4_renew 52 = .ok (.iconst 0, 1) := dk_3 (dk_at dksX4_renew_2 6 rfl rfl)
theorem dX4_renew_53 : decode cX4_renew 53 = .ok (.ireturn, 1) := dk_172 (dk_at dksX4_renew_2 7 rfl rfl)
theorem dX4_renew_54 : decode cX4_renew 54 = .ok (.iload_n 2, 1) := dk_28 (dk_at dksX4_renew_2 8 rfl rfl)
theorem dX4_renew_55 : decode cX4_renew 55 = .ok (.iload_n 3, 1) := dk_29 (dk_at dksX4_renew_2 9 rfl rfl)
theorem dX4_renew_56 : decode cX4_renew 56 = .ok (.invokestatic 69, 3) := dk_184 0 69 (dk_at dksX4_renew_2 10 rfl rfl)
theorem dX4_renew_59 : decode cX4_renew 59 = .ok (.iconst 2, 1) := dk_5 (dk_at dksX4_renew_2 13 rfl rfl)
theorem dX4_renew_60 : decode cX4_renew 60 = .ok (.iadd, 1) := dk_96 (dk_at dksX4_renew_2 14 rfl rfl)
theorem dX4_renew_61 : decode cX4_renew 61 = .ok (.istore 5, 2) := dk_54 5 (dk_at dksX4_renew_2 15 rfl rfl)
theorem dX4_renew_63 : decode cX4_renew 63 = .ok (.aload_n 0, 1) := dk_42 (dk_at dksX4_renew_2 17 rfl rfl)
theorem dX4_renew_64 : decode cX4_renew 64 = .ok (.getfield 9, 3) := dk_180 0 9 (dk_at dksX4_renew_2 18 rfl rfl)
theorem dX4_renew_67 : decode cX4_renew 67 = .ok (.iconst 0, 1) := dk_3 (dk_at dksX4_renew_2 21 rfl rfl)
theorem dX4_renew_68 : decode cX4_renew 68 = .ok (.iaload, 1) := dk_46 (dk_at dksX4_renew_2 22 rfl rfl)
theorem dX4_renew_69 : decode cX4_renew 69 = .ok (.aload_n 0, 1) := dk_42 (dk_at dksX4_renew_2 23 rfl rfl)
theorem dX4_renew_70 : decode cX4_renew 70 = .ok (.getfield 9, 3) := dk_180 0 9 (dk_at dksX4_renew_3 0 rfl rfl)
theorem dX4_renew_73 : decode cX4_renew 73 = .ok (.iload 5, 2) := dk_21 5 (dk_at dksX4_renew_3 3 rfl rfl)
theorem dX4_renew_75 : decode cX4_renew 75 = .ok (.iaload, 1) := dk_46 (dk_at dksX4_renew_3 5 rfl rfl)
theorem dX4_renew_76 : decode cX4_renew 76 = .ok (.isub, 1) := dk_100 (dk_at dksX4_renew_3 6 rfl rfl)
theorem dX4_renew_77 : decode cX4_renew 77 = .ok (.istore 6, 2) := dk_54 6 (dk_at dksX4_renew_3 7 rfl rfl)
theorem dX4_renew_79 : decode cX4_renew 79 = .ok (.aload_n 0, 1) := dk_42 (dk_at dksX4_renew_3 9 rfl rfl)
theorem dX4_renew_80 : decode cX4_renew 80 = .ok (.getfield 9, 3) := dk_180 0 9 (dk_at dksX4_renew_3 10 rfl rfl)
theorem dX4_renew_83 : decode cX4_renew 83 = .ok (.iload 5, 2) := dk_21 5 (dk_at dksX4_renew_3 13 rfl rfl)
theorem dX4_renew_85 : decode cX4_renew 85 = .ok (.aload_n 0, 1) := dk_42 (dk_at dksX4_renew_3 15 rfl rfl)
theorem dX4_renew_86 : decode cX4_renew 86 = .ok (.getfield 9, 3) := dk_180 0 9 (dk_at dksX4_renew_3 16 rfl rfl)
theorem dX4_renew_89 : decode cX4_renew 89 = .ok (.iconst 0, 1) := dk_3 (dk_at dksX4_renew_3 19 rfl rfl)
theorem dX4_renew_90 : decode cX4_renew 90 = .ok (.iaload, 1) := dk_46 (dk_at dksX4_renew_3 20 rfl rfl)
theorem dX4_renew_91 : decode cX4_renew 91 = .ok (.iastore, 1) := dk_79 (dk_at dksX4_renew_3 21 rfl rfl)
theorem dX4_renew_92 : decode cX4_renew 92 = .ok (.aload_n 0, 1) := dk_42 (dk_at dksX4_renew_3 22 rfl rfl)
theorem dX4_renew_93 : decode cX4_renew 93 = .ok (.bipush 7, 2) := dk_16 7 (dk_at dksX4_renew_4 0 rfl rfl)
theorem dX4_renew_95 : decode cX4_renew 95 = .ok (.iload_n 1, 1) := dk_27 (dk_at dksX4_renew_4 2 rfl rfl)
theorem dX4_renew_96 : decode cX4_renew 96 = .ok (.iload_n 2, 1) := dk_28 (dk_at dksX4_renew_4 3 rfl rfl)
theorem dX4_renew_97 : decode cX4_renew 97 = .ok (.iload_n 3, 1) := dk_29 (dk_at dksX4_renew_4 4 rfl rfl)
theorem dX4_renew_98 : decode cX4_renew 98 = .ok (.iconst 0, 1) := dk_3 (dk_at dksX4_renew_4 5 rfl rfl)
theorem dX4_renew_99 : decode cX4_renew 99 = .ok (.iconst 0, 1) := dk_3 (dk_at dksX4_renew_4 6 rfl rfl)
theorem dX4_renew_100 : decode cX4_renew 100 = .ok (.invokevirtual 80, 3) := dk_182 0 80 (dk_at dksX4_renew_4 7 rfl rfl)
theorem dX4_renew_103 : decode cX4_renew 103 = .ok (.iload 6, 2) := dk_21 6 (dk_at dksX4_renew_4 10 rfl rfl)
theorem dX4_renew_105 : decode cX4_renew 105 = .ok (.ireturn, 1) := dk_172 (dk_at dksX4_renew_4 12 rfl rfl)
abbrev cX4_cancel : ByteArray := prog_38_method_39_code
def yX4_cancel : MethodName := ⟨RX4, "cancel", "(III)I"⟩
def dkwX4_cancel_4 : List UInt8 := [42, 28, 29, 182, 0, 115, 42, 16, 8, 27, 28, 29, 3, 3, 182, 0, 80, 21, 6, 172]
abbrev dktX4_cancel_4 : List UInt8 := dkwX4_cancel_4 ++ []
def dkwX4_cancel_3 : List UInt8 := [153, 0, 7, 4, 167, 0, 4, 3, 182, 0, 77, 154, 0, 5, 3, 172, 42, 28, 29, 182, 0, 109, 54, 6]
abbrev dktX4_cancel_3 : List UInt8 := dkwX4_cancel_3 ++ dktX4_cancel_4
def dkwX4_cancel_2 : List UInt8 := [21, 4, 21, 5, 153, 0, 26, 42, 27, 28, 29, 182, 0, 112, 154, 0, 12, 42, 27, 28, 182, 0, 94]
abbrev dktX4_cancel_2 : List UInt8 := dkwX4_cancel_2 ++ dktX4_cancel_3
def dkwX4_cancel_1 : List UInt8 := [21, 4, 153, 0, 17, 42, 28, 29, 182, 0, 109, 2, 159, 0, 7, 4, 167, 0, 4, 3, 54, 5, 42]
abbrev dktX4_cancel_1 : List UInt8 := dkwX4_cancel_1 ++ dktX4_cancel_2
def dkwX4_cancel_0 : List UInt8 := [27, 184, 0, 87, 153, 0, 16, 42, 28, 29, 182, 0, 97, 153, 0, 7, 4, 167, 0, 4, 3, 54, 4]
abbrev dktX4_cancel_0 : List UInt8 := dkwX4_cancel_0 ++ dktX4_cancel_1
theorem dksX4_cancel_0 : cX4_cancel.data.toList.drop 0 = dktX4_cancel_0 := by decide +kernel
theorem dksX4_cancel_1 : cX4_cancel.data.toList.drop 23 = dktX4_cancel_1 := dk_seg dksX4_cancel_0 23 rfl rfl
theorem dksX4_cancel_2 : cX4_cancel.data.toList.drop 46 = dktX4_cancel_2 := dk_seg dksX4_cancel_1 23 rfl rfl
theorem dksX4_cancel_3 : cX4_cancel.data.toList.drop 69 = dktX4_cancel_3 := dk_seg dksX4_cancel_2 23 rfl rfl
theorem dksX4_cancel_4 : cX4_cancel.data.toList.drop 93 = dktX4_cancel_4 := dk_seg dksX4_cancel_3 24 rfl rfl
theorem dX4_cancel_0 : decode cX4_cancel 0 = .ok (.iload_n 1, 1) := dk_27 (dk_at dksX4_cancel_0 0 rfl rfl)
theorem dX4_cancel_1 : decode cX4_cancel 1 = .ok (.invokestatic 87, 3) := dk_184 0 87 (dk_at dksX4_cancel_0 1 rfl rfl)
theorem dX4_cancel_4 : decode cX4_cancel 4 = .ok (.ifCond .eq 16, 3) := dk_153 0 16 (dk_at dksX4_cancel_0 4 rfl rfl)
theorem dX4_cancel_7 : decode cX4_cancel 7 = .ok (.aload_n 0, 1) := dk_42 (dk_at dksX4_cancel_0 7 rfl rfl)
theorem dX4_cancel_8 : decode cX4_cancel 8 = .ok (.iload_n 2, 1) := dk_28 (dk_at dksX4_cancel_0 8 rfl rfl)
theorem dX4_cancel_9 : decode cX4_cancel 9 = .ok (.iload_n 3, 1) := dk_29 (dk_at dksX4_cancel_0 9 rfl rfl)
theorem dX4_cancel_10 : decode cX4_cancel 10 = .ok (.invokevirtual 97, 3) := dk_182 0 97 (dk_at dksX4_cancel_0 10 rfl rfl)
theorem dX4_cancel_13 : decode cX4_cancel 13 = .ok (.ifCond .eq 7, 3) := dk_153 0 7 (dk_at dksX4_cancel_0 13 rfl rfl)
theorem dX4_cancel_16 : decode cX4_cancel 16 = .ok (.iconst 1, 1) := dk_4 (dk_at dksX4_cancel_0 16 rfl rfl)
theorem dX4_cancel_17 : decode cX4_cancel 17 = .ok (.goto 4, 3) := dk_167 0 4 (dk_at dksX4_cancel_0 17 rfl rfl)
theorem dX4_cancel_20 : decode cX4_cancel 20 = .ok (.iconst 0, 1) := dk_3 (dk_at dksX4_cancel_0 20 rfl rfl)
theorem dX4_cancel_21 : decode cX4_cancel 21 = .ok (.istore 4, 2) := dk_54 4 (dk_at dksX4_cancel_0 21 rfl rfl)
theorem dX4_cancel_23 : decode cX4_cancel 23 = .ok (.iload 4, 2) := dk_21 4 (dk_at dksX4_cancel_1 0 rfl rfl)
theorem dX4_cancel_25 : decode cX4_cancel 25 = .ok (.ifCond .eq 17, 3) := dk_153 0 17 (dk_at dksX4_cancel_1 2 rfl rfl)
theorem dX4_cancel_28 : decode cX4_cancel 28 = .ok (.aload_n 0, 1) := dk_42 (dk_at dksX4_cancel_1 5 rfl rfl)
theorem dX4_cancel_29 : decode cX4_cancel 29 = .ok (.iload_n 2, 1) := dk_28 (dk_at dksX4_cancel_1 6 rfl rfl)
theorem dX4_cancel_30 : decode cX4_cancel 30 = .ok (.iload_n 3, 1) := dk_29 (dk_at dksX4_cancel_1 7 rfl rfl)
theorem dX4_cancel_31 : decode cX4_cancel 31 = .ok (.invokevirtual 109, 3) := dk_182 0 109 (dk_at dksX4_cancel_1 8 rfl rfl)
theorem dX4_cancel_34 : decode cX4_cancel 34 = .ok (.iconst (-1), 1) := dk_2 (dk_at dksX4_cancel_1 11 rfl rfl)
theorem dX4_cancel_35 : decode cX4_cancel 35 = .ok (.if_icmp .eq 7, 3) := dk_159 0 7 (dk_at dksX4_cancel_1 12 rfl rfl)
theorem dX4_cancel_38 : decode cX4_cancel 38 = .ok (.iconst 1, 1) := dk_4 (dk_at dksX4_cancel_1 15 rfl rfl)
theorem dX4_cancel_39 : decode cX4_cancel 39 = .ok (.goto 4, 3) := dk_167 0 4 (dk_at dksX4_cancel_1 16 rfl rfl)
theorem dX4_cancel_42 : decode cX4_cancel 42 = .ok (.iconst 0, 1) := dk_3 (dk_at dksX4_cancel_1 19 rfl rfl)
theorem dX4_cancel_43 : decode cX4_cancel 43 = .ok (.istore 5, 2) := dk_54 5 (dk_at dksX4_cancel_1 20 rfl rfl)
theorem dX4_cancel_45 : decode cX4_cancel 45 = .ok (.aload_n 0, 1) := dk_42 (dk_at dksX4_cancel_1 22 rfl rfl)
theorem dX4_cancel_46 : decode cX4_cancel 46 = .ok (.iload 4, 2) := dk_21 4 (dk_at dksX4_cancel_2 0 rfl rfl)
theorem dX4_cancel_48 : decode cX4_cancel 48 = .ok (.iload 5, 2) := dk_21 5 (dk_at dksX4_cancel_2 2 rfl rfl)
theorem dX4_cancel_50 : decode cX4_cancel 50 = .ok (.ifCond .eq 26, 3) := dk_153 0 26 (dk_at dksX4_cancel_2 4 rfl rfl)
theorem dX4_cancel_53 : decode cX4_cancel 53 = .ok (.aload_n 0, 1) := dk_42 (dk_at dksX4_cancel_2 7 rfl rfl)
theorem dX4_cancel_54 : decode cX4_cancel 54 = .ok (.iload_n 1, 1) := dk_27 (dk_at dksX4_cancel_2 8 rfl rfl)
theorem dX4_cancel_55 : decode cX4_cancel 55 = .ok (.iload_n 2, 1) := dk_28 (dk_at dksX4_cancel_2 9 rfl rfl)
theorem dX4_cancel_56 : decode cX4_cancel 56 = .ok (.iload_n 3, 1) := dk_29 (dk_at dksX4_cancel_2 10 rfl rfl)
theorem dX4_cancel_57 : decode cX4_cancel 57 = .ok (.invokevirtual 112, 3) := dk_182 0 112 (dk_at dksX4_cancel_2 11 rfl rfl)
theorem dX4_cancel_60 : decode cX4_cancel 60 = .ok (.ifCond .ne 12, 3) := dk_154 0 12 (dk_at dksX4_cancel_2 14 rfl rfl)
theorem dX4_cancel_63 : decode cX4_cancel 63 = .ok (.aload_n 0, 1) := dk_42 (dk_at dksX4_cancel_2 17 rfl rfl)
theorem dX4_cancel_64 : decode cX4_cancel 64 = .ok (.iload_n 1, 1) := dk_27 (dk_at dksX4_cancel_2 18 rfl rfl)
theorem dX4_cancel_65 : decode cX4_cancel 65 = .ok (.iload_n 2, 1) := dk_28 (dk_at dksX4_cancel_2 19 rfl rfl)
theorem dX4_cancel_66 : decode cX4_cancel 66 = .ok (.invokevirtual 94, 3) := dk_182 0 94 (dk_at dksX4_cancel_2 20 rfl rfl)
theorem dX4_cancel_69 : decode cX4_cancel 69 = .ok (.ifCond .eq 7, 3) := dk_153 0 7 (dk_at dksX4_cancel_3 0 rfl rfl)
theorem dX4_cancel_72 : decode cX4_cancel 72 = .ok (.iconst 1, 1) := dk_4 (dk_at dksX4_cancel_3 3 rfl rfl)
theorem dX4_cancel_73 : decode cX4_cancel 73 = .ok (.goto 4, 3) := dk_167 0 4 (dk_at dksX4_cancel_3 4 rfl rfl)
theorem dX4_cancel_76 : decode cX4_cancel 76 = .ok (.iconst 0, 1) := dk_3 (dk_at dksX4_cancel_3 7 rfl rfl)
theorem dX4_cancel_77 : decode cX4_cancel 77 = .ok (.invokevirtual 77, 3) := dk_182 0 77 (dk_at dksX4_cancel_3 8 rfl rfl)
theorem dX4_cancel_80 : decode cX4_cancel 80 = .ok (.ifCond .ne 5, 3) := dk_154 0 5 (dk_at dksX4_cancel_3 11 rfl rfl)
theorem dX4_cancel_83 : decode cX4_cancel 83 = .ok (.iconst 0, 1) := dk_3 (dk_at dksX4_cancel_3 14 rfl rfl)
theorem dX4_cancel_84 : decode cX4_cancel 84 = .ok (.ireturn, 1) := dk_172 (dk_at dksX4_cancel_3 15 rfl rfl)
theorem dX4_cancel_85 : decode cX4_cancel 85 = .ok (.aload_n 0, 1) := dk_42 (dk_at dksX4_cancel_3 16 rfl rfl)
theorem dX4_cancel_86 : decode cX4_cancel 86 = .ok (.iload_n 2, 1) := dk_28 (dk_at dksX4_cancel_3 17 rfl rfl)
theorem dX4_cancel_87 : decode cX4_cancel 87 = .ok (.iload_n 3, 1) := dk_29 (dk_at dksX4_cancel_3 18 rfl rfl)
theorem dX4_cancel_88 : decode cX4_cancel 88 = .ok (.invokevirtual 109, 3) := dk_182 0 109 (dk_at dksX4_cancel_3 19 rfl rfl)
theorem dX4_cancel_91 : decode cX4_cancel 91 = .ok (.istore 6, 2) := dk_54 6 (dk_at dksX4_cancel_3 22 rfl rfl)
theorem dX4_cancel_93 : decode cX4_cancel 93 = .ok (.aload_n 0, 1) := dk_42 (dk_at dksX4_cancel_4 0 rfl rfl)
theorem dX4_cancel_94 : decode cX4_cancel 94 = .ok (.iload_n 2, 1) := dk_28 (dk_at dksX4_cancel_4 1 rfl rfl)
theorem dX4_cancel_95 : decode cX4_cancel 95 = .ok (.iload_n 3, 1) := dk_29 (dk_at dksX4_cancel_4 2 rfl rfl)
theorem dX4_cancel_96 : decode cX4_cancel 96 = .ok (.invokevirtual 115, 3) := dk_182 0 115 (dk_at dksX4_cancel_4 3 rfl rfl)
theorem dX4_cancel_99 : decode cX4_cancel 99 = .ok (.aload_n 0, 1) := dk_42 (dk_at dksX4_cancel_4 6 rfl rfl)
theorem dX4_cancel_100 : decode cX4_cancel 100 = .ok (.bipush 8, 2) := dk_16 8 (dk_at dksX4_cancel_4 7 rfl rfl)
theorem dX4_cancel_102 : decode cX4_cancel 102 = .ok (.iload_n 1, 1) := dk_27 (dk_at dksX4_cancel_4 9 rfl rfl)
theorem dX4_cancel_103 : decode cX4_cancel 103 = .ok (.iload_n 2, 1) := dk_28 (dk_at dksX4_cancel_4 10 rfl rfl)
theorem dX4_cancel_104 : decode cX4_cancel 104 = .ok (.iload_n 3, 1) := dk_29 (dk_at dksX4_cancel_4 11 rfl rfl)
theorem dX4_cancel_105 : decode cX4_cancel 105 = .ok (.iconst 0, 1) := dk_3 (dk_at dksX4_cancel_4 12 rfl rfl)
theorem dX4_cancel_106 : decode cX4_cancel 106 = .ok (.iconst 0, 1) := dk_3 (dk_at dksX4_cancel_4 13 rfl rfl)
theorem dX4_cancel_107 : decode cX4_cancel 107 = .ok (.invokevirtual 80, 3) := dk_182 0 80 (dk_at dksX4_cancel_4 14 rfl rfl)
theorem dX4_cancel_110 : decode cX4_cancel 110 = .ok (.iload 6, 2) := dk_21 6 (dk_at dksX4_cancel_4 17 rfl rfl)
theorem dX4_cancel_112 : decode cX4_cancel 112 = .ok (.ireturn, 1) := dk_172 (dk_at dksX4_cancel_4 19 rfl rfl)
abbrev cX4_promote : ByteArray := prog_38_method_40_code
def yX4_promote : MethodName := ⟨RX4, "promote", "(III)I"⟩
def dkwX4_promote_6 : List UInt8 := [21, 5, 172]
abbrev dktX4_promote_6 : List UInt8 := dkwX4_promote_6 ++ []
def dkwX4_promote_5 : List UInt8 := [42, 180, 0, 9, 21, 5, 184, 0, 52, 6, 96, 3, 79, 42, 16, 9, 27, 28, 29, 3, 3, 182, 0, 80]
abbrev dktX4_promote_5 : List UInt8 := dkwX4_promote_5 ++ dktX4_promote_6
def dkwX4_promote_4 : List UInt8 := [182, 0, 77, 154, 0, 5, 3, 172, 42, 180, 0, 9, 21, 5, 184, 0, 52, 5, 96, 92, 46, 4, 96, 79]
abbrev dktX4_promote_4 : List UInt8 := dkwX4_promote_4 ++ dktX4_promote_5
def dkwX4_promote_3 : List UInt8 := [42, 21, 4, 21, 6, 153, 0, 16, 42, 27, 28, 182, 0, 100, 153, 0, 7, 4, 167, 0, 4, 3]
abbrev dktX4_promote_3 : List UInt8 := dkwX4_promote_3 ++ dktX4_promote_4
def dkwX4_promote_2 : List UInt8 := [29, 182, 0, 109, 2, 160, 0, 16, 42, 21, 5, 182, 0, 59, 154, 0, 7, 4, 167, 0, 4, 3, 54, 6]
abbrev dktX4_promote_2 : List UInt8 := dkwX4_promote_2 ++ dktX4_promote_3
def dkwX4_promote_1 : List UInt8 := [21, 4, 153, 0, 12, 42, 28, 29, 182, 0, 106, 167, 0, 4, 2, 54, 5, 21, 4, 153, 0, 26, 42, 28]
abbrev dktX4_promote_1 : List UInt8 := dkwX4_promote_1 ++ dktX4_promote_2
def dkwX4_promote_0 : List UInt8 := [27, 184, 0, 87, 153, 0, 16, 42, 28, 29, 182, 0, 97, 153, 0, 7, 4, 167, 0, 4, 3, 54, 4]
abbrev dktX4_promote_0 : List UInt8 := dkwX4_promote_0 ++ dktX4_promote_1
theorem dksX4_promote_0 : cX4_promote.data.toList.drop 0 = dktX4_promote_0 := by decide +kernel
theorem dksX4_promote_1 : cX4_promote.data.toList.drop 23 = dktX4_promote_1 := dk_seg dksX4_promote_0 23 rfl rfl
theorem dksX4_promote_2 : cX4_promote.data.toList.drop 47 = dktX4_promote_2 := dk_seg dksX4_promote_1 24 rfl rfl
theorem dksX4_promote_3 : cX4_promote.data.toList.drop 71 = dktX4_promote_3 := dk_seg dksX4_promote_2 24 rfl rfl
theorem dksX4_promote_4 : cX4_promote.data.toList.drop 93 = dktX4_promote_4 := dk_seg dksX4_promote_3 22 rfl rfl
theorem dksX4_promote_5 : cX4_promote.data.toList.drop 117 = dktX4_promote_5 := dk_seg dksX4_promote_4 24 rfl rfl
theorem dksX4_promote_6 : cX4_promote.data.toList.drop 141 = dktX4_promote_6 := dk_seg dksX4_promote_5 24 rfl rfl
theorem dX4_promote_0 : decode cX4_promote 0 = .ok (.iload_n 1, 1) := dk_27 (dk_at dksX4_promote_0 0 rfl rfl)
theorem dX4_promote_1 : decode cX4_promote 1 = .ok (.invokestatic 87, 3) := dk_184 0 87 (dk_at dksX4_promote_0 1 rfl rfl)
theorem dX4_promote_4 : decode cX4_promote 4 = .ok (.ifCond .eq 16, 3) := dk_153 0 16 (dk_at dksX4_promote_0 4 rfl rfl)
theorem dX4_promote_7 : decode cX4_promote 7 = .ok (.aload_n 0, 1) := dk_42 (dk_at dksX4_promote_0 7 rfl rfl)
theorem dX4_promote_8 : decode cX4_promote 8 = .ok (.iload_n 2, 1) := dk_28 (dk_at dksX4_promote_0 8 rfl rfl)
theorem dX4_promote_9 : decode cX4_promote 9 = .ok (.iload_n 3, 1) := dk_29 (dk_at dksX4_promote_0 9 rfl rfl)
theorem dX4_promote_10 : decode cX4_promote 10 = .ok (.invokevirtual 97, 3) := dk_182 0 97 (dk_at dksX4_promote_0 10 rfl rfl)
theorem dX4_promote_13 : decode cX4_promote 13 = .ok (.ifCond .eq 7, 3) := dk_153 0 7 (dk_at dksX4_promote_0 13 rfl rfl)
theorem dX4_promote_16 : decode cX4_promote 16 = .ok (.iconst 1, 1) := dk_4 (dk_at dksX4_promote_0 16 rfl rfl)
theorem dX4_promote_17 : decode cX4_promote 17 = .ok (.goto 4, 3) := dk_167 0 4 (dk_at dksX4_promote_0 17 rfl rfl)
theorem dX4_promote_20 : decode cX4_promote 20 = .ok (.iconst 0, 1) := dk_3 (dk_at dksX4_promote_0 20 rfl rfl)
theorem dX4_promote_21 : decode cX4_promote 21 = .ok (.istore 4, 2) := dk_54 4 (dk_at dksX4_promote_0 21 rfl rfl)
theorem dX4_promote_23 : decode cX4_promote 23 = .ok (.iload 4, 2) := dk_21 4 (dk_at dksX4_promote_1 0 rfl rfl)
theorem dX4_promote_25 : decode cX4_promote 25 = .ok (.ifCond .eq 12, 3) := dk_153 0 12 (dk_at dksX4_promote_1 2 rfl rfl)
theorem dX4_promote_28 : decode cX4_promote 28 = .ok (.aload_n 0, 1) := dk_42 (dk_at dksX4_promote_1 5 rfl rfl)
theorem dX4_promote_29 : decode cX4_promote 29 = .ok (.iload_n 2, 1) := dk_28 (dk_at dksX4_promote_1 6 rfl rfl)
theorem dX4_promote_30 : decode cX4_promote 30 = .ok (.iload_n 3, 1) := dk_29 (dk_at dksX4_promote_1 7 rfl rfl)
theorem dX4_promote_31 : decode cX4_promote 31 = .ok (.invokevirtual 106, 3) := dk_182 0 106 (dk_at dksX4_promote_1 8 rfl rfl)
theorem dX4_promote_34 : decode cX4_promote 34 = .ok (.goto 4, 3) := dk_167 0 4 (dk_at dksX4_promote_1 11 rfl rfl)
theorem dX4_promote_37 : decode cX4_promote 37 = .ok (.iconst (-1), 1) := dk_2 (dk_at dksX4_promote_1 14 rfl rfl)
theorem dX4_promote_38 : decode cX4_promote 38 = .ok (.istore 5, 2) := dk_54 5 (dk_at dksX4_promote_1 15 rfl rfl)
theorem dX4_promote_40 : decode cX4_promote 40 = .ok (.iload 4, 2) := dk_21 4 (dk_at dksX4_promote_1 17 rfl rfl)
theorem dX4_promote_42 : decode cX4_promote 42 = .ok (.ifCond .eq 26, 3) := dk_153 0 26 (dk_at dksX4_promote_1 19 rfl rfl)
theorem dX4_promote_45 : decode cX4_promote 45 = .ok (.aload_n 0, 1) := dk_42 (dk_at dksX4_promote_1 22 rfl rfl)
theorem dX4_promote_46 : decode cX4_promote 46 = .ok (.iload_n 2, 1) := dk_28 (dk_at dksX4_promote_1 23 rfl rfl)
theorem dX4_promote_47 : decode cX4_promote 47 = .ok (.iload_n 3, 1) := dk_29 (dk_at dksX4_promote_2 0 rfl rfl)
theorem dX4_promote_48 : decode cX4_promote 48 = .ok (.invokevirtual 109, 3) := dk_182 0 109 (dk_at dksX4_promote_2 1 rfl rfl)
theorem dX4_promote_51 : decode cX4_promote 51 = .ok (.iconst (-1), 1) := dk_2 (dk_at dksX4_promote_2 4 rfl rfl)
theorem dX4_promote_52 : decode cX4_promote 52 = .ok (.if_icmp .ne 16, 3) := dk_160 0 16 (dk_at dksX4_promote_2 5 rfl rfl)
theorem dX4_promote_55 : decode cX4_promote 55 = .ok (.aload_n 0, 1) := dk_42 (dk_at dksX4_promote_2 8 rfl rfl)
theorem dX4_promote_56 : decode cX4_promote 56 = .ok (.iload 5, 2) := dk_21 5 (dk_at dksX4_promote_2 9 rfl rfl)
theorem dX4_promote_58 : decode cX4_promote 58 = .ok (.invokevirtual 59, 3) := dk_182 0 59 (dk_at dksX4_promote_2 11 rfl rfl)
theorem dX4_promote_61 : decode cX4_promote 61 = .ok (.ifCond .ne 7, 3) := dk_154 0 7 (dk_at dksX4_promote_2 14 rfl rfl)
theorem dX4_promote_64 : decode cX4_promote 64 = .ok (.iconst 1, 1) := dk_4 (dk_at dksX4_promote_2 17 rfl rfl)
theorem dX4_promote_65 : decode cX4_promote 65 = .ok (.goto 4, 3) := dk_167 0 4 (dk_at dksX4_promote_2 18 rfl rfl)
theorem dX4_promote_68 : decode cX4_promote 68 = .ok (.iconst 0, 1) := dk_3 (dk_at dksX4_promote_2 21 rfl rfl)
theorem dX4_promote_69 : decode cX4_promote 69 = .ok (.istore 6, 2) := dk_54 6 (dk_at dksX4_promote_2 22 rfl rfl)
theorem dX4_promote_71 : decode cX4_promote 71 = .ok (.aload_n 0, 1) := dk_42 (dk_at dksX4_promote_3 0 rfl rfl)
theorem dX4_promote_72 : decode cX4_promote 72 = .ok (.iload 4, 2) := dk_21 4 (dk_at dksX4_promote_3 1 rfl rfl)
theorem dX4_promote_74 : decode cX4_promote 74 = .ok (.iload 6, 2) := dk_21 6 (dk_at dksX4_promote_3 3 rfl rfl)
theorem dX4_promote_76 : decode cX4_promote 76 = .ok (.ifCond .eq 16, 3) := dk_153 0 16 (dk_at dksX4_promote_3 5 rfl rfl)
theorem dX4_promote_79 : decode cX4_promote 79 = .ok (.aload_n 0, 1) := dk_42 (dk_at dksX4_promote_3 8 rfl rfl)
theorem dX4_promote_80 : decode cX4_promote 80 = .ok (.iload_n 1, 1) := dk_27 (dk_at dksX4_promote_3 9 rfl rfl)
theorem dX4_promote_81 : decode cX4_promote 81 = .ok (.iload_n 2, 1) := dk_28 (dk_at dksX4_promote_3 10 rfl rfl)
theorem dX4_promote_82 : decode cX4_promote 82 = .ok (.invokevirtual 100, 3) := dk_182 0 100 (dk_at dksX4_promote_3 11 rfl rfl)
theorem dX4_promote_85 : decode cX4_promote 85 = .ok (.ifCond .eq 7, 3) := dk_153 0 7 (dk_at dksX4_promote_3 14 rfl rfl)
theorem dX4_promote_88 : decode cX4_promote 88 = .ok (.iconst 1, 1) := dk_4 (dk_at dksX4_promote_3 17 rfl rfl)
theorem dX4_promote_89 : decode cX4_promote 89 = .ok (.goto 4, 3) := dk_167 0 4 (dk_at dksX4_promote_3 18 rfl rfl)
theorem dX4_promote_92 : decode cX4_promote 92 = .ok (.iconst 0, 1) := dk_3 (dk_at dksX4_promote_3 21 rfl rfl)
theorem dX4_promote_93 : decode cX4_promote 93 = .ok (.invokevirtual 77, 3) := dk_182 0 77 (dk_at dksX4_promote_4 0 rfl rfl)
theorem dX4_promote_96 : decode cX4_promote 96 = .ok (.ifCond .ne 5, 3) := dk_154 0 5 (dk_at dksX4_promote_4 3 rfl rfl)
theorem dX4_promote_99 : decode cX4_promote 99 = .ok (.iconst 0, 1) := dk_3 (dk_at dksX4_promote_4 6 rfl rfl)
theorem dX4_promote_100 : decode cX4_promote 100 = .ok (.ireturn, 1) := dk_172 (dk_at dksX4_promote_4 7 rfl rfl)
theorem dX4_promote_101 : decode cX4_promote 101 = .ok (.aload_n 0, 1) := dk_42 (dk_at dksX4_promote_4 8 rfl rfl)
theorem dX4_promote_102 : decode cX4_promote 102 = .ok (.getfield 9, 3) := dk_180 0 9 (dk_at dksX4_promote_4 9 rfl rfl)
theorem dX4_promote_105 : decode cX4_promote 105 = .ok (.iload 5, 2) := dk_21 5 (dk_at dksX4_promote_4 12 rfl rfl)
theorem dX4_promote_107 : decode cX4_promote 107 = .ok (.invokestatic 52, 3) := dk_184 0 52 (dk_at dksX4_promote_4 14 rfl rfl)
theorem dX4_promote_110 : decode cX4_promote 110 = .ok (.iconst 2, 1) := dk_5 (dk_at dksX4_promote_4 17 rfl rfl)
theorem dX4_promote_111 : decode cX4_promote 111 = .ok (.iadd, 1) := dk_96 (dk_at dksX4_promote_4 18 rfl rfl)
theorem dX4_promote_112 : decode cX4_promote 112 = .ok (.dup2, 1) := dk_92 (dk_at dksX4_promote_4 19 rfl rfl)
theorem dX4_promote_113 : decode cX4_promote 113 = .ok (.iaload, 1) := dk_46 (dk_at dksX4_promote_4 20 rfl rfl)
theorem dX4_promote_114 : decode cX4_promote 114 = .ok (.iconst 1, 1) := dk_4 (dk_at dksX4_promote_4 21 rfl rfl)
theorem dX4_promote_115 : decode cX4_promote 115 = .ok (.iadd, 1) := dk_96 (dk_at dksX4_promote_4 22 rfl rfl)
theorem dX4_promote_116 : decode cX4_promote 116 = .ok (.iastore, 1) := dk_79 (dk_at dksX4_promote_4 23 rfl rfl)
theorem dX4_promote_117 : decode cX4_promote 117 = .ok (.aload_n 0, 1) := dk_42 (dk_at dksX4_promote_5 0 rfl rfl)
theorem dX4_promote_118 : decode cX4_promote 118 = .ok (.getfield 9, 3) := dk_180 0 9 (dk_at dksX4_promote_5 1 rfl rfl)
theorem dX4_promote_121 : decode cX4_promote 121 = .ok (.iload 5, 2) := dk_21 5 (dk_at dksX4_promote_5 4 rfl rfl)
theorem dX4_promote_123 : decode cX4_promote 123 = .ok (.invokestatic 52, 3) := dk_184 0 52 (dk_at dksX4_promote_5 6 rfl rfl)
theorem dX4_promote_126 : decode cX4_promote 126 = .ok (.iconst 3, 1) := dk_6 (dk_at dksX4_promote_5 9 rfl rfl)
theorem dX4_promote_127 : decode cX4_promote 127 = .ok (.iadd, 1) := dk_96 (dk_at dksX4_promote_5 10 rfl rfl)
theorem dX4_promote_128 : decode cX4_promote 128 = .ok (.iconst 0, 1) := dk_3 (dk_at dksX4_promote_5 11 rfl rfl)
theorem dX4_promote_129 : decode cX4_promote 129 = .ok (.iastore, 1) := dk_79 (dk_at dksX4_promote_5 12 rfl rfl)
theorem dX4_promote_130 : decode cX4_promote 130 = .ok (.aload_n 0, 1) := dk_42 (dk_at dksX4_promote_5 13 rfl rfl)
theorem dX4_promote_131 : decode cX4_promote 131 = .ok (.bipush 9, 2) := dk_16 9 (dk_at dksX4_promote_5 14 rfl rfl)
theorem dX4_promote_133 : decode cX4_promote 133 = .ok (.iload_n 1, 1) := dk_27 (dk_at dksX4_promote_5 16 rfl rfl)
theorem dX4_promote_134 : decode cX4_promote 134 = .ok (.iload_n 2, 1) := dk_28 (dk_at dksX4_promote_5 17 rfl rfl)
theorem dX4_promote_135 : decode cX4_promote 135 = .ok (.iload_n 3, 1) := dk_29 (dk_at dksX4_promote_5 18 rfl rfl)
theorem dX4_promote_136 : decode cX4_promote 136 = .ok (.iconst 0, 1) := dk_3 (dk_at dksX4_promote_5 19 rfl rfl)
theorem dX4_promote_137 : decode cX4_promote 137 = .ok (.iconst 0, 1) := dk_3 (dk_at dksX4_promote_5 20 rfl rfl)
theorem dX4_promote_138 : decode cX4_promote 138 = .ok (.invokevirtual 80, 3) := dk_182 0 80 (dk_at dksX4_promote_5 21 rfl rfl)
theorem dX4_promote_141 : decode cX4_promote 141 = .ok (.iload 5, 2) := dk_21 5 (dk_at dksX4_promote_6 0 rfl rfl)
theorem dX4_promote_143 : decode cX4_promote 143 = .ok (.ireturn, 1) := dk_172 (dk_at dksX4_promote_6 2 rfl rfl)
abbrev cX4_isReleased : ByteArray := prog_38_method_21_code
def yX4_isReleased : MethodName := ⟨RX4, "isReleased", "(I)Z"⟩
def dkwX4_isReleased_0 : List UInt8 := [42, 180, 0, 9, 27, 184, 0, 52, 6, 96, 46, 154, 0, 7, 4, 167, 0, 4, 3, 172]
abbrev dktX4_isReleased_0 : List UInt8 := dkwX4_isReleased_0 ++ []
theorem dksX4_isReleased_0 : cX4_isReleased.data.toList.drop 0 = dktX4_isReleased_0 := by decide +kernel
theorem dX4_isReleased_0 : decode cX4_isReleased 0 = .ok (.aload_n 0, 1) := dk_42 (dk_at dksX4_isReleased_0 0 rfl rfl)
theorem dX4_isReleased_1 : decode cX4_isReleased 1 = .ok (.getfield 9, 3) := dk_180 0 9 (dk_at dksX4_isReleased_0 1 rfl rfl)
theorem dX4_isReleased_4 : decode cX4_isReleased 4 = .ok (.iload_n 1, 1) := dk_27 (dk_at dksX4_isReleased_0 4 rfl rfl)
theorem dX4_isReleased_5 : decode cX4_isReleased 5 = .ok (.invokestatic 52, 3) := dk_184 0 52 (dk_at dksX4_isReleased_0 5 rfl rfl)
theorem dX4_isReleased_8 : decode cX4_isReleased 8 = .ok (.iconst 3, 1) := dk_6 (dk_at dksX4_isReleased_0 8 rfl rfl)
theorem dX4_isReleased_9 : decode cX4_isReleased 9 = .ok (.iadd, 1) := dk_96 (dk_at dksX4_isReleased_0 9 rfl rfl)
theorem dX4_isReleased_10 : decode cX4_isReleased 10 = .ok (.iaload, 1) := dk_46 (dk_at dksX4_isReleased_0 10 rfl rfl)
theorem dX4_isReleased_11 : decode cX4_isReleased 11 = .ok (.ifCond .ne 7, 3) := dk_154 0 7 (dk_at dksX4_isReleased_0 11 rfl rfl)
theorem dX4_isReleased_14 : decode cX4_isReleased 14 = .ok (.iconst 1, 1) := dk_4 (dk_at dksX4_isReleased_0 14 rfl rfl)
theorem dX4_isReleased_15 : decode cX4_isReleased 15 = .ok (.goto 4, 3) := dk_167 0 4 (dk_at dksX4_isReleased_0 15 rfl rfl)
theorem dX4_isReleased_18 : decode cX4_isReleased 18 = .ok (.iconst 0, 1) := dk_3 (dk_at dksX4_isReleased_0 18 rfl rfl)
theorem dX4_isReleased_19 : decode cX4_isReleased 19 = .ok (.ireturn, 1) := dk_172 (dk_at dksX4_isReleased_0 19 rfl rfl)
abbrev cX4_prune : ByteArray := prog_38_method_42_code
def yX4_prune : MethodName := ⟨RX4, "prune", "(III)I"⟩
def dkwX4_prune_5 : List UInt8 := [29, 3, 3, 182, 0, 80, 21, 5, 172]
abbrev dktX4_prune_5 : List UInt8 := dkwX4_prune_5 ++ []
def dkwX4_prune_4 : List UInt8 := [21, 6, 184, 0, 52, 16, 8, 96, 3, 79, 132, 5, 1, 132, 6, 1, 167, 255, 205, 42, 16, 10, 27, 28]
abbrev dktX4_prune_4 : List UInt8 := dkwX4_prune_4 ++ dktX4_prune_5
def dkwX4_prune_3 : List UInt8 := [21, 6, 28, 29, 182, 0, 62, 153, 0, 29, 42, 21, 6, 182, 0, 119, 154, 0, 20, 42, 180, 0, 9]
abbrev dktX4_prune_3 : List UInt8 := dkwX4_prune_3 ++ dktX4_prune_4
def dkwX4_prune_2 : List UInt8 := [154, 0, 5, 3, 172, 3, 54, 5, 3, 54, 6, 21, 6, 42, 180, 0, 9, 6, 46, 162, 0, 46, 42]
abbrev dktX4_prune_2 : List UInt8 := dkwX4_prune_2 ++ dktX4_prune_3
def dkwX4_prune_1 : List UInt8 := [21, 4, 21, 4, 153, 0, 16, 42, 27, 28, 182, 0, 94, 153, 0, 7, 4, 167, 0, 4, 3, 182, 0, 77]
abbrev dktX4_prune_1 : List UInt8 := dkwX4_prune_1 ++ dktX4_prune_2
def dkwX4_prune_0 : List UInt8 := [27, 184, 0, 87, 153, 0, 16, 42, 28, 29, 182, 0, 97, 153, 0, 7, 4, 167, 0, 4, 3, 54, 4, 42]
abbrev dktX4_prune_0 : List UInt8 := dkwX4_prune_0 ++ dktX4_prune_1
theorem dksX4_prune_0 : cX4_prune.data.toList.drop 0 = dktX4_prune_0 := by decide +kernel
theorem dksX4_prune_1 : cX4_prune.data.toList.drop 24 = dktX4_prune_1 := dk_seg dksX4_prune_0 24 rfl rfl
theorem dksX4_prune_2 : cX4_prune.data.toList.drop 48 = dktX4_prune_2 := dk_seg dksX4_prune_1 24 rfl rfl
theorem dksX4_prune_3 : cX4_prune.data.toList.drop 71 = dktX4_prune_3 := dk_seg dksX4_prune_2 23 rfl rfl
theorem dksX4_prune_4 : cX4_prune.data.toList.drop 94 = dktX4_prune_4 := dk_seg dksX4_prune_3 23 rfl rfl
theorem dksX4_prune_5 : cX4_prune.data.toList.drop 118 = dktX4_prune_5 := dk_seg dksX4_prune_4 24 rfl rfl
theorem dX4_prune_0 : decode cX4_prune 0 = .ok (.iload_n 1, 1) := dk_27 (dk_at dksX4_prune_0 0 rfl rfl)
theorem dX4_prune_1 : decode cX4_prune 1 = .ok (.invokestatic 87, 3) := dk_184 0 87 (dk_at dksX4_prune_0 1 rfl rfl)
theorem dX4_prune_4 : decode cX4_prune 4 = .ok (.ifCond .eq 16, 3) := dk_153 0 16 (dk_at dksX4_prune_0 4 rfl rfl)
theorem dX4_prune_7 : decode cX4_prune 7 = .ok (.aload_n 0, 1) := dk_42 (dk_at dksX4_prune_0 7 rfl rfl)
theorem dX4_prune_8 : decode cX4_prune 8 = .ok (.iload_n 2, 1) := dk_28 (dk_at dksX4_prune_0 8 rfl rfl)
theorem dX4_prune_9 : decode cX4_prune 9 = .ok (.iload_n 3, 1) := dk_29 (dk_at dksX4_prune_0 9 rfl rfl)
theorem dX4_prune_10 : decode cX4_prune 10 = .ok (.invokevirtual 97, 3) := dk_182 0 97 (dk_at dksX4_prune_0 10 rfl rfl)
theorem dX4_prune_13 : decode cX4_prune 13 = .ok (.ifCond .eq 7, 3) := dk_153 0 7 (dk_at dksX4_prune_0 13 rfl rfl)
theorem dX4_prune_16 : decode cX4_prune 16 = .ok (.iconst 1, 1) := dk_4 (dk_at dksX4_prune_0 16 rfl rfl)
theorem dX4_prune_17 : decode cX4_prune 17 = .ok (.goto 4, 3) := dk_167 0 4 (dk_at dksX4_prune_0 17 rfl rfl)
theorem dX4_prune_20 : decode cX4_prune 20 = .ok (.iconst 0, 1) := dk_3 (dk_at dksX4_prune_0 20 rfl rfl)
theorem dX4_prune_21 : decode cX4_prune 21 = .ok (.istore 4, 2) := dk_54 4 (dk_at dksX4_prune_0 21 rfl rfl)
theorem dX4_prune_23 : decode cX4_prune 23 = .ok (.aload_n 0, 1) := dk_42 (dk_at dksX4_prune_0 23 rfl rfl)
theorem dX4_prune_24 : decode cX4_prune 24 = .ok (.iload 4, 2) := dk_21 4 (dk_at dksX4_prune_1 0 rfl rfl)
theorem dX4_prune_26 : decode cX4_prune 26 = .ok (.iload 4, 2) := dk_21 4 (dk_at dksX4_prune_1 2 rfl rfl)
theorem dX4_prune_28 : decode cX4_prune 28 = .ok (.ifCond .eq 16, 3) := dk_153 0 16 (dk_at dksX4_prune_1 4 rfl rfl)
theorem dX4_prune_31 : decode cX4_prune 31 = .ok (.aload_n 0, 1) := dk_42 (dk_at dksX4_prune_1 7 rfl rfl)
theorem dX4_prune_32 : decode cX4_prune 32 = .ok (.iload_n 1, 1) := dk_27 (dk_at dksX4_prune_1 8 rfl rfl)
theorem dX4_prune_33 : decode cX4_prune 33 = .ok (.iload_n 2, 1) := dk_28 (dk_at dksX4_prune_1 9 rfl rfl)
theorem dX4_prune_34 : decode cX4_prune 34 = .ok (.invokevirtual 94, 3) := dk_182 0 94 (dk_at dksX4_prune_1 10 rfl rfl)
theorem dX4_prune_37 : decode cX4_prune 37 = .ok (.ifCond .eq 7, 3) := dk_153 0 7 (dk_at dksX4_prune_1 13 rfl rfl)
theorem dX4_prune_40 : decode cX4_prune 40 = .ok (.iconst 1, 1) := dk_4 (dk_at dksX4_prune_1 16 rfl rfl)
theorem dX4_prune_41 : decode cX4_prune 41 = .ok (.goto 4, 3) := dk_167 0 4 (dk_at dksX4_prune_1 17 rfl rfl)
theorem dX4_prune_44 : decode cX4_prune 44 = .ok (.iconst 0, 1) := dk_3 (dk_at dksX4_prune_1 20 rfl rfl)
theorem dX4_prune_45 : decode cX4_prune 45 = .ok (.invokevirtual 77, 3) := dk_182 0 77 (dk_at dksX4_prune_1 21 rfl rfl)
theorem dX4_prune_48 : decode cX4_prune 48 = .ok (.ifCond .ne 5, 3) := dk_154 0 5 (dk_at dksX4_prune_2 0 rfl rfl)
theorem dX4_prune_51 : decode cX4_prune 51 = .ok (.iconst 0, 1) := dk_3 (dk_at dksX4_prune_2 3 rfl rfl)
theorem dX4_prune_52 : decode cX4_prune 52 = .ok (.ireturn, 1) := dk_172 (dk_at dksX4_prune_2 4 rfl rfl)
theorem dX4_prune_53 : decode cX4_prune 53 = .ok (.iconst 0, 1) := dk_3 (dk_at dksX4_prune_2 5 rfl rfl)
theorem dX4_prune_54 : decode cX4_prune 54 = .ok (.istore 5, 2) := dk_54 5 (dk_at dksX4_prune_2 6 rfl rfl)
theorem dX4_prune_56 : decode cX4_prune 56 = .ok (.iconst 0, 1) := dk_3 (dk_at dksX4_prune_2 8 rfl rfl)
theorem dX4_prune_57 : decode cX4_prune 57 = .ok (.istore 6, 2) := dk_54 6 (dk_at dksX4_prune_2 9 rfl rfl)
theorem dX4_prune_59 : decode cX4_prune 59 = .ok (.iload 6, 2) := dk_21 6 (dk_at dksX4_prune_2 11 rfl rfl)
theorem dX4_prune_61 : decode cX4_prune 61 = .ok (.aload_n 0, 1) := dk_42 (dk_at dksX4_prune_2 13 rfl rfl)
theorem dX4_prune_62 : decode cX4_prune 62 = .ok (.getfield 9, 3) := dk_180 0 9 (dk_at dksX4_prune_2 14 rfl rfl)
theorem dX4_prune_65 : decode cX4_prune 65 = .ok (.iconst 3, 1) := dk_6 (dk_at dksX4_prune_2 17 rfl rfl)
theorem dX4_prune_66 : decode cX4_prune 66 = .ok (.iaload, 1) := dk_46 (dk_at dksX4_prune_2 18 rfl rfl)
theorem dX4_prune_67 : decode cX4_prune 67 = .ok (.if_icmp .ge 46, 3) := dk_162 0 46 (dk_at dksX4_prune_2 19 rfl rfl)
theorem dX4_prune_70 : decode cX4_prune 70 = .ok (.aload_n 0, 1) := dk_42 (dk_at dksX4_prune_2 22 rfl rfl)
theorem dX4_prune_71 : decode cX4_prune 71 = .ok (.iload 6, 2) := dk_21 6 (dk_at dksX4_prune_3 0 rfl rfl)
theorem dX4_prune_73 : decode cX4_prune 73 = .ok (.iload_n 2, 1) := dk_28 (dk_at dksX4_prune_3 2 rfl rfl)
theorem dX4_prune_74 : decode cX4_prune 74 = .ok (.iload_n 3, 1) := dk_29 (dk_at dksX4_prune_3 3 rfl rfl)
theorem dX4_prune_75 : decode cX4_prune 75 = .ok (.invokevirtual 62, 3) := dk_182 0 62 (dk_at dksX4_prune_3 4 rfl rfl)
theorem dX4_prune_78 : decode cX4_prune 78 = .ok (.ifCond .eq 29, 3) := dk_153 0 29 (dk_at dksX4_prune_3 7 rfl rfl)
theorem dX4_prune_81 : decode cX4_prune 81 = .ok (.aload_n 0, 1) := dk_42 (dk_at dksX4_prune_3 10 rfl rfl)
theorem dX4_prune_82 : decode cX4_prune 82 = .ok (.iload 6, 2) := dk_21 6 (dk_at dksX4_prune_3 11 rfl rfl)
theorem dX4_prune_84 : decode cX4_prune 84 = .ok (.invokevirtual 119, 3) := dk_182 0 119 (dk_at dksX4_prune_3 13 rfl rfl)
theorem dX4_prune_87 : decode cX4_prune 87 = .ok (.ifCond .ne 20, 3) := dk_154 0 20 (dk_at dksX4_prune_3 16 rfl rfl)
theorem dX4_prune_90 : decode cX4_prune 90 = .ok (.aload_n 0, 1) := dk_42 (dk_at dksX4_prune_3 19 rfl rfl)
theorem dX4_prune_91 : decode cX4_prune 91 = .ok (.getfield 9, 3) := dk_180 0 9 (dk_at dksX4_prune_3 20 rfl rfl)
theorem dX4_prune_94 : decode cX4_prune 94 = .ok (.iload 6, 2) := dk_21 6 (dk_at dksX4_prune_4 0 rfl rfl)
theorem dX4_prune_96 : decode cX4_prune 96 = .ok (.invokestatic 52, 3) := dk_184 0 52 (dk_at dksX4_prune_4 2 rfl rfl)
theorem dX4_prune_99 : decode cX4_prune 99 = .ok (.bipush 8, 2) := dk_16 8 (dk_at dksX4_prune_4 5 rfl rfl)
theorem dX4_prune_101 : decode cX4_prune 101 = .ok (.iadd, 1) := dk_96 (dk_at dksX4_prune_4 7 rfl rfl)
theorem dX4_prune_102 : decode cX4_prune 102 = .ok (.iconst 0, 1) := dk_3 (dk_at dksX4_prune_4 8 rfl rfl)
theorem dX4_prune_103 : decode cX4_prune 103 = .ok (.iastore, 1) := dk_79 (dk_at dksX4_prune_4 9 rfl rfl)
theorem dX4_prune_104 : decode cX4_prune 104 = .ok (.iinc 5 1, 3) := dk_132 5 1 (dk_at dksX4_prune_4 10 rfl rfl)
theorem dX4_prune_107 : decode cX4_prune 107 = .ok (.iinc 6 1, 3) := dk_132 6 1 (dk_at dksX4_prune_4 13 rfl rfl)
theorem dX4_prune_110 : decode cX4_prune 110 = .ok (.goto (-51), 3) := dk_167 255 205 (dk_at dksX4_prune_4 16 rfl rfl)
theorem dX4_prune_113 : decode cX4_prune 113 = .ok (.aload_n 0, 1) := dk_42 (dk_at dksX4_prune_4 19 rfl rfl)
theorem dX4_prune_114 : decode cX4_prune 114 = .ok (.bipush 10, 2) := dk_16 10 (dk_at dksX4_prune_4 20 rfl rfl)
theorem dX4_prune_116 : decode cX4_prune 116 = .ok (.iload_n 1, 1) := dk_27 (dk_at dksX4_prune_4 22 rfl rfl)
theorem dX4_prune_117 : decode cX4_prune 117 = .ok (.iload_n 2, 1) := dk_28 (dk_at dksX4_prune_4 23 rfl rfl)
theorem dX4_prune_118 : decode cX4_prune 118 = .ok (.iload_n 3, 1) := dk_29 (dk_at dksX4_prune_5 0 rfl rfl)
theorem dX4_prune_119 : decode cX4_prune 119 = .ok (.iconst 0, 1) := dk_3 (dk_at dksX4_prune_5 1 rfl rfl)
theorem dX4_prune_120 : decode cX4_prune 120 = .ok (.iconst 0, 1) := dk_3 (dk_at dksX4_prune_5 2 rfl rfl)
theorem dX4_prune_121 : decode cX4_prune 121 = .ok (.invokevirtual 80, 3) := dk_182 0 80 (dk_at dksX4_prune_5 3 rfl rfl)
theorem dX4_prune_124 : decode cX4_prune 124 = .ok (.iload 5, 2) := dk_21 5 (dk_at dksX4_prune_5 6 rfl rfl)
theorem dX4_prune_126 : decode cX4_prune 126 = .ok (.ireturn, 1) := dk_172 (dk_at dksX4_prune_5 8 rfl rfl)
abbrev cX4_isNeeded : ByteArray := prog_38_method_41_code
def yX4_isNeeded : MethodName := ⟨RX4, "isNeeded", "(I)Z"⟩
def dkwX4_isNeeded_8 : List UInt8 := [132, 4, 1, 167, 255, 197, 29, 172]
abbrev dktX4_isNeeded_8 : List UInt8 := dkwX4_isNeeded_8 ++ []
def dkwX4_isNeeded_7 : List UInt8 := [96, 46, 154, 0, 20, 42, 180, 0, 9, 21, 5, 5, 96, 46, 27, 160, 0, 7, 4, 167, 0, 4, 3, 62]
abbrev dktX4_isNeeded_7 : List UInt8 := dkwX4_isNeeded_7 ++ dktX4_isNeeded_8
def dkwX4_isNeeded_6 : List UInt8 := [162, 0, 54, 17, 3, 33, 6, 21, 4, 104, 96, 54, 5, 29, 154, 0, 28, 42, 180, 0, 9, 21, 5, 4]
abbrev dktX4_isNeeded_6 : List UInt8 := dkwX4_isNeeded_6 ++ dktX4_isNeeded_7
def dkwX4_isNeeded_5 : List UInt8 := [167, 0, 4, 3, 62, 132, 4, 1, 167, 255, 181, 3, 54, 4, 21, 4, 42, 180, 0, 9, 7, 46]
abbrev dktX4_isNeeded_5 : List UInt8 := dkwX4_isNeeded_5 ++ dktX4_isNeeded_6
def dkwX4_isNeeded_4 : List UInt8 := [21, 5, 4, 96, 46, 158, 0, 20, 42, 180, 0, 9, 21, 5, 6, 96, 46, 27, 160, 0, 7, 4]
abbrev dktX4_isNeeded_4 : List UInt8 := dkwX4_isNeeded_4 ++ dktX4_isNeeded_5
def dkwX4_isNeeded_3 : List UInt8 := [54, 5, 29, 154, 0, 41, 42, 180, 0, 9, 21, 5, 3, 96, 46, 27, 159, 0, 28, 42, 180, 0, 9]
abbrev dktX4_isNeeded_3 : List UInt8 := dkwX4_isNeeded_3 ++ dktX4_isNeeded_4
def dkwX4_isNeeded_2 : List UInt8 := [54, 4, 21, 4, 42, 180, 0, 9, 28, 184, 0, 40, 4, 96, 46, 162, 0, 65, 28, 21, 4, 184, 0, 69]
abbrev dktX4_isNeeded_2 : List UInt8 := dkwX4_isNeeded_2 ++ dktX4_isNeeded_3
def dkwX4_isNeeded_1 : List UInt8 := [180, 0, 9, 27, 184, 0, 52, 4, 96, 46, 182, 0, 106, 27, 160, 0, 7, 4, 167, 0, 4, 3, 62, 3]
abbrev dktX4_isNeeded_1 : List UInt8 := dkwX4_isNeeded_1 ++ dktX4_isNeeded_2
def dkwX4_isNeeded_0 : List UInt8 := [42, 180, 0, 9, 27, 184, 0, 52, 3, 96, 46, 61, 42, 27, 182, 0, 59, 154, 0, 23, 42, 28, 42]
abbrev dktX4_isNeeded_0 : List UInt8 := dkwX4_isNeeded_0 ++ dktX4_isNeeded_1
theorem dksX4_isNeeded_0 : cX4_isNeeded.data.toList.drop 0 = dktX4_isNeeded_0 := by decide +kernel
theorem dksX4_isNeeded_1 : cX4_isNeeded.data.toList.drop 23 = dktX4_isNeeded_1 := dk_seg dksX4_isNeeded_0 23 rfl rfl
theorem dksX4_isNeeded_2 : cX4_isNeeded.data.toList.drop 47 = dktX4_isNeeded_2 := dk_seg dksX4_isNeeded_1 24 rfl rfl
theorem dksX4_isNeeded_3 : cX4_isNeeded.data.toList.drop 71 = dktX4_isNeeded_3 := dk_seg dksX4_isNeeded_2 24 rfl rfl
theorem dksX4_isNeeded_4 : cX4_isNeeded.data.toList.drop 94 = dktX4_isNeeded_4 := dk_seg dksX4_isNeeded_3 23 rfl rfl
theorem dksX4_isNeeded_5 : cX4_isNeeded.data.toList.drop 116 = dktX4_isNeeded_5 := dk_seg dksX4_isNeeded_4 22 rfl rfl
theorem dksX4_isNeeded_6 : cX4_isNeeded.data.toList.drop 138 = dktX4_isNeeded_6 := dk_seg dksX4_isNeeded_5 22 rfl rfl
theorem dksX4_isNeeded_7 : cX4_isNeeded.data.toList.drop 162 = dktX4_isNeeded_7 := dk_seg dksX4_isNeeded_6 24 rfl rfl
theorem dksX4_isNeeded_8 : cX4_isNeeded.data.toList.drop 186 = dktX4_isNeeded_8 := dk_seg dksX4_isNeeded_7 24 rfl rfl
theorem dX4_isNeeded_0 : decode cX4_isNeeded 0 = .ok (.aload_n 0, 1) := dk_42 (dk_at dksX4_isNeeded_0 0 rfl rfl)
theorem dX4_isNeeded_1 : decode cX4_isNeeded 1 = .ok (.getfield 9, 3) := dk_180 0 9 (dk_at dksX4_isNeeded_0 1 rfl rfl)
theorem dX4_isNeeded_4 : decode cX4_isNeeded 4 = .ok (.iload_n 1, 1) := dk_27 (dk_at dksX4_isNeeded_0 4 rfl rfl)
theorem dX4_isNeeded_5 : decode cX4_isNeeded 5 = .ok (.invokestatic 52, 3) := dk_184 0 52 (dk_at dksX4_isNeeded_0 5 rfl rfl)
theorem dX4_isNeeded_8 : decode cX4_isNeeded 8 = .ok (.iconst 0, 1) := dk_3 (dk_at dksX4_isNeeded_0 8 rfl rfl)
theorem dX4_isNeeded_9 : decode cX4_isNeeded 9 = .ok (.iadd, 1) := dk_96 (dk_at dksX4_isNeeded_0 9 rfl rfl)
theorem dX4_isNeeded_10 : decode cX4_isNeeded 10 = .ok (.iaload, 1) := dk_46 (dk_at dksX4_isNeeded_0 10 rfl rfl)
theorem dX4_isNeeded_11 : decode cX4_isNeeded 11 = .ok (.istore_n 2, 1) := dk_61 (dk_at dksX4_isNeeded_0 11 rfl rfl)
theorem dX4_isNeeded_12 : decode cX4_isNeeded 12 = .ok (.aload_n 0, 1) := dk_42 (dk_at dksX4_isNeeded_0 12 rfl rfl)
theorem dX4_isNeeded_13 : decode cX4_isNeeded 13 = .ok (.iload_n 1, 1) := dk_27 (dk_at dksX4_isNeeded_0 13 rfl rfl)
theorem dX4_isNeeded_14 : decode cX4_isNeeded 14 = .ok (.invokevirtual 59, 3) := dk_182 0 59 (dk_at dksX4_isNeeded_0 14 rfl rfl)
theorem dX4_isNeeded_17 : decode cX4_isNeeded 17 = .ok (.ifCond .ne 23, 3) := dk_154 0 23 (dk_at dksX4_isNeeded_0 17 rfl rfl)
theorem dX4_isNeeded_20 : decode cX4_isNeeded 20 = .ok (.aload_n 0, 1) := dk_42 (dk_at dksX4_isNeeded_0 20 rfl rfl)
theorem dX4_isNeeded_21 : decode cX4_isNeeded 21 = .ok (.iload_n 2, 1) := dk_28 (dk_at dksX4_isNeeded_0 21 rfl rfl)
theorem dX4_isNeeded_22 : decode cX4_isNeeded 22 = .ok (.aload_n 0, 1) := dk_42 (dk_at dksX4_isNeeded_0 22 rfl rfl)
theorem dX4_isNeeded_23 : decode cX4_isNeeded 23 = .ok (.getfield 9, 3) := dk_180 0 9 (dk_at dksX4_isNeeded_1 0 rfl rfl)
theorem dX4_isNeeded_26 : decode cX4_isNeeded 26 = .ok (.iload_n 1, 1) := dk_27 (dk_at dksX4_isNeeded_1 3 rfl rfl)
theorem dX4_isNeeded_27 : decode cX4_isNeeded 27 = .ok (.invokestatic 52, 3) := dk_184 0 52 (dk_at dksX4_isNeeded_1 4 rfl rfl)
theorem dX4_isNeeded_30 : decode cX4_isNeeded 30 = .ok (.iconst 1, 1) := dk_4 (dk_at dksX4_isNeeded_1 7 rfl rfl)
theorem dX4_isNeeded_31 : decode cX4_isNeeded 31 = .ok (.iadd, 1) := dk_96 (dk_at dksX4_isNeeded_1 8 rfl rfl)
theorem dX4_isNeeded_32 : decode cX4_isNeeded 32 = .ok (.iaload, 1) := dk_46 (dk_at dksX4_isNeeded_1 9 rfl rfl)
theorem dX4_isNeeded_33 : decode cX4_isNeeded 33 = .ok (.invokevirtual 106, 3) := dk_182 0 106 (dk_at dksX4_isNeeded_1 10 rfl rfl)
theorem dX4_isNeeded_36 : decode cX4_isNeeded 36 = .ok (.iload_n 1, 1) := dk_27 (dk_at dksX4_isNeeded_1 13 rfl rfl)
theorem dX4_isNeeded_37 : decode cX4_isNeeded 37 = .ok (.if_icmp .ne 7, 3) := dk_160 0 7 (dk_at dksX4_isNeeded_1 14 rfl rfl)
theorem dX4_isNeeded_40 : decode cX4_isNeeded 40 = .ok (.iconst 1, 1) := dk_4 (dk_at dksX4_isNeeded_1 17 rfl rfl)
theorem dX4_isNeeded_41 : decode cX4_isNeeded 41 = .ok (.goto 4, 3) := dk_167 0 4 (dk_at dksX4_isNeeded_1 18 rfl rfl)
theorem dX4_isNeeded_44 : decode cX4_isNeeded 44 = .ok (.iconst 0, 1) := dk_3 (dk_at dksX4_isNeeded_1 21 rfl rfl)
theorem dX4_isNeeded_45 : decode cX4_isNeeded 45 = .ok (.istore_n 3, 1) := dk_62 (dk_at dksX4_isNeeded_1 22 rfl rfl)
theorem dX4_isNeeded_46 : decode cX4_isNeeded 46 = .ok (.iconst 0, 1) := dk_3 (dk_at dksX4_isNeeded_1 23 rfl rfl)
theorem dX4_isNeeded_47 : decode cX4_isNeeded 47 = .ok (.istore 4, 2) := dk_54 4 (dk_at dksX4_isNeeded_2 0 rfl rfl)
theorem dX4_isNeeded_49 : decode cX4_isNeeded 49 = .ok (.iload 4, 2) := dk_21 4 (dk_at dksX4_isNeeded_2 2 rfl rfl)
theorem dX4_isNeeded_51 : decode cX4_isNeeded 51 = .ok (.aload_n 0, 1) := dk_42 (dk_at dksX4_isNeeded_2 4 rfl rfl)
theorem dX4_isNeeded_52 : decode cX4_isNeeded 52 = .ok (.getfield 9, 3) := dk_180 0 9 (dk_at dksX4_isNeeded_2 5 rfl rfl)
theorem dX4_isNeeded_55 : decode cX4_isNeeded 55 = .ok (.iload_n 2, 1) := dk_28 (dk_at dksX4_isNeeded_2 8 rfl rfl)
theorem dX4_isNeeded_56 : decode cX4_isNeeded 56 = .ok (.invokestatic 40, 3) := dk_184 0 40 (dk_at dksX4_isNeeded_2 9 rfl rfl)
theorem dX4_isNeeded_59 : decode cX4_isNeeded 59 = .ok (.iconst 1, 1) := dk_4 (dk_at dksX4_isNeeded_2 12 rfl rfl)
theorem dX4_isNeeded_60 : decode cX4_isNeeded 60 = .ok (.iadd, 1) := dk_96 (dk_at dksX4_isNeeded_2 13 rfl rfl)
theorem dX4_isNeeded_61 : decode cX4_isNeeded 61 = .ok (.iaload, 1) := dk_46 (dk_at dksX4_isNeeded_2 14 rfl rfl)
theorem dX4_isNeeded_62 : decode cX4_isNeeded 62 = .ok (.if_icmp .ge 65, 3) := dk_162 0 65 (dk_at dksX4_isNeeded_2 15 rfl rfl)
theorem dX4_isNeeded_65 : decode cX4_isNeeded 65 = .ok (.iload_n 2, 1) := dk_28 (dk_at dksX4_isNeeded_2 18 rfl rfl)
theorem dX4_isNeeded_66 : decode cX4_isNeeded 66 = .ok (.iload 4, 2) := dk_21 4 (dk_at dksX4_isNeeded_2 19 rfl rfl)
theorem dX4_isNeeded_68 : decode cX4_isNeeded 68 = .ok (.invokestatic 69, 3) := dk_184 0 69 (dk_at dksX4_isNeeded_2 21 rfl rfl)
theorem dX4_isNeeded_71 : decode cX4_isNeeded 71 = .ok (.istore 5, 2) := dk_54 5 (dk_at dksX4_isNeeded_3 0 rfl rfl)
theorem dX4_isNeeded_73 : decode cX4_isNeeded 73 = .ok (.iload_n 3, 1) := dk_29 (dk_at dksX4_isNeeded_3 2 rfl rfl)
theorem dX4_isNeeded_74 : decode cX4_isNeeded 74 = .ok (.ifCond .ne 41, 3) := dk_154 0 41 (dk_at dksX4_isNeeded_3 3 rfl rfl)
theorem dX4_isNeeded_77 : decode cX4_isNeeded 77 = .ok (.aload_n 0, 1) := dk_42 (dk_at dksX4_isNeeded_3 6 rfl rfl)
theorem dX4_isNeeded_78 : decode cX4_isNeeded 78 = .ok (.getfield 9, 3) := dk_180 0 9 (dk_at dksX4_isNeeded_3 7 rfl rfl)
theorem dX4_isNeeded_81 : decode cX4_isNeeded 81 = .ok (.iload 5, 2) := dk_21 5 (dk_at dksX4_isNeeded_3 10 rfl rfl)
theorem dX4_isNeeded_83 : decode cX4_isNeeded 83 = .ok (.iconst 0, 1) := dk_3 (dk_at dksX4_isNeeded_3 12 rfl rfl)
theorem dX4_isNeeded_84 : decode cX4_isNeeded 84 = .ok (.iadd, 1) := dk_96 (dk_at dksX4_isNeeded_3 13 rfl rfl)
theorem dX4_isNeeded_85 : decode cX4_isNeeded 85 = .ok (.iaload, 1) := dk_46 (dk_at dksX4_isNeeded_3 14 rfl rfl)
theorem dX4_isNeeded_86 : decode cX4_isNeeded 86 = .ok (.iload_n 1, 1) := dk_27 (dk_at dksX4_isNeeded_3 15 rfl rfl)
theorem dX4_isNeeded_87 : decode cX4_isNeeded 87 = .ok (.if_icmp .eq 28, 3) := dk_159 0 28 (dk_at dksX4_isNeeded_3 16 rfl rfl)
theorem dX4_isNeeded_90 : decode cX4_isNeeded 90 = .ok (.aload_n 0, 1) := dk_42 (dk_at dksX4_isNeeded_3 19 rfl rfl)
theorem dX4_isNeeded_91 : decode cX4_isNeeded 91 = .ok (.getfield 9, 3) := dk_180 0 9 (dk_at dksX4_isNeeded_3 20 rfl rfl)
theorem dX4_isNeeded_94 : decode cX4_isNeeded 94 = .ok (.iload 5, 2) := dk_21 5 (dk_at dksX4_isNeeded_4 0 rfl rfl)
theorem dX4_isNeeded_96 : decode cX4_isNeeded 96 = .ok (.iconst 1, 1) := dk_4 (dk_at dksX4_isNeeded_4 2 rfl rfl)
theorem dX4_isNeeded_97 : decode cX4_isNeeded 97 = .ok (.iadd, 1) := dk_96 (dk_at dksX4_isNeeded_4 3 rfl rfl)
theorem dX4_isNeeded_98 : decode cX4_isNeeded 98 = .ok (.iaload, 1) := dk_46 (dk_at dksX4_isNeeded_4 4 rfl rfl)
theorem dX4_isNeeded_99 : decode cX4_isNeeded 99 = .ok (.ifCond .le 20, 3) := dk_158 0 20 (dk_at dksX4_isNeeded_4 5 rfl rfl)
theorem dX4_isNeeded_102 : decode cX4_isNeeded 102 = .ok (.aload_n 0, 1) := dk_42 (dk_at dksX4_isNeeded_4 8 rfl rfl)
theorem dX4_isNeeded_103 : decode cX4_isNeeded 103 = .ok (.getfield 9, 3) := dk_180 0 9 (dk_at dksX4_isNeeded_4 9 rfl rfl)
theorem dX4_isNeeded_106 : decode cX4_isNeeded 106 = .ok (.iload 5, 2) := dk_21 5 (dk_at dksX4_isNeeded_4 12 rfl rfl)
theorem dX4_isNeeded_108 : decode cX4_isNeeded 108 = .ok (.iconst 3, 1) := dk_6 (dk_at dksX4_isNeeded_4 14 rfl rfl)
theorem dX4_isNeeded_109 : decode cX4_isNeeded 109 = .ok (.iadd, 1) := dk_96 (dk_at dksX4_isNeeded_4 15 rfl rfl)
theorem dX4_isNeeded_110 : decode cX4_isNeeded 110 = .ok (.iaload, 1) := dk_46 (dk_at dksX4_isNeeded_4 16 rfl rfl)
theorem dX4_isNeeded_111 : decode cX4_isNeeded 111 = .ok (.iload_n 1, 1) := dk_27 (dk_at dksX4_isNeeded_4 17 rfl rfl)
theorem dX4_isNeeded_112 : decode cX4_isNeeded 112 = .ok (.if_icmp .ne 7, 3) := dk_160 0 7 (dk_at dksX4_isNeeded_4 18 rfl rfl)
theorem dX4_isNeeded_115 : decode cX4_isNeeded 115 = .ok (.iconst 1, 1) := dk_4 (dk_at dksX4_isNeeded_4 21 rfl rfl)
theorem dX4_isNeeded_116 : decode cX4_isNeeded 116 = .ok (.goto 4, 3) := dk_167 0 4 (dk_at dksX4_isNeeded_5 0 rfl rfl)
theorem dX4_isNeeded_119 : decode cX4_isNeeded 119 = .ok (.iconst 0, 1) := dk_3 (dk_at dksX4_isNeeded_5 3 rfl rfl)
theorem dX4_isNeeded_120 : decode cX4_isNeeded 120 = .ok (.istore_n 3, 1) := dk_62 (dk_at dksX4_isNeeded_5 4 rfl rfl)
theorem dX4_isNeeded_121 : decode cX4_isNeeded 121 = .ok (.iinc 4 1, 3) := dk_132 4 1 (dk_at dksX4_isNeeded_5 5 rfl rfl)
theorem dX4_isNeeded_124 : decode cX4_isNeeded 124 = .ok (.goto (-75), 3) := dk_167 255 181 (dk_at dksX4_isNeeded_5 8 rfl rfl)
theorem dX4_isNeeded_127 : decode cX4_isNeeded 127 = .ok (.iconst 0, 1) := dk_3 (dk_at dksX4_isNeeded_5 11 rfl rfl)
theorem dX4_isNeeded_128 : decode cX4_isNeeded 128 = .ok (.istore 4, 2) := dk_54 4 (dk_at dksX4_isNeeded_5 12 rfl rfl)
theorem dX4_isNeeded_130 : decode cX4_isNeeded 130 = .ok (.iload 4, 2) := dk_21 4 (dk_at dksX4_isNeeded_5 14 rfl rfl)
theorem dX4_isNeeded_132 : decode cX4_isNeeded 132 = .ok (.aload_n 0, 1) := dk_42 (dk_at dksX4_isNeeded_5 16 rfl rfl)
theorem dX4_isNeeded_133 : decode cX4_isNeeded 133 = .ok (.getfield 9, 3) := dk_180 0 9 (dk_at dksX4_isNeeded_5 17 rfl rfl)
theorem dX4_isNeeded_136 : decode cX4_isNeeded 136 = .ok (.iconst 4, 1) := dk_7 (dk_at dksX4_isNeeded_5 20 rfl rfl)
theorem dX4_isNeeded_137 : decode cX4_isNeeded 137 = .ok (.iaload, 1) := dk_46 (dk_at dksX4_isNeeded_5 21 rfl rfl)
theorem dX4_isNeeded_138 : decode cX4_isNeeded 138 = .ok (.if_icmp .ge 54, 3) := dk_162 0 54 (dk_at dksX4_isNeeded_6 0 rfl rfl)
theorem dX4_isNeeded_141 : decode cX4_isNeeded 141 = .ok (.sipush 801, 3) := dk_17 3 33 (dk_at dksX4_isNeeded_6 3 rfl rfl)
theorem dX4_isNeeded_144 : decode cX4_isNeeded 144 = .ok (.iconst 3, 1) := dk_6 (dk_at dksX4_isNeeded_6 6 rfl rfl)
theorem dX4_isNeeded_145 : decode cX4_isNeeded 145 = .ok (.iload 4, 2) := dk_21 4 (dk_at dksX4_isNeeded_6 7 rfl rfl)
theorem dX4_isNeeded_147 : decode cX4_isNeeded 147 = .ok (.imul, 1) := dk_104 (dk_at dksX4_isNeeded_6 9 rfl rfl)
theorem dX4_isNeeded_148 : decode cX4_isNeeded 148 = .ok (.iadd, 1) := dk_96 (dk_at dksX4_isNeeded_6 10 rfl rfl)
theorem dX4_isNeeded_149 : decode cX4_isNeeded 149 = .ok (.istore 5, 2) := dk_54 5 (dk_at dksX4_isNeeded_6 11 rfl rfl)
theorem dX4_isNeeded_151 : decode cX4_isNeeded 151 = .ok (.iload_n 3, 1) := dk_29 (dk_at dksX4_isNeeded_6 13 rfl rfl)
theorem dX4_isNeeded_152 : decode cX4_isNeeded 152 = .ok (.ifCond .ne 28, 3) := dk_154 0 28 (dk_at dksX4_isNeeded_6 14 rfl rfl)
theorem dX4_isNeeded_155 : decode cX4_isNeeded 155 = .ok (.aload_n 0, 1) := dk_42 (dk_at dksX4_isNeeded_6 17 rfl rfl)
theorem dX4_isNeeded_156 : decode cX4_isNeeded 156 = .ok (.getfield 9, 3) := dk_180 0 9 (dk_at dksX4_isNeeded_6 18 rfl rfl)
theorem dX4_isNeeded_159 : decode cX4_isNeeded 159 = .ok (.iload 5, 2) := dk_21 5 (dk_at dksX4_isNeeded_6 21 rfl rfl)
theorem dX4_isNeeded_161 : decode cX4_isNeeded 161 = .ok (.iconst 1, 1) := dk_4 (dk_at dksX4_isNeeded_6 23 rfl rfl)
theorem dX4_isNeeded_162 : decode cX4_isNeeded 162 = .ok (.iadd, 1) := dk_96 (dk_at dksX4_isNeeded_7 0 rfl rfl)
theorem dX4_isNeeded_163 : decode cX4_isNeeded 163 = .ok (.iaload, 1) := dk_46 (dk_at dksX4_isNeeded_7 1 rfl rfl)
theorem dX4_isNeeded_164 : decode cX4_isNeeded 164 = .ok (.ifCond .ne 20, 3) := dk_154 0 20 (dk_at dksX4_isNeeded_7 2 rfl rfl)
theorem dX4_isNeeded_167 : decode cX4_isNeeded 167 = .ok (.aload_n 0, 1) := dk_42 (dk_at dksX4_isNeeded_7 5 rfl rfl)
theorem dX4_isNeeded_168 : decode cX4_isNeeded 168 = .ok (.getfield 9, 3) := dk_180 0 9 (dk_at dksX4_isNeeded_7 6 rfl rfl)
theorem dX4_isNeeded_171 : decode cX4_isNeeded 171 = .ok (.iload 5, 2) := dk_21 5 (dk_at dksX4_isNeeded_7 9 rfl rfl)
theorem dX4_isNeeded_173 : decode cX4_isNeeded 173 = .ok (.iconst 2, 1) := dk_5 (dk_at dksX4_isNeeded_7 11 rfl rfl)
theorem dX4_isNeeded_174 : decode cX4_isNeeded 174 = .ok (.iadd, 1) := dk_96 (dk_at dksX4_isNeeded_7 12 rfl rfl)
theorem dX4_isNeeded_175 : decode cX4_isNeeded 175 = .ok (.iaload, 1) := dk_46 (dk_at dksX4_isNeeded_7 13 rfl rfl)
theorem dX4_isNeeded_176 : decode cX4_isNeeded 176 = .ok (.iload_n 1, 1) := dk_27 (dk_at dksX4_isNeeded_7 14 rfl rfl)
theorem dX4_isNeeded_177 : decode cX4_isNeeded 177 = .ok (.if_icmp .ne 7, 3) := dk_160 0 7 (dk_at dksX4_isNeeded_7 15 rfl rfl)
theorem dX4_isNeeded_180 : decode cX4_isNeeded 180 = .ok (.iconst 1, 1) := dk_4 (dk_at dksX4_isNeeded_7 18 rfl rfl)
theorem dX4_isNeeded_181 : decode cX4_isNeeded 181 = .ok (.goto 4, 3) := dk_167 0 4 (dk_at dksX4_isNeeded_7 19 rfl rfl)
theorem dX4_isNeeded_184 : decode cX4_isNeeded 184 = .ok (.iconst 0, 1) := dk_3 (dk_at dksX4_isNeeded_7 22 rfl rfl)
theorem dX4_isNeeded_185 : decode cX4_isNeeded 185 = .ok (.istore_n 3, 1) := dk_62 (dk_at dksX4_isNeeded_7 23 rfl rfl)
theorem dX4_isNeeded_186 : decode cX4_isNeeded 186 = .ok (.iinc 4 1, 3) := dk_132 4 1 (dk_at dksX4_isNeeded_8 0 rfl rfl)
theorem dX4_isNeeded_189 : decode cX4_isNeeded 189 = .ok (.goto (-59), 3) := dk_167 255 197 (dk_at dksX4_isNeeded_8 3 rfl rfl)
theorem dX4_isNeeded_192 : decode cX4_isNeeded 192 = .ok (.iload_n 3, 1) := dk_29 (dk_at dksX4_isNeeded_8 6 rfl rfl)
theorem dX4_isNeeded_193 : decode cX4_isNeeded 193 = .ok (.ireturn, 1) := dk_172 (dk_at dksX4_isNeeded_8 7 rfl rfl)
abbrev cX4_branchOff : ByteArray := prog_38_method_43_code
def yX4_branchOff : MethodName := ⟨RX4, "branchOff", "(II)I"⟩
def dkwX4_branchOff_7 : List UInt8 := [184, 0, 52, 7, 96, 182, 0, 90, 54, 7, 42, 16, 11, 27, 28, 3, 3, 3, 182, 0, 80, 21, 6, 172]
abbrev dktX4_branchOff_7 : List UInt8 := dkwX4_branchOff_7 ++ []
def dkwX4_branchOff_6 : List UInt8 := [42, 180, 0, 9, 21, 4, 21, 6, 184, 0, 69, 3, 96, 28, 79, 42, 21, 4, 21, 6, 3, 4, 28]
abbrev dktX4_branchOff_6 : List UInt8 := dkwX4_branchOff_6 ++ dktX4_branchOff_7
def dkwX4_branchOff_5 : List UInt8 := [184, 0, 40, 4, 96, 46, 54, 6, 42, 180, 0, 9, 21, 4, 184, 0, 40, 4, 96, 92, 46, 4, 96, 79]
abbrev dktX4_branchOff_5 : List UInt8 := dkwX4_branchOff_5 ++ dktX4_branchOff_6
def dkwX4_branchOff_4 : List UInt8 := [153, 0, 7, 4, 167, 0, 4, 3, 182, 0, 77, 154, 0, 5, 3, 172, 42, 180, 0, 9, 21, 4]
abbrev dktX4_branchOff_4 : List UInt8 := dkwX4_branchOff_4 ++ dktX4_branchOff_5
def dkwX4_branchOff_3 : List UInt8 := [162, 0, 7, 4, 167, 0, 4, 3, 54, 5, 42, 29, 21, 5, 153, 0, 17, 42, 27, 21, 4, 182, 0, 100]
abbrev dktX4_branchOff_3 : List UInt8 := dkwX4_branchOff_3 ++ dktX4_branchOff_4
def dkwX4_branchOff_2 : List UInt8 := [42, 180, 0, 9, 21, 4, 184, 0, 40, 4, 96, 46, 6, 162, 0, 18, 42, 180, 0, 9, 6, 46, 16, 60]
abbrev dktX4_branchOff_2 : List UInt8 := dkwX4_branchOff_2 ++ dktX4_branchOff_3
def dkwX4_branchOff_1 : List UInt8 := [153, 0, 17, 42, 180, 0, 9, 28, 184, 0, 52, 3, 96, 46, 167, 0, 4, 3, 54, 4, 29, 153, 0, 34]
abbrev dktX4_branchOff_1 : List UInt8 := dkwX4_branchOff_1 ++ dktX4_branchOff_2
def dkwX4_branchOff_0 : List UInt8 := [27, 184, 0, 87, 153, 0, 15, 42, 28, 182, 0, 122, 153, 0, 7, 4, 167, 0, 4, 3, 62, 29]
abbrev dktX4_branchOff_0 : List UInt8 := dkwX4_branchOff_0 ++ dktX4_branchOff_1
theorem dksX4_branchOff_0 : cX4_branchOff.data.toList.drop 0 = dktX4_branchOff_0 := by decide +kernel
theorem dksX4_branchOff_1 : cX4_branchOff.data.toList.drop 22 = dktX4_branchOff_1 := dk_seg dksX4_branchOff_0 22 rfl rfl
theorem dksX4_branchOff_2 : cX4_branchOff.data.toList.drop 46 = dktX4_branchOff_2 := dk_seg dksX4_branchOff_1 24 rfl rfl
theorem dksX4_branchOff_3 : cX4_branchOff.data.toList.drop 70 = dktX4_branchOff_3 := dk_seg dksX4_branchOff_2 24 rfl rfl
theorem dksX4_branchOff_4 : cX4_branchOff.data.toList.drop 94 = dktX4_branchOff_4 := dk_seg dksX4_branchOff_3 24 rfl rfl
theorem dksX4_branchOff_5 : cX4_branchOff.data.toList.drop 116 = dktX4_branchOff_5 := dk_seg dksX4_branchOff_4 22 rfl rfl
theorem dksX4_branchOff_6 : cX4_branchOff.data.toList.drop 140 = dktX4_branchOff_6 := dk_seg dksX4_branchOff_5 24 rfl rfl
theorem dksX4_branchOff_7 : cX4_branchOff.data.toList.drop 163 = dktX4_branchOff_7 := dk_seg dksX4_branchOff_6 23 rfl rfl
theorem dX4_branchOff_0 : decode cX4_branchOff 0 = .ok (.iload_n 1, 1) := dk_27 (dk_at dksX4_branchOff_0 0 rfl rfl)
theorem dX4_branchOff_1 : decode cX4_branchOff 1 = .ok (.invokestatic 87, 3) := dk_184 0 87 (dk_at dksX4_branchOff_0 1 rfl rfl)
theorem dX4_branchOff_4 : decode cX4_branchOff 4 = .ok (.ifCond .eq 15, 3) := dk_153 0 15 (dk_at dksX4_branchOff_0 4 rfl rfl)
theorem dX4_branchOff_7 : decode cX4_branchOff 7 = .ok (.aload_n 0, 1) := dk_42 (dk_at dksX4_branchOff_0 7 rfl rfl)
theorem dX4_branchOff_8 : decode cX4_branchOff 8 = .ok (.iload_n 2, 1) := dk_28 (dk_at dksX4_branchOff_0 8 rfl rfl)
theorem dX4_branchOff_9 : decode cX4_branchOff 9 = .ok (.invokevirtual 122, 3) := dk_182 0 122 (dk_at dksX4_branchOff_0 9 rfl rfl)
theorem dX4_branchOff_12 : decode cX4_branchOff 12 = .ok (.ifCond .eq 7, 3) := dk_153 0 7 (dk_at dksX4_branchOff_0 12 rfl rfl)
theorem dX4_branchOff_15 : decode cX4_branchOff 15 = .ok (.iconst 1, 1) := dk_4 (dk_at dksX4_branchOff_0 15 rfl rfl)
theorem dX4_branchOff_16 : decode cX4_branchOff 16 = .ok (.goto 4, 3) := dk_167 0 4 (dk_at dksX4_branchOff_0 16 rfl rfl)
theorem dX4_branchOff_19 : decode cX4_branchOff 19 = .ok (.iconst 0, 1) := dk_3 (dk_at dksX4_branchOff_0 19 rfl rfl)
theorem dX4_branchOff_20 : decode cX4_branchOff 20 = .ok (.istore_n 3, 1) := dk_62 (dk_at dksX4_branchOff_0 20 rfl rfl)
theorem dX4_branchOff_21 : decode cX4_branchOff 21 = .ok (.iload_n 3, 1) := dk_29 (dk_at dksX4_branchOff_0 21 rfl rfl)
theorem dX4_branchOff_22 : decode cX4_branchOff 22 = .ok (.ifCond .eq 17, 3) := dk_153 0 17 (dk_at dksX4_branchOff_1 0 rfl rfl)
theorem dX4_branchOff_25 : decode cX4_branchOff 25 = .ok (.aload_n 0, 1) := dk_42 (dk_at dksX4_branchOff_1 3 rfl rfl)
theorem dX4_branchOff_26 : decode cX4_branchOff 26 = .ok (.getfield 9, 3) := dk_180 0 9 (dk_at dksX4_branchOff_1 4 rfl rfl)
theorem dX4_branchOff_29 : decode cX4_branchOff 29 = .ok (.iload_n 2, 1) := dk_28 (dk_at dksX4_branchOff_1 7 rfl rfl)
theorem dX4_branchOff_30 : decode cX4_branchOff 30 = .ok (.invokestatic 52, 3) := dk_184 0 52 (dk_at dksX4_branchOff_1 8 rfl rfl)
theorem dX4_branchOff_33 : decode cX4_branchOff 33 = .ok (.iconst 0, 1) := dk_3 (dk_at dksX4_branchOff_1 11 rfl rfl)
theorem dX4_branchOff_34 : decode cX4_branchOff 34 = .ok (.iadd, 1) := dk_96 (dk_at dksX4_branchOff_1 12 rfl rfl)
theorem dX4_branchOff_35 : decode cX4_branchOff 35 = .ok (.iaload, 1) := dk_46 (dk_at dksX4_branchOff_1 13 rfl rfl)
theorem dX4_branchOff_36 : decode cX4_branchOff 36 = .ok (.goto 4, 3) := dk_167 0 4 (dk_at dksX4_branchOff_1 14 rfl rfl)
theorem dX4_branchOff_39 : decode cX4_branchOff 39 = .ok (.iconst 0, 1) := dk_3 (dk_at dksX4_branchOff_1 17 rfl rfl)
theorem dX4_branchOff_40 : decode cX4_branchOff 40 = .ok (.istore 4, 2) := dk_54 4 (dk_at dksX4_branchOff_1 18 rfl rfl)
theorem dX4_branchOff_42 : decode cX4_branchOff 42 = .ok (.iload_n 3, 1) := dk_29 (dk_at dksX4_branchOff_1 20 rfl rfl)
theorem dX4_branchOff_43 : decode cX4_branchOff 43 = .ok (.ifCond .eq 34, 3) := dk_153 0 34 (dk_at dksX4_branchOff_1 21 rfl rfl)
theorem dX4_branchOff_46 : decode cX4_branchOff 46 = .ok (.aload_n 0, 1) := dk_42 (dk_at dksX4_branchOff_2 0 rfl rfl)
theorem dX4_branchOff_47 : decode cX4_branchOff 47 = .ok (.getfield 9, 3) := dk_180 0 9 (dk_at dksX4_branchOff_2 1 rfl rfl)
theorem dX4_branchOff_50 : decode cX4_branchOff 50 = .ok (.iload 4, 2) := dk_21 4 (dk_at dksX4_branchOff_2 4 rfl rfl)
theorem dX4_branchOff_52 : decode cX4_branchOff 52 = .ok (.invokestatic 40, 3) := dk_184 0 40 (dk_at dksX4_branchOff_2 6 rfl rfl)
theorem dX4_branchOff_55 : decode cX4_branchOff 55 = .ok (.iconst 1, 1) := dk_4 (dk_at dksX4_branchOff_2 9 rfl rfl)
theorem dX4_branchOff_56 : decode cX4_branchOff 56 = .ok (.iadd, 1) := dk_96 (dk_at dksX4_branchOff_2 10 rfl rfl)
theorem dX4_branchOff_57 : decode cX4_branchOff 57 = .ok (.iaload, 1) := dk_46 (dk_at dksX4_branchOff_2 11 rfl rfl)
theorem dX4_branchOff_58 : decode cX4_branchOff 58 = .ok (.iconst 3, 1) := dk_6 (dk_at dksX4_branchOff_2 12 rfl rfl)
theorem dX4_branchOff_59 : decode cX4_branchOff 59 = .ok (.if_icmp .ge 18, 3) := dk_162 0 18 (dk_at dksX4_branchOff_2 13 rfl rfl)
theorem dX4_branchOff_62 : decode cX4_branchOff 62 = .ok (.aload_n 0, 1) := dk_42 (dk_at dksX4_branchOff_2 16 rfl rfl)
theorem dX4_branchOff_63 : decode cX4_branchOff 63 = .ok (.getfield 9, 3) := dk_180 0 9 (dk_at dksX4_branchOff_2 17 rfl rfl)
theorem dX4_branchOff_66 : decode cX4_branchOff 66 = .ok (.iconst 3, 1) := dk_6 (dk_at dksX4_branchOff_2 20 rfl rfl)
theorem dX4_branchOff_67 : decode cX4_branchOff 67 = .ok (.iaload, 1) := dk_46 (dk_at dksX4_branchOff_2 21 rfl rfl)
theorem dX4_branchOff_68 : decode cX4_branchOff 68 = .ok (.bipush 60, 2) := dk_16 60 (dk_at dksX4_branchOff_2 22 rfl rfl)
theorem dX4_branchOff_70 : decode cX4_branchOff 70 = .ok (.if_icmp .ge 7, 3) := dk_162 0 7 (dk_at dksX4_branchOff_3 0 rfl rfl)
theorem dX4_branchOff_73 : decode cX4_branchOff 73 = .ok (.iconst 1, 1) := dk_4 (dk_at dksX4_branchOff_3 3 rfl rfl)
theorem dX4_branchOff_74 : decode cX4_branchOff 74 = .ok (.goto 4, 3) := dk_167 0 4 (dk_at dksX4_branchOff_3 4 rfl rfl)
theorem dX4_branchOff_77 : decode cX4_branchOff 77 = .ok (.iconst 0, 1) := dk_3 (dk_at dksX4_branchOff_3 7 rfl rfl)
theorem dX4_branchOff_78 : decode cX4_branchOff 78 = .ok (.istore 5, 2) := dk_54 5 (dk_at dksX4_branchOff_3 8 rfl rfl)
theorem dX4_branchOff_80 : decode cX4_branchOff 80 = .ok (.aload_n 0, 1) := dk_42 (dk_at dksX4_branchOff_3 10 rfl rfl)
theorem dX4_branchOff_81 : decode cX4_branchOff 81 = .ok (.iload_n 3, 1) := dk_29 (dk_at dksX4_branchOff_3 11 rfl rfl)
theorem dX4_branchOff_82 : decode cX4_branchOff 82 = .ok (.iload 5, 2) := dk_21 5 (dk_at dksX4_branchOff_3 12 rfl rfl)
theorem dX4_branchOff_84 : decode cX4_branchOff 84 = .ok (.ifCond .eq 17, 3) := dk_153 0 17 (dk_at dksX4_branchOff_3 14 rfl rfl)
theorem dX4_branchOff_87 : decode cX4_branchOff 87 = .ok (.aload_n 0, 1) := dk_42 (dk_at dksX4_branchOff_3 17 rfl rfl)
theorem dX4_branchOff_88 : decode cX4_branchOff 88 = .ok (.iload_n 1, 1) := dk_27 (dk_at dksX4_branchOff_3 18 rfl rfl)
theorem dX4_branchOff_89 : decode cX4_branchOff 89 = .ok (.iload 4, 2) := dk_21 4 (dk_at dksX4_branchOff_3 19 rfl rfl)
theorem dX4_branchOff_91 : decode cX4_branchOff 91 = .ok (.invokevirtual 100, 3) := dk_182 0 100 (dk_at dksX4_branchOff_3 21 rfl rfl)
theorem dX4_branchOff_94 : decode cX4_branchOff 94 = .ok (.ifCond .eq 7, 3) := dk_153 0 7 (dk_at dksX4_branchOff_4 0 rfl rfl)
theorem dX4_branchOff_97 : decode cX4_branchOff 97 = .ok (.iconst 1, 1) := dk_4 (dk_at dksX4_branchOff_4 3 rfl rfl)
theorem dX4_branchOff_98 : decode cX4_branchOff 98 = .ok (.goto 4, 3) := dk_167 0 4 (dk_at dksX4_branchOff_4 4 rfl rfl)
theorem dX4_branchOff_101 : decode cX4_branchOff 101 = .ok (.iconst 0, 1) := dk_3 (dk_at dksX4_branchOff_4 7 rfl rfl)
theorem dX4_branchOff_102 : decode cX4_branchOff 102 = .ok (.invokevirtual 77, 3) := dk_182 0 77 (dk_at dksX4_branchOff_4 8 rfl rfl)
theorem dX4_branchOff_105 : decode cX4_branchOff 105 = .ok (.ifCond .ne 5, 3) := dk_154 0 5 (dk_at dksX4_branchOff_4 11 rfl rfl)
theorem dX4_branchOff_108 : decode cX4_branchOff 108 = .ok (.iconst 0, 1) := dk_3 (dk_at dksX4_branchOff_4 14 rfl rfl)
theorem dX4_branchOff_109 : decode cX4_branchOff 109 = .ok (.ireturn, 1) := dk_172 (dk_at dksX4_branchOff_4 15 rfl rfl)
theorem dX4_branchOff_110 : decode cX4_branchOff 110 = .ok (.aload_n 0, 1) := dk_42 (dk_at dksX4_branchOff_4 16 rfl rfl)
theorem dX4_branchOff_111 : decode cX4_branchOff 111 = .ok (.getfield 9, 3) := dk_180 0 9 (dk_at dksX4_branchOff_4 17 rfl rfl)
theorem dX4_branchOff_114 : decode cX4_branchOff 114 = .ok (.iload 4, 2) := dk_21 4 (dk_at dksX4_branchOff_4 20 rfl rfl)
theorem dX4_branchOff_116 : decode cX4_branchOff 116 = .ok (.invokestatic 40, 3) := dk_184 0 40 (dk_at dksX4_branchOff_5 0 rfl rfl)
theorem dX4_branchOff_119 : decode cX4_branchOff 119 = .ok (.iconst 1, 1) := dk_4 (dk_at dksX4_branchOff_5 3 rfl rfl)
theorem dX4_branchOff_120 : decode cX4_branchOff 120 = .ok (.iadd, 1) := dk_96 (dk_at dksX4_branchOff_5 4 rfl rfl)
theorem dX4_branchOff_121 : decode cX4_branchOff 121 = .ok (.iaload, 1) := dk_46 (dk_at dksX4_branchOff_5 5 rfl rfl)
theorem dX4_branchOff_122 : decode cX4_branchOff 122 = .ok (.istore 6, 2) := dk_54 6 (dk_at dksX4_branchOff_5 6 rfl rfl)
theorem dX4_branchOff_124 : decode cX4_branchOff 124 = .ok (.aload_n 0, 1) := dk_42 (dk_at dksX4_branchOff_5 8 rfl rfl)
theorem dX4_branchOff_125 : decode cX4_branchOff 125 = .ok (.getfield 9, 3) := dk_180 0 9 (dk_at dksX4_branchOff_5 9 rfl rfl)
theorem dX4_branchOff_128 : decode cX4_branchOff 128 = .ok (.iload 4, 2) := dk_21 4 (dk_at dksX4_branchOff_5 12 rfl rfl)
theorem dX4_branchOff_130 : decode cX4_branchOff 130 = .ok (.invokestatic 40, 3) := dk_184 0 40 (dk_at dksX4_branchOff_5 14 rfl rfl)
theorem dX4_branchOff_133 : decode cX4_branchOff 133 = .ok (.iconst 1, 1) := dk_4 (dk_at dksX4_branchOff_5 17 rfl rfl)
theorem dX4_branchOff_134 : decode cX4_branchOff 134 = .ok (.iadd, 1) := dk_96 (dk_at dksX4_branchOff_5 18 rfl rfl)
theorem dX4_branchOff_135 : decode cX4_branchOff 135 = .ok (.dup2, 1) := dk_92 (dk_at dksX4_branchOff_5 19 rfl rfl)
theorem dX4_branchOff_136 : decode cX4_branchOff 136 = .ok (.iaload, 1) := dk_46 (dk_at dksX4_branchOff_5 20 rfl rfl)
theorem dX4_branchOff_137 : decode cX4_branchOff 137 = .ok (.iconst 1, 1) := dk_4 (dk_at dksX4_branchOff_5 21 rfl rfl)
theorem dX4_branchOff_138 : decode cX4_branchOff 138 = .ok (.iadd, 1) := dk_96 (dk_at dksX4_branchOff_5 22 rfl rfl)
theorem dX4_branchOff_139 : decode cX4_branchOff 139 = .ok (.iastore, 1) := dk_79 (dk_at dksX4_branchOff_5 23 rfl rfl)
theorem dX4_branchOff_140 : decode cX4_branchOff 140 = .ok (.aload_n 0, 1) := dk_42 (dk_at dksX4_branchOff_6 0 rfl rfl)
theorem dX4_branchOff_141 : decode cX4_branchOff 141 = .ok (.getfield 9, 3) := dk_180 0 9 (dk_at dksX4_branchOff_6 1 rfl rfl)
theorem dX4_branchOff_144 : decode cX4_branchOff 144 = .ok (.iload 4, 2) := dk_21 4 (dk_at dksX4_branchOff_6 4 rfl rfl)
theorem dX4_branchOff_146 : decode cX4_branchOff 146 = .ok (.iload 6, 2) := dk_21 6 (dk_at dksX4_branchOff_6 6 rfl rfl)
theorem dX4_branchOff_148 : decode cX4_branchOff 148 = .ok (.invokestatic 69, 3) := dk_184 0 69 (dk_at dksX4_branchOff_6 8 rfl rfl)
theorem dX4_branchOff_151 : decode cX4_branchOff 151 = .ok (.iconst 0, 1) := dk_3 (dk_at dksX4_branchOff_6 11 rfl rfl)
theorem dX4_branchOff_152 : decode cX4_branchOff 152 = .ok (.iadd, 1) := dk_96 (dk_at dksX4_branchOff_6 12 rfl rfl)
theorem dX4_branchOff_153 : decode cX4_branchOff 153 = .ok (.iload_n 2, 1) := dk_28 (dk_at dksX4_branchOff_6 13 rfl rfl)
theorem dX4_branchOff_154 : decode cX4_branchOff 154 = .ok (.iastore, 1) := dk_79 (dk_at dksX4_branchOff_6 14 rfl rfl)
theorem dX4_branchOff_155 : decode cX4_branchOff 155 = .ok (.aload_n 0, 1) := dk_42 (dk_at dksX4_branchOff_6 15 rfl rfl)
theorem dX4_branchOff_156 : decode cX4_branchOff 156 = .ok (.iload 4, 2) := dk_21 4 (dk_at dksX4_branchOff_6 16 rfl rfl)
theorem dX4_branchOff_158 : decode cX4_branchOff 158 = .ok (.iload 6, 2) := dk_21 6 (dk_at dksX4_branchOff_6 18 rfl rfl)
theorem dX4_branchOff_160 : decode cX4_branchOff 160 = .ok (.iconst 0, 1) := dk_3 (dk_at dksX4_branchOff_6 20 rfl rfl)
theorem dX4_branchOff_161 : decode cX4_branchOff 161 = .ok (.iconst 1, 1) := dk_4 (dk_at dksX4_branchOff_6 21 rfl rfl)
theorem dX4_branchOff_162 : decode cX4_branchOff 162 = .ok (.iload_n 2, 1) := dk_28 (dk_at dksX4_branchOff_6 22 rfl rfl)
theorem dX4_branchOff_163 : decode cX4_branchOff 163 = .ok (.invokestatic 52, 3) := dk_184 0 52 (dk_at dksX4_branchOff_7 0 rfl rfl)
theorem dX4_branchOff_166 : decode cX4_branchOff 166 = .ok (.iconst 4, 1) := dk_7 (dk_at dksX4_branchOff_7 3 rfl rfl)
theorem dX4_branchOff_167 : decode cX4_branchOff 167 = .ok (.iadd, 1) := dk_96 (dk_at dksX4_branchOff_7 4 rfl rfl)
theorem dX4_branchOff_168 : decode cX4_branchOff 168 = .ok (.invokevirtual 90, 3) := dk_182 0 90 (dk_at dksX4_branchOff_7 5 rfl rfl)
theorem dX4_branchOff_171 : decode cX4_branchOff 171 = .ok (.istore 7, 2) := dk_54 7 (dk_at dksX4_branchOff_7 8 rfl rfl)
theorem dX4_branchOff_173 : decode cX4_branchOff 173 = .ok (.aload_n 0, 1) := dk_42 (dk_at dksX4_branchOff_7 10 rfl rfl)
theorem dX4_branchOff_174 : decode cX4_branchOff 174 = .ok (.bipush 11, 2) := dk_16 11 (dk_at dksX4_branchOff_7 11 rfl rfl)
theorem dX4_branchOff_176 : decode cX4_branchOff 176 = .ok (.iload_n 1, 1) := dk_27 (dk_at dksX4_branchOff_7 13 rfl rfl)
theorem dX4_branchOff_177 : decode cX4_branchOff 177 = .ok (.iload_n 2, 1) := dk_28 (dk_at dksX4_branchOff_7 14 rfl rfl)
theorem dX4_branchOff_178 : decode cX4_branchOff 178 = .ok (.iconst 0, 1) := dk_3 (dk_at dksX4_branchOff_7 15 rfl rfl)
theorem dX4_branchOff_179 : decode cX4_branchOff 179 = .ok (.iconst 0, 1) := dk_3 (dk_at dksX4_branchOff_7 16 rfl rfl)
theorem dX4_branchOff_180 : decode cX4_branchOff 180 = .ok (.iconst 0, 1) := dk_3 (dk_at dksX4_branchOff_7 17 rfl rfl)
theorem dX4_branchOff_181 : decode cX4_branchOff 181 = .ok (.invokevirtual 80, 3) := dk_182 0 80 (dk_at dksX4_branchOff_7 18 rfl rfl)
theorem dX4_branchOff_184 : decode cX4_branchOff 184 = .ok (.iload 6, 2) := dk_21 6 (dk_at dksX4_branchOff_7 21 rfl rfl)
theorem dX4_branchOff_186 : decode cX4_branchOff 186 = .ok (.ireturn, 1) := dk_172 (dk_at dksX4_branchOff_7 23 rfl rfl)
abbrev cX4_isVersion : ByteArray := prog_38_method_16_code
def yX4_isVersion : MethodName := ⟨RX4, "isVersion", "(I)Z"⟩
def dkwX4_isVersion_1 : List UInt8 := [16, 8, 96, 46, 4, 160, 0, 7, 4, 167, 0, 4, 3, 172]
abbrev dktX4_isVersion_1 : List UInt8 := dkwX4_isVersion_1 ++ []
def dkwX4_isVersion_0 : List UInt8 := [27, 3, 42, 180, 0, 9, 6, 46, 4, 100, 184, 0, 44, 153, 0, 23, 42, 180, 0, 9, 27, 184, 0, 52]
abbrev dktX4_isVersion_0 : List UInt8 := dkwX4_isVersion_0 ++ dktX4_isVersion_1
theorem dksX4_isVersion_0 : cX4_isVersion.data.toList.drop 0 = dktX4_isVersion_0 := by decide +kernel
theorem dksX4_isVersion_1 : cX4_isVersion.data.toList.drop 24 = dktX4_isVersion_1 := dk_seg dksX4_isVersion_0 24 rfl rfl
theorem dX4_isVersion_0 : decode cX4_isVersion 0 = .ok (.iload_n 1, 1) := dk_27 (dk_at dksX4_isVersion_0 0 rfl rfl)
theorem dX4_isVersion_1 : decode cX4_isVersion 1 = .ok (.iconst 0, 1) := dk_3 (dk_at dksX4_isVersion_0 1 rfl rfl)
theorem dX4_isVersion_2 : decode cX4_isVersion 2 = .ok (.aload_n 0, 1) := dk_42 (dk_at dksX4_isVersion_0 2 rfl rfl)
theorem dX4_isVersion_3 : decode cX4_isVersion 3 = .ok (.getfield 9, 3) := dk_180 0 9 (dk_at dksX4_isVersion_0 3 rfl rfl)
theorem dX4_isVersion_6 : decode cX4_isVersion 6 = .ok (.iconst 3, 1) := dk_6 (dk_at dksX4_isVersion_0 6 rfl rfl)
theorem dX4_isVersion_7 : decode cX4_isVersion 7 = .ok (.iaload, 1) := dk_46 (dk_at dksX4_isVersion_0 7 rfl rfl)
theorem dX4_isVersion_8 : decode cX4_isVersion 8 = .ok (.iconst 1, 1) := dk_4 (dk_at dksX4_isVersion_0 8 rfl rfl)
theorem dX4_isVersion_9 : decode cX4_isVersion 9 = .ok (.isub, 1) := dk_100 (dk_at dksX4_isVersion_0 9 rfl rfl)
theorem dX4_isVersion_10 : decode cX4_isVersion 10 = .ok (.invokestatic 44, 3) := dk_184 0 44 (dk_at dksX4_isVersion_0 10 rfl rfl)
theorem dX4_isVersion_13 : decode cX4_isVersion 13 = .ok (.ifCond .eq 23, 3) := dk_153 0 23 (dk_at dksX4_isVersion_0 13 rfl rfl)
theorem dX4_isVersion_16 : decode cX4_isVersion 16 = .ok (.aload_n 0, 1) := dk_42 (dk_at dksX4_isVersion_0 16 rfl rfl)
theorem dX4_isVersion_17 : decode cX4_isVersion 17 = .ok (.getfield 9, 3) := dk_180 0 9 (dk_at dksX4_isVersion_0 17 rfl rfl)
theorem dX4_isVersion_20 : decode cX4_isVersion 20 = .ok (.iload_n 1, 1) := dk_27 (dk_at dksX4_isVersion_0 20 rfl rfl)
theorem dX4_isVersion_21 : decode cX4_isVersion 21 = .ok (.invokestatic 52, 3) := dk_184 0 52 (dk_at dksX4_isVersion_0 21 rfl rfl)
theorem dX4_isVersion_24 : decode cX4_isVersion 24 = .ok (.bipush 8, 2) := dk_16 8 (dk_at dksX4_isVersion_1 0 rfl rfl)
theorem dX4_isVersion_26 : decode cX4_isVersion 26 = .ok (.iadd, 1) := dk_96 (dk_at dksX4_isVersion_1 2 rfl rfl)
theorem dX4_isVersion_27 : decode cX4_isVersion 27 = .ok (.iaload, 1) := dk_46 (dk_at dksX4_isVersion_1 3 rfl rfl)
theorem dX4_isVersion_28 : decode cX4_isVersion 28 = .ok (.iconst 1, 1) := dk_4 (dk_at dksX4_isVersion_1 4 rfl rfl)
theorem dX4_isVersion_29 : decode cX4_isVersion 29 = .ok (.if_icmp .ne 7, 3) := dk_160 0 7 (dk_at dksX4_isVersion_1 5 rfl rfl)
theorem dX4_isVersion_32 : decode cX4_isVersion 32 = .ok (.iconst 1, 1) := dk_4 (dk_at dksX4_isVersion_1 8 rfl rfl)
theorem dX4_isVersion_33 : decode cX4_isVersion 33 = .ok (.goto 4, 3) := dk_167 0 4 (dk_at dksX4_isVersion_1 9 rfl rfl)
theorem dX4_isVersion_36 : decode cX4_isVersion 36 = .ok (.iconst 0, 1) := dk_3 (dk_at dksX4_isVersion_1 12 rfl rfl)
theorem dX4_isVersion_37 : decode cX4_isVersion 37 = .ok (.ireturn, 1) := dk_172 (dk_at dksX4_isVersion_1 13 rfl rfl)
abbrev cX4_merge : ByteArray := prog_38_method_44_code
def yX4_merge : MethodName := ⟨RX4, "merge", "(III)I"⟩
def dkwX4_merge_13 : List UInt8 := [29, 184, 0, 69, 3, 96, 21, 6, 79, 42, 16, 12, 27, 28, 29, 3, 3, 182, 0, 80, 21, 10, 172]
abbrev dktX4_merge_13 : List UInt8 := dkwX4_merge_13 ++ []
def dkwX4_merge_12 : List UInt8 := [21, 13, 159, 0, 7, 4, 167, 0, 4, 3, 96, 54, 10, 132, 11, 1, 167, 255, 129, 42, 180, 0, 9, 28]
abbrev dktX4_merge_12 : List UInt8 := dkwX4_merge_12 ++ dktX4_merge_13
def dkwX4_merge_11 : List UInt8 := [167, 0, 5, 21, 13, 79, 21, 10, 21, 14, 21, 12, 159, 0, 21, 21, 13, 21, 12, 159, 0, 14, 21, 14]
abbrev dktX4_merge_11 : List UInt8 := dkwX4_merge_11 ++ dktX4_merge_12
def dkwX4_merge_10 : List UInt8 := [184, 0, 52, 7, 96, 21, 11, 96, 21, 14, 21, 12, 159, 0, 15, 21, 13, 21, 12, 160, 0, 8, 21, 14]
abbrev dktX4_merge_10 : List UInt8 := dkwX4_merge_10 ++ dktX4_merge_11
def dkwX4_merge_9 : List UInt8 := [42, 180, 0, 9, 21, 6, 184, 0, 52, 7, 96, 21, 11, 96, 46, 54, 14, 42, 180, 0, 9, 21, 9]
abbrev dktX4_merge_9 : List UInt8 := dkwX4_merge_9 ++ dktX4_merge_10
def dkwX4_merge_8 : List UInt8 := [96, 21, 11, 96, 46, 54, 12, 42, 180, 0, 9, 21, 7, 184, 0, 52, 7, 96, 21, 11, 96, 46, 54, 13]
abbrev dktX4_merge_8 : List UInt8 := dkwX4_merge_8 ++ dktX4_merge_9
def dkwX4_merge_7 : List UInt8 := [54, 9, 3, 54, 10, 3, 54, 11, 21, 11, 6, 162, 0, 127, 42, 180, 0, 9, 21, 8, 184, 0, 52, 7]
abbrev dktX4_merge_7 : List UInt8 := dkwX4_merge_7 ++ dktX4_merge_8
def dkwX4_merge_6 : List UInt8 := [180, 0, 9, 21, 7, 184, 0, 52, 6, 96, 46, 4, 96, 21, 7, 184, 0, 52, 7, 96, 182, 0, 90]
abbrev dktX4_merge_6 : List UInt8 := dkwX4_merge_6 ++ dktX4_merge_7
def dkwX4_merge_5 : List UInt8 := [184, 0, 69, 3, 96, 46, 54, 8, 42, 28, 3, 42, 180, 0, 9, 21, 7, 184, 0, 52, 5, 96, 46, 42]
abbrev dktX4_merge_5 : List UInt8 := dkwX4_merge_5 ++ dktX4_merge_6
def dkwX4_merge_4 : List UInt8 := [172, 42, 28, 29, 182, 0, 106, 54, 6, 42, 28, 3, 182, 0, 106, 54, 7, 42, 180, 0, 9, 28, 29]
abbrev dktX4_merge_4 : List UInt8 := dkwX4_merge_4 ++ dktX4_merge_5
def dkwX4_merge_3 : List UInt8 := [153, 0, 16, 42, 27, 28, 182, 0, 100, 153, 0, 7, 4, 167, 0, 4, 3, 182, 0, 29, 154, 0, 5, 3]
abbrev dktX4_merge_3 : List UInt8 := dkwX4_merge_3 ++ dktX4_merge_4
def dkwX4_merge_2 : List UInt8 := [162, 0, 7, 4, 167, 0, 4, 3, 54, 5, 42, 21, 4, 29, 153, 0, 7, 4, 167, 0, 4, 3, 21, 5]
abbrev dktX4_merge_2 : List UInt8 := dkwX4_merge_2 ++ dktX4_merge_3
def dkwX4_merge_1 : List UInt8 := [21, 4, 153, 0, 28, 42, 28, 3, 182, 0, 109, 2, 160, 0, 18, 42, 180, 0, 9, 6, 46, 16, 60]
abbrev dktX4_merge_1 : List UInt8 := dkwX4_merge_1 ++ dktX4_merge_2
def dkwX4_merge_0 : List UInt8 := [27, 184, 0, 87, 153, 0, 16, 42, 28, 29, 182, 0, 97, 153, 0, 7, 4, 167, 0, 4, 3, 54, 4]
abbrev dktX4_merge_0 : List UInt8 := dkwX4_merge_0 ++ dktX4_merge_1
theorem dksX4_merge_0 : cX4_merge.data.toList.drop 0 = dktX4_merge_0 := by decide +kernel
theorem dksX4_merge_1 : cX4_merge.data.toList.drop 23 = dktX4_merge_1 := dk_seg dksX4_merge_0 23 rfl rfl
theorem dksX4_merge_2 : cX4_merge.data.toList.drop 46 = dktX4_merge_2 := dk_seg dksX4_merge_1 23 rfl rfl
theorem dksX4_merge_3 : cX4_merge.data.toList.drop 70 = dktX4_merge_3 := dk_seg dksX4_merge_2 24 rfl rfl
theorem dksX4_merge_4 : cX4_merge.data.toList.drop 94 = dktX4_merge_4 := dk_seg dksX4_merge_3 24 rfl rfl
theorem dksX4_merge_5 : cX4_merge.data.toList.drop 117 = dktX4_merge_5 := dk_seg dksX4_merge_4 23 rfl rfl
theorem dksX4_merge_6 : cX4_merge.data.toList.drop 141 = dktX4_merge_6 := dk_seg dksX4_merge_5 24 rfl rfl
theorem dksX4_merge_7 : cX4_merge.data.toList.drop 164 = dktX4_merge_7 := dk_seg dksX4_merge_6 23 rfl rfl
theorem dksX4_merge_8 : cX4_merge.data.toList.drop 188 = dktX4_merge_8 := dk_seg dksX4_merge_7 24 rfl rfl
theorem dksX4_merge_9 : cX4_merge.data.toList.drop 212 = dktX4_merge_9 := dk_seg dksX4_merge_8 24 rfl rfl
theorem dksX4_merge_10 : cX4_merge.data.toList.drop 235 = dktX4_merge_10 := dk_seg dksX4_merge_9 23 rfl rfl
theorem dksX4_merge_11 : cX4_merge.data.toList.drop 259 = dktX4_merge_11 := dk_seg dksX4_merge_10 24 rfl rfl
theorem dksX4_merge_12 : cX4_merge.data.toList.drop 283 = dktX4_merge_12 := dk_seg dksX4_merge_11 24 rfl rfl
theorem dksX4_merge_13 : cX4_merge.data.toList.drop 307 = dktX4_merge_13 := dk_seg dksX4_merge_12 24 rfl rfl
theorem dX4_merge_0 : decode cX4_merge 0 = .ok (.iload_n 1, 1) := dk_27 (dk_at dksX4_merge_0 0 rfl rfl)
theorem dX4_merge_1 : decode cX4_merge 1 = .ok (.invokestatic 87, 3) := dk_184 0 87 (dk_at dksX4_merge_0 1 rfl rfl)
theorem dX4_merge_4 : decode cX4_merge 4 = .ok (.ifCond .eq 16, 3) := dk_153 0 16 (dk_at dksX4_merge_0 4 rfl rfl)
theorem dX4_merge_7 : decode cX4_merge 7 = .ok (.aload_n 0, 1) := dk_42 (dk_at dksX4_merge_0 7 rfl rfl)
theorem dX4_merge_8 : decode cX4_merge 8 = .ok (.iload_n 2, 1) := dk_28 (dk_at dksX4_merge_0 8 rfl rfl)
theorem dX4_merge_9 : decode cX4_merge 9 = .ok (.iload_n 3, 1) := dk_29 (dk_at dksX4_merge_0 9 rfl rfl)
theorem dX4_merge_10 : decode cX4_merge 10 = .ok (.invokevirtual 97, 3) := dk_182 0 97 (dk_at dksX4_merge_0 10 rfl rfl)
theorem dX4_merge_13 : decode cX4_merge 13 = .ok (.ifCond .eq 7, 3) := dk_153 0 7 (dk_at dksX4_merge_0 13 rfl rfl)
theorem dX4_merge_16 : decode cX4_merge 16 = .ok (.iconst 1, 1) := dk_4 (dk_at dksX4_merge_0 16 rfl rfl)
theorem dX4_merge_17 : decode cX4_merge 17 = .ok (.goto 4, 3) := dk_167 0 4 (dk_at dksX4_merge_0 17 rfl rfl)
theorem dX4_merge_20 : decode cX4_merge 20 = .ok (.iconst 0, 1) := dk_3 (dk_at dksX4_merge_0 20 rfl rfl)
theorem dX4_merge_21 : decode cX4_merge 21 = .ok (.istore 4, 2) := dk_54 4 (dk_at dksX4_merge_0 21 rfl rfl)
theorem dX4_merge_23 : decode cX4_merge 23 = .ok (.iload 4, 2) := dk_21 4 (dk_at dksX4_merge_1 0 rfl rfl)
theorem dX4_merge_25 : decode cX4_merge 25 = .ok (.ifCond .eq 28, 3) := dk_153 0 28 (dk_at dksX4_merge_1 2 rfl rfl)
theorem dX4_merge_28 : decode cX4_merge 28 = .ok (.aload_n 0, 1) := dk_42 (dk_at dksX4_merge_1 5 rfl rfl)
theorem dX4_merge_29 : decode cX4_merge 29 = .ok (.iload_n 2, 1) := dk_28 (dk_at dksX4_merge_1 6 rfl rfl)
theorem dX4_merge_30 : decode cX4_merge 30 = .ok (.iconst 0, 1) := dk_3 (dk_at dksX4_merge_1 7 rfl rfl)
theorem dX4_merge_31 : decode cX4_merge 31 = .ok (.invokevirtual 109, 3) := dk_182 0 109 (dk_at dksX4_merge_1 8 rfl rfl)
theorem dX4_merge_34 : decode cX4_merge 34 = .ok (.iconst (-1), 1) := dk_2 (dk_at dksX4_merge_1 11 rfl rfl)
theorem dX4_merge_35 : decode cX4_merge 35 = .ok (.if_icmp .ne 18, 3) := dk_160 0 18 (dk_at dksX4_merge_1 12 rfl rfl)
theorem dX4_merge_38 : decode cX4_merge 38 = .ok (.aload_n 0, 1) := dk_42 (dk_at dksX4_merge_1 15 rfl rfl)
theorem dX4_merge_39 : decode cX4_merge 39 = .ok (.getfield 9, 3) := dk_180 0 9 (dk_at dksX4_merge_1 16 rfl rfl)
theorem dX4_merge_42 : decode cX4_merge 42 = .ok (.iconst 3, 1) := dk_6 (dk_at dksX4_merge_1 19 rfl rfl)
theorem dX4_merge_43 : decode cX4_merge 43 = .ok (.iaload, 1) := dk_46 (dk_at dksX4_merge_1 20 rfl rfl)
theorem dX4_merge_44 : decode cX4_merge 44 = .ok (.bipush 60, 2) := dk_16 60 (dk_at dksX4_merge_1 21 rfl rfl)
theorem dX4_merge_46 : decode cX4_merge 46 = .ok (.if_icmp .ge 7, 3) := dk_162 0 7 (dk_at dksX4_merge_2 0 rfl rfl)
theorem dX4_merge_49 : decode cX4_merge 49 = .ok (.iconst 1, 1) := dk_4 (dk_at dksX4_merge_2 3 rfl rfl)
theorem dX4_merge_50 : decode cX4_merge 50 = .ok (.goto 4, 3) := dk_167 0 4 (dk_at dksX4_merge_2 4 rfl rfl)
theorem dX4_merge_53 : decode cX4_merge 53 = .ok (.iconst 0, 1) := dk_3 (dk_at dksX4_merge_2 7 rfl rfl)
theorem dX4_merge_54 : decode cX4_merge 54 = .ok (.istore 5, 2) := dk_54 5 (dk_at dksX4_merge_2 8 rfl rfl)
theorem dX4_merge_56 : decode cX4_merge 56 = .ok (.aload_n 0, 1) := dk_42 (dk_at dksX4_merge_2 10 rfl rfl)
theorem dX4_merge_57 : decode cX4_merge 57 = .ok (.iload 4, 2) := dk_21 4 (dk_at dksX4_merge_2 11 rfl rfl)
theorem dX4_merge_59 : decode cX4_merge 59 = .ok (.iload_n 3, 1) := dk_29 (dk_at dksX4_merge_2 13 rfl rfl)
theorem dX4_merge_60 : decode cX4_merge 60 = .ok (.ifCond .eq 7, 3) := dk_153 0 7 (dk_at dksX4_merge_2 14 rfl rfl)
theorem dX4_merge_63 : decode cX4_merge 63 = .ok (.iconst 1, 1) := dk_4 (dk_at dksX4_merge_2 17 rfl rfl)
theorem dX4_merge_64 : decode cX4_merge 64 = .ok (.goto 4, 3) := dk_167 0 4 (dk_at dksX4_merge_2 18 rfl rfl)
theorem dX4_merge_67 : decode cX4_merge 67 = .ok (.iconst 0, 1) := dk_3 (dk_at dksX4_merge_2 21 rfl rfl)
theorem dX4_merge_68 : decode cX4_merge 68 = .ok (.iload 5, 2) := dk_21 5 (dk_at dksX4_merge_2 22 rfl rfl)
theorem dX4_merge_70 : decode cX4_merge 70 = .ok (.ifCond .eq 16, 3) := dk_153 0 16 (dk_at dksX4_merge_3 0 rfl rfl)
theorem dX4_merge_73 : decode cX4_merge 73 = .ok (.aload_n 0, 1) := dk_42 (dk_at dksX4_merge_3 3 rfl rfl)
theorem dX4_merge_74 : decode cX4_merge 74 = .ok (.iload_n 1, 1) := dk_27 (dk_at dksX4_merge_3 4 rfl rfl)
theorem dX4_merge_75 : decode cX4_merge 75 = .ok (.iload_n 2, 1) := dk_28 (dk_at dksX4_merge_3 5 rfl rfl)
theorem dX4_merge_76 : decode cX4_merge 76 = .ok (.invokevirtual 100, 3) := dk_182 0 100 (dk_at dksX4_merge_3 6 rfl rfl)
theorem dX4_merge_79 : decode cX4_merge 79 = .ok (.ifCond .eq 7, 3) := dk_153 0 7 (dk_at dksX4_merge_3 9 rfl rfl)
theorem dX4_merge_82 : decode cX4_merge 82 = .ok (.iconst 1, 1) := dk_4 (dk_at dksX4_merge_3 12 rfl rfl)
theorem dX4_merge_83 : decode cX4_merge 83 = .ok (.goto 4, 3) := dk_167 0 4 (dk_at dksX4_merge_3 13 rfl rfl)
theorem dX4_merge_86 : decode cX4_merge 86 = .ok (.iconst 0, 1) := dk_3 (dk_at dksX4_merge_3 16 rfl rfl)
theorem dX4_merge_87 : decode cX4_merge 87 = .ok (.invokevirtual 29, 3) := dk_182 0 29 (dk_at dksX4_merge_3 17 rfl rfl)
theorem dX4_merge_90 : decode cX4_merge 90 = .ok (.ifCond .ne 5, 3) := dk_154 0 5 (dk_at dksX4_merge_3 20 rfl rfl)
theorem dX4_merge_93 : decode cX4_merge 93 = .ok (.iconst 0, 1) := dk_3 (dk_at dksX4_merge_3 23 rfl rfl)
theorem dX4_merge_94 : decode cX4_merge 94 = .ok (.ireturn, 1) := dk_172 (dk_at dksX4_merge_4 0 rfl rfl)
theorem dX4_merge_95 : decode cX4_merge 95 = .ok (.aload_n 0, 1) := dk_42 (dk_at dksX4_merge_4 1 rfl rfl)
theorem dX4_merge_96 : decode cX4_merge 96 = .ok (.iload_n 2, 1) := dk_28 (dk_at dksX4_merge_4 2 rfl rfl)
theorem dX4_merge_97 : decode cX4_merge 97 = .ok (.iload_n 3, 1) := dk_29 (dk_at dksX4_merge_4 3 rfl rfl)
theorem dX4_merge_98 : decode cX4_merge 98 = .ok (.invokevirtual 106, 3) := dk_182 0 106 (dk_at dksX4_merge_4 4 rfl rfl)
theorem dX4_merge_101 : decode cX4_merge 101 = .ok (.istore 6, 2) := dk_54 6 (dk_at dksX4_merge_4 7 rfl rfl)
theorem dX4_merge_103 : decode cX4_merge 103 = .ok (.aload_n 0, 1) := dk_42 (dk_at dksX4_merge_4 9 rfl rfl)
theorem dX4_merge_104 : decode cX4_merge 104 = .ok (.iload_n 2, 1) := dk_28 (dk_at dksX4_merge_4 10 rfl rfl)
theorem dX4_merge_105 : decode cX4_merge 105 = .ok (.iconst 0, 1) := dk_3 (dk_at dksX4_merge_4 11 rfl rfl)
theorem dX4_merge_106 : decode cX4_merge 106 = .ok (.invokevirtual 106, 3) := dk_182 0 106 (dk_at dksX4_merge_4 12 rfl rfl)
theorem dX4_merge_109 : decode cX4_merge 109 = .ok (.istore 7, 2) := dk_54 7 (dk_at dksX4_merge_4 15 rfl rfl)
theorem dX4_merge_111 : decode cX4_merge 111 = .ok (.aload_n 0, 1) := dk_42 (dk_at dksX4_merge_4 17 rfl rfl)
theorem dX4_merge_112 : decode cX4_merge 112 = .ok (.getfield 9, 3) := dk_180 0 9 (dk_at dksX4_merge_4 18 rfl rfl)
theorem dX4_merge_115 : decode cX4_merge 115 = .ok (.iload_n 2, 1) := dk_28 (dk_at dksX4_merge_4 21 rfl rfl)
theorem dX4_merge_116 : decode cX4_merge 116 = .ok (.iload_n 3, 1) := dk_29 (dk_at dksX4_merge_4 22 rfl rfl)
theorem dX4_merge_117 : decode cX4_merge 117 = .ok (.invokestatic 69, 3) := dk_184 0 69 (dk_at dksX4_merge_5 0 rfl rfl)
theorem dX4_merge_120 : decode cX4_merge 120 = .ok (.iconst 0, 1) := dk_3 (dk_at dksX4_merge_5 3 rfl rfl)
theorem dX4_merge_121 : decode cX4_merge 121 = .ok (.iadd, 1) := dk_96 (dk_at dksX4_merge_5 4 rfl rfl)
theorem dX4_merge_122 : decode cX4_merge 122 = .ok (.iaload, 1) := dk_46 (dk_at dksX4_merge_5 5 rfl rfl)
theorem dX4_merge_123 : decode cX4_merge 123 = .ok (.istore 8, 2) := dk_54 8 (dk_at dksX4_merge_5 6 rfl rfl)
theorem dX4_merge_125 : decode cX4_merge 125 = .ok (.aload_n 0, 1) := dk_42 (dk_at dksX4_merge_5 8 rfl rfl)
theorem dX4_merge_126 : decode cX4_merge 126 = .ok (.iload_n 2, 1) := dk_28 (dk_at dksX4_merge_5 9 rfl rfl)
theorem dX4_merge_127 : decode cX4_merge 127 = .ok (.iconst 0, 1) := dk_3 (dk_at dksX4_merge_5 10 rfl rfl)
theorem dX4_merge_128 : decode cX4_merge 128 = .ok (.aload_n 0, 1) := dk_42 (dk_at dksX4_merge_5 11 rfl rfl)
theorem dX4_merge_129 : decode cX4_merge 129 = .ok (.getfield 9, 3) := dk_180 0 9 (dk_at dksX4_merge_5 12 rfl rfl)
theorem dX4_merge_132 : decode cX4_merge 132 = .ok (.iload 7, 2) := dk_21 7 (dk_at dksX4_merge_5 15 rfl rfl)
theorem dX4_merge_134 : decode cX4_merge 134 = .ok (.invokestatic 52, 3) := dk_184 0 52 (dk_at dksX4_merge_5 17 rfl rfl)
theorem dX4_merge_137 : decode cX4_merge 137 = .ok (.iconst 2, 1) := dk_5 (dk_at dksX4_merge_5 20 rfl rfl)
theorem dX4_merge_138 : decode cX4_merge 138 = .ok (.iadd, 1) := dk_96 (dk_at dksX4_merge_5 21 rfl rfl)
theorem dX4_merge_139 : decode cX4_merge 139 = .ok (.iaload, 1) := dk_46 (dk_at dksX4_merge_5 22 rfl rfl)
theorem dX4_merge_140 : decode cX4_merge 140 = .ok (.aload_n 0, 1) := dk_42 (dk_at dksX4_merge_5 23 rfl rfl)
theorem dX4_merge_141 : decode cX4_merge 141 = .ok (.getfield 9, 3) := dk_180 0 9 (dk_at dksX4_merge_6 0 rfl rfl)
theorem dX4_merge_144 : decode cX4_merge 144 = .ok (.iload 7, 2) := dk_21 7 (dk_at dksX4_merge_6 3 rfl rfl)
theorem dX4_merge_146 : decode cX4_merge 146 = .ok (.invokestatic 52, 3) := dk_184 0 52 (dk_at dksX4_merge_6 5 rfl rfl)
theorem dX4_merge_149 : decode cX4_merge 149 = .ok (.iconst 3, 1) := dk_6 (dk_at dksX4_merge_6 8 rfl rfl)
theorem dX4_merge_150 : decode cX4_merge 150 = .ok (.iadd, 1) := dk_96 (dk_at dksX4_merge_6 9 rfl rfl)
theorem dX4_merge_151 : decode cX4_merge 151 = .ok (.iaload, 1) := dk_46 (dk_at dksX4_merge_6 10 rfl rfl)
theorem dX4_merge_152 : decode cX4_merge 152 = .ok (.iconst 1, 1) := dk_4 (dk_at dksX4_merge_6 11 rfl rfl)
theorem dX4_merge_153 : decode cX4_merge 153 = .ok (.iadd, 1) := dk_96 (dk_at dksX4_merge_6 12 rfl rfl)
theorem dX4_merge_154 : decode cX4_merge 154 = .ok (.iload 7, 2) := dk_21 7 (dk_at dksX4_merge_6 13 rfl rfl)
theorem dX4_merge_156 : decode cX4_merge 156 = .ok (.invokestatic 52, 3) := dk_184 0 52 (dk_at dksX4_merge_6 15 rfl rfl)
theorem dX4_merge_159 : decode cX4_merge 159 = .ok (.iconst 4, 1) := dk_7 (dk_at dksX4_merge_6 18 rfl rfl)
theorem dX4_merge_160 : decode cX4_merge 160 = .ok (.iadd, 1) := dk_96 (dk_at dksX4_merge_6 19 rfl rfl)
theorem dX4_merge_161 : decode cX4_merge 161 = .ok (.invokevirtual 90, 3) := dk_182 0 90 (dk_at dksX4_merge_6 20 rfl rfl)
theorem dX4_merge_164 : decode cX4_merge 164 = .ok (.istore 9, 2) := dk_54 9 (dk_at dksX4_merge_7 0 rfl rfl)
theorem dX4_merge_166 : decode cX4_merge 166 = .ok (.iconst 0, 1) := dk_3 (dk_at dksX4_merge_7 2 rfl rfl)
theorem dX4_merge_167 : decode cX4_merge 167 = .ok (.istore 10, 2) := dk_54 10 (dk_at dksX4_merge_7 3 rfl rfl)
theorem dX4_merge_169 : decode cX4_merge 169 = .ok (.iconst 0, 1) := dk_3 (dk_at dksX4_merge_7 5 rfl rfl)
theorem dX4_merge_170 : decode cX4_merge 170 = .ok (.istore 11, 2) := dk_54 11 (dk_at dksX4_merge_7 6 rfl rfl)
theorem dX4_merge_172 : decode cX4_merge 172 = .ok (.iload 11, 2) := dk_21 11 (dk_at dksX4_merge_7 8 rfl rfl)
theorem dX4_merge_174 : decode cX4_merge 174 = .ok (.iconst 3, 1) := dk_6 (dk_at dksX4_merge_7 10 rfl rfl)
theorem dX4_merge_175 : decode cX4_merge 175 = .ok (.if_icmp .ge 127, 3) := dk_162 0 127 (dk_at dksX4_merge_7 11 rfl rfl)
theorem dX4_merge_178 : decode cX4_merge 178 = .ok (.aload_n 0, 1) := dk_42 (dk_at dksX4_merge_7 14 rfl rfl)
theorem dX4_merge_179 : decode cX4_merge 179 = .ok (.getfield 9, 3) := dk_180 0 9 (dk_at dksX4_merge_7 15 rfl rfl)
theorem dX4_merge_182 : decode cX4_merge 182 = .ok (.iload 8, 2) := dk_21 8 (dk_at dksX4_merge_7 18 rfl rfl)
theorem dX4_merge_184 : decode cX4_merge 184 = .ok (.invokestatic 52, 3) := dk_184 0 52 (dk_at dksX4_merge_7 20 rfl rfl)
theorem dX4_merge_187 : decode cX4_merge 187 = .ok (.iconst 4, 1) := dk_7 (dk_at dksX4_merge_7 23 rfl rfl)
theorem dX4_merge_188 : decode cX4_merge 188 = .ok (.iadd, 1) := dk_96 (dk_at dksX4_merge_8 0 rfl rfl)
theorem dX4_merge_189 : decode cX4_merge 189 = .ok (.iload 11, 2) := dk_21 11 (dk_at dksX4_merge_8 1 rfl rfl)
theorem dX4_merge_191 : decode cX4_merge 191 = .ok (.iadd, 1) := dk_96 (dk_at dksX4_merge_8 3 rfl rfl)
theorem dX4_merge_192 : decode cX4_merge 192 = .ok (.iaload, 1) := dk_46 (dk_at dksX4_merge_8 4 rfl rfl)
theorem dX4_merge_193 : decode cX4_merge 193 = .ok (.istore 12, 2) := dk_54 12 (dk_at dksX4_merge_8 5 rfl rfl)
theorem dX4_merge_195 : decode cX4_merge 195 = .ok (.aload_n 0, 1) := dk_42 (dk_at dksX4_merge_8 7 rfl rfl)
theorem dX4_merge_196 : decode cX4_merge 196 = .ok (.getfield 9, 3) := dk_180 0 9 (dk_at dksX4_merge_8 8 rfl rfl)
theorem dX4_merge_199 : decode cX4_merge 199 = .ok (.iload 7, 2) := dk_21 7 (dk_at dksX4_merge_8 11 rfl rfl)
theorem dX4_merge_201 : decode cX4_merge 201 = .ok (.invokestatic 52, 3) := dk_184 0 52 (dk_at dksX4_merge_8 13 rfl rfl)
theorem dX4_merge_204 : decode cX4_merge 204 = .ok (.iconst 4, 1) := dk_7 (dk_at dksX4_merge_8 16 rfl rfl)
theorem dX4_merge_205 : decode cX4_merge 205 = .ok (.iadd, 1) := dk_96 (dk_at dksX4_merge_8 17 rfl rfl)
theorem dX4_merge_206 : decode cX4_merge 206 = .ok (.iload 11, 2) := dk_21 11 (dk_at dksX4_merge_8 18 rfl rfl)
theorem dX4_merge_208 : decode cX4_merge 208 = .ok (.iadd, 1) := dk_96 (dk_at dksX4_merge_8 20 rfl rfl)
theorem dX4_merge_209 : decode cX4_merge 209 = .ok (.iaload, 1) := dk_46 (dk_at dksX4_merge_8 21 rfl rfl)
theorem dX4_merge_210 : decode cX4_merge 210 = .ok (.istore 13, 2) := dk_54 13 (dk_at dksX4_merge_8 22 rfl rfl)
theorem dX4_merge_212 : decode cX4_merge 212 = .ok (.aload_n 0, 1) := dk_42 (dk_at dksX4_merge_9 0 rfl rfl)
theorem dX4_merge_213 : decode cX4_merge 213 = .ok (.getfield 9, 3) := dk_180 0 9 (dk_at dksX4_merge_9 1 rfl rfl)
theorem dX4_merge_216 : decode cX4_merge 216 = .ok (.iload 6, 2) := dk_21 6 (dk_at dksX4_merge_9 4 rfl rfl)
theorem dX4_merge_218 : decode cX4_merge 218 = .ok (.invokestatic 52, 3) := dk_184 0 52 (dk_at dksX4_merge_9 6 rfl rfl)
theorem dX4_merge_221 : decode cX4_merge 221 = .ok (.iconst 4, 1) := dk_7 (dk_at dksX4_merge_9 9 rfl rfl)
theorem dX4_merge_222 : decode cX4_merge 222 = .ok (.iadd, 1) := dk_96 (dk_at dksX4_merge_9 10 rfl rfl)
theorem dX4_merge_223 : decode cX4_merge 223 = .ok (.iload 11, 2) := dk_21 11 (dk_at dksX4_merge_9 11 rfl rfl)
theorem dX4_merge_225 : decode cX4_merge 225 = .ok (.iadd, 1) := dk_96 (dk_at dksX4_merge_9 13 rfl rfl)
theorem dX4_merge_226 : decode cX4_merge 226 = .ok (.iaload, 1) := dk_46 (dk_at dksX4_merge_9 14 rfl rfl)
theorem dX4_merge_227 : decode cX4_merge 227 = .ok (.istore 14, 2) := dk_54 14 (dk_at dksX4_merge_9 15 rfl rfl)
theorem dX4_merge_229 : decode cX4_merge 229 = .ok (.aload_n 0, 1) := dk_42 (dk_at dksX4_merge_9 17 rfl rfl)
theorem dX4_merge_230 : decode cX4_merge 230 = .ok (.getfield 9, 3) := dk_180 0 9 (dk_at dksX4_merge_9 18 rfl rfl)
theorem dX4_merge_233 : decode cX4_merge 233 = .ok (.iload 9, 2) := dk_21 9 (dk_at dksX4_merge_9 21 rfl rfl)
theorem dX4_merge_235 : decode cX4_merge 235 = .ok (.invokestatic 52, 3) := dk_184 0 52 (dk_at dksX4_merge_10 0 rfl rfl)
theorem dX4_merge_238 : decode cX4_merge 238 = .ok (.iconst 4, 1) := dk_7 (dk_at dksX4_merge_10 3 rfl rfl)
theorem dX4_merge_239 : decode cX4_merge 239 = .ok (.iadd, 1) := dk_96 (dk_at dksX4_merge_10 4 rfl rfl)
theorem dX4_merge_240 : decode cX4_merge 240 = .ok (.iload 11, 2) := dk_21 11 (dk_at dksX4_merge_10 5 rfl rfl)
theorem dX4_merge_242 : decode cX4_merge 242 = .ok (.iadd, 1) := dk_96 (dk_at dksX4_merge_10 7 rfl rfl)
theorem dX4_merge_243 : decode cX4_merge 243 = .ok (.iload 14, 2) := dk_21 14 (dk_at dksX4_merge_10 8 rfl rfl)
theorem dX4_merge_245 : decode cX4_merge 245 = .ok (.iload 12, 2) := dk_21 12 (dk_at dksX4_merge_10 10 rfl rfl)
theorem dX4_merge_247 : decode cX4_merge 247 = .ok (.if_icmp .eq 15, 3) := dk_159 0 15 (dk_at dksX4_merge_10 12 rfl rfl)
theorem dX4_merge_250 : decode cX4_merge 250 = .ok (.iload 13, 2) := dk_21 13 (dk_at dksX4_merge_10 15 rfl rfl)
theorem dX4_merge_252 : decode cX4_merge 252 = .ok (.iload 12, 2) := dk_21 12 (dk_at dksX4_merge_10 17 rfl rfl)
theorem dX4_merge_254 : decode cX4_merge 254 = .ok (.if_icmp .ne 8, 3) := dk_160 0 8 (dk_at dksX4_merge_10 19 rfl rfl)
theorem dX4_merge_257 : decode cX4_merge 257 = .ok (.iload 14, 2) := dk_21 14 (dk_at dksX4_merge_10 22 rfl rfl)
theorem dX4_merge_259 : decode cX4_merge 259 = .ok (.goto 5, 3) := dk_167 0 5 (dk_at dksX4_merge_11 0 rfl rfl)
theorem dX4_merge_262 : decode cX4_merge 262 = .ok (.iload 13, 2) := dk_21 13 (dk_at dksX4_merge_11 3 rfl rfl)
theorem dX4_merge_264 : decode cX4_merge 264 = .ok (.iastore, 1) := dk_79 (dk_at dksX4_merge_11 5 rfl rfl)
theorem dX4_merge_265 : decode cX4_merge 265 = .ok (.iload 10, 2) := dk_21 10 (dk_at dksX4_merge_11 6 rfl rfl)
theorem dX4_merge_267 : decode cX4_merge 267 = .ok (.iload 14, 2) := dk_21 14 (dk_at dksX4_merge_11 8 rfl rfl)
theorem dX4_merge_269 : decode cX4_merge 269 = .ok (.iload 12, 2) := dk_21 12 (dk_at dksX4_merge_11 10 rfl rfl)
theorem dX4_merge_271 : decode cX4_merge 271 = .ok (.if_icmp .eq 21, 3) := dk_159 0 21 (dk_at dksX4_merge_11 12 rfl rfl)
theorem dX4_merge_274 : decode cX4_merge 274 = .ok (.iload 13, 2) := dk_21 13 (dk_at dksX4_merge_11 15 rfl rfl)
theorem dX4_merge_276 : decode cX4_merge 276 = .ok (.iload 12, 2) := dk_21 12 (dk_at dksX4_merge_11 17 rfl rfl)
theorem dX4_merge_278 : decode cX4_merge 278 = .ok (.if_icmp .eq 14, 3) := dk_159 0 14 (dk_at dksX4_merge_11 19 rfl rfl)
theorem dX4_merge_281 : decode cX4_merge 281 = .ok (.iload 14, 2) := dk_21 14 (dk_at dksX4_merge_11 22 rfl rfl)
theorem dX4_merge_283 : decode cX4_merge 283 = .ok (.iload 13, 2) := dk_21 13 (dk_at dksX4_merge_12 0 rfl rfl)
theorem dX4_merge_285 : decode cX4_merge 285 = .ok (.if_icmp .eq 7, 3) := dk_159 0 7 (dk_at dksX4_merge_12 2 rfl rfl)
theorem dX4_merge_288 : decode cX4_merge 288 = .ok (.iconst 1, 1) := dk_4 (dk_at dksX4_merge_12 5 rfl rfl)
theorem dX4_merge_289 : decode cX4_merge 289 = .ok (.goto 4, 3) := dk_167 0 4 (dk_at dksX4_merge_12 6 rfl rfl)
theorem dX4_merge_292 : decode cX4_merge 292 = .ok (.iconst 0, 1) := dk_3 (dk_at dksX4_merge_12 9 rfl rfl)
theorem dX4_merge_293 : decode cX4_merge 293 = .ok (.iadd, 1) := dk_96 (dk_at dksX4_merge_12 10 rfl rfl)
theorem dX4_merge_294 : decode cX4_merge 294 = .ok (.istore 10, 2) := dk_54 10 (dk_at dksX4_merge_12 11 rfl rfl)
theorem dX4_merge_296 : decode cX4_merge 296 = .ok (.iinc 11 1, 3) := dk_132 11 1 (dk_at dksX4_merge_12 13 rfl rfl)
theorem dX4_merge_299 : decode cX4_merge 299 = .ok (.goto (-127), 3) := dk_167 255 129 (dk_at dksX4_merge_12 16 rfl rfl)
theorem dX4_merge_302 : decode cX4_merge 302 = .ok (.aload_n 0, 1) := dk_42 (dk_at dksX4_merge_12 19 rfl rfl)
theorem dX4_merge_303 : decode cX4_merge 303 = .ok (.getfield 9, 3) := dk_180 0 9 (dk_at dksX4_merge_12 20 rfl rfl)
theorem dX4_merge_306 : decode cX4_merge 306 = .ok (.iload_n 2, 1) := dk_28 (dk_at dksX4_merge_12 23 rfl rfl)
theorem dX4_merge_307 : decode cX4_merge 307 = .ok (.iload_n 3, 1) := dk_29 (dk_at dksX4_merge_13 0 rfl rfl)
theorem dX4_merge_308 : decode cX4_merge 308 = .ok (.invokestatic 69, 3) := dk_184 0 69 (dk_at dksX4_merge_13 1 rfl rfl)
theorem dX4_merge_311 : decode cX4_merge 311 = .ok (.iconst 0, 1) := dk_3 (dk_at dksX4_merge_13 4 rfl rfl)
theorem dX4_merge_312 : decode cX4_merge 312 = .ok (.iadd, 1) := dk_96 (dk_at dksX4_merge_13 5 rfl rfl)
theorem dX4_merge_313 : decode cX4_merge 313 = .ok (.iload 6, 2) := dk_21 6 (dk_at dksX4_merge_13 6 rfl rfl)
theorem dX4_merge_315 : decode cX4_merge 315 = .ok (.iastore, 1) := dk_79 (dk_at dksX4_merge_13 8 rfl rfl)
theorem dX4_merge_316 : decode cX4_merge 316 = .ok (.aload_n 0, 1) := dk_42 (dk_at dksX4_merge_13 9 rfl rfl)
theorem dX4_merge_317 : decode cX4_merge 317 = .ok (.bipush 12, 2) := dk_16 12 (dk_at dksX4_merge_13 10 rfl rfl)
theorem dX4_merge_319 : decode cX4_merge 319 = .ok (.iload_n 1, 1) := dk_27 (dk_at dksX4_merge_13 12 rfl rfl)
theorem dX4_merge_320 : decode cX4_merge 320 = .ok (.iload_n 2, 1) := dk_28 (dk_at dksX4_merge_13 13 rfl rfl)
theorem dX4_merge_321 : decode cX4_merge 321 = .ok (.iload_n 3, 1) := dk_29 (dk_at dksX4_merge_13 14 rfl rfl)
theorem dX4_merge_322 : decode cX4_merge 322 = .ok (.iconst 0, 1) := dk_3 (dk_at dksX4_merge_13 15 rfl rfl)
theorem dX4_merge_323 : decode cX4_merge 323 = .ok (.iconst 0, 1) := dk_3 (dk_at dksX4_merge_13 16 rfl rfl)
theorem dX4_merge_324 : decode cX4_merge 324 = .ok (.invokevirtual 80, 3) := dk_182 0 80 (dk_at dksX4_merge_13 17 rfl rfl)
theorem dX4_merge_327 : decode cX4_merge 327 = .ok (.iload 10, 2) := dk_21 10 (dk_at dksX4_merge_13 20 rfl rfl)
theorem dX4_merge_329 : decode cX4_merge 329 = .ok (.ireturn, 1) := dk_172 (dk_at dksX4_merge_13 22 rfl rfl)
abbrev cX4_linkVersion : ByteArray := prog_38_method_46_code
def yX4_linkVersion : MethodName := ⟨RX4, "linkVersion", "(III)I"⟩
def dkwX4_linkVersion_4 : List UInt8 := [182, 0, 128, 172]
abbrev dktX4_linkVersion_4 : List UInt8 := dkwX4_linkVersion_4 ++ []
def dkwX4_linkVersion_3 : List UInt8 := [182, 0, 77, 154, 0, 5, 3, 172, 42, 16, 13, 27, 28, 29, 3, 3, 182, 0, 80, 42, 28, 3, 29]
abbrev dktX4_linkVersion_3 : List UInt8 := dkwX4_linkVersion_3 ++ dktX4_linkVersion_4
def dkwX4_linkVersion_2 : List UInt8 := [27, 29, 182, 0, 125, 153, 0, 18, 42, 180, 0, 9, 7, 46, 16, 24, 162, 0, 7, 4, 167, 0, 4, 3]
abbrev dktX4_linkVersion_2 : List UInt8 := dkwX4_linkVersion_2 ++ dktX4_linkVersion_3
def dkwX4_linkVersion_1 : List UInt8 := [167, 0, 4, 3, 54, 4, 42, 21, 4, 21, 4, 153, 0, 36, 42, 27, 28, 182, 0, 100, 153, 0, 27, 42]
abbrev dktX4_linkVersion_1 : List UInt8 := dkwX4_linkVersion_1 ++ dktX4_linkVersion_2
def dkwX4_linkVersion_0 : List UInt8 := [27, 184, 0, 87, 153, 0, 23, 42, 28, 182, 0, 48, 153, 0, 15, 42, 29, 182, 0, 122, 153, 0, 7, 4]
abbrev dktX4_linkVersion_0 : List UInt8 := dkwX4_linkVersion_0 ++ dktX4_linkVersion_1
theorem dksX4_linkVersion_0 : cX4_linkVersion.data.toList.drop 0 = dktX4_linkVersion_0 := by decide +kernel
theorem dksX4_linkVersion_1 : cX4_linkVersion.data.toList.drop 24 = dktX4_linkVersion_1 := dk_seg dksX4_linkVersion_0 24 rfl rfl
theorem dksX4_linkVersion_2 : cX4_linkVersion.data.toList.drop 48 = dktX4_linkVersion_2 := dk_seg dksX4_linkVersion_1 24 rfl rfl
theorem dksX4_linkVersion_3 : cX4_linkVersion.data.toList.drop 72 = dktX4_linkVersion_3 := dk_seg dksX4_linkVersion_2 24 rfl rfl
theorem dksX4_linkVersion_4 : cX4_linkVersion.data.toList.drop 95 = dktX4_linkVersion_4 := dk_seg dksX4_linkVersion_3 23 rfl rfl
theorem dX4_linkVersion_0 : decode cX4_linkVersion 0 = .ok (.iload_n 1, 1) := dk_27 (dk_at dksX4_linkVersion_0 0 rfl rfl)
theorem dX4_linkVersion_1 : decode cX4_linkVersion 1 = .ok (.invokestatic 87, 3) := dk_184 0 87 (dk_at dksX4_linkVersion_0 1 rfl rfl)
theorem dX4_linkVersion_4 : decode cX4_linkVersion 4 = .ok (.ifCond .eq 23, 3) := dk_153 0 23 (dk_at dksX4_linkVersion_0 4 rfl rfl)
theorem dX4_linkVersion_7 : decode cX4_linkVersion 7 = .ok (.aload_n 0, 1) := dk_42 (dk_at dksX4_linkVersion_0 7 rfl rfl)
theorem dX4_linkVersion_8 : decode cX4_linkVersion 8 = .ok (.iload_n 2, 1) := dk_28 (dk_at dksX4_linkVersion_0 8 rfl rfl)
theorem dX4_linkVersion_9 : decode cX4_linkVersion 9 = .ok (.invokevirtual 48, 3) := dk_182 0 48 (dk_at dksX4_linkVersion_0 9 rfl rfl)
theorem dX4_linkVersion_12 : decode cX4_linkVersion 12 = .ok (.ifCond .eq 15, 3) := dk_153 0 15 (dk_at dksX4_linkVersion_0 12 rfl rfl)
theorem dX4_linkVersion_15 : decode cX4_linkVersion 15 = .ok (.aload_n 0, 1) := dk_42 (dk_at dksX4_linkVersion_0 15 rfl rfl)
theorem dX4_linkVersion_16 : decode cX4_linkVersion 16 = .ok (.iload_n 3, 1) := dk_29 (dk_at dksX4_linkVersion_0 16 rfl rfl)
theorem dX4_linkVersion_17 : decode cX4_linkVersion 17 = .ok (.invokevirtual 122, 3) := dk_182 0 122 (dk_at dksX4_linkVersion_0 17 rfl rfl)
theorem dX4_linkVersion_20 : decode cX4_linkVersion 20 = .ok (.ifCond .eq 7, 3) := dk_153 0 7 (dk_at dksX4_linkVersion_0 20 rfl rfl)
theorem dX4_linkVersion_23 : decode cX4_linkVersion 23 = .ok (.iconst 1, 1) := dk_4 (dk_at dksX4_linkVersion_0 23 rfl rfl)
theorem dX4_linkVersion_24 : decode cX4_linkVersion 24 = .ok (.goto 4, 3) := dk_167 0 4 (dk_at dksX4_linkVersion_1 0 rfl rfl)
theorem dX4_linkVersion_27 : decode cX4_linkVersion 27 = .ok (.iconst 0, 1) := dk_3 (dk_at dksX4_linkVersion_1 3 rfl rfl)
theorem dX4_linkVersion_28 : decode cX4_linkVersion 28 = .ok (.istore 4, 2) := dk_54 4 (dk_at dksX4_linkVersion_1 4 rfl rfl)
theorem dX4_linkVersion_30 : decode cX4_linkVersion 30 = .ok (.aload_n 0, 1) := dk_42 (dk_at dksX4_linkVersion_1 6 rfl rfl)
theorem dX4_linkVersion_31 : decode cX4_linkVersion 31 = .ok (.iload 4, 2) := dk_21 4 (dk_at dksX4_linkVersion_1 7 rfl rfl)
theorem dX4_linkVersion_33 : decode cX4_linkVersion 33 = .ok (.iload 4, 2) := dk_21 4 (dk_at dksX4_linkVersion_1 9 rfl rfl)
theorem dX4_linkVersion_35 : decode cX4_linkVersion 35 = .ok (.ifCond .eq 36, 3) := dk_153 0 36 (dk_at dksX4_linkVersion_1 11 rfl rfl)
theorem dX4_linkVersion_38 : decode cX4_linkVersion 38 = .ok (.aload_n 0, 1) := dk_42 (dk_at dksX4_linkVersion_1 14 rfl rfl)
theorem dX4_linkVersion_39 : decode cX4_linkVersion 39 = .ok (.iload_n 1, 1) := dk_27 (dk_at dksX4_linkVersion_1 15 rfl rfl)
theorem dX4_linkVersion_40 : decode cX4_linkVersion 40 = .ok (.iload_n 2, 1) := dk_28 (dk_at dksX4_linkVersion_1 16 rfl rfl)
theorem dX4_linkVersion_41 : decode cX4_linkVersion 41 = .ok (.invokevirtual 100, 3) := dk_182 0 100 (dk_at dksX4_linkVersion_1 17 rfl rfl)
theorem dX4_linkVersion_44 : decode cX4_linkVersion 44 = .ok (.ifCond .eq 27, 3) := dk_153 0 27 (dk_at dksX4_linkVersion_1 20 rfl rfl)
theorem dX4_linkVersion_47 : decode cX4_linkVersion 47 = .ok (.aload_n 0, 1) := dk_42 (dk_at dksX4_linkVersion_1 23 rfl rfl)
theorem dX4_linkVersion_48 : decode cX4_linkVersion 48 = .ok (.iload_n 1, 1) := dk_27 (dk_at dksX4_linkVersion_2 0 rfl rfl)
theorem dX4_linkVersion_49 : decode cX4_linkVersion 49 = .ok (.iload_n 3, 1) := dk_29 (dk_at dksX4_linkVersion_2 1 rfl rfl)
theorem dX4_linkVersion_50 : decode cX4_linkVersion 50 = .ok (.invokevirtual 125, 3) := dk_182 0 125 (dk_at dksX4_linkVersion_2 2 rfl rfl)
theorem dX4_linkVersion_53 : decode cX4_linkVersion 53 = .ok (.ifCond .eq 18, 3) := dk_153 0 18 (dk_at dksX4_linkVersion_2 5 rfl rfl)
theorem dX4_linkVersion_56 : decode cX4_linkVersion 56 = .ok (.aload_n 0, 1) := dk_42 (dk_at dksX4_linkVersion_2 8 rfl rfl)
theorem dX4_linkVersion_57 : decode cX4_linkVersion 57 = .ok (.getfield 9, 3) := dk_180 0 9 (dk_at dksX4_linkVersion_2 9 rfl rfl)
theorem dX4_linkVersion_60 : decode cX4_linkVersion 60 = .ok (.iconst 4, 1) := dk_7 (dk_at dksX4_linkVersion_2 12 rfl rfl)
theorem dX4_linkVersion_61 : decode cX4_linkVersion 61 = .ok (.iaload, 1) := dk_46 (dk_at dksX4_linkVersion_2 13 rfl rfl)
theorem dX4_linkVersion_62 : decode cX4_linkVersion 62 = .ok (.bipush 24, 2) := dk_16 24 (dk_at dksX4_linkVersion_2 14 rfl rfl)
theorem dX4_linkVersion_64 : decode cX4_linkVersion 64 = .ok (.if_icmp .ge 7, 3) := dk_162 0 7 (dk_at dksX4_linkVersion_2 16 rfl rfl)
theorem dX4_linkVersion_67 : decode cX4_linkVersion 67 = .ok (.iconst 1, 1) := dk_4 (dk_at dksX4_linkVersion_2 19 rfl rfl)
theorem dX4_linkVersion_68 : decode cX4_linkVersion 68 = .ok (.goto 4, 3) := dk_167 0 4 (dk_at dksX4_linkVersion_2 20 rfl rfl)
theorem dX4_linkVersion_71 : decode cX4_linkVersion 71 = .ok (.iconst 0, 1) := dk_3 (dk_at dksX4_linkVersion_2 23 rfl rfl)
theorem dX4_linkVersion_72 : decode cX4_linkVersion 72 = .ok (.invokevirtual 77, 3) := dk_182 0 77 (dk_at dksX4_linkVersion_3 0 rfl rfl)
theorem dX4_linkVersion_75 : decode cX4_linkVersion 75 = .ok (.ifCond .ne 5, 3) := dk_154 0 5 (dk_at dksX4_linkVersion_3 3 rfl rfl)
theorem dX4_linkVersion_78 : decode cX4_linkVersion 78 = .ok (.iconst 0, 1) := dk_3 (dk_at dksX4_linkVersion_3 6 rfl rfl)
theorem dX4_linkVersion_79 : decode cX4_linkVersion 79 = .ok (.ireturn, 1) := dk_172 (dk_at dksX4_linkVersion_3 7 rfl rfl)
theorem dX4_linkVersion_80 : decode cX4_linkVersion 80 = .ok (.aload_n 0, 1) := dk_42 (dk_at dksX4_linkVersion_3 8 rfl rfl)
theorem dX4_linkVersion_81 : decode cX4_linkVersion 81 = .ok (.bipush 13, 2) := dk_16 13 (dk_at dksX4_linkVersion_3 9 rfl rfl)
theorem dX4_linkVersion_83 : decode cX4_linkVersion 83 = .ok (.iload_n 1, 1) := dk_27 (dk_at dksX4_linkVersion_3 11 rfl rfl)
theorem dX4_linkVersion_84 : decode cX4_linkVersion 84 = .ok (.iload_n 2, 1) := dk_28 (dk_at dksX4_linkVersion_3 12 rfl rfl)
theorem dX4_linkVersion_85 : decode cX4_linkVersion 85 = .ok (.iload_n 3, 1) := dk_29 (dk_at dksX4_linkVersion_3 13 rfl rfl)
theorem dX4_linkVersion_86 : decode cX4_linkVersion 86 = .ok (.iconst 0, 1) := dk_3 (dk_at dksX4_linkVersion_3 14 rfl rfl)
theorem dX4_linkVersion_87 : decode cX4_linkVersion 87 = .ok (.iconst 0, 1) := dk_3 (dk_at dksX4_linkVersion_3 15 rfl rfl)
theorem dX4_linkVersion_88 : decode cX4_linkVersion 88 = .ok (.invokevirtual 80, 3) := dk_182 0 80 (dk_at dksX4_linkVersion_3 16 rfl rfl)
theorem dX4_linkVersion_91 : decode cX4_linkVersion 91 = .ok (.aload_n 0, 1) := dk_42 (dk_at dksX4_linkVersion_3 19 rfl rfl)
theorem dX4_linkVersion_92 : decode cX4_linkVersion 92 = .ok (.iload_n 2, 1) := dk_28 (dk_at dksX4_linkVersion_3 20 rfl rfl)
theorem dX4_linkVersion_93 : decode cX4_linkVersion 93 = .ok (.iconst 0, 1) := dk_3 (dk_at dksX4_linkVersion_3 21 rfl rfl)
theorem dX4_linkVersion_94 : decode cX4_linkVersion 94 = .ok (.iload_n 3, 1) := dk_29 (dk_at dksX4_linkVersion_3 22 rfl rfl)
theorem dX4_linkVersion_95 : decode cX4_linkVersion 95 = .ok (.invokevirtual 128, 3) := dk_182 0 128 (dk_at dksX4_linkVersion_4 0 rfl rfl)
theorem dX4_linkVersion_98 : decode cX4_linkVersion 98 = .ok (.ireturn, 1) := dk_172 (dk_at dksX4_linkVersion_4 3 rfl rfl)
abbrev cX4_sees : ByteArray := prog_38_method_22_code
def yX4_sees : MethodName := ⟨RX4, "sees", "(II)Z"⟩
def dkwX4_sees_1 : List UInt8 := [160, 0, 15, 42, 28, 182, 0, 59, 153, 0, 7, 4, 167, 0, 4, 3, 172]
abbrev dktX4_sees_1 : List UInt8 := dkwX4_sees_1 ++ []
def dkwX4_sees_0 : List UInt8 := [42, 27, 42, 180, 0, 9, 28, 184, 0, 52, 3, 96, 46, 182, 0, 55, 62, 29, 5, 159, 0, 16, 29, 4]
abbrev dktX4_sees_0 : List UInt8 := dkwX4_sees_0 ++ dktX4_sees_1
theorem dksX4_sees_0 : cX4_sees.data.toList.drop 0 = dktX4_sees_0 := by decide +kernel
theorem dksX4_sees_1 : cX4_sees.data.toList.drop 24 = dktX4_sees_1 := dk_seg dksX4_sees_0 24 rfl rfl
theorem dX4_sees_0 : decode cX4_sees 0 = .ok (.aload_n 0, 1) := dk_42 (dk_at dksX4_sees_0 0 rfl rfl)
theorem dX4_sees_1 : decode cX4_sees 1 = .ok (.iload_n 1, 1) := dk_27 (dk_at dksX4_sees_0 1 rfl rfl)
theorem dX4_sees_2 : decode cX4_sees 2 = .ok (.aload_n 0, 1) := dk_42 (dk_at dksX4_sees_0 2 rfl rfl)
theorem dX4_sees_3 : decode cX4_sees 3 = .ok (.getfield 9, 3) := dk_180 0 9 (dk_at dksX4_sees_0 3 rfl rfl)
theorem dX4_sees_6 : decode cX4_sees 6 = .ok (.iload_n 2, 1) := dk_28 (dk_at dksX4_sees_0 6 rfl rfl)
theorem dX4_sees_7 : decode cX4_sees 7 = .ok (.invokestatic 52, 3) := dk_184 0 52 (dk_at dksX4_sees_0 7 rfl rfl)
theorem dX4_sees_10 : decode cX4_sees 10 = .ok (.iconst 0, 1) := dk_3 (dk_at dksX4_sees_0 10 rfl rfl)
theorem dX4_sees_11 : decode cX4_sees 11 = .ok (.iadd, 1) := dk_96 (dk_at dksX4_sees_0 11 rfl rfl)
theorem dX4_sees_12 : decode cX4_sees 12 = .ok (.iaload, 1) := dk_46 (dk_at dksX4_sees_0 12 rfl rfl)
theorem dX4_sees_13 : decode cX4_sees 13 = .ok (.invokevirtual 55, 3) := dk_182 0 55 (dk_at dksX4_sees_0 13 rfl rfl)
theorem dX4_sees_16 : decode cX4_sees 16 = .ok (.istore_n 3, 1) := dk_62 (dk_at dksX4_sees_0 16 rfl rfl)
theorem dX4_sees_17 : decode cX4_sees 17 = .ok (.iload_n 3, 1) := dk_29 (dk_at dksX4_sees_0 17 rfl rfl)
theorem dX4_sees_18 : decode cX4_sees 18 = .ok (.iconst 2, 1) := dk_5 (dk_at dksX4_sees_0 18 rfl rfl)
theorem dX4_sees_19 : decode cX4_sees 19 = .ok (.if_icmp .eq 16, 3) := dk_159 0 16 (dk_at dksX4_sees_0 19 rfl rfl)
theorem dX4_sees_22 : decode cX4_sees 22 = .ok (.iload_n 3, 1) := dk_29 (dk_at dksX4_sees_0 22 rfl rfl)
theorem dX4_sees_23 : decode cX4_sees 23 = .ok (.iconst 1, 1) := dk_4 (dk_at dksX4_sees_0 23 rfl rfl)
theorem dX4_sees_24 : decode cX4_sees 24 = .ok (.if_icmp .ne 15, 3) := dk_160 0 15 (dk_at dksX4_sees_1 0 rfl rfl)
theorem dX4_sees_27 : decode cX4_sees 27 = .ok (.aload_n 0, 1) := dk_42 (dk_at dksX4_sees_1 3 rfl rfl)
theorem dX4_sees_28 : decode cX4_sees 28 = .ok (.iload_n 2, 1) := dk_28 (dk_at dksX4_sees_1 4 rfl rfl)
theorem dX4_sees_29 : decode cX4_sees 29 = .ok (.invokevirtual 59, 3) := dk_182 0 59 (dk_at dksX4_sees_1 5 rfl rfl)
theorem dX4_sees_32 : decode cX4_sees 32 = .ok (.ifCond .eq 7, 3) := dk_153 0 7 (dk_at dksX4_sees_1 8 rfl rfl)
theorem dX4_sees_35 : decode cX4_sees 35 = .ok (.iconst 1, 1) := dk_4 (dk_at dksX4_sees_1 11 rfl rfl)
theorem dX4_sees_36 : decode cX4_sees 36 = .ok (.goto 4, 3) := dk_167 0 4 (dk_at dksX4_sees_1 12 rfl rfl)
theorem dX4_sees_39 : decode cX4_sees 39 = .ok (.iconst 0, 1) := dk_3 (dk_at dksX4_sees_1 15 rfl rfl)
theorem dX4_sees_40 : decode cX4_sees 40 = .ok (.ireturn, 1) := dk_172 (dk_at dksX4_sees_1 16 rfl rfl)
abbrev cX4_link : ByteArray := prog_38_method_45_code
def yX4_link : MethodName := ⟨RX4, "link", "(III)I"⟩
def dkwX4_link_2 : List UInt8 := [7, 92, 46, 4, 96, 79, 42, 180, 0, 9, 7, 46, 4, 100, 172]
abbrev dktX4_link_2 : List UInt8 := dkwX4_link_2 ++ []
def dkwX4_link_1 : List UInt8 := [42, 180, 0, 9, 21, 4, 4, 96, 28, 79, 42, 180, 0, 9, 21, 4, 5, 96, 29, 79, 42, 180, 0, 9]
abbrev dktX4_link_1 : List UInt8 := dkwX4_link_1 ++ dktX4_link_2
def dkwX4_link_0 : List UInt8 := [17, 3, 33, 6, 42, 180, 0, 9, 7, 46, 104, 96, 54, 4, 42, 180, 0, 9, 21, 4, 3, 96, 27, 79]
abbrev dktX4_link_0 : List UInt8 := dkwX4_link_0 ++ dktX4_link_1
theorem dksX4_link_0 : cX4_link.data.toList.drop 0 = dktX4_link_0 := by decide +kernel
theorem dksX4_link_1 : cX4_link.data.toList.drop 24 = dktX4_link_1 := dk_seg dksX4_link_0 24 rfl rfl
theorem dksX4_link_2 : cX4_link.data.toList.drop 48 = dktX4_link_2 := dk_seg dksX4_link_1 24 rfl rfl
theorem dX4_link_0 : decode cX4_link 0 = .ok (.sipush 801, 3) := dk_17 3 33 (dk_at dksX4_link_0 0 rfl rfl)
theorem dX4_link_3 : decode cX4_link 3 = .ok (.iconst 3, 1) := dk_6 (dk_at dksX4_link_0 3 rfl rfl)
theorem dX4_link_4 : decode cX4_link 4 = .ok (.aload_n 0, 1) := dk_42 (dk_at dksX4_link_0 4 rfl rfl)
theorem dX4_link_5 : decode cX4_link 5 = .ok (.getfield 9, 3) := dk_180 0 9 (dk_at dksX4_link_0 5 rfl rfl)
theorem dX4_link_8 : decode cX4_link 8 = .ok (.iconst 4, 1) := dk_7 (dk_at dksX4_link_0 8 rfl rfl)
theorem dX4_link_9 : decode cX4_link 9 = .ok (.iaload, 1) := dk_46 (dk_at dksX4_link_0 9 rfl rfl)
theorem dX4_link_10 : decode cX4_link 10 = .ok (.imul, 1) := dk_104 (dk_at dksX4_link_0 10 rfl rfl)
theorem dX4_link_11 : decode cX4_link 11 = .ok (.iadd, 1) := dk_96 (dk_at dksX4_link_0 11 rfl rfl)
theorem dX4_link_12 : decode cX4_link 12 = .ok (.istore 4, 2) := dk_54 4 (dk_at dksX4_link_0 12 rfl rfl)
theorem dX4_link_14 : decode cX4_link 14 = .ok (.aload_n 0, 1) := dk_42 (dk_at dksX4_link_0 14 rfl rfl)
theorem dX4_link_15 : decode cX4_link 15 = .ok (.getfield 9, 3) := dk_180 0 9 (dk_at dksX4_link_0 15 rfl rfl)
theorem dX4_link_18 : decode cX4_link 18 = .ok (.iload 4, 2) := dk_21 4 (dk_at dksX4_link_0 18 rfl rfl)
theorem dX4_link_20 : decode cX4_link 20 = .ok (.iconst 0, 1) := dk_3 (dk_at dksX4_link_0 20 rfl rfl)
theorem dX4_link_21 : decode cX4_link 21 = .ok (.iadd, 1) := dk_96 (dk_at dksX4_link_0 21 rfl rfl)
theorem dX4_link_22 : decode cX4_link 22 = .ok (.iload_n 1, 1) := dk_27 (dk_at dksX4_link_0 22 rfl rfl)
theorem dX4_link_23 : decode cX4_link 23 = .ok (.iastore, 1) := dk_79 (dk_at dksX4_link_0 23 rfl rfl)
theorem dX4_link_24 : decode cX4_link 24 = .ok (.aload_n 0, 1) := dk_42 (dk_at dksX4_link_1 0 rfl rfl)
theorem dX4_link_25 : decode cX4_link 25 = .ok (.getfield 9, 3) := dk_180 0 9 (dk_at dksX4_link_1 1 rfl rfl)
theorem dX4_link_28 : decode cX4_link 28 = .ok (.iload 4, 2) := dk_21 4 (dk_at dksX4_link_1 4 rfl rfl)
theorem dX4_link_30 : decode cX4_link 30 = .ok (.iconst 1, 1) := dk_4 (dk_at dksX4_link_1 6 rfl rfl)
theorem dX4_link_31 : decode cX4_link 31 = .ok (.iadd, 1) := dk_96 (dk_at dksX4_link_1 7 rfl rfl)
theorem dX4_link_32 : decode cX4_link 32 = .ok (.iload_n 2, 1) := dk_28 (dk_at dksX4_link_1 8 rfl rfl)
theorem dX4_link_33 : decode cX4_link 33 = .ok (.iastore, 1) := dk_79 (dk_at dksX4_link_1 9 rfl rfl)
theorem dX4_link_34 : decode cX4_link 34 = .ok (.aload_n 0, 1) := dk_42 (dk_at dksX4_link_1 10 rfl rfl)
theorem dX4_link_35 : decode cX4_link 35 = .ok (.getfield 9, 3) := dk_180 0 9 (dk_at dksX4_link_1 11 rfl rfl)
theorem dX4_link_38 : decode cX4_link 38 = .ok (.iload 4, 2) := dk_21 4 (dk_at dksX4_link_1 14 rfl rfl)
theorem dX4_link_40 : decode cX4_link 40 = .ok (.iconst 2, 1) := dk_5 (dk_at dksX4_link_1 16 rfl rfl)
theorem dX4_link_41 : decode cX4_link 41 = .ok (.iadd, 1) := dk_96 (dk_at dksX4_link_1 17 rfl rfl)
theorem dX4_link_42 : decode cX4_link 42 = .ok (.iload_n 3, 1) := dk_29 (dk_at dksX4_link_1 18 rfl rfl)
theorem dX4_link_43 : decode cX4_link 43 = .ok (.iastore, 1) := dk_79 (dk_at dksX4_link_1 19 rfl rfl)
theorem dX4_link_44 : decode cX4_link 44 = .ok (.aload_n 0, 1) := dk_42 (dk_at dksX4_link_1 20 rfl rfl)
theorem dX4_link_45 : decode cX4_link 45 = .ok (.getfield 9, 3) := dk_180 0 9 (dk_at dksX4_link_1 21 rfl rfl)
theorem dX4_link_48 : decode cX4_link 48 = .ok (.iconst 4, 1) := dk_7 (dk_at dksX4_link_2 0 rfl rfl)
theorem dX4_link_49 : decode cX4_link 49 = .ok (.dup2, 1) := dk_92 (dk_at dksX4_link_2 1 rfl rfl)
theorem dX4_link_50 : decode cX4_link 50 = .ok (.iaload, 1) := dk_46 (dk_at dksX4_link_2 2 rfl rfl)
theorem dX4_link_51 : decode cX4_link 51 = .ok (.iconst 1, 1) := dk_4 (dk_at dksX4_link_2 3 rfl rfl)
theorem dX4_link_52 : decode cX4_link 52 = .ok (.iadd, 1) := dk_96 (dk_at dksX4_link_2 4 rfl rfl)
theorem dX4_link_53 : decode cX4_link 53 = .ok (.iastore, 1) := dk_79 (dk_at dksX4_link_2 5 rfl rfl)
theorem dX4_link_54 : decode cX4_link 54 = .ok (.aload_n 0, 1) := dk_42 (dk_at dksX4_link_2 6 rfl rfl)
theorem dX4_link_55 : decode cX4_link 55 = .ok (.getfield 9, 3) := dk_180 0 9 (dk_at dksX4_link_2 7 rfl rfl)
theorem dX4_link_58 : decode cX4_link 58 = .ok (.iconst 4, 1) := dk_7 (dk_at dksX4_link_2 10 rfl rfl)
theorem dX4_link_59 : decode cX4_link 59 = .ok (.iaload, 1) := dk_46 (dk_at dksX4_link_2 11 rfl rfl)
theorem dX4_link_60 : decode cX4_link 60 = .ok (.iconst 1, 1) := dk_4 (dk_at dksX4_link_2 12 rfl rfl)
theorem dX4_link_61 : decode cX4_link 61 = .ok (.isub, 1) := dk_100 (dk_at dksX4_link_2 13 rfl rfl)
theorem dX4_link_62 : decode cX4_link 62 = .ok (.ireturn, 1) := dk_172 (dk_at dksX4_link_2 14 rfl rfl)
abbrev cX4_linkDocument : ByteArray := prog_38_method_47_code
def yX4_linkDocument : MethodName := ⟨RX4, "linkDocument", "(IIII)I"⟩
def dkwX4_linkDocument_4 : List UInt8 := [29, 182, 0, 128, 172]
abbrev dktX4_linkDocument_4 : List UInt8 := dkwX4_linkDocument_4 ++ []
def dkwX4_linkDocument_3 : List UInt8 := [182, 0, 29, 154, 0, 5, 3, 172, 42, 16, 14, 27, 28, 29, 21, 4, 3, 182, 0, 80, 42, 28, 21, 4]
abbrev dktX4_linkDocument_3 : List UInt8 := dkwX4_linkDocument_3 ++ dktX4_linkDocument_4
def dkwX4_linkDocument_2 : List UInt8 := [182, 0, 100, 153, 0, 18, 42, 180, 0, 9, 7, 46, 16, 24, 162, 0, 7, 4, 167, 0, 4, 3]
abbrev dktX4_linkDocument_2 : List UInt8 := dkwX4_linkDocument_2 ++ dktX4_linkDocument_3
def dkwX4_linkDocument_1 : List UInt8 := [167, 0, 4, 3, 54, 5, 42, 21, 5, 21, 4, 4, 5, 184, 0, 44, 21, 5, 153, 0, 27, 42, 27, 28]
abbrev dktX4_linkDocument_1 : List UInt8 := dkwX4_linkDocument_1 ++ dktX4_linkDocument_2
def dkwX4_linkDocument_0 : List UInt8 := [27, 184, 0, 87, 153, 0, 23, 42, 28, 182, 0, 48, 153, 0, 15, 42, 29, 182, 0, 48, 153, 0, 7, 4]
abbrev dktX4_linkDocument_0 : List UInt8 := dkwX4_linkDocument_0 ++ dktX4_linkDocument_1
theorem dksX4_linkDocument_0 : cX4_linkDocument.data.toList.drop 0 = dktX4_linkDocument_0 := by decide +kernel
theorem dksX4_linkDocument_1 : cX4_linkDocument.data.toList.drop 24 = dktX4_linkDocument_1 := dk_seg dksX4_linkDocument_0 24 rfl rfl
theorem dksX4_linkDocument_2 : cX4_linkDocument.data.toList.drop 48 = dktX4_linkDocument_2 := dk_seg dksX4_linkDocument_1 24 rfl rfl
theorem dksX4_linkDocument_3 : cX4_linkDocument.data.toList.drop 70 = dktX4_linkDocument_3 := dk_seg dksX4_linkDocument_2 22 rfl rfl
theorem dksX4_linkDocument_4 : cX4_linkDocument.data.toList.drop 94 = dktX4_linkDocument_4 := dk_seg dksX4_linkDocument_3 24 rfl rfl
theorem dX4_linkDocument_0 : decode cX4_linkDocument 0 = .ok (.iload_n 1, 1) := dk_27 (dk_at dksX4_linkDocument_0 0 rfl rfl)
theorem dX4_linkDocument_1 : decode cX4_linkDocument 1 = .ok (.invokestatic 87, 3) := dk_184 0 87 (dk_at dksX4_linkDocument_0 1 rfl rfl)
theorem dX4_linkDocument_4 : decode cX4_linkDocument 4 = .ok (.ifCond .eq 23, 3) := dk_153 0 23 (dk_at dksX4_linkDocument_0 4 rfl rfl)
theorem dX4_linkDocument_7 : decode cX4_linkDocument 7 = .ok (.aload_n 0, 1) := dk_42 (dk_at dksX4_linkDocument_0 7 rfl rfl)
theorem dX4_linkDocument_8 : decode cX4_linkDocument 8 = .ok (.iload_n 2, 1) := dk_28 (dk_at dksX4_linkDocument_0 8 rfl rfl)
theorem dX4_linkDocument_9 : decode cX4_linkDocument 9 = .ok (.invokevirtual 48, 3) := dk_182 0 48 (dk_at dksX4_linkDocument_0 9 rfl rfl)
theorem dX4_linkDocument_12 : decode cX4_linkDocument 12 = .ok (.ifCond .eq 15, 3) := dk_153 0 15 (dk_at dksX4_linkDocument_0 12 rfl rfl)
theorem dX4_linkDocument_15 : decode cX4_linkDocument 15 = .ok (.aload_n 0, 1) := dk_42 (dk_at dksX4_linkDocument_0 15 rfl rfl)
theorem dX4_linkDocument_16 : decode cX4_linkDocument 16 = .ok (.iload_n 3, 1) := dk_29 (dk_at dksX4_linkDocument_0 16 rfl rfl)
theorem dX4_linkDocument_17 : decode cX4_linkDocument 17 = .ok (.invokevirtual 48, 3) := dk_182 0 48 (dk_at dksX4_linkDocument_0 17 rfl rfl)
theorem dX4_linkDocument_20 : decode cX4_linkDocument 20 = .ok (.ifCond .eq 7, 3) := dk_153 0 7 (dk_at dksX4_linkDocument_0 20 rfl rfl)
theorem dX4_linkDocument_23 : decode cX4_linkDocument 23 = .ok (.iconst 1, 1) := dk_4 (dk_at dksX4_linkDocument_0 23 rfl rfl)
theorem dX4_linkDocument_24 : decode cX4_linkDocument 24 = .ok (.goto 4, 3) := dk_167 0 4 (dk_at dksX4_linkDocument_1 0 rfl rfl)
theorem dX4_linkDocument_27 : decode cX4_linkDocument 27 = .ok (.iconst 0, 1) := dk_3 (dk_at dksX4_linkDocument_1 3 rfl rfl)
theorem dX4_linkDocument_28 : decode cX4_linkDocument 28 = .ok (.istore 5, 2) := dk_54 5 (dk_at dksX4_linkDocument_1 4 rfl rfl)
theorem dX4_linkDocument_30 : decode cX4_linkDocument 30 = .ok (.aload_n 0, 1) := dk_42 (dk_at dksX4_linkDocument_1 6 rfl rfl)
theorem dX4_linkDocument_31 : decode cX4_linkDocument 31 = .ok (.iload 5, 2) := dk_21 5 (dk_at dksX4_linkDocument_1 7 rfl rfl)
theorem dX4_linkDocument_33 : decode cX4_linkDocument 33 = .ok (.iload 4, 2) := dk_21 4 (dk_at dksX4_linkDocument_1 9 rfl rfl)
theorem dX4_linkDocument_35 : decode cX4_linkDocument 35 = .ok (.iconst 1, 1) := dk_4 (dk_at dksX4_linkDocument_1 11 rfl rfl)
theorem dX4_linkDocument_36 : decode cX4_linkDocument 36 = .ok (.iconst 2, 1) := dk_5 (dk_at dksX4_linkDocument_1 12 rfl rfl)
theorem dX4_linkDocument_37 : decode cX4_linkDocument 37 = .ok (.invokestatic 44, 3) := dk_184 0 44 (dk_at dksX4_linkDocument_1 13 rfl rfl)
theorem dX4_linkDocument_40 : decode cX4_linkDocument 40 = .ok (.iload 5, 2) := dk_21 5 (dk_at dksX4_linkDocument_1 16 rfl rfl)
theorem dX4_linkDocument_42 : decode cX4_linkDocument 42 = .ok (.ifCond .eq 27, 3) := dk_153 0 27 (dk_at dksX4_linkDocument_1 18 rfl rfl)
theorem dX4_linkDocument_45 : decode cX4_linkDocument 45 = .ok (.aload_n 0, 1) := dk_42 (dk_at dksX4_linkDocument_1 21 rfl rfl)
theorem dX4_linkDocument_46 : decode cX4_linkDocument 46 = .ok (.iload_n 1, 1) := dk_27 (dk_at dksX4_linkDocument_1 22 rfl rfl)
theorem dX4_linkDocument_47 : decode cX4_linkDocument 47 = .ok (.iload_n 2, 1) := dk_28 (dk_at dksX4_linkDocument_1 23 rfl rfl)
theorem dX4_linkDocument_48 : decode cX4_linkDocument 48 = .ok (.invokevirtual 100, 3) := dk_182 0 100 (dk_at dksX4_linkDocument_2 0 rfl rfl)
theorem dX4_linkDocument_51 : decode cX4_linkDocument 51 = .ok (.ifCond .eq 18, 3) := dk_153 0 18 (dk_at dksX4_linkDocument_2 3 rfl rfl)
theorem dX4_linkDocument_54 : decode cX4_linkDocument 54 = .ok (.aload_n 0, 1) := dk_42 (dk_at dksX4_linkDocument_2 6 rfl rfl)
theorem dX4_linkDocument_55 : decode cX4_linkDocument 55 = .ok (.getfield 9, 3) := dk_180 0 9 (dk_at dksX4_linkDocument_2 7 rfl rfl)
theorem dX4_linkDocument_58 : decode cX4_linkDocument 58 = .ok (.iconst 4, 1) := dk_7 (dk_at dksX4_linkDocument_2 10 rfl rfl)
theorem dX4_linkDocument_59 : decode cX4_linkDocument 59 = .ok (.iaload, 1) := dk_46 (dk_at dksX4_linkDocument_2 11 rfl rfl)
theorem dX4_linkDocument_60 : decode cX4_linkDocument 60 = .ok (.bipush 24, 2) := dk_16 24 (dk_at dksX4_linkDocument_2 12 rfl rfl)
theorem dX4_linkDocument_62 : decode cX4_linkDocument 62 = .ok (.if_icmp .ge 7, 3) := dk_162 0 7 (dk_at dksX4_linkDocument_2 14 rfl rfl)
theorem dX4_linkDocument_65 : decode cX4_linkDocument 65 = .ok (.iconst 1, 1) := dk_4 (dk_at dksX4_linkDocument_2 17 rfl rfl)
theorem dX4_linkDocument_66 : decode cX4_linkDocument 66 = .ok (.goto 4, 3) := dk_167 0 4 (dk_at dksX4_linkDocument_2 18 rfl rfl)
theorem dX4_linkDocument_69 : decode cX4_linkDocument 69 = .ok (.iconst 0, 1) := dk_3 (dk_at dksX4_linkDocument_2 21 rfl rfl)
theorem dX4_linkDocument_70 : decode cX4_linkDocument 70 = .ok (.invokevirtual 29, 3) := dk_182 0 29 (dk_at dksX4_linkDocument_3 0 rfl rfl)
theorem dX4_linkDocument_73 : decode cX4_linkDocument 73 = .ok (.ifCond .ne 5, 3) := dk_154 0 5 (dk_at dksX4_linkDocument_3 3 rfl rfl)
theorem dX4_linkDocument_76 : decode cX4_linkDocument 76 = .ok (.iconst 0, 1) := dk_3 (dk_at dksX4_linkDocument_3 6 rfl rfl)
theorem dX4_linkDocument_77 : decode cX4_linkDocument 77 = .ok (.ireturn, 1) := dk_172 (dk_at dksX4_linkDocument_3 7 rfl rfl)
theorem dX4_linkDocument_78 : decode cX4_linkDocument 78 = .ok (.aload_n 0, 1) := dk_42 (dk_at dksX4_linkDocument_3 8 rfl rfl)
theorem dX4_linkDocument_79 : decode cX4_linkDocument 79 = .ok (.bipush 14, 2) := dk_16 14 (dk_at dksX4_linkDocument_3 9 rfl rfl)
theorem dX4_linkDocument_81 : decode cX4_linkDocument 81 = .ok (.iload_n 1, 1) := dk_27 (dk_at dksX4_linkDocument_3 11 rfl rfl)
theorem dX4_linkDocument_82 : decode cX4_linkDocument 82 = .ok (.iload_n 2, 1) := dk_28 (dk_at dksX4_linkDocument_3 12 rfl rfl)
theorem dX4_linkDocument_83 : decode cX4_linkDocument 83 = .ok (.iload_n 3, 1) := dk_29 (dk_at dksX4_linkDocument_3 13 rfl rfl)
theorem dX4_linkDocument_84 : decode cX4_linkDocument 84 = .ok (.iload 4, 2) := dk_21 4 (dk_at dksX4_linkDocument_3 14 rfl rfl)
theorem dX4_linkDocument_86 : decode cX4_linkDocument 86 = .ok (.iconst 0, 1) := dk_3 (dk_at dksX4_linkDocument_3 16 rfl rfl)
theorem dX4_linkDocument_87 : decode cX4_linkDocument 87 = .ok (.invokevirtual 80, 3) := dk_182 0 80 (dk_at dksX4_linkDocument_3 17 rfl rfl)
theorem dX4_linkDocument_90 : decode cX4_linkDocument 90 = .ok (.aload_n 0, 1) := dk_42 (dk_at dksX4_linkDocument_3 20 rfl rfl)
theorem dX4_linkDocument_91 : decode cX4_linkDocument 91 = .ok (.iload_n 2, 1) := dk_28 (dk_at dksX4_linkDocument_3 21 rfl rfl)
theorem dX4_linkDocument_92 : decode cX4_linkDocument 92 = .ok (.iload 4, 2) := dk_21 4 (dk_at dksX4_linkDocument_3 22 rfl rfl)
theorem dX4_linkDocument_94 : decode cX4_linkDocument 94 = .ok (.iload_n 3, 1) := dk_29 (dk_at dksX4_linkDocument_4 0 rfl rfl)
theorem dX4_linkDocument_95 : decode cX4_linkDocument 95 = .ok (.invokevirtual 128, 3) := dk_182 0 128 (dk_at dksX4_linkDocument_4 1 rfl rfl)
theorem dX4_linkDocument_98 : decode cX4_linkDocument 98 = .ok (.ireturn, 1) := dk_172 (dk_at dksX4_linkDocument_4 4 rfl rfl)
abbrev cX4_unlink : ByteArray := prog_38_method_48_code
def yX4_unlink : MethodName := ⟨RX4, "unlink", "(II)I"⟩
def dkwX4_unlink_6 : List UInt8 := [3, 182, 0, 80, 21, 4, 172]
abbrev dktX4_unlink_6 : List UInt8 := dkwX4_unlink_6 ++ []
def dkwX4_unlink_5 : List UInt8 := [79, 132, 5, 1, 167, 255, 218, 42, 180, 0, 9, 7, 92, 46, 4, 100, 79, 42, 16, 15, 27, 28, 3, 3]
abbrev dktX4_unlink_5 : List UInt8 := dkwX4_unlink_5 ++ dktX4_unlink_6
def dkwX4_unlink_4 : List UInt8 := [7, 46, 4, 100, 104, 96, 162, 0, 25, 42, 180, 0, 9, 21, 5, 42, 180, 0, 9, 21, 5, 6, 96, 46]
abbrev dktX4_unlink_4 : List UInt8 := dkwX4_unlink_4 ++ dktX4_unlink_5
def dkwX4_unlink_3 : List UInt8 := [154, 0, 5, 3, 172, 17, 3, 33, 6, 28, 104, 96, 54, 5, 21, 5, 17, 3, 33, 6, 42, 180, 0, 9]
abbrev dktX4_unlink_3 : List UInt8 := dkwX4_unlink_3 ++ dktX4_unlink_4
def dkwX4_unlink_2 : List UInt8 := [29, 29, 153, 0, 17, 42, 27, 21, 4, 182, 0, 100, 153, 0, 7, 4, 167, 0, 4, 3, 182, 0, 77]
abbrev dktX4_unlink_2 : List UInt8 := dkwX4_unlink_2 ++ dktX4_unlink_3
def dkwX4_unlink_1 : List UInt8 := [153, 0, 20, 42, 180, 0, 9, 17, 3, 33, 6, 28, 104, 96, 3, 96, 46, 167, 0, 4, 3, 54, 4, 42]
abbrev dktX4_unlink_1 : List UInt8 := dkwX4_unlink_1 ++ dktX4_unlink_2
def dkwX4_unlink_0 : List UInt8 := [27, 184, 0, 87, 153, 0, 15, 42, 28, 182, 0, 132, 153, 0, 7, 4, 167, 0, 4, 3, 62, 29]
abbrev dktX4_unlink_0 : List UInt8 := dkwX4_unlink_0 ++ dktX4_unlink_1
theorem dksX4_unlink_0 : cX4_unlink.data.toList.drop 0 = dktX4_unlink_0 := by decide +kernel
theorem dksX4_unlink_1 : cX4_unlink.data.toList.drop 22 = dktX4_unlink_1 := dk_seg dksX4_unlink_0 22 rfl rfl
theorem dksX4_unlink_2 : cX4_unlink.data.toList.drop 46 = dktX4_unlink_2 := dk_seg dksX4_unlink_1 24 rfl rfl
theorem dksX4_unlink_3 : cX4_unlink.data.toList.drop 69 = dktX4_unlink_3 := dk_seg dksX4_unlink_2 23 rfl rfl
theorem dksX4_unlink_4 : cX4_unlink.data.toList.drop 93 = dktX4_unlink_4 := dk_seg dksX4_unlink_3 24 rfl rfl
theorem dksX4_unlink_5 : cX4_unlink.data.toList.drop 117 = dktX4_unlink_5 := dk_seg dksX4_unlink_4 24 rfl rfl
theorem dksX4_unlink_6 : cX4_unlink.data.toList.drop 141 = dktX4_unlink_6 := dk_seg dksX4_unlink_5 24 rfl rfl
theorem dX4_unlink_0 : decode cX4_unlink 0 = .ok (.iload_n 1, 1) := dk_27 (dk_at dksX4_unlink_0 0 rfl rfl)
theorem dX4_unlink_1 : decode cX4_unlink 1 = .ok (.invokestatic 87, 3) := dk_184 0 87 (dk_at dksX4_unlink_0 1 rfl rfl)
theorem dX4_unlink_4 : decode cX4_unlink 4 = .ok (.ifCond .eq 15, 3) := dk_153 0 15 (dk_at dksX4_unlink_0 4 rfl rfl)
theorem dX4_unlink_7 : decode cX4_unlink 7 = .ok (.aload_n 0, 1) := dk_42 (dk_at dksX4_unlink_0 7 rfl rfl)
theorem dX4_unlink_8 : decode cX4_unlink 8 = .ok (.iload_n 2, 1) := dk_28 (dk_at dksX4_unlink_0 8 rfl rfl)
theorem dX4_unlink_9 : decode cX4_unlink 9 = .ok (.invokevirtual 132, 3) := dk_182 0 132 (dk_at dksX4_unlink_0 9 rfl rfl)
theorem dX4_unlink_12 : decode cX4_unlink 12 = .ok (.ifCond .eq 7, 3) := dk_153 0 7 (dk_at dksX4_unlink_0 12 rfl rfl)
theorem dX4_unlink_15 : decode cX4_unlink 15 = .ok (.iconst 1, 1) := dk_4 (dk_at dksX4_unlink_0 15 rfl rfl)
theorem dX4_unlink_16 : decode cX4_unlink 16 = .ok (.goto 4, 3) := dk_167 0 4 (dk_at dksX4_unlink_0 16 rfl rfl)
theorem dX4_unlink_19 : decode cX4_unlink 19 = .ok (.iconst 0, 1) := dk_3 (dk_at dksX4_unlink_0 19 rfl rfl)
theorem dX4_unlink_20 : decode cX4_unlink 20 = .ok (.istore_n 3, 1) := dk_62 (dk_at dksX4_unlink_0 20 rfl rfl)
theorem dX4_unlink_21 : decode cX4_unlink 21 = .ok (.iload_n 3, 1) := dk_29 (dk_at dksX4_unlink_0 21 rfl rfl)
theorem dX4_unlink_22 : decode cX4_unlink 22 = .ok (.ifCond .eq 20, 3) := dk_153 0 20 (dk_at dksX4_unlink_1 0 rfl rfl)
theorem dX4_unlink_25 : decode cX4_unlink 25 = .ok (.aload_n 0, 1) := dk_42 (dk_at dksX4_unlink_1 3 rfl rfl)
theorem dX4_unlink_26 : decode cX4_unlink 26 = .ok (.getfield 9, 3) := dk_180 0 9 (dk_at dksX4_unlink_1 4 rfl rfl)
theorem dX4_unlink_29 : decode cX4_unlink 29 = .ok (.sipush 801, 3) := dk_17 3 33 (dk_at dksX4_unlink_1 7 rfl rfl)
theorem dX4_unlink_32 : decode cX4_unlink 32 = .ok (.iconst 3, 1) := dk_6 (dk_at dksX4_unlink_1 10 rfl rfl)
theorem dX4_unlink_33 : decode cX4_unlink 33 = .ok (.iload_n 2, 1) := dk_28 (dk_at dksX4_unlink_1 11 rfl rfl)
theorem dX4_unlink_34 : decode cX4_unlink 34 = .ok (.imul, 1) := dk_104 (dk_at dksX4_unlink_1 12 rfl rfl)
theorem dX4_unlink_35 : decode cX4_unlink 35 = .ok (.iadd, 1) := dk_96 (dk_at dksX4_unlink_1 13 rfl rfl)
theorem dX4_unlink_36 : decode cX4_unlink 36 = .ok (.iconst 0, 1) := dk_3 (dk_at dksX4_unlink_1 14 rfl rfl)
theorem dX4_unlink_37 : decode cX4_unlink 37 = .ok (.iadd, 1) := dk_96 (dk_at dksX4_unlink_1 15 rfl rfl)
theorem dX4_unlink_38 : decode cX4_unlink 38 = .ok (.iaload, 1) := dk_46 (dk_at dksX4_unlink_1 16 rfl rfl)
theorem dX4_unlink_39 : decode cX4_unlink 39 = .ok (.goto 4, 3) := dk_167 0 4 (dk_at dksX4_unlink_1 17 rfl rfl)
theorem dX4_unlink_42 : decode cX4_unlink 42 = .ok (.iconst 0, 1) := dk_3 (dk_at dksX4_unlink_1 20 rfl rfl)
theorem dX4_unlink_43 : decode cX4_unlink 43 = .ok (.istore 4, 2) := dk_54 4 (dk_at dksX4_unlink_1 21 rfl rfl)
theorem dX4_unlink_45 : decode cX4_unlink 45 = .ok (.aload_n 0, 1) := dk_42 (dk_at dksX4_unlink_1 23 rfl rfl)
theorem dX4_unlink_46 : decode cX4_unlink 46 = .ok (.iload_n 3, 1) := dk_29 (dk_at dksX4_unlink_2 0 rfl rfl)
theorem dX4_unlink_47 : decode cX4_unlink 47 = .ok (.iload_n 3, 1) := dk_29 (dk_at dksX4_unlink_2 1 rfl rfl)
theorem dX4_unlink_48 : decode cX4_unlink 48 = .ok (.ifCond .eq 17, 3) := dk_153 0 17 (dk_at dksX4_unlink_2 2 rfl rfl)
theorem dX4_unlink_51 : decode cX4_unlink 51 = .ok (.aload_n 0, 1) := dk_42 (dk_at dksX4_unlink_2 5 rfl rfl)
theorem dX4_unlink_52 : decode cX4_unlink 52 = .ok (.iload_n 1, 1) := dk_27 (dk_at dksX4_unlink_2 6 rfl rfl)
theorem dX4_unlink_53 : decode cX4_unlink 53 = .ok (.iload 4, 2) := dk_21 4 (dk_at dksX4_unlink_2 7 rfl rfl)
theorem dX4_unlink_55 : decode cX4_unlink 55 = .ok (.invokevirtual 100, 3) := dk_182 0 100 (dk_at dksX4_unlink_2 9 rfl rfl)
theorem dX4_unlink_58 : decode cX4_unlink 58 = .ok (.ifCond .eq 7, 3) := dk_153 0 7 (dk_at dksX4_unlink_2 12 rfl rfl)
theorem dX4_unlink_61 : decode cX4_unlink 61 = .ok (.iconst 1, 1) := dk_4 (dk_at dksX4_unlink_2 15 rfl rfl)
theorem dX4_unlink_62 : decode cX4_unlink 62 = .ok (.goto 4, 3) := dk_167 0 4 (dk_at dksX4_unlink_2 16 rfl rfl)
theorem dX4_unlink_65 : decode cX4_unlink 65 = .ok (.iconst 0, 1) := dk_3 (dk_at dksX4_unlink_2 19 rfl rfl)
theorem dX4_unlink_66 : decode cX4_unlink 66 = .ok (.invokevirtual 77, 3) := dk_182 0 77 (dk_at dksX4_unlink_2 20 rfl rfl)
theorem dX4_unlink_69 : decode cX4_unlink 69 = .ok (.ifCond .ne 5, 3) := dk_154 0 5 (dk_at dksX4_unlink_3 0 rfl rfl)
theorem dX4_unlink_72 : decode cX4_unlink 72 = .ok (.iconst 0, 1) := dk_3 (dk_at dksX4_unlink_3 3 rfl rfl)
theorem dX4_unlink_73 : decode cX4_unlink 73 = .ok (.ireturn, 1) := dk_172 (dk_at dksX4_unlink_3 4 rfl rfl)
theorem dX4_unlink_74 : decode cX4_unlink 74 = .ok (.sipush 801, 3) := dk_17 3 33 (dk_at dksX4_unlink_3 5 rfl rfl)
theorem dX4_unlink_77 : decode cX4_unlink 77 = .ok (.iconst 3, 1) := dk_6 (dk_at dksX4_unlink_3 8 rfl rfl)
theorem dX4_unlink_78 : decode cX4_unlink 78 = .ok (.iload_n 2, 1) := dk_28 (dk_at dksX4_unlink_3 9 rfl rfl)
theorem dX4_unlink_79 : decode cX4_unlink 79 = .ok (.imul, 1) := dk_104 (dk_at dksX4_unlink_3 10 rfl rfl)
theorem dX4_unlink_80 : decode cX4_unlink 80 = .ok (.iadd, 1) := dk_96 (dk_at dksX4_unlink_3 11 rfl rfl)
theorem dX4_unlink_81 : decode cX4_unlink 81 = .ok (.istore 5, 2) := dk_54 5 (dk_at dksX4_unlink_3 12 rfl rfl)
theorem dX4_unlink_83 : decode cX4_unlink 83 = .ok (.iload 5, 2) := dk_21 5 (dk_at dksX4_unlink_3 14 rfl rfl)
theorem dX4_unlink_85 : decode cX4_unlink 85 = .ok (.sipush 801, 3) := dk_17 3 33 (dk_at dksX4_unlink_3 16 rfl rfl)
theorem dX4_unlink_88 : decode cX4_unlink 88 = .ok (.iconst 3, 1) := dk_6 (dk_at dksX4_unlink_3 19 rfl rfl)
theorem dX4_unlink_89 : decode cX4_unlink 89 = .ok (.aload_n 0, 1) := dk_42 (dk_at dksX4_unlink_3 20 rfl rfl)
theorem dX4_unlink_90 : decode cX4_unlink 90 = .ok (.getfield 9, 3) := dk_180 0 9 (dk_at dksX4_unlink_3 21 rfl rfl)
theorem dX4_unlink_93 : decode cX4_unlink 93 = .ok (.iconst 4, 1) := dk_7 (dk_at dksX4_unlink_4 0 rfl rfl)
theorem dX4_unlink_94 : decode cX4_unlink 94 = .ok (.iaload, 1) := dk_46 (dk_at dksX4_unlink_4 1 rfl rfl)
theorem dX4_unlink_95 : decode cX4_unlink 95 = .ok (.iconst 1, 1) := dk_4 (dk_at dksX4_unlink_4 2 rfl rfl)
theorem dX4_unlink_96 : decode cX4_unlink 96 = .ok (.isub, 1) := dk_100 (dk_at dksX4_unlink_4 3 rfl rfl)
theorem dX4_unlink_97 : decode cX4_unlink 97 = .ok (.imul, 1) := dk_104 (dk_at dksX4_unlink_4 4 rfl rfl)
theorem dX4_unlink_98 : decode cX4_unlink 98 = .ok (.iadd, 1) := dk_96 (dk_at dksX4_unlink_4 5 rfl rfl)
theorem dX4_unlink_99 : decode cX4_unlink 99 = .ok (.if_icmp .ge 25, 3) := dk_162 0 25 (dk_at dksX4_unlink_4 6 rfl rfl)
theorem dX4_unlink_102 : decode cX4_unlink 102 = .ok (.aload_n 0, 1) := dk_42 (dk_at dksX4_unlink_4 9 rfl rfl)
theorem dX4_unlink_103 : decode cX4_unlink 103 = .ok (.getfield 9, 3) := dk_180 0 9 (dk_at dksX4_unlink_4 10 rfl rfl)
theorem dX4_unlink_106 : decode cX4_unlink 106 = .ok (.iload 5, 2) := dk_21 5 (dk_at dksX4_unlink_4 13 rfl rfl)
theorem dX4_unlink_108 : decode cX4_unlink 108 = .ok (.aload_n 0, 1) := dk_42 (dk_at dksX4_unlink_4 15 rfl rfl)
theorem dX4_unlink_109 : decode cX4_unlink 109 = .ok (.getfield 9, 3) := dk_180 0 9 (dk_at dksX4_unlink_4 16 rfl rfl)
theorem dX4_unlink_112 : decode cX4_unlink 112 = .ok (.iload 5, 2) := dk_21 5 (dk_at dksX4_unlink_4 19 rfl rfl)
theorem dX4_unlink_114 : decode cX4_unlink 114 = .ok (.iconst 3, 1) := dk_6 (dk_at dksX4_unlink_4 21 rfl rfl)
theorem dX4_unlink_115 : decode cX4_unlink 115 = .ok (.iadd, 1) := dk_96 (dk_at dksX4_unlink_4 22 rfl rfl)
theorem dX4_unlink_116 : decode cX4_unlink 116 = .ok (.iaload, 1) := dk_46 (dk_at dksX4_unlink_4 23 rfl rfl)
theorem dX4_unlink_117 : decode cX4_unlink 117 = .ok (.iastore, 1) := dk_79 (dk_at dksX4_unlink_5 0 rfl rfl)
theorem dX4_unlink_118 : decode cX4_unlink 118 = .ok (.iinc 5 1, 3) := dk_132 5 1 (dk_at dksX4_unlink_5 1 rfl rfl)
theorem dX4_unlink_121 : decode cX4_unlink 121 = .ok (.goto (-38), 3) := dk_167 255 218 (dk_at dksX4_unlink_5 4 rfl rfl)
theorem dX4_unlink_124 : decode cX4_unlink 124 = .ok (.aload_n 0, 1) := dk_42 (dk_at dksX4_unlink_5 7 rfl rfl)
theorem dX4_unlink_125 : decode cX4_unlink 125 = .ok (.getfield 9, 3) := dk_180 0 9 (dk_at dksX4_unlink_5 8 rfl rfl)
theorem dX4_unlink_128 : decode cX4_unlink 128 = .ok (.iconst 4, 1) := dk_7 (dk_at dksX4_unlink_5 11 rfl rfl)
theorem dX4_unlink_129 : decode cX4_unlink 129 = .ok (.dup2, 1) := dk_92 (dk_at dksX4_unlink_5 12 rfl rfl)
theorem dX4_unlink_130 : decode cX4_unlink 130 = .ok (.iaload, 1) := dk_46 (dk_at dksX4_unlink_5 13 rfl rfl)
theorem dX4_unlink_131 : decode cX4_unlink 131 = .ok (.iconst 1, 1) := dk_4 (dk_at dksX4_unlink_5 14 rfl rfl)
theorem dX4_unlink_132 : decode cX4_unlink 132 = .ok (.isub, 1) := dk_100 (dk_at dksX4_unlink_5 15 rfl rfl)
theorem dX4_unlink_133 : decode cX4_unlink 133 = .ok (.iastore, 1) := dk_79 (dk_at dksX4_unlink_5 16 rfl rfl)
theorem dX4_unlink_134 : decode cX4_unlink 134 = .ok (.aload_n 0, 1) := dk_42 (dk_at dksX4_unlink_5 17 rfl rfl)
theorem dX4_unlink_135 : decode cX4_unlink 135 = .ok (.bipush 15, 2) := dk_16 15 (dk_at dksX4_unlink_5 18 rfl rfl)
theorem dX4_unlink_137 : decode cX4_unlink 137 = .ok (.iload_n 1, 1) := dk_27 (dk_at dksX4_unlink_5 20 rfl rfl)
theorem dX4_unlink_138 : decode cX4_unlink 138 = .ok (.iload_n 2, 1) := dk_28 (dk_at dksX4_unlink_5 21 rfl rfl)
theorem dX4_unlink_139 : decode cX4_unlink 139 = .ok (.iconst 0, 1) := dk_3 (dk_at dksX4_unlink_5 22 rfl rfl)
theorem dX4_unlink_140 : decode cX4_unlink 140 = .ok (.iconst 0, 1) := dk_3 (dk_at dksX4_unlink_5 23 rfl rfl)
theorem dX4_unlink_141 : decode cX4_unlink 141 = .ok (.iconst 0, 1) := dk_3 (dk_at dksX4_unlink_6 0 rfl rfl)
theorem dX4_unlink_142 : decode cX4_unlink 142 = .ok (.invokevirtual 80, 3) := dk_182 0 80 (dk_at dksX4_unlink_6 1 rfl rfl)
theorem dX4_unlink_145 : decode cX4_unlink 145 = .ok (.iload 4, 2) := dk_21 4 (dk_at dksX4_unlink_6 4 rfl rfl)
theorem dX4_unlink_147 : decode cX4_unlink 147 = .ok (.ireturn, 1) := dk_172 (dk_at dksX4_unlink_6 6 rfl rfl)
abbrev cX4_isLink : ByteArray := prog_38_method_17_code
def yX4_isLink : MethodName := ⟨RX4, "isLink", "(I)Z"⟩
def dkwX4_isLink_0 : List UInt8 := [27, 3, 42, 180, 0, 9, 7, 46, 4, 100, 184, 0, 44, 172]
abbrev dktX4_isLink_0 : List UInt8 := dkwX4_isLink_0 ++ []
theorem dksX4_isLink_0 : cX4_isLink.data.toList.drop 0 = dktX4_isLink_0 := by decide +kernel
theorem dX4_isLink_0 : decode cX4_isLink 0 = .ok (.iload_n 1, 1) := dk_27 (dk_at dksX4_isLink_0 0 rfl rfl)
theorem dX4_isLink_1 : decode cX4_isLink 1 = .ok (.iconst 0, 1) := dk_3 (dk_at dksX4_isLink_0 1 rfl rfl)
theorem dX4_isLink_2 : decode cX4_isLink 2 = .ok (.aload_n 0, 1) := dk_42 (dk_at dksX4_isLink_0 2 rfl rfl)
theorem dX4_isLink_3 : decode cX4_isLink 3 = .ok (.getfield 9, 3) := dk_180 0 9 (dk_at dksX4_isLink_0 3 rfl rfl)
theorem dX4_isLink_6 : decode cX4_isLink 6 = .ok (.iconst 4, 1) := dk_7 (dk_at dksX4_isLink_0 6 rfl rfl)
theorem dX4_isLink_7 : decode cX4_isLink 7 = .ok (.iaload, 1) := dk_46 (dk_at dksX4_isLink_0 7 rfl rfl)
theorem dX4_isLink_8 : decode cX4_isLink 8 = .ok (.iconst 1, 1) := dk_4 (dk_at dksX4_isLink_0 8 rfl rfl)
theorem dX4_isLink_9 : decode cX4_isLink 9 = .ok (.isub, 1) := dk_100 (dk_at dksX4_isLink_0 9 rfl rfl)
theorem dX4_isLink_10 : decode cX4_isLink 10 = .ok (.invokestatic 44, 3) := dk_184 0 44 (dk_at dksX4_isLink_0 10 rfl rfl)
theorem dX4_isLink_13 : decode cX4_isLink 13 = .ok (.ireturn, 1) := dk_172 (dk_at dksX4_isLink_0 13 rfl rfl)
abbrev cX4_clock : ByteArray := prog_38_method_49_code
def yX4_clock : MethodName := ⟨RX4, "clock", "()I"⟩
def dkwX4_clock_0 : List UInt8 := [42, 3, 181, 0, 25, 42, 180, 0, 9, 3, 46, 172]
abbrev dktX4_clock_0 : List UInt8 := dkwX4_clock_0 ++ []
theorem dksX4_clock_0 : cX4_clock.data.toList.drop 0 = dktX4_clock_0 := by decide +kernel
theorem dX4_clock_0 : decode cX4_clock 0 = .ok (.aload_n 0, 1) := dk_42 (dk_at dksX4_clock_0 0 rfl rfl)
theorem dX4_clock_1 : decode cX4_clock 1 = .ok (.iconst 0, 1) := dk_3 (dk_at dksX4_clock_0 1 rfl rfl)
theorem dX4_clock_2 : decode cX4_clock 2 = .ok (.putfield 25, 3) := dk_181 0 25 (dk_at dksX4_clock_0 2 rfl rfl)
theorem dX4_clock_5 : decode cX4_clock 5 = .ok (.aload_n 0, 1) := dk_42 (dk_at dksX4_clock_0 5 rfl rfl)
theorem dX4_clock_6 : decode cX4_clock 6 = .ok (.getfield 9, 3) := dk_180 0 9 (dk_at dksX4_clock_0 6 rfl rfl)
theorem dX4_clock_9 : decode cX4_clock 9 = .ok (.iconst 0, 1) := dk_3 (dk_at dksX4_clock_0 9 rfl rfl)
theorem dX4_clock_10 : decode cX4_clock 10 = .ok (.iaload, 1) := dk_46 (dk_at dksX4_clock_0 10 rfl rfl)
theorem dX4_clock_11 : decode cX4_clock 11 = .ok (.ireturn, 1) := dk_172 (dk_at dksX4_clock_0 11 rfl rfl)
abbrev cX4_versions : ByteArray := prog_38_method_50_code
def yX4_versions : MethodName := ⟨RX4, "versions", "()I"⟩
def dkwX4_versions_0 : List UInt8 := [42, 3, 181, 0, 25, 42, 180, 0, 9, 6, 46, 172]
abbrev dktX4_versions_0 : List UInt8 := dkwX4_versions_0 ++ []
theorem dksX4_versions_0 : cX4_versions.data.toList.drop 0 = dktX4_versions_0 := by decide +kernel
theorem dX4_versions_0 : decode cX4_versions 0 = .ok (.aload_n 0, 1) := dk_42 (dk_at dksX4_versions_0 0 rfl rfl)
theorem dX4_versions_1 : decode cX4_versions 1 = .ok (.iconst 0, 1) := dk_3 (dk_at dksX4_versions_0 1 rfl rfl)
theorem dX4_versions_2 : decode cX4_versions 2 = .ok (.putfield 25, 3) := dk_181 0 25 (dk_at dksX4_versions_0 2 rfl rfl)
theorem dX4_versions_5 : decode cX4_versions 5 = .ok (.aload_n 0, 1) := dk_42 (dk_at dksX4_versions_0 5 rfl rfl)
theorem dX4_versions_6 : decode cX4_versions 6 = .ok (.getfield 9, 3) := dk_180 0 9 (dk_at dksX4_versions_0 6 rfl rfl)
theorem dX4_versions_9 : decode cX4_versions 9 = .ok (.iconst 3, 1) := dk_6 (dk_at dksX4_versions_0 9 rfl rfl)
theorem dX4_versions_10 : decode cX4_versions 10 = .ok (.iaload, 1) := dk_46 (dk_at dksX4_versions_0 10 rfl rfl)
theorem dX4_versions_11 : decode cX4_versions 11 = .ok (.ireturn, 1) := dk_172 (dk_at dksX4_versions_0 11 rfl rfl)
abbrev cX4_branches : ByteArray := prog_38_method_51_code
def yX4_branches : MethodName := ⟨RX4, "branches", "(I)I"⟩
def dkwX4_branches_1 : List UInt8 := [167, 0, 4, 3, 172]
abbrev dktX4_branches_1 : List UInt8 := dkwX4_branches_1 ++ []
def dkwX4_branches_0 : List UInt8 := [42, 42, 27, 182, 0, 48, 182, 0, 84, 153, 0, 17, 42, 180, 0, 9, 27, 184, 0, 40, 4, 96, 46]
abbrev dktX4_branches_0 : List UInt8 := dkwX4_branches_0 ++ dktX4_branches_1
theorem dksX4_branches_0 : cX4_branches.data.toList.drop 0 = dktX4_branches_0 := by decide +kernel
theorem dksX4_branches_1 : cX4_branches.data.toList.drop 23 = dktX4_branches_1 := dk_seg dksX4_branches_0 23 rfl rfl
theorem dX4_branches_0 : decode cX4_branches 0 = .ok (.aload_n 0, 1) := dk_42 (dk_at dksX4_branches_0 0 rfl rfl)
theorem dX4_branches_1 : decode cX4_branches 1 = .ok (.aload_n 0, 1) := dk_42 (dk_at dksX4_branches_0 1 rfl rfl)
theorem dX4_branches_2 : decode cX4_branches 2 = .ok (.iload_n 1, 1) := dk_27 (dk_at dksX4_branches_0 2 rfl rfl)
theorem dX4_branches_3 : decode cX4_branches 3 = .ok (.invokevirtual 48, 3) := dk_182 0 48 (dk_at dksX4_branches_0 3 rfl rfl)
theorem dX4_branches_6 : decode cX4_branches 6 = .ok (.invokevirtual 84, 3) := dk_182 0 84 (dk_at dksX4_branches_0 6 rfl rfl)
theorem dX4_branches_9 : decode cX4_branches 9 = .ok (.ifCond .eq 17, 3) := dk_153 0 17 (dk_at dksX4_branches_0 9 rfl rfl)
theorem dX4_branches_12 : decode cX4_branches 12 = .ok (.aload_n 0, 1) := dk_42 (dk_at dksX4_branches_0 12 rfl rfl)
theorem dX4_branches_13 : decode cX4_branches 13 = .ok (.getfield 9, 3) := dk_180 0 9 (dk_at dksX4_branches_0 13 rfl rfl)
theorem dX4_branches_16 : decode cX4_branches 16 = .ok (.iload_n 1, 1) := dk_27 (dk_at dksX4_branches_0 16 rfl rfl)
theorem dX4_branches_17 : decode cX4_branches 17 = .ok (.invokestatic 40, 3) := dk_184 0 40 (dk_at dksX4_branches_0 17 rfl rfl)
theorem dX4_branches_20 : decode cX4_branches 20 = .ok (.iconst 1, 1) := dk_4 (dk_at dksX4_branches_0 20 rfl rfl)
theorem dX4_branches_21 : decode cX4_branches 21 = .ok (.iadd, 1) := dk_96 (dk_at dksX4_branches_0 21 rfl rfl)
theorem dX4_branches_22 : decode cX4_branches 22 = .ok (.iaload, 1) := dk_46 (dk_at dksX4_branches_0 22 rfl rfl)
theorem dX4_branches_23 : decode cX4_branches 23 = .ok (.goto 4, 3) := dk_167 0 4 (dk_at dksX4_branches_1 0 rfl rfl)
theorem dX4_branches_26 : decode cX4_branches 26 = .ok (.iconst 0, 1) := dk_3 (dk_at dksX4_branches_1 3 rfl rfl)
theorem dX4_branches_27 : decode cX4_branches 27 = .ok (.ireturn, 1) := dk_172 (dk_at dksX4_branches_1 4 rfl rfl)
abbrev cX4_rightOf : ByteArray := prog_38_method_52_code
def yX4_rightOf : MethodName := ⟨RX4, "rightOf", "(II)I"⟩
def dkwX4_rightOf_1 : List UInt8 := [153, 0, 12, 42, 27, 28, 182, 0, 55, 167, 0, 4, 3, 172]
abbrev dktX4_rightOf_1 : List UInt8 := dkwX4_rightOf_1 ++ []
def dkwX4_rightOf_0 : List UInt8 := [42, 27, 184, 0, 87, 153, 0, 15, 42, 28, 182, 0, 48, 153, 0, 7, 4, 167, 0, 4, 3, 182, 0, 84]
abbrev dktX4_rightOf_0 : List UInt8 := dkwX4_rightOf_0 ++ dktX4_rightOf_1
theorem dksX4_rightOf_0 : cX4_rightOf.data.toList.drop 0 = dktX4_rightOf_0 := by decide +kernel
theorem dksX4_rightOf_1 : cX4_rightOf.data.toList.drop 24 = dktX4_rightOf_1 := dk_seg dksX4_rightOf_0 24 rfl rfl
theorem dX4_rightOf_0 : decode cX4_rightOf 0 = .ok (.aload_n 0, 1) := dk_42 (dk_at dksX4_rightOf_0 0 rfl rfl)
theorem dX4_rightOf_1 : decode cX4_rightOf 1 = .ok (.iload_n 1, 1) := dk_27 (dk_at dksX4_rightOf_0 1 rfl rfl)
theorem dX4_rightOf_2 : decode cX4_rightOf 2 = .ok (.invokestatic 87, 3) := dk_184 0 87 (dk_at dksX4_rightOf_0 2 rfl rfl)
theorem dX4_rightOf_5 : decode cX4_rightOf 5 = .ok (.ifCond .eq 15, 3) := dk_153 0 15 (dk_at dksX4_rightOf_0 5 rfl rfl)
theorem dX4_rightOf_8 : decode cX4_rightOf 8 = .ok (.aload_n 0, 1) := dk_42 (dk_at dksX4_rightOf_0 8 rfl rfl)
theorem dX4_rightOf_9 : decode cX4_rightOf 9 = .ok (.iload_n 2, 1) := dk_28 (dk_at dksX4_rightOf_0 9 rfl rfl)
theorem dX4_rightOf_10 : decode cX4_rightOf 10 = .ok (.invokevirtual 48, 3) := dk_182 0 48 (dk_at dksX4_rightOf_0 10 rfl rfl)
theorem dX4_rightOf_13 : decode cX4_rightOf 13 = .ok (.ifCond .eq 7, 3) := dk_153 0 7 (dk_at dksX4_rightOf_0 13 rfl rfl)
theorem dX4_rightOf_16 : decode cX4_rightOf 16 = .ok (.iconst 1, 1) := dk_4 (dk_at dksX4_rightOf_0 16 rfl rfl)
theorem dX4_rightOf_17 : decode cX4_rightOf 17 = .ok (.goto 4, 3) := dk_167 0 4 (dk_at dksX4_rightOf_0 17 rfl rfl)
theorem dX4_rightOf_20 : decode cX4_rightOf 20 = .ok (.iconst 0, 1) := dk_3 (dk_at dksX4_rightOf_0 20 rfl rfl)
theorem dX4_rightOf_21 : decode cX4_rightOf 21 = .ok (.invokevirtual 84, 3) := dk_182 0 84 (dk_at dksX4_rightOf_0 21 rfl rfl)
theorem dX4_rightOf_24 : decode cX4_rightOf 24 = .ok (.ifCond .eq 12, 3) := dk_153 0 12 (dk_at dksX4_rightOf_1 0 rfl rfl)
theorem dX4_rightOf_27 : decode cX4_rightOf 27 = .ok (.aload_n 0, 1) := dk_42 (dk_at dksX4_rightOf_1 3 rfl rfl)
theorem dX4_rightOf_28 : decode cX4_rightOf 28 = .ok (.iload_n 1, 1) := dk_27 (dk_at dksX4_rightOf_1 4 rfl rfl)
theorem dX4_rightOf_29 : decode cX4_rightOf 29 = .ok (.iload_n 2, 1) := dk_28 (dk_at dksX4_rightOf_1 5 rfl rfl)
theorem dX4_rightOf_30 : decode cX4_rightOf 30 = .ok (.invokevirtual 55, 3) := dk_182 0 55 (dk_at dksX4_rightOf_1 6 rfl rfl)
theorem dX4_rightOf_33 : decode cX4_rightOf 33 = .ok (.goto 4, 3) := dk_167 0 4 (dk_at dksX4_rightOf_1 9 rfl rfl)
theorem dX4_rightOf_36 : decode cX4_rightOf 36 = .ok (.iconst 0, 1) := dk_3 (dk_at dksX4_rightOf_1 12 rfl rfl)
theorem dX4_rightOf_37 : decode cX4_rightOf 37 = .ok (.ireturn, 1) := dk_172 (dk_at dksX4_rightOf_1 13 rfl rfl)
abbrev cX4_numberOf : ByteArray := prog_38_method_53_code
def yX4_numberOf : MethodName := ⟨RX4, "numberOf", "(I)I"⟩
def dkwX4_numberOf_2 : List UInt8 := [180, 0, 9, 28, 5, 96, 46, 104, 96, 42, 180, 0, 9, 28, 6, 96, 46, 96, 172]
abbrev dktX4_numberOf_2 : List UInt8 := dkwX4_numberOf_2 ++ []
def dkwX4_numberOf_1 : List UInt8 := [180, 0, 9, 28, 3, 96, 46, 104, 18, 136, 42, 180, 0, 9, 28, 4, 96, 46, 104, 96, 16, 100, 42]
abbrev dktX4_numberOf_1 : List UInt8 := dkwX4_numberOf_1 ++ dktX4_numberOf_2
def dkwX4_numberOf_0 : List UInt8 := [42, 42, 27, 182, 0, 122, 182, 0, 84, 154, 0, 5, 3, 172, 27, 184, 0, 52, 61, 18, 135, 42]
abbrev dktX4_numberOf_0 : List UInt8 := dkwX4_numberOf_0 ++ dktX4_numberOf_1
theorem dksX4_numberOf_0 : cX4_numberOf.data.toList.drop 0 = dktX4_numberOf_0 := by decide +kernel
theorem dksX4_numberOf_1 : cX4_numberOf.data.toList.drop 22 = dktX4_numberOf_1 := dk_seg dksX4_numberOf_0 22 rfl rfl
theorem dksX4_numberOf_2 : cX4_numberOf.data.toList.drop 45 = dktX4_numberOf_2 := dk_seg dksX4_numberOf_1 23 rfl rfl
theorem dX4_numberOf_0 : decode cX4_numberOf 0 = .ok (.aload_n 0, 1) := dk_42 (dk_at dksX4_numberOf_0 0 rfl rfl)
theorem dX4_numberOf_1 : decode cX4_numberOf 1 = .ok (.aload_n 0, 1) := dk_42 (dk_at dksX4_numberOf_0 1 rfl rfl)
theorem dX4_numberOf_2 : decode cX4_numberOf 2 = .ok (.iload_n 1, 1) := dk_27 (dk_at dksX4_numberOf_0 2 rfl rfl)
theorem dX4_numberOf_3 : decode cX4_numberOf 3 = .ok (.invokevirtual 122, 3) := dk_182 0 122 (dk_at dksX4_numberOf_0 3 rfl rfl)
theorem dX4_numberOf_6 : decode cX4_numberOf 6 = .ok (.invokevirtual 84, 3) := dk_182 0 84 (dk_at dksX4_numberOf_0 6 rfl rfl)
theorem dX4_numberOf_9 : decode cX4_numberOf 9 = .ok (.ifCond .ne 5, 3) := dk_154 0 5 (dk_at dksX4_numberOf_0 9 rfl rfl)
theorem dX4_numberOf_12 : decode cX4_numberOf 12 = .ok (.iconst 0, 1) := dk_3 (dk_at dksX4_numberOf_0 12 rfl rfl)
theorem dX4_numberOf_13 : decode cX4_numberOf 13 = .ok (.ireturn, 1) := dk_172 (dk_at dksX4_numberOf_0 13 rfl rfl)
theorem dX4_numberOf_14 : decode cX4_numberOf 14 = .ok (.iload_n 1, 1) := dk_27 (dk_at dksX4_numberOf_0 14 rfl rfl)
theorem dX4_numberOf_15 : decode cX4_numberOf 15 = .ok (.invokestatic 52, 3) := dk_184 0 52 (dk_at dksX4_numberOf_0 15 rfl rfl)
theorem dX4_numberOf_18 : decode cX4_numberOf 18 = .ok (.istore_n 2, 1) := dk_61 (dk_at dksX4_numberOf_0 18 rfl rfl)
theorem dX4_numberOf_19 : decode cX4_numberOf 19 = .ok (.ldc 135, 2) := dk_18 135 (dk_at dksX4_numberOf_0 19 rfl rfl)
theorem dX4_numberOf_21 : decode cX4_numberOf 21 = .ok (.aload_n 0, 1) := dk_42 (dk_at dksX4_numberOf_0 21 rfl rfl)
theorem dX4_numberOf_22 : decode cX4_numberOf 22 = .ok (.getfield 9, 3) := dk_180 0 9 (dk_at dksX4_numberOf_1 0 rfl rfl)
theorem dX4_numberOf_25 : decode cX4_numberOf 25 = .ok (.iload_n 2, 1) := dk_28 (dk_at dksX4_numberOf_1 3 rfl rfl)
theorem dX4_numberOf_26 : decode cX4_numberOf 26 = .ok (.iconst 0, 1) := dk_3 (dk_at dksX4_numberOf_1 4 rfl rfl)
theorem dX4_numberOf_27 : decode cX4_numberOf 27 = .ok (.iadd, 1) := dk_96 (dk_at dksX4_numberOf_1 5 rfl rfl)
theorem dX4_numberOf_28 : decode cX4_numberOf 28 = .ok (.iaload, 1) := dk_46 (dk_at dksX4_numberOf_1 6 rfl rfl)
theorem dX4_numberOf_29 : decode cX4_numberOf 29 = .ok (.imul, 1) := dk_104 (dk_at dksX4_numberOf_1 7 rfl rfl)
theorem dX4_numberOf_30 : decode cX4_numberOf 30 = .ok (.ldc 136, 2) := dk_18 136 (dk_at dksX4_numberOf_1 8 rfl rfl)
theorem dX4_numberOf_32 : decode cX4_numberOf 32 = .ok (.aload_n 0, 1) := dk_42 (dk_at dksX4_numberOf_1 10 rfl rfl)
theorem dX4_numberOf_33 : decode cX4_numberOf 33 = .ok (.getfield 9, 3) := dk_180 0 9 (dk_at dksX4_numberOf_1 11 rfl rfl)
theorem dX4_numberOf_36 : decode cX4_numberOf 36 = .ok (.iload_n 2, 1) := dk_28 (dk_at dksX4_numberOf_1 14 rfl rfl)
theorem dX4_numberOf_37 : decode cX4_numberOf 37 = .ok (.iconst 1, 1) := dk_4 (dk_at dksX4_numberOf_1 15 rfl rfl)
theorem dX4_numberOf_38 : decode cX4_numberOf 38 = .ok (.iadd, 1) := dk_96 (dk_at dksX4_numberOf_1 16 rfl rfl)
theorem dX4_numberOf_39 : decode cX4_numberOf 39 = .ok (.iaload, 1) := dk_46 (dk_at dksX4_numberOf_1 17 rfl rfl)
theorem dX4_numberOf_40 : decode cX4_numberOf 40 = .ok (.imul, 1) := dk_104 (dk_at dksX4_numberOf_1 18 rfl rfl)
theorem dX4_numberOf_41 : decode cX4_numberOf 41 = .ok (.iadd, 1) := dk_96 (dk_at dksX4_numberOf_1 19 rfl rfl)
theorem dX4_numberOf_42 : decode cX4_numberOf 42 = .ok (.bipush 100, 2) := dk_16 100 (dk_at dksX4_numberOf_1 20 rfl rfl)
theorem dX4_numberOf_44 : decode cX4_numberOf 44 = .ok (.aload_n 0, 1) := dk_42 (dk_at dksX4_numberOf_1 22 rfl rfl)
theorem dX4_numberOf_45 : decode cX4_numberOf 45 = .ok (.getfield 9, 3) := dk_180 0 9 (dk_at dksX4_numberOf_2 0 rfl rfl)
theorem dX4_numberOf_48 : decode cX4_numberOf 48 = .ok (.iload_n 2, 1) := dk_28 (dk_at dksX4_numberOf_2 3 rfl rfl)
theorem dX4_numberOf_49 : decode cX4_numberOf 49 = .ok (.iconst 2, 1) := dk_5 (dk_at dksX4_numberOf_2 4 rfl rfl)
theorem dX4_numberOf_50 : decode cX4_numberOf 50 = .ok (.iadd, 1) := dk_96 (dk_at dksX4_numberOf_2 5 rfl rfl)
theorem dX4_numberOf_51 : decode cX4_numberOf 51 = .ok (.iaload, 1) := dk_46 (dk_at dksX4_numberOf_2 6 rfl rfl)
theorem dX4_numberOf_52 : decode cX4_numberOf 52 = .ok (.imul, 1) := dk_104 (dk_at dksX4_numberOf_2 7 rfl rfl)
theorem dX4_numberOf_53 : decode cX4_numberOf 53 = .ok (.iadd, 1) := dk_96 (dk_at dksX4_numberOf_2 8 rfl rfl)
theorem dX4_numberOf_54 : decode cX4_numberOf 54 = .ok (.aload_n 0, 1) := dk_42 (dk_at dksX4_numberOf_2 9 rfl rfl)
theorem dX4_numberOf_55 : decode cX4_numberOf 55 = .ok (.getfield 9, 3) := dk_180 0 9 (dk_at dksX4_numberOf_2 10 rfl rfl)
theorem dX4_numberOf_58 : decode cX4_numberOf 58 = .ok (.iload_n 2, 1) := dk_28 (dk_at dksX4_numberOf_2 13 rfl rfl)
theorem dX4_numberOf_59 : decode cX4_numberOf 59 = .ok (.iconst 3, 1) := dk_6 (dk_at dksX4_numberOf_2 14 rfl rfl)
theorem dX4_numberOf_60 : decode cX4_numberOf 60 = .ok (.iadd, 1) := dk_96 (dk_at dksX4_numberOf_2 15 rfl rfl)
theorem dX4_numberOf_61 : decode cX4_numberOf 61 = .ok (.iaload, 1) := dk_46 (dk_at dksX4_numberOf_2 16 rfl rfl)
theorem dX4_numberOf_62 : decode cX4_numberOf 62 = .ok (.iadd, 1) := dk_96 (dk_at dksX4_numberOf_2 17 rfl rfl)
theorem dX4_numberOf_63 : decode cX4_numberOf 63 = .ok (.ireturn, 1) := dk_172 (dk_at dksX4_numberOf_2 18 rfl rfl)
abbrev cX4_valueOf : ByteArray := prog_38_method_54_code
def yX4_valueOf : MethodName := ⟨RX4, "valueOf", "(II)I"⟩
def dkwX4_valueOf_1 : List UInt8 := [184, 0, 52, 7, 96, 28, 96, 46, 167, 0, 4, 3, 172]
abbrev dktX4_valueOf_1 : List UInt8 := dkwX4_valueOf_1 ++ []
def dkwX4_valueOf_0 : List UInt8 := [42, 42, 27, 182, 0, 122, 28, 3, 6, 184, 0, 44, 182, 0, 77, 153, 0, 19, 42, 180, 0, 9, 27]
abbrev dktX4_valueOf_0 : List UInt8 := dkwX4_valueOf_0 ++ dktX4_valueOf_1
theorem dksX4_valueOf_0 : cX4_valueOf.data.toList.drop 0 = dktX4_valueOf_0 := by decide +kernel
theorem dksX4_valueOf_1 : cX4_valueOf.data.toList.drop 23 = dktX4_valueOf_1 := dk_seg dksX4_valueOf_0 23 rfl rfl
theorem dX4_valueOf_0 : decode cX4_valueOf 0 = .ok (.aload_n 0, 1) := dk_42 (dk_at dksX4_valueOf_0 0 rfl rfl)
theorem dX4_valueOf_1 : decode cX4_valueOf 1 = .ok (.aload_n 0, 1) := dk_42 (dk_at dksX4_valueOf_0 1 rfl rfl)
theorem dX4_valueOf_2 : decode cX4_valueOf 2 = .ok (.iload_n 1, 1) := dk_27 (dk_at dksX4_valueOf_0 2 rfl rfl)
theorem dX4_valueOf_3 : decode cX4_valueOf 3 = .ok (.invokevirtual 122, 3) := dk_182 0 122 (dk_at dksX4_valueOf_0 3 rfl rfl)
theorem dX4_valueOf_6 : decode cX4_valueOf 6 = .ok (.iload_n 2, 1) := dk_28 (dk_at dksX4_valueOf_0 6 rfl rfl)
theorem dX4_valueOf_7 : decode cX4_valueOf 7 = .ok (.iconst 0, 1) := dk_3 (dk_at dksX4_valueOf_0 7 rfl rfl)
theorem dX4_valueOf_8 : decode cX4_valueOf 8 = .ok (.iconst 3, 1) := dk_6 (dk_at dksX4_valueOf_0 8 rfl rfl)
theorem dX4_valueOf_9 : decode cX4_valueOf 9 = .ok (.invokestatic 44, 3) := dk_184 0 44 (dk_at dksX4_valueOf_0 9 rfl rfl)
theorem dX4_valueOf_12 : decode cX4_valueOf 12 = .ok (.invokevirtual 77, 3) := dk_182 0 77 (dk_at dksX4_valueOf_0 12 rfl rfl)
theorem dX4_valueOf_15 : decode cX4_valueOf 15 = .ok (.ifCond .eq 19, 3) := dk_153 0 19 (dk_at dksX4_valueOf_0 15 rfl rfl)
theorem dX4_valueOf_18 : decode cX4_valueOf 18 = .ok (.aload_n 0, 1) := dk_42 (dk_at dksX4_valueOf_0 18 rfl rfl)
theorem dX4_valueOf_19 : decode cX4_valueOf 19 = .ok (.getfield 9, 3) := dk_180 0 9 (dk_at dksX4_valueOf_0 19 rfl rfl)
theorem dX4_valueOf_22 : decode cX4_valueOf 22 = .ok (.iload_n 1, 1) := dk_27 (dk_at dksX4_valueOf_0 22 rfl rfl)
theorem dX4_valueOf_23 : decode cX4_valueOf 23 = .ok (.invokestatic 52, 3) := dk_184 0 52 (dk_at dksX4_valueOf_1 0 rfl rfl)
theorem dX4_valueOf_26 : decode cX4_valueOf 26 = .ok (.iconst 4, 1) := dk_7 (dk_at dksX4_valueOf_1 3 rfl rfl)
theorem dX4_valueOf_27 : decode cX4_valueOf 27 = .ok (.iadd, 1) := dk_96 (dk_at dksX4_valueOf_1 4 rfl rfl)
theorem dX4_valueOf_28 : decode cX4_valueOf 28 = .ok (.iload_n 2, 1) := dk_28 (dk_at dksX4_valueOf_1 5 rfl rfl)
theorem dX4_valueOf_29 : decode cX4_valueOf 29 = .ok (.iadd, 1) := dk_96 (dk_at dksX4_valueOf_1 6 rfl rfl)
theorem dX4_valueOf_30 : decode cX4_valueOf 30 = .ok (.iaload, 1) := dk_46 (dk_at dksX4_valueOf_1 7 rfl rfl)
theorem dX4_valueOf_31 : decode cX4_valueOf 31 = .ok (.goto 4, 3) := dk_167 0 4 (dk_at dksX4_valueOf_1 8 rfl rfl)
theorem dX4_valueOf_34 : decode cX4_valueOf 34 = .ok (.iconst 0, 1) := dk_3 (dk_at dksX4_valueOf_1 11 rfl rfl)
theorem dX4_valueOf_35 : decode cX4_valueOf 35 = .ok (.ireturn, 1) := dk_172 (dk_at dksX4_valueOf_1 12 rfl rfl)
abbrev cX4_newest : ByteArray := prog_38_method_55_code
def yX4_newest : MethodName := ⟨RX4, "newest", "(II)I"⟩
def dkwX4_newest_0 : List UInt8 := [42, 42, 27, 28, 182, 0, 97, 182, 0, 84, 153, 0, 12, 42, 27, 28, 182, 0, 106, 167, 0, 4, 3, 172]
abbrev dktX4_newest_0 : List UInt8 := dkwX4_newest_0 ++ []
theorem dksX4_newest_0 : cX4_newest.data.toList.drop 0 = dktX4_newest_0 := by decide +kernel
theorem dX4_newest_0 : decode cX4_newest 0 = .ok (.aload_n 0, 1) := dk_42 (dk_at dksX4_newest_0 0 rfl rfl)
theorem dX4_newest_1 : decode cX4_newest 1 = .ok (.aload_n 0, 1) := dk_42 (dk_at dksX4_newest_0 1 rfl rfl)
theorem dX4_newest_2 : decode cX4_newest 2 = .ok (.iload_n 1, 1) := dk_27 (dk_at dksX4_newest_0 2 rfl rfl)
theorem dX4_newest_3 : decode cX4_newest 3 = .ok (.iload_n 2, 1) := dk_28 (dk_at dksX4_newest_0 3 rfl rfl)
theorem dX4_newest_4 : decode cX4_newest 4 = .ok (.invokevirtual 97, 3) := dk_182 0 97 (dk_at dksX4_newest_0 4 rfl rfl)
theorem dX4_newest_7 : decode cX4_newest 7 = .ok (.invokevirtual 84, 3) := dk_182 0 84 (dk_at dksX4_newest_0 7 rfl rfl)
theorem dX4_newest_10 : decode cX4_newest 10 = .ok (.ifCond .eq 12, 3) := dk_153 0 12 (dk_at dksX4_newest_0 10 rfl rfl)
theorem dX4_newest_13 : decode cX4_newest 13 = .ok (.aload_n 0, 1) := dk_42 (dk_at dksX4_newest_0 13 rfl rfl)
theorem dX4_newest_14 : decode cX4_newest 14 = .ok (.iload_n 1, 1) := dk_27 (dk_at dksX4_newest_0 14 rfl rfl)
theorem dX4_newest_15 : decode cX4_newest 15 = .ok (.iload_n 2, 1) := dk_28 (dk_at dksX4_newest_0 15 rfl rfl)
theorem dX4_newest_16 : decode cX4_newest 16 = .ok (.invokevirtual 106, 3) := dk_182 0 106 (dk_at dksX4_newest_0 16 rfl rfl)
theorem dX4_newest_19 : decode cX4_newest 19 = .ok (.goto 4, 3) := dk_167 0 4 (dk_at dksX4_newest_0 19 rfl rfl)
theorem dX4_newest_22 : decode cX4_newest 22 = .ok (.iconst 0, 1) := dk_3 (dk_at dksX4_newest_0 22 rfl rfl)
theorem dX4_newest_23 : decode cX4_newest 23 = .ok (.ireturn, 1) := dk_172 (dk_at dksX4_newest_0 23 rfl rfl)
abbrev cX4_originOf : ByteArray := prog_38_method_56_code
def yX4_originOf : MethodName := ⟨RX4, "originOf", "(II)I"⟩
def dkwX4_originOf_1 : List UInt8 := [46, 167, 0, 4, 3, 172]
abbrev dktX4_originOf_1 : List UInt8 := dkwX4_originOf_1 ++ []
def dkwX4_originOf_0 : List UInt8 := [42, 42, 27, 28, 182, 0, 97, 182, 0, 84, 153, 0, 18, 42, 180, 0, 9, 27, 28, 184, 0, 69, 3, 96]
abbrev dktX4_originOf_0 : List UInt8 := dkwX4_originOf_0 ++ dktX4_originOf_1
theorem dksX4_originOf_0 : cX4_originOf.data.toList.drop 0 = dktX4_originOf_0 := by decide +kernel
theorem dksX4_originOf_1 : cX4_originOf.data.toList.drop 24 = dktX4_originOf_1 := dk_seg dksX4_originOf_0 24 rfl rfl
theorem dX4_originOf_0 : decode cX4_originOf 0 = .ok (.aload_n 0, 1) := dk_42 (dk_at dksX4_originOf_0 0 rfl rfl)
theorem dX4_originOf_1 : decode cX4_originOf 1 = .ok (.aload_n 0, 1) := dk_42 (dk_at dksX4_originOf_0 1 rfl rfl)
theorem dX4_originOf_2 : decode cX4_originOf 2 = .ok (.iload_n 1, 1) := dk_27 (dk_at dksX4_originOf_0 2 rfl rfl)
theorem dX4_originOf_3 : decode cX4_originOf 3 = .ok (.iload_n 2, 1) := dk_28 (dk_at dksX4_originOf_0 3 rfl rfl)
theorem dX4_originOf_4 : decode cX4_originOf 4 = .ok (.invokevirtual 97, 3) := dk_182 0 97 (dk_at dksX4_originOf_0 4 rfl rfl)
theorem dX4_originOf_7 : decode cX4_originOf 7 = .ok (.invokevirtual 84, 3) := dk_182 0 84 (dk_at dksX4_originOf_0 7 rfl rfl)
theorem dX4_originOf_10 : decode cX4_originOf 10 = .ok (.ifCond .eq 18, 3) := dk_153 0 18 (dk_at dksX4_originOf_0 10 rfl rfl)
theorem dX4_originOf_13 : decode cX4_originOf 13 = .ok (.aload_n 0, 1) := dk_42 (dk_at dksX4_originOf_0 13 rfl rfl)
theorem dX4_originOf_14 : decode cX4_originOf 14 = .ok (.getfield 9, 3) := dk_180 0 9 (dk_at dksX4_originOf_0 14 rfl rfl)
theorem dX4_originOf_17 : decode cX4_originOf 17 = .ok (.iload_n 1, 1) := dk_27 (dk_at dksX4_originOf_0 17 rfl rfl)
theorem dX4_originOf_18 : decode cX4_originOf 18 = .ok (.iload_n 2, 1) := dk_28 (dk_at dksX4_originOf_0 18 rfl rfl)
theorem dX4_originOf_19 : decode cX4_originOf 19 = .ok (.invokestatic 69, 3) := dk_184 0 69 (dk_at dksX4_originOf_0 19 rfl rfl)
theorem dX4_originOf_22 : decode cX4_originOf 22 = .ok (.iconst 0, 1) := dk_3 (dk_at dksX4_originOf_0 22 rfl rfl)
theorem dX4_originOf_23 : decode cX4_originOf 23 = .ok (.iadd, 1) := dk_96 (dk_at dksX4_originOf_0 23 rfl rfl)
theorem dX4_originOf_24 : decode cX4_originOf 24 = .ok (.iaload, 1) := dk_46 (dk_at dksX4_originOf_1 0 rfl rfl)
theorem dX4_originOf_25 : decode cX4_originOf 25 = .ok (.goto 4, 3) := dk_167 0 4 (dk_at dksX4_originOf_1 1 rfl rfl)
theorem dX4_originOf_28 : decode cX4_originOf 28 = .ok (.iconst 0, 1) := dk_3 (dk_at dksX4_originOf_1 4 rfl rfl)
theorem dX4_originOf_29 : decode cX4_originOf 29 = .ok (.ireturn, 1) := dk_172 (dk_at dksX4_originOf_1 5 rfl rfl)
abbrev cX4_holder : ByteArray := prog_38_method_57_code
def yX4_holder : MethodName := ⟨RX4, "holder", "(II)I"⟩
def dkwX4_holder_0 : List UInt8 := [42, 42, 27, 28, 182, 0, 97, 182, 0, 84, 153, 0, 12, 42, 27, 28, 182, 0, 109, 167, 0, 4, 3, 172]
abbrev dktX4_holder_0 : List UInt8 := dkwX4_holder_0 ++ []
theorem dksX4_holder_0 : cX4_holder.data.toList.drop 0 = dktX4_holder_0 := by decide +kernel
theorem dX4_holder_0 : decode cX4_holder 0 = .ok (.aload_n 0, 1) := dk_42 (dk_at dksX4_holder_0 0 rfl rfl)
theorem dX4_holder_1 : decode cX4_holder 1 = .ok (.aload_n 0, 1) := dk_42 (dk_at dksX4_holder_0 1 rfl rfl)
theorem dX4_holder_2 : decode cX4_holder 2 = .ok (.iload_n 1, 1) := dk_27 (dk_at dksX4_holder_0 2 rfl rfl)
theorem dX4_holder_3 : decode cX4_holder 3 = .ok (.iload_n 2, 1) := dk_28 (dk_at dksX4_holder_0 3 rfl rfl)
theorem dX4_holder_4 : decode cX4_holder 4 = .ok (.invokevirtual 97, 3) := dk_182 0 97 (dk_at dksX4_holder_0 4 rfl rfl)
theorem dX4_holder_7 : decode cX4_holder 7 = .ok (.invokevirtual 84, 3) := dk_182 0 84 (dk_at dksX4_holder_0 7 rfl rfl)
theorem dX4_holder_10 : decode cX4_holder 10 = .ok (.ifCond .eq 12, 3) := dk_153 0 12 (dk_at dksX4_holder_0 10 rfl rfl)
theorem dX4_holder_13 : decode cX4_holder 13 = .ok (.aload_n 0, 1) := dk_42 (dk_at dksX4_holder_0 13 rfl rfl)
theorem dX4_holder_14 : decode cX4_holder 14 = .ok (.iload_n 1, 1) := dk_27 (dk_at dksX4_holder_0 14 rfl rfl)
theorem dX4_holder_15 : decode cX4_holder 15 = .ok (.iload_n 2, 1) := dk_28 (dk_at dksX4_holder_0 15 rfl rfl)
theorem dX4_holder_16 : decode cX4_holder 16 = .ok (.invokevirtual 109, 3) := dk_182 0 109 (dk_at dksX4_holder_0 16 rfl rfl)
theorem dX4_holder_19 : decode cX4_holder 19 = .ok (.goto 4, 3) := dk_167 0 4 (dk_at dksX4_holder_0 19 rfl rfl)
theorem dX4_holder_22 : decode cX4_holder 22 = .ok (.iconst 0, 1) := dk_3 (dk_at dksX4_holder_0 22 rfl rfl)
theorem dX4_holder_23 : decode cX4_holder 23 = .ok (.ireturn, 1) := dk_172 (dk_at dksX4_holder_0 23 rfl rfl)
abbrev cX4_hoursLeft : ByteArray := prog_38_method_58_code
def yX4_hoursLeft : MethodName := ⟨RX4, "hoursLeft", "(II)I"⟩
def dkwX4_hoursLeft_0 : List UInt8 := [42, 42, 27, 28, 182, 0, 97, 182, 0, 84, 153, 0, 12, 42, 27, 28, 182, 0, 103, 167, 0, 4, 3, 172]
abbrev dktX4_hoursLeft_0 : List UInt8 := dkwX4_hoursLeft_0 ++ []
theorem dksX4_hoursLeft_0 : cX4_hoursLeft.data.toList.drop 0 = dktX4_hoursLeft_0 := by decide +kernel
theorem dX4_hoursLeft_0 : decode cX4_hoursLeft 0 = .ok (.aload_n 0, 1) := dk_42 (dk_at dksX4_hoursLeft_0 0 rfl rfl)
theorem dX4_hoursLeft_1 : decode cX4_hoursLeft 1 = .ok (.aload_n 0, 1) := dk_42 (dk_at dksX4_hoursLeft_0 1 rfl rfl)
theorem dX4_hoursLeft_2 : decode cX4_hoursLeft 2 = .ok (.iload_n 1, 1) := dk_27 (dk_at dksX4_hoursLeft_0 2 rfl rfl)
theorem dX4_hoursLeft_3 : decode cX4_hoursLeft 3 = .ok (.iload_n 2, 1) := dk_28 (dk_at dksX4_hoursLeft_0 3 rfl rfl)
theorem dX4_hoursLeft_4 : decode cX4_hoursLeft 4 = .ok (.invokevirtual 97, 3) := dk_182 0 97 (dk_at dksX4_hoursLeft_0 4 rfl rfl)
theorem dX4_hoursLeft_7 : decode cX4_hoursLeft 7 = .ok (.invokevirtual 84, 3) := dk_182 0 84 (dk_at dksX4_hoursLeft_0 7 rfl rfl)
theorem dX4_hoursLeft_10 : decode cX4_hoursLeft 10 = .ok (.ifCond .eq 12, 3) := dk_153 0 12 (dk_at dksX4_hoursLeft_0 10 rfl rfl)
theorem dX4_hoursLeft_13 : decode cX4_hoursLeft 13 = .ok (.aload_n 0, 1) := dk_42 (dk_at dksX4_hoursLeft_0 13 rfl rfl)
theorem dX4_hoursLeft_14 : decode cX4_hoursLeft 14 = .ok (.iload_n 1, 1) := dk_27 (dk_at dksX4_hoursLeft_0 14 rfl rfl)
theorem dX4_hoursLeft_15 : decode cX4_hoursLeft 15 = .ok (.iload_n 2, 1) := dk_28 (dk_at dksX4_hoursLeft_0 15 rfl rfl)
theorem dX4_hoursLeft_16 : decode cX4_hoursLeft 16 = .ok (.invokevirtual 103, 3) := dk_182 0 103 (dk_at dksX4_hoursLeft_0 16 rfl rfl)
theorem dX4_hoursLeft_19 : decode cX4_hoursLeft 19 = .ok (.goto 4, 3) := dk_167 0 4 (dk_at dksX4_hoursLeft_0 19 rfl rfl)
theorem dX4_hoursLeft_22 : decode cX4_hoursLeft 22 = .ok (.iconst 0, 1) := dk_3 (dk_at dksX4_hoursLeft_0 22 rfl rfl)
theorem dX4_hoursLeft_23 : decode cX4_hoursLeft 23 = .ok (.ireturn, 1) := dk_172 (dk_at dksX4_hoursLeft_0 23 rfl rfl)
abbrev cX4_maySee : ByteArray := prog_38_method_59_code
def yX4_maySee : MethodName := ⟨RX4, "maySee", "(II)Z"⟩
def dkwX4_maySee_1 : List UInt8 := [153, 0, 16, 42, 27, 28, 182, 0, 125, 153, 0, 7, 4, 167, 0, 4, 3, 172]
abbrev dktX4_maySee_1 : List UInt8 := dkwX4_maySee_1 ++ []
def dkwX4_maySee_0 : List UInt8 := [42, 27, 184, 0, 87, 153, 0, 15, 42, 28, 182, 0, 122, 153, 0, 7, 4, 167, 0, 4, 3, 182, 0, 84]
abbrev dktX4_maySee_0 : List UInt8 := dkwX4_maySee_0 ++ dktX4_maySee_1
theorem dksX4_maySee_0 : cX4_maySee.data.toList.drop 0 = dktX4_maySee_0 := by decide +kernel
theorem dksX4_maySee_1 : cX4_maySee.data.toList.drop 24 = dktX4_maySee_1 := dk_seg dksX4_maySee_0 24 rfl rfl
theorem dX4_maySee_0 : decode cX4_maySee 0 = .ok (.aload_n 0, 1) := dk_42 (dk_at dksX4_maySee_0 0 rfl rfl)
theorem dX4_maySee_1 : decode cX4_maySee 1 = .ok (.iload_n 1, 1) := dk_27 (dk_at dksX4_maySee_0 1 rfl rfl)
theorem dX4_maySee_2 : decode cX4_maySee 2 = .ok (.invokestatic 87, 3) := dk_184 0 87 (dk_at dksX4_maySee_0 2 rfl rfl)
theorem dX4_maySee_5 : decode cX4_maySee 5 = .ok (.ifCond .eq 15, 3) := dk_153 0 15 (dk_at dksX4_maySee_0 5 rfl rfl)
theorem dX4_maySee_8 : decode cX4_maySee 8 = .ok (.aload_n 0, 1) := dk_42 (dk_at dksX4_maySee_0 8 rfl rfl)
theorem dX4_maySee_9 : decode cX4_maySee 9 = .ok (.iload_n 2, 1) := dk_28 (dk_at dksX4_maySee_0 9 rfl rfl)
theorem dX4_maySee_10 : decode cX4_maySee 10 = .ok (.invokevirtual 122, 3) := dk_182 0 122 (dk_at dksX4_maySee_0 10 rfl rfl)
theorem dX4_maySee_13 : decode cX4_maySee 13 = .ok (.ifCond .eq 7, 3) := dk_153 0 7 (dk_at dksX4_maySee_0 13 rfl rfl)
theorem dX4_maySee_16 : decode cX4_maySee 16 = .ok (.iconst 1, 1) := dk_4 (dk_at dksX4_maySee_0 16 rfl rfl)
theorem dX4_maySee_17 : decode cX4_maySee 17 = .ok (.goto 4, 3) := dk_167 0 4 (dk_at dksX4_maySee_0 17 rfl rfl)
theorem dX4_maySee_20 : decode cX4_maySee 20 = .ok (.iconst 0, 1) := dk_3 (dk_at dksX4_maySee_0 20 rfl rfl)
theorem dX4_maySee_21 : decode cX4_maySee 21 = .ok (.invokevirtual 84, 3) := dk_182 0 84 (dk_at dksX4_maySee_0 21 rfl rfl)
theorem dX4_maySee_24 : decode cX4_maySee 24 = .ok (.ifCond .eq 16, 3) := dk_153 0 16 (dk_at dksX4_maySee_1 0 rfl rfl)
theorem dX4_maySee_27 : decode cX4_maySee 27 = .ok (.aload_n 0, 1) := dk_42 (dk_at dksX4_maySee_1 3 rfl rfl)
theorem dX4_maySee_28 : decode cX4_maySee 28 = .ok (.iload_n 1, 1) := dk_27 (dk_at dksX4_maySee_1 4 rfl rfl)
theorem dX4_maySee_29 : decode cX4_maySee 29 = .ok (.iload_n 2, 1) := dk_28 (dk_at dksX4_maySee_1 5 rfl rfl)
theorem dX4_maySee_30 : decode cX4_maySee 30 = .ok (.invokevirtual 125, 3) := dk_182 0 125 (dk_at dksX4_maySee_1 6 rfl rfl)
theorem dX4_maySee_33 : decode cX4_maySee 33 = .ok (.ifCond .eq 7, 3) := dk_153 0 7 (dk_at dksX4_maySee_1 9 rfl rfl)
theorem dX4_maySee_36 : decode cX4_maySee 36 = .ok (.iconst 1, 1) := dk_4 (dk_at dksX4_maySee_1 12 rfl rfl)
theorem dX4_maySee_37 : decode cX4_maySee 37 = .ok (.goto 4, 3) := dk_167 0 4 (dk_at dksX4_maySee_1 13 rfl rfl)
theorem dX4_maySee_40 : decode cX4_maySee 40 = .ok (.iconst 0, 1) := dk_3 (dk_at dksX4_maySee_1 16 rfl rfl)
theorem dX4_maySee_41 : decode cX4_maySee 41 = .ok (.ireturn, 1) := dk_172 (dk_at dksX4_maySee_1 17 rfl rfl)
abbrev cX4_open : ByteArray := prog_38_method_61_code
def yX4_open : MethodName := ⟨RX4, "open", "(II)I"⟩
def dkwX4_open_2 : List UInt8 := [167, 0, 4, 3, 182, 0, 77, 153, 0, 8, 21, 4, 167, 0, 4, 3, 172]
abbrev dktX4_open_2 : List UInt8 := dkwX4_open_2 ++ []
def dkwX4_open_1 : List UInt8 := [153, 0, 12, 42, 27, 28, 182, 0, 137, 167, 0, 4, 2, 54, 4, 42, 29, 21, 4, 2, 159, 0, 7, 4]
abbrev dktX4_open_1 : List UInt8 := dkwX4_open_1 ++ dktX4_open_2
def dkwX4_open_0 : List UInt8 := [42, 27, 182, 0, 132, 153, 0, 14, 28, 184, 0, 87, 153, 0, 7, 4, 167, 0, 4, 3, 62, 29]
abbrev dktX4_open_0 : List UInt8 := dkwX4_open_0 ++ dktX4_open_1
theorem dksX4_open_0 : cX4_open.data.toList.drop 0 = dktX4_open_0 := by decide +kernel
theorem dksX4_open_1 : cX4_open.data.toList.drop 22 = dktX4_open_1 := dk_seg dksX4_open_0 22 rfl rfl
theorem dksX4_open_2 : cX4_open.data.toList.drop 46 = dktX4_open_2 := dk_seg dksX4_open_1 24 rfl rfl
theorem dX4_open_0 : decode cX4_open 0 = .ok (.aload_n 0, 1) := dk_42 (dk_at dksX4_open_0 0 rfl rfl)
theorem dX4_open_1 : decode cX4_open 1 = .ok (.iload_n 1, 1) := dk_27 (dk_at dksX4_open_0 1 rfl rfl)
theorem dX4_open_2 : decode cX4_open 2 = .ok (.invokevirtual 132, 3) := dk_182 0 132 (dk_at dksX4_open_0 2 rfl rfl)
theorem dX4_open_5 : decode cX4_open 5 = .ok (.ifCond .eq 14, 3) := dk_153 0 14 (dk_at dksX4_open_0 5 rfl rfl)
theorem dX4_open_8 : decode cX4_open 8 = .ok (.iload_n 2, 1) := dk_28 (dk_at dksX4_open_0 8 rfl rfl)
theorem dX4_open_9 : decode cX4_open 9 = .ok (.invokestatic 87, 3) := dk_184 0 87 (dk_at dksX4_open_0 9 rfl rfl)
theorem dX4_open_12 : decode cX4_open 12 = .ok (.ifCond .eq 7, 3) := dk_153 0 7 (dk_at dksX4_open_0 12 rfl rfl)
theorem dX4_open_15 : decode cX4_open 15 = .ok (.iconst 1, 1) := dk_4 (dk_at dksX4_open_0 15 rfl rfl)
theorem dX4_open_16 : decode cX4_open 16 = .ok (.goto 4, 3) := dk_167 0 4 (dk_at dksX4_open_0 16 rfl rfl)
theorem dX4_open_19 : decode cX4_open 19 = .ok (.iconst 0, 1) := dk_3 (dk_at dksX4_open_0 19 rfl rfl)
theorem dX4_open_20 : decode cX4_open 20 = .ok (.istore_n 3, 1) := dk_62 (dk_at dksX4_open_0 20 rfl rfl)
theorem dX4_open_21 : decode cX4_open 21 = .ok (.iload_n 3, 1) := dk_29 (dk_at dksX4_open_0 21 rfl rfl)
theorem dX4_open_22 : decode cX4_open 22 = .ok (.ifCond .eq 12, 3) := dk_153 0 12 (dk_at dksX4_open_1 0 rfl rfl)
theorem dX4_open_25 : decode cX4_open 25 = .ok (.aload_n 0, 1) := dk_42 (dk_at dksX4_open_1 3 rfl rfl)
theorem dX4_open_26 : decode cX4_open 26 = .ok (.iload_n 1, 1) := dk_27 (dk_at dksX4_open_1 4 rfl rfl)
theorem dX4_open_27 : decode cX4_open 27 = .ok (.iload_n 2, 1) := dk_28 (dk_at dksX4_open_1 5 rfl rfl)
theorem dX4_open_28 : decode cX4_open 28 = .ok (.invokevirtual 137, 3) := dk_182 0 137 (dk_at dksX4_open_1 6 rfl rfl)
theorem dX4_open_31 : decode cX4_open 31 = .ok (.goto 4, 3) := dk_167 0 4 (dk_at dksX4_open_1 9 rfl rfl)
theorem dX4_open_34 : decode cX4_open 34 = .ok (.iconst (-1), 1) := dk_2 (dk_at dksX4_open_1 12 rfl rfl)
theorem dX4_open_35 : decode cX4_open 35 = .ok (.istore 4, 2) := dk_54 4 (dk_at dksX4_open_1 13 rfl rfl)
theorem dX4_open_37 : decode cX4_open 37 = .ok (.aload_n 0, 1) := dk_42 (dk_at dksX4_open_1 15 rfl rfl)
theorem dX4_open_38 : decode cX4_open 38 = .ok (.iload_n 3, 1) := dk_29 (dk_at dksX4_open_1 16 rfl rfl)
theorem dX4_open_39 : decode cX4_open 39 = .ok (.iload 4, 2) := dk_21 4 (dk_at dksX4_open_1 17 rfl rfl)
theorem dX4_open_41 : decode cX4_open 41 = .ok (.iconst (-1), 1) := dk_2 (dk_at dksX4_open_1 19 rfl rfl)
theorem dX4_open_42 : decode cX4_open 42 = .ok (.if_icmp .eq 7, 3) := dk_159 0 7 (dk_at dksX4_open_1 20 rfl rfl)
theorem dX4_open_45 : decode cX4_open 45 = .ok (.iconst 1, 1) := dk_4 (dk_at dksX4_open_1 23 rfl rfl)
theorem dX4_open_46 : decode cX4_open 46 = .ok (.goto 4, 3) := dk_167 0 4 (dk_at dksX4_open_2 0 rfl rfl)
theorem dX4_open_49 : decode cX4_open 49 = .ok (.iconst 0, 1) := dk_3 (dk_at dksX4_open_2 3 rfl rfl)
theorem dX4_open_50 : decode cX4_open 50 = .ok (.invokevirtual 77, 3) := dk_182 0 77 (dk_at dksX4_open_2 4 rfl rfl)
theorem dX4_open_53 : decode cX4_open 53 = .ok (.ifCond .eq 8, 3) := dk_153 0 8 (dk_at dksX4_open_2 7 rfl rfl)
theorem dX4_open_56 : decode cX4_open 56 = .ok (.iload 4, 2) := dk_21 4 (dk_at dksX4_open_2 10 rfl rfl)
theorem dX4_open_58 : decode cX4_open 58 = .ok (.goto 4, 3) := dk_167 0 4 (dk_at dksX4_open_2 12 rfl rfl)
theorem dX4_open_61 : decode cX4_open 61 = .ok (.iconst 0, 1) := dk_3 (dk_at dksX4_open_2 15 rfl rfl)
theorem dX4_open_62 : decode cX4_open 62 = .ok (.ireturn, 1) := dk_172 (dk_at dksX4_open_2 16 rfl rfl)
abbrev cX4_opens : ByteArray := prog_38_method_60_code
def yX4_opens : MethodName := ⟨RX4, "opens", "(II)I"⟩
def dkwX4_opens_6 : List UInt8 := [167, 0, 5, 21, 5, 54, 5, 132, 6, 1, 167, 255, 161, 21, 5, 172]
abbrev dktX4_opens_6 : List UInt8 := dkwX4_opens_6 ++ []
def dkwX4_opens_5 : List UInt8 := [153, 0, 25, 21, 5, 2, 159, 0, 14, 42, 21, 6, 21, 5, 182, 0, 65, 153, 0, 8, 21, 6]
abbrev dktX4_opens_5 : List UInt8 := dkwX4_opens_5 ++ dktX4_opens_6
def dkwX4_opens_4 : List UInt8 := [4, 159, 0, 12, 42, 21, 6, 182, 0, 59, 153, 0, 7, 4, 167, 0, 4, 3, 54, 7, 21, 7]
abbrev dktX4_opens_4 : List UInt8 := dkwX4_opens_4 ++ dktX4_opens_5
def dkwX4_opens_3 : List UInt8 := [182, 0, 62, 153, 0, 38, 42, 28, 21, 6, 182, 0, 125, 153, 0, 28, 42, 180, 0, 9, 29, 4, 96, 46]
abbrev dktX4_opens_3 : List UInt8 := dkwX4_opens_3 ++ dktX4_opens_4
def dkwX4_opens_2 : List UInt8 := [54, 5, 3, 54, 6, 21, 6, 42, 180, 0, 9, 6, 46, 162, 0, 90, 42, 21, 6, 21, 4, 3]
abbrev dktX4_opens_2 : List UInt8 := dkwX4_opens_2 ++ dktX4_opens_3
def dkwX4_opens_1 : List UInt8 := [96, 46, 154, 0, 20, 42, 28, 21, 4, 182, 0, 125, 153, 0, 8, 21, 4, 167, 0, 4, 2, 172, 2]
abbrev dktX4_opens_1 : List UInt8 := dkwX4_opens_1 ++ dktX4_opens_2
def dkwX4_opens_0 : List UInt8 := [17, 3, 33, 6, 27, 104, 96, 62, 42, 180, 0, 9, 29, 5, 96, 46, 54, 4, 42, 180, 0, 9, 29, 4]
abbrev dktX4_opens_0 : List UInt8 := dkwX4_opens_0 ++ dktX4_opens_1
theorem dksX4_opens_0 : cX4_opens.data.toList.drop 0 = dktX4_opens_0 := by decide +kernel
theorem dksX4_opens_1 : cX4_opens.data.toList.drop 24 = dktX4_opens_1 := dk_seg dksX4_opens_0 24 rfl rfl
theorem dksX4_opens_2 : cX4_opens.data.toList.drop 47 = dktX4_opens_2 := dk_seg dksX4_opens_1 23 rfl rfl
theorem dksX4_opens_3 : cX4_opens.data.toList.drop 69 = dktX4_opens_3 := dk_seg dksX4_opens_2 22 rfl rfl
theorem dksX4_opens_4 : cX4_opens.data.toList.drop 93 = dktX4_opens_4 := dk_seg dksX4_opens_3 24 rfl rfl
theorem dksX4_opens_5 : cX4_opens.data.toList.drop 115 = dktX4_opens_5 := dk_seg dksX4_opens_4 22 rfl rfl
theorem dksX4_opens_6 : cX4_opens.data.toList.drop 137 = dktX4_opens_6 := dk_seg dksX4_opens_5 22 rfl rfl
theorem dX4_opens_0 : decode cX4_opens 0 = .ok (.sipush 801, 3) := dk_17 3 33 (dk_at dksX4_opens_0 0 rfl rfl)
theorem dX4_opens_3 : decode cX4_opens 3 = .ok (.iconst 3, 1) := dk_6 (dk_at dksX4_opens_0 3 rfl rfl)
theorem dX4_opens_4 : decode cX4_opens 4 = .ok (.iload_n 1, 1) := dk_27 (dk_at dksX4_opens_0 4 rfl rfl)
theorem dX4_opens_5 : decode cX4_opens 5 = .ok (.imul, 1) := dk_104 (dk_at dksX4_opens_0 5 rfl rfl)
theorem dX4_opens_6 : decode cX4_opens 6 = .ok (.iadd, 1) := dk_96 (dk_at dksX4_opens_0 6 rfl rfl)
theorem dX4_opens_7 : decode cX4_opens 7 = .ok (.istore_n 3, 1) := dk_62 (dk_at dksX4_opens_0 7 rfl rfl)
theorem dX4_opens_8 : decode cX4_opens 8 = .ok (.aload_n 0, 1) := dk_42 (dk_at dksX4_opens_0 8 rfl rfl)
theorem dX4_opens_9 : decode cX4_opens 9 = .ok (.getfield 9, 3) := dk_180 0 9 (dk_at dksX4_opens_0 9 rfl rfl)
theorem dX4_opens_12 : decode cX4_opens 12 = .ok (.iload_n 3, 1) := dk_29 (dk_at dksX4_opens_0 12 rfl rfl)
theorem dX4_opens_13 : decode cX4_opens 13 = .ok (.iconst 2, 1) := dk_5 (dk_at dksX4_opens_0 13 rfl rfl)
theorem dX4_opens_14 : decode cX4_opens 14 = .ok (.iadd, 1) := dk_96 (dk_at dksX4_opens_0 14 rfl rfl)
theorem dX4_opens_15 : decode cX4_opens 15 = .ok (.iaload, 1) := dk_46 (dk_at dksX4_opens_0 15 rfl rfl)
theorem dX4_opens_16 : decode cX4_opens 16 = .ok (.istore 4, 2) := dk_54 4 (dk_at dksX4_opens_0 16 rfl rfl)
theorem dX4_opens_18 : decode cX4_opens 18 = .ok (.aload_n 0, 1) := dk_42 (dk_at dksX4_opens_0 18 rfl rfl)
theorem dX4_opens_19 : decode cX4_opens 19 = .ok (.getfield 9, 3) := dk_180 0 9 (dk_at dksX4_opens_0 19 rfl rfl)
theorem dX4_opens_22 : decode cX4_opens 22 = .ok (.iload_n 3, 1) := dk_29 (dk_at dksX4_opens_0 22 rfl rfl)
theorem dX4_opens_23 : decode cX4_opens 23 = .ok (.iconst 1, 1) := dk_4 (dk_at dksX4_opens_0 23 rfl rfl)
theorem dX4_opens_24 : decode cX4_opens 24 = .ok (.iadd, 1) := dk_96 (dk_at dksX4_opens_1 0 rfl rfl)
theorem dX4_opens_25 : decode cX4_opens 25 = .ok (.iaload, 1) := dk_46 (dk_at dksX4_opens_1 1 rfl rfl)
theorem dX4_opens_26 : decode cX4_opens 26 = .ok (.ifCond .ne 20, 3) := dk_154 0 20 (dk_at dksX4_opens_1 2 rfl rfl)
theorem dX4_opens_29 : decode cX4_opens 29 = .ok (.aload_n 0, 1) := dk_42 (dk_at dksX4_opens_1 5 rfl rfl)
theorem dX4_opens_30 : decode cX4_opens 30 = .ok (.iload_n 2, 1) := dk_28 (dk_at dksX4_opens_1 6 rfl rfl)
theorem dX4_opens_31 : decode cX4_opens 31 = .ok (.iload 4, 2) := dk_21 4 (dk_at dksX4_opens_1 7 rfl rfl)
theorem dX4_opens_33 : decode cX4_opens 33 = .ok (.invokevirtual 125, 3) := dk_182 0 125 (dk_at dksX4_opens_1 9 rfl rfl)
theorem dX4_opens_36 : decode cX4_opens 36 = .ok (.ifCond .eq 8, 3) := dk_153 0 8 (dk_at dksX4_opens_1 12 rfl rfl)
theorem dX4_opens_39 : decode cX4_opens 39 = .ok (.iload 4, 2) := dk_21 4 (dk_at dksX4_opens_1 15 rfl rfl)
theorem dX4_opens_41 : decode cX4_opens 41 = .ok (.goto 4, 3) := dk_167 0 4 (dk_at dksX4_opens_1 17 rfl rfl)
theorem dX4_opens_44 : decode cX4_opens 44 = .ok (.iconst (-1), 1) := dk_2 (dk_at dksX4_opens_1 20 rfl rfl)
theorem dX4_opens_45 : decode cX4_opens 45 = .ok (.ireturn, 1) := dk_172 (dk_at dksX4_opens_1 21 rfl rfl)
theorem dX4_opens_46 : decode cX4_opens 46 = .ok (.iconst (-1), 1) := dk_2 (dk_at dksX4_opens_1 22 rfl rfl)
theorem dX4_opens_47 : decode cX4_opens 47 = .ok (.istore 5, 2) := dk_54 5 (dk_at dksX4_opens_2 0 rfl rfl)
theorem dX4_opens_49 : decode cX4_opens 49 = .ok (.iconst 0, 1) := dk_3 (dk_at dksX4_opens_2 2 rfl rfl)
theorem dX4_opens_50 : decode cX4_opens 50 = .ok (.istore 6, 2) := dk_54 6 (dk_at dksX4_opens_2 3 rfl rfl)
theorem dX4_opens_52 : decode cX4_opens 52 = .ok (.iload 6, 2) := dk_21 6 (dk_at dksX4_opens_2 5 rfl rfl)
theorem dX4_opens_54 : decode cX4_opens 54 = .ok (.aload_n 0, 1) := dk_42 (dk_at dksX4_opens_2 7 rfl rfl)
theorem dX4_opens_55 : decode cX4_opens 55 = .ok (.getfield 9, 3) := dk_180 0 9 (dk_at dksX4_opens_2 8 rfl rfl)
theorem dX4_opens_58 : decode cX4_opens 58 = .ok (.iconst 3, 1) := dk_6 (dk_at dksX4_opens_2 11 rfl rfl)
theorem dX4_opens_59 : decode cX4_opens 59 = .ok (.iaload, 1) := dk_46 (dk_at dksX4_opens_2 12 rfl rfl)
theorem dX4_opens_60 : decode cX4_opens 60 = .ok (.if_icmp .ge 90, 3) := dk_162 0 90 (dk_at dksX4_opens_2 13 rfl rfl)
theorem dX4_opens_63 : decode cX4_opens 63 = .ok (.aload_n 0, 1) := dk_42 (dk_at dksX4_opens_2 16 rfl rfl)
theorem dX4_opens_64 : decode cX4_opens 64 = .ok (.iload 6, 2) := dk_21 6 (dk_at dksX4_opens_2 17 rfl rfl)
theorem dX4_opens_66 : decode cX4_opens 66 = .ok (.iload 4, 2) := dk_21 4 (dk_at dksX4_opens_2 19 rfl rfl)
theorem dX4_opens_68 : decode cX4_opens 68 = .ok (.iconst 0, 1) := dk_3 (dk_at dksX4_opens_2 21 rfl rfl)
theorem dX4_opens_69 : decode cX4_opens 69 = .ok (.invokevirtual 62, 3) := dk_182 0 62 (dk_at dksX4_opens_3 0 rfl rfl)
theorem dX4_opens_72 : decode cX4_opens 72 = .ok (.ifCond .eq 38, 3) := dk_153 0 38 (dk_at dksX4_opens_3 3 rfl rfl)
theorem dX4_opens_75 : decode cX4_opens 75 = .ok (.aload_n 0, 1) := dk_42 (dk_at dksX4_opens_3 6 rfl rfl)
theorem dX4_opens_76 : decode cX4_opens 76 = .ok (.iload_n 2, 1) := dk_28 (dk_at dksX4_opens_3 7 rfl rfl)
theorem dX4_opens_77 : decode cX4_opens 77 = .ok (.iload 6, 2) := dk_21 6 (dk_at dksX4_opens_3 8 rfl rfl)
theorem dX4_opens_79 : decode cX4_opens 79 = .ok (.invokevirtual 125, 3) := dk_182 0 125 (dk_at dksX4_opens_3 10 rfl rfl)
theorem dX4_opens_82 : decode cX4_opens 82 = .ok (.ifCond .eq 28, 3) := dk_153 0 28 (dk_at dksX4_opens_3 13 rfl rfl)
theorem dX4_opens_85 : decode cX4_opens 85 = .ok (.aload_n 0, 1) := dk_42 (dk_at dksX4_opens_3 16 rfl rfl)
theorem dX4_opens_86 : decode cX4_opens 86 = .ok (.getfield 9, 3) := dk_180 0 9 (dk_at dksX4_opens_3 17 rfl rfl)
theorem dX4_opens_89 : decode cX4_opens 89 = .ok (.iload_n 3, 1) := dk_29 (dk_at dksX4_opens_3 20 rfl rfl)
theorem dX4_opens_90 : decode cX4_opens 90 = .ok (.iconst 1, 1) := dk_4 (dk_at dksX4_opens_3 21 rfl rfl)
theorem dX4_opens_91 : decode cX4_opens 91 = .ok (.iadd, 1) := dk_96 (dk_at dksX4_opens_3 22 rfl rfl)
theorem dX4_opens_92 : decode cX4_opens 92 = .ok (.iaload, 1) := dk_46 (dk_at dksX4_opens_3 23 rfl rfl)
theorem dX4_opens_93 : decode cX4_opens 93 = .ok (.iconst 1, 1) := dk_4 (dk_at dksX4_opens_4 0 rfl rfl)
theorem dX4_opens_94 : decode cX4_opens 94 = .ok (.if_icmp .eq 12, 3) := dk_159 0 12 (dk_at dksX4_opens_4 1 rfl rfl)
theorem dX4_opens_97 : decode cX4_opens 97 = .ok (.aload_n 0, 1) := dk_42 (dk_at dksX4_opens_4 4 rfl rfl)
theorem dX4_opens_98 : decode cX4_opens 98 = .ok (.iload 6, 2) := dk_21 6 (dk_at dksX4_opens_4 5 rfl rfl)
theorem dX4_opens_100 : decode cX4_opens 100 = .ok (.invokevirtual 59, 3) := dk_182 0 59 (dk_at dksX4_opens_4 7 rfl rfl)
theorem dX4_opens_103 : decode cX4_opens 103 = .ok (.ifCond .eq 7, 3) := dk_153 0 7 (dk_at dksX4_opens_4 10 rfl rfl)
theorem dX4_opens_106 : decode cX4_opens 106 = .ok (.iconst 1, 1) := dk_4 (dk_at dksX4_opens_4 13 rfl rfl)
theorem dX4_opens_107 : decode cX4_opens 107 = .ok (.goto 4, 3) := dk_167 0 4 (dk_at dksX4_opens_4 14 rfl rfl)
theorem dX4_opens_110 : decode cX4_opens 110 = .ok (.iconst 0, 1) := dk_3 (dk_at dksX4_opens_4 17 rfl rfl)
theorem dX4_opens_111 : decode cX4_opens 111 = .ok (.istore 7, 2) := dk_54 7 (dk_at dksX4_opens_4 18 rfl rfl)
theorem dX4_opens_113 : decode cX4_opens 113 = .ok (.iload 7, 2) := dk_21 7 (dk_at dksX4_opens_4 20 rfl rfl)
theorem dX4_opens_115 : decode cX4_opens 115 = .ok (.ifCond .eq 25, 3) := dk_153 0 25 (dk_at dksX4_opens_5 0 rfl rfl)
theorem dX4_opens_118 : decode cX4_opens 118 = .ok (.iload 5, 2) := dk_21 5 (dk_at dksX4_opens_5 3 rfl rfl)
theorem dX4_opens_120 : decode cX4_opens 120 = .ok (.iconst (-1), 1) := dk_2 (dk_at dksX4_opens_5 5 rfl rfl)
theorem dX4_opens_121 : decode cX4_opens 121 = .ok (.if_icmp .eq 14, 3) := dk_159 0 14 (dk_at dksX4_opens_5 6 rfl rfl)
theorem dX4_opens_124 : decode cX4_opens 124 = .ok (.aload_n 0, 1) := dk_42 (dk_at dksX4_opens_5 9 rfl rfl)
theorem dX4_opens_125 : decode cX4_opens 125 = .ok (.iload 6, 2) := dk_21 6 (dk_at dksX4_opens_5 10 rfl rfl)
theorem dX4_opens_127 : decode cX4_opens 127 = .ok (.iload 5, 2) := dk_21 5 (dk_at dksX4_opens_5 12 rfl rfl)
theorem dX4_opens_129 : decode cX4_opens 129 = .ok (.invokevirtual 65, 3) := dk_182 0 65 (dk_at dksX4_opens_5 14 rfl rfl)
theorem dX4_opens_132 : decode cX4_opens 132 = .ok (.ifCond .eq 8, 3) := dk_153 0 8 (dk_at dksX4_opens_5 17 rfl rfl)
theorem dX4_opens_135 : decode cX4_opens 135 = .ok (.iload 6, 2) := dk_21 6 (dk_at dksX4_opens_5 20 rfl rfl)
theorem dX4_opens_137 : decode cX4_opens 137 = .ok (.goto 5, 3) := dk_167 0 5 (dk_at dksX4_opens_6 0 rfl rfl)
theorem dX4_opens_140 : decode cX4_opens 140 = .ok (.iload 5, 2) := dk_21 5 (dk_at dksX4_opens_6 3 rfl rfl)
theorem dX4_opens_142 : decode cX4_opens 142 = .ok (.istore 5, 2) := dk_54 5 (dk_at dksX4_opens_6 5 rfl rfl)
theorem dX4_opens_144 : decode cX4_opens 144 = .ok (.iinc 6 1, 3) := dk_132 6 1 (dk_at dksX4_opens_6 7 rfl rfl)
theorem dX4_opens_147 : decode cX4_opens 147 = .ok (.goto (-95), 3) := dk_167 255 161 (dk_at dksX4_opens_6 10 rfl rfl)
theorem dX4_opens_150 : decode cX4_opens 150 = .ok (.iload 5, 2) := dk_21 5 (dk_at dksX4_opens_6 13 rfl rfl)
theorem dX4_opens_152 : decode cX4_opens 152 = .ok (.ireturn, 1) := dk_172 (dk_at dksX4_opens_6 15 rfl rfl)
abbrev cX4_linksTo : ByteArray := prog_38_method_62_code
def yX4_linksTo : MethodName := ⟨RX4, "linksTo", "(I)I"⟩
def dkwX4_linksTo_3 : List UInt8 := [132, 4, 1, 167, 255, 223, 29, 172]
abbrev dktX4_linksTo_3 : List UInt8 := dkwX4_linksTo_3 ++ []
def dkwX4_linksTo_2 : List UInt8 := [7, 46, 162, 0, 28, 29, 42, 21, 4, 28, 182, 0, 137, 27, 160, 0, 7, 4, 167, 0, 4, 3, 96, 62]
abbrev dktX4_linksTo_2 : List UInt8 := dkwX4_linksTo_2 ++ dktX4_linksTo_3
def dkwX4_linksTo_1 : List UInt8 := [184, 0, 52, 3, 96, 46, 184, 0, 40, 3, 96, 46, 61, 3, 62, 3, 54, 4, 21, 4, 42, 180, 0, 9]
abbrev dktX4_linksTo_1 : List UInt8 := dkwX4_linksTo_1 ++ dktX4_linksTo_2
def dkwX4_linksTo_0 : List UInt8 := [42, 42, 27, 182, 0, 122, 182, 0, 84, 154, 0, 5, 3, 172, 42, 180, 0, 9, 42, 180, 0, 9, 27]
abbrev dktX4_linksTo_0 : List UInt8 := dkwX4_linksTo_0 ++ dktX4_linksTo_1
theorem dksX4_linksTo_0 : cX4_linksTo.data.toList.drop 0 = dktX4_linksTo_0 := by decide +kernel
theorem dksX4_linksTo_1 : cX4_linksTo.data.toList.drop 23 = dktX4_linksTo_1 := dk_seg dksX4_linksTo_0 23 rfl rfl
theorem dksX4_linksTo_2 : cX4_linksTo.data.toList.drop 47 = dktX4_linksTo_2 := dk_seg dksX4_linksTo_1 24 rfl rfl
theorem dksX4_linksTo_3 : cX4_linksTo.data.toList.drop 71 = dktX4_linksTo_3 := dk_seg dksX4_linksTo_2 24 rfl rfl
theorem dX4_linksTo_0 : decode cX4_linksTo 0 = .ok (.aload_n 0, 1) := dk_42 (dk_at dksX4_linksTo_0 0 rfl rfl)
theorem dX4_linksTo_1 : decode cX4_linksTo 1 = .ok (.aload_n 0, 1) := dk_42 (dk_at dksX4_linksTo_0 1 rfl rfl)
theorem dX4_linksTo_2 : decode cX4_linksTo 2 = .ok (.iload_n 1, 1) := dk_27 (dk_at dksX4_linksTo_0 2 rfl rfl)
theorem dX4_linksTo_3 : decode cX4_linksTo 3 = .ok (.invokevirtual 122, 3) := dk_182 0 122 (dk_at dksX4_linksTo_0 3 rfl rfl)
theorem dX4_linksTo_6 : decode cX4_linksTo 6 = .ok (.invokevirtual 84, 3) := dk_182 0 84 (dk_at dksX4_linksTo_0 6 rfl rfl)
theorem dX4_linksTo_9 : decode cX4_linksTo 9 = .ok (.ifCond .ne 5, 3) := dk_154 0 5 (dk_at dksX4_linksTo_0 9 rfl rfl)
theorem dX4_linksTo_12 : decode cX4_linksTo 12 = .ok (.iconst 0, 1) := dk_3 (dk_at dksX4_linksTo_0 12 rfl rfl)
theorem dX4_linksTo_13 : decode cX4_linksTo 13 = .ok (.ireturn, 1) := dk_172 (dk_at dksX4_linksTo_0 13 rfl rfl)
theorem dX4_linksTo_14 : decode cX4_linksTo 14 = .ok (.aload_n 0, 1) := dk_42 (dk_at dksX4_linksTo_0 14 rfl rfl)
theorem dX4_linksTo_15 : decode cX4_linksTo 15 = .ok (.getfield 9, 3) := dk_180 0 9 (dk_at dksX4_linksTo_0 15 rfl rfl)
theorem dX4_linksTo_18 : decode cX4_linksTo 18 = .ok (.aload_n 0, 1) := dk_42 (dk_at dksX4_linksTo_0 18 rfl rfl)
theorem dX4_linksTo_19 : decode cX4_linksTo 19 = .ok (.getfield 9, 3) := dk_180 0 9 (dk_at dksX4_linksTo_0 19 rfl rfl)
theorem dX4_linksTo_22 : decode cX4_linksTo 22 = .ok (.iload_n 1, 1) := dk_27 (dk_at dksX4_linksTo_0 22 rfl rfl)
theorem dX4_linksTo_23 : decode cX4_linksTo 23 = .ok (.invokestatic 52, 3) := dk_184 0 52 (dk_at dksX4_linksTo_1 0 rfl rfl)
theorem dX4_linksTo_26 : decode cX4_linksTo 26 = .ok (.iconst 0, 1) := dk_3 (dk_at dksX4_linksTo_1 3 rfl rfl)
theorem dX4_linksTo_27 : decode cX4_linksTo 27 = .ok (.iadd, 1) := dk_96 (dk_at dksX4_linksTo_1 4 rfl rfl)
theorem dX4_linksTo_28 : decode cX4_linksTo 28 = .ok (.iaload, 1) := dk_46 (dk_at dksX4_linksTo_1 5 rfl rfl)
theorem dX4_linksTo_29 : decode cX4_linksTo 29 = .ok (.invokestatic 40, 3) := dk_184 0 40 (dk_at dksX4_linksTo_1 6 rfl rfl)
theorem dX4_linksTo_32 : decode cX4_linksTo 32 = .ok (.iconst 0, 1) := dk_3 (dk_at dksX4_linksTo_1 9 rfl rfl)
theorem dX4_linksTo_33 : decode cX4_linksTo 33 = .ok (.iadd, 1) := dk_96 (dk_at dksX4_linksTo_1 10 rfl rfl)
theorem dX4_linksTo_34 : decode cX4_linksTo 34 = .ok (.iaload, 1) := dk_46 (dk_at dksX4_linksTo_1 11 rfl rfl)
theorem dX4_linksTo_35 : decode cX4_linksTo 35 = .ok (.istore_n 2, 1) := dk_61 (dk_at dksX4_linksTo_1 12 rfl rfl)
theorem dX4_linksTo_36 : decode cX4_linksTo 36 = .ok (.iconst 0, 1) := dk_3 (dk_at dksX4_linksTo_1 13 rfl rfl)
theorem dX4_linksTo_37 : decode cX4_linksTo 37 = .ok (.istore_n 3, 1) := dk_62 (dk_at dksX4_linksTo_1 14 rfl rfl)
theorem dX4_linksTo_38 : decode cX4_linksTo 38 = .ok (.iconst 0, 1) := dk_3 (dk_at dksX4_linksTo_1 15 rfl rfl)
theorem dX4_linksTo_39 : decode cX4_linksTo 39 = .ok (.istore 4, 2) := dk_54 4 (dk_at dksX4_linksTo_1 16 rfl rfl)
theorem dX4_linksTo_41 : decode cX4_linksTo 41 = .ok (.iload 4, 2) := dk_21 4 (dk_at dksX4_linksTo_1 18 rfl rfl)
theorem dX4_linksTo_43 : decode cX4_linksTo 43 = .ok (.aload_n 0, 1) := dk_42 (dk_at dksX4_linksTo_1 20 rfl rfl)
theorem dX4_linksTo_44 : decode cX4_linksTo 44 = .ok (.getfield 9, 3) := dk_180 0 9 (dk_at dksX4_linksTo_1 21 rfl rfl)
theorem dX4_linksTo_47 : decode cX4_linksTo 47 = .ok (.iconst 4, 1) := dk_7 (dk_at dksX4_linksTo_2 0 rfl rfl)
theorem dX4_linksTo_48 : decode cX4_linksTo 48 = .ok (.iaload, 1) := dk_46 (dk_at dksX4_linksTo_2 1 rfl rfl)
theorem dX4_linksTo_49 : decode cX4_linksTo 49 = .ok (.if_icmp .ge 28, 3) := dk_162 0 28 (dk_at dksX4_linksTo_2 2 rfl rfl)
theorem dX4_linksTo_52 : decode cX4_linksTo 52 = .ok (.iload_n 3, 1) := dk_29 (dk_at dksX4_linksTo_2 5 rfl rfl)
theorem dX4_linksTo_53 : decode cX4_linksTo 53 = .ok (.aload_n 0, 1) := dk_42 (dk_at dksX4_linksTo_2 6 rfl rfl)
theorem dX4_linksTo_54 : decode cX4_linksTo 54 = .ok (.iload 4, 2) := dk_21 4 (dk_at dksX4_linksTo_2 7 rfl rfl)
theorem dX4_linksTo_56 : decode cX4_linksTo 56 = .ok (.iload_n 2, 1) := dk_28 (dk_at dksX4_linksTo_2 9 rfl rfl)
theorem dX4_linksTo_57 : decode cX4_linksTo 57 = .ok (.invokevirtual 137, 3) := dk_182 0 137 (dk_at dksX4_linksTo_2 10 rfl rfl)
theorem dX4_linksTo_60 : decode cX4_linksTo 60 = .ok (.iload_n 1, 1) := dk_27 (dk_at dksX4_linksTo_2 13 rfl rfl)
theorem dX4_linksTo_61 : decode cX4_linksTo 61 = .ok (.if_icmp .ne 7, 3) := dk_160 0 7 (dk_at dksX4_linksTo_2 14 rfl rfl)
theorem dX4_linksTo_64 : decode cX4_linksTo 64 = .ok (.iconst 1, 1) := dk_4 (dk_at dksX4_linksTo_2 17 rfl rfl)
theorem dX4_linksTo_65 : decode cX4_linksTo 65 = .ok (.goto 4, 3) := dk_167 0 4 (dk_at dksX4_linksTo_2 18 rfl rfl)
theorem dX4_linksTo_68 : decode cX4_linksTo 68 = .ok (.iconst 0, 1) := dk_3 (dk_at dksX4_linksTo_2 21 rfl rfl)
theorem dX4_linksTo_69 : decode cX4_linksTo 69 = .ok (.iadd, 1) := dk_96 (dk_at dksX4_linksTo_2 22 rfl rfl)
theorem dX4_linksTo_70 : decode cX4_linksTo 70 = .ok (.istore_n 3, 1) := dk_62 (dk_at dksX4_linksTo_2 23 rfl rfl)
theorem dX4_linksTo_71 : decode cX4_linksTo 71 = .ok (.iinc 4 1, 3) := dk_132 4 1 (dk_at dksX4_linksTo_3 0 rfl rfl)
theorem dX4_linksTo_74 : decode cX4_linksTo 74 = .ok (.goto (-33), 3) := dk_167 255 223 (dk_at dksX4_linksTo_3 3 rfl rfl)
theorem dX4_linksTo_77 : decode cX4_linksTo 77 = .ok (.iload_n 3, 1) := dk_29 (dk_at dksX4_linksTo_3 6 rfl rfl)
theorem dX4_linksTo_78 : decode cX4_linksTo 78 = .ok (.ireturn, 1) := dk_172 (dk_at dksX4_linksTo_3 7 rfl rfl)
abbrev cX4_releasedShare : ByteArray := prog_38_method_63_code
def yX4_releasedShare : MethodName := ⟨RX4, "releasedShare", "()F"⟩
def dkwX4_releasedShare_3 : List UInt8 := [167, 0, 8, 27, 134, 28, 134, 110, 174]
abbrev dktX4_releasedShare_3 : List UInt8 := dkwX4_releasedShare_3 ++ []
def dkwX4_releasedShare_2 : List UInt8 := [182, 0, 122, 153, 0, 7, 4, 167, 0, 4, 3, 96, 61, 132, 3, 1, 167, 255, 203, 28, 154, 0, 7, 11]
abbrev dktX4_releasedShare_2 : List UInt8 := dkwX4_releasedShare_2 ++ dktX4_releasedShare_3
def dkwX4_releasedShare_1 : List UInt8 := [182, 0, 122, 153, 0, 15, 42, 29, 182, 0, 59, 153, 0, 7, 4, 167, 0, 4, 3, 96, 60, 28, 42, 29]
abbrev dktX4_releasedShare_1 : List UInt8 := dkwX4_releasedShare_1 ++ dktX4_releasedShare_2
def dkwX4_releasedShare_0 : List UInt8 := [42, 3, 181, 0, 25, 3, 60, 3, 61, 3, 62, 29, 42, 180, 0, 9, 6, 46, 162, 0, 49, 27, 42, 29]
abbrev dktX4_releasedShare_0 : List UInt8 := dkwX4_releasedShare_0 ++ dktX4_releasedShare_1
theorem dksX4_releasedShare_0 : cX4_releasedShare.data.toList.drop 0 = dktX4_releasedShare_0 := by decide +kernel
theorem dksX4_releasedShare_1 : cX4_releasedShare.data.toList.drop 24 = dktX4_releasedShare_1 := dk_seg dksX4_releasedShare_0 24 rfl rfl
theorem dksX4_releasedShare_2 : cX4_releasedShare.data.toList.drop 48 = dktX4_releasedShare_2 := dk_seg dksX4_releasedShare_1 24 rfl rfl
theorem dksX4_releasedShare_3 : cX4_releasedShare.data.toList.drop 72 = dktX4_releasedShare_3 := dk_seg dksX4_releasedShare_2 24 rfl rfl
theorem dX4_releasedShare_0 : decode cX4_releasedShare 0 = .ok (.aload_n 0, 1) := dk_42 (dk_at dksX4_releasedShare_0 0 rfl rfl)
theorem dX4_releasedShare_1 : decode cX4_releasedShare 1 = .ok (.iconst 0, 1) := dk_3 (dk_at dksX4_releasedShare_0 1 rfl rfl)
theorem dX4_releasedShare_2 : decode cX4_releasedShare 2 = .ok (.putfield 25, 3) := dk_181 0 25 (dk_at dksX4_releasedShare_0 2 rfl rfl)
theorem dX4_releasedShare_5 : decode cX4_releasedShare 5 = .ok (.iconst 0, 1) := dk_3 (dk_at dksX4_releasedShare_0 5 rfl rfl)
theorem dX4_releasedShare_6 : decode cX4_releasedShare 6 = .ok (.istore_n 1, 1) := dk_60 (dk_at dksX4_releasedShare_0 6 rfl rfl)
theorem dX4_releasedShare_7 : decode cX4_releasedShare 7 = .ok (.iconst 0, 1) := dk_3 (dk_at dksX4_releasedShare_0 7 rfl rfl)
theorem dX4_releasedShare_8 : decode cX4_releasedShare 8 = .ok (.istore_n 2, 1) := dk_61 (dk_at dksX4_releasedShare_0 8 rfl rfl)
theorem dX4_releasedShare_9 : decode cX4_releasedShare 9 = .ok (.iconst 0, 1) := dk_3 (dk_at dksX4_releasedShare_0 9 rfl rfl)
theorem dX4_releasedShare_10 : decode cX4_releasedShare 10 = .ok (.istore_n 3, 1) := dk_62 (dk_at dksX4_releasedShare_0 10 rfl rfl)
theorem dX4_releasedShare_11 : decode cX4_releasedShare 11 = .ok (.iload_n 3, 1) := dk_29 (dk_at dksX4_releasedShare_0 11 rfl rfl)
theorem dX4_releasedShare_12 : decode cX4_releasedShare 12 = .ok (.aload_n 0, 1) := dk_42 (dk_at dksX4_releasedShare_0 12 rfl rfl)
theorem dX4_releasedShare_13 : decode cX4_releasedShare 13 = .ok (.getfield 9, 3) := dk_180 0 9 (dk_at dksX4_releasedShare_0 13 rfl rfl)
theorem dX4_releasedShare_16 : decode cX4_releasedShare 16 = .ok (.iconst 3, 1) := dk_6 (dk_at dksX4_releasedShare_0 16 rfl rfl)
theorem dX4_releasedShare_17 : decode cX4_releasedShare 17 = .ok (.iaload, 1) := dk_46 (dk_at dksX4_releasedShare_0 17 rfl rfl)
theorem dX4_releasedShare_18 : decode cX4_releasedShare 18 = .ok (.if_icmp .ge 49, 3) := dk_162 0 49 (dk_at dksX4_releasedShare_0 18 rfl rfl)
theorem dX4_releasedShare_21 : decode cX4_releasedShare 21 = .ok (.iload_n 1, 1) := dk_27 (dk_at dksX4_releasedShare_0 21 rfl rfl)
theorem dX4_releasedShare_22 : decode cX4_releasedShare 22 = .ok (.aload_n 0, 1) := dk_42 (dk_at dksX4_releasedShare_0 22 rfl rfl)
theorem dX4_releasedShare_23 : decode cX4_releasedShare 23 = .ok (.iload_n 3, 1) := dk_29 (dk_at dksX4_releasedShare_0 23 rfl rfl)
theorem dX4_releasedShare_24 : decode cX4_releasedShare 24 = .ok (.invokevirtual 122, 3) := dk_182 0 122 (dk_at dksX4_releasedShare_1 0 rfl rfl)
theorem dX4_releasedShare_27 : decode cX4_releasedShare 27 = .ok (.ifCond .eq 15, 3) := dk_153 0 15 (dk_at dksX4_releasedShare_1 3 rfl rfl)
theorem dX4_releasedShare_30 : decode cX4_releasedShare 30 = .ok (.aload_n 0, 1) := dk_42 (dk_at dksX4_releasedShare_1 6 rfl rfl)
theorem dX4_releasedShare_31 : decode cX4_releasedShare 31 = .ok (.iload_n 3, 1) := dk_29 (dk_at dksX4_releasedShare_1 7 rfl rfl)
theorem dX4_releasedShare_32 : decode cX4_releasedShare 32 = .ok (.invokevirtual 59, 3) := dk_182 0 59 (dk_at dksX4_releasedShare_1 8 rfl rfl)
theorem dX4_releasedShare_35 : decode cX4_releasedShare 35 = .ok (.ifCond .eq 7, 3) := dk_153 0 7 (dk_at dksX4_releasedShare_1 11 rfl rfl)
theorem dX4_releasedShare_38 : decode cX4_releasedShare 38 = .ok (.iconst 1, 1) := dk_4 (dk_at dksX4_releasedShare_1 14 rfl rfl)
theorem dX4_releasedShare_39 : decode cX4_releasedShare 39 = .ok (.goto 4, 3) := dk_167 0 4 (dk_at dksX4_releasedShare_1 15 rfl rfl)
theorem dX4_releasedShare_42 : decode cX4_releasedShare 42 = .ok (.iconst 0, 1) := dk_3 (dk_at dksX4_releasedShare_1 18 rfl rfl)
theorem dX4_releasedShare_43 : decode cX4_releasedShare 43 = .ok (.iadd, 1) := dk_96 (dk_at dksX4_releasedShare_1 19 rfl rfl)
theorem dX4_releasedShare_44 : decode cX4_releasedShare 44 = .ok (.istore_n 1, 1) := dk_60 (dk_at dksX4_releasedShare_1 20 rfl rfl)
theorem dX4_releasedShare_45 : decode cX4_releasedShare 45 = .ok (.iload_n 2, 1) := dk_28 (dk_at dksX4_releasedShare_1 21 rfl rfl)
theorem dX4_releasedShare_46 : decode cX4_releasedShare 46 = .ok (.aload_n 0, 1) := dk_42 (dk_at dksX4_releasedShare_1 22 rfl rfl)
theorem dX4_releasedShare_47 : decode cX4_releasedShare 47 = .ok (.iload_n 3, 1) := dk_29 (dk_at dksX4_releasedShare_1 23 rfl rfl)
theorem dX4_releasedShare_48 : decode cX4_releasedShare 48 = .ok (.invokevirtual 122, 3) := dk_182 0 122 (dk_at dksX4_releasedShare_2 0 rfl rfl)
theorem dX4_releasedShare_51 : decode cX4_releasedShare 51 = .ok (.ifCond .eq 7, 3) := dk_153 0 7 (dk_at dksX4_releasedShare_2 3 rfl rfl)
theorem dX4_releasedShare_54 : decode cX4_releasedShare 54 = .ok (.iconst 1, 1) := dk_4 (dk_at dksX4_releasedShare_2 6 rfl rfl)
theorem dX4_releasedShare_55 : decode cX4_releasedShare 55 = .ok (.goto 4, 3) := dk_167 0 4 (dk_at dksX4_releasedShare_2 7 rfl rfl)
theorem dX4_releasedShare_58 : decode cX4_releasedShare 58 = .ok (.iconst 0, 1) := dk_3 (dk_at dksX4_releasedShare_2 10 rfl rfl)
theorem dX4_releasedShare_59 : decode cX4_releasedShare 59 = .ok (.iadd, 1) := dk_96 (dk_at dksX4_releasedShare_2 11 rfl rfl)
theorem dX4_releasedShare_60 : decode cX4_releasedShare 60 = .ok (.istore_n 2, 1) := dk_61 (dk_at dksX4_releasedShare_2 12 rfl rfl)
theorem dX4_releasedShare_61 : decode cX4_releasedShare 61 = .ok (.iinc 3 1, 3) := dk_132 3 1 (dk_at dksX4_releasedShare_2 13 rfl rfl)
theorem dX4_releasedShare_64 : decode cX4_releasedShare 64 = .ok (.goto (-53), 3) := dk_167 255 203 (dk_at dksX4_releasedShare_2 16 rfl rfl)
theorem dX4_releasedShare_67 : decode cX4_releasedShare 67 = .ok (.iload_n 2, 1) := dk_28 (dk_at dksX4_releasedShare_2 19 rfl rfl)
theorem dX4_releasedShare_68 : decode cX4_releasedShare 68 = .ok (.ifCond .ne 7, 3) := dk_154 0 7 (dk_at dksX4_releasedShare_2 20 rfl rfl)
theorem dX4_releasedShare_71 : decode cX4_releasedShare 71 = .ok (.fconst 0, 1) := dk_11 (dk_at dksX4_releasedShare_2 23 rfl rfl)
theorem dX4_releasedShare_72 : decode cX4_releasedShare 72 = .ok (.goto 8, 3) := dk_167 0 8 (dk_at dksX4_releasedShare_3 0 rfl rfl)
theorem dX4_releasedShare_75 : decode cX4_releasedShare 75 = .ok (.iload_n 1, 1) := dk_27 (dk_at dksX4_releasedShare_3 3 rfl rfl)
theorem dX4_releasedShare_76 : decode cX4_releasedShare 76 = .ok (.i2f, 1) := dk_134 (dk_at dksX4_releasedShare_3 4 rfl rfl)
theorem dX4_releasedShare_77 : decode cX4_releasedShare 77 = .ok (.iload_n 2, 1) := dk_28 (dk_at dksX4_releasedShare_3 5 rfl rfl)
theorem dX4_releasedShare_78 : decode cX4_releasedShare 78 = .ok (.i2f, 1) := dk_134 (dk_at dksX4_releasedShare_3 6 rfl rfl)
theorem dX4_releasedShare_79 : decode cX4_releasedShare 79 = .ok (.fdiv, 1) := dk_110 (dk_at dksX4_releasedShare_3 7 rfl rfl)
theorem dX4_releasedShare_80 : decode cX4_releasedShare 80 = .ok (.freturn, 1) := dk_174 (dk_at dksX4_releasedShare_3 8 rfl rfl)
abbrev cX4_lockedPer : ByteArray := prog_38_method_64_code
def yX4_lockedPer : MethodName := ⟨RX4, "lockedPer", "()D"⟩
def dkwX4_lockedPer_3 : List UInt8 := [154, 0, 7, 14, 167, 0, 13, 27, 135, 42, 180, 0, 9, 5, 46, 135, 111, 175]
abbrev dktX4_lockedPer_3 : List UInt8 := dkwX4_lockedPer_3 ++ []
def dkwX4_lockedPer_2 : List UInt8 := [167, 0, 4, 3, 96, 60, 132, 3, 1, 167, 255, 221, 132, 2, 1, 167, 255, 203, 42, 180, 0, 9, 5, 46]
abbrev dktX4_lockedPer_2 : List UInt8 := dkwX4_lockedPer_2 ++ dktX4_lockedPer_3
def dkwX4_lockedPer_1 : List UInt8 := [180, 0, 9, 28, 184, 0, 40, 4, 96, 46, 162, 0, 26, 27, 42, 28, 29, 182, 0, 103, 158, 0, 7, 4]
abbrev dktX4_lockedPer_1 : List UInt8 := dkwX4_lockedPer_1 ++ dktX4_lockedPer_2
def dkwX4_lockedPer_0 : List UInt8 := [42, 3, 181, 0, 25, 3, 60, 3, 61, 28, 42, 180, 0, 9, 5, 46, 162, 0, 49, 3, 62, 29, 42]
abbrev dktX4_lockedPer_0 : List UInt8 := dkwX4_lockedPer_0 ++ dktX4_lockedPer_1
theorem dksX4_lockedPer_0 : cX4_lockedPer.data.toList.drop 0 = dktX4_lockedPer_0 := by decide +kernel
theorem dksX4_lockedPer_1 : cX4_lockedPer.data.toList.drop 23 = dktX4_lockedPer_1 := dk_seg dksX4_lockedPer_0 23 rfl rfl
theorem dksX4_lockedPer_2 : cX4_lockedPer.data.toList.drop 47 = dktX4_lockedPer_2 := dk_seg dksX4_lockedPer_1 24 rfl rfl
theorem dksX4_lockedPer_3 : cX4_lockedPer.data.toList.drop 71 = dktX4_lockedPer_3 := dk_seg dksX4_lockedPer_2 24 rfl rfl
theorem dX4_lockedPer_0 : decode cX4_lockedPer 0 = .ok (.aload_n 0, 1) := dk_42 (dk_at dksX4_lockedPer_0 0 rfl rfl)
theorem dX4_lockedPer_1 : decode cX4_lockedPer 1 = .ok (.iconst 0, 1) := dk_3 (dk_at dksX4_lockedPer_0 1 rfl rfl)
theorem dX4_lockedPer_2 : decode cX4_lockedPer 2 = .ok (.putfield 25, 3) := dk_181 0 25 (dk_at dksX4_lockedPer_0 2 rfl rfl)
theorem dX4_lockedPer_5 : decode cX4_lockedPer 5 = .ok (.iconst 0, 1) := dk_3 (dk_at dksX4_lockedPer_0 5 rfl rfl)
theorem dX4_lockedPer_6 : decode cX4_lockedPer 6 = .ok (.istore_n 1, 1) := dk_60 (dk_at dksX4_lockedPer_0 6 rfl rfl)
theorem dX4_lockedPer_7 : decode cX4_lockedPer 7 = .ok (.iconst 0, 1) := dk_3 (dk_at dksX4_lockedPer_0 7 rfl rfl)
theorem dX4_lockedPer_8 : decode cX4_lockedPer 8 = .ok (.istore_n 2, 1) := dk_61 (dk_at dksX4_lockedPer_0 8 rfl rfl)
theorem dX4_lockedPer_9 : decode cX4_lockedPer 9 = .ok (.iload_n 2, 1) := dk_28 (dk_at dksX4_lockedPer_0 9 rfl rfl)
theorem dX4_lockedPer_10 : decode cX4_lockedPer 10 = .ok (.aload_n 0, 1) := dk_42 (dk_at dksX4_lockedPer_0 10 rfl rfl)
theorem dX4_lockedPer_11 : decode cX4_lockedPer 11 = .ok (.getfield 9, 3) := dk_180 0 9 (dk_at dksX4_lockedPer_0 11 rfl rfl)
theorem dX4_lockedPer_14 : decode cX4_lockedPer 14 = .ok (.iconst 2, 1) := dk_5 (dk_at dksX4_lockedPer_0 14 rfl rfl)
theorem dX4_lockedPer_15 : decode cX4_lockedPer 15 = .ok (.iaload, 1) := dk_46 (dk_at dksX4_lockedPer_0 15 rfl rfl)
theorem dX4_lockedPer_16 : decode cX4_lockedPer 16 = .ok (.if_icmp .ge 49, 3) := dk_162 0 49 (dk_at dksX4_lockedPer_0 16 rfl rfl)
theorem dX4_lockedPer_19 : decode cX4_lockedPer 19 = .ok (.iconst 0, 1) := dk_3 (dk_at dksX4_lockedPer_0 19 rfl rfl)
theorem dX4_lockedPer_20 : decode cX4_lockedPer 20 = .ok (.istore_n 3, 1) := dk_62 (dk_at dksX4_lockedPer_0 20 rfl rfl)
theorem dX4_lockedPer_21 : decode cX4_lockedPer 21 = .ok (.iload_n 3, 1) := dk_29 (dk_at dksX4_lockedPer_0 21 rfl rfl)
theorem dX4_lockedPer_22 : decode cX4_lockedPer 22 = .ok (.aload_n 0, 1) := dk_42 (dk_at dksX4_lockedPer_0 22 rfl rfl)
theorem dX4_lockedPer_23 : decode cX4_lockedPer 23 = .ok (.getfield 9, 3) := dk_180 0 9 (dk_at dksX4_lockedPer_1 0 rfl rfl)
theorem dX4_lockedPer_26 : decode cX4_lockedPer 26 = .ok (.iload_n 2, 1) := dk_28 (dk_at dksX4_lockedPer_1 3 rfl rfl)
theorem dX4_lockedPer_27 : decode cX4_lockedPer 27 = .ok (.invokestatic 40, 3) := dk_184 0 40 (dk_at dksX4_lockedPer_1 4 rfl rfl)
theorem dX4_lockedPer_30 : decode cX4_lockedPer 30 = .ok (.iconst 1, 1) := dk_4 (dk_at dksX4_lockedPer_1 7 rfl rfl)
theorem dX4_lockedPer_31 : decode cX4_lockedPer 31 = .ok (.iadd, 1) := dk_96 (dk_at dksX4_lockedPer_1 8 rfl rfl)
theorem dX4_lockedPer_32 : decode cX4_lockedPer 32 = .ok (.iaload, 1) := dk_46 (dk_at dksX4_lockedPer_1 9 rfl rfl)
theorem dX4_lockedPer_33 : decode cX4_lockedPer 33 = .ok (.if_icmp .ge 26, 3) := dk_162 0 26 (dk_at dksX4_lockedPer_1 10 rfl rfl)
theorem dX4_lockedPer_36 : decode cX4_lockedPer 36 = .ok (.iload_n 1, 1) := dk_27 (dk_at dksX4_lockedPer_1 13 rfl rfl)
theorem dX4_lockedPer_37 : decode cX4_lockedPer 37 = .ok (.aload_n 0, 1) := dk_42 (dk_at dksX4_lockedPer_1 14 rfl rfl)
theorem dX4_lockedPer_38 : decode cX4_lockedPer 38 = .ok (.iload_n 2, 1) := dk_28 (dk_at dksX4_lockedPer_1 15 rfl rfl)
theorem dX4_lockedPer_39 : decode cX4_lockedPer 39 = .ok (.iload_n 3, 1) := dk_29 (dk_at dksX4_lockedPer_1 16 rfl rfl)
theorem dX4_lockedPer_40 : decode cX4_lockedPer 40 = .ok (.invokevirtual 103, 3) := dk_182 0 103 (dk_at dksX4_lockedPer_1 17 rfl rfl)
theorem dX4_lockedPer_43 : decode cX4_lockedPer 43 = .ok (.ifCond .le 7, 3) := dk_158 0 7 (dk_at dksX4_lockedPer_1 20 rfl rfl)
theorem dX4_lockedPer_46 : decode cX4_lockedPer 46 = .ok (.iconst 1, 1) := dk_4 (dk_at dksX4_lockedPer_1 23 rfl rfl)
theorem dX4_lockedPer_47 : decode cX4_lockedPer 47 = .ok (.goto 4, 3) := dk_167 0 4 (dk_at dksX4_lockedPer_2 0 rfl rfl)
theorem dX4_lockedPer_50 : decode cX4_lockedPer 50 = .ok (.iconst 0, 1) := dk_3 (dk_at dksX4_lockedPer_2 3 rfl rfl)
theorem dX4_lockedPer_51 : decode cX4_lockedPer 51 = .ok (.iadd, 1) := dk_96 (dk_at dksX4_lockedPer_2 4 rfl rfl)
theorem dX4_lockedPer_52 : decode cX4_lockedPer 52 = .ok (.istore_n 1, 1) := dk_60 (dk_at dksX4_lockedPer_2 5 rfl rfl)
theorem dX4_lockedPer_53 : decode cX4_lockedPer 53 = .ok (.iinc 3 1, 3) := dk_132 3 1 (dk_at dksX4_lockedPer_2 6 rfl rfl)
theorem dX4_lockedPer_56 : decode cX4_lockedPer 56 = .ok (.goto (-35), 3) := dk_167 255 221 (dk_at dksX4_lockedPer_2 9 rfl rfl)
theorem dX4_lockedPer_59 : decode cX4_lockedPer 59 = .ok (.iinc 2 1, 3) := dk_132 2 1 (dk_at dksX4_lockedPer_2 12 rfl rfl)
theorem dX4_lockedPer_62 : decode cX4_lockedPer 62 = .ok (.goto (-53), 3) := dk_167 255 203 (dk_at dksX4_lockedPer_2 15 rfl rfl)
theorem dX4_lockedPer_65 : decode cX4_lockedPer 65 = .ok (.aload_n 0, 1) := dk_42 (dk_at dksX4_lockedPer_2 18 rfl rfl)
theorem dX4_lockedPer_66 : decode cX4_lockedPer 66 = .ok (.getfield 9, 3) := dk_180 0 9 (dk_at dksX4_lockedPer_2 19 rfl rfl)
theorem dX4_lockedPer_69 : decode cX4_lockedPer 69 = .ok (.iconst 2, 1) := dk_5 (dk_at dksX4_lockedPer_2 22 rfl rfl)
theorem dX4_lockedPer_70 : decode cX4_lockedPer 70 = .ok (.iaload, 1) := dk_46 (dk_at dksX4_lockedPer_2 23 rfl rfl)
theorem dX4_lockedPer_71 : decode cX4_lockedPer 71 = .ok (.ifCond .ne 7, 3) := dk_154 0 7 (dk_at dksX4_lockedPer_3 0 rfl rfl)
theorem dX4_lockedPer_74 : decode cX4_lockedPer 74 = .ok (.dconst 0, 1) := dk_14 (dk_at dksX4_lockedPer_3 3 rfl rfl)
theorem dX4_lockedPer_75 : decode cX4_lockedPer 75 = .ok (.goto 13, 3) := dk_167 0 13 (dk_at dksX4_lockedPer_3 4 rfl rfl)
theorem dX4_lockedPer_78 : decode cX4_lockedPer 78 = .ok (.iload_n 1, 1) := dk_27 (dk_at dksX4_lockedPer_3 7 rfl rfl)
theorem dX4_lockedPer_79 : decode cX4_lockedPer 79 = .ok (.i2d, 1) := dk_135 (dk_at dksX4_lockedPer_3 8 rfl rfl)
theorem dX4_lockedPer_80 : decode cX4_lockedPer 80 = .ok (.aload_n 0, 1) := dk_42 (dk_at dksX4_lockedPer_3 9 rfl rfl)
theorem dX4_lockedPer_81 : decode cX4_lockedPer 81 = .ok (.getfield 9, 3) := dk_180 0 9 (dk_at dksX4_lockedPer_3 10 rfl rfl)
theorem dX4_lockedPer_84 : decode cX4_lockedPer 84 = .ok (.iconst 2, 1) := dk_5 (dk_at dksX4_lockedPer_3 13 rfl rfl)
theorem dX4_lockedPer_85 : decode cX4_lockedPer 85 = .ok (.iaload, 1) := dk_46 (dk_at dksX4_lockedPer_3 14 rfl rfl)
theorem dX4_lockedPer_86 : decode cX4_lockedPer 86 = .ok (.i2d, 1) := dk_135 (dk_at dksX4_lockedPer_3 15 rfl rfl)
theorem dX4_lockedPer_87 : decode cX4_lockedPer 87 = .ok (.ddiv, 1) := dk_111 (dk_at dksX4_lockedPer_3 16 rfl rfl)
theorem dX4_lockedPer_88 : decode cX4_lockedPer 88 = .ok (.dreturn, 1) := dk_175 (dk_at dksX4_lockedPer_3 17 rfl rfl)
abbrev cX4_events : ByteArray := prog_38_method_71_code
def yX4_events : MethodName := ⟨RX4, "events", "()I"⟩
def dkwX4_events_0 : List UInt8 := [42, 3, 181, 0, 25, 42, 180, 0, 33, 172]
abbrev dktX4_events_0 : List UInt8 := dkwX4_events_0 ++ []
theorem dksX4_events_0 : cX4_events.data.toList.drop 0 = dktX4_events_0 := by decide +kernel
theorem dX4_events_0 : decode cX4_events 0 = .ok (.aload_n 0, 1) := dk_42 (dk_at dksX4_events_0 0 rfl rfl)
theorem dX4_events_1 : decode cX4_events 1 = .ok (.iconst 0, 1) := dk_3 (dk_at dksX4_events_0 1 rfl rfl)
theorem dX4_events_2 : decode cX4_events 2 = .ok (.putfield 25, 3) := dk_181 0 25 (dk_at dksX4_events_0 2 rfl rfl)
theorem dX4_events_5 : decode cX4_events 5 = .ok (.aload_n 0, 1) := dk_42 (dk_at dksX4_events_0 5 rfl rfl)
theorem dX4_events_6 : decode cX4_events 6 = .ok (.getfield 33, 3) := dk_180 0 33 (dk_at dksX4_events_0 6 rfl rfl)
theorem dX4_events_9 : decode cX4_events 9 = .ok (.ireturn, 1) := dk_172 (dk_at dksX4_events_0 9 rfl rfl)
abbrev cX4_hourOf : ByteArray := prog_38_method_72_code
def yX4_hourOf : MethodName := ⟨RX4, "hourOf", "(I)I"⟩
def dkwX4_hourOf_1 : List UInt8 := [180, 0, 19, 27, 4, 100, 46, 167, 0, 4, 3, 172]
abbrev dktX4_hourOf_1 : List UInt8 := dkwX4_hourOf_1 ++ []
def dkwX4_hourOf_0 : List UInt8 := [27, 3, 42, 180, 0, 33, 184, 0, 44, 61, 42, 28, 182, 0, 84, 153, 0, 18, 27, 158, 0, 14, 42]
abbrev dktX4_hourOf_0 : List UInt8 := dkwX4_hourOf_0 ++ dktX4_hourOf_1
theorem dksX4_hourOf_0 : cX4_hourOf.data.toList.drop 0 = dktX4_hourOf_0 := by decide +kernel
theorem dksX4_hourOf_1 : cX4_hourOf.data.toList.drop 23 = dktX4_hourOf_1 := dk_seg dksX4_hourOf_0 23 rfl rfl
theorem dX4_hourOf_0 : decode cX4_hourOf 0 = .ok (.iload_n 1, 1) := dk_27 (dk_at dksX4_hourOf_0 0 rfl rfl)
theorem dX4_hourOf_1 : decode cX4_hourOf 1 = .ok (.iconst 0, 1) := dk_3 (dk_at dksX4_hourOf_0 1 rfl rfl)
theorem dX4_hourOf_2 : decode cX4_hourOf 2 = .ok (.aload_n 0, 1) := dk_42 (dk_at dksX4_hourOf_0 2 rfl rfl)
theorem dX4_hourOf_3 : decode cX4_hourOf 3 = .ok (.getfield 33, 3) := dk_180 0 33 (dk_at dksX4_hourOf_0 3 rfl rfl)
theorem dX4_hourOf_6 : decode cX4_hourOf 6 = .ok (.invokestatic 44, 3) := dk_184 0 44 (dk_at dksX4_hourOf_0 6 rfl rfl)
theorem dX4_hourOf_9 : decode cX4_hourOf 9 = .ok (.istore_n 2, 1) := dk_61 (dk_at dksX4_hourOf_0 9 rfl rfl)
theorem dX4_hourOf_10 : decode cX4_hourOf 10 = .ok (.aload_n 0, 1) := dk_42 (dk_at dksX4_hourOf_0 10 rfl rfl)
theorem dX4_hourOf_11 : decode cX4_hourOf 11 = .ok (.iload_n 2, 1) := dk_28 (dk_at dksX4_hourOf_0 11 rfl rfl)
theorem dX4_hourOf_12 : decode cX4_hourOf 12 = .ok (.invokevirtual 84, 3) := dk_182 0 84 (dk_at dksX4_hourOf_0 12 rfl rfl)
theorem dX4_hourOf_15 : decode cX4_hourOf 15 = .ok (.ifCond .eq 18, 3) := dk_153 0 18 (dk_at dksX4_hourOf_0 15 rfl rfl)
theorem dX4_hourOf_18 : decode cX4_hourOf 18 = .ok (.iload_n 1, 1) := dk_27 (dk_at dksX4_hourOf_0 18 rfl rfl)
theorem dX4_hourOf_19 : decode cX4_hourOf 19 = .ok (.ifCond .le 14, 3) := dk_158 0 14 (dk_at dksX4_hourOf_0 19 rfl rfl)
theorem dX4_hourOf_22 : decode cX4_hourOf 22 = .ok (.aload_n 0, 1) := dk_42 (dk_at dksX4_hourOf_0 22 rfl rfl)
theorem dX4_hourOf_23 : decode cX4_hourOf 23 = .ok (.getfield 19, 3) := dk_180 0 19 (dk_at dksX4_hourOf_1 0 rfl rfl)
theorem dX4_hourOf_26 : decode cX4_hourOf 26 = .ok (.iload_n 1, 1) := dk_27 (dk_at dksX4_hourOf_1 3 rfl rfl)
theorem dX4_hourOf_27 : decode cX4_hourOf 27 = .ok (.iconst 1, 1) := dk_4 (dk_at dksX4_hourOf_1 4 rfl rfl)
theorem dX4_hourOf_28 : decode cX4_hourOf 28 = .ok (.isub, 1) := dk_100 (dk_at dksX4_hourOf_1 5 rfl rfl)
theorem dX4_hourOf_29 : decode cX4_hourOf 29 = .ok (.iaload, 1) := dk_46 (dk_at dksX4_hourOf_1 6 rfl rfl)
theorem dX4_hourOf_30 : decode cX4_hourOf 30 = .ok (.goto 4, 3) := dk_167 0 4 (dk_at dksX4_hourOf_1 7 rfl rfl)
theorem dX4_hourOf_33 : decode cX4_hourOf 33 = .ok (.iconst 0, 1) := dk_3 (dk_at dksX4_hourOf_1 10 rfl rfl)
theorem dX4_hourOf_34 : decode cX4_hourOf 34 = .ok (.ireturn, 1) := dk_172 (dk_at dksX4_hourOf_1 11 rfl rfl)
abbrev cX4_newestThen : ByteArray := prog_38_method_73_code
def yX4_newestThen : MethodName := ⟨RX4, "newestThen", "(III)I"⟩
def dkwX4_newestThen_2 : List UInt8 := [42, 3, 181, 0, 25, 21, 4, 172]
abbrev dktX4_newestThen_2 : List UInt8 := dkwX4_newestThen_2 ++ []
def dkwX4_newestThen_1 : List UInt8 := [28, 29, 182, 0, 97, 153, 0, 12, 42, 28, 29, 182, 0, 106, 167, 0, 4, 2, 54, 4, 42, 182, 0, 206]
abbrev dktX4_newestThen_1 : List UInt8 := dkwX4_newestThen_1 ++ dktX4_newestThen_2
def dkwX4_newestThen_0 : List UInt8 := [42, 27, 3, 42, 180, 0, 33, 184, 0, 44, 182, 0, 84, 154, 0, 5, 3, 172, 42, 27, 182, 0, 202, 42]
abbrev dktX4_newestThen_0 : List UInt8 := dkwX4_newestThen_0 ++ dktX4_newestThen_1
theorem dksX4_newestThen_0 : cX4_newestThen.data.toList.drop 0 = dktX4_newestThen_0 := by decide +kernel
theorem dksX4_newestThen_1 : cX4_newestThen.data.toList.drop 24 = dktX4_newestThen_1 := dk_seg dksX4_newestThen_0 24 rfl rfl
theorem dksX4_newestThen_2 : cX4_newestThen.data.toList.drop 48 = dktX4_newestThen_2 := dk_seg dksX4_newestThen_1 24 rfl rfl
theorem dX4_newestThen_0 : decode cX4_newestThen 0 = .ok (.aload_n 0, 1) := dk_42 (dk_at dksX4_newestThen_0 0 rfl rfl)
theorem dX4_newestThen_1 : decode cX4_newestThen 1 = .ok (.iload_n 1, 1) := dk_27 (dk_at dksX4_newestThen_0 1 rfl rfl)
theorem dX4_newestThen_2 : decode cX4_newestThen 2 = .ok (.iconst 0, 1) := dk_3 (dk_at dksX4_newestThen_0 2 rfl rfl)
theorem dX4_newestThen_3 : decode cX4_newestThen 3 = .ok (.aload_n 0, 1) := dk_42 (dk_at dksX4_newestThen_0 3 rfl rfl)
theorem dX4_newestThen_4 : decode cX4_newestThen 4 = .ok (.getfield 33, 3) := dk_180 0 33 (dk_at dksX4_newestThen_0 4 rfl rfl)
theorem dX4_newestThen_7 : decode cX4_newestThen 7 = .ok (.invokestatic 44, 3) := dk_184 0 44 (dk_at dksX4_newestThen_0 7 rfl rfl)
theorem dX4_newestThen_10 : decode cX4_newestThen 10 = .ok (.invokevirtual 84, 3) := dk_182 0 84 (dk_at dksX4_newestThen_0 10 rfl rfl)
theorem dX4_newestThen_13 : decode cX4_newestThen 13 = .ok (.ifCond .ne 5, 3) := dk_154 0 5 (dk_at dksX4_newestThen_0 13 rfl rfl)
theorem dX4_newestThen_16 : decode cX4_newestThen 16 = .ok (.iconst 0, 1) := dk_3 (dk_at dksX4_newestThen_0 16 rfl rfl)
theorem dX4_newestThen_17 : decode cX4_newestThen 17 = .ok (.ireturn, 1) := dk_172 (dk_at dksX4_newestThen_0 17 rfl rfl)
theorem dX4_newestThen_18 : decode cX4_newestThen 18 = .ok (.aload_n 0, 1) := dk_42 (dk_at dksX4_newestThen_0 18 rfl rfl)
theorem dX4_newestThen_19 : decode cX4_newestThen 19 = .ok (.iload_n 1, 1) := dk_27 (dk_at dksX4_newestThen_0 19 rfl rfl)
theorem dX4_newestThen_20 : decode cX4_newestThen 20 = .ok (.invokevirtual 202, 3) := dk_182 0 202 (dk_at dksX4_newestThen_0 20 rfl rfl)
theorem dX4_newestThen_23 : decode cX4_newestThen 23 = .ok (.aload_n 0, 1) := dk_42 (dk_at dksX4_newestThen_0 23 rfl rfl)
theorem dX4_newestThen_24 : decode cX4_newestThen 24 = .ok (.iload_n 2, 1) := dk_28 (dk_at dksX4_newestThen_1 0 rfl rfl)
theorem dX4_newestThen_25 : decode cX4_newestThen 25 = .ok (.iload_n 3, 1) := dk_29 (dk_at dksX4_newestThen_1 1 rfl rfl)
theorem dX4_newestThen_26 : decode cX4_newestThen 26 = .ok (.invokevirtual 97, 3) := dk_182 0 97 (dk_at dksX4_newestThen_1 2 rfl rfl)
theorem dX4_newestThen_29 : decode cX4_newestThen 29 = .ok (.ifCond .eq 12, 3) := dk_153 0 12 (dk_at dksX4_newestThen_1 5 rfl rfl)
theorem dX4_newestThen_32 : decode cX4_newestThen 32 = .ok (.aload_n 0, 1) := dk_42 (dk_at dksX4_newestThen_1 8 rfl rfl)
theorem dX4_newestThen_33 : decode cX4_newestThen 33 = .ok (.iload_n 2, 1) := dk_28 (dk_at dksX4_newestThen_1 9 rfl rfl)
theorem dX4_newestThen_34 : decode cX4_newestThen 34 = .ok (.iload_n 3, 1) := dk_29 (dk_at dksX4_newestThen_1 10 rfl rfl)
theorem dX4_newestThen_35 : decode cX4_newestThen 35 = .ok (.invokevirtual 106, 3) := dk_182 0 106 (dk_at dksX4_newestThen_1 11 rfl rfl)
theorem dX4_newestThen_38 : decode cX4_newestThen 38 = .ok (.goto 4, 3) := dk_167 0 4 (dk_at dksX4_newestThen_1 14 rfl rfl)
theorem dX4_newestThen_41 : decode cX4_newestThen 41 = .ok (.iconst (-1), 1) := dk_2 (dk_at dksX4_newestThen_1 17 rfl rfl)
theorem dX4_newestThen_42 : decode cX4_newestThen 42 = .ok (.istore 4, 2) := dk_54 4 (dk_at dksX4_newestThen_1 18 rfl rfl)
theorem dX4_newestThen_44 : decode cX4_newestThen 44 = .ok (.aload_n 0, 1) := dk_42 (dk_at dksX4_newestThen_1 20 rfl rfl)
theorem dX4_newestThen_45 : decode cX4_newestThen 45 = .ok (.invokevirtual 206, 3) := dk_182 0 206 (dk_at dksX4_newestThen_1 21 rfl rfl)
theorem dX4_newestThen_48 : decode cX4_newestThen 48 = .ok (.aload_n 0, 1) := dk_42 (dk_at dksX4_newestThen_2 0 rfl rfl)
theorem dX4_newestThen_49 : decode cX4_newestThen 49 = .ok (.iconst 0, 1) := dk_3 (dk_at dksX4_newestThen_2 1 rfl rfl)
theorem dX4_newestThen_50 : decode cX4_newestThen 50 = .ok (.putfield 25, 3) := dk_181 0 25 (dk_at dksX4_newestThen_2 2 rfl rfl)
theorem dX4_newestThen_53 : decode cX4_newestThen 53 = .ok (.iload 4, 2) := dk_21 4 (dk_at dksX4_newestThen_2 5 rfl rfl)
theorem dX4_newestThen_55 : decode cX4_newestThen 55 = .ok (.ireturn, 1) := dk_172 (dk_at dksX4_newestThen_2 7 rfl rfl)
abbrev cX4_redo : ByteArray := prog_38_method_69_code
def yX4_redo : MethodName := ⟨RX4, "redo", "(I)V"⟩
def dkwX4_redo_2 : List UInt8 := [29, 104, 182, 0, 199, 61, 132, 3, 1, 167, 255, 239, 42, 3, 181, 0, 36, 177]
abbrev dktX4_redo_2 : List UInt8 := dkwX4_redo_2 ++ []
def dkwX4_redo_1 : List UInt8 := [167, 255, 234, 42, 182, 0, 22, 42, 4, 181, 0, 36, 3, 61, 3, 62, 29, 27, 162, 0, 18, 42, 16, 6]
abbrev dktX4_redo_1 : List UInt8 := dkwX4_redo_1 ++ dktX4_redo_2
def dkwX4_redo_0 : List UInt8 := [3, 61, 28, 17, 3, 105, 162, 0, 21, 42, 180, 0, 13, 28, 42, 180, 0, 9, 28, 46, 79, 132, 2, 1]
abbrev dktX4_redo_0 : List UInt8 := dkwX4_redo_0 ++ dktX4_redo_1
theorem dksX4_redo_0 : cX4_redo.data.toList.drop 0 = dktX4_redo_0 := by decide +kernel
theorem dksX4_redo_1 : cX4_redo.data.toList.drop 24 = dktX4_redo_1 := dk_seg dksX4_redo_0 24 rfl rfl
theorem dksX4_redo_2 : cX4_redo.data.toList.drop 48 = dktX4_redo_2 := dk_seg dksX4_redo_1 24 rfl rfl
theorem dX4_redo_0 : decode cX4_redo 0 = .ok (.iconst 0, 1) := dk_3 (dk_at dksX4_redo_0 0 rfl rfl)
theorem dX4_redo_1 : decode cX4_redo 1 = .ok (.istore_n 2, 1) := dk_61 (dk_at dksX4_redo_0 1 rfl rfl)
theorem dX4_redo_2 : decode cX4_redo 2 = .ok (.iload_n 2, 1) := dk_28 (dk_at dksX4_redo_0 2 rfl rfl)
theorem dX4_redo_3 : decode cX4_redo 3 = .ok (.sipush 873, 3) := dk_17 3 105 (dk_at dksX4_redo_0 3 rfl rfl)
theorem dX4_redo_6 : decode cX4_redo 6 = .ok (.if_icmp .ge 21, 3) := dk_162 0 21 (dk_at dksX4_redo_0 6 rfl rfl)
theorem dX4_redo_9 : decode cX4_redo 9 = .ok (.aload_n 0, 1) := dk_42 (dk_at dksX4_redo_0 9 rfl rfl)
theorem dX4_redo_10 : decode cX4_redo 10 = .ok (.getfield 13, 3) := dk_180 0 13 (dk_at dksX4_redo_0 10 rfl rfl)
theorem dX4_redo_13 : decode cX4_redo 13 = .ok (.iload_n 2, 1) := dk_28 (dk_at dksX4_redo_0 13 rfl rfl)
theorem dX4_redo_14 : decode cX4_redo 14 = .ok (.aload_n 0, 1) := dk_42 (dk_at dksX4_redo_0 14 rfl rfl)
theorem dX4_redo_15 : decode cX4_redo 15 = .ok (.getfield 9, 3) := dk_180 0 9 (dk_at dksX4_redo_0 15 rfl rfl)
theorem dX4_redo_18 : decode cX4_redo 18 = .ok (.iload_n 2, 1) := dk_28 (dk_at dksX4_redo_0 18 rfl rfl)
theorem dX4_redo_19 : decode cX4_redo 19 = .ok (.iaload, 1) := dk_46 (dk_at dksX4_redo_0 19 rfl rfl)
theorem dX4_redo_20 : decode cX4_redo 20 = .ok (.iastore, 1) := dk_79 (dk_at dksX4_redo_0 20 rfl rfl)
theorem dX4_redo_21 : decode cX4_redo 21 = .ok (.iinc 2 1, 3) := dk_132 2 1 (dk_at dksX4_redo_0 21 rfl rfl)
theorem dX4_redo_24 : decode cX4_redo 24 = .ok (.goto (-22), 3) := dk_167 255 234 (dk_at dksX4_redo_1 0 rfl rfl)
theorem dX4_redo_27 : decode cX4_redo 27 = .ok (.aload_n 0, 1) := dk_42 (dk_at dksX4_redo_1 3 rfl rfl)
theorem dX4_redo_28 : decode cX4_redo 28 = .ok (.invokevirtual 22, 3) := dk_182 0 22 (dk_at dksX4_redo_1 4 rfl rfl)
theorem dX4_redo_31 : decode cX4_redo 31 = .ok (.aload_n 0, 1) := dk_42 (dk_at dksX4_redo_1 7 rfl rfl)
theorem dX4_redo_32 : decode cX4_redo 32 = .ok (.iconst 1, 1) := dk_4 (dk_at dksX4_redo_1 8 rfl rfl)
theorem dX4_redo_33 : decode cX4_redo 33 = .ok (.putfield 36, 3) := dk_181 0 36 (dk_at dksX4_redo_1 9 rfl rfl)
theorem dX4_redo_36 : decode cX4_redo 36 = .ok (.iconst 0, 1) := dk_3 (dk_at dksX4_redo_1 12 rfl rfl)
theorem dX4_redo_37 : decode cX4_redo 37 = .ok (.istore_n 2, 1) := dk_61 (dk_at dksX4_redo_1 13 rfl rfl)
theorem dX4_redo_38 : decode cX4_redo 38 = .ok (.iconst 0, 1) := dk_3 (dk_at dksX4_redo_1 14 rfl rfl)
theorem dX4_redo_39 : decode cX4_redo 39 = .ok (.istore_n 3, 1) := dk_62 (dk_at dksX4_redo_1 15 rfl rfl)
theorem dX4_redo_40 : decode cX4_redo 40 = .ok (.iload_n 3, 1) := dk_29 (dk_at dksX4_redo_1 16 rfl rfl)
theorem dX4_redo_41 : decode cX4_redo 41 = .ok (.iload_n 1, 1) := dk_27 (dk_at dksX4_redo_1 17 rfl rfl)
theorem dX4_redo_42 : decode cX4_redo 42 = .ok (.if_icmp .ge 18, 3) := dk_162 0 18 (dk_at dksX4_redo_1 18 rfl rfl)
theorem dX4_redo_45 : decode cX4_redo 45 = .ok (.aload_n 0, 1) := dk_42 (dk_at dksX4_redo_1 21 rfl rfl)
theorem dX4_redo_46 : decode cX4_redo 46 = .ok (.bipush 6, 2) := dk_16 6 (dk_at dksX4_redo_1 22 rfl rfl)
theorem dX4_redo_48 : decode cX4_redo 48 = .ok (.iload_n 3, 1) := dk_29 (dk_at dksX4_redo_2 0 rfl rfl)
theorem dX4_redo_49 : decode cX4_redo 49 = .ok (.imul, 1) := dk_104 (dk_at dksX4_redo_2 1 rfl rfl)
theorem dX4_redo_50 : decode cX4_redo 50 = .ok (.invokevirtual 199, 3) := dk_182 0 199 (dk_at dksX4_redo_2 2 rfl rfl)
theorem dX4_redo_53 : decode cX4_redo 53 = .ok (.istore_n 2, 1) := dk_61 (dk_at dksX4_redo_2 5 rfl rfl)
theorem dX4_redo_54 : decode cX4_redo 54 = .ok (.iinc 3 1, 3) := dk_132 3 1 (dk_at dksX4_redo_2 6 rfl rfl)
theorem dX4_redo_57 : decode cX4_redo 57 = .ok (.goto (-17), 3) := dk_167 255 239 (dk_at dksX4_redo_2 9 rfl rfl)
theorem dX4_redo_60 : decode cX4_redo 60 = .ok (.aload_n 0, 1) := dk_42 (dk_at dksX4_redo_2 12 rfl rfl)
theorem dX4_redo_61 : decode cX4_redo 61 = .ok (.iconst 0, 1) := dk_3 (dk_at dksX4_redo_2 13 rfl rfl)
theorem dX4_redo_62 : decode cX4_redo 62 = .ok (.putfield 36, 3) := dk_181 0 36 (dk_at dksX4_redo_2 14 rfl rfl)
theorem dX4_redo_65 : decode cX4_redo 65 = .ok (.return_, 1) := dk_177 (dk_at dksX4_redo_2 17 rfl rfl)
abbrev cX4_act : ByteArray := prog_38_method_68_code
def yX4_act : MethodName := ⟨RX4, "act", "(I)I"⟩
def dkwX4_act_7 : List UInt8 := [180, 0, 16, 27, 7, 96, 46, 182, 0, 196, 172]
abbrev dktX4_act_7 : List UInt8 := dkwX4_act_7 ++ []
def dkwX4_act_6 : List UInt8 := [180, 0, 16, 27, 4, 96, 46, 42, 180, 0, 16, 27, 5, 96, 46, 42, 180, 0, 16, 27, 6, 96, 46, 42]
abbrev dktX4_act_6 : List UInt8 := dkwX4_act_6 ++ dktX4_act_7
def dkwX4_act_5 : List UInt8 := [180, 0, 16, 27, 5, 96, 46, 42, 180, 0, 16, 27, 6, 96, 46, 182, 0, 193, 167, 0, 40, 42, 28, 42]
abbrev dktX4_act_5 : List UInt8 := dkwX4_act_5 ++ dktX4_act_6
def dkwX4_act_4 : List UInt8 := [7, 96, 46, 182, 0, 190, 172, 28, 16, 13, 162, 0, 35, 42, 28, 42, 180, 0, 16, 27, 4, 96, 46, 42]
abbrev dktX4_act_4 : List UInt8 := dkwX4_act_4 ++ dktX4_act_5
def dkwX4_act_3 : List UInt8 := [4, 96, 46, 42, 180, 0, 16, 27, 5, 96, 46, 42, 180, 0, 16, 27, 6, 96, 46, 42, 180, 0, 16, 27]
abbrev dktX4_act_3 : List UInt8 := dkwX4_act_3 ++ dktX4_act_4
def dkwX4_act_2 : List UInt8 := [180, 0, 16, 27, 8, 96, 46, 182, 0, 187, 172, 28, 16, 7, 162, 0, 41, 42, 28, 42, 180, 0, 16, 27]
abbrev dktX4_act_2 : List UInt8 := dkwX4_act_2 ++ dktX4_act_3
def dkwX4_act_1 : List UInt8 := [180, 0, 16, 27, 5, 96, 46, 42, 180, 0, 16, 27, 6, 96, 46, 42, 180, 0, 16, 27, 7, 96, 46, 42]
abbrev dktX4_act_1 : List UInt8 := dkwX4_act_1 ++ dktX4_act_2
def dkwX4_act_0 : List UInt8 := [42, 180, 0, 16, 27, 46, 61, 28, 8, 160, 0, 48, 42, 42, 180, 0, 16, 27, 4, 96, 46, 42]
abbrev dktX4_act_0 : List UInt8 := dkwX4_act_0 ++ dktX4_act_1
theorem dksX4_act_0 : cX4_act.data.toList.drop 0 = dktX4_act_0 := by decide +kernel
theorem dksX4_act_1 : cX4_act.data.toList.drop 22 = dktX4_act_1 := dk_seg dksX4_act_0 22 rfl rfl
theorem dksX4_act_2 : cX4_act.data.toList.drop 46 = dktX4_act_2 := dk_seg dksX4_act_1 24 rfl rfl
theorem dksX4_act_3 : cX4_act.data.toList.drop 70 = dktX4_act_3 := dk_seg dksX4_act_2 24 rfl rfl
theorem dksX4_act_4 : cX4_act.data.toList.drop 94 = dktX4_act_4 := dk_seg dksX4_act_3 24 rfl rfl
theorem dksX4_act_5 : cX4_act.data.toList.drop 118 = dktX4_act_5 := dk_seg dksX4_act_4 24 rfl rfl
theorem dksX4_act_6 : cX4_act.data.toList.drop 142 = dktX4_act_6 := dk_seg dksX4_act_5 24 rfl rfl
theorem dksX4_act_7 : cX4_act.data.toList.drop 166 = dktX4_act_7 := dk_seg dksX4_act_6 24 rfl rfl
theorem dX4_act_0 : decode cX4_act 0 = .ok (.aload_n 0, 1) := dk_42 (dk_at dksX4_act_0 0 rfl rfl)
theorem dX4_act_1 : decode cX4_act 1 = .ok (.getfield 16, 3) := dk_180 0 16 (dk_at dksX4_act_0 1 rfl rfl)
theorem dX4_act_4 : decode cX4_act 4 = .ok (.iload_n 1, 1) := dk_27 (dk_at dksX4_act_0 4 rfl rfl)
theorem dX4_act_5 : decode cX4_act 5 = .ok (.iaload, 1) := dk_46 (dk_at dksX4_act_0 5 rfl rfl)
theorem dX4_act_6 : decode cX4_act 6 = .ok (.istore_n 2, 1) := dk_61 (dk_at dksX4_act_0 6 rfl rfl)
theorem dX4_act_7 : decode cX4_act 7 = .ok (.iload_n 2, 1) := dk_28 (dk_at dksX4_act_0 7 rfl rfl)
theorem dX4_act_8 : decode cX4_act 8 = .ok (.iconst 5, 1) := dk_8 (dk_at dksX4_act_0 8 rfl rfl)
theorem dX4_act_9 : decode cX4_act 9 = .ok (.if_icmp .ne 48, 3) := dk_160 0 48 (dk_at dksX4_act_0 9 rfl rfl)
theorem dX4_act_12 : decode cX4_act 12 = .ok (.aload_n 0, 1) := dk_42 (dk_at dksX4_act_0 12 rfl rfl)
theorem dX4_act_13 : decode cX4_act 13 = .ok (.aload_n 0, 1) := dk_42 (dk_at dksX4_act_0 13 rfl rfl)
theorem dX4_act_14 : decode cX4_act 14 = .ok (.getfield 16, 3) := dk_180 0 16 (dk_at dksX4_act_0 14 rfl rfl)
theorem dX4_act_17 : decode cX4_act 17 = .ok (.iload_n 1, 1) := dk_27 (dk_at dksX4_act_0 17 rfl rfl)
theorem dX4_act_18 : decode cX4_act 18 = .ok (.iconst 1, 1) := dk_4 (dk_at dksX4_act_0 18 rfl rfl)
theorem dX4_act_19 : decode cX4_act 19 = .ok (.iadd, 1) := dk_96 (dk_at dksX4_act_0 19 rfl rfl)
theorem dX4_act_20 : decode cX4_act 20 = .ok (.iaload, 1) := dk_46 (dk_at dksX4_act_0 20 rfl rfl)
theorem dX4_act_21 : decode cX4_act 21 = .ok (.aload_n 0, 1) := dk_42 (dk_at dksX4_act_0 21 rfl rfl)
theorem dX4_act_22 : decode cX4_act 22 = .ok (.getfield 16, 3) := dk_180 0 16 (dk_at dksX4_act_1 0 rfl rfl)
theorem dX4_act_25 : decode cX4_act 25 = .ok (.iload_n 1, 1) := dk_27 (dk_at dksX4_act_1 3 rfl rfl)
theorem dX4_act_26 : decode cX4_act 26 = .ok (.iconst 2, 1) := dk_5 (dk_at dksX4_act_1 4 rfl rfl)
theorem dX4_act_27 : decode cX4_act 27 = .ok (.iadd, 1) := dk_96 (dk_at dksX4_act_1 5 rfl rfl)
theorem dX4_act_28 : decode cX4_act 28 = .ok (.iaload, 1) := dk_46 (dk_at dksX4_act_1 6 rfl rfl)
theorem dX4_act_29 : decode cX4_act 29 = .ok (.aload_n 0, 1) := dk_42 (dk_at dksX4_act_1 7 rfl rfl)
theorem dX4_act_30 : decode cX4_act 30 = .ok (.getfield 16, 3) := dk_180 0 16 (dk_at dksX4_act_1 8 rfl rfl)
theorem dX4_act_33 : decode cX4_act 33 = .ok (.iload_n 1, 1) := dk_27 (dk_at dksX4_act_1 11 rfl rfl)
theorem dX4_act_34 : decode cX4_act 34 = .ok (.iconst 3, 1) := dk_6 (dk_at dksX4_act_1 12 rfl rfl)
theorem dX4_act_35 : decode cX4_act 35 = .ok (.iadd, 1) := dk_96 (dk_at dksX4_act_1 13 rfl rfl)
theorem dX4_act_36 : decode cX4_act 36 = .ok (.iaload, 1) := dk_46 (dk_at dksX4_act_1 14 rfl rfl)
theorem dX4_act_37 : decode cX4_act 37 = .ok (.aload_n 0, 1) := dk_42 (dk_at dksX4_act_1 15 rfl rfl)
theorem dX4_act_38 : decode cX4_act 38 = .ok (.getfield 16, 3) := dk_180 0 16 (dk_at dksX4_act_1 16 rfl rfl)
theorem dX4_act_41 : decode cX4_act 41 = .ok (.iload_n 1, 1) := dk_27 (dk_at dksX4_act_1 19 rfl rfl)
theorem dX4_act_42 : decode cX4_act 42 = .ok (.iconst 4, 1) := dk_7 (dk_at dksX4_act_1 20 rfl rfl)
theorem dX4_act_43 : decode cX4_act 43 = .ok (.iadd, 1) := dk_96 (dk_at dksX4_act_1 21 rfl rfl)
theorem dX4_act_44 : decode cX4_act 44 = .ok (.iaload, 1) := dk_46 (dk_at dksX4_act_1 22 rfl rfl)
theorem dX4_act_45 : decode cX4_act 45 = .ok (.aload_n 0, 1) := dk_42 (dk_at dksX4_act_1 23 rfl rfl)
theorem dX4_act_46 : decode cX4_act 46 = .ok (.getfield 16, 3) := dk_180 0 16 (dk_at dksX4_act_2 0 rfl rfl)
theorem dX4_act_49 : decode cX4_act 49 = .ok (.iload_n 1, 1) := dk_27 (dk_at dksX4_act_2 3 rfl rfl)
theorem dX4_act_50 : decode cX4_act 50 = .ok (.iconst 5, 1) := dk_8 (dk_at dksX4_act_2 4 rfl rfl)
theorem dX4_act_51 : decode cX4_act 51 = .ok (.iadd, 1) := dk_96 (dk_at dksX4_act_2 5 rfl rfl)
theorem dX4_act_52 : decode cX4_act 52 = .ok (.iaload, 1) := dk_46 (dk_at dksX4_act_2 6 rfl rfl)
theorem dX4_act_53 : decode cX4_act 53 = .ok (.invokevirtual 187, 3) := dk_182 0 187 (dk_at dksX4_act_2 7 rfl rfl)
theorem dX4_act_56 : decode cX4_act 56 = .ok (.ireturn, 1) := dk_172 (dk_at dksX4_act_2 10 rfl rfl)
theorem dX4_act_57 : decode cX4_act 57 = .ok (.iload_n 2, 1) := dk_28 (dk_at dksX4_act_2 11 rfl rfl)
theorem dX4_act_58 : decode cX4_act 58 = .ok (.bipush 7, 2) := dk_16 7 (dk_at dksX4_act_2 12 rfl rfl)
theorem dX4_act_60 : decode cX4_act 60 = .ok (.if_icmp .ge 41, 3) := dk_162 0 41 (dk_at dksX4_act_2 14 rfl rfl)
theorem dX4_act_63 : decode cX4_act 63 = .ok (.aload_n 0, 1) := dk_42 (dk_at dksX4_act_2 17 rfl rfl)
theorem dX4_act_64 : decode cX4_act 64 = .ok (.iload_n 2, 1) := dk_28 (dk_at dksX4_act_2 18 rfl rfl)
theorem dX4_act_65 : decode cX4_act 65 = .ok (.aload_n 0, 1) := dk_42 (dk_at dksX4_act_2 19 rfl rfl)
theorem dX4_act_66 : decode cX4_act 66 = .ok (.getfield 16, 3) := dk_180 0 16 (dk_at dksX4_act_2 20 rfl rfl)
theorem dX4_act_69 : decode cX4_act 69 = .ok (.iload_n 1, 1) := dk_27 (dk_at dksX4_act_2 23 rfl rfl)
theorem dX4_act_70 : decode cX4_act 70 = .ok (.iconst 1, 1) := dk_4 (dk_at dksX4_act_3 0 rfl rfl)
theorem dX4_act_71 : decode cX4_act 71 = .ok (.iadd, 1) := dk_96 (dk_at dksX4_act_3 1 rfl rfl)
theorem dX4_act_72 : decode cX4_act 72 = .ok (.iaload, 1) := dk_46 (dk_at dksX4_act_3 2 rfl rfl)
theorem dX4_act_73 : decode cX4_act 73 = .ok (.aload_n 0, 1) := dk_42 (dk_at dksX4_act_3 3 rfl rfl)
theorem dX4_act_74 : decode cX4_act 74 = .ok (.getfield 16, 3) := dk_180 0 16 (dk_at dksX4_act_3 4 rfl rfl)
theorem dX4_act_77 : decode cX4_act 77 = .ok (.iload_n 1, 1) := dk_27 (dk_at dksX4_act_3 7 rfl rfl)
theorem dX4_act_78 : decode cX4_act 78 = .ok (.iconst 2, 1) := dk_5 (dk_at dksX4_act_3 8 rfl rfl)
theorem dX4_act_79 : decode cX4_act 79 = .ok (.iadd, 1) := dk_96 (dk_at dksX4_act_3 9 rfl rfl)
theorem dX4_act_80 : decode cX4_act 80 = .ok (.iaload, 1) := dk_46 (dk_at dksX4_act_3 10 rfl rfl)
theorem dX4_act_81 : decode cX4_act 81 = .ok (.aload_n 0, 1) := dk_42 (dk_at dksX4_act_3 11 rfl rfl)
theorem dX4_act_82 : decode cX4_act 82 = .ok (.getfield 16, 3) := dk_180 0 16 (dk_at dksX4_act_3 12 rfl rfl)
theorem dX4_act_85 : decode cX4_act 85 = .ok (.iload_n 1, 1) := dk_27 (dk_at dksX4_act_3 15 rfl rfl)
theorem dX4_act_86 : decode cX4_act 86 = .ok (.iconst 3, 1) := dk_6 (dk_at dksX4_act_3 16 rfl rfl)
theorem dX4_act_87 : decode cX4_act 87 = .ok (.iadd, 1) := dk_96 (dk_at dksX4_act_3 17 rfl rfl)
theorem dX4_act_88 : decode cX4_act 88 = .ok (.iaload, 1) := dk_46 (dk_at dksX4_act_3 18 rfl rfl)
theorem dX4_act_89 : decode cX4_act 89 = .ok (.aload_n 0, 1) := dk_42 (dk_at dksX4_act_3 19 rfl rfl)
theorem dX4_act_90 : decode cX4_act 90 = .ok (.getfield 16, 3) := dk_180 0 16 (dk_at dksX4_act_3 20 rfl rfl)
theorem dX4_act_93 : decode cX4_act 93 = .ok (.iload_n 1, 1) := dk_27 (dk_at dksX4_act_3 23 rfl rfl)
theorem dX4_act_94 : decode cX4_act 94 = .ok (.iconst 4, 1) := dk_7 (dk_at dksX4_act_4 0 rfl rfl)
theorem dX4_act_95 : decode cX4_act 95 = .ok (.iadd, 1) := dk_96 (dk_at dksX4_act_4 1 rfl rfl)
theorem dX4_act_96 : decode cX4_act 96 = .ok (.iaload, 1) := dk_46 (dk_at dksX4_act_4 2 rfl rfl)
theorem dX4_act_97 : decode cX4_act 97 = .ok (.invokevirtual 190, 3) := dk_182 0 190 (dk_at dksX4_act_4 3 rfl rfl)
theorem dX4_act_100 : decode cX4_act 100 = .ok (.ireturn, 1) := dk_172 (dk_at dksX4_act_4 6 rfl rfl)
theorem dX4_act_101 : decode cX4_act 101 = .ok (.iload_n 2, 1) := dk_28 (dk_at dksX4_act_4 7 rfl rfl)
theorem dX4_act_102 : decode cX4_act 102 = .ok (.bipush 13, 2) := dk_16 13 (dk_at dksX4_act_4 8 rfl rfl)
theorem dX4_act_104 : decode cX4_act 104 = .ok (.if_icmp .ge 35, 3) := dk_162 0 35 (dk_at dksX4_act_4 10 rfl rfl)
theorem dX4_act_107 : decode cX4_act 107 = .ok (.aload_n 0, 1) := dk_42 (dk_at dksX4_act_4 13 rfl rfl)
theorem dX4_act_108 : decode cX4_act 108 = .ok (.iload_n 2, 1) := dk_28 (dk_at dksX4_act_4 14 rfl rfl)
theorem dX4_act_109 : decode cX4_act 109 = .ok (.aload_n 0, 1) := dk_42 (dk_at dksX4_act_4 15 rfl rfl)
theorem dX4_act_110 : decode cX4_act 110 = .ok (.getfield 16, 3) := dk_180 0 16 (dk_at dksX4_act_4 16 rfl rfl)
theorem dX4_act_113 : decode cX4_act 113 = .ok (.iload_n 1, 1) := dk_27 (dk_at dksX4_act_4 19 rfl rfl)
theorem dX4_act_114 : decode cX4_act 114 = .ok (.iconst 1, 1) := dk_4 (dk_at dksX4_act_4 20 rfl rfl)
theorem dX4_act_115 : decode cX4_act 115 = .ok (.iadd, 1) := dk_96 (dk_at dksX4_act_4 21 rfl rfl)
theorem dX4_act_116 : decode cX4_act 116 = .ok (.iaload, 1) := dk_46 (dk_at dksX4_act_4 22 rfl rfl)
theorem dX4_act_117 : decode cX4_act 117 = .ok (.aload_n 0, 1) := dk_42 (dk_at dksX4_act_4 23 rfl rfl)
theorem dX4_act_118 : decode cX4_act 118 = .ok (.getfield 16, 3) := dk_180 0 16 (dk_at dksX4_act_5 0 rfl rfl)
theorem dX4_act_121 : decode cX4_act 121 = .ok (.iload_n 1, 1) := dk_27 (dk_at dksX4_act_5 3 rfl rfl)
theorem dX4_act_122 : decode cX4_act 122 = .ok (.iconst 2, 1) := dk_5 (dk_at dksX4_act_5 4 rfl rfl)
theorem dX4_act_123 : decode cX4_act 123 = .ok (.iadd, 1) := dk_96 (dk_at dksX4_act_5 5 rfl rfl)
theorem dX4_act_124 : decode cX4_act 124 = .ok (.iaload, 1) := dk_46 (dk_at dksX4_act_5 6 rfl rfl)
theorem dX4_act_125 : decode cX4_act 125 = .ok (.aload_n 0, 1) := dk_42 (dk_at dksX4_act_5 7 rfl rfl)
theorem dX4_act_126 : decode cX4_act 126 = .ok (.getfield 16, 3) := dk_180 0 16 (dk_at dksX4_act_5 8 rfl rfl)
theorem dX4_act_129 : decode cX4_act 129 = .ok (.iload_n 1, 1) := dk_27 (dk_at dksX4_act_5 11 rfl rfl)
theorem dX4_act_130 : decode cX4_act 130 = .ok (.iconst 3, 1) := dk_6 (dk_at dksX4_act_5 12 rfl rfl)
theorem dX4_act_131 : decode cX4_act 131 = .ok (.iadd, 1) := dk_96 (dk_at dksX4_act_5 13 rfl rfl)
theorem dX4_act_132 : decode cX4_act 132 = .ok (.iaload, 1) := dk_46 (dk_at dksX4_act_5 14 rfl rfl)
theorem dX4_act_133 : decode cX4_act 133 = .ok (.invokevirtual 193, 3) := dk_182 0 193 (dk_at dksX4_act_5 15 rfl rfl)
theorem dX4_act_136 : decode cX4_act 136 = .ok (.goto 40, 3) := dk_167 0 40 (dk_at dksX4_act_5 18 rfl rfl)
theorem dX4_act_139 : decode cX4_act 139 = .ok (.aload_n 0, 1) := dk_42 (dk_at dksX4_act_5 21 rfl rfl)
theorem dX4_act_140 : decode cX4_act 140 = .ok (.iload_n 2, 1) := dk_28 (dk_at dksX4_act_5 22 rfl rfl)
theorem dX4_act_141 : decode cX4_act 141 = .ok (.aload_n 0, 1) := dk_42 (dk_at dksX4_act_5 23 rfl rfl)
theorem dX4_act_142 : decode cX4_act 142 = .ok (.getfield 16, 3) := dk_180 0 16 (dk_at dksX4_act_6 0 rfl rfl)
theorem dX4_act_145 : decode cX4_act 145 = .ok (.iload_n 1, 1) := dk_27 (dk_at dksX4_act_6 3 rfl rfl)
theorem dX4_act_146 : decode cX4_act 146 = .ok (.iconst 1, 1) := dk_4 (dk_at dksX4_act_6 4 rfl rfl)
theorem dX4_act_147 : decode cX4_act 147 = .ok (.iadd, 1) := dk_96 (dk_at dksX4_act_6 5 rfl rfl)
theorem dX4_act_148 : decode cX4_act 148 = .ok (.iaload, 1) := dk_46 (dk_at dksX4_act_6 6 rfl rfl)
theorem dX4_act_149 : decode cX4_act 149 = .ok (.aload_n 0, 1) := dk_42 (dk_at dksX4_act_6 7 rfl rfl)
theorem dX4_act_150 : decode cX4_act 150 = .ok (.getfield 16, 3) := dk_180 0 16 (dk_at dksX4_act_6 8 rfl rfl)
theorem dX4_act_153 : decode cX4_act 153 = .ok (.iload_n 1, 1) := dk_27 (dk_at dksX4_act_6 11 rfl rfl)
theorem dX4_act_154 : decode cX4_act 154 = .ok (.iconst 2, 1) := dk_5 (dk_at dksX4_act_6 12 rfl rfl)
theorem dX4_act_155 : decode cX4_act 155 = .ok (.iadd, 1) := dk_96 (dk_at dksX4_act_6 13 rfl rfl)
theorem dX4_act_156 : decode cX4_act 156 = .ok (.iaload, 1) := dk_46 (dk_at dksX4_act_6 14 rfl rfl)
theorem dX4_act_157 : decode cX4_act 157 = .ok (.aload_n 0, 1) := dk_42 (dk_at dksX4_act_6 15 rfl rfl)
theorem dX4_act_158 : decode cX4_act 158 = .ok (.getfield 16, 3) := dk_180 0 16 (dk_at dksX4_act_6 16 rfl rfl)
theorem dX4_act_161 : decode cX4_act 161 = .ok (.iload_n 1, 1) := dk_27 (dk_at dksX4_act_6 19 rfl rfl)
theorem dX4_act_162 : decode cX4_act 162 = .ok (.iconst 3, 1) := dk_6 (dk_at dksX4_act_6 20 rfl rfl)
theorem dX4_act_163 : decode cX4_act 163 = .ok (.iadd, 1) := dk_96 (dk_at dksX4_act_6 21 rfl rfl)
theorem dX4_act_164 : decode cX4_act 164 = .ok (.iaload, 1) := dk_46 (dk_at dksX4_act_6 22 rfl rfl)
theorem dX4_act_165 : decode cX4_act 165 = .ok (.aload_n 0, 1) := dk_42 (dk_at dksX4_act_6 23 rfl rfl)
theorem dX4_act_166 : decode cX4_act 166 = .ok (.getfield 16, 3) := dk_180 0 16 (dk_at dksX4_act_7 0 rfl rfl)
theorem dX4_act_169 : decode cX4_act 169 = .ok (.iload_n 1, 1) := dk_27 (dk_at dksX4_act_7 3 rfl rfl)
theorem dX4_act_170 : decode cX4_act 170 = .ok (.iconst 4, 1) := dk_7 (dk_at dksX4_act_7 4 rfl rfl)
theorem dX4_act_171 : decode cX4_act 171 = .ok (.iadd, 1) := dk_96 (dk_at dksX4_act_7 5 rfl rfl)
theorem dX4_act_172 : decode cX4_act 172 = .ok (.iaload, 1) := dk_46 (dk_at dksX4_act_7 6 rfl rfl)
theorem dX4_act_173 : decode cX4_act 173 = .ok (.invokevirtual 196, 3) := dk_182 0 196 (dk_at dksX4_act_7 7 rfl rfl)
theorem dX4_act_176 : decode cX4_act 176 = .ok (.ireturn, 1) := dk_172 (dk_at dksX4_act_7 10 rfl rfl)
abbrev cX4_documentAct : ByteArray := prog_38_method_65_code
def yX4_documentAct : MethodName := ⟨RX4, "documentAct", "(IIIII)I"⟩
def dkwX4_documentAct_4 : List UInt8 := [160, 0, 7, 4, 167, 0, 4, 3, 182, 0, 156, 172]
abbrev dktX4_documentAct_4 : List UInt8 := dkwX4_documentAct_4 ++ []
def dkwX4_documentAct_3 : List UInt8 := [21, 5, 182, 0, 149, 172, 42, 28, 29, 21, 4, 182, 0, 153, 172, 42, 28, 29, 21, 4, 21, 5, 4]
abbrev dktX4_documentAct_3 : List UInt8 := dkwX4_documentAct_3 ++ dktX4_documentAct_4
def dkwX4_documentAct_2 : List UInt8 := [42, 28, 182, 0, 140, 172, 42, 28, 182, 0, 143, 172, 42, 28, 29, 182, 0, 146, 172, 42, 28, 29, 21, 4]
abbrev dktX4_documentAct_2 : List UInt8 := dkwX4_documentAct_2 ++ dktX4_documentAct_3
def dkwX4_documentAct_1 : List UInt8 := [170, 0, 0, 0, 0, 0, 74, 0, 0, 0, 0, 0, 0, 0, 4, 0, 0, 0, 35, 0, 0, 0, 41, 0, 0, 0, 47, 0, 0, 0, 54, 0, 0, 0, 65]
abbrev dktX4_documentAct_1 : List UInt8 := dkwX4_documentAct_1 ++ dktX4_documentAct_2
def dkwX4_documentAct_0 : List UInt8 := [27]
abbrev dktX4_documentAct_0 : List UInt8 := dkwX4_documentAct_0 ++ dktX4_documentAct_1
theorem dksX4_documentAct_0 : cX4_documentAct.data.toList.drop 0 = dktX4_documentAct_0 := by decide +kernel
theorem dksX4_documentAct_1 : cX4_documentAct.data.toList.drop 1 = dktX4_documentAct_1 := dk_seg dksX4_documentAct_0 1 rfl rfl
theorem dksX4_documentAct_2 : cX4_documentAct.data.toList.drop 36 = dktX4_documentAct_2 := dk_seg dksX4_documentAct_1 35 rfl rfl
theorem dksX4_documentAct_3 : cX4_documentAct.data.toList.drop 60 = dktX4_documentAct_3 := dk_seg dksX4_documentAct_2 24 rfl rfl
theorem dksX4_documentAct_4 : cX4_documentAct.data.toList.drop 83 = dktX4_documentAct_4 := dk_seg dksX4_documentAct_3 23 rfl rfl
theorem dX4_documentAct_0 : decode cX4_documentAct 0 = .ok (.iload_n 1, 1) := dk_27 (dk_at dksX4_documentAct_0 0 rfl rfl)
theorem dX4_documentAct_1 : decode cX4_documentAct 1 = .ok (.tableswitch 74 0 4 #[35, 41, 47, 54, 65], 35) := by decide +kernel
theorem dX4_documentAct_36 : decode cX4_documentAct 36 = .ok (.aload_n 0, 1) := dk_42 (dk_at dksX4_documentAct_2 0 rfl rfl)
theorem dX4_documentAct_37 : decode cX4_documentAct 37 = .ok (.iload_n 2, 1) := dk_28 (dk_at dksX4_documentAct_2 1 rfl rfl)
theorem dX4_documentAct_38 : decode cX4_documentAct 38 = .ok (.invokevirtual 140, 3) := dk_182 0 140 (dk_at dksX4_documentAct_2 2 rfl rfl)
theorem dX4_documentAct_41 : decode cX4_documentAct 41 = .ok (.ireturn, 1) := dk_172 (dk_at dksX4_documentAct_2 5 rfl rfl)
theorem dX4_documentAct_42 : decode cX4_documentAct 42 = .ok (.aload_n 0, 1) := dk_42 (dk_at dksX4_documentAct_2 6 rfl rfl)
theorem dX4_documentAct_43 : decode cX4_documentAct 43 = .ok (.iload_n 2, 1) := dk_28 (dk_at dksX4_documentAct_2 7 rfl rfl)
theorem dX4_documentAct_44 : decode cX4_documentAct 44 = .ok (.invokevirtual 143, 3) := dk_182 0 143 (dk_at dksX4_documentAct_2 8 rfl rfl)
theorem dX4_documentAct_47 : decode cX4_documentAct 47 = .ok (.ireturn, 1) := dk_172 (dk_at dksX4_documentAct_2 11 rfl rfl)
theorem dX4_documentAct_48 : decode cX4_documentAct 48 = .ok (.aload_n 0, 1) := dk_42 (dk_at dksX4_documentAct_2 12 rfl rfl)
theorem dX4_documentAct_49 : decode cX4_documentAct 49 = .ok (.iload_n 2, 1) := dk_28 (dk_at dksX4_documentAct_2 13 rfl rfl)
theorem dX4_documentAct_50 : decode cX4_documentAct 50 = .ok (.iload_n 3, 1) := dk_29 (dk_at dksX4_documentAct_2 14 rfl rfl)
theorem dX4_documentAct_51 : decode cX4_documentAct 51 = .ok (.invokevirtual 146, 3) := dk_182 0 146 (dk_at dksX4_documentAct_2 15 rfl rfl)
theorem dX4_documentAct_54 : decode cX4_documentAct 54 = .ok (.ireturn, 1) := dk_172 (dk_at dksX4_documentAct_2 18 rfl rfl)
theorem dX4_documentAct_55 : decode cX4_documentAct 55 = .ok (.aload_n 0, 1) := dk_42 (dk_at dksX4_documentAct_2 19 rfl rfl)
theorem dX4_documentAct_56 : decode cX4_documentAct 56 = .ok (.iload_n 2, 1) := dk_28 (dk_at dksX4_documentAct_2 20 rfl rfl)
theorem dX4_documentAct_57 : decode cX4_documentAct 57 = .ok (.iload_n 3, 1) := dk_29 (dk_at dksX4_documentAct_2 21 rfl rfl)
theorem dX4_documentAct_58 : decode cX4_documentAct 58 = .ok (.iload 4, 2) := dk_21 4 (dk_at dksX4_documentAct_2 22 rfl rfl)
theorem dX4_documentAct_60 : decode cX4_documentAct 60 = .ok (.iload 5, 2) := dk_21 5 (dk_at dksX4_documentAct_3 0 rfl rfl)
theorem dX4_documentAct_62 : decode cX4_documentAct 62 = .ok (.invokevirtual 149, 3) := dk_182 0 149 (dk_at dksX4_documentAct_3 2 rfl rfl)
theorem dX4_documentAct_65 : decode cX4_documentAct 65 = .ok (.ireturn, 1) := dk_172 (dk_at dksX4_documentAct_3 5 rfl rfl)
theorem dX4_documentAct_66 : decode cX4_documentAct 66 = .ok (.aload_n 0, 1) := dk_42 (dk_at dksX4_documentAct_3 6 rfl rfl)
theorem dX4_documentAct_67 : decode cX4_documentAct 67 = .ok (.iload_n 2, 1) := dk_28 (dk_at dksX4_documentAct_3 7 rfl rfl)
theorem dX4_documentAct_68 : decode cX4_documentAct 68 = .ok (.iload_n 3, 1) := dk_29 (dk_at dksX4_documentAct_3 8 rfl rfl)
theorem dX4_documentAct_69 : decode cX4_documentAct 69 = .ok (.iload 4, 2) := dk_21 4 (dk_at dksX4_documentAct_3 9 rfl rfl)
theorem dX4_documentAct_71 : decode cX4_documentAct 71 = .ok (.invokevirtual 153, 3) := dk_182 0 153 (dk_at dksX4_documentAct_3 11 rfl rfl)
theorem dX4_documentAct_74 : decode cX4_documentAct 74 = .ok (.ireturn, 1) := dk_172 (dk_at dksX4_documentAct_3 14 rfl rfl)
theorem dX4_documentAct_75 : decode cX4_documentAct 75 = .ok (.aload_n 0, 1) := dk_42 (dk_at dksX4_documentAct_3 15 rfl rfl)
theorem dX4_documentAct_76 : decode cX4_documentAct 76 = .ok (.iload_n 2, 1) := dk_28 (dk_at dksX4_documentAct_3 16 rfl rfl)
theorem dX4_documentAct_77 : decode cX4_documentAct 77 = .ok (.iload_n 3, 1) := dk_29 (dk_at dksX4_documentAct_3 17 rfl rfl)
theorem dX4_documentAct_78 : decode cX4_documentAct 78 = .ok (.iload 4, 2) := dk_21 4 (dk_at dksX4_documentAct_3 18 rfl rfl)
theorem dX4_documentAct_80 : decode cX4_documentAct 80 = .ok (.iload 5, 2) := dk_21 5 (dk_at dksX4_documentAct_3 20 rfl rfl)
theorem dX4_documentAct_82 : decode cX4_documentAct 82 = .ok (.iconst 1, 1) := dk_4 (dk_at dksX4_documentAct_3 22 rfl rfl)
theorem dX4_documentAct_83 : decode cX4_documentAct 83 = .ok (.if_icmp .ne 7, 3) := dk_160 0 7 (dk_at dksX4_documentAct_4 0 rfl rfl)
theorem dX4_documentAct_86 : decode cX4_documentAct 86 = .ok (.iconst 1, 1) := dk_4 (dk_at dksX4_documentAct_4 3 rfl rfl)
theorem dX4_documentAct_87 : decode cX4_documentAct 87 = .ok (.goto 4, 3) := dk_167 0 4 (dk_at dksX4_documentAct_4 4 rfl rfl)
theorem dX4_documentAct_90 : decode cX4_documentAct 90 = .ok (.iconst 0, 1) := dk_3 (dk_at dksX4_documentAct_4 7 rfl rfl)
theorem dX4_documentAct_91 : decode cX4_documentAct 91 = .ok (.invokevirtual 156, 3) := dk_182 0 156 (dk_at dksX4_documentAct_4 8 rfl rfl)
theorem dX4_documentAct_94 : decode cX4_documentAct 94 = .ok (.ireturn, 1) := dk_172 (dk_at dksX4_documentAct_4 11 rfl rfl)
abbrev cX4_versionAct : ByteArray := prog_38_method_66_code
def yX4_versionAct : MethodName := ⟨RX4, "versionAct", "(IIII)I"⟩
def dkwX4_versionAct_4 : List UInt8 := [21, 4, 182, 0, 175, 172]
abbrev dktX4_versionAct_4 : List UInt8 := dkwX4_versionAct_4 ++ []
def dkwX4_versionAct_3 : List UInt8 := [182, 0, 166, 172, 42, 28, 29, 21, 4, 182, 0, 169, 172, 42, 28, 29, 182, 0, 172, 172, 42, 28, 29]
abbrev dktX4_versionAct_3 : List UInt8 := dkwX4_versionAct_3 ++ dktX4_versionAct_4
def dkwX4_versionAct_2 : List UInt8 := [42, 28, 29, 21, 4, 182, 0, 160, 172, 42, 28, 29, 21, 4, 182, 0, 163, 172, 42, 28, 29, 21, 4]
abbrev dktX4_versionAct_2 : List UInt8 := dkwX4_versionAct_2 ++ dktX4_versionAct_3
def dkwX4_versionAct_1 : List UInt8 := [170, 0, 0, 0, 0, 0, 78, 0, 0, 0, 7, 0, 0, 0, 11, 0, 0, 0, 35, 0, 0, 0, 44, 0, 0, 0, 53, 0, 0, 0, 62, 0, 0, 0, 71]
abbrev dktX4_versionAct_1 : List UInt8 := dkwX4_versionAct_1 ++ dktX4_versionAct_2
def dkwX4_versionAct_0 : List UInt8 := [27]
abbrev dktX4_versionAct_0 : List UInt8 := dkwX4_versionAct_0 ++ dktX4_versionAct_1
theorem dksX4_versionAct_0 : cX4_versionAct.data.toList.drop 0 = dktX4_versionAct_0 := by decide +kernel
theorem dksX4_versionAct_1 : cX4_versionAct.data.toList.drop 1 = dktX4_versionAct_1 := dk_seg dksX4_versionAct_0 1 rfl rfl
theorem dksX4_versionAct_2 : cX4_versionAct.data.toList.drop 36 = dktX4_versionAct_2 := dk_seg dksX4_versionAct_1 35 rfl rfl
theorem dksX4_versionAct_3 : cX4_versionAct.data.toList.drop 59 = dktX4_versionAct_3 := dk_seg dksX4_versionAct_2 23 rfl rfl
theorem dksX4_versionAct_4 : cX4_versionAct.data.toList.drop 82 = dktX4_versionAct_4 := dk_seg dksX4_versionAct_3 23 rfl rfl
theorem dX4_versionAct_0 : decode cX4_versionAct 0 = .ok (.iload_n 1, 1) := dk_27 (dk_at dksX4_versionAct_0 0 rfl rfl)
theorem dX4_versionAct_1 : decode cX4_versionAct 1 = .ok (.tableswitch 78 7 11 #[35, 44, 53, 62, 71], 35) := by decide +kernel
theorem dX4_versionAct_36 : decode cX4_versionAct 36 = .ok (.aload_n 0, 1) := dk_42 (dk_at dksX4_versionAct_2 0 rfl rfl)
theorem dX4_versionAct_37 : decode cX4_versionAct 37 = .ok (.iload_n 2, 1) := dk_28 (dk_at dksX4_versionAct_2 1 rfl rfl)
theorem dX4_versionAct_38 : decode cX4_versionAct 38 = .ok (.iload_n 3, 1) := dk_29 (dk_at dksX4_versionAct_2 2 rfl rfl)
theorem dX4_versionAct_39 : decode cX4_versionAct 39 = .ok (.iload 4, 2) := dk_21 4 (dk_at dksX4_versionAct_2 3 rfl rfl)
theorem dX4_versionAct_41 : decode cX4_versionAct 41 = .ok (.invokevirtual 160, 3) := dk_182 0 160 (dk_at dksX4_versionAct_2 5 rfl rfl)
theorem dX4_versionAct_44 : decode cX4_versionAct 44 = .ok (.ireturn, 1) := dk_172 (dk_at dksX4_versionAct_2 8 rfl rfl)
theorem dX4_versionAct_45 : decode cX4_versionAct 45 = .ok (.aload_n 0, 1) := dk_42 (dk_at dksX4_versionAct_2 9 rfl rfl)
theorem dX4_versionAct_46 : decode cX4_versionAct 46 = .ok (.iload_n 2, 1) := dk_28 (dk_at dksX4_versionAct_2 10 rfl rfl)
theorem dX4_versionAct_47 : decode cX4_versionAct 47 = .ok (.iload_n 3, 1) := dk_29 (dk_at dksX4_versionAct_2 11 rfl rfl)
theorem dX4_versionAct_48 : decode cX4_versionAct 48 = .ok (.iload 4, 2) := dk_21 4 (dk_at dksX4_versionAct_2 12 rfl rfl)
theorem dX4_versionAct_50 : decode cX4_versionAct 50 = .ok (.invokevirtual 163, 3) := dk_182 0 163 (dk_at dksX4_versionAct_2 14 rfl rfl)
theorem dX4_versionAct_53 : decode cX4_versionAct 53 = .ok (.ireturn, 1) := dk_172 (dk_at dksX4_versionAct_2 17 rfl rfl)
theorem dX4_versionAct_54 : decode cX4_versionAct 54 = .ok (.aload_n 0, 1) := dk_42 (dk_at dksX4_versionAct_2 18 rfl rfl)
theorem dX4_versionAct_55 : decode cX4_versionAct 55 = .ok (.iload_n 2, 1) := dk_28 (dk_at dksX4_versionAct_2 19 rfl rfl)
theorem dX4_versionAct_56 : decode cX4_versionAct 56 = .ok (.iload_n 3, 1) := dk_29 (dk_at dksX4_versionAct_2 20 rfl rfl)
theorem dX4_versionAct_57 : decode cX4_versionAct 57 = .ok (.iload 4, 2) := dk_21 4 (dk_at dksX4_versionAct_2 21 rfl rfl)
theorem dX4_versionAct_59 : decode cX4_versionAct 59 = .ok (.invokevirtual 166, 3) := dk_182 0 166 (dk_at dksX4_versionAct_3 0 rfl rfl)
theorem dX4_versionAct_62 : decode cX4_versionAct 62 = .ok (.ireturn, 1) := dk_172 (dk_at dksX4_versionAct_3 3 rfl rfl)
theorem dX4_versionAct_63 : decode cX4_versionAct 63 = .ok (.aload_n 0, 1) := dk_42 (dk_at dksX4_versionAct_3 4 rfl rfl)
theorem dX4_versionAct_64 : decode cX4_versionAct 64 = .ok (.iload_n 2, 1) := dk_28 (dk_at dksX4_versionAct_3 5 rfl rfl)
theorem dX4_versionAct_65 : decode cX4_versionAct 65 = .ok (.iload_n 3, 1) := dk_29 (dk_at dksX4_versionAct_3 6 rfl rfl)
theorem dX4_versionAct_66 : decode cX4_versionAct 66 = .ok (.iload 4, 2) := dk_21 4 (dk_at dksX4_versionAct_3 7 rfl rfl)
theorem dX4_versionAct_68 : decode cX4_versionAct 68 = .ok (.invokevirtual 169, 3) := dk_182 0 169 (dk_at dksX4_versionAct_3 9 rfl rfl)
theorem dX4_versionAct_71 : decode cX4_versionAct 71 = .ok (.ireturn, 1) := dk_172 (dk_at dksX4_versionAct_3 12 rfl rfl)
theorem dX4_versionAct_72 : decode cX4_versionAct 72 = .ok (.aload_n 0, 1) := dk_42 (dk_at dksX4_versionAct_3 13 rfl rfl)
theorem dX4_versionAct_73 : decode cX4_versionAct 73 = .ok (.iload_n 2, 1) := dk_28 (dk_at dksX4_versionAct_3 14 rfl rfl)
theorem dX4_versionAct_74 : decode cX4_versionAct 74 = .ok (.iload_n 3, 1) := dk_29 (dk_at dksX4_versionAct_3 15 rfl rfl)
theorem dX4_versionAct_75 : decode cX4_versionAct 75 = .ok (.invokevirtual 172, 3) := dk_182 0 172 (dk_at dksX4_versionAct_3 16 rfl rfl)
theorem dX4_versionAct_78 : decode cX4_versionAct 78 = .ok (.ireturn, 1) := dk_172 (dk_at dksX4_versionAct_3 19 rfl rfl)
theorem dX4_versionAct_79 : decode cX4_versionAct 79 = .ok (.aload_n 0, 1) := dk_42 (dk_at dksX4_versionAct_3 20 rfl rfl)
theorem dX4_versionAct_80 : decode cX4_versionAct 80 = .ok (.iload_n 2, 1) := dk_28 (dk_at dksX4_versionAct_3 21 rfl rfl)
theorem dX4_versionAct_81 : decode cX4_versionAct 81 = .ok (.iload_n 3, 1) := dk_29 (dk_at dksX4_versionAct_3 22 rfl rfl)
theorem dX4_versionAct_82 : decode cX4_versionAct 82 = .ok (.iload 4, 2) := dk_21 4 (dk_at dksX4_versionAct_4 0 rfl rfl)
theorem dX4_versionAct_84 : decode cX4_versionAct 84 = .ok (.invokevirtual 175, 3) := dk_182 0 175 (dk_at dksX4_versionAct_4 2 rfl rfl)
theorem dX4_versionAct_87 : decode cX4_versionAct 87 = .ok (.ireturn, 1) := dk_172 (dk_at dksX4_versionAct_4 5 rfl rfl)
abbrev cX4_linkAct : ByteArray := prog_38_method_67_code
def yX4_linkAct : MethodName := ⟨RX4, "linkAct", "(IIIII)I"⟩
def dkwX4_linkAct_3 : List UInt8 := [182, 0, 184, 172]
abbrev dktX4_linkAct_3 : List UInt8 := dkwX4_linkAct_3 ++ []
def dkwX4_linkAct_2 : List UInt8 := [42, 28, 29, 21, 4, 182, 0, 178, 172, 42, 28, 29, 21, 4, 21, 5, 182, 0, 181, 172, 42, 28, 29]
abbrev dktX4_linkAct_2 : List UInt8 := dkwX4_linkAct_2 ++ dktX4_linkAct_3
def dkwX4_linkAct_1 : List UInt8 := [171, 0, 0, 0, 0, 0, 47, 0, 0, 0, 2, 0, 0, 0, 13, 0, 0, 0, 27, 0, 0, 0, 14, 0, 0, 0, 36]
abbrev dktX4_linkAct_1 : List UInt8 := dkwX4_linkAct_1 ++ dktX4_linkAct_2
def dkwX4_linkAct_0 : List UInt8 := [27]
abbrev dktX4_linkAct_0 : List UInt8 := dkwX4_linkAct_0 ++ dktX4_linkAct_1
theorem dksX4_linkAct_0 : cX4_linkAct.data.toList.drop 0 = dktX4_linkAct_0 := by decide +kernel
theorem dksX4_linkAct_1 : cX4_linkAct.data.toList.drop 1 = dktX4_linkAct_1 := dk_seg dksX4_linkAct_0 1 rfl rfl
theorem dksX4_linkAct_2 : cX4_linkAct.data.toList.drop 28 = dktX4_linkAct_2 := dk_seg dksX4_linkAct_1 27 rfl rfl
theorem dksX4_linkAct_3 : cX4_linkAct.data.toList.drop 51 = dktX4_linkAct_3 := dk_seg dksX4_linkAct_2 23 rfl rfl
theorem dX4_linkAct_0 : decode cX4_linkAct 0 = .ok (.iload_n 1, 1) := dk_27 (dk_at dksX4_linkAct_0 0 rfl rfl)
theorem dX4_linkAct_1 : decode cX4_linkAct 1 = .ok (.lookupswitch 47 #[(13, 27), (14, 36)], 27) := by decide +kernel
theorem dX4_linkAct_28 : decode cX4_linkAct 28 = .ok (.aload_n 0, 1) := dk_42 (dk_at dksX4_linkAct_2 0 rfl rfl)
theorem dX4_linkAct_29 : decode cX4_linkAct 29 = .ok (.iload_n 2, 1) := dk_28 (dk_at dksX4_linkAct_2 1 rfl rfl)
theorem dX4_linkAct_30 : decode cX4_linkAct 30 = .ok (.iload_n 3, 1) := dk_29 (dk_at dksX4_linkAct_2 2 rfl rfl)
theorem dX4_linkAct_31 : decode cX4_linkAct 31 = .ok (.iload 4, 2) := dk_21 4 (dk_at dksX4_linkAct_2 3 rfl rfl)
theorem dX4_linkAct_33 : decode cX4_linkAct 33 = .ok (.invokevirtual 178, 3) := dk_182 0 178 (dk_at dksX4_linkAct_2 5 rfl rfl)
theorem dX4_linkAct_36 : decode cX4_linkAct 36 = .ok (.ireturn, 1) := dk_172 (dk_at dksX4_linkAct_2 8 rfl rfl)
theorem dX4_linkAct_37 : decode cX4_linkAct 37 = .ok (.aload_n 0, 1) := dk_42 (dk_at dksX4_linkAct_2 9 rfl rfl)
theorem dX4_linkAct_38 : decode cX4_linkAct 38 = .ok (.iload_n 2, 1) := dk_28 (dk_at dksX4_linkAct_2 10 rfl rfl)
theorem dX4_linkAct_39 : decode cX4_linkAct 39 = .ok (.iload_n 3, 1) := dk_29 (dk_at dksX4_linkAct_2 11 rfl rfl)
theorem dX4_linkAct_40 : decode cX4_linkAct 40 = .ok (.iload 4, 2) := dk_21 4 (dk_at dksX4_linkAct_2 12 rfl rfl)
theorem dX4_linkAct_42 : decode cX4_linkAct 42 = .ok (.iload 5, 2) := dk_21 5 (dk_at dksX4_linkAct_2 14 rfl rfl)
theorem dX4_linkAct_44 : decode cX4_linkAct 44 = .ok (.invokevirtual 181, 3) := dk_182 0 181 (dk_at dksX4_linkAct_2 16 rfl rfl)
theorem dX4_linkAct_47 : decode cX4_linkAct 47 = .ok (.ireturn, 1) := dk_172 (dk_at dksX4_linkAct_2 19 rfl rfl)
theorem dX4_linkAct_48 : decode cX4_linkAct 48 = .ok (.aload_n 0, 1) := dk_42 (dk_at dksX4_linkAct_2 20 rfl rfl)
theorem dX4_linkAct_49 : decode cX4_linkAct 49 = .ok (.iload_n 2, 1) := dk_28 (dk_at dksX4_linkAct_2 21 rfl rfl)
theorem dX4_linkAct_50 : decode cX4_linkAct 50 = .ok (.iload_n 3, 1) := dk_29 (dk_at dksX4_linkAct_2 22 rfl rfl)
theorem dX4_linkAct_51 : decode cX4_linkAct 51 = .ok (.invokevirtual 184, 3) := dk_182 0 184 (dk_at dksX4_linkAct_3 0 rfl rfl)
theorem dX4_linkAct_54 : decode cX4_linkAct 54 = .ok (.ireturn, 1) := dk_172 (dk_at dksX4_linkAct_3 3 rfl rfl)
abbrev cX4_back : ByteArray := prog_38_method_70_code
def yX4_back : MethodName := ⟨RX4, "back", "()V"⟩
def dkwX4_back_1 : List UInt8 := [167, 255, 234, 177]
abbrev dktX4_back_1 : List UInt8 := dkwX4_back_1 ++ []
def dkwX4_back_0 : List UInt8 := [3, 60, 27, 17, 3, 105, 162, 0, 21, 42, 180, 0, 9, 27, 42, 180, 0, 13, 27, 46, 79, 132, 1, 1]
abbrev dktX4_back_0 : List UInt8 := dkwX4_back_0 ++ dktX4_back_1
theorem dksX4_back_0 : cX4_back.data.toList.drop 0 = dktX4_back_0 := by decide +kernel
theorem dksX4_back_1 : cX4_back.data.toList.drop 24 = dktX4_back_1 := dk_seg dksX4_back_0 24 rfl rfl
theorem dX4_back_0 : decode cX4_back 0 = .ok (.iconst 0, 1) := dk_3 (dk_at dksX4_back_0 0 rfl rfl)
theorem dX4_back_1 : decode cX4_back 1 = .ok (.istore_n 1, 1) := dk_60 (dk_at dksX4_back_0 1 rfl rfl)
theorem dX4_back_2 : decode cX4_back 2 = .ok (.iload_n 1, 1) := dk_27 (dk_at dksX4_back_0 2 rfl rfl)
theorem dX4_back_3 : decode cX4_back 3 = .ok (.sipush 873, 3) := dk_17 3 105 (dk_at dksX4_back_0 3 rfl rfl)
theorem dX4_back_6 : decode cX4_back 6 = .ok (.if_icmp .ge 21, 3) := dk_162 0 21 (dk_at dksX4_back_0 6 rfl rfl)
theorem dX4_back_9 : decode cX4_back 9 = .ok (.aload_n 0, 1) := dk_42 (dk_at dksX4_back_0 9 rfl rfl)
theorem dX4_back_10 : decode cX4_back 10 = .ok (.getfield 9, 3) := dk_180 0 9 (dk_at dksX4_back_0 10 rfl rfl)
theorem dX4_back_13 : decode cX4_back 13 = .ok (.iload_n 1, 1) := dk_27 (dk_at dksX4_back_0 13 rfl rfl)
theorem dX4_back_14 : decode cX4_back 14 = .ok (.aload_n 0, 1) := dk_42 (dk_at dksX4_back_0 14 rfl rfl)
theorem dX4_back_15 : decode cX4_back 15 = .ok (.getfield 13, 3) := dk_180 0 13 (dk_at dksX4_back_0 15 rfl rfl)
theorem dX4_back_18 : decode cX4_back 18 = .ok (.iload_n 1, 1) := dk_27 (dk_at dksX4_back_0 18 rfl rfl)
theorem dX4_back_19 : decode cX4_back 19 = .ok (.iaload, 1) := dk_46 (dk_at dksX4_back_0 19 rfl rfl)
theorem dX4_back_20 : decode cX4_back 20 = .ok (.iastore, 1) := dk_79 (dk_at dksX4_back_0 20 rfl rfl)
theorem dX4_back_21 : decode cX4_back 21 = .ok (.iinc 1 1, 3) := dk_132 1 1 (dk_at dksX4_back_0 21 rfl rfl)
theorem dX4_back_24 : decode cX4_back 24 = .ok (.goto (-22), 3) := dk_167 255 234 (dk_at dksX4_back_1 0 rfl rfl)
theorem dX4_back_27 : decode cX4_back 27 = .ok (.return_, 1) := dk_177 (dk_at dksX4_back_1 3 rfl rfl)
abbrev cX4_holderThen : ByteArray := prog_38_method_74_code
def yX4_holderThen : MethodName := ⟨RX4, "holderThen", "(III)I"⟩
def dkwX4_holderThen_2 : List UInt8 := [42, 3, 181, 0, 25, 21, 4, 172]
abbrev dktX4_holderThen_2 : List UInt8 := dkwX4_holderThen_2 ++ []
def dkwX4_holderThen_1 : List UInt8 := [28, 29, 182, 0, 97, 153, 0, 12, 42, 28, 29, 182, 0, 109, 167, 0, 4, 2, 54, 4, 42, 182, 0, 206]
abbrev dktX4_holderThen_1 : List UInt8 := dkwX4_holderThen_1 ++ dktX4_holderThen_2
def dkwX4_holderThen_0 : List UInt8 := [42, 27, 3, 42, 180, 0, 33, 184, 0, 44, 182, 0, 84, 154, 0, 5, 3, 172, 42, 27, 182, 0, 202, 42]
abbrev dktX4_holderThen_0 : List UInt8 := dkwX4_holderThen_0 ++ dktX4_holderThen_1
theorem dksX4_holderThen_0 : cX4_holderThen.data.toList.drop 0 = dktX4_holderThen_0 := by decide +kernel
theorem dksX4_holderThen_1 : cX4_holderThen.data.toList.drop 24 = dktX4_holderThen_1 := dk_seg dksX4_holderThen_0 24 rfl rfl
theorem dksX4_holderThen_2 : cX4_holderThen.data.toList.drop 48 = dktX4_holderThen_2 := dk_seg dksX4_holderThen_1 24 rfl rfl
theorem dX4_holderThen_0 : decode cX4_holderThen 0 = .ok (.aload_n 0, 1) := dk_42 (dk_at dksX4_holderThen_0 0 rfl rfl)
theorem dX4_holderThen_1 : decode cX4_holderThen 1 = .ok (.iload_n 1, 1) := dk_27 (dk_at dksX4_holderThen_0 1 rfl rfl)
theorem dX4_holderThen_2 : decode cX4_holderThen 2 = .ok (.iconst 0, 1) := dk_3 (dk_at dksX4_holderThen_0 2 rfl rfl)
theorem dX4_holderThen_3 : decode cX4_holderThen 3 = .ok (.aload_n 0, 1) := dk_42 (dk_at dksX4_holderThen_0 3 rfl rfl)
theorem dX4_holderThen_4 : decode cX4_holderThen 4 = .ok (.getfield 33, 3) := dk_180 0 33 (dk_at dksX4_holderThen_0 4 rfl rfl)
theorem dX4_holderThen_7 : decode cX4_holderThen 7 = .ok (.invokestatic 44, 3) := dk_184 0 44 (dk_at dksX4_holderThen_0 7 rfl rfl)
theorem dX4_holderThen_10 : decode cX4_holderThen 10 = .ok (.invokevirtual 84, 3) := dk_182 0 84 (dk_at dksX4_holderThen_0 10 rfl rfl)
theorem dX4_holderThen_13 : decode cX4_holderThen 13 = .ok (.ifCond .ne 5, 3) := dk_154 0 5 (dk_at dksX4_holderThen_0 13 rfl rfl)
theorem dX4_holderThen_16 : decode cX4_holderThen 16 = .ok (.iconst 0, 1) := dk_3 (dk_at dksX4_holderThen_0 16 rfl rfl)
theorem dX4_holderThen_17 : decode cX4_holderThen 17 = .ok (.ireturn, 1) := dk_172 (dk_at dksX4_holderThen_0 17 rfl rfl)
theorem dX4_holderThen_18 : decode cX4_holderThen 18 = .ok (.aload_n 0, 1) := dk_42 (dk_at dksX4_holderThen_0 18 rfl rfl)
theorem dX4_holderThen_19 : decode cX4_holderThen 19 = .ok (.iload_n 1, 1) := dk_27 (dk_at dksX4_holderThen_0 19 rfl rfl)
theorem dX4_holderThen_20 : decode cX4_holderThen 20 = .ok (.invokevirtual 202, 3) := dk_182 0 202 (dk_at dksX4_holderThen_0 20 rfl rfl)
theorem dX4_holderThen_23 : decode cX4_holderThen 23 = .ok (.aload_n 0, 1) := dk_42 (dk_at dksX4_holderThen_0 23 rfl rfl)
theorem dX4_holderThen_24 : decode cX4_holderThen 24 = .ok (.iload_n 2, 1) := dk_28 (dk_at dksX4_holderThen_1 0 rfl rfl)
theorem dX4_holderThen_25 : decode cX4_holderThen 25 = .ok (.iload_n 3, 1) := dk_29 (dk_at dksX4_holderThen_1 1 rfl rfl)
theorem dX4_holderThen_26 : decode cX4_holderThen 26 = .ok (.invokevirtual 97, 3) := dk_182 0 97 (dk_at dksX4_holderThen_1 2 rfl rfl)
theorem dX4_holderThen_29 : decode cX4_holderThen 29 = .ok (.ifCond .eq 12, 3) := dk_153 0 12 (dk_at dksX4_holderThen_1 5 rfl rfl)
theorem dX4_holderThen_32 : decode cX4_holderThen 32 = .ok (.aload_n 0, 1) := dk_42 (dk_at dksX4_holderThen_1 8 rfl rfl)
theorem dX4_holderThen_33 : decode cX4_holderThen 33 = .ok (.iload_n 2, 1) := dk_28 (dk_at dksX4_holderThen_1 9 rfl rfl)
theorem dX4_holderThen_34 : decode cX4_holderThen 34 = .ok (.iload_n 3, 1) := dk_29 (dk_at dksX4_holderThen_1 10 rfl rfl)
theorem dX4_holderThen_35 : decode cX4_holderThen 35 = .ok (.invokevirtual 109, 3) := dk_182 0 109 (dk_at dksX4_holderThen_1 11 rfl rfl)
theorem dX4_holderThen_38 : decode cX4_holderThen 38 = .ok (.goto 4, 3) := dk_167 0 4 (dk_at dksX4_holderThen_1 14 rfl rfl)
theorem dX4_holderThen_41 : decode cX4_holderThen 41 = .ok (.iconst (-1), 1) := dk_2 (dk_at dksX4_holderThen_1 17 rfl rfl)
theorem dX4_holderThen_42 : decode cX4_holderThen 42 = .ok (.istore 4, 2) := dk_54 4 (dk_at dksX4_holderThen_1 18 rfl rfl)
theorem dX4_holderThen_44 : decode cX4_holderThen 44 = .ok (.aload_n 0, 1) := dk_42 (dk_at dksX4_holderThen_1 20 rfl rfl)
theorem dX4_holderThen_45 : decode cX4_holderThen 45 = .ok (.invokevirtual 206, 3) := dk_182 0 206 (dk_at dksX4_holderThen_1 21 rfl rfl)
theorem dX4_holderThen_48 : decode cX4_holderThen 48 = .ok (.aload_n 0, 1) := dk_42 (dk_at dksX4_holderThen_2 0 rfl rfl)
theorem dX4_holderThen_49 : decode cX4_holderThen 49 = .ok (.iconst 0, 1) := dk_3 (dk_at dksX4_holderThen_2 1 rfl rfl)
theorem dX4_holderThen_50 : decode cX4_holderThen 50 = .ok (.putfield 25, 3) := dk_181 0 25 (dk_at dksX4_holderThen_2 2 rfl rfl)
theorem dX4_holderThen_53 : decode cX4_holderThen 53 = .ok (.iload 4, 2) := dk_21 4 (dk_at dksX4_holderThen_2 5 rfl rfl)
theorem dX4_holderThen_55 : decode cX4_holderThen 55 = .ok (.ireturn, 1) := dk_172 (dk_at dksX4_holderThen_2 7 rfl rfl)
abbrev cX4_deskErrors : ByteArray := prog_38_method_76_code
def yX4_deskErrors : MethodName := ⟨RX4, "deskErrors", "()I"⟩
def dkwX4_deskErrors_8 : List UInt8 := [167, 255, 197, 42, 3, 181, 0, 25, 27, 172]
abbrev dktX4_deskErrors_8 : List UInt8 := dkwX4_deskErrors_8 ++ []
def dkwX4_deskErrors_7 : List UInt8 := [21, 4, 182, 0, 125, 154, 0, 7, 4, 167, 0, 4, 3, 96, 60, 132, 3, 1, 167, 255, 215, 132, 2, 1]
abbrev dktX4_deskErrors_7 : List UInt8 := dkwX4_deskErrors_7 ++ dktX4_deskErrors_8
def dkwX4_deskErrors_6 : List UInt8 := [29, 16, 6, 162, 0, 41, 42, 28, 29, 182, 0, 137, 54, 4, 27, 21, 4, 2, 159, 0, 17, 42, 29]
abbrev dktX4_deskErrors_6 : List UInt8 := dkwX4_deskErrors_6 ++ dktX4_deskErrors_7
def dkwX4_deskErrors_5 : List UInt8 := [132, 2, 1, 167, 255, 220, 42, 182, 0, 206, 3, 61, 28, 42, 180, 0, 9, 7, 46, 162, 0, 55, 3, 62]
abbrev dktX4_deskErrors_5 : List UInt8 := dkwX4_deskErrors_5 ++ dktX4_deskErrors_6
def dkwX4_deskErrors_4 : List UInt8 := [27, 42, 17, 3, 33, 6, 28, 104, 96, 6, 182, 0, 209, 153, 0, 7, 3, 167, 0, 4, 4, 96, 60]
abbrev dktX4_deskErrors_4 : List UInt8 := dkwX4_deskErrors_4 ++ dktX4_deskErrors_5
def dkwX4_deskErrors_3 : List UInt8 := [167, 0, 4, 4, 96, 60, 132, 2, 1, 167, 255, 222, 3, 61, 28, 42, 180, 0, 9, 7, 46, 162, 0, 32]
abbrev dktX4_deskErrors_3 : List UInt8 := dkwX4_deskErrors_3 ++ dktX4_deskErrors_4
def dkwX4_deskErrors_2 : List UInt8 := [42, 180, 0, 9, 5, 46, 162, 0, 30, 27, 42, 28, 184, 0, 40, 16, 32, 182, 0, 209, 153, 0, 7, 3]
abbrev dktX4_deskErrors_2 : List UInt8 := dkwX4_deskErrors_2 ++ dktX4_deskErrors_3
def dkwX4_deskErrors_1 : List UInt8 := [16, 9, 182, 0, 209, 153, 0, 7, 3, 167, 0, 4, 4, 96, 60, 132, 2, 1, 167, 255, 226, 3, 61, 28]
abbrev dktX4_deskErrors_1 : List UInt8 := dkwX4_deskErrors_1 ++ dktX4_deskErrors_2
def dkwX4_deskErrors_0 : List UInt8 := [42, 42, 180, 0, 33, 182, 0, 202, 3, 60, 3, 61, 28, 16, 60, 162, 0, 30, 27, 42, 28, 184, 0, 52]
abbrev dktX4_deskErrors_0 : List UInt8 := dkwX4_deskErrors_0 ++ dktX4_deskErrors_1
theorem dksX4_deskErrors_0 : cX4_deskErrors.data.toList.drop 0 = dktX4_deskErrors_0 := by decide +kernel
theorem dksX4_deskErrors_1 : cX4_deskErrors.data.toList.drop 24 = dktX4_deskErrors_1 := dk_seg dksX4_deskErrors_0 24 rfl rfl
theorem dksX4_deskErrors_2 : cX4_deskErrors.data.toList.drop 48 = dktX4_deskErrors_2 := dk_seg dksX4_deskErrors_1 24 rfl rfl
theorem dksX4_deskErrors_3 : cX4_deskErrors.data.toList.drop 72 = dktX4_deskErrors_3 := dk_seg dksX4_deskErrors_2 24 rfl rfl
theorem dksX4_deskErrors_4 : cX4_deskErrors.data.toList.drop 96 = dktX4_deskErrors_4 := dk_seg dksX4_deskErrors_3 24 rfl rfl
theorem dksX4_deskErrors_5 : cX4_deskErrors.data.toList.drop 119 = dktX4_deskErrors_5 := dk_seg dksX4_deskErrors_4 23 rfl rfl
theorem dksX4_deskErrors_6 : cX4_deskErrors.data.toList.drop 143 = dktX4_deskErrors_6 := dk_seg dksX4_deskErrors_5 24 rfl rfl
theorem dksX4_deskErrors_7 : cX4_deskErrors.data.toList.drop 166 = dktX4_deskErrors_7 := dk_seg dksX4_deskErrors_6 23 rfl rfl
theorem dksX4_deskErrors_8 : cX4_deskErrors.data.toList.drop 190 = dktX4_deskErrors_8 := dk_seg dksX4_deskErrors_7 24 rfl rfl
theorem dX4_deskErrors_0 : decode cX4_deskErrors 0 = .ok (.aload_n 0, 1) := dk_42 (dk_at dksX4_deskErrors_0 0 rfl rfl)
theorem dX4_deskErrors_1 : decode cX4_deskErrors 1 = .ok (.aload_n 0, 1) := dk_42 (dk_at dksX4_deskErrors_0 1 rfl rfl)
theorem dX4_deskErrors_2 : decode cX4_deskErrors 2 = .ok (.getfield 33, 3) := dk_180 0 33 (dk_at dksX4_deskErrors_0 2 rfl rfl)
theorem dX4_deskErrors_5 : decode cX4_deskErrors 5 = .ok (.invokevirtual 202, 3) := dk_182 0 202 (dk_at dksX4_deskErrors_0 5 rfl rfl)
theorem dX4_deskErrors_8 : decode cX4_deskErrors 8 = .ok (.iconst 0, 1) := dk_3 (dk_at dksX4_deskErrors_0 8 rfl rfl)
theorem dX4_deskErrors_9 : decode cX4_deskErrors 9 = .ok (.istore_n 1, 1) := dk_60 (dk_at dksX4_deskErrors_0 9 rfl rfl)
theorem dX4_deskErrors_10 : decode cX4_deskErrors 10 = .ok (.iconst 0, 1) := dk_3 (dk_at dksX4_deskErrors_0 10 rfl rfl)
theorem dX4_deskErrors_11 : decode cX4_deskErrors 11 = .ok (.istore_n 2, 1) := dk_61 (dk_at dksX4_deskErrors_0 11 rfl rfl)
theorem dX4_deskErrors_12 : decode cX4_deskErrors 12 = .ok (.iload_n 2, 1) := dk_28 (dk_at dksX4_deskErrors_0 12 rfl rfl)
theorem dX4_deskErrors_13 : decode cX4_deskErrors 13 = .ok (.bipush 60, 2) := dk_16 60 (dk_at dksX4_deskErrors_0 13 rfl rfl)
theorem dX4_deskErrors_15 : decode cX4_deskErrors 15 = .ok (.if_icmp .ge 30, 3) := dk_162 0 30 (dk_at dksX4_deskErrors_0 15 rfl rfl)
theorem dX4_deskErrors_18 : decode cX4_deskErrors 18 = .ok (.iload_n 1, 1) := dk_27 (dk_at dksX4_deskErrors_0 18 rfl rfl)
theorem dX4_deskErrors_19 : decode cX4_deskErrors 19 = .ok (.aload_n 0, 1) := dk_42 (dk_at dksX4_deskErrors_0 19 rfl rfl)
theorem dX4_deskErrors_20 : decode cX4_deskErrors 20 = .ok (.iload_n 2, 1) := dk_28 (dk_at dksX4_deskErrors_0 20 rfl rfl)
theorem dX4_deskErrors_21 : decode cX4_deskErrors 21 = .ok (.invokestatic 52, 3) := dk_184 0 52 (dk_at dksX4_deskErrors_0 21 rfl rfl)
theorem dX4_deskErrors_24 : decode cX4_deskErrors 24 = .ok (.bipush 9, 2) := dk_16 9 (dk_at dksX4_deskErrors_1 0 rfl rfl)
theorem dX4_deskErrors_26 : decode cX4_deskErrors 26 = .ok (.invokevirtual 209, 3) := dk_182 0 209 (dk_at dksX4_deskErrors_1 2 rfl rfl)
theorem dX4_deskErrors_29 : decode cX4_deskErrors 29 = .ok (.ifCond .eq 7, 3) := dk_153 0 7 (dk_at dksX4_deskErrors_1 5 rfl rfl)
theorem dX4_deskErrors_32 : decode cX4_deskErrors 32 = .ok (.iconst 0, 1) := dk_3 (dk_at dksX4_deskErrors_1 8 rfl rfl)
theorem dX4_deskErrors_33 : decode cX4_deskErrors 33 = .ok (.goto 4, 3) := dk_167 0 4 (dk_at dksX4_deskErrors_1 9 rfl rfl)
theorem dX4_deskErrors_36 : decode cX4_deskErrors 36 = .ok (.iconst 1, 1) := dk_4 (dk_at dksX4_deskErrors_1 12 rfl rfl)
theorem dX4_deskErrors_37 : decode cX4_deskErrors 37 = .ok (.iadd, 1) := dk_96 (dk_at dksX4_deskErrors_1 13 rfl rfl)
theorem dX4_deskErrors_38 : decode cX4_deskErrors 38 = .ok (.istore_n 1, 1) := dk_60 (dk_at dksX4_deskErrors_1 14 rfl rfl)
theorem dX4_deskErrors_39 : decode cX4_deskErrors 39 = .ok (.iinc 2 1, 3) := dk_132 2 1 (dk_at dksX4_deskErrors_1 15 rfl rfl)
theorem dX4_deskErrors_42 : decode cX4_deskErrors 42 = .ok (.goto (-30), 3) := dk_167 255 226 (dk_at dksX4_deskErrors_1 18 rfl rfl)
theorem dX4_deskErrors_45 : decode cX4_deskErrors 45 = .ok (.iconst 0, 1) := dk_3 (dk_at dksX4_deskErrors_1 21 rfl rfl)
theorem dX4_deskErrors_46 : decode cX4_deskErrors 46 = .ok (.istore_n 2, 1) := dk_61 (dk_at dksX4_deskErrors_1 22 rfl rfl)
theorem dX4_deskErrors_47 : decode cX4_deskErrors 47 = .ok (.iload_n 2, 1) := dk_28 (dk_at dksX4_deskErrors_1 23 rfl rfl)
theorem dX4_deskErrors_48 : decode cX4_deskErrors 48 = .ok (.aload_n 0, 1) := dk_42 (dk_at dksX4_deskErrors_2 0 rfl rfl)
theorem dX4_deskErrors_49 : decode cX4_deskErrors 49 = .ok (.getfield 9, 3) := dk_180 0 9 (dk_at dksX4_deskErrors_2 1 rfl rfl)
theorem dX4_deskErrors_52 : decode cX4_deskErrors 52 = .ok (.iconst 2, 1) := dk_5 (dk_at dksX4_deskErrors_2 4 rfl rfl)
theorem dX4_deskErrors_53 : decode cX4_deskErrors 53 = .ok (.iaload, 1) := dk_46 (dk_at dksX4_deskErrors_2 5 rfl rfl)
theorem dX4_deskErrors_54 : decode cX4_deskErrors 54 = .ok (.if_icmp .ge 30, 3) := dk_162 0 30 (dk_at dksX4_deskErrors_2 6 rfl rfl)
theorem dX4_deskErrors_57 : decode cX4_deskErrors 57 = .ok (.iload_n 1, 1) := dk_27 (dk_at dksX4_deskErrors_2 9 rfl rfl)
theorem dX4_deskErrors_58 : decode cX4_deskErrors 58 = .ok (.aload_n 0, 1) := dk_42 (dk_at dksX4_deskErrors_2 10 rfl rfl)
theorem dX4_deskErrors_59 : decode cX4_deskErrors 59 = .ok (.iload_n 2, 1) := dk_28 (dk_at dksX4_deskErrors_2 11 rfl rfl)
theorem dX4_deskErrors_60 : decode cX4_deskErrors 60 = .ok (.invokestatic 40, 3) := dk_184 0 40 (dk_at dksX4_deskErrors_2 12 rfl rfl)
theorem dX4_deskErrors_63 : decode cX4_deskErrors 63 = .ok (.bipush 32, 2) := dk_16 32 (dk_at dksX4_deskErrors_2 15 rfl rfl)
theorem dX4_deskErrors_65 : decode cX4_deskErrors 65 = .ok (.invokevirtual 209, 3) := dk_182 0 209 (dk_at dksX4_deskErrors_2 17 rfl rfl)
theorem dX4_deskErrors_68 : decode cX4_deskErrors 68 = .ok (.ifCond .eq 7, 3) := dk_153 0 7 (dk_at dksX4_deskErrors_2 20 rfl rfl)
theorem dX4_deskErrors_71 : decode cX4_deskErrors 71 = .ok (.iconst 0, 1) := dk_3 (dk_at dksX4_deskErrors_2 23 rfl rfl)
theorem dX4_deskErrors_72 : decode cX4_deskErrors 72 = .ok (.goto 4, 3) := dk_167 0 4 (dk_at dksX4_deskErrors_3 0 rfl rfl)
theorem dX4_deskErrors_75 : decode cX4_deskErrors 75 = .ok (.iconst 1, 1) := dk_4 (dk_at dksX4_deskErrors_3 3 rfl rfl)
theorem dX4_deskErrors_76 : decode cX4_deskErrors 76 = .ok (.iadd, 1) := dk_96 (dk_at dksX4_deskErrors_3 4 rfl rfl)
theorem dX4_deskErrors_77 : decode cX4_deskErrors 77 = .ok (.istore_n 1, 1) := dk_60 (dk_at dksX4_deskErrors_3 5 rfl rfl)
theorem dX4_deskErrors_78 : decode cX4_deskErrors 78 = .ok (.iinc 2 1, 3) := dk_132 2 1 (dk_at dksX4_deskErrors_3 6 rfl rfl)
theorem dX4_deskErrors_81 : decode cX4_deskErrors 81 = .ok (.goto (-34), 3) := dk_167 255 222 (dk_at dksX4_deskErrors_3 9 rfl rfl)
theorem dX4_deskErrors_84 : decode cX4_deskErrors 84 = .ok (.iconst 0, 1) := dk_3 (dk_at dksX4_deskErrors_3 12 rfl rfl)
theorem dX4_deskErrors_85 : decode cX4_deskErrors 85 = .ok (.istore_n 2, 1) := dk_61 (dk_at dksX4_deskErrors_3 13 rfl rfl)
theorem dX4_deskErrors_86 : decode cX4_deskErrors 86 = .ok (.iload_n 2, 1) := dk_28 (dk_at dksX4_deskErrors_3 14 rfl rfl)
theorem dX4_deskErrors_87 : decode cX4_deskErrors 87 = .ok (.aload_n 0, 1) := dk_42 (dk_at dksX4_deskErrors_3 15 rfl rfl)
theorem dX4_deskErrors_88 : decode cX4_deskErrors 88 = .ok (.getfield 9, 3) := dk_180 0 9 (dk_at dksX4_deskErrors_3 16 rfl rfl)
theorem dX4_deskErrors_91 : decode cX4_deskErrors 91 = .ok (.iconst 4, 1) := dk_7 (dk_at dksX4_deskErrors_3 19 rfl rfl)
theorem dX4_deskErrors_92 : decode cX4_deskErrors 92 = .ok (.iaload, 1) := dk_46 (dk_at dksX4_deskErrors_3 20 rfl rfl)
theorem dX4_deskErrors_93 : decode cX4_deskErrors 93 = .ok (.if_icmp .ge 32, 3) := dk_162 0 32 (dk_at dksX4_deskErrors_3 21 rfl rfl)
theorem dX4_deskErrors_96 : decode cX4_deskErrors 96 = .ok (.iload_n 1, 1) := dk_27 (dk_at dksX4_deskErrors_4 0 rfl rfl)
theorem dX4_deskErrors_97 : decode cX4_deskErrors 97 = .ok (.aload_n 0, 1) := dk_42 (dk_at dksX4_deskErrors_4 1 rfl rfl)
theorem dX4_deskErrors_98 : decode cX4_deskErrors 98 = .ok (.sipush 801, 3) := dk_17 3 33 (dk_at dksX4_deskErrors_4 2 rfl rfl)
theorem dX4_deskErrors_101 : decode cX4_deskErrors 101 = .ok (.iconst 3, 1) := dk_6 (dk_at dksX4_deskErrors_4 5 rfl rfl)
theorem dX4_deskErrors_102 : decode cX4_deskErrors 102 = .ok (.iload_n 2, 1) := dk_28 (dk_at dksX4_deskErrors_4 6 rfl rfl)
theorem dX4_deskErrors_103 : decode cX4_deskErrors 103 = .ok (.imul, 1) := dk_104 (dk_at dksX4_deskErrors_4 7 rfl rfl)
theorem dX4_deskErrors_104 : decode cX4_deskErrors 104 = .ok (.iadd, 1) := dk_96 (dk_at dksX4_deskErrors_4 8 rfl rfl)
theorem dX4_deskErrors_105 : decode cX4_deskErrors 105 = .ok (.iconst 3, 1) := dk_6 (dk_at dksX4_deskErrors_4 9 rfl rfl)
theorem dX4_deskErrors_106 : decode cX4_deskErrors 106 = .ok (.invokevirtual 209, 3) := dk_182 0 209 (dk_at dksX4_deskErrors_4 10 rfl rfl)
theorem dX4_deskErrors_109 : decode cX4_deskErrors 109 = .ok (.ifCond .eq 7, 3) := dk_153 0 7 (dk_at dksX4_deskErrors_4 13 rfl rfl)
theorem dX4_deskErrors_112 : decode cX4_deskErrors 112 = .ok (.iconst 0, 1) := dk_3 (dk_at dksX4_deskErrors_4 16 rfl rfl)
theorem dX4_deskErrors_113 : decode cX4_deskErrors 113 = .ok (.goto 4, 3) := dk_167 0 4 (dk_at dksX4_deskErrors_4 17 rfl rfl)
theorem dX4_deskErrors_116 : decode cX4_deskErrors 116 = .ok (.iconst 1, 1) := dk_4 (dk_at dksX4_deskErrors_4 20 rfl rfl)
theorem dX4_deskErrors_117 : decode cX4_deskErrors 117 = .ok (.iadd, 1) := dk_96 (dk_at dksX4_deskErrors_4 21 rfl rfl)
theorem dX4_deskErrors_118 : decode cX4_deskErrors 118 = .ok (.istore_n 1, 1) := dk_60 (dk_at dksX4_deskErrors_4 22 rfl rfl)
theorem dX4_deskErrors_119 : decode cX4_deskErrors 119 = .ok (.iinc 2 1, 3) := dk_132 2 1 (dk_at dksX4_deskErrors_5 0 rfl rfl)
theorem dX4_deskErrors_122 : decode cX4_deskErrors 122 = .ok (.goto (-36), 3) := dk_167 255 220 (dk_at dksX4_deskErrors_5 3 rfl rfl)
theorem dX4_deskErrors_125 : decode cX4_deskErrors 125 = .ok (.aload_n 0, 1) := dk_42 (dk_at dksX4_deskErrors_5 6 rfl rfl)
theorem dX4_deskErrors_126 : decode cX4_deskErrors 126 = .ok (.invokevirtual 206, 3) := dk_182 0 206 (dk_at dksX4_deskErrors_5 7 rfl rfl)
theorem dX4_deskErrors_129 : decode cX4_deskErrors 129 = .ok (.iconst 0, 1) := dk_3 (dk_at dksX4_deskErrors_5 10 rfl rfl)
theorem dX4_deskErrors_130 : decode cX4_deskErrors 130 = .ok (.istore_n 2, 1) := dk_61 (dk_at dksX4_deskErrors_5 11 rfl rfl)
theorem dX4_deskErrors_131 : decode cX4_deskErrors 131 = .ok (.iload_n 2, 1) := dk_28 (dk_at dksX4_deskErrors_5 12 rfl rfl)
theorem dX4_deskErrors_132 : decode cX4_deskErrors 132 = .ok (.aload_n 0, 1) := dk_42 (dk_at dksX4_deskErrors_5 13 rfl rfl)
theorem dX4_deskErrors_133 : decode cX4_deskErrors 133 = .ok (.getfield 9, 3) := dk_180 0 9 (dk_at dksX4_deskErrors_5 14 rfl rfl)
theorem dX4_deskErrors_136 : decode cX4_deskErrors 136 = .ok (.iconst 4, 1) := dk_7 (dk_at dksX4_deskErrors_5 17 rfl rfl)
theorem dX4_deskErrors_137 : decode cX4_deskErrors 137 = .ok (.iaload, 1) := dk_46 (dk_at dksX4_deskErrors_5 18 rfl rfl)
theorem dX4_deskErrors_138 : decode cX4_deskErrors 138 = .ok (.if_icmp .ge 55, 3) := dk_162 0 55 (dk_at dksX4_deskErrors_5 19 rfl rfl)
theorem dX4_deskErrors_141 : decode cX4_deskErrors 141 = .ok (.iconst 0, 1) := dk_3 (dk_at dksX4_deskErrors_5 22 rfl rfl)
theorem dX4_deskErrors_142 : decode cX4_deskErrors 142 = .ok (.istore_n 3, 1) := dk_62 (dk_at dksX4_deskErrors_5 23 rfl rfl)
theorem dX4_deskErrors_143 : decode cX4_deskErrors 143 = .ok (.iload_n 3, 1) := dk_29 (dk_at dksX4_deskErrors_6 0 rfl rfl)
theorem dX4_deskErrors_144 : decode cX4_deskErrors 144 = .ok (.bipush 6, 2) := dk_16 6 (dk_at dksX4_deskErrors_6 1 rfl rfl)
theorem dX4_deskErrors_146 : decode cX4_deskErrors 146 = .ok (.if_icmp .ge 41, 3) := dk_162 0 41 (dk_at dksX4_deskErrors_6 3 rfl rfl)
theorem dX4_deskErrors_149 : decode cX4_deskErrors 149 = .ok (.aload_n 0, 1) := dk_42 (dk_at dksX4_deskErrors_6 6 rfl rfl)
theorem dX4_deskErrors_150 : decode cX4_deskErrors 150 = .ok (.iload_n 2, 1) := dk_28 (dk_at dksX4_deskErrors_6 7 rfl rfl)
theorem dX4_deskErrors_151 : decode cX4_deskErrors 151 = .ok (.iload_n 3, 1) := dk_29 (dk_at dksX4_deskErrors_6 8 rfl rfl)
theorem dX4_deskErrors_152 : decode cX4_deskErrors 152 = .ok (.invokevirtual 137, 3) := dk_182 0 137 (dk_at dksX4_deskErrors_6 9 rfl rfl)
theorem dX4_deskErrors_155 : decode cX4_deskErrors 155 = .ok (.istore 4, 2) := dk_54 4 (dk_at dksX4_deskErrors_6 12 rfl rfl)
theorem dX4_deskErrors_157 : decode cX4_deskErrors 157 = .ok (.iload_n 1, 1) := dk_27 (dk_at dksX4_deskErrors_6 14 rfl rfl)
theorem dX4_deskErrors_158 : decode cX4_deskErrors 158 = .ok (.iload 4, 2) := dk_21 4 (dk_at dksX4_deskErrors_6 15 rfl rfl)
theorem dX4_deskErrors_160 : decode cX4_deskErrors 160 = .ok (.iconst (-1), 1) := dk_2 (dk_at dksX4_deskErrors_6 17 rfl rfl)
theorem dX4_deskErrors_161 : decode cX4_deskErrors 161 = .ok (.if_icmp .eq 17, 3) := dk_159 0 17 (dk_at dksX4_deskErrors_6 18 rfl rfl)
theorem dX4_deskErrors_164 : decode cX4_deskErrors 164 = .ok (.aload_n 0, 1) := dk_42 (dk_at dksX4_deskErrors_6 21 rfl rfl)
theorem dX4_deskErrors_165 : decode cX4_deskErrors 165 = .ok (.iload_n 3, 1) := dk_29 (dk_at dksX4_deskErrors_6 22 rfl rfl)
theorem dX4_deskErrors_166 : decode cX4_deskErrors 166 = .ok (.iload 4, 2) := dk_21 4 (dk_at dksX4_deskErrors_7 0 rfl rfl)
theorem dX4_deskErrors_168 : decode cX4_deskErrors 168 = .ok (.invokevirtual 125, 3) := dk_182 0 125 (dk_at dksX4_deskErrors_7 2 rfl rfl)
theorem dX4_deskErrors_171 : decode cX4_deskErrors 171 = .ok (.ifCond .ne 7, 3) := dk_154 0 7 (dk_at dksX4_deskErrors_7 5 rfl rfl)
theorem dX4_deskErrors_174 : decode cX4_deskErrors 174 = .ok (.iconst 1, 1) := dk_4 (dk_at dksX4_deskErrors_7 8 rfl rfl)
theorem dX4_deskErrors_175 : decode cX4_deskErrors 175 = .ok (.goto 4, 3) := dk_167 0 4 (dk_at dksX4_deskErrors_7 9 rfl rfl)
theorem dX4_deskErrors_178 : decode cX4_deskErrors 178 = .ok (.iconst 0, 1) := dk_3 (dk_at dksX4_deskErrors_7 12 rfl rfl)
theorem dX4_deskErrors_179 : decode cX4_deskErrors 179 = .ok (.iadd, 1) := dk_96 (dk_at dksX4_deskErrors_7 13 rfl rfl)
theorem dX4_deskErrors_180 : decode cX4_deskErrors 180 = .ok (.istore_n 1, 1) := dk_60 (dk_at dksX4_deskErrors_7 14 rfl rfl)
theorem dX4_deskErrors_181 : decode cX4_deskErrors 181 = .ok (.iinc 3 1, 3) := dk_132 3 1 (dk_at dksX4_deskErrors_7 15 rfl rfl)
theorem dX4_deskErrors_184 : decode cX4_deskErrors 184 = .ok (.goto (-41), 3) := dk_167 255 215 (dk_at dksX4_deskErrors_7 18 rfl rfl)
theorem dX4_deskErrors_187 : decode cX4_deskErrors 187 = .ok (.iinc 2 1, 3) := dk_132 2 1 (dk_at dksX4_deskErrors_7 21 rfl rfl)
theorem dX4_deskErrors_190 : decode cX4_deskErrors 190 = .ok (.goto (-59), 3) := dk_167 255 197 (dk_at dksX4_deskErrors_8 0 rfl rfl)
theorem dX4_deskErrors_193 : decode cX4_deskErrors 193 = .ok (.aload_n 0, 1) := dk_42 (dk_at dksX4_deskErrors_8 3 rfl rfl)
theorem dX4_deskErrors_194 : decode cX4_deskErrors 194 = .ok (.iconst 0, 1) := dk_3 (dk_at dksX4_deskErrors_8 4 rfl rfl)
theorem dX4_deskErrors_195 : decode cX4_deskErrors 195 = .ok (.putfield 25, 3) := dk_181 0 25 (dk_at dksX4_deskErrors_8 5 rfl rfl)
theorem dX4_deskErrors_198 : decode cX4_deskErrors 198 = .ok (.iload_n 1, 1) := dk_27 (dk_at dksX4_deskErrors_8 8 rfl rfl)
theorem dX4_deskErrors_199 : decode cX4_deskErrors 199 = .ok (.ireturn, 1) := dk_172 (dk_at dksX4_deskErrors_8 9 rfl rfl)
abbrev cX4_isSame : ByteArray := prog_38_method_75_code
def yX4_isSame : MethodName := ⟨RX4, "isSame", "(II)Z"⟩
def dkwX4_isSame_1 : List UInt8 := [3, 172, 132, 3, 1, 167, 255, 229, 4, 172]
abbrev dktX4_isSame_1 : List UInt8 := dkwX4_isSame_1 ++ []
def dkwX4_isSame_0 : List UInt8 := [27, 62, 29, 27, 28, 96, 162, 0, 26, 42, 180, 0, 9, 29, 46, 42, 180, 0, 13, 29, 46, 159, 0, 5]
abbrev dktX4_isSame_0 : List UInt8 := dkwX4_isSame_0 ++ dktX4_isSame_1
theorem dksX4_isSame_0 : cX4_isSame.data.toList.drop 0 = dktX4_isSame_0 := by decide +kernel
theorem dksX4_isSame_1 : cX4_isSame.data.toList.drop 24 = dktX4_isSame_1 := dk_seg dksX4_isSame_0 24 rfl rfl
theorem dX4_isSame_0 : decode cX4_isSame 0 = .ok (.iload_n 1, 1) := dk_27 (dk_at dksX4_isSame_0 0 rfl rfl)
theorem dX4_isSame_1 : decode cX4_isSame 1 = .ok (.istore_n 3, 1) := dk_62 (dk_at dksX4_isSame_0 1 rfl rfl)
theorem dX4_isSame_2 : decode cX4_isSame 2 = .ok (.iload_n 3, 1) := dk_29 (dk_at dksX4_isSame_0 2 rfl rfl)
theorem dX4_isSame_3 : decode cX4_isSame 3 = .ok (.iload_n 1, 1) := dk_27 (dk_at dksX4_isSame_0 3 rfl rfl)
theorem dX4_isSame_4 : decode cX4_isSame 4 = .ok (.iload_n 2, 1) := dk_28 (dk_at dksX4_isSame_0 4 rfl rfl)
theorem dX4_isSame_5 : decode cX4_isSame 5 = .ok (.iadd, 1) := dk_96 (dk_at dksX4_isSame_0 5 rfl rfl)
theorem dX4_isSame_6 : decode cX4_isSame 6 = .ok (.if_icmp .ge 26, 3) := dk_162 0 26 (dk_at dksX4_isSame_0 6 rfl rfl)
theorem dX4_isSame_9 : decode cX4_isSame 9 = .ok (.aload_n 0, 1) := dk_42 (dk_at dksX4_isSame_0 9 rfl rfl)
theorem dX4_isSame_10 : decode cX4_isSame 10 = .ok (.getfield 9, 3) := dk_180 0 9 (dk_at dksX4_isSame_0 10 rfl rfl)
theorem dX4_isSame_13 : decode cX4_isSame 13 = .ok (.iload_n 3, 1) := dk_29 (dk_at dksX4_isSame_0 13 rfl rfl)
theorem dX4_isSame_14 : decode cX4_isSame 14 = .ok (.iaload, 1) := dk_46 (dk_at dksX4_isSame_0 14 rfl rfl)
theorem dX4_isSame_15 : decode cX4_isSame 15 = .ok (.aload_n 0, 1) := dk_42 (dk_at dksX4_isSame_0 15 rfl rfl)
theorem dX4_isSame_16 : decode cX4_isSame 16 = .ok (.getfield 13, 3) := dk_180 0 13 (dk_at dksX4_isSame_0 16 rfl rfl)
theorem dX4_isSame_19 : decode cX4_isSame 19 = .ok (.iload_n 3, 1) := dk_29 (dk_at dksX4_isSame_0 19 rfl rfl)
theorem dX4_isSame_20 : decode cX4_isSame 20 = .ok (.iaload, 1) := dk_46 (dk_at dksX4_isSame_0 20 rfl rfl)
theorem dX4_isSame_21 : decode cX4_isSame 21 = .ok (.if_icmp .eq 5, 3) := dk_159 0 5 (dk_at dksX4_isSame_0 21 rfl rfl)
theorem dX4_isSame_24 : decode cX4_isSame 24 = .ok (.iconst 0, 1) := dk_3 (dk_at dksX4_isSame_1 0 rfl rfl)
theorem dX4_isSame_25 : decode cX4_isSame 25 = .ok (.ireturn, 1) := dk_172 (dk_at dksX4_isSame_1 1 rfl rfl)
theorem dX4_isSame_26 : decode cX4_isSame 26 = .ok (.iinc 3 1, 3) := dk_132 3 1 (dk_at dksX4_isSame_1 2 rfl rfl)
theorem dX4_isSame_29 : decode cX4_isSame 29 = .ok (.goto (-27), 3) := dk_167 255 229 (dk_at dksX4_isSame_1 5 rfl rfl)
theorem dX4_isSame_32 : decode cX4_isSame 32 = .ok (.iconst 1, 1) := dk_4 (dk_at dksX4_isSame_1 8 rfl rfl)
theorem dX4_isSame_33 : decode cX4_isSame 33 = .ok (.ireturn, 1) := dk_172 (dk_at dksX4_isSame_1 9 rfl rfl)
theorem q49 : (Jvm.Cond.initialized "CheckoutDeskModel") ∈ lw_all := lw_g (lw_at lw_m1 7 rfl) rfl
theorem q1131 : (Jvm.Cond.selects "CheckoutDeskModel" ({ cls := "java/lang/Object", name := "getClass", desc := "()Ljava/lang/Class;" } : Jvm.MethodName) ({ cls := "java/lang/Object", name := "getClass", desc := "()Ljava/lang/Class;" } : Jvm.MethodName)) ∈ lw_all := lw_g (lw_at lw_m5 129 rfl) rfl
theorem q2322 : (Jvm.Cond.instantiable "CheckoutDeskModel" (7 : Nat)) ∈ lw_all := lw_g (lw_at lw_m10 120 rfl) rfl
theorem q2324 : (Jvm.Cond.instanceMethod ({ cls := "CheckoutDeskModel", name := "<init>", desc := "()V" } : Jvm.MethodName)) ∈ lw_all := lw_g (lw_at lw_m10 122 rfl) rfl
theorem q2325 : (Jvm.Cond.code ({ cls := "CheckoutDeskModel", name := "<init>", desc := "()V" } : Jvm.MethodName) prog_38_method_1_code (1 : Nat) (Option.none : Option Jvm.ClassFile.FieldType)) ∈ lw_all := lw_g (lw_at lw_m10 123 rfl) rfl
theorem q2326 : (Jvm.Cond.methodLink "CheckoutDeskModel" (1 : Nat) ({ cls := "java/lang/Object", name := "<init>", desc := "()V" } : Jvm.MethodName)) ∈ lw_all := lw_g (lw_at lw_m10 124 rfl) rfl
theorem q2327 : (Jvm.Cond.methodLink "CheckoutDeskModel" (22 : Nat) ({ cls := "CheckoutDeskModel", name := "clear", desc := "()V" } : Jvm.MethodName)) ∈ lw_all := lw_g (lw_at lw_m10 125 rfl) rfl
theorem q2328 : (Jvm.Cond.privateMethod ({ cls := "CheckoutDeskModel", name := "clear", desc := "()V" } : Jvm.MethodName)) ∈ lw_tbl := lw_at lw_m10 126 rfl
theorem q2329 : (Jvm.Cond.instanceMethod ({ cls := "CheckoutDeskModel", name := "clear", desc := "()V" } : Jvm.MethodName)) ∈ lw_all := lw_g (lw_at lw_m10 127 rfl) rfl
theorem q2330 : (Jvm.Cond.code ({ cls := "CheckoutDeskModel", name := "clear", desc := "()V" } : Jvm.MethodName) prog_38_method_7_code (2 : Nat) (Option.none : Option Jvm.ClassFile.FieldType)) ∈ lw_all := lw_g (lw_at lw_m10 128 rfl) rfl
theorem q2331 : (Jvm.Cond.fieldLink "CheckoutDeskModel" (9 : Nat) "CheckoutDeskModel" "w" "[I") ∈ lw_all := lw_g (lw_at lw_m10 129 rfl) rfl
theorem q2332 : (Jvm.Cond.fieldLink "CheckoutDeskModel" (13 : Nat) "CheckoutDeskModel" "kept" "[I") ∈ lw_all := lw_g (lw_at lw_m10 130 rfl) rfl
theorem q2333 : (Jvm.Cond.fieldLink "CheckoutDeskModel" (16 : Nat) "CheckoutDeskModel" "log" "[I") ∈ lw_all := lw_g (lw_at lw_m10 131 rfl) rfl
theorem q2334 : (Jvm.Cond.fieldLink "CheckoutDeskModel" (19 : Nat) "CheckoutDeskModel" "hours" "[I") ∈ lw_all := lw_g (lw_at lw_m10 132 rfl) rfl
theorem q2335 : (Jvm.Cond.fieldLink "CheckoutDeskModel" (33 : Nat) "CheckoutDeskModel" "events" "I") ∈ lw_all := lw_g (lw_at lw_m10 133 rfl) rfl
theorem q2336 : (Jvm.Cond.fieldLink "CheckoutDeskModel" (36 : Nat) "CheckoutDeskModel" "isRedoing" "Z") ∈ lw_all := lw_g (lw_at lw_m10 134 rfl) rfl
theorem q2337 : (Jvm.Cond.fieldLink "CheckoutDeskModel" (25 : Nat) "CheckoutDeskModel" "thrown" "I") ∈ lw_all := lw_g (lw_at lw_m10 135 rfl) rfl
theorem q2338 : (Jvm.Cond.laysFinal "CheckoutDeskModel" "CheckoutDeskModel" "w" "[I") ∈ lw_all := lw_g (lw_at lw_m10 136 rfl) rfl
theorem q2339 : (Jvm.Cond.soleField "CheckoutDeskModel" "w") ∈ lw_all := lw_g (lw_at lw_m10 137 rfl) rfl
theorem q2340 : (Jvm.Cond.laysFinal "CheckoutDeskModel" "CheckoutDeskModel" "kept" "[I") ∈ lw_all := lw_g (lw_at lw_m10 138 rfl) rfl
theorem q2341 : (Jvm.Cond.soleField "CheckoutDeskModel" "kept") ∈ lw_all := lw_g (lw_at lw_m10 139 rfl) rfl
theorem q2342 : (Jvm.Cond.laysFinal "CheckoutDeskModel" "CheckoutDeskModel" "log" "[I") ∈ lw_all := lw_g (lw_at lw_m10 140 rfl) rfl
theorem q2343 : (Jvm.Cond.soleField "CheckoutDeskModel" "log") ∈ lw_all := lw_g (lw_at lw_m10 141 rfl) rfl
theorem q2344 : (Jvm.Cond.laysFinal "CheckoutDeskModel" "CheckoutDeskModel" "hours" "[I") ∈ lw_all := lw_g (lw_at lw_m10 142 rfl) rfl
theorem q2345 : (Jvm.Cond.soleField "CheckoutDeskModel" "hours") ∈ lw_all := lw_g (lw_at lw_m10 143 rfl) rfl
theorem q2346 : (Jvm.Cond.lays "CheckoutDeskModel" "CheckoutDeskModel" "events" "I") ∈ lw_all := lw_g (lw_at lw_m10 144 rfl) rfl
theorem q2347 : (Jvm.Cond.soleField "CheckoutDeskModel" "events") ∈ lw_all := lw_g (lw_at lw_m10 145 rfl) rfl
theorem q2348 : (Jvm.Cond.lays "CheckoutDeskModel" "CheckoutDeskModel" "isRedoing" "Z") ∈ lw_all := lw_g (lw_at lw_m10 146 rfl) rfl
theorem q2349 : (Jvm.Cond.soleField "CheckoutDeskModel" "isRedoing") ∈ lw_all := lw_g (lw_at lw_m10 147 rfl) rfl
theorem q2350 : (Jvm.Cond.lays "CheckoutDeskModel" "CheckoutDeskModel" "thrown" "I") ∈ lw_all := lw_g (lw_at lw_m10 148 rfl) rfl
theorem q2351 : (Jvm.Cond.soleField "CheckoutDeskModel" "thrown") ∈ lw_all := lw_g (lw_at lw_m10 149 rfl) rfl
theorem q2352 : (Jvm.Cond.superclass "CheckoutDeskModel" "java/lang/Object") ∈ lw_all := lw_g (lw_at lw_m10 150 rfl) rfl
theorem q2354 : (Jvm.Cond.instanceMethod ({ cls := "CheckoutDeskModel", name := "thrown", desc := "()I" } : Jvm.MethodName)) ∈ lw_all := lw_g (lw_at lw_m10 152 rfl) rfl
theorem q2355 : (Jvm.Cond.selects "CheckoutDeskModel" ({ cls := "CheckoutDeskModel", name := "thrown", desc := "()I" } : Jvm.MethodName) ({ cls := "CheckoutDeskModel", name := "thrown", desc := "()I" } : Jvm.MethodName)) ∈ lw_all := lw_g (lw_at lw_m10 153 rfl) rfl
theorem q2356 : (Jvm.Cond.code ({ cls := "CheckoutDeskModel", name := "thrown", desc := "()I" } : Jvm.MethodName) prog_38_method_2_code (1 : Nat) (Option.some Jvm.ClassFile.FieldType.int)) ∈ lw_all := lw_g (lw_at lw_m10 154 rfl) rfl
theorem q2358 : (Jvm.Cond.instanceMethod ({ cls := "CheckoutDeskModel", name := "reset", desc := "()I" } : Jvm.MethodName)) ∈ lw_all := lw_g (lw_at lw_m10 156 rfl) rfl
theorem q2359 : (Jvm.Cond.selects "CheckoutDeskModel" ({ cls := "CheckoutDeskModel", name := "reset", desc := "()I" } : Jvm.MethodName) ({ cls := "CheckoutDeskModel", name := "reset", desc := "()I" } : Jvm.MethodName)) ∈ lw_all := lw_g (lw_at lw_m10 157 rfl) rfl
theorem q2360 : (Jvm.Cond.code ({ cls := "CheckoutDeskModel", name := "reset", desc := "()I" } : Jvm.MethodName) prog_38_method_8_code (2 : Nat) (Option.some Jvm.ClassFile.FieldType.int)) ∈ lw_all := lw_g (lw_at lw_m10 158 rfl) rfl
theorem q2362 : (Jvm.Cond.instanceMethod ({ cls := "CheckoutDeskModel", name := "pass", desc := "(I)I" } : Jvm.MethodName)) ∈ lw_all := lw_g (lw_at lw_m10 160 rfl) rfl
theorem q2363 : (Jvm.Cond.selects "CheckoutDeskModel" ({ cls := "CheckoutDeskModel", name := "pass", desc := "(I)I" } : Jvm.MethodName) ({ cls := "CheckoutDeskModel", name := "pass", desc := "(I)I" } : Jvm.MethodName)) ∈ lw_all := lw_g (lw_at lw_m10 161 rfl) rfl
theorem q2364 : (Jvm.Cond.code ({ cls := "CheckoutDeskModel", name := "pass", desc := "(I)I" } : Jvm.MethodName) prog_38_method_30_code (2 : Nat) (Option.some Jvm.ClassFile.FieldType.int)) ∈ lw_all := lw_g (lw_at lw_m10 162 rfl) rfl
theorem q2365 : (Jvm.Cond.methodLink "CheckoutDeskModel" (44 : Nat) ({ cls := "CheckoutDeskModel", name := "lies", desc := "(III)Z" } : Jvm.MethodName)) ∈ lw_all := lw_g (lw_at lw_m10 163 rfl) rfl
theorem q2366 : (Jvm.Cond.static ({ cls := "CheckoutDeskModel", name := "lies", desc := "(III)Z" } : Jvm.MethodName)) ∈ lw_all := lw_g (lw_at lw_m10 164 rfl) rfl
theorem q2367 : (Jvm.Cond.code ({ cls := "CheckoutDeskModel", name := "lies", desc := "(III)Z" } : Jvm.MethodName) prog_38_method_6_code (3 : Nat) (Option.some Jvm.ClassFile.FieldType.boolean)) ∈ lw_all := lw_g (lw_at lw_m10 165 rfl) rfl
theorem q2368 : (Jvm.Cond.methodLink "CheckoutDeskModel" (77 : Nat) ({ cls := "CheckoutDeskModel", name := "ok", desc := "(ZZ)Z" } : Jvm.MethodName)) ∈ lw_all := lw_g (lw_at lw_m10 166 rfl) rfl
theorem q2369 : (Jvm.Cond.privateMethod ({ cls := "CheckoutDeskModel", name := "ok", desc := "(ZZ)Z" } : Jvm.MethodName)) ∈ lw_tbl := lw_at lw_m10 167 rfl
theorem q2370 : (Jvm.Cond.instanceMethod ({ cls := "CheckoutDeskModel", name := "ok", desc := "(ZZ)Z" } : Jvm.MethodName)) ∈ lw_all := lw_g (lw_at lw_m10 168 rfl) rfl
theorem q2371 : (Jvm.Cond.code ({ cls := "CheckoutDeskModel", name := "ok", desc := "(ZZ)Z" } : Jvm.MethodName) prog_38_method_4_code (3 : Nat) (Option.some Jvm.ClassFile.FieldType.boolean)) ∈ lw_all := lw_g (lw_at lw_m10 169 rfl) rfl
theorem q2372 : (Jvm.Cond.methodLink "CheckoutDeskModel" (29 : Nat) ({ cls := "CheckoutDeskModel", name := "ok", desc := "(ZZZ)Z" } : Jvm.MethodName)) ∈ lw_all := lw_g (lw_at lw_m10 170 rfl) rfl
theorem q2373 : (Jvm.Cond.privateMethod ({ cls := "CheckoutDeskModel", name := "ok", desc := "(ZZZ)Z" } : Jvm.MethodName)) ∈ lw_tbl := lw_at lw_m10 171 rfl
theorem q2374 : (Jvm.Cond.instanceMethod ({ cls := "CheckoutDeskModel", name := "ok", desc := "(ZZZ)Z" } : Jvm.MethodName)) ∈ lw_all := lw_g (lw_at lw_m10 172 rfl) rfl
theorem q2375 : (Jvm.Cond.code ({ cls := "CheckoutDeskModel", name := "ok", desc := "(ZZZ)Z" } : Jvm.MethodName) prog_38_method_3_code (4 : Nat) (Option.some Jvm.ClassFile.FieldType.boolean)) ∈ lw_all := lw_g (lw_at lw_m10 173 rfl) rfl
theorem q2376 : (Jvm.Cond.methodLink "CheckoutDeskModel" (80 : Nat) ({ cls := "CheckoutDeskModel", name := "keep", desc := "(IIIIII)V" } : Jvm.MethodName)) ∈ lw_all := lw_g (lw_at lw_m10 174 rfl) rfl
theorem q2377 : (Jvm.Cond.privateMethod ({ cls := "CheckoutDeskModel", name := "keep", desc := "(IIIIII)V" } : Jvm.MethodName)) ∈ lw_tbl := lw_at lw_m10 175 rfl
theorem q2378 : (Jvm.Cond.instanceMethod ({ cls := "CheckoutDeskModel", name := "keep", desc := "(IIIIII)V" } : Jvm.MethodName)) ∈ lw_all := lw_g (lw_at lw_m10 176 rfl) rfl
theorem q2379 : (Jvm.Cond.code ({ cls := "CheckoutDeskModel", name := "keep", desc := "(IIIIII)V" } : Jvm.MethodName) prog_38_method_9_code (8 : Nat) (Option.none : Option Jvm.ClassFile.FieldType)) ∈ lw_all := lw_g (lw_at lw_m10 177 rfl) rfl
theorem q2381 : (Jvm.Cond.instanceMethod ({ cls := "CheckoutDeskModel", name := "setLapse", desc := "(I)I" } : Jvm.MethodName)) ∈ lw_all := lw_g (lw_at lw_m10 179 rfl) rfl
theorem q2382 : (Jvm.Cond.selects "CheckoutDeskModel" ({ cls := "CheckoutDeskModel", name := "setLapse", desc := "(I)I" } : Jvm.MethodName) ({ cls := "CheckoutDeskModel", name := "setLapse", desc := "(I)I" } : Jvm.MethodName)) ∈ lw_all := lw_g (lw_at lw_m10 180 rfl) rfl
theorem q2383 : (Jvm.Cond.code ({ cls := "CheckoutDeskModel", name := "setLapse", desc := "(I)I" } : Jvm.MethodName) prog_38_method_31_code (3 : Nat) (Option.some Jvm.ClassFile.FieldType.int)) ∈ lw_all := lw_g (lw_at lw_m10 181 rfl) rfl
theorem q2384 : (Jvm.Cond.methodLink "CheckoutDeskModel" (84 : Nat) ({ cls := "CheckoutDeskModel", name := "ok", desc := "(Z)Z" } : Jvm.MethodName)) ∈ lw_all := lw_g (lw_at lw_m10 182 rfl) rfl
theorem q2385 : (Jvm.Cond.privateMethod ({ cls := "CheckoutDeskModel", name := "ok", desc := "(Z)Z" } : Jvm.MethodName)) ∈ lw_tbl := lw_at lw_m10 183 rfl
theorem q2386 : (Jvm.Cond.instanceMethod ({ cls := "CheckoutDeskModel", name := "ok", desc := "(Z)Z" } : Jvm.MethodName)) ∈ lw_all := lw_g (lw_at lw_m10 184 rfl) rfl
theorem q2387 : (Jvm.Cond.code ({ cls := "CheckoutDeskModel", name := "ok", desc := "(Z)Z" } : Jvm.MethodName) prog_38_method_5_code (2 : Nat) (Option.some Jvm.ClassFile.FieldType.boolean)) ∈ lw_all := lw_g (lw_at lw_m10 185 rfl) rfl
theorem q2389 : (Jvm.Cond.instanceMethod ({ cls := "CheckoutDeskModel", name := "create", desc := "(II)I" } : Jvm.MethodName)) ∈ lw_all := lw_g (lw_at lw_m10 187 rfl) rfl
theorem q2390 : (Jvm.Cond.selects "CheckoutDeskModel" ({ cls := "CheckoutDeskModel", name := "create", desc := "(II)I" } : Jvm.MethodName) ({ cls := "CheckoutDeskModel", name := "create", desc := "(II)I" } : Jvm.MethodName)) ∈ lw_all := lw_g (lw_at lw_m10 188 rfl) rfl
theorem q2391 : (Jvm.Cond.code ({ cls := "CheckoutDeskModel", name := "create", desc := "(II)I" } : Jvm.MethodName) prog_38_method_32_code (6 : Nat) (Option.some Jvm.ClassFile.FieldType.int)) ∈ lw_all := lw_g (lw_at lw_m10 189 rfl) rfl
theorem q2392 : (Jvm.Cond.methodLink "CheckoutDeskModel" (87 : Nat) ({ cls := "CheckoutDeskModel", name := "isPerson", desc := "(I)Z" } : Jvm.MethodName)) ∈ lw_all := lw_g (lw_at lw_m10 190 rfl) rfl
theorem q2393 : (Jvm.Cond.static ({ cls := "CheckoutDeskModel", name := "isPerson", desc := "(I)Z" } : Jvm.MethodName)) ∈ lw_all := lw_g (lw_at lw_m10 191 rfl) rfl
theorem q2394 : (Jvm.Cond.code ({ cls := "CheckoutDeskModel", name := "isPerson", desc := "(I)Z" } : Jvm.MethodName) prog_38_method_13_code (1 : Nat) (Option.some Jvm.ClassFile.FieldType.boolean)) ∈ lw_all := lw_g (lw_at lw_m10 192 rfl) rfl
theorem q2395 : (Jvm.Cond.methodLink "CheckoutDeskModel" (40 : Nat) ({ cls := "CheckoutDeskModel", name := "doc", desc := "(I)I" } : Jvm.MethodName)) ∈ lw_all := lw_g (lw_at lw_m10 193 rfl) rfl
theorem q2396 : (Jvm.Cond.static ({ cls := "CheckoutDeskModel", name := "doc", desc := "(I)I" } : Jvm.MethodName)) ∈ lw_all := lw_g (lw_at lw_m10 194 rfl) rfl
theorem q2397 : (Jvm.Cond.code ({ cls := "CheckoutDeskModel", name := "doc", desc := "(I)I" } : Jvm.MethodName) prog_38_method_10_code (1 : Nat) (Option.some Jvm.ClassFile.FieldType.int)) ∈ lw_all := lw_g (lw_at lw_m10 195 rfl) rfl
theorem q2398 : (Jvm.Cond.methodLink "CheckoutDeskModel" (69 : Nat) ({ cls := "CheckoutDeskModel", name := "place", desc := "(II)I" } : Jvm.MethodName)) ∈ lw_all := lw_g (lw_at lw_m10 196 rfl) rfl
theorem q2399 : (Jvm.Cond.static ({ cls := "CheckoutDeskModel", name := "place", desc := "(II)I" } : Jvm.MethodName)) ∈ lw_all := lw_g (lw_at lw_m10 197 rfl) rfl
theorem q2400 : (Jvm.Cond.code ({ cls := "CheckoutDeskModel", name := "place", desc := "(II)I" } : Jvm.MethodName) prog_38_method_11_code (2 : Nat) (Option.some Jvm.ClassFile.FieldType.int)) ∈ lw_all := lw_g (lw_at lw_m10 198 rfl) rfl
theorem q2401 : (Jvm.Cond.methodLink "CheckoutDeskModel" (90 : Nat) ({ cls := "CheckoutDeskModel", name := "make", desc := "(IIIII)I" } : Jvm.MethodName)) ∈ lw_all := lw_g (lw_at lw_m10 199 rfl) rfl
theorem q2402 : (Jvm.Cond.privateMethod ({ cls := "CheckoutDeskModel", name := "make", desc := "(IIIII)I" } : Jvm.MethodName)) ∈ lw_tbl := lw_at lw_m10 200 rfl
theorem q2403 : (Jvm.Cond.instanceMethod ({ cls := "CheckoutDeskModel", name := "make", desc := "(IIIII)I" } : Jvm.MethodName)) ∈ lw_all := lw_g (lw_at lw_m10 201 rfl) rfl
theorem q2404 : (Jvm.Cond.code ({ cls := "CheckoutDeskModel", name := "make", desc := "(IIIII)I" } : Jvm.MethodName) prog_38_method_29_code (8 : Nat) (Option.some Jvm.ClassFile.FieldType.int)) ∈ lw_all := lw_g (lw_at lw_m10 202 rfl) rfl
theorem q2405 : (Jvm.Cond.methodLink "CheckoutDeskModel" (52 : Nat) ({ cls := "CheckoutDeskModel", name := "ver", desc := "(I)I" } : Jvm.MethodName)) ∈ lw_all := lw_g (lw_at lw_m10 203 rfl) rfl
theorem q2406 : (Jvm.Cond.static ({ cls := "CheckoutDeskModel", name := "ver", desc := "(I)I" } : Jvm.MethodName)) ∈ lw_all := lw_g (lw_at lw_m10 204 rfl) rfl
theorem q2407 : (Jvm.Cond.code ({ cls := "CheckoutDeskModel", name := "ver", desc := "(I)I" } : Jvm.MethodName) prog_38_method_12_code (1 : Nat) (Option.some Jvm.ClassFile.FieldType.int)) ∈ lw_all := lw_g (lw_at lw_m10 205 rfl) rfl
theorem q2409 : (Jvm.Cond.instanceMethod ({ cls := "CheckoutDeskModel", name := "grant", desc := "(IIII)I" } : Jvm.MethodName)) ∈ lw_all := lw_g (lw_at lw_m10 207 rfl) rfl
theorem q2410 : (Jvm.Cond.selects "CheckoutDeskModel" ({ cls := "CheckoutDeskModel", name := "grant", desc := "(IIII)I" } : Jvm.MethodName) ({ cls := "CheckoutDeskModel", name := "grant", desc := "(IIII)I" } : Jvm.MethodName)) ∈ lw_all := lw_g (lw_at lw_m10 208 rfl) rfl
theorem q2411 : (Jvm.Cond.code ({ cls := "CheckoutDeskModel", name := "grant", desc := "(IIII)I" } : Jvm.MethodName) prog_38_method_33_code (9 : Nat) (Option.some Jvm.ClassFile.FieldType.int)) ∈ lw_all := lw_g (lw_at lw_m10 209 rfl) rfl
theorem q2412 : (Jvm.Cond.methodLink "CheckoutDeskModel" (48 : Nat) ({ cls := "CheckoutDeskModel", name := "isDocument", desc := "(I)Z" } : Jvm.MethodName)) ∈ lw_all := lw_g (lw_at lw_m10 210 rfl) rfl
theorem q2413 : (Jvm.Cond.privateMethod ({ cls := "CheckoutDeskModel", name := "isDocument", desc := "(I)Z" } : Jvm.MethodName)) ∈ lw_tbl := lw_at lw_m10 211 rfl
theorem q2414 : (Jvm.Cond.instanceMethod ({ cls := "CheckoutDeskModel", name := "isDocument", desc := "(I)Z" } : Jvm.MethodName)) ∈ lw_all := lw_g (lw_at lw_m10 212 rfl) rfl
theorem q2415 : (Jvm.Cond.code ({ cls := "CheckoutDeskModel", name := "isDocument", desc := "(I)Z" } : Jvm.MethodName) prog_38_method_14_code (2 : Nat) (Option.some Jvm.ClassFile.FieldType.boolean)) ∈ lw_all := lw_g (lw_at lw_m10 213 rfl) rfl
theorem q2416 : (Jvm.Cond.methodLink "CheckoutDeskModel" (94 : Nat) ({ cls := "CheckoutDeskModel", name := "owns", desc := "(II)Z" } : Jvm.MethodName)) ∈ lw_all := lw_g (lw_at lw_m10 214 rfl) rfl
theorem q2417 : (Jvm.Cond.privateMethod ({ cls := "CheckoutDeskModel", name := "owns", desc := "(II)Z" } : Jvm.MethodName)) ∈ lw_tbl := lw_at lw_m10 215 rfl
theorem q2418 : (Jvm.Cond.instanceMethod ({ cls := "CheckoutDeskModel", name := "owns", desc := "(II)Z" } : Jvm.MethodName)) ∈ lw_all := lw_g (lw_at lw_m10 216 rfl) rfl
theorem q2419 : (Jvm.Cond.code ({ cls := "CheckoutDeskModel", name := "owns", desc := "(II)Z" } : Jvm.MethodName) prog_38_method_20_code (3 : Nat) (Option.some Jvm.ClassFile.FieldType.boolean)) ∈ lw_all := lw_g (lw_at lw_m10 217 rfl) rfl
theorem q2421 : (Jvm.Cond.instanceMethod ({ cls := "CheckoutDeskModel", name := "checkOut", desc := "(III)I" } : Jvm.MethodName)) ∈ lw_all := lw_g (lw_at lw_m10 219 rfl) rfl
theorem q2422 : (Jvm.Cond.selects "CheckoutDeskModel" ({ cls := "CheckoutDeskModel", name := "checkOut", desc := "(III)I" } : Jvm.MethodName) ({ cls := "CheckoutDeskModel", name := "checkOut", desc := "(III)I" } : Jvm.MethodName)) ∈ lw_all := lw_g (lw_at lw_m10 220 rfl) rfl
theorem q2423 : (Jvm.Cond.code ({ cls := "CheckoutDeskModel", name := "checkOut", desc := "(III)I" } : Jvm.MethodName) prog_38_method_34_code (8 : Nat) (Option.some Jvm.ClassFile.FieldType.int)) ∈ lw_all := lw_g (lw_at lw_m10 221 rfl) rfl
theorem q2424 : (Jvm.Cond.methodLink "CheckoutDeskModel" (97 : Nat) ({ cls := "CheckoutDeskModel", name := "isBranch", desc := "(II)Z" } : Jvm.MethodName)) ∈ lw_all := lw_g (lw_at lw_m10 222 rfl) rfl
theorem q2425 : (Jvm.Cond.privateMethod ({ cls := "CheckoutDeskModel", name := "isBranch", desc := "(II)Z" } : Jvm.MethodName)) ∈ lw_tbl := lw_at lw_m10 223 rfl
theorem q2426 : (Jvm.Cond.instanceMethod ({ cls := "CheckoutDeskModel", name := "isBranch", desc := "(II)Z" } : Jvm.MethodName)) ∈ lw_all := lw_g (lw_at lw_m10 224 rfl) rfl
theorem q2427 : (Jvm.Cond.code ({ cls := "CheckoutDeskModel", name := "isBranch", desc := "(II)Z" } : Jvm.MethodName) prog_38_method_15_code (3 : Nat) (Option.some Jvm.ClassFile.FieldType.boolean)) ∈ lw_all := lw_g (lw_at lw_m10 225 rfl) rfl
theorem q2428 : (Jvm.Cond.methodLink "CheckoutDeskModel" (100 : Nat) ({ cls := "CheckoutDeskModel", name := "writes", desc := "(II)Z" } : Jvm.MethodName)) ∈ lw_all := lw_g (lw_at lw_m10 226 rfl) rfl
theorem q2429 : (Jvm.Cond.privateMethod ({ cls := "CheckoutDeskModel", name := "writes", desc := "(II)Z" } : Jvm.MethodName)) ∈ lw_tbl := lw_at lw_m10 227 rfl
theorem q2430 : (Jvm.Cond.instanceMethod ({ cls := "CheckoutDeskModel", name := "writes", desc := "(II)Z" } : Jvm.MethodName)) ∈ lw_all := lw_g (lw_at lw_m10 228 rfl) rfl
theorem q2431 : (Jvm.Cond.code ({ cls := "CheckoutDeskModel", name := "writes", desc := "(II)Z" } : Jvm.MethodName) prog_38_method_19_code (3 : Nat) (Option.some Jvm.ClassFile.FieldType.boolean)) ∈ lw_all := lw_g (lw_at lw_m10 229 rfl) rfl
theorem q2432 : (Jvm.Cond.methodLink "CheckoutDeskModel" (55 : Nat) ({ cls := "CheckoutDeskModel", name := "right", desc := "(II)I" } : Jvm.MethodName)) ∈ lw_all := lw_g (lw_at lw_m10 230 rfl) rfl
theorem q2433 : (Jvm.Cond.privateMethod ({ cls := "CheckoutDeskModel", name := "right", desc := "(II)I" } : Jvm.MethodName)) ∈ lw_tbl := lw_at lw_m10 231 rfl
theorem q2434 : (Jvm.Cond.instanceMethod ({ cls := "CheckoutDeskModel", name := "right", desc := "(II)I" } : Jvm.MethodName)) ∈ lw_all := lw_g (lw_at lw_m10 232 rfl) rfl
theorem q2435 : (Jvm.Cond.code ({ cls := "CheckoutDeskModel", name := "right", desc := "(II)I" } : Jvm.MethodName) prog_38_method_18_code (3 : Nat) (Option.some Jvm.ClassFile.FieldType.int)) ∈ lw_all := lw_g (lw_at lw_m10 233 rfl) rfl
theorem q2436 : (Jvm.Cond.methodLink "CheckoutDeskModel" (103 : Nat) ({ cls := "CheckoutDeskModel", name := "left", desc := "(II)I" } : Jvm.MethodName)) ∈ lw_all := lw_g (lw_at lw_m10 234 rfl) rfl
theorem q2437 : (Jvm.Cond.privateMethod ({ cls := "CheckoutDeskModel", name := "left", desc := "(II)I" } : Jvm.MethodName)) ∈ lw_tbl := lw_at lw_m10 235 rfl
theorem q2438 : (Jvm.Cond.instanceMethod ({ cls := "CheckoutDeskModel", name := "left", desc := "(II)I" } : Jvm.MethodName)) ∈ lw_all := lw_g (lw_at lw_m10 236 rfl) rfl
theorem q2439 : (Jvm.Cond.code ({ cls := "CheckoutDeskModel", name := "left", desc := "(II)I" } : Jvm.MethodName) prog_38_method_27_code (4 : Nat) (Option.some Jvm.ClassFile.FieldType.int)) ∈ lw_all := lw_g (lw_at lw_m10 237 rfl) rfl
theorem q2440 : (Jvm.Cond.methodLink "CheckoutDeskModel" (72 : Nat) ({ cls := "java/lang/Math", name := "max", desc := "(II)I" } : Jvm.MethodName)) ∈ lw_all := lw_g (lw_at lw_m10 238 rfl) rfl
theorem q2441 : (Jvm.Cond.methodLink "CheckoutDeskModel" (106 : Nat) ({ cls := "CheckoutDeskModel", name := "newestOf", desc := "(II)I" } : Jvm.MethodName)) ∈ lw_all := lw_g (lw_at lw_m10 239 rfl) rfl
theorem q2442 : (Jvm.Cond.privateMethod ({ cls := "CheckoutDeskModel", name := "newestOf", desc := "(II)I" } : Jvm.MethodName)) ∈ lw_tbl := lw_at lw_m11 0 rfl
theorem q2443 : (Jvm.Cond.instanceMethod ({ cls := "CheckoutDeskModel", name := "newestOf", desc := "(II)I" } : Jvm.MethodName)) ∈ lw_all := lw_g (lw_at lw_m11 1 rfl) rfl
theorem q2444 : (Jvm.Cond.code ({ cls := "CheckoutDeskModel", name := "newestOf", desc := "(II)I" } : Jvm.MethodName) prog_38_method_25_code (5 : Nat) (Option.some Jvm.ClassFile.FieldType.int)) ∈ lw_all := lw_g (lw_at lw_m11 2 rfl) rfl
theorem q2445 : (Jvm.Cond.methodLink "CheckoutDeskModel" (62 : Nat) ({ cls := "CheckoutDeskModel", name := "isOn", desc := "(III)Z" } : Jvm.MethodName)) ∈ lw_all := lw_g (lw_at lw_m11 3 rfl) rfl
theorem q2446 : (Jvm.Cond.privateMethod ({ cls := "CheckoutDeskModel", name := "isOn", desc := "(III)Z" } : Jvm.MethodName)) ∈ lw_tbl := lw_at lw_m11 4 rfl
theorem q2447 : (Jvm.Cond.instanceMethod ({ cls := "CheckoutDeskModel", name := "isOn", desc := "(III)Z" } : Jvm.MethodName)) ∈ lw_all := lw_g (lw_at lw_m11 5 rfl) rfl
theorem q2448 : (Jvm.Cond.code ({ cls := "CheckoutDeskModel", name := "isOn", desc := "(III)Z" } : Jvm.MethodName) prog_38_method_23_code (4 : Nat) (Option.some Jvm.ClassFile.FieldType.boolean)) ∈ lw_all := lw_g (lw_at lw_m11 6 rfl) rfl
theorem q2449 : (Jvm.Cond.methodLink "CheckoutDeskModel" (65 : Nat) ({ cls := "CheckoutDeskModel", name := "isBehind", desc := "(II)Z" } : Jvm.MethodName)) ∈ lw_all := lw_g (lw_at lw_m11 7 rfl) rfl
theorem q2450 : (Jvm.Cond.privateMethod ({ cls := "CheckoutDeskModel", name := "isBehind", desc := "(II)Z" } : Jvm.MethodName)) ∈ lw_tbl := lw_at lw_m11 8 rfl
theorem q2451 : (Jvm.Cond.instanceMethod ({ cls := "CheckoutDeskModel", name := "isBehind", desc := "(II)Z" } : Jvm.MethodName)) ∈ lw_all := lw_g (lw_at lw_m11 9 rfl) rfl
theorem q2452 : (Jvm.Cond.code ({ cls := "CheckoutDeskModel", name := "isBehind", desc := "(II)Z" } : Jvm.MethodName) prog_38_method_24_code (5 : Nat) (Option.some Jvm.ClassFile.FieldType.boolean)) ∈ lw_all := lw_g (lw_at lw_m11 10 rfl) rfl
theorem q2454 : (Jvm.Cond.instanceMethod ({ cls := "CheckoutDeskModel", name := "edit", desc := "(IIIII)I" } : Jvm.MethodName)) ∈ lw_all := lw_g (lw_at lw_m11 12 rfl) rfl
theorem q2455 : (Jvm.Cond.selects "CheckoutDeskModel" ({ cls := "CheckoutDeskModel", name := "edit", desc := "(IIIII)I" } : Jvm.MethodName) ({ cls := "CheckoutDeskModel", name := "edit", desc := "(IIIII)I" } : Jvm.MethodName)) ∈ lw_all := lw_g (lw_at lw_m11 13 rfl) rfl
theorem q2456 : (Jvm.Cond.code ({ cls := "CheckoutDeskModel", name := "edit", desc := "(IIIII)I" } : Jvm.MethodName) prog_38_method_36_code (10 : Nat) (Option.some Jvm.ClassFile.FieldType.int)) ∈ lw_all := lw_g (lw_at lw_m11 14 rfl) rfl
theorem q2457 : (Jvm.Cond.methodLink "CheckoutDeskModel" (112 : Nat) ({ cls := "CheckoutDeskModel", name := "holds", desc := "(III)Z" } : Jvm.MethodName)) ∈ lw_all := lw_g (lw_at lw_m11 15 rfl) rfl
theorem q2458 : (Jvm.Cond.privateMethod ({ cls := "CheckoutDeskModel", name := "holds", desc := "(III)Z" } : Jvm.MethodName)) ∈ lw_tbl := lw_at lw_m11 16 rfl
theorem q2459 : (Jvm.Cond.instanceMethod ({ cls := "CheckoutDeskModel", name := "holds", desc := "(III)Z" } : Jvm.MethodName)) ∈ lw_all := lw_g (lw_at lw_m11 17 rfl) rfl
theorem q2460 : (Jvm.Cond.code ({ cls := "CheckoutDeskModel", name := "holds", desc := "(III)Z" } : Jvm.MethodName) prog_38_method_35_code (4 : Nat) (Option.some Jvm.ClassFile.FieldType.boolean)) ∈ lw_all := lw_g (lw_at lw_m11 18 rfl) rfl
theorem q2461 : (Jvm.Cond.methodLink "CheckoutDeskModel" (109 : Nat) ({ cls := "CheckoutDeskModel", name := "holderOf", desc := "(II)I" } : Jvm.MethodName)) ∈ lw_all := lw_g (lw_at lw_m11 19 rfl) rfl
theorem q2462 : (Jvm.Cond.privateMethod ({ cls := "CheckoutDeskModel", name := "holderOf", desc := "(II)I" } : Jvm.MethodName)) ∈ lw_tbl := lw_at lw_m11 20 rfl
theorem q2463 : (Jvm.Cond.instanceMethod ({ cls := "CheckoutDeskModel", name := "holderOf", desc := "(II)I" } : Jvm.MethodName)) ∈ lw_all := lw_g (lw_at lw_m11 21 rfl) rfl
theorem q2464 : (Jvm.Cond.code ({ cls := "CheckoutDeskModel", name := "holderOf", desc := "(II)I" } : Jvm.MethodName) prog_38_method_26_code (3 : Nat) (Option.some Jvm.ClassFile.FieldType.int)) ∈ lw_all := lw_g (lw_at lw_m11 22 rfl) rfl
theorem q2466 : (Jvm.Cond.instanceMethod ({ cls := "CheckoutDeskModel", name := "checkIn", desc := "(IIIZ)I" } : Jvm.MethodName)) ∈ lw_all := lw_g (lw_at lw_m11 24 rfl) rfl
theorem q2467 : (Jvm.Cond.selects "CheckoutDeskModel" ({ cls := "CheckoutDeskModel", name := "checkIn", desc := "(IIIZ)I" } : Jvm.MethodName) ({ cls := "CheckoutDeskModel", name := "checkIn", desc := "(IIIZ)I" } : Jvm.MethodName)) ∈ lw_all := lw_g (lw_at lw_m11 25 rfl) rfl
theorem q2468 : (Jvm.Cond.code ({ cls := "CheckoutDeskModel", name := "checkIn", desc := "(IIIZ)I" } : Jvm.MethodName) prog_38_method_37_code (8 : Nat) (Option.some Jvm.ClassFile.FieldType.int)) ∈ lw_all := lw_g (lw_at lw_m11 26 rfl) rfl
theorem q2469 : (Jvm.Cond.methodLink "CheckoutDeskModel" (115 : Nat) ({ cls := "CheckoutDeskModel", name := "unlock", desc := "(II)V" } : Jvm.MethodName)) ∈ lw_all := lw_g (lw_at lw_m11 27 rfl) rfl
theorem q2470 : (Jvm.Cond.privateMethod ({ cls := "CheckoutDeskModel", name := "unlock", desc := "(II)V" } : Jvm.MethodName)) ∈ lw_tbl := lw_at lw_m11 28 rfl
theorem q2471 : (Jvm.Cond.instanceMethod ({ cls := "CheckoutDeskModel", name := "unlock", desc := "(II)V" } : Jvm.MethodName)) ∈ lw_all := lw_g (lw_at lw_m11 29 rfl) rfl
theorem q2472 : (Jvm.Cond.code ({ cls := "CheckoutDeskModel", name := "unlock", desc := "(II)V" } : Jvm.MethodName) prog_38_method_28_code (3 : Nat) (Option.none : Option Jvm.ClassFile.FieldType)) ∈ lw_all := lw_g (lw_at lw_m11 30 rfl) rfl
theorem q2474 : (Jvm.Cond.instanceMethod ({ cls := "CheckoutDeskModel", name := "renew", desc := "(III)I" } : Jvm.MethodName)) ∈ lw_all := lw_g (lw_at lw_m11 32 rfl) rfl
theorem q2475 : (Jvm.Cond.selects "CheckoutDeskModel" ({ cls := "CheckoutDeskModel", name := "renew", desc := "(III)I" } : Jvm.MethodName) ({ cls := "CheckoutDeskModel", name := "renew", desc := "(III)I" } : Jvm.MethodName)) ∈ lw_all := lw_g (lw_at lw_m11 33 rfl) rfl
theorem q2476 : (Jvm.Cond.code ({ cls := "CheckoutDeskModel", name := "renew", desc := "(III)I" } : Jvm.MethodName) prog_38_method_38_code (7 : Nat) (Option.some Jvm.ClassFile.FieldType.int)) ∈ lw_all := lw_g (lw_at lw_m11 34 rfl) rfl
theorem q2478 : (Jvm.Cond.instanceMethod ({ cls := "CheckoutDeskModel", name := "cancel", desc := "(III)I" } : Jvm.MethodName)) ∈ lw_all := lw_g (lw_at lw_m11 36 rfl) rfl
theorem q2479 : (Jvm.Cond.selects "CheckoutDeskModel" ({ cls := "CheckoutDeskModel", name := "cancel", desc := "(III)I" } : Jvm.MethodName) ({ cls := "CheckoutDeskModel", name := "cancel", desc := "(III)I" } : Jvm.MethodName)) ∈ lw_all := lw_g (lw_at lw_m11 37 rfl) rfl
theorem q2480 : (Jvm.Cond.code ({ cls := "CheckoutDeskModel", name := "cancel", desc := "(III)I" } : Jvm.MethodName) prog_38_method_39_code (7 : Nat) (Option.some Jvm.ClassFile.FieldType.int)) ∈ lw_all := lw_g (lw_at lw_m11 38 rfl) rfl
theorem q2482 : (Jvm.Cond.instanceMethod ({ cls := "CheckoutDeskModel", name := "promote", desc := "(III)I" } : Jvm.MethodName)) ∈ lw_all := lw_g (lw_at lw_m11 40 rfl) rfl
theorem q2483 : (Jvm.Cond.selects "CheckoutDeskModel" ({ cls := "CheckoutDeskModel", name := "promote", desc := "(III)I" } : Jvm.MethodName) ({ cls := "CheckoutDeskModel", name := "promote", desc := "(III)I" } : Jvm.MethodName)) ∈ lw_all := lw_g (lw_at lw_m11 41 rfl) rfl
theorem q2484 : (Jvm.Cond.code ({ cls := "CheckoutDeskModel", name := "promote", desc := "(III)I" } : Jvm.MethodName) prog_38_method_40_code (7 : Nat) (Option.some Jvm.ClassFile.FieldType.int)) ∈ lw_all := lw_g (lw_at lw_m11 42 rfl) rfl
theorem q2485 : (Jvm.Cond.methodLink "CheckoutDeskModel" (59 : Nat) ({ cls := "CheckoutDeskModel", name := "isReleased", desc := "(I)Z" } : Jvm.MethodName)) ∈ lw_all := lw_g (lw_at lw_m11 43 rfl) rfl
theorem q2486 : (Jvm.Cond.privateMethod ({ cls := "CheckoutDeskModel", name := "isReleased", desc := "(I)Z" } : Jvm.MethodName)) ∈ lw_tbl := lw_at lw_m11 44 rfl
theorem q2487 : (Jvm.Cond.instanceMethod ({ cls := "CheckoutDeskModel", name := "isReleased", desc := "(I)Z" } : Jvm.MethodName)) ∈ lw_all := lw_g (lw_at lw_m11 45 rfl) rfl
theorem q2488 : (Jvm.Cond.code ({ cls := "CheckoutDeskModel", name := "isReleased", desc := "(I)Z" } : Jvm.MethodName) prog_38_method_21_code (2 : Nat) (Option.some Jvm.ClassFile.FieldType.boolean)) ∈ lw_all := lw_g (lw_at lw_m11 46 rfl) rfl
theorem q2490 : (Jvm.Cond.instanceMethod ({ cls := "CheckoutDeskModel", name := "prune", desc := "(III)I" } : Jvm.MethodName)) ∈ lw_all := lw_g (lw_at lw_m11 48 rfl) rfl
theorem q2491 : (Jvm.Cond.selects "CheckoutDeskModel" ({ cls := "CheckoutDeskModel", name := "prune", desc := "(III)I" } : Jvm.MethodName) ({ cls := "CheckoutDeskModel", name := "prune", desc := "(III)I" } : Jvm.MethodName)) ∈ lw_all := lw_g (lw_at lw_m11 49 rfl) rfl
theorem q2492 : (Jvm.Cond.code ({ cls := "CheckoutDeskModel", name := "prune", desc := "(III)I" } : Jvm.MethodName) prog_38_method_42_code (7 : Nat) (Option.some Jvm.ClassFile.FieldType.int)) ∈ lw_all := lw_g (lw_at lw_m11 50 rfl) rfl
theorem q2493 : (Jvm.Cond.methodLink "CheckoutDeskModel" (119 : Nat) ({ cls := "CheckoutDeskModel", name := "isNeeded", desc := "(I)Z" } : Jvm.MethodName)) ∈ lw_all := lw_g (lw_at lw_m11 51 rfl) rfl
theorem q2494 : (Jvm.Cond.privateMethod ({ cls := "CheckoutDeskModel", name := "isNeeded", desc := "(I)Z" } : Jvm.MethodName)) ∈ lw_tbl := lw_at lw_m11 52 rfl
theorem q2495 : (Jvm.Cond.instanceMethod ({ cls := "CheckoutDeskModel", name := "isNeeded", desc := "(I)Z" } : Jvm.MethodName)) ∈ lw_all := lw_g (lw_at lw_m11 53 rfl) rfl
theorem q2496 : (Jvm.Cond.code ({ cls := "CheckoutDeskModel", name := "isNeeded", desc := "(I)Z" } : Jvm.MethodName) prog_38_method_41_code (6 : Nat) (Option.some Jvm.ClassFile.FieldType.boolean)) ∈ lw_all := lw_g (lw_at lw_m11 54 rfl) rfl
theorem q2498 : (Jvm.Cond.instanceMethod ({ cls := "CheckoutDeskModel", name := "branchOff", desc := "(II)I" } : Jvm.MethodName)) ∈ lw_all := lw_g (lw_at lw_m11 56 rfl) rfl
theorem q2499 : (Jvm.Cond.selects "CheckoutDeskModel" ({ cls := "CheckoutDeskModel", name := "branchOff", desc := "(II)I" } : Jvm.MethodName) ({ cls := "CheckoutDeskModel", name := "branchOff", desc := "(II)I" } : Jvm.MethodName)) ∈ lw_all := lw_g (lw_at lw_m11 57 rfl) rfl
theorem q2500 : (Jvm.Cond.code ({ cls := "CheckoutDeskModel", name := "branchOff", desc := "(II)I" } : Jvm.MethodName) prog_38_method_43_code (8 : Nat) (Option.some Jvm.ClassFile.FieldType.int)) ∈ lw_all := lw_g (lw_at lw_m11 58 rfl) rfl
theorem q2501 : (Jvm.Cond.methodLink "CheckoutDeskModel" (122 : Nat) ({ cls := "CheckoutDeskModel", name := "isVersion", desc := "(I)Z" } : Jvm.MethodName)) ∈ lw_all := lw_g (lw_at lw_m11 59 rfl) rfl
theorem q2502 : (Jvm.Cond.privateMethod ({ cls := "CheckoutDeskModel", name := "isVersion", desc := "(I)Z" } : Jvm.MethodName)) ∈ lw_tbl := lw_at lw_m11 60 rfl
theorem q2503 : (Jvm.Cond.instanceMethod ({ cls := "CheckoutDeskModel", name := "isVersion", desc := "(I)Z" } : Jvm.MethodName)) ∈ lw_all := lw_g (lw_at lw_m11 61 rfl) rfl
theorem q2504 : (Jvm.Cond.code ({ cls := "CheckoutDeskModel", name := "isVersion", desc := "(I)Z" } : Jvm.MethodName) prog_38_method_16_code (2 : Nat) (Option.some Jvm.ClassFile.FieldType.boolean)) ∈ lw_all := lw_g (lw_at lw_m11 62 rfl) rfl
theorem q2506 : (Jvm.Cond.instanceMethod ({ cls := "CheckoutDeskModel", name := "merge", desc := "(III)I" } : Jvm.MethodName)) ∈ lw_all := lw_g (lw_at lw_m11 64 rfl) rfl
theorem q2507 : (Jvm.Cond.selects "CheckoutDeskModel" ({ cls := "CheckoutDeskModel", name := "merge", desc := "(III)I" } : Jvm.MethodName) ({ cls := "CheckoutDeskModel", name := "merge", desc := "(III)I" } : Jvm.MethodName)) ∈ lw_all := lw_g (lw_at lw_m11 65 rfl) rfl
theorem q2508 : (Jvm.Cond.code ({ cls := "CheckoutDeskModel", name := "merge", desc := "(III)I" } : Jvm.MethodName) prog_38_method_44_code (15 : Nat) (Option.some Jvm.ClassFile.FieldType.int)) ∈ lw_all := lw_g (lw_at lw_m11 66 rfl) rfl
theorem q2510 : (Jvm.Cond.instanceMethod ({ cls := "CheckoutDeskModel", name := "linkVersion", desc := "(III)I" } : Jvm.MethodName)) ∈ lw_all := lw_g (lw_at lw_m11 68 rfl) rfl
theorem q2511 : (Jvm.Cond.selects "CheckoutDeskModel" ({ cls := "CheckoutDeskModel", name := "linkVersion", desc := "(III)I" } : Jvm.MethodName) ({ cls := "CheckoutDeskModel", name := "linkVersion", desc := "(III)I" } : Jvm.MethodName)) ∈ lw_all := lw_g (lw_at lw_m11 69 rfl) rfl
theorem q2512 : (Jvm.Cond.code ({ cls := "CheckoutDeskModel", name := "linkVersion", desc := "(III)I" } : Jvm.MethodName) prog_38_method_46_code (5 : Nat) (Option.some Jvm.ClassFile.FieldType.int)) ∈ lw_all := lw_g (lw_at lw_m11 70 rfl) rfl
theorem q2513 : (Jvm.Cond.methodLink "CheckoutDeskModel" (125 : Nat) ({ cls := "CheckoutDeskModel", name := "sees", desc := "(II)Z" } : Jvm.MethodName)) ∈ lw_all := lw_g (lw_at lw_m11 71 rfl) rfl
theorem q2514 : (Jvm.Cond.privateMethod ({ cls := "CheckoutDeskModel", name := "sees", desc := "(II)Z" } : Jvm.MethodName)) ∈ lw_tbl := lw_at lw_m11 72 rfl
theorem q2515 : (Jvm.Cond.instanceMethod ({ cls := "CheckoutDeskModel", name := "sees", desc := "(II)Z" } : Jvm.MethodName)) ∈ lw_all := lw_g (lw_at lw_m11 73 rfl) rfl
theorem q2516 : (Jvm.Cond.code ({ cls := "CheckoutDeskModel", name := "sees", desc := "(II)Z" } : Jvm.MethodName) prog_38_method_22_code (4 : Nat) (Option.some Jvm.ClassFile.FieldType.boolean)) ∈ lw_all := lw_g (lw_at lw_m11 74 rfl) rfl
theorem q2517 : (Jvm.Cond.methodLink "CheckoutDeskModel" (128 : Nat) ({ cls := "CheckoutDeskModel", name := "link", desc := "(III)I" } : Jvm.MethodName)) ∈ lw_all := lw_g (lw_at lw_m11 75 rfl) rfl
theorem q2518 : (Jvm.Cond.privateMethod ({ cls := "CheckoutDeskModel", name := "link", desc := "(III)I" } : Jvm.MethodName)) ∈ lw_tbl := lw_at lw_m11 76 rfl
theorem q2519 : (Jvm.Cond.instanceMethod ({ cls := "CheckoutDeskModel", name := "link", desc := "(III)I" } : Jvm.MethodName)) ∈ lw_all := lw_g (lw_at lw_m11 77 rfl) rfl
theorem q2520 : (Jvm.Cond.code ({ cls := "CheckoutDeskModel", name := "link", desc := "(III)I" } : Jvm.MethodName) prog_38_method_45_code (5 : Nat) (Option.some Jvm.ClassFile.FieldType.int)) ∈ lw_all := lw_g (lw_at lw_m11 78 rfl) rfl
theorem q2522 : (Jvm.Cond.instanceMethod ({ cls := "CheckoutDeskModel", name := "linkDocument", desc := "(IIII)I" } : Jvm.MethodName)) ∈ lw_all := lw_g (lw_at lw_m11 80 rfl) rfl
theorem q2523 : (Jvm.Cond.selects "CheckoutDeskModel" ({ cls := "CheckoutDeskModel", name := "linkDocument", desc := "(IIII)I" } : Jvm.MethodName) ({ cls := "CheckoutDeskModel", name := "linkDocument", desc := "(IIII)I" } : Jvm.MethodName)) ∈ lw_all := lw_g (lw_at lw_m11 81 rfl) rfl
theorem q2524 : (Jvm.Cond.code ({ cls := "CheckoutDeskModel", name := "linkDocument", desc := "(IIII)I" } : Jvm.MethodName) prog_38_method_47_code (6 : Nat) (Option.some Jvm.ClassFile.FieldType.int)) ∈ lw_all := lw_g (lw_at lw_m11 82 rfl) rfl
theorem q2526 : (Jvm.Cond.instanceMethod ({ cls := "CheckoutDeskModel", name := "unlink", desc := "(II)I" } : Jvm.MethodName)) ∈ lw_all := lw_g (lw_at lw_m11 84 rfl) rfl
theorem q2527 : (Jvm.Cond.selects "CheckoutDeskModel" ({ cls := "CheckoutDeskModel", name := "unlink", desc := "(II)I" } : Jvm.MethodName) ({ cls := "CheckoutDeskModel", name := "unlink", desc := "(II)I" } : Jvm.MethodName)) ∈ lw_all := lw_g (lw_at lw_m11 85 rfl) rfl
theorem q2528 : (Jvm.Cond.code ({ cls := "CheckoutDeskModel", name := "unlink", desc := "(II)I" } : Jvm.MethodName) prog_38_method_48_code (6 : Nat) (Option.some Jvm.ClassFile.FieldType.int)) ∈ lw_all := lw_g (lw_at lw_m11 86 rfl) rfl
theorem q2529 : (Jvm.Cond.methodLink "CheckoutDeskModel" (132 : Nat) ({ cls := "CheckoutDeskModel", name := "isLink", desc := "(I)Z" } : Jvm.MethodName)) ∈ lw_all := lw_g (lw_at lw_m11 87 rfl) rfl
theorem q2530 : (Jvm.Cond.privateMethod ({ cls := "CheckoutDeskModel", name := "isLink", desc := "(I)Z" } : Jvm.MethodName)) ∈ lw_tbl := lw_at lw_m11 88 rfl
theorem q2531 : (Jvm.Cond.instanceMethod ({ cls := "CheckoutDeskModel", name := "isLink", desc := "(I)Z" } : Jvm.MethodName)) ∈ lw_all := lw_g (lw_at lw_m11 89 rfl) rfl
theorem q2532 : (Jvm.Cond.code ({ cls := "CheckoutDeskModel", name := "isLink", desc := "(I)Z" } : Jvm.MethodName) prog_38_method_17_code (2 : Nat) (Option.some Jvm.ClassFile.FieldType.boolean)) ∈ lw_all := lw_g (lw_at lw_m11 90 rfl) rfl
theorem q2534 : (Jvm.Cond.instanceMethod ({ cls := "CheckoutDeskModel", name := "clock", desc := "()I" } : Jvm.MethodName)) ∈ lw_all := lw_g (lw_at lw_m11 92 rfl) rfl
theorem q2535 : (Jvm.Cond.selects "CheckoutDeskModel" ({ cls := "CheckoutDeskModel", name := "clock", desc := "()I" } : Jvm.MethodName) ({ cls := "CheckoutDeskModel", name := "clock", desc := "()I" } : Jvm.MethodName)) ∈ lw_all := lw_g (lw_at lw_m11 93 rfl) rfl
theorem q2536 : (Jvm.Cond.code ({ cls := "CheckoutDeskModel", name := "clock", desc := "()I" } : Jvm.MethodName) prog_38_method_49_code (1 : Nat) (Option.some Jvm.ClassFile.FieldType.int)) ∈ lw_all := lw_g (lw_at lw_m11 94 rfl) rfl
theorem q2538 : (Jvm.Cond.instanceMethod ({ cls := "CheckoutDeskModel", name := "versions", desc := "()I" } : Jvm.MethodName)) ∈ lw_all := lw_g (lw_at lw_m11 96 rfl) rfl
theorem q2539 : (Jvm.Cond.selects "CheckoutDeskModel" ({ cls := "CheckoutDeskModel", name := "versions", desc := "()I" } : Jvm.MethodName) ({ cls := "CheckoutDeskModel", name := "versions", desc := "()I" } : Jvm.MethodName)) ∈ lw_all := lw_g (lw_at lw_m11 97 rfl) rfl
theorem q2540 : (Jvm.Cond.code ({ cls := "CheckoutDeskModel", name := "versions", desc := "()I" } : Jvm.MethodName) prog_38_method_50_code (1 : Nat) (Option.some Jvm.ClassFile.FieldType.int)) ∈ lw_all := lw_g (lw_at lw_m11 98 rfl) rfl
theorem q2542 : (Jvm.Cond.instanceMethod ({ cls := "CheckoutDeskModel", name := "branches", desc := "(I)I" } : Jvm.MethodName)) ∈ lw_all := lw_g (lw_at lw_m11 100 rfl) rfl
theorem q2543 : (Jvm.Cond.selects "CheckoutDeskModel" ({ cls := "CheckoutDeskModel", name := "branches", desc := "(I)I" } : Jvm.MethodName) ({ cls := "CheckoutDeskModel", name := "branches", desc := "(I)I" } : Jvm.MethodName)) ∈ lw_all := lw_g (lw_at lw_m11 101 rfl) rfl
theorem q2544 : (Jvm.Cond.code ({ cls := "CheckoutDeskModel", name := "branches", desc := "(I)I" } : Jvm.MethodName) prog_38_method_51_code (2 : Nat) (Option.some Jvm.ClassFile.FieldType.int)) ∈ lw_all := lw_g (lw_at lw_m11 102 rfl) rfl
theorem q2546 : (Jvm.Cond.instanceMethod ({ cls := "CheckoutDeskModel", name := "rightOf", desc := "(II)I" } : Jvm.MethodName)) ∈ lw_all := lw_g (lw_at lw_m11 104 rfl) rfl
theorem q2547 : (Jvm.Cond.selects "CheckoutDeskModel" ({ cls := "CheckoutDeskModel", name := "rightOf", desc := "(II)I" } : Jvm.MethodName) ({ cls := "CheckoutDeskModel", name := "rightOf", desc := "(II)I" } : Jvm.MethodName)) ∈ lw_all := lw_g (lw_at lw_m11 105 rfl) rfl
theorem q2548 : (Jvm.Cond.code ({ cls := "CheckoutDeskModel", name := "rightOf", desc := "(II)I" } : Jvm.MethodName) prog_38_method_52_code (3 : Nat) (Option.some Jvm.ClassFile.FieldType.int)) ∈ lw_all := lw_g (lw_at lw_m11 106 rfl) rfl
theorem q2550 : (Jvm.Cond.instanceMethod ({ cls := "CheckoutDeskModel", name := "numberOf", desc := "(I)I" } : Jvm.MethodName)) ∈ lw_all := lw_g (lw_at lw_m11 108 rfl) rfl
theorem q2551 : (Jvm.Cond.selects "CheckoutDeskModel" ({ cls := "CheckoutDeskModel", name := "numberOf", desc := "(I)I" } : Jvm.MethodName) ({ cls := "CheckoutDeskModel", name := "numberOf", desc := "(I)I" } : Jvm.MethodName)) ∈ lw_all := lw_g (lw_at lw_m11 109 rfl) rfl
theorem q2552 : (Jvm.Cond.code ({ cls := "CheckoutDeskModel", name := "numberOf", desc := "(I)I" } : Jvm.MethodName) prog_38_method_53_code (3 : Nat) (Option.some Jvm.ClassFile.FieldType.int)) ∈ lw_all := lw_g (lw_at lw_m11 110 rfl) rfl
theorem q2553 : (Jvm.Cond.constant "CheckoutDeskModel" (135 : Nat) (1000000 : Int32)) ∈ lw_all := lw_g (lw_at lw_m11 111 rfl) rfl
theorem q2554 : (Jvm.Cond.constant "CheckoutDeskModel" (136 : Nat) (100000 : Int32)) ∈ lw_all := lw_g (lw_at lw_m11 112 rfl) rfl
theorem q2556 : (Jvm.Cond.instanceMethod ({ cls := "CheckoutDeskModel", name := "valueOf", desc := "(II)I" } : Jvm.MethodName)) ∈ lw_all := lw_g (lw_at lw_m11 114 rfl) rfl
theorem q2557 : (Jvm.Cond.selects "CheckoutDeskModel" ({ cls := "CheckoutDeskModel", name := "valueOf", desc := "(II)I" } : Jvm.MethodName) ({ cls := "CheckoutDeskModel", name := "valueOf", desc := "(II)I" } : Jvm.MethodName)) ∈ lw_all := lw_g (lw_at lw_m11 115 rfl) rfl
theorem q2558 : (Jvm.Cond.code ({ cls := "CheckoutDeskModel", name := "valueOf", desc := "(II)I" } : Jvm.MethodName) prog_38_method_54_code (3 : Nat) (Option.some Jvm.ClassFile.FieldType.int)) ∈ lw_all := lw_g (lw_at lw_m11 116 rfl) rfl
theorem q2560 : (Jvm.Cond.instanceMethod ({ cls := "CheckoutDeskModel", name := "newest", desc := "(II)I" } : Jvm.MethodName)) ∈ lw_all := lw_g (lw_at lw_m11 118 rfl) rfl
theorem q2561 : (Jvm.Cond.selects "CheckoutDeskModel" ({ cls := "CheckoutDeskModel", name := "newest", desc := "(II)I" } : Jvm.MethodName) ({ cls := "CheckoutDeskModel", name := "newest", desc := "(II)I" } : Jvm.MethodName)) ∈ lw_all := lw_g (lw_at lw_m11 119 rfl) rfl
theorem q2562 : (Jvm.Cond.code ({ cls := "CheckoutDeskModel", name := "newest", desc := "(II)I" } : Jvm.MethodName) prog_38_method_55_code (3 : Nat) (Option.some Jvm.ClassFile.FieldType.int)) ∈ lw_all := lw_g (lw_at lw_m11 120 rfl) rfl
theorem q2564 : (Jvm.Cond.instanceMethod ({ cls := "CheckoutDeskModel", name := "originOf", desc := "(II)I" } : Jvm.MethodName)) ∈ lw_all := lw_g (lw_at lw_m11 122 rfl) rfl
theorem q2565 : (Jvm.Cond.selects "CheckoutDeskModel" ({ cls := "CheckoutDeskModel", name := "originOf", desc := "(II)I" } : Jvm.MethodName) ({ cls := "CheckoutDeskModel", name := "originOf", desc := "(II)I" } : Jvm.MethodName)) ∈ lw_all := lw_g (lw_at lw_m11 123 rfl) rfl
theorem q2566 : (Jvm.Cond.code ({ cls := "CheckoutDeskModel", name := "originOf", desc := "(II)I" } : Jvm.MethodName) prog_38_method_56_code (3 : Nat) (Option.some Jvm.ClassFile.FieldType.int)) ∈ lw_all := lw_g (lw_at lw_m11 124 rfl) rfl
theorem q2568 : (Jvm.Cond.instanceMethod ({ cls := "CheckoutDeskModel", name := "holder", desc := "(II)I" } : Jvm.MethodName)) ∈ lw_all := lw_g (lw_at lw_m11 126 rfl) rfl
theorem q2569 : (Jvm.Cond.selects "CheckoutDeskModel" ({ cls := "CheckoutDeskModel", name := "holder", desc := "(II)I" } : Jvm.MethodName) ({ cls := "CheckoutDeskModel", name := "holder", desc := "(II)I" } : Jvm.MethodName)) ∈ lw_all := lw_g (lw_at lw_m11 127 rfl) rfl
theorem q2570 : (Jvm.Cond.code ({ cls := "CheckoutDeskModel", name := "holder", desc := "(II)I" } : Jvm.MethodName) prog_38_method_57_code (3 : Nat) (Option.some Jvm.ClassFile.FieldType.int)) ∈ lw_all := lw_g (lw_at lw_m11 128 rfl) rfl
theorem q2572 : (Jvm.Cond.instanceMethod ({ cls := "CheckoutDeskModel", name := "hoursLeft", desc := "(II)I" } : Jvm.MethodName)) ∈ lw_all := lw_g (lw_at lw_m11 130 rfl) rfl
theorem q2573 : (Jvm.Cond.selects "CheckoutDeskModel" ({ cls := "CheckoutDeskModel", name := "hoursLeft", desc := "(II)I" } : Jvm.MethodName) ({ cls := "CheckoutDeskModel", name := "hoursLeft", desc := "(II)I" } : Jvm.MethodName)) ∈ lw_all := lw_g (lw_at lw_m11 131 rfl) rfl
theorem q2574 : (Jvm.Cond.code ({ cls := "CheckoutDeskModel", name := "hoursLeft", desc := "(II)I" } : Jvm.MethodName) prog_38_method_58_code (3 : Nat) (Option.some Jvm.ClassFile.FieldType.int)) ∈ lw_all := lw_g (lw_at lw_m11 132 rfl) rfl
theorem q2576 : (Jvm.Cond.instanceMethod ({ cls := "CheckoutDeskModel", name := "maySee", desc := "(II)Z" } : Jvm.MethodName)) ∈ lw_all := lw_g (lw_at lw_m11 134 rfl) rfl
theorem q2577 : (Jvm.Cond.selects "CheckoutDeskModel" ({ cls := "CheckoutDeskModel", name := "maySee", desc := "(II)Z" } : Jvm.MethodName) ({ cls := "CheckoutDeskModel", name := "maySee", desc := "(II)Z" } : Jvm.MethodName)) ∈ lw_all := lw_g (lw_at lw_m11 135 rfl) rfl
theorem q2578 : (Jvm.Cond.code ({ cls := "CheckoutDeskModel", name := "maySee", desc := "(II)Z" } : Jvm.MethodName) prog_38_method_59_code (3 : Nat) (Option.some Jvm.ClassFile.FieldType.boolean)) ∈ lw_all := lw_g (lw_at lw_m11 136 rfl) rfl
theorem q2580 : (Jvm.Cond.instanceMethod ({ cls := "CheckoutDeskModel", name := "open", desc := "(II)I" } : Jvm.MethodName)) ∈ lw_all := lw_g (lw_at lw_m11 138 rfl) rfl
theorem q2581 : (Jvm.Cond.selects "CheckoutDeskModel" ({ cls := "CheckoutDeskModel", name := "open", desc := "(II)I" } : Jvm.MethodName) ({ cls := "CheckoutDeskModel", name := "open", desc := "(II)I" } : Jvm.MethodName)) ∈ lw_all := lw_g (lw_at lw_m11 139 rfl) rfl
theorem q2582 : (Jvm.Cond.code ({ cls := "CheckoutDeskModel", name := "open", desc := "(II)I" } : Jvm.MethodName) prog_38_method_61_code (5 : Nat) (Option.some Jvm.ClassFile.FieldType.int)) ∈ lw_all := lw_g (lw_at lw_m11 140 rfl) rfl
theorem q2583 : (Jvm.Cond.methodLink "CheckoutDeskModel" (137 : Nat) ({ cls := "CheckoutDeskModel", name := "opens", desc := "(II)I" } : Jvm.MethodName)) ∈ lw_all := lw_g (lw_at lw_m11 141 rfl) rfl
theorem q2584 : (Jvm.Cond.privateMethod ({ cls := "CheckoutDeskModel", name := "opens", desc := "(II)I" } : Jvm.MethodName)) ∈ lw_tbl := lw_at lw_m11 142 rfl
theorem q2585 : (Jvm.Cond.instanceMethod ({ cls := "CheckoutDeskModel", name := "opens", desc := "(II)I" } : Jvm.MethodName)) ∈ lw_all := lw_g (lw_at lw_m11 143 rfl) rfl
theorem q2586 : (Jvm.Cond.code ({ cls := "CheckoutDeskModel", name := "opens", desc := "(II)I" } : Jvm.MethodName) prog_38_method_60_code (8 : Nat) (Option.some Jvm.ClassFile.FieldType.int)) ∈ lw_all := lw_g (lw_at lw_m11 144 rfl) rfl
theorem q2588 : (Jvm.Cond.instanceMethod ({ cls := "CheckoutDeskModel", name := "linksTo", desc := "(I)I" } : Jvm.MethodName)) ∈ lw_all := lw_g (lw_at lw_m11 146 rfl) rfl
theorem q2589 : (Jvm.Cond.selects "CheckoutDeskModel" ({ cls := "CheckoutDeskModel", name := "linksTo", desc := "(I)I" } : Jvm.MethodName) ({ cls := "CheckoutDeskModel", name := "linksTo", desc := "(I)I" } : Jvm.MethodName)) ∈ lw_all := lw_g (lw_at lw_m11 147 rfl) rfl
theorem q2590 : (Jvm.Cond.code ({ cls := "CheckoutDeskModel", name := "linksTo", desc := "(I)I" } : Jvm.MethodName) prog_38_method_62_code (5 : Nat) (Option.some Jvm.ClassFile.FieldType.int)) ∈ lw_all := lw_g (lw_at lw_m11 148 rfl) rfl
theorem q2592 : (Jvm.Cond.instanceMethod ({ cls := "CheckoutDeskModel", name := "releasedShare", desc := "()F" } : Jvm.MethodName)) ∈ lw_all := lw_g (lw_at lw_m11 150 rfl) rfl
theorem q2593 : (Jvm.Cond.selects "CheckoutDeskModel" ({ cls := "CheckoutDeskModel", name := "releasedShare", desc := "()F" } : Jvm.MethodName) ({ cls := "CheckoutDeskModel", name := "releasedShare", desc := "()F" } : Jvm.MethodName)) ∈ lw_all := lw_g (lw_at lw_m11 151 rfl) rfl
theorem q2594 : (Jvm.Cond.code ({ cls := "CheckoutDeskModel", name := "releasedShare", desc := "()F" } : Jvm.MethodName) prog_38_method_63_code (4 : Nat) (Option.some Jvm.ClassFile.FieldType.float)) ∈ lw_all := lw_g (lw_at lw_m11 152 rfl) rfl
theorem q2596 : (Jvm.Cond.instanceMethod ({ cls := "CheckoutDeskModel", name := "lockedPer", desc := "()D" } : Jvm.MethodName)) ∈ lw_all := lw_g (lw_at lw_m11 154 rfl) rfl
theorem q2597 : (Jvm.Cond.selects "CheckoutDeskModel" ({ cls := "CheckoutDeskModel", name := "lockedPer", desc := "()D" } : Jvm.MethodName) ({ cls := "CheckoutDeskModel", name := "lockedPer", desc := "()D" } : Jvm.MethodName)) ∈ lw_all := lw_g (lw_at lw_m11 155 rfl) rfl
theorem q2598 : (Jvm.Cond.code ({ cls := "CheckoutDeskModel", name := "lockedPer", desc := "()D" } : Jvm.MethodName) prog_38_method_64_code (4 : Nat) (Option.some Jvm.ClassFile.FieldType.double)) ∈ lw_all := lw_g (lw_at lw_m11 156 rfl) rfl
theorem q2600 : (Jvm.Cond.instanceMethod ({ cls := "CheckoutDeskModel", name := "events", desc := "()I" } : Jvm.MethodName)) ∈ lw_all := lw_g (lw_at lw_m11 158 rfl) rfl
theorem q2601 : (Jvm.Cond.selects "CheckoutDeskModel" ({ cls := "CheckoutDeskModel", name := "events", desc := "()I" } : Jvm.MethodName) ({ cls := "CheckoutDeskModel", name := "events", desc := "()I" } : Jvm.MethodName)) ∈ lw_all := lw_g (lw_at lw_m11 159 rfl) rfl
theorem q2602 : (Jvm.Cond.code ({ cls := "CheckoutDeskModel", name := "events", desc := "()I" } : Jvm.MethodName) prog_38_method_71_code (1 : Nat) (Option.some Jvm.ClassFile.FieldType.int)) ∈ lw_all := lw_g (lw_at lw_m11 160 rfl) rfl
theorem q2604 : (Jvm.Cond.instanceMethod ({ cls := "CheckoutDeskModel", name := "hourOf", desc := "(I)I" } : Jvm.MethodName)) ∈ lw_all := lw_g (lw_at lw_m11 162 rfl) rfl
theorem q2605 : (Jvm.Cond.selects "CheckoutDeskModel" ({ cls := "CheckoutDeskModel", name := "hourOf", desc := "(I)I" } : Jvm.MethodName) ({ cls := "CheckoutDeskModel", name := "hourOf", desc := "(I)I" } : Jvm.MethodName)) ∈ lw_all := lw_g (lw_at lw_m11 163 rfl) rfl
theorem q2606 : (Jvm.Cond.code ({ cls := "CheckoutDeskModel", name := "hourOf", desc := "(I)I" } : Jvm.MethodName) prog_38_method_72_code (3 : Nat) (Option.some Jvm.ClassFile.FieldType.int)) ∈ lw_all := lw_g (lw_at lw_m11 164 rfl) rfl
theorem q2608 : (Jvm.Cond.instanceMethod ({ cls := "CheckoutDeskModel", name := "newestThen", desc := "(III)I" } : Jvm.MethodName)) ∈ lw_all := lw_g (lw_at lw_m11 166 rfl) rfl
theorem q2609 : (Jvm.Cond.selects "CheckoutDeskModel" ({ cls := "CheckoutDeskModel", name := "newestThen", desc := "(III)I" } : Jvm.MethodName) ({ cls := "CheckoutDeskModel", name := "newestThen", desc := "(III)I" } : Jvm.MethodName)) ∈ lw_all := lw_g (lw_at lw_m11 167 rfl) rfl
theorem q2610 : (Jvm.Cond.code ({ cls := "CheckoutDeskModel", name := "newestThen", desc := "(III)I" } : Jvm.MethodName) prog_38_method_73_code (5 : Nat) (Option.some Jvm.ClassFile.FieldType.int)) ∈ lw_all := lw_g (lw_at lw_m11 168 rfl) rfl
theorem q2611 : (Jvm.Cond.methodLink "CheckoutDeskModel" (202 : Nat) ({ cls := "CheckoutDeskModel", name := "redo", desc := "(I)V" } : Jvm.MethodName)) ∈ lw_all := lw_g (lw_at lw_m11 169 rfl) rfl
theorem q2612 : (Jvm.Cond.privateMethod ({ cls := "CheckoutDeskModel", name := "redo", desc := "(I)V" } : Jvm.MethodName)) ∈ lw_tbl := lw_at lw_m11 170 rfl
theorem q2613 : (Jvm.Cond.instanceMethod ({ cls := "CheckoutDeskModel", name := "redo", desc := "(I)V" } : Jvm.MethodName)) ∈ lw_all := lw_g (lw_at lw_m11 171 rfl) rfl
theorem q2614 : (Jvm.Cond.code ({ cls := "CheckoutDeskModel", name := "redo", desc := "(I)V" } : Jvm.MethodName) prog_38_method_69_code (4 : Nat) (Option.none : Option Jvm.ClassFile.FieldType)) ∈ lw_all := lw_g (lw_at lw_m11 172 rfl) rfl
theorem q2615 : (Jvm.Cond.methodLink "CheckoutDeskModel" (199 : Nat) ({ cls := "CheckoutDeskModel", name := "act", desc := "(I)I" } : Jvm.MethodName)) ∈ lw_all := lw_g (lw_at lw_m11 173 rfl) rfl
theorem q2616 : (Jvm.Cond.privateMethod ({ cls := "CheckoutDeskModel", name := "act", desc := "(I)I" } : Jvm.MethodName)) ∈ lw_tbl := lw_at lw_m11 174 rfl
theorem q2617 : (Jvm.Cond.instanceMethod ({ cls := "CheckoutDeskModel", name := "act", desc := "(I)I" } : Jvm.MethodName)) ∈ lw_all := lw_g (lw_at lw_m11 175 rfl) rfl
theorem q2618 : (Jvm.Cond.code ({ cls := "CheckoutDeskModel", name := "act", desc := "(I)I" } : Jvm.MethodName) prog_38_method_68_code (3 : Nat) (Option.some Jvm.ClassFile.FieldType.int)) ∈ lw_all := lw_g (lw_at lw_m11 176 rfl) rfl
theorem q2619 : (Jvm.Cond.methodLink "CheckoutDeskModel" (187 : Nat) ({ cls := "CheckoutDeskModel", name := "edit", desc := "(IIIII)I" } : Jvm.MethodName)) ∈ lw_all := lw_g (lw_at lw_m11 177 rfl) rfl
theorem q2620 : (Jvm.Cond.methodLink "CheckoutDeskModel" (190 : Nat) ({ cls := "CheckoutDeskModel", name := "documentAct", desc := "(IIIII)I" } : Jvm.MethodName)) ∈ lw_all := lw_g (lw_at lw_m11 178 rfl) rfl
theorem q2621 : (Jvm.Cond.privateMethod ({ cls := "CheckoutDeskModel", name := "documentAct", desc := "(IIIII)I" } : Jvm.MethodName)) ∈ lw_tbl := lw_at lw_m11 179 rfl
theorem q2622 : (Jvm.Cond.instanceMethod ({ cls := "CheckoutDeskModel", name := "documentAct", desc := "(IIIII)I" } : Jvm.MethodName)) ∈ lw_all := lw_g (lw_at lw_m11 180 rfl) rfl
theorem q2623 : (Jvm.Cond.code ({ cls := "CheckoutDeskModel", name := "documentAct", desc := "(IIIII)I" } : Jvm.MethodName) prog_38_method_65_code (6 : Nat) (Option.some Jvm.ClassFile.FieldType.int)) ∈ lw_all := lw_g (lw_at lw_m11 181 rfl) rfl
theorem q2624 : (Jvm.Cond.methodLink "CheckoutDeskModel" (140 : Nat) ({ cls := "CheckoutDeskModel", name := "pass", desc := "(I)I" } : Jvm.MethodName)) ∈ lw_all := lw_g (lw_at lw_m11 182 rfl) rfl
theorem q2625 : (Jvm.Cond.methodLink "CheckoutDeskModel" (143 : Nat) ({ cls := "CheckoutDeskModel", name := "setLapse", desc := "(I)I" } : Jvm.MethodName)) ∈ lw_all := lw_g (lw_at lw_m11 183 rfl) rfl
theorem q2626 : (Jvm.Cond.methodLink "CheckoutDeskModel" (146 : Nat) ({ cls := "CheckoutDeskModel", name := "create", desc := "(II)I" } : Jvm.MethodName)) ∈ lw_all := lw_g (lw_at lw_m11 184 rfl) rfl
theorem q2627 : (Jvm.Cond.methodLink "CheckoutDeskModel" (149 : Nat) ({ cls := "CheckoutDeskModel", name := "grant", desc := "(IIII)I" } : Jvm.MethodName)) ∈ lw_all := lw_g (lw_at lw_m11 185 rfl) rfl
theorem q2628 : (Jvm.Cond.methodLink "CheckoutDeskModel" (153 : Nat) ({ cls := "CheckoutDeskModel", name := "checkOut", desc := "(III)I" } : Jvm.MethodName)) ∈ lw_all := lw_g (lw_at lw_m11 186 rfl) rfl
theorem q2629 : (Jvm.Cond.methodLink "CheckoutDeskModel" (156 : Nat) ({ cls := "CheckoutDeskModel", name := "checkIn", desc := "(IIIZ)I" } : Jvm.MethodName)) ∈ lw_all := lw_g (lw_at lw_m11 187 rfl) rfl
theorem q2630 : (Jvm.Cond.methodLink "CheckoutDeskModel" (193 : Nat) ({ cls := "CheckoutDeskModel", name := "versionAct", desc := "(IIII)I" } : Jvm.MethodName)) ∈ lw_all := lw_g (lw_at lw_m11 188 rfl) rfl
theorem q2631 : (Jvm.Cond.privateMethod ({ cls := "CheckoutDeskModel", name := "versionAct", desc := "(IIII)I" } : Jvm.MethodName)) ∈ lw_tbl := lw_at lw_m11 189 rfl
theorem q2632 : (Jvm.Cond.instanceMethod ({ cls := "CheckoutDeskModel", name := "versionAct", desc := "(IIII)I" } : Jvm.MethodName)) ∈ lw_all := lw_g (lw_at lw_m11 190 rfl) rfl
theorem q2633 : (Jvm.Cond.code ({ cls := "CheckoutDeskModel", name := "versionAct", desc := "(IIII)I" } : Jvm.MethodName) prog_38_method_66_code (5 : Nat) (Option.some Jvm.ClassFile.FieldType.int)) ∈ lw_all := lw_g (lw_at lw_m11 191 rfl) rfl
theorem q2634 : (Jvm.Cond.methodLink "CheckoutDeskModel" (160 : Nat) ({ cls := "CheckoutDeskModel", name := "renew", desc := "(III)I" } : Jvm.MethodName)) ∈ lw_all := lw_g (lw_at lw_m11 192 rfl) rfl
theorem q2635 : (Jvm.Cond.methodLink "CheckoutDeskModel" (163 : Nat) ({ cls := "CheckoutDeskModel", name := "cancel", desc := "(III)I" } : Jvm.MethodName)) ∈ lw_all := lw_g (lw_at lw_m11 193 rfl) rfl
theorem q2636 : (Jvm.Cond.methodLink "CheckoutDeskModel" (166 : Nat) ({ cls := "CheckoutDeskModel", name := "promote", desc := "(III)I" } : Jvm.MethodName)) ∈ lw_all := lw_g (lw_at lw_m11 194 rfl) rfl
theorem q2637 : (Jvm.Cond.methodLink "CheckoutDeskModel" (169 : Nat) ({ cls := "CheckoutDeskModel", name := "prune", desc := "(III)I" } : Jvm.MethodName)) ∈ lw_all := lw_g (lw_at lw_m11 195 rfl) rfl
theorem q2638 : (Jvm.Cond.methodLink "CheckoutDeskModel" (172 : Nat) ({ cls := "CheckoutDeskModel", name := "branchOff", desc := "(II)I" } : Jvm.MethodName)) ∈ lw_all := lw_g (lw_at lw_m11 196 rfl) rfl
theorem q2639 : (Jvm.Cond.methodLink "CheckoutDeskModel" (175 : Nat) ({ cls := "CheckoutDeskModel", name := "merge", desc := "(III)I" } : Jvm.MethodName)) ∈ lw_all := lw_g (lw_at lw_m11 197 rfl) rfl
theorem q2640 : (Jvm.Cond.methodLink "CheckoutDeskModel" (196 : Nat) ({ cls := "CheckoutDeskModel", name := "linkAct", desc := "(IIIII)I" } : Jvm.MethodName)) ∈ lw_all := lw_g (lw_at lw_m11 198 rfl) rfl
theorem q2641 : (Jvm.Cond.privateMethod ({ cls := "CheckoutDeskModel", name := "linkAct", desc := "(IIIII)I" } : Jvm.MethodName)) ∈ lw_tbl := lw_at lw_m11 199 rfl
theorem q2642 : (Jvm.Cond.instanceMethod ({ cls := "CheckoutDeskModel", name := "linkAct", desc := "(IIIII)I" } : Jvm.MethodName)) ∈ lw_all := lw_g (lw_at lw_m11 200 rfl) rfl
theorem q2643 : (Jvm.Cond.code ({ cls := "CheckoutDeskModel", name := "linkAct", desc := "(IIIII)I" } : Jvm.MethodName) prog_38_method_67_code (6 : Nat) (Option.some Jvm.ClassFile.FieldType.int)) ∈ lw_all := lw_g (lw_at lw_m11 201 rfl) rfl
theorem q2644 : (Jvm.Cond.methodLink "CheckoutDeskModel" (178 : Nat) ({ cls := "CheckoutDeskModel", name := "linkVersion", desc := "(III)I" } : Jvm.MethodName)) ∈ lw_all := lw_g (lw_at lw_m11 202 rfl) rfl
theorem q2645 : (Jvm.Cond.methodLink "CheckoutDeskModel" (181 : Nat) ({ cls := "CheckoutDeskModel", name := "linkDocument", desc := "(IIII)I" } : Jvm.MethodName)) ∈ lw_all := lw_g (lw_at lw_m11 203 rfl) rfl
theorem q2646 : (Jvm.Cond.methodLink "CheckoutDeskModel" (184 : Nat) ({ cls := "CheckoutDeskModel", name := "unlink", desc := "(II)I" } : Jvm.MethodName)) ∈ lw_all := lw_g (lw_at lw_m11 204 rfl) rfl
theorem q2647 : (Jvm.Cond.methodLink "CheckoutDeskModel" (206 : Nat) ({ cls := "CheckoutDeskModel", name := "back", desc := "()V" } : Jvm.MethodName)) ∈ lw_all := lw_g (lw_at lw_m11 205 rfl) rfl
theorem q2648 : (Jvm.Cond.privateMethod ({ cls := "CheckoutDeskModel", name := "back", desc := "()V" } : Jvm.MethodName)) ∈ lw_tbl := lw_at lw_m11 206 rfl
theorem q2649 : (Jvm.Cond.instanceMethod ({ cls := "CheckoutDeskModel", name := "back", desc := "()V" } : Jvm.MethodName)) ∈ lw_all := lw_g (lw_at lw_m11 207 rfl) rfl
theorem q2650 : (Jvm.Cond.code ({ cls := "CheckoutDeskModel", name := "back", desc := "()V" } : Jvm.MethodName) prog_38_method_70_code (2 : Nat) (Option.none : Option Jvm.ClassFile.FieldType)) ∈ lw_all := lw_g (lw_at lw_m11 208 rfl) rfl
theorem q2652 : (Jvm.Cond.instanceMethod ({ cls := "CheckoutDeskModel", name := "holderThen", desc := "(III)I" } : Jvm.MethodName)) ∈ lw_all := lw_g (lw_at lw_m11 210 rfl) rfl
theorem q2653 : (Jvm.Cond.selects "CheckoutDeskModel" ({ cls := "CheckoutDeskModel", name := "holderThen", desc := "(III)I" } : Jvm.MethodName) ({ cls := "CheckoutDeskModel", name := "holderThen", desc := "(III)I" } : Jvm.MethodName)) ∈ lw_all := lw_g (lw_at lw_m11 211 rfl) rfl
theorem q2654 : (Jvm.Cond.code ({ cls := "CheckoutDeskModel", name := "holderThen", desc := "(III)I" } : Jvm.MethodName) prog_38_method_74_code (5 : Nat) (Option.some Jvm.ClassFile.FieldType.int)) ∈ lw_all := lw_g (lw_at lw_m11 212 rfl) rfl
theorem q2656 : (Jvm.Cond.instanceMethod ({ cls := "CheckoutDeskModel", name := "deskErrors", desc := "()I" } : Jvm.MethodName)) ∈ lw_all := lw_g (lw_at lw_m11 214 rfl) rfl
theorem q2657 : (Jvm.Cond.selects "CheckoutDeskModel" ({ cls := "CheckoutDeskModel", name := "deskErrors", desc := "()I" } : Jvm.MethodName) ({ cls := "CheckoutDeskModel", name := "deskErrors", desc := "()I" } : Jvm.MethodName)) ∈ lw_all := lw_g (lw_at lw_m11 215 rfl) rfl
theorem q2658 : (Jvm.Cond.code ({ cls := "CheckoutDeskModel", name := "deskErrors", desc := "()I" } : Jvm.MethodName) prog_38_method_76_code (5 : Nat) (Option.some Jvm.ClassFile.FieldType.int)) ∈ lw_all := lw_g (lw_at lw_m11 216 rfl) rfl
theorem q2659 : (Jvm.Cond.methodLink "CheckoutDeskModel" (209 : Nat) ({ cls := "CheckoutDeskModel", name := "isSame", desc := "(II)Z" } : Jvm.MethodName)) ∈ lw_all := lw_g (lw_at lw_m11 217 rfl) rfl
theorem q2660 : (Jvm.Cond.privateMethod ({ cls := "CheckoutDeskModel", name := "isSame", desc := "(II)Z" } : Jvm.MethodName)) ∈ lw_tbl := lw_at lw_m11 218 rfl
theorem q2661 : (Jvm.Cond.instanceMethod ({ cls := "CheckoutDeskModel", name := "isSame", desc := "(II)Z" } : Jvm.MethodName)) ∈ lw_all := lw_g (lw_at lw_m11 219 rfl) rfl
theorem q2662 : (Jvm.Cond.code ({ cls := "CheckoutDeskModel", name := "isSame", desc := "(II)Z" } : Jvm.MethodName) prog_38_method_75_code (4 : Nat) (Option.some Jvm.ClassFile.FieldType.boolean)) ∈ lw_all := lw_g (lw_at lw_m11 220 rfl) rfl
theorem q2692 : (Jvm.Cond.castable "CheckoutDeskModel" "java/lang/Object") ∈ lw_tbl := lw_at lw_m12 10 rfl
theorem in_X4 : ∀ w ∈ wsX40, w ∈ lw_all := lw_in wsX40 [2338, 2340, 2342, 2344, 2346, 2348, 2350] (by decide +kernel) (by decide +kernel)
