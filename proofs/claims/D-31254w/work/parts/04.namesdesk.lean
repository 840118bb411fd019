/-! CheckoutDesk -/
set_option maxRecDepth 100000
def RX1 : String := "CheckoutDesk"
def TX1 : u_T := fun k => match k with
  | 0 => ("CheckoutDesk", "log", "Ljava/util/ArrayList;", true)
  | _ => ("CheckoutDesk", "now", "LCheckoutDesk$Store;", false)
def tyX1 : Nat → FieldType := fun k => match k with
  | 0 => .object "java/util/ArrayList"
  | _ => .object "CheckoutDesk$Store"
abbrev wsX10 : List Cond := u_ws RX1 TX1 2
theorem nmX1 : ∀ a, a < 2 → ∀ b, b < 2 → a ≠ b → (TX1 a).2.1 ≠ (TX1 b).2.1 := by decide +kernel
theorem tyX1_ok : ∀ k, k < 2 → parseFieldDescriptor (TX1 k).2.2.1 = some (tyX1 k) := by decide +kernel
abbrev cX1_init : ByteArray := prog_1_method_8_code
def yX1_init : MethodName := ⟨RX1, "<init>", "()V"⟩
def dkwX1_init_1 : List UInt8 := [181, 0, 61, 177]
abbrev dktX1_init_1 : List UInt8 := dkwX1_init_1 ++ []
def dkwX1_init_0 : List UInt8 := [42, 183, 0, 48, 42, 187, 0, 51, 89, 183, 0, 53, 181, 0, 54, 42, 187, 0, 58, 89, 183, 0, 60]
abbrev dktX1_init_0 : List UInt8 := dkwX1_init_0 ++ dktX1_init_1
theorem dksX1_init_0 : cX1_init.data.toList.drop 0 = dktX1_init_0 := by decide +kernel
theorem dksX1_init_1 : cX1_init.data.toList.drop 23 = dktX1_init_1 := dk_seg dksX1_init_0 23 rfl rfl
theorem dX1_init_0 : decode cX1_init 0 = .ok (.aload_n 0, 1) := dk_42 (dk_at dksX1_init_0 0 rfl rfl)
theorem dX1_init_1 : decode cX1_init 1 = .ok (.invokespecial 48, 3) := dk_183 0 48 (dk_at dksX1_init_0 1 rfl rfl)
theorem dX1_init_4 : decode cX1_init 4 = .ok (.aload_n 0, 1) := dk_42 (dk_at dksX1_init_0 4 rfl rfl)
theorem dX1_init_5 : decode cX1_init 5 = .ok (.new 51, 3) := dk_187 0 51 (dk_at dksX1_init_0 5 rfl rfl)
theorem dX1_init_8 : decode cX1_init 8 = .ok (.dup, 1) := dk_89 (dk_at dksX1_init_0 8 rfl rfl)
theorem dX1_init_9 : decode cX1_init 9 = .ok (.invokespecial 53, 3) := dk_183 0 53 (dk_at dksX1_init_0 9 rfl rfl)
theorem dX1_init_12 : decode cX1_init 12 = .ok (.putfield 54, 3) := dk_181 0 54 (dk_at dksX1_init_0 12 rfl rfl)
theorem dX1_init_15 : decode cX1_init 15 = .ok (.aload_n 0, 1) := dk_42 (dk_at dksX1_init_0 15 rfl rfl)
theorem dX1_init_16 : decode cX1_init 16 = .ok (.new 58, 3) := dk_187 0 58 (dk_at dksX1_init_0 16 rfl rfl)
theorem dX1_init_19 : decode cX1_init 19 = .ok (.dup, 1) := dk_89 (dk_at dksX1_init_0 19 rfl rfl)
theorem dX1_init_20 : decode cX1_init 20 = .ok (.invokespecial 60, 3) := dk_183 0 60 (dk_at dksX1_init_0 20 rfl rfl)
theorem dX1_init_23 : decode cX1_init 23 = .ok (.putfield 61, 3) := dk_181 0 61 (dk_at dksX1_init_1 0 rfl rfl)
theorem dX1_init_26 : decode cX1_init 26 = .ok (.return_, 1) := dk_177 (dk_at dksX1_init_1 3 rfl rfl)
abbrev cX1_reset : ByteArray := prog_1_method_10_code
def yX1_reset : MethodName := ⟨RX1, "reset", "()I"⟩
def dkwX1_reset_1 : List UInt8 := [181, 0, 61, 27, 172]
abbrev dktX1_reset_1 : List UInt8 := dkwX1_reset_1 ++ []
def dkwX1_reset_0 : List UInt8 := [42, 180, 0, 54, 182, 0, 83, 60, 42, 180, 0, 54, 182, 0, 84, 42, 187, 0, 58, 89, 183, 0, 60]
abbrev dktX1_reset_0 : List UInt8 := dkwX1_reset_0 ++ dktX1_reset_1
theorem dksX1_reset_0 : cX1_reset.data.toList.drop 0 = dktX1_reset_0 := by decide +kernel
theorem dksX1_reset_1 : cX1_reset.data.toList.drop 23 = dktX1_reset_1 := dk_seg dksX1_reset_0 23 rfl rfl
theorem dX1_reset_0 : decode cX1_reset 0 = .ok (.aload_n 0, 1) := dk_42 (dk_at dksX1_reset_0 0 rfl rfl)
theorem dX1_reset_1 : decode cX1_reset 1 = .ok (.getfield 54, 3) := dk_180 0 54 (dk_at dksX1_reset_0 1 rfl rfl)
theorem dX1_reset_4 : decode cX1_reset 4 = .ok (.invokevirtual 83, 3) := dk_182 0 83 (dk_at dksX1_reset_0 4 rfl rfl)
theorem dX1_reset_7 : decode cX1_reset 7 = .ok (.istore_n 1, 1) := dk_60 (dk_at dksX1_reset_0 7 rfl rfl)
theorem dX1_reset_8 : decode cX1_reset 8 = .ok (.aload_n 0, 1) := dk_42 (dk_at dksX1_reset_0 8 rfl rfl)
theorem dX1_reset_9 : decode cX1_reset 9 = .ok (.getfield 54, 3) := dk_180 0 54 (dk_at dksX1_reset_0 9 rfl rfl)
theorem dX1_reset_12 : decode cX1_reset 12 = .ok (.invokevirtual 84, 3) := dk_182 0 84 (dk_at dksX1_reset_0 12 rfl rfl)
theorem dX1_reset_15 : decode cX1_reset 15 = .ok (.aload_n 0, 1) := dk_42 (dk_at dksX1_reset_0 15 rfl rfl)
theorem dX1_reset_16 : decode cX1_reset 16 = .ok (.new 58, 3) := dk_187 0 58 (dk_at dksX1_reset_0 16 rfl rfl)
theorem dX1_reset_19 : decode cX1_reset 19 = .ok (.dup, 1) := dk_89 (dk_at dksX1_reset_0 19 rfl rfl)
theorem dX1_reset_20 : decode cX1_reset 20 = .ok (.invokespecial 60, 3) := dk_183 0 60 (dk_at dksX1_reset_0 20 rfl rfl)
theorem dX1_reset_23 : decode cX1_reset 23 = .ok (.putfield 61, 3) := dk_181 0 61 (dk_at dksX1_reset_1 0 rfl rfl)
theorem dX1_reset_26 : decode cX1_reset 26 = .ok (.iload_n 1, 1) := dk_27 (dk_at dksX1_reset_1 3 rfl rfl)
theorem dX1_reset_27 : decode cX1_reset 27 = .ok (.ireturn, 1) := dk_172 (dk_at dksX1_reset_1 4 rfl rfl)
abbrev cX1_clock : ByteArray := prog_1_method_29_code
def yX1_clock : MethodName := ⟨RX1, "clock", "()I"⟩
def dkwX1_clock_0 : List UInt8 := [42, 180, 0, 61, 180, 0, 73, 172]
abbrev dktX1_clock_0 : List UInt8 := dkwX1_clock_0 ++ []
theorem dksX1_clock_0 : cX1_clock.data.toList.drop 0 = dktX1_clock_0 := by decide +kernel
theorem dX1_clock_0 : decode cX1_clock 0 = .ok (.aload_n 0, 1) := dk_42 (dk_at dksX1_clock_0 0 rfl rfl)
theorem dX1_clock_1 : decode cX1_clock 1 = .ok (.getfield 61, 3) := dk_180 0 61 (dk_at dksX1_clock_0 1 rfl rfl)
theorem dX1_clock_4 : decode cX1_clock 4 = .ok (.getfield 73, 3) := dk_180 0 73 (dk_at dksX1_clock_0 4 rfl rfl)
theorem dX1_clock_7 : decode cX1_clock 7 = .ok (.ireturn, 1) := dk_172 (dk_at dksX1_clock_0 7 rfl rfl)
abbrev cX1_versions : ByteArray := prog_1_method_30_code
def yX1_versions : MethodName := ⟨RX1, "versions", "()I"⟩
def dkwX1_versions_0 : List UInt8 := [42, 180, 0, 61, 180, 0, 169, 182, 0, 26, 172]
abbrev dktX1_versions_0 : List UInt8 := dkwX1_versions_0 ++ []
theorem dksX1_versions_0 : cX1_versions.data.toList.drop 0 = dktX1_versions_0 := by decide +kernel
theorem dX1_versions_0 : decode cX1_versions 0 = .ok (.aload_n 0, 1) := dk_42 (dk_at dksX1_versions_0 0 rfl rfl)
theorem dX1_versions_1 : decode cX1_versions 1 = .ok (.getfield 61, 3) := dk_180 0 61 (dk_at dksX1_versions_0 1 rfl rfl)
theorem dX1_versions_4 : decode cX1_versions 4 = .ok (.getfield 169, 3) := dk_180 0 169 (dk_at dksX1_versions_0 4 rfl rfl)
theorem dX1_versions_7 : decode cX1_versions 7 = .ok (.invokevirtual 26, 3) := dk_182 0 26 (dk_at dksX1_versions_0 7 rfl rfl)
theorem dX1_versions_10 : decode cX1_versions 10 = .ok (.ireturn, 1) := dk_172 (dk_at dksX1_versions_0 10 rfl rfl)
abbrev cX1_releasedShare : ByteArray := prog_1_method_43_code
def yX1_releasedShare : MethodName := ⟨RX1, "releasedShare", "()F"⟩
def dkwX1_releasedShare_2 : List UInt8 := [134, 27, 134, 110, 174]
abbrev dktX1_releasedShare_2 : List UInt8 := dkwX1_releasedShare_2 ++ []
def dkwX1_releasedShare_1 : List UInt8 := [180, 0, 169, 187, 1, 17, 89, 42, 183, 1, 19, 182, 1, 8, 61, 27, 154, 0, 7, 11, 167, 0, 8, 28]
abbrev dktX1_releasedShare_1 : List UInt8 := dkwX1_releasedShare_1 ++ dktX1_releasedShare_2
def dkwX1_releasedShare_0 : List UInt8 := [42, 180, 0, 61, 180, 0, 169, 187, 1, 12, 89, 42, 183, 1, 14, 182, 1, 8, 60, 42, 180, 0, 61]
abbrev dktX1_releasedShare_0 : List UInt8 := dkwX1_releasedShare_0 ++ dktX1_releasedShare_1
theorem dksX1_releasedShare_0 : cX1_releasedShare.data.toList.drop 0 = dktX1_releasedShare_0 := by decide +kernel
theorem dksX1_releasedShare_1 : cX1_releasedShare.data.toList.drop 23 = dktX1_releasedShare_1 := dk_seg dksX1_releasedShare_0 23 rfl rfl
theorem dksX1_releasedShare_2 : cX1_releasedShare.data.toList.drop 47 = dktX1_releasedShare_2 := dk_seg dksX1_releasedShare_1 24 rfl rfl
theorem dX1_releasedShare_0 : decode cX1_releasedShare 0 = .ok (.aload_n 0, 1) := dk_42 (dk_at dksX1_releasedShare_0 0 rfl rfl)
theorem dX1_releasedShare_1 : decode cX1_releasedShare 1 = .ok (.getfield 61, 3) := dk_180 0 61 (dk_at dksX1_releasedShare_0 1 rfl rfl)
theorem dX1_releasedShare_4 : decode cX1_releasedShare 4 = .ok (.getfield 169, 3) := dk_180 0 169 (dk_at dksX1_releasedShare_0 4 rfl rfl)
theorem dX1_releasedShare_7 : decode cX1_releasedShare 7 = .ok (.new 268, 3) := dk_187 1 12 (dk_at dksX1_releasedShare_0 7 rfl rfl)
theorem dX1_releasedShare_10 : decode cX1_releasedShare 10 = .ok (.dup, 1) := dk_89 (dk_at dksX1_releasedShare_0 10 rfl rfl)
theorem dX1_releasedShare_11 : decode cX1_releasedShare 11 = .ok (.aload_n 0, 1) := dk_42 (dk_at dksX1_releasedShare_0 11 rfl rfl)
theorem dX1_releasedShare_12 : decode cX1_releasedShare 12 = .ok (.invokespecial 270, 3) := dk_183 1 14 (dk_at dksX1_releasedShare_0 12 rfl rfl)
theorem dX1_releasedShare_15 : decode cX1_releasedShare 15 = .ok (.invokevirtual 264, 3) := dk_182 1 8 (dk_at dksX1_releasedShare_0 15 rfl rfl)
theorem dX1_releasedShare_18 : decode cX1_releasedShare 18 = .ok (.istore_n 1, 1) := dk_60 (dk_at dksX1_releasedShare_0 18 rfl rfl)
theorem dX1_releasedShare_19 : decode cX1_releasedShare 19 = .ok (.aload_n 0, 1) := dk_42 (dk_at dksX1_releasedShare_0 19 rfl rfl)
theorem dX1_releasedShare_20 : decode cX1_releasedShare 20 = .ok (.getfield 61, 3) := dk_180 0 61 (dk_at dksX1_releasedShare_0 20 rfl rfl)
theorem dX1_releasedShare_23 : decode cX1_releasedShare 23 = .ok (.getfield 169, 3) := dk_180 0 169 (dk_at dksX1_releasedShare_1 0 rfl rfl)
theorem dX1_releasedShare_26 : decode cX1_releasedShare 26 = .ok (.new 273, 3) := dk_187 1 17 (dk_at dksX1_releasedShare_1 3 rfl rfl)
theorem dX1_releasedShare_29 : decode cX1_releasedShare 29 = .ok (.dup, 1) := dk_89 (dk_at dksX1_releasedShare_1 6 rfl rfl)
theorem dX1_releasedShare_30 : decode cX1_releasedShare 30 = .ok (.aload_n 0, 1) := dk_42 (dk_at dksX1_releasedShare_1 7 rfl rfl)
theorem dX1_releasedShare_31 : decode cX1_releasedShare 31 = .ok (.invokespecial 275, 3) := dk_183 1 19 (dk_at dksX1_releasedShare_1 8 rfl rfl)
theorem dX1_releasedShare_34 : decode cX1_releasedShare 34 = .ok (.invokevirtual 264, 3) := dk_182 1 8 (dk_at dksX1_releasedShare_1 11 rfl rfl)
theorem dX1_releasedShare_37 : decode cX1_releasedShare 37 = .ok (.istore_n 2, 1) := dk_61 (dk_at dksX1_releasedShare_1 14 rfl rfl)
theorem dX1_releasedShare_38 : decode cX1_releasedShare 38 = .ok (.iload_n 1, 1) := dk_27 (dk_at dksX1_releasedShare_1 15 rfl rfl)
theorem dX1_releasedShare_39 : decode cX1_releasedShare 39 = .ok (.ifCond .ne 7, 3) := dk_154 0 7 (dk_at dksX1_releasedShare_1 16 rfl rfl)
theorem dX1_releasedShare_42 : decode cX1_releasedShare 42 = .ok (.fconst 0, 1) := dk_11 (dk_at dksX1_releasedShare_1 19 rfl rfl)
theorem dX1_releasedShare_43 : decode cX1_releasedShare 43 = .ok (.goto 8, 3) := dk_167 0 8 (dk_at dksX1_releasedShare_1 20 rfl rfl)
theorem dX1_releasedShare_46 : decode cX1_releasedShare 46 = .ok (.iload_n 2, 1) := dk_28 (dk_at dksX1_releasedShare_1 23 rfl rfl)
theorem dX1_releasedShare_47 : decode cX1_releasedShare 47 = .ok (.i2f, 1) := dk_134 (dk_at dksX1_releasedShare_2 0 rfl rfl)
theorem dX1_releasedShare_48 : decode cX1_releasedShare 48 = .ok (.iload_n 1, 1) := dk_27 (dk_at dksX1_releasedShare_2 1 rfl rfl)
theorem dX1_releasedShare_49 : decode cX1_releasedShare 49 = .ok (.i2f, 1) := dk_134 (dk_at dksX1_releasedShare_2 2 rfl rfl)
theorem dX1_releasedShare_50 : decode cX1_releasedShare 50 = .ok (.fdiv, 1) := dk_110 (dk_at dksX1_releasedShare_2 3 rfl rfl)
theorem dX1_releasedShare_51 : decode cX1_releasedShare 51 = .ok (.freturn, 1) := dk_174 (dk_at dksX1_releasedShare_2 4 rfl rfl)
abbrev cX1_inRange : ByteArray := prog_1_method_1_code
def yX1_inRange : MethodName := ⟨RX1, "inRange", "(III)Z"⟩
def dkwX1_inRange_0 : List UInt8 := [26, 27, 161, 0, 12, 26, 28, 163, 0, 7, 4, 167, 0, 4, 3, 172]
abbrev dktX1_inRange_0 : List UInt8 := dkwX1_inRange_0 ++ []
theorem dksX1_inRange_0 : cX1_inRange.data.toList.drop 0 = dktX1_inRange_0 := by decide +kernel
theorem dX1_inRange_0 : decode cX1_inRange 0 = .ok (.iload_n 0, 1) := dk_26 (dk_at dksX1_inRange_0 0 rfl rfl)
theorem dX1_inRange_1 : decode cX1_inRange 1 = .ok (.iload_n 1, 1) := dk_27 (dk_at dksX1_inRange_0 1 rfl rfl)
theorem dX1_inRange_2 : decode cX1_inRange 2 = .ok (.if_icmp .lt 12, 3) := dk_161 0 12 (dk_at dksX1_inRange_0 2 rfl rfl)
theorem dX1_inRange_5 : decode cX1_inRange 5 = .ok (.iload_n 0, 1) := dk_26 (dk_at dksX1_inRange_0 5 rfl rfl)
theorem dX1_inRange_6 : decode cX1_inRange 6 = .ok (.iload_n 2, 1) := dk_28 (dk_at dksX1_inRange_0 6 rfl rfl)
theorem dX1_inRange_7 : decode cX1_inRange 7 = .ok (.if_icmp .gt 7, 3) := dk_163 0 7 (dk_at dksX1_inRange_0 7 rfl rfl)
theorem dX1_inRange_10 : decode cX1_inRange 10 = .ok (.iconst 1, 1) := dk_4 (dk_at dksX1_inRange_0 10 rfl rfl)
theorem dX1_inRange_11 : decode cX1_inRange 11 = .ok (.goto 4, 3) := dk_167 0 4 (dk_at dksX1_inRange_0 11 rfl rfl)
theorem dX1_inRange_14 : decode cX1_inRange 14 = .ok (.iconst 0, 1) := dk_3 (dk_at dksX1_inRange_0 14 rfl rfl)
theorem dX1_inRange_15 : decode cX1_inRange 15 = .ok (.ireturn, 1) := dk_172 (dk_at dksX1_inRange_0 15 rfl rfl)
abbrev cX1_requireIndex : ByteArray := prog_1_method_4_code
def yX1_requireIndex : MethodName := ⟨RX1, "requireIndex", "(Z)V"⟩
def dkwX1_requireIndex_0 : List UInt8 := [26, 154, 0, 11, 187, 0, 10, 89, 183, 0, 12, 191, 177]
abbrev dktX1_requireIndex_0 : List UInt8 := dkwX1_requireIndex_0 ++ []
theorem dksX1_requireIndex_0 : cX1_requireIndex.data.toList.drop 0 = dktX1_requireIndex_0 := by decide +kernel
theorem dX1_requireIndex_0 : decode cX1_requireIndex 0 = .ok (.iload_n 0, 1) := dk_26 (dk_at dksX1_requireIndex_0 0 rfl rfl)
theorem dX1_requireIndex_1 : decode cX1_requireIndex 1 = .ok (.ifCond .ne 11, 3) := dk_154 0 11 (dk_at dksX1_requireIndex_0 1 rfl rfl)
theorem dX1_requireIndex_4 : decode cX1_requireIndex 4 = .ok (.new 10, 3) := dk_187 0 10 (dk_at dksX1_requireIndex_0 4 rfl rfl)
theorem dX1_requireIndex_7 : decode cX1_requireIndex 7 = .ok (.dup, 1) := dk_89 (dk_at dksX1_requireIndex_0 7 rfl rfl)
theorem dX1_requireIndex_8 : decode cX1_requireIndex 8 = .ok (.invokespecial 12, 3) := dk_183 0 12 (dk_at dksX1_requireIndex_0 8 rfl rfl)
theorem dX1_requireIndex_11 : decode cX1_requireIndex 11 = .ok (.athrow, 1) := dk_191 (dk_at dksX1_requireIndex_0 11 rfl rfl)
theorem dX1_requireIndex_12 : decode cX1_requireIndex 12 = .ok (.return_, 1) := dk_177 (dk_at dksX1_requireIndex_0 12 rfl rfl)
abbrev cX1_greatest : ByteArray := prog_1_method_7_code
def yX1_greatest : MethodName := ⟨RX1, "greatest", "(LCheckoutDesk$Row;LCheckoutDesk$Test;)Ljava/lang/Comparable;"⟩
def dkwX1_greatest_2 : List UInt8 := [158, 0, 6, 25, 4, 77, 132, 3, 1, 167, 255, 206, 44, 176]
abbrev dktX1_greatest_2 : List UInt8 := dkwX1_greatest_2 ++ []
def dkwX1_greatest_1 : List UInt8 := [25, 4, 185, 0, 38, 2, 0, 153, 0, 21, 44, 198, 0, 14, 25, 4, 44, 185, 0, 44, 2, 0]
abbrev dktX1_greatest_1 : List UInt8 := dkwX1_greatest_1 ++ dktX1_greatest_2
def dkwX1_greatest_0 : List UInt8 := [1, 77, 3, 62, 29, 42, 182, 0, 26, 162, 0, 48, 42, 29, 182, 0, 32, 192, 0, 36, 58, 4, 43]
abbrev dktX1_greatest_0 : List UInt8 := dkwX1_greatest_0 ++ dktX1_greatest_1
theorem dksX1_greatest_0 : cX1_greatest.data.toList.drop 0 = dktX1_greatest_0 := by decide +kernel
theorem dksX1_greatest_1 : cX1_greatest.data.toList.drop 23 = dktX1_greatest_1 := dk_seg dksX1_greatest_0 23 rfl rfl
theorem dksX1_greatest_2 : cX1_greatest.data.toList.drop 45 = dktX1_greatest_2 := dk_seg dksX1_greatest_1 22 rfl rfl
theorem dX1_greatest_0 : decode cX1_greatest 0 = .ok (.aconst_null, 1) := dk_1 (dk_at dksX1_greatest_0 0 rfl rfl)
theorem dX1_greatest_1 : decode cX1_greatest 1 = .ok (.astore_n 2, 1) := dk_77 (dk_at dksX1_greatest_0 1 rfl rfl)
theorem dX1_greatest_2 : decode cX1_greatest 2 = .ok (.iconst 0, 1) := dk_3 (dk_at dksX1_greatest_0 2 rfl rfl)
theorem dX1_greatest_3 : decode cX1_greatest 3 = .ok (.istore_n 3, 1) := dk_62 (dk_at dksX1_greatest_0 3 rfl rfl)
theorem dX1_greatest_4 : decode cX1_greatest 4 = .ok (.iload_n 3, 1) := dk_29 (dk_at dksX1_greatest_0 4 rfl rfl)
theorem dX1_greatest_5 : decode cX1_greatest 5 = .ok (.aload_n 0, 1) := dk_42 (dk_at dksX1_greatest_0 5 rfl rfl)
theorem dX1_greatest_6 : decode cX1_greatest 6 = .ok (.invokevirtual 26, 3) := dk_182 0 26 (dk_at dksX1_greatest_0 6 rfl rfl)
theorem dX1_greatest_9 : decode cX1_greatest 9 = .ok (.if_icmp .ge 48, 3) := dk_162 0 48 (dk_at dksX1_greatest_0 9 rfl rfl)
theorem dX1_greatest_12 : decode cX1_greatest 12 = .ok (.aload_n 0, 1) := dk_42 (dk_at dksX1_greatest_0 12 rfl rfl)
theorem dX1_greatest_13 : decode cX1_greatest 13 = .ok (.iload_n 3, 1) := dk_29 (dk_at dksX1_greatest_0 13 rfl rfl)
theorem dX1_greatest_14 : decode cX1_greatest 14 = .ok (.invokevirtual 32, 3) := dk_182 0 32 (dk_at dksX1_greatest_0 14 rfl rfl)
theorem dX1_greatest_17 : decode cX1_greatest 17 = .ok (.checkcast 36, 3) := dk_192 0 36 (dk_at dksX1_greatest_0 17 rfl rfl)
theorem dX1_greatest_20 : decode cX1_greatest 20 = .ok (.astore 4, 2) := dk_58 4 (dk_at dksX1_greatest_0 20 rfl rfl)
theorem dX1_greatest_22 : decode cX1_greatest 22 = .ok (.aload_n 1, 1) := dk_43 (dk_at dksX1_greatest_0 22 rfl rfl)
theorem dX1_greatest_23 : decode cX1_greatest 23 = .ok (.aload 4, 2) := dk_25 4 (dk_at dksX1_greatest_1 0 rfl rfl)
theorem dX1_greatest_25 : decode cX1_greatest 25 = .ok (.invokeinterface 38 2, 5) := by decide +kernel
theorem dX1_greatest_30 : decode cX1_greatest 30 = .ok (.ifCond .eq 21, 3) := dk_153 0 21 (dk_at dksX1_greatest_1 7 rfl rfl)
theorem dX1_greatest_33 : decode cX1_greatest 33 = .ok (.aload_n 2, 1) := dk_44 (dk_at dksX1_greatest_1 10 rfl rfl)
theorem dX1_greatest_34 : decode cX1_greatest 34 = .ok (.ifnull 14, 3) := dk_198 0 14 (dk_at dksX1_greatest_1 11 rfl rfl)
theorem dX1_greatest_37 : decode cX1_greatest 37 = .ok (.aload 4, 2) := dk_25 4 (dk_at dksX1_greatest_1 14 rfl rfl)
theorem dX1_greatest_39 : decode cX1_greatest 39 = .ok (.aload_n 2, 1) := dk_44 (dk_at dksX1_greatest_1 16 rfl rfl)
theorem dX1_greatest_40 : decode cX1_greatest 40 = .ok (.invokeinterface 44 2, 5) := by decide +kernel
theorem dX1_greatest_45 : decode cX1_greatest 45 = .ok (.ifCond .le 6, 3) := dk_158 0 6 (dk_at dksX1_greatest_2 0 rfl rfl)
theorem dX1_greatest_48 : decode cX1_greatest 48 = .ok (.aload 4, 2) := dk_25 4 (dk_at dksX1_greatest_2 3 rfl rfl)
theorem dX1_greatest_50 : decode cX1_greatest 50 = .ok (.astore_n 2, 1) := dk_77 (dk_at dksX1_greatest_2 5 rfl rfl)
theorem dX1_greatest_51 : decode cX1_greatest 51 = .ok (.iinc 3 1, 3) := dk_132 3 1 (dk_at dksX1_greatest_2 6 rfl rfl)
theorem dX1_greatest_54 : decode cX1_greatest 54 = .ok (.goto (-50), 3) := dk_167 255 206 (dk_at dksX1_greatest_2 9 rfl rfl)
theorem dX1_greatest_57 : decode cX1_greatest 57 = .ok (.aload_n 2, 1) := dk_44 (dk_at dksX1_greatest_2 12 rfl rfl)
theorem dX1_greatest_58 : decode cX1_greatest 58 = .ok (.areturn, 1) := dk_176 (dk_at dksX1_greatest_2 13 rfl rfl)
abbrev cX1_lockedPer : ByteArray := prog_1_method_44_code
def yX1_lockedPer : MethodName := ⟨RX1, "lockedPer", "()D"⟩
def dkwX1_lockedPer_3 : List UInt8 := [14, 167, 0, 17, 27, 135, 42, 180, 0, 61, 180, 1, 23, 182, 0, 26, 135, 111, 175]
abbrev dktX1_lockedPer_3 : List UInt8 := dkwX1_lockedPer_3 ++ []
def dkwX1_lockedPer_2 : List UInt8 := [182, 1, 8, 96, 60, 132, 3, 1, 167, 255, 215, 42, 180, 0, 61, 180, 1, 23, 182, 0, 26, 154, 0, 7]
abbrev dktX1_lockedPer_2 : List UInt8 := dkwX1_lockedPer_2 ++ dktX1_lockedPer_3
def dkwX1_lockedPer_1 : List UInt8 := [162, 0, 33, 27, 42, 180, 0, 61, 180, 1, 23, 29, 182, 0, 32, 192, 0, 178, 180, 0, 177, 44]
abbrev dktX1_lockedPer_1 : List UInt8 := dkwX1_lockedPer_1 ++ dktX1_lockedPer_2
def dkwX1_lockedPer_0 : List UInt8 := [3, 60, 187, 1, 20, 89, 42, 183, 1, 22, 77, 3, 62, 29, 42, 180, 0, 61, 180, 1, 23, 182, 0, 26]
abbrev dktX1_lockedPer_0 : List UInt8 := dkwX1_lockedPer_0 ++ dktX1_lockedPer_1
theorem dksX1_lockedPer_0 : cX1_lockedPer.data.toList.drop 0 = dktX1_lockedPer_0 := by decide +kernel
theorem dksX1_lockedPer_1 : cX1_lockedPer.data.toList.drop 24 = dktX1_lockedPer_1 := dk_seg dksX1_lockedPer_0 24 rfl rfl
theorem dksX1_lockedPer_2 : cX1_lockedPer.data.toList.drop 46 = dktX1_lockedPer_2 := dk_seg dksX1_lockedPer_1 22 rfl rfl
theorem dksX1_lockedPer_3 : cX1_lockedPer.data.toList.drop 70 = dktX1_lockedPer_3 := dk_seg dksX1_lockedPer_2 24 rfl rfl
theorem dX1_lockedPer_0 : decode cX1_lockedPer 0 = .ok (.iconst 0, 1) := dk_3 (dk_at dksX1_lockedPer_0 0 rfl rfl)
theorem dX1_lockedPer_1 : decode cX1_lockedPer 1 = .ok (.istore_n 1, 1) := dk_60 (dk_at dksX1_lockedPer_0 1 rfl rfl)
theorem dX1_lockedPer_2 : decode cX1_lockedPer 2 = .ok (.new 276, 3) := dk_187 1 20 (dk_at dksX1_lockedPer_0 2 rfl rfl)
theorem dX1_lockedPer_5 : decode cX1_lockedPer 5 = .ok (.dup, 1) := dk_89 (dk_at dksX1_lockedPer_0 5 rfl rfl)
theorem dX1_lockedPer_6 : decode cX1_lockedPer 6 = .ok (.aload_n 0, 1) := dk_42 (dk_at dksX1_lockedPer_0 6 rfl rfl)
theorem dX1_lockedPer_7 : decode cX1_lockedPer 7 = .ok (.invokespecial 278, 3) := dk_183 1 22 (dk_at dksX1_lockedPer_0 7 rfl rfl)
theorem dX1_lockedPer_10 : decode cX1_lockedPer 10 = .ok (.astore_n 2, 1) := dk_77 (dk_at dksX1_lockedPer_0 10 rfl rfl)
theorem dX1_lockedPer_11 : decode cX1_lockedPer 11 = .ok (.iconst 0, 1) := dk_3 (dk_at dksX1_lockedPer_0 11 rfl rfl)
theorem dX1_lockedPer_12 : decode cX1_lockedPer 12 = .ok (.istore_n 3, 1) := dk_62 (dk_at dksX1_lockedPer_0 12 rfl rfl)
theorem dX1_lockedPer_13 : decode cX1_lockedPer 13 = .ok (.iload_n 3, 1) := dk_29 (dk_at dksX1_lockedPer_0 13 rfl rfl)
theorem dX1_lockedPer_14 : decode cX1_lockedPer 14 = .ok (.aload_n 0, 1) := dk_42 (dk_at dksX1_lockedPer_0 14 rfl rfl)
theorem dX1_lockedPer_15 : decode cX1_lockedPer 15 = .ok (.getfield 61, 3) := dk_180 0 61 (dk_at dksX1_lockedPer_0 15 rfl rfl)
theorem dX1_lockedPer_18 : decode cX1_lockedPer 18 = .ok (.getfield 279, 3) := dk_180 1 23 (dk_at dksX1_lockedPer_0 18 rfl rfl)
theorem dX1_lockedPer_21 : decode cX1_lockedPer 21 = .ok (.invokevirtual 26, 3) := dk_182 0 26 (dk_at dksX1_lockedPer_0 21 rfl rfl)
theorem dX1_lockedPer_24 : decode cX1_lockedPer 24 = .ok (.if_icmp .ge 33, 3) := dk_162 0 33 (dk_at dksX1_lockedPer_1 0 rfl rfl)
theorem dX1_lockedPer_27 : decode cX1_lockedPer 27 = .ok (.iload_n 1, 1) := dk_27 (dk_at dksX1_lockedPer_1 3 rfl rfl)
theorem dX1_lockedPer_28 : decode cX1_lockedPer 28 = .ok (.aload_n 0, 1) := dk_42 (dk_at dksX1_lockedPer_1 4 rfl rfl)
theorem dX1_lockedPer_29 : decode cX1_lockedPer 29 = .ok (.getfield 61, 3) := dk_180 0 61 (dk_at dksX1_lockedPer_1 5 rfl rfl)
theorem dX1_lockedPer_32 : decode cX1_lockedPer 32 = .ok (.getfield 279, 3) := dk_180 1 23 (dk_at dksX1_lockedPer_1 8 rfl rfl)
theorem dX1_lockedPer_35 : decode cX1_lockedPer 35 = .ok (.iload_n 3, 1) := dk_29 (dk_at dksX1_lockedPer_1 11 rfl rfl)
theorem dX1_lockedPer_36 : decode cX1_lockedPer 36 = .ok (.invokevirtual 32, 3) := dk_182 0 32 (dk_at dksX1_lockedPer_1 12 rfl rfl)
theorem dX1_lockedPer_39 : decode cX1_lockedPer 39 = .ok (.checkcast 178, 3) := dk_192 0 178 (dk_at dksX1_lockedPer_1 15 rfl rfl)
theorem dX1_lockedPer_42 : decode cX1_lockedPer 42 = .ok (.getfield 177, 3) := dk_180 0 177 (dk_at dksX1_lockedPer_1 18 rfl rfl)
theorem dX1_lockedPer_45 : decode cX1_lockedPer 45 = .ok (.aload_n 2, 1) := dk_44 (dk_at dksX1_lockedPer_1 21 rfl rfl)
theorem dX1_lockedPer_46 : decode cX1_lockedPer 46 = .ok (.invokevirtual 264, 3) := dk_182 1 8 (dk_at dksX1_lockedPer_2 0 rfl rfl)
theorem dX1_lockedPer_49 : decode cX1_lockedPer 49 = .ok (.iadd, 1) := dk_96 (dk_at dksX1_lockedPer_2 3 rfl rfl)
theorem dX1_lockedPer_50 : decode cX1_lockedPer 50 = .ok (.istore_n 1, 1) := dk_60 (dk_at dksX1_lockedPer_2 4 rfl rfl)
theorem dX1_lockedPer_51 : decode cX1_lockedPer 51 = .ok (.iinc 3 1, 3) := dk_132 3 1 (dk_at dksX1_lockedPer_2 5 rfl rfl)
theorem dX1_lockedPer_54 : decode cX1_lockedPer 54 = .ok (.goto (-41), 3) := dk_167 255 215 (dk_at dksX1_lockedPer_2 8 rfl rfl)
theorem dX1_lockedPer_57 : decode cX1_lockedPer 57 = .ok (.aload_n 0, 1) := dk_42 (dk_at dksX1_lockedPer_2 11 rfl rfl)
theorem dX1_lockedPer_58 : decode cX1_lockedPer 58 = .ok (.getfield 61, 3) := dk_180 0 61 (dk_at dksX1_lockedPer_2 12 rfl rfl)
theorem dX1_lockedPer_61 : decode cX1_lockedPer 61 = .ok (.getfield 279, 3) := dk_180 1 23 (dk_at dksX1_lockedPer_2 15 rfl rfl)
theorem dX1_lockedPer_64 : decode cX1_lockedPer 64 = .ok (.invokevirtual 26, 3) := dk_182 0 26 (dk_at dksX1_lockedPer_2 18 rfl rfl)
theorem dX1_lockedPer_67 : decode cX1_lockedPer 67 = .ok (.ifCond .ne 7, 3) := dk_154 0 7 (dk_at dksX1_lockedPer_2 21 rfl rfl)
theorem dX1_lockedPer_70 : decode cX1_lockedPer 70 = .ok (.dconst 0, 1) := dk_14 (dk_at dksX1_lockedPer_3 0 rfl rfl)
theorem dX1_lockedPer_71 : decode cX1_lockedPer 71 = .ok (.goto 17, 3) := dk_167 0 17 (dk_at dksX1_lockedPer_3 1 rfl rfl)
theorem dX1_lockedPer_74 : decode cX1_lockedPer 74 = .ok (.iload_n 1, 1) := dk_27 (dk_at dksX1_lockedPer_3 4 rfl rfl)
theorem dX1_lockedPer_75 : decode cX1_lockedPer 75 = .ok (.i2d, 1) := dk_135 (dk_at dksX1_lockedPer_3 5 rfl rfl)
theorem dX1_lockedPer_76 : decode cX1_lockedPer 76 = .ok (.aload_n 0, 1) := dk_42 (dk_at dksX1_lockedPer_3 6 rfl rfl)
theorem dX1_lockedPer_77 : decode cX1_lockedPer 77 = .ok (.getfield 61, 3) := dk_180 0 61 (dk_at dksX1_lockedPer_3 7 rfl rfl)
theorem dX1_lockedPer_80 : decode cX1_lockedPer 80 = .ok (.getfield 279, 3) := dk_180 1 23 (dk_at dksX1_lockedPer_3 10 rfl rfl)
theorem dX1_lockedPer_83 : decode cX1_lockedPer 83 = .ok (.invokevirtual 26, 3) := dk_182 0 26 (dk_at dksX1_lockedPer_3 13 rfl rfl)
theorem dX1_lockedPer_86 : decode cX1_lockedPer 86 = .ok (.i2d, 1) := dk_135 (dk_at dksX1_lockedPer_3 16 rfl rfl)
theorem dX1_lockedPer_87 : decode cX1_lockedPer 87 = .ok (.ddiv, 1) := dk_111 (dk_at dksX1_lockedPer_3 17 rfl rfl)
theorem dX1_lockedPer_88 : decode cX1_lockedPer 88 = .ok (.dreturn, 1) := dk_175 (dk_at dksX1_lockedPer_3 18 rfl rfl)
abbrev cX1_events : ByteArray := prog_1_method_45_code
def yX1_events : MethodName := ⟨RX1, "events", "()I"⟩
def dkwX1_events_0 : List UInt8 := [42, 180, 0, 54, 182, 0, 83, 172]
abbrev dktX1_events_0 : List UInt8 := dkwX1_events_0 ++ []
theorem dksX1_events_0 : cX1_events.data.toList.drop 0 = dktX1_events_0 := by decide +kernel
theorem dX1_events_0 : decode cX1_events 0 = .ok (.aload_n 0, 1) := dk_42 (dk_at dksX1_events_0 0 rfl rfl)
theorem dX1_events_1 : decode cX1_events 1 = .ok (.getfield 54, 3) := dk_180 0 54 (dk_at dksX1_events_0 1 rfl rfl)
theorem dX1_events_4 : decode cX1_events 4 = .ok (.invokevirtual 83, 3) := dk_182 0 83 (dk_at dksX1_events_0 4 rfl rfl)
theorem dX1_events_7 : decode cX1_events 7 = .ok (.ireturn, 1) := dk_172 (dk_at dksX1_events_0 7 rfl rfl)
abbrev cX1_deskErrors : ByteArray := prog_1_method_54_code
def yX1_deskErrors : MethodName := ⟨RX1, "deskErrors", "()I"⟩
def dkwX1_deskErrors_2 : List UInt8 := [191]
abbrev dktX1_deskErrors_2 : List UInt8 := dkwX1_deskErrors_2 ++ []
def dkwX1_deskErrors_1 : List UInt8 := [182, 1, 45, 28, 172, 77, 43, 198, 0, 16, 43, 182, 1, 45, 167, 0, 9, 78, 44, 45, 182, 1, 50, 44]
abbrev dktX1_deskErrors_1 : List UInt8 := dkwX1_deskErrors_1 ++ dktX1_deskErrors_2
def dkwX1_deskErrors_0 : List UInt8 := [42, 42, 180, 0, 54, 182, 0, 83, 182, 1, 37, 76, 42, 43, 182, 1, 69, 61, 43, 198, 0, 7, 43]
abbrev dktX1_deskErrors_0 : List UInt8 := dkwX1_deskErrors_0 ++ dktX1_deskErrors_1
theorem dksX1_deskErrors_0 : cX1_deskErrors.data.toList.drop 0 = dktX1_deskErrors_0 := by decide +kernel
theorem dksX1_deskErrors_1 : cX1_deskErrors.data.toList.drop 23 = dktX1_deskErrors_1 := dk_seg dksX1_deskErrors_0 23 rfl rfl
theorem dksX1_deskErrors_2 : cX1_deskErrors.data.toList.drop 47 = dktX1_deskErrors_2 := dk_seg dksX1_deskErrors_1 24 rfl rfl
theorem dX1_deskErrors_0 : decode cX1_deskErrors 0 = .ok (.aload_n 0, 1) := dk_42 (dk_at dksX1_deskErrors_0 0 rfl rfl)
theorem dX1_deskErrors_1 : decode cX1_deskErrors 1 = .ok (.aload_n 0, 1) := dk_42 (dk_at dksX1_deskErrors_0 1 rfl rfl)
theorem dX1_deskErrors_2 : decode cX1_deskErrors 2 = .ok (.getfield 54, 3) := dk_180 0 54 (dk_at dksX1_deskErrors_0 2 rfl rfl)
theorem dX1_deskErrors_5 : decode cX1_deskErrors 5 = .ok (.invokevirtual 83, 3) := dk_182 0 83 (dk_at dksX1_deskErrors_0 5 rfl rfl)
theorem dX1_deskErrors_8 : decode cX1_deskErrors 8 = .ok (.invokevirtual 293, 3) := dk_182 1 37 (dk_at dksX1_deskErrors_0 8 rfl rfl)
theorem dX1_deskErrors_11 : decode cX1_deskErrors 11 = .ok (.astore_n 1, 1) := dk_76 (dk_at dksX1_deskErrors_0 11 rfl rfl)
theorem dX1_deskErrors_12 : decode cX1_deskErrors 12 = .ok (.aload_n 0, 1) := dk_42 (dk_at dksX1_deskErrors_0 12 rfl rfl)
theorem dX1_deskErrors_13 : decode cX1_deskErrors 13 = .ok (.aload_n 1, 1) := dk_43 (dk_at dksX1_deskErrors_0 13 rfl rfl)
theorem dX1_deskErrors_14 : decode cX1_deskErrors 14 = .ok (.invokevirtual 325, 3) := dk_182 1 69 (dk_at dksX1_deskErrors_0 14 rfl rfl)
theorem dX1_deskErrors_17 : decode cX1_deskErrors 17 = .ok (.istore_n 2, 1) := dk_61 (dk_at dksX1_deskErrors_0 17 rfl rfl)
theorem dX1_deskErrors_18 : decode cX1_deskErrors 18 = .ok (.aload_n 1, 1) := dk_43 (dk_at dksX1_deskErrors_0 18 rfl rfl)
theorem dX1_deskErrors_19 : decode cX1_deskErrors 19 = .ok (.ifnull 7, 3) := dk_198 0 7 (dk_at dksX1_deskErrors_0 19 rfl rfl)
theorem dX1_deskErrors_22 : decode cX1_deskErrors 22 = .ok (.aload_n 1, 1) := dk_43 (dk_at dksX1_deskErrors_0 22 rfl rfl)
theorem dX1_deskErrors_23 : decode cX1_deskErrors 23 = .ok (.invokevirtual 301, 3) := dk_182 1 45 (dk_at dksX1_deskErrors_1 0 rfl rfl)
theorem dX1_deskErrors_26 : decode cX1_deskErrors 26 = .ok (.iload_n 2, 1) := dk_28 (dk_at dksX1_deskErrors_1 3 rfl rfl)
theorem dX1_deskErrors_27 : decode cX1_deskErrors 27 = .ok (.ireturn, 1) := dk_172 (dk_at dksX1_deskErrors_1 4 rfl rfl)
theorem dX1_deskErrors_28 : decode cX1_deskErrors 28 = .ok (.astore_n 2, 1) := dk_77 (dk_at dksX1_deskErrors_1 5 rfl rfl)
theorem dX1_deskErrors_29 : decode cX1_deskErrors 29 = .ok (.aload_n 1, 1) := dk_43 (dk_at dksX1_deskErrors_1 6 rfl rfl)
theorem dX1_deskErrors_30 : decode cX1_deskErrors 30 = .ok (.ifnull 16, 3) := dk_198 0 16 (dk_at dksX1_deskErrors_1 7 rfl rfl)
theorem dX1_deskErrors_33 : decode cX1_deskErrors 33 = .ok (.aload_n 1, 1) := dk_43 (dk_at dksX1_deskErrors_1 10 rfl rfl)
theorem dX1_deskErrors_34 : decode cX1_deskErrors 34 = .ok (.invokevirtual 301, 3) := dk_182 1 45 (dk_at dksX1_deskErrors_1 11 rfl rfl)
theorem dX1_deskErrors_37 : decode cX1_deskErrors 37 = .ok (.goto 9, 3) := dk_167 0 9 (dk_at dksX1_deskErrors_1 14 rfl rfl)
theorem dX1_deskErrors_40 : decode cX1_deskErrors 40 = .ok (.astore_n 3, 1) := dk_78 (dk_at dksX1_deskErrors_1 17 rfl rfl)
theorem dX1_deskErrors_41 : decode cX1_deskErrors 41 = .ok (.aload_n 2, 1) := dk_44 (dk_at dksX1_deskErrors_1 18 rfl rfl)
theorem dX1_deskErrors_42 : decode cX1_deskErrors 42 = .ok (.aload_n 3, 1) := dk_45 (dk_at dksX1_deskErrors_1 19 rfl rfl)
theorem dX1_deskErrors_43 : decode cX1_deskErrors 43 = .ok (.invokevirtual 306, 3) := dk_182 1 50 (dk_at dksX1_deskErrors_1 20 rfl rfl)
theorem dX1_deskErrors_46 : decode cX1_deskErrors 46 = .ok (.aload_n 2, 1) := dk_44 (dk_at dksX1_deskErrors_1 23 rfl rfl)
theorem dX1_deskErrors_47 : decode cX1_deskErrors 47 = .ok (.athrow, 1) := dk_191 (dk_at dksX1_deskErrors_2 0 rfl rfl)
abbrev cX1_then : ByteArray := prog_1_method_48_code
def yX1_then : MethodName := ⟨RX1, "then", "(I)LCheckoutDesk$Store;"⟩
def dkwX1_then_1 : List UInt8 := [192, 0, 71, 180, 1, 33, 44, 185, 0, 65, 2, 0, 87, 132, 3, 1, 167, 255, 227, 44, 176]
abbrev dktX1_then_1 : List UInt8 := dkwX1_then_1 ++ []
def dkwX1_then_0 : List UInt8 := [187, 0, 58, 89, 183, 0, 60, 77, 3, 62, 29, 27, 162, 0, 30, 42, 180, 0, 54, 29, 182, 1, 29]
abbrev dktX1_then_0 : List UInt8 := dkwX1_then_0 ++ dktX1_then_1
theorem dksX1_then_0 : cX1_then.data.toList.drop 0 = dktX1_then_0 := by decide +kernel
theorem dksX1_then_1 : cX1_then.data.toList.drop 23 = dktX1_then_1 := dk_seg dksX1_then_0 23 rfl rfl
theorem dX1_then_0 : decode cX1_then 0 = .ok (.new 58, 3) := dk_187 0 58 (dk_at dksX1_then_0 0 rfl rfl)
theorem dX1_then_3 : decode cX1_then 3 = .ok (.dup, 1) := dk_89 (dk_at dksX1_then_0 3 rfl rfl)
theorem dX1_then_4 : decode cX1_then 4 = .ok (.invokespecial 60, 3) := dk_183 0 60 (dk_at dksX1_then_0 4 rfl rfl)
theorem dX1_then_7 : decode cX1_then 7 = .ok (.astore_n 2, 1) := dk_77 (dk_at dksX1_then_0 7 rfl rfl)
theorem dX1_then_8 : decode cX1_then 8 = .ok (.iconst 0, 1) := dk_3 (dk_at dksX1_then_0 8 rfl rfl)
theorem dX1_then_9 : decode cX1_then 9 = .ok (.istore_n 3, 1) := dk_62 (dk_at dksX1_then_0 9 rfl rfl)
theorem dX1_then_10 : decode cX1_then 10 = .ok (.iload_n 3, 1) := dk_29 (dk_at dksX1_then_0 10 rfl rfl)
theorem dX1_then_11 : decode cX1_then 11 = .ok (.iload_n 1, 1) := dk_27 (dk_at dksX1_then_0 11 rfl rfl)
theorem dX1_then_12 : decode cX1_then 12 = .ok (.if_icmp .ge 30, 3) := dk_162 0 30 (dk_at dksX1_then_0 12 rfl rfl)
theorem dX1_then_15 : decode cX1_then 15 = .ok (.aload_n 0, 1) := dk_42 (dk_at dksX1_then_0 15 rfl rfl)
theorem dX1_then_16 : decode cX1_then 16 = .ok (.getfield 54, 3) := dk_180 0 54 (dk_at dksX1_then_0 16 rfl rfl)
theorem dX1_then_19 : decode cX1_then 19 = .ok (.iload_n 3, 1) := dk_29 (dk_at dksX1_then_0 19 rfl rfl)
theorem dX1_then_20 : decode cX1_then 20 = .ok (.invokevirtual 285, 3) := dk_182 1 29 (dk_at dksX1_then_0 20 rfl rfl)
theorem dX1_then_23 : decode cX1_then 23 = .ok (.checkcast 71, 3) := dk_192 0 71 (dk_at dksX1_then_1 0 rfl rfl)
theorem dX1_then_26 : decode cX1_then 26 = .ok (.getfield 289, 3) := dk_180 1 33 (dk_at dksX1_then_1 3 rfl rfl)
theorem dX1_then_29 : decode cX1_then 29 = .ok (.aload_n 2, 1) := dk_44 (dk_at dksX1_then_1 6 rfl rfl)
theorem dX1_then_30 : decode cX1_then 30 = .ok (.invokeinterface 65 2, 5) := by decide +kernel
theorem dX1_then_35 : decode cX1_then 35 = .ok (.pop, 1) := dk_87 (dk_at dksX1_then_1 12 rfl rfl)
theorem dX1_then_36 : decode cX1_then 36 = .ok (.iinc 3 1, 3) := dk_132 3 1 (dk_at dksX1_then_1 13 rfl rfl)
theorem dX1_then_39 : decode cX1_then 39 = .ok (.goto (-29), 3) := dk_167 255 227 (dk_at dksX1_then_1 16 rfl rfl)
theorem dX1_then_42 : decode cX1_then 42 = .ok (.aload_n 2, 1) := dk_44 (dk_at dksX1_then_1 19 rfl rfl)
theorem dX1_then_43 : decode cX1_then 43 = .ok (.areturn, 1) := dk_176 (dk_at dksX1_then_1 20 rfl rfl)
abbrev cX1_requireArgument : ByteArray := prog_1_method_2_code
def yX1_requireArgument : MethodName := ⟨RX1, "requireArgument", "(Z)V"⟩
def dkwX1_requireArgument_0 : List UInt8 := [26, 154, 0, 11, 187, 0, 1, 89, 183, 0, 3, 191, 177]
abbrev dktX1_requireArgument_0 : List UInt8 := dkwX1_requireArgument_0 ++ []
theorem dksX1_requireArgument_0 : cX1_requireArgument.data.toList.drop 0 = dktX1_requireArgument_0 := by decide +kernel
theorem dX1_requireArgument_0 : decode cX1_requireArgument 0 = .ok (.iload_n 0, 1) := dk_26 (dk_at dksX1_requireArgument_0 0 rfl rfl)
theorem dX1_requireArgument_1 : decode cX1_requireArgument 1 = .ok (.ifCond .ne 11, 3) := dk_154 0 11 (dk_at dksX1_requireArgument_0 1 rfl rfl)
theorem dX1_requireArgument_4 : decode cX1_requireArgument 4 = .ok (.new 1, 3) := dk_187 0 1 (dk_at dksX1_requireArgument_0 4 rfl rfl)
theorem dX1_requireArgument_7 : decode cX1_requireArgument 7 = .ok (.dup, 1) := dk_89 (dk_at dksX1_requireArgument_0 7 rfl rfl)
theorem dX1_requireArgument_8 : decode cX1_requireArgument 8 = .ok (.invokespecial 3, 3) := dk_183 0 3 (dk_at dksX1_requireArgument_0 8 rfl rfl)
theorem dX1_requireArgument_11 : decode cX1_requireArgument 11 = .ok (.athrow, 1) := dk_191 (dk_at dksX1_requireArgument_0 11 rfl rfl)
theorem dX1_requireArgument_12 : decode cX1_requireArgument 12 = .ok (.return_, 1) := dk_177 (dk_at dksX1_requireArgument_0 12 rfl rfl)
abbrev cX1_requireState : ByteArray := prog_1_method_3_code
def yX1_requireState : MethodName := ⟨RX1, "requireState", "(Z)V"⟩
def dkwX1_requireState_0 : List UInt8 := [26, 154, 0, 11, 187, 0, 7, 89, 183, 0, 9, 191, 177]
abbrev dktX1_requireState_0 : List UInt8 := dkwX1_requireState_0 ++ []
theorem dksX1_requireState_0 : cX1_requireState.data.toList.drop 0 = dktX1_requireState_0 := by decide +kernel
theorem dX1_requireState_0 : decode cX1_requireState 0 = .ok (.iload_n 0, 1) := dk_26 (dk_at dksX1_requireState_0 0 rfl rfl)
theorem dX1_requireState_1 : decode cX1_requireState 1 = .ok (.ifCond .ne 11, 3) := dk_154 0 11 (dk_at dksX1_requireState_0 1 rfl rfl)
theorem dX1_requireState_4 : decode cX1_requireState 4 = .ok (.new 7, 3) := dk_187 0 7 (dk_at dksX1_requireState_0 4 rfl rfl)
theorem dX1_requireState_7 : decode cX1_requireState 7 = .ok (.dup, 1) := dk_89 (dk_at dksX1_requireState_0 7 rfl rfl)
theorem dX1_requireState_8 : decode cX1_requireState 8 = .ok (.invokespecial 9, 3) := dk_183 0 9 (dk_at dksX1_requireState_0 8 rfl rfl)
theorem dX1_requireState_11 : decode cX1_requireState 11 = .ok (.athrow, 1) := dk_191 (dk_at dksX1_requireState_0 11 rfl rfl)
theorem dX1_requireState_12 : decode cX1_requireState 12 = .ok (.return_, 1) := dk_177 (dk_at dksX1_requireState_0 12 rfl rfl)
abbrev cX1_requirePerson : ByteArray := prog_1_method_6_code
def yX1_requirePerson : MethodName := ⟨RX1, "requirePerson", "(I)V"⟩
def dkwX1_requirePerson_0 : List UInt8 := [26, 3, 8, 184, 0, 18, 184, 0, 22, 177]
abbrev dktX1_requirePerson_0 : List UInt8 := dkwX1_requirePerson_0 ++ []
theorem dksX1_requirePerson_0 : cX1_requirePerson.data.toList.drop 0 = dktX1_requirePerson_0 := by decide +kernel
theorem dX1_requirePerson_0 : decode cX1_requirePerson 0 = .ok (.iload_n 0, 1) := dk_26 (dk_at dksX1_requirePerson_0 0 rfl rfl)
theorem dX1_requirePerson_1 : decode cX1_requirePerson 1 = .ok (.iconst 0, 1) := dk_3 (dk_at dksX1_requirePerson_0 1 rfl rfl)
theorem dX1_requirePerson_2 : decode cX1_requirePerson 2 = .ok (.iconst 5, 1) := dk_8 (dk_at dksX1_requirePerson_0 2 rfl rfl)
theorem dX1_requirePerson_3 : decode cX1_requirePerson 3 = .ok (.invokestatic 18, 3) := dk_184 0 18 (dk_at dksX1_requirePerson_0 3 rfl rfl)
theorem dX1_requirePerson_6 : decode cX1_requirePerson 6 = .ok (.invokestatic 22, 3) := dk_184 0 22 (dk_at dksX1_requirePerson_0 6 rfl rfl)
theorem dX1_requirePerson_9 : decode cX1_requirePerson 9 = .ok (.return_, 1) := dk_177 (dk_at dksX1_requirePerson_0 9 rfl rfl)
abbrev cX1_isPlace : ByteArray := prog_1_method_16_code
def yX1_isPlace : MethodName := ⟨RX1, "isPlace", "(II)Z"⟩
def dkwX1_isPlace_1 : List UInt8 := [184, 0, 18, 153, 0, 7, 4, 167, 0, 4, 3, 172]
abbrev dktX1_isPlace_1 : List UInt8 := dkwX1_isPlace_1 ++ []
def dkwX1_isPlace_0 : List UInt8 := [26, 3, 6, 184, 0, 18, 153, 0, 28, 27, 3, 26, 6, 162, 0, 8, 16, 99, 167, 0, 6, 17, 39, 15]
abbrev dktX1_isPlace_0 : List UInt8 := dkwX1_isPlace_0 ++ dktX1_isPlace_1
theorem dksX1_isPlace_0 : cX1_isPlace.data.toList.drop 0 = dktX1_isPlace_0 := by decide +kernel
theorem dksX1_isPlace_1 : cX1_isPlace.data.toList.drop 24 = dktX1_isPlace_1 := dk_seg dksX1_isPlace_0 24 rfl rfl
theorem dX1_isPlace_0 : decode cX1_isPlace 0 = .ok (.iload_n 0, 1) := dk_26 (dk_at dksX1_isPlace_0 0 rfl rfl)
theorem dX1_isPlace_1 : decode cX1_isPlace 1 = .ok (.iconst 0, 1) := dk_3 (dk_at dksX1_isPlace_0 1 rfl rfl)
theorem dX1_isPlace_2 : decode cX1_isPlace 2 = .ok (.iconst 3, 1) := dk_6 (dk_at dksX1_isPlace_0 2 rfl rfl)
theorem dX1_isPlace_3 : decode cX1_isPlace 3 = .ok (.invokestatic 18, 3) := dk_184 0 18 (dk_at dksX1_isPlace_0 3 rfl rfl)
theorem dX1_isPlace_6 : decode cX1_isPlace 6 = .ok (.ifCond .eq 28, 3) := dk_153 0 28 (dk_at dksX1_isPlace_0 6 rfl rfl)
theorem dX1_isPlace_9 : decode cX1_isPlace 9 = .ok (.iload_n 1, 1) := dk_27 (dk_at dksX1_isPlace_0 9 rfl rfl)
theorem dX1_isPlace_10 : decode cX1_isPlace 10 = .ok (.iconst 0, 1) := dk_3 (dk_at dksX1_isPlace_0 10 rfl rfl)
theorem dX1_isPlace_11 : decode cX1_isPlace 11 = .ok (.iload_n 0, 1) := dk_26 (dk_at dksX1_isPlace_0 11 rfl rfl)
theorem dX1_isPlace_12 : decode cX1_isPlace 12 = .ok (.iconst 3, 1) := dk_6 (dk_at dksX1_isPlace_0 12 rfl rfl)
theorem dX1_isPlace_13 : decode cX1_isPlace 13 = .ok (.if_icmp .ge 8, 3) := dk_162 0 8 (dk_at dksX1_isPlace_0 13 rfl rfl)
theorem dX1_isPlace_16 : decode cX1_isPlace 16 = .ok (.bipush 99, 2) := dk_16 99 (dk_at dksX1_isPlace_0 16 rfl rfl)
theorem dX1_isPlace_18 : decode cX1_isPlace 18 = .ok (.goto 6, 3) := dk_167 0 6 (dk_at dksX1_isPlace_0 18 rfl rfl)
theorem dX1_isPlace_21 : decode cX1_isPlace 21 = .ok (.sipush 9999, 3) := dk_17 39 15 (dk_at dksX1_isPlace_0 21 rfl rfl)
theorem dX1_isPlace_24 : decode cX1_isPlace 24 = .ok (.invokestatic 18, 3) := dk_184 0 18 (dk_at dksX1_isPlace_1 0 rfl rfl)
theorem dX1_isPlace_27 : decode cX1_isPlace 27 = .ok (.ifCond .eq 7, 3) := dk_153 0 7 (dk_at dksX1_isPlace_1 3 rfl rfl)
theorem dX1_isPlace_30 : decode cX1_isPlace 30 = .ok (.iconst 1, 1) := dk_4 (dk_at dksX1_isPlace_1 6 rfl rfl)
theorem dX1_isPlace_31 : decode cX1_isPlace 31 = .ok (.goto 4, 3) := dk_167 0 4 (dk_at dksX1_isPlace_1 7 rfl rfl)
theorem dX1_isPlace_34 : decode cX1_isPlace 34 = .ok (.iconst 0, 1) := dk_3 (dk_at dksX1_isPlace_1 10 rfl rfl)
theorem dX1_isPlace_35 : decode cX1_isPlace 35 = .ok (.ireturn, 1) := dk_172 (dk_at dksX1_isPlace_1 11 rfl rfl)
abbrev cX1_held : ByteArray := prog_1_method_17_code
def yX1_held : MethodName := ⟨RX1, "held", "(LCheckoutDesk$Store;III)LCheckoutDesk$Copy;"⟩
def dkwX1_held_1 : List UInt8 := [160, 0, 7, 4, 167, 0, 4, 3, 184, 0, 129, 25, 4, 176]
abbrev dktX1_held_1 : List UInt8 := dkwX1_held_1 ++ []
def dkwX1_held_0 : List UInt8 := [42, 28, 29, 182, 0, 114, 180, 0, 118, 58, 4, 25, 4, 198, 0, 16, 25, 4, 180, 0, 124, 27]
abbrev dktX1_held_0 : List UInt8 := dkwX1_held_0 ++ dktX1_held_1
theorem dksX1_held_0 : cX1_held.data.toList.drop 0 = dktX1_held_0 := by decide +kernel
theorem dksX1_held_1 : cX1_held.data.toList.drop 22 = dktX1_held_1 := dk_seg dksX1_held_0 22 rfl rfl
theorem dX1_held_0 : decode cX1_held 0 = .ok (.aload_n 0, 1) := dk_42 (dk_at dksX1_held_0 0 rfl rfl)
theorem dX1_held_1 : decode cX1_held 1 = .ok (.iload_n 2, 1) := dk_28 (dk_at dksX1_held_0 1 rfl rfl)
theorem dX1_held_2 : decode cX1_held 2 = .ok (.iload_n 3, 1) := dk_29 (dk_at dksX1_held_0 2 rfl rfl)
theorem dX1_held_3 : decode cX1_held 3 = .ok (.invokevirtual 114, 3) := dk_182 0 114 (dk_at dksX1_held_0 3 rfl rfl)
theorem dX1_held_6 : decode cX1_held 6 = .ok (.getfield 118, 3) := dk_180 0 118 (dk_at dksX1_held_0 6 rfl rfl)
theorem dX1_held_9 : decode cX1_held 9 = .ok (.astore 4, 2) := dk_58 4 (dk_at dksX1_held_0 9 rfl rfl)
theorem dX1_held_11 : decode cX1_held 11 = .ok (.aload 4, 2) := dk_25 4 (dk_at dksX1_held_0 11 rfl rfl)
theorem dX1_held_13 : decode cX1_held 13 = .ok (.ifnull 16, 3) := dk_198 0 16 (dk_at dksX1_held_0 13 rfl rfl)
theorem dX1_held_16 : decode cX1_held 16 = .ok (.aload 4, 2) := dk_25 4 (dk_at dksX1_held_0 16 rfl rfl)
theorem dX1_held_18 : decode cX1_held 18 = .ok (.getfield 124, 3) := dk_180 0 124 (dk_at dksX1_held_0 18 rfl rfl)
theorem dX1_held_21 : decode cX1_held 21 = .ok (.iload_n 1, 1) := dk_27 (dk_at dksX1_held_0 21 rfl rfl)
theorem dX1_held_22 : decode cX1_held 22 = .ok (.if_icmp .ne 7, 3) := dk_160 0 7 (dk_at dksX1_held_1 0 rfl rfl)
theorem dX1_held_25 : decode cX1_held 25 = .ok (.iconst 1, 1) := dk_4 (dk_at dksX1_held_1 3 rfl rfl)
theorem dX1_held_26 : decode cX1_held 26 = .ok (.goto 4, 3) := dk_167 0 4 (dk_at dksX1_held_1 4 rfl rfl)
theorem dX1_held_29 : decode cX1_held 29 = .ok (.iconst 0, 1) := dk_3 (dk_at dksX1_held_1 7 rfl rfl)
theorem dX1_held_30 : decode cX1_held 30 = .ok (.invokestatic 129, 3) := dk_184 0 129 (dk_at dksX1_held_1 8 rfl rfl)
theorem dX1_held_33 : decode cX1_held 33 = .ok (.aload 4, 2) := dk_25 4 (dk_at dksX1_held_1 11 rfl rfl)
theorem dX1_held_35 : decode cX1_held 35 = .ok (.areturn, 1) := dk_176 (dk_at dksX1_held_1 13 rfl rfl)
abbrev cX1_errors : ByteArray := prog_1_method_53_code
def yX1_errors : MethodName := ⟨RX1, "errors", "(LCheckoutDesk$Store;)I"⟩
def dkwX1_errors_11 : List UInt8 := [182, 0, 240, 154, 0, 6, 132, 2, 1, 132, 4, 1, 167, 255, 199, 132, 3, 1, 167, 255, 176, 28, 172]
abbrev dktX1_errors_11 : List UInt8 := dkwX1_errors_11 ++ []
def dkwX1_errors_10 : List UInt8 := [192, 0, 247, 21, 4, 182, 0, 249, 58, 5, 25, 5, 198, 0, 20, 42, 180, 0, 61, 21, 4, 25, 5]
abbrev dktX1_errors_10 : List UInt8 := dkwX1_errors_10 ++ dktX1_errors_11
def dkwX1_errors_9 : List UInt8 := [54, 4, 21, 4, 16, 6, 162, 0, 56, 42, 180, 0, 61, 42, 180, 0, 61, 180, 0, 244, 29, 182, 0, 32]
abbrev dktX1_errors_9 : List UInt8 := dkwX1_errors_9 ++ dktX1_errors_10
def dkwX1_errors_8 : List UInt8 := [132, 3, 1, 167, 255, 182, 3, 62, 29, 42, 180, 0, 61, 180, 0, 244, 182, 0, 26, 162, 0, 72, 3]
abbrev dktX1_errors_8 : List UInt8 := dkwX1_errors_8 ++ dktX1_errors_9
def dkwX1_errors_7 : List UInt8 := [180, 0, 61, 29, 21, 4, 182, 0, 114, 184, 0, 225, 159, 0, 6, 132, 2, 1, 132, 4, 1, 167, 255, 205]
abbrev dktX1_errors_7 : List UInt8 := dkwX1_errors_7 ++ dktX1_errors_8
def dkwX1_errors_6 : List UInt8 := [182, 0, 173, 180, 0, 177, 182, 0, 26, 162, 0, 38, 43, 29, 21, 4, 182, 0, 114, 184, 0, 225, 42]
abbrev dktX1_errors_6 : List UInt8 := dkwX1_errors_6 ++ dktX1_errors_7
def dkwX1_errors_5 : List UInt8 := [180, 0, 61, 180, 1, 23, 182, 0, 26, 162, 0, 66, 3, 54, 4, 21, 4, 42, 180, 0, 61, 29]
abbrev dktX1_errors_5 : List UInt8 := dkwX1_errors_5 ++ dktX1_errors_6
def dkwX1_errors_4 : List UInt8 := [192, 0, 196, 184, 1, 65, 154, 0, 6, 132, 2, 1, 132, 3, 1, 167, 255, 195, 3, 62, 29, 42]
abbrev dktX1_errors_4 : List UInt8 := dkwX1_errors_4 ++ dktX1_errors_5
def dkwX1_errors_3 : List UInt8 := [43, 180, 0, 169, 29, 182, 0, 32, 192, 0, 196, 42, 180, 0, 61, 180, 0, 169, 29, 182, 0, 32]
abbrev dktX1_errors_3 : List UInt8 := dkwX1_errors_3 ++ dktX1_errors_4
def dkwX1_errors_2 : List UInt8 := [29, 43, 180, 0, 169, 182, 0, 26, 42, 180, 0, 61, 180, 0, 169, 182, 0, 26, 184, 1, 62, 162, 0, 43]
abbrev dktX1_errors_2 : List UInt8 := dkwX1_errors_2 ++ dktX1_errors_3
def dkwX1_errors_1 : List UInt8 := [180, 0, 244, 182, 0, 26, 42, 180, 0, 61, 180, 0, 244, 182, 0, 26, 100, 184, 1, 58, 96, 61, 3, 62]
abbrev dktX1_errors_1 : List UInt8 := dkwX1_errors_1 ++ dktX1_errors_2
def dkwX1_errors_0 : List UInt8 := [43, 180, 0, 169, 182, 0, 26, 42, 180, 0, 61, 180, 0, 169, 182, 0, 26, 100, 184, 1, 58, 43]
abbrev dktX1_errors_0 : List UInt8 := dkwX1_errors_0 ++ dktX1_errors_1
theorem dksX1_errors_0 : cX1_errors.data.toList.drop 0 = dktX1_errors_0 := by decide +kernel
theorem dksX1_errors_1 : cX1_errors.data.toList.drop 22 = dktX1_errors_1 := dk_seg dksX1_errors_0 22 rfl rfl
theorem dksX1_errors_2 : cX1_errors.data.toList.drop 46 = dktX1_errors_2 := dk_seg dksX1_errors_1 24 rfl rfl
theorem dksX1_errors_3 : cX1_errors.data.toList.drop 70 = dktX1_errors_3 := dk_seg dksX1_errors_2 24 rfl rfl
theorem dksX1_errors_4 : cX1_errors.data.toList.drop 92 = dktX1_errors_4 := dk_seg dksX1_errors_3 22 rfl rfl
theorem dksX1_errors_5 : cX1_errors.data.toList.drop 114 = dktX1_errors_5 := dk_seg dksX1_errors_4 22 rfl rfl
theorem dksX1_errors_6 : cX1_errors.data.toList.drop 136 = dktX1_errors_6 := dk_seg dksX1_errors_5 22 rfl rfl
theorem dksX1_errors_7 : cX1_errors.data.toList.drop 159 = dktX1_errors_7 := dk_seg dksX1_errors_6 23 rfl rfl
theorem dksX1_errors_8 : cX1_errors.data.toList.drop 183 = dktX1_errors_8 := dk_seg dksX1_errors_7 24 rfl rfl
theorem dksX1_errors_9 : cX1_errors.data.toList.drop 206 = dktX1_errors_9 := dk_seg dksX1_errors_8 23 rfl rfl
theorem dksX1_errors_10 : cX1_errors.data.toList.drop 230 = dktX1_errors_10 := dk_seg dksX1_errors_9 24 rfl rfl
theorem dksX1_errors_11 : cX1_errors.data.toList.drop 253 = dktX1_errors_11 := dk_seg dksX1_errors_10 23 rfl rfl
theorem dX1_errors_0 : decode cX1_errors 0 = .ok (.aload_n 1, 1) := dk_43 (dk_at dksX1_errors_0 0 rfl rfl)
theorem dX1_errors_1 : decode cX1_errors 1 = .ok (.getfield 169, 3) := dk_180 0 169 (dk_at dksX1_errors_0 1 rfl rfl)
theorem dX1_errors_4 : decode cX1_errors 4 = .ok (.invokevirtual 26, 3) := dk_182 0 26 (dk_at dksX1_errors_0 4 rfl rfl)
theorem dX1_errors_7 : decode cX1_errors 7 = .ok (.aload_n 0, 1) := dk_42 (dk_at dksX1_errors_0 7 rfl rfl)
theorem dX1_errors_8 : decode cX1_errors 8 = .ok (.getfield 61, 3) := dk_180 0 61 (dk_at dksX1_errors_0 8 rfl rfl)
theorem dX1_errors_11 : decode cX1_errors 11 = .ok (.getfield 169, 3) := dk_180 0 169 (dk_at dksX1_errors_0 11 rfl rfl)
theorem dX1_errors_14 : decode cX1_errors 14 = .ok (.invokevirtual 26, 3) := dk_182 0 26 (dk_at dksX1_errors_0 14 rfl rfl)
theorem dX1_errors_17 : decode cX1_errors 17 = .ok (.isub, 1) := dk_100 (dk_at dksX1_errors_0 17 rfl rfl)
theorem dX1_errors_18 : decode cX1_errors 18 = .ok (.invokestatic 314, 3) := dk_184 1 58 (dk_at dksX1_errors_0 18 rfl rfl)
theorem dX1_errors_21 : decode cX1_errors 21 = .ok (.aload_n 1, 1) := dk_43 (dk_at dksX1_errors_0 21 rfl rfl)
theorem dX1_errors_22 : decode cX1_errors 22 = .ok (.getfield 244, 3) := dk_180 0 244 (dk_at dksX1_errors_1 0 rfl rfl)
theorem dX1_errors_25 : decode cX1_errors 25 = .ok (.invokevirtual 26, 3) := dk_182 0 26 (dk_at dksX1_errors_1 3 rfl rfl)
theorem dX1_errors_28 : decode cX1_errors 28 = .ok (.aload_n 0, 1) := dk_42 (dk_at dksX1_errors_1 6 rfl rfl)
theorem dX1_errors_29 : decode cX1_errors 29 = .ok (.getfield 61, 3) := dk_180 0 61 (dk_at dksX1_errors_1 7 rfl rfl)
theorem dX1_errors_32 : decode cX1_errors 32 = .ok (.getfield 244, 3) := dk_180 0 244 (dk_at dksX1_errors_1 10 rfl rfl)
theorem dX1_errors_35 : decode cX1_errors 35 = .ok (.invokevirtual 26, 3) := dk_182 0 26 (dk_at dksX1_errors_1 13 rfl rfl)
theorem dX1_errors_38 : decode cX1_errors 38 = .ok (.isub, 1) := dk_100 (dk_at dksX1_errors_1 16 rfl rfl)
theorem dX1_errors_39 : decode cX1_errors 39 = .ok (.invokestatic 314, 3) := dk_184 1 58 (dk_at dksX1_errors_1 17 rfl rfl)
theorem dX1_errors_42 : decode cX1_errors 42 = .ok (.iadd, 1) := dk_96 (dk_at dksX1_errors_1 20 rfl rfl)
theorem dX1_errors_43 : decode cX1_errors 43 = .ok (.istore_n 2, 1) := dk_61 (dk_at dksX1_errors_1 21 rfl rfl)
theorem dX1_errors_44 : decode cX1_errors 44 = .ok (.iconst 0, 1) := dk_3 (dk_at dksX1_errors_1 22 rfl rfl)
theorem dX1_errors_45 : decode cX1_errors 45 = .ok (.istore_n 3, 1) := dk_62 (dk_at dksX1_errors_1 23 rfl rfl)
theorem dX1_errors_46 : decode cX1_errors 46 = .ok (.iload_n 3, 1) := dk_29 (dk_at dksX1_errors_2 0 rfl rfl)
theorem dX1_errors_47 : decode cX1_errors 47 = .ok (.aload_n 1, 1) := dk_43 (dk_at dksX1_errors_2 1 rfl rfl)
theorem dX1_errors_48 : decode cX1_errors 48 = .ok (.getfield 169, 3) := dk_180 0 169 (dk_at dksX1_errors_2 2 rfl rfl)
theorem dX1_errors_51 : decode cX1_errors 51 = .ok (.invokevirtual 26, 3) := dk_182 0 26 (dk_at dksX1_errors_2 5 rfl rfl)
theorem dX1_errors_54 : decode cX1_errors 54 = .ok (.aload_n 0, 1) := dk_42 (dk_at dksX1_errors_2 8 rfl rfl)
theorem dX1_errors_55 : decode cX1_errors 55 = .ok (.getfield 61, 3) := dk_180 0 61 (dk_at dksX1_errors_2 9 rfl rfl)
theorem dX1_errors_58 : decode cX1_errors 58 = .ok (.getfield 169, 3) := dk_180 0 169 (dk_at dksX1_errors_2 12 rfl rfl)
theorem dX1_errors_61 : decode cX1_errors 61 = .ok (.invokevirtual 26, 3) := dk_182 0 26 (dk_at dksX1_errors_2 15 rfl rfl)
theorem dX1_errors_64 : decode cX1_errors 64 = .ok (.invokestatic 318, 3) := dk_184 1 62 (dk_at dksX1_errors_2 18 rfl rfl)
theorem dX1_errors_67 : decode cX1_errors 67 = .ok (.if_icmp .ge 43, 3) := dk_162 0 43 (dk_at dksX1_errors_2 21 rfl rfl)
theorem dX1_errors_70 : decode cX1_errors 70 = .ok (.aload_n 1, 1) := dk_43 (dk_at dksX1_errors_3 0 rfl rfl)
theorem dX1_errors_71 : decode cX1_errors 71 = .ok (.getfield 169, 3) := dk_180 0 169 (dk_at dksX1_errors_3 1 rfl rfl)
theorem dX1_errors_74 : decode cX1_errors 74 = .ok (.iload_n 3, 1) := dk_29 (dk_at dksX1_errors_3 4 rfl rfl)
theorem dX1_errors_75 : decode cX1_errors 75 = .ok (.invokevirtual 32, 3) := dk_182 0 32 (dk_at dksX1_errors_3 5 rfl rfl)
theorem dX1_errors_78 : decode cX1_errors 78 = .ok (.checkcast 196, 3) := dk_192 0 196 (dk_at dksX1_errors_3 8 rfl rfl)
theorem dX1_errors_81 : decode cX1_errors 81 = .ok (.aload_n 0, 1) := dk_42 (dk_at dksX1_errors_3 11 rfl rfl)
theorem dX1_errors_82 : decode cX1_errors 82 = .ok (.getfield 61, 3) := dk_180 0 61 (dk_at dksX1_errors_3 12 rfl rfl)
theorem dX1_errors_85 : decode cX1_errors 85 = .ok (.getfield 169, 3) := dk_180 0 169 (dk_at dksX1_errors_3 15 rfl rfl)
theorem dX1_errors_88 : decode cX1_errors 88 = .ok (.iload_n 3, 1) := dk_29 (dk_at dksX1_errors_3 18 rfl rfl)
theorem dX1_errors_89 : decode cX1_errors 89 = .ok (.invokevirtual 32, 3) := dk_182 0 32 (dk_at dksX1_errors_3 19 rfl rfl)
theorem dX1_errors_92 : decode cX1_errors 92 = .ok (.checkcast 196, 3) := dk_192 0 196 (dk_at dksX1_errors_4 0 rfl rfl)
theorem dX1_errors_95 : decode cX1_errors 95 = .ok (.invokestatic 321, 3) := dk_184 1 65 (dk_at dksX1_errors_4 3 rfl rfl)
theorem dX1_errors_98 : decode cX1_errors 98 = .ok (.ifCond .ne 6, 3) := dk_154 0 6 (dk_at dksX1_errors_4 6 rfl rfl)
theorem dX1_errors_101 : decode cX1_errors 101 = .ok (.iinc 2 1, 3) := dk_132 2 1 (dk_at dksX1_errors_4 9 rfl rfl)
theorem dX1_errors_104 : decode cX1_errors 104 = .ok (.iinc 3 1, 3) := dk_132 3 1 (dk_at dksX1_errors_4 12 rfl rfl)
theorem dX1_errors_107 : decode cX1_errors 107 = .ok (.goto (-61), 3) := dk_167 255 195 (dk_at dksX1_errors_4 15 rfl rfl)
theorem dX1_errors_110 : decode cX1_errors 110 = .ok (.iconst 0, 1) := dk_3 (dk_at dksX1_errors_4 18 rfl rfl)
theorem dX1_errors_111 : decode cX1_errors 111 = .ok (.istore_n 3, 1) := dk_62 (dk_at dksX1_errors_4 19 rfl rfl)
theorem dX1_errors_112 : decode cX1_errors 112 = .ok (.iload_n 3, 1) := dk_29 (dk_at dksX1_errors_4 20 rfl rfl)
theorem dX1_errors_113 : decode cX1_errors 113 = .ok (.aload_n 0, 1) := dk_42 (dk_at dksX1_errors_4 21 rfl rfl)
theorem dX1_errors_114 : decode cX1_errors 114 = .ok (.getfield 61, 3) := dk_180 0 61 (dk_at dksX1_errors_5 0 rfl rfl)
theorem dX1_errors_117 : decode cX1_errors 117 = .ok (.getfield 279, 3) := dk_180 1 23 (dk_at dksX1_errors_5 3 rfl rfl)
theorem dX1_errors_120 : decode cX1_errors 120 = .ok (.invokevirtual 26, 3) := dk_182 0 26 (dk_at dksX1_errors_5 6 rfl rfl)
theorem dX1_errors_123 : decode cX1_errors 123 = .ok (.if_icmp .ge 66, 3) := dk_162 0 66 (dk_at dksX1_errors_5 9 rfl rfl)
theorem dX1_errors_126 : decode cX1_errors 126 = .ok (.iconst 0, 1) := dk_3 (dk_at dksX1_errors_5 12 rfl rfl)
theorem dX1_errors_127 : decode cX1_errors 127 = .ok (.istore 4, 2) := dk_54 4 (dk_at dksX1_errors_5 13 rfl rfl)
theorem dX1_errors_129 : decode cX1_errors 129 = .ok (.iload 4, 2) := dk_21 4 (dk_at dksX1_errors_5 15 rfl rfl)
theorem dX1_errors_131 : decode cX1_errors 131 = .ok (.aload_n 0, 1) := dk_42 (dk_at dksX1_errors_5 17 rfl rfl)
theorem dX1_errors_132 : decode cX1_errors 132 = .ok (.getfield 61, 3) := dk_180 0 61 (dk_at dksX1_errors_5 18 rfl rfl)
theorem dX1_errors_135 : decode cX1_errors 135 = .ok (.iload_n 3, 1) := dk_29 (dk_at dksX1_errors_5 21 rfl rfl)
theorem dX1_errors_136 : decode cX1_errors 136 = .ok (.invokevirtual 173, 3) := dk_182 0 173 (dk_at dksX1_errors_6 0 rfl rfl)
theorem dX1_errors_139 : decode cX1_errors 139 = .ok (.getfield 177, 3) := dk_180 0 177 (dk_at dksX1_errors_6 3 rfl rfl)
theorem dX1_errors_142 : decode cX1_errors 142 = .ok (.invokevirtual 26, 3) := dk_182 0 26 (dk_at dksX1_errors_6 6 rfl rfl)
theorem dX1_errors_145 : decode cX1_errors 145 = .ok (.if_icmp .ge 38, 3) := dk_162 0 38 (dk_at dksX1_errors_6 9 rfl rfl)
theorem dX1_errors_148 : decode cX1_errors 148 = .ok (.aload_n 1, 1) := dk_43 (dk_at dksX1_errors_6 12 rfl rfl)
theorem dX1_errors_149 : decode cX1_errors 149 = .ok (.iload_n 3, 1) := dk_29 (dk_at dksX1_errors_6 13 rfl rfl)
theorem dX1_errors_150 : decode cX1_errors 150 = .ok (.iload 4, 2) := dk_21 4 (dk_at dksX1_errors_6 14 rfl rfl)
theorem dX1_errors_152 : decode cX1_errors 152 = .ok (.invokevirtual 114, 3) := dk_182 0 114 (dk_at dksX1_errors_6 16 rfl rfl)
theorem dX1_errors_155 : decode cX1_errors 155 = .ok (.invokestatic 225, 3) := dk_184 0 225 (dk_at dksX1_errors_6 19 rfl rfl)
theorem dX1_errors_158 : decode cX1_errors 158 = .ok (.aload_n 0, 1) := dk_42 (dk_at dksX1_errors_6 22 rfl rfl)
theorem dX1_errors_159 : decode cX1_errors 159 = .ok (.getfield 61, 3) := dk_180 0 61 (dk_at dksX1_errors_7 0 rfl rfl)
theorem dX1_errors_162 : decode cX1_errors 162 = .ok (.iload_n 3, 1) := dk_29 (dk_at dksX1_errors_7 3 rfl rfl)
theorem dX1_errors_163 : decode cX1_errors 163 = .ok (.iload 4, 2) := dk_21 4 (dk_at dksX1_errors_7 4 rfl rfl)
theorem dX1_errors_165 : decode cX1_errors 165 = .ok (.invokevirtual 114, 3) := dk_182 0 114 (dk_at dksX1_errors_7 6 rfl rfl)
theorem dX1_errors_168 : decode cX1_errors 168 = .ok (.invokestatic 225, 3) := dk_184 0 225 (dk_at dksX1_errors_7 9 rfl rfl)
theorem dX1_errors_171 : decode cX1_errors 171 = .ok (.if_icmp .eq 6, 3) := dk_159 0 6 (dk_at dksX1_errors_7 12 rfl rfl)
theorem dX1_errors_174 : decode cX1_errors 174 = .ok (.iinc 2 1, 3) := dk_132 2 1 (dk_at dksX1_errors_7 15 rfl rfl)
theorem dX1_errors_177 : decode cX1_errors 177 = .ok (.iinc 4 1, 3) := dk_132 4 1 (dk_at dksX1_errors_7 18 rfl rfl)
theorem dX1_errors_180 : decode cX1_errors 180 = .ok (.goto (-51), 3) := dk_167 255 205 (dk_at dksX1_errors_7 21 rfl rfl)
theorem dX1_errors_183 : decode cX1_errors 183 = .ok (.iinc 3 1, 3) := dk_132 3 1 (dk_at dksX1_errors_8 0 rfl rfl)
theorem dX1_errors_186 : decode cX1_errors 186 = .ok (.goto (-74), 3) := dk_167 255 182 (dk_at dksX1_errors_8 3 rfl rfl)
theorem dX1_errors_189 : decode cX1_errors 189 = .ok (.iconst 0, 1) := dk_3 (dk_at dksX1_errors_8 6 rfl rfl)
theorem dX1_errors_190 : decode cX1_errors 190 = .ok (.istore_n 3, 1) := dk_62 (dk_at dksX1_errors_8 7 rfl rfl)
theorem dX1_errors_191 : decode cX1_errors 191 = .ok (.iload_n 3, 1) := dk_29 (dk_at dksX1_errors_8 8 rfl rfl)
theorem dX1_errors_192 : decode cX1_errors 192 = .ok (.aload_n 0, 1) := dk_42 (dk_at dksX1_errors_8 9 rfl rfl)
theorem dX1_errors_193 : decode cX1_errors 193 = .ok (.getfield 61, 3) := dk_180 0 61 (dk_at dksX1_errors_8 10 rfl rfl)
theorem dX1_errors_196 : decode cX1_errors 196 = .ok (.getfield 244, 3) := dk_180 0 244 (dk_at dksX1_errors_8 13 rfl rfl)
theorem dX1_errors_199 : decode cX1_errors 199 = .ok (.invokevirtual 26, 3) := dk_182 0 26 (dk_at dksX1_errors_8 16 rfl rfl)
theorem dX1_errors_202 : decode cX1_errors 202 = .ok (.if_icmp .ge 72, 3) := dk_162 0 72 (dk_at dksX1_errors_8 19 rfl rfl)
theorem dX1_errors_205 : decode cX1_errors 205 = .ok (.iconst 0, 1) := dk_3 (dk_at dksX1_errors_8 22 rfl rfl)
theorem dX1_errors_206 : decode cX1_errors 206 = .ok (.istore 4, 2) := dk_54 4 (dk_at dksX1_errors_9 0 rfl rfl)
theorem dX1_errors_208 : decode cX1_errors 208 = .ok (.iload 4, 2) := dk_21 4 (dk_at dksX1_errors_9 2 rfl rfl)
theorem dX1_errors_210 : decode cX1_errors 210 = .ok (.bipush 6, 2) := dk_16 6 (dk_at dksX1_errors_9 4 rfl rfl)
theorem dX1_errors_212 : decode cX1_errors 212 = .ok (.if_icmp .ge 56, 3) := dk_162 0 56 (dk_at dksX1_errors_9 6 rfl rfl)
theorem dX1_errors_215 : decode cX1_errors 215 = .ok (.aload_n 0, 1) := dk_42 (dk_at dksX1_errors_9 9 rfl rfl)
theorem dX1_errors_216 : decode cX1_errors 216 = .ok (.getfield 61, 3) := dk_180 0 61 (dk_at dksX1_errors_9 10 rfl rfl)
theorem dX1_errors_219 : decode cX1_errors 219 = .ok (.aload_n 0, 1) := dk_42 (dk_at dksX1_errors_9 13 rfl rfl)
theorem dX1_errors_220 : decode cX1_errors 220 = .ok (.getfield 61, 3) := dk_180 0 61 (dk_at dksX1_errors_9 14 rfl rfl)
theorem dX1_errors_223 : decode cX1_errors 223 = .ok (.getfield 244, 3) := dk_180 0 244 (dk_at dksX1_errors_9 17 rfl rfl)
theorem dX1_errors_226 : decode cX1_errors 226 = .ok (.iload_n 3, 1) := dk_29 (dk_at dksX1_errors_9 20 rfl rfl)
theorem dX1_errors_227 : decode cX1_errors 227 = .ok (.invokevirtual 32, 3) := dk_182 0 32 (dk_at dksX1_errors_9 21 rfl rfl)
theorem dX1_errors_230 : decode cX1_errors 230 = .ok (.checkcast 247, 3) := dk_192 0 247 (dk_at dksX1_errors_10 0 rfl rfl)
theorem dX1_errors_233 : decode cX1_errors 233 = .ok (.iload 4, 2) := dk_21 4 (dk_at dksX1_errors_10 3 rfl rfl)
theorem dX1_errors_235 : decode cX1_errors 235 = .ok (.invokevirtual 249, 3) := dk_182 0 249 (dk_at dksX1_errors_10 5 rfl rfl)
theorem dX1_errors_238 : decode cX1_errors 238 = .ok (.astore 5, 2) := dk_58 5 (dk_at dksX1_errors_10 8 rfl rfl)
theorem dX1_errors_240 : decode cX1_errors 240 = .ok (.aload 5, 2) := dk_25 5 (dk_at dksX1_errors_10 10 rfl rfl)
theorem dX1_errors_242 : decode cX1_errors 242 = .ok (.ifnull 20, 3) := dk_198 0 20 (dk_at dksX1_errors_10 12 rfl rfl)
theorem dX1_errors_245 : decode cX1_errors 245 = .ok (.aload_n 0, 1) := dk_42 (dk_at dksX1_errors_10 15 rfl rfl)
theorem dX1_errors_246 : decode cX1_errors 246 = .ok (.getfield 61, 3) := dk_180 0 61 (dk_at dksX1_errors_10 16 rfl rfl)
theorem dX1_errors_249 : decode cX1_errors 249 = .ok (.iload 4, 2) := dk_21 4 (dk_at dksX1_errors_10 19 rfl rfl)
theorem dX1_errors_251 : decode cX1_errors 251 = .ok (.aload 5, 2) := dk_25 5 (dk_at dksX1_errors_10 21 rfl rfl)
theorem dX1_errors_253 : decode cX1_errors 253 = .ok (.invokevirtual 240, 3) := dk_182 0 240 (dk_at dksX1_errors_11 0 rfl rfl)
theorem dX1_errors_256 : decode cX1_errors 256 = .ok (.ifCond .ne 6, 3) := dk_154 0 6 (dk_at dksX1_errors_11 3 rfl rfl)
theorem dX1_errors_259 : decode cX1_errors 259 = .ok (.iinc 2 1, 3) := dk_132 2 1 (dk_at dksX1_errors_11 6 rfl rfl)
theorem dX1_errors_262 : decode cX1_errors 262 = .ok (.iinc 4 1, 3) := dk_132 4 1 (dk_at dksX1_errors_11 9 rfl rfl)
theorem dX1_errors_265 : decode cX1_errors 265 = .ok (.goto (-57), 3) := dk_167 255 199 (dk_at dksX1_errors_11 12 rfl rfl)
theorem dX1_errors_268 : decode cX1_errors 268 = .ok (.iinc 3 1, 3) := dk_132 3 1 (dk_at dksX1_errors_11 15 rfl rfl)
theorem dX1_errors_271 : decode cX1_errors 271 = .ok (.goto (-80), 3) := dk_167 255 176 (dk_at dksX1_errors_11 18 rfl rfl)
theorem dX1_errors_274 : decode cX1_errors 274 = .ok (.iload_n 2, 1) := dk_28 (dk_at dksX1_errors_11 21 rfl rfl)
theorem dX1_errors_275 : decode cX1_errors 275 = .ok (.ireturn, 1) := dk_172 (dk_at dksX1_errors_11 22 rfl rfl)
abbrev cX1_isSame : ByteArray := prog_1_method_52_code
def yX1_isSame : MethodName := ⟨RX1, "isSame", "(LCheckoutDesk$Version;LCheckoutDesk$Version;)Z"⟩
def dkwX1_isSame_4 : List UInt8 := [132, 3, 1, 167, 255, 225, 28, 172]
abbrev dktX1_isSame_4 : List UInt8 := dkwX1_isSame_4 ++ []
def dkwX1_isSame_3 : List UInt8 := [42, 180, 0, 211, 29, 46, 43, 180, 0, 211, 29, 46, 160, 0, 7, 4, 167, 0, 4, 3, 126, 61]
abbrev dktX1_isSame_3 : List UInt8 := dkwX1_isSame_3 ++ dktX1_isSame_4
def dkwX1_isSame_2 : List UInt8 := [180, 1, 54, 43, 180, 1, 54, 160, 0, 7, 4, 167, 0, 4, 3, 61, 3, 62, 29, 6, 163, 0, 32, 28]
abbrev dktX1_isSame_2 : List UInt8 := dkwX1_isSame_2 ++ dktX1_isSame_3
def dkwX1_isSame_1 : List UInt8 := [180, 0, 202, 43, 180, 0, 202, 160, 0, 29, 42, 180, 0, 205, 43, 180, 0, 205, 160, 0, 18, 42]
abbrev dktX1_isSame_1 : List UInt8 := dkwX1_isSame_1 ++ dktX1_isSame_2
def dkwX1_isSame_0 : List UInt8 := [42, 180, 0, 195, 43, 180, 0, 195, 160, 0, 51, 42, 180, 0, 200, 43, 180, 0, 200, 160, 0, 40, 42]
abbrev dktX1_isSame_0 : List UInt8 := dkwX1_isSame_0 ++ dktX1_isSame_1
theorem dksX1_isSame_0 : cX1_isSame.data.toList.drop 0 = dktX1_isSame_0 := by decide +kernel
theorem dksX1_isSame_1 : cX1_isSame.data.toList.drop 23 = dktX1_isSame_1 := dk_seg dksX1_isSame_0 23 rfl rfl
theorem dksX1_isSame_2 : cX1_isSame.data.toList.drop 45 = dktX1_isSame_2 := dk_seg dksX1_isSame_1 22 rfl rfl
theorem dksX1_isSame_3 : cX1_isSame.data.toList.drop 69 = dktX1_isSame_3 := dk_seg dksX1_isSame_2 24 rfl rfl
theorem dksX1_isSame_4 : cX1_isSame.data.toList.drop 91 = dktX1_isSame_4 := dk_seg dksX1_isSame_3 22 rfl rfl
theorem dX1_isSame_0 : decode cX1_isSame 0 = .ok (.aload_n 0, 1) := dk_42 (dk_at dksX1_isSame_0 0 rfl rfl)
theorem dX1_isSame_1 : decode cX1_isSame 1 = .ok (.getfield 195, 3) := dk_180 0 195 (dk_at dksX1_isSame_0 1 rfl rfl)
theorem dX1_isSame_4 : decode cX1_isSame 4 = .ok (.aload_n 1, 1) := dk_43 (dk_at dksX1_isSame_0 4 rfl rfl)
theorem dX1_isSame_5 : decode cX1_isSame 5 = .ok (.getfield 195, 3) := dk_180 0 195 (dk_at dksX1_isSame_0 5 rfl rfl)
theorem dX1_isSame_8 : decode cX1_isSame 8 = .ok (.if_icmp .ne 51, 3) := dk_160 0 51 (dk_at dksX1_isSame_0 8 rfl rfl)
theorem dX1_isSame_11 : decode cX1_isSame 11 = .ok (.aload_n 0, 1) := dk_42 (dk_at dksX1_isSame_0 11 rfl rfl)
theorem dX1_isSame_12 : decode cX1_isSame 12 = .ok (.getfield 200, 3) := dk_180 0 200 (dk_at dksX1_isSame_0 12 rfl rfl)
theorem dX1_isSame_15 : decode cX1_isSame 15 = .ok (.aload_n 1, 1) := dk_43 (dk_at dksX1_isSame_0 15 rfl rfl)
theorem dX1_isSame_16 : decode cX1_isSame 16 = .ok (.getfield 200, 3) := dk_180 0 200 (dk_at dksX1_isSame_0 16 rfl rfl)
theorem dX1_isSame_19 : decode cX1_isSame 19 = .ok (.if_icmp .ne 40, 3) := dk_160 0 40 (dk_at dksX1_isSame_0 19 rfl rfl)
theorem dX1_isSame_22 : decode cX1_isSame 22 = .ok (.aload_n 0, 1) := dk_42 (dk_at dksX1_isSame_0 22 rfl rfl)
theorem dX1_isSame_23 : decode cX1_isSame 23 = .ok (.getfield 202, 3) := dk_180 0 202 (dk_at dksX1_isSame_1 0 rfl rfl)
theorem dX1_isSame_26 : decode cX1_isSame 26 = .ok (.aload_n 1, 1) := dk_43 (dk_at dksX1_isSame_1 3 rfl rfl)
theorem dX1_isSame_27 : decode cX1_isSame 27 = .ok (.getfield 202, 3) := dk_180 0 202 (dk_at dksX1_isSame_1 4 rfl rfl)
theorem dX1_isSame_30 : decode cX1_isSame 30 = .ok (.if_icmp .ne 29, 3) := dk_160 0 29 (dk_at dksX1_isSame_1 7 rfl rfl)
theorem dX1_isSame_33 : decode cX1_isSame 33 = .ok (.aload_n 0, 1) := dk_42 (dk_at dksX1_isSame_1 10 rfl rfl)
theorem dX1_isSame_34 : decode cX1_isSame 34 = .ok (.getfield 205, 3) := dk_180 0 205 (dk_at dksX1_isSame_1 11 rfl rfl)
theorem dX1_isSame_37 : decode cX1_isSame 37 = .ok (.aload_n 1, 1) := dk_43 (dk_at dksX1_isSame_1 14 rfl rfl)
theorem dX1_isSame_38 : decode cX1_isSame 38 = .ok (.getfield 205, 3) := dk_180 0 205 (dk_at dksX1_isSame_1 15 rfl rfl)
theorem dX1_isSame_41 : decode cX1_isSame 41 = .ok (.if_icmp .ne 18, 3) := dk_160 0 18 (dk_at dksX1_isSame_1 18 rfl rfl)
theorem dX1_isSame_44 : decode cX1_isSame 44 = .ok (.aload_n 0, 1) := dk_42 (dk_at dksX1_isSame_1 21 rfl rfl)
theorem dX1_isSame_45 : decode cX1_isSame 45 = .ok (.getfield 310, 3) := dk_180 1 54 (dk_at dksX1_isSame_2 0 rfl rfl)
theorem dX1_isSame_48 : decode cX1_isSame 48 = .ok (.aload_n 1, 1) := dk_43 (dk_at dksX1_isSame_2 3 rfl rfl)
theorem dX1_isSame_49 : decode cX1_isSame 49 = .ok (.getfield 310, 3) := dk_180 1 54 (dk_at dksX1_isSame_2 4 rfl rfl)
theorem dX1_isSame_52 : decode cX1_isSame 52 = .ok (.if_icmp .ne 7, 3) := dk_160 0 7 (dk_at dksX1_isSame_2 7 rfl rfl)
theorem dX1_isSame_55 : decode cX1_isSame 55 = .ok (.iconst 1, 1) := dk_4 (dk_at dksX1_isSame_2 10 rfl rfl)
theorem dX1_isSame_56 : decode cX1_isSame 56 = .ok (.goto 4, 3) := dk_167 0 4 (dk_at dksX1_isSame_2 11 rfl rfl)
theorem dX1_isSame_59 : decode cX1_isSame 59 = .ok (.iconst 0, 1) := dk_3 (dk_at dksX1_isSame_2 14 rfl rfl)
theorem dX1_isSame_60 : decode cX1_isSame 60 = .ok (.istore_n 2, 1) := dk_61 (dk_at dksX1_isSame_2 15 rfl rfl)
theorem dX1_isSame_61 : decode cX1_isSame 61 = .ok (.iconst 0, 1) := dk_3 (dk_at dksX1_isSame_2 16 rfl rfl)
theorem dX1_isSame_62 : decode cX1_isSame 62 = .ok (.istore_n 3, 1) := dk_62 (dk_at dksX1_isSame_2 17 rfl rfl)
theorem dX1_isSame_63 : decode cX1_isSame 63 = .ok (.iload_n 3, 1) := dk_29 (dk_at dksX1_isSame_2 18 rfl rfl)
theorem dX1_isSame_64 : decode cX1_isSame 64 = .ok (.iconst 3, 1) := dk_6 (dk_at dksX1_isSame_2 19 rfl rfl)
theorem dX1_isSame_65 : decode cX1_isSame 65 = .ok (.if_icmp .gt 32, 3) := dk_163 0 32 (dk_at dksX1_isSame_2 20 rfl rfl)
theorem dX1_isSame_68 : decode cX1_isSame 68 = .ok (.iload_n 2, 1) := dk_28 (dk_at dksX1_isSame_2 23 rfl rfl)
theorem dX1_isSame_69 : decode cX1_isSame 69 = .ok (.aload_n 0, 1) := dk_42 (dk_at dksX1_isSame_3 0 rfl rfl)
theorem dX1_isSame_70 : decode cX1_isSame 70 = .ok (.getfield 211, 3) := dk_180 0 211 (dk_at dksX1_isSame_3 1 rfl rfl)
theorem dX1_isSame_73 : decode cX1_isSame 73 = .ok (.iload_n 3, 1) := dk_29 (dk_at dksX1_isSame_3 4 rfl rfl)
theorem dX1_isSame_74 : decode cX1_isSame 74 = .ok (.iaload, 1) := dk_46 (dk_at dksX1_isSame_3 5 rfl rfl)
theorem dX1_isSame_75 : decode cX1_isSame 75 = .ok (.aload_n 1, 1) := dk_43 (dk_at dksX1_isSame_3 6 rfl rfl)
theorem dX1_isSame_76 : decode cX1_isSame 76 = .ok (.getfield 211, 3) := dk_180 0 211 (dk_at dksX1_isSame_3 7 rfl rfl)
theorem dX1_isSame_79 : decode cX1_isSame 79 = .ok (.iload_n 3, 1) := dk_29 (dk_at dksX1_isSame_3 10 rfl rfl)
theorem dX1_isSame_80 : decode cX1_isSame 80 = .ok (.iaload, 1) := dk_46 (dk_at dksX1_isSame_3 11 rfl rfl)
theorem dX1_isSame_81 : decode cX1_isSame 81 = .ok (.if_icmp .ne 7, 3) := dk_160 0 7 (dk_at dksX1_isSame_3 12 rfl rfl)
theorem dX1_isSame_84 : decode cX1_isSame 84 = .ok (.iconst 1, 1) := dk_4 (dk_at dksX1_isSame_3 15 rfl rfl)
theorem dX1_isSame_85 : decode cX1_isSame 85 = .ok (.goto 4, 3) := dk_167 0 4 (dk_at dksX1_isSame_3 16 rfl rfl)
theorem dX1_isSame_88 : decode cX1_isSame 88 = .ok (.iconst 0, 1) := dk_3 (dk_at dksX1_isSame_3 19 rfl rfl)
theorem dX1_isSame_89 : decode cX1_isSame 89 = .ok (.iand, 1) := dk_126 (dk_at dksX1_isSame_3 20 rfl rfl)
theorem dX1_isSame_90 : decode cX1_isSame 90 = .ok (.istore_n 2, 1) := dk_61 (dk_at dksX1_isSame_3 21 rfl rfl)
theorem dX1_isSame_91 : decode cX1_isSame 91 = .ok (.iinc 3 1, 3) := dk_132 3 1 (dk_at dksX1_isSame_4 0 rfl rfl)
theorem dX1_isSame_94 : decode cX1_isSame 94 = .ok (.goto (-31), 3) := dk_167 255 225 (dk_at dksX1_isSame_4 3 rfl rfl)
theorem dX1_isSame_97 : decode cX1_isSame 97 = .ok (.iload_n 2, 1) := dk_28 (dk_at dksX1_isSame_4 6 rfl rfl)
theorem dX1_isSame_98 : decode cX1_isSame 98 = .ok (.ireturn, 1) := dk_172 (dk_at dksX1_isSame_4 7 rfl rfl)
abbrev cX1_holder : ByteArray := prog_1_method_37_code
def yX1_holder : MethodName := ⟨RX1, "holder", "(LCheckoutDesk$Branch;)I"⟩
def dkwX1_holder_0 : List UInt8 := [42, 180, 0, 118, 199, 0, 7, 2, 167, 0, 10, 42, 180, 0, 118, 180, 0, 124, 172]
abbrev dktX1_holder_0 : List UInt8 := dkwX1_holder_0 ++ []
theorem dksX1_holder_0 : cX1_holder.data.toList.drop 0 = dktX1_holder_0 := by decide +kernel
theorem dX1_holder_0 : decode cX1_holder 0 = .ok (.aload_n 0, 1) := dk_42 (dk_at dksX1_holder_0 0 rfl rfl)
theorem dX1_holder_1 : decode cX1_holder 1 = .ok (.getfield 118, 3) := dk_180 0 118 (dk_at dksX1_holder_0 1 rfl rfl)
theorem dX1_holder_4 : decode cX1_holder 4 = .ok (.ifnonnull 7, 3) := dk_199 0 7 (dk_at dksX1_holder_0 4 rfl rfl)
theorem dX1_holder_7 : decode cX1_holder 7 = .ok (.iconst (-1), 1) := dk_2 (dk_at dksX1_holder_0 7 rfl rfl)
theorem dX1_holder_8 : decode cX1_holder 8 = .ok (.goto 10, 3) := dk_167 0 10 (dk_at dksX1_holder_0 8 rfl rfl)
theorem dX1_holder_11 : decode cX1_holder 11 = .ok (.aload_n 0, 1) := dk_42 (dk_at dksX1_holder_0 11 rfl rfl)
theorem dX1_holder_12 : decode cX1_holder 12 = .ok (.getfield 118, 3) := dk_180 0 118 (dk_at dksX1_holder_0 12 rfl rfl)
theorem dX1_holder_15 : decode cX1_holder 15 = .ok (.getfield 124, 3) := dk_180 0 124 (dk_at dksX1_holder_0 15 rfl rfl)
theorem dX1_holder_18 : decode cX1_holder 18 = .ok (.ireturn, 1) := dk_172 (dk_at dksX1_holder_0 18 rfl rfl)
abbrev cX1_pass : ByteArray := prog_1_method_11_code
def yX1_pass : MethodName := ⟨RX1, "pass", "(I)I"⟩
def dkwX1_pass_0 : List UInt8 := [42, 187, 0, 87, 89, 42, 27, 183, 0, 89, 182, 0, 92, 172]
abbrev dktX1_pass_0 : List UInt8 := dkwX1_pass_0 ++ []
theorem dksX1_pass_0 : cX1_pass.data.toList.drop 0 = dktX1_pass_0 := by decide +kernel
theorem dX1_pass_0 : decode cX1_pass 0 = .ok (.aload_n 0, 1) := dk_42 (dk_at dksX1_pass_0 0 rfl rfl)
theorem dX1_pass_1 : decode cX1_pass 1 = .ok (.new 87, 3) := dk_187 0 87 (dk_at dksX1_pass_0 1 rfl rfl)
theorem dX1_pass_4 : decode cX1_pass 4 = .ok (.dup, 1) := dk_89 (dk_at dksX1_pass_0 4 rfl rfl)
theorem dX1_pass_5 : decode cX1_pass 5 = .ok (.aload_n 0, 1) := dk_42 (dk_at dksX1_pass_0 5 rfl rfl)
theorem dX1_pass_6 : decode cX1_pass 6 = .ok (.iload_n 1, 1) := dk_27 (dk_at dksX1_pass_0 6 rfl rfl)
theorem dX1_pass_7 : decode cX1_pass 7 = .ok (.invokespecial 89, 3) := dk_183 0 89 (dk_at dksX1_pass_0 7 rfl rfl)
theorem dX1_pass_10 : decode cX1_pass 10 = .ok (.invokevirtual 92, 3) := dk_182 0 92 (dk_at dksX1_pass_0 10 rfl rfl)
theorem dX1_pass_13 : decode cX1_pass 13 = .ok (.ireturn, 1) := dk_172 (dk_at dksX1_pass_0 13 rfl rfl)
abbrev cX1_done : ByteArray := prog_1_method_9_code
def yX1_done : MethodName := ⟨RX1, "done", "(LCheckoutDesk$Act;)I"⟩
def dkwX1_done_1 : List UInt8 := [180, 0, 73, 183, 0, 77, 182, 0, 80, 87, 28, 172]
abbrev dktX1_done_1 : List UInt8 := dkwX1_done_1 ++ []
def dkwX1_done_0 : List UInt8 := [43, 42, 180, 0, 61, 185, 0, 65, 2, 0, 61, 42, 180, 0, 54, 187, 0, 71, 89, 43, 42, 180, 0, 61]
abbrev dktX1_done_0 : List UInt8 := dkwX1_done_0 ++ dktX1_done_1
theorem dksX1_done_0 : cX1_done.data.toList.drop 0 = dktX1_done_0 := by decide +kernel
theorem dksX1_done_1 : cX1_done.data.toList.drop 24 = dktX1_done_1 := dk_seg dksX1_done_0 24 rfl rfl
theorem dX1_done_0 : decode cX1_done 0 = .ok (.aload_n 1, 1) := dk_43 (dk_at dksX1_done_0 0 rfl rfl)
theorem dX1_done_1 : decode cX1_done 1 = .ok (.aload_n 0, 1) := dk_42 (dk_at dksX1_done_0 1 rfl rfl)
theorem dX1_done_2 : decode cX1_done 2 = .ok (.getfield 61, 3) := dk_180 0 61 (dk_at dksX1_done_0 2 rfl rfl)
theorem dX1_done_5 : decode cX1_done 5 = .ok (.invokeinterface 65 2, 5) := by decide +kernel
theorem dX1_done_10 : decode cX1_done 10 = .ok (.istore_n 2, 1) := dk_61 (dk_at dksX1_done_0 10 rfl rfl)
theorem dX1_done_11 : decode cX1_done 11 = .ok (.aload_n 0, 1) := dk_42 (dk_at dksX1_done_0 11 rfl rfl)
theorem dX1_done_12 : decode cX1_done 12 = .ok (.getfield 54, 3) := dk_180 0 54 (dk_at dksX1_done_0 12 rfl rfl)
theorem dX1_done_15 : decode cX1_done 15 = .ok (.new 71, 3) := dk_187 0 71 (dk_at dksX1_done_0 15 rfl rfl)
theorem dX1_done_18 : decode cX1_done 18 = .ok (.dup, 1) := dk_89 (dk_at dksX1_done_0 18 rfl rfl)
theorem dX1_done_19 : decode cX1_done 19 = .ok (.aload_n 1, 1) := dk_43 (dk_at dksX1_done_0 19 rfl rfl)
theorem dX1_done_20 : decode cX1_done 20 = .ok (.aload_n 0, 1) := dk_42 (dk_at dksX1_done_0 20 rfl rfl)
theorem dX1_done_21 : decode cX1_done 21 = .ok (.getfield 61, 3) := dk_180 0 61 (dk_at dksX1_done_0 21 rfl rfl)
theorem dX1_done_24 : decode cX1_done 24 = .ok (.getfield 73, 3) := dk_180 0 73 (dk_at dksX1_done_1 0 rfl rfl)
theorem dX1_done_27 : decode cX1_done 27 = .ok (.invokespecial 77, 3) := dk_183 0 77 (dk_at dksX1_done_1 3 rfl rfl)
theorem dX1_done_30 : decode cX1_done 30 = .ok (.invokevirtual 80, 3) := dk_182 0 80 (dk_at dksX1_done_1 6 rfl rfl)
theorem dX1_done_33 : decode cX1_done 33 = .ok (.pop, 1) := dk_87 (dk_at dksX1_done_1 9 rfl rfl)
theorem dX1_done_34 : decode cX1_done 34 = .ok (.iload_n 2, 1) := dk_28 (dk_at dksX1_done_1 10 rfl rfl)
theorem dX1_done_35 : decode cX1_done 35 = .ok (.ireturn, 1) := dk_172 (dk_at dksX1_done_1 11 rfl rfl)
abbrev cX1_setLapse : ByteArray := prog_1_method_12_code
def yX1_setLapse : MethodName := ⟨RX1, "setLapse", "(I)I"⟩
def dkwX1_setLapse_0 : List UInt8 := [42, 187, 0, 96, 89, 42, 27, 183, 0, 98, 182, 0, 92, 172]
abbrev dktX1_setLapse_0 : List UInt8 := dkwX1_setLapse_0 ++ []
theorem dksX1_setLapse_0 : cX1_setLapse.data.toList.drop 0 = dktX1_setLapse_0 := by decide +kernel
theorem dX1_setLapse_0 : decode cX1_setLapse 0 = .ok (.aload_n 0, 1) := dk_42 (dk_at dksX1_setLapse_0 0 rfl rfl)
theorem dX1_setLapse_1 : decode cX1_setLapse 1 = .ok (.new 96, 3) := dk_187 0 96 (dk_at dksX1_setLapse_0 1 rfl rfl)
theorem dX1_setLapse_4 : decode cX1_setLapse 4 = .ok (.dup, 1) := dk_89 (dk_at dksX1_setLapse_0 4 rfl rfl)
theorem dX1_setLapse_5 : decode cX1_setLapse 5 = .ok (.aload_n 0, 1) := dk_42 (dk_at dksX1_setLapse_0 5 rfl rfl)
theorem dX1_setLapse_6 : decode cX1_setLapse 6 = .ok (.iload_n 1, 1) := dk_27 (dk_at dksX1_setLapse_0 6 rfl rfl)
theorem dX1_setLapse_7 : decode cX1_setLapse 7 = .ok (.invokespecial 98, 3) := dk_183 0 98 (dk_at dksX1_setLapse_0 7 rfl rfl)
theorem dX1_setLapse_10 : decode cX1_setLapse 10 = .ok (.invokevirtual 92, 3) := dk_182 0 92 (dk_at dksX1_setLapse_0 10 rfl rfl)
theorem dX1_setLapse_13 : decode cX1_setLapse 13 = .ok (.ireturn, 1) := dk_172 (dk_at dksX1_setLapse_0 13 rfl rfl)
abbrev cX1_create : ByteArray := prog_1_method_13_code
def yX1_create : MethodName := ⟨RX1, "create", "(II)I"⟩
def dkwX1_create_0 : List UInt8 := [42, 187, 0, 99, 89, 42, 27, 28, 183, 0, 101, 182, 0, 92, 172]
abbrev dktX1_create_0 : List UInt8 := dkwX1_create_0 ++ []
theorem dksX1_create_0 : cX1_create.data.toList.drop 0 = dktX1_create_0 := by decide +kernel
theorem dX1_create_0 : decode cX1_create 0 = .ok (.aload_n 0, 1) := dk_42 (dk_at dksX1_create_0 0 rfl rfl)
theorem dX1_create_1 : decode cX1_create 1 = .ok (.new 99, 3) := dk_187 0 99 (dk_at dksX1_create_0 1 rfl rfl)
theorem dX1_create_4 : decode cX1_create 4 = .ok (.dup, 1) := dk_89 (dk_at dksX1_create_0 4 rfl rfl)
theorem dX1_create_5 : decode cX1_create 5 = .ok (.aload_n 0, 1) := dk_42 (dk_at dksX1_create_0 5 rfl rfl)
theorem dX1_create_6 : decode cX1_create 6 = .ok (.iload_n 1, 1) := dk_27 (dk_at dksX1_create_0 6 rfl rfl)
theorem dX1_create_7 : decode cX1_create 7 = .ok (.iload_n 2, 1) := dk_28 (dk_at dksX1_create_0 7 rfl rfl)
theorem dX1_create_8 : decode cX1_create 8 = .ok (.invokespecial 101, 3) := dk_183 0 101 (dk_at dksX1_create_0 8 rfl rfl)
theorem dX1_create_11 : decode cX1_create 11 = .ok (.invokevirtual 92, 3) := dk_182 0 92 (dk_at dksX1_create_0 11 rfl rfl)
theorem dX1_create_14 : decode cX1_create 14 = .ok (.ireturn, 1) := dk_172 (dk_at dksX1_create_0 14 rfl rfl)
abbrev cX1_grant : ByteArray := prog_1_method_14_code
def yX1_grant : MethodName := ⟨RX1, "grant", "(IIII)I"⟩
def dkwX1_grant_0 : List UInt8 := [42, 187, 0, 104, 89, 42, 27, 28, 29, 21, 4, 183, 0, 106, 182, 0, 92, 172]
abbrev dktX1_grant_0 : List UInt8 := dkwX1_grant_0 ++ []
theorem dksX1_grant_0 : cX1_grant.data.toList.drop 0 = dktX1_grant_0 := by decide +kernel
theorem dX1_grant_0 : decode cX1_grant 0 = .ok (.aload_n 0, 1) := dk_42 (dk_at dksX1_grant_0 0 rfl rfl)
theorem dX1_grant_1 : decode cX1_grant 1 = .ok (.new 104, 3) := dk_187 0 104 (dk_at dksX1_grant_0 1 rfl rfl)
theorem dX1_grant_4 : decode cX1_grant 4 = .ok (.dup, 1) := dk_89 (dk_at dksX1_grant_0 4 rfl rfl)
theorem dX1_grant_5 : decode cX1_grant 5 = .ok (.aload_n 0, 1) := dk_42 (dk_at dksX1_grant_0 5 rfl rfl)
theorem dX1_grant_6 : decode cX1_grant 6 = .ok (.iload_n 1, 1) := dk_27 (dk_at dksX1_grant_0 6 rfl rfl)
theorem dX1_grant_7 : decode cX1_grant 7 = .ok (.iload_n 2, 1) := dk_28 (dk_at dksX1_grant_0 7 rfl rfl)
theorem dX1_grant_8 : decode cX1_grant 8 = .ok (.iload_n 3, 1) := dk_29 (dk_at dksX1_grant_0 8 rfl rfl)
theorem dX1_grant_9 : decode cX1_grant 9 = .ok (.iload 4, 2) := dk_21 4 (dk_at dksX1_grant_0 9 rfl rfl)
theorem dX1_grant_11 : decode cX1_grant 11 = .ok (.invokespecial 106, 3) := dk_183 0 106 (dk_at dksX1_grant_0 11 rfl rfl)
theorem dX1_grant_14 : decode cX1_grant 14 = .ok (.invokevirtual 92, 3) := dk_182 0 92 (dk_at dksX1_grant_0 14 rfl rfl)
theorem dX1_grant_17 : decode cX1_grant 17 = .ok (.ireturn, 1) := dk_172 (dk_at dksX1_grant_0 17 rfl rfl)
abbrev cX1_checkOut : ByteArray := prog_1_method_15_code
def yX1_checkOut : MethodName := ⟨RX1, "checkOut", "(III)I"⟩
def dkwX1_checkOut_0 : List UInt8 := [42, 187, 0, 109, 89, 42, 27, 28, 29, 183, 0, 111, 182, 0, 92, 172]
abbrev dktX1_checkOut_0 : List UInt8 := dkwX1_checkOut_0 ++ []
theorem dksX1_checkOut_0 : cX1_checkOut.data.toList.drop 0 = dktX1_checkOut_0 := by decide +kernel
theorem dX1_checkOut_0 : decode cX1_checkOut 0 = .ok (.aload_n 0, 1) := dk_42 (dk_at dksX1_checkOut_0 0 rfl rfl)
theorem dX1_checkOut_1 : decode cX1_checkOut 1 = .ok (.new 109, 3) := dk_187 0 109 (dk_at dksX1_checkOut_0 1 rfl rfl)
theorem dX1_checkOut_4 : decode cX1_checkOut 4 = .ok (.dup, 1) := dk_89 (dk_at dksX1_checkOut_0 4 rfl rfl)
theorem dX1_checkOut_5 : decode cX1_checkOut 5 = .ok (.aload_n 0, 1) := dk_42 (dk_at dksX1_checkOut_0 5 rfl rfl)
theorem dX1_checkOut_6 : decode cX1_checkOut 6 = .ok (.iload_n 1, 1) := dk_27 (dk_at dksX1_checkOut_0 6 rfl rfl)
theorem dX1_checkOut_7 : decode cX1_checkOut 7 = .ok (.iload_n 2, 1) := dk_28 (dk_at dksX1_checkOut_0 7 rfl rfl)
theorem dX1_checkOut_8 : decode cX1_checkOut 8 = .ok (.iload_n 3, 1) := dk_29 (dk_at dksX1_checkOut_0 8 rfl rfl)
theorem dX1_checkOut_9 : decode cX1_checkOut 9 = .ok (.invokespecial 111, 3) := dk_183 0 111 (dk_at dksX1_checkOut_0 9 rfl rfl)
theorem dX1_checkOut_12 : decode cX1_checkOut 12 = .ok (.invokevirtual 92, 3) := dk_182 0 92 (dk_at dksX1_checkOut_0 12 rfl rfl)
theorem dX1_checkOut_15 : decode cX1_checkOut 15 = .ok (.ireturn, 1) := dk_172 (dk_at dksX1_checkOut_0 15 rfl rfl)
abbrev cX1_edit : ByteArray := prog_1_method_18_code
def yX1_edit : MethodName := ⟨RX1, "edit", "(IIIII)I"⟩
def dkwX1_edit_0 : List UInt8 := [42, 187, 0, 132, 89, 42, 27, 28, 29, 21, 4, 21, 5, 183, 0, 134, 182, 0, 92, 172]
abbrev dktX1_edit_0 : List UInt8 := dkwX1_edit_0 ++ []
theorem dksX1_edit_0 : cX1_edit.data.toList.drop 0 = dktX1_edit_0 := by decide +kernel
theorem dX1_edit_0 : decode cX1_edit 0 = .ok (.aload_n 0, 1) := dk_42 (dk_at dksX1_edit_0 0 rfl rfl)
theorem dX1_edit_1 : decode cX1_edit 1 = .ok (.new 132, 3) := dk_187 0 132 (dk_at dksX1_edit_0 1 rfl rfl)
theorem dX1_edit_4 : decode cX1_edit 4 = .ok (.dup, 1) := dk_89 (dk_at dksX1_edit_0 4 rfl rfl)
theorem dX1_edit_5 : decode cX1_edit 5 = .ok (.aload_n 0, 1) := dk_42 (dk_at dksX1_edit_0 5 rfl rfl)
theorem dX1_edit_6 : decode cX1_edit 6 = .ok (.iload_n 1, 1) := dk_27 (dk_at dksX1_edit_0 6 rfl rfl)
theorem dX1_edit_7 : decode cX1_edit 7 = .ok (.iload_n 2, 1) := dk_28 (dk_at dksX1_edit_0 7 rfl rfl)
theorem dX1_edit_8 : decode cX1_edit 8 = .ok (.iload_n 3, 1) := dk_29 (dk_at dksX1_edit_0 8 rfl rfl)
theorem dX1_edit_9 : decode cX1_edit 9 = .ok (.iload 4, 2) := dk_21 4 (dk_at dksX1_edit_0 9 rfl rfl)
theorem dX1_edit_11 : decode cX1_edit 11 = .ok (.iload 5, 2) := dk_21 5 (dk_at dksX1_edit_0 11 rfl rfl)
theorem dX1_edit_13 : decode cX1_edit 13 = .ok (.invokespecial 134, 3) := dk_183 0 134 (dk_at dksX1_edit_0 13 rfl rfl)
theorem dX1_edit_16 : decode cX1_edit 16 = .ok (.invokevirtual 92, 3) := dk_182 0 92 (dk_at dksX1_edit_0 16 rfl rfl)
theorem dX1_edit_19 : decode cX1_edit 19 = .ok (.ireturn, 1) := dk_172 (dk_at dksX1_edit_0 19 rfl rfl)
abbrev cX1_checkIn : ByteArray := prog_1_method_19_code
def yX1_checkIn : MethodName := ⟨RX1, "checkIn", "(IIIZ)I"⟩
def dkwX1_checkIn_0 : List UInt8 := [42, 187, 0, 137, 89, 42, 27, 28, 29, 21, 4, 183, 0, 139, 182, 0, 92, 172]
abbrev dktX1_checkIn_0 : List UInt8 := dkwX1_checkIn_0 ++ []
theorem dksX1_checkIn_0 : cX1_checkIn.data.toList.drop 0 = dktX1_checkIn_0 := by decide +kernel
theorem dX1_checkIn_0 : decode cX1_checkIn 0 = .ok (.aload_n 0, 1) := dk_42 (dk_at dksX1_checkIn_0 0 rfl rfl)
theorem dX1_checkIn_1 : decode cX1_checkIn 1 = .ok (.new 137, 3) := dk_187 0 137 (dk_at dksX1_checkIn_0 1 rfl rfl)
theorem dX1_checkIn_4 : decode cX1_checkIn 4 = .ok (.dup, 1) := dk_89 (dk_at dksX1_checkIn_0 4 rfl rfl)
theorem dX1_checkIn_5 : decode cX1_checkIn 5 = .ok (.aload_n 0, 1) := dk_42 (dk_at dksX1_checkIn_0 5 rfl rfl)
theorem dX1_checkIn_6 : decode cX1_checkIn 6 = .ok (.iload_n 1, 1) := dk_27 (dk_at dksX1_checkIn_0 6 rfl rfl)
theorem dX1_checkIn_7 : decode cX1_checkIn 7 = .ok (.iload_n 2, 1) := dk_28 (dk_at dksX1_checkIn_0 7 rfl rfl)
theorem dX1_checkIn_8 : decode cX1_checkIn 8 = .ok (.iload_n 3, 1) := dk_29 (dk_at dksX1_checkIn_0 8 rfl rfl)
theorem dX1_checkIn_9 : decode cX1_checkIn 9 = .ok (.iload 4, 2) := dk_21 4 (dk_at dksX1_checkIn_0 9 rfl rfl)
theorem dX1_checkIn_11 : decode cX1_checkIn 11 = .ok (.invokespecial 139, 3) := dk_183 0 139 (dk_at dksX1_checkIn_0 11 rfl rfl)
theorem dX1_checkIn_14 : decode cX1_checkIn 14 = .ok (.invokevirtual 92, 3) := dk_182 0 92 (dk_at dksX1_checkIn_0 14 rfl rfl)
theorem dX1_checkIn_17 : decode cX1_checkIn 17 = .ok (.ireturn, 1) := dk_172 (dk_at dksX1_checkIn_0 17 rfl rfl)
abbrev cX1_renew : ByteArray := prog_1_method_20_code
def yX1_renew : MethodName := ⟨RX1, "renew", "(III)I"⟩
def dkwX1_renew_0 : List UInt8 := [42, 187, 0, 142, 89, 42, 27, 28, 29, 183, 0, 144, 182, 0, 92, 172]
abbrev dktX1_renew_0 : List UInt8 := dkwX1_renew_0 ++ []
theorem dksX1_renew_0 : cX1_renew.data.toList.drop 0 = dktX1_renew_0 := by decide +kernel
theorem dX1_renew_0 : decode cX1_renew 0 = .ok (.aload_n 0, 1) := dk_42 (dk_at dksX1_renew_0 0 rfl rfl)
theorem dX1_renew_1 : decode cX1_renew 1 = .ok (.new 142, 3) := dk_187 0 142 (dk_at dksX1_renew_0 1 rfl rfl)
theorem dX1_renew_4 : decode cX1_renew 4 = .ok (.dup, 1) := dk_89 (dk_at dksX1_renew_0 4 rfl rfl)
theorem dX1_renew_5 : decode cX1_renew 5 = .ok (.aload_n 0, 1) := dk_42 (dk_at dksX1_renew_0 5 rfl rfl)
theorem dX1_renew_6 : decode cX1_renew 6 = .ok (.iload_n 1, 1) := dk_27 (dk_at dksX1_renew_0 6 rfl rfl)
theorem dX1_renew_7 : decode cX1_renew 7 = .ok (.iload_n 2, 1) := dk_28 (dk_at dksX1_renew_0 7 rfl rfl)
theorem dX1_renew_8 : decode cX1_renew 8 = .ok (.iload_n 3, 1) := dk_29 (dk_at dksX1_renew_0 8 rfl rfl)
theorem dX1_renew_9 : decode cX1_renew 9 = .ok (.invokespecial 144, 3) := dk_183 0 144 (dk_at dksX1_renew_0 9 rfl rfl)
theorem dX1_renew_12 : decode cX1_renew 12 = .ok (.invokevirtual 92, 3) := dk_182 0 92 (dk_at dksX1_renew_0 12 rfl rfl)
theorem dX1_renew_15 : decode cX1_renew 15 = .ok (.ireturn, 1) := dk_172 (dk_at dksX1_renew_0 15 rfl rfl)
abbrev cX1_cancel : ByteArray := prog_1_method_21_code
def yX1_cancel : MethodName := ⟨RX1, "cancel", "(III)I"⟩
def dkwX1_cancel_0 : List UInt8 := [42, 187, 0, 145, 89, 42, 27, 28, 29, 183, 0, 147, 182, 0, 92, 172]
abbrev dktX1_cancel_0 : List UInt8 := dkwX1_cancel_0 ++ []
theorem dksX1_cancel_0 : cX1_cancel.data.toList.drop 0 = dktX1_cancel_0 := by decide +kernel
theorem dX1_cancel_0 : decode cX1_cancel 0 = .ok (.aload_n 0, 1) := dk_42 (dk_at dksX1_cancel_0 0 rfl rfl)
theorem dX1_cancel_1 : decode cX1_cancel 1 = .ok (.new 145, 3) := dk_187 0 145 (dk_at dksX1_cancel_0 1 rfl rfl)
theorem dX1_cancel_4 : decode cX1_cancel 4 = .ok (.dup, 1) := dk_89 (dk_at dksX1_cancel_0 4 rfl rfl)
theorem dX1_cancel_5 : decode cX1_cancel 5 = .ok (.aload_n 0, 1) := dk_42 (dk_at dksX1_cancel_0 5 rfl rfl)
theorem dX1_cancel_6 : decode cX1_cancel 6 = .ok (.iload_n 1, 1) := dk_27 (dk_at dksX1_cancel_0 6 rfl rfl)
theorem dX1_cancel_7 : decode cX1_cancel 7 = .ok (.iload_n 2, 1) := dk_28 (dk_at dksX1_cancel_0 7 rfl rfl)
theorem dX1_cancel_8 : decode cX1_cancel 8 = .ok (.iload_n 3, 1) := dk_29 (dk_at dksX1_cancel_0 8 rfl rfl)
theorem dX1_cancel_9 : decode cX1_cancel 9 = .ok (.invokespecial 147, 3) := dk_183 0 147 (dk_at dksX1_cancel_0 9 rfl rfl)
theorem dX1_cancel_12 : decode cX1_cancel 12 = .ok (.invokevirtual 92, 3) := dk_182 0 92 (dk_at dksX1_cancel_0 12 rfl rfl)
theorem dX1_cancel_15 : decode cX1_cancel 15 = .ok (.ireturn, 1) := dk_172 (dk_at dksX1_cancel_0 15 rfl rfl)
abbrev cX1_promote : ByteArray := prog_1_method_22_code
def yX1_promote : MethodName := ⟨RX1, "promote", "(III)I"⟩
def dkwX1_promote_0 : List UInt8 := [42, 187, 0, 148, 89, 42, 27, 28, 29, 183, 0, 150, 182, 0, 92, 172]
abbrev dktX1_promote_0 : List UInt8 := dkwX1_promote_0 ++ []
theorem dksX1_promote_0 : cX1_promote.data.toList.drop 0 = dktX1_promote_0 := by decide +kernel
theorem dX1_promote_0 : decode cX1_promote 0 = .ok (.aload_n 0, 1) := dk_42 (dk_at dksX1_promote_0 0 rfl rfl)
theorem dX1_promote_1 : decode cX1_promote 1 = .ok (.new 148, 3) := dk_187 0 148 (dk_at dksX1_promote_0 1 rfl rfl)
theorem dX1_promote_4 : decode cX1_promote 4 = .ok (.dup, 1) := dk_89 (dk_at dksX1_promote_0 4 rfl rfl)
theorem dX1_promote_5 : decode cX1_promote 5 = .ok (.aload_n 0, 1) := dk_42 (dk_at dksX1_promote_0 5 rfl rfl)
theorem dX1_promote_6 : decode cX1_promote 6 = .ok (.iload_n 1, 1) := dk_27 (dk_at dksX1_promote_0 6 rfl rfl)
theorem dX1_promote_7 : decode cX1_promote 7 = .ok (.iload_n 2, 1) := dk_28 (dk_at dksX1_promote_0 7 rfl rfl)
theorem dX1_promote_8 : decode cX1_promote 8 = .ok (.iload_n 3, 1) := dk_29 (dk_at dksX1_promote_0 8 rfl rfl)
theorem dX1_promote_9 : decode cX1_promote 9 = .ok (.invokespecial 150, 3) := dk_183 0 150 (dk_at dksX1_promote_0 9 rfl rfl)
theorem dX1_promote_12 : decode cX1_promote 12 = .ok (.invokevirtual 92, 3) := dk_182 0 92 (dk_at dksX1_promote_0 12 rfl rfl)
theorem dX1_promote_15 : decode cX1_promote 15 = .ok (.ireturn, 1) := dk_172 (dk_at dksX1_promote_0 15 rfl rfl)
abbrev cX1_prune : ByteArray := prog_1_method_23_code
def yX1_prune : MethodName := ⟨RX1, "prune", "(III)I"⟩
def dkwX1_prune_0 : List UInt8 := [42, 187, 0, 151, 89, 42, 27, 28, 29, 183, 0, 153, 182, 0, 92, 172]
abbrev dktX1_prune_0 : List UInt8 := dkwX1_prune_0 ++ []
theorem dksX1_prune_0 : cX1_prune.data.toList.drop 0 = dktX1_prune_0 := by decide +kernel
theorem dX1_prune_0 : decode cX1_prune 0 = .ok (.aload_n 0, 1) := dk_42 (dk_at dksX1_prune_0 0 rfl rfl)
theorem dX1_prune_1 : decode cX1_prune 1 = .ok (.new 151, 3) := dk_187 0 151 (dk_at dksX1_prune_0 1 rfl rfl)
theorem dX1_prune_4 : decode cX1_prune 4 = .ok (.dup, 1) := dk_89 (dk_at dksX1_prune_0 4 rfl rfl)
theorem dX1_prune_5 : decode cX1_prune 5 = .ok (.aload_n 0, 1) := dk_42 (dk_at dksX1_prune_0 5 rfl rfl)
theorem dX1_prune_6 : decode cX1_prune 6 = .ok (.iload_n 1, 1) := dk_27 (dk_at dksX1_prune_0 6 rfl rfl)
theorem dX1_prune_7 : decode cX1_prune 7 = .ok (.iload_n 2, 1) := dk_28 (dk_at dksX1_prune_0 7 rfl rfl)
theorem dX1_prune_8 : decode cX1_prune 8 = .ok (.iload_n 3, 1) := dk_29 (dk_at dksX1_prune_0 8 rfl rfl)
theorem dX1_prune_9 : decode cX1_prune 9 = .ok (.invokespecial 153, 3) := dk_183 0 153 (dk_at dksX1_prune_0 9 rfl rfl)
theorem dX1_prune_12 : decode cX1_prune 12 = .ok (.invokevirtual 92, 3) := dk_182 0 92 (dk_at dksX1_prune_0 12 rfl rfl)
theorem dX1_prune_15 : decode cX1_prune 15 = .ok (.ireturn, 1) := dk_172 (dk_at dksX1_prune_0 15 rfl rfl)
abbrev cX1_branchOff : ByteArray := prog_1_method_24_code
def yX1_branchOff : MethodName := ⟨RX1, "branchOff", "(II)I"⟩
def dkwX1_branchOff_0 : List UInt8 := [42, 187, 0, 154, 89, 42, 27, 28, 183, 0, 156, 182, 0, 92, 172]
abbrev dktX1_branchOff_0 : List UInt8 := dkwX1_branchOff_0 ++ []
theorem dksX1_branchOff_0 : cX1_branchOff.data.toList.drop 0 = dktX1_branchOff_0 := by decide +kernel
theorem dX1_branchOff_0 : decode cX1_branchOff 0 = .ok (.aload_n 0, 1) := dk_42 (dk_at dksX1_branchOff_0 0 rfl rfl)
theorem dX1_branchOff_1 : decode cX1_branchOff 1 = .ok (.new 154, 3) := dk_187 0 154 (dk_at dksX1_branchOff_0 1 rfl rfl)
theorem dX1_branchOff_4 : decode cX1_branchOff 4 = .ok (.dup, 1) := dk_89 (dk_at dksX1_branchOff_0 4 rfl rfl)
theorem dX1_branchOff_5 : decode cX1_branchOff 5 = .ok (.aload_n 0, 1) := dk_42 (dk_at dksX1_branchOff_0 5 rfl rfl)
theorem dX1_branchOff_6 : decode cX1_branchOff 6 = .ok (.iload_n 1, 1) := dk_27 (dk_at dksX1_branchOff_0 6 rfl rfl)
theorem dX1_branchOff_7 : decode cX1_branchOff 7 = .ok (.iload_n 2, 1) := dk_28 (dk_at dksX1_branchOff_0 7 rfl rfl)
theorem dX1_branchOff_8 : decode cX1_branchOff 8 = .ok (.invokespecial 156, 3) := dk_183 0 156 (dk_at dksX1_branchOff_0 8 rfl rfl)
theorem dX1_branchOff_11 : decode cX1_branchOff 11 = .ok (.invokevirtual 92, 3) := dk_182 0 92 (dk_at dksX1_branchOff_0 11 rfl rfl)
theorem dX1_branchOff_14 : decode cX1_branchOff 14 = .ok (.ireturn, 1) := dk_172 (dk_at dksX1_branchOff_0 14 rfl rfl)
abbrev cX1_merge : ByteArray := prog_1_method_25_code
def yX1_merge : MethodName := ⟨RX1, "merge", "(III)I"⟩
def dkwX1_merge_0 : List UInt8 := [42, 187, 0, 157, 89, 42, 27, 28, 29, 183, 0, 159, 182, 0, 92, 172]
abbrev dktX1_merge_0 : List UInt8 := dkwX1_merge_0 ++ []
theorem dksX1_merge_0 : cX1_merge.data.toList.drop 0 = dktX1_merge_0 := by decide +kernel
theorem dX1_merge_0 : decode cX1_merge 0 = .ok (.aload_n 0, 1) := dk_42 (dk_at dksX1_merge_0 0 rfl rfl)
theorem dX1_merge_1 : decode cX1_merge 1 = .ok (.new 157, 3) := dk_187 0 157 (dk_at dksX1_merge_0 1 rfl rfl)
theorem dX1_merge_4 : decode cX1_merge 4 = .ok (.dup, 1) := dk_89 (dk_at dksX1_merge_0 4 rfl rfl)
theorem dX1_merge_5 : decode cX1_merge 5 = .ok (.aload_n 0, 1) := dk_42 (dk_at dksX1_merge_0 5 rfl rfl)
theorem dX1_merge_6 : decode cX1_merge 6 = .ok (.iload_n 1, 1) := dk_27 (dk_at dksX1_merge_0 6 rfl rfl)
theorem dX1_merge_7 : decode cX1_merge 7 = .ok (.iload_n 2, 1) := dk_28 (dk_at dksX1_merge_0 7 rfl rfl)
theorem dX1_merge_8 : decode cX1_merge 8 = .ok (.iload_n 3, 1) := dk_29 (dk_at dksX1_merge_0 8 rfl rfl)
theorem dX1_merge_9 : decode cX1_merge 9 = .ok (.invokespecial 159, 3) := dk_183 0 159 (dk_at dksX1_merge_0 9 rfl rfl)
theorem dX1_merge_12 : decode cX1_merge 12 = .ok (.invokevirtual 92, 3) := dk_182 0 92 (dk_at dksX1_merge_0 12 rfl rfl)
theorem dX1_merge_15 : decode cX1_merge 15 = .ok (.ireturn, 1) := dk_172 (dk_at dksX1_merge_0 15 rfl rfl)
abbrev cX1_linkVersion : ByteArray := prog_1_method_26_code
def yX1_linkVersion : MethodName := ⟨RX1, "linkVersion", "(III)I"⟩
def dkwX1_linkVersion_0 : List UInt8 := [42, 187, 0, 160, 89, 42, 27, 28, 29, 183, 0, 162, 182, 0, 92, 172]
abbrev dktX1_linkVersion_0 : List UInt8 := dkwX1_linkVersion_0 ++ []
theorem dksX1_linkVersion_0 : cX1_linkVersion.data.toList.drop 0 = dktX1_linkVersion_0 := by decide +kernel
theorem dX1_linkVersion_0 : decode cX1_linkVersion 0 = .ok (.aload_n 0, 1) := dk_42 (dk_at dksX1_linkVersion_0 0 rfl rfl)
theorem dX1_linkVersion_1 : decode cX1_linkVersion 1 = .ok (.new 160, 3) := dk_187 0 160 (dk_at dksX1_linkVersion_0 1 rfl rfl)
theorem dX1_linkVersion_4 : decode cX1_linkVersion 4 = .ok (.dup, 1) := dk_89 (dk_at dksX1_linkVersion_0 4 rfl rfl)
theorem dX1_linkVersion_5 : decode cX1_linkVersion 5 = .ok (.aload_n 0, 1) := dk_42 (dk_at dksX1_linkVersion_0 5 rfl rfl)
theorem dX1_linkVersion_6 : decode cX1_linkVersion 6 = .ok (.iload_n 1, 1) := dk_27 (dk_at dksX1_linkVersion_0 6 rfl rfl)
theorem dX1_linkVersion_7 : decode cX1_linkVersion 7 = .ok (.iload_n 2, 1) := dk_28 (dk_at dksX1_linkVersion_0 7 rfl rfl)
theorem dX1_linkVersion_8 : decode cX1_linkVersion 8 = .ok (.iload_n 3, 1) := dk_29 (dk_at dksX1_linkVersion_0 8 rfl rfl)
theorem dX1_linkVersion_9 : decode cX1_linkVersion 9 = .ok (.invokespecial 162, 3) := dk_183 0 162 (dk_at dksX1_linkVersion_0 9 rfl rfl)
theorem dX1_linkVersion_12 : decode cX1_linkVersion 12 = .ok (.invokevirtual 92, 3) := dk_182 0 92 (dk_at dksX1_linkVersion_0 12 rfl rfl)
theorem dX1_linkVersion_15 : decode cX1_linkVersion 15 = .ok (.ireturn, 1) := dk_172 (dk_at dksX1_linkVersion_0 15 rfl rfl)
abbrev cX1_linkDocument : ByteArray := prog_1_method_27_code
def yX1_linkDocument : MethodName := ⟨RX1, "linkDocument", "(IIII)I"⟩
def dkwX1_linkDocument_0 : List UInt8 := [42, 187, 0, 163, 89, 42, 27, 28, 29, 21, 4, 183, 0, 165, 182, 0, 92, 172]
abbrev dktX1_linkDocument_0 : List UInt8 := dkwX1_linkDocument_0 ++ []
theorem dksX1_linkDocument_0 : cX1_linkDocument.data.toList.drop 0 = dktX1_linkDocument_0 := by decide +kernel
theorem dX1_linkDocument_0 : decode cX1_linkDocument 0 = .ok (.aload_n 0, 1) := dk_42 (dk_at dksX1_linkDocument_0 0 rfl rfl)
theorem dX1_linkDocument_1 : decode cX1_linkDocument 1 = .ok (.new 163, 3) := dk_187 0 163 (dk_at dksX1_linkDocument_0 1 rfl rfl)
theorem dX1_linkDocument_4 : decode cX1_linkDocument 4 = .ok (.dup, 1) := dk_89 (dk_at dksX1_linkDocument_0 4 rfl rfl)
theorem dX1_linkDocument_5 : decode cX1_linkDocument 5 = .ok (.aload_n 0, 1) := dk_42 (dk_at dksX1_linkDocument_0 5 rfl rfl)
theorem dX1_linkDocument_6 : decode cX1_linkDocument 6 = .ok (.iload_n 1, 1) := dk_27 (dk_at dksX1_linkDocument_0 6 rfl rfl)
theorem dX1_linkDocument_7 : decode cX1_linkDocument 7 = .ok (.iload_n 2, 1) := dk_28 (dk_at dksX1_linkDocument_0 7 rfl rfl)
theorem dX1_linkDocument_8 : decode cX1_linkDocument 8 = .ok (.iload_n 3, 1) := dk_29 (dk_at dksX1_linkDocument_0 8 rfl rfl)
theorem dX1_linkDocument_9 : decode cX1_linkDocument 9 = .ok (.iload 4, 2) := dk_21 4 (dk_at dksX1_linkDocument_0 9 rfl rfl)
theorem dX1_linkDocument_11 : decode cX1_linkDocument 11 = .ok (.invokespecial 165, 3) := dk_183 0 165 (dk_at dksX1_linkDocument_0 11 rfl rfl)
theorem dX1_linkDocument_14 : decode cX1_linkDocument 14 = .ok (.invokevirtual 92, 3) := dk_182 0 92 (dk_at dksX1_linkDocument_0 14 rfl rfl)
theorem dX1_linkDocument_17 : decode cX1_linkDocument 17 = .ok (.ireturn, 1) := dk_172 (dk_at dksX1_linkDocument_0 17 rfl rfl)
abbrev cX1_unlink : ByteArray := prog_1_method_28_code
def yX1_unlink : MethodName := ⟨RX1, "unlink", "(II)I"⟩
def dkwX1_unlink_0 : List UInt8 := [42, 187, 0, 166, 89, 42, 27, 28, 183, 0, 168, 182, 0, 92, 172]
abbrev dktX1_unlink_0 : List UInt8 := dkwX1_unlink_0 ++ []
theorem dksX1_unlink_0 : cX1_unlink.data.toList.drop 0 = dktX1_unlink_0 := by decide +kernel
theorem dX1_unlink_0 : decode cX1_unlink 0 = .ok (.aload_n 0, 1) := dk_42 (dk_at dksX1_unlink_0 0 rfl rfl)
theorem dX1_unlink_1 : decode cX1_unlink 1 = .ok (.new 166, 3) := dk_187 0 166 (dk_at dksX1_unlink_0 1 rfl rfl)
theorem dX1_unlink_4 : decode cX1_unlink 4 = .ok (.dup, 1) := dk_89 (dk_at dksX1_unlink_0 4 rfl rfl)
theorem dX1_unlink_5 : decode cX1_unlink 5 = .ok (.aload_n 0, 1) := dk_42 (dk_at dksX1_unlink_0 5 rfl rfl)
theorem dX1_unlink_6 : decode cX1_unlink 6 = .ok (.iload_n 1, 1) := dk_27 (dk_at dksX1_unlink_0 6 rfl rfl)
theorem dX1_unlink_7 : decode cX1_unlink 7 = .ok (.iload_n 2, 1) := dk_28 (dk_at dksX1_unlink_0 7 rfl rfl)
theorem dX1_unlink_8 : decode cX1_unlink 8 = .ok (.invokespecial 168, 3) := dk_183 0 168 (dk_at dksX1_unlink_0 8 rfl rfl)
theorem dX1_unlink_11 : decode cX1_unlink 11 = .ok (.invokevirtual 92, 3) := dk_182 0 92 (dk_at dksX1_unlink_0 11 rfl rfl)
theorem dX1_unlink_14 : decode cX1_unlink 14 = .ok (.ireturn, 1) := dk_172 (dk_at dksX1_unlink_0 14 rfl rfl)
abbrev cX1_branches : ByteArray := prog_1_method_31_code
def yX1_branches : MethodName := ⟨RX1, "branches", "(I)I"⟩
def dkwX1_branches_0 : List UInt8 := [42, 180, 0, 61, 27, 182, 0, 173, 180, 0, 177, 182, 0, 26, 172]
abbrev dktX1_branches_0 : List UInt8 := dkwX1_branches_0 ++ []
theorem dksX1_branches_0 : cX1_branches.data.toList.drop 0 = dktX1_branches_0 := by decide +kernel
theorem dX1_branches_0 : decode cX1_branches 0 = .ok (.aload_n 0, 1) := dk_42 (dk_at dksX1_branches_0 0 rfl rfl)
theorem dX1_branches_1 : decode cX1_branches 1 = .ok (.getfield 61, 3) := dk_180 0 61 (dk_at dksX1_branches_0 1 rfl rfl)
theorem dX1_branches_4 : decode cX1_branches 4 = .ok (.iload_n 1, 1) := dk_27 (dk_at dksX1_branches_0 4 rfl rfl)
theorem dX1_branches_5 : decode cX1_branches 5 = .ok (.invokevirtual 173, 3) := dk_182 0 173 (dk_at dksX1_branches_0 5 rfl rfl)
theorem dX1_branches_8 : decode cX1_branches 8 = .ok (.getfield 177, 3) := dk_180 0 177 (dk_at dksX1_branches_0 8 rfl rfl)
theorem dX1_branches_11 : decode cX1_branches 11 = .ok (.invokevirtual 26, 3) := dk_182 0 26 (dk_at dksX1_branches_0 11 rfl rfl)
theorem dX1_branches_14 : decode cX1_branches 14 = .ok (.ireturn, 1) := dk_172 (dk_at dksX1_branches_0 14 rfl rfl)
abbrev cX1_rightOf : ByteArray := prog_1_method_32_code
def yX1_rightOf : MethodName := ⟨RX1, "rightOf", "(II)I"⟩
def dkwX1_rightOf_0 : List UInt8 := [27, 184, 0, 182, 42, 180, 0, 61, 28, 182, 0, 173, 180, 0, 186, 27, 46, 172]
abbrev dktX1_rightOf_0 : List UInt8 := dkwX1_rightOf_0 ++ []
theorem dksX1_rightOf_0 : cX1_rightOf.data.toList.drop 0 = dktX1_rightOf_0 := by decide +kernel
theorem dX1_rightOf_0 : decode cX1_rightOf 0 = .ok (.iload_n 1, 1) := dk_27 (dk_at dksX1_rightOf_0 0 rfl rfl)
theorem dX1_rightOf_1 : decode cX1_rightOf 1 = .ok (.invokestatic 182, 3) := dk_184 0 182 (dk_at dksX1_rightOf_0 1 rfl rfl)
theorem dX1_rightOf_4 : decode cX1_rightOf 4 = .ok (.aload_n 0, 1) := dk_42 (dk_at dksX1_rightOf_0 4 rfl rfl)
theorem dX1_rightOf_5 : decode cX1_rightOf 5 = .ok (.getfield 61, 3) := dk_180 0 61 (dk_at dksX1_rightOf_0 5 rfl rfl)
theorem dX1_rightOf_8 : decode cX1_rightOf 8 = .ok (.iload_n 2, 1) := dk_28 (dk_at dksX1_rightOf_0 8 rfl rfl)
theorem dX1_rightOf_9 : decode cX1_rightOf 9 = .ok (.invokevirtual 173, 3) := dk_182 0 173 (dk_at dksX1_rightOf_0 9 rfl rfl)
theorem dX1_rightOf_12 : decode cX1_rightOf 12 = .ok (.getfield 186, 3) := dk_180 0 186 (dk_at dksX1_rightOf_0 12 rfl rfl)
theorem dX1_rightOf_15 : decode cX1_rightOf 15 = .ok (.iload_n 1, 1) := dk_27 (dk_at dksX1_rightOf_0 15 rfl rfl)
theorem dX1_rightOf_16 : decode cX1_rightOf 16 = .ok (.iaload, 1) := dk_46 (dk_at dksX1_rightOf_0 16 rfl rfl)
theorem dX1_rightOf_17 : decode cX1_rightOf 17 = .ok (.ireturn, 1) := dk_172 (dk_at dksX1_rightOf_0 17 rfl rfl)
abbrev cX1_numberOf : ByteArray := prog_1_method_33_code
def yX1_numberOf : MethodName := ⟨RX1, "numberOf", "(I)I"⟩
def dkwX1_numberOf_1 : List UInt8 := [16, 100, 44, 180, 0, 202, 104, 96, 44, 180, 0, 205, 96, 172]
abbrev dktX1_numberOf_1 : List UInt8 := dkwX1_numberOf_1 ++ []
def dkwX1_numberOf_0 : List UInt8 := [42, 180, 0, 61, 27, 182, 0, 190, 77, 18, 194, 44, 180, 0, 195, 104, 18, 199, 44, 180, 0, 200, 104, 96]
abbrev dktX1_numberOf_0 : List UInt8 := dkwX1_numberOf_0 ++ dktX1_numberOf_1
theorem dksX1_numberOf_0 : cX1_numberOf.data.toList.drop 0 = dktX1_numberOf_0 := by decide +kernel
theorem dksX1_numberOf_1 : cX1_numberOf.data.toList.drop 24 = dktX1_numberOf_1 := dk_seg dksX1_numberOf_0 24 rfl rfl
theorem dX1_numberOf_0 : decode cX1_numberOf 0 = .ok (.aload_n 0, 1) := dk_42 (dk_at dksX1_numberOf_0 0 rfl rfl)
theorem dX1_numberOf_1 : decode cX1_numberOf 1 = .ok (.getfield 61, 3) := dk_180 0 61 (dk_at dksX1_numberOf_0 1 rfl rfl)
theorem dX1_numberOf_4 : decode cX1_numberOf 4 = .ok (.iload_n 1, 1) := dk_27 (dk_at dksX1_numberOf_0 4 rfl rfl)
theorem dX1_numberOf_5 : decode cX1_numberOf 5 = .ok (.invokevirtual 190, 3) := dk_182 0 190 (dk_at dksX1_numberOf_0 5 rfl rfl)
theorem dX1_numberOf_8 : decode cX1_numberOf 8 = .ok (.astore_n 2, 1) := dk_77 (dk_at dksX1_numberOf_0 8 rfl rfl)
theorem dX1_numberOf_9 : decode cX1_numberOf 9 = .ok (.ldc 194, 2) := dk_18 194 (dk_at dksX1_numberOf_0 9 rfl rfl)
theorem dX1_numberOf_11 : decode cX1_numberOf 11 = .ok (.aload_n 2, 1) := dk_44 (dk_at dksX1_numberOf_0 11 rfl rfl)
theorem dX1_numberOf_12 : decode cX1_numberOf 12 = .ok (.getfield 195, 3) := dk_180 0 195 (dk_at dksX1_numberOf_0 12 rfl rfl)
theorem dX1_numberOf_15 : decode cX1_numberOf 15 = .ok (.imul, 1) := dk_104 (dk_at dksX1_numberOf_0 15 rfl rfl)
theorem dX1_numberOf_16 : decode cX1_numberOf 16 = .ok (.ldc 199, 2) := dk_18 199 (dk_at dksX1_numberOf_0 16 rfl rfl)
theorem dX1_numberOf_18 : decode cX1_numberOf 18 = .ok (.aload_n 2, 1) := dk_44 (dk_at dksX1_numberOf_0 18 rfl rfl)
theorem dX1_numberOf_19 : decode cX1_numberOf 19 = .ok (.getfield 200, 3) := dk_180 0 200 (dk_at dksX1_numberOf_0 19 rfl rfl)
theorem dX1_numberOf_22 : decode cX1_numberOf 22 = .ok (.imul, 1) := dk_104 (dk_at dksX1_numberOf_0 22 rfl rfl)
theorem dX1_numberOf_23 : decode cX1_numberOf 23 = .ok (.iadd, 1) := dk_96 (dk_at dksX1_numberOf_0 23 rfl rfl)
theorem dX1_numberOf_24 : decode cX1_numberOf 24 = .ok (.bipush 100, 2) := dk_16 100 (dk_at dksX1_numberOf_1 0 rfl rfl)
theorem dX1_numberOf_26 : decode cX1_numberOf 26 = .ok (.aload_n 2, 1) := dk_44 (dk_at dksX1_numberOf_1 2 rfl rfl)
theorem dX1_numberOf_27 : decode cX1_numberOf 27 = .ok (.getfield 202, 3) := dk_180 0 202 (dk_at dksX1_numberOf_1 3 rfl rfl)
theorem dX1_numberOf_30 : decode cX1_numberOf 30 = .ok (.imul, 1) := dk_104 (dk_at dksX1_numberOf_1 6 rfl rfl)
theorem dX1_numberOf_31 : decode cX1_numberOf 31 = .ok (.iadd, 1) := dk_96 (dk_at dksX1_numberOf_1 7 rfl rfl)
theorem dX1_numberOf_32 : decode cX1_numberOf 32 = .ok (.aload_n 2, 1) := dk_44 (dk_at dksX1_numberOf_1 8 rfl rfl)
theorem dX1_numberOf_33 : decode cX1_numberOf 33 = .ok (.getfield 205, 3) := dk_180 0 205 (dk_at dksX1_numberOf_1 9 rfl rfl)
theorem dX1_numberOf_36 : decode cX1_numberOf 36 = .ok (.iadd, 1) := dk_96 (dk_at dksX1_numberOf_1 12 rfl rfl)
theorem dX1_numberOf_37 : decode cX1_numberOf 37 = .ok (.ireturn, 1) := dk_172 (dk_at dksX1_numberOf_1 13 rfl rfl)
abbrev cX1_valueOf : ByteArray := prog_1_method_34_code
def yX1_valueOf : MethodName := ⟨RX1, "valueOf", "(II)I"⟩
def dkwX1_valueOf_1 : List UInt8 := [172]
abbrev dktX1_valueOf_1 : List UInt8 := dkwX1_valueOf_1 ++ []
def dkwX1_valueOf_0 : List UInt8 := [42, 180, 0, 61, 27, 182, 0, 190, 78, 28, 3, 6, 184, 0, 18, 184, 0, 208, 45, 180, 0, 211, 28, 46]
abbrev dktX1_valueOf_0 : List UInt8 := dkwX1_valueOf_0 ++ dktX1_valueOf_1
theorem dksX1_valueOf_0 : cX1_valueOf.data.toList.drop 0 = dktX1_valueOf_0 := by decide +kernel
theorem dksX1_valueOf_1 : cX1_valueOf.data.toList.drop 24 = dktX1_valueOf_1 := dk_seg dksX1_valueOf_0 24 rfl rfl
theorem dX1_valueOf_0 : decode cX1_valueOf 0 = .ok (.aload_n 0, 1) := dk_42 (dk_at dksX1_valueOf_0 0 rfl rfl)
theorem dX1_valueOf_1 : decode cX1_valueOf 1 = .ok (.getfield 61, 3) := dk_180 0 61 (dk_at dksX1_valueOf_0 1 rfl rfl)
theorem dX1_valueOf_4 : decode cX1_valueOf 4 = .ok (.iload_n 1, 1) := dk_27 (dk_at dksX1_valueOf_0 4 rfl rfl)
theorem dX1_valueOf_5 : decode cX1_valueOf 5 = .ok (.invokevirtual 190, 3) := dk_182 0 190 (dk_at dksX1_valueOf_0 5 rfl rfl)
theorem dX1_valueOf_8 : decode cX1_valueOf 8 = .ok (.astore_n 3, 1) := dk_78 (dk_at dksX1_valueOf_0 8 rfl rfl)
theorem dX1_valueOf_9 : decode cX1_valueOf 9 = .ok (.iload_n 2, 1) := dk_28 (dk_at dksX1_valueOf_0 9 rfl rfl)
theorem dX1_valueOf_10 : decode cX1_valueOf 10 = .ok (.iconst 0, 1) := dk_3 (dk_at dksX1_valueOf_0 10 rfl rfl)
theorem dX1_valueOf_11 : decode cX1_valueOf 11 = .ok (.iconst 3, 1) := dk_6 (dk_at dksX1_valueOf_0 11 rfl rfl)
theorem dX1_valueOf_12 : decode cX1_valueOf 12 = .ok (.invokestatic 18, 3) := dk_184 0 18 (dk_at dksX1_valueOf_0 12 rfl rfl)
theorem dX1_valueOf_15 : decode cX1_valueOf 15 = .ok (.invokestatic 208, 3) := dk_184 0 208 (dk_at dksX1_valueOf_0 15 rfl rfl)
theorem dX1_valueOf_18 : decode cX1_valueOf 18 = .ok (.aload_n 3, 1) := dk_45 (dk_at dksX1_valueOf_0 18 rfl rfl)
theorem dX1_valueOf_19 : decode cX1_valueOf 19 = .ok (.getfield 211, 3) := dk_180 0 211 (dk_at dksX1_valueOf_0 19 rfl rfl)
theorem dX1_valueOf_22 : decode cX1_valueOf 22 = .ok (.iload_n 2, 1) := dk_28 (dk_at dksX1_valueOf_0 22 rfl rfl)
theorem dX1_valueOf_23 : decode cX1_valueOf 23 = .ok (.iaload, 1) := dk_46 (dk_at dksX1_valueOf_0 23 rfl rfl)
theorem dX1_valueOf_24 : decode cX1_valueOf 24 = .ok (.ireturn, 1) := dk_172 (dk_at dksX1_valueOf_1 0 rfl rfl)
abbrev cX1_newest : ByteArray := prog_1_method_35_code
def yX1_newest : MethodName := ⟨RX1, "newest", "(II)I"⟩
def dkwX1_newest_0 : List UInt8 := [42, 180, 0, 61, 27, 28, 182, 0, 114, 87, 42, 180, 0, 61, 27, 28, 182, 0, 214, 180, 0, 218, 172]
abbrev dktX1_newest_0 : List UInt8 := dkwX1_newest_0 ++ []
theorem dksX1_newest_0 : cX1_newest.data.toList.drop 0 = dktX1_newest_0 := by decide +kernel
theorem dX1_newest_0 : decode cX1_newest 0 = .ok (.aload_n 0, 1) := dk_42 (dk_at dksX1_newest_0 0 rfl rfl)
theorem dX1_newest_1 : decode cX1_newest 1 = .ok (.getfield 61, 3) := dk_180 0 61 (dk_at dksX1_newest_0 1 rfl rfl)
theorem dX1_newest_4 : decode cX1_newest 4 = .ok (.iload_n 1, 1) := dk_27 (dk_at dksX1_newest_0 4 rfl rfl)
theorem dX1_newest_5 : decode cX1_newest 5 = .ok (.iload_n 2, 1) := dk_28 (dk_at dksX1_newest_0 5 rfl rfl)
theorem dX1_newest_6 : decode cX1_newest 6 = .ok (.invokevirtual 114, 3) := dk_182 0 114 (dk_at dksX1_newest_0 6 rfl rfl)
theorem dX1_newest_9 : decode cX1_newest 9 = .ok (.pop, 1) := dk_87 (dk_at dksX1_newest_0 9 rfl rfl)
theorem dX1_newest_10 : decode cX1_newest 10 = .ok (.aload_n 0, 1) := dk_42 (dk_at dksX1_newest_0 10 rfl rfl)
theorem dX1_newest_11 : decode cX1_newest 11 = .ok (.getfield 61, 3) := dk_180 0 61 (dk_at dksX1_newest_0 11 rfl rfl)
theorem dX1_newest_14 : decode cX1_newest 14 = .ok (.iload_n 1, 1) := dk_27 (dk_at dksX1_newest_0 14 rfl rfl)
theorem dX1_newest_15 : decode cX1_newest 15 = .ok (.iload_n 2, 1) := dk_28 (dk_at dksX1_newest_0 15 rfl rfl)
theorem dX1_newest_16 : decode cX1_newest 16 = .ok (.invokevirtual 214, 3) := dk_182 0 214 (dk_at dksX1_newest_0 16 rfl rfl)
theorem dX1_newest_19 : decode cX1_newest 19 = .ok (.getfield 218, 3) := dk_180 0 218 (dk_at dksX1_newest_0 19 rfl rfl)
theorem dX1_newest_22 : decode cX1_newest 22 = .ok (.ireturn, 1) := dk_172 (dk_at dksX1_newest_0 22 rfl rfl)
abbrev cX1_originOf : ByteArray := prog_1_method_36_code
def yX1_originOf : MethodName := ⟨RX1, "originOf", "(II)I"⟩
def dkwX1_originOf_1 : List UInt8 := [180, 0, 218, 172]
abbrev dktX1_originOf_1 : List UInt8 := dkwX1_originOf_1 ++ []
def dkwX1_originOf_0 : List UInt8 := [42, 180, 0, 61, 27, 28, 182, 0, 114, 180, 0, 221, 78, 45, 199, 0, 7, 2, 167, 0, 7, 45]
abbrev dktX1_originOf_0 : List UInt8 := dkwX1_originOf_0 ++ dktX1_originOf_1
theorem dksX1_originOf_0 : cX1_originOf.data.toList.drop 0 = dktX1_originOf_0 := by decide +kernel
theorem dksX1_originOf_1 : cX1_originOf.data.toList.drop 22 = dktX1_originOf_1 := dk_seg dksX1_originOf_0 22 rfl rfl
theorem dX1_originOf_0 : decode cX1_originOf 0 = .ok (.aload_n 0, 1) := dk_42 (dk_at dksX1_originOf_0 0 rfl rfl)
theorem dX1_originOf_1 : decode cX1_originOf 1 = .ok (.getfield 61, 3) := dk_180 0 61 (dk_at dksX1_originOf_0 1 rfl rfl)
theorem dX1_originOf_4 : decode cX1_originOf 4 = .ok (.iload_n 1, 1) := dk_27 (dk_at dksX1_originOf_0 4 rfl rfl)
theorem dX1_originOf_5 : decode cX1_originOf 5 = .ok (.iload_n 2, 1) := dk_28 (dk_at dksX1_originOf_0 5 rfl rfl)
theorem dX1_originOf_6 : decode cX1_originOf 6 = .ok (.invokevirtual 114, 3) := dk_182 0 114 (dk_at dksX1_originOf_0 6 rfl rfl)
theorem dX1_originOf_9 : decode cX1_originOf 9 = .ok (.getfield 221, 3) := dk_180 0 221 (dk_at dksX1_originOf_0 9 rfl rfl)
theorem dX1_originOf_12 : decode cX1_originOf 12 = .ok (.astore_n 3, 1) := dk_78 (dk_at dksX1_originOf_0 12 rfl rfl)
theorem dX1_originOf_13 : decode cX1_originOf 13 = .ok (.aload_n 3, 1) := dk_45 (dk_at dksX1_originOf_0 13 rfl rfl)
theorem dX1_originOf_14 : decode cX1_originOf 14 = .ok (.ifnonnull 7, 3) := dk_199 0 7 (dk_at dksX1_originOf_0 14 rfl rfl)
theorem dX1_originOf_17 : decode cX1_originOf 17 = .ok (.iconst (-1), 1) := dk_2 (dk_at dksX1_originOf_0 17 rfl rfl)
theorem dX1_originOf_18 : decode cX1_originOf 18 = .ok (.goto 7, 3) := dk_167 0 7 (dk_at dksX1_originOf_0 18 rfl rfl)
theorem dX1_originOf_21 : decode cX1_originOf 21 = .ok (.aload_n 3, 1) := dk_45 (dk_at dksX1_originOf_0 21 rfl rfl)
theorem dX1_originOf_22 : decode cX1_originOf 22 = .ok (.getfield 218, 3) := dk_180 0 218 (dk_at dksX1_originOf_1 0 rfl rfl)
theorem dX1_originOf_25 : decode cX1_originOf 25 = .ok (.ireturn, 1) := dk_172 (dk_at dksX1_originOf_1 3 rfl rfl)
abbrev cX1_holder_2 : ByteArray := prog_1_method_38_code
def yX1_holder_2 : MethodName := ⟨RX1, "holder", "(II)I"⟩
def dkwX1_holder_2_0 : List UInt8 := [42, 180, 0, 61, 27, 28, 182, 0, 114, 184, 0, 225, 172]
abbrev dktX1_holder_2_0 : List UInt8 := dkwX1_holder_2_0 ++ []
theorem dksX1_holder_2_0 : cX1_holder_2.data.toList.drop 0 = dktX1_holder_2_0 := by decide +kernel
theorem dX1_holder_2_0 : decode cX1_holder_2 0 = .ok (.aload_n 0, 1) := dk_42 (dk_at dksX1_holder_2_0 0 rfl rfl)
theorem dX1_holder_2_1 : decode cX1_holder_2 1 = .ok (.getfield 61, 3) := dk_180 0 61 (dk_at dksX1_holder_2_0 1 rfl rfl)
theorem dX1_holder_2_4 : decode cX1_holder_2 4 = .ok (.iload_n 1, 1) := dk_27 (dk_at dksX1_holder_2_0 4 rfl rfl)
theorem dX1_holder_2_5 : decode cX1_holder_2 5 = .ok (.iload_n 2, 1) := dk_28 (dk_at dksX1_holder_2_0 5 rfl rfl)
theorem dX1_holder_2_6 : decode cX1_holder_2 6 = .ok (.invokevirtual 114, 3) := dk_182 0 114 (dk_at dksX1_holder_2_0 6 rfl rfl)
theorem dX1_holder_2_9 : decode cX1_holder_2 9 = .ok (.invokestatic 225, 3) := dk_184 0 225 (dk_at dksX1_holder_2_0 9 rfl rfl)
theorem dX1_holder_2_12 : decode cX1_holder_2 12 = .ok (.ireturn, 1) := dk_172 (dk_at dksX1_holder_2_0 12 rfl rfl)
abbrev cX1_hoursLeft : ByteArray := prog_1_method_39_code
def yX1_hoursLeft : MethodName := ⟨RX1, "hoursLeft", "(II)I"⟩
def dkwX1_hoursLeft_1 : List UInt8 := [180, 0, 228, 42, 180, 0, 61, 180, 0, 231, 96, 42, 180, 0, 61, 180, 0, 73, 100, 184, 0, 234, 172]
abbrev dktX1_hoursLeft_1 : List UInt8 := dkwX1_hoursLeft_1 ++ []
def dkwX1_hoursLeft_0 : List UInt8 := [42, 180, 0, 61, 27, 28, 182, 0, 114, 180, 0, 118, 78, 45, 199, 0, 7, 3, 167, 0, 27, 3, 45]
abbrev dktX1_hoursLeft_0 : List UInt8 := dkwX1_hoursLeft_0 ++ dktX1_hoursLeft_1
theorem dksX1_hoursLeft_0 : cX1_hoursLeft.data.toList.drop 0 = dktX1_hoursLeft_0 := by decide +kernel
theorem dksX1_hoursLeft_1 : cX1_hoursLeft.data.toList.drop 23 = dktX1_hoursLeft_1 := dk_seg dksX1_hoursLeft_0 23 rfl rfl
theorem dX1_hoursLeft_0 : decode cX1_hoursLeft 0 = .ok (.aload_n 0, 1) := dk_42 (dk_at dksX1_hoursLeft_0 0 rfl rfl)
theorem dX1_hoursLeft_1 : decode cX1_hoursLeft 1 = .ok (.getfield 61, 3) := dk_180 0 61 (dk_at dksX1_hoursLeft_0 1 rfl rfl)
theorem dX1_hoursLeft_4 : decode cX1_hoursLeft 4 = .ok (.iload_n 1, 1) := dk_27 (dk_at dksX1_hoursLeft_0 4 rfl rfl)
theorem dX1_hoursLeft_5 : decode cX1_hoursLeft 5 = .ok (.iload_n 2, 1) := dk_28 (dk_at dksX1_hoursLeft_0 5 rfl rfl)
theorem dX1_hoursLeft_6 : decode cX1_hoursLeft 6 = .ok (.invokevirtual 114, 3) := dk_182 0 114 (dk_at dksX1_hoursLeft_0 6 rfl rfl)
theorem dX1_hoursLeft_9 : decode cX1_hoursLeft 9 = .ok (.getfield 118, 3) := dk_180 0 118 (dk_at dksX1_hoursLeft_0 9 rfl rfl)
theorem dX1_hoursLeft_12 : decode cX1_hoursLeft 12 = .ok (.astore_n 3, 1) := dk_78 (dk_at dksX1_hoursLeft_0 12 rfl rfl)
theorem dX1_hoursLeft_13 : decode cX1_hoursLeft 13 = .ok (.aload_n 3, 1) := dk_45 (dk_at dksX1_hoursLeft_0 13 rfl rfl)
theorem dX1_hoursLeft_14 : decode cX1_hoursLeft 14 = .ok (.ifnonnull 7, 3) := dk_199 0 7 (dk_at dksX1_hoursLeft_0 14 rfl rfl)
theorem dX1_hoursLeft_17 : decode cX1_hoursLeft 17 = .ok (.iconst 0, 1) := dk_3 (dk_at dksX1_hoursLeft_0 17 rfl rfl)
theorem dX1_hoursLeft_18 : decode cX1_hoursLeft 18 = .ok (.goto 27, 3) := dk_167 0 27 (dk_at dksX1_hoursLeft_0 18 rfl rfl)
theorem dX1_hoursLeft_21 : decode cX1_hoursLeft 21 = .ok (.iconst 0, 1) := dk_3 (dk_at dksX1_hoursLeft_0 21 rfl rfl)
theorem dX1_hoursLeft_22 : decode cX1_hoursLeft 22 = .ok (.aload_n 3, 1) := dk_45 (dk_at dksX1_hoursLeft_0 22 rfl rfl)
theorem dX1_hoursLeft_23 : decode cX1_hoursLeft 23 = .ok (.getfield 228, 3) := dk_180 0 228 (dk_at dksX1_hoursLeft_1 0 rfl rfl)
theorem dX1_hoursLeft_26 : decode cX1_hoursLeft 26 = .ok (.aload_n 0, 1) := dk_42 (dk_at dksX1_hoursLeft_1 3 rfl rfl)
theorem dX1_hoursLeft_27 : decode cX1_hoursLeft 27 = .ok (.getfield 61, 3) := dk_180 0 61 (dk_at dksX1_hoursLeft_1 4 rfl rfl)
theorem dX1_hoursLeft_30 : decode cX1_hoursLeft 30 = .ok (.getfield 231, 3) := dk_180 0 231 (dk_at dksX1_hoursLeft_1 7 rfl rfl)
theorem dX1_hoursLeft_33 : decode cX1_hoursLeft 33 = .ok (.iadd, 1) := dk_96 (dk_at dksX1_hoursLeft_1 10 rfl rfl)
theorem dX1_hoursLeft_34 : decode cX1_hoursLeft 34 = .ok (.aload_n 0, 1) := dk_42 (dk_at dksX1_hoursLeft_1 11 rfl rfl)
theorem dX1_hoursLeft_35 : decode cX1_hoursLeft 35 = .ok (.getfield 61, 3) := dk_180 0 61 (dk_at dksX1_hoursLeft_1 12 rfl rfl)
theorem dX1_hoursLeft_38 : decode cX1_hoursLeft 38 = .ok (.getfield 73, 3) := dk_180 0 73 (dk_at dksX1_hoursLeft_1 15 rfl rfl)
theorem dX1_hoursLeft_41 : decode cX1_hoursLeft 41 = .ok (.isub, 1) := dk_100 (dk_at dksX1_hoursLeft_1 18 rfl rfl)
theorem dX1_hoursLeft_42 : decode cX1_hoursLeft 42 = .ok (.invokestatic 234, 3) := dk_184 0 234 (dk_at dksX1_hoursLeft_1 19 rfl rfl)
theorem dX1_hoursLeft_45 : decode cX1_hoursLeft 45 = .ok (.ireturn, 1) := dk_172 (dk_at dksX1_hoursLeft_1 22 rfl rfl)
abbrev cX1_maySee : ByteArray := prog_1_method_40_code
def yX1_maySee : MethodName := ⟨RX1, "maySee", "(II)Z"⟩
def dkwX1_maySee_0 : List UInt8 := [27, 184, 0, 182, 42, 180, 0, 61, 27, 42, 180, 0, 61, 28, 182, 0, 190, 182, 0, 240, 172]
abbrev dktX1_maySee_0 : List UInt8 := dkwX1_maySee_0 ++ []
theorem dksX1_maySee_0 : cX1_maySee.data.toList.drop 0 = dktX1_maySee_0 := by decide +kernel
theorem dX1_maySee_0 : decode cX1_maySee 0 = .ok (.iload_n 1, 1) := dk_27 (dk_at dksX1_maySee_0 0 rfl rfl)
theorem dX1_maySee_1 : decode cX1_maySee 1 = .ok (.invokestatic 182, 3) := dk_184 0 182 (dk_at dksX1_maySee_0 1 rfl rfl)
theorem dX1_maySee_4 : decode cX1_maySee 4 = .ok (.aload_n 0, 1) := dk_42 (dk_at dksX1_maySee_0 4 rfl rfl)
theorem dX1_maySee_5 : decode cX1_maySee 5 = .ok (.getfield 61, 3) := dk_180 0 61 (dk_at dksX1_maySee_0 5 rfl rfl)
theorem dX1_maySee_8 : decode cX1_maySee 8 = .ok (.iload_n 1, 1) := dk_27 (dk_at dksX1_maySee_0 8 rfl rfl)
theorem dX1_maySee_9 : decode cX1_maySee 9 = .ok (.aload_n 0, 1) := dk_42 (dk_at dksX1_maySee_0 9 rfl rfl)
theorem dX1_maySee_10 : decode cX1_maySee 10 = .ok (.getfield 61, 3) := dk_180 0 61 (dk_at dksX1_maySee_0 10 rfl rfl)
theorem dX1_maySee_13 : decode cX1_maySee 13 = .ok (.iload_n 2, 1) := dk_28 (dk_at dksX1_maySee_0 13 rfl rfl)
theorem dX1_maySee_14 : decode cX1_maySee 14 = .ok (.invokevirtual 190, 3) := dk_182 0 190 (dk_at dksX1_maySee_0 14 rfl rfl)
theorem dX1_maySee_17 : decode cX1_maySee 17 = .ok (.invokevirtual 240, 3) := dk_182 0 240 (dk_at dksX1_maySee_0 17 rfl rfl)
theorem dX1_maySee_20 : decode cX1_maySee 20 = .ok (.ireturn, 1) := dk_172 (dk_at dksX1_maySee_0 20 rfl rfl)
abbrev cX1_open : ByteArray := prog_1_method_41_code
def yX1_open : MethodName := ⟨RX1, "open", "(II)I"⟩
def dkwX1_open_2 : List UInt8 := [172]
abbrev dktX1_open_2 : List UInt8 := dkwX1_open_2 ++ []
def dkwX1_open_1 : List UInt8 := [28, 182, 0, 249, 58, 4, 25, 4, 198, 0, 7, 4, 167, 0, 4, 3, 184, 0, 253, 25, 4, 180, 0, 218]
abbrev dktX1_open_1 : List UInt8 := dkwX1_open_1 ++ dktX1_open_2
def dkwX1_open_0 : List UInt8 := [42, 180, 0, 61, 180, 0, 244, 27, 182, 0, 32, 192, 0, 247, 78, 28, 184, 0, 182, 42, 180, 0, 61, 45]
abbrev dktX1_open_0 : List UInt8 := dkwX1_open_0 ++ dktX1_open_1
theorem dksX1_open_0 : cX1_open.data.toList.drop 0 = dktX1_open_0 := by decide +kernel
theorem dksX1_open_1 : cX1_open.data.toList.drop 24 = dktX1_open_1 := dk_seg dksX1_open_0 24 rfl rfl
theorem dksX1_open_2 : cX1_open.data.toList.drop 48 = dktX1_open_2 := dk_seg dksX1_open_1 24 rfl rfl
theorem dX1_open_0 : decode cX1_open 0 = .ok (.aload_n 0, 1) := dk_42 (dk_at dksX1_open_0 0 rfl rfl)
theorem dX1_open_1 : decode cX1_open 1 = .ok (.getfield 61, 3) := dk_180 0 61 (dk_at dksX1_open_0 1 rfl rfl)
theorem dX1_open_4 : decode cX1_open 4 = .ok (.getfield 244, 3) := dk_180 0 244 (dk_at dksX1_open_0 4 rfl rfl)
theorem dX1_open_7 : decode cX1_open 7 = .ok (.iload_n 1, 1) := dk_27 (dk_at dksX1_open_0 7 rfl rfl)
theorem dX1_open_8 : decode cX1_open 8 = .ok (.invokevirtual 32, 3) := dk_182 0 32 (dk_at dksX1_open_0 8 rfl rfl)
theorem dX1_open_11 : decode cX1_open 11 = .ok (.checkcast 247, 3) := dk_192 0 247 (dk_at dksX1_open_0 11 rfl rfl)
theorem dX1_open_14 : decode cX1_open 14 = .ok (.astore_n 3, 1) := dk_78 (dk_at dksX1_open_0 14 rfl rfl)
theorem dX1_open_15 : decode cX1_open 15 = .ok (.iload_n 2, 1) := dk_28 (dk_at dksX1_open_0 15 rfl rfl)
theorem dX1_open_16 : decode cX1_open 16 = .ok (.invokestatic 182, 3) := dk_184 0 182 (dk_at dksX1_open_0 16 rfl rfl)
theorem dX1_open_19 : decode cX1_open 19 = .ok (.aload_n 0, 1) := dk_42 (dk_at dksX1_open_0 19 rfl rfl)
theorem dX1_open_20 : decode cX1_open 20 = .ok (.getfield 61, 3) := dk_180 0 61 (dk_at dksX1_open_0 20 rfl rfl)
theorem dX1_open_23 : decode cX1_open 23 = .ok (.aload_n 3, 1) := dk_45 (dk_at dksX1_open_0 23 rfl rfl)
theorem dX1_open_24 : decode cX1_open 24 = .ok (.iload_n 2, 1) := dk_28 (dk_at dksX1_open_1 0 rfl rfl)
theorem dX1_open_25 : decode cX1_open 25 = .ok (.invokevirtual 249, 3) := dk_182 0 249 (dk_at dksX1_open_1 1 rfl rfl)
theorem dX1_open_28 : decode cX1_open 28 = .ok (.astore 4, 2) := dk_58 4 (dk_at dksX1_open_1 4 rfl rfl)
theorem dX1_open_30 : decode cX1_open 30 = .ok (.aload 4, 2) := dk_25 4 (dk_at dksX1_open_1 6 rfl rfl)
theorem dX1_open_32 : decode cX1_open 32 = .ok (.ifnull 7, 3) := dk_198 0 7 (dk_at dksX1_open_1 8 rfl rfl)
theorem dX1_open_35 : decode cX1_open 35 = .ok (.iconst 1, 1) := dk_4 (dk_at dksX1_open_1 11 rfl rfl)
theorem dX1_open_36 : decode cX1_open 36 = .ok (.goto 4, 3) := dk_167 0 4 (dk_at dksX1_open_1 12 rfl rfl)
theorem dX1_open_39 : decode cX1_open 39 = .ok (.iconst 0, 1) := dk_3 (dk_at dksX1_open_1 15 rfl rfl)
theorem dX1_open_40 : decode cX1_open 40 = .ok (.invokestatic 253, 3) := dk_184 0 253 (dk_at dksX1_open_1 16 rfl rfl)
theorem dX1_open_43 : decode cX1_open 43 = .ok (.aload 4, 2) := dk_25 4 (dk_at dksX1_open_1 19 rfl rfl)
theorem dX1_open_45 : decode cX1_open 45 = .ok (.getfield 218, 3) := dk_180 0 218 (dk_at dksX1_open_1 21 rfl rfl)
theorem dX1_open_48 : decode cX1_open 48 = .ok (.ireturn, 1) := dk_172 (dk_at dksX1_open_2 0 rfl rfl)
abbrev cX1_requireElement : ByteArray := prog_1_method_5_code
def yX1_requireElement : MethodName := ⟨RX1, "requireElement", "(Z)V"⟩
def dkwX1_requireElement_0 : List UInt8 := [26, 154, 0, 11, 187, 0, 13, 89, 183, 0, 15, 191, 177]
abbrev dktX1_requireElement_0 : List UInt8 := dkwX1_requireElement_0 ++ []
theorem dksX1_requireElement_0 : cX1_requireElement.data.toList.drop 0 = dktX1_requireElement_0 := by decide +kernel
theorem dX1_requireElement_0 : decode cX1_requireElement 0 = .ok (.iload_n 0, 1) := dk_26 (dk_at dksX1_requireElement_0 0 rfl rfl)
theorem dX1_requireElement_1 : decode cX1_requireElement 1 = .ok (.ifCond .ne 11, 3) := dk_154 0 11 (dk_at dksX1_requireElement_0 1 rfl rfl)
theorem dX1_requireElement_4 : decode cX1_requireElement 4 = .ok (.new 13, 3) := dk_187 0 13 (dk_at dksX1_requireElement_0 4 rfl rfl)
theorem dX1_requireElement_7 : decode cX1_requireElement 7 = .ok (.dup, 1) := dk_89 (dk_at dksX1_requireElement_0 7 rfl rfl)
theorem dX1_requireElement_8 : decode cX1_requireElement 8 = .ok (.invokespecial 15, 3) := dk_183 0 15 (dk_at dksX1_requireElement_0 8 rfl rfl)
theorem dX1_requireElement_11 : decode cX1_requireElement 11 = .ok (.athrow, 1) := dk_191 (dk_at dksX1_requireElement_0 11 rfl rfl)
theorem dX1_requireElement_12 : decode cX1_requireElement 12 = .ok (.return_, 1) := dk_177 (dk_at dksX1_requireElement_0 12 rfl rfl)
abbrev cX1_linksTo : ByteArray := prog_1_method_42_code
def yX1_linksTo : MethodName := ⟨RX1, "linksTo", "(I)I"⟩
def dkwX1_linksTo_1 : List UInt8 := [42, 180, 0, 61, 180, 0, 244, 187, 1, 3, 89, 42, 29, 44, 183, 1, 5, 182, 1, 8, 172]
abbrev dktX1_linksTo_1 : List UInt8 := dkwX1_linksTo_1 ++ []
def dkwX1_linksTo_0 : List UInt8 := [42, 180, 0, 61, 27, 182, 0, 190, 77, 42, 180, 0, 61, 44, 180, 0, 195, 182, 0, 173, 180, 1, 0, 62]
abbrev dktX1_linksTo_0 : List UInt8 := dkwX1_linksTo_0 ++ dktX1_linksTo_1
theorem dksX1_linksTo_0 : cX1_linksTo.data.toList.drop 0 = dktX1_linksTo_0 := by decide +kernel
theorem dksX1_linksTo_1 : cX1_linksTo.data.toList.drop 24 = dktX1_linksTo_1 := dk_seg dksX1_linksTo_0 24 rfl rfl
theorem dX1_linksTo_0 : decode cX1_linksTo 0 = .ok (.aload_n 0, 1) := dk_42 (dk_at dksX1_linksTo_0 0 rfl rfl)
theorem dX1_linksTo_1 : decode cX1_linksTo 1 = .ok (.getfield 61, 3) := dk_180 0 61 (dk_at dksX1_linksTo_0 1 rfl rfl)
theorem dX1_linksTo_4 : decode cX1_linksTo 4 = .ok (.iload_n 1, 1) := dk_27 (dk_at dksX1_linksTo_0 4 rfl rfl)
theorem dX1_linksTo_5 : decode cX1_linksTo 5 = .ok (.invokevirtual 190, 3) := dk_182 0 190 (dk_at dksX1_linksTo_0 5 rfl rfl)
theorem dX1_linksTo_8 : decode cX1_linksTo 8 = .ok (.astore_n 2, 1) := dk_77 (dk_at dksX1_linksTo_0 8 rfl rfl)
theorem dX1_linksTo_9 : decode cX1_linksTo 9 = .ok (.aload_n 0, 1) := dk_42 (dk_at dksX1_linksTo_0 9 rfl rfl)
theorem dX1_linksTo_10 : decode cX1_linksTo 10 = .ok (.getfield 61, 3) := dk_180 0 61 (dk_at dksX1_linksTo_0 10 rfl rfl)
theorem dX1_linksTo_13 : decode cX1_linksTo 13 = .ok (.aload_n 2, 1) := dk_44 (dk_at dksX1_linksTo_0 13 rfl rfl)
theorem dX1_linksTo_14 : decode cX1_linksTo 14 = .ok (.getfield 195, 3) := dk_180 0 195 (dk_at dksX1_linksTo_0 14 rfl rfl)
theorem dX1_linksTo_17 : decode cX1_linksTo 17 = .ok (.invokevirtual 173, 3) := dk_182 0 173 (dk_at dksX1_linksTo_0 17 rfl rfl)
theorem dX1_linksTo_20 : decode cX1_linksTo 20 = .ok (.getfield 256, 3) := dk_180 1 0 (dk_at dksX1_linksTo_0 20 rfl rfl)
theorem dX1_linksTo_23 : decode cX1_linksTo 23 = .ok (.istore_n 3, 1) := dk_62 (dk_at dksX1_linksTo_0 23 rfl rfl)
theorem dX1_linksTo_24 : decode cX1_linksTo 24 = .ok (.aload_n 0, 1) := dk_42 (dk_at dksX1_linksTo_1 0 rfl rfl)
theorem dX1_linksTo_25 : decode cX1_linksTo 25 = .ok (.getfield 61, 3) := dk_180 0 61 (dk_at dksX1_linksTo_1 1 rfl rfl)
theorem dX1_linksTo_28 : decode cX1_linksTo 28 = .ok (.getfield 244, 3) := dk_180 0 244 (dk_at dksX1_linksTo_1 4 rfl rfl)
theorem dX1_linksTo_31 : decode cX1_linksTo 31 = .ok (.new 259, 3) := dk_187 1 3 (dk_at dksX1_linksTo_1 7 rfl rfl)
theorem dX1_linksTo_34 : decode cX1_linksTo 34 = .ok (.dup, 1) := dk_89 (dk_at dksX1_linksTo_1 10 rfl rfl)
theorem dX1_linksTo_35 : decode cX1_linksTo 35 = .ok (.aload_n 0, 1) := dk_42 (dk_at dksX1_linksTo_1 11 rfl rfl)
theorem dX1_linksTo_36 : decode cX1_linksTo 36 = .ok (.iload_n 3, 1) := dk_29 (dk_at dksX1_linksTo_1 12 rfl rfl)
theorem dX1_linksTo_37 : decode cX1_linksTo 37 = .ok (.aload_n 2, 1) := dk_44 (dk_at dksX1_linksTo_1 13 rfl rfl)
theorem dX1_linksTo_38 : decode cX1_linksTo 38 = .ok (.invokespecial 261, 3) := dk_183 1 5 (dk_at dksX1_linksTo_1 14 rfl rfl)
theorem dX1_linksTo_41 : decode cX1_linksTo 41 = .ok (.invokevirtual 264, 3) := dk_182 1 8 (dk_at dksX1_linksTo_1 17 rfl rfl)
theorem dX1_linksTo_44 : decode cX1_linksTo 44 = .ok (.ireturn, 1) := dk_172 (dk_at dksX1_linksTo_1 20 rfl rfl)
abbrev cX1_hourOf : ByteArray := prog_1_method_47_code
def yX1_hourOf : MethodName := ⟨RX1, "hourOf", "(I)I"⟩
def dkwX1_hourOf_1 : List UInt8 := [192, 0, 71, 180, 1, 30, 172]
abbrev dktX1_hourOf_1 : List UInt8 := dkwX1_hourOf_1 ++ []
def dkwX1_hourOf_0 : List UInt8 := [42, 27, 182, 1, 26, 27, 154, 0, 7, 3, 167, 0, 19, 42, 180, 0, 54, 27, 4, 100, 182, 1, 29]
abbrev dktX1_hourOf_0 : List UInt8 := dkwX1_hourOf_0 ++ dktX1_hourOf_1
theorem dksX1_hourOf_0 : cX1_hourOf.data.toList.drop 0 = dktX1_hourOf_0 := by decide +kernel
theorem dksX1_hourOf_1 : cX1_hourOf.data.toList.drop 23 = dktX1_hourOf_1 := dk_seg dksX1_hourOf_0 23 rfl rfl
theorem dX1_hourOf_0 : decode cX1_hourOf 0 = .ok (.aload_n 0, 1) := dk_42 (dk_at dksX1_hourOf_0 0 rfl rfl)
theorem dX1_hourOf_1 : decode cX1_hourOf 1 = .ok (.iload_n 1, 1) := dk_27 (dk_at dksX1_hourOf_0 1 rfl rfl)
theorem dX1_hourOf_2 : decode cX1_hourOf 2 = .ok (.invokevirtual 282, 3) := dk_182 1 26 (dk_at dksX1_hourOf_0 2 rfl rfl)
theorem dX1_hourOf_5 : decode cX1_hourOf 5 = .ok (.iload_n 1, 1) := dk_27 (dk_at dksX1_hourOf_0 5 rfl rfl)
theorem dX1_hourOf_6 : decode cX1_hourOf 6 = .ok (.ifCond .ne 7, 3) := dk_154 0 7 (dk_at dksX1_hourOf_0 6 rfl rfl)
theorem dX1_hourOf_9 : decode cX1_hourOf 9 = .ok (.iconst 0, 1) := dk_3 (dk_at dksX1_hourOf_0 9 rfl rfl)
theorem dX1_hourOf_10 : decode cX1_hourOf 10 = .ok (.goto 19, 3) := dk_167 0 19 (dk_at dksX1_hourOf_0 10 rfl rfl)
theorem dX1_hourOf_13 : decode cX1_hourOf 13 = .ok (.aload_n 0, 1) := dk_42 (dk_at dksX1_hourOf_0 13 rfl rfl)
theorem dX1_hourOf_14 : decode cX1_hourOf 14 = .ok (.getfield 54, 3) := dk_180 0 54 (dk_at dksX1_hourOf_0 14 rfl rfl)
theorem dX1_hourOf_17 : decode cX1_hourOf 17 = .ok (.iload_n 1, 1) := dk_27 (dk_at dksX1_hourOf_0 17 rfl rfl)
theorem dX1_hourOf_18 : decode cX1_hourOf 18 = .ok (.iconst 1, 1) := dk_4 (dk_at dksX1_hourOf_0 18 rfl rfl)
theorem dX1_hourOf_19 : decode cX1_hourOf 19 = .ok (.isub, 1) := dk_100 (dk_at dksX1_hourOf_0 19 rfl rfl)
theorem dX1_hourOf_20 : decode cX1_hourOf 20 = .ok (.invokevirtual 285, 3) := dk_182 1 29 (dk_at dksX1_hourOf_0 20 rfl rfl)
theorem dX1_hourOf_23 : decode cX1_hourOf 23 = .ok (.checkcast 71, 3) := dk_192 0 71 (dk_at dksX1_hourOf_1 0 rfl rfl)
theorem dX1_hourOf_26 : decode cX1_hourOf 26 = .ok (.getfield 286, 3) := dk_180 1 30 (dk_at dksX1_hourOf_1 3 rfl rfl)
theorem dX1_hourOf_29 : decode cX1_hourOf 29 = .ok (.ireturn, 1) := dk_172 (dk_at dksX1_hourOf_1 6 rfl rfl)
abbrev cX1_requireEvent : ByteArray := prog_1_method_46_code
def yX1_requireEvent : MethodName := ⟨RX1, "requireEvent", "(I)V"⟩
def dkwX1_requireEvent_0 : List UInt8 := [27, 3, 42, 180, 0, 54, 182, 0, 83, 184, 0, 18, 184, 0, 253, 177]
abbrev dktX1_requireEvent_0 : List UInt8 := dkwX1_requireEvent_0 ++ []
theorem dksX1_requireEvent_0 : cX1_requireEvent.data.toList.drop 0 = dktX1_requireEvent_0 := by decide +kernel
theorem dX1_requireEvent_0 : decode cX1_requireEvent 0 = .ok (.iload_n 1, 1) := dk_27 (dk_at dksX1_requireEvent_0 0 rfl rfl)
theorem dX1_requireEvent_1 : decode cX1_requireEvent 1 = .ok (.iconst 0, 1) := dk_3 (dk_at dksX1_requireEvent_0 1 rfl rfl)
theorem dX1_requireEvent_2 : decode cX1_requireEvent 2 = .ok (.aload_n 0, 1) := dk_42 (dk_at dksX1_requireEvent_0 2 rfl rfl)
theorem dX1_requireEvent_3 : decode cX1_requireEvent 3 = .ok (.getfield 54, 3) := dk_180 0 54 (dk_at dksX1_requireEvent_0 3 rfl rfl)
theorem dX1_requireEvent_6 : decode cX1_requireEvent 6 = .ok (.invokevirtual 83, 3) := dk_182 0 83 (dk_at dksX1_requireEvent_0 6 rfl rfl)
theorem dX1_requireEvent_9 : decode cX1_requireEvent 9 = .ok (.invokestatic 18, 3) := dk_184 0 18 (dk_at dksX1_requireEvent_0 9 rfl rfl)
theorem dX1_requireEvent_12 : decode cX1_requireEvent 12 = .ok (.invokestatic 253, 3) := dk_184 0 253 (dk_at dksX1_requireEvent_0 12 rfl rfl)
theorem dX1_requireEvent_15 : decode cX1_requireEvent 15 = .ok (.return_, 1) := dk_177 (dk_at dksX1_requireEvent_0 15 rfl rfl)
abbrev cX1_newestThen : ByteArray := prog_1_method_50_code
def yX1_newestThen : MethodName := ⟨RX1, "newestThen", "(III)I"⟩
def dkwX1_newestThen_3 : List UInt8 := [182, 1, 50, 25, 5, 191]
abbrev dktX1_newestThen_3 : List UInt8 := dkwX1_newestThen_3 ++ []
def dkwX1_newestThen_2 : List UInt8 := [21, 5, 172, 58, 5, 25, 4, 198, 0, 20, 25, 4, 182, 1, 45, 167, 0, 12, 58, 6, 25, 5, 25, 6]
abbrev dktX1_newestThen_2 : List UInt8 := dkwX1_newestThen_2 ++ dktX1_newestThen_3
def dkwX1_newestThen_1 : List UInt8 := [28, 29, 182, 0, 214, 180, 0, 218, 167, 0, 4, 2, 54, 5, 25, 4, 198, 0, 8, 25, 4, 182, 1, 45]
abbrev dktX1_newestThen_1 : List UInt8 := dkwX1_newestThen_1 ++ dktX1_newestThen_2
def dkwX1_newestThen_0 : List UInt8 := [42, 27, 182, 1, 26, 42, 27, 182, 1, 37, 58, 4, 25, 4, 28, 29, 184, 1, 41, 153, 0, 16, 25, 4]
abbrev dktX1_newestThen_0 : List UInt8 := dkwX1_newestThen_0 ++ dktX1_newestThen_1
theorem dksX1_newestThen_0 : cX1_newestThen.data.toList.drop 0 = dktX1_newestThen_0 := by decide +kernel
theorem dksX1_newestThen_1 : cX1_newestThen.data.toList.drop 24 = dktX1_newestThen_1 := dk_seg dksX1_newestThen_0 24 rfl rfl
theorem dksX1_newestThen_2 : cX1_newestThen.data.toList.drop 48 = dktX1_newestThen_2 := dk_seg dksX1_newestThen_1 24 rfl rfl
theorem dksX1_newestThen_3 : cX1_newestThen.data.toList.drop 72 = dktX1_newestThen_3 := dk_seg dksX1_newestThen_2 24 rfl rfl
theorem dX1_newestThen_0 : decode cX1_newestThen 0 = .ok (.aload_n 0, 1) := dk_42 (dk_at dksX1_newestThen_0 0 rfl rfl)
theorem dX1_newestThen_1 : decode cX1_newestThen 1 = .ok (.iload_n 1, 1) := dk_27 (dk_at dksX1_newestThen_0 1 rfl rfl)
theorem dX1_newestThen_2 : decode cX1_newestThen 2 = .ok (.invokevirtual 282, 3) := dk_182 1 26 (dk_at dksX1_newestThen_0 2 rfl rfl)
theorem dX1_newestThen_5 : decode cX1_newestThen 5 = .ok (.aload_n 0, 1) := dk_42 (dk_at dksX1_newestThen_0 5 rfl rfl)
theorem dX1_newestThen_6 : decode cX1_newestThen 6 = .ok (.iload_n 1, 1) := dk_27 (dk_at dksX1_newestThen_0 6 rfl rfl)
theorem dX1_newestThen_7 : decode cX1_newestThen 7 = .ok (.invokevirtual 293, 3) := dk_182 1 37 (dk_at dksX1_newestThen_0 7 rfl rfl)
theorem dX1_newestThen_10 : decode cX1_newestThen 10 = .ok (.astore 4, 2) := dk_58 4 (dk_at dksX1_newestThen_0 10 rfl rfl)
theorem dX1_newestThen_12 : decode cX1_newestThen 12 = .ok (.aload 4, 2) := dk_25 4 (dk_at dksX1_newestThen_0 12 rfl rfl)
theorem dX1_newestThen_14 : decode cX1_newestThen 14 = .ok (.iload_n 2, 1) := dk_28 (dk_at dksX1_newestThen_0 14 rfl rfl)
theorem dX1_newestThen_15 : decode cX1_newestThen 15 = .ok (.iload_n 3, 1) := dk_29 (dk_at dksX1_newestThen_0 15 rfl rfl)
theorem dX1_newestThen_16 : decode cX1_newestThen 16 = .ok (.invokestatic 297, 3) := dk_184 1 41 (dk_at dksX1_newestThen_0 16 rfl rfl)
theorem dX1_newestThen_19 : decode cX1_newestThen 19 = .ok (.ifCond .eq 16, 3) := dk_153 0 16 (dk_at dksX1_newestThen_0 19 rfl rfl)
theorem dX1_newestThen_22 : decode cX1_newestThen 22 = .ok (.aload 4, 2) := dk_25 4 (dk_at dksX1_newestThen_0 22 rfl rfl)
theorem dX1_newestThen_24 : decode cX1_newestThen 24 = .ok (.iload_n 2, 1) := dk_28 (dk_at dksX1_newestThen_1 0 rfl rfl)
theorem dX1_newestThen_25 : decode cX1_newestThen 25 = .ok (.iload_n 3, 1) := dk_29 (dk_at dksX1_newestThen_1 1 rfl rfl)
theorem dX1_newestThen_26 : decode cX1_newestThen 26 = .ok (.invokevirtual 214, 3) := dk_182 0 214 (dk_at dksX1_newestThen_1 2 rfl rfl)
theorem dX1_newestThen_29 : decode cX1_newestThen 29 = .ok (.getfield 218, 3) := dk_180 0 218 (dk_at dksX1_newestThen_1 5 rfl rfl)
theorem dX1_newestThen_32 : decode cX1_newestThen 32 = .ok (.goto 4, 3) := dk_167 0 4 (dk_at dksX1_newestThen_1 8 rfl rfl)
theorem dX1_newestThen_35 : decode cX1_newestThen 35 = .ok (.iconst (-1), 1) := dk_2 (dk_at dksX1_newestThen_1 11 rfl rfl)
theorem dX1_newestThen_36 : decode cX1_newestThen 36 = .ok (.istore 5, 2) := dk_54 5 (dk_at dksX1_newestThen_1 12 rfl rfl)
theorem dX1_newestThen_38 : decode cX1_newestThen 38 = .ok (.aload 4, 2) := dk_25 4 (dk_at dksX1_newestThen_1 14 rfl rfl)
theorem dX1_newestThen_40 : decode cX1_newestThen 40 = .ok (.ifnull 8, 3) := dk_198 0 8 (dk_at dksX1_newestThen_1 16 rfl rfl)
theorem dX1_newestThen_43 : decode cX1_newestThen 43 = .ok (.aload 4, 2) := dk_25 4 (dk_at dksX1_newestThen_1 19 rfl rfl)
theorem dX1_newestThen_45 : decode cX1_newestThen 45 = .ok (.invokevirtual 301, 3) := dk_182 1 45 (dk_at dksX1_newestThen_1 21 rfl rfl)
theorem dX1_newestThen_48 : decode cX1_newestThen 48 = .ok (.iload 5, 2) := dk_21 5 (dk_at dksX1_newestThen_2 0 rfl rfl)
theorem dX1_newestThen_50 : decode cX1_newestThen 50 = .ok (.ireturn, 1) := dk_172 (dk_at dksX1_newestThen_2 2 rfl rfl)
theorem dX1_newestThen_51 : decode cX1_newestThen 51 = .ok (.astore 5, 2) := dk_58 5 (dk_at dksX1_newestThen_2 3 rfl rfl)
theorem dX1_newestThen_53 : decode cX1_newestThen 53 = .ok (.aload 4, 2) := dk_25 4 (dk_at dksX1_newestThen_2 5 rfl rfl)
theorem dX1_newestThen_55 : decode cX1_newestThen 55 = .ok (.ifnull 20, 3) := dk_198 0 20 (dk_at dksX1_newestThen_2 7 rfl rfl)
theorem dX1_newestThen_58 : decode cX1_newestThen 58 = .ok (.aload 4, 2) := dk_25 4 (dk_at dksX1_newestThen_2 10 rfl rfl)
theorem dX1_newestThen_60 : decode cX1_newestThen 60 = .ok (.invokevirtual 301, 3) := dk_182 1 45 (dk_at dksX1_newestThen_2 12 rfl rfl)
theorem dX1_newestThen_63 : decode cX1_newestThen 63 = .ok (.goto 12, 3) := dk_167 0 12 (dk_at dksX1_newestThen_2 15 rfl rfl)
theorem dX1_newestThen_66 : decode cX1_newestThen 66 = .ok (.astore 6, 2) := dk_58 6 (dk_at dksX1_newestThen_2 18 rfl rfl)
theorem dX1_newestThen_68 : decode cX1_newestThen 68 = .ok (.aload 5, 2) := dk_25 5 (dk_at dksX1_newestThen_2 20 rfl rfl)
theorem dX1_newestThen_70 : decode cX1_newestThen 70 = .ok (.aload 6, 2) := dk_25 6 (dk_at dksX1_newestThen_2 22 rfl rfl)
theorem dX1_newestThen_72 : decode cX1_newestThen 72 = .ok (.invokevirtual 306, 3) := dk_182 1 50 (dk_at dksX1_newestThen_3 0 rfl rfl)
theorem dX1_newestThen_75 : decode cX1_newestThen 75 = .ok (.aload 5, 2) := dk_25 5 (dk_at dksX1_newestThen_3 3 rfl rfl)
theorem dX1_newestThen_77 : decode cX1_newestThen 77 = .ok (.athrow, 1) := dk_191 (dk_at dksX1_newestThen_3 5 rfl rfl)
abbrev cX1_isThere : ByteArray := prog_1_method_49_code
def yX1_isThere : MethodName := ⟨RX1, "isThere", "(LCheckoutDesk$Store;II)Z"⟩
def dkwX1_isThere_1 : List UInt8 := [180, 0, 177, 182, 0, 26, 4, 100, 184, 0, 18, 153, 0, 7, 4, 167, 0, 4, 3, 172]
abbrev dktX1_isThere_1 : List UInt8 := dkwX1_isThere_1 ++ []
def dkwX1_isThere_0 : List UInt8 := [27, 3, 42, 180, 1, 23, 182, 0, 26, 4, 100, 184, 0, 18, 153, 0, 28, 28, 3, 42, 27, 182, 0, 173]
abbrev dktX1_isThere_0 : List UInt8 := dkwX1_isThere_0 ++ dktX1_isThere_1
theorem dksX1_isThere_0 : cX1_isThere.data.toList.drop 0 = dktX1_isThere_0 := by decide +kernel
theorem dksX1_isThere_1 : cX1_isThere.data.toList.drop 24 = dktX1_isThere_1 := dk_seg dksX1_isThere_0 24 rfl rfl
theorem dX1_isThere_0 : decode cX1_isThere 0 = .ok (.iload_n 1, 1) := dk_27 (dk_at dksX1_isThere_0 0 rfl rfl)
theorem dX1_isThere_1 : decode cX1_isThere 1 = .ok (.iconst 0, 1) := dk_3 (dk_at dksX1_isThere_0 1 rfl rfl)
theorem dX1_isThere_2 : decode cX1_isThere 2 = .ok (.aload_n 0, 1) := dk_42 (dk_at dksX1_isThere_0 2 rfl rfl)
theorem dX1_isThere_3 : decode cX1_isThere 3 = .ok (.getfield 279, 3) := dk_180 1 23 (dk_at dksX1_isThere_0 3 rfl rfl)
theorem dX1_isThere_6 : decode cX1_isThere 6 = .ok (.invokevirtual 26, 3) := dk_182 0 26 (dk_at dksX1_isThere_0 6 rfl rfl)
theorem dX1_isThere_9 : decode cX1_isThere 9 = .ok (.iconst 1, 1) := dk_4 (dk_at dksX1_isThere_0 9 rfl rfl)
theorem dX1_isThere_10 : decode cX1_isThere 10 = .ok (.isub, 1) := dk_100 (dk_at dksX1_isThere_0 10 rfl rfl)
theorem dX1_isThere_11 : decode cX1_isThere 11 = .ok (.invokestatic 18, 3) := dk_184 0 18 (dk_at dksX1_isThere_0 11 rfl rfl)
theorem dX1_isThere_14 : decode cX1_isThere 14 = .ok (.ifCond .eq 28, 3) := dk_153 0 28 (dk_at dksX1_isThere_0 14 rfl rfl)
theorem dX1_isThere_17 : decode cX1_isThere 17 = .ok (.iload_n 2, 1) := dk_28 (dk_at dksX1_isThere_0 17 rfl rfl)
theorem dX1_isThere_18 : decode cX1_isThere 18 = .ok (.iconst 0, 1) := dk_3 (dk_at dksX1_isThere_0 18 rfl rfl)
theorem dX1_isThere_19 : decode cX1_isThere 19 = .ok (.aload_n 0, 1) := dk_42 (dk_at dksX1_isThere_0 19 rfl rfl)
theorem dX1_isThere_20 : decode cX1_isThere 20 = .ok (.iload_n 1, 1) := dk_27 (dk_at dksX1_isThere_0 20 rfl rfl)
theorem dX1_isThere_21 : decode cX1_isThere 21 = .ok (.invokevirtual 173, 3) := dk_182 0 173 (dk_at dksX1_isThere_0 21 rfl rfl)
theorem dX1_isThere_24 : decode cX1_isThere 24 = .ok (.getfield 177, 3) := dk_180 0 177 (dk_at dksX1_isThere_1 0 rfl rfl)
theorem dX1_isThere_27 : decode cX1_isThere 27 = .ok (.invokevirtual 26, 3) := dk_182 0 26 (dk_at dksX1_isThere_1 3 rfl rfl)
theorem dX1_isThere_30 : decode cX1_isThere 30 = .ok (.iconst 1, 1) := dk_4 (dk_at dksX1_isThere_1 6 rfl rfl)
theorem dX1_isThere_31 : decode cX1_isThere 31 = .ok (.isub, 1) := dk_100 (dk_at dksX1_isThere_1 7 rfl rfl)
theorem dX1_isThere_32 : decode cX1_isThere 32 = .ok (.invokestatic 18, 3) := dk_184 0 18 (dk_at dksX1_isThere_1 8 rfl rfl)
theorem dX1_isThere_35 : decode cX1_isThere 35 = .ok (.ifCond .eq 7, 3) := dk_153 0 7 (dk_at dksX1_isThere_1 11 rfl rfl)
theorem dX1_isThere_38 : decode cX1_isThere 38 = .ok (.iconst 1, 1) := dk_4 (dk_at dksX1_isThere_1 14 rfl rfl)
theorem dX1_isThere_39 : decode cX1_isThere 39 = .ok (.goto 4, 3) := dk_167 0 4 (dk_at dksX1_isThere_1 15 rfl rfl)
theorem dX1_isThere_42 : decode cX1_isThere 42 = .ok (.iconst 0, 1) := dk_3 (dk_at dksX1_isThere_1 18 rfl rfl)
theorem dX1_isThere_43 : decode cX1_isThere 43 = .ok (.ireturn, 1) := dk_172 (dk_at dksX1_isThere_1 19 rfl rfl)
abbrev cX1_holderThen : ByteArray := prog_1_method_51_code
def yX1_holderThen : MethodName := ⟨RX1, "holderThen", "(III)I"⟩
def dkwX1_holderThen_3 : List UInt8 := [182, 1, 50, 25, 5, 191]
abbrev dktX1_holderThen_3 : List UInt8 := dkwX1_holderThen_3 ++ []
def dkwX1_holderThen_2 : List UInt8 := [21, 5, 172, 58, 5, 25, 4, 198, 0, 20, 25, 4, 182, 1, 45, 167, 0, 12, 58, 6, 25, 5, 25, 6]
abbrev dktX1_holderThen_2 : List UInt8 := dkwX1_holderThen_2 ++ dktX1_holderThen_3
def dkwX1_holderThen_1 : List UInt8 := [28, 29, 182, 0, 114, 184, 0, 225, 167, 0, 4, 2, 54, 5, 25, 4, 198, 0, 8, 25, 4, 182, 1, 45]
abbrev dktX1_holderThen_1 : List UInt8 := dkwX1_holderThen_1 ++ dktX1_holderThen_2
def dkwX1_holderThen_0 : List UInt8 := [42, 27, 182, 1, 26, 42, 27, 182, 1, 37, 58, 4, 25, 4, 28, 29, 184, 1, 41, 153, 0, 16, 25, 4]
abbrev dktX1_holderThen_0 : List UInt8 := dkwX1_holderThen_0 ++ dktX1_holderThen_1
theorem dksX1_holderThen_0 : cX1_holderThen.data.toList.drop 0 = dktX1_holderThen_0 := by decide +kernel
theorem dksX1_holderThen_1 : cX1_holderThen.data.toList.drop 24 = dktX1_holderThen_1 := dk_seg dksX1_holderThen_0 24 rfl rfl
theorem dksX1_holderThen_2 : cX1_holderThen.data.toList.drop 48 = dktX1_holderThen_2 := dk_seg dksX1_holderThen_1 24 rfl rfl
theorem dksX1_holderThen_3 : cX1_holderThen.data.toList.drop 72 = dktX1_holderThen_3 := dk_seg dksX1_holderThen_2 24 rfl rfl
theorem dX1_holderThen_0 : decode cX1_holderThen 0 = .ok (.aload_n 0, 1) := dk_42 (dk_at dksX1_holderThen_0 0 rfl rfl)
theorem dX1_holderThen_1 : decode cX1_holderThen 1 = .ok (.iload_n 1, 1) := dk_27 (dk_at dksX1_holderThen_0 1 rfl rfl)
theorem dX1_holderThen_2 : decode cX1_holderThen 2 = .ok (.invokevirtual 282, 3) := dk_182 1 26 (dk_at dksX1_holderThen_0 2 rfl rfl)
theorem dX1_holderThen_5 : decode cX1_holderThen 5 = .ok (.aload_n 0, 1) := dk_42 (dk_at dksX1_holderThen_0 5 rfl rfl)
theorem dX1_holderThen_6 : decode cX1_holderThen 6 = .ok (.iload_n 1, 1) := dk_27 (dk_at dksX1_holderThen_0 6 rfl rfl)
theorem dX1_holderThen_7 : decode cX1_holderThen 7 = .ok (.invokevirtual 293, 3) := dk_182 1 37 (dk_at dksX1_holderThen_0 7 rfl rfl)
theorem dX1_holderThen_10 : decode cX1_holderThen 10 = .ok (.astore 4, 2) := dk_58 4 (dk_at dksX1_holderThen_0 10 rfl rfl)
theorem dX1_holderThen_12 : decode cX1_holderThen 12 = .ok (.aload 4, 2) := dk_25 4 (dk_at dksX1_holderThen_0 12 rfl rfl)
theorem dX1_holderThen_14 : decode cX1_holderThen 14 = .ok (.iload_n 2, 1) := dk_28 (dk_at dksX1_holderThen_0 14 rfl rfl)
theorem dX1_holderThen_15 : decode cX1_holderThen 15 = .ok (.iload_n 3, 1) := dk_29 (dk_at dksX1_holderThen_0 15 rfl rfl)
theorem dX1_holderThen_16 : decode cX1_holderThen 16 = .ok (.invokestatic 297, 3) := dk_184 1 41 (dk_at dksX1_holderThen_0 16 rfl rfl)
theorem dX1_holderThen_19 : decode cX1_holderThen 19 = .ok (.ifCond .eq 16, 3) := dk_153 0 16 (dk_at dksX1_holderThen_0 19 rfl rfl)
theorem dX1_holderThen_22 : decode cX1_holderThen 22 = .ok (.aload 4, 2) := dk_25 4 (dk_at dksX1_holderThen_0 22 rfl rfl)
theorem dX1_holderThen_24 : decode cX1_holderThen 24 = .ok (.iload_n 2, 1) := dk_28 (dk_at dksX1_holderThen_1 0 rfl rfl)
theorem dX1_holderThen_25 : decode cX1_holderThen 25 = .ok (.iload_n 3, 1) := dk_29 (dk_at dksX1_holderThen_1 1 rfl rfl)
theorem dX1_holderThen_26 : decode cX1_holderThen 26 = .ok (.invokevirtual 114, 3) := dk_182 0 114 (dk_at dksX1_holderThen_1 2 rfl rfl)
theorem dX1_holderThen_29 : decode cX1_holderThen 29 = .ok (.invokestatic 225, 3) := dk_184 0 225 (dk_at dksX1_holderThen_1 5 rfl rfl)
theorem dX1_holderThen_32 : decode cX1_holderThen 32 = .ok (.goto 4, 3) := dk_167 0 4 (dk_at dksX1_holderThen_1 8 rfl rfl)
theorem dX1_holderThen_35 : decode cX1_holderThen 35 = .ok (.iconst (-1), 1) := dk_2 (dk_at dksX1_holderThen_1 11 rfl rfl)
theorem dX1_holderThen_36 : decode cX1_holderThen 36 = .ok (.istore 5, 2) := dk_54 5 (dk_at dksX1_holderThen_1 12 rfl rfl)
theorem dX1_holderThen_38 : decode cX1_holderThen 38 = .ok (.aload 4, 2) := dk_25 4 (dk_at dksX1_holderThen_1 14 rfl rfl)
theorem dX1_holderThen_40 : decode cX1_holderThen 40 = .ok (.ifnull 8, 3) := dk_198 0 8 (dk_at dksX1_holderThen_1 16 rfl rfl)
theorem dX1_holderThen_43 : decode cX1_holderThen 43 = .ok (.aload 4, 2) := dk_25 4 (dk_at dksX1_holderThen_1 19 rfl rfl)
theorem dX1_holderThen_45 : decode cX1_holderThen 45 = .ok (.invokevirtual 301, 3) := dk_182 1 45 (dk_at dksX1_holderThen_1 21 rfl rfl)
theorem dX1_holderThen_48 : decode cX1_holderThen 48 = .ok (.iload 5, 2) := dk_21 5 (dk_at dksX1_holderThen_2 0 rfl rfl)
theorem dX1_holderThen_50 : decode cX1_holderThen 50 = .ok (.ireturn, 1) := dk_172 (dk_at dksX1_holderThen_2 2 rfl rfl)
theorem dX1_holderThen_51 : decode cX1_holderThen 51 = .ok (.astore 5, 2) := dk_58 5 (dk_at dksX1_holderThen_2 3 rfl rfl)
theorem dX1_holderThen_53 : decode cX1_holderThen 53 = .ok (.aload 4, 2) := dk_25 4 (dk_at dksX1_holderThen_2 5 rfl rfl)
theorem dX1_holderThen_55 : decode cX1_holderThen 55 = .ok (.ifnull 20, 3) := dk_198 0 20 (dk_at dksX1_holderThen_2 7 rfl rfl)
theorem dX1_holderThen_58 : decode cX1_holderThen 58 = .ok (.aload 4, 2) := dk_25 4 (dk_at dksX1_holderThen_2 10 rfl rfl)
theorem dX1_holderThen_60 : decode cX1_holderThen 60 = .ok (.invokevirtual 301, 3) := dk_182 1 45 (dk_at dksX1_holderThen_2 12 rfl rfl)
theorem dX1_holderThen_63 : decode cX1_holderThen 63 = .ok (.goto 12, 3) := dk_167 0 12 (dk_at dksX1_holderThen_2 15 rfl rfl)
theorem dX1_holderThen_66 : decode cX1_holderThen 66 = .ok (.astore 6, 2) := dk_58 6 (dk_at dksX1_holderThen_2 18 rfl rfl)
theorem dX1_holderThen_68 : decode cX1_holderThen 68 = .ok (.aload 5, 2) := dk_25 5 (dk_at dksX1_holderThen_2 20 rfl rfl)
theorem dX1_holderThen_70 : decode cX1_holderThen 70 = .ok (.aload 6, 2) := dk_25 6 (dk_at dksX1_holderThen_2 22 rfl rfl)
theorem dX1_holderThen_72 : decode cX1_holderThen 72 = .ok (.invokevirtual 306, 3) := dk_182 1 50 (dk_at dksX1_holderThen_3 0 rfl rfl)
theorem dX1_holderThen_75 : decode cX1_holderThen 75 = .ok (.aload 5, 2) := dk_25 5 (dk_at dksX1_holderThen_3 3 rfl rfl)
theorem dX1_holderThen_77 : decode cX1_holderThen 77 = .ok (.athrow, 1) := dk_191 (dk_at dksX1_holderThen_3 5 rfl rfl)
theorem q43 : (Jvm.Cond.initialized "CheckoutDesk") ∈ lw_all := lw_g (lw_at lw_m1 1 rfl) rfl
theorem q111 : (Jvm.Cond.instantiable "CheckoutDesk" (2 : Nat)) ∈ lw_all := lw_g (lw_at lw_m1 69 rfl) rfl
theorem q113 : (Jvm.Cond.instanceMethod ({ cls := "CheckoutDesk", name := "<init>", desc := "()V" } : Jvm.MethodName)) ∈ lw_all := lw_g (lw_at lw_m1 71 rfl) rfl
theorem q114 : (Jvm.Cond.code ({ cls := "CheckoutDesk", name := "<init>", desc := "()V" } : Jvm.MethodName) prog_1_method_8_code (1 : Nat) (Option.none : Option Jvm.ClassFile.FieldType)) ∈ lw_all := lw_g (lw_at lw_m1 72 rfl) rfl
theorem q115 : (Jvm.Cond.methodLink "CheckoutDesk" (48 : Nat) ({ cls := "java/lang/Object", name := "<init>", desc := "()V" } : Jvm.MethodName)) ∈ lw_all := lw_g (lw_at lw_m1 73 rfl) rfl
theorem q118 : (Jvm.Cond.classLink "CheckoutDesk" (51 : Nat) "java/util/ArrayList") ∈ lw_all := lw_g (lw_at lw_m1 76 rfl) rfl
theorem q120 : (Jvm.Cond.methodLink "CheckoutDesk" (53 : Nat) ({ cls := "java/util/ArrayList", name := "<init>", desc := "()V" } : Jvm.MethodName)) ∈ lw_all := lw_g (lw_at lw_m1 78 rfl) rfl
theorem q144 : (Jvm.Cond.classLink "CheckoutDesk" (58 : Nat) "CheckoutDesk$Store") ∈ lw_all := lw_g (lw_at lw_m1 102 rfl) rfl
theorem q146 : (Jvm.Cond.methodLinkNest "CheckoutDesk" (60 : Nat) ({ cls := "CheckoutDesk$Store", name := "<init>", desc := "()V" } : Jvm.MethodName) "CheckoutDesk") ∈ lw_tbl := lw_at lw_m1 104 rfl
theorem q167 : (Jvm.Cond.fieldLinkNest "CheckoutDesk" (279 : Nat) "CheckoutDesk$Store" "documents" "LCheckoutDesk$Row;" "CheckoutDesk") ∈ lw_tbl := lw_at lw_m1 125 rfl
theorem q174 : (Jvm.Cond.fieldLinkNest "CheckoutDesk" (169 : Nat) "CheckoutDesk$Store" "versions" "LCheckoutDesk$Row;" "CheckoutDesk") ∈ lw_tbl := lw_at lw_m1 132 rfl
theorem q179 : (Jvm.Cond.fieldLinkNest "CheckoutDesk" (244 : Nat) "CheckoutDesk$Store" "links" "LCheckoutDesk$Row;" "CheckoutDesk") ∈ lw_tbl := lw_at lw_m1 137 rfl
theorem q184 : (Jvm.Cond.fieldLinkNest "CheckoutDesk" (73 : Nat) "CheckoutDesk$Store" "clock" "I" "CheckoutDesk") ∈ lw_tbl := lw_at lw_m1 142 rfl
theorem q187 : (Jvm.Cond.fieldLinkNest "CheckoutDesk" (231 : Nat) "CheckoutDesk$Store" "lapse" "I" "CheckoutDesk") ∈ lw_tbl := lw_at lw_m1 145 rfl
theorem q202 : (Jvm.Cond.fieldLink "CheckoutDesk" (54 : Nat) "CheckoutDesk" "log" "Ljava/util/ArrayList;") ∈ lw_all := lw_g (lw_at lw_m1 160 rfl) rfl
theorem q205 : (Jvm.Cond.fieldLink "CheckoutDesk" (61 : Nat) "CheckoutDesk" "now" "LCheckoutDesk$Store;") ∈ lw_all := lw_g (lw_at lw_m1 163 rfl) rfl
theorem q206 : (Jvm.Cond.laysFinal "CheckoutDesk" "CheckoutDesk" "log" "Ljava/util/ArrayList;") ∈ lw_all := lw_g (lw_at lw_m1 164 rfl) rfl
theorem q207 : (Jvm.Cond.soleField "CheckoutDesk" "log") ∈ lw_all := lw_g (lw_at lw_m1 165 rfl) rfl
theorem q208 : (Jvm.Cond.lays "CheckoutDesk" "CheckoutDesk" "now" "LCheckoutDesk$Store;") ∈ lw_all := lw_g (lw_at lw_m1 166 rfl) rfl
theorem q209 : (Jvm.Cond.soleField "CheckoutDesk" "now") ∈ lw_all := lw_g (lw_at lw_m1 167 rfl) rfl
theorem q210 : (Jvm.Cond.superclass "CheckoutDesk" "java/lang/Object") ∈ lw_all := lw_g (lw_at lw_m1 168 rfl) rfl
theorem q212 : (Jvm.Cond.instanceMethod ({ cls := "CheckoutDesk", name := "reset", desc := "()I" } : Jvm.MethodName)) ∈ lw_all := lw_g (lw_at lw_m1 170 rfl) rfl
theorem q213 : (Jvm.Cond.selects "CheckoutDesk" ({ cls := "CheckoutDesk", name := "reset", desc := "()I" } : Jvm.MethodName) ({ cls := "CheckoutDesk", name := "reset", desc := "()I" } : Jvm.MethodName)) ∈ lw_all := lw_g (lw_at lw_m1 171 rfl) rfl
theorem q214 : (Jvm.Cond.code ({ cls := "CheckoutDesk", name := "reset", desc := "()I" } : Jvm.MethodName) prog_1_method_10_code (2 : Nat) (Option.some Jvm.ClassFile.FieldType.int)) ∈ lw_all := lw_g (lw_at lw_m1 172 rfl) rfl
theorem q215 : (Jvm.Cond.methodLink "CheckoutDesk" (83 : Nat) ({ cls := "java/util/ArrayList", name := "size", desc := "()I" } : Jvm.MethodName)) ∈ lw_all := lw_g (lw_at lw_m1 173 rfl) rfl
theorem q219 : (Jvm.Cond.methodLink "CheckoutDesk" (84 : Nat) ({ cls := "java/util/ArrayList", name := "clear", desc := "()V" } : Jvm.MethodName)) ∈ lw_all := lw_g (lw_at lw_m1 177 rfl) rfl
theorem q224 : (Jvm.Cond.instanceMethod ({ cls := "CheckoutDesk", name := "clock", desc := "()I" } : Jvm.MethodName)) ∈ lw_all := lw_g (lw_at lw_m1 182 rfl) rfl
theorem q225 : (Jvm.Cond.selects "CheckoutDesk" ({ cls := "CheckoutDesk", name := "clock", desc := "()I" } : Jvm.MethodName) ({ cls := "CheckoutDesk", name := "clock", desc := "()I" } : Jvm.MethodName)) ∈ lw_all := lw_g (lw_at lw_m1 183 rfl) rfl
theorem q226 : (Jvm.Cond.code ({ cls := "CheckoutDesk", name := "clock", desc := "()I" } : Jvm.MethodName) prog_1_method_29_code (1 : Nat) (Option.some Jvm.ClassFile.FieldType.int)) ∈ lw_all := lw_g (lw_at lw_m1 184 rfl) rfl
theorem q228 : (Jvm.Cond.instanceMethod ({ cls := "CheckoutDesk", name := "versions", desc := "()I" } : Jvm.MethodName)) ∈ lw_all := lw_g (lw_at lw_m1 186 rfl) rfl
theorem q229 : (Jvm.Cond.selects "CheckoutDesk" ({ cls := "CheckoutDesk", name := "versions", desc := "()I" } : Jvm.MethodName) ({ cls := "CheckoutDesk", name := "versions", desc := "()I" } : Jvm.MethodName)) ∈ lw_all := lw_g (lw_at lw_m1 187 rfl) rfl
theorem q230 : (Jvm.Cond.code ({ cls := "CheckoutDesk", name := "versions", desc := "()I" } : Jvm.MethodName) prog_1_method_30_code (1 : Nat) (Option.some Jvm.ClassFile.FieldType.int)) ∈ lw_all := lw_g (lw_at lw_m1 188 rfl) rfl
theorem q231 : (Jvm.Cond.methodLink "CheckoutDesk" (26 : Nat) ({ cls := "CheckoutDesk$Row", name := "size", desc := "()I" } : Jvm.MethodName)) ∈ lw_all := lw_g (lw_at lw_m1 189 rfl) rfl
theorem q237 : (Jvm.Cond.instanceMethod ({ cls := "CheckoutDesk", name := "releasedShare", desc := "()F" } : Jvm.MethodName)) ∈ lw_all := lw_g (lw_at lw_m1 195 rfl) rfl
theorem q238 : (Jvm.Cond.selects "CheckoutDesk" ({ cls := "CheckoutDesk", name := "releasedShare", desc := "()F" } : Jvm.MethodName) ({ cls := "CheckoutDesk", name := "releasedShare", desc := "()F" } : Jvm.MethodName)) ∈ lw_all := lw_g (lw_at lw_m1 196 rfl) rfl
theorem q239 : (Jvm.Cond.code ({ cls := "CheckoutDesk", name := "releasedShare", desc := "()F" } : Jvm.MethodName) prog_1_method_43_code (3 : Nat) (Option.some Jvm.ClassFile.FieldType.float)) ∈ lw_all := lw_g (lw_at lw_m1 197 rfl) rfl
theorem q240 : (Jvm.Cond.classLink "CheckoutDesk" (268 : Nat) "CheckoutDesk$18") ∈ lw_all := lw_g (lw_at lw_m1 198 rfl) rfl
theorem q242 : (Jvm.Cond.methodLink "CheckoutDesk" (270 : Nat) ({ cls := "CheckoutDesk$18", name := "<init>", desc := "(LCheckoutDesk;)V" } : Jvm.MethodName)) ∈ lw_all := lw_g (lw_at lw_m1 200 rfl) rfl
theorem q250 : (Jvm.Cond.methodLink "CheckoutDesk" (264 : Nat) ({ cls := "CheckoutDesk$Row", name := "count", desc := "(LCheckoutDesk$Test;)I" } : Jvm.MethodName)) ∈ lw_all := lw_g (lw_at lw_m1 208 rfl) rfl
theorem q296 : (Jvm.Cond.static ({ cls := "CheckoutDesk", name := "inRange", desc := "(III)Z" } : Jvm.MethodName)) ∈ lw_all := lw_g (lw_at lw_m2 14 rfl) rfl
theorem q297 : (Jvm.Cond.code ({ cls := "CheckoutDesk", name := "inRange", desc := "(III)Z" } : Jvm.MethodName) prog_1_method_1_code (3 : Nat) (Option.some Jvm.ClassFile.FieldType.boolean)) ∈ lw_all := lw_g (lw_at lw_m2 15 rfl) rfl
theorem q299 : (Jvm.Cond.static ({ cls := "CheckoutDesk", name := "requireIndex", desc := "(Z)V" } : Jvm.MethodName)) ∈ lw_all := lw_g (lw_at lw_m2 17 rfl) rfl
theorem q300 : (Jvm.Cond.code ({ cls := "CheckoutDesk", name := "requireIndex", desc := "(Z)V" } : Jvm.MethodName) prog_1_method_4_code (1 : Nat) (Option.none : Option Jvm.ClassFile.FieldType)) ∈ lw_all := lw_g (lw_at lw_m2 18 rfl) rfl
theorem q301 : (Jvm.Cond.classLink "CheckoutDesk" (10 : Nat) "java/lang/IndexOutOfBoundsException") ∈ lw_all := lw_g (lw_at lw_m2 19 rfl) rfl
theorem q362 : (Jvm.Cond.methodLink "CheckoutDesk" (12 : Nat) ({ cls := "java/lang/IndexOutOfBoundsException", name := "<init>", desc := "()V" } : Jvm.MethodName)) ∈ lw_all := lw_g (lw_at lw_m2 80 rfl) rfl
theorem q407 : (Jvm.Cond.static ({ cls := "CheckoutDesk", name := "greatest", desc := "(LCheckoutDesk$Row;LCheckoutDesk$Test;)Ljava/lang/Comparable;" } : Jvm.MethodName)) ∈ lw_all := lw_g (lw_at lw_m2 125 rfl) rfl
theorem q408 : (Jvm.Cond.code ({ cls := "CheckoutDesk", name := "greatest", desc := "(LCheckoutDesk$Row;LCheckoutDesk$Test;)Ljava/lang/Comparable;" } : Jvm.MethodName) prog_1_method_7_code (5 : Nat) (Option.some (Jvm.ClassFile.FieldType.object "java/lang/Comparable"))) ∈ lw_all := lw_g (lw_at lw_m2 126 rfl) rfl
theorem q409 : (Jvm.Cond.methodLink "CheckoutDesk" (32 : Nat) ({ cls := "CheckoutDesk$Row", name := "get", desc := "(I)Ljava/lang/Object;" } : Jvm.MethodName)) ∈ lw_all := lw_g (lw_at lw_m2 127 rfl) rfl
theorem q410 : (Jvm.Cond.classLink "CheckoutDesk" (36 : Nat) "java/lang/Comparable") ∈ lw_all := lw_g (lw_at lw_m2 128 rfl) rfl
theorem q411 : (Jvm.Cond.interfaceEntry "CheckoutDesk" (38 : Nat)) ∈ lw_tbl := lw_at lw_m2 129 rfl
theorem q412 : (Jvm.Cond.methodLink "CheckoutDesk" (38 : Nat) ({ cls := "CheckoutDesk$Test", name := "fits", desc := "(Ljava/lang/Object;)Z" } : Jvm.MethodName)) ∈ lw_all := lw_g (lw_at lw_m2 130 rfl) rfl
theorem q511 : (Jvm.Cond.interfaceEntry "CheckoutDesk" (44 : Nat)) ∈ lw_tbl := lw_at lw_m2 229 rfl
theorem q512 : (Jvm.Cond.methodLink "CheckoutDesk" (44 : Nat) ({ cls := "java/lang/Comparable", name := "compareTo", desc := "(Ljava/lang/Object;)I" } : Jvm.MethodName)) ∈ lw_all := lw_g (lw_at lw_m2 230 rfl) rfl
theorem q738 : (Jvm.Cond.classLink "CheckoutDesk" (273 : Nat) "CheckoutDesk$19") ∈ lw_all := lw_g (lw_at lw_m3 216 rfl) rfl
theorem q740 : (Jvm.Cond.methodLink "CheckoutDesk" (275 : Nat) ({ cls := "CheckoutDesk$19", name := "<init>", desc := "(LCheckoutDesk;)V" } : Jvm.MethodName)) ∈ lw_all := lw_g (lw_at lw_m3 218 rfl) rfl
theorem q749 : (Jvm.Cond.instanceMethod ({ cls := "CheckoutDesk", name := "lockedPer", desc := "()D" } : Jvm.MethodName)) ∈ lw_all := lw_g (lw_at lw_m3 227 rfl) rfl
theorem q750 : (Jvm.Cond.selects "CheckoutDesk" ({ cls := "CheckoutDesk", name := "lockedPer", desc := "()D" } : Jvm.MethodName) ({ cls := "CheckoutDesk", name := "lockedPer", desc := "()D" } : Jvm.MethodName)) ∈ lw_all := lw_g (lw_at lw_m3 228 rfl) rfl
theorem q751 : (Jvm.Cond.code ({ cls := "CheckoutDesk", name := "lockedPer", desc := "()D" } : Jvm.MethodName) prog_1_method_44_code (4 : Nat) (Option.some Jvm.ClassFile.FieldType.double)) ∈ lw_all := lw_g (lw_at lw_m3 229 rfl) rfl
theorem q752 : (Jvm.Cond.classLink "CheckoutDesk" (276 : Nat) "CheckoutDesk$20") ∈ lw_all := lw_g (lw_at lw_m3 230 rfl) rfl
theorem q754 : (Jvm.Cond.methodLink "CheckoutDesk" (278 : Nat) ({ cls := "CheckoutDesk$20", name := "<init>", desc := "(LCheckoutDesk;)V" } : Jvm.MethodName)) ∈ lw_all := lw_g (lw_at lw_m3 232 rfl) rfl
theorem q762 : (Jvm.Cond.classLink "CheckoutDesk" (178 : Nat) "CheckoutDesk$Document") ∈ lw_all := lw_g (lw_at lw_m4 0 rfl) rfl
theorem q764 : (Jvm.Cond.instanceMethod ({ cls := "CheckoutDesk", name := "events", desc := "()I" } : Jvm.MethodName)) ∈ lw_all := lw_g (lw_at lw_m4 2 rfl) rfl
theorem q765 : (Jvm.Cond.selects "CheckoutDesk" ({ cls := "CheckoutDesk", name := "events", desc := "()I" } : Jvm.MethodName) ({ cls := "CheckoutDesk", name := "events", desc := "()I" } : Jvm.MethodName)) ∈ lw_all := lw_g (lw_at lw_m4 3 rfl) rfl
theorem q766 : (Jvm.Cond.code ({ cls := "CheckoutDesk", name := "events", desc := "()I" } : Jvm.MethodName) prog_1_method_45_code (1 : Nat) (Option.some Jvm.ClassFile.FieldType.int)) ∈ lw_all := lw_g (lw_at lw_m4 4 rfl) rfl
theorem q768 : (Jvm.Cond.instanceMethod ({ cls := "CheckoutDesk", name := "deskErrors", desc := "()I" } : Jvm.MethodName)) ∈ lw_all := lw_g (lw_at lw_m4 6 rfl) rfl
theorem q769 : (Jvm.Cond.selects "CheckoutDesk" ({ cls := "CheckoutDesk", name := "deskErrors", desc := "()I" } : Jvm.MethodName) ({ cls := "CheckoutDesk", name := "deskErrors", desc := "()I" } : Jvm.MethodName)) ∈ lw_all := lw_g (lw_at lw_m4 7 rfl) rfl
theorem q770 : (Jvm.Cond.codeWith ({ cls := "CheckoutDesk", name := "deskErrors", desc := "()I" } : Jvm.MethodName) prog_1_method_54_code (4 : Nat) (Option.some Jvm.ClassFile.FieldType.int) [((12 : Nat), (18 : Nat), (28 : Nat), (304 : Nat)), ((33 : Nat), (37 : Nat), (40 : Nat), (304 : Nat))]) ∈ lw_all := lw_g (lw_at lw_m4 8 rfl) rfl
theorem q771 : (Jvm.Cond.classLink "CheckoutDesk" (304 : Nat) "java/lang/Throwable") ∈ lw_all := lw_g (lw_at lw_m4 9 rfl) rfl
theorem q874 : (Jvm.Cond.methodLink "CheckoutDesk" (293 : Nat) ({ cls := "CheckoutDesk", name := "then", desc := "(I)LCheckoutDesk$Store;" } : Jvm.MethodName)) ∈ lw_all := lw_g (lw_at lw_m4 112 rfl) rfl
theorem q875 : (Jvm.Cond.privateMethod ({ cls := "CheckoutDesk", name := "then", desc := "(I)LCheckoutDesk$Store;" } : Jvm.MethodName)) ∈ lw_tbl := lw_at lw_m4 113 rfl
theorem q876 : (Jvm.Cond.instanceMethod ({ cls := "CheckoutDesk", name := "then", desc := "(I)LCheckoutDesk$Store;" } : Jvm.MethodName)) ∈ lw_all := lw_g (lw_at lw_m4 114 rfl) rfl
theorem q877 : (Jvm.Cond.code ({ cls := "CheckoutDesk", name := "then", desc := "(I)LCheckoutDesk$Store;" } : Jvm.MethodName) prog_1_method_48_code (4 : Nat) (Option.some (Jvm.ClassFile.FieldType.object "CheckoutDesk$Store"))) ∈ lw_all := lw_g (lw_at lw_m4 115 rfl) rfl
theorem q878 : (Jvm.Cond.methodLink "CheckoutDesk" (285 : Nat) ({ cls := "java/util/ArrayList", name := "get", desc := "(I)Ljava/lang/Object;" } : Jvm.MethodName)) ∈ lw_all := lw_g (lw_at lw_m4 116 rfl) rfl
theorem q879 : (Jvm.Cond.classLink "CheckoutDesk" (71 : Nat) "CheckoutDesk$Event") ∈ lw_all := lw_g (lw_at lw_m4 117 rfl) rfl
theorem q880 : (Jvm.Cond.interfaceEntry "CheckoutDesk" (65 : Nat)) ∈ lw_tbl := lw_at lw_m4 118 rfl
theorem q881 : (Jvm.Cond.methodLink "CheckoutDesk" (65 : Nat) ({ cls := "CheckoutDesk$Act", name := "on", desc := "(LCheckoutDesk$Store;)I" } : Jvm.MethodName)) ∈ lw_all := lw_g (lw_at lw_m4 119 rfl) rfl
theorem q892 : (Jvm.Cond.static ({ cls := "CheckoutDesk", name := "requireArgument", desc := "(Z)V" } : Jvm.MethodName)) ∈ lw_all := lw_g (lw_at lw_m4 130 rfl) rfl
theorem q893 : (Jvm.Cond.code ({ cls := "CheckoutDesk", name := "requireArgument", desc := "(Z)V" } : Jvm.MethodName) prog_1_method_2_code (1 : Nat) (Option.none : Option Jvm.ClassFile.FieldType)) ∈ lw_all := lw_g (lw_at lw_m4 131 rfl) rfl
theorem q894 : (Jvm.Cond.classLink "CheckoutDesk" (1 : Nat) "java/lang/IllegalArgumentException") ∈ lw_all := lw_g (lw_at lw_m4 132 rfl) rfl
theorem q903 : (Jvm.Cond.methodLink "CheckoutDesk" (3 : Nat) ({ cls := "java/lang/IllegalArgumentException", name := "<init>", desc := "()V" } : Jvm.MethodName)) ∈ lw_all := lw_g (lw_at lw_m4 141 rfl) rfl
theorem q910 : (Jvm.Cond.static ({ cls := "CheckoutDesk", name := "requireState", desc := "(Z)V" } : Jvm.MethodName)) ∈ lw_all := lw_g (lw_at lw_m4 148 rfl) rfl
theorem q911 : (Jvm.Cond.code ({ cls := "CheckoutDesk", name := "requireState", desc := "(Z)V" } : Jvm.MethodName) prog_1_method_3_code (1 : Nat) (Option.none : Option Jvm.ClassFile.FieldType)) ∈ lw_all := lw_g (lw_at lw_m4 149 rfl) rfl
theorem q912 : (Jvm.Cond.classLink "CheckoutDesk" (7 : Nat) "java/lang/IllegalStateException") ∈ lw_all := lw_g (lw_at lw_m4 150 rfl) rfl
theorem q921 : (Jvm.Cond.methodLink "CheckoutDesk" (9 : Nat) ({ cls := "java/lang/IllegalStateException", name := "<init>", desc := "()V" } : Jvm.MethodName)) ∈ lw_all := lw_g (lw_at lw_m4 159 rfl) rfl
theorem q934 : (Jvm.Cond.static ({ cls := "CheckoutDesk", name := "requirePerson", desc := "(I)V" } : Jvm.MethodName)) ∈ lw_all := lw_g (lw_at lw_m4 172 rfl) rfl
theorem q935 : (Jvm.Cond.code ({ cls := "CheckoutDesk", name := "requirePerson", desc := "(I)V" } : Jvm.MethodName) prog_1_method_6_code (1 : Nat) (Option.none : Option Jvm.ClassFile.FieldType)) ∈ lw_all := lw_g (lw_at lw_m4 173 rfl) rfl
theorem q936 : (Jvm.Cond.methodLink "CheckoutDesk" (18 : Nat) ({ cls := "CheckoutDesk", name := "inRange", desc := "(III)Z" } : Jvm.MethodName)) ∈ lw_all := lw_g (lw_at lw_m4 174 rfl) rfl
theorem q937 : (Jvm.Cond.methodLink "CheckoutDesk" (22 : Nat) ({ cls := "CheckoutDesk", name := "requireIndex", desc := "(Z)V" } : Jvm.MethodName)) ∈ lw_all := lw_g (lw_at lw_m4 175 rfl) rfl
theorem q1047 : (Jvm.Cond.fieldLinkNest "CheckoutDesk" (221 : Nat) "CheckoutDesk$Branch" "origin" "LCheckoutDesk$Version;" "CheckoutDesk") ∈ lw_tbl := lw_at lw_m5 45 rfl
theorem q1055 : (Jvm.Cond.fieldLinkNest "CheckoutDesk" (118 : Nat) "CheckoutDesk$Branch" "copy" "LCheckoutDesk$Copy;" "CheckoutDesk") ∈ lw_tbl := lw_at lw_m5 53 rfl
theorem q1097 : (Jvm.Cond.selects "CheckoutDesk" ({ cls := "java/lang/Object", name := "getClass", desc := "()Ljava/lang/Class;" } : Jvm.MethodName) ({ cls := "java/lang/Object", name := "getClass", desc := "()Ljava/lang/Class;" } : Jvm.MethodName)) ∈ lw_all := lw_g (lw_at lw_m5 95 rfl) rfl
theorem q1176 : (Jvm.Cond.fieldLinkNest "CheckoutDesk" (218 : Nat) "CheckoutDesk$Version" "number" "I" "CheckoutDesk") ∈ lw_tbl := lw_at lw_m5 174 rfl
theorem q1181 : (Jvm.Cond.fieldLinkNest "CheckoutDesk" (195 : Nat) "CheckoutDesk$Version" "document" "I" "CheckoutDesk") ∈ lw_tbl := lw_at lw_m5 179 rfl
theorem q1184 : (Jvm.Cond.fieldLinkNest "CheckoutDesk" (200 : Nat) "CheckoutDesk$Version" "branch" "I" "CheckoutDesk") ∈ lw_tbl := lw_at lw_m5 182 rfl
theorem q1189 : (Jvm.Cond.fieldLinkNest "CheckoutDesk" (202 : Nat) "CheckoutDesk$Version" "major" "I" "CheckoutDesk") ∈ lw_tbl := lw_at lw_m5 187 rfl
theorem q1194 : (Jvm.Cond.fieldLinkNest "CheckoutDesk" (205 : Nat) "CheckoutDesk$Version" "minor" "I" "CheckoutDesk") ∈ lw_tbl := lw_at lw_m5 192 rfl
theorem q1199 : (Jvm.Cond.fieldLinkNest "CheckoutDesk" (310 : Nat) "CheckoutDesk$Version" "isGone" "Z" "CheckoutDesk") ∈ lw_tbl := lw_at lw_m5 197 rfl
theorem q1206 : (Jvm.Cond.fieldLink "CheckoutDesk" (211 : Nat) "CheckoutDesk$Version" "values" "[I") ∈ lw_all := lw_g (lw_at lw_m5 204 rfl) rfl
theorem q1356 : (Jvm.Cond.fieldLinkNest "CheckoutDesk" (256 : Nat) "CheckoutDesk$Document" "owner" "I" "CheckoutDesk") ∈ lw_tbl := lw_at lw_m6 114 rfl
theorem q1360 : (Jvm.Cond.fieldLinkNest "CheckoutDesk" (186 : Nat) "CheckoutDesk$Document" "rights" "[I" "CheckoutDesk") ∈ lw_tbl := lw_at lw_m6 118 rfl
theorem q1364 : (Jvm.Cond.fieldLinkNest "CheckoutDesk" (177 : Nat) "CheckoutDesk$Document" "branches" "LCheckoutDesk$Row;" "CheckoutDesk") ∈ lw_tbl := lw_at lw_m6 122 rfl
theorem q1412 : (Jvm.Cond.fieldLinkNest "CheckoutDesk" (124 : Nat) "CheckoutDesk$Copy" "holder" "I" "CheckoutDesk") ∈ lw_tbl := lw_at lw_m6 170 rfl
theorem q1416 : (Jvm.Cond.fieldLinkNest "CheckoutDesk" (228 : Nat) "CheckoutDesk$Copy" "since" "I" "CheckoutDesk") ∈ lw_tbl := lw_at lw_m6 174 rfl
theorem q1434 : (Jvm.Cond.static ({ cls := "CheckoutDesk", name := "isPlace", desc := "(II)Z" } : Jvm.MethodName)) ∈ lw_all := lw_g (lw_at lw_m6 192 rfl) rfl
theorem q1435 : (Jvm.Cond.code ({ cls := "CheckoutDesk", name := "isPlace", desc := "(II)Z" } : Jvm.MethodName) prog_1_method_16_code (2 : Nat) (Option.some Jvm.ClassFile.FieldType.boolean)) ∈ lw_all := lw_g (lw_at lw_m6 193 rfl) rfl
theorem q1438 : (Jvm.Cond.static ({ cls := "CheckoutDesk", name := "held", desc := "(LCheckoutDesk$Store;III)LCheckoutDesk$Copy;" } : Jvm.MethodName)) ∈ lw_all := lw_g (lw_at lw_m6 196 rfl) rfl
theorem q1439 : (Jvm.Cond.code ({ cls := "CheckoutDesk", name := "held", desc := "(LCheckoutDesk$Store;III)LCheckoutDesk$Copy;" } : Jvm.MethodName) prog_1_method_17_code (5 : Nat) (Option.some (Jvm.ClassFile.FieldType.object "CheckoutDesk$Copy"))) ∈ lw_all := lw_g (lw_at lw_m6 197 rfl) rfl
theorem q1440 : (Jvm.Cond.methodLink "CheckoutDesk" (114 : Nat) ({ cls := "CheckoutDesk$Store", name := "branch", desc := "(II)LCheckoutDesk$Branch;" } : Jvm.MethodName)) ∈ lw_all := lw_g (lw_at lw_m6 198 rfl) rfl
theorem q1441 : (Jvm.Cond.methodLink "CheckoutDesk" (129 : Nat) ({ cls := "CheckoutDesk", name := "requireState", desc := "(Z)V" } : Jvm.MethodName)) ∈ lw_all := lw_g (lw_at lw_m6 199 rfl) rfl
theorem q1473 : (Jvm.Cond.methodLink "CheckoutDesk" (325 : Nat) ({ cls := "CheckoutDesk", name := "errors", desc := "(LCheckoutDesk$Store;)I" } : Jvm.MethodName)) ∈ lw_all := lw_g (lw_at lw_m6 231 rfl) rfl
theorem q1474 : (Jvm.Cond.privateMethod ({ cls := "CheckoutDesk", name := "errors", desc := "(LCheckoutDesk$Store;)I" } : Jvm.MethodName)) ∈ lw_tbl := lw_at lw_m6 232 rfl
theorem q1475 : (Jvm.Cond.instanceMethod ({ cls := "CheckoutDesk", name := "errors", desc := "(LCheckoutDesk$Store;)I" } : Jvm.MethodName)) ∈ lw_all := lw_g (lw_at lw_m6 233 rfl) rfl
theorem q1476 : (Jvm.Cond.code ({ cls := "CheckoutDesk", name := "errors", desc := "(LCheckoutDesk$Store;)I" } : Jvm.MethodName) prog_1_method_53_code (6 : Nat) (Option.some Jvm.ClassFile.FieldType.int)) ∈ lw_all := lw_g (lw_at lw_m6 234 rfl) rfl
theorem q1477 : (Jvm.Cond.methodLink "CheckoutDesk" (314 : Nat) ({ cls := "java/lang/Math", name := "abs", desc := "(I)I" } : Jvm.MethodName)) ∈ lw_all := lw_g (lw_at lw_m6 235 rfl) rfl
theorem q1480 : (Jvm.Cond.methodLink "CheckoutDesk" (318 : Nat) ({ cls := "java/lang/Math", name := "min", desc := "(II)I" } : Jvm.MethodName)) ∈ lw_all := lw_g (lw_at lw_m6 238 rfl) rfl
theorem q1481 : (Jvm.Cond.classLink "CheckoutDesk" (196 : Nat) "CheckoutDesk$Version") ∈ lw_all := lw_g (lw_at lw_m6 239 rfl) rfl
theorem q1482 : (Jvm.Cond.methodLink "CheckoutDesk" (321 : Nat) ({ cls := "CheckoutDesk", name := "isSame", desc := "(LCheckoutDesk$Version;LCheckoutDesk$Version;)Z" } : Jvm.MethodName)) ∈ lw_all := lw_g (lw_at lw_m7 0 rfl) rfl
theorem q1483 : (Jvm.Cond.static ({ cls := "CheckoutDesk", name := "isSame", desc := "(LCheckoutDesk$Version;LCheckoutDesk$Version;)Z" } : Jvm.MethodName)) ∈ lw_all := lw_g (lw_at lw_m7 1 rfl) rfl
theorem q1484 : (Jvm.Cond.code ({ cls := "CheckoutDesk", name := "isSame", desc := "(LCheckoutDesk$Version;LCheckoutDesk$Version;)Z" } : Jvm.MethodName) prog_1_method_52_code (4 : Nat) (Option.some Jvm.ClassFile.FieldType.boolean)) ∈ lw_all := lw_g (lw_at lw_m7 2 rfl) rfl
theorem q1485 : (Jvm.Cond.methodLink "CheckoutDesk" (173 : Nat) ({ cls := "CheckoutDesk$Store", name := "document", desc := "(I)LCheckoutDesk$Document;" } : Jvm.MethodName)) ∈ lw_all := lw_g (lw_at lw_m7 3 rfl) rfl
theorem q1486 : (Jvm.Cond.methodLink "CheckoutDesk" (225 : Nat) ({ cls := "CheckoutDesk", name := "holder", desc := "(LCheckoutDesk$Branch;)I" } : Jvm.MethodName)) ∈ lw_all := lw_g (lw_at lw_m7 4 rfl) rfl
theorem q1487 : (Jvm.Cond.static ({ cls := "CheckoutDesk", name := "holder", desc := "(LCheckoutDesk$Branch;)I" } : Jvm.MethodName)) ∈ lw_all := lw_g (lw_at lw_m7 5 rfl) rfl
theorem q1488 : (Jvm.Cond.code ({ cls := "CheckoutDesk", name := "holder", desc := "(LCheckoutDesk$Branch;)I" } : Jvm.MethodName) prog_1_method_37_code (1 : Nat) (Option.some Jvm.ClassFile.FieldType.int)) ∈ lw_all := lw_g (lw_at lw_m7 6 rfl) rfl
theorem q1489 : (Jvm.Cond.classLink "CheckoutDesk" (247 : Nat) "CheckoutDesk$Link") ∈ lw_all := lw_g (lw_at lw_m7 7 rfl) rfl
theorem q1490 : (Jvm.Cond.methodLink "CheckoutDesk" (249 : Nat) ({ cls := "CheckoutDesk$Store", name := "opened", desc := "(LCheckoutDesk$Link;I)LCheckoutDesk$Version;" } : Jvm.MethodName)) ∈ lw_all := lw_g (lw_at lw_m7 8 rfl) rfl
theorem q1491 : (Jvm.Cond.methodLink "CheckoutDesk" (240 : Nat) ({ cls := "CheckoutDesk$Store", name := "maySee", desc := "(ILCheckoutDesk$Version;)Z" } : Jvm.MethodName)) ∈ lw_all := lw_g (lw_at lw_m7 9 rfl) rfl
theorem q1492 : (Jvm.Cond.methodLink "CheckoutDesk" (301 : Nat) ({ cls := "CheckoutDesk$Store", name := "close", desc := "()V" } : Jvm.MethodName)) ∈ lw_all := lw_g (lw_at lw_m7 10 rfl) rfl
theorem q1496 : (Jvm.Cond.methodLink "CheckoutDesk" (306 : Nat) ({ cls := "java/lang/Throwable", name := "addSuppressed", desc := "(Ljava/lang/Throwable;)V" } : Jvm.MethodName)) ∈ lw_all := lw_g (lw_at lw_m7 14 rfl) rfl
theorem q1748 : (Jvm.Cond.instanceMethod ({ cls := "CheckoutDesk", name := "pass", desc := "(I)I" } : Jvm.MethodName)) ∈ lw_all := lw_g (lw_at lw_m8 26 rfl) rfl
theorem q1749 : (Jvm.Cond.selects "CheckoutDesk" ({ cls := "CheckoutDesk", name := "pass", desc := "(I)I" } : Jvm.MethodName) ({ cls := "CheckoutDesk", name := "pass", desc := "(I)I" } : Jvm.MethodName)) ∈ lw_all := lw_g (lw_at lw_m8 27 rfl) rfl
theorem q1750 : (Jvm.Cond.code ({ cls := "CheckoutDesk", name := "pass", desc := "(I)I" } : Jvm.MethodName) prog_1_method_11_code (2 : Nat) (Option.some Jvm.ClassFile.FieldType.int)) ∈ lw_all := lw_g (lw_at lw_m8 28 rfl) rfl
theorem q1751 : (Jvm.Cond.classLink "CheckoutDesk" (87 : Nat) "CheckoutDesk$1") ∈ lw_all := lw_g (lw_at lw_m8 29 rfl) rfl
theorem q1753 : (Jvm.Cond.methodLink "CheckoutDesk" (89 : Nat) ({ cls := "CheckoutDesk$1", name := "<init>", desc := "(LCheckoutDesk;I)V" } : Jvm.MethodName)) ∈ lw_all := lw_g (lw_at lw_m8 31 rfl) rfl
theorem q1764 : (Jvm.Cond.methodLink "CheckoutDesk" (92 : Nat) ({ cls := "CheckoutDesk", name := "done", desc := "(LCheckoutDesk$Act;)I" } : Jvm.MethodName)) ∈ lw_all := lw_g (lw_at lw_m8 42 rfl) rfl
theorem q1765 : (Jvm.Cond.privateMethod ({ cls := "CheckoutDesk", name := "done", desc := "(LCheckoutDesk$Act;)I" } : Jvm.MethodName)) ∈ lw_tbl := lw_at lw_m8 43 rfl
theorem q1766 : (Jvm.Cond.instanceMethod ({ cls := "CheckoutDesk", name := "done", desc := "(LCheckoutDesk$Act;)I" } : Jvm.MethodName)) ∈ lw_all := lw_g (lw_at lw_m8 44 rfl) rfl
theorem q1767 : (Jvm.Cond.code ({ cls := "CheckoutDesk", name := "done", desc := "(LCheckoutDesk$Act;)I" } : Jvm.MethodName) prog_1_method_9_code (3 : Nat) (Option.some Jvm.ClassFile.FieldType.int)) ∈ lw_all := lw_g (lw_at lw_m8 45 rfl) rfl
theorem q1769 : (Jvm.Cond.methodLink "CheckoutDesk" (77 : Nat) ({ cls := "CheckoutDesk$Event", name := "<init>", desc := "(LCheckoutDesk$Act;I)V" } : Jvm.MethodName)) ∈ lw_all := lw_g (lw_at lw_m8 47 rfl) rfl
theorem q1774 : (Jvm.Cond.fieldLinkNest "CheckoutDesk" (289 : Nat) "CheckoutDesk$Event" "act" "LCheckoutDesk$Act;" "CheckoutDesk") ∈ lw_tbl := lw_at lw_m8 52 rfl
theorem q1776 : (Jvm.Cond.fieldLinkNest "CheckoutDesk" (286 : Nat) "CheckoutDesk$Event" "hour" "I" "CheckoutDesk") ∈ lw_tbl := lw_at lw_m8 54 rfl
theorem q1782 : (Jvm.Cond.methodLink "CheckoutDesk" (80 : Nat) ({ cls := "java/util/ArrayList", name := "add", desc := "(Ljava/lang/Object;)Z" } : Jvm.MethodName)) ∈ lw_all := lw_g (lw_at lw_m8 60 rfl) rfl
theorem q1787 : (Jvm.Cond.instanceMethod ({ cls := "CheckoutDesk", name := "setLapse", desc := "(I)I" } : Jvm.MethodName)) ∈ lw_all := lw_g (lw_at lw_m8 65 rfl) rfl
theorem q1788 : (Jvm.Cond.selects "CheckoutDesk" ({ cls := "CheckoutDesk", name := "setLapse", desc := "(I)I" } : Jvm.MethodName) ({ cls := "CheckoutDesk", name := "setLapse", desc := "(I)I" } : Jvm.MethodName)) ∈ lw_all := lw_g (lw_at lw_m8 66 rfl) rfl
theorem q1789 : (Jvm.Cond.code ({ cls := "CheckoutDesk", name := "setLapse", desc := "(I)I" } : Jvm.MethodName) prog_1_method_12_code (2 : Nat) (Option.some Jvm.ClassFile.FieldType.int)) ∈ lw_all := lw_g (lw_at lw_m8 67 rfl) rfl
theorem q1790 : (Jvm.Cond.classLink "CheckoutDesk" (96 : Nat) "CheckoutDesk$2") ∈ lw_all := lw_g (lw_at lw_m8 68 rfl) rfl
theorem q1792 : (Jvm.Cond.methodLink "CheckoutDesk" (98 : Nat) ({ cls := "CheckoutDesk$2", name := "<init>", desc := "(LCheckoutDesk;I)V" } : Jvm.MethodName)) ∈ lw_all := lw_g (lw_at lw_m8 70 rfl) rfl
theorem q1808 : (Jvm.Cond.instanceMethod ({ cls := "CheckoutDesk", name := "create", desc := "(II)I" } : Jvm.MethodName)) ∈ lw_all := lw_g (lw_at lw_m8 86 rfl) rfl
theorem q1809 : (Jvm.Cond.selects "CheckoutDesk" ({ cls := "CheckoutDesk", name := "create", desc := "(II)I" } : Jvm.MethodName) ({ cls := "CheckoutDesk", name := "create", desc := "(II)I" } : Jvm.MethodName)) ∈ lw_all := lw_g (lw_at lw_m8 87 rfl) rfl
theorem q1810 : (Jvm.Cond.code ({ cls := "CheckoutDesk", name := "create", desc := "(II)I" } : Jvm.MethodName) prog_1_method_13_code (3 : Nat) (Option.some Jvm.ClassFile.FieldType.int)) ∈ lw_all := lw_g (lw_at lw_m8 88 rfl) rfl
theorem q1811 : (Jvm.Cond.classLink "CheckoutDesk" (99 : Nat) "CheckoutDesk$3") ∈ lw_all := lw_g (lw_at lw_m8 89 rfl) rfl
theorem q1813 : (Jvm.Cond.methodLink "CheckoutDesk" (101 : Nat) ({ cls := "CheckoutDesk$3", name := "<init>", desc := "(LCheckoutDesk;II)V" } : Jvm.MethodName)) ∈ lw_all := lw_g (lw_at lw_m8 91 rfl) rfl
theorem q1831 : (Jvm.Cond.instanceMethod ({ cls := "CheckoutDesk", name := "grant", desc := "(IIII)I" } : Jvm.MethodName)) ∈ lw_all := lw_g (lw_at lw_m8 109 rfl) rfl
theorem q1832 : (Jvm.Cond.selects "CheckoutDesk" ({ cls := "CheckoutDesk", name := "grant", desc := "(IIII)I" } : Jvm.MethodName) ({ cls := "CheckoutDesk", name := "grant", desc := "(IIII)I" } : Jvm.MethodName)) ∈ lw_all := lw_g (lw_at lw_m8 110 rfl) rfl
theorem q1833 : (Jvm.Cond.code ({ cls := "CheckoutDesk", name := "grant", desc := "(IIII)I" } : Jvm.MethodName) prog_1_method_14_code (5 : Nat) (Option.some Jvm.ClassFile.FieldType.int)) ∈ lw_all := lw_g (lw_at lw_m8 111 rfl) rfl
theorem q1834 : (Jvm.Cond.classLink "CheckoutDesk" (104 : Nat) "CheckoutDesk$4") ∈ lw_all := lw_g (lw_at lw_m8 112 rfl) rfl
theorem q1836 : (Jvm.Cond.methodLink "CheckoutDesk" (106 : Nat) ({ cls := "CheckoutDesk$4", name := "<init>", desc := "(LCheckoutDesk;IIII)V" } : Jvm.MethodName)) ∈ lw_all := lw_g (lw_at lw_m8 114 rfl) rfl
theorem q1860 : (Jvm.Cond.instanceMethod ({ cls := "CheckoutDesk", name := "checkOut", desc := "(III)I" } : Jvm.MethodName)) ∈ lw_all := lw_g (lw_at lw_m8 138 rfl) rfl
theorem q1861 : (Jvm.Cond.selects "CheckoutDesk" ({ cls := "CheckoutDesk", name := "checkOut", desc := "(III)I" } : Jvm.MethodName) ({ cls := "CheckoutDesk", name := "checkOut", desc := "(III)I" } : Jvm.MethodName)) ∈ lw_all := lw_g (lw_at lw_m8 139 rfl) rfl
theorem q1862 : (Jvm.Cond.code ({ cls := "CheckoutDesk", name := "checkOut", desc := "(III)I" } : Jvm.MethodName) prog_1_method_15_code (4 : Nat) (Option.some Jvm.ClassFile.FieldType.int)) ∈ lw_all := lw_g (lw_at lw_m8 140 rfl) rfl
theorem q1863 : (Jvm.Cond.classLink "CheckoutDesk" (109 : Nat) "CheckoutDesk$5") ∈ lw_all := lw_g (lw_at lw_m8 141 rfl) rfl
theorem q1865 : (Jvm.Cond.methodLink "CheckoutDesk" (111 : Nat) ({ cls := "CheckoutDesk$5", name := "<init>", desc := "(LCheckoutDesk;III)V" } : Jvm.MethodName)) ∈ lw_all := lw_g (lw_at lw_m8 143 rfl) rfl
theorem q1886 : (Jvm.Cond.instanceMethod ({ cls := "CheckoutDesk", name := "edit", desc := "(IIIII)I" } : Jvm.MethodName)) ∈ lw_all := lw_g (lw_at lw_m8 164 rfl) rfl
theorem q1887 : (Jvm.Cond.selects "CheckoutDesk" ({ cls := "CheckoutDesk", name := "edit", desc := "(IIIII)I" } : Jvm.MethodName) ({ cls := "CheckoutDesk", name := "edit", desc := "(IIIII)I" } : Jvm.MethodName)) ∈ lw_all := lw_g (lw_at lw_m8 165 rfl) rfl
theorem q1888 : (Jvm.Cond.code ({ cls := "CheckoutDesk", name := "edit", desc := "(IIIII)I" } : Jvm.MethodName) prog_1_method_18_code (6 : Nat) (Option.some Jvm.ClassFile.FieldType.int)) ∈ lw_all := lw_g (lw_at lw_m8 166 rfl) rfl
theorem q1889 : (Jvm.Cond.classLink "CheckoutDesk" (132 : Nat) "CheckoutDesk$6") ∈ lw_all := lw_g (lw_at lw_m8 167 rfl) rfl
theorem q1891 : (Jvm.Cond.methodLink "CheckoutDesk" (134 : Nat) ({ cls := "CheckoutDesk$6", name := "<init>", desc := "(LCheckoutDesk;IIIII)V" } : Jvm.MethodName)) ∈ lw_all := lw_g (lw_at lw_m8 169 rfl) rfl
theorem q1918 : (Jvm.Cond.instanceMethod ({ cls := "CheckoutDesk", name := "checkIn", desc := "(IIIZ)I" } : Jvm.MethodName)) ∈ lw_all := lw_g (lw_at lw_m8 196 rfl) rfl
theorem q1919 : (Jvm.Cond.selects "CheckoutDesk" ({ cls := "CheckoutDesk", name := "checkIn", desc := "(IIIZ)I" } : Jvm.MethodName) ({ cls := "CheckoutDesk", name := "checkIn", desc := "(IIIZ)I" } : Jvm.MethodName)) ∈ lw_all := lw_g (lw_at lw_m8 197 rfl) rfl
theorem q1920 : (Jvm.Cond.code ({ cls := "CheckoutDesk", name := "checkIn", desc := "(IIIZ)I" } : Jvm.MethodName) prog_1_method_19_code (5 : Nat) (Option.some Jvm.ClassFile.FieldType.int)) ∈ lw_all := lw_g (lw_at lw_m8 198 rfl) rfl
theorem q1921 : (Jvm.Cond.classLink "CheckoutDesk" (137 : Nat) "CheckoutDesk$7") ∈ lw_all := lw_g (lw_at lw_m8 199 rfl) rfl
theorem q1923 : (Jvm.Cond.methodLink "CheckoutDesk" (139 : Nat) ({ cls := "CheckoutDesk$7", name := "<init>", desc := "(LCheckoutDesk;IIIZ)V" } : Jvm.MethodName)) ∈ lw_all := lw_g (lw_at lw_m8 201 rfl) rfl
theorem q1947 : (Jvm.Cond.instanceMethod ({ cls := "CheckoutDesk", name := "renew", desc := "(III)I" } : Jvm.MethodName)) ∈ lw_all := lw_g (lw_at lw_m8 225 rfl) rfl
theorem q1948 : (Jvm.Cond.selects "CheckoutDesk" ({ cls := "CheckoutDesk", name := "renew", desc := "(III)I" } : Jvm.MethodName) ({ cls := "CheckoutDesk", name := "renew", desc := "(III)I" } : Jvm.MethodName)) ∈ lw_all := lw_g (lw_at lw_m8 226 rfl) rfl
theorem q1949 : (Jvm.Cond.code ({ cls := "CheckoutDesk", name := "renew", desc := "(III)I" } : Jvm.MethodName) prog_1_method_20_code (4 : Nat) (Option.some Jvm.ClassFile.FieldType.int)) ∈ lw_all := lw_g (lw_at lw_m8 227 rfl) rfl
theorem q1950 : (Jvm.Cond.classLink "CheckoutDesk" (142 : Nat) "CheckoutDesk$8") ∈ lw_all := lw_g (lw_at lw_m8 228 rfl) rfl
theorem q1952 : (Jvm.Cond.methodLink "CheckoutDesk" (144 : Nat) ({ cls := "CheckoutDesk$8", name := "<init>", desc := "(LCheckoutDesk;III)V" } : Jvm.MethodName)) ∈ lw_all := lw_g (lw_at lw_m8 230 rfl) rfl
theorem q1973 : (Jvm.Cond.instanceMethod ({ cls := "CheckoutDesk", name := "cancel", desc := "(III)I" } : Jvm.MethodName)) ∈ lw_all := lw_g (lw_at lw_m9 11 rfl) rfl
theorem q1974 : (Jvm.Cond.selects "CheckoutDesk" ({ cls := "CheckoutDesk", name := "cancel", desc := "(III)I" } : Jvm.MethodName) ({ cls := "CheckoutDesk", name := "cancel", desc := "(III)I" } : Jvm.MethodName)) ∈ lw_all := lw_g (lw_at lw_m9 12 rfl) rfl
theorem q1975 : (Jvm.Cond.code ({ cls := "CheckoutDesk", name := "cancel", desc := "(III)I" } : Jvm.MethodName) prog_1_method_21_code (4 : Nat) (Option.some Jvm.ClassFile.FieldType.int)) ∈ lw_all := lw_g (lw_at lw_m9 13 rfl) rfl
theorem q1976 : (Jvm.Cond.classLink "CheckoutDesk" (145 : Nat) "CheckoutDesk$9") ∈ lw_all := lw_g (lw_at lw_m9 14 rfl) rfl
theorem q1978 : (Jvm.Cond.methodLink "CheckoutDesk" (147 : Nat) ({ cls := "CheckoutDesk$9", name := "<init>", desc := "(LCheckoutDesk;III)V" } : Jvm.MethodName)) ∈ lw_all := lw_g (lw_at lw_m9 16 rfl) rfl
theorem q1999 : (Jvm.Cond.instanceMethod ({ cls := "CheckoutDesk", name := "promote", desc := "(III)I" } : Jvm.MethodName)) ∈ lw_all := lw_g (lw_at lw_m9 37 rfl) rfl
theorem q2000 : (Jvm.Cond.selects "CheckoutDesk" ({ cls := "CheckoutDesk", name := "promote", desc := "(III)I" } : Jvm.MethodName) ({ cls := "CheckoutDesk", name := "promote", desc := "(III)I" } : Jvm.MethodName)) ∈ lw_all := lw_g (lw_at lw_m9 38 rfl) rfl
theorem q2001 : (Jvm.Cond.code ({ cls := "CheckoutDesk", name := "promote", desc := "(III)I" } : Jvm.MethodName) prog_1_method_22_code (4 : Nat) (Option.some Jvm.ClassFile.FieldType.int)) ∈ lw_all := lw_g (lw_at lw_m9 39 rfl) rfl
theorem q2002 : (Jvm.Cond.classLink "CheckoutDesk" (148 : Nat) "CheckoutDesk$10") ∈ lw_all := lw_g (lw_at lw_m9 40 rfl) rfl
theorem q2004 : (Jvm.Cond.methodLink "CheckoutDesk" (150 : Nat) ({ cls := "CheckoutDesk$10", name := "<init>", desc := "(LCheckoutDesk;III)V" } : Jvm.MethodName)) ∈ lw_all := lw_g (lw_at lw_m9 42 rfl) rfl
theorem q2025 : (Jvm.Cond.instanceMethod ({ cls := "CheckoutDesk", name := "prune", desc := "(III)I" } : Jvm.MethodName)) ∈ lw_all := lw_g (lw_at lw_m9 63 rfl) rfl
theorem q2026 : (Jvm.Cond.selects "CheckoutDesk" ({ cls := "CheckoutDesk", name := "prune", desc := "(III)I" } : Jvm.MethodName) ({ cls := "CheckoutDesk", name := "prune", desc := "(III)I" } : Jvm.MethodName)) ∈ lw_all := lw_g (lw_at lw_m9 64 rfl) rfl
theorem q2027 : (Jvm.Cond.code ({ cls := "CheckoutDesk", name := "prune", desc := "(III)I" } : Jvm.MethodName) prog_1_method_23_code (4 : Nat) (Option.some Jvm.ClassFile.FieldType.int)) ∈ lw_all := lw_g (lw_at lw_m9 65 rfl) rfl
theorem q2028 : (Jvm.Cond.classLink "CheckoutDesk" (151 : Nat) "CheckoutDesk$11") ∈ lw_all := lw_g (lw_at lw_m9 66 rfl) rfl
theorem q2030 : (Jvm.Cond.methodLink "CheckoutDesk" (153 : Nat) ({ cls := "CheckoutDesk$11", name := "<init>", desc := "(LCheckoutDesk;III)V" } : Jvm.MethodName)) ∈ lw_all := lw_g (lw_at lw_m9 68 rfl) rfl
theorem q2051 : (Jvm.Cond.instanceMethod ({ cls := "CheckoutDesk", name := "branchOff", desc := "(II)I" } : Jvm.MethodName)) ∈ lw_all := lw_g (lw_at lw_m9 89 rfl) rfl
theorem q2052 : (Jvm.Cond.selects "CheckoutDesk" ({ cls := "CheckoutDesk", name := "branchOff", desc := "(II)I" } : Jvm.MethodName) ({ cls := "CheckoutDesk", name := "branchOff", desc := "(II)I" } : Jvm.MethodName)) ∈ lw_all := lw_g (lw_at lw_m9 90 rfl) rfl
theorem q2053 : (Jvm.Cond.code ({ cls := "CheckoutDesk", name := "branchOff", desc := "(II)I" } : Jvm.MethodName) prog_1_method_24_code (3 : Nat) (Option.some Jvm.ClassFile.FieldType.int)) ∈ lw_all := lw_g (lw_at lw_m9 91 rfl) rfl
theorem q2054 : (Jvm.Cond.classLink "CheckoutDesk" (154 : Nat) "CheckoutDesk$12") ∈ lw_all := lw_g (lw_at lw_m9 92 rfl) rfl
theorem q2056 : (Jvm.Cond.methodLink "CheckoutDesk" (156 : Nat) ({ cls := "CheckoutDesk$12", name := "<init>", desc := "(LCheckoutDesk;II)V" } : Jvm.MethodName)) ∈ lw_all := lw_g (lw_at lw_m9 94 rfl) rfl
theorem q2074 : (Jvm.Cond.instanceMethod ({ cls := "CheckoutDesk", name := "merge", desc := "(III)I" } : Jvm.MethodName)) ∈ lw_all := lw_g (lw_at lw_m9 112 rfl) rfl
theorem q2075 : (Jvm.Cond.selects "CheckoutDesk" ({ cls := "CheckoutDesk", name := "merge", desc := "(III)I" } : Jvm.MethodName) ({ cls := "CheckoutDesk", name := "merge", desc := "(III)I" } : Jvm.MethodName)) ∈ lw_all := lw_g (lw_at lw_m9 113 rfl) rfl
theorem q2076 : (Jvm.Cond.code ({ cls := "CheckoutDesk", name := "merge", desc := "(III)I" } : Jvm.MethodName) prog_1_method_25_code (4 : Nat) (Option.some Jvm.ClassFile.FieldType.int)) ∈ lw_all := lw_g (lw_at lw_m9 114 rfl) rfl
theorem q2077 : (Jvm.Cond.classLink "CheckoutDesk" (157 : Nat) "CheckoutDesk$13") ∈ lw_all := lw_g (lw_at lw_m9 115 rfl) rfl
theorem q2079 : (Jvm.Cond.methodLink "CheckoutDesk" (159 : Nat) ({ cls := "CheckoutDesk$13", name := "<init>", desc := "(LCheckoutDesk;III)V" } : Jvm.MethodName)) ∈ lw_all := lw_g (lw_at lw_m9 117 rfl) rfl
theorem q2100 : (Jvm.Cond.instanceMethod ({ cls := "CheckoutDesk", name := "linkVersion", desc := "(III)I" } : Jvm.MethodName)) ∈ lw_all := lw_g (lw_at lw_m9 138 rfl) rfl
theorem q2101 : (Jvm.Cond.selects "CheckoutDesk" ({ cls := "CheckoutDesk", name := "linkVersion", desc := "(III)I" } : Jvm.MethodName) ({ cls := "CheckoutDesk", name := "linkVersion", desc := "(III)I" } : Jvm.MethodName)) ∈ lw_all := lw_g (lw_at lw_m9 139 rfl) rfl
theorem q2102 : (Jvm.Cond.code ({ cls := "CheckoutDesk", name := "linkVersion", desc := "(III)I" } : Jvm.MethodName) prog_1_method_26_code (4 : Nat) (Option.some Jvm.ClassFile.FieldType.int)) ∈ lw_all := lw_g (lw_at lw_m9 140 rfl) rfl
theorem q2103 : (Jvm.Cond.classLink "CheckoutDesk" (160 : Nat) "CheckoutDesk$14") ∈ lw_all := lw_g (lw_at lw_m9 141 rfl) rfl
theorem q2105 : (Jvm.Cond.methodLink "CheckoutDesk" (162 : Nat) ({ cls := "CheckoutDesk$14", name := "<init>", desc := "(LCheckoutDesk;III)V" } : Jvm.MethodName)) ∈ lw_all := lw_g (lw_at lw_m9 143 rfl) rfl
theorem q2126 : (Jvm.Cond.instanceMethod ({ cls := "CheckoutDesk", name := "linkDocument", desc := "(IIII)I" } : Jvm.MethodName)) ∈ lw_all := lw_g (lw_at lw_m9 164 rfl) rfl
theorem q2127 : (Jvm.Cond.selects "CheckoutDesk" ({ cls := "CheckoutDesk", name := "linkDocument", desc := "(IIII)I" } : Jvm.MethodName) ({ cls := "CheckoutDesk", name := "linkDocument", desc := "(IIII)I" } : Jvm.MethodName)) ∈ lw_all := lw_g (lw_at lw_m9 165 rfl) rfl
theorem q2128 : (Jvm.Cond.code ({ cls := "CheckoutDesk", name := "linkDocument", desc := "(IIII)I" } : Jvm.MethodName) prog_1_method_27_code (5 : Nat) (Option.some Jvm.ClassFile.FieldType.int)) ∈ lw_all := lw_g (lw_at lw_m9 166 rfl) rfl
theorem q2129 : (Jvm.Cond.classLink "CheckoutDesk" (163 : Nat) "CheckoutDesk$15") ∈ lw_all := lw_g (lw_at lw_m9 167 rfl) rfl
theorem q2131 : (Jvm.Cond.methodLink "CheckoutDesk" (165 : Nat) ({ cls := "CheckoutDesk$15", name := "<init>", desc := "(LCheckoutDesk;IIII)V" } : Jvm.MethodName)) ∈ lw_all := lw_g (lw_at lw_m9 169 rfl) rfl
theorem q2155 : (Jvm.Cond.instanceMethod ({ cls := "CheckoutDesk", name := "unlink", desc := "(II)I" } : Jvm.MethodName)) ∈ lw_all := lw_g (lw_at lw_m9 193 rfl) rfl
theorem q2156 : (Jvm.Cond.selects "CheckoutDesk" ({ cls := "CheckoutDesk", name := "unlink", desc := "(II)I" } : Jvm.MethodName) ({ cls := "CheckoutDesk", name := "unlink", desc := "(II)I" } : Jvm.MethodName)) ∈ lw_all := lw_g (lw_at lw_m9 194 rfl) rfl
theorem q2157 : (Jvm.Cond.code ({ cls := "CheckoutDesk", name := "unlink", desc := "(II)I" } : Jvm.MethodName) prog_1_method_28_code (3 : Nat) (Option.some Jvm.ClassFile.FieldType.int)) ∈ lw_all := lw_g (lw_at lw_m9 195 rfl) rfl
theorem q2158 : (Jvm.Cond.classLink "CheckoutDesk" (166 : Nat) "CheckoutDesk$16") ∈ lw_all := lw_g (lw_at lw_m9 196 rfl) rfl
theorem q2160 : (Jvm.Cond.methodLink "CheckoutDesk" (168 : Nat) ({ cls := "CheckoutDesk$16", name := "<init>", desc := "(LCheckoutDesk;II)V" } : Jvm.MethodName)) ∈ lw_all := lw_g (lw_at lw_m9 198 rfl) rfl
theorem q2178 : (Jvm.Cond.instanceMethod ({ cls := "CheckoutDesk", name := "branches", desc := "(I)I" } : Jvm.MethodName)) ∈ lw_all := lw_g (lw_at lw_m9 216 rfl) rfl
theorem q2179 : (Jvm.Cond.selects "CheckoutDesk" ({ cls := "CheckoutDesk", name := "branches", desc := "(I)I" } : Jvm.MethodName) ({ cls := "CheckoutDesk", name := "branches", desc := "(I)I" } : Jvm.MethodName)) ∈ lw_all := lw_g (lw_at lw_m9 217 rfl) rfl
theorem q2180 : (Jvm.Cond.code ({ cls := "CheckoutDesk", name := "branches", desc := "(I)I" } : Jvm.MethodName) prog_1_method_31_code (2 : Nat) (Option.some Jvm.ClassFile.FieldType.int)) ∈ lw_all := lw_g (lw_at lw_m9 218 rfl) rfl
theorem q2185 : (Jvm.Cond.instanceMethod ({ cls := "CheckoutDesk", name := "rightOf", desc := "(II)I" } : Jvm.MethodName)) ∈ lw_all := lw_g (lw_at lw_m9 223 rfl) rfl
theorem q2186 : (Jvm.Cond.selects "CheckoutDesk" ({ cls := "CheckoutDesk", name := "rightOf", desc := "(II)I" } : Jvm.MethodName) ({ cls := "CheckoutDesk", name := "rightOf", desc := "(II)I" } : Jvm.MethodName)) ∈ lw_all := lw_g (lw_at lw_m9 224 rfl) rfl
theorem q2187 : (Jvm.Cond.code ({ cls := "CheckoutDesk", name := "rightOf", desc := "(II)I" } : Jvm.MethodName) prog_1_method_32_code (3 : Nat) (Option.some Jvm.ClassFile.FieldType.int)) ∈ lw_all := lw_g (lw_at lw_m9 225 rfl) rfl
theorem q2188 : (Jvm.Cond.methodLink "CheckoutDesk" (182 : Nat) ({ cls := "CheckoutDesk", name := "requirePerson", desc := "(I)V" } : Jvm.MethodName)) ∈ lw_all := lw_g (lw_at lw_m9 226 rfl) rfl
theorem q2193 : (Jvm.Cond.instanceMethod ({ cls := "CheckoutDesk", name := "numberOf", desc := "(I)I" } : Jvm.MethodName)) ∈ lw_all := lw_g (lw_at lw_m9 231 rfl) rfl
theorem q2194 : (Jvm.Cond.selects "CheckoutDesk" ({ cls := "CheckoutDesk", name := "numberOf", desc := "(I)I" } : Jvm.MethodName) ({ cls := "CheckoutDesk", name := "numberOf", desc := "(I)I" } : Jvm.MethodName)) ∈ lw_all := lw_g (lw_at lw_m9 232 rfl) rfl
theorem q2195 : (Jvm.Cond.code ({ cls := "CheckoutDesk", name := "numberOf", desc := "(I)I" } : Jvm.MethodName) prog_1_method_33_code (3 : Nat) (Option.some Jvm.ClassFile.FieldType.int)) ∈ lw_all := lw_g (lw_at lw_m9 233 rfl) rfl
theorem q2196 : (Jvm.Cond.methodLink "CheckoutDesk" (190 : Nat) ({ cls := "CheckoutDesk$Store", name := "version", desc := "(I)LCheckoutDesk$Version;" } : Jvm.MethodName)) ∈ lw_all := lw_g (lw_at lw_m9 234 rfl) rfl
theorem q2197 : (Jvm.Cond.constant "CheckoutDesk" (194 : Nat) (1000000 : Int32)) ∈ lw_all := lw_g (lw_at lw_m9 235 rfl) rfl
theorem q2198 : (Jvm.Cond.constant "CheckoutDesk" (199 : Nat) (100000 : Int32)) ∈ lw_all := lw_g (lw_at lw_m9 236 rfl) rfl
theorem q2203 : (Jvm.Cond.instanceMethod ({ cls := "CheckoutDesk", name := "valueOf", desc := "(II)I" } : Jvm.MethodName)) ∈ lw_all := lw_g (lw_at lw_m10 1 rfl) rfl
theorem q2204 : (Jvm.Cond.selects "CheckoutDesk" ({ cls := "CheckoutDesk", name := "valueOf", desc := "(II)I" } : Jvm.MethodName) ({ cls := "CheckoutDesk", name := "valueOf", desc := "(II)I" } : Jvm.MethodName)) ∈ lw_all := lw_g (lw_at lw_m10 2 rfl) rfl
theorem q2205 : (Jvm.Cond.code ({ cls := "CheckoutDesk", name := "valueOf", desc := "(II)I" } : Jvm.MethodName) prog_1_method_34_code (4 : Nat) (Option.some Jvm.ClassFile.FieldType.int)) ∈ lw_all := lw_g (lw_at lw_m10 3 rfl) rfl
theorem q2206 : (Jvm.Cond.methodLink "CheckoutDesk" (208 : Nat) ({ cls := "CheckoutDesk", name := "requireArgument", desc := "(Z)V" } : Jvm.MethodName)) ∈ lw_all := lw_g (lw_at lw_m10 4 rfl) rfl
theorem q2211 : (Jvm.Cond.instanceMethod ({ cls := "CheckoutDesk", name := "newest", desc := "(II)I" } : Jvm.MethodName)) ∈ lw_all := lw_g (lw_at lw_m10 9 rfl) rfl
theorem q2212 : (Jvm.Cond.selects "CheckoutDesk" ({ cls := "CheckoutDesk", name := "newest", desc := "(II)I" } : Jvm.MethodName) ({ cls := "CheckoutDesk", name := "newest", desc := "(II)I" } : Jvm.MethodName)) ∈ lw_all := lw_g (lw_at lw_m10 10 rfl) rfl
theorem q2213 : (Jvm.Cond.code ({ cls := "CheckoutDesk", name := "newest", desc := "(II)I" } : Jvm.MethodName) prog_1_method_35_code (3 : Nat) (Option.some Jvm.ClassFile.FieldType.int)) ∈ lw_all := lw_g (lw_at lw_m10 11 rfl) rfl
theorem q2214 : (Jvm.Cond.methodLink "CheckoutDesk" (214 : Nat) ({ cls := "CheckoutDesk$Store", name := "newest", desc := "(II)LCheckoutDesk$Version;" } : Jvm.MethodName)) ∈ lw_all := lw_g (lw_at lw_m10 12 rfl) rfl
theorem q2219 : (Jvm.Cond.instanceMethod ({ cls := "CheckoutDesk", name := "originOf", desc := "(II)I" } : Jvm.MethodName)) ∈ lw_all := lw_g (lw_at lw_m10 17 rfl) rfl
theorem q2220 : (Jvm.Cond.selects "CheckoutDesk" ({ cls := "CheckoutDesk", name := "originOf", desc := "(II)I" } : Jvm.MethodName) ({ cls := "CheckoutDesk", name := "originOf", desc := "(II)I" } : Jvm.MethodName)) ∈ lw_all := lw_g (lw_at lw_m10 18 rfl) rfl
theorem q2221 : (Jvm.Cond.code ({ cls := "CheckoutDesk", name := "originOf", desc := "(II)I" } : Jvm.MethodName) prog_1_method_36_code (4 : Nat) (Option.some Jvm.ClassFile.FieldType.int)) ∈ lw_all := lw_g (lw_at lw_m10 19 rfl) rfl
theorem q2226 : (Jvm.Cond.instanceMethod ({ cls := "CheckoutDesk", name := "holder", desc := "(II)I" } : Jvm.MethodName)) ∈ lw_all := lw_g (lw_at lw_m10 24 rfl) rfl
theorem q2227 : (Jvm.Cond.selects "CheckoutDesk" ({ cls := "CheckoutDesk", name := "holder", desc := "(II)I" } : Jvm.MethodName) ({ cls := "CheckoutDesk", name := "holder", desc := "(II)I" } : Jvm.MethodName)) ∈ lw_all := lw_g (lw_at lw_m10 25 rfl) rfl
theorem q2228 : (Jvm.Cond.code ({ cls := "CheckoutDesk", name := "holder", desc := "(II)I" } : Jvm.MethodName) prog_1_method_38_code (3 : Nat) (Option.some Jvm.ClassFile.FieldType.int)) ∈ lw_all := lw_g (lw_at lw_m10 26 rfl) rfl
theorem q2233 : (Jvm.Cond.instanceMethod ({ cls := "CheckoutDesk", name := "hoursLeft", desc := "(II)I" } : Jvm.MethodName)) ∈ lw_all := lw_g (lw_at lw_m10 31 rfl) rfl
theorem q2234 : (Jvm.Cond.selects "CheckoutDesk" ({ cls := "CheckoutDesk", name := "hoursLeft", desc := "(II)I" } : Jvm.MethodName) ({ cls := "CheckoutDesk", name := "hoursLeft", desc := "(II)I" } : Jvm.MethodName)) ∈ lw_all := lw_g (lw_at lw_m10 32 rfl) rfl
theorem q2235 : (Jvm.Cond.code ({ cls := "CheckoutDesk", name := "hoursLeft", desc := "(II)I" } : Jvm.MethodName) prog_1_method_39_code (4 : Nat) (Option.some Jvm.ClassFile.FieldType.int)) ∈ lw_all := lw_g (lw_at lw_m10 33 rfl) rfl
theorem q2236 : (Jvm.Cond.methodLink "CheckoutDesk" (234 : Nat) ({ cls := "java/lang/Math", name := "max", desc := "(II)I" } : Jvm.MethodName)) ∈ lw_all := lw_g (lw_at lw_m10 34 rfl) rfl
theorem q2241 : (Jvm.Cond.instanceMethod ({ cls := "CheckoutDesk", name := "maySee", desc := "(II)Z" } : Jvm.MethodName)) ∈ lw_all := lw_g (lw_at lw_m10 39 rfl) rfl
theorem q2242 : (Jvm.Cond.selects "CheckoutDesk" ({ cls := "CheckoutDesk", name := "maySee", desc := "(II)Z" } : Jvm.MethodName) ({ cls := "CheckoutDesk", name := "maySee", desc := "(II)Z" } : Jvm.MethodName)) ∈ lw_all := lw_g (lw_at lw_m10 40 rfl) rfl
theorem q2243 : (Jvm.Cond.code ({ cls := "CheckoutDesk", name := "maySee", desc := "(II)Z" } : Jvm.MethodName) prog_1_method_40_code (3 : Nat) (Option.some Jvm.ClassFile.FieldType.boolean)) ∈ lw_all := lw_g (lw_at lw_m10 41 rfl) rfl
theorem q2249 : (Jvm.Cond.instanceMethod ({ cls := "CheckoutDesk", name := "open", desc := "(II)I" } : Jvm.MethodName)) ∈ lw_all := lw_g (lw_at lw_m10 47 rfl) rfl
theorem q2250 : (Jvm.Cond.selects "CheckoutDesk" ({ cls := "CheckoutDesk", name := "open", desc := "(II)I" } : Jvm.MethodName) ({ cls := "CheckoutDesk", name := "open", desc := "(II)I" } : Jvm.MethodName)) ∈ lw_all := lw_g (lw_at lw_m10 48 rfl) rfl
theorem q2251 : (Jvm.Cond.code ({ cls := "CheckoutDesk", name := "open", desc := "(II)I" } : Jvm.MethodName) prog_1_method_41_code (5 : Nat) (Option.some Jvm.ClassFile.FieldType.int)) ∈ lw_all := lw_g (lw_at lw_m10 49 rfl) rfl
theorem q2252 : (Jvm.Cond.methodLink "CheckoutDesk" (253 : Nat) ({ cls := "CheckoutDesk", name := "requireElement", desc := "(Z)V" } : Jvm.MethodName)) ∈ lw_all := lw_g (lw_at lw_m10 50 rfl) rfl
theorem q2253 : (Jvm.Cond.static ({ cls := "CheckoutDesk", name := "requireElement", desc := "(Z)V" } : Jvm.MethodName)) ∈ lw_all := lw_g (lw_at lw_m10 51 rfl) rfl
theorem q2254 : (Jvm.Cond.code ({ cls := "CheckoutDesk", name := "requireElement", desc := "(Z)V" } : Jvm.MethodName) prog_1_method_5_code (1 : Nat) (Option.none : Option Jvm.ClassFile.FieldType)) ∈ lw_all := lw_g (lw_at lw_m10 52 rfl) rfl
theorem q2255 : (Jvm.Cond.classLink "CheckoutDesk" (13 : Nat) "java/util/NoSuchElementException") ∈ lw_all := lw_g (lw_at lw_m10 53 rfl) rfl
theorem q2264 : (Jvm.Cond.methodLink "CheckoutDesk" (15 : Nat) ({ cls := "java/util/NoSuchElementException", name := "<init>", desc := "()V" } : Jvm.MethodName)) ∈ lw_all := lw_g (lw_at lw_m10 62 rfl) rfl
theorem q2274 : (Jvm.Cond.instanceMethod ({ cls := "CheckoutDesk", name := "linksTo", desc := "(I)I" } : Jvm.MethodName)) ∈ lw_all := lw_g (lw_at lw_m10 72 rfl) rfl
theorem q2275 : (Jvm.Cond.selects "CheckoutDesk" ({ cls := "CheckoutDesk", name := "linksTo", desc := "(I)I" } : Jvm.MethodName) ({ cls := "CheckoutDesk", name := "linksTo", desc := "(I)I" } : Jvm.MethodName)) ∈ lw_all := lw_g (lw_at lw_m10 73 rfl) rfl
theorem q2276 : (Jvm.Cond.code ({ cls := "CheckoutDesk", name := "linksTo", desc := "(I)I" } : Jvm.MethodName) prog_1_method_42_code (4 : Nat) (Option.some Jvm.ClassFile.FieldType.int)) ∈ lw_all := lw_g (lw_at lw_m10 74 rfl) rfl
theorem q2277 : (Jvm.Cond.classLink "CheckoutDesk" (259 : Nat) "CheckoutDesk$17") ∈ lw_all := lw_g (lw_at lw_m10 75 rfl) rfl
theorem q2279 : (Jvm.Cond.methodLink "CheckoutDesk" (261 : Nat) ({ cls := "CheckoutDesk$17", name := "<init>", desc := "(LCheckoutDesk;ILCheckoutDesk$Version;)V" } : Jvm.MethodName)) ∈ lw_all := lw_g (lw_at lw_m10 77 rfl) rfl
theorem q2297 : (Jvm.Cond.instanceMethod ({ cls := "CheckoutDesk", name := "hourOf", desc := "(I)I" } : Jvm.MethodName)) ∈ lw_all := lw_g (lw_at lw_m10 95 rfl) rfl
theorem q2298 : (Jvm.Cond.selects "CheckoutDesk" ({ cls := "CheckoutDesk", name := "hourOf", desc := "(I)I" } : Jvm.MethodName) ({ cls := "CheckoutDesk", name := "hourOf", desc := "(I)I" } : Jvm.MethodName)) ∈ lw_all := lw_g (lw_at lw_m10 96 rfl) rfl
theorem q2299 : (Jvm.Cond.code ({ cls := "CheckoutDesk", name := "hourOf", desc := "(I)I" } : Jvm.MethodName) prog_1_method_47_code (2 : Nat) (Option.some Jvm.ClassFile.FieldType.int)) ∈ lw_all := lw_g (lw_at lw_m10 97 rfl) rfl
theorem q2300 : (Jvm.Cond.methodLink "CheckoutDesk" (282 : Nat) ({ cls := "CheckoutDesk", name := "requireEvent", desc := "(I)V" } : Jvm.MethodName)) ∈ lw_all := lw_g (lw_at lw_m10 98 rfl) rfl
theorem q2301 : (Jvm.Cond.privateMethod ({ cls := "CheckoutDesk", name := "requireEvent", desc := "(I)V" } : Jvm.MethodName)) ∈ lw_tbl := lw_at lw_m10 99 rfl
theorem q2302 : (Jvm.Cond.instanceMethod ({ cls := "CheckoutDesk", name := "requireEvent", desc := "(I)V" } : Jvm.MethodName)) ∈ lw_all := lw_g (lw_at lw_m10 100 rfl) rfl
theorem q2303 : (Jvm.Cond.code ({ cls := "CheckoutDesk", name := "requireEvent", desc := "(I)V" } : Jvm.MethodName) prog_1_method_46_code (2 : Nat) (Option.none : Option Jvm.ClassFile.FieldType)) ∈ lw_all := lw_g (lw_at lw_m10 101 rfl) rfl
theorem q2308 : (Jvm.Cond.instanceMethod ({ cls := "CheckoutDesk", name := "newestThen", desc := "(III)I" } : Jvm.MethodName)) ∈ lw_all := lw_g (lw_at lw_m10 106 rfl) rfl
theorem q2309 : (Jvm.Cond.selects "CheckoutDesk" ({ cls := "CheckoutDesk", name := "newestThen", desc := "(III)I" } : Jvm.MethodName) ({ cls := "CheckoutDesk", name := "newestThen", desc := "(III)I" } : Jvm.MethodName)) ∈ lw_all := lw_g (lw_at lw_m10 107 rfl) rfl
theorem q2310 : (Jvm.Cond.codeWith ({ cls := "CheckoutDesk", name := "newestThen", desc := "(III)I" } : Jvm.MethodName) prog_1_method_50_code (7 : Nat) (Option.some Jvm.ClassFile.FieldType.int) [((12 : Nat), (38 : Nat), (51 : Nat), (304 : Nat)), ((58 : Nat), (63 : Nat), (66 : Nat), (304 : Nat))]) ∈ lw_all := lw_g (lw_at lw_m10 108 rfl) rfl
theorem q2311 : (Jvm.Cond.methodLink "CheckoutDesk" (297 : Nat) ({ cls := "CheckoutDesk", name := "isThere", desc := "(LCheckoutDesk$Store;II)Z" } : Jvm.MethodName)) ∈ lw_all := lw_g (lw_at lw_m10 109 rfl) rfl
theorem q2312 : (Jvm.Cond.static ({ cls := "CheckoutDesk", name := "isThere", desc := "(LCheckoutDesk$Store;II)Z" } : Jvm.MethodName)) ∈ lw_all := lw_g (lw_at lw_m10 110 rfl) rfl
theorem q2313 : (Jvm.Cond.code ({ cls := "CheckoutDesk", name := "isThere", desc := "(LCheckoutDesk$Store;II)Z" } : Jvm.MethodName) prog_1_method_49_code (3 : Nat) (Option.some Jvm.ClassFile.FieldType.boolean)) ∈ lw_all := lw_g (lw_at lw_m10 111 rfl) rfl
theorem q2318 : (Jvm.Cond.instanceMethod ({ cls := "CheckoutDesk", name := "holderThen", desc := "(III)I" } : Jvm.MethodName)) ∈ lw_all := lw_g (lw_at lw_m10 116 rfl) rfl
theorem q2319 : (Jvm.Cond.selects "CheckoutDesk" ({ cls := "CheckoutDesk", name := "holderThen", desc := "(III)I" } : Jvm.MethodName) ({ cls := "CheckoutDesk", name := "holderThen", desc := "(III)I" } : Jvm.MethodName)) ∈ lw_all := lw_g (lw_at lw_m10 117 rfl) rfl
theorem q2320 : (Jvm.Cond.codeWith ({ cls := "CheckoutDesk", name := "holderThen", desc := "(III)I" } : Jvm.MethodName) prog_1_method_51_code (7 : Nat) (Option.some Jvm.ClassFile.FieldType.int) [((12 : Nat), (38 : Nat), (51 : Nat), (304 : Nat)), ((58 : Nat), (63 : Nat), (66 : Nat), (304 : Nat))]) ∈ lw_all := lw_g (lw_at lw_m10 118 rfl) rfl
theorem q2688 : (Jvm.Cond.castable "CheckoutDesk" "java/lang/Object") ∈ lw_tbl := lw_at lw_m12 6 rfl
theorem in_X1 : ∀ w ∈ wsX10, w ∈ lw_all := lw_in wsX10 [206, 208] (by decide +kernel) (by decide +kernel)
/-! CheckoutDesk$Store -/
set_option maxRecDepth 100000
def RX2 : String := "CheckoutDesk$Store"
def TX2 : u_T := fun k => match k with
  | 0 => ("CheckoutDesk$Store", "documents", "LCheckoutDesk$Row;", true)
  | 1 => ("CheckoutDesk$Store", "versions", "LCheckoutDesk$Row;", true)
  | 2 => ("CheckoutDesk$Store", "links", "LCheckoutDesk$Row;", true)
  | 3 => ("CheckoutDesk$Store", "clock", "I", false)
  | 4 => ("CheckoutDesk$Store", "lapse", "I", false)
  | _ => ("CheckoutDesk$Store", "isClosed", "Z", false)
def tyX2 : Nat → FieldType := fun k => match k with
  | 0 => .object "CheckoutDesk$Row"
  | 1 => .object "CheckoutDesk$Row"
  | 2 => .object "CheckoutDesk$Row"
  | 3 => .int
  | 4 => .int
  | _ => .boolean
abbrev wsX20 : List Cond := u_ws RX2 TX2 6
theorem nmX2 : ∀ a, a < 6 → ∀ b, b < 6 → a ≠ b → (TX2 a).2.1 ≠ (TX2 b).2.1 := by decide +kernel
theorem tyX2_ok : ∀ k, k < 6 → parseFieldDescriptor (TX2 k).2.2.1 = some (tyX2 k) := by decide +kernel
abbrev cX2_init : ByteArray := prog_30_method_1_code
def yX2_init : MethodName := ⟨RX2, "<init>", "()V"⟩
def dkwX2_init_2 : List UInt8 := [181, 0, 26, 177]
abbrev dktX2_init_2 : List UInt8 := dkwX2_init_2 ++ []
def dkwX2_init_1 : List UInt8 := [183, 0, 11, 181, 0, 20, 42, 187, 0, 9, 89, 16, 24, 183, 0, 11, 181, 0, 23, 42, 16, 24]
abbrev dktX2_init_1 : List UInt8 := dkwX2_init_1 ++ dktX2_init_2
def dkwX2_init_0 : List UInt8 := [42, 183, 0, 3, 42, 187, 0, 9, 89, 16, 8, 183, 0, 11, 181, 0, 14, 42, 187, 0, 9, 89, 16, 60]
abbrev dktX2_init_0 : List UInt8 := dkwX2_init_0 ++ dktX2_init_1
theorem dksX2_init_0 : cX2_init.data.toList.drop 0 = dktX2_init_0 := by decide +kernel
theorem dksX2_init_1 : cX2_init.data.toList.drop 24 = dktX2_init_1 := dk_seg dksX2_init_0 24 rfl rfl
theorem dksX2_init_2 : cX2_init.data.toList.drop 46 = dktX2_init_2 := dk_seg dksX2_init_1 22 rfl rfl
theorem dX2_init_0 : decode cX2_init 0 = .ok (.aload_n 0, 1) := dk_42 (dk_at dksX2_init_0 0 rfl rfl)
theorem dX2_init_1 : decode cX2_init 1 = .ok (.invokespecial 3, 3) := dk_183 0 3 (dk_at dksX2_init_0 1 rfl rfl)
theorem dX2_init_4 : decode cX2_init 4 = .ok (.aload_n 0, 1) := dk_42 (dk_at dksX2_init_0 4 rfl rfl)
theorem dX2_init_5 : decode cX2_init 5 = .ok (.new 9, 3) := dk_187 0 9 (dk_at dksX2_init_0 5 rfl rfl)
theorem dX2_init_8 : decode cX2_init 8 = .ok (.dup, 1) := dk_89 (dk_at dksX2_init_0 8 rfl rfl)
theorem dX2_init_9 : decode cX2_init 9 = .ok (.bipush 8, 2) := dk_16 8 (dk_at dksX2_init_0 9 rfl rfl)
theorem dX2_init_11 : decode cX2_init 11 = .ok (.invokespecial 11, 3) := dk_183 0 11 (dk_at dksX2_init_0 11 rfl rfl)
theorem dX2_init_14 : decode cX2_init 14 = .ok (.putfield 14, 3) := dk_181 0 14 (dk_at dksX2_init_0 14 rfl rfl)
theorem dX2_init_17 : decode cX2_init 17 = .ok (.aload_n 0, 1) := dk_42 (dk_at dksX2_init_0 17 rfl rfl)
theorem dX2_init_18 : decode cX2_init 18 = .ok (.new 9, 3) := dk_187 0 9 (dk_at dksX2_init_0 18 rfl rfl)
theorem dX2_init_21 : decode cX2_init 21 = .ok (.dup, 1) := dk_89 (dk_at dksX2_init_0 21 rfl rfl)
theorem dX2_init_22 : decode cX2_init 22 = .ok (.bipush 60, 2) := dk_16 60 (dk_at dksX2_init_0 22 rfl rfl)
theorem dX2_init_24 : decode cX2_init 24 = .ok (.invokespecial 11, 3) := dk_183 0 11 (dk_at dksX2_init_1 0 rfl rfl)
theorem dX2_init_27 : decode cX2_init 27 = .ok (.putfield 20, 3) := dk_181 0 20 (dk_at dksX2_init_1 3 rfl rfl)
theorem dX2_init_30 : decode cX2_init 30 = .ok (.aload_n 0, 1) := dk_42 (dk_at dksX2_init_1 6 rfl rfl)
theorem dX2_init_31 : decode cX2_init 31 = .ok (.new 9, 3) := dk_187 0 9 (dk_at dksX2_init_1 7 rfl rfl)
theorem dX2_init_34 : decode cX2_init 34 = .ok (.dup, 1) := dk_89 (dk_at dksX2_init_1 10 rfl rfl)
theorem dX2_init_35 : decode cX2_init 35 = .ok (.bipush 24, 2) := dk_16 24 (dk_at dksX2_init_1 11 rfl rfl)
theorem dX2_init_37 : decode cX2_init 37 = .ok (.invokespecial 11, 3) := dk_183 0 11 (dk_at dksX2_init_1 13 rfl rfl)
theorem dX2_init_40 : decode cX2_init 40 = .ok (.putfield 23, 3) := dk_181 0 23 (dk_at dksX2_init_1 16 rfl rfl)
theorem dX2_init_43 : decode cX2_init 43 = .ok (.aload_n 0, 1) := dk_42 (dk_at dksX2_init_1 19 rfl rfl)
theorem dX2_init_44 : decode cX2_init 44 = .ok (.bipush 24, 2) := dk_16 24 (dk_at dksX2_init_1 20 rfl rfl)
theorem dX2_init_46 : decode cX2_init 46 = .ok (.putfield 26, 3) := dk_181 0 26 (dk_at dksX2_init_2 0 rfl rfl)
theorem dX2_init_49 : decode cX2_init 49 = .ok (.return_, 1) := dk_177 (dk_at dksX2_init_2 3 rfl rfl)
abbrev cX2_opened : ByteArray := prog_30_method_10_code
def yX2_opened : MethodName := ⟨RX2, "opened", "(LCheckoutDesk$Link;I)LCheckoutDesk$Version;"⟩
def dkwX2_opened_2 : List UInt8 := [192, 0, 45, 176]
abbrev dktX2_opened_2 : List UInt8 := dkwX2_opened_2 ++ []
def dkwX2_opened_1 : List UInt8 := [167, 0, 4, 1, 176, 42, 180, 0, 20, 187, 0, 106, 89, 42, 43, 28, 183, 0, 108, 184, 0, 60]
abbrev dktX2_opened_1 : List UInt8 := dkwX2_opened_1 ++ dktX2_opened_2
def dkwX2_opened_0 : List UInt8 := [43, 180, 0, 93, 154, 0, 24, 42, 28, 43, 180, 0, 98, 182, 0, 102, 153, 0, 10, 43, 180, 0, 98]
abbrev dktX2_opened_0 : List UInt8 := dkwX2_opened_0 ++ dktX2_opened_1
theorem dksX2_opened_0 : cX2_opened.data.toList.drop 0 = dktX2_opened_0 := by decide +kernel
theorem dksX2_opened_1 : cX2_opened.data.toList.drop 23 = dktX2_opened_1 := dk_seg dksX2_opened_0 23 rfl rfl
theorem dksX2_opened_2 : cX2_opened.data.toList.drop 45 = dktX2_opened_2 := dk_seg dksX2_opened_1 22 rfl rfl
theorem dX2_opened_0 : decode cX2_opened 0 = .ok (.aload_n 1, 1) := dk_43 (dk_at dksX2_opened_0 0 rfl rfl)
theorem dX2_opened_1 : decode cX2_opened 1 = .ok (.getfield 93, 3) := dk_180 0 93 (dk_at dksX2_opened_0 1 rfl rfl)
theorem dX2_opened_4 : decode cX2_opened 4 = .ok (.ifCond .ne 24, 3) := dk_154 0 24 (dk_at dksX2_opened_0 4 rfl rfl)
theorem dX2_opened_7 : decode cX2_opened 7 = .ok (.aload_n 0, 1) := dk_42 (dk_at dksX2_opened_0 7 rfl rfl)
theorem dX2_opened_8 : decode cX2_opened 8 = .ok (.iload_n 2, 1) := dk_28 (dk_at dksX2_opened_0 8 rfl rfl)
theorem dX2_opened_9 : decode cX2_opened 9 = .ok (.aload_n 1, 1) := dk_43 (dk_at dksX2_opened_0 9 rfl rfl)
theorem dX2_opened_10 : decode cX2_opened 10 = .ok (.getfield 98, 3) := dk_180 0 98 (dk_at dksX2_opened_0 10 rfl rfl)
theorem dX2_opened_13 : decode cX2_opened 13 = .ok (.invokevirtual 102, 3) := dk_182 0 102 (dk_at dksX2_opened_0 13 rfl rfl)
theorem dX2_opened_16 : decode cX2_opened 16 = .ok (.ifCond .eq 10, 3) := dk_153 0 10 (dk_at dksX2_opened_0 16 rfl rfl)
theorem dX2_opened_19 : decode cX2_opened 19 = .ok (.aload_n 1, 1) := dk_43 (dk_at dksX2_opened_0 19 rfl rfl)
theorem dX2_opened_20 : decode cX2_opened 20 = .ok (.getfield 98, 3) := dk_180 0 98 (dk_at dksX2_opened_0 20 rfl rfl)
theorem dX2_opened_23 : decode cX2_opened 23 = .ok (.goto 4, 3) := dk_167 0 4 (dk_at dksX2_opened_1 0 rfl rfl)
theorem dX2_opened_26 : decode cX2_opened 26 = .ok (.aconst_null, 1) := dk_1 (dk_at dksX2_opened_1 3 rfl rfl)
theorem dX2_opened_27 : decode cX2_opened 27 = .ok (.areturn, 1) := dk_176 (dk_at dksX2_opened_1 4 rfl rfl)
theorem dX2_opened_28 : decode cX2_opened 28 = .ok (.aload_n 0, 1) := dk_42 (dk_at dksX2_opened_1 5 rfl rfl)
theorem dX2_opened_29 : decode cX2_opened 29 = .ok (.getfield 20, 3) := dk_180 0 20 (dk_at dksX2_opened_1 6 rfl rfl)
theorem dX2_opened_32 : decode cX2_opened 32 = .ok (.new 106, 3) := dk_187 0 106 (dk_at dksX2_opened_1 9 rfl rfl)
theorem dX2_opened_35 : decode cX2_opened 35 = .ok (.dup, 1) := dk_89 (dk_at dksX2_opened_1 12 rfl rfl)
theorem dX2_opened_36 : decode cX2_opened 36 = .ok (.aload_n 0, 1) := dk_42 (dk_at dksX2_opened_1 13 rfl rfl)
theorem dX2_opened_37 : decode cX2_opened 37 = .ok (.aload_n 1, 1) := dk_43 (dk_at dksX2_opened_1 14 rfl rfl)
theorem dX2_opened_38 : decode cX2_opened 38 = .ok (.iload_n 2, 1) := dk_28 (dk_at dksX2_opened_1 15 rfl rfl)
theorem dX2_opened_39 : decode cX2_opened 39 = .ok (.invokespecial 108, 3) := dk_183 0 108 (dk_at dksX2_opened_1 16 rfl rfl)
theorem dX2_opened_42 : decode cX2_opened 42 = .ok (.invokestatic 60, 3) := dk_184 0 60 (dk_at dksX2_opened_1 19 rfl rfl)
theorem dX2_opened_45 : decode cX2_opened 45 = .ok (.checkcast 45, 3) := dk_192 0 45 (dk_at dksX2_opened_2 0 rfl rfl)
theorem dX2_opened_48 : decode cX2_opened 48 = .ok (.areturn, 1) := dk_176 (dk_at dksX2_opened_2 3 rfl rfl)
abbrev cX2_maySee : ByteArray := prog_30_method_7_code
def yX2_maySee : MethodName := ⟨RX2, "maySee", "(ILCheckoutDesk$Version;)Z"⟩
def dkwX2_maySee_2 : List UInt8 := [3, 172]
abbrev dktX2_maySee_2 : List UInt8 := dkwX2_maySee_2 ++ []
def dkwX2_maySee_1 : List UInt8 := [154, 0, 24, 29, 5, 159, 0, 15, 29, 4, 160, 0, 14, 44, 182, 0, 70, 153, 0, 7, 4, 167, 0, 4]
abbrev dktX2_maySee_1 : List UInt8 := dkwX2_maySee_1 ++ dktX2_maySee_2
def dkwX2_maySee_0 : List UInt8 := [42, 180, 0, 14, 44, 180, 0, 68, 182, 0, 30, 192, 0, 34, 180, 0, 64, 27, 46, 62, 44, 180, 0, 47]
abbrev dktX2_maySee_0 : List UInt8 := dkwX2_maySee_0 ++ dktX2_maySee_1
theorem dksX2_maySee_0 : cX2_maySee.data.toList.drop 0 = dktX2_maySee_0 := by decide +kernel
theorem dksX2_maySee_1 : cX2_maySee.data.toList.drop 24 = dktX2_maySee_1 := dk_seg dksX2_maySee_0 24 rfl rfl
theorem dksX2_maySee_2 : cX2_maySee.data.toList.drop 48 = dktX2_maySee_2 := dk_seg dksX2_maySee_1 24 rfl rfl
theorem dX2_maySee_0 : decode cX2_maySee 0 = .ok (.aload_n 0, 1) := dk_42 (dk_at dksX2_maySee_0 0 rfl rfl)
theorem dX2_maySee_1 : decode cX2_maySee 1 = .ok (.getfield 14, 3) := dk_180 0 14 (dk_at dksX2_maySee_0 1 rfl rfl)
theorem dX2_maySee_4 : decode cX2_maySee 4 = .ok (.aload_n 2, 1) := dk_44 (dk_at dksX2_maySee_0 4 rfl rfl)
theorem dX2_maySee_5 : decode cX2_maySee 5 = .ok (.getfield 68, 3) := dk_180 0 68 (dk_at dksX2_maySee_0 5 rfl rfl)
theorem dX2_maySee_8 : decode cX2_maySee 8 = .ok (.invokevirtual 30, 3) := dk_182 0 30 (dk_at dksX2_maySee_0 8 rfl rfl)
theorem dX2_maySee_11 : decode cX2_maySee 11 = .ok (.checkcast 34, 3) := dk_192 0 34 (dk_at dksX2_maySee_0 11 rfl rfl)
theorem dX2_maySee_14 : decode cX2_maySee 14 = .ok (.getfield 64, 3) := dk_180 0 64 (dk_at dksX2_maySee_0 14 rfl rfl)
theorem dX2_maySee_17 : decode cX2_maySee 17 = .ok (.iload_n 1, 1) := dk_27 (dk_at dksX2_maySee_0 17 rfl rfl)
theorem dX2_maySee_18 : decode cX2_maySee 18 = .ok (.iaload, 1) := dk_46 (dk_at dksX2_maySee_0 18 rfl rfl)
theorem dX2_maySee_19 : decode cX2_maySee 19 = .ok (.istore_n 3, 1) := dk_62 (dk_at dksX2_maySee_0 19 rfl rfl)
theorem dX2_maySee_20 : decode cX2_maySee 20 = .ok (.aload_n 2, 1) := dk_44 (dk_at dksX2_maySee_0 20 rfl rfl)
theorem dX2_maySee_21 : decode cX2_maySee 21 = .ok (.getfield 47, 3) := dk_180 0 47 (dk_at dksX2_maySee_0 21 rfl rfl)
theorem dX2_maySee_24 : decode cX2_maySee 24 = .ok (.ifCond .ne 24, 3) := dk_154 0 24 (dk_at dksX2_maySee_1 0 rfl rfl)
theorem dX2_maySee_27 : decode cX2_maySee 27 = .ok (.iload_n 3, 1) := dk_29 (dk_at dksX2_maySee_1 3 rfl rfl)
theorem dX2_maySee_28 : decode cX2_maySee 28 = .ok (.iconst 2, 1) := dk_5 (dk_at dksX2_maySee_1 4 rfl rfl)
theorem dX2_maySee_29 : decode cX2_maySee 29 = .ok (.if_icmp .eq 15, 3) := dk_159 0 15 (dk_at dksX2_maySee_1 5 rfl rfl)
theorem dX2_maySee_32 : decode cX2_maySee 32 = .ok (.iload_n 3, 1) := dk_29 (dk_at dksX2_maySee_1 8 rfl rfl)
theorem dX2_maySee_33 : decode cX2_maySee 33 = .ok (.iconst 1, 1) := dk_4 (dk_at dksX2_maySee_1 9 rfl rfl)
theorem dX2_maySee_34 : decode cX2_maySee 34 = .ok (.if_icmp .ne 14, 3) := dk_160 0 14 (dk_at dksX2_maySee_1 10 rfl rfl)
theorem dX2_maySee_37 : decode cX2_maySee 37 = .ok (.aload_n 2, 1) := dk_44 (dk_at dksX2_maySee_1 13 rfl rfl)
theorem dX2_maySee_38 : decode cX2_maySee 38 = .ok (.invokevirtual 70, 3) := dk_182 0 70 (dk_at dksX2_maySee_1 14 rfl rfl)
theorem dX2_maySee_41 : decode cX2_maySee 41 = .ok (.ifCond .eq 7, 3) := dk_153 0 7 (dk_at dksX2_maySee_1 17 rfl rfl)
theorem dX2_maySee_44 : decode cX2_maySee 44 = .ok (.iconst 1, 1) := dk_4 (dk_at dksX2_maySee_1 20 rfl rfl)
theorem dX2_maySee_45 : decode cX2_maySee 45 = .ok (.goto 4, 3) := dk_167 0 4 (dk_at dksX2_maySee_1 21 rfl rfl)
theorem dX2_maySee_48 : decode cX2_maySee 48 = .ok (.iconst 0, 1) := dk_3 (dk_at dksX2_maySee_2 0 rfl rfl)
theorem dX2_maySee_49 : decode cX2_maySee 49 = .ok (.ireturn, 1) := dk_172 (dk_at dksX2_maySee_2 1 rfl rfl)
abbrev cX2_hasLapsed : ByteArray := prog_30_method_8_code
def yX2_hasLapsed : MethodName := ⟨RX2, "hasLapsed", "(LCheckoutDesk$Copy;)Z"⟩
def dkwX2_hasLapsed_0 : List UInt8 := [42, 180, 0, 74, 43, 180, 0, 77, 100, 42, 180, 0, 26, 161, 0, 7, 4, 167, 0, 4, 3, 172]
abbrev dktX2_hasLapsed_0 : List UInt8 := dkwX2_hasLapsed_0 ++ []
theorem dksX2_hasLapsed_0 : cX2_hasLapsed.data.toList.drop 0 = dktX2_hasLapsed_0 := by decide +kernel
theorem dX2_hasLapsed_0 : decode cX2_hasLapsed 0 = .ok (.aload_n 0, 1) := dk_42 (dk_at dksX2_hasLapsed_0 0 rfl rfl)
theorem dX2_hasLapsed_1 : decode cX2_hasLapsed 1 = .ok (.getfield 74, 3) := dk_180 0 74 (dk_at dksX2_hasLapsed_0 1 rfl rfl)
theorem dX2_hasLapsed_4 : decode cX2_hasLapsed 4 = .ok (.aload_n 1, 1) := dk_43 (dk_at dksX2_hasLapsed_0 4 rfl rfl)
theorem dX2_hasLapsed_5 : decode cX2_hasLapsed 5 = .ok (.getfield 77, 3) := dk_180 0 77 (dk_at dksX2_hasLapsed_0 5 rfl rfl)
theorem dX2_hasLapsed_8 : decode cX2_hasLapsed 8 = .ok (.isub, 1) := dk_100 (dk_at dksX2_hasLapsed_0 8 rfl rfl)
theorem dX2_hasLapsed_9 : decode cX2_hasLapsed 9 = .ok (.aload_n 0, 1) := dk_42 (dk_at dksX2_hasLapsed_0 9 rfl rfl)
theorem dX2_hasLapsed_10 : decode cX2_hasLapsed 10 = .ok (.getfield 26, 3) := dk_180 0 26 (dk_at dksX2_hasLapsed_0 10 rfl rfl)
theorem dX2_hasLapsed_13 : decode cX2_hasLapsed 13 = .ok (.if_icmp .lt 7, 3) := dk_161 0 7 (dk_at dksX2_hasLapsed_0 13 rfl rfl)
theorem dX2_hasLapsed_16 : decode cX2_hasLapsed 16 = .ok (.iconst 1, 1) := dk_4 (dk_at dksX2_hasLapsed_0 16 rfl rfl)
theorem dX2_hasLapsed_17 : decode cX2_hasLapsed 17 = .ok (.goto 4, 3) := dk_167 0 4 (dk_at dksX2_hasLapsed_0 17 rfl rfl)
theorem dX2_hasLapsed_20 : decode cX2_hasLapsed 20 = .ok (.iconst 0, 1) := dk_3 (dk_at dksX2_hasLapsed_0 20 rfl rfl)
theorem dX2_hasLapsed_21 : decode cX2_hasLapsed 21 = .ok (.ireturn, 1) := dk_172 (dk_at dksX2_hasLapsed_0 21 rfl rfl)
abbrev cX2_branch : ByteArray := prog_30_method_3_code
def yX2_branch : MethodName := ⟨RX2, "branch", "(II)LCheckoutDesk$Branch;"⟩
def dkwX2_branch_0 : List UInt8 := [42, 27, 182, 0, 36, 180, 0, 40, 28, 182, 0, 30, 192, 0, 43, 176]
abbrev dktX2_branch_0 : List UInt8 := dkwX2_branch_0 ++ []
theorem dksX2_branch_0 : cX2_branch.data.toList.drop 0 = dktX2_branch_0 := by decide +kernel
theorem dX2_branch_0 : decode cX2_branch 0 = .ok (.aload_n 0, 1) := dk_42 (dk_at dksX2_branch_0 0 rfl rfl)
theorem dX2_branch_1 : decode cX2_branch 1 = .ok (.iload_n 1, 1) := dk_27 (dk_at dksX2_branch_0 1 rfl rfl)
theorem dX2_branch_2 : decode cX2_branch 2 = .ok (.invokevirtual 36, 3) := dk_182 0 36 (dk_at dksX2_branch_0 2 rfl rfl)
theorem dX2_branch_5 : decode cX2_branch 5 = .ok (.getfield 40, 3) := dk_180 0 40 (dk_at dksX2_branch_0 5 rfl rfl)
theorem dX2_branch_8 : decode cX2_branch 8 = .ok (.iload_n 2, 1) := dk_28 (dk_at dksX2_branch_0 8 rfl rfl)
theorem dX2_branch_9 : decode cX2_branch 9 = .ok (.invokevirtual 30, 3) := dk_182 0 30 (dk_at dksX2_branch_0 9 rfl rfl)
theorem dX2_branch_12 : decode cX2_branch 12 = .ok (.checkcast 43, 3) := dk_192 0 43 (dk_at dksX2_branch_0 12 rfl rfl)
theorem dX2_branch_15 : decode cX2_branch 15 = .ok (.areturn, 1) := dk_176 (dk_at dksX2_branch_0 15 rfl rfl)
abbrev cX2_document : ByteArray := prog_30_method_2_code
def yX2_document : MethodName := ⟨RX2, "document", "(I)LCheckoutDesk$Document;"⟩
def dkwX2_document_0 : List UInt8 := [42, 180, 0, 14, 27, 182, 0, 30, 192, 0, 34, 176]
abbrev dktX2_document_0 : List UInt8 := dkwX2_document_0 ++ []
theorem dksX2_document_0 : cX2_document.data.toList.drop 0 = dktX2_document_0 := by decide +kernel
theorem dX2_document_0 : decode cX2_document 0 = .ok (.aload_n 0, 1) := dk_42 (dk_at dksX2_document_0 0 rfl rfl)
theorem dX2_document_1 : decode cX2_document 1 = .ok (.getfield 14, 3) := dk_180 0 14 (dk_at dksX2_document_0 1 rfl rfl)
theorem dX2_document_4 : decode cX2_document 4 = .ok (.iload_n 1, 1) := dk_27 (dk_at dksX2_document_0 4 rfl rfl)
theorem dX2_document_5 : decode cX2_document 5 = .ok (.invokevirtual 30, 3) := dk_182 0 30 (dk_at dksX2_document_0 5 rfl rfl)
theorem dX2_document_8 : decode cX2_document 8 = .ok (.checkcast 34, 3) := dk_192 0 34 (dk_at dksX2_document_0 8 rfl rfl)
theorem dX2_document_11 : decode cX2_document 11 = .ok (.areturn, 1) := dk_176 (dk_at dksX2_document_0 11 rfl rfl)
abbrev cX2_isWriter : ByteArray := prog_30_method_6_code
def yX2_isWriter : MethodName := ⟨RX2, "isWriter", "(II)Z"⟩
def dkwX2_isWriter_1 : List UInt8 := [3, 172]
abbrev dktX2_isWriter_1 : List UInt8 := dkwX2_isWriter_1 ++ []
def dkwX2_isWriter_0 : List UInt8 := [42, 180, 0, 14, 28, 182, 0, 30, 192, 0, 34, 180, 0, 64, 27, 46, 5, 160, 0, 7, 4, 167, 0, 4]
abbrev dktX2_isWriter_0 : List UInt8 := dkwX2_isWriter_0 ++ dktX2_isWriter_1
theorem dksX2_isWriter_0 : cX2_isWriter.data.toList.drop 0 = dktX2_isWriter_0 := by decide +kernel
theorem dksX2_isWriter_1 : cX2_isWriter.data.toList.drop 24 = dktX2_isWriter_1 := dk_seg dksX2_isWriter_0 24 rfl rfl
theorem dX2_isWriter_0 : decode cX2_isWriter 0 = .ok (.aload_n 0, 1) := dk_42 (dk_at dksX2_isWriter_0 0 rfl rfl)
theorem dX2_isWriter_1 : decode cX2_isWriter 1 = .ok (.getfield 14, 3) := dk_180 0 14 (dk_at dksX2_isWriter_0 1 rfl rfl)
theorem dX2_isWriter_4 : decode cX2_isWriter 4 = .ok (.iload_n 2, 1) := dk_28 (dk_at dksX2_isWriter_0 4 rfl rfl)
theorem dX2_isWriter_5 : decode cX2_isWriter 5 = .ok (.invokevirtual 30, 3) := dk_182 0 30 (dk_at dksX2_isWriter_0 5 rfl rfl)
theorem dX2_isWriter_8 : decode cX2_isWriter 8 = .ok (.checkcast 34, 3) := dk_192 0 34 (dk_at dksX2_isWriter_0 8 rfl rfl)
theorem dX2_isWriter_11 : decode cX2_isWriter 11 = .ok (.getfield 64, 3) := dk_180 0 64 (dk_at dksX2_isWriter_0 11 rfl rfl)
theorem dX2_isWriter_14 : decode cX2_isWriter 14 = .ok (.iload_n 1, 1) := dk_27 (dk_at dksX2_isWriter_0 14 rfl rfl)
theorem dX2_isWriter_15 : decode cX2_isWriter 15 = .ok (.iaload, 1) := dk_46 (dk_at dksX2_isWriter_0 15 rfl rfl)
theorem dX2_isWriter_16 : decode cX2_isWriter 16 = .ok (.iconst 2, 1) := dk_5 (dk_at dksX2_isWriter_0 16 rfl rfl)
theorem dX2_isWriter_17 : decode cX2_isWriter 17 = .ok (.if_icmp .ne 7, 3) := dk_160 0 7 (dk_at dksX2_isWriter_0 17 rfl rfl)
theorem dX2_isWriter_20 : decode cX2_isWriter 20 = .ok (.iconst 1, 1) := dk_4 (dk_at dksX2_isWriter_0 20 rfl rfl)
theorem dX2_isWriter_21 : decode cX2_isWriter 21 = .ok (.goto 4, 3) := dk_167 0 4 (dk_at dksX2_isWriter_0 21 rfl rfl)
theorem dX2_isWriter_24 : decode cX2_isWriter 24 = .ok (.iconst 0, 1) := dk_3 (dk_at dksX2_isWriter_1 0 rfl rfl)
theorem dX2_isWriter_25 : decode cX2_isWriter 25 = .ok (.ireturn, 1) := dk_172 (dk_at dksX2_isWriter_1 1 rfl rfl)
abbrev cX2_newest : ByteArray := prog_30_method_5_code
def yX2_newest : MethodName := ⟨RX2, "newest", "(II)LCheckoutDesk$Version;"⟩
def dkwX2_newest_0 : List UInt8 := [42, 180, 0, 20, 187, 0, 55, 89, 42, 27, 28, 183, 0, 57, 184, 0, 60, 192, 0, 45, 176]
abbrev dktX2_newest_0 : List UInt8 := dkwX2_newest_0 ++ []
theorem dksX2_newest_0 : cX2_newest.data.toList.drop 0 = dktX2_newest_0 := by decide +kernel
theorem dX2_newest_0 : decode cX2_newest 0 = .ok (.aload_n 0, 1) := dk_42 (dk_at dksX2_newest_0 0 rfl rfl)
theorem dX2_newest_1 : decode cX2_newest 1 = .ok (.getfield 20, 3) := dk_180 0 20 (dk_at dksX2_newest_0 1 rfl rfl)
theorem dX2_newest_4 : decode cX2_newest 4 = .ok (.new 55, 3) := dk_187 0 55 (dk_at dksX2_newest_0 4 rfl rfl)
theorem dX2_newest_7 : decode cX2_newest 7 = .ok (.dup, 1) := dk_89 (dk_at dksX2_newest_0 7 rfl rfl)
theorem dX2_newest_8 : decode cX2_newest 8 = .ok (.aload_n 0, 1) := dk_42 (dk_at dksX2_newest_0 8 rfl rfl)
theorem dX2_newest_9 : decode cX2_newest 9 = .ok (.iload_n 1, 1) := dk_27 (dk_at dksX2_newest_0 9 rfl rfl)
theorem dX2_newest_10 : decode cX2_newest 10 = .ok (.iload_n 2, 1) := dk_28 (dk_at dksX2_newest_0 10 rfl rfl)
theorem dX2_newest_11 : decode cX2_newest 11 = .ok (.invokespecial 57, 3) := dk_183 0 57 (dk_at dksX2_newest_0 11 rfl rfl)
theorem dX2_newest_14 : decode cX2_newest 14 = .ok (.invokestatic 60, 3) := dk_184 0 60 (dk_at dksX2_newest_0 14 rfl rfl)
theorem dX2_newest_17 : decode cX2_newest 17 = .ok (.checkcast 45, 3) := dk_192 0 45 (dk_at dksX2_newest_0 17 rfl rfl)
theorem dX2_newest_20 : decode cX2_newest 20 = .ok (.areturn, 1) := dk_176 (dk_at dksX2_newest_0 20 rfl rfl)
abbrev cX2_isNeeded : ByteArray := prog_30_method_11_code
def yX2_isNeeded : MethodName := ⟨RX2, "isNeeded", "(LCheckoutDesk$Version;)Z"⟩
def dkwX2_isNeeded_3 : List UInt8 := [96, 158, 0, 7, 4, 167, 0, 4, 3, 172]
abbrev dktX2_isNeeded_3 : List UInt8 := dkwX2_isNeeded_3 ++ []
def dkwX2_isNeeded_2 : List UInt8 := [183, 0, 120, 182, 0, 123, 61, 28, 42, 180, 0, 23, 187, 0, 127, 89, 42, 43, 183, 0, 129, 182, 0, 123]
abbrev dktX2_isNeeded_2 : List UInt8 := dkwX2_isNeeded_2 ++ dktX2_isNeeded_3
def dkwX2_isNeeded_1 : List UInt8 := [172, 42, 180, 0, 14, 43, 180, 0, 68, 182, 0, 30, 192, 0, 34, 180, 0, 40, 187, 0, 118, 89, 42, 43]
abbrev dktX2_isNeeded_1 : List UInt8 := dkwX2_isNeeded_1 ++ dktX2_isNeeded_2
def dkwX2_isNeeded_0 : List UInt8 := [43, 182, 0, 70, 154, 0, 19, 43, 42, 43, 180, 0, 68, 43, 180, 0, 111, 182, 0, 114, 166, 0, 5, 4]
abbrev dktX2_isNeeded_0 : List UInt8 := dkwX2_isNeeded_0 ++ dktX2_isNeeded_1
theorem dksX2_isNeeded_0 : cX2_isNeeded.data.toList.drop 0 = dktX2_isNeeded_0 := by decide +kernel
theorem dksX2_isNeeded_1 : cX2_isNeeded.data.toList.drop 24 = dktX2_isNeeded_1 := dk_seg dksX2_isNeeded_0 24 rfl rfl
theorem dksX2_isNeeded_2 : cX2_isNeeded.data.toList.drop 48 = dktX2_isNeeded_2 := dk_seg dksX2_isNeeded_1 24 rfl rfl
theorem dksX2_isNeeded_3 : cX2_isNeeded.data.toList.drop 72 = dktX2_isNeeded_3 := dk_seg dksX2_isNeeded_2 24 rfl rfl
theorem dX2_isNeeded_0 : decode cX2_isNeeded 0 = .ok (.aload_n 1, 1) := dk_43 (dk_at dksX2_isNeeded_0 0 rfl rfl)
theorem dX2_isNeeded_1 : decode cX2_isNeeded 1 = .ok (.invokevirtual 70, 3) := dk_182 0 70 (dk_at dksX2_isNeeded_0 1 rfl rfl)
theorem dX2_isNeeded_4 : decode cX2_isNeeded 4 = .ok (.ifCond .ne 19, 3) := dk_154 0 19 (dk_at dksX2_isNeeded_0 4 rfl rfl)
theorem dX2_isNeeded_7 : decode cX2_isNeeded 7 = .ok (.aload_n 1, 1) := dk_43 (dk_at dksX2_isNeeded_0 7 rfl rfl)
theorem dX2_isNeeded_8 : decode cX2_isNeeded 8 = .ok (.aload_n 0, 1) := dk_42 (dk_at dksX2_isNeeded_0 8 rfl rfl)
theorem dX2_isNeeded_9 : decode cX2_isNeeded 9 = .ok (.aload_n 1, 1) := dk_43 (dk_at dksX2_isNeeded_0 9 rfl rfl)
theorem dX2_isNeeded_10 : decode cX2_isNeeded 10 = .ok (.getfield 68, 3) := dk_180 0 68 (dk_at dksX2_isNeeded_0 10 rfl rfl)
theorem dX2_isNeeded_13 : decode cX2_isNeeded 13 = .ok (.aload_n 1, 1) := dk_43 (dk_at dksX2_isNeeded_0 13 rfl rfl)
theorem dX2_isNeeded_14 : decode cX2_isNeeded 14 = .ok (.getfield 111, 3) := dk_180 0 111 (dk_at dksX2_isNeeded_0 14 rfl rfl)
theorem dX2_isNeeded_17 : decode cX2_isNeeded 17 = .ok (.invokevirtual 114, 3) := dk_182 0 114 (dk_at dksX2_isNeeded_0 17 rfl rfl)
theorem dX2_isNeeded_20 : decode cX2_isNeeded 20 = .ok (.if_acmp .ne 5, 3) := dk_166 0 5 (dk_at dksX2_isNeeded_0 20 rfl rfl)
theorem dX2_isNeeded_23 : decode cX2_isNeeded 23 = .ok (.iconst 1, 1) := dk_4 (dk_at dksX2_isNeeded_0 23 rfl rfl)
theorem dX2_isNeeded_24 : decode cX2_isNeeded 24 = .ok (.ireturn, 1) := dk_172 (dk_at dksX2_isNeeded_1 0 rfl rfl)
theorem dX2_isNeeded_25 : decode cX2_isNeeded 25 = .ok (.aload_n 0, 1) := dk_42 (dk_at dksX2_isNeeded_1 1 rfl rfl)
theorem dX2_isNeeded_26 : decode cX2_isNeeded 26 = .ok (.getfield 14, 3) := dk_180 0 14 (dk_at dksX2_isNeeded_1 2 rfl rfl)
theorem dX2_isNeeded_29 : decode cX2_isNeeded 29 = .ok (.aload_n 1, 1) := dk_43 (dk_at dksX2_isNeeded_1 5 rfl rfl)
theorem dX2_isNeeded_30 : decode cX2_isNeeded 30 = .ok (.getfield 68, 3) := dk_180 0 68 (dk_at dksX2_isNeeded_1 6 rfl rfl)
theorem dX2_isNeeded_33 : decode cX2_isNeeded 33 = .ok (.invokevirtual 30, 3) := dk_182 0 30 (dk_at dksX2_isNeeded_1 9 rfl rfl)
theorem dX2_isNeeded_36 : decode cX2_isNeeded 36 = .ok (.checkcast 34, 3) := dk_192 0 34 (dk_at dksX2_isNeeded_1 12 rfl rfl)
theorem dX2_isNeeded_39 : decode cX2_isNeeded 39 = .ok (.getfield 40, 3) := dk_180 0 40 (dk_at dksX2_isNeeded_1 15 rfl rfl)
theorem dX2_isNeeded_42 : decode cX2_isNeeded 42 = .ok (.new 118, 3) := dk_187 0 118 (dk_at dksX2_isNeeded_1 18 rfl rfl)
theorem dX2_isNeeded_45 : decode cX2_isNeeded 45 = .ok (.dup, 1) := dk_89 (dk_at dksX2_isNeeded_1 21 rfl rfl)
theorem dX2_isNeeded_46 : decode cX2_isNeeded 46 = .ok (.aload_n 0, 1) := dk_42 (dk_at dksX2_isNeeded_1 22 rfl rfl)
theorem dX2_isNeeded_47 : decode cX2_isNeeded 47 = .ok (.aload_n 1, 1) := dk_43 (dk_at dksX2_isNeeded_1 23 rfl rfl)
theorem dX2_isNeeded_48 : decode cX2_isNeeded 48 = .ok (.invokespecial 120, 3) := dk_183 0 120 (dk_at dksX2_isNeeded_2 0 rfl rfl)
theorem dX2_isNeeded_51 : decode cX2_isNeeded 51 = .ok (.invokevirtual 123, 3) := dk_182 0 123 (dk_at dksX2_isNeeded_2 3 rfl rfl)
theorem dX2_isNeeded_54 : decode cX2_isNeeded 54 = .ok (.istore_n 2, 1) := dk_61 (dk_at dksX2_isNeeded_2 6 rfl rfl)
theorem dX2_isNeeded_55 : decode cX2_isNeeded 55 = .ok (.iload_n 2, 1) := dk_28 (dk_at dksX2_isNeeded_2 7 rfl rfl)
theorem dX2_isNeeded_56 : decode cX2_isNeeded 56 = .ok (.aload_n 0, 1) := dk_42 (dk_at dksX2_isNeeded_2 8 rfl rfl)
theorem dX2_isNeeded_57 : decode cX2_isNeeded 57 = .ok (.getfield 23, 3) := dk_180 0 23 (dk_at dksX2_isNeeded_2 9 rfl rfl)
theorem dX2_isNeeded_60 : decode cX2_isNeeded 60 = .ok (.new 127, 3) := dk_187 0 127 (dk_at dksX2_isNeeded_2 12 rfl rfl)
theorem dX2_isNeeded_63 : decode cX2_isNeeded 63 = .ok (.dup, 1) := dk_89 (dk_at dksX2_isNeeded_2 15 rfl rfl)
theorem dX2_isNeeded_64 : decode cX2_isNeeded 64 = .ok (.aload_n 0, 1) := dk_42 (dk_at dksX2_isNeeded_2 16 rfl rfl)
theorem dX2_isNeeded_65 : decode cX2_isNeeded 65 = .ok (.aload_n 1, 1) := dk_43 (dk_at dksX2_isNeeded_2 17 rfl rfl)
theorem dX2_isNeeded_66 : decode cX2_isNeeded 66 = .ok (.invokespecial 129, 3) := dk_183 0 129 (dk_at dksX2_isNeeded_2 18 rfl rfl)
theorem dX2_isNeeded_69 : decode cX2_isNeeded 69 = .ok (.invokevirtual 123, 3) := dk_182 0 123 (dk_at dksX2_isNeeded_2 21 rfl rfl)
theorem dX2_isNeeded_72 : decode cX2_isNeeded 72 = .ok (.iadd, 1) := dk_96 (dk_at dksX2_isNeeded_3 0 rfl rfl)
theorem dX2_isNeeded_73 : decode cX2_isNeeded 73 = .ok (.ifCond .le 7, 3) := dk_158 0 7 (dk_at dksX2_isNeeded_3 1 rfl rfl)
theorem dX2_isNeeded_76 : decode cX2_isNeeded 76 = .ok (.iconst 1, 1) := dk_4 (dk_at dksX2_isNeeded_3 4 rfl rfl)
theorem dX2_isNeeded_77 : decode cX2_isNeeded 77 = .ok (.goto 4, 3) := dk_167 0 4 (dk_at dksX2_isNeeded_3 5 rfl rfl)
theorem dX2_isNeeded_80 : decode cX2_isNeeded 80 = .ok (.iconst 0, 1) := dk_3 (dk_at dksX2_isNeeded_3 8 rfl rfl)
theorem dX2_isNeeded_81 : decode cX2_isNeeded 81 = .ok (.ireturn, 1) := dk_172 (dk_at dksX2_isNeeded_3 9 rfl rfl)
abbrev cX2_version : ByteArray := prog_30_method_4_code
def yX2_version : MethodName := ⟨RX2, "version", "(I)LCheckoutDesk$Version;"⟩
def dkwX2_version_1 : List UInt8 := [184, 0, 51, 44, 176]
abbrev dktX2_version_1 : List UInt8 := dkwX2_version_1 ++ []
def dkwX2_version_0 : List UInt8 := [42, 180, 0, 20, 27, 182, 0, 30, 192, 0, 45, 77, 44, 180, 0, 47, 154, 0, 7, 4, 167, 0, 4, 3]
abbrev dktX2_version_0 : List UInt8 := dkwX2_version_0 ++ dktX2_version_1
theorem dksX2_version_0 : cX2_version.data.toList.drop 0 = dktX2_version_0 := by decide +kernel
theorem dksX2_version_1 : cX2_version.data.toList.drop 24 = dktX2_version_1 := dk_seg dksX2_version_0 24 rfl rfl
theorem dX2_version_0 : decode cX2_version 0 = .ok (.aload_n 0, 1) := dk_42 (dk_at dksX2_version_0 0 rfl rfl)
theorem dX2_version_1 : decode cX2_version 1 = .ok (.getfield 20, 3) := dk_180 0 20 (dk_at dksX2_version_0 1 rfl rfl)
theorem dX2_version_4 : decode cX2_version 4 = .ok (.iload_n 1, 1) := dk_27 (dk_at dksX2_version_0 4 rfl rfl)
theorem dX2_version_5 : decode cX2_version 5 = .ok (.invokevirtual 30, 3) := dk_182 0 30 (dk_at dksX2_version_0 5 rfl rfl)
theorem dX2_version_8 : decode cX2_version 8 = .ok (.checkcast 45, 3) := dk_192 0 45 (dk_at dksX2_version_0 8 rfl rfl)
theorem dX2_version_11 : decode cX2_version 11 = .ok (.astore_n 2, 1) := dk_77 (dk_at dksX2_version_0 11 rfl rfl)
theorem dX2_version_12 : decode cX2_version 12 = .ok (.aload_n 2, 1) := dk_44 (dk_at dksX2_version_0 12 rfl rfl)
theorem dX2_version_13 : decode cX2_version 13 = .ok (.getfield 47, 3) := dk_180 0 47 (dk_at dksX2_version_0 13 rfl rfl)
theorem dX2_version_16 : decode cX2_version 16 = .ok (.ifCond .ne 7, 3) := dk_154 0 7 (dk_at dksX2_version_0 16 rfl rfl)
theorem dX2_version_19 : decode cX2_version 19 = .ok (.iconst 1, 1) := dk_4 (dk_at dksX2_version_0 19 rfl rfl)
theorem dX2_version_20 : decode cX2_version 20 = .ok (.goto 4, 3) := dk_167 0 4 (dk_at dksX2_version_0 20 rfl rfl)
theorem dX2_version_23 : decode cX2_version 23 = .ok (.iconst 0, 1) := dk_3 (dk_at dksX2_version_0 23 rfl rfl)
theorem dX2_version_24 : decode cX2_version 24 = .ok (.invokestatic 51, 3) := dk_184 0 51 (dk_at dksX2_version_1 0 rfl rfl)
theorem dX2_version_27 : decode cX2_version 27 = .ok (.aload_n 2, 1) := dk_44 (dk_at dksX2_version_1 3 rfl rfl)
theorem dX2_version_28 : decode cX2_version 28 = .ok (.areturn, 1) := dk_176 (dk_at dksX2_version_1 4 rfl rfl)
abbrev cX2_make : ByteArray := prog_30_method_9_code
def yX2_make : MethodName := ⟨RX2, "make", "(IIIILCheckoutDesk$Content;)LCheckoutDesk$Version;"⟩
def dkwX2_make_1 : List UInt8 := [180, 0, 20, 25, 6, 182, 0, 89, 87, 25, 6, 176]
abbrev dktX2_make_1 : List UInt8 := dkwX2_make_1 ++ []
def dkwX2_make_0 : List UInt8 := [187, 0, 45, 89, 42, 180, 0, 20, 182, 0, 82, 27, 28, 29, 21, 4, 25, 5, 183, 0, 86, 58, 6, 42]
abbrev dktX2_make_0 : List UInt8 := dkwX2_make_0 ++ dktX2_make_1
theorem dksX2_make_0 : cX2_make.data.toList.drop 0 = dktX2_make_0 := by decide +kernel
theorem dksX2_make_1 : cX2_make.data.toList.drop 24 = dktX2_make_1 := dk_seg dksX2_make_0 24 rfl rfl
theorem dX2_make_0 : decode cX2_make 0 = .ok (.new 45, 3) := dk_187 0 45 (dk_at dksX2_make_0 0 rfl rfl)
theorem dX2_make_3 : decode cX2_make 3 = .ok (.dup, 1) := dk_89 (dk_at dksX2_make_0 3 rfl rfl)
theorem dX2_make_4 : decode cX2_make 4 = .ok (.aload_n 0, 1) := dk_42 (dk_at dksX2_make_0 4 rfl rfl)
theorem dX2_make_5 : decode cX2_make 5 = .ok (.getfield 20, 3) := dk_180 0 20 (dk_at dksX2_make_0 5 rfl rfl)
theorem dX2_make_8 : decode cX2_make 8 = .ok (.invokevirtual 82, 3) := dk_182 0 82 (dk_at dksX2_make_0 8 rfl rfl)
theorem dX2_make_11 : decode cX2_make 11 = .ok (.iload_n 1, 1) := dk_27 (dk_at dksX2_make_0 11 rfl rfl)
theorem dX2_make_12 : decode cX2_make 12 = .ok (.iload_n 2, 1) := dk_28 (dk_at dksX2_make_0 12 rfl rfl)
theorem dX2_make_13 : decode cX2_make 13 = .ok (.iload_n 3, 1) := dk_29 (dk_at dksX2_make_0 13 rfl rfl)
theorem dX2_make_14 : decode cX2_make 14 = .ok (.iload 4, 2) := dk_21 4 (dk_at dksX2_make_0 14 rfl rfl)
theorem dX2_make_16 : decode cX2_make 16 = .ok (.aload 5, 2) := dk_25 5 (dk_at dksX2_make_0 16 rfl rfl)
theorem dX2_make_18 : decode cX2_make 18 = .ok (.invokespecial 86, 3) := dk_183 0 86 (dk_at dksX2_make_0 18 rfl rfl)
theorem dX2_make_21 : decode cX2_make 21 = .ok (.astore 6, 2) := dk_58 6 (dk_at dksX2_make_0 21 rfl rfl)
theorem dX2_make_23 : decode cX2_make 23 = .ok (.aload_n 0, 1) := dk_42 (dk_at dksX2_make_0 23 rfl rfl)
theorem dX2_make_24 : decode cX2_make 24 = .ok (.getfield 20, 3) := dk_180 0 20 (dk_at dksX2_make_1 0 rfl rfl)
theorem dX2_make_27 : decode cX2_make 27 = .ok (.aload 6, 2) := dk_25 6 (dk_at dksX2_make_1 3 rfl rfl)
theorem dX2_make_29 : decode cX2_make 29 = .ok (.invokevirtual 89, 3) := dk_182 0 89 (dk_at dksX2_make_1 5 rfl rfl)
theorem dX2_make_32 : decode cX2_make 32 = .ok (.pop, 1) := dk_87 (dk_at dksX2_make_1 8 rfl rfl)
theorem dX2_make_33 : decode cX2_make 33 = .ok (.aload 6, 2) := dk_25 6 (dk_at dksX2_make_1 9 rfl rfl)
theorem dX2_make_35 : decode cX2_make 35 = .ok (.areturn, 1) := dk_176 (dk_at dksX2_make_1 11 rfl rfl)
abbrev cX2_close : ByteArray := prog_30_method_12_code
def yX2_close : MethodName := ⟨RX2, "close", "()V"⟩
def dkwX2_close_0 : List UInt8 := [42, 4, 181, 0, 130, 177]
abbrev dktX2_close_0 : List UInt8 := dkwX2_close_0 ++ []
theorem dksX2_close_0 : cX2_close.data.toList.drop 0 = dktX2_close_0 := by decide +kernel
theorem dX2_close_0 : decode cX2_close 0 = .ok (.aload_n 0, 1) := dk_42 (dk_at dksX2_close_0 0 rfl rfl)
theorem dX2_close_1 : decode cX2_close 1 = .ok (.iconst 1, 1) := dk_4 (dk_at dksX2_close_0 1 rfl rfl)
theorem dX2_close_2 : decode cX2_close 2 = .ok (.putfield 130, 3) := dk_181 0 130 (dk_at dksX2_close_0 2 rfl rfl)
theorem dX2_close_5 : decode cX2_close 5 = .ok (.return_, 1) := dk_177 (dk_at dksX2_close_0 5 rfl rfl)
theorem q47 : (Jvm.Cond.initialized "CheckoutDesk$Store") ∈ lw_all := lw_g (lw_at lw_m1 5 rfl) rfl
theorem q145 : (Jvm.Cond.instantiable "CheckoutDesk$Store" (6 : Nat)) ∈ lw_all := lw_g (lw_at lw_m1 103 rfl) rfl
theorem q147 : (Jvm.Cond.instanceMethod ({ cls := "CheckoutDesk$Store", name := "<init>", desc := "()V" } : Jvm.MethodName)) ∈ lw_all := lw_g (lw_at lw_m1 105 rfl) rfl
theorem q148 : (Jvm.Cond.code ({ cls := "CheckoutDesk$Store", name := "<init>", desc := "()V" } : Jvm.MethodName) prog_30_method_1_code (1 : Nat) (Option.none : Option Jvm.ClassFile.FieldType)) ∈ lw_all := lw_g (lw_at lw_m1 106 rfl) rfl
theorem q149 : (Jvm.Cond.methodLink "CheckoutDesk$Store" (3 : Nat) ({ cls := "java/lang/Object", name := "<init>", desc := "()V" } : Jvm.MethodName)) ∈ lw_all := lw_g (lw_at lw_m1 107 rfl) rfl
theorem q150 : (Jvm.Cond.classLink "CheckoutDesk$Store" (9 : Nat) "CheckoutDesk$Row") ∈ lw_all := lw_g (lw_at lw_m1 108 rfl) rfl
theorem q152 : (Jvm.Cond.methodLink "CheckoutDesk$Store" (11 : Nat) ({ cls := "CheckoutDesk$Row", name := "<init>", desc := "(I)V" } : Jvm.MethodName)) ∈ lw_all := lw_g (lw_at lw_m1 110 rfl) rfl
theorem q165 : (Jvm.Cond.fieldLink "CheckoutDesk$Store" (14 : Nat) "CheckoutDesk$Store" "documents" "LCheckoutDesk$Row;") ∈ lw_all := lw_g (lw_at lw_m1 123 rfl) rfl
theorem q168 : (Jvm.Cond.fieldLink "CheckoutDesk$Store" (20 : Nat) "CheckoutDesk$Store" "versions" "LCheckoutDesk$Row;") ∈ lw_all := lw_g (lw_at lw_m1 126 rfl) rfl
theorem q175 : (Jvm.Cond.fieldLink "CheckoutDesk$Store" (23 : Nat) "CheckoutDesk$Store" "links" "LCheckoutDesk$Row;") ∈ lw_all := lw_g (lw_at lw_m1 133 rfl) rfl
theorem q183 : (Jvm.Cond.fieldLink "CheckoutDesk$Store" (74 : Nat) "CheckoutDesk$Store" "clock" "I") ∈ lw_all := lw_g (lw_at lw_m1 141 rfl) rfl
theorem q185 : (Jvm.Cond.fieldLink "CheckoutDesk$Store" (26 : Nat) "CheckoutDesk$Store" "lapse" "I") ∈ lw_all := lw_g (lw_at lw_m1 143 rfl) rfl
theorem q188 : (Jvm.Cond.fieldLink "CheckoutDesk$Store" (130 : Nat) "CheckoutDesk$Store" "isClosed" "Z") ∈ lw_all := lw_g (lw_at lw_m1 146 rfl) rfl
theorem q189 : (Jvm.Cond.laysFinal "CheckoutDesk$Store" "CheckoutDesk$Store" "documents" "LCheckoutDesk$Row;") ∈ lw_all := lw_g (lw_at lw_m1 147 rfl) rfl
theorem q190 : (Jvm.Cond.soleField "CheckoutDesk$Store" "documents") ∈ lw_all := lw_g (lw_at lw_m1 148 rfl) rfl
theorem q191 : (Jvm.Cond.laysFinal "CheckoutDesk$Store" "CheckoutDesk$Store" "versions" "LCheckoutDesk$Row;") ∈ lw_all := lw_g (lw_at lw_m1 149 rfl) rfl
theorem q192 : (Jvm.Cond.soleField "CheckoutDesk$Store" "versions") ∈ lw_all := lw_g (lw_at lw_m1 150 rfl) rfl
theorem q193 : (Jvm.Cond.laysFinal "CheckoutDesk$Store" "CheckoutDesk$Store" "links" "LCheckoutDesk$Row;") ∈ lw_all := lw_g (lw_at lw_m1 151 rfl) rfl
theorem q194 : (Jvm.Cond.soleField "CheckoutDesk$Store" "links") ∈ lw_all := lw_g (lw_at lw_m1 152 rfl) rfl
theorem q195 : (Jvm.Cond.lays "CheckoutDesk$Store" "CheckoutDesk$Store" "clock" "I") ∈ lw_all := lw_g (lw_at lw_m1 153 rfl) rfl
theorem q196 : (Jvm.Cond.soleField "CheckoutDesk$Store" "clock") ∈ lw_all := lw_g (lw_at lw_m1 154 rfl) rfl
theorem q197 : (Jvm.Cond.lays "CheckoutDesk$Store" "CheckoutDesk$Store" "lapse" "I") ∈ lw_all := lw_g (lw_at lw_m1 155 rfl) rfl
theorem q198 : (Jvm.Cond.soleField "CheckoutDesk$Store" "lapse") ∈ lw_all := lw_g (lw_at lw_m1 156 rfl) rfl
theorem q199 : (Jvm.Cond.lays "CheckoutDesk$Store" "CheckoutDesk$Store" "isClosed" "Z") ∈ lw_all := lw_g (lw_at lw_m1 157 rfl) rfl
theorem q200 : (Jvm.Cond.soleField "CheckoutDesk$Store" "isClosed") ∈ lw_all := lw_g (lw_at lw_m1 158 rfl) rfl
theorem q201 : (Jvm.Cond.superclass "CheckoutDesk$Store" "java/lang/Object") ∈ lw_all := lw_g (lw_at lw_m1 159 rfl) rfl
theorem q284 : (Jvm.Cond.instanceMethod ({ cls := "CheckoutDesk$Store", name := "opened", desc := "(LCheckoutDesk$Link;I)LCheckoutDesk$Version;" } : Jvm.MethodName)) ∈ lw_all := lw_g (lw_at lw_m2 2 rfl) rfl
theorem q285 : (Jvm.Cond.selects "CheckoutDesk$Store" ({ cls := "CheckoutDesk$Store", name := "opened", desc := "(LCheckoutDesk$Link;I)LCheckoutDesk$Version;" } : Jvm.MethodName) ({ cls := "CheckoutDesk$Store", name := "opened", desc := "(LCheckoutDesk$Link;I)LCheckoutDesk$Version;" } : Jvm.MethodName)) ∈ lw_all := lw_g (lw_at lw_m2 3 rfl) rfl
theorem q286 : (Jvm.Cond.code ({ cls := "CheckoutDesk$Store", name := "opened", desc := "(LCheckoutDesk$Link;I)LCheckoutDesk$Version;" } : Jvm.MethodName) prog_30_method_10_code (3 : Nat) (Option.some (Jvm.ClassFile.FieldType.object "CheckoutDesk$Version"))) ∈ lw_all := lw_g (lw_at lw_m2 4 rfl) rfl
theorem q287 : (Jvm.Cond.methodLink "CheckoutDesk$Store" (102 : Nat) ({ cls := "CheckoutDesk$Store", name := "maySee", desc := "(ILCheckoutDesk$Version;)Z" } : Jvm.MethodName)) ∈ lw_all := lw_g (lw_at lw_m2 5 rfl) rfl
theorem q288 : (Jvm.Cond.instanceMethod ({ cls := "CheckoutDesk$Store", name := "maySee", desc := "(ILCheckoutDesk$Version;)Z" } : Jvm.MethodName)) ∈ lw_all := lw_g (lw_at lw_m2 6 rfl) rfl
theorem q289 : (Jvm.Cond.selects "CheckoutDesk$Store" ({ cls := "CheckoutDesk$Store", name := "maySee", desc := "(ILCheckoutDesk$Version;)Z" } : Jvm.MethodName) ({ cls := "CheckoutDesk$Store", name := "maySee", desc := "(ILCheckoutDesk$Version;)Z" } : Jvm.MethodName)) ∈ lw_all := lw_g (lw_at lw_m2 7 rfl) rfl
theorem q290 : (Jvm.Cond.code ({ cls := "CheckoutDesk$Store", name := "maySee", desc := "(ILCheckoutDesk$Version;)Z" } : Jvm.MethodName) prog_30_method_7_code (4 : Nat) (Option.some Jvm.ClassFile.FieldType.boolean)) ∈ lw_all := lw_g (lw_at lw_m2 8 rfl) rfl
theorem q291 : (Jvm.Cond.methodLink "CheckoutDesk$Store" (30 : Nat) ({ cls := "CheckoutDesk$Row", name := "get", desc := "(I)Ljava/lang/Object;" } : Jvm.MethodName)) ∈ lw_all := lw_g (lw_at lw_m2 9 rfl) rfl
theorem q385 : (Jvm.Cond.classLink "CheckoutDesk$Store" (34 : Nat) "CheckoutDesk$Document") ∈ lw_all := lw_g (lw_at lw_m2 103 rfl) rfl
theorem q386 : (Jvm.Cond.methodLink "CheckoutDesk$Store" (70 : Nat) ({ cls := "CheckoutDesk$Version", name := "isReleased", desc := "()Z" } : Jvm.MethodName)) ∈ lw_all := lw_g (lw_at lw_m2 104 rfl) rfl
theorem q390 : (Jvm.Cond.classLink "CheckoutDesk$Store" (106 : Nat) "CheckoutDesk$Store$2") ∈ lw_all := lw_g (lw_at lw_m2 108 rfl) rfl
theorem q392 : (Jvm.Cond.methodLink "CheckoutDesk$Store" (108 : Nat) ({ cls := "CheckoutDesk$Store$2", name := "<init>", desc := "(LCheckoutDesk$Store;LCheckoutDesk$Link;I)V" } : Jvm.MethodName)) ∈ lw_all := lw_g (lw_at lw_m2 110 rfl) rfl
theorem q406 : (Jvm.Cond.methodLinkNest "CheckoutDesk$Store" (60 : Nat) ({ cls := "CheckoutDesk", name := "greatest", desc := "(LCheckoutDesk$Row;LCheckoutDesk$Test;)Ljava/lang/Comparable;" } : Jvm.MethodName) "CheckoutDesk") ∈ lw_tbl := lw_at lw_m2 124 rfl
theorem q457 : (Jvm.Cond.instanceMethod ({ cls := "CheckoutDesk$Store", name := "hasLapsed", desc := "(LCheckoutDesk$Copy;)Z" } : Jvm.MethodName)) ∈ lw_all := lw_g (lw_at lw_m2 175 rfl) rfl
theorem q458 : (Jvm.Cond.selects "CheckoutDesk$Store" ({ cls := "CheckoutDesk$Store", name := "hasLapsed", desc := "(LCheckoutDesk$Copy;)Z" } : Jvm.MethodName) ({ cls := "CheckoutDesk$Store", name := "hasLapsed", desc := "(LCheckoutDesk$Copy;)Z" } : Jvm.MethodName)) ∈ lw_all := lw_g (lw_at lw_m2 176 rfl) rfl
theorem q459 : (Jvm.Cond.code ({ cls := "CheckoutDesk$Store", name := "hasLapsed", desc := "(LCheckoutDesk$Copy;)Z" } : Jvm.MethodName) prog_30_method_8_code (2 : Nat) (Option.some Jvm.ClassFile.FieldType.boolean)) ∈ lw_all := lw_g (lw_at lw_m2 177 rfl) rfl
theorem q737 : (Jvm.Cond.classLink "CheckoutDesk$Store" (45 : Nat) "CheckoutDesk$Version") ∈ lw_all := lw_g (lw_at lw_m3 215 rfl) rfl
theorem q939 : (Jvm.Cond.instanceMethod ({ cls := "CheckoutDesk$Store", name := "branch", desc := "(II)LCheckoutDesk$Branch;" } : Jvm.MethodName)) ∈ lw_all := lw_g (lw_at lw_m4 177 rfl) rfl
theorem q940 : (Jvm.Cond.selects "CheckoutDesk$Store" ({ cls := "CheckoutDesk$Store", name := "branch", desc := "(II)LCheckoutDesk$Branch;" } : Jvm.MethodName) ({ cls := "CheckoutDesk$Store", name := "branch", desc := "(II)LCheckoutDesk$Branch;" } : Jvm.MethodName)) ∈ lw_all := lw_g (lw_at lw_m4 178 rfl) rfl
theorem q941 : (Jvm.Cond.code ({ cls := "CheckoutDesk$Store", name := "branch", desc := "(II)LCheckoutDesk$Branch;" } : Jvm.MethodName) prog_30_method_3_code (3 : Nat) (Option.some (Jvm.ClassFile.FieldType.object "CheckoutDesk$Branch"))) ∈ lw_all := lw_g (lw_at lw_m4 179 rfl) rfl
theorem q942 : (Jvm.Cond.methodLink "CheckoutDesk$Store" (36 : Nat) ({ cls := "CheckoutDesk$Store", name := "document", desc := "(I)LCheckoutDesk$Document;" } : Jvm.MethodName)) ∈ lw_all := lw_g (lw_at lw_m4 180 rfl) rfl
theorem q943 : (Jvm.Cond.instanceMethod ({ cls := "CheckoutDesk$Store", name := "document", desc := "(I)LCheckoutDesk$Document;" } : Jvm.MethodName)) ∈ lw_all := lw_g (lw_at lw_m4 181 rfl) rfl
theorem q944 : (Jvm.Cond.selects "CheckoutDesk$Store" ({ cls := "CheckoutDesk$Store", name := "document", desc := "(I)LCheckoutDesk$Document;" } : Jvm.MethodName) ({ cls := "CheckoutDesk$Store", name := "document", desc := "(I)LCheckoutDesk$Document;" } : Jvm.MethodName)) ∈ lw_all := lw_g (lw_at lw_m4 182 rfl) rfl
theorem q945 : (Jvm.Cond.code ({ cls := "CheckoutDesk$Store", name := "document", desc := "(I)LCheckoutDesk$Document;" } : Jvm.MethodName) prog_30_method_2_code (2 : Nat) (Option.some (Jvm.ClassFile.FieldType.object "CheckoutDesk$Document"))) ∈ lw_all := lw_g (lw_at lw_m4 183 rfl) rfl
theorem q946 : (Jvm.Cond.classLink "CheckoutDesk$Store" (43 : Nat) "CheckoutDesk$Branch") ∈ lw_all := lw_g (lw_at lw_m4 184 rfl) rfl
theorem q948 : (Jvm.Cond.instanceMethod ({ cls := "CheckoutDesk$Store", name := "isWriter", desc := "(II)Z" } : Jvm.MethodName)) ∈ lw_all := lw_g (lw_at lw_m4 186 rfl) rfl
theorem q949 : (Jvm.Cond.selects "CheckoutDesk$Store" ({ cls := "CheckoutDesk$Store", name := "isWriter", desc := "(II)Z" } : Jvm.MethodName) ({ cls := "CheckoutDesk$Store", name := "isWriter", desc := "(II)Z" } : Jvm.MethodName)) ∈ lw_all := lw_g (lw_at lw_m4 187 rfl) rfl
theorem q950 : (Jvm.Cond.code ({ cls := "CheckoutDesk$Store", name := "isWriter", desc := "(II)Z" } : Jvm.MethodName) prog_30_method_6_code (3 : Nat) (Option.some Jvm.ClassFile.FieldType.boolean)) ∈ lw_all := lw_g (lw_at lw_m4 188 rfl) rfl
theorem q953 : (Jvm.Cond.instanceMethod ({ cls := "CheckoutDesk$Store", name := "newest", desc := "(II)LCheckoutDesk$Version;" } : Jvm.MethodName)) ∈ lw_all := lw_g (lw_at lw_m4 191 rfl) rfl
theorem q954 : (Jvm.Cond.selects "CheckoutDesk$Store" ({ cls := "CheckoutDesk$Store", name := "newest", desc := "(II)LCheckoutDesk$Version;" } : Jvm.MethodName) ({ cls := "CheckoutDesk$Store", name := "newest", desc := "(II)LCheckoutDesk$Version;" } : Jvm.MethodName)) ∈ lw_all := lw_g (lw_at lw_m4 192 rfl) rfl
theorem q955 : (Jvm.Cond.code ({ cls := "CheckoutDesk$Store", name := "newest", desc := "(II)LCheckoutDesk$Version;" } : Jvm.MethodName) prog_30_method_5_code (3 : Nat) (Option.some (Jvm.ClassFile.FieldType.object "CheckoutDesk$Version"))) ∈ lw_all := lw_g (lw_at lw_m4 193 rfl) rfl
theorem q956 : (Jvm.Cond.classLink "CheckoutDesk$Store" (55 : Nat) "CheckoutDesk$Store$1") ∈ lw_all := lw_g (lw_at lw_m4 194 rfl) rfl
theorem q958 : (Jvm.Cond.methodLink "CheckoutDesk$Store" (57 : Nat) ({ cls := "CheckoutDesk$Store$1", name := "<init>", desc := "(LCheckoutDesk$Store;II)V" } : Jvm.MethodName)) ∈ lw_all := lw_g (lw_at lw_m4 196 rfl) rfl
theorem q988 : (Jvm.Cond.instanceMethod ({ cls := "CheckoutDesk$Store", name := "isNeeded", desc := "(LCheckoutDesk$Version;)Z" } : Jvm.MethodName)) ∈ lw_all := lw_g (lw_at lw_m4 226 rfl) rfl
theorem q989 : (Jvm.Cond.selects "CheckoutDesk$Store" ({ cls := "CheckoutDesk$Store", name := "isNeeded", desc := "(LCheckoutDesk$Version;)Z" } : Jvm.MethodName) ({ cls := "CheckoutDesk$Store", name := "isNeeded", desc := "(LCheckoutDesk$Version;)Z" } : Jvm.MethodName)) ∈ lw_all := lw_g (lw_at lw_m4 227 rfl) rfl
theorem q990 : (Jvm.Cond.code ({ cls := "CheckoutDesk$Store", name := "isNeeded", desc := "(LCheckoutDesk$Version;)Z" } : Jvm.MethodName) prog_30_method_11_code (3 : Nat) (Option.some Jvm.ClassFile.FieldType.boolean)) ∈ lw_all := lw_g (lw_at lw_m4 228 rfl) rfl
theorem q991 : (Jvm.Cond.methodLink "CheckoutDesk$Store" (114 : Nat) ({ cls := "CheckoutDesk$Store", name := "newest", desc := "(II)LCheckoutDesk$Version;" } : Jvm.MethodName)) ∈ lw_all := lw_g (lw_at lw_m4 229 rfl) rfl
theorem q992 : (Jvm.Cond.classLink "CheckoutDesk$Store" (118 : Nat) "CheckoutDesk$Store$3") ∈ lw_all := lw_g (lw_at lw_m4 230 rfl) rfl
theorem q994 : (Jvm.Cond.methodLink "CheckoutDesk$Store" (120 : Nat) ({ cls := "CheckoutDesk$Store$3", name := "<init>", desc := "(LCheckoutDesk$Store;LCheckoutDesk$Version;)V" } : Jvm.MethodName)) ∈ lw_all := lw_g (lw_at lw_m4 232 rfl) rfl
theorem q1005 : (Jvm.Cond.methodLink "CheckoutDesk$Store" (123 : Nat) ({ cls := "CheckoutDesk$Row", name := "count", desc := "(LCheckoutDesk$Test;)I" } : Jvm.MethodName)) ∈ lw_all := lw_g (lw_at lw_m5 3 rfl) rfl
theorem q1006 : (Jvm.Cond.classLink "CheckoutDesk$Store" (127 : Nat) "CheckoutDesk$Store$4") ∈ lw_all := lw_g (lw_at lw_m5 4 rfl) rfl
theorem q1008 : (Jvm.Cond.methodLink "CheckoutDesk$Store" (129 : Nat) ({ cls := "CheckoutDesk$Store$4", name := "<init>", desc := "(LCheckoutDesk$Store;LCheckoutDesk$Version;)V" } : Jvm.MethodName)) ∈ lw_all := lw_g (lw_at lw_m5 6 rfl) rfl
theorem q1027 : (Jvm.Cond.instanceMethod ({ cls := "CheckoutDesk$Store", name := "version", desc := "(I)LCheckoutDesk$Version;" } : Jvm.MethodName)) ∈ lw_all := lw_g (lw_at lw_m5 25 rfl) rfl
theorem q1028 : (Jvm.Cond.selects "CheckoutDesk$Store" ({ cls := "CheckoutDesk$Store", name := "version", desc := "(I)LCheckoutDesk$Version;" } : Jvm.MethodName) ({ cls := "CheckoutDesk$Store", name := "version", desc := "(I)LCheckoutDesk$Version;" } : Jvm.MethodName)) ∈ lw_all := lw_g (lw_at lw_m5 26 rfl) rfl
theorem q1029 : (Jvm.Cond.code ({ cls := "CheckoutDesk$Store", name := "version", desc := "(I)LCheckoutDesk$Version;" } : Jvm.MethodName) prog_30_method_4_code (3 : Nat) (Option.some (Jvm.ClassFile.FieldType.object "CheckoutDesk$Version"))) ∈ lw_all := lw_g (lw_at lw_m5 27 rfl) rfl
theorem q1030 : (Jvm.Cond.methodLinkNest "CheckoutDesk$Store" (51 : Nat) ({ cls := "CheckoutDesk", name := "requireIndex", desc := "(Z)V" } : Jvm.MethodName) "CheckoutDesk") ∈ lw_tbl := lw_at lw_m5 28 rfl
theorem q1125 : (Jvm.Cond.selects "CheckoutDesk$Store" ({ cls := "java/lang/Object", name := "getClass", desc := "()Ljava/lang/Class;" } : Jvm.MethodName) ({ cls := "java/lang/Object", name := "getClass", desc := "()Ljava/lang/Class;" } : Jvm.MethodName)) ∈ lw_all := lw_g (lw_at lw_m5 123 rfl) rfl
theorem q1160 : (Jvm.Cond.instanceMethod ({ cls := "CheckoutDesk$Store", name := "make", desc := "(IIIILCheckoutDesk$Content;)LCheckoutDesk$Version;" } : Jvm.MethodName)) ∈ lw_all := lw_g (lw_at lw_m5 158 rfl) rfl
theorem q1161 : (Jvm.Cond.selects "CheckoutDesk$Store" ({ cls := "CheckoutDesk$Store", name := "make", desc := "(IIIILCheckoutDesk$Content;)LCheckoutDesk$Version;" } : Jvm.MethodName) ({ cls := "CheckoutDesk$Store", name := "make", desc := "(IIIILCheckoutDesk$Content;)LCheckoutDesk$Version;" } : Jvm.MethodName)) ∈ lw_all := lw_g (lw_at lw_m5 159 rfl) rfl
theorem q1162 : (Jvm.Cond.code ({ cls := "CheckoutDesk$Store", name := "make", desc := "(IIIILCheckoutDesk$Content;)LCheckoutDesk$Version;" } : Jvm.MethodName) prog_30_method_9_code (7 : Nat) (Option.some (Jvm.ClassFile.FieldType.object "CheckoutDesk$Version"))) ∈ lw_all := lw_g (lw_at lw_m5 160 rfl) rfl
theorem q1164 : (Jvm.Cond.methodLink "CheckoutDesk$Store" (82 : Nat) ({ cls := "CheckoutDesk$Row", name := "size", desc := "()I" } : Jvm.MethodName)) ∈ lw_all := lw_g (lw_at lw_m5 162 rfl) rfl
theorem q1165 : (Jvm.Cond.methodLink "CheckoutDesk$Store" (86 : Nat) ({ cls := "CheckoutDesk$Version", name := "<init>", desc := "(IIIIILCheckoutDesk$Content;)V" } : Jvm.MethodName)) ∈ lw_all := lw_g (lw_at lw_m5 163 rfl) rfl
theorem q1180 : (Jvm.Cond.fieldLinkNest "CheckoutDesk$Store" (68 : Nat) "CheckoutDesk$Version" "document" "I" "CheckoutDesk") ∈ lw_tbl := lw_at lw_m5 178 rfl
theorem q1183 : (Jvm.Cond.fieldLinkNest "CheckoutDesk$Store" (111 : Nat) "CheckoutDesk$Version" "branch" "I" "CheckoutDesk") ∈ lw_tbl := lw_at lw_m5 181 rfl
theorem q1198 : (Jvm.Cond.fieldLinkNest "CheckoutDesk$Store" (47 : Nat) "CheckoutDesk$Version" "isGone" "Z" "CheckoutDesk") ∈ lw_tbl := lw_at lw_m5 196 rfl
theorem q1223 : (Jvm.Cond.methodLink "CheckoutDesk$Store" (89 : Nat) ({ cls := "CheckoutDesk$Row", name := "add", desc := "(Ljava/lang/Object;)I" } : Jvm.MethodName)) ∈ lw_all := lw_g (lw_at lw_m5 221 rfl) rfl
theorem q1268 : (Jvm.Cond.fieldLinkNest "CheckoutDesk$Store" (93 : Nat) "CheckoutDesk$Link" "kind" "I" "CheckoutDesk") ∈ lw_tbl := lw_at lw_m6 26 rfl
theorem q1271 : (Jvm.Cond.fieldLinkNest "CheckoutDesk$Store" (98 : Nat) "CheckoutDesk$Link" "version" "LCheckoutDesk$Version;" "CheckoutDesk") ∈ lw_tbl := lw_at lw_m6 29 rfl
theorem q1359 : (Jvm.Cond.fieldLinkNest "CheckoutDesk$Store" (64 : Nat) "CheckoutDesk$Document" "rights" "[I" "CheckoutDesk") ∈ lw_tbl := lw_at lw_m6 117 rfl
theorem q1363 : (Jvm.Cond.fieldLinkNest "CheckoutDesk$Store" (40 : Nat) "CheckoutDesk$Document" "branches" "LCheckoutDesk$Row;" "CheckoutDesk") ∈ lw_tbl := lw_at lw_m6 121 rfl
theorem q1415 : (Jvm.Cond.fieldLinkNest "CheckoutDesk$Store" (77 : Nat) "CheckoutDesk$Copy" "since" "I" "CheckoutDesk") ∈ lw_tbl := lw_at lw_m6 173 rfl
theorem q1493 : (Jvm.Cond.instanceMethod ({ cls := "CheckoutDesk$Store", name := "close", desc := "()V" } : Jvm.MethodName)) ∈ lw_all := lw_g (lw_at lw_m7 11 rfl) rfl
theorem q1494 : (Jvm.Cond.selects "CheckoutDesk$Store" ({ cls := "CheckoutDesk$Store", name := "close", desc := "()V" } : Jvm.MethodName) ({ cls := "CheckoutDesk$Store", name := "close", desc := "()V" } : Jvm.MethodName)) ∈ lw_all := lw_g (lw_at lw_m7 12 rfl) rfl
theorem q1495 : (Jvm.Cond.code ({ cls := "CheckoutDesk$Store", name := "close", desc := "()V" } : Jvm.MethodName) prog_30_method_12_code (1 : Nat) (Option.none : Option Jvm.ClassFile.FieldType)) ∈ lw_all := lw_g (lw_at lw_m7 13 rfl) rfl
theorem q2690 : (Jvm.Cond.castable "CheckoutDesk$Store" "java/lang/Object") ∈ lw_tbl := lw_at lw_m12 8 rfl
theorem in_X2 : ∀ w ∈ wsX20, w ∈ lw_all := lw_in wsX20 [189, 191, 193, 195, 197, 199] (by decide +kernel) (by decide +kernel)
/-! CheckoutDesk$Row -/
set_option maxRecDepth 100000
def RX3 : String := "CheckoutDesk$Row"
def TX3 : u_T := fun k => match k with
  | 0 => ("CheckoutDesk$Row", "all", "Ljava/util/ArrayList;", true)
  | _ => ("CheckoutDesk$Row", "most", "I", true)
def tyX3 : Nat → FieldType := fun k => match k with
  | 0 => .object "java/util/ArrayList"
  | _ => .int
abbrev wsX30 : List Cond := u_ws RX3 TX3 2
theorem nmX3 : ∀ a, a < 2 → ∀ b, b < 2 → a ≠ b → (TX3 a).2.1 ≠ (TX3 b).2.1 := by decide +kernel
theorem tyX3_ok : ∀ k, k < 2 → parseFieldDescriptor (TX3 k).2.2.1 = some (tyX3 k) := by decide +kernel
abbrev cX3_init : ByteArray := prog_29_method_1_code
def yX3_init : MethodName := ⟨RX3, "<init>", "(I)V"⟩
def dkwX3_init_0 : List UInt8 := [42, 183, 0, 1, 42, 187, 0, 7, 89, 183, 0, 9, 181, 0, 10, 42, 27, 181, 0, 16, 177]
abbrev dktX3_init_0 : List UInt8 := dkwX3_init_0 ++ []
theorem dksX3_init_0 : cX3_init.data.toList.drop 0 = dktX3_init_0 := by decide +kernel
theorem dX3_init_0 : decode cX3_init 0 = .ok (.aload_n 0, 1) := dk_42 (dk_at dksX3_init_0 0 rfl rfl)
theorem dX3_init_1 : decode cX3_init 1 = .ok (.invokespecial 1, 3) := dk_183 0 1 (dk_at dksX3_init_0 1 rfl rfl)
theorem dX3_init_4 : decode cX3_init 4 = .ok (.aload_n 0, 1) := dk_42 (dk_at dksX3_init_0 4 rfl rfl)
theorem dX3_init_5 : decode cX3_init 5 = .ok (.new 7, 3) := dk_187 0 7 (dk_at dksX3_init_0 5 rfl rfl)
theorem dX3_init_8 : decode cX3_init 8 = .ok (.dup, 1) := dk_89 (dk_at dksX3_init_0 8 rfl rfl)
theorem dX3_init_9 : decode cX3_init 9 = .ok (.invokespecial 9, 3) := dk_183 0 9 (dk_at dksX3_init_0 9 rfl rfl)
theorem dX3_init_12 : decode cX3_init 12 = .ok (.putfield 10, 3) := dk_181 0 10 (dk_at dksX3_init_0 12 rfl rfl)
theorem dX3_init_15 : decode cX3_init 15 = .ok (.aload_n 0, 1) := dk_42 (dk_at dksX3_init_0 15 rfl rfl)
theorem dX3_init_16 : decode cX3_init 16 = .ok (.iload_n 1, 1) := dk_27 (dk_at dksX3_init_0 16 rfl rfl)
theorem dX3_init_17 : decode cX3_init 17 = .ok (.putfield 16, 3) := dk_181 0 16 (dk_at dksX3_init_0 17 rfl rfl)
theorem dX3_init_20 : decode cX3_init 20 = .ok (.return_, 1) := dk_177 (dk_at dksX3_init_0 20 rfl rfl)
abbrev cX3_size : ByteArray := prog_29_method_2_code
def yX3_size : MethodName := ⟨RX3, "size", "()I"⟩
def dkwX3_size_0 : List UInt8 := [42, 180, 0, 10, 182, 0, 20, 172]
abbrev dktX3_size_0 : List UInt8 := dkwX3_size_0 ++ []
theorem dksX3_size_0 : cX3_size.data.toList.drop 0 = dktX3_size_0 := by decide +kernel
theorem dX3_size_0 : decode cX3_size 0 = .ok (.aload_n 0, 1) := dk_42 (dk_at dksX3_size_0 0 rfl rfl)
theorem dX3_size_1 : decode cX3_size 1 = .ok (.getfield 10, 3) := dk_180 0 10 (dk_at dksX3_size_0 1 rfl rfl)
theorem dX3_size_4 : decode cX3_size 4 = .ok (.invokevirtual 20, 3) := dk_182 0 20 (dk_at dksX3_size_0 4 rfl rfl)
theorem dX3_size_7 : decode cX3_size 7 = .ok (.ireturn, 1) := dk_172 (dk_at dksX3_size_0 7 rfl rfl)
abbrev cX3_count : ByteArray := prog_29_method_7_code
def yX3_count : MethodName := ⟨RX3, "count", "(LCheckoutDesk$Test;)I"⟩
def dkwX3_count_1 : List UInt8 := [185, 0, 45, 2, 0, 153, 0, 6, 132, 2, 1, 132, 3, 1, 167, 255, 222, 28, 172]
abbrev dktX3_count_1 : List UInt8 := dkwX3_count_1 ++ []
def dkwX3_count_0 : List UInt8 := [3, 61, 3, 62, 29, 42, 180, 0, 10, 182, 0, 20, 162, 0, 29, 43, 42, 180, 0, 10, 29, 182, 0, 34]
abbrev dktX3_count_0 : List UInt8 := dkwX3_count_0 ++ dktX3_count_1
theorem dksX3_count_0 : cX3_count.data.toList.drop 0 = dktX3_count_0 := by decide +kernel
theorem dksX3_count_1 : cX3_count.data.toList.drop 24 = dktX3_count_1 := dk_seg dksX3_count_0 24 rfl rfl
theorem dX3_count_0 : decode cX3_count 0 = .ok (.iconst 0, 1) := dk_3 (dk_at dksX3_count_0 0 rfl rfl)
theorem dX3_count_1 : decode cX3_count 1 = .ok (.istore_n 2, 1) := dk_61 (dk_at dksX3_count_0 1 rfl rfl)
theorem dX3_count_2 : decode cX3_count 2 = .ok (.iconst 0, 1) := dk_3 (dk_at dksX3_count_0 2 rfl rfl)
theorem dX3_count_3 : decode cX3_count 3 = .ok (.istore_n 3, 1) := dk_62 (dk_at dksX3_count_0 3 rfl rfl)
theorem dX3_count_4 : decode cX3_count 4 = .ok (.iload_n 3, 1) := dk_29 (dk_at dksX3_count_0 4 rfl rfl)
theorem dX3_count_5 : decode cX3_count 5 = .ok (.aload_n 0, 1) := dk_42 (dk_at dksX3_count_0 5 rfl rfl)
theorem dX3_count_6 : decode cX3_count 6 = .ok (.getfield 10, 3) := dk_180 0 10 (dk_at dksX3_count_0 6 rfl rfl)
theorem dX3_count_9 : decode cX3_count 9 = .ok (.invokevirtual 20, 3) := dk_182 0 20 (dk_at dksX3_count_0 9 rfl rfl)
theorem dX3_count_12 : decode cX3_count 12 = .ok (.if_icmp .ge 29, 3) := dk_162 0 29 (dk_at dksX3_count_0 12 rfl rfl)
theorem dX3_count_15 : decode cX3_count 15 = .ok (.aload_n 1, 1) := dk_43 (dk_at dksX3_count_0 15 rfl rfl)
theorem dX3_count_16 : decode cX3_count 16 = .ok (.aload_n 0, 1) := dk_42 (dk_at dksX3_count_0 16 rfl rfl)
theorem dX3_count_17 : decode cX3_count 17 = .ok (.getfield 10, 3) := dk_180 0 10 (dk_at dksX3_count_0 17 rfl rfl)
theorem dX3_count_20 : decode cX3_count 20 = .ok (.iload_n 3, 1) := dk_29 (dk_at dksX3_count_0 20 rfl rfl)
theorem dX3_count_21 : decode cX3_count 21 = .ok (.invokevirtual 34, 3) := dk_182 0 34 (dk_at dksX3_count_0 21 rfl rfl)
theorem dX3_count_24 : decode cX3_count 24 = .ok (.invokeinterface 45 2, 5) := by decide +kernel
theorem dX3_count_29 : decode cX3_count 29 = .ok (.ifCond .eq 6, 3) := dk_153 0 6 (dk_at dksX3_count_1 5 rfl rfl)
theorem dX3_count_32 : decode cX3_count 32 = .ok (.iinc 2 1, 3) := dk_132 2 1 (dk_at dksX3_count_1 8 rfl rfl)
theorem dX3_count_35 : decode cX3_count 35 = .ok (.iinc 3 1, 3) := dk_132 3 1 (dk_at dksX3_count_1 11 rfl rfl)
theorem dX3_count_38 : decode cX3_count 38 = .ok (.goto (-34), 3) := dk_167 255 222 (dk_at dksX3_count_1 14 rfl rfl)
theorem dX3_count_41 : decode cX3_count 41 = .ok (.iload_n 2, 1) := dk_28 (dk_at dksX3_count_1 17 rfl rfl)
theorem dX3_count_42 : decode cX3_count 42 = .ok (.ireturn, 1) := dk_172 (dk_at dksX3_count_1 18 rfl rfl)
abbrev cX3_get : ByteArray := prog_29_method_4_code
def yX3_get : MethodName := ⟨RX3, "get", "(I)Ljava/lang/Object;"⟩
def dkwX3_get_1 : List UInt8 := [182, 0, 34, 176]
abbrev dktX3_get_1 : List UInt8 := dkwX3_get_1 ++ []
def dkwX3_get_0 : List UInt8 := [27, 3, 42, 180, 0, 10, 182, 0, 20, 4, 100, 184, 0, 24, 184, 0, 30, 42, 180, 0, 10, 27]
abbrev dktX3_get_0 : List UInt8 := dkwX3_get_0 ++ dktX3_get_1
theorem dksX3_get_0 : cX3_get.data.toList.drop 0 = dktX3_get_0 := by decide +kernel
theorem dksX3_get_1 : cX3_get.data.toList.drop 22 = dktX3_get_1 := dk_seg dksX3_get_0 22 rfl rfl
theorem dX3_get_0 : decode cX3_get 0 = .ok (.iload_n 1, 1) := dk_27 (dk_at dksX3_get_0 0 rfl rfl)
theorem dX3_get_1 : decode cX3_get 1 = .ok (.iconst 0, 1) := dk_3 (dk_at dksX3_get_0 1 rfl rfl)
theorem dX3_get_2 : decode cX3_get 2 = .ok (.aload_n 0, 1) := dk_42 (dk_at dksX3_get_0 2 rfl rfl)
theorem dX3_get_3 : decode cX3_get 3 = .ok (.getfield 10, 3) := dk_180 0 10 (dk_at dksX3_get_0 3 rfl rfl)
theorem dX3_get_6 : decode cX3_get 6 = .ok (.invokevirtual 20, 3) := dk_182 0 20 (dk_at dksX3_get_0 6 rfl rfl)
theorem dX3_get_9 : decode cX3_get 9 = .ok (.iconst 1, 1) := dk_4 (dk_at dksX3_get_0 9 rfl rfl)
theorem dX3_get_10 : decode cX3_get 10 = .ok (.isub, 1) := dk_100 (dk_at dksX3_get_0 10 rfl rfl)
theorem dX3_get_11 : decode cX3_get 11 = .ok (.invokestatic 24, 3) := dk_184 0 24 (dk_at dksX3_get_0 11 rfl rfl)
theorem dX3_get_14 : decode cX3_get 14 = .ok (.invokestatic 30, 3) := dk_184 0 30 (dk_at dksX3_get_0 14 rfl rfl)
theorem dX3_get_17 : decode cX3_get 17 = .ok (.aload_n 0, 1) := dk_42 (dk_at dksX3_get_0 17 rfl rfl)
theorem dX3_get_18 : decode cX3_get 18 = .ok (.getfield 10, 3) := dk_180 0 10 (dk_at dksX3_get_0 18 rfl rfl)
theorem dX3_get_21 : decode cX3_get 21 = .ok (.iload_n 1, 1) := dk_27 (dk_at dksX3_get_0 21 rfl rfl)
theorem dX3_get_22 : decode cX3_get 22 = .ok (.invokevirtual 34, 3) := dk_182 0 34 (dk_at dksX3_get_1 0 rfl rfl)
theorem dX3_get_25 : decode cX3_get 25 = .ok (.areturn, 1) := dk_176 (dk_at dksX3_get_1 3 rfl rfl)
abbrev cX3_hasRoom : ByteArray := prog_29_method_3_code
def yX3_hasRoom : MethodName := ⟨RX3, "hasRoom", "()Z"⟩
def dkwX3_hasRoom_0 : List UInt8 := [42, 180, 0, 10, 182, 0, 20, 42, 180, 0, 16, 162, 0, 7, 4, 167, 0, 4, 3, 172]
abbrev dktX3_hasRoom_0 : List UInt8 := dkwX3_hasRoom_0 ++ []
theorem dksX3_hasRoom_0 : cX3_hasRoom.data.toList.drop 0 = dktX3_hasRoom_0 := by decide +kernel
theorem dX3_hasRoom_0 : decode cX3_hasRoom 0 = .ok (.aload_n 0, 1) := dk_42 (dk_at dksX3_hasRoom_0 0 rfl rfl)
theorem dX3_hasRoom_1 : decode cX3_hasRoom 1 = .ok (.getfield 10, 3) := dk_180 0 10 (dk_at dksX3_hasRoom_0 1 rfl rfl)
theorem dX3_hasRoom_4 : decode cX3_hasRoom 4 = .ok (.invokevirtual 20, 3) := dk_182 0 20 (dk_at dksX3_hasRoom_0 4 rfl rfl)
theorem dX3_hasRoom_7 : decode cX3_hasRoom 7 = .ok (.aload_n 0, 1) := dk_42 (dk_at dksX3_hasRoom_0 7 rfl rfl)
theorem dX3_hasRoom_8 : decode cX3_hasRoom 8 = .ok (.getfield 16, 3) := dk_180 0 16 (dk_at dksX3_hasRoom_0 8 rfl rfl)
theorem dX3_hasRoom_11 : decode cX3_hasRoom 11 = .ok (.if_icmp .ge 7, 3) := dk_162 0 7 (dk_at dksX3_hasRoom_0 11 rfl rfl)
theorem dX3_hasRoom_14 : decode cX3_hasRoom 14 = .ok (.iconst 1, 1) := dk_4 (dk_at dksX3_hasRoom_0 14 rfl rfl)
theorem dX3_hasRoom_15 : decode cX3_hasRoom 15 = .ok (.goto 4, 3) := dk_167 0 4 (dk_at dksX3_hasRoom_0 15 rfl rfl)
theorem dX3_hasRoom_18 : decode cX3_hasRoom 18 = .ok (.iconst 0, 1) := dk_3 (dk_at dksX3_hasRoom_0 18 rfl rfl)
theorem dX3_hasRoom_19 : decode cX3_hasRoom 19 = .ok (.ireturn, 1) := dk_172 (dk_at dksX3_hasRoom_0 19 rfl rfl)
abbrev cX3_add : ByteArray := prog_29_method_5_code
def yX3_add : MethodName := ⟨RX3, "add", "(Ljava/lang/Object;)I"⟩
def dkwX3_add_0 : List UInt8 := [42, 180, 0, 10, 43, 182, 0, 38, 87, 42, 180, 0, 10, 182, 0, 20, 4, 100, 172]
abbrev dktX3_add_0 : List UInt8 := dkwX3_add_0 ++ []
theorem dksX3_add_0 : cX3_add.data.toList.drop 0 = dktX3_add_0 := by decide +kernel
theorem dX3_add_0 : decode cX3_add 0 = .ok (.aload_n 0, 1) := dk_42 (dk_at dksX3_add_0 0 rfl rfl)
theorem dX3_add_1 : decode cX3_add 1 = .ok (.getfield 10, 3) := dk_180 0 10 (dk_at dksX3_add_0 1 rfl rfl)
theorem dX3_add_4 : decode cX3_add 4 = .ok (.aload_n 1, 1) := dk_43 (dk_at dksX3_add_0 4 rfl rfl)
theorem dX3_add_5 : decode cX3_add 5 = .ok (.invokevirtual 38, 3) := dk_182 0 38 (dk_at dksX3_add_0 5 rfl rfl)
theorem dX3_add_8 : decode cX3_add 8 = .ok (.pop, 1) := dk_87 (dk_at dksX3_add_0 8 rfl rfl)
theorem dX3_add_9 : decode cX3_add 9 = .ok (.aload_n 0, 1) := dk_42 (dk_at dksX3_add_0 9 rfl rfl)
theorem dX3_add_10 : decode cX3_add 10 = .ok (.getfield 10, 3) := dk_180 0 10 (dk_at dksX3_add_0 10 rfl rfl)
theorem dX3_add_13 : decode cX3_add 13 = .ok (.invokevirtual 20, 3) := dk_182 0 20 (dk_at dksX3_add_0 13 rfl rfl)
theorem dX3_add_16 : decode cX3_add 16 = .ok (.iconst 1, 1) := dk_4 (dk_at dksX3_add_0 16 rfl rfl)
theorem dX3_add_17 : decode cX3_add 17 = .ok (.isub, 1) := dk_100 (dk_at dksX3_add_0 17 rfl rfl)
theorem dX3_add_18 : decode cX3_add 18 = .ok (.ireturn, 1) := dk_172 (dk_at dksX3_add_0 18 rfl rfl)
abbrev cX3_remove : ByteArray := prog_29_method_6_code
def yX3_remove : MethodName := ⟨RX3, "remove", "(I)Ljava/lang/Object;"⟩
def dkwX3_remove_0 : List UInt8 := [42, 180, 0, 10, 27, 182, 0, 42, 176]
abbrev dktX3_remove_0 : List UInt8 := dkwX3_remove_0 ++ []
theorem dksX3_remove_0 : cX3_remove.data.toList.drop 0 = dktX3_remove_0 := by decide +kernel
theorem dX3_remove_0 : decode cX3_remove 0 = .ok (.aload_n 0, 1) := dk_42 (dk_at dksX3_remove_0 0 rfl rfl)
theorem dX3_remove_1 : decode cX3_remove 1 = .ok (.getfield 10, 3) := dk_180 0 10 (dk_at dksX3_remove_0 1 rfl rfl)
theorem dX3_remove_4 : decode cX3_remove 4 = .ok (.iload_n 1, 1) := dk_27 (dk_at dksX3_remove_0 4 rfl rfl)
theorem dX3_remove_5 : decode cX3_remove 5 = .ok (.invokevirtual 42, 3) := dk_182 0 42 (dk_at dksX3_remove_0 5 rfl rfl)
theorem dX3_remove_8 : decode cX3_remove 8 = .ok (.areturn, 1) := dk_176 (dk_at dksX3_remove_0 8 rfl rfl)
theorem q48 : (Jvm.Cond.initialized "CheckoutDesk$Row") ∈ lw_all := lw_g (lw_at lw_m1 6 rfl) rfl
theorem q151 : (Jvm.Cond.instantiable "CheckoutDesk$Row" (2 : Nat)) ∈ lw_all := lw_g (lw_at lw_m1 109 rfl) rfl
theorem q153 : (Jvm.Cond.instanceMethod ({ cls := "CheckoutDesk$Row", name := "<init>", desc := "(I)V" } : Jvm.MethodName)) ∈ lw_all := lw_g (lw_at lw_m1 111 rfl) rfl
theorem q154 : (Jvm.Cond.code ({ cls := "CheckoutDesk$Row", name := "<init>", desc := "(I)V" } : Jvm.MethodName) prog_29_method_1_code (2 : Nat) (Option.none : Option Jvm.ClassFile.FieldType)) ∈ lw_all := lw_g (lw_at lw_m1 112 rfl) rfl
theorem q155 : (Jvm.Cond.methodLink "CheckoutDesk$Row" (1 : Nat) ({ cls := "java/lang/Object", name := "<init>", desc := "()V" } : Jvm.MethodName)) ∈ lw_all := lw_g (lw_at lw_m1 113 rfl) rfl
theorem q156 : (Jvm.Cond.classLink "CheckoutDesk$Row" (7 : Nat) "java/util/ArrayList") ∈ lw_all := lw_g (lw_at lw_m1 114 rfl) rfl
theorem q157 : (Jvm.Cond.methodLink "CheckoutDesk$Row" (9 : Nat) ({ cls := "java/util/ArrayList", name := "<init>", desc := "()V" } : Jvm.MethodName)) ∈ lw_all := lw_g (lw_at lw_m1 115 rfl) rfl
theorem q158 : (Jvm.Cond.fieldLink "CheckoutDesk$Row" (10 : Nat) "CheckoutDesk$Row" "all" "Ljava/util/ArrayList;") ∈ lw_all := lw_g (lw_at lw_m1 116 rfl) rfl
theorem q159 : (Jvm.Cond.fieldLink "CheckoutDesk$Row" (16 : Nat) "CheckoutDesk$Row" "most" "I") ∈ lw_all := lw_g (lw_at lw_m1 117 rfl) rfl
theorem q160 : (Jvm.Cond.laysFinal "CheckoutDesk$Row" "CheckoutDesk$Row" "all" "Ljava/util/ArrayList;") ∈ lw_all := lw_g (lw_at lw_m1 118 rfl) rfl
theorem q161 : (Jvm.Cond.soleField "CheckoutDesk$Row" "all") ∈ lw_all := lw_g (lw_at lw_m1 119 rfl) rfl
theorem q162 : (Jvm.Cond.laysFinal "CheckoutDesk$Row" "CheckoutDesk$Row" "most" "I") ∈ lw_all := lw_g (lw_at lw_m1 120 rfl) rfl
theorem q163 : (Jvm.Cond.soleField "CheckoutDesk$Row" "most") ∈ lw_all := lw_g (lw_at lw_m1 121 rfl) rfl
theorem q164 : (Jvm.Cond.superclass "CheckoutDesk$Row" "java/lang/Object") ∈ lw_all := lw_g (lw_at lw_m1 122 rfl) rfl
theorem q232 : (Jvm.Cond.instanceMethod ({ cls := "CheckoutDesk$Row", name := "size", desc := "()I" } : Jvm.MethodName)) ∈ lw_all := lw_g (lw_at lw_m1 190 rfl) rfl
theorem q233 : (Jvm.Cond.selects "CheckoutDesk$Row" ({ cls := "CheckoutDesk$Row", name := "size", desc := "()I" } : Jvm.MethodName) ({ cls := "CheckoutDesk$Row", name := "size", desc := "()I" } : Jvm.MethodName)) ∈ lw_all := lw_g (lw_at lw_m1 191 rfl) rfl
theorem q234 : (Jvm.Cond.code ({ cls := "CheckoutDesk$Row", name := "size", desc := "()I" } : Jvm.MethodName) prog_29_method_2_code (1 : Nat) (Option.some Jvm.ClassFile.FieldType.int)) ∈ lw_all := lw_g (lw_at lw_m1 192 rfl) rfl
theorem q235 : (Jvm.Cond.methodLink "CheckoutDesk$Row" (20 : Nat) ({ cls := "java/util/ArrayList", name := "size", desc := "()I" } : Jvm.MethodName)) ∈ lw_all := lw_g (lw_at lw_m1 193 rfl) rfl
theorem q251 : (Jvm.Cond.instanceMethod ({ cls := "CheckoutDesk$Row", name := "count", desc := "(LCheckoutDesk$Test;)I" } : Jvm.MethodName)) ∈ lw_all := lw_g (lw_at lw_m1 209 rfl) rfl
theorem q252 : (Jvm.Cond.selects "CheckoutDesk$Row" ({ cls := "CheckoutDesk$Row", name := "count", desc := "(LCheckoutDesk$Test;)I" } : Jvm.MethodName) ({ cls := "CheckoutDesk$Row", name := "count", desc := "(LCheckoutDesk$Test;)I" } : Jvm.MethodName)) ∈ lw_all := lw_g (lw_at lw_m1 210 rfl) rfl
theorem q253 : (Jvm.Cond.code ({ cls := "CheckoutDesk$Row", name := "count", desc := "(LCheckoutDesk$Test;)I" } : Jvm.MethodName) prog_29_method_7_code (4 : Nat) (Option.some Jvm.ClassFile.FieldType.int)) ∈ lw_all := lw_g (lw_at lw_m1 211 rfl) rfl
theorem q254 : (Jvm.Cond.methodLink "CheckoutDesk$Row" (34 : Nat) ({ cls := "java/util/ArrayList", name := "get", desc := "(I)Ljava/lang/Object;" } : Jvm.MethodName)) ∈ lw_all := lw_g (lw_at lw_m1 212 rfl) rfl
theorem q268 : (Jvm.Cond.interfaceEntry "CheckoutDesk$Row" (45 : Nat)) ∈ lw_tbl := lw_at lw_m1 226 rfl
theorem q269 : (Jvm.Cond.methodLink "CheckoutDesk$Row" (45 : Nat) ({ cls := "CheckoutDesk$Test", name := "fits", desc := "(Ljava/lang/Object;)Z" } : Jvm.MethodName)) ∈ lw_all := lw_g (lw_at lw_m1 227 rfl) rfl
theorem q292 : (Jvm.Cond.instanceMethod ({ cls := "CheckoutDesk$Row", name := "get", desc := "(I)Ljava/lang/Object;" } : Jvm.MethodName)) ∈ lw_all := lw_g (lw_at lw_m2 10 rfl) rfl
theorem q293 : (Jvm.Cond.selects "CheckoutDesk$Row" ({ cls := "CheckoutDesk$Row", name := "get", desc := "(I)Ljava/lang/Object;" } : Jvm.MethodName) ({ cls := "CheckoutDesk$Row", name := "get", desc := "(I)Ljava/lang/Object;" } : Jvm.MethodName)) ∈ lw_all := lw_g (lw_at lw_m2 11 rfl) rfl
theorem q294 : (Jvm.Cond.code ({ cls := "CheckoutDesk$Row", name := "get", desc := "(I)Ljava/lang/Object;" } : Jvm.MethodName) prog_29_method_4_code (2 : Nat) (Option.some (Jvm.ClassFile.FieldType.object "java/lang/Object"))) ∈ lw_all := lw_g (lw_at lw_m2 12 rfl) rfl
theorem q295 : (Jvm.Cond.methodLinkNest "CheckoutDesk$Row" (24 : Nat) ({ cls := "CheckoutDesk", name := "inRange", desc := "(III)Z" } : Jvm.MethodName) "CheckoutDesk") ∈ lw_tbl := lw_at lw_m2 13 rfl
theorem q298 : (Jvm.Cond.methodLinkNest "CheckoutDesk$Row" (30 : Nat) ({ cls := "CheckoutDesk", name := "requireIndex", desc := "(Z)V" } : Jvm.MethodName) "CheckoutDesk") ∈ lw_tbl := lw_at lw_m2 16 rfl
theorem q1035 : (Jvm.Cond.instanceMethod ({ cls := "CheckoutDesk$Row", name := "hasRoom", desc := "()Z" } : Jvm.MethodName)) ∈ lw_all := lw_g (lw_at lw_m5 33 rfl) rfl
theorem q1036 : (Jvm.Cond.selects "CheckoutDesk$Row" ({ cls := "CheckoutDesk$Row", name := "hasRoom", desc := "()Z" } : Jvm.MethodName) ({ cls := "CheckoutDesk$Row", name := "hasRoom", desc := "()Z" } : Jvm.MethodName)) ∈ lw_all := lw_g (lw_at lw_m5 34 rfl) rfl
theorem q1037 : (Jvm.Cond.code ({ cls := "CheckoutDesk$Row", name := "hasRoom", desc := "()Z" } : Jvm.MethodName) prog_29_method_3_code (1 : Nat) (Option.some Jvm.ClassFile.FieldType.boolean)) ∈ lw_all := lw_g (lw_at lw_m5 35 rfl) rfl
theorem q1062 : (Jvm.Cond.instanceMethod ({ cls := "CheckoutDesk$Row", name := "add", desc := "(Ljava/lang/Object;)I" } : Jvm.MethodName)) ∈ lw_all := lw_g (lw_at lw_m5 60 rfl) rfl
theorem q1063 : (Jvm.Cond.selects "CheckoutDesk$Row" ({ cls := "CheckoutDesk$Row", name := "add", desc := "(Ljava/lang/Object;)I" } : Jvm.MethodName) ({ cls := "CheckoutDesk$Row", name := "add", desc := "(Ljava/lang/Object;)I" } : Jvm.MethodName)) ∈ lw_all := lw_g (lw_at lw_m5 61 rfl) rfl
theorem q1064 : (Jvm.Cond.code ({ cls := "CheckoutDesk$Row", name := "add", desc := "(Ljava/lang/Object;)I" } : Jvm.MethodName) prog_29_method_5_code (2 : Nat) (Option.some Jvm.ClassFile.FieldType.int)) ∈ lw_all := lw_g (lw_at lw_m5 62 rfl) rfl
theorem q1065 : (Jvm.Cond.methodLink "CheckoutDesk$Row" (38 : Nat) ({ cls := "java/util/ArrayList", name := "add", desc := "(Ljava/lang/Object;)Z" } : Jvm.MethodName)) ∈ lw_all := lw_g (lw_at lw_m5 63 rfl) rfl
theorem q1124 : (Jvm.Cond.selects "CheckoutDesk$Row" ({ cls := "java/lang/Object", name := "getClass", desc := "()Ljava/lang/Class;" } : Jvm.MethodName) ({ cls := "java/lang/Object", name := "getClass", desc := "()Ljava/lang/Class;" } : Jvm.MethodName)) ∈ lw_all := lw_g (lw_at lw_m5 122 rfl) rfl
theorem q1310 : (Jvm.Cond.instanceMethod ({ cls := "CheckoutDesk$Row", name := "remove", desc := "(I)Ljava/lang/Object;" } : Jvm.MethodName)) ∈ lw_all := lw_g (lw_at lw_m6 68 rfl) rfl
theorem q1311 : (Jvm.Cond.selects "CheckoutDesk$Row" ({ cls := "CheckoutDesk$Row", name := "remove", desc := "(I)Ljava/lang/Object;" } : Jvm.MethodName) ({ cls := "CheckoutDesk$Row", name := "remove", desc := "(I)Ljava/lang/Object;" } : Jvm.MethodName)) ∈ lw_all := lw_g (lw_at lw_m6 69 rfl) rfl
theorem q1312 : (Jvm.Cond.code ({ cls := "CheckoutDesk$Row", name := "remove", desc := "(I)Ljava/lang/Object;" } : Jvm.MethodName) prog_29_method_6_code (2 : Nat) (Option.some (Jvm.ClassFile.FieldType.object "java/lang/Object"))) ∈ lw_all := lw_g (lw_at lw_m6 70 rfl) rfl
theorem q1313 : (Jvm.Cond.methodLink "CheckoutDesk$Row" (42 : Nat) ({ cls := "java/util/ArrayList", name := "remove", desc := "(I)Ljava/lang/Object;" } : Jvm.MethodName)) ∈ lw_all := lw_g (lw_at lw_m6 71 rfl) rfl
theorem q2691 : (Jvm.Cond.castable "CheckoutDesk$Row" "java/lang/Object") ∈ lw_tbl := lw_at lw_m12 9 rfl
theorem in_X3 : ∀ w ∈ wsX30, w ∈ lw_all := lw_in wsX30 [160, 162] (by decide +kernel) (by decide +kernel)
/-! CheckoutDesk$1 -/
set_option maxRecDepth 100000
def RX5 : String := "CheckoutDesk$1"
def TX5 : u_T := fun k => match k with
  | 0 => ("CheckoutDesk$1", "val$hours", "I", true)
  | _ => ("CheckoutDesk$1", "this$0", "LCheckoutDesk;", true)
def tyX5 : Nat → FieldType := fun k => match k with
  | 0 => .int
  | _ => .object "CheckoutDesk"
abbrev wsX50 : List Cond := u_ws RX5 TX5 2
theorem nmX5 : ∀ a, a < 2 → ∀ b, b < 2 → a ≠ b → (TX5 a).2.1 ≠ (TX5 b).2.1 := by decide +kernel
theorem tyX5_ok : ∀ k, k < 2 → parseFieldDescriptor (TX5 k).2.2.1 = some (tyX5 k) := by decide +kernel
abbrev cX5_on : ByteArray := prog_2_method_2_code
def yX5_on : MethodName := ⟨RX5, "on", "(LCheckoutDesk$Store;)I"⟩
def dkwX5_on_2 : List UInt8 := [181, 0, 27, 43, 180, 0, 27, 172]
abbrev dktX5_on_2 : List UInt8 := dkwX5_on_2 ++ []
def dkwX5_on_1 : List UInt8 := [17, 39, 15, 163, 0, 7, 4, 167, 0, 4, 3, 184, 0, 32, 43, 89, 180, 0, 27, 42, 180, 0, 9, 96]
abbrev dktX5_on_1 : List UInt8 := dkwX5_on_1 ++ dktX5_on_2
def dkwX5_on_0 : List UInt8 := [42, 180, 0, 9, 4, 16, 100, 184, 0, 19, 184, 0, 23, 43, 180, 0, 27, 42, 180, 0, 9, 96]
abbrev dktX5_on_0 : List UInt8 := dkwX5_on_0 ++ dktX5_on_1
theorem dksX5_on_0 : cX5_on.data.toList.drop 0 = dktX5_on_0 := by decide +kernel
theorem dksX5_on_1 : cX5_on.data.toList.drop 22 = dktX5_on_1 := dk_seg dksX5_on_0 22 rfl rfl
theorem dksX5_on_2 : cX5_on.data.toList.drop 46 = dktX5_on_2 := dk_seg dksX5_on_1 24 rfl rfl
theorem dX5_on_0 : decode cX5_on 0 = .ok (.aload_n 0, 1) := dk_42 (dk_at dksX5_on_0 0 rfl rfl)
theorem dX5_on_1 : decode cX5_on 1 = .ok (.getfield 9, 3) := dk_180 0 9 (dk_at dksX5_on_0 1 rfl rfl)
theorem dX5_on_4 : decode cX5_on 4 = .ok (.iconst 1, 1) := dk_4 (dk_at dksX5_on_0 4 rfl rfl)
theorem dX5_on_5 : decode cX5_on 5 = .ok (.bipush 100, 2) := dk_16 100 (dk_at dksX5_on_0 5 rfl rfl)
theorem dX5_on_7 : decode cX5_on 7 = .ok (.invokestatic 19, 3) := dk_184 0 19 (dk_at dksX5_on_0 7 rfl rfl)
theorem dX5_on_10 : decode cX5_on 10 = .ok (.invokestatic 23, 3) := dk_184 0 23 (dk_at dksX5_on_0 10 rfl rfl)
theorem dX5_on_13 : decode cX5_on 13 = .ok (.aload_n 1, 1) := dk_43 (dk_at dksX5_on_0 13 rfl rfl)
theorem dX5_on_14 : decode cX5_on 14 = .ok (.getfield 27, 3) := dk_180 0 27 (dk_at dksX5_on_0 14 rfl rfl)
theorem dX5_on_17 : decode cX5_on 17 = .ok (.aload_n 0, 1) := dk_42 (dk_at dksX5_on_0 17 rfl rfl)
theorem dX5_on_18 : decode cX5_on 18 = .ok (.getfield 9, 3) := dk_180 0 9 (dk_at dksX5_on_0 18 rfl rfl)
theorem dX5_on_21 : decode cX5_on 21 = .ok (.iadd, 1) := dk_96 (dk_at dksX5_on_0 21 rfl rfl)
theorem dX5_on_22 : decode cX5_on 22 = .ok (.sipush 9999, 3) := dk_17 39 15 (dk_at dksX5_on_1 0 rfl rfl)
theorem dX5_on_25 : decode cX5_on 25 = .ok (.if_icmp .gt 7, 3) := dk_163 0 7 (dk_at dksX5_on_1 3 rfl rfl)
theorem dX5_on_28 : decode cX5_on 28 = .ok (.iconst 1, 1) := dk_4 (dk_at dksX5_on_1 6 rfl rfl)
theorem dX5_on_29 : decode cX5_on 29 = .ok (.goto 4, 3) := dk_167 0 4 (dk_at dksX5_on_1 7 rfl rfl)
theorem dX5_on_32 : decode cX5_on 32 = .ok (.iconst 0, 1) := dk_3 (dk_at dksX5_on_1 10 rfl rfl)
theorem dX5_on_33 : decode cX5_on 33 = .ok (.invokestatic 32, 3) := dk_184 0 32 (dk_at dksX5_on_1 11 rfl rfl)
theorem dX5_on_36 : decode cX5_on 36 = .ok (.aload_n 1, 1) := dk_43 (dk_at dksX5_on_1 14 rfl rfl)
theorem dX5_on_37 : decode cX5_on 37 = .ok (.dup, 1) := dk_89 (dk_at dksX5_on_1 15 rfl rfl)
theorem dX5_on_38 : decode cX5_on 38 = .ok (.getfield 27, 3) := dk_180 0 27 (dk_at dksX5_on_1 16 rfl rfl)
theorem dX5_on_41 : decode cX5_on 41 = .ok (.aload_n 0, 1) := dk_42 (dk_at dksX5_on_1 19 rfl rfl)
theorem dX5_on_42 : decode cX5_on 42 = .ok (.getfield 9, 3) := dk_180 0 9 (dk_at dksX5_on_1 20 rfl rfl)
theorem dX5_on_45 : decode cX5_on 45 = .ok (.iadd, 1) := dk_96 (dk_at dksX5_on_1 23 rfl rfl)
theorem dX5_on_46 : decode cX5_on 46 = .ok (.putfield 27, 3) := dk_181 0 27 (dk_at dksX5_on_2 0 rfl rfl)
theorem dX5_on_49 : decode cX5_on 49 = .ok (.aload_n 1, 1) := dk_43 (dk_at dksX5_on_2 3 rfl rfl)
theorem dX5_on_50 : decode cX5_on 50 = .ok (.getfield 27, 3) := dk_180 0 27 (dk_at dksX5_on_2 4 rfl rfl)
theorem dX5_on_53 : decode cX5_on 53 = .ok (.ireturn, 1) := dk_172 (dk_at dksX5_on_2 7 rfl rfl)
abbrev cX5_init : ByteArray := prog_2_method_1_code
def yX5_init : MethodName := ⟨RX5, "<init>", "(LCheckoutDesk;I)V"⟩
def dkwX5_init_0 : List UInt8 := [42, 43, 181, 0, 3, 42, 28, 181, 0, 9, 42, 183, 0, 13, 177]
abbrev dktX5_init_0 : List UInt8 := dkwX5_init_0 ++ []
theorem dksX5_init_0 : cX5_init.data.toList.drop 0 = dktX5_init_0 := by decide +kernel
theorem dX5_init_0 : decode cX5_init 0 = .ok (.aload_n 0, 1) := dk_42 (dk_at dksX5_init_0 0 rfl rfl)
theorem dX5_init_1 : decode cX5_init 1 = .ok (.aload_n 1, 1) := dk_43 (dk_at dksX5_init_0 1 rfl rfl)
theorem dX5_init_2 : decode cX5_init 2 = .ok (.putfield 3, 3) := dk_181 0 3 (dk_at dksX5_init_0 2 rfl rfl)
theorem dX5_init_5 : decode cX5_init 5 = .ok (.aload_n 0, 1) := dk_42 (dk_at dksX5_init_0 5 rfl rfl)
theorem dX5_init_6 : decode cX5_init 6 = .ok (.iload_n 2, 1) := dk_28 (dk_at dksX5_init_0 6 rfl rfl)
theorem dX5_init_7 : decode cX5_init 7 = .ok (.putfield 9, 3) := dk_181 0 9 (dk_at dksX5_init_0 7 rfl rfl)
theorem dX5_init_10 : decode cX5_init 10 = .ok (.aload_n 0, 1) := dk_42 (dk_at dksX5_init_0 10 rfl rfl)
theorem dX5_init_11 : decode cX5_init 11 = .ok (.invokespecial 13, 3) := dk_183 0 13 (dk_at dksX5_init_0 11 rfl rfl)
theorem dX5_init_14 : decode cX5_init 14 = .ok (.return_, 1) := dk_177 (dk_at dksX5_init_0 14 rfl rfl)
theorem q50 : (Jvm.Cond.initialized "CheckoutDesk$1") ∈ lw_all := lw_g (lw_at lw_m1 8 rfl) rfl
theorem q180 : (Jvm.Cond.fieldLinkNest "CheckoutDesk$1" (27 : Nat) "CheckoutDesk$Store" "clock" "I" "CheckoutDesk") ∈ lw_tbl := lw_at lw_m1 138 rfl
theorem q884 : (Jvm.Cond.castable "CheckoutDesk$1" "CheckoutDesk$Act") ∈ lw_tbl := lw_at lw_m4 122 rfl
theorem q885 : (Jvm.Cond.selects "CheckoutDesk$1" ({ cls := "CheckoutDesk$Act", name := "on", desc := "(LCheckoutDesk$Store;)I" } : Jvm.MethodName) ({ cls := "CheckoutDesk$1", name := "on", desc := "(LCheckoutDesk$Store;)I" } : Jvm.MethodName)) ∈ lw_all := lw_g (lw_at lw_m4 123 rfl) rfl
theorem q886 : (Jvm.Cond.unhidden "CheckoutDesk$1" "on" "(LCheckoutDesk$Store;)I") ∈ lw_tbl := lw_at lw_m4 124 rfl
theorem q887 : (Jvm.Cond.instanceMethod ({ cls := "CheckoutDesk$1", name := "on", desc := "(LCheckoutDesk$Store;)I" } : Jvm.MethodName)) ∈ lw_all := lw_g (lw_at lw_m4 125 rfl) rfl
theorem q888 : (Jvm.Cond.publicMethod ({ cls := "CheckoutDesk$1", name := "on", desc := "(LCheckoutDesk$Store;)I" } : Jvm.MethodName)) ∈ lw_tbl := lw_at lw_m4 126 rfl
theorem q889 : (Jvm.Cond.code ({ cls := "CheckoutDesk$1", name := "on", desc := "(LCheckoutDesk$Store;)I" } : Jvm.MethodName) prog_2_method_2_code (2 : Nat) (Option.some Jvm.ClassFile.FieldType.int)) ∈ lw_all := lw_g (lw_at lw_m4 127 rfl) rfl
theorem q890 : (Jvm.Cond.methodLinkNest "CheckoutDesk$1" (19 : Nat) ({ cls := "CheckoutDesk", name := "inRange", desc := "(III)Z" } : Jvm.MethodName) "CheckoutDesk") ∈ lw_tbl := lw_at lw_m4 128 rfl
theorem q891 : (Jvm.Cond.methodLinkNest "CheckoutDesk$1" (23 : Nat) ({ cls := "CheckoutDesk", name := "requireArgument", desc := "(Z)V" } : Jvm.MethodName) "CheckoutDesk") ∈ lw_tbl := lw_at lw_m4 129 rfl
theorem q909 : (Jvm.Cond.methodLinkNest "CheckoutDesk$1" (32 : Nat) ({ cls := "CheckoutDesk", name := "requireState", desc := "(Z)V" } : Jvm.MethodName) "CheckoutDesk") ∈ lw_tbl := lw_at lw_m4 147 rfl
theorem q1098 : (Jvm.Cond.selects "CheckoutDesk$1" ({ cls := "java/lang/Object", name := "getClass", desc := "()Ljava/lang/Class;" } : Jvm.MethodName) ({ cls := "java/lang/Object", name := "getClass", desc := "()Ljava/lang/Class;" } : Jvm.MethodName)) ∈ lw_all := lw_g (lw_at lw_m5 96 rfl) rfl
theorem q1752 : (Jvm.Cond.instantiable "CheckoutDesk$1" (2 : Nat)) ∈ lw_all := lw_g (lw_at lw_m8 30 rfl) rfl
theorem q1754 : (Jvm.Cond.instanceMethod ({ cls := "CheckoutDesk$1", name := "<init>", desc := "(LCheckoutDesk;I)V" } : Jvm.MethodName)) ∈ lw_all := lw_g (lw_at lw_m8 32 rfl) rfl
theorem q1755 : (Jvm.Cond.code ({ cls := "CheckoutDesk$1", name := "<init>", desc := "(LCheckoutDesk;I)V" } : Jvm.MethodName) prog_2_method_1_code (3 : Nat) (Option.none : Option Jvm.ClassFile.FieldType)) ∈ lw_all := lw_g (lw_at lw_m8 33 rfl) rfl
theorem q1756 : (Jvm.Cond.methodLink "CheckoutDesk$1" (13 : Nat) ({ cls := "java/lang/Object", name := "<init>", desc := "()V" } : Jvm.MethodName)) ∈ lw_all := lw_g (lw_at lw_m8 34 rfl) rfl
theorem q1757 : (Jvm.Cond.fieldLink "CheckoutDesk$1" (9 : Nat) "CheckoutDesk$1" "val$hours" "I") ∈ lw_all := lw_g (lw_at lw_m8 35 rfl) rfl
theorem q1758 : (Jvm.Cond.fieldLink "CheckoutDesk$1" (3 : Nat) "CheckoutDesk$1" "this$0" "LCheckoutDesk;") ∈ lw_all := lw_g (lw_at lw_m8 36 rfl) rfl
theorem q1759 : (Jvm.Cond.laysFinal "CheckoutDesk$1" "CheckoutDesk$1" "val$hours" "I") ∈ lw_all := lw_g (lw_at lw_m8 37 rfl) rfl
theorem q1760 : (Jvm.Cond.soleField "CheckoutDesk$1" "val$hours") ∈ lw_all := lw_g (lw_at lw_m8 38 rfl) rfl
theorem q1761 : (Jvm.Cond.laysFinal "CheckoutDesk$1" "CheckoutDesk$1" "this$0" "LCheckoutDesk;") ∈ lw_all := lw_g (lw_at lw_m8 39 rfl) rfl
theorem q1762 : (Jvm.Cond.soleField "CheckoutDesk$1" "this$0") ∈ lw_all := lw_g (lw_at lw_m8 40 rfl) rfl
theorem q1763 : (Jvm.Cond.superclass "CheckoutDesk$1" "java/lang/Object") ∈ lw_all := lw_g (lw_at lw_m8 41 rfl) rfl
theorem q2693 : (Jvm.Cond.castable "CheckoutDesk$1" "java/lang/Object") ∈ lw_tbl := lw_at lw_m12 11 rfl
theorem in_X5 : ∀ w ∈ wsX50, w ∈ lw_all := lw_in wsX50 [1759, 1761] (by decide +kernel) (by decide +kernel)
/-! CheckoutDesk$Store$1 -/
set_option maxRecDepth 100000
def RX6 : String := "CheckoutDesk$Store$1"
def TX6 : u_T := fun k => match k with
  | 0 => ("CheckoutDesk$Store$1", "val$document", "I", true)
  | 1 => ("CheckoutDesk$Store$1", "val$branch", "I", true)
  | _ => ("CheckoutDesk$Store$1", "this$0", "LCheckoutDesk$Store;", true)
def tyX6 : Nat → FieldType := fun k => match k with
  | 0 => .int
  | 1 => .int
  | _ => .object "CheckoutDesk$Store"
abbrev wsX60 : List Cond := u_ws RX6 TX6 3
theorem nmX6 : ∀ a, a < 3 → ∀ b, b < 3 → a ≠ b → (TX6 a).2.1 ≠ (TX6 b).2.1 := by decide +kernel
theorem tyX6_ok : ∀ k, k < 3 → parseFieldDescriptor (TX6 k).2.2.1 = some (tyX6 k) := by decide +kernel
abbrev cX6_fits : ByteArray := prog_31_method_3_code
def yX6_fits : MethodName := ⟨RX6, "fits", "(Ljava/lang/Object;)Z"⟩
def dkwX6_fits_0 : List UInt8 := [42, 43, 192, 0, 21, 182, 0, 26, 172]
abbrev dktX6_fits_0 : List UInt8 := dkwX6_fits_0 ++ []
theorem dksX6_fits_0 : cX6_fits.data.toList.drop 0 = dktX6_fits_0 := by decide +kernel
theorem dX6_fits_0 : decode cX6_fits 0 = .ok (.aload_n 0, 1) := dk_42 (dk_at dksX6_fits_0 0 rfl rfl)
theorem dX6_fits_1 : decode cX6_fits 1 = .ok (.aload_n 1, 1) := dk_43 (dk_at dksX6_fits_0 1 rfl rfl)
theorem dX6_fits_2 : decode cX6_fits 2 = .ok (.checkcast 21, 3) := dk_192 0 21 (dk_at dksX6_fits_0 2 rfl rfl)
theorem dX6_fits_5 : decode cX6_fits 5 = .ok (.invokevirtual 26, 3) := dk_182 0 26 (dk_at dksX6_fits_0 5 rfl rfl)
theorem dX6_fits_8 : decode cX6_fits 8 = .ok (.ireturn, 1) := dk_172 (dk_at dksX6_fits_0 8 rfl rfl)
abbrev cX6_fits_2 : ByteArray := prog_31_method_2_code
def yX6_fits_2 : MethodName := ⟨RX6, "fits", "(LCheckoutDesk$Version;)Z"⟩
def dkwX6_fits_2_0 : List UInt8 := [43, 42, 180, 0, 7, 42, 180, 0, 11, 182, 0, 20, 172]
abbrev dktX6_fits_2_0 : List UInt8 := dkwX6_fits_2_0 ++ []
theorem dksX6_fits_2_0 : cX6_fits_2.data.toList.drop 0 = dktX6_fits_2_0 := by decide +kernel
theorem dX6_fits_2_0 : decode cX6_fits_2 0 = .ok (.aload_n 1, 1) := dk_43 (dk_at dksX6_fits_2_0 0 rfl rfl)
theorem dX6_fits_2_1 : decode cX6_fits_2 1 = .ok (.aload_n 0, 1) := dk_42 (dk_at dksX6_fits_2_0 1 rfl rfl)
theorem dX6_fits_2_2 : decode cX6_fits_2 2 = .ok (.getfield 7, 3) := dk_180 0 7 (dk_at dksX6_fits_2_0 2 rfl rfl)
theorem dX6_fits_2_5 : decode cX6_fits_2 5 = .ok (.aload_n 0, 1) := dk_42 (dk_at dksX6_fits_2_0 5 rfl rfl)
theorem dX6_fits_2_6 : decode cX6_fits_2 6 = .ok (.getfield 11, 3) := dk_180 0 11 (dk_at dksX6_fits_2_0 6 rfl rfl)
theorem dX6_fits_2_9 : decode cX6_fits_2 9 = .ok (.invokevirtual 20, 3) := dk_182 0 20 (dk_at dksX6_fits_2_0 9 rfl rfl)
theorem dX6_fits_2_12 : decode cX6_fits_2 12 = .ok (.ireturn, 1) := dk_172 (dk_at dksX6_fits_2_0 12 rfl rfl)
abbrev cX6_init : ByteArray := prog_31_method_1_code
def yX6_init : MethodName := ⟨RX6, "<init>", "(LCheckoutDesk$Store;II)V"⟩
def dkwX6_init_0 : List UInt8 := [42, 43, 181, 0, 1, 42, 28, 181, 0, 7, 42, 29, 181, 0, 11, 42, 183, 0, 14, 177]
abbrev dktX6_init_0 : List UInt8 := dkwX6_init_0 ++ []
theorem dksX6_init_0 : cX6_init.data.toList.drop 0 = dktX6_init_0 := by decide +kernel
theorem dX6_init_0 : decode cX6_init 0 = .ok (.aload_n 0, 1) := dk_42 (dk_at dksX6_init_0 0 rfl rfl)
theorem dX6_init_1 : decode cX6_init 1 = .ok (.aload_n 1, 1) := dk_43 (dk_at dksX6_init_0 1 rfl rfl)
theorem dX6_init_2 : decode cX6_init 2 = .ok (.putfield 1, 3) := dk_181 0 1 (dk_at dksX6_init_0 2 rfl rfl)
theorem dX6_init_5 : decode cX6_init 5 = .ok (.aload_n 0, 1) := dk_42 (dk_at dksX6_init_0 5 rfl rfl)
theorem dX6_init_6 : decode cX6_init 6 = .ok (.iload_n 2, 1) := dk_28 (dk_at dksX6_init_0 6 rfl rfl)
theorem dX6_init_7 : decode cX6_init 7 = .ok (.putfield 7, 3) := dk_181 0 7 (dk_at dksX6_init_0 7 rfl rfl)
theorem dX6_init_10 : decode cX6_init 10 = .ok (.aload_n 0, 1) := dk_42 (dk_at dksX6_init_0 10 rfl rfl)
theorem dX6_init_11 : decode cX6_init 11 = .ok (.iload_n 3, 1) := dk_29 (dk_at dksX6_init_0 11 rfl rfl)
theorem dX6_init_12 : decode cX6_init 12 = .ok (.putfield 11, 3) := dk_181 0 11 (dk_at dksX6_init_0 12 rfl rfl)
theorem dX6_init_15 : decode cX6_init 15 = .ok (.aload_n 0, 1) := dk_42 (dk_at dksX6_init_0 15 rfl rfl)
theorem dX6_init_16 : decode cX6_init 16 = .ok (.invokespecial 14, 3) := dk_183 0 14 (dk_at dksX6_init_0 16 rfl rfl)
theorem dX6_init_19 : decode cX6_init 19 = .ok (.return_, 1) := dk_177 (dk_at dksX6_init_0 19 rfl rfl)
theorem q59 : (Jvm.Cond.initialized "CheckoutDesk$Store$1") ∈ lw_all := lw_g (lw_at lw_m1 17 rfl) rfl
theorem q460 : (Jvm.Cond.castable "CheckoutDesk$Store$1" "CheckoutDesk$Test") ∈ lw_tbl := lw_at lw_m2 178 rfl
theorem q461 : (Jvm.Cond.selects "CheckoutDesk$Store$1" ({ cls := "CheckoutDesk$Test", name := "fits", desc := "(Ljava/lang/Object;)Z" } : Jvm.MethodName) ({ cls := "CheckoutDesk$Store$1", name := "fits", desc := "(Ljava/lang/Object;)Z" } : Jvm.MethodName)) ∈ lw_all := lw_g (lw_at lw_m2 179 rfl) rfl
theorem q462 : (Jvm.Cond.unhidden "CheckoutDesk$Store$1" "fits" "(Ljava/lang/Object;)Z") ∈ lw_tbl := lw_at lw_m2 180 rfl
theorem q463 : (Jvm.Cond.instanceMethod ({ cls := "CheckoutDesk$Store$1", name := "fits", desc := "(Ljava/lang/Object;)Z" } : Jvm.MethodName)) ∈ lw_all := lw_g (lw_at lw_m2 181 rfl) rfl
theorem q464 : (Jvm.Cond.publicMethod ({ cls := "CheckoutDesk$Store$1", name := "fits", desc := "(Ljava/lang/Object;)Z" } : Jvm.MethodName)) ∈ lw_tbl := lw_at lw_m2 182 rfl
theorem q465 : (Jvm.Cond.code ({ cls := "CheckoutDesk$Store$1", name := "fits", desc := "(Ljava/lang/Object;)Z" } : Jvm.MethodName) prog_31_method_3_code (2 : Nat) (Option.some Jvm.ClassFile.FieldType.boolean)) ∈ lw_all := lw_g (lw_at lw_m2 183 rfl) rfl
theorem q466 : (Jvm.Cond.classLink "CheckoutDesk$Store$1" (21 : Nat) "CheckoutDesk$Version") ∈ lw_all := lw_g (lw_at lw_m2 184 rfl) rfl
theorem q467 : (Jvm.Cond.methodLink "CheckoutDesk$Store$1" (26 : Nat) ({ cls := "CheckoutDesk$Store$1", name := "fits", desc := "(LCheckoutDesk$Version;)Z" } : Jvm.MethodName)) ∈ lw_all := lw_g (lw_at lw_m2 185 rfl) rfl
theorem q468 : (Jvm.Cond.instanceMethod ({ cls := "CheckoutDesk$Store$1", name := "fits", desc := "(LCheckoutDesk$Version;)Z" } : Jvm.MethodName)) ∈ lw_all := lw_g (lw_at lw_m2 186 rfl) rfl
theorem q469 : (Jvm.Cond.selects "CheckoutDesk$Store$1" ({ cls := "CheckoutDesk$Store$1", name := "fits", desc := "(LCheckoutDesk$Version;)Z" } : Jvm.MethodName) ({ cls := "CheckoutDesk$Store$1", name := "fits", desc := "(LCheckoutDesk$Version;)Z" } : Jvm.MethodName)) ∈ lw_all := lw_g (lw_at lw_m2 187 rfl) rfl
theorem q470 : (Jvm.Cond.code ({ cls := "CheckoutDesk$Store$1", name := "fits", desc := "(LCheckoutDesk$Version;)Z" } : Jvm.MethodName) prog_31_method_2_code (2 : Nat) (Option.some Jvm.ClassFile.FieldType.boolean)) ∈ lw_all := lw_g (lw_at lw_m2 188 rfl) rfl
theorem q471 : (Jvm.Cond.methodLink "CheckoutDesk$Store$1" (20 : Nat) ({ cls := "CheckoutDesk$Version", name := "isOf", desc := "(II)Z" } : Jvm.MethodName)) ∈ lw_all := lw_g (lw_at lw_m2 189 rfl) rfl
theorem q957 : (Jvm.Cond.instantiable "CheckoutDesk$Store$1" (3 : Nat)) ∈ lw_all := lw_g (lw_at lw_m4 195 rfl) rfl
theorem q959 : (Jvm.Cond.instanceMethod ({ cls := "CheckoutDesk$Store$1", name := "<init>", desc := "(LCheckoutDesk$Store;II)V" } : Jvm.MethodName)) ∈ lw_all := lw_g (lw_at lw_m4 197 rfl) rfl
theorem q960 : (Jvm.Cond.code ({ cls := "CheckoutDesk$Store$1", name := "<init>", desc := "(LCheckoutDesk$Store;II)V" } : Jvm.MethodName) prog_31_method_1_code (4 : Nat) (Option.none : Option Jvm.ClassFile.FieldType)) ∈ lw_all := lw_g (lw_at lw_m4 198 rfl) rfl
theorem q961 : (Jvm.Cond.methodLink "CheckoutDesk$Store$1" (14 : Nat) ({ cls := "java/lang/Object", name := "<init>", desc := "()V" } : Jvm.MethodName)) ∈ lw_all := lw_g (lw_at lw_m4 199 rfl) rfl
theorem q962 : (Jvm.Cond.fieldLink "CheckoutDesk$Store$1" (7 : Nat) "CheckoutDesk$Store$1" "val$document" "I") ∈ lw_all := lw_g (lw_at lw_m4 200 rfl) rfl
theorem q963 : (Jvm.Cond.fieldLink "CheckoutDesk$Store$1" (11 : Nat) "CheckoutDesk$Store$1" "val$branch" "I") ∈ lw_all := lw_g (lw_at lw_m4 201 rfl) rfl
theorem q964 : (Jvm.Cond.fieldLink "CheckoutDesk$Store$1" (1 : Nat) "CheckoutDesk$Store$1" "this$0" "LCheckoutDesk$Store;") ∈ lw_all := lw_g (lw_at lw_m4 202 rfl) rfl
theorem q965 : (Jvm.Cond.laysFinal "CheckoutDesk$Store$1" "CheckoutDesk$Store$1" "val$document" "I") ∈ lw_all := lw_g (lw_at lw_m4 203 rfl) rfl
theorem q966 : (Jvm.Cond.soleField "CheckoutDesk$Store$1" "val$document") ∈ lw_all := lw_g (lw_at lw_m4 204 rfl) rfl
theorem q967 : (Jvm.Cond.laysFinal "CheckoutDesk$Store$1" "CheckoutDesk$Store$1" "val$branch" "I") ∈ lw_all := lw_g (lw_at lw_m4 205 rfl) rfl
theorem q968 : (Jvm.Cond.soleField "CheckoutDesk$Store$1" "val$branch") ∈ lw_all := lw_g (lw_at lw_m4 206 rfl) rfl
theorem q969 : (Jvm.Cond.laysFinal "CheckoutDesk$Store$1" "CheckoutDesk$Store$1" "this$0" "LCheckoutDesk$Store;") ∈ lw_all := lw_g (lw_at lw_m4 207 rfl) rfl
theorem q970 : (Jvm.Cond.soleField "CheckoutDesk$Store$1" "this$0") ∈ lw_all := lw_g (lw_at lw_m4 208 rfl) rfl
theorem q971 : (Jvm.Cond.superclass "CheckoutDesk$Store$1" "java/lang/Object") ∈ lw_all := lw_g (lw_at lw_m4 209 rfl) rfl
theorem q1126 : (Jvm.Cond.selects "CheckoutDesk$Store$1" ({ cls := "java/lang/Object", name := "getClass", desc := "()Ljava/lang/Class;" } : Jvm.MethodName) ({ cls := "java/lang/Object", name := "getClass", desc := "()Ljava/lang/Class;" } : Jvm.MethodName)) ∈ lw_all := lw_g (lw_at lw_m5 124 rfl) rfl
theorem q2709 : (Jvm.Cond.castable "CheckoutDesk$Store$1" "java/lang/Object") ∈ lw_tbl := lw_at lw_m12 27 rfl
theorem in_X6 : ∀ w ∈ wsX60, w ∈ lw_all := lw_in wsX60 [965, 967, 969] (by decide +kernel) (by decide +kernel)
/-! CheckoutDesk$Store$2 -/
set_option maxRecDepth 100000
def RX7 : String := "CheckoutDesk$Store$2"
def TX7 : u_T := fun k => match k with
  | 0 => ("CheckoutDesk$Store$2", "val$link", "LCheckoutDesk$Link;", true)
  | 1 => ("CheckoutDesk$Store$2", "val$person", "I", true)
  | _ => ("CheckoutDesk$Store$2", "this$0", "LCheckoutDesk$Store;", true)
def tyX7 : Nat → FieldType := fun k => match k with
  | 0 => .object "CheckoutDesk$Link"
  | 1 => .int
  | _ => .object "CheckoutDesk$Store"
abbrev wsX70 : List Cond := u_ws RX7 TX7 3
theorem nmX7 : ∀ a, a < 3 → ∀ b, b < 3 → a ≠ b → (TX7 a).2.1 ≠ (TX7 b).2.1 := by decide +kernel
theorem tyX7_ok : ∀ k, k < 3 → parseFieldDescriptor (TX7 k).2.2.1 = some (tyX7 k) := by decide +kernel
abbrev cX7_init : ByteArray := prog_32_method_1_code
def yX7_init : MethodName := ⟨RX7, "<init>", "(LCheckoutDesk$Store;LCheckoutDesk$Link;I)V"⟩
def dkwX7_init_0 : List UInt8 := [42, 43, 181, 0, 3, 42, 44, 181, 0, 9, 42, 29, 181, 0, 13, 42, 183, 0, 17, 177]
abbrev dktX7_init_0 : List UInt8 := dkwX7_init_0 ++ []
theorem dksX7_init_0 : cX7_init.data.toList.drop 0 = dktX7_init_0 := by decide +kernel
theorem dX7_init_0 : decode cX7_init 0 = .ok (.aload_n 0, 1) := dk_42 (dk_at dksX7_init_0 0 rfl rfl)
theorem dX7_init_1 : decode cX7_init 1 = .ok (.aload_n 1, 1) := dk_43 (dk_at dksX7_init_0 1 rfl rfl)
theorem dX7_init_2 : decode cX7_init 2 = .ok (.putfield 3, 3) := dk_181 0 3 (dk_at dksX7_init_0 2 rfl rfl)
theorem dX7_init_5 : decode cX7_init 5 = .ok (.aload_n 0, 1) := dk_42 (dk_at dksX7_init_0 5 rfl rfl)
theorem dX7_init_6 : decode cX7_init 6 = .ok (.aload_n 2, 1) := dk_44 (dk_at dksX7_init_0 6 rfl rfl)
theorem dX7_init_7 : decode cX7_init 7 = .ok (.putfield 9, 3) := dk_181 0 9 (dk_at dksX7_init_0 7 rfl rfl)
theorem dX7_init_10 : decode cX7_init 10 = .ok (.aload_n 0, 1) := dk_42 (dk_at dksX7_init_0 10 rfl rfl)
theorem dX7_init_11 : decode cX7_init 11 = .ok (.iload_n 3, 1) := dk_29 (dk_at dksX7_init_0 11 rfl rfl)
theorem dX7_init_12 : decode cX7_init 12 = .ok (.putfield 13, 3) := dk_181 0 13 (dk_at dksX7_init_0 12 rfl rfl)
theorem dX7_init_15 : decode cX7_init 15 = .ok (.aload_n 0, 1) := dk_42 (dk_at dksX7_init_0 15 rfl rfl)
theorem dX7_init_16 : decode cX7_init 16 = .ok (.invokespecial 17, 3) := dk_183 0 17 (dk_at dksX7_init_0 16 rfl rfl)
theorem dX7_init_19 : decode cX7_init 19 = .ok (.return_, 1) := dk_177 (dk_at dksX7_init_0 19 rfl rfl)
abbrev cX7_fits : ByteArray := prog_32_method_3_code
def yX7_fits : MethodName := ⟨RX7, "fits", "(Ljava/lang/Object;)Z"⟩
def dkwX7_fits_0 : List UInt8 := [42, 43, 192, 0, 29, 182, 0, 47, 172]
abbrev dktX7_fits_0 : List UInt8 := dkwX7_fits_0 ++ []
theorem dksX7_fits_0 : cX7_fits.data.toList.drop 0 = dktX7_fits_0 := by decide +kernel
theorem dX7_fits_0 : decode cX7_fits 0 = .ok (.aload_n 0, 1) := dk_42 (dk_at dksX7_fits_0 0 rfl rfl)
theorem dX7_fits_1 : decode cX7_fits 1 = .ok (.aload_n 1, 1) := dk_43 (dk_at dksX7_fits_0 1 rfl rfl)
theorem dX7_fits_2 : decode cX7_fits 2 = .ok (.checkcast 29, 3) := dk_192 0 29 (dk_at dksX7_fits_0 2 rfl rfl)
theorem dX7_fits_5 : decode cX7_fits 5 = .ok (.invokevirtual 47, 3) := dk_182 0 47 (dk_at dksX7_fits_0 5 rfl rfl)
theorem dX7_fits_8 : decode cX7_fits 8 = .ok (.ireturn, 1) := dk_172 (dk_at dksX7_fits_0 8 rfl rfl)
abbrev cX7_fits_2 : ByteArray := prog_32_method_2_code
def yX7_fits_2 : MethodName := ⟨RX7, "fits", "(LCheckoutDesk$Version;)Z"⟩
def dkwX7_fits_2_2 : List UInt8 := [4, 167, 0, 4, 3, 172]
abbrev dktX7_fits_2_2 : List UInt8 := dkwX7_fits_2_2 ++ []
def dkwX7_fits_2_1 : List UInt8 := [182, 0, 34, 153, 0, 25, 42, 180, 0, 9, 180, 0, 40, 4, 159, 0, 10, 43, 182, 0, 43, 153, 0, 7]
abbrev dktX7_fits_2_1 : List UInt8 := dkwX7_fits_2_1 ++ dktX7_fits_2_2
def dkwX7_fits_2_0 : List UInt8 := [43, 42, 180, 0, 9, 180, 0, 23, 3, 182, 0, 28, 153, 0, 40, 42, 180, 0, 3, 42, 180, 0, 13, 43]
abbrev dktX7_fits_2_0 : List UInt8 := dkwX7_fits_2_0 ++ dktX7_fits_2_1
theorem dksX7_fits_2_0 : cX7_fits_2.data.toList.drop 0 = dktX7_fits_2_0 := by decide +kernel
theorem dksX7_fits_2_1 : cX7_fits_2.data.toList.drop 24 = dktX7_fits_2_1 := dk_seg dksX7_fits_2_0 24 rfl rfl
theorem dksX7_fits_2_2 : cX7_fits_2.data.toList.drop 48 = dktX7_fits_2_2 := dk_seg dksX7_fits_2_1 24 rfl rfl
theorem dX7_fits_2_0 : decode cX7_fits_2 0 = .ok (.aload_n 1, 1) := dk_43 (dk_at dksX7_fits_2_0 0 rfl rfl)
theorem dX7_fits_2_1 : decode cX7_fits_2 1 = .ok (.aload_n 0, 1) := dk_42 (dk_at dksX7_fits_2_0 1 rfl rfl)
theorem dX7_fits_2_2 : decode cX7_fits_2 2 = .ok (.getfield 9, 3) := dk_180 0 9 (dk_at dksX7_fits_2_0 2 rfl rfl)
theorem dX7_fits_2_5 : decode cX7_fits_2 5 = .ok (.getfield 23, 3) := dk_180 0 23 (dk_at dksX7_fits_2_0 5 rfl rfl)
theorem dX7_fits_2_8 : decode cX7_fits_2 8 = .ok (.iconst 0, 1) := dk_3 (dk_at dksX7_fits_2_0 8 rfl rfl)
theorem dX7_fits_2_9 : decode cX7_fits_2 9 = .ok (.invokevirtual 28, 3) := dk_182 0 28 (dk_at dksX7_fits_2_0 9 rfl rfl)
theorem dX7_fits_2_12 : decode cX7_fits_2 12 = .ok (.ifCond .eq 40, 3) := dk_153 0 40 (dk_at dksX7_fits_2_0 12 rfl rfl)
theorem dX7_fits_2_15 : decode cX7_fits_2 15 = .ok (.aload_n 0, 1) := dk_42 (dk_at dksX7_fits_2_0 15 rfl rfl)
theorem dX7_fits_2_16 : decode cX7_fits_2 16 = .ok (.getfield 3, 3) := dk_180 0 3 (dk_at dksX7_fits_2_0 16 rfl rfl)
theorem dX7_fits_2_19 : decode cX7_fits_2 19 = .ok (.aload_n 0, 1) := dk_42 (dk_at dksX7_fits_2_0 19 rfl rfl)
theorem dX7_fits_2_20 : decode cX7_fits_2 20 = .ok (.getfield 13, 3) := dk_180 0 13 (dk_at dksX7_fits_2_0 20 rfl rfl)
theorem dX7_fits_2_23 : decode cX7_fits_2 23 = .ok (.aload_n 1, 1) := dk_43 (dk_at dksX7_fits_2_0 23 rfl rfl)
theorem dX7_fits_2_24 : decode cX7_fits_2 24 = .ok (.invokevirtual 34, 3) := dk_182 0 34 (dk_at dksX7_fits_2_1 0 rfl rfl)
theorem dX7_fits_2_27 : decode cX7_fits_2 27 = .ok (.ifCond .eq 25, 3) := dk_153 0 25 (dk_at dksX7_fits_2_1 3 rfl rfl)
theorem dX7_fits_2_30 : decode cX7_fits_2 30 = .ok (.aload_n 0, 1) := dk_42 (dk_at dksX7_fits_2_1 6 rfl rfl)
theorem dX7_fits_2_31 : decode cX7_fits_2 31 = .ok (.getfield 9, 3) := dk_180 0 9 (dk_at dksX7_fits_2_1 7 rfl rfl)
theorem dX7_fits_2_34 : decode cX7_fits_2 34 = .ok (.getfield 40, 3) := dk_180 0 40 (dk_at dksX7_fits_2_1 10 rfl rfl)
theorem dX7_fits_2_37 : decode cX7_fits_2 37 = .ok (.iconst 1, 1) := dk_4 (dk_at dksX7_fits_2_1 13 rfl rfl)
theorem dX7_fits_2_38 : decode cX7_fits_2 38 = .ok (.if_icmp .eq 10, 3) := dk_159 0 10 (dk_at dksX7_fits_2_1 14 rfl rfl)
theorem dX7_fits_2_41 : decode cX7_fits_2 41 = .ok (.aload_n 1, 1) := dk_43 (dk_at dksX7_fits_2_1 17 rfl rfl)
theorem dX7_fits_2_42 : decode cX7_fits_2 42 = .ok (.invokevirtual 43, 3) := dk_182 0 43 (dk_at dksX7_fits_2_1 18 rfl rfl)
theorem dX7_fits_2_45 : decode cX7_fits_2 45 = .ok (.ifCond .eq 7, 3) := dk_153 0 7 (dk_at dksX7_fits_2_1 21 rfl rfl)
theorem dX7_fits_2_48 : decode cX7_fits_2 48 = .ok (.iconst 1, 1) := dk_4 (dk_at dksX7_fits_2_2 0 rfl rfl)
theorem dX7_fits_2_49 : decode cX7_fits_2 49 = .ok (.goto 4, 3) := dk_167 0 4 (dk_at dksX7_fits_2_2 1 rfl rfl)
theorem dX7_fits_2_52 : decode cX7_fits_2 52 = .ok (.iconst 0, 1) := dk_3 (dk_at dksX7_fits_2_2 4 rfl rfl)
theorem dX7_fits_2_53 : decode cX7_fits_2 53 = .ok (.ireturn, 1) := dk_172 (dk_at dksX7_fits_2_2 5 rfl rfl)
theorem q60 : (Jvm.Cond.initialized "CheckoutDesk$Store$2") ∈ lw_all := lw_g (lw_at lw_m1 18 rfl) rfl
theorem q391 : (Jvm.Cond.instantiable "CheckoutDesk$Store$2" (3 : Nat)) ∈ lw_all := lw_g (lw_at lw_m2 109 rfl) rfl
theorem q393 : (Jvm.Cond.instanceMethod ({ cls := "CheckoutDesk$Store$2", name := "<init>", desc := "(LCheckoutDesk$Store;LCheckoutDesk$Link;I)V" } : Jvm.MethodName)) ∈ lw_all := lw_g (lw_at lw_m2 111 rfl) rfl
theorem q394 : (Jvm.Cond.code ({ cls := "CheckoutDesk$Store$2", name := "<init>", desc := "(LCheckoutDesk$Store;LCheckoutDesk$Link;I)V" } : Jvm.MethodName) prog_32_method_1_code (4 : Nat) (Option.none : Option Jvm.ClassFile.FieldType)) ∈ lw_all := lw_g (lw_at lw_m2 112 rfl) rfl
theorem q395 : (Jvm.Cond.methodLink "CheckoutDesk$Store$2" (17 : Nat) ({ cls := "java/lang/Object", name := "<init>", desc := "()V" } : Jvm.MethodName)) ∈ lw_all := lw_g (lw_at lw_m2 113 rfl) rfl
theorem q396 : (Jvm.Cond.fieldLink "CheckoutDesk$Store$2" (9 : Nat) "CheckoutDesk$Store$2" "val$link" "LCheckoutDesk$Link;") ∈ lw_all := lw_g (lw_at lw_m2 114 rfl) rfl
theorem q397 : (Jvm.Cond.fieldLink "CheckoutDesk$Store$2" (13 : Nat) "CheckoutDesk$Store$2" "val$person" "I") ∈ lw_all := lw_g (lw_at lw_m2 115 rfl) rfl
theorem q398 : (Jvm.Cond.fieldLink "CheckoutDesk$Store$2" (3 : Nat) "CheckoutDesk$Store$2" "this$0" "LCheckoutDesk$Store;") ∈ lw_all := lw_g (lw_at lw_m2 116 rfl) rfl
theorem q399 : (Jvm.Cond.laysFinal "CheckoutDesk$Store$2" "CheckoutDesk$Store$2" "val$link" "LCheckoutDesk$Link;") ∈ lw_all := lw_g (lw_at lw_m2 117 rfl) rfl
theorem q400 : (Jvm.Cond.soleField "CheckoutDesk$Store$2" "val$link") ∈ lw_all := lw_g (lw_at lw_m2 118 rfl) rfl
theorem q401 : (Jvm.Cond.laysFinal "CheckoutDesk$Store$2" "CheckoutDesk$Store$2" "val$person" "I") ∈ lw_all := lw_g (lw_at lw_m2 119 rfl) rfl
theorem q402 : (Jvm.Cond.soleField "CheckoutDesk$Store$2" "val$person") ∈ lw_all := lw_g (lw_at lw_m2 120 rfl) rfl
theorem q403 : (Jvm.Cond.laysFinal "CheckoutDesk$Store$2" "CheckoutDesk$Store$2" "this$0" "LCheckoutDesk$Store;") ∈ lw_all := lw_g (lw_at lw_m2 121 rfl) rfl
theorem q404 : (Jvm.Cond.soleField "CheckoutDesk$Store$2" "this$0") ∈ lw_all := lw_g (lw_at lw_m2 122 rfl) rfl
theorem q405 : (Jvm.Cond.superclass "CheckoutDesk$Store$2" "java/lang/Object") ∈ lw_all := lw_g (lw_at lw_m2 123 rfl) rfl
theorem q475 : (Jvm.Cond.castable "CheckoutDesk$Store$2" "CheckoutDesk$Test") ∈ lw_tbl := lw_at lw_m2 193 rfl
theorem q476 : (Jvm.Cond.selects "CheckoutDesk$Store$2" ({ cls := "CheckoutDesk$Test", name := "fits", desc := "(Ljava/lang/Object;)Z" } : Jvm.MethodName) ({ cls := "CheckoutDesk$Store$2", name := "fits", desc := "(Ljava/lang/Object;)Z" } : Jvm.MethodName)) ∈ lw_all := lw_g (lw_at lw_m2 194 rfl) rfl
theorem q477 : (Jvm.Cond.unhidden "CheckoutDesk$Store$2" "fits" "(Ljava/lang/Object;)Z") ∈ lw_tbl := lw_at lw_m2 195 rfl
theorem q478 : (Jvm.Cond.instanceMethod ({ cls := "CheckoutDesk$Store$2", name := "fits", desc := "(Ljava/lang/Object;)Z" } : Jvm.MethodName)) ∈ lw_all := lw_g (lw_at lw_m2 196 rfl) rfl
theorem q479 : (Jvm.Cond.publicMethod ({ cls := "CheckoutDesk$Store$2", name := "fits", desc := "(Ljava/lang/Object;)Z" } : Jvm.MethodName)) ∈ lw_tbl := lw_at lw_m2 197 rfl
theorem q480 : (Jvm.Cond.code ({ cls := "CheckoutDesk$Store$2", name := "fits", desc := "(Ljava/lang/Object;)Z" } : Jvm.MethodName) prog_32_method_3_code (2 : Nat) (Option.some Jvm.ClassFile.FieldType.boolean)) ∈ lw_all := lw_g (lw_at lw_m2 198 rfl) rfl
theorem q481 : (Jvm.Cond.classLink "CheckoutDesk$Store$2" (29 : Nat) "CheckoutDesk$Version") ∈ lw_all := lw_g (lw_at lw_m2 199 rfl) rfl
theorem q482 : (Jvm.Cond.methodLink "CheckoutDesk$Store$2" (47 : Nat) ({ cls := "CheckoutDesk$Store$2", name := "fits", desc := "(LCheckoutDesk$Version;)Z" } : Jvm.MethodName)) ∈ lw_all := lw_g (lw_at lw_m2 200 rfl) rfl
theorem q483 : (Jvm.Cond.instanceMethod ({ cls := "CheckoutDesk$Store$2", name := "fits", desc := "(LCheckoutDesk$Version;)Z" } : Jvm.MethodName)) ∈ lw_all := lw_g (lw_at lw_m2 201 rfl) rfl
theorem q484 : (Jvm.Cond.selects "CheckoutDesk$Store$2" ({ cls := "CheckoutDesk$Store$2", name := "fits", desc := "(LCheckoutDesk$Version;)Z" } : Jvm.MethodName) ({ cls := "CheckoutDesk$Store$2", name := "fits", desc := "(LCheckoutDesk$Version;)Z" } : Jvm.MethodName)) ∈ lw_all := lw_g (lw_at lw_m2 202 rfl) rfl
theorem q485 : (Jvm.Cond.code ({ cls := "CheckoutDesk$Store$2", name := "fits", desc := "(LCheckoutDesk$Version;)Z" } : Jvm.MethodName) prog_32_method_2_code (2 : Nat) (Option.some Jvm.ClassFile.FieldType.boolean)) ∈ lw_all := lw_g (lw_at lw_m2 203 rfl) rfl
theorem q486 : (Jvm.Cond.methodLink "CheckoutDesk$Store$2" (28 : Nat) ({ cls := "CheckoutDesk$Version", name := "isOf", desc := "(II)Z" } : Jvm.MethodName)) ∈ lw_all := lw_g (lw_at lw_m2 204 rfl) rfl
theorem q487 : (Jvm.Cond.methodLink "CheckoutDesk$Store$2" (34 : Nat) ({ cls := "CheckoutDesk$Store", name := "maySee", desc := "(ILCheckoutDesk$Version;)Z" } : Jvm.MethodName)) ∈ lw_all := lw_g (lw_at lw_m2 205 rfl) rfl
theorem q488 : (Jvm.Cond.methodLink "CheckoutDesk$Store$2" (43 : Nat) ({ cls := "CheckoutDesk$Version", name := "isReleased", desc := "()Z" } : Jvm.MethodName)) ∈ lw_all := lw_g (lw_at lw_m2 206 rfl) rfl
theorem q1127 : (Jvm.Cond.selects "CheckoutDesk$Store$2" ({ cls := "java/lang/Object", name := "getClass", desc := "()Ljava/lang/Class;" } : Jvm.MethodName) ({ cls := "java/lang/Object", name := "getClass", desc := "()Ljava/lang/Class;" } : Jvm.MethodName)) ∈ lw_all := lw_g (lw_at lw_m5 125 rfl) rfl
theorem q1265 : (Jvm.Cond.fieldLinkNest "CheckoutDesk$Store$2" (23 : Nat) "CheckoutDesk$Link" "target" "I" "CheckoutDesk") ∈ lw_tbl := lw_at lw_m6 23 rfl
theorem q1267 : (Jvm.Cond.fieldLinkNest "CheckoutDesk$Store$2" (40 : Nat) "CheckoutDesk$Link" "kind" "I" "CheckoutDesk") ∈ lw_tbl := lw_at lw_m6 25 rfl
theorem q2720 : (Jvm.Cond.castable "CheckoutDesk$Store$2" "java/lang/Object") ∈ lw_tbl := lw_at lw_m12 38 rfl
theorem in_X7 : ∀ w ∈ wsX70, w ∈ lw_all := lw_in wsX70 [399, 401, 403] (by decide +kernel) (by decide +kernel)
/-! CheckoutDesk$Store$3 -/
set_option maxRecDepth 100000
def RX8 : String := "CheckoutDesk$Store$3"
def TX8 : u_T := fun k => match k with
  | 0 => ("CheckoutDesk$Store$3", "val$version", "LCheckoutDesk$Version;", true)
  | _ => ("CheckoutDesk$Store$3", "this$0", "LCheckoutDesk$Store;", true)
def tyX8 : Nat → FieldType := fun k => match k with
  | 0 => .object "CheckoutDesk$Version"
  | _ => .object "CheckoutDesk$Store"
abbrev wsX80 : List Cond := u_ws RX8 TX8 2
theorem nmX8 : ∀ a, a < 2 → ∀ b, b < 2 → a ≠ b → (TX8 a).2.1 ≠ (TX8 b).2.1 := by decide +kernel
theorem tyX8_ok : ∀ k, k < 2 → parseFieldDescriptor (TX8 k).2.2.1 = some (tyX8 k) := by decide +kernel
abbrev cX8_fits : ByteArray := prog_33_method_3_code
def yX8_fits : MethodName := ⟨RX8, "fits", "(Ljava/lang/Object;)Z"⟩
def dkwX8_fits_0 : List UInt8 := [42, 43, 192, 0, 18, 182, 0, 29, 172]
abbrev dktX8_fits_0 : List UInt8 := dkwX8_fits_0 ++ []
theorem dksX8_fits_0 : cX8_fits.data.toList.drop 0 = dktX8_fits_0 := by decide +kernel
theorem dX8_fits_0 : decode cX8_fits 0 = .ok (.aload_n 0, 1) := dk_42 (dk_at dksX8_fits_0 0 rfl rfl)
theorem dX8_fits_1 : decode cX8_fits 1 = .ok (.aload_n 1, 1) := dk_43 (dk_at dksX8_fits_0 1 rfl rfl)
theorem dX8_fits_2 : decode cX8_fits 2 = .ok (.checkcast 18, 3) := dk_192 0 18 (dk_at dksX8_fits_0 2 rfl rfl)
theorem dX8_fits_5 : decode cX8_fits 5 = .ok (.invokevirtual 29, 3) := dk_182 0 29 (dk_at dksX8_fits_0 5 rfl rfl)
theorem dX8_fits_8 : decode cX8_fits 8 = .ok (.ireturn, 1) := dk_172 (dk_at dksX8_fits_0 8 rfl rfl)
abbrev cX8_fits_2 : ByteArray := prog_33_method_2_code
def yX8_fits_2 : MethodName := ⟨RX8, "fits", "(LCheckoutDesk$Branch;)Z"⟩
def dkwX8_fits_2_1 : List UInt8 := [180, 0, 26, 42, 180, 0, 7, 166, 0, 7, 4, 167, 0, 4, 3, 172]
abbrev dktX8_fits_2_1 : List UInt8 := dkwX8_fits_2_1 ++ []
def dkwX8_fits_2_0 : List UInt8 := [43, 180, 0, 17, 42, 180, 0, 7, 165, 0, 24, 43, 180, 0, 22, 198, 0, 21, 43, 180, 0, 22]
abbrev dktX8_fits_2_0 : List UInt8 := dkwX8_fits_2_0 ++ dktX8_fits_2_1
theorem dksX8_fits_2_0 : cX8_fits_2.data.toList.drop 0 = dktX8_fits_2_0 := by decide +kernel
theorem dksX8_fits_2_1 : cX8_fits_2.data.toList.drop 22 = dktX8_fits_2_1 := dk_seg dksX8_fits_2_0 22 rfl rfl
theorem dX8_fits_2_0 : decode cX8_fits_2 0 = .ok (.aload_n 1, 1) := dk_43 (dk_at dksX8_fits_2_0 0 rfl rfl)
theorem dX8_fits_2_1 : decode cX8_fits_2 1 = .ok (.getfield 17, 3) := dk_180 0 17 (dk_at dksX8_fits_2_0 1 rfl rfl)
theorem dX8_fits_2_4 : decode cX8_fits_2 4 = .ok (.aload_n 0, 1) := dk_42 (dk_at dksX8_fits_2_0 4 rfl rfl)
theorem dX8_fits_2_5 : decode cX8_fits_2 5 = .ok (.getfield 7, 3) := dk_180 0 7 (dk_at dksX8_fits_2_0 5 rfl rfl)
theorem dX8_fits_2_8 : decode cX8_fits_2 8 = .ok (.if_acmp .eq 24, 3) := dk_165 0 24 (dk_at dksX8_fits_2_0 8 rfl rfl)
theorem dX8_fits_2_11 : decode cX8_fits_2 11 = .ok (.aload_n 1, 1) := dk_43 (dk_at dksX8_fits_2_0 11 rfl rfl)
theorem dX8_fits_2_12 : decode cX8_fits_2 12 = .ok (.getfield 22, 3) := dk_180 0 22 (dk_at dksX8_fits_2_0 12 rfl rfl)
theorem dX8_fits_2_15 : decode cX8_fits_2 15 = .ok (.ifnull 21, 3) := dk_198 0 21 (dk_at dksX8_fits_2_0 15 rfl rfl)
theorem dX8_fits_2_18 : decode cX8_fits_2 18 = .ok (.aload_n 1, 1) := dk_43 (dk_at dksX8_fits_2_0 18 rfl rfl)
theorem dX8_fits_2_19 : decode cX8_fits_2 19 = .ok (.getfield 22, 3) := dk_180 0 22 (dk_at dksX8_fits_2_0 19 rfl rfl)
theorem dX8_fits_2_22 : decode cX8_fits_2 22 = .ok (.getfield 26, 3) := dk_180 0 26 (dk_at dksX8_fits_2_1 0 rfl rfl)
theorem dX8_fits_2_25 : decode cX8_fits_2 25 = .ok (.aload_n 0, 1) := dk_42 (dk_at dksX8_fits_2_1 3 rfl rfl)
theorem dX8_fits_2_26 : decode cX8_fits_2 26 = .ok (.getfield 7, 3) := dk_180 0 7 (dk_at dksX8_fits_2_1 4 rfl rfl)
theorem dX8_fits_2_29 : decode cX8_fits_2 29 = .ok (.if_acmp .ne 7, 3) := dk_166 0 7 (dk_at dksX8_fits_2_1 7 rfl rfl)
theorem dX8_fits_2_32 : decode cX8_fits_2 32 = .ok (.iconst 1, 1) := dk_4 (dk_at dksX8_fits_2_1 10 rfl rfl)
theorem dX8_fits_2_33 : decode cX8_fits_2 33 = .ok (.goto 4, 3) := dk_167 0 4 (dk_at dksX8_fits_2_1 11 rfl rfl)
theorem dX8_fits_2_36 : decode cX8_fits_2 36 = .ok (.iconst 0, 1) := dk_3 (dk_at dksX8_fits_2_1 14 rfl rfl)
theorem dX8_fits_2_37 : decode cX8_fits_2 37 = .ok (.ireturn, 1) := dk_172 (dk_at dksX8_fits_2_1 15 rfl rfl)
abbrev cX8_init : ByteArray := prog_33_method_1_code
def yX8_init : MethodName := ⟨RX8, "<init>", "(LCheckoutDesk$Store;LCheckoutDesk$Version;)V"⟩
def dkwX8_init_0 : List UInt8 := [42, 43, 181, 0, 1, 42, 44, 181, 0, 7, 42, 183, 0, 11, 177]
abbrev dktX8_init_0 : List UInt8 := dkwX8_init_0 ++ []
theorem dksX8_init_0 : cX8_init.data.toList.drop 0 = dktX8_init_0 := by decide +kernel
theorem dX8_init_0 : decode cX8_init 0 = .ok (.aload_n 0, 1) := dk_42 (dk_at dksX8_init_0 0 rfl rfl)
theorem dX8_init_1 : decode cX8_init 1 = .ok (.aload_n 1, 1) := dk_43 (dk_at dksX8_init_0 1 rfl rfl)
theorem dX8_init_2 : decode cX8_init 2 = .ok (.putfield 1, 3) := dk_181 0 1 (dk_at dksX8_init_0 2 rfl rfl)
theorem dX8_init_5 : decode cX8_init 5 = .ok (.aload_n 0, 1) := dk_42 (dk_at dksX8_init_0 5 rfl rfl)
theorem dX8_init_6 : decode cX8_init 6 = .ok (.aload_n 2, 1) := dk_44 (dk_at dksX8_init_0 6 rfl rfl)
theorem dX8_init_7 : decode cX8_init 7 = .ok (.putfield 7, 3) := dk_181 0 7 (dk_at dksX8_init_0 7 rfl rfl)
theorem dX8_init_10 : decode cX8_init 10 = .ok (.aload_n 0, 1) := dk_42 (dk_at dksX8_init_0 10 rfl rfl)
theorem dX8_init_11 : decode cX8_init 11 = .ok (.invokespecial 11, 3) := dk_183 0 11 (dk_at dksX8_init_0 11 rfl rfl)
theorem dX8_init_14 : decode cX8_init 14 = .ok (.return_, 1) := dk_177 (dk_at dksX8_init_0 14 rfl rfl)
theorem q71 : (Jvm.Cond.initialized "CheckoutDesk$Store$3") ∈ lw_all := lw_g (lw_at lw_m1 29 rfl) rfl
theorem q489 : (Jvm.Cond.castable "CheckoutDesk$Store$3" "CheckoutDesk$Test") ∈ lw_tbl := lw_at lw_m2 207 rfl
theorem q490 : (Jvm.Cond.selects "CheckoutDesk$Store$3" ({ cls := "CheckoutDesk$Test", name := "fits", desc := "(Ljava/lang/Object;)Z" } : Jvm.MethodName) ({ cls := "CheckoutDesk$Store$3", name := "fits", desc := "(Ljava/lang/Object;)Z" } : Jvm.MethodName)) ∈ lw_all := lw_g (lw_at lw_m2 208 rfl) rfl
theorem q491 : (Jvm.Cond.unhidden "CheckoutDesk$Store$3" "fits" "(Ljava/lang/Object;)Z") ∈ lw_tbl := lw_at lw_m2 209 rfl
theorem q492 : (Jvm.Cond.instanceMethod ({ cls := "CheckoutDesk$Store$3", name := "fits", desc := "(Ljava/lang/Object;)Z" } : Jvm.MethodName)) ∈ lw_all := lw_g (lw_at lw_m2 210 rfl) rfl
theorem q493 : (Jvm.Cond.publicMethod ({ cls := "CheckoutDesk$Store$3", name := "fits", desc := "(Ljava/lang/Object;)Z" } : Jvm.MethodName)) ∈ lw_tbl := lw_at lw_m2 211 rfl
theorem q494 : (Jvm.Cond.code ({ cls := "CheckoutDesk$Store$3", name := "fits", desc := "(Ljava/lang/Object;)Z" } : Jvm.MethodName) prog_33_method_3_code (2 : Nat) (Option.some Jvm.ClassFile.FieldType.boolean)) ∈ lw_all := lw_g (lw_at lw_m2 212 rfl) rfl
theorem q495 : (Jvm.Cond.classLink "CheckoutDesk$Store$3" (18 : Nat) "CheckoutDesk$Branch") ∈ lw_all := lw_g (lw_at lw_m2 213 rfl) rfl
theorem q496 : (Jvm.Cond.methodLink "CheckoutDesk$Store$3" (29 : Nat) ({ cls := "CheckoutDesk$Store$3", name := "fits", desc := "(LCheckoutDesk$Branch;)Z" } : Jvm.MethodName)) ∈ lw_all := lw_g (lw_at lw_m2 214 rfl) rfl
theorem q497 : (Jvm.Cond.instanceMethod ({ cls := "CheckoutDesk$Store$3", name := "fits", desc := "(LCheckoutDesk$Branch;)Z" } : Jvm.MethodName)) ∈ lw_all := lw_g (lw_at lw_m2 215 rfl) rfl
theorem q498 : (Jvm.Cond.selects "CheckoutDesk$Store$3" ({ cls := "CheckoutDesk$Store$3", name := "fits", desc := "(LCheckoutDesk$Branch;)Z" } : Jvm.MethodName) ({ cls := "CheckoutDesk$Store$3", name := "fits", desc := "(LCheckoutDesk$Branch;)Z" } : Jvm.MethodName)) ∈ lw_all := lw_g (lw_at lw_m2 216 rfl) rfl
theorem q499 : (Jvm.Cond.code ({ cls := "CheckoutDesk$Store$3", name := "fits", desc := "(LCheckoutDesk$Branch;)Z" } : Jvm.MethodName) prog_33_method_2_code (2 : Nat) (Option.some Jvm.ClassFile.FieldType.boolean)) ∈ lw_all := lw_g (lw_at lw_m2 217 rfl) rfl
theorem q993 : (Jvm.Cond.instantiable "CheckoutDesk$Store$3" (2 : Nat)) ∈ lw_all := lw_g (lw_at lw_m4 231 rfl) rfl
theorem q995 : (Jvm.Cond.instanceMethod ({ cls := "CheckoutDesk$Store$3", name := "<init>", desc := "(LCheckoutDesk$Store;LCheckoutDesk$Version;)V" } : Jvm.MethodName)) ∈ lw_all := lw_g (lw_at lw_m4 233 rfl) rfl
theorem q996 : (Jvm.Cond.code ({ cls := "CheckoutDesk$Store$3", name := "<init>", desc := "(LCheckoutDesk$Store;LCheckoutDesk$Version;)V" } : Jvm.MethodName) prog_33_method_1_code (3 : Nat) (Option.none : Option Jvm.ClassFile.FieldType)) ∈ lw_all := lw_g (lw_at lw_m4 234 rfl) rfl
theorem q997 : (Jvm.Cond.methodLink "CheckoutDesk$Store$3" (11 : Nat) ({ cls := "java/lang/Object", name := "<init>", desc := "()V" } : Jvm.MethodName)) ∈ lw_all := lw_g (lw_at lw_m4 235 rfl) rfl
theorem q998 : (Jvm.Cond.fieldLink "CheckoutDesk$Store$3" (7 : Nat) "CheckoutDesk$Store$3" "val$version" "LCheckoutDesk$Version;") ∈ lw_all := lw_g (lw_at lw_m4 236 rfl) rfl
theorem q999 : (Jvm.Cond.fieldLink "CheckoutDesk$Store$3" (1 : Nat) "CheckoutDesk$Store$3" "this$0" "LCheckoutDesk$Store;") ∈ lw_all := lw_g (lw_at lw_m4 237 rfl) rfl
theorem q1000 : (Jvm.Cond.laysFinal "CheckoutDesk$Store$3" "CheckoutDesk$Store$3" "val$version" "LCheckoutDesk$Version;") ∈ lw_all := lw_g (lw_at lw_m4 238 rfl) rfl
theorem q1001 : (Jvm.Cond.soleField "CheckoutDesk$Store$3" "val$version") ∈ lw_all := lw_g (lw_at lw_m4 239 rfl) rfl
theorem q1002 : (Jvm.Cond.laysFinal "CheckoutDesk$Store$3" "CheckoutDesk$Store$3" "this$0" "LCheckoutDesk$Store;") ∈ lw_all := lw_g (lw_at lw_m5 0 rfl) rfl
theorem q1003 : (Jvm.Cond.soleField "CheckoutDesk$Store$3" "this$0") ∈ lw_all := lw_g (lw_at lw_m5 1 rfl) rfl
theorem q1004 : (Jvm.Cond.superclass "CheckoutDesk$Store$3" "java/lang/Object") ∈ lw_all := lw_g (lw_at lw_m5 2 rfl) rfl
theorem q1045 : (Jvm.Cond.fieldLinkNest "CheckoutDesk$Store$3" (17 : Nat) "CheckoutDesk$Branch" "origin" "LCheckoutDesk$Version;" "CheckoutDesk") ∈ lw_tbl := lw_at lw_m5 43 rfl
theorem q1049 : (Jvm.Cond.fieldLinkNest "CheckoutDesk$Store$3" (22 : Nat) "CheckoutDesk$Branch" "copy" "LCheckoutDesk$Copy;" "CheckoutDesk") ∈ lw_tbl := lw_at lw_m5 47 rfl
theorem q1128 : (Jvm.Cond.selects "CheckoutDesk$Store$3" ({ cls := "java/lang/Object", name := "getClass", desc := "()Ljava/lang/Class;" } : Jvm.MethodName) ({ cls := "java/lang/Object", name := "getClass", desc := "()Ljava/lang/Class;" } : Jvm.MethodName)) ∈ lw_all := lw_g (lw_at lw_m5 126 rfl) rfl
theorem q1408 : (Jvm.Cond.fieldLinkNest "CheckoutDesk$Store$3" (26 : Nat) "CheckoutDesk$Copy" "origin" "LCheckoutDesk$Version;" "CheckoutDesk") ∈ lw_tbl := lw_at lw_m6 166 rfl
theorem q2731 : (Jvm.Cond.castable "CheckoutDesk$Store$3" "java/lang/Object") ∈ lw_tbl := lw_at lw_m12 49 rfl
theorem in_X8 : ∀ w ∈ wsX80, w ∈ lw_all := lw_in wsX80 [1000, 1002] (by decide +kernel) (by decide +kernel)
/-! CheckoutDesk$Store$4 -/
set_option maxRecDepth 100000
def RX9 : String := "CheckoutDesk$Store$4"
def TX9 : u_T := fun k => match k with
  | 0 => ("CheckoutDesk$Store$4", "val$version", "LCheckoutDesk$Version;", true)
  | _ => ("CheckoutDesk$Store$4", "this$0", "LCheckoutDesk$Store;", true)
def tyX9 : Nat → FieldType := fun k => match k with
  | 0 => .object "CheckoutDesk$Version"
  | _ => .object "CheckoutDesk$Store"
abbrev wsX90 : List Cond := u_ws RX9 TX9 2
theorem nmX9 : ∀ a, a < 2 → ∀ b, b < 2 → a ≠ b → (TX9 a).2.1 ≠ (TX9 b).2.1 := by decide +kernel
theorem tyX9_ok : ∀ k, k < 2 → parseFieldDescriptor (TX9 k).2.2.1 = some (tyX9 k) := by decide +kernel
abbrev cX9_fits : ByteArray := prog_34_method_3_code
def yX9_fits : MethodName := ⟨RX9, "fits", "(Ljava/lang/Object;)Z"⟩
def dkwX9_fits_0 : List UInt8 := [42, 43, 192, 0, 18, 182, 0, 22, 172]
abbrev dktX9_fits_0 : List UInt8 := dkwX9_fits_0 ++ []
theorem dksX9_fits_0 : cX9_fits.data.toList.drop 0 = dktX9_fits_0 := by decide +kernel
theorem dX9_fits_0 : decode cX9_fits 0 = .ok (.aload_n 0, 1) := dk_42 (dk_at dksX9_fits_0 0 rfl rfl)
theorem dX9_fits_1 : decode cX9_fits 1 = .ok (.aload_n 1, 1) := dk_43 (dk_at dksX9_fits_0 1 rfl rfl)
theorem dX9_fits_2 : decode cX9_fits 2 = .ok (.checkcast 18, 3) := dk_192 0 18 (dk_at dksX9_fits_0 2 rfl rfl)
theorem dX9_fits_5 : decode cX9_fits 5 = .ok (.invokevirtual 22, 3) := dk_182 0 22 (dk_at dksX9_fits_0 5 rfl rfl)
theorem dX9_fits_8 : decode cX9_fits 8 = .ok (.ireturn, 1) := dk_172 (dk_at dksX9_fits_0 8 rfl rfl)
abbrev cX9_fits_2 : ByteArray := prog_34_method_2_code
def yX9_fits_2 : MethodName := ⟨RX9, "fits", "(LCheckoutDesk$Link;)Z"⟩
def dkwX9_fits_2_0 : List UInt8 := [43, 180, 0, 17, 42, 180, 0, 7, 166, 0, 7, 4, 167, 0, 4, 3, 172]
abbrev dktX9_fits_2_0 : List UInt8 := dkwX9_fits_2_0 ++ []
theorem dksX9_fits_2_0 : cX9_fits_2.data.toList.drop 0 = dktX9_fits_2_0 := by decide +kernel
theorem dX9_fits_2_0 : decode cX9_fits_2 0 = .ok (.aload_n 1, 1) := dk_43 (dk_at dksX9_fits_2_0 0 rfl rfl)
theorem dX9_fits_2_1 : decode cX9_fits_2 1 = .ok (.getfield 17, 3) := dk_180 0 17 (dk_at dksX9_fits_2_0 1 rfl rfl)
theorem dX9_fits_2_4 : decode cX9_fits_2 4 = .ok (.aload_n 0, 1) := dk_42 (dk_at dksX9_fits_2_0 4 rfl rfl)
theorem dX9_fits_2_5 : decode cX9_fits_2 5 = .ok (.getfield 7, 3) := dk_180 0 7 (dk_at dksX9_fits_2_0 5 rfl rfl)
theorem dX9_fits_2_8 : decode cX9_fits_2 8 = .ok (.if_acmp .ne 7, 3) := dk_166 0 7 (dk_at dksX9_fits_2_0 8 rfl rfl)
theorem dX9_fits_2_11 : decode cX9_fits_2 11 = .ok (.iconst 1, 1) := dk_4 (dk_at dksX9_fits_2_0 11 rfl rfl)
theorem dX9_fits_2_12 : decode cX9_fits_2 12 = .ok (.goto 4, 3) := dk_167 0 4 (dk_at dksX9_fits_2_0 12 rfl rfl)
theorem dX9_fits_2_15 : decode cX9_fits_2 15 = .ok (.iconst 0, 1) := dk_3 (dk_at dksX9_fits_2_0 15 rfl rfl)
theorem dX9_fits_2_16 : decode cX9_fits_2 16 = .ok (.ireturn, 1) := dk_172 (dk_at dksX9_fits_2_0 16 rfl rfl)
abbrev cX9_init : ByteArray := prog_34_method_1_code
def yX9_init : MethodName := ⟨RX9, "<init>", "(LCheckoutDesk$Store;LCheckoutDesk$Version;)V"⟩
def dkwX9_init_0 : List UInt8 := [42, 43, 181, 0, 1, 42, 44, 181, 0, 7, 42, 183, 0, 11, 177]
abbrev dktX9_init_0 : List UInt8 := dkwX9_init_0 ++ []
theorem dksX9_init_0 : cX9_init.data.toList.drop 0 = dktX9_init_0 := by decide +kernel
theorem dX9_init_0 : decode cX9_init 0 = .ok (.aload_n 0, 1) := dk_42 (dk_at dksX9_init_0 0 rfl rfl)
theorem dX9_init_1 : decode cX9_init 1 = .ok (.aload_n 1, 1) := dk_43 (dk_at dksX9_init_0 1 rfl rfl)
theorem dX9_init_2 : decode cX9_init 2 = .ok (.putfield 1, 3) := dk_181 0 1 (dk_at dksX9_init_0 2 rfl rfl)
theorem dX9_init_5 : decode cX9_init 5 = .ok (.aload_n 0, 1) := dk_42 (dk_at dksX9_init_0 5 rfl rfl)
theorem dX9_init_6 : decode cX9_init 6 = .ok (.aload_n 2, 1) := dk_44 (dk_at dksX9_init_0 6 rfl rfl)
theorem dX9_init_7 : decode cX9_init 7 = .ok (.putfield 7, 3) := dk_181 0 7 (dk_at dksX9_init_0 7 rfl rfl)
theorem dX9_init_10 : decode cX9_init 10 = .ok (.aload_n 0, 1) := dk_42 (dk_at dksX9_init_0 10 rfl rfl)
theorem dX9_init_11 : decode cX9_init 11 = .ok (.invokespecial 11, 3) := dk_183 0 11 (dk_at dksX9_init_0 11 rfl rfl)
theorem dX9_init_14 : decode cX9_init 14 = .ok (.return_, 1) := dk_177 (dk_at dksX9_init_0 14 rfl rfl)
theorem q72 : (Jvm.Cond.initialized "CheckoutDesk$Store$4") ∈ lw_all := lw_g (lw_at lw_m1 30 rfl) rfl
theorem q500 : (Jvm.Cond.castable "CheckoutDesk$Store$4" "CheckoutDesk$Test") ∈ lw_tbl := lw_at lw_m2 218 rfl
theorem q501 : (Jvm.Cond.selects "CheckoutDesk$Store$4" ({ cls := "CheckoutDesk$Test", name := "fits", desc := "(Ljava/lang/Object;)Z" } : Jvm.MethodName) ({ cls := "CheckoutDesk$Store$4", name := "fits", desc := "(Ljava/lang/Object;)Z" } : Jvm.MethodName)) ∈ lw_all := lw_g (lw_at lw_m2 219 rfl) rfl
theorem q502 : (Jvm.Cond.unhidden "CheckoutDesk$Store$4" "fits" "(Ljava/lang/Object;)Z") ∈ lw_tbl := lw_at lw_m2 220 rfl
theorem q503 : (Jvm.Cond.instanceMethod ({ cls := "CheckoutDesk$Store$4", name := "fits", desc := "(Ljava/lang/Object;)Z" } : Jvm.MethodName)) ∈ lw_all := lw_g (lw_at lw_m2 221 rfl) rfl
theorem q504 : (Jvm.Cond.publicMethod ({ cls := "CheckoutDesk$Store$4", name := "fits", desc := "(Ljava/lang/Object;)Z" } : Jvm.MethodName)) ∈ lw_tbl := lw_at lw_m2 222 rfl
theorem q505 : (Jvm.Cond.code ({ cls := "CheckoutDesk$Store$4", name := "fits", desc := "(Ljava/lang/Object;)Z" } : Jvm.MethodName) prog_34_method_3_code (2 : Nat) (Option.some Jvm.ClassFile.FieldType.boolean)) ∈ lw_all := lw_g (lw_at lw_m2 223 rfl) rfl
theorem q506 : (Jvm.Cond.classLink "CheckoutDesk$Store$4" (18 : Nat) "CheckoutDesk$Link") ∈ lw_all := lw_g (lw_at lw_m2 224 rfl) rfl
theorem q507 : (Jvm.Cond.methodLink "CheckoutDesk$Store$4" (22 : Nat) ({ cls := "CheckoutDesk$Store$4", name := "fits", desc := "(LCheckoutDesk$Link;)Z" } : Jvm.MethodName)) ∈ lw_all := lw_g (lw_at lw_m2 225 rfl) rfl
theorem q508 : (Jvm.Cond.instanceMethod ({ cls := "CheckoutDesk$Store$4", name := "fits", desc := "(LCheckoutDesk$Link;)Z" } : Jvm.MethodName)) ∈ lw_all := lw_g (lw_at lw_m2 226 rfl) rfl
theorem q509 : (Jvm.Cond.selects "CheckoutDesk$Store$4" ({ cls := "CheckoutDesk$Store$4", name := "fits", desc := "(LCheckoutDesk$Link;)Z" } : Jvm.MethodName) ({ cls := "CheckoutDesk$Store$4", name := "fits", desc := "(LCheckoutDesk$Link;)Z" } : Jvm.MethodName)) ∈ lw_all := lw_g (lw_at lw_m2 227 rfl) rfl
theorem q510 : (Jvm.Cond.code ({ cls := "CheckoutDesk$Store$4", name := "fits", desc := "(LCheckoutDesk$Link;)Z" } : Jvm.MethodName) prog_34_method_2_code (2 : Nat) (Option.some Jvm.ClassFile.FieldType.boolean)) ∈ lw_all := lw_g (lw_at lw_m2 228 rfl) rfl
theorem q1007 : (Jvm.Cond.instantiable "CheckoutDesk$Store$4" (2 : Nat)) ∈ lw_all := lw_g (lw_at lw_m5 5 rfl) rfl
theorem q1009 : (Jvm.Cond.instanceMethod ({ cls := "CheckoutDesk$Store$4", name := "<init>", desc := "(LCheckoutDesk$Store;LCheckoutDesk$Version;)V" } : Jvm.MethodName)) ∈ lw_all := lw_g (lw_at lw_m5 7 rfl) rfl
theorem q1010 : (Jvm.Cond.code ({ cls := "CheckoutDesk$Store$4", name := "<init>", desc := "(LCheckoutDesk$Store;LCheckoutDesk$Version;)V" } : Jvm.MethodName) prog_34_method_1_code (3 : Nat) (Option.none : Option Jvm.ClassFile.FieldType)) ∈ lw_all := lw_g (lw_at lw_m5 8 rfl) rfl
theorem q1011 : (Jvm.Cond.methodLink "CheckoutDesk$Store$4" (11 : Nat) ({ cls := "java/lang/Object", name := "<init>", desc := "()V" } : Jvm.MethodName)) ∈ lw_all := lw_g (lw_at lw_m5 9 rfl) rfl
theorem q1012 : (Jvm.Cond.fieldLink "CheckoutDesk$Store$4" (7 : Nat) "CheckoutDesk$Store$4" "val$version" "LCheckoutDesk$Version;") ∈ lw_all := lw_g (lw_at lw_m5 10 rfl) rfl
theorem q1013 : (Jvm.Cond.fieldLink "CheckoutDesk$Store$4" (1 : Nat) "CheckoutDesk$Store$4" "this$0" "LCheckoutDesk$Store;") ∈ lw_all := lw_g (lw_at lw_m5 11 rfl) rfl
theorem q1014 : (Jvm.Cond.laysFinal "CheckoutDesk$Store$4" "CheckoutDesk$Store$4" "val$version" "LCheckoutDesk$Version;") ∈ lw_all := lw_g (lw_at lw_m5 12 rfl) rfl
theorem q1015 : (Jvm.Cond.soleField "CheckoutDesk$Store$4" "val$version") ∈ lw_all := lw_g (lw_at lw_m5 13 rfl) rfl
theorem q1016 : (Jvm.Cond.laysFinal "CheckoutDesk$Store$4" "CheckoutDesk$Store$4" "this$0" "LCheckoutDesk$Store;") ∈ lw_all := lw_g (lw_at lw_m5 14 rfl) rfl
theorem q1017 : (Jvm.Cond.soleField "CheckoutDesk$Store$4" "this$0") ∈ lw_all := lw_g (lw_at lw_m5 15 rfl) rfl
theorem q1018 : (Jvm.Cond.superclass "CheckoutDesk$Store$4" "java/lang/Object") ∈ lw_all := lw_g (lw_at lw_m5 16 rfl) rfl
theorem q1129 : (Jvm.Cond.selects "CheckoutDesk$Store$4" ({ cls := "java/lang/Object", name := "getClass", desc := "()Ljava/lang/Class;" } : Jvm.MethodName) ({ cls := "java/lang/Object", name := "getClass", desc := "()Ljava/lang/Class;" } : Jvm.MethodName)) ∈ lw_all := lw_g (lw_at lw_m5 127 rfl) rfl
theorem q1270 : (Jvm.Cond.fieldLinkNest "CheckoutDesk$Store$4" (17 : Nat) "CheckoutDesk$Link" "version" "LCheckoutDesk$Version;" "CheckoutDesk") ∈ lw_tbl := lw_at lw_m6 28 rfl
theorem q2732 : (Jvm.Cond.castable "CheckoutDesk$Store$4" "java/lang/Object") ∈ lw_tbl := lw_at lw_m12 50 rfl
theorem in_X9 : ∀ w ∈ wsX90, w ∈ lw_all := lw_in wsX90 [1014, 1016] (by decide +kernel) (by decide +kernel)
/-! CheckoutDesk$Branch -/
set_option maxRecDepth 100000
def RX10 : String := "CheckoutDesk$Branch"
def TX10 : u_T := fun k => match k with
  | 0 => ("CheckoutDesk$Branch", "origin", "LCheckoutDesk$Version;", false)
  | _ => ("CheckoutDesk$Branch", "copy", "LCheckoutDesk$Copy;", false)
def tyX10 : Nat → FieldType := fun k => match k with
  | 0 => .object "CheckoutDesk$Version"
  | _ => .object "CheckoutDesk$Copy"
abbrev wsX100 : List Cond := u_ws RX10 TX10 2
theorem nmX10 : ∀ a, a < 2 → ∀ b, b < 2 → a ≠ b → (TX10 a).2.1 ≠ (TX10 b).2.1 := by decide +kernel
theorem tyX10_ok : ∀ k, k < 2 → parseFieldDescriptor (TX10 k).2.2.1 = some (tyX10 k) := by decide +kernel
abbrev cX10_init : ByteArray := prog_23_method_1_code
def yX10_init : MethodName := ⟨RX10, "<init>", "(LCheckoutDesk$Version;)V"⟩
def dkwX10_init_0 : List UInt8 := [42, 183, 0, 1, 42, 43, 181, 0, 7, 177]
abbrev dktX10_init_0 : List UInt8 := dkwX10_init_0 ++ []
theorem dksX10_init_0 : cX10_init.data.toList.drop 0 = dktX10_init_0 := by decide +kernel
theorem dX10_init_0 : decode cX10_init 0 = .ok (.aload_n 0, 1) := dk_42 (dk_at dksX10_init_0 0 rfl rfl)
theorem dX10_init_1 : decode cX10_init 1 = .ok (.invokespecial 1, 3) := dk_183 0 1 (dk_at dksX10_init_0 1 rfl rfl)
theorem dX10_init_4 : decode cX10_init 4 = .ok (.aload_n 0, 1) := dk_42 (dk_at dksX10_init_0 4 rfl rfl)
theorem dX10_init_5 : decode cX10_init 5 = .ok (.aload_n 1, 1) := dk_43 (dk_at dksX10_init_0 5 rfl rfl)
theorem dX10_init_6 : decode cX10_init 6 = .ok (.putfield 7, 3) := dk_181 0 7 (dk_at dksX10_init_0 6 rfl rfl)
theorem dX10_init_9 : decode cX10_init 9 = .ok (.return_, 1) := dk_177 (dk_at dksX10_init_0 9 rfl rfl)
theorem q73 : (Jvm.Cond.initialized "CheckoutDesk$Branch") ∈ lw_all := lw_g (lw_at lw_m1 31 rfl) rfl
theorem q1039 : (Jvm.Cond.instantiable "CheckoutDesk$Branch" (2 : Nat)) ∈ lw_all := lw_g (lw_at lw_m5 37 rfl) rfl
theorem q1041 : (Jvm.Cond.instanceMethod ({ cls := "CheckoutDesk$Branch", name := "<init>", desc := "(LCheckoutDesk$Version;)V" } : Jvm.MethodName)) ∈ lw_all := lw_g (lw_at lw_m5 39 rfl) rfl
theorem q1042 : (Jvm.Cond.code ({ cls := "CheckoutDesk$Branch", name := "<init>", desc := "(LCheckoutDesk$Version;)V" } : Jvm.MethodName) prog_23_method_1_code (2 : Nat) (Option.none : Option Jvm.ClassFile.FieldType)) ∈ lw_all := lw_g (lw_at lw_m5 40 rfl) rfl
theorem q1043 : (Jvm.Cond.methodLink "CheckoutDesk$Branch" (1 : Nat) ({ cls := "java/lang/Object", name := "<init>", desc := "()V" } : Jvm.MethodName)) ∈ lw_all := lw_g (lw_at lw_m5 41 rfl) rfl
theorem q1044 : (Jvm.Cond.fieldLink "CheckoutDesk$Branch" (7 : Nat) "CheckoutDesk$Branch" "origin" "LCheckoutDesk$Version;") ∈ lw_all := lw_g (lw_at lw_m5 42 rfl) rfl
theorem q1056 : (Jvm.Cond.lays "CheckoutDesk$Branch" "CheckoutDesk$Branch" "origin" "LCheckoutDesk$Version;") ∈ lw_all := lw_g (lw_at lw_m5 54 rfl) rfl
theorem q1057 : (Jvm.Cond.soleField "CheckoutDesk$Branch" "origin") ∈ lw_all := lw_g (lw_at lw_m5 55 rfl) rfl
theorem q1058 : (Jvm.Cond.lays "CheckoutDesk$Branch" "CheckoutDesk$Branch" "copy" "LCheckoutDesk$Copy;") ∈ lw_all := lw_g (lw_at lw_m5 56 rfl) rfl
theorem q1059 : (Jvm.Cond.soleField "CheckoutDesk$Branch" "copy") ∈ lw_all := lw_g (lw_at lw_m5 57 rfl) rfl
theorem q1060 : (Jvm.Cond.superclass "CheckoutDesk$Branch" "java/lang/Object") ∈ lw_all := lw_g (lw_at lw_m5 58 rfl) rfl
theorem q1118 : (Jvm.Cond.selects "CheckoutDesk$Branch" ({ cls := "java/lang/Object", name := "getClass", desc := "()Ljava/lang/Class;" } : Jvm.MethodName) ({ cls := "java/lang/Object", name := "getClass", desc := "()Ljava/lang/Class;" } : Jvm.MethodName)) ∈ lw_all := lw_g (lw_at lw_m5 116 rfl) rfl
theorem q2702 : (Jvm.Cond.castable "CheckoutDesk$Branch" "java/lang/Object") ∈ lw_tbl := lw_at lw_m12 20 rfl
theorem in_X10 : ∀ w ∈ wsX100, w ∈ lw_all := lw_in wsX100 [1056, 1058] (by decide +kernel) (by decide +kernel)
/-! CheckoutDesk$Content -/
set_option maxRecDepth 100000
def RX11 : String := "CheckoutDesk$Content"
def TX11 : u_T := fun k => match k with
  | _ => ("CheckoutDesk$Content", "values", "[I", true)
def tyX11 : Nat → FieldType := fun k => match k with
  | _ => .array .int
abbrev wsX110 : List Cond := u_ws RX11 TX11 1
theorem nmX11 : ∀ a, a < 1 → ∀ b, b < 1 → a ≠ b → (TX11 a).2.1 ≠ (TX11 b).2.1 := by decide +kernel
theorem tyX11_ok : ∀ k, k < 1 → parseFieldDescriptor (TX11 k).2.2.1 = some (tyX11 k) := by decide +kernel
abbrev cX11_isGone : ByteArray := prog_24_method_3_code
def yX11_isGone : MethodName := ⟨RX11, "isGone", "()Z"⟩
theorem dX11_isGone_0 : decode cX11_isGone 0 = .ok (.iconst 0, 1) := by decide +kernel
theorem dX11_isGone_1 : decode cX11_isGone 1 = .ok (.ireturn, 1) := by decide +kernel
abbrev cX11_init : ByteArray := prog_24_method_1_code
def yX11_init : MethodName := ⟨RX11, "<init>", "(LCheckoutDesk$Content;)V"⟩
def dkwX11_init_1 : List UInt8 := [180, 0, 9, 28, 43, 180, 0, 9, 28, 46, 79, 132, 2, 1, 167, 255, 232, 177]
abbrev dktX11_init_1 : List UInt8 := dkwX11_init_1 ++ []
def dkwX11_init_0 : List UInt8 := [42, 183, 0, 3, 42, 7, 188, 10, 181, 0, 9, 3, 61, 28, 42, 180, 0, 9, 190, 162, 0, 21, 42]
abbrev dktX11_init_0 : List UInt8 := dkwX11_init_0 ++ dktX11_init_1
theorem dksX11_init_0 : cX11_init.data.toList.drop 0 = dktX11_init_0 := by decide +kernel
theorem dksX11_init_1 : cX11_init.data.toList.drop 23 = dktX11_init_1 := dk_seg dksX11_init_0 23 rfl rfl
theorem dX11_init_0 : decode cX11_init 0 = .ok (.aload_n 0, 1) := dk_42 (dk_at dksX11_init_0 0 rfl rfl)
theorem dX11_init_1 : decode cX11_init 1 = .ok (.invokespecial 3, 3) := dk_183 0 3 (dk_at dksX11_init_0 1 rfl rfl)
theorem dX11_init_4 : decode cX11_init 4 = .ok (.aload_n 0, 1) := dk_42 (dk_at dksX11_init_0 4 rfl rfl)
theorem dX11_init_5 : decode cX11_init 5 = .ok (.iconst 4, 1) := dk_7 (dk_at dksX11_init_0 5 rfl rfl)
theorem dX11_init_6 : decode cX11_init 6 = .ok (.newarray .int, 2) := dk_188_10 (dk_at dksX11_init_0 6 rfl rfl)
theorem dX11_init_8 : decode cX11_init 8 = .ok (.putfield 9, 3) := dk_181 0 9 (dk_at dksX11_init_0 8 rfl rfl)
theorem dX11_init_11 : decode cX11_init 11 = .ok (.iconst 0, 1) := dk_3 (dk_at dksX11_init_0 11 rfl rfl)
theorem dX11_init_12 : decode cX11_init 12 = .ok (.istore_n 2, 1) := dk_61 (dk_at dksX11_init_0 12 rfl rfl)
theorem dX11_init_13 : decode cX11_init 13 = .ok (.iload_n 2, 1) := dk_28 (dk_at dksX11_init_0 13 rfl rfl)
theorem dX11_init_14 : decode cX11_init 14 = .ok (.aload_n 0, 1) := dk_42 (dk_at dksX11_init_0 14 rfl rfl)
theorem dX11_init_15 : decode cX11_init 15 = .ok (.getfield 9, 3) := dk_180 0 9 (dk_at dksX11_init_0 15 rfl rfl)
theorem dX11_init_18 : decode cX11_init 18 = .ok (.arraylength, 1) := dk_190 (dk_at dksX11_init_0 18 rfl rfl)
theorem dX11_init_19 : decode cX11_init 19 = .ok (.if_icmp .ge 21, 3) := dk_162 0 21 (dk_at dksX11_init_0 19 rfl rfl)
theorem dX11_init_22 : decode cX11_init 22 = .ok (.aload_n 0, 1) := dk_42 (dk_at dksX11_init_0 22 rfl rfl)
theorem dX11_init_23 : decode cX11_init 23 = .ok (.getfield 9, 3) := dk_180 0 9 (dk_at dksX11_init_1 0 rfl rfl)
theorem dX11_init_26 : decode cX11_init 26 = .ok (.iload_n 2, 1) := dk_28 (dk_at dksX11_init_1 3 rfl rfl)
theorem dX11_init_27 : decode cX11_init 27 = .ok (.aload_n 1, 1) := dk_43 (dk_at dksX11_init_1 4 rfl rfl)
theorem dX11_init_28 : decode cX11_init 28 = .ok (.getfield 9, 3) := dk_180 0 9 (dk_at dksX11_init_1 5 rfl rfl)
theorem dX11_init_31 : decode cX11_init 31 = .ok (.iload_n 2, 1) := dk_28 (dk_at dksX11_init_1 8 rfl rfl)
theorem dX11_init_32 : decode cX11_init 32 = .ok (.iaload, 1) := dk_46 (dk_at dksX11_init_1 9 rfl rfl)
theorem dX11_init_33 : decode cX11_init 33 = .ok (.iastore, 1) := dk_79 (dk_at dksX11_init_1 10 rfl rfl)
theorem dX11_init_34 : decode cX11_init 34 = .ok (.iinc 2 1, 3) := dk_132 2 1 (dk_at dksX11_init_1 11 rfl rfl)
theorem dX11_init_37 : decode cX11_init 37 = .ok (.goto (-24), 3) := dk_167 255 232 (dk_at dksX11_init_1 14 rfl rfl)
theorem dX11_init_40 : decode cX11_init 40 = .ok (.return_, 1) := dk_177 (dk_at dksX11_init_1 17 rfl rfl)
abbrev cX11_init_2 : ByteArray := prog_24_method_2_code
def yX11_init_2 : MethodName := ⟨RX11, "<init>", "(I)V"⟩
def dkwX11_init_2_0 : List UInt8 := [42, 183, 0, 3, 42, 7, 188, 10, 181, 0, 9, 42, 180, 0, 9, 6, 27, 79, 177]
abbrev dktX11_init_2_0 : List UInt8 := dkwX11_init_2_0 ++ []
theorem dksX11_init_2_0 : cX11_init_2.data.toList.drop 0 = dktX11_init_2_0 := by decide +kernel
theorem dX11_init_2_0 : decode cX11_init_2 0 = .ok (.aload_n 0, 1) := dk_42 (dk_at dksX11_init_2_0 0 rfl rfl)
theorem dX11_init_2_1 : decode cX11_init_2 1 = .ok (.invokespecial 3, 3) := dk_183 0 3 (dk_at dksX11_init_2_0 1 rfl rfl)
theorem dX11_init_2_4 : decode cX11_init_2 4 = .ok (.aload_n 0, 1) := dk_42 (dk_at dksX11_init_2_0 4 rfl rfl)
theorem dX11_init_2_5 : decode cX11_init_2 5 = .ok (.iconst 4, 1) := dk_7 (dk_at dksX11_init_2_0 5 rfl rfl)
theorem dX11_init_2_6 : decode cX11_init_2 6 = .ok (.newarray .int, 2) := dk_188_10 (dk_at dksX11_init_2_0 6 rfl rfl)
theorem dX11_init_2_8 : decode cX11_init_2 8 = .ok (.putfield 9, 3) := dk_181 0 9 (dk_at dksX11_init_2_0 8 rfl rfl)
theorem dX11_init_2_11 : decode cX11_init_2 11 = .ok (.aload_n 0, 1) := dk_42 (dk_at dksX11_init_2_0 11 rfl rfl)
theorem dX11_init_2_12 : decode cX11_init_2 12 = .ok (.getfield 9, 3) := dk_180 0 9 (dk_at dksX11_init_2_0 12 rfl rfl)
theorem dX11_init_2_15 : decode cX11_init_2 15 = .ok (.iconst 3, 1) := dk_6 (dk_at dksX11_init_2_0 15 rfl rfl)
theorem dX11_init_2_16 : decode cX11_init_2 16 = .ok (.iload_n 1, 1) := dk_27 (dk_at dksX11_init_2_0 16 rfl rfl)
theorem dX11_init_2_17 : decode cX11_init_2 17 = .ok (.iastore, 1) := dk_79 (dk_at dksX11_init_2_0 17 rfl rfl)
theorem dX11_init_2_18 : decode cX11_init_2 18 = .ok (.return_, 1) := dk_177 (dk_at dksX11_init_2_0 18 rfl rfl)
theorem q76 : (Jvm.Cond.initialized "CheckoutDesk$Content") ∈ lw_all := lw_g (lw_at lw_m1 34 rfl) rfl
theorem q425 : (Jvm.Cond.instanceMethod ({ cls := "CheckoutDesk$Content", name := "isGone", desc := "()Z" } : Jvm.MethodName)) ∈ lw_all := lw_g (lw_at lw_m2 143 rfl) rfl
theorem q426 : (Jvm.Cond.selects "CheckoutDesk$Content" ({ cls := "CheckoutDesk$Content", name := "isGone", desc := "()Z" } : Jvm.MethodName) ({ cls := "CheckoutDesk$Content", name := "isGone", desc := "()Z" } : Jvm.MethodName)) ∈ lw_all := lw_g (lw_at lw_m2 144 rfl) rfl
theorem q427 : (Jvm.Cond.sameMethod "CheckoutDesk$Content" "CheckoutDesk$Content" "isGone" "()Z") ∈ lw_all := lw_g (lw_at lw_m2 145 rfl) rfl
theorem q432 : (Jvm.Cond.code ({ cls := "CheckoutDesk$Content", name := "isGone", desc := "()Z" } : Jvm.MethodName) prog_24_method_3_code (1 : Nat) (Option.some Jvm.ClassFile.FieldType.boolean)) ∈ lw_all := lw_g (lw_at lw_m2 150 rfl) rfl
theorem q1119 : (Jvm.Cond.selects "CheckoutDesk$Content" ({ cls := "java/lang/Object", name := "getClass", desc := "()Ljava/lang/Class;" } : Jvm.MethodName) ({ cls := "java/lang/Object", name := "getClass", desc := "()Ljava/lang/Class;" } : Jvm.MethodName)) ∈ lw_all := lw_g (lw_at lw_m5 117 rfl) rfl
theorem q1169 : (Jvm.Cond.instanceMethod ({ cls := "CheckoutDesk$Content", name := "<init>", desc := "(LCheckoutDesk$Content;)V" } : Jvm.MethodName)) ∈ lw_all := lw_g (lw_at lw_m5 167 rfl) rfl
theorem q1170 : (Jvm.Cond.code ({ cls := "CheckoutDesk$Content", name := "<init>", desc := "(LCheckoutDesk$Content;)V" } : Jvm.MethodName) prog_24_method_1_code (3 : Nat) (Option.none : Option Jvm.ClassFile.FieldType)) ∈ lw_all := lw_g (lw_at lw_m5 168 rfl) rfl
theorem q1171 : (Jvm.Cond.methodLink "CheckoutDesk$Content" (3 : Nat) ({ cls := "java/lang/Object", name := "<init>", desc := "()V" } : Jvm.MethodName)) ∈ lw_all := lw_g (lw_at lw_m5 169 rfl) rfl
theorem q1200 : (Jvm.Cond.fieldLink "CheckoutDesk$Content" (9 : Nat) "CheckoutDesk$Content" "values" "[I") ∈ lw_all := lw_g (lw_at lw_m5 198 rfl) rfl
theorem q1220 : (Jvm.Cond.soleField "CheckoutDesk$Content" "values") ∈ lw_all := lw_g (lw_at lw_m5 218 rfl) rfl
theorem q1238 : (Jvm.Cond.instantiable "CheckoutDesk$Content" (1 : Nat)) ∈ lw_all := lw_g (lw_at lw_m5 236 rfl) rfl
theorem q1240 : (Jvm.Cond.laysFinal "CheckoutDesk$Content" "CheckoutDesk$Content" "values" "[I") ∈ lw_all := lw_g (lw_at lw_m5 238 rfl) rfl
theorem q1241 : (Jvm.Cond.superclass "CheckoutDesk$Content" "java/lang/Object") ∈ lw_all := lw_g (lw_at lw_m5 239 rfl) rfl
theorem q1375 : (Jvm.Cond.instanceMethod ({ cls := "CheckoutDesk$Content", name := "<init>", desc := "(I)V" } : Jvm.MethodName)) ∈ lw_all := lw_g (lw_at lw_m6 133 rfl) rfl
theorem q1376 : (Jvm.Cond.code ({ cls := "CheckoutDesk$Content", name := "<init>", desc := "(I)V" } : Jvm.MethodName) prog_24_method_2_code (2 : Nat) (Option.none : Option Jvm.ClassFile.FieldType)) ∈ lw_all := lw_g (lw_at lw_m6 134 rfl) rfl
theorem q2703 : (Jvm.Cond.castable "CheckoutDesk$Content" "java/lang/Object") ∈ lw_tbl := lw_at lw_m12 21 rfl
theorem in_X11 : ∀ w ∈ wsX110, w ∈ lw_all := lw_in wsX110 [1240] (by decide +kernel) (by decide +kernel)
/-! CheckoutDesk$Version -/
set_option maxRecDepth 100000
def RX12 : String := "CheckoutDesk$Version"
def TX12 : u_T := fun k => match k with
  | 0 => ("CheckoutDesk$Content", "values", "[I", true)
  | 1 => ("CheckoutDesk$Version", "number", "I", true)
  | 2 => ("CheckoutDesk$Version", "document", "I", true)
  | 3 => ("CheckoutDesk$Version", "branch", "I", true)
  | 4 => ("CheckoutDesk$Version", "major", "I", false)
  | 5 => ("CheckoutDesk$Version", "minor", "I", false)
  | _ => ("CheckoutDesk$Version", "isGone", "Z", false)
def tyX12 : Nat → FieldType := fun k => match k with
  | 0 => .array .int
  | 1 => .int
  | 2 => .int
  | 3 => .int
  | 4 => .int
  | 5 => .int
  | _ => .boolean
abbrev wsX120 : List Cond := u_ws RX12 TX12 7
theorem nmX12 : ∀ a, a < 7 → ∀ b, b < 7 → a ≠ b → (TX12 a).2.1 ≠ (TX12 b).2.1 := by decide +kernel
theorem tyX12_ok : ∀ k, k < 7 → parseFieldDescriptor (TX12 k).2.2.1 = some (tyX12 k) := by decide +kernel
abbrev cX12_isReleased : ByteArray := prog_36_method_2_code
def yX12_isReleased : MethodName := ⟨RX12, "isReleased", "()Z"⟩
def dkwX12_isReleased_0 : List UInt8 := [42, 180, 0, 22, 154, 0, 7, 4, 167, 0, 4, 3, 172]
abbrev dktX12_isReleased_0 : List UInt8 := dkwX12_isReleased_0 ++ []
theorem dksX12_isReleased_0 : cX12_isReleased.data.toList.drop 0 = dktX12_isReleased_0 := by decide +kernel
theorem dX12_isReleased_0 : decode cX12_isReleased 0 = .ok (.aload_n 0, 1) := dk_42 (dk_at dksX12_isReleased_0 0 rfl rfl)
theorem dX12_isReleased_1 : decode cX12_isReleased 1 = .ok (.getfield 22, 3) := dk_180 0 22 (dk_at dksX12_isReleased_0 1 rfl rfl)
theorem dX12_isReleased_4 : decode cX12_isReleased 4 = .ok (.ifCond .ne 7, 3) := dk_154 0 7 (dk_at dksX12_isReleased_0 4 rfl rfl)
theorem dX12_isReleased_7 : decode cX12_isReleased 7 = .ok (.iconst 1, 1) := dk_4 (dk_at dksX12_isReleased_0 7 rfl rfl)
theorem dX12_isReleased_8 : decode cX12_isReleased 8 = .ok (.goto 4, 3) := dk_167 0 4 (dk_at dksX12_isReleased_0 8 rfl rfl)
theorem dX12_isReleased_11 : decode cX12_isReleased 11 = .ok (.iconst 0, 1) := dk_3 (dk_at dksX12_isReleased_0 11 rfl rfl)
theorem dX12_isReleased_12 : decode cX12_isReleased 12 = .ok (.ireturn, 1) := dk_172 (dk_at dksX12_isReleased_0 12 rfl rfl)
abbrev cX12_isGone : ByteArray := prog_36_method_3_code
def yX12_isGone : MethodName := ⟨RX12, "isGone", "()Z"⟩
theorem dX12_isGone_0 : decode cX12_isGone 0 = .ok (.aload_n 0, 1) := by decide +kernel
theorem dX12_isGone_1 : decode cX12_isGone 1 = .ok (.getfield 25, 3) := by decide +kernel
theorem dX12_isGone_4 : decode cX12_isGone 4 = .ok (.ireturn, 1) := by decide +kernel
abbrev cX12_isOf : ByteArray := prog_36_method_4_code
def yX12_isOf : MethodName := ⟨RX12, "isOf", "(II)Z"⟩
def dkwX12_isOf_1 : List UInt8 := [167, 0, 4, 3, 172]
abbrev dktX12_isOf_1 : List UInt8 := dkwX12_isOf_1 ++ []
def dkwX12_isOf_0 : List UInt8 := [42, 180, 0, 25, 154, 0, 23, 42, 180, 0, 13, 27, 160, 0, 15, 42, 180, 0, 16, 28, 160, 0, 7, 4]
abbrev dktX12_isOf_0 : List UInt8 := dkwX12_isOf_0 ++ dktX12_isOf_1
theorem dksX12_isOf_0 : cX12_isOf.data.toList.drop 0 = dktX12_isOf_0 := by decide +kernel
theorem dksX12_isOf_1 : cX12_isOf.data.toList.drop 24 = dktX12_isOf_1 := dk_seg dksX12_isOf_0 24 rfl rfl
theorem dX12_isOf_0 : decode cX12_isOf 0 = .ok (.aload_n 0, 1) := dk_42 (dk_at dksX12_isOf_0 0 rfl rfl)
theorem dX12_isOf_1 : decode cX12_isOf 1 = .ok (.getfield 25, 3) := dk_180 0 25 (dk_at dksX12_isOf_0 1 rfl rfl)
theorem dX12_isOf_4 : decode cX12_isOf 4 = .ok (.ifCond .ne 23, 3) := dk_154 0 23 (dk_at dksX12_isOf_0 4 rfl rfl)
theorem dX12_isOf_7 : decode cX12_isOf 7 = .ok (.aload_n 0, 1) := dk_42 (dk_at dksX12_isOf_0 7 rfl rfl)
theorem dX12_isOf_8 : decode cX12_isOf 8 = .ok (.getfield 13, 3) := dk_180 0 13 (dk_at dksX12_isOf_0 8 rfl rfl)
theorem dX12_isOf_11 : decode cX12_isOf 11 = .ok (.iload_n 1, 1) := dk_27 (dk_at dksX12_isOf_0 11 rfl rfl)
theorem dX12_isOf_12 : decode cX12_isOf 12 = .ok (.if_icmp .ne 15, 3) := dk_160 0 15 (dk_at dksX12_isOf_0 12 rfl rfl)
theorem dX12_isOf_15 : decode cX12_isOf 15 = .ok (.aload_n 0, 1) := dk_42 (dk_at dksX12_isOf_0 15 rfl rfl)
theorem dX12_isOf_16 : decode cX12_isOf 16 = .ok (.getfield 16, 3) := dk_180 0 16 (dk_at dksX12_isOf_0 16 rfl rfl)
theorem dX12_isOf_19 : decode cX12_isOf 19 = .ok (.iload_n 2, 1) := dk_28 (dk_at dksX12_isOf_0 19 rfl rfl)
theorem dX12_isOf_20 : decode cX12_isOf 20 = .ok (.if_icmp .ne 7, 3) := dk_160 0 7 (dk_at dksX12_isOf_0 20 rfl rfl)
theorem dX12_isOf_23 : decode cX12_isOf 23 = .ok (.iconst 1, 1) := dk_4 (dk_at dksX12_isOf_0 23 rfl rfl)
theorem dX12_isOf_24 : decode cX12_isOf 24 = .ok (.goto 4, 3) := dk_167 0 4 (dk_at dksX12_isOf_1 0 rfl rfl)
theorem dX12_isOf_27 : decode cX12_isOf 27 = .ok (.iconst 0, 1) := dk_3 (dk_at dksX12_isOf_1 3 rfl rfl)
theorem dX12_isOf_28 : decode cX12_isOf 28 = .ok (.ireturn, 1) := dk_172 (dk_at dksX12_isOf_1 4 rfl rfl)
abbrev cX12_compareTo : ByteArray := prog_36_method_6_code
def yX12_compareTo : MethodName := ⟨RX12, "compareTo", "(Ljava/lang/Object;)I"⟩
def dkwX12_compareTo_0 : List UInt8 := [42, 43, 192, 0, 8, 182, 0, 29, 172]
abbrev dktX12_compareTo_0 : List UInt8 := dkwX12_compareTo_0 ++ []
theorem dksX12_compareTo_0 : cX12_compareTo.data.toList.drop 0 = dktX12_compareTo_0 := by decide +kernel
theorem dX12_compareTo_0 : decode cX12_compareTo 0 = .ok (.aload_n 0, 1) := dk_42 (dk_at dksX12_compareTo_0 0 rfl rfl)
theorem dX12_compareTo_1 : decode cX12_compareTo 1 = .ok (.aload_n 1, 1) := dk_43 (dk_at dksX12_compareTo_0 1 rfl rfl)
theorem dX12_compareTo_2 : decode cX12_compareTo 2 = .ok (.checkcast 8, 3) := dk_192 0 8 (dk_at dksX12_compareTo_0 2 rfl rfl)
theorem dX12_compareTo_5 : decode cX12_compareTo 5 = .ok (.invokevirtual 29, 3) := dk_182 0 29 (dk_at dksX12_compareTo_0 5 rfl rfl)
theorem dX12_compareTo_8 : decode cX12_compareTo 8 = .ok (.ireturn, 1) := dk_172 (dk_at dksX12_compareTo_0 8 rfl rfl)
abbrev cX12_compareTo_2 : ByteArray := prog_36_method_5_code
def yX12_compareTo_2 : MethodName := ⟨RX12, "compareTo", "(LCheckoutDesk$Version;)I"⟩
def dkwX12_compareTo_2_1 : List UInt8 := [180, 0, 22, 43, 180, 0, 22, 100, 172]
abbrev dktX12_compareTo_2_1 : List UInt8 := dkwX12_compareTo_2_1 ++ []
def dkwX12_compareTo_2_0 : List UInt8 := [42, 180, 0, 19, 43, 180, 0, 19, 159, 0, 15, 42, 180, 0, 19, 43, 180, 0, 19, 100, 167, 0, 12, 42]
abbrev dktX12_compareTo_2_0 : List UInt8 := dkwX12_compareTo_2_0 ++ dktX12_compareTo_2_1
theorem dksX12_compareTo_2_0 : cX12_compareTo_2.data.toList.drop 0 = dktX12_compareTo_2_0 := by decide +kernel
theorem dksX12_compareTo_2_1 : cX12_compareTo_2.data.toList.drop 24 = dktX12_compareTo_2_1 := dk_seg dksX12_compareTo_2_0 24 rfl rfl
theorem dX12_compareTo_2_0 : decode cX12_compareTo_2 0 = .ok (.aload_n 0, 1) := dk_42 (dk_at dksX12_compareTo_2_0 0 rfl rfl)
theorem dX12_compareTo_2_1 : decode cX12_compareTo_2 1 = .ok (.getfield 19, 3) := dk_180 0 19 (dk_at dksX12_compareTo_2_0 1 rfl rfl)
theorem dX12_compareTo_2_4 : decode cX12_compareTo_2 4 = .ok (.aload_n 1, 1) := dk_43 (dk_at dksX12_compareTo_2_0 4 rfl rfl)
theorem dX12_compareTo_2_5 : decode cX12_compareTo_2 5 = .ok (.getfield 19, 3) := dk_180 0 19 (dk_at dksX12_compareTo_2_0 5 rfl rfl)
theorem dX12_compareTo_2_8 : decode cX12_compareTo_2 8 = .ok (.if_icmp .eq 15, 3) := dk_159 0 15 (dk_at dksX12_compareTo_2_0 8 rfl rfl)
theorem dX12_compareTo_2_11 : decode cX12_compareTo_2 11 = .ok (.aload_n 0, 1) := dk_42 (dk_at dksX12_compareTo_2_0 11 rfl rfl)
theorem dX12_compareTo_2_12 : decode cX12_compareTo_2 12 = .ok (.getfield 19, 3) := dk_180 0 19 (dk_at dksX12_compareTo_2_0 12 rfl rfl)
theorem dX12_compareTo_2_15 : decode cX12_compareTo_2 15 = .ok (.aload_n 1, 1) := dk_43 (dk_at dksX12_compareTo_2_0 15 rfl rfl)
theorem dX12_compareTo_2_16 : decode cX12_compareTo_2 16 = .ok (.getfield 19, 3) := dk_180 0 19 (dk_at dksX12_compareTo_2_0 16 rfl rfl)
theorem dX12_compareTo_2_19 : decode cX12_compareTo_2 19 = .ok (.isub, 1) := dk_100 (dk_at dksX12_compareTo_2_0 19 rfl rfl)
theorem dX12_compareTo_2_20 : decode cX12_compareTo_2 20 = .ok (.goto 12, 3) := dk_167 0 12 (dk_at dksX12_compareTo_2_0 20 rfl rfl)
theorem dX12_compareTo_2_23 : decode cX12_compareTo_2 23 = .ok (.aload_n 0, 1) := dk_42 (dk_at dksX12_compareTo_2_0 23 rfl rfl)
theorem dX12_compareTo_2_24 : decode cX12_compareTo_2 24 = .ok (.getfield 22, 3) := dk_180 0 22 (dk_at dksX12_compareTo_2_1 0 rfl rfl)
theorem dX12_compareTo_2_27 : decode cX12_compareTo_2 27 = .ok (.aload_n 1, 1) := dk_43 (dk_at dksX12_compareTo_2_1 3 rfl rfl)
theorem dX12_compareTo_2_28 : decode cX12_compareTo_2 28 = .ok (.getfield 22, 3) := dk_180 0 22 (dk_at dksX12_compareTo_2_1 4 rfl rfl)
theorem dX12_compareTo_2_31 : decode cX12_compareTo_2 31 = .ok (.isub, 1) := dk_100 (dk_at dksX12_compareTo_2_1 7 rfl rfl)
theorem dX12_compareTo_2_32 : decode cX12_compareTo_2 32 = .ok (.ireturn, 1) := dk_172 (dk_at dksX12_compareTo_2_1 8 rfl rfl)
abbrev cX12_init : ByteArray := prog_36_method_1_code
def yX12_init : MethodName := ⟨RX12, "<init>", "(IIIIILCheckoutDesk$Content;)V"⟩
def dkwX12_init_1 : List UInt8 := [181, 0, 19, 42, 21, 5, 181, 0, 22, 177]
abbrev dktX12_init_1 : List UInt8 := dkwX12_init_1 ++ []
def dkwX12_init_0 : List UInt8 := [42, 25, 6, 183, 0, 1, 42, 27, 181, 0, 7, 42, 28, 181, 0, 13, 42, 29, 181, 0, 16, 42, 21, 4]
abbrev dktX12_init_0 : List UInt8 := dkwX12_init_0 ++ dktX12_init_1
theorem dksX12_init_0 : cX12_init.data.toList.drop 0 = dktX12_init_0 := by decide +kernel
theorem dksX12_init_1 : cX12_init.data.toList.drop 24 = dktX12_init_1 := dk_seg dksX12_init_0 24 rfl rfl
theorem dX12_init_0 : decode cX12_init 0 = .ok (.aload_n 0, 1) := dk_42 (dk_at dksX12_init_0 0 rfl rfl)
theorem dX12_init_1 : decode cX12_init 1 = .ok (.aload 6, 2) := dk_25 6 (dk_at dksX12_init_0 1 rfl rfl)
theorem dX12_init_3 : decode cX12_init 3 = .ok (.invokespecial 1, 3) := dk_183 0 1 (dk_at dksX12_init_0 3 rfl rfl)
theorem dX12_init_6 : decode cX12_init 6 = .ok (.aload_n 0, 1) := dk_42 (dk_at dksX12_init_0 6 rfl rfl)
theorem dX12_init_7 : decode cX12_init 7 = .ok (.iload_n 1, 1) := dk_27 (dk_at dksX12_init_0 7 rfl rfl)
theorem dX12_init_8 : decode cX12_init 8 = .ok (.putfield 7, 3) := dk_181 0 7 (dk_at dksX12_init_0 8 rfl rfl)
theorem dX12_init_11 : decode cX12_init 11 = .ok (.aload_n 0, 1) := dk_42 (dk_at dksX12_init_0 11 rfl rfl)
theorem dX12_init_12 : decode cX12_init 12 = .ok (.iload_n 2, 1) := dk_28 (dk_at dksX12_init_0 12 rfl rfl)
theorem dX12_init_13 : decode cX12_init 13 = .ok (.putfield 13, 3) := dk_181 0 13 (dk_at dksX12_init_0 13 rfl rfl)
theorem dX12_init_16 : decode cX12_init 16 = .ok (.aload_n 0, 1) := dk_42 (dk_at dksX12_init_0 16 rfl rfl)
theorem dX12_init_17 : decode cX12_init 17 = .ok (.iload_n 3, 1) := dk_29 (dk_at dksX12_init_0 17 rfl rfl)
theorem dX12_init_18 : decode cX12_init 18 = .ok (.putfield 16, 3) := dk_181 0 16 (dk_at dksX12_init_0 18 rfl rfl)
theorem dX12_init_21 : decode cX12_init 21 = .ok (.aload_n 0, 1) := dk_42 (dk_at dksX12_init_0 21 rfl rfl)
theorem dX12_init_22 : decode cX12_init 22 = .ok (.iload 4, 2) := dk_21 4 (dk_at dksX12_init_0 22 rfl rfl)
theorem dX12_init_24 : decode cX12_init 24 = .ok (.putfield 19, 3) := dk_181 0 19 (dk_at dksX12_init_1 0 rfl rfl)
theorem dX12_init_27 : decode cX12_init 27 = .ok (.aload_n 0, 1) := dk_42 (dk_at dksX12_init_1 3 rfl rfl)
theorem dX12_init_28 : decode cX12_init 28 = .ok (.iload 5, 2) := dk_21 5 (dk_at dksX12_init_1 4 rfl rfl)
theorem dX12_init_30 : decode cX12_init 30 = .ok (.putfield 22, 3) := dk_181 0 22 (dk_at dksX12_init_1 6 rfl rfl)
theorem dX12_init_33 : decode cX12_init 33 = .ok (.return_, 1) := dk_177 (dk_at dksX12_init_1 9 rfl rfl)
theorem q77 : (Jvm.Cond.initialized "CheckoutDesk$Version") ∈ lw_all := lw_g (lw_at lw_m1 35 rfl) rfl
theorem q387 : (Jvm.Cond.instanceMethod ({ cls := "CheckoutDesk$Version", name := "isReleased", desc := "()Z" } : Jvm.MethodName)) ∈ lw_all := lw_g (lw_at lw_m2 105 rfl) rfl
theorem q388 : (Jvm.Cond.selects "CheckoutDesk$Version" ({ cls := "CheckoutDesk$Version", name := "isReleased", desc := "()Z" } : Jvm.MethodName) ({ cls := "CheckoutDesk$Version", name := "isReleased", desc := "()Z" } : Jvm.MethodName)) ∈ lw_all := lw_g (lw_at lw_m2 106 rfl) rfl
theorem q389 : (Jvm.Cond.code ({ cls := "CheckoutDesk$Version", name := "isReleased", desc := "()Z" } : Jvm.MethodName) prog_36_method_2_code (1 : Nat) (Option.some Jvm.ClassFile.FieldType.boolean)) ∈ lw_all := lw_g (lw_at lw_m2 107 rfl) rfl
theorem q429 : (Jvm.Cond.selects "CheckoutDesk$Version" ({ cls := "CheckoutDesk$Content", name := "isGone", desc := "()Z" } : Jvm.MethodName) ({ cls := "CheckoutDesk$Version", name := "isGone", desc := "()Z" } : Jvm.MethodName)) ∈ lw_all := lw_g (lw_at lw_m2 147 rfl) rfl
theorem q430 : (Jvm.Cond.instanceMethod ({ cls := "CheckoutDesk$Version", name := "isGone", desc := "()Z" } : Jvm.MethodName)) ∈ lw_all := lw_g (lw_at lw_m2 148 rfl) rfl
theorem q431 : (Jvm.Cond.code ({ cls := "CheckoutDesk$Version", name := "isGone", desc := "()Z" } : Jvm.MethodName) prog_36_method_3_code (1 : Nat) (Option.some Jvm.ClassFile.FieldType.boolean)) ∈ lw_all := lw_g (lw_at lw_m2 149 rfl) rfl
theorem q472 : (Jvm.Cond.instanceMethod ({ cls := "CheckoutDesk$Version", name := "isOf", desc := "(II)Z" } : Jvm.MethodName)) ∈ lw_all := lw_g (lw_at lw_m2 190 rfl) rfl
theorem q473 : (Jvm.Cond.selects "CheckoutDesk$Version" ({ cls := "CheckoutDesk$Version", name := "isOf", desc := "(II)Z" } : Jvm.MethodName) ({ cls := "CheckoutDesk$Version", name := "isOf", desc := "(II)Z" } : Jvm.MethodName)) ∈ lw_all := lw_g (lw_at lw_m2 191 rfl) rfl
theorem q474 : (Jvm.Cond.code ({ cls := "CheckoutDesk$Version", name := "isOf", desc := "(II)Z" } : Jvm.MethodName) prog_36_method_4_code (3 : Nat) (Option.some Jvm.ClassFile.FieldType.boolean)) ∈ lw_all := lw_g (lw_at lw_m2 192 rfl) rfl
theorem q515 : (Jvm.Cond.castable "CheckoutDesk$Version" "java/lang/Comparable") ∈ lw_tbl := lw_at lw_m2 233 rfl
theorem q516 : (Jvm.Cond.selects "CheckoutDesk$Version" ({ cls := "java/lang/Comparable", name := "compareTo", desc := "(Ljava/lang/Object;)I" } : Jvm.MethodName) ({ cls := "CheckoutDesk$Version", name := "compareTo", desc := "(Ljava/lang/Object;)I" } : Jvm.MethodName)) ∈ lw_all := lw_g (lw_at lw_m2 234 rfl) rfl
theorem q517 : (Jvm.Cond.unhidden "CheckoutDesk$Version" "compareTo" "(Ljava/lang/Object;)I") ∈ lw_tbl := lw_at lw_m2 235 rfl
theorem q518 : (Jvm.Cond.instanceMethod ({ cls := "CheckoutDesk$Version", name := "compareTo", desc := "(Ljava/lang/Object;)I" } : Jvm.MethodName)) ∈ lw_all := lw_g (lw_at lw_m2 236 rfl) rfl
theorem q519 : (Jvm.Cond.publicMethod ({ cls := "CheckoutDesk$Version", name := "compareTo", desc := "(Ljava/lang/Object;)I" } : Jvm.MethodName)) ∈ lw_tbl := lw_at lw_m2 237 rfl
theorem q520 : (Jvm.Cond.code ({ cls := "CheckoutDesk$Version", name := "compareTo", desc := "(Ljava/lang/Object;)I" } : Jvm.MethodName) prog_36_method_6_code (2 : Nat) (Option.some Jvm.ClassFile.FieldType.int)) ∈ lw_all := lw_g (lw_at lw_m2 238 rfl) rfl
theorem q521 : (Jvm.Cond.classLink "CheckoutDesk$Version" (8 : Nat) "CheckoutDesk$Version") ∈ lw_all := lw_g (lw_at lw_m2 239 rfl) rfl
theorem q522 : (Jvm.Cond.methodLink "CheckoutDesk$Version" (29 : Nat) ({ cls := "CheckoutDesk$Version", name := "compareTo", desc := "(LCheckoutDesk$Version;)I" } : Jvm.MethodName)) ∈ lw_all := lw_g (lw_at lw_m3 0 rfl) rfl
theorem q523 : (Jvm.Cond.instanceMethod ({ cls := "CheckoutDesk$Version", name := "compareTo", desc := "(LCheckoutDesk$Version;)I" } : Jvm.MethodName)) ∈ lw_all := lw_g (lw_at lw_m3 1 rfl) rfl
theorem q524 : (Jvm.Cond.selects "CheckoutDesk$Version" ({ cls := "CheckoutDesk$Version", name := "compareTo", desc := "(LCheckoutDesk$Version;)I" } : Jvm.MethodName) ({ cls := "CheckoutDesk$Version", name := "compareTo", desc := "(LCheckoutDesk$Version;)I" } : Jvm.MethodName)) ∈ lw_all := lw_g (lw_at lw_m3 2 rfl) rfl
theorem q525 : (Jvm.Cond.code ({ cls := "CheckoutDesk$Version", name := "compareTo", desc := "(LCheckoutDesk$Version;)I" } : Jvm.MethodName) prog_36_method_5_code (2 : Nat) (Option.some Jvm.ClassFile.FieldType.int)) ∈ lw_all := lw_g (lw_at lw_m3 3 rfl) rfl
theorem q1130 : (Jvm.Cond.selects "CheckoutDesk$Version" ({ cls := "java/lang/Object", name := "getClass", desc := "()Ljava/lang/Class;" } : Jvm.MethodName) ({ cls := "java/lang/Object", name := "getClass", desc := "()Ljava/lang/Class;" } : Jvm.MethodName)) ∈ lw_all := lw_g (lw_at lw_m5 128 rfl) rfl
theorem q1163 : (Jvm.Cond.instantiable "CheckoutDesk$Version" (7 : Nat)) ∈ lw_all := lw_g (lw_at lw_m5 161 rfl) rfl
theorem q1166 : (Jvm.Cond.instanceMethod ({ cls := "CheckoutDesk$Version", name := "<init>", desc := "(IIIIILCheckoutDesk$Content;)V" } : Jvm.MethodName)) ∈ lw_all := lw_g (lw_at lw_m5 164 rfl) rfl
theorem q1167 : (Jvm.Cond.code ({ cls := "CheckoutDesk$Version", name := "<init>", desc := "(IIIIILCheckoutDesk$Content;)V" } : Jvm.MethodName) prog_36_method_1_code (7 : Nat) (Option.none : Option Jvm.ClassFile.FieldType)) ∈ lw_all := lw_g (lw_at lw_m5 165 rfl) rfl
theorem q1168 : (Jvm.Cond.methodLink "CheckoutDesk$Version" (1 : Nat) ({ cls := "CheckoutDesk$Content", name := "<init>", desc := "(LCheckoutDesk$Content;)V" } : Jvm.MethodName)) ∈ lw_all := lw_g (lw_at lw_m5 166 rfl) rfl
theorem q1172 : (Jvm.Cond.fieldLink "CheckoutDesk$Version" (7 : Nat) "CheckoutDesk$Version" "number" "I") ∈ lw_all := lw_g (lw_at lw_m5 170 rfl) rfl
theorem q1177 : (Jvm.Cond.fieldLink "CheckoutDesk$Version" (13 : Nat) "CheckoutDesk$Version" "document" "I") ∈ lw_all := lw_g (lw_at lw_m5 175 rfl) rfl
theorem q1182 : (Jvm.Cond.fieldLink "CheckoutDesk$Version" (16 : Nat) "CheckoutDesk$Version" "branch" "I") ∈ lw_all := lw_g (lw_at lw_m5 180 rfl) rfl
theorem q1185 : (Jvm.Cond.fieldLink "CheckoutDesk$Version" (19 : Nat) "CheckoutDesk$Version" "major" "I") ∈ lw_all := lw_g (lw_at lw_m5 183 rfl) rfl
theorem q1190 : (Jvm.Cond.fieldLink "CheckoutDesk$Version" (22 : Nat) "CheckoutDesk$Version" "minor" "I") ∈ lw_all := lw_g (lw_at lw_m5 188 rfl) rfl
theorem q1197 : (Jvm.Cond.fieldLink "CheckoutDesk$Version" (25 : Nat) "CheckoutDesk$Version" "isGone" "Z") ∈ lw_all := lw_g (lw_at lw_m5 195 rfl) rfl
theorem q1204 : (Jvm.Cond.sameField "CheckoutDesk$Version" "CheckoutDesk$Content" "values" "[I") ∈ lw_all := lw_g (lw_at lw_m5 202 rfl) rfl
theorem q1207 : (Jvm.Cond.laysFinal "CheckoutDesk$Version" "CheckoutDesk$Version" "number" "I") ∈ lw_all := lw_g (lw_at lw_m5 205 rfl) rfl
theorem q1208 : (Jvm.Cond.soleField "CheckoutDesk$Version" "number") ∈ lw_all := lw_g (lw_at lw_m5 206 rfl) rfl
theorem q1209 : (Jvm.Cond.laysFinal "CheckoutDesk$Version" "CheckoutDesk$Version" "document" "I") ∈ lw_all := lw_g (lw_at lw_m5 207 rfl) rfl
theorem q1210 : (Jvm.Cond.soleField "CheckoutDesk$Version" "document") ∈ lw_all := lw_g (lw_at lw_m5 208 rfl) rfl
theorem q1211 : (Jvm.Cond.laysFinal "CheckoutDesk$Version" "CheckoutDesk$Version" "branch" "I") ∈ lw_all := lw_g (lw_at lw_m5 209 rfl) rfl
theorem q1212 : (Jvm.Cond.soleField "CheckoutDesk$Version" "branch") ∈ lw_all := lw_g (lw_at lw_m5 210 rfl) rfl
theorem q1213 : (Jvm.Cond.lays "CheckoutDesk$Version" "CheckoutDesk$Version" "major" "I") ∈ lw_all := lw_g (lw_at lw_m5 211 rfl) rfl
theorem q1214 : (Jvm.Cond.soleField "CheckoutDesk$Version" "major") ∈ lw_all := lw_g (lw_at lw_m5 212 rfl) rfl
theorem q1215 : (Jvm.Cond.lays "CheckoutDesk$Version" "CheckoutDesk$Version" "minor" "I") ∈ lw_all := lw_g (lw_at lw_m5 213 rfl) rfl
theorem q1216 : (Jvm.Cond.soleField "CheckoutDesk$Version" "minor") ∈ lw_all := lw_g (lw_at lw_m5 214 rfl) rfl
theorem q1217 : (Jvm.Cond.lays "CheckoutDesk$Version" "CheckoutDesk$Version" "isGone" "Z") ∈ lw_all := lw_g (lw_at lw_m5 215 rfl) rfl
theorem q1218 : (Jvm.Cond.soleField "CheckoutDesk$Version" "isGone") ∈ lw_all := lw_g (lw_at lw_m5 216 rfl) rfl
theorem q1219 : (Jvm.Cond.laysFinal "CheckoutDesk$Version" "CheckoutDesk$Content" "values" "[I") ∈ lw_all := lw_g (lw_at lw_m5 217 rfl) rfl
theorem q1221 : (Jvm.Cond.superclass "CheckoutDesk$Version" "CheckoutDesk$Content") ∈ lw_all := lw_g (lw_at lw_m5 219 rfl) rfl
theorem q2687 : (Jvm.Cond.castable "CheckoutDesk$Version" "CheckoutDesk$Content") ∈ lw_tbl := lw_at lw_m12 5 rfl
theorem q2704 : (Jvm.Cond.castable "CheckoutDesk$Version" "java/lang/Object") ∈ lw_tbl := lw_at lw_m12 22 rfl
theorem in_X12 : ∀ w ∈ wsX120, w ∈ lw_all := lw_in wsX120 [1219, 1207, 1209, 1211, 1213, 1215, 1217] (by decide +kernel) (by decide +kernel)
/-! CheckoutDesk$Link -/
set_option maxRecDepth 100000
def RX13 : String := "CheckoutDesk$Link"
def TX13 : u_T := fun k => match k with
  | 0 => ("CheckoutDesk$Link", "from", "I", true)
  | 1 => ("CheckoutDesk$Link", "target", "I", true)
  | 2 => ("CheckoutDesk$Link", "kind", "I", true)
  | _ => ("CheckoutDesk$Link", "version", "LCheckoutDesk$Version;", true)
def tyX13 : Nat → FieldType := fun k => match k with
  | 0 => .int
  | 1 => .int
  | 2 => .int
  | _ => .object "CheckoutDesk$Version"
abbrev wsX130 : List Cond := u_ws RX13 TX13 4
theorem nmX13 : ∀ a, a < 4 → ∀ b, b < 4 → a ≠ b → (TX13 a).2.1 ≠ (TX13 b).2.1 := by decide +kernel
theorem tyX13_ok : ∀ k, k < 4 → parseFieldDescriptor (TX13 k).2.2.1 = some (tyX13 k) := by decide +kernel
abbrev cX13_init : ByteArray := prog_28_method_1_code
def yX13_init : MethodName := ⟨RX13, "<init>", "(IIILCheckoutDesk$Version;)V"⟩
def dkwX13_init_1 : List UInt8 := [181, 0, 19, 177]
abbrev dktX13_init_1 : List UInt8 := dkwX13_init_1 ++ []
def dkwX13_init_0 : List UInt8 := [42, 183, 0, 1, 42, 27, 181, 0, 7, 42, 28, 181, 0, 13, 42, 29, 181, 0, 16, 42, 25, 4]
abbrev dktX13_init_0 : List UInt8 := dkwX13_init_0 ++ dktX13_init_1
theorem dksX13_init_0 : cX13_init.data.toList.drop 0 = dktX13_init_0 := by decide +kernel
theorem dksX13_init_1 : cX13_init.data.toList.drop 22 = dktX13_init_1 := dk_seg dksX13_init_0 22 rfl rfl
theorem dX13_init_0 : decode cX13_init 0 = .ok (.aload_n 0, 1) := dk_42 (dk_at dksX13_init_0 0 rfl rfl)
theorem dX13_init_1 : decode cX13_init 1 = .ok (.invokespecial 1, 3) := dk_183 0 1 (dk_at dksX13_init_0 1 rfl rfl)
theorem dX13_init_4 : decode cX13_init 4 = .ok (.aload_n 0, 1) := dk_42 (dk_at dksX13_init_0 4 rfl rfl)
theorem dX13_init_5 : decode cX13_init 5 = .ok (.iload_n 1, 1) := dk_27 (dk_at dksX13_init_0 5 rfl rfl)
theorem dX13_init_6 : decode cX13_init 6 = .ok (.putfield 7, 3) := dk_181 0 7 (dk_at dksX13_init_0 6 rfl rfl)
theorem dX13_init_9 : decode cX13_init 9 = .ok (.aload_n 0, 1) := dk_42 (dk_at dksX13_init_0 9 rfl rfl)
theorem dX13_init_10 : decode cX13_init 10 = .ok (.iload_n 2, 1) := dk_28 (dk_at dksX13_init_0 10 rfl rfl)
theorem dX13_init_11 : decode cX13_init 11 = .ok (.putfield 13, 3) := dk_181 0 13 (dk_at dksX13_init_0 11 rfl rfl)
theorem dX13_init_14 : decode cX13_init 14 = .ok (.aload_n 0, 1) := dk_42 (dk_at dksX13_init_0 14 rfl rfl)
theorem dX13_init_15 : decode cX13_init 15 = .ok (.iload_n 3, 1) := dk_29 (dk_at dksX13_init_0 15 rfl rfl)
theorem dX13_init_16 : decode cX13_init 16 = .ok (.putfield 16, 3) := dk_181 0 16 (dk_at dksX13_init_0 16 rfl rfl)
theorem dX13_init_19 : decode cX13_init 19 = .ok (.aload_n 0, 1) := dk_42 (dk_at dksX13_init_0 19 rfl rfl)
theorem dX13_init_20 : decode cX13_init 20 = .ok (.aload 4, 2) := dk_25 4 (dk_at dksX13_init_0 20 rfl rfl)
theorem dX13_init_22 : decode cX13_init 22 = .ok (.putfield 19, 3) := dk_181 0 19 (dk_at dksX13_init_1 0 rfl rfl)
theorem dX13_init_25 : decode cX13_init 25 = .ok (.return_, 1) := dk_177 (dk_at dksX13_init_1 3 rfl rfl)
theorem q78 : (Jvm.Cond.initialized "CheckoutDesk$Link") ∈ lw_all := lw_g (lw_at lw_m1 36 rfl) rfl
theorem q1123 : (Jvm.Cond.selects "CheckoutDesk$Link" ({ cls := "java/lang/Object", name := "getClass", desc := "()Ljava/lang/Class;" } : Jvm.MethodName) ({ cls := "java/lang/Object", name := "getClass", desc := "()Ljava/lang/Class;" } : Jvm.MethodName)) ∈ lw_all := lw_g (lw_at lw_m5 121 rfl) rfl
theorem q1257 : (Jvm.Cond.instantiable "CheckoutDesk$Link" (4 : Nat)) ∈ lw_all := lw_g (lw_at lw_m6 15 rfl) rfl
theorem q1259 : (Jvm.Cond.instanceMethod ({ cls := "CheckoutDesk$Link", name := "<init>", desc := "(IIILCheckoutDesk$Version;)V" } : Jvm.MethodName)) ∈ lw_all := lw_g (lw_at lw_m6 17 rfl) rfl
theorem q1260 : (Jvm.Cond.code ({ cls := "CheckoutDesk$Link", name := "<init>", desc := "(IIILCheckoutDesk$Version;)V" } : Jvm.MethodName) prog_28_method_1_code (5 : Nat) (Option.none : Option Jvm.ClassFile.FieldType)) ∈ lw_all := lw_g (lw_at lw_m6 18 rfl) rfl
theorem q1261 : (Jvm.Cond.methodLink "CheckoutDesk$Link" (1 : Nat) ({ cls := "java/lang/Object", name := "<init>", desc := "()V" } : Jvm.MethodName)) ∈ lw_all := lw_g (lw_at lw_m6 19 rfl) rfl
theorem q1262 : (Jvm.Cond.fieldLink "CheckoutDesk$Link" (7 : Nat) "CheckoutDesk$Link" "from" "I") ∈ lw_all := lw_g (lw_at lw_m6 20 rfl) rfl
theorem q1264 : (Jvm.Cond.fieldLink "CheckoutDesk$Link" (13 : Nat) "CheckoutDesk$Link" "target" "I") ∈ lw_all := lw_g (lw_at lw_m6 22 rfl) rfl
theorem q1266 : (Jvm.Cond.fieldLink "CheckoutDesk$Link" (16 : Nat) "CheckoutDesk$Link" "kind" "I") ∈ lw_all := lw_g (lw_at lw_m6 24 rfl) rfl
theorem q1269 : (Jvm.Cond.fieldLink "CheckoutDesk$Link" (19 : Nat) "CheckoutDesk$Link" "version" "LCheckoutDesk$Version;") ∈ lw_all := lw_g (lw_at lw_m6 27 rfl) rfl
theorem q1272 : (Jvm.Cond.laysFinal "CheckoutDesk$Link" "CheckoutDesk$Link" "from" "I") ∈ lw_all := lw_g (lw_at lw_m6 30 rfl) rfl
theorem q1273 : (Jvm.Cond.soleField "CheckoutDesk$Link" "from") ∈ lw_all := lw_g (lw_at lw_m6 31 rfl) rfl
theorem q1274 : (Jvm.Cond.laysFinal "CheckoutDesk$Link" "CheckoutDesk$Link" "target" "I") ∈ lw_all := lw_g (lw_at lw_m6 32 rfl) rfl
theorem q1275 : (Jvm.Cond.soleField "CheckoutDesk$Link" "target") ∈ lw_all := lw_g (lw_at lw_m6 33 rfl) rfl
theorem q1276 : (Jvm.Cond.laysFinal "CheckoutDesk$Link" "CheckoutDesk$Link" "kind" "I") ∈ lw_all := lw_g (lw_at lw_m6 34 rfl) rfl
theorem q1277 : (Jvm.Cond.soleField "CheckoutDesk$Link" "kind") ∈ lw_all := lw_g (lw_at lw_m6 35 rfl) rfl
theorem q1278 : (Jvm.Cond.laysFinal "CheckoutDesk$Link" "CheckoutDesk$Link" "version" "LCheckoutDesk$Version;") ∈ lw_all := lw_g (lw_at lw_m6 36 rfl) rfl
theorem q1279 : (Jvm.Cond.soleField "CheckoutDesk$Link" "version") ∈ lw_all := lw_g (lw_at lw_m6 37 rfl) rfl
theorem q1280 : (Jvm.Cond.superclass "CheckoutDesk$Link" "java/lang/Object") ∈ lw_all := lw_g (lw_at lw_m6 38 rfl) rfl
theorem q2733 : (Jvm.Cond.castable "CheckoutDesk$Link" "java/lang/Object") ∈ lw_tbl := lw_at lw_m12 51 rfl
theorem in_X13 : ∀ w ∈ wsX130, w ∈ lw_all := lw_in wsX130 [1272, 1274, 1276, 1278] (by decide +kernel) (by decide +kernel)
/-! CheckoutDesk$Document -/
set_option maxRecDepth 100000
def RX14 : String := "CheckoutDesk$Document"
def TX14 : u_T := fun k => match k with
  | 0 => ("CheckoutDesk$Document", "owner", "I", true)
  | 1 => ("CheckoutDesk$Document", "rights", "[I", true)
  | _ => ("CheckoutDesk$Document", "branches", "LCheckoutDesk$Row;", true)
def tyX14 : Nat → FieldType := fun k => match k with
  | 0 => .int
  | 1 => .array .int
  | _ => .object "CheckoutDesk$Row"
abbrev wsX140 : List Cond := u_ws RX14 TX14 3
theorem nmX14 : ∀ a, a < 3 → ∀ b, b < 3 → a ≠ b → (TX14 a).2.1 ≠ (TX14 b).2.1 := by decide +kernel
theorem tyX14_ok : ∀ k, k < 3 → parseFieldDescriptor (TX14 k).2.2.1 = some (tyX14 k) := by decide +kernel
abbrev cX14_init : ByteArray := prog_26_method_1_code
def yX14_init : MethodName := ⟨RX14, "<init>", "(I)V"⟩
def dkwX14_init_2 : List UInt8 := [182, 0, 33, 87, 177]
abbrev dktX14_init_2 : List UInt8 := dkwX14_init_2 ++ []
def dkwX14_init_1 : List UInt8 := [42, 27, 181, 0, 24, 42, 180, 0, 9, 27, 5, 79, 42, 180, 0, 20, 187, 0, 28, 89, 1, 183, 0, 30]
abbrev dktX14_init_1 : List UInt8 := dkwX14_init_1 ++ dktX14_init_2
def dkwX14_init_0 : List UInt8 := [42, 183, 0, 3, 42, 16, 6, 188, 10, 181, 0, 9, 42, 187, 0, 15, 89, 6, 183, 0, 17, 181, 0, 20]
abbrev dktX14_init_0 : List UInt8 := dkwX14_init_0 ++ dktX14_init_1
theorem dksX14_init_0 : cX14_init.data.toList.drop 0 = dktX14_init_0 := by decide +kernel
theorem dksX14_init_1 : cX14_init.data.toList.drop 24 = dktX14_init_1 := dk_seg dksX14_init_0 24 rfl rfl
theorem dksX14_init_2 : cX14_init.data.toList.drop 48 = dktX14_init_2 := dk_seg dksX14_init_1 24 rfl rfl
theorem dX14_init_0 : decode cX14_init 0 = .ok (.aload_n 0, 1) := dk_42 (dk_at dksX14_init_0 0 rfl rfl)
theorem dX14_init_1 : decode cX14_init 1 = .ok (.invokespecial 3, 3) := dk_183 0 3 (dk_at dksX14_init_0 1 rfl rfl)
theorem dX14_init_4 : decode cX14_init 4 = .ok (.aload_n 0, 1) := dk_42 (dk_at dksX14_init_0 4 rfl rfl)
theorem dX14_init_5 : decode cX14_init 5 = .ok (.bipush 6, 2) := dk_16 6 (dk_at dksX14_init_0 5 rfl rfl)
theorem dX14_init_7 : decode cX14_init 7 = .ok (.newarray .int, 2) := dk_188_10 (dk_at dksX14_init_0 7 rfl rfl)
theorem dX14_init_9 : decode cX14_init 9 = .ok (.putfield 9, 3) := dk_181 0 9 (dk_at dksX14_init_0 9 rfl rfl)
theorem dX14_init_12 : decode cX14_init 12 = .ok (.aload_n 0, 1) := dk_42 (dk_at dksX14_init_0 12 rfl rfl)
theorem dX14_init_13 : decode cX14_init 13 = .ok (.new 15, 3) := dk_187 0 15 (dk_at dksX14_init_0 13 rfl rfl)
theorem dX14_init_16 : decode cX14_init 16 = .ok (.dup, 1) := dk_89 (dk_at dksX14_init_0 16 rfl rfl)
theorem dX14_init_17 : decode cX14_init 17 = .ok (.iconst 3, 1) := dk_6 (dk_at dksX14_init_0 17 rfl rfl)
theorem dX14_init_18 : decode cX14_init 18 = .ok (.invokespecial 17, 3) := dk_183 0 17 (dk_at dksX14_init_0 18 rfl rfl)
theorem dX14_init_21 : decode cX14_init 21 = .ok (.putfield 20, 3) := dk_181 0 20 (dk_at dksX14_init_0 21 rfl rfl)
theorem dX14_init_24 : decode cX14_init 24 = .ok (.aload_n 0, 1) := dk_42 (dk_at dksX14_init_1 0 rfl rfl)
theorem dX14_init_25 : decode cX14_init 25 = .ok (.iload_n 1, 1) := dk_27 (dk_at dksX14_init_1 1 rfl rfl)
theorem dX14_init_26 : decode cX14_init 26 = .ok (.putfield 24, 3) := dk_181 0 24 (dk_at dksX14_init_1 2 rfl rfl)
theorem dX14_init_29 : decode cX14_init 29 = .ok (.aload_n 0, 1) := dk_42 (dk_at dksX14_init_1 5 rfl rfl)
theorem dX14_init_30 : decode cX14_init 30 = .ok (.getfield 9, 3) := dk_180 0 9 (dk_at dksX14_init_1 6 rfl rfl)
theorem dX14_init_33 : decode cX14_init 33 = .ok (.iload_n 1, 1) := dk_27 (dk_at dksX14_init_1 9 rfl rfl)
theorem dX14_init_34 : decode cX14_init 34 = .ok (.iconst 2, 1) := dk_5 (dk_at dksX14_init_1 10 rfl rfl)
theorem dX14_init_35 : decode cX14_init 35 = .ok (.iastore, 1) := dk_79 (dk_at dksX14_init_1 11 rfl rfl)
theorem dX14_init_36 : decode cX14_init 36 = .ok (.aload_n 0, 1) := dk_42 (dk_at dksX14_init_1 12 rfl rfl)
theorem dX14_init_37 : decode cX14_init 37 = .ok (.getfield 20, 3) := dk_180 0 20 (dk_at dksX14_init_1 13 rfl rfl)
theorem dX14_init_40 : decode cX14_init 40 = .ok (.new 28, 3) := dk_187 0 28 (dk_at dksX14_init_1 16 rfl rfl)
theorem dX14_init_43 : decode cX14_init 43 = .ok (.dup, 1) := dk_89 (dk_at dksX14_init_1 19 rfl rfl)
theorem dX14_init_44 : decode cX14_init 44 = .ok (.aconst_null, 1) := dk_1 (dk_at dksX14_init_1 20 rfl rfl)
theorem dX14_init_45 : decode cX14_init 45 = .ok (.invokespecial 30, 3) := dk_183 0 30 (dk_at dksX14_init_1 21 rfl rfl)
theorem dX14_init_48 : decode cX14_init 48 = .ok (.invokevirtual 33, 3) := dk_182 0 33 (dk_at dksX14_init_2 0 rfl rfl)
theorem dX14_init_51 : decode cX14_init 51 = .ok (.pop, 1) := dk_87 (dk_at dksX14_init_2 3 rfl rfl)
theorem dX14_init_52 : decode cX14_init 52 = .ok (.return_, 1) := dk_177 (dk_at dksX14_init_2 4 rfl rfl)
theorem q79 : (Jvm.Cond.initialized "CheckoutDesk$Document") ∈ lw_all := lw_g (lw_at lw_m1 37 rfl) rfl
theorem q1121 : (Jvm.Cond.selects "CheckoutDesk$Document" ({ cls := "java/lang/Object", name := "getClass", desc := "()Ljava/lang/Class;" } : Jvm.MethodName) ({ cls := "java/lang/Object", name := "getClass", desc := "()Ljava/lang/Class;" } : Jvm.MethodName)) ∈ lw_all := lw_g (lw_at lw_m5 119 rfl) rfl
theorem q1342 : (Jvm.Cond.instantiable "CheckoutDesk$Document" (3 : Nat)) ∈ lw_all := lw_g (lw_at lw_m6 100 rfl) rfl
theorem q1344 : (Jvm.Cond.instanceMethod ({ cls := "CheckoutDesk$Document", name := "<init>", desc := "(I)V" } : Jvm.MethodName)) ∈ lw_all := lw_g (lw_at lw_m6 102 rfl) rfl
theorem q1345 : (Jvm.Cond.code ({ cls := "CheckoutDesk$Document", name := "<init>", desc := "(I)V" } : Jvm.MethodName) prog_26_method_1_code (2 : Nat) (Option.none : Option Jvm.ClassFile.FieldType)) ∈ lw_all := lw_g (lw_at lw_m6 103 rfl) rfl
theorem q1346 : (Jvm.Cond.methodLink "CheckoutDesk$Document" (3 : Nat) ({ cls := "java/lang/Object", name := "<init>", desc := "()V" } : Jvm.MethodName)) ∈ lw_all := lw_g (lw_at lw_m6 104 rfl) rfl
theorem q1347 : (Jvm.Cond.classLink "CheckoutDesk$Document" (15 : Nat) "CheckoutDesk$Row") ∈ lw_all := lw_g (lw_at lw_m6 105 rfl) rfl
theorem q1348 : (Jvm.Cond.methodLink "CheckoutDesk$Document" (17 : Nat) ({ cls := "CheckoutDesk$Row", name := "<init>", desc := "(I)V" } : Jvm.MethodName)) ∈ lw_all := lw_g (lw_at lw_m6 106 rfl) rfl
theorem q1349 : (Jvm.Cond.classLink "CheckoutDesk$Document" (28 : Nat) "CheckoutDesk$Branch") ∈ lw_all := lw_g (lw_at lw_m6 107 rfl) rfl
theorem q1350 : (Jvm.Cond.methodLink "CheckoutDesk$Document" (30 : Nat) ({ cls := "CheckoutDesk$Branch", name := "<init>", desc := "(LCheckoutDesk$Version;)V" } : Jvm.MethodName)) ∈ lw_all := lw_g (lw_at lw_m6 108 rfl) rfl
theorem q1351 : (Jvm.Cond.methodLink "CheckoutDesk$Document" (33 : Nat) ({ cls := "CheckoutDesk$Row", name := "add", desc := "(Ljava/lang/Object;)I" } : Jvm.MethodName)) ∈ lw_all := lw_g (lw_at lw_m6 109 rfl) rfl
theorem q1352 : (Jvm.Cond.fieldLink "CheckoutDesk$Document" (24 : Nat) "CheckoutDesk$Document" "owner" "I") ∈ lw_all := lw_g (lw_at lw_m6 110 rfl) rfl
theorem q1357 : (Jvm.Cond.fieldLink "CheckoutDesk$Document" (9 : Nat) "CheckoutDesk$Document" "rights" "[I") ∈ lw_all := lw_g (lw_at lw_m6 115 rfl) rfl
theorem q1361 : (Jvm.Cond.fieldLink "CheckoutDesk$Document" (20 : Nat) "CheckoutDesk$Document" "branches" "LCheckoutDesk$Row;") ∈ lw_all := lw_g (lw_at lw_m6 119 rfl) rfl
theorem q1365 : (Jvm.Cond.laysFinal "CheckoutDesk$Document" "CheckoutDesk$Document" "owner" "I") ∈ lw_all := lw_g (lw_at lw_m6 123 rfl) rfl
theorem q1366 : (Jvm.Cond.soleField "CheckoutDesk$Document" "owner") ∈ lw_all := lw_g (lw_at lw_m6 124 rfl) rfl
theorem q1367 : (Jvm.Cond.laysFinal "CheckoutDesk$Document" "CheckoutDesk$Document" "rights" "[I") ∈ lw_all := lw_g (lw_at lw_m6 125 rfl) rfl
theorem q1368 : (Jvm.Cond.soleField "CheckoutDesk$Document" "rights") ∈ lw_all := lw_g (lw_at lw_m6 126 rfl) rfl
theorem q1369 : (Jvm.Cond.laysFinal "CheckoutDesk$Document" "CheckoutDesk$Document" "branches" "LCheckoutDesk$Row;") ∈ lw_all := lw_g (lw_at lw_m6 127 rfl) rfl
theorem q1370 : (Jvm.Cond.soleField "CheckoutDesk$Document" "branches") ∈ lw_all := lw_g (lw_at lw_m6 128 rfl) rfl
theorem q1371 : (Jvm.Cond.superclass "CheckoutDesk$Document" "java/lang/Object") ∈ lw_all := lw_g (lw_at lw_m6 129 rfl) rfl
theorem q2701 : (Jvm.Cond.castable "CheckoutDesk$Document" "java/lang/Object") ∈ lw_tbl := lw_at lw_m12 19 rfl
theorem in_X14 : ∀ w ∈ wsX140, w ∈ lw_all := lw_in wsX140 [1365, 1367, 1369] (by decide +kernel) (by decide +kernel)
/-! CheckoutDesk$Copy -/
set_option maxRecDepth 100000
def RX15 : String := "CheckoutDesk$Copy"
def TX15 : u_T := fun k => match k with
  | 0 => ("CheckoutDesk$Content", "values", "[I", true)
  | 1 => ("CheckoutDesk$Copy", "origin", "LCheckoutDesk$Version;", true)
  | 2 => ("CheckoutDesk$Copy", "holder", "I", true)
  | _ => ("CheckoutDesk$Copy", "since", "I", false)
def tyX15 : Nat → FieldType := fun k => match k with
  | 0 => .array .int
  | 1 => .object "CheckoutDesk$Version"
  | 2 => .int
  | _ => .int
abbrev wsX150 : List Cond := u_ws RX15 TX15 4
theorem nmX15 : ∀ a, a < 4 → ∀ b, b < 4 → a ≠ b → (TX15 a).2.1 ≠ (TX15 b).2.1 := by decide +kernel
theorem tyX15_ok : ∀ k, k < 4 → parseFieldDescriptor (TX15 k).2.2.1 = some (tyX15 k) := by decide +kernel
abbrev cX15_init : ByteArray := prog_25_method_1_code
def yX15_init : MethodName := ⟨RX15, "<init>", "(LCheckoutDesk$Version;II)V"⟩
def dkwX15_init_0 : List UInt8 := [42, 43, 183, 0, 1, 42, 43, 181, 0, 7, 42, 28, 181, 0, 13, 42, 29, 181, 0, 17, 177]
abbrev dktX15_init_0 : List UInt8 := dkwX15_init_0 ++ []
theorem dksX15_init_0 : cX15_init.data.toList.drop 0 = dktX15_init_0 := by decide +kernel
theorem dX15_init_0 : decode cX15_init 0 = .ok (.aload_n 0, 1) := dk_42 (dk_at dksX15_init_0 0 rfl rfl)
theorem dX15_init_1 : decode cX15_init 1 = .ok (.aload_n 1, 1) := dk_43 (dk_at dksX15_init_0 1 rfl rfl)
theorem dX15_init_2 : decode cX15_init 2 = .ok (.invokespecial 1, 3) := dk_183 0 1 (dk_at dksX15_init_0 2 rfl rfl)
theorem dX15_init_5 : decode cX15_init 5 = .ok (.aload_n 0, 1) := dk_42 (dk_at dksX15_init_0 5 rfl rfl)
theorem dX15_init_6 : decode cX15_init 6 = .ok (.aload_n 1, 1) := dk_43 (dk_at dksX15_init_0 6 rfl rfl)
theorem dX15_init_7 : decode cX15_init 7 = .ok (.putfield 7, 3) := dk_181 0 7 (dk_at dksX15_init_0 7 rfl rfl)
theorem dX15_init_10 : decode cX15_init 10 = .ok (.aload_n 0, 1) := dk_42 (dk_at dksX15_init_0 10 rfl rfl)
theorem dX15_init_11 : decode cX15_init 11 = .ok (.iload_n 2, 1) := dk_28 (dk_at dksX15_init_0 11 rfl rfl)
theorem dX15_init_12 : decode cX15_init 12 = .ok (.putfield 13, 3) := dk_181 0 13 (dk_at dksX15_init_0 12 rfl rfl)
theorem dX15_init_15 : decode cX15_init 15 = .ok (.aload_n 0, 1) := dk_42 (dk_at dksX15_init_0 15 rfl rfl)
theorem dX15_init_16 : decode cX15_init 16 = .ok (.iload_n 3, 1) := dk_29 (dk_at dksX15_init_0 16 rfl rfl)
theorem dX15_init_17 : decode cX15_init 17 = .ok (.putfield 17, 3) := dk_181 0 17 (dk_at dksX15_init_0 17 rfl rfl)
theorem dX15_init_20 : decode cX15_init 20 = .ok (.return_, 1) := dk_177 (dk_at dksX15_init_0 20 rfl rfl)
theorem q80 : (Jvm.Cond.initialized "CheckoutDesk$Copy") ∈ lw_all := lw_g (lw_at lw_m1 38 rfl) rfl
theorem q428 : (Jvm.Cond.selects "CheckoutDesk$Copy" ({ cls := "CheckoutDesk$Content", name := "isGone", desc := "()Z" } : Jvm.MethodName) ({ cls := "CheckoutDesk$Content", name := "isGone", desc := "()Z" } : Jvm.MethodName)) ∈ lw_all := lw_g (lw_at lw_m2 146 rfl) rfl
theorem q1120 : (Jvm.Cond.selects "CheckoutDesk$Copy" ({ cls := "java/lang/Object", name := "getClass", desc := "()Ljava/lang/Class;" } : Jvm.MethodName) ({ cls := "java/lang/Object", name := "getClass", desc := "()Ljava/lang/Class;" } : Jvm.MethodName)) ∈ lw_all := lw_g (lw_at lw_m5 118 rfl) rfl
theorem q1202 : (Jvm.Cond.sameField "CheckoutDesk$Copy" "CheckoutDesk$Content" "values" "[I") ∈ lw_all := lw_g (lw_at lw_m5 200 rfl) rfl
theorem q1401 : (Jvm.Cond.instantiable "CheckoutDesk$Copy" (4 : Nat)) ∈ lw_all := lw_g (lw_at lw_m6 159 rfl) rfl
theorem q1404 : (Jvm.Cond.instanceMethod ({ cls := "CheckoutDesk$Copy", name := "<init>", desc := "(LCheckoutDesk$Version;II)V" } : Jvm.MethodName)) ∈ lw_all := lw_g (lw_at lw_m6 162 rfl) rfl
theorem q1405 : (Jvm.Cond.code ({ cls := "CheckoutDesk$Copy", name := "<init>", desc := "(LCheckoutDesk$Version;II)V" } : Jvm.MethodName) prog_25_method_1_code (4 : Nat) (Option.none : Option Jvm.ClassFile.FieldType)) ∈ lw_all := lw_g (lw_at lw_m6 163 rfl) rfl
theorem q1406 : (Jvm.Cond.methodLink "CheckoutDesk$Copy" (1 : Nat) ({ cls := "CheckoutDesk$Content", name := "<init>", desc := "(LCheckoutDesk$Content;)V" } : Jvm.MethodName)) ∈ lw_all := lw_g (lw_at lw_m6 164 rfl) rfl
theorem q1407 : (Jvm.Cond.fieldLink "CheckoutDesk$Copy" (7 : Nat) "CheckoutDesk$Copy" "origin" "LCheckoutDesk$Version;") ∈ lw_all := lw_g (lw_at lw_m6 165 rfl) rfl
theorem q1410 : (Jvm.Cond.fieldLink "CheckoutDesk$Copy" (13 : Nat) "CheckoutDesk$Copy" "holder" "I") ∈ lw_all := lw_g (lw_at lw_m6 168 rfl) rfl
theorem q1413 : (Jvm.Cond.fieldLink "CheckoutDesk$Copy" (17 : Nat) "CheckoutDesk$Copy" "since" "I") ∈ lw_all := lw_g (lw_at lw_m6 171 rfl) rfl
theorem q1417 : (Jvm.Cond.laysFinal "CheckoutDesk$Copy" "CheckoutDesk$Copy" "origin" "LCheckoutDesk$Version;") ∈ lw_all := lw_g (lw_at lw_m6 175 rfl) rfl
theorem q1418 : (Jvm.Cond.soleField "CheckoutDesk$Copy" "origin") ∈ lw_all := lw_g (lw_at lw_m6 176 rfl) rfl
theorem q1419 : (Jvm.Cond.laysFinal "CheckoutDesk$Copy" "CheckoutDesk$Copy" "holder" "I") ∈ lw_all := lw_g (lw_at lw_m6 177 rfl) rfl
theorem q1420 : (Jvm.Cond.soleField "CheckoutDesk$Copy" "holder") ∈ lw_all := lw_g (lw_at lw_m6 178 rfl) rfl
theorem q1421 : (Jvm.Cond.lays "CheckoutDesk$Copy" "CheckoutDesk$Copy" "since" "I") ∈ lw_all := lw_g (lw_at lw_m6 179 rfl) rfl
theorem q1422 : (Jvm.Cond.soleField "CheckoutDesk$Copy" "since") ∈ lw_all := lw_g (lw_at lw_m6 180 rfl) rfl
theorem q1423 : (Jvm.Cond.laysFinal "CheckoutDesk$Copy" "CheckoutDesk$Content" "values" "[I") ∈ lw_all := lw_g (lw_at lw_m6 181 rfl) rfl
theorem q1424 : (Jvm.Cond.superclass "CheckoutDesk$Copy" "CheckoutDesk$Content") ∈ lw_all := lw_g (lw_at lw_m6 182 rfl) rfl
theorem q2686 : (Jvm.Cond.castable "CheckoutDesk$Copy" "CheckoutDesk$Content") ∈ lw_tbl := lw_at lw_m12 4 rfl
theorem q2708 : (Jvm.Cond.castable "CheckoutDesk$Copy" "java/lang/Object") ∈ lw_tbl := lw_at lw_m12 26 rfl
theorem in_X15 : ∀ w ∈ wsX150, w ∈ lw_all := lw_in wsX150 [1423, 1417, 1419, 1421] (by decide +kernel) (by decide +kernel)
/-! CheckoutDesk$Event -/
set_option maxRecDepth 100000
def RX16 : String := "CheckoutDesk$Event"
def TX16 : u_T := fun k => match k with
  | 0 => ("CheckoutDesk$Event", "act", "LCheckoutDesk$Act;", true)
  | _ => ("CheckoutDesk$Event", "hour", "I", true)
def tyX16 : Nat → FieldType := fun k => match k with
  | 0 => .object "CheckoutDesk$Act"
  | _ => .int
abbrev wsX160 : List Cond := u_ws RX16 TX16 2
theorem nmX16 : ∀ a, a < 2 → ∀ b, b < 2 → a ≠ b → (TX16 a).2.1 ≠ (TX16 b).2.1 := by decide +kernel
theorem tyX16_ok : ∀ k, k < 2 → parseFieldDescriptor (TX16 k).2.2.1 = some (tyX16 k) := by decide +kernel
abbrev cX16_init : ByteArray := prog_27_method_1_code
def yX16_init : MethodName := ⟨RX16, "<init>", "(LCheckoutDesk$Act;I)V"⟩
def dkwX16_init_0 : List UInt8 := [42, 183, 0, 1, 42, 43, 181, 0, 7, 42, 28, 181, 0, 13, 177]
abbrev dktX16_init_0 : List UInt8 := dkwX16_init_0 ++ []
theorem dksX16_init_0 : cX16_init.data.toList.drop 0 = dktX16_init_0 := by decide +kernel
theorem dX16_init_0 : decode cX16_init 0 = .ok (.aload_n 0, 1) := dk_42 (dk_at dksX16_init_0 0 rfl rfl)
theorem dX16_init_1 : decode cX16_init 1 = .ok (.invokespecial 1, 3) := dk_183 0 1 (dk_at dksX16_init_0 1 rfl rfl)
theorem dX16_init_4 : decode cX16_init 4 = .ok (.aload_n 0, 1) := dk_42 (dk_at dksX16_init_0 4 rfl rfl)
theorem dX16_init_5 : decode cX16_init 5 = .ok (.aload_n 1, 1) := dk_43 (dk_at dksX16_init_0 5 rfl rfl)
theorem dX16_init_6 : decode cX16_init 6 = .ok (.putfield 7, 3) := dk_181 0 7 (dk_at dksX16_init_0 6 rfl rfl)
theorem dX16_init_9 : decode cX16_init 9 = .ok (.aload_n 0, 1) := dk_42 (dk_at dksX16_init_0 9 rfl rfl)
theorem dX16_init_10 : decode cX16_init 10 = .ok (.iload_n 2, 1) := dk_28 (dk_at dksX16_init_0 10 rfl rfl)
theorem dX16_init_11 : decode cX16_init 11 = .ok (.putfield 13, 3) := dk_181 0 13 (dk_at dksX16_init_0 11 rfl rfl)
theorem dX16_init_14 : decode cX16_init 14 = .ok (.return_, 1) := dk_177 (dk_at dksX16_init_0 14 rfl rfl)
theorem q81 : (Jvm.Cond.initialized "CheckoutDesk$Event") ∈ lw_all := lw_g (lw_at lw_m1 39 rfl) rfl
theorem q1122 : (Jvm.Cond.selects "CheckoutDesk$Event" ({ cls := "java/lang/Object", name := "getClass", desc := "()Ljava/lang/Class;" } : Jvm.MethodName) ({ cls := "java/lang/Object", name := "getClass", desc := "()Ljava/lang/Class;" } : Jvm.MethodName)) ∈ lw_all := lw_g (lw_at lw_m5 120 rfl) rfl
theorem q1768 : (Jvm.Cond.instantiable "CheckoutDesk$Event" (2 : Nat)) ∈ lw_all := lw_g (lw_at lw_m8 46 rfl) rfl
theorem q1770 : (Jvm.Cond.instanceMethod ({ cls := "CheckoutDesk$Event", name := "<init>", desc := "(LCheckoutDesk$Act;I)V" } : Jvm.MethodName)) ∈ lw_all := lw_g (lw_at lw_m8 48 rfl) rfl
theorem q1771 : (Jvm.Cond.code ({ cls := "CheckoutDesk$Event", name := "<init>", desc := "(LCheckoutDesk$Act;I)V" } : Jvm.MethodName) prog_27_method_1_code (3 : Nat) (Option.none : Option Jvm.ClassFile.FieldType)) ∈ lw_all := lw_g (lw_at lw_m8 49 rfl) rfl
theorem q1772 : (Jvm.Cond.methodLink "CheckoutDesk$Event" (1 : Nat) ({ cls := "java/lang/Object", name := "<init>", desc := "()V" } : Jvm.MethodName)) ∈ lw_all := lw_g (lw_at lw_m8 50 rfl) rfl
theorem q1773 : (Jvm.Cond.fieldLink "CheckoutDesk$Event" (7 : Nat) "CheckoutDesk$Event" "act" "LCheckoutDesk$Act;") ∈ lw_all := lw_g (lw_at lw_m8 51 rfl) rfl
theorem q1775 : (Jvm.Cond.fieldLink "CheckoutDesk$Event" (13 : Nat) "CheckoutDesk$Event" "hour" "I") ∈ lw_all := lw_g (lw_at lw_m8 53 rfl) rfl
theorem q1777 : (Jvm.Cond.laysFinal "CheckoutDesk$Event" "CheckoutDesk$Event" "act" "LCheckoutDesk$Act;") ∈ lw_all := lw_g (lw_at lw_m8 55 rfl) rfl
theorem q1778 : (Jvm.Cond.soleField "CheckoutDesk$Event" "act") ∈ lw_all := lw_g (lw_at lw_m8 56 rfl) rfl
theorem q1779 : (Jvm.Cond.laysFinal "CheckoutDesk$Event" "CheckoutDesk$Event" "hour" "I") ∈ lw_all := lw_g (lw_at lw_m8 57 rfl) rfl
theorem q1780 : (Jvm.Cond.soleField "CheckoutDesk$Event" "hour") ∈ lw_all := lw_g (lw_at lw_m8 58 rfl) rfl
theorem q1781 : (Jvm.Cond.superclass "CheckoutDesk$Event" "java/lang/Object") ∈ lw_all := lw_g (lw_at lw_m8 59 rfl) rfl
theorem q2696 : (Jvm.Cond.castable "CheckoutDesk$Event" "java/lang/Object") ∈ lw_tbl := lw_at lw_m12 14 rfl
theorem in_X16 : ∀ w ∈ wsX160, w ∈ lw_all := lw_in wsX160 [1777, 1779] (by decide +kernel) (by decide +kernel)
