/-! CheckoutDeskLaw -/
set_option maxRecDepth 100000
def RX0 : String := "CheckoutDeskLaw"
abbrev cX0_pass : ByteArray := method_3_code
def yX0_pass : MethodName := ⟨RX0, "pass", "(LCheckoutDesk;I[J)I"⟩
def dkwX0_pass_0 : List UInt8 := [44, 3, 42, 27, 182, 0, 7, 133, 80, 167, 0, 9, 78, 4, 172, 78, 5, 172, 3, 172]
abbrev dktX0_pass_0 : List UInt8 := dkwX0_pass_0 ++ []
theorem dksX0_pass_0 : cX0_pass.data.toList.drop 0 = dktX0_pass_0 := by decide +kernel
theorem dX0_pass_0 : decode cX0_pass 0 = .ok (.aload_n 2, 1) := dk_44 (dk_at dksX0_pass_0 0 rfl rfl)
theorem dX0_pass_1 : decode cX0_pass 1 = .ok (.iconst 0, 1) := dk_3 (dk_at dksX0_pass_0 1 rfl rfl)
theorem dX0_pass_2 : decode cX0_pass 2 = .ok (.aload_n 0, 1) := dk_42 (dk_at dksX0_pass_0 2 rfl rfl)
theorem dX0_pass_3 : decode cX0_pass 3 = .ok (.iload_n 1, 1) := dk_27 (dk_at dksX0_pass_0 3 rfl rfl)
theorem dX0_pass_4 : decode cX0_pass 4 = .ok (.invokevirtual 7, 3) := dk_182 0 7 (dk_at dksX0_pass_0 4 rfl rfl)
theorem dX0_pass_7 : decode cX0_pass 7 = .ok (.i2l, 1) := dk_133 (dk_at dksX0_pass_0 7 rfl rfl)
theorem dX0_pass_8 : decode cX0_pass 8 = .ok (.lastore, 1) := dk_80 (dk_at dksX0_pass_0 8 rfl rfl)
theorem dX0_pass_9 : decode cX0_pass 9 = .ok (.goto 9, 3) := dk_167 0 9 (dk_at dksX0_pass_0 9 rfl rfl)
theorem dX0_pass_12 : decode cX0_pass 12 = .ok (.astore_n 3, 1) := dk_78 (dk_at dksX0_pass_0 12 rfl rfl)
theorem dX0_pass_13 : decode cX0_pass 13 = .ok (.iconst 1, 1) := dk_4 (dk_at dksX0_pass_0 13 rfl rfl)
theorem dX0_pass_14 : decode cX0_pass 14 = .ok (.ireturn, 1) := dk_172 (dk_at dksX0_pass_0 14 rfl rfl)
theorem dX0_pass_15 : decode cX0_pass 15 = .ok (.astore_n 3, 1) := dk_78 (dk_at dksX0_pass_0 15 rfl rfl)
theorem dX0_pass_16 : decode cX0_pass 16 = .ok (.iconst 2, 1) := dk_5 (dk_at dksX0_pass_0 16 rfl rfl)
theorem dX0_pass_17 : decode cX0_pass 17 = .ok (.ireturn, 1) := dk_172 (dk_at dksX0_pass_0 17 rfl rfl)
theorem dX0_pass_18 : decode cX0_pass 18 = .ok (.iconst 0, 1) := dk_3 (dk_at dksX0_pass_0 18 rfl rfl)
theorem dX0_pass_19 : decode cX0_pass 19 = .ok (.ireturn, 1) := dk_172 (dk_at dksX0_pass_0 19 rfl rfl)
abbrev cX0_setLapse : ByteArray := method_4_code
def yX0_setLapse : MethodName := ⟨RX0, "setLapse", "(LCheckoutDesk;I[J)I"⟩
def dkwX0_setLapse_0 : List UInt8 := [44, 3, 42, 27, 182, 0, 17, 133, 80, 167, 0, 6, 78, 4, 172, 3, 172]
abbrev dktX0_setLapse_0 : List UInt8 := dkwX0_setLapse_0 ++ []
theorem dksX0_setLapse_0 : cX0_setLapse.data.toList.drop 0 = dktX0_setLapse_0 := by decide +kernel
theorem dX0_setLapse_0 : decode cX0_setLapse 0 = .ok (.aload_n 2, 1) := dk_44 (dk_at dksX0_setLapse_0 0 rfl rfl)
theorem dX0_setLapse_1 : decode cX0_setLapse 1 = .ok (.iconst 0, 1) := dk_3 (dk_at dksX0_setLapse_0 1 rfl rfl)
theorem dX0_setLapse_2 : decode cX0_setLapse 2 = .ok (.aload_n 0, 1) := dk_42 (dk_at dksX0_setLapse_0 2 rfl rfl)
theorem dX0_setLapse_3 : decode cX0_setLapse 3 = .ok (.iload_n 1, 1) := dk_27 (dk_at dksX0_setLapse_0 3 rfl rfl)
theorem dX0_setLapse_4 : decode cX0_setLapse 4 = .ok (.invokevirtual 17, 3) := dk_182 0 17 (dk_at dksX0_setLapse_0 4 rfl rfl)
theorem dX0_setLapse_7 : decode cX0_setLapse 7 = .ok (.i2l, 1) := dk_133 (dk_at dksX0_setLapse_0 7 rfl rfl)
theorem dX0_setLapse_8 : decode cX0_setLapse 8 = .ok (.lastore, 1) := dk_80 (dk_at dksX0_setLapse_0 8 rfl rfl)
theorem dX0_setLapse_9 : decode cX0_setLapse 9 = .ok (.goto 6, 3) := dk_167 0 6 (dk_at dksX0_setLapse_0 9 rfl rfl)
theorem dX0_setLapse_12 : decode cX0_setLapse 12 = .ok (.astore_n 3, 1) := dk_78 (dk_at dksX0_setLapse_0 12 rfl rfl)
theorem dX0_setLapse_13 : decode cX0_setLapse 13 = .ok (.iconst 1, 1) := dk_4 (dk_at dksX0_setLapse_0 13 rfl rfl)
theorem dX0_setLapse_14 : decode cX0_setLapse 14 = .ok (.ireturn, 1) := dk_172 (dk_at dksX0_setLapse_0 14 rfl rfl)
theorem dX0_setLapse_15 : decode cX0_setLapse 15 = .ok (.iconst 0, 1) := dk_3 (dk_at dksX0_setLapse_0 15 rfl rfl)
theorem dX0_setLapse_16 : decode cX0_setLapse 16 = .ok (.ireturn, 1) := dk_172 (dk_at dksX0_setLapse_0 16 rfl rfl)
abbrev cX0_create : ByteArray := method_5_code
def yX0_create : MethodName := ⟨RX0, "create", "(LCheckoutDesk;II[J)I"⟩
def dkwX0_create_1 : List UInt8 := [172, 3, 172]
abbrev dktX0_create_1 : List UInt8 := dkwX0_create_1 ++ []
def dkwX0_create_0 : List UInt8 := [45, 3, 42, 27, 28, 182, 0, 20, 133, 80, 167, 0, 15, 58, 4, 4, 172, 58, 4, 5, 172, 58, 4, 6]
abbrev dktX0_create_0 : List UInt8 := dkwX0_create_0 ++ dktX0_create_1
theorem dksX0_create_0 : cX0_create.data.toList.drop 0 = dktX0_create_0 := by decide +kernel
theorem dksX0_create_1 : cX0_create.data.toList.drop 24 = dktX0_create_1 := dk_seg dksX0_create_0 24 rfl rfl
theorem dX0_create_0 : decode cX0_create 0 = .ok (.aload_n 3, 1) := dk_45 (dk_at dksX0_create_0 0 rfl rfl)
theorem dX0_create_1 : decode cX0_create 1 = .ok (.iconst 0, 1) := dk_3 (dk_at dksX0_create_0 1 rfl rfl)
theorem dX0_create_2 : decode cX0_create 2 = .ok (.aload_n 0, 1) := dk_42 (dk_at dksX0_create_0 2 rfl rfl)
theorem dX0_create_3 : decode cX0_create 3 = .ok (.iload_n 1, 1) := dk_27 (dk_at dksX0_create_0 3 rfl rfl)
theorem dX0_create_4 : decode cX0_create 4 = .ok (.iload_n 2, 1) := dk_28 (dk_at dksX0_create_0 4 rfl rfl)
theorem dX0_create_5 : decode cX0_create 5 = .ok (.invokevirtual 20, 3) := dk_182 0 20 (dk_at dksX0_create_0 5 rfl rfl)
theorem dX0_create_8 : decode cX0_create 8 = .ok (.i2l, 1) := dk_133 (dk_at dksX0_create_0 8 rfl rfl)
theorem dX0_create_9 : decode cX0_create 9 = .ok (.lastore, 1) := dk_80 (dk_at dksX0_create_0 9 rfl rfl)
theorem dX0_create_10 : decode cX0_create 10 = .ok (.goto 15, 3) := dk_167 0 15 (dk_at dksX0_create_0 10 rfl rfl)
theorem dX0_create_13 : decode cX0_create 13 = .ok (.astore 4, 2) := dk_58 4 (dk_at dksX0_create_0 13 rfl rfl)
theorem dX0_create_15 : decode cX0_create 15 = .ok (.iconst 1, 1) := dk_4 (dk_at dksX0_create_0 15 rfl rfl)
theorem dX0_create_16 : decode cX0_create 16 = .ok (.ireturn, 1) := dk_172 (dk_at dksX0_create_0 16 rfl rfl)
theorem dX0_create_17 : decode cX0_create 17 = .ok (.astore 4, 2) := dk_58 4 (dk_at dksX0_create_0 17 rfl rfl)
theorem dX0_create_19 : decode cX0_create 19 = .ok (.iconst 2, 1) := dk_5 (dk_at dksX0_create_0 19 rfl rfl)
theorem dX0_create_20 : decode cX0_create 20 = .ok (.ireturn, 1) := dk_172 (dk_at dksX0_create_0 20 rfl rfl)
theorem dX0_create_21 : decode cX0_create 21 = .ok (.astore 4, 2) := dk_58 4 (dk_at dksX0_create_0 21 rfl rfl)
theorem dX0_create_23 : decode cX0_create 23 = .ok (.iconst 3, 1) := dk_6 (dk_at dksX0_create_0 23 rfl rfl)
theorem dX0_create_24 : decode cX0_create 24 = .ok (.ireturn, 1) := dk_172 (dk_at dksX0_create_1 0 rfl rfl)
theorem dX0_create_25 : decode cX0_create 25 = .ok (.iconst 0, 1) := dk_3 (dk_at dksX0_create_1 1 rfl rfl)
theorem dX0_create_26 : decode cX0_create 26 = .ok (.ireturn, 1) := dk_172 (dk_at dksX0_create_1 2 rfl rfl)
abbrev cX0_grant : ByteArray := method_6_code
def yX0_grant : MethodName := ⟨RX0, "grant", "(LCheckoutDesk;IIII[J)I"⟩
def dkwX0_grant_1 : List UInt8 := [172, 58, 6, 6, 172, 3, 172]
abbrev dktX0_grant_1 : List UInt8 := dkwX0_grant_1 ++ []
def dkwX0_grant_0 : List UInt8 := [25, 5, 3, 42, 27, 28, 29, 21, 4, 182, 0, 26, 133, 80, 167, 0, 15, 58, 6, 4, 172, 58, 6, 5]
abbrev dktX0_grant_0 : List UInt8 := dkwX0_grant_0 ++ dktX0_grant_1
theorem dksX0_grant_0 : cX0_grant.data.toList.drop 0 = dktX0_grant_0 := by decide +kernel
theorem dksX0_grant_1 : cX0_grant.data.toList.drop 24 = dktX0_grant_1 := dk_seg dksX0_grant_0 24 rfl rfl
theorem dX0_grant_0 : decode cX0_grant 0 = .ok (.aload 5, 2) := dk_25 5 (dk_at dksX0_grant_0 0 rfl rfl)
theorem dX0_grant_2 : decode cX0_grant 2 = .ok (.iconst 0, 1) := dk_3 (dk_at dksX0_grant_0 2 rfl rfl)
theorem dX0_grant_3 : decode cX0_grant 3 = .ok (.aload_n 0, 1) := dk_42 (dk_at dksX0_grant_0 3 rfl rfl)
theorem dX0_grant_4 : decode cX0_grant 4 = .ok (.iload_n 1, 1) := dk_27 (dk_at dksX0_grant_0 4 rfl rfl)
theorem dX0_grant_5 : decode cX0_grant 5 = .ok (.iload_n 2, 1) := dk_28 (dk_at dksX0_grant_0 5 rfl rfl)
theorem dX0_grant_6 : decode cX0_grant 6 = .ok (.iload_n 3, 1) := dk_29 (dk_at dksX0_grant_0 6 rfl rfl)
theorem dX0_grant_7 : decode cX0_grant 7 = .ok (.iload 4, 2) := dk_21 4 (dk_at dksX0_grant_0 7 rfl rfl)
theorem dX0_grant_9 : decode cX0_grant 9 = .ok (.invokevirtual 26, 3) := dk_182 0 26 (dk_at dksX0_grant_0 9 rfl rfl)
theorem dX0_grant_12 : decode cX0_grant 12 = .ok (.i2l, 1) := dk_133 (dk_at dksX0_grant_0 12 rfl rfl)
theorem dX0_grant_13 : decode cX0_grant 13 = .ok (.lastore, 1) := dk_80 (dk_at dksX0_grant_0 13 rfl rfl)
theorem dX0_grant_14 : decode cX0_grant 14 = .ok (.goto 15, 3) := dk_167 0 15 (dk_at dksX0_grant_0 14 rfl rfl)
theorem dX0_grant_17 : decode cX0_grant 17 = .ok (.astore 6, 2) := dk_58 6 (dk_at dksX0_grant_0 17 rfl rfl)
theorem dX0_grant_19 : decode cX0_grant 19 = .ok (.iconst 1, 1) := dk_4 (dk_at dksX0_grant_0 19 rfl rfl)
theorem dX0_grant_20 : decode cX0_grant 20 = .ok (.ireturn, 1) := dk_172 (dk_at dksX0_grant_0 20 rfl rfl)
theorem dX0_grant_21 : decode cX0_grant 21 = .ok (.astore 6, 2) := dk_58 6 (dk_at dksX0_grant_0 21 rfl rfl)
theorem dX0_grant_23 : decode cX0_grant 23 = .ok (.iconst 2, 1) := dk_5 (dk_at dksX0_grant_0 23 rfl rfl)
theorem dX0_grant_24 : decode cX0_grant 24 = .ok (.ireturn, 1) := dk_172 (dk_at dksX0_grant_1 0 rfl rfl)
theorem dX0_grant_25 : decode cX0_grant 25 = .ok (.astore 6, 2) := dk_58 6 (dk_at dksX0_grant_1 1 rfl rfl)
theorem dX0_grant_27 : decode cX0_grant 27 = .ok (.iconst 3, 1) := dk_6 (dk_at dksX0_grant_1 3 rfl rfl)
theorem dX0_grant_28 : decode cX0_grant 28 = .ok (.ireturn, 1) := dk_172 (dk_at dksX0_grant_1 4 rfl rfl)
theorem dX0_grant_29 : decode cX0_grant 29 = .ok (.iconst 0, 1) := dk_3 (dk_at dksX0_grant_1 5 rfl rfl)
theorem dX0_grant_30 : decode cX0_grant 30 = .ok (.ireturn, 1) := dk_172 (dk_at dksX0_grant_1 6 rfl rfl)
abbrev cX0_checkOut : ByteArray := method_7_code
def yX0_checkOut : MethodName := ⟨RX0, "checkOut", "(LCheckoutDesk;III[J)I"⟩
def dkwX0_checkOut_1 : List UInt8 := [172]
abbrev dktX0_checkOut_1 : List UInt8 := dkwX0_checkOut_1 ++ []
def dkwX0_checkOut_0 : List UInt8 := [25, 4, 3, 42, 27, 28, 29, 182, 0, 30, 133, 80, 167, 0, 11, 58, 5, 4, 172, 58, 5, 5, 172, 3]
abbrev dktX0_checkOut_0 : List UInt8 := dkwX0_checkOut_0 ++ dktX0_checkOut_1
theorem dksX0_checkOut_0 : cX0_checkOut.data.toList.drop 0 = dktX0_checkOut_0 := by decide +kernel
theorem dksX0_checkOut_1 : cX0_checkOut.data.toList.drop 24 = dktX0_checkOut_1 := dk_seg dksX0_checkOut_0 24 rfl rfl
theorem dX0_checkOut_0 : decode cX0_checkOut 0 = .ok (.aload 4, 2) := dk_25 4 (dk_at dksX0_checkOut_0 0 rfl rfl)
theorem dX0_checkOut_2 : decode cX0_checkOut 2 = .ok (.iconst 0, 1) := dk_3 (dk_at dksX0_checkOut_0 2 rfl rfl)
theorem dX0_checkOut_3 : decode cX0_checkOut 3 = .ok (.aload_n 0, 1) := dk_42 (dk_at dksX0_checkOut_0 3 rfl rfl)
theorem dX0_checkOut_4 : decode cX0_checkOut 4 = .ok (.iload_n 1, 1) := dk_27 (dk_at dksX0_checkOut_0 4 rfl rfl)
theorem dX0_checkOut_5 : decode cX0_checkOut 5 = .ok (.iload_n 2, 1) := dk_28 (dk_at dksX0_checkOut_0 5 rfl rfl)
theorem dX0_checkOut_6 : decode cX0_checkOut 6 = .ok (.iload_n 3, 1) := dk_29 (dk_at dksX0_checkOut_0 6 rfl rfl)
theorem dX0_checkOut_7 : decode cX0_checkOut 7 = .ok (.invokevirtual 30, 3) := dk_182 0 30 (dk_at dksX0_checkOut_0 7 rfl rfl)
theorem dX0_checkOut_10 : decode cX0_checkOut 10 = .ok (.i2l, 1) := dk_133 (dk_at dksX0_checkOut_0 10 rfl rfl)
theorem dX0_checkOut_11 : decode cX0_checkOut 11 = .ok (.lastore, 1) := dk_80 (dk_at dksX0_checkOut_0 11 rfl rfl)
theorem dX0_checkOut_12 : decode cX0_checkOut 12 = .ok (.goto 11, 3) := dk_167 0 11 (dk_at dksX0_checkOut_0 12 rfl rfl)
theorem dX0_checkOut_15 : decode cX0_checkOut 15 = .ok (.astore 5, 2) := dk_58 5 (dk_at dksX0_checkOut_0 15 rfl rfl)
theorem dX0_checkOut_17 : decode cX0_checkOut 17 = .ok (.iconst 1, 1) := dk_4 (dk_at dksX0_checkOut_0 17 rfl rfl)
theorem dX0_checkOut_18 : decode cX0_checkOut 18 = .ok (.ireturn, 1) := dk_172 (dk_at dksX0_checkOut_0 18 rfl rfl)
theorem dX0_checkOut_19 : decode cX0_checkOut 19 = .ok (.astore 5, 2) := dk_58 5 (dk_at dksX0_checkOut_0 19 rfl rfl)
theorem dX0_checkOut_21 : decode cX0_checkOut 21 = .ok (.iconst 2, 1) := dk_5 (dk_at dksX0_checkOut_0 21 rfl rfl)
theorem dX0_checkOut_22 : decode cX0_checkOut 22 = .ok (.ireturn, 1) := dk_172 (dk_at dksX0_checkOut_0 22 rfl rfl)
theorem dX0_checkOut_23 : decode cX0_checkOut 23 = .ok (.iconst 0, 1) := dk_3 (dk_at dksX0_checkOut_0 23 rfl rfl)
theorem dX0_checkOut_24 : decode cX0_checkOut 24 = .ok (.ireturn, 1) := dk_172 (dk_at dksX0_checkOut_1 0 rfl rfl)
abbrev cX0_edit : ByteArray := method_8_code
def yX0_edit : MethodName := ⟨RX0, "edit", "(LCheckoutDesk;IIIII[J)I"⟩
def dkwX0_edit_1 : List UInt8 := [58, 7, 5, 172, 58, 7, 6, 172, 3, 172]
abbrev dktX0_edit_1 : List UInt8 := dkwX0_edit_1 ++ []
def dkwX0_edit_0 : List UInt8 := [25, 6, 3, 42, 27, 28, 29, 21, 4, 21, 5, 182, 0, 34, 133, 80, 167, 0, 15, 58, 7, 4, 172]
abbrev dktX0_edit_0 : List UInt8 := dkwX0_edit_0 ++ dktX0_edit_1
theorem dksX0_edit_0 : cX0_edit.data.toList.drop 0 = dktX0_edit_0 := by decide +kernel
theorem dksX0_edit_1 : cX0_edit.data.toList.drop 23 = dktX0_edit_1 := dk_seg dksX0_edit_0 23 rfl rfl
theorem dX0_edit_0 : decode cX0_edit 0 = .ok (.aload 6, 2) := dk_25 6 (dk_at dksX0_edit_0 0 rfl rfl)
theorem dX0_edit_2 : decode cX0_edit 2 = .ok (.iconst 0, 1) := dk_3 (dk_at dksX0_edit_0 2 rfl rfl)
theorem dX0_edit_3 : decode cX0_edit 3 = .ok (.aload_n 0, 1) := dk_42 (dk_at dksX0_edit_0 3 rfl rfl)
theorem dX0_edit_4 : decode cX0_edit 4 = .ok (.iload_n 1, 1) := dk_27 (dk_at dksX0_edit_0 4 rfl rfl)
theorem dX0_edit_5 : decode cX0_edit 5 = .ok (.iload_n 2, 1) := dk_28 (dk_at dksX0_edit_0 5 rfl rfl)
theorem dX0_edit_6 : decode cX0_edit 6 = .ok (.iload_n 3, 1) := dk_29 (dk_at dksX0_edit_0 6 rfl rfl)
theorem dX0_edit_7 : decode cX0_edit 7 = .ok (.iload 4, 2) := dk_21 4 (dk_at dksX0_edit_0 7 rfl rfl)
theorem dX0_edit_9 : decode cX0_edit 9 = .ok (.iload 5, 2) := dk_21 5 (dk_at dksX0_edit_0 9 rfl rfl)
theorem dX0_edit_11 : decode cX0_edit 11 = .ok (.invokevirtual 34, 3) := dk_182 0 34 (dk_at dksX0_edit_0 11 rfl rfl)
theorem dX0_edit_14 : decode cX0_edit 14 = .ok (.i2l, 1) := dk_133 (dk_at dksX0_edit_0 14 rfl rfl)
theorem dX0_edit_15 : decode cX0_edit 15 = .ok (.lastore, 1) := dk_80 (dk_at dksX0_edit_0 15 rfl rfl)
theorem dX0_edit_16 : decode cX0_edit 16 = .ok (.goto 15, 3) := dk_167 0 15 (dk_at dksX0_edit_0 16 rfl rfl)
theorem dX0_edit_19 : decode cX0_edit 19 = .ok (.astore 7, 2) := dk_58 7 (dk_at dksX0_edit_0 19 rfl rfl)
theorem dX0_edit_21 : decode cX0_edit 21 = .ok (.iconst 1, 1) := dk_4 (dk_at dksX0_edit_0 21 rfl rfl)
theorem dX0_edit_22 : decode cX0_edit 22 = .ok (.ireturn, 1) := dk_172 (dk_at dksX0_edit_0 22 rfl rfl)
theorem dX0_edit_23 : decode cX0_edit 23 = .ok (.astore 7, 2) := dk_58 7 (dk_at dksX0_edit_1 0 rfl rfl)
theorem dX0_edit_25 : decode cX0_edit 25 = .ok (.iconst 2, 1) := dk_5 (dk_at dksX0_edit_1 2 rfl rfl)
theorem dX0_edit_26 : decode cX0_edit 26 = .ok (.ireturn, 1) := dk_172 (dk_at dksX0_edit_1 3 rfl rfl)
theorem dX0_edit_27 : decode cX0_edit 27 = .ok (.astore 7, 2) := dk_58 7 (dk_at dksX0_edit_1 4 rfl rfl)
theorem dX0_edit_29 : decode cX0_edit 29 = .ok (.iconst 3, 1) := dk_6 (dk_at dksX0_edit_1 6 rfl rfl)
theorem dX0_edit_30 : decode cX0_edit 30 = .ok (.ireturn, 1) := dk_172 (dk_at dksX0_edit_1 7 rfl rfl)
theorem dX0_edit_31 : decode cX0_edit 31 = .ok (.iconst 0, 1) := dk_3 (dk_at dksX0_edit_1 8 rfl rfl)
theorem dX0_edit_32 : decode cX0_edit 32 = .ok (.ireturn, 1) := dk_172 (dk_at dksX0_edit_1 9 rfl rfl)
abbrev cX0_checkIn : ByteArray := method_9_code
def yX0_checkIn : MethodName := ⟨RX0, "checkIn", "(LCheckoutDesk;IIIZ[J)I"⟩
def dkwX0_checkIn_1 : List UInt8 := [172, 3, 172]
abbrev dktX0_checkIn_1 : List UInt8 := dkwX0_checkIn_1 ++ []
def dkwX0_checkIn_0 : List UInt8 := [25, 5, 3, 42, 27, 28, 29, 21, 4, 182, 0, 38, 133, 80, 167, 0, 11, 58, 6, 4, 172, 58, 6, 5]
abbrev dktX0_checkIn_0 : List UInt8 := dkwX0_checkIn_0 ++ dktX0_checkIn_1
theorem dksX0_checkIn_0 : cX0_checkIn.data.toList.drop 0 = dktX0_checkIn_0 := by decide +kernel
theorem dksX0_checkIn_1 : cX0_checkIn.data.toList.drop 24 = dktX0_checkIn_1 := dk_seg dksX0_checkIn_0 24 rfl rfl
theorem dX0_checkIn_0 : decode cX0_checkIn 0 = .ok (.aload 5, 2) := dk_25 5 (dk_at dksX0_checkIn_0 0 rfl rfl)
theorem dX0_checkIn_2 : decode cX0_checkIn 2 = .ok (.iconst 0, 1) := dk_3 (dk_at dksX0_checkIn_0 2 rfl rfl)
theorem dX0_checkIn_3 : decode cX0_checkIn 3 = .ok (.aload_n 0, 1) := dk_42 (dk_at dksX0_checkIn_0 3 rfl rfl)
theorem dX0_checkIn_4 : decode cX0_checkIn 4 = .ok (.iload_n 1, 1) := dk_27 (dk_at dksX0_checkIn_0 4 rfl rfl)
theorem dX0_checkIn_5 : decode cX0_checkIn 5 = .ok (.iload_n 2, 1) := dk_28 (dk_at dksX0_checkIn_0 5 rfl rfl)
theorem dX0_checkIn_6 : decode cX0_checkIn 6 = .ok (.iload_n 3, 1) := dk_29 (dk_at dksX0_checkIn_0 6 rfl rfl)
theorem dX0_checkIn_7 : decode cX0_checkIn 7 = .ok (.iload 4, 2) := dk_21 4 (dk_at dksX0_checkIn_0 7 rfl rfl)
theorem dX0_checkIn_9 : decode cX0_checkIn 9 = .ok (.invokevirtual 38, 3) := dk_182 0 38 (dk_at dksX0_checkIn_0 9 rfl rfl)
theorem dX0_checkIn_12 : decode cX0_checkIn 12 = .ok (.i2l, 1) := dk_133 (dk_at dksX0_checkIn_0 12 rfl rfl)
theorem dX0_checkIn_13 : decode cX0_checkIn 13 = .ok (.lastore, 1) := dk_80 (dk_at dksX0_checkIn_0 13 rfl rfl)
theorem dX0_checkIn_14 : decode cX0_checkIn 14 = .ok (.goto 11, 3) := dk_167 0 11 (dk_at dksX0_checkIn_0 14 rfl rfl)
theorem dX0_checkIn_17 : decode cX0_checkIn 17 = .ok (.astore 6, 2) := dk_58 6 (dk_at dksX0_checkIn_0 17 rfl rfl)
theorem dX0_checkIn_19 : decode cX0_checkIn 19 = .ok (.iconst 1, 1) := dk_4 (dk_at dksX0_checkIn_0 19 rfl rfl)
theorem dX0_checkIn_20 : decode cX0_checkIn 20 = .ok (.ireturn, 1) := dk_172 (dk_at dksX0_checkIn_0 20 rfl rfl)
theorem dX0_checkIn_21 : decode cX0_checkIn 21 = .ok (.astore 6, 2) := dk_58 6 (dk_at dksX0_checkIn_0 21 rfl rfl)
theorem dX0_checkIn_23 : decode cX0_checkIn 23 = .ok (.iconst 2, 1) := dk_5 (dk_at dksX0_checkIn_0 23 rfl rfl)
theorem dX0_checkIn_24 : decode cX0_checkIn 24 = .ok (.ireturn, 1) := dk_172 (dk_at dksX0_checkIn_1 0 rfl rfl)
theorem dX0_checkIn_25 : decode cX0_checkIn 25 = .ok (.iconst 0, 1) := dk_3 (dk_at dksX0_checkIn_1 1 rfl rfl)
theorem dX0_checkIn_26 : decode cX0_checkIn 26 = .ok (.ireturn, 1) := dk_172 (dk_at dksX0_checkIn_1 2 rfl rfl)
abbrev cX0_renew : ByteArray := method_10_code
def yX0_renew : MethodName := ⟨RX0, "renew", "(LCheckoutDesk;III[J)I"⟩
def dkwX0_renew_1 : List UInt8 := [172]
abbrev dktX0_renew_1 : List UInt8 := dkwX0_renew_1 ++ []
def dkwX0_renew_0 : List UInt8 := [25, 4, 3, 42, 27, 28, 29, 182, 0, 42, 133, 80, 167, 0, 11, 58, 5, 4, 172, 58, 5, 5, 172, 3]
abbrev dktX0_renew_0 : List UInt8 := dkwX0_renew_0 ++ dktX0_renew_1
theorem dksX0_renew_0 : cX0_renew.data.toList.drop 0 = dktX0_renew_0 := by decide +kernel
theorem dksX0_renew_1 : cX0_renew.data.toList.drop 24 = dktX0_renew_1 := dk_seg dksX0_renew_0 24 rfl rfl
theorem dX0_renew_0 : decode cX0_renew 0 = .ok (.aload 4, 2) := dk_25 4 (dk_at dksX0_renew_0 0 rfl rfl)
theorem dX0_renew_2 : decode cX0_renew 2 = .ok (.iconst 0, 1) := dk_3 (dk_at dksX0_renew_0 2 rfl rfl)
theorem dX0_renew_3 : decode cX0_renew 3 = .ok (.aload_n 0, 1) := dk_42 (dk_at dksX0_renew_0 3 rfl rfl)
theorem dX0_renew_4 : decode cX0_renew 4 = .ok (.iload_n 1, 1) := dk_27 (dk_at dksX0_renew_0 4 rfl rfl)
theorem dX0_renew_5 : decode cX0_renew 5 = .ok (.iload_n 2, 1) := dk_28 (dk_at dksX0_renew_0 5 rfl rfl)
theorem dX0_renew_6 : decode cX0_renew 6 = .ok (.iload_n 3, 1) := dk_29 (dk_at dksX0_renew_0 6 rfl rfl)
theorem dX0_renew_7 : decode cX0_renew 7 = .ok (.invokevirtual 42, 3) := dk_182 0 42 (dk_at dksX0_renew_0 7 rfl rfl)
theorem dX0_renew_10 : decode cX0_renew 10 = .ok (.i2l, 1) := dk_133 (dk_at dksX0_renew_0 10 rfl rfl)
theorem dX0_renew_11 : decode cX0_renew 11 = .ok (.lastore, 1) := dk_80 (dk_at dksX0_renew_0 11 rfl rfl)
theorem dX0_renew_12 : decode cX0_renew 12 = .ok (.goto 11, 3) := dk_167 0 11 (dk_at dksX0_renew_0 12 rfl rfl)
theorem dX0_renew_15 : decode cX0_renew 15 = .ok (.astore 5, 2) := dk_58 5 (dk_at dksX0_renew_0 15 rfl rfl)
theorem dX0_renew_17 : decode cX0_renew 17 = .ok (.iconst 1, 1) := dk_4 (dk_at dksX0_renew_0 17 rfl rfl)
theorem dX0_renew_18 : decode cX0_renew 18 = .ok (.ireturn, 1) := dk_172 (dk_at dksX0_renew_0 18 rfl rfl)
theorem dX0_renew_19 : decode cX0_renew 19 = .ok (.astore 5, 2) := dk_58 5 (dk_at dksX0_renew_0 19 rfl rfl)
theorem dX0_renew_21 : decode cX0_renew 21 = .ok (.iconst 2, 1) := dk_5 (dk_at dksX0_renew_0 21 rfl rfl)
theorem dX0_renew_22 : decode cX0_renew 22 = .ok (.ireturn, 1) := dk_172 (dk_at dksX0_renew_0 22 rfl rfl)
theorem dX0_renew_23 : decode cX0_renew 23 = .ok (.iconst 0, 1) := dk_3 (dk_at dksX0_renew_0 23 rfl rfl)
theorem dX0_renew_24 : decode cX0_renew 24 = .ok (.ireturn, 1) := dk_172 (dk_at dksX0_renew_1 0 rfl rfl)
abbrev cX0_cancel : ByteArray := method_11_code
def yX0_cancel : MethodName := ⟨RX0, "cancel", "(LCheckoutDesk;III[J)I"⟩
def dkwX0_cancel_1 : List UInt8 := [172]
abbrev dktX0_cancel_1 : List UInt8 := dkwX0_cancel_1 ++ []
def dkwX0_cancel_0 : List UInt8 := [25, 4, 3, 42, 27, 28, 29, 182, 0, 45, 133, 80, 167, 0, 11, 58, 5, 4, 172, 58, 5, 5, 172, 3]
abbrev dktX0_cancel_0 : List UInt8 := dkwX0_cancel_0 ++ dktX0_cancel_1
theorem dksX0_cancel_0 : cX0_cancel.data.toList.drop 0 = dktX0_cancel_0 := by decide +kernel
theorem dksX0_cancel_1 : cX0_cancel.data.toList.drop 24 = dktX0_cancel_1 := dk_seg dksX0_cancel_0 24 rfl rfl
theorem dX0_cancel_0 : decode cX0_cancel 0 = .ok (.aload 4, 2) := dk_25 4 (dk_at dksX0_cancel_0 0 rfl rfl)
theorem dX0_cancel_2 : decode cX0_cancel 2 = .ok (.iconst 0, 1) := dk_3 (dk_at dksX0_cancel_0 2 rfl rfl)
theorem dX0_cancel_3 : decode cX0_cancel 3 = .ok (.aload_n 0, 1) := dk_42 (dk_at dksX0_cancel_0 3 rfl rfl)
theorem dX0_cancel_4 : decode cX0_cancel 4 = .ok (.iload_n 1, 1) := dk_27 (dk_at dksX0_cancel_0 4 rfl rfl)
theorem dX0_cancel_5 : decode cX0_cancel 5 = .ok (.iload_n 2, 1) := dk_28 (dk_at dksX0_cancel_0 5 rfl rfl)
theorem dX0_cancel_6 : decode cX0_cancel 6 = .ok (.iload_n 3, 1) := dk_29 (dk_at dksX0_cancel_0 6 rfl rfl)
theorem dX0_cancel_7 : decode cX0_cancel 7 = .ok (.invokevirtual 45, 3) := dk_182 0 45 (dk_at dksX0_cancel_0 7 rfl rfl)
theorem dX0_cancel_10 : decode cX0_cancel 10 = .ok (.i2l, 1) := dk_133 (dk_at dksX0_cancel_0 10 rfl rfl)
theorem dX0_cancel_11 : decode cX0_cancel 11 = .ok (.lastore, 1) := dk_80 (dk_at dksX0_cancel_0 11 rfl rfl)
theorem dX0_cancel_12 : decode cX0_cancel 12 = .ok (.goto 11, 3) := dk_167 0 11 (dk_at dksX0_cancel_0 12 rfl rfl)
theorem dX0_cancel_15 : decode cX0_cancel 15 = .ok (.astore 5, 2) := dk_58 5 (dk_at dksX0_cancel_0 15 rfl rfl)
theorem dX0_cancel_17 : decode cX0_cancel 17 = .ok (.iconst 1, 1) := dk_4 (dk_at dksX0_cancel_0 17 rfl rfl)
theorem dX0_cancel_18 : decode cX0_cancel 18 = .ok (.ireturn, 1) := dk_172 (dk_at dksX0_cancel_0 18 rfl rfl)
theorem dX0_cancel_19 : decode cX0_cancel 19 = .ok (.astore 5, 2) := dk_58 5 (dk_at dksX0_cancel_0 19 rfl rfl)
theorem dX0_cancel_21 : decode cX0_cancel 21 = .ok (.iconst 2, 1) := dk_5 (dk_at dksX0_cancel_0 21 rfl rfl)
theorem dX0_cancel_22 : decode cX0_cancel 22 = .ok (.ireturn, 1) := dk_172 (dk_at dksX0_cancel_0 22 rfl rfl)
theorem dX0_cancel_23 : decode cX0_cancel 23 = .ok (.iconst 0, 1) := dk_3 (dk_at dksX0_cancel_0 23 rfl rfl)
theorem dX0_cancel_24 : decode cX0_cancel 24 = .ok (.ireturn, 1) := dk_172 (dk_at dksX0_cancel_1 0 rfl rfl)
abbrev cX0_promote : ByteArray := method_12_code
def yX0_promote : MethodName := ⟨RX0, "promote", "(LCheckoutDesk;III[J)I"⟩
def dkwX0_promote_1 : List UInt8 := [172]
abbrev dktX0_promote_1 : List UInt8 := dkwX0_promote_1 ++ []
def dkwX0_promote_0 : List UInt8 := [25, 4, 3, 42, 27, 28, 29, 182, 0, 48, 133, 80, 167, 0, 11, 58, 5, 4, 172, 58, 5, 5, 172, 3]
abbrev dktX0_promote_0 : List UInt8 := dkwX0_promote_0 ++ dktX0_promote_1
theorem dksX0_promote_0 : cX0_promote.data.toList.drop 0 = dktX0_promote_0 := by decide +kernel
theorem dksX0_promote_1 : cX0_promote.data.toList.drop 24 = dktX0_promote_1 := dk_seg dksX0_promote_0 24 rfl rfl
theorem dX0_promote_0 : decode cX0_promote 0 = .ok (.aload 4, 2) := dk_25 4 (dk_at dksX0_promote_0 0 rfl rfl)
theorem dX0_promote_2 : decode cX0_promote 2 = .ok (.iconst 0, 1) := dk_3 (dk_at dksX0_promote_0 2 rfl rfl)
theorem dX0_promote_3 : decode cX0_promote 3 = .ok (.aload_n 0, 1) := dk_42 (dk_at dksX0_promote_0 3 rfl rfl)
theorem dX0_promote_4 : decode cX0_promote 4 = .ok (.iload_n 1, 1) := dk_27 (dk_at dksX0_promote_0 4 rfl rfl)
theorem dX0_promote_5 : decode cX0_promote 5 = .ok (.iload_n 2, 1) := dk_28 (dk_at dksX0_promote_0 5 rfl rfl)
theorem dX0_promote_6 : decode cX0_promote 6 = .ok (.iload_n 3, 1) := dk_29 (dk_at dksX0_promote_0 6 rfl rfl)
theorem dX0_promote_7 : decode cX0_promote 7 = .ok (.invokevirtual 48, 3) := dk_182 0 48 (dk_at dksX0_promote_0 7 rfl rfl)
theorem dX0_promote_10 : decode cX0_promote 10 = .ok (.i2l, 1) := dk_133 (dk_at dksX0_promote_0 10 rfl rfl)
theorem dX0_promote_11 : decode cX0_promote 11 = .ok (.lastore, 1) := dk_80 (dk_at dksX0_promote_0 11 rfl rfl)
theorem dX0_promote_12 : decode cX0_promote 12 = .ok (.goto 11, 3) := dk_167 0 11 (dk_at dksX0_promote_0 12 rfl rfl)
theorem dX0_promote_15 : decode cX0_promote 15 = .ok (.astore 5, 2) := dk_58 5 (dk_at dksX0_promote_0 15 rfl rfl)
theorem dX0_promote_17 : decode cX0_promote 17 = .ok (.iconst 1, 1) := dk_4 (dk_at dksX0_promote_0 17 rfl rfl)
theorem dX0_promote_18 : decode cX0_promote 18 = .ok (.ireturn, 1) := dk_172 (dk_at dksX0_promote_0 18 rfl rfl)
theorem dX0_promote_19 : decode cX0_promote 19 = .ok (.astore 5, 2) := dk_58 5 (dk_at dksX0_promote_0 19 rfl rfl)
theorem dX0_promote_21 : decode cX0_promote 21 = .ok (.iconst 2, 1) := dk_5 (dk_at dksX0_promote_0 21 rfl rfl)
theorem dX0_promote_22 : decode cX0_promote 22 = .ok (.ireturn, 1) := dk_172 (dk_at dksX0_promote_0 22 rfl rfl)
theorem dX0_promote_23 : decode cX0_promote 23 = .ok (.iconst 0, 1) := dk_3 (dk_at dksX0_promote_0 23 rfl rfl)
theorem dX0_promote_24 : decode cX0_promote 24 = .ok (.ireturn, 1) := dk_172 (dk_at dksX0_promote_1 0 rfl rfl)
abbrev cX0_prune : ByteArray := method_13_code
def yX0_prune : MethodName := ⟨RX0, "prune", "(LCheckoutDesk;III[J)I"⟩
def dkwX0_prune_1 : List UInt8 := [172]
abbrev dktX0_prune_1 : List UInt8 := dkwX0_prune_1 ++ []
def dkwX0_prune_0 : List UInt8 := [25, 4, 3, 42, 27, 28, 29, 182, 0, 51, 133, 80, 167, 0, 11, 58, 5, 4, 172, 58, 5, 5, 172, 3]
abbrev dktX0_prune_0 : List UInt8 := dkwX0_prune_0 ++ dktX0_prune_1
theorem dksX0_prune_0 : cX0_prune.data.toList.drop 0 = dktX0_prune_0 := by decide +kernel
theorem dksX0_prune_1 : cX0_prune.data.toList.drop 24 = dktX0_prune_1 := dk_seg dksX0_prune_0 24 rfl rfl
theorem dX0_prune_0 : decode cX0_prune 0 = .ok (.aload 4, 2) := dk_25 4 (dk_at dksX0_prune_0 0 rfl rfl)
theorem dX0_prune_2 : decode cX0_prune 2 = .ok (.iconst 0, 1) := dk_3 (dk_at dksX0_prune_0 2 rfl rfl)
theorem dX0_prune_3 : decode cX0_prune 3 = .ok (.aload_n 0, 1) := dk_42 (dk_at dksX0_prune_0 3 rfl rfl)
theorem dX0_prune_4 : decode cX0_prune 4 = .ok (.iload_n 1, 1) := dk_27 (dk_at dksX0_prune_0 4 rfl rfl)
theorem dX0_prune_5 : decode cX0_prune 5 = .ok (.iload_n 2, 1) := dk_28 (dk_at dksX0_prune_0 5 rfl rfl)
theorem dX0_prune_6 : decode cX0_prune 6 = .ok (.iload_n 3, 1) := dk_29 (dk_at dksX0_prune_0 6 rfl rfl)
theorem dX0_prune_7 : decode cX0_prune 7 = .ok (.invokevirtual 51, 3) := dk_182 0 51 (dk_at dksX0_prune_0 7 rfl rfl)
theorem dX0_prune_10 : decode cX0_prune 10 = .ok (.i2l, 1) := dk_133 (dk_at dksX0_prune_0 10 rfl rfl)
theorem dX0_prune_11 : decode cX0_prune 11 = .ok (.lastore, 1) := dk_80 (dk_at dksX0_prune_0 11 rfl rfl)
theorem dX0_prune_12 : decode cX0_prune 12 = .ok (.goto 11, 3) := dk_167 0 11 (dk_at dksX0_prune_0 12 rfl rfl)
theorem dX0_prune_15 : decode cX0_prune 15 = .ok (.astore 5, 2) := dk_58 5 (dk_at dksX0_prune_0 15 rfl rfl)
theorem dX0_prune_17 : decode cX0_prune 17 = .ok (.iconst 1, 1) := dk_4 (dk_at dksX0_prune_0 17 rfl rfl)
theorem dX0_prune_18 : decode cX0_prune 18 = .ok (.ireturn, 1) := dk_172 (dk_at dksX0_prune_0 18 rfl rfl)
theorem dX0_prune_19 : decode cX0_prune 19 = .ok (.astore 5, 2) := dk_58 5 (dk_at dksX0_prune_0 19 rfl rfl)
theorem dX0_prune_21 : decode cX0_prune 21 = .ok (.iconst 2, 1) := dk_5 (dk_at dksX0_prune_0 21 rfl rfl)
theorem dX0_prune_22 : decode cX0_prune 22 = .ok (.ireturn, 1) := dk_172 (dk_at dksX0_prune_0 22 rfl rfl)
theorem dX0_prune_23 : decode cX0_prune 23 = .ok (.iconst 0, 1) := dk_3 (dk_at dksX0_prune_0 23 rfl rfl)
theorem dX0_prune_24 : decode cX0_prune 24 = .ok (.ireturn, 1) := dk_172 (dk_at dksX0_prune_1 0 rfl rfl)
abbrev cX0_branchOff : ByteArray := method_14_code
def yX0_branchOff : MethodName := ⟨RX0, "branchOff", "(LCheckoutDesk;II[J)I"⟩
def dkwX0_branchOff_0 : List UInt8 := [45, 3, 42, 27, 28, 182, 0, 54, 133, 80, 167, 0, 11, 58, 4, 4, 172, 58, 4, 5, 172, 3, 172]
abbrev dktX0_branchOff_0 : List UInt8 := dkwX0_branchOff_0 ++ []
theorem dksX0_branchOff_0 : cX0_branchOff.data.toList.drop 0 = dktX0_branchOff_0 := by decide +kernel
theorem dX0_branchOff_0 : decode cX0_branchOff 0 = .ok (.aload_n 3, 1) := dk_45 (dk_at dksX0_branchOff_0 0 rfl rfl)
theorem dX0_branchOff_1 : decode cX0_branchOff 1 = .ok (.iconst 0, 1) := dk_3 (dk_at dksX0_branchOff_0 1 rfl rfl)
theorem dX0_branchOff_2 : decode cX0_branchOff 2 = .ok (.aload_n 0, 1) := dk_42 (dk_at dksX0_branchOff_0 2 rfl rfl)
theorem dX0_branchOff_3 : decode cX0_branchOff 3 = .ok (.iload_n 1, 1) := dk_27 (dk_at dksX0_branchOff_0 3 rfl rfl)
theorem dX0_branchOff_4 : decode cX0_branchOff 4 = .ok (.iload_n 2, 1) := dk_28 (dk_at dksX0_branchOff_0 4 rfl rfl)
theorem dX0_branchOff_5 : decode cX0_branchOff 5 = .ok (.invokevirtual 54, 3) := dk_182 0 54 (dk_at dksX0_branchOff_0 5 rfl rfl)
theorem dX0_branchOff_8 : decode cX0_branchOff 8 = .ok (.i2l, 1) := dk_133 (dk_at dksX0_branchOff_0 8 rfl rfl)
theorem dX0_branchOff_9 : decode cX0_branchOff 9 = .ok (.lastore, 1) := dk_80 (dk_at dksX0_branchOff_0 9 rfl rfl)
theorem dX0_branchOff_10 : decode cX0_branchOff 10 = .ok (.goto 11, 3) := dk_167 0 11 (dk_at dksX0_branchOff_0 10 rfl rfl)
theorem dX0_branchOff_13 : decode cX0_branchOff 13 = .ok (.astore 4, 2) := dk_58 4 (dk_at dksX0_branchOff_0 13 rfl rfl)
theorem dX0_branchOff_15 : decode cX0_branchOff 15 = .ok (.iconst 1, 1) := dk_4 (dk_at dksX0_branchOff_0 15 rfl rfl)
theorem dX0_branchOff_16 : decode cX0_branchOff 16 = .ok (.ireturn, 1) := dk_172 (dk_at dksX0_branchOff_0 16 rfl rfl)
theorem dX0_branchOff_17 : decode cX0_branchOff 17 = .ok (.astore 4, 2) := dk_58 4 (dk_at dksX0_branchOff_0 17 rfl rfl)
theorem dX0_branchOff_19 : decode cX0_branchOff 19 = .ok (.iconst 2, 1) := dk_5 (dk_at dksX0_branchOff_0 19 rfl rfl)
theorem dX0_branchOff_20 : decode cX0_branchOff 20 = .ok (.ireturn, 1) := dk_172 (dk_at dksX0_branchOff_0 20 rfl rfl)
theorem dX0_branchOff_21 : decode cX0_branchOff 21 = .ok (.iconst 0, 1) := dk_3 (dk_at dksX0_branchOff_0 21 rfl rfl)
theorem dX0_branchOff_22 : decode cX0_branchOff 22 = .ok (.ireturn, 1) := dk_172 (dk_at dksX0_branchOff_0 22 rfl rfl)
abbrev cX0_merge : ByteArray := method_15_code
def yX0_merge : MethodName := ⟨RX0, "merge", "(LCheckoutDesk;III[J)I"⟩
def dkwX0_merge_1 : List UInt8 := [58, 5, 6, 172, 3, 172]
abbrev dktX0_merge_1 : List UInt8 := dkwX0_merge_1 ++ []
def dkwX0_merge_0 : List UInt8 := [25, 4, 3, 42, 27, 28, 29, 182, 0, 57, 133, 80, 167, 0, 15, 58, 5, 4, 172, 58, 5, 5, 172]
abbrev dktX0_merge_0 : List UInt8 := dkwX0_merge_0 ++ dktX0_merge_1
theorem dksX0_merge_0 : cX0_merge.data.toList.drop 0 = dktX0_merge_0 := by decide +kernel
theorem dksX0_merge_1 : cX0_merge.data.toList.drop 23 = dktX0_merge_1 := dk_seg dksX0_merge_0 23 rfl rfl
theorem dX0_merge_0 : decode cX0_merge 0 = .ok (.aload 4, 2) := dk_25 4 (dk_at dksX0_merge_0 0 rfl rfl)
theorem dX0_merge_2 : decode cX0_merge 2 = .ok (.iconst 0, 1) := dk_3 (dk_at dksX0_merge_0 2 rfl rfl)
theorem dX0_merge_3 : decode cX0_merge 3 = .ok (.aload_n 0, 1) := dk_42 (dk_at dksX0_merge_0 3 rfl rfl)
theorem dX0_merge_4 : decode cX0_merge 4 = .ok (.iload_n 1, 1) := dk_27 (dk_at dksX0_merge_0 4 rfl rfl)
theorem dX0_merge_5 : decode cX0_merge 5 = .ok (.iload_n 2, 1) := dk_28 (dk_at dksX0_merge_0 5 rfl rfl)
theorem dX0_merge_6 : decode cX0_merge 6 = .ok (.iload_n 3, 1) := dk_29 (dk_at dksX0_merge_0 6 rfl rfl)
theorem dX0_merge_7 : decode cX0_merge 7 = .ok (.invokevirtual 57, 3) := dk_182 0 57 (dk_at dksX0_merge_0 7 rfl rfl)
theorem dX0_merge_10 : decode cX0_merge 10 = .ok (.i2l, 1) := dk_133 (dk_at dksX0_merge_0 10 rfl rfl)
theorem dX0_merge_11 : decode cX0_merge 11 = .ok (.lastore, 1) := dk_80 (dk_at dksX0_merge_0 11 rfl rfl)
theorem dX0_merge_12 : decode cX0_merge 12 = .ok (.goto 15, 3) := dk_167 0 15 (dk_at dksX0_merge_0 12 rfl rfl)
theorem dX0_merge_15 : decode cX0_merge 15 = .ok (.astore 5, 2) := dk_58 5 (dk_at dksX0_merge_0 15 rfl rfl)
theorem dX0_merge_17 : decode cX0_merge 17 = .ok (.iconst 1, 1) := dk_4 (dk_at dksX0_merge_0 17 rfl rfl)
theorem dX0_merge_18 : decode cX0_merge 18 = .ok (.ireturn, 1) := dk_172 (dk_at dksX0_merge_0 18 rfl rfl)
theorem dX0_merge_19 : decode cX0_merge 19 = .ok (.astore 5, 2) := dk_58 5 (dk_at dksX0_merge_0 19 rfl rfl)
theorem dX0_merge_21 : decode cX0_merge 21 = .ok (.iconst 2, 1) := dk_5 (dk_at dksX0_merge_0 21 rfl rfl)
theorem dX0_merge_22 : decode cX0_merge 22 = .ok (.ireturn, 1) := dk_172 (dk_at dksX0_merge_0 22 rfl rfl)
theorem dX0_merge_23 : decode cX0_merge 23 = .ok (.astore 5, 2) := dk_58 5 (dk_at dksX0_merge_1 0 rfl rfl)
theorem dX0_merge_25 : decode cX0_merge 25 = .ok (.iconst 3, 1) := dk_6 (dk_at dksX0_merge_1 2 rfl rfl)
theorem dX0_merge_26 : decode cX0_merge 26 = .ok (.ireturn, 1) := dk_172 (dk_at dksX0_merge_1 3 rfl rfl)
theorem dX0_merge_27 : decode cX0_merge 27 = .ok (.iconst 0, 1) := dk_3 (dk_at dksX0_merge_1 4 rfl rfl)
theorem dX0_merge_28 : decode cX0_merge 28 = .ok (.ireturn, 1) := dk_172 (dk_at dksX0_merge_1 5 rfl rfl)
abbrev cX0_linkVersion : ByteArray := method_16_code
def yX0_linkVersion : MethodName := ⟨RX0, "linkVersion", "(LCheckoutDesk;III[J)I"⟩
def dkwX0_linkVersion_1 : List UInt8 := [172]
abbrev dktX0_linkVersion_1 : List UInt8 := dkwX0_linkVersion_1 ++ []
def dkwX0_linkVersion_0 : List UInt8 := [25, 4, 3, 42, 27, 28, 29, 182, 0, 60, 133, 80, 167, 0, 11, 58, 5, 4, 172, 58, 5, 5, 172, 3]
abbrev dktX0_linkVersion_0 : List UInt8 := dkwX0_linkVersion_0 ++ dktX0_linkVersion_1
theorem dksX0_linkVersion_0 : cX0_linkVersion.data.toList.drop 0 = dktX0_linkVersion_0 := by decide +kernel
theorem dksX0_linkVersion_1 : cX0_linkVersion.data.toList.drop 24 = dktX0_linkVersion_1 := dk_seg dksX0_linkVersion_0 24 rfl rfl
theorem dX0_linkVersion_0 : decode cX0_linkVersion 0 = .ok (.aload 4, 2) := dk_25 4 (dk_at dksX0_linkVersion_0 0 rfl rfl)
theorem dX0_linkVersion_2 : decode cX0_linkVersion 2 = .ok (.iconst 0, 1) := dk_3 (dk_at dksX0_linkVersion_0 2 rfl rfl)
theorem dX0_linkVersion_3 : decode cX0_linkVersion 3 = .ok (.aload_n 0, 1) := dk_42 (dk_at dksX0_linkVersion_0 3 rfl rfl)
theorem dX0_linkVersion_4 : decode cX0_linkVersion 4 = .ok (.iload_n 1, 1) := dk_27 (dk_at dksX0_linkVersion_0 4 rfl rfl)
theorem dX0_linkVersion_5 : decode cX0_linkVersion 5 = .ok (.iload_n 2, 1) := dk_28 (dk_at dksX0_linkVersion_0 5 rfl rfl)
theorem dX0_linkVersion_6 : decode cX0_linkVersion 6 = .ok (.iload_n 3, 1) := dk_29 (dk_at dksX0_linkVersion_0 6 rfl rfl)
theorem dX0_linkVersion_7 : decode cX0_linkVersion 7 = .ok (.invokevirtual 60, 3) := dk_182 0 60 (dk_at dksX0_linkVersion_0 7 rfl rfl)
theorem dX0_linkVersion_10 : decode cX0_linkVersion 10 = .ok (.i2l, 1) := dk_133 (dk_at dksX0_linkVersion_0 10 rfl rfl)
theorem dX0_linkVersion_11 : decode cX0_linkVersion 11 = .ok (.lastore, 1) := dk_80 (dk_at dksX0_linkVersion_0 11 rfl rfl)
theorem dX0_linkVersion_12 : decode cX0_linkVersion 12 = .ok (.goto 11, 3) := dk_167 0 11 (dk_at dksX0_linkVersion_0 12 rfl rfl)
theorem dX0_linkVersion_15 : decode cX0_linkVersion 15 = .ok (.astore 5, 2) := dk_58 5 (dk_at dksX0_linkVersion_0 15 rfl rfl)
theorem dX0_linkVersion_17 : decode cX0_linkVersion 17 = .ok (.iconst 1, 1) := dk_4 (dk_at dksX0_linkVersion_0 17 rfl rfl)
theorem dX0_linkVersion_18 : decode cX0_linkVersion 18 = .ok (.ireturn, 1) := dk_172 (dk_at dksX0_linkVersion_0 18 rfl rfl)
theorem dX0_linkVersion_19 : decode cX0_linkVersion 19 = .ok (.astore 5, 2) := dk_58 5 (dk_at dksX0_linkVersion_0 19 rfl rfl)
theorem dX0_linkVersion_21 : decode cX0_linkVersion 21 = .ok (.iconst 2, 1) := dk_5 (dk_at dksX0_linkVersion_0 21 rfl rfl)
theorem dX0_linkVersion_22 : decode cX0_linkVersion 22 = .ok (.ireturn, 1) := dk_172 (dk_at dksX0_linkVersion_0 22 rfl rfl)
theorem dX0_linkVersion_23 : decode cX0_linkVersion 23 = .ok (.iconst 0, 1) := dk_3 (dk_at dksX0_linkVersion_0 23 rfl rfl)
theorem dX0_linkVersion_24 : decode cX0_linkVersion 24 = .ok (.ireturn, 1) := dk_172 (dk_at dksX0_linkVersion_1 0 rfl rfl)
abbrev cX0_linkDocument : ByteArray := method_17_code
def yX0_linkDocument : MethodName := ⟨RX0, "linkDocument", "(LCheckoutDesk;IIII[J)I"⟩
def dkwX0_linkDocument_1 : List UInt8 := [172, 58, 6, 6, 172, 3, 172]
abbrev dktX0_linkDocument_1 : List UInt8 := dkwX0_linkDocument_1 ++ []
def dkwX0_linkDocument_0 : List UInt8 := [25, 5, 3, 42, 27, 28, 29, 21, 4, 182, 0, 63, 133, 80, 167, 0, 15, 58, 6, 4, 172, 58, 6, 5]
abbrev dktX0_linkDocument_0 : List UInt8 := dkwX0_linkDocument_0 ++ dktX0_linkDocument_1
theorem dksX0_linkDocument_0 : cX0_linkDocument.data.toList.drop 0 = dktX0_linkDocument_0 := by decide +kernel
theorem dksX0_linkDocument_1 : cX0_linkDocument.data.toList.drop 24 = dktX0_linkDocument_1 := dk_seg dksX0_linkDocument_0 24 rfl rfl
theorem dX0_linkDocument_0 : decode cX0_linkDocument 0 = .ok (.aload 5, 2) := dk_25 5 (dk_at dksX0_linkDocument_0 0 rfl rfl)
theorem dX0_linkDocument_2 : decode cX0_linkDocument 2 = .ok (.iconst 0, 1) := dk_3 (dk_at dksX0_linkDocument_0 2 rfl rfl)
theorem dX0_linkDocument_3 : decode cX0_linkDocument 3 = .ok (.aload_n 0, 1) := dk_42 (dk_at dksX0_linkDocument_0 3 rfl rfl)
theorem dX0_linkDocument_4 : decode cX0_linkDocument 4 = .ok (.iload_n 1, 1) := dk_27 (dk_at dksX0_linkDocument_0 4 rfl rfl)
theorem dX0_linkDocument_5 : decode cX0_linkDocument 5 = .ok (.iload_n 2, 1) := dk_28 (dk_at dksX0_linkDocument_0 5 rfl rfl)
theorem dX0_linkDocument_6 : decode cX0_linkDocument 6 = .ok (.iload_n 3, 1) := dk_29 (dk_at dksX0_linkDocument_0 6 rfl rfl)
theorem dX0_linkDocument_7 : decode cX0_linkDocument 7 = .ok (.iload 4, 2) := dk_21 4 (dk_at dksX0_linkDocument_0 7 rfl rfl)
theorem dX0_linkDocument_9 : decode cX0_linkDocument 9 = .ok (.invokevirtual 63, 3) := dk_182 0 63 (dk_at dksX0_linkDocument_0 9 rfl rfl)
theorem dX0_linkDocument_12 : decode cX0_linkDocument 12 = .ok (.i2l, 1) := dk_133 (dk_at dksX0_linkDocument_0 12 rfl rfl)
theorem dX0_linkDocument_13 : decode cX0_linkDocument 13 = .ok (.lastore, 1) := dk_80 (dk_at dksX0_linkDocument_0 13 rfl rfl)
theorem dX0_linkDocument_14 : decode cX0_linkDocument 14 = .ok (.goto 15, 3) := dk_167 0 15 (dk_at dksX0_linkDocument_0 14 rfl rfl)
theorem dX0_linkDocument_17 : decode cX0_linkDocument 17 = .ok (.astore 6, 2) := dk_58 6 (dk_at dksX0_linkDocument_0 17 rfl rfl)
theorem dX0_linkDocument_19 : decode cX0_linkDocument 19 = .ok (.iconst 1, 1) := dk_4 (dk_at dksX0_linkDocument_0 19 rfl rfl)
theorem dX0_linkDocument_20 : decode cX0_linkDocument 20 = .ok (.ireturn, 1) := dk_172 (dk_at dksX0_linkDocument_0 20 rfl rfl)
theorem dX0_linkDocument_21 : decode cX0_linkDocument 21 = .ok (.astore 6, 2) := dk_58 6 (dk_at dksX0_linkDocument_0 21 rfl rfl)
theorem dX0_linkDocument_23 : decode cX0_linkDocument 23 = .ok (.iconst 2, 1) := dk_5 (dk_at dksX0_linkDocument_0 23 rfl rfl)
theorem dX0_linkDocument_24 : decode cX0_linkDocument 24 = .ok (.ireturn, 1) := dk_172 (dk_at dksX0_linkDocument_1 0 rfl rfl)
theorem dX0_linkDocument_25 : decode cX0_linkDocument 25 = .ok (.astore 6, 2) := dk_58 6 (dk_at dksX0_linkDocument_1 1 rfl rfl)
theorem dX0_linkDocument_27 : decode cX0_linkDocument 27 = .ok (.iconst 3, 1) := dk_6 (dk_at dksX0_linkDocument_1 3 rfl rfl)
theorem dX0_linkDocument_28 : decode cX0_linkDocument 28 = .ok (.ireturn, 1) := dk_172 (dk_at dksX0_linkDocument_1 4 rfl rfl)
theorem dX0_linkDocument_29 : decode cX0_linkDocument 29 = .ok (.iconst 0, 1) := dk_3 (dk_at dksX0_linkDocument_1 5 rfl rfl)
theorem dX0_linkDocument_30 : decode cX0_linkDocument 30 = .ok (.ireturn, 1) := dk_172 (dk_at dksX0_linkDocument_1 6 rfl rfl)
abbrev cX0_unlink : ByteArray := method_18_code
def yX0_unlink : MethodName := ⟨RX0, "unlink", "(LCheckoutDesk;II[J)I"⟩
def dkwX0_unlink_0 : List UInt8 := [45, 3, 42, 27, 28, 182, 0, 66, 133, 80, 167, 0, 11, 58, 4, 4, 172, 58, 4, 5, 172, 3, 172]
abbrev dktX0_unlink_0 : List UInt8 := dkwX0_unlink_0 ++ []
theorem dksX0_unlink_0 : cX0_unlink.data.toList.drop 0 = dktX0_unlink_0 := by decide +kernel
theorem dX0_unlink_0 : decode cX0_unlink 0 = .ok (.aload_n 3, 1) := dk_45 (dk_at dksX0_unlink_0 0 rfl rfl)
theorem dX0_unlink_1 : decode cX0_unlink 1 = .ok (.iconst 0, 1) := dk_3 (dk_at dksX0_unlink_0 1 rfl rfl)
theorem dX0_unlink_2 : decode cX0_unlink 2 = .ok (.aload_n 0, 1) := dk_42 (dk_at dksX0_unlink_0 2 rfl rfl)
theorem dX0_unlink_3 : decode cX0_unlink 3 = .ok (.iload_n 1, 1) := dk_27 (dk_at dksX0_unlink_0 3 rfl rfl)
theorem dX0_unlink_4 : decode cX0_unlink 4 = .ok (.iload_n 2, 1) := dk_28 (dk_at dksX0_unlink_0 4 rfl rfl)
theorem dX0_unlink_5 : decode cX0_unlink 5 = .ok (.invokevirtual 66, 3) := dk_182 0 66 (dk_at dksX0_unlink_0 5 rfl rfl)
theorem dX0_unlink_8 : decode cX0_unlink 8 = .ok (.i2l, 1) := dk_133 (dk_at dksX0_unlink_0 8 rfl rfl)
theorem dX0_unlink_9 : decode cX0_unlink 9 = .ok (.lastore, 1) := dk_80 (dk_at dksX0_unlink_0 9 rfl rfl)
theorem dX0_unlink_10 : decode cX0_unlink 10 = .ok (.goto 11, 3) := dk_167 0 11 (dk_at dksX0_unlink_0 10 rfl rfl)
theorem dX0_unlink_13 : decode cX0_unlink 13 = .ok (.astore 4, 2) := dk_58 4 (dk_at dksX0_unlink_0 13 rfl rfl)
theorem dX0_unlink_15 : decode cX0_unlink 15 = .ok (.iconst 1, 1) := dk_4 (dk_at dksX0_unlink_0 15 rfl rfl)
theorem dX0_unlink_16 : decode cX0_unlink 16 = .ok (.ireturn, 1) := dk_172 (dk_at dksX0_unlink_0 16 rfl rfl)
theorem dX0_unlink_17 : decode cX0_unlink 17 = .ok (.astore 4, 2) := dk_58 4 (dk_at dksX0_unlink_0 17 rfl rfl)
theorem dX0_unlink_19 : decode cX0_unlink 19 = .ok (.iconst 2, 1) := dk_5 (dk_at dksX0_unlink_0 19 rfl rfl)
theorem dX0_unlink_20 : decode cX0_unlink 20 = .ok (.ireturn, 1) := dk_172 (dk_at dksX0_unlink_0 20 rfl rfl)
theorem dX0_unlink_21 : decode cX0_unlink 21 = .ok (.iconst 0, 1) := dk_3 (dk_at dksX0_unlink_0 21 rfl rfl)
theorem dX0_unlink_22 : decode cX0_unlink 22 = .ok (.ireturn, 1) := dk_172 (dk_at dksX0_unlink_0 22 rfl rfl)
abbrev cX0_branches : ByteArray := method_19_code
def yX0_branches : MethodName := ⟨RX0, "branches", "(LCheckoutDesk;I[J)I"⟩
def dkwX0_branches_0 : List UInt8 := [44, 3, 42, 27, 182, 0, 69, 133, 80, 167, 0, 6, 78, 4, 172, 3, 172]
abbrev dktX0_branches_0 : List UInt8 := dkwX0_branches_0 ++ []
theorem dksX0_branches_0 : cX0_branches.data.toList.drop 0 = dktX0_branches_0 := by decide +kernel
theorem dX0_branches_0 : decode cX0_branches 0 = .ok (.aload_n 2, 1) := dk_44 (dk_at dksX0_branches_0 0 rfl rfl)
theorem dX0_branches_1 : decode cX0_branches 1 = .ok (.iconst 0, 1) := dk_3 (dk_at dksX0_branches_0 1 rfl rfl)
theorem dX0_branches_2 : decode cX0_branches 2 = .ok (.aload_n 0, 1) := dk_42 (dk_at dksX0_branches_0 2 rfl rfl)
theorem dX0_branches_3 : decode cX0_branches 3 = .ok (.iload_n 1, 1) := dk_27 (dk_at dksX0_branches_0 3 rfl rfl)
theorem dX0_branches_4 : decode cX0_branches 4 = .ok (.invokevirtual 69, 3) := dk_182 0 69 (dk_at dksX0_branches_0 4 rfl rfl)
theorem dX0_branches_7 : decode cX0_branches 7 = .ok (.i2l, 1) := dk_133 (dk_at dksX0_branches_0 7 rfl rfl)
theorem dX0_branches_8 : decode cX0_branches 8 = .ok (.lastore, 1) := dk_80 (dk_at dksX0_branches_0 8 rfl rfl)
theorem dX0_branches_9 : decode cX0_branches 9 = .ok (.goto 6, 3) := dk_167 0 6 (dk_at dksX0_branches_0 9 rfl rfl)
theorem dX0_branches_12 : decode cX0_branches 12 = .ok (.astore_n 3, 1) := dk_78 (dk_at dksX0_branches_0 12 rfl rfl)
theorem dX0_branches_13 : decode cX0_branches 13 = .ok (.iconst 1, 1) := dk_4 (dk_at dksX0_branches_0 13 rfl rfl)
theorem dX0_branches_14 : decode cX0_branches 14 = .ok (.ireturn, 1) := dk_172 (dk_at dksX0_branches_0 14 rfl rfl)
theorem dX0_branches_15 : decode cX0_branches 15 = .ok (.iconst 0, 1) := dk_3 (dk_at dksX0_branches_0 15 rfl rfl)
theorem dX0_branches_16 : decode cX0_branches 16 = .ok (.ireturn, 1) := dk_172 (dk_at dksX0_branches_0 16 rfl rfl)
abbrev cX0_rightOf : ByteArray := method_20_code
def yX0_rightOf : MethodName := ⟨RX0, "rightOf", "(LCheckoutDesk;II[J)I"⟩
def dkwX0_rightOf_0 : List UInt8 := [45, 3, 42, 27, 28, 182, 0, 72, 133, 80, 167, 0, 7, 58, 4, 4, 172, 3, 172]
abbrev dktX0_rightOf_0 : List UInt8 := dkwX0_rightOf_0 ++ []
theorem dksX0_rightOf_0 : cX0_rightOf.data.toList.drop 0 = dktX0_rightOf_0 := by decide +kernel
theorem dX0_rightOf_0 : decode cX0_rightOf 0 = .ok (.aload_n 3, 1) := dk_45 (dk_at dksX0_rightOf_0 0 rfl rfl)
theorem dX0_rightOf_1 : decode cX0_rightOf 1 = .ok (.iconst 0, 1) := dk_3 (dk_at dksX0_rightOf_0 1 rfl rfl)
theorem dX0_rightOf_2 : decode cX0_rightOf 2 = .ok (.aload_n 0, 1) := dk_42 (dk_at dksX0_rightOf_0 2 rfl rfl)
theorem dX0_rightOf_3 : decode cX0_rightOf 3 = .ok (.iload_n 1, 1) := dk_27 (dk_at dksX0_rightOf_0 3 rfl rfl)
theorem dX0_rightOf_4 : decode cX0_rightOf 4 = .ok (.iload_n 2, 1) := dk_28 (dk_at dksX0_rightOf_0 4 rfl rfl)
theorem dX0_rightOf_5 : decode cX0_rightOf 5 = .ok (.invokevirtual 72, 3) := dk_182 0 72 (dk_at dksX0_rightOf_0 5 rfl rfl)
theorem dX0_rightOf_8 : decode cX0_rightOf 8 = .ok (.i2l, 1) := dk_133 (dk_at dksX0_rightOf_0 8 rfl rfl)
theorem dX0_rightOf_9 : decode cX0_rightOf 9 = .ok (.lastore, 1) := dk_80 (dk_at dksX0_rightOf_0 9 rfl rfl)
theorem dX0_rightOf_10 : decode cX0_rightOf 10 = .ok (.goto 7, 3) := dk_167 0 7 (dk_at dksX0_rightOf_0 10 rfl rfl)
theorem dX0_rightOf_13 : decode cX0_rightOf 13 = .ok (.astore 4, 2) := dk_58 4 (dk_at dksX0_rightOf_0 13 rfl rfl)
theorem dX0_rightOf_15 : decode cX0_rightOf 15 = .ok (.iconst 1, 1) := dk_4 (dk_at dksX0_rightOf_0 15 rfl rfl)
theorem dX0_rightOf_16 : decode cX0_rightOf 16 = .ok (.ireturn, 1) := dk_172 (dk_at dksX0_rightOf_0 16 rfl rfl)
theorem dX0_rightOf_17 : decode cX0_rightOf 17 = .ok (.iconst 0, 1) := dk_3 (dk_at dksX0_rightOf_0 17 rfl rfl)
theorem dX0_rightOf_18 : decode cX0_rightOf 18 = .ok (.ireturn, 1) := dk_172 (dk_at dksX0_rightOf_0 18 rfl rfl)
abbrev cX0_numberOf : ByteArray := method_21_code
def yX0_numberOf : MethodName := ⟨RX0, "numberOf", "(LCheckoutDesk;I[J)I"⟩
def dkwX0_numberOf_0 : List UInt8 := [44, 3, 42, 27, 182, 0, 75, 133, 80, 167, 0, 6, 78, 4, 172, 3, 172]
abbrev dktX0_numberOf_0 : List UInt8 := dkwX0_numberOf_0 ++ []
theorem dksX0_numberOf_0 : cX0_numberOf.data.toList.drop 0 = dktX0_numberOf_0 := by decide +kernel
theorem dX0_numberOf_0 : decode cX0_numberOf 0 = .ok (.aload_n 2, 1) := dk_44 (dk_at dksX0_numberOf_0 0 rfl rfl)
theorem dX0_numberOf_1 : decode cX0_numberOf 1 = .ok (.iconst 0, 1) := dk_3 (dk_at dksX0_numberOf_0 1 rfl rfl)
theorem dX0_numberOf_2 : decode cX0_numberOf 2 = .ok (.aload_n 0, 1) := dk_42 (dk_at dksX0_numberOf_0 2 rfl rfl)
theorem dX0_numberOf_3 : decode cX0_numberOf 3 = .ok (.iload_n 1, 1) := dk_27 (dk_at dksX0_numberOf_0 3 rfl rfl)
theorem dX0_numberOf_4 : decode cX0_numberOf 4 = .ok (.invokevirtual 75, 3) := dk_182 0 75 (dk_at dksX0_numberOf_0 4 rfl rfl)
theorem dX0_numberOf_7 : decode cX0_numberOf 7 = .ok (.i2l, 1) := dk_133 (dk_at dksX0_numberOf_0 7 rfl rfl)
theorem dX0_numberOf_8 : decode cX0_numberOf 8 = .ok (.lastore, 1) := dk_80 (dk_at dksX0_numberOf_0 8 rfl rfl)
theorem dX0_numberOf_9 : decode cX0_numberOf 9 = .ok (.goto 6, 3) := dk_167 0 6 (dk_at dksX0_numberOf_0 9 rfl rfl)
theorem dX0_numberOf_12 : decode cX0_numberOf 12 = .ok (.astore_n 3, 1) := dk_78 (dk_at dksX0_numberOf_0 12 rfl rfl)
theorem dX0_numberOf_13 : decode cX0_numberOf 13 = .ok (.iconst 1, 1) := dk_4 (dk_at dksX0_numberOf_0 13 rfl rfl)
theorem dX0_numberOf_14 : decode cX0_numberOf 14 = .ok (.ireturn, 1) := dk_172 (dk_at dksX0_numberOf_0 14 rfl rfl)
theorem dX0_numberOf_15 : decode cX0_numberOf 15 = .ok (.iconst 0, 1) := dk_3 (dk_at dksX0_numberOf_0 15 rfl rfl)
theorem dX0_numberOf_16 : decode cX0_numberOf 16 = .ok (.ireturn, 1) := dk_172 (dk_at dksX0_numberOf_0 16 rfl rfl)
abbrev cX0_valueOf : ByteArray := method_22_code
def yX0_valueOf : MethodName := ⟨RX0, "valueOf", "(LCheckoutDesk;II[J)I"⟩
def dkwX0_valueOf_0 : List UInt8 := [45, 3, 42, 27, 28, 182, 0, 78, 133, 80, 167, 0, 11, 58, 4, 4, 172, 58, 4, 5, 172, 3, 172]
abbrev dktX0_valueOf_0 : List UInt8 := dkwX0_valueOf_0 ++ []
theorem dksX0_valueOf_0 : cX0_valueOf.data.toList.drop 0 = dktX0_valueOf_0 := by decide +kernel
theorem dX0_valueOf_0 : decode cX0_valueOf 0 = .ok (.aload_n 3, 1) := dk_45 (dk_at dksX0_valueOf_0 0 rfl rfl)
theorem dX0_valueOf_1 : decode cX0_valueOf 1 = .ok (.iconst 0, 1) := dk_3 (dk_at dksX0_valueOf_0 1 rfl rfl)
theorem dX0_valueOf_2 : decode cX0_valueOf 2 = .ok (.aload_n 0, 1) := dk_42 (dk_at dksX0_valueOf_0 2 rfl rfl)
theorem dX0_valueOf_3 : decode cX0_valueOf 3 = .ok (.iload_n 1, 1) := dk_27 (dk_at dksX0_valueOf_0 3 rfl rfl)
theorem dX0_valueOf_4 : decode cX0_valueOf 4 = .ok (.iload_n 2, 1) := dk_28 (dk_at dksX0_valueOf_0 4 rfl rfl)
theorem dX0_valueOf_5 : decode cX0_valueOf 5 = .ok (.invokevirtual 78, 3) := dk_182 0 78 (dk_at dksX0_valueOf_0 5 rfl rfl)
theorem dX0_valueOf_8 : decode cX0_valueOf 8 = .ok (.i2l, 1) := dk_133 (dk_at dksX0_valueOf_0 8 rfl rfl)
theorem dX0_valueOf_9 : decode cX0_valueOf 9 = .ok (.lastore, 1) := dk_80 (dk_at dksX0_valueOf_0 9 rfl rfl)
theorem dX0_valueOf_10 : decode cX0_valueOf 10 = .ok (.goto 11, 3) := dk_167 0 11 (dk_at dksX0_valueOf_0 10 rfl rfl)
theorem dX0_valueOf_13 : decode cX0_valueOf 13 = .ok (.astore 4, 2) := dk_58 4 (dk_at dksX0_valueOf_0 13 rfl rfl)
theorem dX0_valueOf_15 : decode cX0_valueOf 15 = .ok (.iconst 1, 1) := dk_4 (dk_at dksX0_valueOf_0 15 rfl rfl)
theorem dX0_valueOf_16 : decode cX0_valueOf 16 = .ok (.ireturn, 1) := dk_172 (dk_at dksX0_valueOf_0 16 rfl rfl)
theorem dX0_valueOf_17 : decode cX0_valueOf 17 = .ok (.astore 4, 2) := dk_58 4 (dk_at dksX0_valueOf_0 17 rfl rfl)
theorem dX0_valueOf_19 : decode cX0_valueOf 19 = .ok (.iconst 2, 1) := dk_5 (dk_at dksX0_valueOf_0 19 rfl rfl)
theorem dX0_valueOf_20 : decode cX0_valueOf 20 = .ok (.ireturn, 1) := dk_172 (dk_at dksX0_valueOf_0 20 rfl rfl)
theorem dX0_valueOf_21 : decode cX0_valueOf 21 = .ok (.iconst 0, 1) := dk_3 (dk_at dksX0_valueOf_0 21 rfl rfl)
theorem dX0_valueOf_22 : decode cX0_valueOf 22 = .ok (.ireturn, 1) := dk_172 (dk_at dksX0_valueOf_0 22 rfl rfl)
abbrev cX0_newest : ByteArray := method_23_code
def yX0_newest : MethodName := ⟨RX0, "newest", "(LCheckoutDesk;II[J)I"⟩
def dkwX0_newest_0 : List UInt8 := [45, 3, 42, 27, 28, 182, 0, 81, 133, 80, 167, 0, 7, 58, 4, 4, 172, 3, 172]
abbrev dktX0_newest_0 : List UInt8 := dkwX0_newest_0 ++ []
theorem dksX0_newest_0 : cX0_newest.data.toList.drop 0 = dktX0_newest_0 := by decide +kernel
theorem dX0_newest_0 : decode cX0_newest 0 = .ok (.aload_n 3, 1) := dk_45 (dk_at dksX0_newest_0 0 rfl rfl)
theorem dX0_newest_1 : decode cX0_newest 1 = .ok (.iconst 0, 1) := dk_3 (dk_at dksX0_newest_0 1 rfl rfl)
theorem dX0_newest_2 : decode cX0_newest 2 = .ok (.aload_n 0, 1) := dk_42 (dk_at dksX0_newest_0 2 rfl rfl)
theorem dX0_newest_3 : decode cX0_newest 3 = .ok (.iload_n 1, 1) := dk_27 (dk_at dksX0_newest_0 3 rfl rfl)
theorem dX0_newest_4 : decode cX0_newest 4 = .ok (.iload_n 2, 1) := dk_28 (dk_at dksX0_newest_0 4 rfl rfl)
theorem dX0_newest_5 : decode cX0_newest 5 = .ok (.invokevirtual 81, 3) := dk_182 0 81 (dk_at dksX0_newest_0 5 rfl rfl)
theorem dX0_newest_8 : decode cX0_newest 8 = .ok (.i2l, 1) := dk_133 (dk_at dksX0_newest_0 8 rfl rfl)
theorem dX0_newest_9 : decode cX0_newest 9 = .ok (.lastore, 1) := dk_80 (dk_at dksX0_newest_0 9 rfl rfl)
theorem dX0_newest_10 : decode cX0_newest 10 = .ok (.goto 7, 3) := dk_167 0 7 (dk_at dksX0_newest_0 10 rfl rfl)
theorem dX0_newest_13 : decode cX0_newest 13 = .ok (.astore 4, 2) := dk_58 4 (dk_at dksX0_newest_0 13 rfl rfl)
theorem dX0_newest_15 : decode cX0_newest 15 = .ok (.iconst 1, 1) := dk_4 (dk_at dksX0_newest_0 15 rfl rfl)
theorem dX0_newest_16 : decode cX0_newest 16 = .ok (.ireturn, 1) := dk_172 (dk_at dksX0_newest_0 16 rfl rfl)
theorem dX0_newest_17 : decode cX0_newest 17 = .ok (.iconst 0, 1) := dk_3 (dk_at dksX0_newest_0 17 rfl rfl)
theorem dX0_newest_18 : decode cX0_newest 18 = .ok (.ireturn, 1) := dk_172 (dk_at dksX0_newest_0 18 rfl rfl)
abbrev cX0_originOf : ByteArray := method_24_code
def yX0_originOf : MethodName := ⟨RX0, "originOf", "(LCheckoutDesk;II[J)I"⟩
def dkwX0_originOf_0 : List UInt8 := [45, 3, 42, 27, 28, 182, 0, 84, 133, 80, 167, 0, 7, 58, 4, 4, 172, 3, 172]
abbrev dktX0_originOf_0 : List UInt8 := dkwX0_originOf_0 ++ []
theorem dksX0_originOf_0 : cX0_originOf.data.toList.drop 0 = dktX0_originOf_0 := by decide +kernel
theorem dX0_originOf_0 : decode cX0_originOf 0 = .ok (.aload_n 3, 1) := dk_45 (dk_at dksX0_originOf_0 0 rfl rfl)
theorem dX0_originOf_1 : decode cX0_originOf 1 = .ok (.iconst 0, 1) := dk_3 (dk_at dksX0_originOf_0 1 rfl rfl)
theorem dX0_originOf_2 : decode cX0_originOf 2 = .ok (.aload_n 0, 1) := dk_42 (dk_at dksX0_originOf_0 2 rfl rfl)
theorem dX0_originOf_3 : decode cX0_originOf 3 = .ok (.iload_n 1, 1) := dk_27 (dk_at dksX0_originOf_0 3 rfl rfl)
theorem dX0_originOf_4 : decode cX0_originOf 4 = .ok (.iload_n 2, 1) := dk_28 (dk_at dksX0_originOf_0 4 rfl rfl)
theorem dX0_originOf_5 : decode cX0_originOf 5 = .ok (.invokevirtual 84, 3) := dk_182 0 84 (dk_at dksX0_originOf_0 5 rfl rfl)
theorem dX0_originOf_8 : decode cX0_originOf 8 = .ok (.i2l, 1) := dk_133 (dk_at dksX0_originOf_0 8 rfl rfl)
theorem dX0_originOf_9 : decode cX0_originOf 9 = .ok (.lastore, 1) := dk_80 (dk_at dksX0_originOf_0 9 rfl rfl)
theorem dX0_originOf_10 : decode cX0_originOf 10 = .ok (.goto 7, 3) := dk_167 0 7 (dk_at dksX0_originOf_0 10 rfl rfl)
theorem dX0_originOf_13 : decode cX0_originOf 13 = .ok (.astore 4, 2) := dk_58 4 (dk_at dksX0_originOf_0 13 rfl rfl)
theorem dX0_originOf_15 : decode cX0_originOf 15 = .ok (.iconst 1, 1) := dk_4 (dk_at dksX0_originOf_0 15 rfl rfl)
theorem dX0_originOf_16 : decode cX0_originOf 16 = .ok (.ireturn, 1) := dk_172 (dk_at dksX0_originOf_0 16 rfl rfl)
theorem dX0_originOf_17 : decode cX0_originOf 17 = .ok (.iconst 0, 1) := dk_3 (dk_at dksX0_originOf_0 17 rfl rfl)
theorem dX0_originOf_18 : decode cX0_originOf 18 = .ok (.ireturn, 1) := dk_172 (dk_at dksX0_originOf_0 18 rfl rfl)
abbrev cX0_holder : ByteArray := method_25_code
def yX0_holder : MethodName := ⟨RX0, "holder", "(LCheckoutDesk;II[J)I"⟩
def dkwX0_holder_0 : List UInt8 := [45, 3, 42, 27, 28, 182, 0, 87, 133, 80, 167, 0, 7, 58, 4, 4, 172, 3, 172]
abbrev dktX0_holder_0 : List UInt8 := dkwX0_holder_0 ++ []
theorem dksX0_holder_0 : cX0_holder.data.toList.drop 0 = dktX0_holder_0 := by decide +kernel
theorem dX0_holder_0 : decode cX0_holder 0 = .ok (.aload_n 3, 1) := dk_45 (dk_at dksX0_holder_0 0 rfl rfl)
theorem dX0_holder_1 : decode cX0_holder 1 = .ok (.iconst 0, 1) := dk_3 (dk_at dksX0_holder_0 1 rfl rfl)
theorem dX0_holder_2 : decode cX0_holder 2 = .ok (.aload_n 0, 1) := dk_42 (dk_at dksX0_holder_0 2 rfl rfl)
theorem dX0_holder_3 : decode cX0_holder 3 = .ok (.iload_n 1, 1) := dk_27 (dk_at dksX0_holder_0 3 rfl rfl)
theorem dX0_holder_4 : decode cX0_holder 4 = .ok (.iload_n 2, 1) := dk_28 (dk_at dksX0_holder_0 4 rfl rfl)
theorem dX0_holder_5 : decode cX0_holder 5 = .ok (.invokevirtual 87, 3) := dk_182 0 87 (dk_at dksX0_holder_0 5 rfl rfl)
theorem dX0_holder_8 : decode cX0_holder 8 = .ok (.i2l, 1) := dk_133 (dk_at dksX0_holder_0 8 rfl rfl)
theorem dX0_holder_9 : decode cX0_holder 9 = .ok (.lastore, 1) := dk_80 (dk_at dksX0_holder_0 9 rfl rfl)
theorem dX0_holder_10 : decode cX0_holder 10 = .ok (.goto 7, 3) := dk_167 0 7 (dk_at dksX0_holder_0 10 rfl rfl)
theorem dX0_holder_13 : decode cX0_holder 13 = .ok (.astore 4, 2) := dk_58 4 (dk_at dksX0_holder_0 13 rfl rfl)
theorem dX0_holder_15 : decode cX0_holder 15 = .ok (.iconst 1, 1) := dk_4 (dk_at dksX0_holder_0 15 rfl rfl)
theorem dX0_holder_16 : decode cX0_holder 16 = .ok (.ireturn, 1) := dk_172 (dk_at dksX0_holder_0 16 rfl rfl)
theorem dX0_holder_17 : decode cX0_holder 17 = .ok (.iconst 0, 1) := dk_3 (dk_at dksX0_holder_0 17 rfl rfl)
theorem dX0_holder_18 : decode cX0_holder 18 = .ok (.ireturn, 1) := dk_172 (dk_at dksX0_holder_0 18 rfl rfl)
abbrev cX0_hoursLeft : ByteArray := method_26_code
def yX0_hoursLeft : MethodName := ⟨RX0, "hoursLeft", "(LCheckoutDesk;II[J)I"⟩
def dkwX0_hoursLeft_0 : List UInt8 := [45, 3, 42, 27, 28, 182, 0, 90, 133, 80, 167, 0, 7, 58, 4, 4, 172, 3, 172]
abbrev dktX0_hoursLeft_0 : List UInt8 := dkwX0_hoursLeft_0 ++ []
theorem dksX0_hoursLeft_0 : cX0_hoursLeft.data.toList.drop 0 = dktX0_hoursLeft_0 := by decide +kernel
theorem dX0_hoursLeft_0 : decode cX0_hoursLeft 0 = .ok (.aload_n 3, 1) := dk_45 (dk_at dksX0_hoursLeft_0 0 rfl rfl)
theorem dX0_hoursLeft_1 : decode cX0_hoursLeft 1 = .ok (.iconst 0, 1) := dk_3 (dk_at dksX0_hoursLeft_0 1 rfl rfl)
theorem dX0_hoursLeft_2 : decode cX0_hoursLeft 2 = .ok (.aload_n 0, 1) := dk_42 (dk_at dksX0_hoursLeft_0 2 rfl rfl)
theorem dX0_hoursLeft_3 : decode cX0_hoursLeft 3 = .ok (.iload_n 1, 1) := dk_27 (dk_at dksX0_hoursLeft_0 3 rfl rfl)
theorem dX0_hoursLeft_4 : decode cX0_hoursLeft 4 = .ok (.iload_n 2, 1) := dk_28 (dk_at dksX0_hoursLeft_0 4 rfl rfl)
theorem dX0_hoursLeft_5 : decode cX0_hoursLeft 5 = .ok (.invokevirtual 90, 3) := dk_182 0 90 (dk_at dksX0_hoursLeft_0 5 rfl rfl)
theorem dX0_hoursLeft_8 : decode cX0_hoursLeft 8 = .ok (.i2l, 1) := dk_133 (dk_at dksX0_hoursLeft_0 8 rfl rfl)
theorem dX0_hoursLeft_9 : decode cX0_hoursLeft 9 = .ok (.lastore, 1) := dk_80 (dk_at dksX0_hoursLeft_0 9 rfl rfl)
theorem dX0_hoursLeft_10 : decode cX0_hoursLeft 10 = .ok (.goto 7, 3) := dk_167 0 7 (dk_at dksX0_hoursLeft_0 10 rfl rfl)
theorem dX0_hoursLeft_13 : decode cX0_hoursLeft 13 = .ok (.astore 4, 2) := dk_58 4 (dk_at dksX0_hoursLeft_0 13 rfl rfl)
theorem dX0_hoursLeft_15 : decode cX0_hoursLeft 15 = .ok (.iconst 1, 1) := dk_4 (dk_at dksX0_hoursLeft_0 15 rfl rfl)
theorem dX0_hoursLeft_16 : decode cX0_hoursLeft 16 = .ok (.ireturn, 1) := dk_172 (dk_at dksX0_hoursLeft_0 16 rfl rfl)
theorem dX0_hoursLeft_17 : decode cX0_hoursLeft 17 = .ok (.iconst 0, 1) := dk_3 (dk_at dksX0_hoursLeft_0 17 rfl rfl)
theorem dX0_hoursLeft_18 : decode cX0_hoursLeft 18 = .ok (.ireturn, 1) := dk_172 (dk_at dksX0_hoursLeft_0 18 rfl rfl)
abbrev cX0_maySee : ByteArray := method_27_code
def yX0_maySee : MethodName := ⟨RX0, "maySee", "(LCheckoutDesk;II[J)I"⟩
def dkwX0_maySee_1 : List UInt8 := [3, 172]
abbrev dktX0_maySee_1 : List UInt8 := dkwX0_maySee_1 ++ []
def dkwX0_maySee_0 : List UInt8 := [45, 3, 42, 27, 28, 182, 0, 93, 153, 0, 7, 10, 167, 0, 4, 9, 80, 167, 0, 7, 58, 4, 4, 172]
abbrev dktX0_maySee_0 : List UInt8 := dkwX0_maySee_0 ++ dktX0_maySee_1
theorem dksX0_maySee_0 : cX0_maySee.data.toList.drop 0 = dktX0_maySee_0 := by decide +kernel
theorem dksX0_maySee_1 : cX0_maySee.data.toList.drop 24 = dktX0_maySee_1 := dk_seg dksX0_maySee_0 24 rfl rfl
theorem dX0_maySee_0 : decode cX0_maySee 0 = .ok (.aload_n 3, 1) := dk_45 (dk_at dksX0_maySee_0 0 rfl rfl)
theorem dX0_maySee_1 : decode cX0_maySee 1 = .ok (.iconst 0, 1) := dk_3 (dk_at dksX0_maySee_0 1 rfl rfl)
theorem dX0_maySee_2 : decode cX0_maySee 2 = .ok (.aload_n 0, 1) := dk_42 (dk_at dksX0_maySee_0 2 rfl rfl)
theorem dX0_maySee_3 : decode cX0_maySee 3 = .ok (.iload_n 1, 1) := dk_27 (dk_at dksX0_maySee_0 3 rfl rfl)
theorem dX0_maySee_4 : decode cX0_maySee 4 = .ok (.iload_n 2, 1) := dk_28 (dk_at dksX0_maySee_0 4 rfl rfl)
theorem dX0_maySee_5 : decode cX0_maySee 5 = .ok (.invokevirtual 93, 3) := dk_182 0 93 (dk_at dksX0_maySee_0 5 rfl rfl)
theorem dX0_maySee_8 : decode cX0_maySee 8 = .ok (.ifCond .eq 7, 3) := dk_153 0 7 (dk_at dksX0_maySee_0 8 rfl rfl)
theorem dX0_maySee_11 : decode cX0_maySee 11 = .ok (.lconst 1, 1) := dk_10 (dk_at dksX0_maySee_0 11 rfl rfl)
theorem dX0_maySee_12 : decode cX0_maySee 12 = .ok (.goto 4, 3) := dk_167 0 4 (dk_at dksX0_maySee_0 12 rfl rfl)
theorem dX0_maySee_15 : decode cX0_maySee 15 = .ok (.lconst 0, 1) := dk_9 (dk_at dksX0_maySee_0 15 rfl rfl)
theorem dX0_maySee_16 : decode cX0_maySee 16 = .ok (.lastore, 1) := dk_80 (dk_at dksX0_maySee_0 16 rfl rfl)
theorem dX0_maySee_17 : decode cX0_maySee 17 = .ok (.goto 7, 3) := dk_167 0 7 (dk_at dksX0_maySee_0 17 rfl rfl)
theorem dX0_maySee_20 : decode cX0_maySee 20 = .ok (.astore 4, 2) := dk_58 4 (dk_at dksX0_maySee_0 20 rfl rfl)
theorem dX0_maySee_22 : decode cX0_maySee 22 = .ok (.iconst 1, 1) := dk_4 (dk_at dksX0_maySee_0 22 rfl rfl)
theorem dX0_maySee_23 : decode cX0_maySee 23 = .ok (.ireturn, 1) := dk_172 (dk_at dksX0_maySee_0 23 rfl rfl)
theorem dX0_maySee_24 : decode cX0_maySee 24 = .ok (.iconst 0, 1) := dk_3 (dk_at dksX0_maySee_1 0 rfl rfl)
theorem dX0_maySee_25 : decode cX0_maySee 25 = .ok (.ireturn, 1) := dk_172 (dk_at dksX0_maySee_1 1 rfl rfl)
abbrev cX0_open : ByteArray := method_28_code
def yX0_open : MethodName := ⟨RX0, "open", "(LCheckoutDesk;II[J)I"⟩
def dkwX0_open_0 : List UInt8 := [45, 3, 42, 27, 28, 182, 0, 97, 133, 80, 167, 0, 11, 58, 4, 4, 172, 58, 4, 5, 172, 3, 172]
abbrev dktX0_open_0 : List UInt8 := dkwX0_open_0 ++ []
theorem dksX0_open_0 : cX0_open.data.toList.drop 0 = dktX0_open_0 := by decide +kernel
theorem dX0_open_0 : decode cX0_open 0 = .ok (.aload_n 3, 1) := dk_45 (dk_at dksX0_open_0 0 rfl rfl)
theorem dX0_open_1 : decode cX0_open 1 = .ok (.iconst 0, 1) := dk_3 (dk_at dksX0_open_0 1 rfl rfl)
theorem dX0_open_2 : decode cX0_open 2 = .ok (.aload_n 0, 1) := dk_42 (dk_at dksX0_open_0 2 rfl rfl)
theorem dX0_open_3 : decode cX0_open 3 = .ok (.iload_n 1, 1) := dk_27 (dk_at dksX0_open_0 3 rfl rfl)
theorem dX0_open_4 : decode cX0_open 4 = .ok (.iload_n 2, 1) := dk_28 (dk_at dksX0_open_0 4 rfl rfl)
theorem dX0_open_5 : decode cX0_open 5 = .ok (.invokevirtual 97, 3) := dk_182 0 97 (dk_at dksX0_open_0 5 rfl rfl)
theorem dX0_open_8 : decode cX0_open 8 = .ok (.i2l, 1) := dk_133 (dk_at dksX0_open_0 8 rfl rfl)
theorem dX0_open_9 : decode cX0_open 9 = .ok (.lastore, 1) := dk_80 (dk_at dksX0_open_0 9 rfl rfl)
theorem dX0_open_10 : decode cX0_open 10 = .ok (.goto 11, 3) := dk_167 0 11 (dk_at dksX0_open_0 10 rfl rfl)
theorem dX0_open_13 : decode cX0_open 13 = .ok (.astore 4, 2) := dk_58 4 (dk_at dksX0_open_0 13 rfl rfl)
theorem dX0_open_15 : decode cX0_open 15 = .ok (.iconst 1, 1) := dk_4 (dk_at dksX0_open_0 15 rfl rfl)
theorem dX0_open_16 : decode cX0_open 16 = .ok (.ireturn, 1) := dk_172 (dk_at dksX0_open_0 16 rfl rfl)
theorem dX0_open_17 : decode cX0_open 17 = .ok (.astore 4, 2) := dk_58 4 (dk_at dksX0_open_0 17 rfl rfl)
theorem dX0_open_19 : decode cX0_open 19 = .ok (.iconst 2, 1) := dk_5 (dk_at dksX0_open_0 19 rfl rfl)
theorem dX0_open_20 : decode cX0_open 20 = .ok (.ireturn, 1) := dk_172 (dk_at dksX0_open_0 20 rfl rfl)
theorem dX0_open_21 : decode cX0_open 21 = .ok (.iconst 0, 1) := dk_3 (dk_at dksX0_open_0 21 rfl rfl)
theorem dX0_open_22 : decode cX0_open 22 = .ok (.ireturn, 1) := dk_172 (dk_at dksX0_open_0 22 rfl rfl)
abbrev cX0_linksTo : ByteArray := method_29_code
def yX0_linksTo : MethodName := ⟨RX0, "linksTo", "(LCheckoutDesk;I[J)I"⟩
def dkwX0_linksTo_0 : List UInt8 := [44, 3, 42, 27, 182, 0, 102, 133, 80, 167, 0, 6, 78, 4, 172, 3, 172]
abbrev dktX0_linksTo_0 : List UInt8 := dkwX0_linksTo_0 ++ []
theorem dksX0_linksTo_0 : cX0_linksTo.data.toList.drop 0 = dktX0_linksTo_0 := by decide +kernel
theorem dX0_linksTo_0 : decode cX0_linksTo 0 = .ok (.aload_n 2, 1) := dk_44 (dk_at dksX0_linksTo_0 0 rfl rfl)
theorem dX0_linksTo_1 : decode cX0_linksTo 1 = .ok (.iconst 0, 1) := dk_3 (dk_at dksX0_linksTo_0 1 rfl rfl)
theorem dX0_linksTo_2 : decode cX0_linksTo 2 = .ok (.aload_n 0, 1) := dk_42 (dk_at dksX0_linksTo_0 2 rfl rfl)
theorem dX0_linksTo_3 : decode cX0_linksTo 3 = .ok (.iload_n 1, 1) := dk_27 (dk_at dksX0_linksTo_0 3 rfl rfl)
theorem dX0_linksTo_4 : decode cX0_linksTo 4 = .ok (.invokevirtual 102, 3) := dk_182 0 102 (dk_at dksX0_linksTo_0 4 rfl rfl)
theorem dX0_linksTo_7 : decode cX0_linksTo 7 = .ok (.i2l, 1) := dk_133 (dk_at dksX0_linksTo_0 7 rfl rfl)
theorem dX0_linksTo_8 : decode cX0_linksTo 8 = .ok (.lastore, 1) := dk_80 (dk_at dksX0_linksTo_0 8 rfl rfl)
theorem dX0_linksTo_9 : decode cX0_linksTo 9 = .ok (.goto 6, 3) := dk_167 0 6 (dk_at dksX0_linksTo_0 9 rfl rfl)
theorem dX0_linksTo_12 : decode cX0_linksTo 12 = .ok (.astore_n 3, 1) := dk_78 (dk_at dksX0_linksTo_0 12 rfl rfl)
theorem dX0_linksTo_13 : decode cX0_linksTo 13 = .ok (.iconst 1, 1) := dk_4 (dk_at dksX0_linksTo_0 13 rfl rfl)
theorem dX0_linksTo_14 : decode cX0_linksTo 14 = .ok (.ireturn, 1) := dk_172 (dk_at dksX0_linksTo_0 14 rfl rfl)
theorem dX0_linksTo_15 : decode cX0_linksTo 15 = .ok (.iconst 0, 1) := dk_3 (dk_at dksX0_linksTo_0 15 rfl rfl)
theorem dX0_linksTo_16 : decode cX0_linksTo 16 = .ok (.ireturn, 1) := dk_172 (dk_at dksX0_linksTo_0 16 rfl rfl)
abbrev cX0_hourOf : ByteArray := method_30_code
def yX0_hourOf : MethodName := ⟨RX0, "hourOf", "(LCheckoutDesk;I[J)I"⟩
def dkwX0_hourOf_0 : List UInt8 := [44, 3, 42, 27, 182, 0, 105, 133, 80, 167, 0, 6, 78, 4, 172, 3, 172]
abbrev dktX0_hourOf_0 : List UInt8 := dkwX0_hourOf_0 ++ []
theorem dksX0_hourOf_0 : cX0_hourOf.data.toList.drop 0 = dktX0_hourOf_0 := by decide +kernel
theorem dX0_hourOf_0 : decode cX0_hourOf 0 = .ok (.aload_n 2, 1) := dk_44 (dk_at dksX0_hourOf_0 0 rfl rfl)
theorem dX0_hourOf_1 : decode cX0_hourOf 1 = .ok (.iconst 0, 1) := dk_3 (dk_at dksX0_hourOf_0 1 rfl rfl)
theorem dX0_hourOf_2 : decode cX0_hourOf 2 = .ok (.aload_n 0, 1) := dk_42 (dk_at dksX0_hourOf_0 2 rfl rfl)
theorem dX0_hourOf_3 : decode cX0_hourOf 3 = .ok (.iload_n 1, 1) := dk_27 (dk_at dksX0_hourOf_0 3 rfl rfl)
theorem dX0_hourOf_4 : decode cX0_hourOf 4 = .ok (.invokevirtual 105, 3) := dk_182 0 105 (dk_at dksX0_hourOf_0 4 rfl rfl)
theorem dX0_hourOf_7 : decode cX0_hourOf 7 = .ok (.i2l, 1) := dk_133 (dk_at dksX0_hourOf_0 7 rfl rfl)
theorem dX0_hourOf_8 : decode cX0_hourOf 8 = .ok (.lastore, 1) := dk_80 (dk_at dksX0_hourOf_0 8 rfl rfl)
theorem dX0_hourOf_9 : decode cX0_hourOf 9 = .ok (.goto 6, 3) := dk_167 0 6 (dk_at dksX0_hourOf_0 9 rfl rfl)
theorem dX0_hourOf_12 : decode cX0_hourOf 12 = .ok (.astore_n 3, 1) := dk_78 (dk_at dksX0_hourOf_0 12 rfl rfl)
theorem dX0_hourOf_13 : decode cX0_hourOf 13 = .ok (.iconst 1, 1) := dk_4 (dk_at dksX0_hourOf_0 13 rfl rfl)
theorem dX0_hourOf_14 : decode cX0_hourOf 14 = .ok (.ireturn, 1) := dk_172 (dk_at dksX0_hourOf_0 14 rfl rfl)
theorem dX0_hourOf_15 : decode cX0_hourOf 15 = .ok (.iconst 0, 1) := dk_3 (dk_at dksX0_hourOf_0 15 rfl rfl)
theorem dX0_hourOf_16 : decode cX0_hourOf 16 = .ok (.ireturn, 1) := dk_172 (dk_at dksX0_hourOf_0 16 rfl rfl)
abbrev cX0_newestThen : ByteArray := method_31_code
def yX0_newestThen : MethodName := ⟨RX0, "newestThen", "(LCheckoutDesk;III[J)I"⟩
def dkwX0_newestThen_0 : List UInt8 := [25, 4, 3, 42, 27, 28, 29, 182, 0, 108, 133, 80, 167, 0, 7, 58, 5, 4, 172, 3, 172]
abbrev dktX0_newestThen_0 : List UInt8 := dkwX0_newestThen_0 ++ []
theorem dksX0_newestThen_0 : cX0_newestThen.data.toList.drop 0 = dktX0_newestThen_0 := by decide +kernel
theorem dX0_newestThen_0 : decode cX0_newestThen 0 = .ok (.aload 4, 2) := dk_25 4 (dk_at dksX0_newestThen_0 0 rfl rfl)
theorem dX0_newestThen_2 : decode cX0_newestThen 2 = .ok (.iconst 0, 1) := dk_3 (dk_at dksX0_newestThen_0 2 rfl rfl)
theorem dX0_newestThen_3 : decode cX0_newestThen 3 = .ok (.aload_n 0, 1) := dk_42 (dk_at dksX0_newestThen_0 3 rfl rfl)
theorem dX0_newestThen_4 : decode cX0_newestThen 4 = .ok (.iload_n 1, 1) := dk_27 (dk_at dksX0_newestThen_0 4 rfl rfl)
theorem dX0_newestThen_5 : decode cX0_newestThen 5 = .ok (.iload_n 2, 1) := dk_28 (dk_at dksX0_newestThen_0 5 rfl rfl)
theorem dX0_newestThen_6 : decode cX0_newestThen 6 = .ok (.iload_n 3, 1) := dk_29 (dk_at dksX0_newestThen_0 6 rfl rfl)
theorem dX0_newestThen_7 : decode cX0_newestThen 7 = .ok (.invokevirtual 108, 3) := dk_182 0 108 (dk_at dksX0_newestThen_0 7 rfl rfl)
theorem dX0_newestThen_10 : decode cX0_newestThen 10 = .ok (.i2l, 1) := dk_133 (dk_at dksX0_newestThen_0 10 rfl rfl)
theorem dX0_newestThen_11 : decode cX0_newestThen 11 = .ok (.lastore, 1) := dk_80 (dk_at dksX0_newestThen_0 11 rfl rfl)
theorem dX0_newestThen_12 : decode cX0_newestThen 12 = .ok (.goto 7, 3) := dk_167 0 7 (dk_at dksX0_newestThen_0 12 rfl rfl)
theorem dX0_newestThen_15 : decode cX0_newestThen 15 = .ok (.astore 5, 2) := dk_58 5 (dk_at dksX0_newestThen_0 15 rfl rfl)
theorem dX0_newestThen_17 : decode cX0_newestThen 17 = .ok (.iconst 1, 1) := dk_4 (dk_at dksX0_newestThen_0 17 rfl rfl)
theorem dX0_newestThen_18 : decode cX0_newestThen 18 = .ok (.ireturn, 1) := dk_172 (dk_at dksX0_newestThen_0 18 rfl rfl)
theorem dX0_newestThen_19 : decode cX0_newestThen 19 = .ok (.iconst 0, 1) := dk_3 (dk_at dksX0_newestThen_0 19 rfl rfl)
theorem dX0_newestThen_20 : decode cX0_newestThen 20 = .ok (.ireturn, 1) := dk_172 (dk_at dksX0_newestThen_0 20 rfl rfl)
abbrev cX0_holderThen : ByteArray := method_32_code
def yX0_holderThen : MethodName := ⟨RX0, "holderThen", "(LCheckoutDesk;III[J)I"⟩
def dkwX0_holderThen_0 : List UInt8 := [25, 4, 3, 42, 27, 28, 29, 182, 0, 111, 133, 80, 167, 0, 7, 58, 5, 4, 172, 3, 172]
abbrev dktX0_holderThen_0 : List UInt8 := dkwX0_holderThen_0 ++ []
theorem dksX0_holderThen_0 : cX0_holderThen.data.toList.drop 0 = dktX0_holderThen_0 := by decide +kernel
theorem dX0_holderThen_0 : decode cX0_holderThen 0 = .ok (.aload 4, 2) := dk_25 4 (dk_at dksX0_holderThen_0 0 rfl rfl)
theorem dX0_holderThen_2 : decode cX0_holderThen 2 = .ok (.iconst 0, 1) := dk_3 (dk_at dksX0_holderThen_0 2 rfl rfl)
theorem dX0_holderThen_3 : decode cX0_holderThen 3 = .ok (.aload_n 0, 1) := dk_42 (dk_at dksX0_holderThen_0 3 rfl rfl)
theorem dX0_holderThen_4 : decode cX0_holderThen 4 = .ok (.iload_n 1, 1) := dk_27 (dk_at dksX0_holderThen_0 4 rfl rfl)
theorem dX0_holderThen_5 : decode cX0_holderThen 5 = .ok (.iload_n 2, 1) := dk_28 (dk_at dksX0_holderThen_0 5 rfl rfl)
theorem dX0_holderThen_6 : decode cX0_holderThen 6 = .ok (.iload_n 3, 1) := dk_29 (dk_at dksX0_holderThen_0 6 rfl rfl)
theorem dX0_holderThen_7 : decode cX0_holderThen 7 = .ok (.invokevirtual 111, 3) := dk_182 0 111 (dk_at dksX0_holderThen_0 7 rfl rfl)
theorem dX0_holderThen_10 : decode cX0_holderThen 10 = .ok (.i2l, 1) := dk_133 (dk_at dksX0_holderThen_0 10 rfl rfl)
theorem dX0_holderThen_11 : decode cX0_holderThen 11 = .ok (.lastore, 1) := dk_80 (dk_at dksX0_holderThen_0 11 rfl rfl)
theorem dX0_holderThen_12 : decode cX0_holderThen 12 = .ok (.goto 7, 3) := dk_167 0 7 (dk_at dksX0_holderThen_0 12 rfl rfl)
theorem dX0_holderThen_15 : decode cX0_holderThen 15 = .ok (.astore 5, 2) := dk_58 5 (dk_at dksX0_holderThen_0 15 rfl rfl)
theorem dX0_holderThen_17 : decode cX0_holderThen 17 = .ok (.iconst 1, 1) := dk_4 (dk_at dksX0_holderThen_0 17 rfl rfl)
theorem dX0_holderThen_18 : decode cX0_holderThen 18 = .ok (.ireturn, 1) := dk_172 (dk_at dksX0_holderThen_0 18 rfl rfl)
theorem dX0_holderThen_19 : decode cX0_holderThen 19 = .ok (.iconst 0, 1) := dk_3 (dk_at dksX0_holderThen_0 19 rfl rfl)
theorem dX0_holderThen_20 : decode cX0_holderThen 20 = .ok (.ireturn, 1) := dk_172 (dk_at dksX0_holderThen_0 20 rfl rfl)
theorem q42 : (Jvm.Cond.initialized "CheckoutDeskLaw") ∈ lw_all := lw_g (lw_at lw_m1 0 rfl) rfl
theorem q110 : (Jvm.Cond.classLink "CheckoutDeskLaw" (8 : Nat) "CheckoutDesk") ∈ lw_all := lw_g (lw_at lw_m1 68 rfl) rfl
theorem q112 : (Jvm.Cond.methodLink "CheckoutDeskLaw" (114 : Nat) ({ cls := "CheckoutDesk", name := "<init>", desc := "()V" } : Jvm.MethodName)) ∈ lw_all := lw_g (lw_at lw_m1 70 rfl) rfl
theorem q211 : (Jvm.Cond.methodLink "CheckoutDeskLaw" (118 : Nat) ({ cls := "CheckoutDesk", name := "reset", desc := "()I" } : Jvm.MethodName)) ∈ lw_all := lw_g (lw_at lw_m1 169 rfl) rfl
theorem q223 : (Jvm.Cond.methodLink "CheckoutDeskLaw" (182 : Nat) ({ cls := "CheckoutDesk", name := "clock", desc := "()I" } : Jvm.MethodName)) ∈ lw_all := lw_g (lw_at lw_m1 181 rfl) rfl
theorem q227 : (Jvm.Cond.methodLink "CheckoutDeskLaw" (186 : Nat) ({ cls := "CheckoutDesk", name := "versions", desc := "()I" } : Jvm.MethodName)) ∈ lw_all := lw_g (lw_at lw_m1 185 rfl) rfl
theorem q236 : (Jvm.Cond.methodLink "CheckoutDeskLaw" (223 : Nat) ({ cls := "CheckoutDesk", name := "releasedShare", desc := "()F" } : Jvm.MethodName)) ∈ lw_all := lw_g (lw_at lw_m1 194 rfl) rfl
theorem q748 : (Jvm.Cond.methodLink "CheckoutDeskLaw" (228 : Nat) ({ cls := "CheckoutDesk", name := "lockedPer", desc := "()D" } : Jvm.MethodName)) ∈ lw_all := lw_g (lw_at lw_m3 226 rfl) rfl
theorem q763 : (Jvm.Cond.methodLink "CheckoutDeskLaw" (233 : Nat) ({ cls := "CheckoutDesk", name := "events", desc := "()I" } : Jvm.MethodName)) ∈ lw_all := lw_g (lw_at lw_m4 1 rfl) rfl
theorem q767 : (Jvm.Cond.methodLink "CheckoutDeskLaw" (246 : Nat) ({ cls := "CheckoutDesk", name := "deskErrors", desc := "()I" } : Jvm.MethodName)) ∈ lw_all := lw_g (lw_at lw_m4 5 rfl) rfl
theorem q1742 : (Jvm.Cond.methodLink "CheckoutDeskLaw" (123 : Nat) ({ cls := "CheckoutDeskLaw", name := "pass", desc := "(LCheckoutDesk;I[J)I" } : Jvm.MethodName)) ∈ lw_all := lw_g (lw_at lw_m8 20 rfl) rfl
theorem q1743 : (Jvm.Cond.static ({ cls := "CheckoutDeskLaw", name := "pass", desc := "(LCheckoutDesk;I[J)I" } : Jvm.MethodName)) ∈ lw_all := lw_g (lw_at lw_m8 21 rfl) rfl
theorem q1744 : (Jvm.Cond.codeWith ({ cls := "CheckoutDeskLaw", name := "pass", desc := "(LCheckoutDesk;I[J)I" } : Jvm.MethodName) method_3_code (4 : Nat) (Option.some Jvm.ClassFile.FieldType.int) [((0 : Nat), (9 : Nat), (12 : Nat), (13 : Nat)), ((0 : Nat), (9 : Nat), (15 : Nat), (15 : Nat))]) ∈ lw_all := lw_g (lw_at lw_m8 22 rfl) rfl
theorem q1745 : (Jvm.Cond.classLink "CheckoutDeskLaw" (13 : Nat) "java/lang/IllegalArgumentException") ∈ lw_all := lw_g (lw_at lw_m8 23 rfl) rfl
theorem q1746 : (Jvm.Cond.classLink "CheckoutDeskLaw" (15 : Nat) "java/lang/IllegalStateException") ∈ lw_all := lw_g (lw_at lw_m8 24 rfl) rfl
theorem q1747 : (Jvm.Cond.methodLink "CheckoutDeskLaw" (7 : Nat) ({ cls := "CheckoutDesk", name := "pass", desc := "(I)I" } : Jvm.MethodName)) ∈ lw_all := lw_g (lw_at lw_m8 25 rfl) rfl
theorem q1783 : (Jvm.Cond.methodLink "CheckoutDeskLaw" (132 : Nat) ({ cls := "CheckoutDeskLaw", name := "setLapse", desc := "(LCheckoutDesk;I[J)I" } : Jvm.MethodName)) ∈ lw_all := lw_g (lw_at lw_m8 61 rfl) rfl
theorem q1784 : (Jvm.Cond.static ({ cls := "CheckoutDeskLaw", name := "setLapse", desc := "(LCheckoutDesk;I[J)I" } : Jvm.MethodName)) ∈ lw_all := lw_g (lw_at lw_m8 62 rfl) rfl
theorem q1785 : (Jvm.Cond.codeWith ({ cls := "CheckoutDeskLaw", name := "setLapse", desc := "(LCheckoutDesk;I[J)I" } : Jvm.MethodName) method_4_code (4 : Nat) (Option.some Jvm.ClassFile.FieldType.int) [((0 : Nat), (9 : Nat), (12 : Nat), (13 : Nat))]) ∈ lw_all := lw_g (lw_at lw_m8 63 rfl) rfl
theorem q1786 : (Jvm.Cond.methodLink "CheckoutDeskLaw" (17 : Nat) ({ cls := "CheckoutDesk", name := "setLapse", desc := "(I)I" } : Jvm.MethodName)) ∈ lw_all := lw_g (lw_at lw_m8 64 rfl) rfl
theorem q1803 : (Jvm.Cond.methodLink "CheckoutDeskLaw" (135 : Nat) ({ cls := "CheckoutDeskLaw", name := "create", desc := "(LCheckoutDesk;II[J)I" } : Jvm.MethodName)) ∈ lw_all := lw_g (lw_at lw_m8 81 rfl) rfl
theorem q1804 : (Jvm.Cond.static ({ cls := "CheckoutDeskLaw", name := "create", desc := "(LCheckoutDesk;II[J)I" } : Jvm.MethodName)) ∈ lw_all := lw_g (lw_at lw_m8 82 rfl) rfl
theorem q1805 : (Jvm.Cond.codeWith ({ cls := "CheckoutDeskLaw", name := "create", desc := "(LCheckoutDesk;II[J)I" } : Jvm.MethodName) method_5_code (5 : Nat) (Option.some Jvm.ClassFile.FieldType.int) [((0 : Nat), (10 : Nat), (13 : Nat), (24 : Nat)), ((0 : Nat), (10 : Nat), (17 : Nat), (13 : Nat)), ((0 : Nat), (10 : Nat), (21 : Nat), (15 : Nat))]) ∈ lw_all := lw_g (lw_at lw_m8 83 rfl) rfl
theorem q1806 : (Jvm.Cond.classLink "CheckoutDeskLaw" (24 : Nat) "java/lang/IndexOutOfBoundsException") ∈ lw_all := lw_g (lw_at lw_m8 84 rfl) rfl
theorem q1807 : (Jvm.Cond.methodLink "CheckoutDeskLaw" (20 : Nat) ({ cls := "CheckoutDesk", name := "create", desc := "(II)I" } : Jvm.MethodName)) ∈ lw_all := lw_g (lw_at lw_m8 85 rfl) rfl
theorem q1827 : (Jvm.Cond.methodLink "CheckoutDeskLaw" (139 : Nat) ({ cls := "CheckoutDeskLaw", name := "grant", desc := "(LCheckoutDesk;IIII[J)I" } : Jvm.MethodName)) ∈ lw_all := lw_g (lw_at lw_m8 105 rfl) rfl
theorem q1828 : (Jvm.Cond.static ({ cls := "CheckoutDeskLaw", name := "grant", desc := "(LCheckoutDesk;IIII[J)I" } : Jvm.MethodName)) ∈ lw_all := lw_g (lw_at lw_m8 106 rfl) rfl
theorem q1829 : (Jvm.Cond.codeWith ({ cls := "CheckoutDeskLaw", name := "grant", desc := "(LCheckoutDesk;IIII[J)I" } : Jvm.MethodName) method_6_code (7 : Nat) (Option.some Jvm.ClassFile.FieldType.int) [((0 : Nat), (14 : Nat), (17 : Nat), (24 : Nat)), ((0 : Nat), (14 : Nat), (21 : Nat), (13 : Nat)), ((0 : Nat), (14 : Nat), (25 : Nat), (15 : Nat))]) ∈ lw_all := lw_g (lw_at lw_m8 107 rfl) rfl
theorem q1830 : (Jvm.Cond.methodLink "CheckoutDeskLaw" (26 : Nat) ({ cls := "CheckoutDesk", name := "grant", desc := "(IIII)I" } : Jvm.MethodName)) ∈ lw_all := lw_g (lw_at lw_m8 108 rfl) rfl
theorem q1856 : (Jvm.Cond.methodLink "CheckoutDeskLaw" (143 : Nat) ({ cls := "CheckoutDeskLaw", name := "checkOut", desc := "(LCheckoutDesk;III[J)I" } : Jvm.MethodName)) ∈ lw_all := lw_g (lw_at lw_m8 134 rfl) rfl
theorem q1857 : (Jvm.Cond.static ({ cls := "CheckoutDeskLaw", name := "checkOut", desc := "(LCheckoutDesk;III[J)I" } : Jvm.MethodName)) ∈ lw_all := lw_g (lw_at lw_m8 135 rfl) rfl
theorem q1858 : (Jvm.Cond.codeWith ({ cls := "CheckoutDeskLaw", name := "checkOut", desc := "(LCheckoutDesk;III[J)I" } : Jvm.MethodName) method_7_code (6 : Nat) (Option.some Jvm.ClassFile.FieldType.int) [((0 : Nat), (12 : Nat), (15 : Nat), (24 : Nat)), ((0 : Nat), (12 : Nat), (19 : Nat), (15 : Nat))]) ∈ lw_all := lw_g (lw_at lw_m8 136 rfl) rfl
theorem q1859 : (Jvm.Cond.methodLink "CheckoutDeskLaw" (30 : Nat) ({ cls := "CheckoutDesk", name := "checkOut", desc := "(III)I" } : Jvm.MethodName)) ∈ lw_all := lw_g (lw_at lw_m8 137 rfl) rfl
theorem q1882 : (Jvm.Cond.methodLink "CheckoutDeskLaw" (147 : Nat) ({ cls := "CheckoutDeskLaw", name := "edit", desc := "(LCheckoutDesk;IIIII[J)I" } : Jvm.MethodName)) ∈ lw_all := lw_g (lw_at lw_m8 160 rfl) rfl
theorem q1883 : (Jvm.Cond.static ({ cls := "CheckoutDeskLaw", name := "edit", desc := "(LCheckoutDesk;IIIII[J)I" } : Jvm.MethodName)) ∈ lw_all := lw_g (lw_at lw_m8 161 rfl) rfl
theorem q1884 : (Jvm.Cond.codeWith ({ cls := "CheckoutDeskLaw", name := "edit", desc := "(LCheckoutDesk;IIIII[J)I" } : Jvm.MethodName) method_8_code (8 : Nat) (Option.some Jvm.ClassFile.FieldType.int) [((0 : Nat), (16 : Nat), (19 : Nat), (24 : Nat)), ((0 : Nat), (16 : Nat), (23 : Nat), (13 : Nat)), ((0 : Nat), (16 : Nat), (27 : Nat), (15 : Nat))]) ∈ lw_all := lw_g (lw_at lw_m8 162 rfl) rfl
theorem q1885 : (Jvm.Cond.methodLink "CheckoutDeskLaw" (34 : Nat) ({ cls := "CheckoutDesk", name := "edit", desc := "(IIIII)I" } : Jvm.MethodName)) ∈ lw_all := lw_g (lw_at lw_m8 163 rfl) rfl
theorem q1914 : (Jvm.Cond.methodLink "CheckoutDeskLaw" (151 : Nat) ({ cls := "CheckoutDeskLaw", name := "checkIn", desc := "(LCheckoutDesk;IIIZ[J)I" } : Jvm.MethodName)) ∈ lw_all := lw_g (lw_at lw_m8 192 rfl) rfl
theorem q1915 : (Jvm.Cond.static ({ cls := "CheckoutDeskLaw", name := "checkIn", desc := "(LCheckoutDesk;IIIZ[J)I" } : Jvm.MethodName)) ∈ lw_all := lw_g (lw_at lw_m8 193 rfl) rfl
theorem q1916 : (Jvm.Cond.codeWith ({ cls := "CheckoutDeskLaw", name := "checkIn", desc := "(LCheckoutDesk;IIIZ[J)I" } : Jvm.MethodName) method_9_code (7 : Nat) (Option.some Jvm.ClassFile.FieldType.int) [((0 : Nat), (14 : Nat), (17 : Nat), (24 : Nat)), ((0 : Nat), (14 : Nat), (21 : Nat), (15 : Nat))]) ∈ lw_all := lw_g (lw_at lw_m8 194 rfl) rfl
theorem q1917 : (Jvm.Cond.methodLink "CheckoutDeskLaw" (38 : Nat) ({ cls := "CheckoutDesk", name := "checkIn", desc := "(IIIZ)I" } : Jvm.MethodName)) ∈ lw_all := lw_g (lw_at lw_m8 195 rfl) rfl
theorem q1943 : (Jvm.Cond.methodLink "CheckoutDeskLaw" (155 : Nat) ({ cls := "CheckoutDeskLaw", name := "renew", desc := "(LCheckoutDesk;III[J)I" } : Jvm.MethodName)) ∈ lw_all := lw_g (lw_at lw_m8 221 rfl) rfl
theorem q1944 : (Jvm.Cond.static ({ cls := "CheckoutDeskLaw", name := "renew", desc := "(LCheckoutDesk;III[J)I" } : Jvm.MethodName)) ∈ lw_all := lw_g (lw_at lw_m8 222 rfl) rfl
theorem q1945 : (Jvm.Cond.codeWith ({ cls := "CheckoutDeskLaw", name := "renew", desc := "(LCheckoutDesk;III[J)I" } : Jvm.MethodName) method_10_code (6 : Nat) (Option.some Jvm.ClassFile.FieldType.int) [((0 : Nat), (12 : Nat), (15 : Nat), (24 : Nat)), ((0 : Nat), (12 : Nat), (19 : Nat), (15 : Nat))]) ∈ lw_all := lw_g (lw_at lw_m8 223 rfl) rfl
theorem q1946 : (Jvm.Cond.methodLink "CheckoutDeskLaw" (42 : Nat) ({ cls := "CheckoutDesk", name := "renew", desc := "(III)I" } : Jvm.MethodName)) ∈ lw_all := lw_g (lw_at lw_m8 224 rfl) rfl
theorem q1969 : (Jvm.Cond.methodLink "CheckoutDeskLaw" (158 : Nat) ({ cls := "CheckoutDeskLaw", name := "cancel", desc := "(LCheckoutDesk;III[J)I" } : Jvm.MethodName)) ∈ lw_all := lw_g (lw_at lw_m9 7 rfl) rfl
theorem q1970 : (Jvm.Cond.static ({ cls := "CheckoutDeskLaw", name := "cancel", desc := "(LCheckoutDesk;III[J)I" } : Jvm.MethodName)) ∈ lw_all := lw_g (lw_at lw_m9 8 rfl) rfl
theorem q1971 : (Jvm.Cond.codeWith ({ cls := "CheckoutDeskLaw", name := "cancel", desc := "(LCheckoutDesk;III[J)I" } : Jvm.MethodName) method_11_code (6 : Nat) (Option.some Jvm.ClassFile.FieldType.int) [((0 : Nat), (12 : Nat), (15 : Nat), (24 : Nat)), ((0 : Nat), (12 : Nat), (19 : Nat), (15 : Nat))]) ∈ lw_all := lw_g (lw_at lw_m9 9 rfl) rfl
theorem q1972 : (Jvm.Cond.methodLink "CheckoutDeskLaw" (45 : Nat) ({ cls := "CheckoutDesk", name := "cancel", desc := "(III)I" } : Jvm.MethodName)) ∈ lw_all := lw_g (lw_at lw_m9 10 rfl) rfl
theorem q1995 : (Jvm.Cond.methodLink "CheckoutDeskLaw" (161 : Nat) ({ cls := "CheckoutDeskLaw", name := "promote", desc := "(LCheckoutDesk;III[J)I" } : Jvm.MethodName)) ∈ lw_all := lw_g (lw_at lw_m9 33 rfl) rfl
theorem q1996 : (Jvm.Cond.static ({ cls := "CheckoutDeskLaw", name := "promote", desc := "(LCheckoutDesk;III[J)I" } : Jvm.MethodName)) ∈ lw_all := lw_g (lw_at lw_m9 34 rfl) rfl
theorem q1997 : (Jvm.Cond.codeWith ({ cls := "CheckoutDeskLaw", name := "promote", desc := "(LCheckoutDesk;III[J)I" } : Jvm.MethodName) method_12_code (6 : Nat) (Option.some Jvm.ClassFile.FieldType.int) [((0 : Nat), (12 : Nat), (15 : Nat), (24 : Nat)), ((0 : Nat), (12 : Nat), (19 : Nat), (15 : Nat))]) ∈ lw_all := lw_g (lw_at lw_m9 35 rfl) rfl
theorem q1998 : (Jvm.Cond.methodLink "CheckoutDeskLaw" (48 : Nat) ({ cls := "CheckoutDesk", name := "promote", desc := "(III)I" } : Jvm.MethodName)) ∈ lw_all := lw_g (lw_at lw_m9 36 rfl) rfl
theorem q2021 : (Jvm.Cond.methodLink "CheckoutDeskLaw" (164 : Nat) ({ cls := "CheckoutDeskLaw", name := "prune", desc := "(LCheckoutDesk;III[J)I" } : Jvm.MethodName)) ∈ lw_all := lw_g (lw_at lw_m9 59 rfl) rfl
theorem q2022 : (Jvm.Cond.static ({ cls := "CheckoutDeskLaw", name := "prune", desc := "(LCheckoutDesk;III[J)I" } : Jvm.MethodName)) ∈ lw_all := lw_g (lw_at lw_m9 60 rfl) rfl
theorem q2023 : (Jvm.Cond.codeWith ({ cls := "CheckoutDeskLaw", name := "prune", desc := "(LCheckoutDesk;III[J)I" } : Jvm.MethodName) method_13_code (6 : Nat) (Option.some Jvm.ClassFile.FieldType.int) [((0 : Nat), (12 : Nat), (15 : Nat), (24 : Nat)), ((0 : Nat), (12 : Nat), (19 : Nat), (15 : Nat))]) ∈ lw_all := lw_g (lw_at lw_m9 61 rfl) rfl
theorem q2024 : (Jvm.Cond.methodLink "CheckoutDeskLaw" (51 : Nat) ({ cls := "CheckoutDesk", name := "prune", desc := "(III)I" } : Jvm.MethodName)) ∈ lw_all := lw_g (lw_at lw_m9 62 rfl) rfl
theorem q2047 : (Jvm.Cond.methodLink "CheckoutDeskLaw" (167 : Nat) ({ cls := "CheckoutDeskLaw", name := "branchOff", desc := "(LCheckoutDesk;II[J)I" } : Jvm.MethodName)) ∈ lw_all := lw_g (lw_at lw_m9 85 rfl) rfl
theorem q2048 : (Jvm.Cond.static ({ cls := "CheckoutDeskLaw", name := "branchOff", desc := "(LCheckoutDesk;II[J)I" } : Jvm.MethodName)) ∈ lw_all := lw_g (lw_at lw_m9 86 rfl) rfl
theorem q2049 : (Jvm.Cond.codeWith ({ cls := "CheckoutDeskLaw", name := "branchOff", desc := "(LCheckoutDesk;II[J)I" } : Jvm.MethodName) method_14_code (5 : Nat) (Option.some Jvm.ClassFile.FieldType.int) [((0 : Nat), (10 : Nat), (13 : Nat), (24 : Nat)), ((0 : Nat), (10 : Nat), (17 : Nat), (15 : Nat))]) ∈ lw_all := lw_g (lw_at lw_m9 87 rfl) rfl
theorem q2050 : (Jvm.Cond.methodLink "CheckoutDeskLaw" (54 : Nat) ({ cls := "CheckoutDesk", name := "branchOff", desc := "(II)I" } : Jvm.MethodName)) ∈ lw_all := lw_g (lw_at lw_m9 88 rfl) rfl
theorem q2070 : (Jvm.Cond.methodLink "CheckoutDeskLaw" (170 : Nat) ({ cls := "CheckoutDeskLaw", name := "merge", desc := "(LCheckoutDesk;III[J)I" } : Jvm.MethodName)) ∈ lw_all := lw_g (lw_at lw_m9 108 rfl) rfl
theorem q2071 : (Jvm.Cond.static ({ cls := "CheckoutDeskLaw", name := "merge", desc := "(LCheckoutDesk;III[J)I" } : Jvm.MethodName)) ∈ lw_all := lw_g (lw_at lw_m9 109 rfl) rfl
theorem q2072 : (Jvm.Cond.codeWith ({ cls := "CheckoutDeskLaw", name := "merge", desc := "(LCheckoutDesk;III[J)I" } : Jvm.MethodName) method_15_code (6 : Nat) (Option.some Jvm.ClassFile.FieldType.int) [((0 : Nat), (12 : Nat), (15 : Nat), (24 : Nat)), ((0 : Nat), (12 : Nat), (19 : Nat), (13 : Nat)), ((0 : Nat), (12 : Nat), (23 : Nat), (15 : Nat))]) ∈ lw_all := lw_g (lw_at lw_m9 110 rfl) rfl
theorem q2073 : (Jvm.Cond.methodLink "CheckoutDeskLaw" (57 : Nat) ({ cls := "CheckoutDesk", name := "merge", desc := "(III)I" } : Jvm.MethodName)) ∈ lw_all := lw_g (lw_at lw_m9 111 rfl) rfl
theorem q2096 : (Jvm.Cond.methodLink "CheckoutDeskLaw" (173 : Nat) ({ cls := "CheckoutDeskLaw", name := "linkVersion", desc := "(LCheckoutDesk;III[J)I" } : Jvm.MethodName)) ∈ lw_all := lw_g (lw_at lw_m9 134 rfl) rfl
theorem q2097 : (Jvm.Cond.static ({ cls := "CheckoutDeskLaw", name := "linkVersion", desc := "(LCheckoutDesk;III[J)I" } : Jvm.MethodName)) ∈ lw_all := lw_g (lw_at lw_m9 135 rfl) rfl
theorem q2098 : (Jvm.Cond.codeWith ({ cls := "CheckoutDeskLaw", name := "linkVersion", desc := "(LCheckoutDesk;III[J)I" } : Jvm.MethodName) method_16_code (6 : Nat) (Option.some Jvm.ClassFile.FieldType.int) [((0 : Nat), (12 : Nat), (15 : Nat), (24 : Nat)), ((0 : Nat), (12 : Nat), (19 : Nat), (15 : Nat))]) ∈ lw_all := lw_g (lw_at lw_m9 136 rfl) rfl
theorem q2099 : (Jvm.Cond.methodLink "CheckoutDeskLaw" (60 : Nat) ({ cls := "CheckoutDesk", name := "linkVersion", desc := "(III)I" } : Jvm.MethodName)) ∈ lw_all := lw_g (lw_at lw_m9 137 rfl) rfl
theorem q2122 : (Jvm.Cond.methodLink "CheckoutDeskLaw" (176 : Nat) ({ cls := "CheckoutDeskLaw", name := "linkDocument", desc := "(LCheckoutDesk;IIII[J)I" } : Jvm.MethodName)) ∈ lw_all := lw_g (lw_at lw_m9 160 rfl) rfl
theorem q2123 : (Jvm.Cond.static ({ cls := "CheckoutDeskLaw", name := "linkDocument", desc := "(LCheckoutDesk;IIII[J)I" } : Jvm.MethodName)) ∈ lw_all := lw_g (lw_at lw_m9 161 rfl) rfl
theorem q2124 : (Jvm.Cond.codeWith ({ cls := "CheckoutDeskLaw", name := "linkDocument", desc := "(LCheckoutDesk;IIII[J)I" } : Jvm.MethodName) method_17_code (7 : Nat) (Option.some Jvm.ClassFile.FieldType.int) [((0 : Nat), (14 : Nat), (17 : Nat), (24 : Nat)), ((0 : Nat), (14 : Nat), (21 : Nat), (13 : Nat)), ((0 : Nat), (14 : Nat), (25 : Nat), (15 : Nat))]) ∈ lw_all := lw_g (lw_at lw_m9 162 rfl) rfl
theorem q2125 : (Jvm.Cond.methodLink "CheckoutDeskLaw" (63 : Nat) ({ cls := "CheckoutDesk", name := "linkDocument", desc := "(IIII)I" } : Jvm.MethodName)) ∈ lw_all := lw_g (lw_at lw_m9 163 rfl) rfl
theorem q2151 : (Jvm.Cond.methodLink "CheckoutDeskLaw" (179 : Nat) ({ cls := "CheckoutDeskLaw", name := "unlink", desc := "(LCheckoutDesk;II[J)I" } : Jvm.MethodName)) ∈ lw_all := lw_g (lw_at lw_m9 189 rfl) rfl
theorem q2152 : (Jvm.Cond.static ({ cls := "CheckoutDeskLaw", name := "unlink", desc := "(LCheckoutDesk;II[J)I" } : Jvm.MethodName)) ∈ lw_all := lw_g (lw_at lw_m9 190 rfl) rfl
theorem q2153 : (Jvm.Cond.codeWith ({ cls := "CheckoutDeskLaw", name := "unlink", desc := "(LCheckoutDesk;II[J)I" } : Jvm.MethodName) method_18_code (5 : Nat) (Option.some Jvm.ClassFile.FieldType.int) [((0 : Nat), (10 : Nat), (13 : Nat), (24 : Nat)), ((0 : Nat), (10 : Nat), (17 : Nat), (15 : Nat))]) ∈ lw_all := lw_g (lw_at lw_m9 191 rfl) rfl
theorem q2154 : (Jvm.Cond.methodLink "CheckoutDeskLaw" (66 : Nat) ({ cls := "CheckoutDesk", name := "unlink", desc := "(II)I" } : Jvm.MethodName)) ∈ lw_all := lw_g (lw_at lw_m9 192 rfl) rfl
theorem q2174 : (Jvm.Cond.methodLink "CheckoutDeskLaw" (190 : Nat) ({ cls := "CheckoutDeskLaw", name := "branches", desc := "(LCheckoutDesk;I[J)I" } : Jvm.MethodName)) ∈ lw_all := lw_g (lw_at lw_m9 212 rfl) rfl
theorem q2175 : (Jvm.Cond.static ({ cls := "CheckoutDeskLaw", name := "branches", desc := "(LCheckoutDesk;I[J)I" } : Jvm.MethodName)) ∈ lw_all := lw_g (lw_at lw_m9 213 rfl) rfl
theorem q2176 : (Jvm.Cond.codeWith ({ cls := "CheckoutDeskLaw", name := "branches", desc := "(LCheckoutDesk;I[J)I" } : Jvm.MethodName) method_19_code (4 : Nat) (Option.some Jvm.ClassFile.FieldType.int) [((0 : Nat), (9 : Nat), (12 : Nat), (24 : Nat))]) ∈ lw_all := lw_g (lw_at lw_m9 214 rfl) rfl
theorem q2177 : (Jvm.Cond.methodLink "CheckoutDeskLaw" (69 : Nat) ({ cls := "CheckoutDesk", name := "branches", desc := "(I)I" } : Jvm.MethodName)) ∈ lw_all := lw_g (lw_at lw_m9 215 rfl) rfl
theorem q2181 : (Jvm.Cond.methodLink "CheckoutDeskLaw" (193 : Nat) ({ cls := "CheckoutDeskLaw", name := "rightOf", desc := "(LCheckoutDesk;II[J)I" } : Jvm.MethodName)) ∈ lw_all := lw_g (lw_at lw_m9 219 rfl) rfl
theorem q2182 : (Jvm.Cond.static ({ cls := "CheckoutDeskLaw", name := "rightOf", desc := "(LCheckoutDesk;II[J)I" } : Jvm.MethodName)) ∈ lw_all := lw_g (lw_at lw_m9 220 rfl) rfl
theorem q2183 : (Jvm.Cond.codeWith ({ cls := "CheckoutDeskLaw", name := "rightOf", desc := "(LCheckoutDesk;II[J)I" } : Jvm.MethodName) method_20_code (5 : Nat) (Option.some Jvm.ClassFile.FieldType.int) [((0 : Nat), (10 : Nat), (13 : Nat), (24 : Nat))]) ∈ lw_all := lw_g (lw_at lw_m9 221 rfl) rfl
theorem q2184 : (Jvm.Cond.methodLink "CheckoutDeskLaw" (72 : Nat) ({ cls := "CheckoutDesk", name := "rightOf", desc := "(II)I" } : Jvm.MethodName)) ∈ lw_all := lw_g (lw_at lw_m9 222 rfl) rfl
theorem q2189 : (Jvm.Cond.methodLink "CheckoutDeskLaw" (196 : Nat) ({ cls := "CheckoutDeskLaw", name := "numberOf", desc := "(LCheckoutDesk;I[J)I" } : Jvm.MethodName)) ∈ lw_all := lw_g (lw_at lw_m9 227 rfl) rfl
theorem q2190 : (Jvm.Cond.static ({ cls := "CheckoutDeskLaw", name := "numberOf", desc := "(LCheckoutDesk;I[J)I" } : Jvm.MethodName)) ∈ lw_all := lw_g (lw_at lw_m9 228 rfl) rfl
theorem q2191 : (Jvm.Cond.codeWith ({ cls := "CheckoutDeskLaw", name := "numberOf", desc := "(LCheckoutDesk;I[J)I" } : Jvm.MethodName) method_21_code (4 : Nat) (Option.some Jvm.ClassFile.FieldType.int) [((0 : Nat), (9 : Nat), (12 : Nat), (24 : Nat))]) ∈ lw_all := lw_g (lw_at lw_m9 229 rfl) rfl
theorem q2192 : (Jvm.Cond.methodLink "CheckoutDeskLaw" (75 : Nat) ({ cls := "CheckoutDesk", name := "numberOf", desc := "(I)I" } : Jvm.MethodName)) ∈ lw_all := lw_g (lw_at lw_m9 230 rfl) rfl
theorem q2199 : (Jvm.Cond.methodLink "CheckoutDeskLaw" (199 : Nat) ({ cls := "CheckoutDeskLaw", name := "valueOf", desc := "(LCheckoutDesk;II[J)I" } : Jvm.MethodName)) ∈ lw_all := lw_g (lw_at lw_m9 237 rfl) rfl
theorem q2200 : (Jvm.Cond.static ({ cls := "CheckoutDeskLaw", name := "valueOf", desc := "(LCheckoutDesk;II[J)I" } : Jvm.MethodName)) ∈ lw_all := lw_g (lw_at lw_m9 238 rfl) rfl
theorem q2201 : (Jvm.Cond.codeWith ({ cls := "CheckoutDeskLaw", name := "valueOf", desc := "(LCheckoutDesk;II[J)I" } : Jvm.MethodName) method_22_code (5 : Nat) (Option.some Jvm.ClassFile.FieldType.int) [((0 : Nat), (10 : Nat), (13 : Nat), (24 : Nat)), ((0 : Nat), (10 : Nat), (17 : Nat), (13 : Nat))]) ∈ lw_all := lw_g (lw_at lw_m9 239 rfl) rfl
theorem q2202 : (Jvm.Cond.methodLink "CheckoutDeskLaw" (78 : Nat) ({ cls := "CheckoutDesk", name := "valueOf", desc := "(II)I" } : Jvm.MethodName)) ∈ lw_all := lw_g (lw_at lw_m10 0 rfl) rfl
theorem q2207 : (Jvm.Cond.methodLink "CheckoutDeskLaw" (202 : Nat) ({ cls := "CheckoutDeskLaw", name := "newest", desc := "(LCheckoutDesk;II[J)I" } : Jvm.MethodName)) ∈ lw_all := lw_g (lw_at lw_m10 5 rfl) rfl
theorem q2208 : (Jvm.Cond.static ({ cls := "CheckoutDeskLaw", name := "newest", desc := "(LCheckoutDesk;II[J)I" } : Jvm.MethodName)) ∈ lw_all := lw_g (lw_at lw_m10 6 rfl) rfl
theorem q2209 : (Jvm.Cond.codeWith ({ cls := "CheckoutDeskLaw", name := "newest", desc := "(LCheckoutDesk;II[J)I" } : Jvm.MethodName) method_23_code (5 : Nat) (Option.some Jvm.ClassFile.FieldType.int) [((0 : Nat), (10 : Nat), (13 : Nat), (24 : Nat))]) ∈ lw_all := lw_g (lw_at lw_m10 7 rfl) rfl
theorem q2210 : (Jvm.Cond.methodLink "CheckoutDeskLaw" (81 : Nat) ({ cls := "CheckoutDesk", name := "newest", desc := "(II)I" } : Jvm.MethodName)) ∈ lw_all := lw_g (lw_at lw_m10 8 rfl) rfl
theorem q2215 : (Jvm.Cond.methodLink "CheckoutDeskLaw" (205 : Nat) ({ cls := "CheckoutDeskLaw", name := "originOf", desc := "(LCheckoutDesk;II[J)I" } : Jvm.MethodName)) ∈ lw_all := lw_g (lw_at lw_m10 13 rfl) rfl
theorem q2216 : (Jvm.Cond.static ({ cls := "CheckoutDeskLaw", name := "originOf", desc := "(LCheckoutDesk;II[J)I" } : Jvm.MethodName)) ∈ lw_all := lw_g (lw_at lw_m10 14 rfl) rfl
theorem q2217 : (Jvm.Cond.codeWith ({ cls := "CheckoutDeskLaw", name := "originOf", desc := "(LCheckoutDesk;II[J)I" } : Jvm.MethodName) method_24_code (5 : Nat) (Option.some Jvm.ClassFile.FieldType.int) [((0 : Nat), (10 : Nat), (13 : Nat), (24 : Nat))]) ∈ lw_all := lw_g (lw_at lw_m10 15 rfl) rfl
theorem q2218 : (Jvm.Cond.methodLink "CheckoutDeskLaw" (84 : Nat) ({ cls := "CheckoutDesk", name := "originOf", desc := "(II)I" } : Jvm.MethodName)) ∈ lw_all := lw_g (lw_at lw_m10 16 rfl) rfl
theorem q2222 : (Jvm.Cond.methodLink "CheckoutDeskLaw" (208 : Nat) ({ cls := "CheckoutDeskLaw", name := "holder", desc := "(LCheckoutDesk;II[J)I" } : Jvm.MethodName)) ∈ lw_all := lw_g (lw_at lw_m10 20 rfl) rfl
theorem q2223 : (Jvm.Cond.static ({ cls := "CheckoutDeskLaw", name := "holder", desc := "(LCheckoutDesk;II[J)I" } : Jvm.MethodName)) ∈ lw_all := lw_g (lw_at lw_m10 21 rfl) rfl
theorem q2224 : (Jvm.Cond.codeWith ({ cls := "CheckoutDeskLaw", name := "holder", desc := "(LCheckoutDesk;II[J)I" } : Jvm.MethodName) method_25_code (5 : Nat) (Option.some Jvm.ClassFile.FieldType.int) [((0 : Nat), (10 : Nat), (13 : Nat), (24 : Nat))]) ∈ lw_all := lw_g (lw_at lw_m10 22 rfl) rfl
theorem q2225 : (Jvm.Cond.methodLink "CheckoutDeskLaw" (87 : Nat) ({ cls := "CheckoutDesk", name := "holder", desc := "(II)I" } : Jvm.MethodName)) ∈ lw_all := lw_g (lw_at lw_m10 23 rfl) rfl
theorem q2229 : (Jvm.Cond.methodLink "CheckoutDeskLaw" (211 : Nat) ({ cls := "CheckoutDeskLaw", name := "hoursLeft", desc := "(LCheckoutDesk;II[J)I" } : Jvm.MethodName)) ∈ lw_all := lw_g (lw_at lw_m10 27 rfl) rfl
theorem q2230 : (Jvm.Cond.static ({ cls := "CheckoutDeskLaw", name := "hoursLeft", desc := "(LCheckoutDesk;II[J)I" } : Jvm.MethodName)) ∈ lw_all := lw_g (lw_at lw_m10 28 rfl) rfl
theorem q2231 : (Jvm.Cond.codeWith ({ cls := "CheckoutDeskLaw", name := "hoursLeft", desc := "(LCheckoutDesk;II[J)I" } : Jvm.MethodName) method_26_code (5 : Nat) (Option.some Jvm.ClassFile.FieldType.int) [((0 : Nat), (10 : Nat), (13 : Nat), (24 : Nat))]) ∈ lw_all := lw_g (lw_at lw_m10 29 rfl) rfl
theorem q2232 : (Jvm.Cond.methodLink "CheckoutDeskLaw" (90 : Nat) ({ cls := "CheckoutDesk", name := "hoursLeft", desc := "(II)I" } : Jvm.MethodName)) ∈ lw_all := lw_g (lw_at lw_m10 30 rfl) rfl
theorem q2237 : (Jvm.Cond.methodLink "CheckoutDeskLaw" (214 : Nat) ({ cls := "CheckoutDeskLaw", name := "maySee", desc := "(LCheckoutDesk;II[J)I" } : Jvm.MethodName)) ∈ lw_all := lw_g (lw_at lw_m10 35 rfl) rfl
theorem q2238 : (Jvm.Cond.static ({ cls := "CheckoutDeskLaw", name := "maySee", desc := "(LCheckoutDesk;II[J)I" } : Jvm.MethodName)) ∈ lw_all := lw_g (lw_at lw_m10 36 rfl) rfl
theorem q2239 : (Jvm.Cond.codeWith ({ cls := "CheckoutDeskLaw", name := "maySee", desc := "(LCheckoutDesk;II[J)I" } : Jvm.MethodName) method_27_code (5 : Nat) (Option.some Jvm.ClassFile.FieldType.int) [((0 : Nat), (17 : Nat), (20 : Nat), (24 : Nat))]) ∈ lw_all := lw_g (lw_at lw_m10 37 rfl) rfl
theorem q2240 : (Jvm.Cond.methodLink "CheckoutDeskLaw" (93 : Nat) ({ cls := "CheckoutDesk", name := "maySee", desc := "(II)Z" } : Jvm.MethodName)) ∈ lw_all := lw_g (lw_at lw_m10 38 rfl) rfl
theorem q2244 : (Jvm.Cond.methodLink "CheckoutDeskLaw" (217 : Nat) ({ cls := "CheckoutDeskLaw", name := "open", desc := "(LCheckoutDesk;II[J)I" } : Jvm.MethodName)) ∈ lw_all := lw_g (lw_at lw_m10 42 rfl) rfl
theorem q2245 : (Jvm.Cond.static ({ cls := "CheckoutDeskLaw", name := "open", desc := "(LCheckoutDesk;II[J)I" } : Jvm.MethodName)) ∈ lw_all := lw_g (lw_at lw_m10 43 rfl) rfl
theorem q2246 : (Jvm.Cond.codeWith ({ cls := "CheckoutDeskLaw", name := "open", desc := "(LCheckoutDesk;II[J)I" } : Jvm.MethodName) method_28_code (5 : Nat) (Option.some Jvm.ClassFile.FieldType.int) [((0 : Nat), (10 : Nat), (13 : Nat), (24 : Nat)), ((0 : Nat), (10 : Nat), (17 : Nat), (100 : Nat))]) ∈ lw_all := lw_g (lw_at lw_m10 44 rfl) rfl
theorem q2247 : (Jvm.Cond.classLink "CheckoutDeskLaw" (100 : Nat) "java/util/NoSuchElementException") ∈ lw_all := lw_g (lw_at lw_m10 45 rfl) rfl
theorem q2248 : (Jvm.Cond.methodLink "CheckoutDeskLaw" (97 : Nat) ({ cls := "CheckoutDesk", name := "open", desc := "(II)I" } : Jvm.MethodName)) ∈ lw_all := lw_g (lw_at lw_m10 46 rfl) rfl
theorem q2270 : (Jvm.Cond.methodLink "CheckoutDeskLaw" (220 : Nat) ({ cls := "CheckoutDeskLaw", name := "linksTo", desc := "(LCheckoutDesk;I[J)I" } : Jvm.MethodName)) ∈ lw_all := lw_g (lw_at lw_m10 68 rfl) rfl
theorem q2271 : (Jvm.Cond.static ({ cls := "CheckoutDeskLaw", name := "linksTo", desc := "(LCheckoutDesk;I[J)I" } : Jvm.MethodName)) ∈ lw_all := lw_g (lw_at lw_m10 69 rfl) rfl
theorem q2272 : (Jvm.Cond.codeWith ({ cls := "CheckoutDeskLaw", name := "linksTo", desc := "(LCheckoutDesk;I[J)I" } : Jvm.MethodName) method_29_code (4 : Nat) (Option.some Jvm.ClassFile.FieldType.int) [((0 : Nat), (9 : Nat), (12 : Nat), (24 : Nat))]) ∈ lw_all := lw_g (lw_at lw_m10 70 rfl) rfl
theorem q2273 : (Jvm.Cond.methodLink "CheckoutDeskLaw" (102 : Nat) ({ cls := "CheckoutDesk", name := "linksTo", desc := "(I)I" } : Jvm.MethodName)) ∈ lw_all := lw_g (lw_at lw_m10 71 rfl) rfl
theorem q2293 : (Jvm.Cond.methodLink "CheckoutDeskLaw" (237 : Nat) ({ cls := "CheckoutDeskLaw", name := "hourOf", desc := "(LCheckoutDesk;I[J)I" } : Jvm.MethodName)) ∈ lw_all := lw_g (lw_at lw_m10 91 rfl) rfl
theorem q2294 : (Jvm.Cond.static ({ cls := "CheckoutDeskLaw", name := "hourOf", desc := "(LCheckoutDesk;I[J)I" } : Jvm.MethodName)) ∈ lw_all := lw_g (lw_at lw_m10 92 rfl) rfl
theorem q2295 : (Jvm.Cond.codeWith ({ cls := "CheckoutDeskLaw", name := "hourOf", desc := "(LCheckoutDesk;I[J)I" } : Jvm.MethodName) method_30_code (4 : Nat) (Option.some Jvm.ClassFile.FieldType.int) [((0 : Nat), (9 : Nat), (12 : Nat), (100 : Nat))]) ∈ lw_all := lw_g (lw_at lw_m10 93 rfl) rfl
theorem q2296 : (Jvm.Cond.methodLink "CheckoutDeskLaw" (105 : Nat) ({ cls := "CheckoutDesk", name := "hourOf", desc := "(I)I" } : Jvm.MethodName)) ∈ lw_all := lw_g (lw_at lw_m10 94 rfl) rfl
theorem q2304 : (Jvm.Cond.methodLink "CheckoutDeskLaw" (240 : Nat) ({ cls := "CheckoutDeskLaw", name := "newestThen", desc := "(LCheckoutDesk;III[J)I" } : Jvm.MethodName)) ∈ lw_all := lw_g (lw_at lw_m10 102 rfl) rfl
theorem q2305 : (Jvm.Cond.static ({ cls := "CheckoutDeskLaw", name := "newestThen", desc := "(LCheckoutDesk;III[J)I" } : Jvm.MethodName)) ∈ lw_all := lw_g (lw_at lw_m10 103 rfl) rfl
theorem q2306 : (Jvm.Cond.codeWith ({ cls := "CheckoutDeskLaw", name := "newestThen", desc := "(LCheckoutDesk;III[J)I" } : Jvm.MethodName) method_31_code (6 : Nat) (Option.some Jvm.ClassFile.FieldType.int) [((0 : Nat), (12 : Nat), (15 : Nat), (100 : Nat))]) ∈ lw_all := lw_g (lw_at lw_m10 104 rfl) rfl
theorem q2307 : (Jvm.Cond.methodLink "CheckoutDeskLaw" (108 : Nat) ({ cls := "CheckoutDesk", name := "newestThen", desc := "(III)I" } : Jvm.MethodName)) ∈ lw_all := lw_g (lw_at lw_m10 105 rfl) rfl
theorem q2314 : (Jvm.Cond.methodLink "CheckoutDeskLaw" (243 : Nat) ({ cls := "CheckoutDeskLaw", name := "holderThen", desc := "(LCheckoutDesk;III[J)I" } : Jvm.MethodName)) ∈ lw_all := lw_g (lw_at lw_m10 112 rfl) rfl
theorem q2315 : (Jvm.Cond.static ({ cls := "CheckoutDeskLaw", name := "holderThen", desc := "(LCheckoutDesk;III[J)I" } : Jvm.MethodName)) ∈ lw_all := lw_g (lw_at lw_m10 113 rfl) rfl
theorem q2316 : (Jvm.Cond.codeWith ({ cls := "CheckoutDeskLaw", name := "holderThen", desc := "(LCheckoutDesk;III[J)I" } : Jvm.MethodName) method_32_code (6 : Nat) (Option.some Jvm.ClassFile.FieldType.int) [((0 : Nat), (12 : Nat), (15 : Nat), (100 : Nat))]) ∈ lw_all := lw_g (lw_at lw_m10 114 rfl) rfl
theorem q2317 : (Jvm.Cond.methodLink "CheckoutDeskLaw" (111 : Nat) ({ cls := "CheckoutDesk", name := "holderThen", desc := "(III)I" } : Jvm.MethodName)) ∈ lw_all := lw_g (lw_at lw_m10 115 rfl) rfl
theorem q2321 : (Jvm.Cond.classLink "CheckoutDeskLaw" (115 : Nat) "CheckoutDeskModel") ∈ lw_all := lw_g (lw_at lw_m10 119 rfl) rfl
theorem q2323 : (Jvm.Cond.methodLink "CheckoutDeskLaw" (117 : Nat) ({ cls := "CheckoutDeskModel", name := "<init>", desc := "()V" } : Jvm.MethodName)) ∈ lw_all := lw_g (lw_at lw_m10 121 rfl) rfl
theorem q2353 : (Jvm.Cond.methodLink "CheckoutDeskLaw" (129 : Nat) ({ cls := "CheckoutDeskModel", name := "thrown", desc := "()I" } : Jvm.MethodName)) ∈ lw_all := lw_g (lw_at lw_m10 151 rfl) rfl
theorem q2357 : (Jvm.Cond.methodLink "CheckoutDeskLaw" (122 : Nat) ({ cls := "CheckoutDeskModel", name := "reset", desc := "()I" } : Jvm.MethodName)) ∈ lw_all := lw_g (lw_at lw_m10 155 rfl) rfl
theorem q2361 : (Jvm.Cond.methodLink "CheckoutDeskLaw" (128 : Nat) ({ cls := "CheckoutDeskModel", name := "pass", desc := "(I)I" } : Jvm.MethodName)) ∈ lw_all := lw_g (lw_at lw_m10 159 rfl) rfl
theorem q2380 : (Jvm.Cond.methodLink "CheckoutDeskLaw" (134 : Nat) ({ cls := "CheckoutDeskModel", name := "setLapse", desc := "(I)I" } : Jvm.MethodName)) ∈ lw_all := lw_g (lw_at lw_m10 178 rfl) rfl
theorem q2388 : (Jvm.Cond.methodLink "CheckoutDeskLaw" (138 : Nat) ({ cls := "CheckoutDeskModel", name := "create", desc := "(II)I" } : Jvm.MethodName)) ∈ lw_all := lw_g (lw_at lw_m10 186 rfl) rfl
theorem q2408 : (Jvm.Cond.methodLink "CheckoutDeskLaw" (142 : Nat) ({ cls := "CheckoutDeskModel", name := "grant", desc := "(IIII)I" } : Jvm.MethodName)) ∈ lw_all := lw_g (lw_at lw_m10 206 rfl) rfl
theorem q2420 : (Jvm.Cond.methodLink "CheckoutDeskLaw" (146 : Nat) ({ cls := "CheckoutDeskModel", name := "checkOut", desc := "(III)I" } : Jvm.MethodName)) ∈ lw_all := lw_g (lw_at lw_m10 218 rfl) rfl
theorem q2453 : (Jvm.Cond.methodLink "CheckoutDeskLaw" (150 : Nat) ({ cls := "CheckoutDeskModel", name := "edit", desc := "(IIIII)I" } : Jvm.MethodName)) ∈ lw_all := lw_g (lw_at lw_m11 11 rfl) rfl
theorem q2465 : (Jvm.Cond.methodLink "CheckoutDeskLaw" (154 : Nat) ({ cls := "CheckoutDeskModel", name := "checkIn", desc := "(IIIZ)I" } : Jvm.MethodName)) ∈ lw_all := lw_g (lw_at lw_m11 23 rfl) rfl
theorem q2473 : (Jvm.Cond.methodLink "CheckoutDeskLaw" (157 : Nat) ({ cls := "CheckoutDeskModel", name := "renew", desc := "(III)I" } : Jvm.MethodName)) ∈ lw_all := lw_g (lw_at lw_m11 31 rfl) rfl
theorem q2477 : (Jvm.Cond.methodLink "CheckoutDeskLaw" (160 : Nat) ({ cls := "CheckoutDeskModel", name := "cancel", desc := "(III)I" } : Jvm.MethodName)) ∈ lw_all := lw_g (lw_at lw_m11 35 rfl) rfl
theorem q2481 : (Jvm.Cond.methodLink "CheckoutDeskLaw" (163 : Nat) ({ cls := "CheckoutDeskModel", name := "promote", desc := "(III)I" } : Jvm.MethodName)) ∈ lw_all := lw_g (lw_at lw_m11 39 rfl) rfl
theorem q2489 : (Jvm.Cond.methodLink "CheckoutDeskLaw" (166 : Nat) ({ cls := "CheckoutDeskModel", name := "prune", desc := "(III)I" } : Jvm.MethodName)) ∈ lw_all := lw_g (lw_at lw_m11 47 rfl) rfl
theorem q2497 : (Jvm.Cond.methodLink "CheckoutDeskLaw" (169 : Nat) ({ cls := "CheckoutDeskModel", name := "branchOff", desc := "(II)I" } : Jvm.MethodName)) ∈ lw_all := lw_g (lw_at lw_m11 55 rfl) rfl
theorem q2505 : (Jvm.Cond.methodLink "CheckoutDeskLaw" (172 : Nat) ({ cls := "CheckoutDeskModel", name := "merge", desc := "(III)I" } : Jvm.MethodName)) ∈ lw_all := lw_g (lw_at lw_m11 63 rfl) rfl
theorem q2509 : (Jvm.Cond.methodLink "CheckoutDeskLaw" (175 : Nat) ({ cls := "CheckoutDeskModel", name := "linkVersion", desc := "(III)I" } : Jvm.MethodName)) ∈ lw_all := lw_g (lw_at lw_m11 67 rfl) rfl
theorem q2521 : (Jvm.Cond.methodLink "CheckoutDeskLaw" (178 : Nat) ({ cls := "CheckoutDeskModel", name := "linkDocument", desc := "(IIII)I" } : Jvm.MethodName)) ∈ lw_all := lw_g (lw_at lw_m11 79 rfl) rfl
theorem q2525 : (Jvm.Cond.methodLink "CheckoutDeskLaw" (181 : Nat) ({ cls := "CheckoutDeskModel", name := "unlink", desc := "(II)I" } : Jvm.MethodName)) ∈ lw_all := lw_g (lw_at lw_m11 83 rfl) rfl
theorem q2533 : (Jvm.Cond.methodLink "CheckoutDeskLaw" (185 : Nat) ({ cls := "CheckoutDeskModel", name := "clock", desc := "()I" } : Jvm.MethodName)) ∈ lw_all := lw_g (lw_at lw_m11 91 rfl) rfl
theorem q2537 : (Jvm.Cond.methodLink "CheckoutDeskLaw" (189 : Nat) ({ cls := "CheckoutDeskModel", name := "versions", desc := "()I" } : Jvm.MethodName)) ∈ lw_all := lw_g (lw_at lw_m11 95 rfl) rfl
theorem q2541 : (Jvm.Cond.methodLink "CheckoutDeskLaw" (192 : Nat) ({ cls := "CheckoutDeskModel", name := "branches", desc := "(I)I" } : Jvm.MethodName)) ∈ lw_all := lw_g (lw_at lw_m11 99 rfl) rfl
theorem q2545 : (Jvm.Cond.methodLink "CheckoutDeskLaw" (195 : Nat) ({ cls := "CheckoutDeskModel", name := "rightOf", desc := "(II)I" } : Jvm.MethodName)) ∈ lw_all := lw_g (lw_at lw_m11 103 rfl) rfl
theorem q2549 : (Jvm.Cond.methodLink "CheckoutDeskLaw" (198 : Nat) ({ cls := "CheckoutDeskModel", name := "numberOf", desc := "(I)I" } : Jvm.MethodName)) ∈ lw_all := lw_g (lw_at lw_m11 107 rfl) rfl
theorem q2555 : (Jvm.Cond.methodLink "CheckoutDeskLaw" (201 : Nat) ({ cls := "CheckoutDeskModel", name := "valueOf", desc := "(II)I" } : Jvm.MethodName)) ∈ lw_all := lw_g (lw_at lw_m11 113 rfl) rfl
theorem q2559 : (Jvm.Cond.methodLink "CheckoutDeskLaw" (204 : Nat) ({ cls := "CheckoutDeskModel", name := "newest", desc := "(II)I" } : Jvm.MethodName)) ∈ lw_all := lw_g (lw_at lw_m11 117 rfl) rfl
theorem q2563 : (Jvm.Cond.methodLink "CheckoutDeskLaw" (207 : Nat) ({ cls := "CheckoutDeskModel", name := "originOf", desc := "(II)I" } : Jvm.MethodName)) ∈ lw_all := lw_g (lw_at lw_m11 121 rfl) rfl
theorem q2567 : (Jvm.Cond.methodLink "CheckoutDeskLaw" (210 : Nat) ({ cls := "CheckoutDeskModel", name := "holder", desc := "(II)I" } : Jvm.MethodName)) ∈ lw_all := lw_g (lw_at lw_m11 125 rfl) rfl
theorem q2571 : (Jvm.Cond.methodLink "CheckoutDeskLaw" (213 : Nat) ({ cls := "CheckoutDeskModel", name := "hoursLeft", desc := "(II)I" } : Jvm.MethodName)) ∈ lw_all := lw_g (lw_at lw_m11 129 rfl) rfl
theorem q2575 : (Jvm.Cond.methodLink "CheckoutDeskLaw" (216 : Nat) ({ cls := "CheckoutDeskModel", name := "maySee", desc := "(II)Z" } : Jvm.MethodName)) ∈ lw_all := lw_g (lw_at lw_m11 133 rfl) rfl
theorem q2579 : (Jvm.Cond.methodLink "CheckoutDeskLaw" (219 : Nat) ({ cls := "CheckoutDeskModel", name := "open", desc := "(II)I" } : Jvm.MethodName)) ∈ lw_all := lw_g (lw_at lw_m11 137 rfl) rfl
theorem q2587 : (Jvm.Cond.methodLink "CheckoutDeskLaw" (222 : Nat) ({ cls := "CheckoutDeskModel", name := "linksTo", desc := "(I)I" } : Jvm.MethodName)) ∈ lw_all := lw_g (lw_at lw_m11 145 rfl) rfl
theorem q2591 : (Jvm.Cond.methodLink "CheckoutDeskLaw" (227 : Nat) ({ cls := "CheckoutDeskModel", name := "releasedShare", desc := "()F" } : Jvm.MethodName)) ∈ lw_all := lw_g (lw_at lw_m11 149 rfl) rfl
theorem q2595 : (Jvm.Cond.methodLink "CheckoutDeskLaw" (232 : Nat) ({ cls := "CheckoutDeskModel", name := "lockedPer", desc := "()D" } : Jvm.MethodName)) ∈ lw_all := lw_g (lw_at lw_m11 153 rfl) rfl
theorem q2599 : (Jvm.Cond.methodLink "CheckoutDeskLaw" (236 : Nat) ({ cls := "CheckoutDeskModel", name := "events", desc := "()I" } : Jvm.MethodName)) ∈ lw_all := lw_g (lw_at lw_m11 157 rfl) rfl
theorem q2603 : (Jvm.Cond.methodLink "CheckoutDeskLaw" (239 : Nat) ({ cls := "CheckoutDeskModel", name := "hourOf", desc := "(I)I" } : Jvm.MethodName)) ∈ lw_all := lw_g (lw_at lw_m11 161 rfl) rfl
theorem q2607 : (Jvm.Cond.methodLink "CheckoutDeskLaw" (242 : Nat) ({ cls := "CheckoutDeskModel", name := "newestThen", desc := "(III)I" } : Jvm.MethodName)) ∈ lw_all := lw_g (lw_at lw_m11 165 rfl) rfl
theorem q2651 : (Jvm.Cond.methodLink "CheckoutDeskLaw" (245 : Nat) ({ cls := "CheckoutDeskModel", name := "holderThen", desc := "(III)I" } : Jvm.MethodName)) ∈ lw_all := lw_g (lw_at lw_m11 209 rfl) rfl
theorem q2655 : (Jvm.Cond.methodLink "CheckoutDeskLaw" (249 : Nat) ({ cls := "CheckoutDeskModel", name := "deskErrors", desc := "()I" } : Jvm.MethodName)) ∈ lw_all := lw_g (lw_at lw_m11 213 rfl) rfl
/-! the law's own entry -/
set_option maxRecDepth 100000
abbrev cL_law : ByteArray := code
def dkwL_law_103 : List UInt8 := [167, 0, 16, 43, 182, 0, 246, 44, 182, 0, 249, 159, 0, 5, 3, 172, 132, 4, 6, 167, 246, 20, 4, 172]
abbrev dktL_law_103 : List UInt8 := dkwL_law_103 ++ []
def dkwL_law_102 : List UInt8 := [21, 5, 159, 0, 5, 3, 172, 21, 5, 154, 0, 15, 45, 3, 47, 21, 6, 133, 148, 153, 0, 5, 3, 172]
abbrev dktL_law_102 : List UInt8 := dkwL_law_102 ++ dktL_law_103
def dkwL_law_101 : List UInt8 := [96, 46, 42, 21, 4, 5, 96, 46, 42, 21, 4, 6, 96, 46, 182, 0, 245, 54, 6, 44, 182, 0, 129]
abbrev dktL_law_101 : List UInt8 := dkwL_law_101 ++ dktL_law_102
def dkwL_law_100 : List UInt8 := [46, 42, 21, 4, 5, 96, 46, 42, 21, 4, 6, 96, 46, 45, 184, 0, 243, 54, 5, 44, 42, 21, 4, 4]
abbrev dktL_law_100 : List UInt8 := dkwL_law_100 ++ dktL_law_101
def dkwL_law_99 : List UInt8 := [154, 0, 15, 45, 3, 47, 21, 6, 133, 148, 153, 0, 5, 3, 172, 167, 0, 96, 43, 42, 21, 4, 4, 96]
abbrev dktL_law_99 : List UInt8 := dkwL_law_99 ++ dktL_law_100
def dkwL_law_98 : List UInt8 := [42, 21, 4, 6, 96, 46, 182, 0, 242, 54, 6, 44, 182, 0, 129, 21, 5, 159, 0, 5, 3, 172, 21, 5]
abbrev dktL_law_98 : List UInt8 := dkwL_law_98 ++ dktL_law_99
def dkwL_law_97 : List UInt8 := [21, 4, 6, 96, 46, 45, 184, 0, 240, 54, 5, 44, 42, 21, 4, 4, 96, 46, 42, 21, 4, 5, 96, 46]
abbrev dktL_law_97 : List UInt8 := dkwL_law_97 ++ dktL_law_98
def dkwL_law_96 : List UInt8 := [148, 153, 0, 5, 3, 172, 167, 0, 176, 43, 42, 21, 4, 4, 96, 46, 42, 21, 4, 5, 96, 46, 42]
abbrev dktL_law_96 : List UInt8 := dkwL_law_96 ++ dktL_law_97
def dkwL_law_95 : List UInt8 := [54, 6, 44, 182, 0, 129, 21, 5, 159, 0, 5, 3, 172, 21, 5, 154, 0, 15, 45, 3, 47, 21, 6, 133]
abbrev dktL_law_95 : List UInt8 := dkwL_law_95 ++ dktL_law_96
def dkwL_law_94 : List UInt8 := [43, 42, 21, 4, 4, 96, 46, 45, 184, 0, 237, 54, 5, 44, 42, 21, 4, 4, 96, 46, 182, 0, 239]
abbrev dktL_law_94 : List UInt8 := dkwL_law_94 ++ dktL_law_95
def dkwL_law_93 : List UInt8 := [24, 7, 151, 154, 0, 5, 3, 172, 167, 0, 245, 43, 182, 0, 233, 44, 182, 0, 236, 159, 0, 234, 3, 172]
abbrev dktL_law_93 : List UInt8 := dkwL_law_93 ++ dktL_law_94
def dkwL_law_92 : List UInt8 := [182, 0, 232, 57, 7, 24, 5, 24, 7, 151, 153, 0, 21, 24, 5, 24, 5, 151, 153, 0, 11, 24, 7]
abbrev dktL_law_92 : List UInt8 := dkwL_law_92 ++ dktL_law_93
def dkwL_law_91 : List UInt8 := [153, 0, 11, 24, 7, 24, 7, 151, 154, 0, 5, 3, 172, 167, 1, 30, 43, 182, 0, 228, 57, 5, 44]
abbrev dktL_law_91 : List UInt8 := dkwL_law_91 ++ dktL_law_92
def dkwL_law_90 : List UInt8 := [57, 5, 44, 182, 0, 227, 141, 57, 7, 24, 5, 24, 7, 151, 153, 0, 21, 24, 5, 24, 5, 151]
abbrev dktL_law_90 : List UInt8 := dkwL_law_90 ++ dktL_law_91
def dkwL_law_89 : List UInt8 := [154, 0, 15, 45, 3, 47, 21, 6, 133, 148, 153, 0, 5, 3, 172, 167, 1, 73, 43, 182, 0, 223, 141]
abbrev dktL_law_89 : List UInt8 := dkwL_law_89 ++ dktL_law_90
def dkwL_law_88 : List UInt8 := [21, 4, 4, 96, 46, 182, 0, 222, 54, 6, 44, 182, 0, 129, 21, 5, 159, 0, 5, 3, 172, 21, 5]
abbrev dktL_law_88 : List UInt8 := dkwL_law_88 ++ dktL_law_89
def dkwL_law_87 : List UInt8 := [148, 153, 0, 5, 3, 172, 167, 1, 129, 43, 42, 21, 4, 4, 96, 46, 45, 184, 0, 220, 54, 5, 44, 42]
abbrev dktL_law_87 : List UInt8 := dkwL_law_87 ++ dktL_law_88
def dkwL_law_86 : List UInt8 := [54, 6, 44, 182, 0, 129, 21, 5, 159, 0, 5, 3, 172, 21, 5, 154, 0, 15, 45, 3, 47, 21, 6, 133]
abbrev dktL_law_86 : List UInt8 := dkwL_law_86 ++ dktL_law_87
def dkwL_law_85 : List UInt8 := [96, 46, 45, 184, 0, 217, 54, 5, 44, 42, 21, 4, 4, 96, 46, 42, 21, 4, 5, 96, 46, 182, 0, 219]
abbrev dktL_law_85 : List UInt8 := dkwL_law_85 ++ dktL_law_86
def dkwL_law_84 : List UInt8 := [167, 0, 4, 9, 148, 153, 0, 5, 3, 172, 167, 1, 197, 43, 42, 21, 4, 4, 96, 46, 42, 21, 4, 5]
abbrev dktL_law_84 : List UInt8 := dkwL_law_84 ++ dktL_law_85
def dkwL_law_83 : List UInt8 := [182, 0, 129, 21, 5, 159, 0, 5, 3, 172, 21, 5, 154, 0, 22, 45, 3, 47, 21, 6, 153, 0, 7, 10]
abbrev dktL_law_83 : List UInt8 := dkwL_law_83 ++ dktL_law_84
def dkwL_law_82 : List UInt8 := [184, 0, 214, 54, 5, 44, 42, 21, 4, 4, 96, 46, 42, 21, 4, 5, 96, 46, 182, 0, 216, 54, 6, 44]
abbrev dktL_law_82 : List UInt8 := dkwL_law_82 ++ dktL_law_83
def dkwL_law_81 : List UInt8 := [153, 0, 5, 3, 172, 167, 2, 16, 43, 42, 21, 4, 4, 96, 46, 42, 21, 4, 5, 96, 46, 45]
abbrev dktL_law_81 : List UInt8 := dkwL_law_81 ++ dktL_law_82
def dkwL_law_80 : List UInt8 := [182, 0, 129, 21, 5, 159, 0, 5, 3, 172, 21, 5, 154, 0, 15, 45, 3, 47, 21, 6, 133, 148]
abbrev dktL_law_80 : List UInt8 := dkwL_law_80 ++ dktL_law_81
def dkwL_law_79 : List UInt8 := [184, 0, 211, 54, 5, 44, 42, 21, 4, 4, 96, 46, 42, 21, 4, 5, 96, 46, 182, 0, 213, 54, 6, 44]
abbrev dktL_law_79 : List UInt8 := dkwL_law_79 ++ dktL_law_80
def dkwL_law_78 : List UInt8 := [153, 0, 5, 3, 172, 167, 2, 84, 43, 42, 21, 4, 4, 96, 46, 42, 21, 4, 5, 96, 46, 45]
abbrev dktL_law_78 : List UInt8 := dkwL_law_78 ++ dktL_law_79
def dkwL_law_77 : List UInt8 := [182, 0, 129, 21, 5, 159, 0, 5, 3, 172, 21, 5, 154, 0, 15, 45, 3, 47, 21, 6, 133, 148]
abbrev dktL_law_77 : List UInt8 := dkwL_law_77 ++ dktL_law_78
def dkwL_law_76 : List UInt8 := [184, 0, 208, 54, 5, 44, 42, 21, 4, 4, 96, 46, 42, 21, 4, 5, 96, 46, 182, 0, 210, 54, 6, 44]
abbrev dktL_law_76 : List UInt8 := dkwL_law_76 ++ dktL_law_77
def dkwL_law_75 : List UInt8 := [148, 153, 0, 5, 3, 172, 167, 2, 152, 43, 42, 21, 4, 4, 96, 46, 42, 21, 4, 5, 96, 46, 45]
abbrev dktL_law_75 : List UInt8 := dkwL_law_75 ++ dktL_law_76
def dkwL_law_74 : List UInt8 := [54, 6, 44, 182, 0, 129, 21, 5, 159, 0, 5, 3, 172, 21, 5, 154, 0, 15, 45, 3, 47, 21, 6, 133]
abbrev dktL_law_74 : List UInt8 := dkwL_law_74 ++ dktL_law_75
def dkwL_law_73 : List UInt8 := [46, 45, 184, 0, 205, 54, 5, 44, 42, 21, 4, 4, 96, 46, 42, 21, 4, 5, 96, 46, 182, 0, 207]
abbrev dktL_law_73 : List UInt8 := dkwL_law_73 ++ dktL_law_74
def dkwL_law_72 : List UInt8 := [21, 6, 133, 148, 153, 0, 5, 3, 172, 167, 2, 220, 43, 42, 21, 4, 4, 96, 46, 42, 21, 4, 5, 96]
abbrev dktL_law_72 : List UInt8 := dkwL_law_72 ++ dktL_law_73
def dkwL_law_71 : List UInt8 := [182, 0, 204, 54, 6, 44, 182, 0, 129, 21, 5, 159, 0, 5, 3, 172, 21, 5, 154, 0, 15, 45, 3, 47]
abbrev dktL_law_71 : List UInt8 := dkwL_law_71 ++ dktL_law_72
def dkwL_law_70 : List UInt8 := [5, 96, 46, 45, 184, 0, 202, 54, 5, 44, 42, 21, 4, 4, 96, 46, 42, 21, 4, 5, 96, 46]
abbrev dktL_law_70 : List UInt8 := dkwL_law_70 ++ dktL_law_71
def dkwL_law_69 : List UInt8 := [3, 47, 21, 6, 133, 148, 153, 0, 5, 3, 172, 167, 3, 32, 43, 42, 21, 4, 4, 96, 46, 42, 21, 4]
abbrev dktL_law_69 : List UInt8 := dkwL_law_69 ++ dktL_law_70
def dkwL_law_68 : List UInt8 := [96, 46, 182, 0, 201, 54, 6, 44, 182, 0, 129, 21, 5, 159, 0, 5, 3, 172, 21, 5, 154, 0, 15, 45]
abbrev dktL_law_68 : List UInt8 := dkwL_law_68 ++ dktL_law_69
def dkwL_law_67 : List UInt8 := [46, 42, 21, 4, 5, 96, 46, 45, 184, 0, 199, 54, 5, 44, 42, 21, 4, 4, 96, 46, 42, 21, 4, 5]
abbrev dktL_law_67 : List UInt8 := dkwL_law_67 ++ dktL_law_68
def dkwL_law_66 : List UInt8 := [154, 0, 15, 45, 3, 47, 21, 6, 133, 148, 153, 0, 5, 3, 172, 167, 3, 100, 43, 42, 21, 4, 4, 96]
abbrev dktL_law_66 : List UInt8 := dkwL_law_66 ++ dktL_law_67
def dkwL_law_65 : List UInt8 := [21, 4, 4, 96, 46, 182, 0, 198, 54, 6, 44, 182, 0, 129, 21, 5, 159, 0, 5, 3, 172, 21, 5]
abbrev dktL_law_65 : List UInt8 := dkwL_law_65 ++ dktL_law_66
def dkwL_law_64 : List UInt8 := [148, 153, 0, 5, 3, 172, 167, 3, 156, 43, 42, 21, 4, 4, 96, 46, 45, 184, 0, 196, 54, 5, 44, 42]
abbrev dktL_law_64 : List UInt8 := dkwL_law_64 ++ dktL_law_65
def dkwL_law_63 : List UInt8 := [54, 6, 44, 182, 0, 129, 21, 5, 159, 0, 5, 3, 172, 21, 5, 154, 0, 15, 45, 3, 47, 21, 6, 133]
abbrev dktL_law_63 : List UInt8 := dkwL_law_63 ++ dktL_law_64
def dkwL_law_62 : List UInt8 := [96, 46, 45, 184, 0, 193, 54, 5, 44, 42, 21, 4, 4, 96, 46, 42, 21, 4, 5, 96, 46, 182, 0, 195]
abbrev dktL_law_62 : List UInt8 := dkwL_law_62 ++ dktL_law_63
def dkwL_law_61 : List UInt8 := [47, 21, 6, 133, 148, 153, 0, 5, 3, 172, 167, 3, 224, 43, 42, 21, 4, 4, 96, 46, 42, 21, 4, 5]
abbrev dktL_law_61 : List UInt8 := dkwL_law_61 ++ dktL_law_62
def dkwL_law_60 : List UInt8 := [46, 182, 0, 192, 54, 6, 44, 182, 0, 129, 21, 5, 159, 0, 5, 3, 172, 21, 5, 154, 0, 15, 45, 3]
abbrev dktL_law_60 : List UInt8 := dkwL_law_60 ++ dktL_law_61
def dkwL_law_59 : List UInt8 := [159, 4, 26, 3, 172, 43, 42, 21, 4, 4, 96, 46, 45, 184, 0, 190, 54, 5, 44, 42, 21, 4, 4, 96]
abbrev dktL_law_59 : List UInt8 := dkwL_law_59 ++ dktL_law_60
def dkwL_law_58 : List UInt8 := [167, 4, 50, 43, 182, 0, 182, 44, 182, 0, 185, 159, 4, 39, 3, 172, 43, 182, 0, 186, 44, 182, 0, 189]
abbrev dktL_law_58 : List UInt8 := dkwL_law_58 ++ dktL_law_59
def dkwL_law_57 : List UInt8 := [159, 0, 5, 3, 172, 21, 5, 154, 0, 15, 45, 3, 47, 21, 6, 133, 148, 153, 0, 5, 3, 172]
abbrev dktL_law_57 : List UInt8 := dkwL_law_57 ++ dktL_law_58
def dkwL_law_56 : List UInt8 := [21, 4, 4, 96, 46, 42, 21, 4, 5, 96, 46, 182, 0, 181, 54, 6, 44, 182, 0, 129, 21, 5]
abbrev dktL_law_56 : List UInt8 := dkwL_law_56 ++ dktL_law_57
def dkwL_law_55 : List UInt8 := [167, 4, 118, 43, 42, 21, 4, 4, 96, 46, 42, 21, 4, 5, 96, 46, 45, 184, 0, 179, 54, 5, 44, 42]
abbrev dktL_law_55 : List UInt8 := dkwL_law_55 ++ dktL_law_56
def dkwL_law_54 : List UInt8 := [159, 0, 5, 3, 172, 21, 5, 154, 0, 15, 45, 3, 47, 21, 6, 133, 148, 153, 0, 5, 3, 172]
abbrev dktL_law_54 : List UInt8 := dkwL_law_54 ++ dktL_law_55
def dkwL_law_53 : List UInt8 := [42, 21, 4, 6, 96, 46, 42, 21, 4, 7, 96, 46, 182, 0, 178, 54, 6, 44, 182, 0, 129, 21, 5]
abbrev dktL_law_53 : List UInt8 := dkwL_law_53 ++ dktL_law_54
def dkwL_law_52 : List UInt8 := [21, 4, 7, 96, 46, 45, 184, 0, 176, 54, 5, 44, 42, 21, 4, 4, 96, 46, 42, 21, 4, 5, 96, 46]
abbrev dktL_law_52 : List UInt8 := dkwL_law_52 ++ dktL_law_53
def dkwL_law_51 : List UInt8 := [167, 4, 210, 43, 42, 21, 4, 4, 96, 46, 42, 21, 4, 5, 96, 46, 42, 21, 4, 6, 96, 46, 42]
abbrev dktL_law_51 : List UInt8 := dkwL_law_51 ++ dktL_law_52
def dkwL_law_50 : List UInt8 := [21, 5, 159, 0, 5, 3, 172, 21, 5, 154, 0, 15, 45, 3, 47, 21, 6, 133, 148, 153, 0, 5, 3, 172]
abbrev dktL_law_50 : List UInt8 := dkwL_law_50 ++ dktL_law_51
def dkwL_law_49 : List UInt8 := [96, 46, 42, 21, 4, 5, 96, 46, 42, 21, 4, 6, 96, 46, 182, 0, 175, 54, 6, 44, 182, 0, 129]
abbrev dktL_law_49 : List UInt8 := dkwL_law_49 ++ dktL_law_50
def dkwL_law_48 : List UInt8 := [46, 42, 21, 4, 5, 96, 46, 42, 21, 4, 6, 96, 46, 45, 184, 0, 173, 54, 5, 44, 42, 21, 4, 4]
abbrev dktL_law_48 : List UInt8 := dkwL_law_48 ++ dktL_law_49
def dkwL_law_47 : List UInt8 := [154, 0, 15, 45, 3, 47, 21, 6, 133, 148, 153, 0, 5, 3, 172, 167, 5, 34, 43, 42, 21, 4, 4, 96]
abbrev dktL_law_47 : List UInt8 := dkwL_law_47 ++ dktL_law_48
def dkwL_law_46 : List UInt8 := [21, 4, 6, 96, 46, 182, 0, 172, 54, 6, 44, 182, 0, 129, 21, 5, 159, 0, 5, 3, 172, 21, 5]
abbrev dktL_law_46 : List UInt8 := dkwL_law_46 ++ dktL_law_47
def dkwL_law_45 : List UInt8 := [6, 96, 46, 45, 184, 0, 170, 54, 5, 44, 42, 21, 4, 4, 96, 46, 42, 21, 4, 5, 96, 46, 42]
abbrev dktL_law_45 : List UInt8 := dkwL_law_45 ++ dktL_law_46
def dkwL_law_44 : List UInt8 := [153, 0, 5, 3, 172, 167, 5, 114, 43, 42, 21, 4, 4, 96, 46, 42, 21, 4, 5, 96, 46, 42, 21, 4]
abbrev dktL_law_44 : List UInt8 := dkwL_law_44 ++ dktL_law_45
def dkwL_law_43 : List UInt8 := [182, 0, 129, 21, 5, 159, 0, 5, 3, 172, 21, 5, 154, 0, 15, 45, 3, 47, 21, 6, 133, 148]
abbrev dktL_law_43 : List UInt8 := dkwL_law_43 ++ dktL_law_44
def dkwL_law_42 : List UInt8 := [184, 0, 167, 54, 5, 44, 42, 21, 4, 4, 96, 46, 42, 21, 4, 5, 96, 46, 182, 0, 169, 54, 6, 44]
abbrev dktL_law_42 : List UInt8 := dkwL_law_42 ++ dktL_law_43
def dkwL_law_41 : List UInt8 := [153, 0, 5, 3, 172, 167, 5, 182, 43, 42, 21, 4, 4, 96, 46, 42, 21, 4, 5, 96, 46, 45]
abbrev dktL_law_41 : List UInt8 := dkwL_law_41 ++ dktL_law_42
def dkwL_law_40 : List UInt8 := [182, 0, 129, 21, 5, 159, 0, 5, 3, 172, 21, 5, 154, 0, 15, 45, 3, 47, 21, 6, 133, 148]
abbrev dktL_law_40 : List UInt8 := dkwL_law_40 ++ dktL_law_41
def dkwL_law_39 : List UInt8 := [21, 4, 4, 96, 46, 42, 21, 4, 5, 96, 46, 42, 21, 4, 6, 96, 46, 182, 0, 166, 54, 6, 44]
abbrev dktL_law_39 : List UInt8 := dkwL_law_39 ++ dktL_law_40
def dkwL_law_38 : List UInt8 := [4, 96, 46, 42, 21, 4, 5, 96, 46, 42, 21, 4, 6, 96, 46, 45, 184, 0, 164, 54, 5, 44, 42]
abbrev dktL_law_38 : List UInt8 := dkwL_law_38 ++ dktL_law_39
def dkwL_law_37 : List UInt8 := [21, 5, 154, 0, 15, 45, 3, 47, 21, 6, 133, 148, 153, 0, 5, 3, 172, 167, 6, 6, 43, 42, 21, 4]
abbrev dktL_law_37 : List UInt8 := dkwL_law_37 ++ dktL_law_38
def dkwL_law_36 : List UInt8 := [96, 46, 42, 21, 4, 6, 96, 46, 182, 0, 163, 54, 6, 44, 182, 0, 129, 21, 5, 159, 0, 5, 3, 172]
abbrev dktL_law_36 : List UInt8 := dkwL_law_36 ++ dktL_law_37
def dkwL_law_35 : List UInt8 := [46, 42, 21, 4, 6, 96, 46, 45, 184, 0, 161, 54, 5, 44, 42, 21, 4, 4, 96, 46, 42, 21, 4, 5]
abbrev dktL_law_35 : List UInt8 := dkwL_law_35 ++ dktL_law_36
def dkwL_law_34 : List UInt8 := [21, 6, 133, 148, 153, 0, 5, 3, 172, 167, 6, 86, 43, 42, 21, 4, 4, 96, 46, 42, 21, 4, 5, 96]
abbrev dktL_law_34 : List UInt8 := dkwL_law_34 ++ dktL_law_35
def dkwL_law_33 : List UInt8 := [182, 0, 160, 54, 6, 44, 182, 0, 129, 21, 5, 159, 0, 5, 3, 172, 21, 5, 154, 0, 15, 45, 3, 47]
abbrev dktL_law_33 : List UInt8 := dkwL_law_33 ++ dktL_law_34
def dkwL_law_32 : List UInt8 := [184, 0, 158, 54, 5, 44, 42, 21, 4, 4, 96, 46, 42, 21, 4, 5, 96, 46, 42, 21, 4, 6, 96, 46]
abbrev dktL_law_32 : List UInt8 := dkwL_law_32 ++ dktL_law_33
def dkwL_law_31 : List UInt8 := [167, 6, 166, 43, 42, 21, 4, 4, 96, 46, 42, 21, 4, 5, 96, 46, 42, 21, 4, 6, 96, 46, 45]
abbrev dktL_law_31 : List UInt8 := dkwL_law_31 ++ dktL_law_32
def dkwL_law_30 : List UInt8 := [21, 5, 159, 0, 5, 3, 172, 21, 5, 154, 0, 15, 45, 3, 47, 21, 6, 133, 148, 153, 0, 5, 3, 172]
abbrev dktL_law_30 : List UInt8 := dkwL_law_30 ++ dktL_law_31
def dkwL_law_29 : List UInt8 := [96, 46, 42, 21, 4, 5, 96, 46, 42, 21, 4, 6, 96, 46, 182, 0, 157, 54, 6, 44, 182, 0, 129]
abbrev dktL_law_29 : List UInt8 := dkwL_law_29 ++ dktL_law_30
def dkwL_law_28 : List UInt8 := [46, 42, 21, 4, 5, 96, 46, 42, 21, 4, 6, 96, 46, 45, 184, 0, 155, 54, 5, 44, 42, 21, 4, 4]
abbrev dktL_law_28 : List UInt8 := dkwL_law_28 ++ dktL_law_29
def dkwL_law_27 : List UInt8 := [154, 0, 15, 45, 3, 47, 21, 6, 133, 148, 153, 0, 5, 3, 172, 167, 6, 246, 43, 42, 21, 4, 4, 96]
abbrev dktL_law_27 : List UInt8 := dkwL_law_27 ++ dktL_law_28
def dkwL_law_26 : List UInt8 := [167, 0, 4, 3, 182, 0, 154, 54, 6, 44, 182, 0, 129, 21, 5, 159, 0, 5, 3, 172, 21, 5]
abbrev dktL_law_26 : List UInt8 := dkwL_law_26 ++ dktL_law_27
def dkwL_law_25 : List UInt8 := [96, 46, 42, 21, 4, 5, 96, 46, 42, 21, 4, 6, 96, 46, 42, 21, 4, 7, 96, 46, 153, 0, 7, 4]
abbrev dktL_law_25 : List UInt8 := dkwL_law_25 ++ dktL_law_26
def dkwL_law_24 : List UInt8 := [21, 4, 7, 96, 46, 153, 0, 7, 4, 167, 0, 4, 3, 45, 184, 0, 151, 54, 5, 44, 42, 21, 4, 4]
abbrev dktL_law_24 : List UInt8 := dkwL_law_24 ++ dktL_law_25
def dkwL_law_23 : List UInt8 := [167, 7, 98, 43, 42, 21, 4, 4, 96, 46, 42, 21, 4, 5, 96, 46, 42, 21, 4, 6, 96, 46, 42]
abbrev dktL_law_23 : List UInt8 := dkwL_law_23 ++ dktL_law_24
def dkwL_law_22 : List UInt8 := [21, 5, 159, 0, 5, 3, 172, 21, 5, 154, 0, 15, 45, 3, 47, 21, 6, 133, 148, 153, 0, 5, 3, 172]
abbrev dktL_law_22 : List UInt8 := dkwL_law_22 ++ dktL_law_23
def dkwL_law_21 : List UInt8 := [96, 46, 42, 21, 4, 7, 96, 46, 42, 21, 4, 8, 96, 46, 182, 0, 150, 54, 6, 44, 182, 0, 129]
abbrev dktL_law_21 : List UInt8 := dkwL_law_21 ++ dktL_law_22
def dkwL_law_20 : List UInt8 := [46, 45, 184, 0, 147, 54, 5, 44, 42, 21, 4, 4, 96, 46, 42, 21, 4, 5, 96, 46, 42, 21, 4, 6]
abbrev dktL_law_20 : List UInt8 := dkwL_law_20 ++ dktL_law_21
def dkwL_law_19 : List UInt8 := [46, 42, 21, 4, 5, 96, 46, 42, 21, 4, 6, 96, 46, 42, 21, 4, 7, 96, 46, 42, 21, 4, 8, 96]
abbrev dktL_law_19 : List UInt8 := dkwL_law_19 ++ dktL_law_20
def dkwL_law_18 : List UInt8 := [154, 0, 15, 45, 3, 47, 21, 6, 133, 148, 153, 0, 5, 3, 172, 167, 7, 202, 43, 42, 21, 4, 4, 96]
abbrev dktL_law_18 : List UInt8 := dkwL_law_18 ++ dktL_law_19
def dkwL_law_17 : List UInt8 := [21, 4, 6, 96, 46, 182, 0, 146, 54, 6, 44, 182, 0, 129, 21, 5, 159, 0, 5, 3, 172, 21, 5]
abbrev dktL_law_17 : List UInt8 := dkwL_law_17 ++ dktL_law_18
def dkwL_law_16 : List UInt8 := [6, 96, 46, 45, 184, 0, 143, 54, 5, 44, 42, 21, 4, 4, 96, 46, 42, 21, 4, 5, 96, 46, 42]
abbrev dktL_law_16 : List UInt8 := dkwL_law_16 ++ dktL_law_17
def dkwL_law_15 : List UInt8 := [153, 0, 5, 3, 172, 167, 8, 26, 43, 42, 21, 4, 4, 96, 46, 42, 21, 4, 5, 96, 46, 42, 21, 4]
abbrev dktL_law_15 : List UInt8 := dkwL_law_15 ++ dktL_law_16
def dkwL_law_14 : List UInt8 := [182, 0, 129, 21, 5, 159, 0, 5, 3, 172, 21, 5, 154, 0, 15, 45, 3, 47, 21, 6, 133, 148]
abbrev dktL_law_14 : List UInt8 := dkwL_law_14 ++ dktL_law_15
def dkwL_law_13 : List UInt8 := [21, 4, 5, 96, 46, 42, 21, 4, 6, 96, 46, 42, 21, 4, 7, 96, 46, 182, 0, 142, 54, 6, 44]
abbrev dktL_law_13 : List UInt8 := dkwL_law_13 ++ dktL_law_14
def dkwL_law_12 : List UInt8 := [6, 96, 46, 42, 21, 4, 7, 96, 46, 45, 184, 0, 139, 54, 5, 44, 42, 21, 4, 4, 96, 46, 42]
abbrev dktL_law_12 : List UInt8 := dkwL_law_12 ++ dktL_law_13
def dkwL_law_11 : List UInt8 := [153, 0, 5, 3, 172, 167, 8, 118, 43, 42, 21, 4, 4, 96, 46, 42, 21, 4, 5, 96, 46, 42, 21, 4]
abbrev dktL_law_11 : List UInt8 := dkwL_law_11 ++ dktL_law_12
def dkwL_law_10 : List UInt8 := [182, 0, 129, 21, 5, 159, 0, 5, 3, 172, 21, 5, 154, 0, 15, 45, 3, 47, 21, 6, 133, 148]
abbrev dktL_law_10 : List UInt8 := dkwL_law_10 ++ dktL_law_11
def dkwL_law_9 : List UInt8 := [184, 0, 135, 54, 5, 44, 42, 21, 4, 4, 96, 46, 42, 21, 4, 5, 96, 46, 182, 0, 138, 54, 6, 44]
abbrev dktL_law_9 : List UInt8 := dkwL_law_9 ++ dktL_law_10
def dkwL_law_8 : List UInt8 := [153, 0, 5, 3, 172, 167, 8, 186, 43, 42, 21, 4, 4, 96, 46, 42, 21, 4, 5, 96, 46, 45]
abbrev dktL_law_8 : List UInt8 := dkwL_law_8 ++ dktL_law_9
def dkwL_law_7 : List UInt8 := [182, 0, 129, 21, 5, 159, 0, 5, 3, 172, 21, 5, 154, 0, 15, 45, 3, 47, 21, 6, 133, 148]
abbrev dktL_law_7 : List UInt8 := dkwL_law_7 ++ dktL_law_8
def dkwL_law_6 : List UInt8 := [21, 4, 4, 96, 46, 45, 184, 0, 132, 54, 5, 44, 42, 21, 4, 4, 96, 46, 182, 0, 134, 54, 6, 44]
abbrev dktL_law_6 : List UInt8 := dkwL_law_6 ++ dktL_law_7
def dkwL_law_5 : List UInt8 := [172, 21, 5, 154, 0, 15, 45, 3, 47, 21, 6, 133, 148, 153, 0, 5, 3, 172, 167, 8, 242, 43, 42]
abbrev dktL_law_5 : List UInt8 := dkwL_law_5 ++ dktL_law_6
def dkwL_law_4 : List UInt8 := [54, 5, 44, 42, 21, 4, 4, 96, 46, 182, 0, 128, 54, 6, 44, 182, 0, 129, 21, 5, 159, 0, 5, 3]
abbrev dktL_law_4 : List UInt8 := dkwL_law_4 ++ dktL_law_5
def dkwL_law_3 : List UInt8 := [43, 182, 0, 118, 44, 182, 0, 122, 159, 9, 44, 3, 172, 43, 42, 21, 4, 4, 96, 46, 45, 184, 0, 123]
abbrev dktL_law_3 : List UInt8 := dkwL_law_3 ++ dktL_law_4
def dkwL_law_2 : List UInt8 := [170, 0, 0, 0, 0, 0, 9, 216, 0, 0, 0, 0, 0, 0, 0, 36, 0, 0, 0, 164, 0, 0, 0, 177, 0, 0, 0, 233, 0, 0, 1, 33, 0, 0, 1, 101, 0, 0, 1, 193, 0, 0, 2, 17, 0, 0, 2, 121, 0, 0, 2, 229, 0, 0, 3, 53, 0, 0, 3, 133, 0, 0, 3, 213, 0, 0, 4, 37, 0, 0, 4, 105, 0, 0, 4, 185, 0, 0, 5, 9, 0, 0, 5, 101, 0, 0, 5, 169, 0, 0, 5, 182, 0, 0, 5, 195, 0, 0, 5, 251, 0, 0, 6, 63, 0, 0, 6, 119, 0, 0, 6, 187, 0, 0, 6, 255, 0, 0, 7, 67, 0, 0, 7, 135, 0, 0, 7, 203, 0, 0, 8, 22, 0, 0, 8, 90, 0, 0, 8, 146, 0, 0, 8, 189, 0, 0, 8, 230, 0, 0, 8, 243, 0, 0, 9, 43, 0, 0, 9, 123, 0, 0, 9, 203]
abbrev dktL_law_2 : List UInt8 := dkwL_law_2 ++ dktL_law_3
def dkwL_law_1 : List UInt8 := [21, 4, 42, 190, 16, 6, 100, 163, 9, 232, 42, 21, 4, 46, 16, 63, 126]
abbrev dktL_law_1 : List UInt8 := dkwL_law_1 ++ dktL_law_2
def dkwL_law_0 : List UInt8 := [187, 0, 8, 89, 183, 0, 114, 76, 187, 0, 115, 89, 183, 0, 117, 77, 4, 188, 11, 78, 3, 54, 4]
abbrev dktL_law_0 : List UInt8 := dkwL_law_0 ++ dktL_law_1
theorem dksL_law_0 : cL_law.data.toList.drop 0 = dktL_law_0 := by decide +kernel
theorem dksL_law_1 : cL_law.data.toList.drop 23 = dktL_law_1 := dk_seg dksL_law_0 23 rfl rfl
theorem dksL_law_2 : cL_law.data.toList.drop 40 = dktL_law_2 := dk_seg dksL_law_1 17 rfl rfl
theorem dksL_law_3 : cL_law.data.toList.drop 204 = dktL_law_3 := dk_seg dksL_law_2 164 rfl rfl
theorem dksL_law_4 : cL_law.data.toList.drop 228 = dktL_law_4 := dk_seg dksL_law_3 24 rfl rfl
theorem dksL_law_5 : cL_law.data.toList.drop 252 = dktL_law_5 := dk_seg dksL_law_4 24 rfl rfl
theorem dksL_law_6 : cL_law.data.toList.drop 275 = dktL_law_6 := dk_seg dksL_law_5 23 rfl rfl
theorem dksL_law_7 : cL_law.data.toList.drop 299 = dktL_law_7 := dk_seg dksL_law_6 24 rfl rfl
theorem dksL_law_8 : cL_law.data.toList.drop 321 = dktL_law_8 := dk_seg dksL_law_7 22 rfl rfl
theorem dksL_law_9 : cL_law.data.toList.drop 343 = dktL_law_9 := dk_seg dksL_law_8 22 rfl rfl
theorem dksL_law_10 : cL_law.data.toList.drop 367 = dktL_law_10 := dk_seg dksL_law_9 24 rfl rfl
theorem dksL_law_11 : cL_law.data.toList.drop 389 = dktL_law_11 := dk_seg dksL_law_10 22 rfl rfl
theorem dksL_law_12 : cL_law.data.toList.drop 413 = dktL_law_12 := dk_seg dksL_law_11 24 rfl rfl
theorem dksL_law_13 : cL_law.data.toList.drop 436 = dktL_law_13 := dk_seg dksL_law_12 23 rfl rfl
theorem dksL_law_14 : cL_law.data.toList.drop 459 = dktL_law_14 := dk_seg dksL_law_13 23 rfl rfl
theorem dksL_law_15 : cL_law.data.toList.drop 481 = dktL_law_15 := dk_seg dksL_law_14 22 rfl rfl
theorem dksL_law_16 : cL_law.data.toList.drop 505 = dktL_law_16 := dk_seg dksL_law_15 24 rfl rfl
theorem dksL_law_17 : cL_law.data.toList.drop 528 = dktL_law_17 := dk_seg dksL_law_16 23 rfl rfl
theorem dksL_law_18 : cL_law.data.toList.drop 551 = dktL_law_18 := dk_seg dksL_law_17 23 rfl rfl
theorem dksL_law_19 : cL_law.data.toList.drop 575 = dktL_law_19 := dk_seg dksL_law_18 24 rfl rfl
theorem dksL_law_20 : cL_law.data.toList.drop 599 = dktL_law_20 := dk_seg dksL_law_19 24 rfl rfl
theorem dksL_law_21 : cL_law.data.toList.drop 623 = dktL_law_21 := dk_seg dksL_law_20 24 rfl rfl
theorem dksL_law_22 : cL_law.data.toList.drop 646 = dktL_law_22 := dk_seg dksL_law_21 23 rfl rfl
theorem dksL_law_23 : cL_law.data.toList.drop 670 = dktL_law_23 := dk_seg dksL_law_22 24 rfl rfl
theorem dksL_law_24 : cL_law.data.toList.drop 693 = dktL_law_24 := dk_seg dksL_law_23 23 rfl rfl
theorem dksL_law_25 : cL_law.data.toList.drop 717 = dktL_law_25 := dk_seg dksL_law_24 24 rfl rfl
theorem dksL_law_26 : cL_law.data.toList.drop 741 = dktL_law_26 := dk_seg dksL_law_25 24 rfl rfl
theorem dksL_law_27 : cL_law.data.toList.drop 763 = dktL_law_27 := dk_seg dksL_law_26 22 rfl rfl
theorem dksL_law_28 : cL_law.data.toList.drop 787 = dktL_law_28 := dk_seg dksL_law_27 24 rfl rfl
theorem dksL_law_29 : cL_law.data.toList.drop 811 = dktL_law_29 := dk_seg dksL_law_28 24 rfl rfl
theorem dksL_law_30 : cL_law.data.toList.drop 834 = dktL_law_30 := dk_seg dksL_law_29 23 rfl rfl
theorem dksL_law_31 : cL_law.data.toList.drop 858 = dktL_law_31 := dk_seg dksL_law_30 24 rfl rfl
theorem dksL_law_32 : cL_law.data.toList.drop 881 = dktL_law_32 := dk_seg dksL_law_31 23 rfl rfl
theorem dksL_law_33 : cL_law.data.toList.drop 905 = dktL_law_33 := dk_seg dksL_law_32 24 rfl rfl
theorem dksL_law_34 : cL_law.data.toList.drop 929 = dktL_law_34 := dk_seg dksL_law_33 24 rfl rfl
theorem dksL_law_35 : cL_law.data.toList.drop 953 = dktL_law_35 := dk_seg dksL_law_34 24 rfl rfl
theorem dksL_law_36 : cL_law.data.toList.drop 977 = dktL_law_36 := dk_seg dksL_law_35 24 rfl rfl
theorem dksL_law_37 : cL_law.data.toList.drop 1001 = dktL_law_37 := dk_seg dksL_law_36 24 rfl rfl
theorem dksL_law_38 : cL_law.data.toList.drop 1025 = dktL_law_38 := dk_seg dksL_law_37 24 rfl rfl
theorem dksL_law_39 : cL_law.data.toList.drop 1048 = dktL_law_39 := dk_seg dksL_law_38 23 rfl rfl
theorem dksL_law_40 : cL_law.data.toList.drop 1071 = dktL_law_40 := dk_seg dksL_law_39 23 rfl rfl
theorem dksL_law_41 : cL_law.data.toList.drop 1093 = dktL_law_41 := dk_seg dksL_law_40 22 rfl rfl
theorem dksL_law_42 : cL_law.data.toList.drop 1115 = dktL_law_42 := dk_seg dksL_law_41 22 rfl rfl
theorem dksL_law_43 : cL_law.data.toList.drop 1139 = dktL_law_43 := dk_seg dksL_law_42 24 rfl rfl
theorem dksL_law_44 : cL_law.data.toList.drop 1161 = dktL_law_44 := dk_seg dksL_law_43 22 rfl rfl
theorem dksL_law_45 : cL_law.data.toList.drop 1185 = dktL_law_45 := dk_seg dksL_law_44 24 rfl rfl
theorem dksL_law_46 : cL_law.data.toList.drop 1208 = dktL_law_46 := dk_seg dksL_law_45 23 rfl rfl
theorem dksL_law_47 : cL_law.data.toList.drop 1231 = dktL_law_47 := dk_seg dksL_law_46 23 rfl rfl
theorem dksL_law_48 : cL_law.data.toList.drop 1255 = dktL_law_48 := dk_seg dksL_law_47 24 rfl rfl
theorem dksL_law_49 : cL_law.data.toList.drop 1279 = dktL_law_49 := dk_seg dksL_law_48 24 rfl rfl
theorem dksL_law_50 : cL_law.data.toList.drop 1302 = dktL_law_50 := dk_seg dksL_law_49 23 rfl rfl
theorem dksL_law_51 : cL_law.data.toList.drop 1326 = dktL_law_51 := dk_seg dksL_law_50 24 rfl rfl
theorem dksL_law_52 : cL_law.data.toList.drop 1349 = dktL_law_52 := dk_seg dksL_law_51 23 rfl rfl
theorem dksL_law_53 : cL_law.data.toList.drop 1373 = dktL_law_53 := dk_seg dksL_law_52 24 rfl rfl
theorem dksL_law_54 : cL_law.data.toList.drop 1396 = dktL_law_54 := dk_seg dksL_law_53 23 rfl rfl
theorem dksL_law_55 : cL_law.data.toList.drop 1418 = dktL_law_55 := dk_seg dksL_law_54 22 rfl rfl
theorem dksL_law_56 : cL_law.data.toList.drop 1442 = dktL_law_56 := dk_seg dksL_law_55 24 rfl rfl
theorem dksL_law_57 : cL_law.data.toList.drop 1464 = dktL_law_57 := dk_seg dksL_law_56 22 rfl rfl
theorem dksL_law_58 : cL_law.data.toList.drop 1486 = dktL_law_58 := dk_seg dksL_law_57 22 rfl rfl
theorem dksL_law_59 : cL_law.data.toList.drop 1510 = dktL_law_59 := dk_seg dksL_law_58 24 rfl rfl
theorem dksL_law_60 : cL_law.data.toList.drop 1534 = dktL_law_60 := dk_seg dksL_law_59 24 rfl rfl
theorem dksL_law_61 : cL_law.data.toList.drop 1558 = dktL_law_61 := dk_seg dksL_law_60 24 rfl rfl
theorem dksL_law_62 : cL_law.data.toList.drop 1582 = dktL_law_62 := dk_seg dksL_law_61 24 rfl rfl
theorem dksL_law_63 : cL_law.data.toList.drop 1606 = dktL_law_63 := dk_seg dksL_law_62 24 rfl rfl
theorem dksL_law_64 : cL_law.data.toList.drop 1630 = dktL_law_64 := dk_seg dksL_law_63 24 rfl rfl
theorem dksL_law_65 : cL_law.data.toList.drop 1654 = dktL_law_65 := dk_seg dksL_law_64 24 rfl rfl
theorem dksL_law_66 : cL_law.data.toList.drop 1677 = dktL_law_66 := dk_seg dksL_law_65 23 rfl rfl
theorem dksL_law_67 : cL_law.data.toList.drop 1701 = dktL_law_67 := dk_seg dksL_law_66 24 rfl rfl
theorem dksL_law_68 : cL_law.data.toList.drop 1725 = dktL_law_68 := dk_seg dksL_law_67 24 rfl rfl
theorem dksL_law_69 : cL_law.data.toList.drop 1749 = dktL_law_69 := dk_seg dksL_law_68 24 rfl rfl
theorem dksL_law_70 : cL_law.data.toList.drop 1773 = dktL_law_70 := dk_seg dksL_law_69 24 rfl rfl
theorem dksL_law_71 : cL_law.data.toList.drop 1795 = dktL_law_71 := dk_seg dksL_law_70 22 rfl rfl
theorem dksL_law_72 : cL_law.data.toList.drop 1819 = dktL_law_72 := dk_seg dksL_law_71 24 rfl rfl
theorem dksL_law_73 : cL_law.data.toList.drop 1843 = dktL_law_73 := dk_seg dksL_law_72 24 rfl rfl
theorem dksL_law_74 : cL_law.data.toList.drop 1866 = dktL_law_74 := dk_seg dksL_law_73 23 rfl rfl
theorem dksL_law_75 : cL_law.data.toList.drop 1890 = dktL_law_75 := dk_seg dksL_law_74 24 rfl rfl
theorem dksL_law_76 : cL_law.data.toList.drop 1913 = dktL_law_76 := dk_seg dksL_law_75 23 rfl rfl
theorem dksL_law_77 : cL_law.data.toList.drop 1937 = dktL_law_77 := dk_seg dksL_law_76 24 rfl rfl
theorem dksL_law_78 : cL_law.data.toList.drop 1959 = dktL_law_78 := dk_seg dksL_law_77 22 rfl rfl
theorem dksL_law_79 : cL_law.data.toList.drop 1981 = dktL_law_79 := dk_seg dksL_law_78 22 rfl rfl
theorem dksL_law_80 : cL_law.data.toList.drop 2005 = dktL_law_80 := dk_seg dksL_law_79 24 rfl rfl
theorem dksL_law_81 : cL_law.data.toList.drop 2027 = dktL_law_81 := dk_seg dksL_law_80 22 rfl rfl
theorem dksL_law_82 : cL_law.data.toList.drop 2049 = dktL_law_82 := dk_seg dksL_law_81 22 rfl rfl
theorem dksL_law_83 : cL_law.data.toList.drop 2073 = dktL_law_83 := dk_seg dksL_law_82 24 rfl rfl
theorem dksL_law_84 : cL_law.data.toList.drop 2097 = dktL_law_84 := dk_seg dksL_law_83 24 rfl rfl
theorem dksL_law_85 : cL_law.data.toList.drop 2121 = dktL_law_85 := dk_seg dksL_law_84 24 rfl rfl
theorem dksL_law_86 : cL_law.data.toList.drop 2145 = dktL_law_86 := dk_seg dksL_law_85 24 rfl rfl
theorem dksL_law_87 : cL_law.data.toList.drop 2169 = dktL_law_87 := dk_seg dksL_law_86 24 rfl rfl
theorem dksL_law_88 : cL_law.data.toList.drop 2193 = dktL_law_88 := dk_seg dksL_law_87 24 rfl rfl
theorem dksL_law_89 : cL_law.data.toList.drop 2216 = dktL_law_89 := dk_seg dksL_law_88 23 rfl rfl
theorem dksL_law_90 : cL_law.data.toList.drop 2239 = dktL_law_90 := dk_seg dksL_law_89 23 rfl rfl
theorem dksL_law_91 : cL_law.data.toList.drop 2261 = dktL_law_91 := dk_seg dksL_law_90 22 rfl rfl
theorem dksL_law_92 : cL_law.data.toList.drop 2284 = dktL_law_92 := dk_seg dksL_law_91 23 rfl rfl
theorem dksL_law_93 : cL_law.data.toList.drop 2307 = dktL_law_93 := dk_seg dksL_law_92 23 rfl rfl
theorem dksL_law_94 : cL_law.data.toList.drop 2331 = dktL_law_94 := dk_seg dksL_law_93 24 rfl rfl
theorem dksL_law_95 : cL_law.data.toList.drop 2354 = dktL_law_95 := dk_seg dksL_law_94 23 rfl rfl
theorem dksL_law_96 : cL_law.data.toList.drop 2378 = dktL_law_96 := dk_seg dksL_law_95 24 rfl rfl
theorem dksL_law_97 : cL_law.data.toList.drop 2401 = dktL_law_97 := dk_seg dksL_law_96 23 rfl rfl
theorem dksL_law_98 : cL_law.data.toList.drop 2425 = dktL_law_98 := dk_seg dksL_law_97 24 rfl rfl
theorem dksL_law_99 : cL_law.data.toList.drop 2449 = dktL_law_99 := dk_seg dksL_law_98 24 rfl rfl
theorem dksL_law_100 : cL_law.data.toList.drop 2473 = dktL_law_100 := dk_seg dksL_law_99 24 rfl rfl
theorem dksL_law_101 : cL_law.data.toList.drop 2497 = dktL_law_101 := dk_seg dksL_law_100 24 rfl rfl
theorem dksL_law_102 : cL_law.data.toList.drop 2520 = dktL_law_102 := dk_seg dksL_law_101 23 rfl rfl
theorem dksL_law_103 : cL_law.data.toList.drop 2544 = dktL_law_103 := dk_seg dksL_law_102 24 rfl rfl
theorem dL_law_0 : decode cL_law 0 = .ok (.new 8, 3) := dk_187 0 8 (dk_at dksL_law_0 0 rfl rfl)
theorem dL_law_3 : decode cL_law 3 = .ok (.dup, 1) := dk_89 (dk_at dksL_law_0 3 rfl rfl)
theorem dL_law_4 : decode cL_law 4 = .ok (.invokespecial 114, 3) := dk_183 0 114 (dk_at dksL_law_0 4 rfl rfl)
theorem dL_law_7 : decode cL_law 7 = .ok (.astore_n 1, 1) := dk_76 (dk_at dksL_law_0 7 rfl rfl)
theorem dL_law_8 : decode cL_law 8 = .ok (.new 115, 3) := dk_187 0 115 (dk_at dksL_law_0 8 rfl rfl)
theorem dL_law_11 : decode cL_law 11 = .ok (.dup, 1) := dk_89 (dk_at dksL_law_0 11 rfl rfl)
theorem dL_law_12 : decode cL_law 12 = .ok (.invokespecial 117, 3) := dk_183 0 117 (dk_at dksL_law_0 12 rfl rfl)
theorem dL_law_15 : decode cL_law 15 = .ok (.astore_n 2, 1) := dk_77 (dk_at dksL_law_0 15 rfl rfl)
theorem dL_law_16 : decode cL_law 16 = .ok (.iconst 1, 1) := dk_4 (dk_at dksL_law_0 16 rfl rfl)
theorem dL_law_17 : decode cL_law 17 = .ok (.newarray .long, 2) := dk_188_11 (dk_at dksL_law_0 17 rfl rfl)
theorem dL_law_19 : decode cL_law 19 = .ok (.astore_n 3, 1) := dk_78 (dk_at dksL_law_0 19 rfl rfl)
theorem dL_law_20 : decode cL_law 20 = .ok (.iconst 0, 1) := dk_3 (dk_at dksL_law_0 20 rfl rfl)
theorem dL_law_21 : decode cL_law 21 = .ok (.istore 4, 2) := dk_54 4 (dk_at dksL_law_0 21 rfl rfl)
theorem dL_law_23 : decode cL_law 23 = .ok (.iload 4, 2) := dk_21 4 (dk_at dksL_law_1 0 rfl rfl)
theorem dL_law_25 : decode cL_law 25 = .ok (.aload_n 0, 1) := dk_42 (dk_at dksL_law_1 2 rfl rfl)
theorem dL_law_26 : decode cL_law 26 = .ok (.arraylength, 1) := dk_190 (dk_at dksL_law_1 3 rfl rfl)
theorem dL_law_27 : decode cL_law 27 = .ok (.bipush 6, 2) := dk_16 6 (dk_at dksL_law_1 4 rfl rfl)
theorem dL_law_29 : decode cL_law 29 = .ok (.isub, 1) := dk_100 (dk_at dksL_law_1 6 rfl rfl)
theorem dL_law_30 : decode cL_law 30 = .ok (.if_icmp .gt 2536, 3) := dk_163 9 232 (dk_at dksL_law_1 7 rfl rfl)
theorem dL_law_33 : decode cL_law 33 = .ok (.aload_n 0, 1) := dk_42 (dk_at dksL_law_1 10 rfl rfl)
theorem dL_law_34 : decode cL_law 34 = .ok (.iload 4, 2) := dk_21 4 (dk_at dksL_law_1 11 rfl rfl)
theorem dL_law_36 : decode cL_law 36 = .ok (.iaload, 1) := dk_46 (dk_at dksL_law_1 13 rfl rfl)
theorem dL_law_37 : decode cL_law 37 = .ok (.bipush 63, 2) := dk_16 63 (dk_at dksL_law_1 14 rfl rfl)
theorem dL_law_39 : decode cL_law 39 = .ok (.iand, 1) := dk_126 (dk_at dksL_law_1 16 rfl rfl)
theorem dL_law_40 : decode cL_law 40 = .ok (.tableswitch 2520 0 36 #[164, 177, 233, 289, 357, 449, 529, 633, 741, 821, 901, 981, 1061, 1129, 1209, 1289, 1381, 1449, 1462, 1475, 1531, 1599, 1655, 1723, 1791, 1859, 1927, 1995, 2070, 2138, 2194, 2237, 2278, 2291, 2347, 2427, 2507], 164) := by decide +kernel
theorem dL_law_204 : decode cL_law 204 = .ok (.aload_n 1, 1) := dk_43 (dk_at dksL_law_3 0 rfl rfl)
theorem dL_law_205 : decode cL_law 205 = .ok (.invokevirtual 118, 3) := dk_182 0 118 (dk_at dksL_law_3 1 rfl rfl)
theorem dL_law_208 : decode cL_law 208 = .ok (.aload_n 2, 1) := dk_44 (dk_at dksL_law_3 4 rfl rfl)
theorem dL_law_209 : decode cL_law 209 = .ok (.invokevirtual 122, 3) := dk_182 0 122 (dk_at dksL_law_3 5 rfl rfl)
theorem dL_law_212 : decode cL_law 212 = .ok (.if_icmp .eq 2348, 3) := dk_159 9 44 (dk_at dksL_law_3 8 rfl rfl)
theorem dL_law_215 : decode cL_law 215 = .ok (.iconst 0, 1) := dk_3 (dk_at dksL_law_3 11 rfl rfl)
theorem dL_law_216 : decode cL_law 216 = .ok (.ireturn, 1) := dk_172 (dk_at dksL_law_3 12 rfl rfl)
theorem dL_law_217 : decode cL_law 217 = .ok (.aload_n 1, 1) := dk_43 (dk_at dksL_law_3 13 rfl rfl)
theorem dL_law_218 : decode cL_law 218 = .ok (.aload_n 0, 1) := dk_42 (dk_at dksL_law_3 14 rfl rfl)
theorem dL_law_219 : decode cL_law 219 = .ok (.iload 4, 2) := dk_21 4 (dk_at dksL_law_3 15 rfl rfl)
theorem dL_law_221 : decode cL_law 221 = .ok (.iconst 1, 1) := dk_4 (dk_at dksL_law_3 17 rfl rfl)
theorem dL_law_222 : decode cL_law 222 = .ok (.iadd, 1) := dk_96 (dk_at dksL_law_3 18 rfl rfl)
theorem dL_law_223 : decode cL_law 223 = .ok (.iaload, 1) := dk_46 (dk_at dksL_law_3 19 rfl rfl)
theorem dL_law_224 : decode cL_law 224 = .ok (.aload_n 3, 1) := dk_45 (dk_at dksL_law_3 20 rfl rfl)
theorem dL_law_225 : decode cL_law 225 = .ok (.invokestatic 123, 3) := dk_184 0 123 (dk_at dksL_law_3 21 rfl rfl)
theorem dL_law_228 : decode cL_law 228 = .ok (.istore 5, 2) := dk_54 5 (dk_at dksL_law_4 0 rfl rfl)
theorem dL_law_230 : decode cL_law 230 = .ok (.aload_n 2, 1) := dk_44 (dk_at dksL_law_4 2 rfl rfl)
theorem dL_law_231 : decode cL_law 231 = .ok (.aload_n 0, 1) := dk_42 (dk_at dksL_law_4 3 rfl rfl)
theorem dL_law_232 : decode cL_law 232 = .ok (.iload 4, 2) := dk_21 4 (dk_at dksL_law_4 4 rfl rfl)
theorem dL_law_234 : decode cL_law 234 = .ok (.iconst 1, 1) := dk_4 (dk_at dksL_law_4 6 rfl rfl)
theorem dL_law_235 : decode cL_law 235 = .ok (.iadd, 1) := dk_96 (dk_at dksL_law_4 7 rfl rfl)
theorem dL_law_236 : decode cL_law 236 = .ok (.iaload, 1) := dk_46 (dk_at dksL_law_4 8 rfl rfl)
theorem dL_law_237 : decode cL_law 237 = .ok (.invokevirtual 128, 3) := dk_182 0 128 (dk_at dksL_law_4 9 rfl rfl)
theorem dL_law_240 : decode cL_law 240 = .ok (.istore 6, 2) := dk_54 6 (dk_at dksL_law_4 12 rfl rfl)
theorem dL_law_242 : decode cL_law 242 = .ok (.aload_n 2, 1) := dk_44 (dk_at dksL_law_4 14 rfl rfl)
theorem dL_law_243 : decode cL_law 243 = .ok (.invokevirtual 129, 3) := dk_182 0 129 (dk_at dksL_law_4 15 rfl rfl)
theorem dL_law_246 : decode cL_law 246 = .ok (.iload 5, 2) := dk_21 5 (dk_at dksL_law_4 18 rfl rfl)
theorem dL_law_248 : decode cL_law 248 = .ok (.if_icmp .eq 5, 3) := dk_159 0 5 (dk_at dksL_law_4 20 rfl rfl)
theorem dL_law_251 : decode cL_law 251 = .ok (.iconst 0, 1) := dk_3 (dk_at dksL_law_4 23 rfl rfl)
theorem dL_law_252 : decode cL_law 252 = .ok (.ireturn, 1) := dk_172 (dk_at dksL_law_5 0 rfl rfl)
theorem dL_law_253 : decode cL_law 253 = .ok (.iload 5, 2) := dk_21 5 (dk_at dksL_law_5 1 rfl rfl)
theorem dL_law_255 : decode cL_law 255 = .ok (.ifCond .ne 15, 3) := dk_154 0 15 (dk_at dksL_law_5 3 rfl rfl)
theorem dL_law_258 : decode cL_law 258 = .ok (.aload_n 3, 1) := dk_45 (dk_at dksL_law_5 6 rfl rfl)
theorem dL_law_259 : decode cL_law 259 = .ok (.iconst 0, 1) := dk_3 (dk_at dksL_law_5 7 rfl rfl)
theorem dL_law_260 : decode cL_law 260 = .ok (.laload, 1) := dk_47 (dk_at dksL_law_5 8 rfl rfl)
theorem dL_law_261 : decode cL_law 261 = .ok (.iload 6, 2) := dk_21 6 (dk_at dksL_law_5 9 rfl rfl)
theorem dL_law_263 : decode cL_law 263 = .ok (.i2l, 1) := dk_133 (dk_at dksL_law_5 11 rfl rfl)
theorem dL_law_264 : decode cL_law 264 = .ok (.lcmp, 1) := dk_148 (dk_at dksL_law_5 12 rfl rfl)
theorem dL_law_265 : decode cL_law 265 = .ok (.ifCond .eq 5, 3) := dk_153 0 5 (dk_at dksL_law_5 13 rfl rfl)
theorem dL_law_268 : decode cL_law 268 = .ok (.iconst 0, 1) := dk_3 (dk_at dksL_law_5 16 rfl rfl)
theorem dL_law_269 : decode cL_law 269 = .ok (.ireturn, 1) := dk_172 (dk_at dksL_law_5 17 rfl rfl)
theorem dL_law_270 : decode cL_law 270 = .ok (.goto 2290, 3) := dk_167 8 242 (dk_at dksL_law_5 18 rfl rfl)
theorem dL_law_273 : decode cL_law 273 = .ok (.aload_n 1, 1) := dk_43 (dk_at dksL_law_5 21 rfl rfl)
theorem dL_law_274 : decode cL_law 274 = .ok (.aload_n 0, 1) := dk_42 (dk_at dksL_law_5 22 rfl rfl)
theorem dL_law_275 : decode cL_law 275 = .ok (.iload 4, 2) := dk_21 4 (dk_at dksL_law_6 0 rfl rfl)
theorem dL_law_277 : decode cL_law 277 = .ok (.iconst 1, 1) := dk_4 (dk_at dksL_law_6 2 rfl rfl)
theorem dL_law_278 : decode cL_law 278 = .ok (.iadd, 1) := dk_96 (dk_at dksL_law_6 3 rfl rfl)
theorem dL_law_279 : decode cL_law 279 = .ok (.iaload, 1) := dk_46 (dk_at dksL_law_6 4 rfl rfl)
theorem dL_law_280 : decode cL_law 280 = .ok (.aload_n 3, 1) := dk_45 (dk_at dksL_law_6 5 rfl rfl)
theorem dL_law_281 : decode cL_law 281 = .ok (.invokestatic 132, 3) := dk_184 0 132 (dk_at dksL_law_6 6 rfl rfl)
theorem dL_law_284 : decode cL_law 284 = .ok (.istore 5, 2) := dk_54 5 (dk_at dksL_law_6 9 rfl rfl)
theorem dL_law_286 : decode cL_law 286 = .ok (.aload_n 2, 1) := dk_44 (dk_at dksL_law_6 11 rfl rfl)
theorem dL_law_287 : decode cL_law 287 = .ok (.aload_n 0, 1) := dk_42 (dk_at dksL_law_6 12 rfl rfl)
theorem dL_law_288 : decode cL_law 288 = .ok (.iload 4, 2) := dk_21 4 (dk_at dksL_law_6 13 rfl rfl)
theorem dL_law_290 : decode cL_law 290 = .ok (.iconst 1, 1) := dk_4 (dk_at dksL_law_6 15 rfl rfl)
theorem dL_law_291 : decode cL_law 291 = .ok (.iadd, 1) := dk_96 (dk_at dksL_law_6 16 rfl rfl)
theorem dL_law_292 : decode cL_law 292 = .ok (.iaload, 1) := dk_46 (dk_at dksL_law_6 17 rfl rfl)
theorem dL_law_293 : decode cL_law 293 = .ok (.invokevirtual 134, 3) := dk_182 0 134 (dk_at dksL_law_6 18 rfl rfl)
theorem dL_law_296 : decode cL_law 296 = .ok (.istore 6, 2) := dk_54 6 (dk_at dksL_law_6 21 rfl rfl)
theorem dL_law_298 : decode cL_law 298 = .ok (.aload_n 2, 1) := dk_44 (dk_at dksL_law_6 23 rfl rfl)
theorem dL_law_299 : decode cL_law 299 = .ok (.invokevirtual 129, 3) := dk_182 0 129 (dk_at dksL_law_7 0 rfl rfl)
theorem dL_law_302 : decode cL_law 302 = .ok (.iload 5, 2) := dk_21 5 (dk_at dksL_law_7 3 rfl rfl)
theorem dL_law_304 : decode cL_law 304 = .ok (.if_icmp .eq 5, 3) := dk_159 0 5 (dk_at dksL_law_7 5 rfl rfl)
theorem dL_law_307 : decode cL_law 307 = .ok (.iconst 0, 1) := dk_3 (dk_at dksL_law_7 8 rfl rfl)
theorem dL_law_308 : decode cL_law 308 = .ok (.ireturn, 1) := dk_172 (dk_at dksL_law_7 9 rfl rfl)
theorem dL_law_309 : decode cL_law 309 = .ok (.iload 5, 2) := dk_21 5 (dk_at dksL_law_7 10 rfl rfl)
theorem dL_law_311 : decode cL_law 311 = .ok (.ifCond .ne 15, 3) := dk_154 0 15 (dk_at dksL_law_7 12 rfl rfl)
theorem dL_law_314 : decode cL_law 314 = .ok (.aload_n 3, 1) := dk_45 (dk_at dksL_law_7 15 rfl rfl)
theorem dL_law_315 : decode cL_law 315 = .ok (.iconst 0, 1) := dk_3 (dk_at dksL_law_7 16 rfl rfl)
theorem dL_law_316 : decode cL_law 316 = .ok (.laload, 1) := dk_47 (dk_at dksL_law_7 17 rfl rfl)
theorem dL_law_317 : decode cL_law 317 = .ok (.iload 6, 2) := dk_21 6 (dk_at dksL_law_7 18 rfl rfl)
theorem dL_law_319 : decode cL_law 319 = .ok (.i2l, 1) := dk_133 (dk_at dksL_law_7 20 rfl rfl)
theorem dL_law_320 : decode cL_law 320 = .ok (.lcmp, 1) := dk_148 (dk_at dksL_law_7 21 rfl rfl)
theorem dL_law_321 : decode cL_law 321 = .ok (.ifCond .eq 5, 3) := dk_153 0 5 (dk_at dksL_law_8 0 rfl rfl)
theorem dL_law_324 : decode cL_law 324 = .ok (.iconst 0, 1) := dk_3 (dk_at dksL_law_8 3 rfl rfl)
theorem dL_law_325 : decode cL_law 325 = .ok (.ireturn, 1) := dk_172 (dk_at dksL_law_8 4 rfl rfl)
theorem dL_law_326 : decode cL_law 326 = .ok (.goto 2234, 3) := dk_167 8 186 (dk_at dksL_law_8 5 rfl rfl)
theorem dL_law_329 : decode cL_law 329 = .ok (.aload_n 1, 1) := dk_43 (dk_at dksL_law_8 8 rfl rfl)
theorem dL_law_330 : decode cL_law 330 = .ok (.aload_n 0, 1) := dk_42 (dk_at dksL_law_8 9 rfl rfl)
theorem dL_law_331 : decode cL_law 331 = .ok (.iload 4, 2) := dk_21 4 (dk_at dksL_law_8 10 rfl rfl)
theorem dL_law_333 : decode cL_law 333 = .ok (.iconst 1, 1) := dk_4 (dk_at dksL_law_8 12 rfl rfl)
theorem dL_law_334 : decode cL_law 334 = .ok (.iadd, 1) := dk_96 (dk_at dksL_law_8 13 rfl rfl)
theorem dL_law_335 : decode cL_law 335 = .ok (.iaload, 1) := dk_46 (dk_at dksL_law_8 14 rfl rfl)
theorem dL_law_336 : decode cL_law 336 = .ok (.aload_n 0, 1) := dk_42 (dk_at dksL_law_8 15 rfl rfl)
theorem dL_law_337 : decode cL_law 337 = .ok (.iload 4, 2) := dk_21 4 (dk_at dksL_law_8 16 rfl rfl)
theorem dL_law_339 : decode cL_law 339 = .ok (.iconst 2, 1) := dk_5 (dk_at dksL_law_8 18 rfl rfl)
theorem dL_law_340 : decode cL_law 340 = .ok (.iadd, 1) := dk_96 (dk_at dksL_law_8 19 rfl rfl)
theorem dL_law_341 : decode cL_law 341 = .ok (.iaload, 1) := dk_46 (dk_at dksL_law_8 20 rfl rfl)
theorem dL_law_342 : decode cL_law 342 = .ok (.aload_n 3, 1) := dk_45 (dk_at dksL_law_8 21 rfl rfl)
theorem dL_law_343 : decode cL_law 343 = .ok (.invokestatic 135, 3) := dk_184 0 135 (dk_at dksL_law_9 0 rfl rfl)
theorem dL_law_346 : decode cL_law 346 = .ok (.istore 5, 2) := dk_54 5 (dk_at dksL_law_9 3 rfl rfl)
theorem dL_law_348 : decode cL_law 348 = .ok (.aload_n 2, 1) := dk_44 (dk_at dksL_law_9 5 rfl rfl)
theorem dL_law_349 : decode cL_law 349 = .ok (.aload_n 0, 1) := dk_42 (dk_at dksL_law_9 6 rfl rfl)
theorem dL_law_350 : decode cL_law 350 = .ok (.iload 4, 2) := dk_21 4 (dk_at dksL_law_9 7 rfl rfl)
theorem dL_law_352 : decode cL_law 352 = .ok (.iconst 1, 1) := dk_4 (dk_at dksL_law_9 9 rfl rfl)
theorem dL_law_353 : decode cL_law 353 = .ok (.iadd, 1) := dk_96 (dk_at dksL_law_9 10 rfl rfl)
theorem dL_law_354 : decode cL_law 354 = .ok (.iaload, 1) := dk_46 (dk_at dksL_law_9 11 rfl rfl)
theorem dL_law_355 : decode cL_law 355 = .ok (.aload_n 0, 1) := dk_42 (dk_at dksL_law_9 12 rfl rfl)
theorem dL_law_356 : decode cL_law 356 = .ok (.iload 4, 2) := dk_21 4 (dk_at dksL_law_9 13 rfl rfl)
theorem dL_law_358 : decode cL_law 358 = .ok (.iconst 2, 1) := dk_5 (dk_at dksL_law_9 15 rfl rfl)
theorem dL_law_359 : decode cL_law 359 = .ok (.iadd, 1) := dk_96 (dk_at dksL_law_9 16 rfl rfl)
theorem dL_law_360 : decode cL_law 360 = .ok (.iaload, 1) := dk_46 (dk_at dksL_law_9 17 rfl rfl)
theorem dL_law_361 : decode cL_law 361 = .ok (.invokevirtual 138, 3) := dk_182 0 138 (dk_at dksL_law_9 18 rfl rfl)
theorem dL_law_364 : decode cL_law 364 = .ok (.istore 6, 2) := dk_54 6 (dk_at dksL_law_9 21 rfl rfl)
theorem dL_law_366 : decode cL_law 366 = .ok (.aload_n 2, 1) := dk_44 (dk_at dksL_law_9 23 rfl rfl)
theorem dL_law_367 : decode cL_law 367 = .ok (.invokevirtual 129, 3) := dk_182 0 129 (dk_at dksL_law_10 0 rfl rfl)
theorem dL_law_370 : decode cL_law 370 = .ok (.iload 5, 2) := dk_21 5 (dk_at dksL_law_10 3 rfl rfl)
theorem dL_law_372 : decode cL_law 372 = .ok (.if_icmp .eq 5, 3) := dk_159 0 5 (dk_at dksL_law_10 5 rfl rfl)
theorem dL_law_375 : decode cL_law 375 = .ok (.iconst 0, 1) := dk_3 (dk_at dksL_law_10 8 rfl rfl)
theorem dL_law_376 : decode cL_law 376 = .ok (.ireturn, 1) := dk_172 (dk_at dksL_law_10 9 rfl rfl)
theorem dL_law_377 : decode cL_law 377 = .ok (.iload 5, 2) := dk_21 5 (dk_at dksL_law_10 10 rfl rfl)
theorem dL_law_379 : decode cL_law 379 = .ok (.ifCond .ne 15, 3) := dk_154 0 15 (dk_at dksL_law_10 12 rfl rfl)
theorem dL_law_382 : decode cL_law 382 = .ok (.aload_n 3, 1) := dk_45 (dk_at dksL_law_10 15 rfl rfl)
theorem dL_law_383 : decode cL_law 383 = .ok (.iconst 0, 1) := dk_3 (dk_at dksL_law_10 16 rfl rfl)
theorem dL_law_384 : decode cL_law 384 = .ok (.laload, 1) := dk_47 (dk_at dksL_law_10 17 rfl rfl)
theorem dL_law_385 : decode cL_law 385 = .ok (.iload 6, 2) := dk_21 6 (dk_at dksL_law_10 18 rfl rfl)
theorem dL_law_387 : decode cL_law 387 = .ok (.i2l, 1) := dk_133 (dk_at dksL_law_10 20 rfl rfl)
theorem dL_law_388 : decode cL_law 388 = .ok (.lcmp, 1) := dk_148 (dk_at dksL_law_10 21 rfl rfl)
theorem dL_law_389 : decode cL_law 389 = .ok (.ifCond .eq 5, 3) := dk_153 0 5 (dk_at dksL_law_11 0 rfl rfl)
theorem dL_law_392 : decode cL_law 392 = .ok (.iconst 0, 1) := dk_3 (dk_at dksL_law_11 3 rfl rfl)
theorem dL_law_393 : decode cL_law 393 = .ok (.ireturn, 1) := dk_172 (dk_at dksL_law_11 4 rfl rfl)
theorem dL_law_394 : decode cL_law 394 = .ok (.goto 2166, 3) := dk_167 8 118 (dk_at dksL_law_11 5 rfl rfl)
theorem dL_law_397 : decode cL_law 397 = .ok (.aload_n 1, 1) := dk_43 (dk_at dksL_law_11 8 rfl rfl)
theorem dL_law_398 : decode cL_law 398 = .ok (.aload_n 0, 1) := dk_42 (dk_at dksL_law_11 9 rfl rfl)
theorem dL_law_399 : decode cL_law 399 = .ok (.iload 4, 2) := dk_21 4 (dk_at dksL_law_11 10 rfl rfl)
theorem dL_law_401 : decode cL_law 401 = .ok (.iconst 1, 1) := dk_4 (dk_at dksL_law_11 12 rfl rfl)
theorem dL_law_402 : decode cL_law 402 = .ok (.iadd, 1) := dk_96 (dk_at dksL_law_11 13 rfl rfl)
theorem dL_law_403 : decode cL_law 403 = .ok (.iaload, 1) := dk_46 (dk_at dksL_law_11 14 rfl rfl)
theorem dL_law_404 : decode cL_law 404 = .ok (.aload_n 0, 1) := dk_42 (dk_at dksL_law_11 15 rfl rfl)
theorem dL_law_405 : decode cL_law 405 = .ok (.iload 4, 2) := dk_21 4 (dk_at dksL_law_11 16 rfl rfl)
theorem dL_law_407 : decode cL_law 407 = .ok (.iconst 2, 1) := dk_5 (dk_at dksL_law_11 18 rfl rfl)
theorem dL_law_408 : decode cL_law 408 = .ok (.iadd, 1) := dk_96 (dk_at dksL_law_11 19 rfl rfl)
theorem dL_law_409 : decode cL_law 409 = .ok (.iaload, 1) := dk_46 (dk_at dksL_law_11 20 rfl rfl)
theorem dL_law_410 : decode cL_law 410 = .ok (.aload_n 0, 1) := dk_42 (dk_at dksL_law_11 21 rfl rfl)
theorem dL_law_411 : decode cL_law 411 = .ok (.iload 4, 2) := dk_21 4 (dk_at dksL_law_11 22 rfl rfl)
theorem dL_law_413 : decode cL_law 413 = .ok (.iconst 3, 1) := dk_6 (dk_at dksL_law_12 0 rfl rfl)
theorem dL_law_414 : decode cL_law 414 = .ok (.iadd, 1) := dk_96 (dk_at dksL_law_12 1 rfl rfl)
theorem dL_law_415 : decode cL_law 415 = .ok (.iaload, 1) := dk_46 (dk_at dksL_law_12 2 rfl rfl)
theorem dL_law_416 : decode cL_law 416 = .ok (.aload_n 0, 1) := dk_42 (dk_at dksL_law_12 3 rfl rfl)
theorem dL_law_417 : decode cL_law 417 = .ok (.iload 4, 2) := dk_21 4 (dk_at dksL_law_12 4 rfl rfl)
theorem dL_law_419 : decode cL_law 419 = .ok (.iconst 4, 1) := dk_7 (dk_at dksL_law_12 6 rfl rfl)
theorem dL_law_420 : decode cL_law 420 = .ok (.iadd, 1) := dk_96 (dk_at dksL_law_12 7 rfl rfl)
theorem dL_law_421 : decode cL_law 421 = .ok (.iaload, 1) := dk_46 (dk_at dksL_law_12 8 rfl rfl)
theorem dL_law_422 : decode cL_law 422 = .ok (.aload_n 3, 1) := dk_45 (dk_at dksL_law_12 9 rfl rfl)
theorem dL_law_423 : decode cL_law 423 = .ok (.invokestatic 139, 3) := dk_184 0 139 (dk_at dksL_law_12 10 rfl rfl)
theorem dL_law_426 : decode cL_law 426 = .ok (.istore 5, 2) := dk_54 5 (dk_at dksL_law_12 13 rfl rfl)
theorem dL_law_428 : decode cL_law 428 = .ok (.aload_n 2, 1) := dk_44 (dk_at dksL_law_12 15 rfl rfl)
theorem dL_law_429 : decode cL_law 429 = .ok (.aload_n 0, 1) := dk_42 (dk_at dksL_law_12 16 rfl rfl)
theorem dL_law_430 : decode cL_law 430 = .ok (.iload 4, 2) := dk_21 4 (dk_at dksL_law_12 17 rfl rfl)
theorem dL_law_432 : decode cL_law 432 = .ok (.iconst 1, 1) := dk_4 (dk_at dksL_law_12 19 rfl rfl)
theorem dL_law_433 : decode cL_law 433 = .ok (.iadd, 1) := dk_96 (dk_at dksL_law_12 20 rfl rfl)
theorem dL_law_434 : decode cL_law 434 = .ok (.iaload, 1) := dk_46 (dk_at dksL_law_12 21 rfl rfl)
theorem dL_law_435 : decode cL_law 435 = .ok (.aload_n 0, 1) := dk_42 (dk_at dksL_law_12 22 rfl rfl)
theorem dL_law_436 : decode cL_law 436 = .ok (.iload 4, 2) := dk_21 4 (dk_at dksL_law_13 0 rfl rfl)
theorem dL_law_438 : decode cL_law 438 = .ok (.iconst 2, 1) := dk_5 (dk_at dksL_law_13 2 rfl rfl)
theorem dL_law_439 : decode cL_law 439 = .ok (.iadd, 1) := dk_96 (dk_at dksL_law_13 3 rfl rfl)
theorem dL_law_440 : decode cL_law 440 = .ok (.iaload, 1) := dk_46 (dk_at dksL_law_13 4 rfl rfl)
theorem dL_law_441 : decode cL_law 441 = .ok (.aload_n 0, 1) := dk_42 (dk_at dksL_law_13 5 rfl rfl)
theorem dL_law_442 : decode cL_law 442 = .ok (.iload 4, 2) := dk_21 4 (dk_at dksL_law_13 6 rfl rfl)
theorem dL_law_444 : decode cL_law 444 = .ok (.iconst 3, 1) := dk_6 (dk_at dksL_law_13 8 rfl rfl)
theorem dL_law_445 : decode cL_law 445 = .ok (.iadd, 1) := dk_96 (dk_at dksL_law_13 9 rfl rfl)
theorem dL_law_446 : decode cL_law 446 = .ok (.iaload, 1) := dk_46 (dk_at dksL_law_13 10 rfl rfl)
theorem dL_law_447 : decode cL_law 447 = .ok (.aload_n 0, 1) := dk_42 (dk_at dksL_law_13 11 rfl rfl)
theorem dL_law_448 : decode cL_law 448 = .ok (.iload 4, 2) := dk_21 4 (dk_at dksL_law_13 12 rfl rfl)
theorem dL_law_450 : decode cL_law 450 = .ok (.iconst 4, 1) := dk_7 (dk_at dksL_law_13 14 rfl rfl)
theorem dL_law_451 : decode cL_law 451 = .ok (.iadd, 1) := dk_96 (dk_at dksL_law_13 15 rfl rfl)
theorem dL_law_452 : decode cL_law 452 = .ok (.iaload, 1) := dk_46 (dk_at dksL_law_13 16 rfl rfl)
theorem dL_law_453 : decode cL_law 453 = .ok (.invokevirtual 142, 3) := dk_182 0 142 (dk_at dksL_law_13 17 rfl rfl)
theorem dL_law_456 : decode cL_law 456 = .ok (.istore 6, 2) := dk_54 6 (dk_at dksL_law_13 20 rfl rfl)
theorem dL_law_458 : decode cL_law 458 = .ok (.aload_n 2, 1) := dk_44 (dk_at dksL_law_13 22 rfl rfl)
theorem dL_law_459 : decode cL_law 459 = .ok (.invokevirtual 129, 3) := dk_182 0 129 (dk_at dksL_law_14 0 rfl rfl)
theorem dL_law_462 : decode cL_law 462 = .ok (.iload 5, 2) := dk_21 5 (dk_at dksL_law_14 3 rfl rfl)
theorem dL_law_464 : decode cL_law 464 = .ok (.if_icmp .eq 5, 3) := dk_159 0 5 (dk_at dksL_law_14 5 rfl rfl)
theorem dL_law_467 : decode cL_law 467 = .ok (.iconst 0, 1) := dk_3 (dk_at dksL_law_14 8 rfl rfl)
theorem dL_law_468 : decode cL_law 468 = .ok (.ireturn, 1) := dk_172 (dk_at dksL_law_14 9 rfl rfl)
theorem dL_law_469 : decode cL_law 469 = .ok (.iload 5, 2) := dk_21 5 (dk_at dksL_law_14 10 rfl rfl)
theorem dL_law_471 : decode cL_law 471 = .ok (.ifCond .ne 15, 3) := dk_154 0 15 (dk_at dksL_law_14 12 rfl rfl)
theorem dL_law_474 : decode cL_law 474 = .ok (.aload_n 3, 1) := dk_45 (dk_at dksL_law_14 15 rfl rfl)
theorem dL_law_475 : decode cL_law 475 = .ok (.iconst 0, 1) := dk_3 (dk_at dksL_law_14 16 rfl rfl)
theorem dL_law_476 : decode cL_law 476 = .ok (.laload, 1) := dk_47 (dk_at dksL_law_14 17 rfl rfl)
theorem dL_law_477 : decode cL_law 477 = .ok (.iload 6, 2) := dk_21 6 (dk_at dksL_law_14 18 rfl rfl)
theorem dL_law_479 : decode cL_law 479 = .ok (.i2l, 1) := dk_133 (dk_at dksL_law_14 20 rfl rfl)
theorem dL_law_480 : decode cL_law 480 = .ok (.lcmp, 1) := dk_148 (dk_at dksL_law_14 21 rfl rfl)
theorem dL_law_481 : decode cL_law 481 = .ok (.ifCond .eq 5, 3) := dk_153 0 5 (dk_at dksL_law_15 0 rfl rfl)
theorem dL_law_484 : decode cL_law 484 = .ok (.iconst 0, 1) := dk_3 (dk_at dksL_law_15 3 rfl rfl)
theorem dL_law_485 : decode cL_law 485 = .ok (.ireturn, 1) := dk_172 (dk_at dksL_law_15 4 rfl rfl)
theorem dL_law_486 : decode cL_law 486 = .ok (.goto 2074, 3) := dk_167 8 26 (dk_at dksL_law_15 5 rfl rfl)
theorem dL_law_489 : decode cL_law 489 = .ok (.aload_n 1, 1) := dk_43 (dk_at dksL_law_15 8 rfl rfl)
theorem dL_law_490 : decode cL_law 490 = .ok (.aload_n 0, 1) := dk_42 (dk_at dksL_law_15 9 rfl rfl)
theorem dL_law_491 : decode cL_law 491 = .ok (.iload 4, 2) := dk_21 4 (dk_at dksL_law_15 10 rfl rfl)
theorem dL_law_493 : decode cL_law 493 = .ok (.iconst 1, 1) := dk_4 (dk_at dksL_law_15 12 rfl rfl)
theorem dL_law_494 : decode cL_law 494 = .ok (.iadd, 1) := dk_96 (dk_at dksL_law_15 13 rfl rfl)
theorem dL_law_495 : decode cL_law 495 = .ok (.iaload, 1) := dk_46 (dk_at dksL_law_15 14 rfl rfl)
theorem dL_law_496 : decode cL_law 496 = .ok (.aload_n 0, 1) := dk_42 (dk_at dksL_law_15 15 rfl rfl)
theorem dL_law_497 : decode cL_law 497 = .ok (.iload 4, 2) := dk_21 4 (dk_at dksL_law_15 16 rfl rfl)
theorem dL_law_499 : decode cL_law 499 = .ok (.iconst 2, 1) := dk_5 (dk_at dksL_law_15 18 rfl rfl)
theorem dL_law_500 : decode cL_law 500 = .ok (.iadd, 1) := dk_96 (dk_at dksL_law_15 19 rfl rfl)
theorem dL_law_501 : decode cL_law 501 = .ok (.iaload, 1) := dk_46 (dk_at dksL_law_15 20 rfl rfl)
theorem dL_law_502 : decode cL_law 502 = .ok (.aload_n 0, 1) := dk_42 (dk_at dksL_law_15 21 rfl rfl)
theorem dL_law_503 : decode cL_law 503 = .ok (.iload 4, 2) := dk_21 4 (dk_at dksL_law_15 22 rfl rfl)
theorem dL_law_505 : decode cL_law 505 = .ok (.iconst 3, 1) := dk_6 (dk_at dksL_law_16 0 rfl rfl)
theorem dL_law_506 : decode cL_law 506 = .ok (.iadd, 1) := dk_96 (dk_at dksL_law_16 1 rfl rfl)
theorem dL_law_507 : decode cL_law 507 = .ok (.iaload, 1) := dk_46 (dk_at dksL_law_16 2 rfl rfl)
theorem dL_law_508 : decode cL_law 508 = .ok (.aload_n 3, 1) := dk_45 (dk_at dksL_law_16 3 rfl rfl)
theorem dL_law_509 : decode cL_law 509 = .ok (.invokestatic 143, 3) := dk_184 0 143 (dk_at dksL_law_16 4 rfl rfl)
theorem dL_law_512 : decode cL_law 512 = .ok (.istore 5, 2) := dk_54 5 (dk_at dksL_law_16 7 rfl rfl)
theorem dL_law_514 : decode cL_law 514 = .ok (.aload_n 2, 1) := dk_44 (dk_at dksL_law_16 9 rfl rfl)
theorem dL_law_515 : decode cL_law 515 = .ok (.aload_n 0, 1) := dk_42 (dk_at dksL_law_16 10 rfl rfl)
theorem dL_law_516 : decode cL_law 516 = .ok (.iload 4, 2) := dk_21 4 (dk_at dksL_law_16 11 rfl rfl)
theorem dL_law_518 : decode cL_law 518 = .ok (.iconst 1, 1) := dk_4 (dk_at dksL_law_16 13 rfl rfl)
theorem dL_law_519 : decode cL_law 519 = .ok (.iadd, 1) := dk_96 (dk_at dksL_law_16 14 rfl rfl)
theorem dL_law_520 : decode cL_law 520 = .ok (.iaload, 1) := dk_46 (dk_at dksL_law_16 15 rfl rfl)
theorem dL_law_521 : decode cL_law 521 = .ok (.aload_n 0, 1) := dk_42 (dk_at dksL_law_16 16 rfl rfl)
theorem dL_law_522 : decode cL_law 522 = .ok (.iload 4, 2) := dk_21 4 (dk_at dksL_law_16 17 rfl rfl)
theorem dL_law_524 : decode cL_law 524 = .ok (.iconst 2, 1) := dk_5 (dk_at dksL_law_16 19 rfl rfl)
theorem dL_law_525 : decode cL_law 525 = .ok (.iadd, 1) := dk_96 (dk_at dksL_law_16 20 rfl rfl)
theorem dL_law_526 : decode cL_law 526 = .ok (.iaload, 1) := dk_46 (dk_at dksL_law_16 21 rfl rfl)
theorem dL_law_527 : decode cL_law 527 = .ok (.aload_n 0, 1) := dk_42 (dk_at dksL_law_16 22 rfl rfl)
theorem dL_law_528 : decode cL_law 528 = .ok (.iload 4, 2) := dk_21 4 (dk_at dksL_law_17 0 rfl rfl)
theorem dL_law_530 : decode cL_law 530 = .ok (.iconst 3, 1) := dk_6 (dk_at dksL_law_17 2 rfl rfl)
theorem dL_law_531 : decode cL_law 531 = .ok (.iadd, 1) := dk_96 (dk_at dksL_law_17 3 rfl rfl)
theorem dL_law_532 : decode cL_law 532 = .ok (.iaload, 1) := dk_46 (dk_at dksL_law_17 4 rfl rfl)
theorem dL_law_533 : decode cL_law 533 = .ok (.invokevirtual 146, 3) := dk_182 0 146 (dk_at dksL_law_17 5 rfl rfl)
theorem dL_law_536 : decode cL_law 536 = .ok (.istore 6, 2) := dk_54 6 (dk_at dksL_law_17 8 rfl rfl)
theorem dL_law_538 : decode cL_law 538 = .ok (.aload_n 2, 1) := dk_44 (dk_at dksL_law_17 10 rfl rfl)
theorem dL_law_539 : decode cL_law 539 = .ok (.invokevirtual 129, 3) := dk_182 0 129 (dk_at dksL_law_17 11 rfl rfl)
theorem dL_law_542 : decode cL_law 542 = .ok (.iload 5, 2) := dk_21 5 (dk_at dksL_law_17 14 rfl rfl)
theorem dL_law_544 : decode cL_law 544 = .ok (.if_icmp .eq 5, 3) := dk_159 0 5 (dk_at dksL_law_17 16 rfl rfl)
theorem dL_law_547 : decode cL_law 547 = .ok (.iconst 0, 1) := dk_3 (dk_at dksL_law_17 19 rfl rfl)
theorem dL_law_548 : decode cL_law 548 = .ok (.ireturn, 1) := dk_172 (dk_at dksL_law_17 20 rfl rfl)
theorem dL_law_549 : decode cL_law 549 = .ok (.iload 5, 2) := dk_21 5 (dk_at dksL_law_17 21 rfl rfl)
theorem dL_law_551 : decode cL_law 551 = .ok (.ifCond .ne 15, 3) := dk_154 0 15 (dk_at dksL_law_18 0 rfl rfl)
theorem dL_law_554 : decode cL_law 554 = .ok (.aload_n 3, 1) := dk_45 (dk_at dksL_law_18 3 rfl rfl)
theorem dL_law_555 : decode cL_law 555 = .ok (.iconst 0, 1) := dk_3 (dk_at dksL_law_18 4 rfl rfl)
theorem dL_law_556 : decode cL_law 556 = .ok (.laload, 1) := dk_47 (dk_at dksL_law_18 5 rfl rfl)
theorem dL_law_557 : decode cL_law 557 = .ok (.iload 6, 2) := dk_21 6 (dk_at dksL_law_18 6 rfl rfl)
theorem dL_law_559 : decode cL_law 559 = .ok (.i2l, 1) := dk_133 (dk_at dksL_law_18 8 rfl rfl)
theorem dL_law_560 : decode cL_law 560 = .ok (.lcmp, 1) := dk_148 (dk_at dksL_law_18 9 rfl rfl)
theorem dL_law_561 : decode cL_law 561 = .ok (.ifCond .eq 5, 3) := dk_153 0 5 (dk_at dksL_law_18 10 rfl rfl)
theorem dL_law_564 : decode cL_law 564 = .ok (.iconst 0, 1) := dk_3 (dk_at dksL_law_18 13 rfl rfl)
theorem dL_law_565 : decode cL_law 565 = .ok (.ireturn, 1) := dk_172 (dk_at dksL_law_18 14 rfl rfl)
theorem dL_law_566 : decode cL_law 566 = .ok (.goto 1994, 3) := dk_167 7 202 (dk_at dksL_law_18 15 rfl rfl)
theorem dL_law_569 : decode cL_law 569 = .ok (.aload_n 1, 1) := dk_43 (dk_at dksL_law_18 18 rfl rfl)
theorem dL_law_570 : decode cL_law 570 = .ok (.aload_n 0, 1) := dk_42 (dk_at dksL_law_18 19 rfl rfl)
theorem dL_law_571 : decode cL_law 571 = .ok (.iload 4, 2) := dk_21 4 (dk_at dksL_law_18 20 rfl rfl)
theorem dL_law_573 : decode cL_law 573 = .ok (.iconst 1, 1) := dk_4 (dk_at dksL_law_18 22 rfl rfl)
theorem dL_law_574 : decode cL_law 574 = .ok (.iadd, 1) := dk_96 (dk_at dksL_law_18 23 rfl rfl)
theorem dL_law_575 : decode cL_law 575 = .ok (.iaload, 1) := dk_46 (dk_at dksL_law_19 0 rfl rfl)
theorem dL_law_576 : decode cL_law 576 = .ok (.aload_n 0, 1) := dk_42 (dk_at dksL_law_19 1 rfl rfl)
theorem dL_law_577 : decode cL_law 577 = .ok (.iload 4, 2) := dk_21 4 (dk_at dksL_law_19 2 rfl rfl)
theorem dL_law_579 : decode cL_law 579 = .ok (.iconst 2, 1) := dk_5 (dk_at dksL_law_19 4 rfl rfl)
theorem dL_law_580 : decode cL_law 580 = .ok (.iadd, 1) := dk_96 (dk_at dksL_law_19 5 rfl rfl)
theorem dL_law_581 : decode cL_law 581 = .ok (.iaload, 1) := dk_46 (dk_at dksL_law_19 6 rfl rfl)
theorem dL_law_582 : decode cL_law 582 = .ok (.aload_n 0, 1) := dk_42 (dk_at dksL_law_19 7 rfl rfl)
theorem dL_law_583 : decode cL_law 583 = .ok (.iload 4, 2) := dk_21 4 (dk_at dksL_law_19 8 rfl rfl)
theorem dL_law_585 : decode cL_law 585 = .ok (.iconst 3, 1) := dk_6 (dk_at dksL_law_19 10 rfl rfl)
theorem dL_law_586 : decode cL_law 586 = .ok (.iadd, 1) := dk_96 (dk_at dksL_law_19 11 rfl rfl)
theorem dL_law_587 : decode cL_law 587 = .ok (.iaload, 1) := dk_46 (dk_at dksL_law_19 12 rfl rfl)
theorem dL_law_588 : decode cL_law 588 = .ok (.aload_n 0, 1) := dk_42 (dk_at dksL_law_19 13 rfl rfl)
theorem dL_law_589 : decode cL_law 589 = .ok (.iload 4, 2) := dk_21 4 (dk_at dksL_law_19 14 rfl rfl)
theorem dL_law_591 : decode cL_law 591 = .ok (.iconst 4, 1) := dk_7 (dk_at dksL_law_19 16 rfl rfl)
theorem dL_law_592 : decode cL_law 592 = .ok (.iadd, 1) := dk_96 (dk_at dksL_law_19 17 rfl rfl)
theorem dL_law_593 : decode cL_law 593 = .ok (.iaload, 1) := dk_46 (dk_at dksL_law_19 18 rfl rfl)
theorem dL_law_594 : decode cL_law 594 = .ok (.aload_n 0, 1) := dk_42 (dk_at dksL_law_19 19 rfl rfl)
theorem dL_law_595 : decode cL_law 595 = .ok (.iload 4, 2) := dk_21 4 (dk_at dksL_law_19 20 rfl rfl)
theorem dL_law_597 : decode cL_law 597 = .ok (.iconst 5, 1) := dk_8 (dk_at dksL_law_19 22 rfl rfl)
theorem dL_law_598 : decode cL_law 598 = .ok (.iadd, 1) := dk_96 (dk_at dksL_law_19 23 rfl rfl)
theorem dL_law_599 : decode cL_law 599 = .ok (.iaload, 1) := dk_46 (dk_at dksL_law_20 0 rfl rfl)
theorem dL_law_600 : decode cL_law 600 = .ok (.aload_n 3, 1) := dk_45 (dk_at dksL_law_20 1 rfl rfl)
theorem dL_law_601 : decode cL_law 601 = .ok (.invokestatic 147, 3) := dk_184 0 147 (dk_at dksL_law_20 2 rfl rfl)
theorem dL_law_604 : decode cL_law 604 = .ok (.istore 5, 2) := dk_54 5 (dk_at dksL_law_20 5 rfl rfl)
theorem dL_law_606 : decode cL_law 606 = .ok (.aload_n 2, 1) := dk_44 (dk_at dksL_law_20 7 rfl rfl)
theorem dL_law_607 : decode cL_law 607 = .ok (.aload_n 0, 1) := dk_42 (dk_at dksL_law_20 8 rfl rfl)
theorem dL_law_608 : decode cL_law 608 = .ok (.iload 4, 2) := dk_21 4 (dk_at dksL_law_20 9 rfl rfl)
theorem dL_law_610 : decode cL_law 610 = .ok (.iconst 1, 1) := dk_4 (dk_at dksL_law_20 11 rfl rfl)
theorem dL_law_611 : decode cL_law 611 = .ok (.iadd, 1) := dk_96 (dk_at dksL_law_20 12 rfl rfl)
theorem dL_law_612 : decode cL_law 612 = .ok (.iaload, 1) := dk_46 (dk_at dksL_law_20 13 rfl rfl)
theorem dL_law_613 : decode cL_law 613 = .ok (.aload_n 0, 1) := dk_42 (dk_at dksL_law_20 14 rfl rfl)
theorem dL_law_614 : decode cL_law 614 = .ok (.iload 4, 2) := dk_21 4 (dk_at dksL_law_20 15 rfl rfl)
theorem dL_law_616 : decode cL_law 616 = .ok (.iconst 2, 1) := dk_5 (dk_at dksL_law_20 17 rfl rfl)
theorem dL_law_617 : decode cL_law 617 = .ok (.iadd, 1) := dk_96 (dk_at dksL_law_20 18 rfl rfl)
theorem dL_law_618 : decode cL_law 618 = .ok (.iaload, 1) := dk_46 (dk_at dksL_law_20 19 rfl rfl)
theorem dL_law_619 : decode cL_law 619 = .ok (.aload_n 0, 1) := dk_42 (dk_at dksL_law_20 20 rfl rfl)
theorem dL_law_620 : decode cL_law 620 = .ok (.iload 4, 2) := dk_21 4 (dk_at dksL_law_20 21 rfl rfl)
theorem dL_law_622 : decode cL_law 622 = .ok (.iconst 3, 1) := dk_6 (dk_at dksL_law_20 23 rfl rfl)
theorem dL_law_623 : decode cL_law 623 = .ok (.iadd, 1) := dk_96 (dk_at dksL_law_21 0 rfl rfl)
theorem dL_law_624 : decode cL_law 624 = .ok (.iaload, 1) := dk_46 (dk_at dksL_law_21 1 rfl rfl)
theorem dL_law_625 : decode cL_law 625 = .ok (.aload_n 0, 1) := dk_42 (dk_at dksL_law_21 2 rfl rfl)
theorem dL_law_626 : decode cL_law 626 = .ok (.iload 4, 2) := dk_21 4 (dk_at dksL_law_21 3 rfl rfl)
theorem dL_law_628 : decode cL_law 628 = .ok (.iconst 4, 1) := dk_7 (dk_at dksL_law_21 5 rfl rfl)
theorem dL_law_629 : decode cL_law 629 = .ok (.iadd, 1) := dk_96 (dk_at dksL_law_21 6 rfl rfl)
theorem dL_law_630 : decode cL_law 630 = .ok (.iaload, 1) := dk_46 (dk_at dksL_law_21 7 rfl rfl)
theorem dL_law_631 : decode cL_law 631 = .ok (.aload_n 0, 1) := dk_42 (dk_at dksL_law_21 8 rfl rfl)
theorem dL_law_632 : decode cL_law 632 = .ok (.iload 4, 2) := dk_21 4 (dk_at dksL_law_21 9 rfl rfl)
theorem dL_law_634 : decode cL_law 634 = .ok (.iconst 5, 1) := dk_8 (dk_at dksL_law_21 11 rfl rfl)
theorem dL_law_635 : decode cL_law 635 = .ok (.iadd, 1) := dk_96 (dk_at dksL_law_21 12 rfl rfl)
theorem dL_law_636 : decode cL_law 636 = .ok (.iaload, 1) := dk_46 (dk_at dksL_law_21 13 rfl rfl)
theorem dL_law_637 : decode cL_law 637 = .ok (.invokevirtual 150, 3) := dk_182 0 150 (dk_at dksL_law_21 14 rfl rfl)
theorem dL_law_640 : decode cL_law 640 = .ok (.istore 6, 2) := dk_54 6 (dk_at dksL_law_21 17 rfl rfl)
theorem dL_law_642 : decode cL_law 642 = .ok (.aload_n 2, 1) := dk_44 (dk_at dksL_law_21 19 rfl rfl)
theorem dL_law_643 : decode cL_law 643 = .ok (.invokevirtual 129, 3) := dk_182 0 129 (dk_at dksL_law_21 20 rfl rfl)
theorem dL_law_646 : decode cL_law 646 = .ok (.iload 5, 2) := dk_21 5 (dk_at dksL_law_22 0 rfl rfl)
theorem dL_law_648 : decode cL_law 648 = .ok (.if_icmp .eq 5, 3) := dk_159 0 5 (dk_at dksL_law_22 2 rfl rfl)
theorem dL_law_651 : decode cL_law 651 = .ok (.iconst 0, 1) := dk_3 (dk_at dksL_law_22 5 rfl rfl)
theorem dL_law_652 : decode cL_law 652 = .ok (.ireturn, 1) := dk_172 (dk_at dksL_law_22 6 rfl rfl)
theorem dL_law_653 : decode cL_law 653 = .ok (.iload 5, 2) := dk_21 5 (dk_at dksL_law_22 7 rfl rfl)
theorem dL_law_655 : decode cL_law 655 = .ok (.ifCond .ne 15, 3) := dk_154 0 15 (dk_at dksL_law_22 9 rfl rfl)
theorem dL_law_658 : decode cL_law 658 = .ok (.aload_n 3, 1) := dk_45 (dk_at dksL_law_22 12 rfl rfl)
theorem dL_law_659 : decode cL_law 659 = .ok (.iconst 0, 1) := dk_3 (dk_at dksL_law_22 13 rfl rfl)
theorem dL_law_660 : decode cL_law 660 = .ok (.laload, 1) := dk_47 (dk_at dksL_law_22 14 rfl rfl)
theorem dL_law_661 : decode cL_law 661 = .ok (.iload 6, 2) := dk_21 6 (dk_at dksL_law_22 15 rfl rfl)
theorem dL_law_663 : decode cL_law 663 = .ok (.i2l, 1) := dk_133 (dk_at dksL_law_22 17 rfl rfl)
theorem dL_law_664 : decode cL_law 664 = .ok (.lcmp, 1) := dk_148 (dk_at dksL_law_22 18 rfl rfl)
theorem dL_law_665 : decode cL_law 665 = .ok (.ifCond .eq 5, 3) := dk_153 0 5 (dk_at dksL_law_22 19 rfl rfl)
theorem dL_law_668 : decode cL_law 668 = .ok (.iconst 0, 1) := dk_3 (dk_at dksL_law_22 22 rfl rfl)
theorem dL_law_669 : decode cL_law 669 = .ok (.ireturn, 1) := dk_172 (dk_at dksL_law_22 23 rfl rfl)
theorem dL_law_670 : decode cL_law 670 = .ok (.goto 1890, 3) := dk_167 7 98 (dk_at dksL_law_23 0 rfl rfl)
theorem dL_law_673 : decode cL_law 673 = .ok (.aload_n 1, 1) := dk_43 (dk_at dksL_law_23 3 rfl rfl)
theorem dL_law_674 : decode cL_law 674 = .ok (.aload_n 0, 1) := dk_42 (dk_at dksL_law_23 4 rfl rfl)
theorem dL_law_675 : decode cL_law 675 = .ok (.iload 4, 2) := dk_21 4 (dk_at dksL_law_23 5 rfl rfl)
theorem dL_law_677 : decode cL_law 677 = .ok (.iconst 1, 1) := dk_4 (dk_at dksL_law_23 7 rfl rfl)
theorem dL_law_678 : decode cL_law 678 = .ok (.iadd, 1) := dk_96 (dk_at dksL_law_23 8 rfl rfl)
theorem dL_law_679 : decode cL_law 679 = .ok (.iaload, 1) := dk_46 (dk_at dksL_law_23 9 rfl rfl)
theorem dL_law_680 : decode cL_law 680 = .ok (.aload_n 0, 1) := dk_42 (dk_at dksL_law_23 10 rfl rfl)
theorem dL_law_681 : decode cL_law 681 = .ok (.iload 4, 2) := dk_21 4 (dk_at dksL_law_23 11 rfl rfl)
theorem dL_law_683 : decode cL_law 683 = .ok (.iconst 2, 1) := dk_5 (dk_at dksL_law_23 13 rfl rfl)
theorem dL_law_684 : decode cL_law 684 = .ok (.iadd, 1) := dk_96 (dk_at dksL_law_23 14 rfl rfl)
theorem dL_law_685 : decode cL_law 685 = .ok (.iaload, 1) := dk_46 (dk_at dksL_law_23 15 rfl rfl)
theorem dL_law_686 : decode cL_law 686 = .ok (.aload_n 0, 1) := dk_42 (dk_at dksL_law_23 16 rfl rfl)
theorem dL_law_687 : decode cL_law 687 = .ok (.iload 4, 2) := dk_21 4 (dk_at dksL_law_23 17 rfl rfl)
theorem dL_law_689 : decode cL_law 689 = .ok (.iconst 3, 1) := dk_6 (dk_at dksL_law_23 19 rfl rfl)
theorem dL_law_690 : decode cL_law 690 = .ok (.iadd, 1) := dk_96 (dk_at dksL_law_23 20 rfl rfl)
theorem dL_law_691 : decode cL_law 691 = .ok (.iaload, 1) := dk_46 (dk_at dksL_law_23 21 rfl rfl)
theorem dL_law_692 : decode cL_law 692 = .ok (.aload_n 0, 1) := dk_42 (dk_at dksL_law_23 22 rfl rfl)
theorem dL_law_693 : decode cL_law 693 = .ok (.iload 4, 2) := dk_21 4 (dk_at dksL_law_24 0 rfl rfl)
theorem dL_law_695 : decode cL_law 695 = .ok (.iconst 4, 1) := dk_7 (dk_at dksL_law_24 2 rfl rfl)
theorem dL_law_696 : decode cL_law 696 = .ok (.iadd, 1) := dk_96 (dk_at dksL_law_24 3 rfl rfl)
theorem dL_law_697 : decode cL_law 697 = .ok (.iaload, 1) := dk_46 (dk_at dksL_law_24 4 rfl rfl)
theorem dL_law_698 : decode cL_law 698 = .ok (.ifCond .eq 7, 3) := dk_153 0 7 (dk_at dksL_law_24 5 rfl rfl)
theorem dL_law_701 : decode cL_law 701 = .ok (.iconst 1, 1) := dk_4 (dk_at dksL_law_24 8 rfl rfl)
theorem dL_law_702 : decode cL_law 702 = .ok (.goto 4, 3) := dk_167 0 4 (dk_at dksL_law_24 9 rfl rfl)
theorem dL_law_705 : decode cL_law 705 = .ok (.iconst 0, 1) := dk_3 (dk_at dksL_law_24 12 rfl rfl)
theorem dL_law_706 : decode cL_law 706 = .ok (.aload_n 3, 1) := dk_45 (dk_at dksL_law_24 13 rfl rfl)
theorem dL_law_707 : decode cL_law 707 = .ok (.invokestatic 151, 3) := dk_184 0 151 (dk_at dksL_law_24 14 rfl rfl)
theorem dL_law_710 : decode cL_law 710 = .ok (.istore 5, 2) := dk_54 5 (dk_at dksL_law_24 17 rfl rfl)
theorem dL_law_712 : decode cL_law 712 = .ok (.aload_n 2, 1) := dk_44 (dk_at dksL_law_24 19 rfl rfl)
theorem dL_law_713 : decode cL_law 713 = .ok (.aload_n 0, 1) := dk_42 (dk_at dksL_law_24 20 rfl rfl)
theorem dL_law_714 : decode cL_law 714 = .ok (.iload 4, 2) := dk_21 4 (dk_at dksL_law_24 21 rfl rfl)
theorem dL_law_716 : decode cL_law 716 = .ok (.iconst 1, 1) := dk_4 (dk_at dksL_law_24 23 rfl rfl)
theorem dL_law_717 : decode cL_law 717 = .ok (.iadd, 1) := dk_96 (dk_at dksL_law_25 0 rfl rfl)
theorem dL_law_718 : decode cL_law 718 = .ok (.iaload, 1) := dk_46 (dk_at dksL_law_25 1 rfl rfl)
theorem dL_law_719 : decode cL_law 719 = .ok (.aload_n 0, 1) := dk_42 (dk_at dksL_law_25 2 rfl rfl)
theorem dL_law_720 : decode cL_law 720 = .ok (.iload 4, 2) := dk_21 4 (dk_at dksL_law_25 3 rfl rfl)
theorem dL_law_722 : decode cL_law 722 = .ok (.iconst 2, 1) := dk_5 (dk_at dksL_law_25 5 rfl rfl)
theorem dL_law_723 : decode cL_law 723 = .ok (.iadd, 1) := dk_96 (dk_at dksL_law_25 6 rfl rfl)
theorem dL_law_724 : decode cL_law 724 = .ok (.iaload, 1) := dk_46 (dk_at dksL_law_25 7 rfl rfl)
theorem dL_law_725 : decode cL_law 725 = .ok (.aload_n 0, 1) := dk_42 (dk_at dksL_law_25 8 rfl rfl)
theorem dL_law_726 : decode cL_law 726 = .ok (.iload 4, 2) := dk_21 4 (dk_at dksL_law_25 9 rfl rfl)
theorem dL_law_728 : decode cL_law 728 = .ok (.iconst 3, 1) := dk_6 (dk_at dksL_law_25 11 rfl rfl)
theorem dL_law_729 : decode cL_law 729 = .ok (.iadd, 1) := dk_96 (dk_at dksL_law_25 12 rfl rfl)
theorem dL_law_730 : decode cL_law 730 = .ok (.iaload, 1) := dk_46 (dk_at dksL_law_25 13 rfl rfl)
theorem dL_law_731 : decode cL_law 731 = .ok (.aload_n 0, 1) := dk_42 (dk_at dksL_law_25 14 rfl rfl)
theorem dL_law_732 : decode cL_law 732 = .ok (.iload 4, 2) := dk_21 4 (dk_at dksL_law_25 15 rfl rfl)
theorem dL_law_734 : decode cL_law 734 = .ok (.iconst 4, 1) := dk_7 (dk_at dksL_law_25 17 rfl rfl)
theorem dL_law_735 : decode cL_law 735 = .ok (.iadd, 1) := dk_96 (dk_at dksL_law_25 18 rfl rfl)
theorem dL_law_736 : decode cL_law 736 = .ok (.iaload, 1) := dk_46 (dk_at dksL_law_25 19 rfl rfl)
theorem dL_law_737 : decode cL_law 737 = .ok (.ifCond .eq 7, 3) := dk_153 0 7 (dk_at dksL_law_25 20 rfl rfl)
theorem dL_law_740 : decode cL_law 740 = .ok (.iconst 1, 1) := dk_4 (dk_at dksL_law_25 23 rfl rfl)
theorem dL_law_741 : decode cL_law 741 = .ok (.goto 4, 3) := dk_167 0 4 (dk_at dksL_law_26 0 rfl rfl)
theorem dL_law_744 : decode cL_law 744 = .ok (.iconst 0, 1) := dk_3 (dk_at dksL_law_26 3 rfl rfl)
theorem dL_law_745 : decode cL_law 745 = .ok (.invokevirtual 154, 3) := dk_182 0 154 (dk_at dksL_law_26 4 rfl rfl)
theorem dL_law_748 : decode cL_law 748 = .ok (.istore 6, 2) := dk_54 6 (dk_at dksL_law_26 7 rfl rfl)
theorem dL_law_750 : decode cL_law 750 = .ok (.aload_n 2, 1) := dk_44 (dk_at dksL_law_26 9 rfl rfl)
theorem dL_law_751 : decode cL_law 751 = .ok (.invokevirtual 129, 3) := dk_182 0 129 (dk_at dksL_law_26 10 rfl rfl)
theorem dL_law_754 : decode cL_law 754 = .ok (.iload 5, 2) := dk_21 5 (dk_at dksL_law_26 13 rfl rfl)
theorem dL_law_756 : decode cL_law 756 = .ok (.if_icmp .eq 5, 3) := dk_159 0 5 (dk_at dksL_law_26 15 rfl rfl)
theorem dL_law_759 : decode cL_law 759 = .ok (.iconst 0, 1) := dk_3 (dk_at dksL_law_26 18 rfl rfl)
theorem dL_law_760 : decode cL_law 760 = .ok (.ireturn, 1) := dk_172 (dk_at dksL_law_26 19 rfl rfl)
theorem dL_law_761 : decode cL_law 761 = .ok (.iload 5, 2) := dk_21 5 (dk_at dksL_law_26 20 rfl rfl)
theorem dL_law_763 : decode cL_law 763 = .ok (.ifCond .ne 15, 3) := dk_154 0 15 (dk_at dksL_law_27 0 rfl rfl)
theorem dL_law_766 : decode cL_law 766 = .ok (.aload_n 3, 1) := dk_45 (dk_at dksL_law_27 3 rfl rfl)
theorem dL_law_767 : decode cL_law 767 = .ok (.iconst 0, 1) := dk_3 (dk_at dksL_law_27 4 rfl rfl)
theorem dL_law_768 : decode cL_law 768 = .ok (.laload, 1) := dk_47 (dk_at dksL_law_27 5 rfl rfl)
theorem dL_law_769 : decode cL_law 769 = .ok (.iload 6, 2) := dk_21 6 (dk_at dksL_law_27 6 rfl rfl)
theorem dL_law_771 : decode cL_law 771 = .ok (.i2l, 1) := dk_133 (dk_at dksL_law_27 8 rfl rfl)
theorem dL_law_772 : decode cL_law 772 = .ok (.lcmp, 1) := dk_148 (dk_at dksL_law_27 9 rfl rfl)
theorem dL_law_773 : decode cL_law 773 = .ok (.ifCond .eq 5, 3) := dk_153 0 5 (dk_at dksL_law_27 10 rfl rfl)
theorem dL_law_776 : decode cL_law 776 = .ok (.iconst 0, 1) := dk_3 (dk_at dksL_law_27 13 rfl rfl)
theorem dL_law_777 : decode cL_law 777 = .ok (.ireturn, 1) := dk_172 (dk_at dksL_law_27 14 rfl rfl)
theorem dL_law_778 : decode cL_law 778 = .ok (.goto 1782, 3) := dk_167 6 246 (dk_at dksL_law_27 15 rfl rfl)
theorem dL_law_781 : decode cL_law 781 = .ok (.aload_n 1, 1) := dk_43 (dk_at dksL_law_27 18 rfl rfl)
theorem dL_law_782 : decode cL_law 782 = .ok (.aload_n 0, 1) := dk_42 (dk_at dksL_law_27 19 rfl rfl)
theorem dL_law_783 : decode cL_law 783 = .ok (.iload 4, 2) := dk_21 4 (dk_at dksL_law_27 20 rfl rfl)
theorem dL_law_785 : decode cL_law 785 = .ok (.iconst 1, 1) := dk_4 (dk_at dksL_law_27 22 rfl rfl)
theorem dL_law_786 : decode cL_law 786 = .ok (.iadd, 1) := dk_96 (dk_at dksL_law_27 23 rfl rfl)
theorem dL_law_787 : decode cL_law 787 = .ok (.iaload, 1) := dk_46 (dk_at dksL_law_28 0 rfl rfl)
theorem dL_law_788 : decode cL_law 788 = .ok (.aload_n 0, 1) := dk_42 (dk_at dksL_law_28 1 rfl rfl)
theorem dL_law_789 : decode cL_law 789 = .ok (.iload 4, 2) := dk_21 4 (dk_at dksL_law_28 2 rfl rfl)
theorem dL_law_791 : decode cL_law 791 = .ok (.iconst 2, 1) := dk_5 (dk_at dksL_law_28 4 rfl rfl)
theorem dL_law_792 : decode cL_law 792 = .ok (.iadd, 1) := dk_96 (dk_at dksL_law_28 5 rfl rfl)
theorem dL_law_793 : decode cL_law 793 = .ok (.iaload, 1) := dk_46 (dk_at dksL_law_28 6 rfl rfl)
theorem dL_law_794 : decode cL_law 794 = .ok (.aload_n 0, 1) := dk_42 (dk_at dksL_law_28 7 rfl rfl)
theorem dL_law_795 : decode cL_law 795 = .ok (.iload 4, 2) := dk_21 4 (dk_at dksL_law_28 8 rfl rfl)
theorem dL_law_797 : decode cL_law 797 = .ok (.iconst 3, 1) := dk_6 (dk_at dksL_law_28 10 rfl rfl)
theorem dL_law_798 : decode cL_law 798 = .ok (.iadd, 1) := dk_96 (dk_at dksL_law_28 11 rfl rfl)
theorem dL_law_799 : decode cL_law 799 = .ok (.iaload, 1) := dk_46 (dk_at dksL_law_28 12 rfl rfl)
theorem dL_law_800 : decode cL_law 800 = .ok (.aload_n 3, 1) := dk_45 (dk_at dksL_law_28 13 rfl rfl)
theorem dL_law_801 : decode cL_law 801 = .ok (.invokestatic 155, 3) := dk_184 0 155 (dk_at dksL_law_28 14 rfl rfl)
theorem dL_law_804 : decode cL_law 804 = .ok (.istore 5, 2) := dk_54 5 (dk_at dksL_law_28 17 rfl rfl)
theorem dL_law_806 : decode cL_law 806 = .ok (.aload_n 2, 1) := dk_44 (dk_at dksL_law_28 19 rfl rfl)
theorem dL_law_807 : decode cL_law 807 = .ok (.aload_n 0, 1) := dk_42 (dk_at dksL_law_28 20 rfl rfl)
theorem dL_law_808 : decode cL_law 808 = .ok (.iload 4, 2) := dk_21 4 (dk_at dksL_law_28 21 rfl rfl)
theorem dL_law_810 : decode cL_law 810 = .ok (.iconst 1, 1) := dk_4 (dk_at dksL_law_28 23 rfl rfl)
theorem dL_law_811 : decode cL_law 811 = .ok (.iadd, 1) := dk_96 (dk_at dksL_law_29 0 rfl rfl)
theorem dL_law_812 : decode cL_law 812 = .ok (.iaload, 1) := dk_46 (dk_at dksL_law_29 1 rfl rfl)
theorem dL_law_813 : decode cL_law 813 = .ok (.aload_n 0, 1) := dk_42 (dk_at dksL_law_29 2 rfl rfl)
theorem dL_law_814 : decode cL_law 814 = .ok (.iload 4, 2) := dk_21 4 (dk_at dksL_law_29 3 rfl rfl)
theorem dL_law_816 : decode cL_law 816 = .ok (.iconst 2, 1) := dk_5 (dk_at dksL_law_29 5 rfl rfl)
theorem dL_law_817 : decode cL_law 817 = .ok (.iadd, 1) := dk_96 (dk_at dksL_law_29 6 rfl rfl)
theorem dL_law_818 : decode cL_law 818 = .ok (.iaload, 1) := dk_46 (dk_at dksL_law_29 7 rfl rfl)
theorem dL_law_819 : decode cL_law 819 = .ok (.aload_n 0, 1) := dk_42 (dk_at dksL_law_29 8 rfl rfl)
theorem dL_law_820 : decode cL_law 820 = .ok (.iload 4, 2) := dk_21 4 (dk_at dksL_law_29 9 rfl rfl)
theorem dL_law_822 : decode cL_law 822 = .ok (.iconst 3, 1) := dk_6 (dk_at dksL_law_29 11 rfl rfl)
theorem dL_law_823 : decode cL_law 823 = .ok (.iadd, 1) := dk_96 (dk_at dksL_law_29 12 rfl rfl)
theorem dL_law_824 : decode cL_law 824 = .ok (.iaload, 1) := dk_46 (dk_at dksL_law_29 13 rfl rfl)
theorem dL_law_825 : decode cL_law 825 = .ok (.invokevirtual 157, 3) := dk_182 0 157 (dk_at dksL_law_29 14 rfl rfl)
theorem dL_law_828 : decode cL_law 828 = .ok (.istore 6, 2) := dk_54 6 (dk_at dksL_law_29 17 rfl rfl)
theorem dL_law_830 : decode cL_law 830 = .ok (.aload_n 2, 1) := dk_44 (dk_at dksL_law_29 19 rfl rfl)
theorem dL_law_831 : decode cL_law 831 = .ok (.invokevirtual 129, 3) := dk_182 0 129 (dk_at dksL_law_29 20 rfl rfl)
theorem dL_law_834 : decode cL_law 834 = .ok (.iload 5, 2) := dk_21 5 (dk_at dksL_law_30 0 rfl rfl)
theorem dL_law_836 : decode cL_law 836 = .ok (.if_icmp .eq 5, 3) := dk_159 0 5 (dk_at dksL_law_30 2 rfl rfl)
theorem dL_law_839 : decode cL_law 839 = .ok (.iconst 0, 1) := dk_3 (dk_at dksL_law_30 5 rfl rfl)
theorem dL_law_840 : decode cL_law 840 = .ok (.ireturn, 1) := dk_172 (dk_at dksL_law_30 6 rfl rfl)
theorem dL_law_841 : decode cL_law 841 = .ok (.iload 5, 2) := dk_21 5 (dk_at dksL_law_30 7 rfl rfl)
theorem dL_law_843 : decode cL_law 843 = .ok (.ifCond .ne 15, 3) := dk_154 0 15 (dk_at dksL_law_30 9 rfl rfl)
theorem dL_law_846 : decode cL_law 846 = .ok (.aload_n 3, 1) := dk_45 (dk_at dksL_law_30 12 rfl rfl)
theorem dL_law_847 : decode cL_law 847 = .ok (.iconst 0, 1) := dk_3 (dk_at dksL_law_30 13 rfl rfl)
theorem dL_law_848 : decode cL_law 848 = .ok (.laload, 1) := dk_47 (dk_at dksL_law_30 14 rfl rfl)
theorem dL_law_849 : decode cL_law 849 = .ok (.iload 6, 2) := dk_21 6 (dk_at dksL_law_30 15 rfl rfl)
theorem dL_law_851 : decode cL_law 851 = .ok (.i2l, 1) := dk_133 (dk_at dksL_law_30 17 rfl rfl)
theorem dL_law_852 : decode cL_law 852 = .ok (.lcmp, 1) := dk_148 (dk_at dksL_law_30 18 rfl rfl)
theorem dL_law_853 : decode cL_law 853 = .ok (.ifCond .eq 5, 3) := dk_153 0 5 (dk_at dksL_law_30 19 rfl rfl)
theorem dL_law_856 : decode cL_law 856 = .ok (.iconst 0, 1) := dk_3 (dk_at dksL_law_30 22 rfl rfl)
theorem dL_law_857 : decode cL_law 857 = .ok (.ireturn, 1) := dk_172 (dk_at dksL_law_30 23 rfl rfl)
theorem dL_law_858 : decode cL_law 858 = .ok (.goto 1702, 3) := dk_167 6 166 (dk_at dksL_law_31 0 rfl rfl)
theorem dL_law_861 : decode cL_law 861 = .ok (.aload_n 1, 1) := dk_43 (dk_at dksL_law_31 3 rfl rfl)
theorem dL_law_862 : decode cL_law 862 = .ok (.aload_n 0, 1) := dk_42 (dk_at dksL_law_31 4 rfl rfl)
theorem dL_law_863 : decode cL_law 863 = .ok (.iload 4, 2) := dk_21 4 (dk_at dksL_law_31 5 rfl rfl)
theorem dL_law_865 : decode cL_law 865 = .ok (.iconst 1, 1) := dk_4 (dk_at dksL_law_31 7 rfl rfl)
theorem dL_law_866 : decode cL_law 866 = .ok (.iadd, 1) := dk_96 (dk_at dksL_law_31 8 rfl rfl)
theorem dL_law_867 : decode cL_law 867 = .ok (.iaload, 1) := dk_46 (dk_at dksL_law_31 9 rfl rfl)
theorem dL_law_868 : decode cL_law 868 = .ok (.aload_n 0, 1) := dk_42 (dk_at dksL_law_31 10 rfl rfl)
theorem dL_law_869 : decode cL_law 869 = .ok (.iload 4, 2) := dk_21 4 (dk_at dksL_law_31 11 rfl rfl)
theorem dL_law_871 : decode cL_law 871 = .ok (.iconst 2, 1) := dk_5 (dk_at dksL_law_31 13 rfl rfl)
theorem dL_law_872 : decode cL_law 872 = .ok (.iadd, 1) := dk_96 (dk_at dksL_law_31 14 rfl rfl)
theorem dL_law_873 : decode cL_law 873 = .ok (.iaload, 1) := dk_46 (dk_at dksL_law_31 15 rfl rfl)
theorem dL_law_874 : decode cL_law 874 = .ok (.aload_n 0, 1) := dk_42 (dk_at dksL_law_31 16 rfl rfl)
theorem dL_law_875 : decode cL_law 875 = .ok (.iload 4, 2) := dk_21 4 (dk_at dksL_law_31 17 rfl rfl)
theorem dL_law_877 : decode cL_law 877 = .ok (.iconst 3, 1) := dk_6 (dk_at dksL_law_31 19 rfl rfl)
theorem dL_law_878 : decode cL_law 878 = .ok (.iadd, 1) := dk_96 (dk_at dksL_law_31 20 rfl rfl)
theorem dL_law_879 : decode cL_law 879 = .ok (.iaload, 1) := dk_46 (dk_at dksL_law_31 21 rfl rfl)
theorem dL_law_880 : decode cL_law 880 = .ok (.aload_n 3, 1) := dk_45 (dk_at dksL_law_31 22 rfl rfl)
theorem dL_law_881 : decode cL_law 881 = .ok (.invokestatic 158, 3) := dk_184 0 158 (dk_at dksL_law_32 0 rfl rfl)
theorem dL_law_884 : decode cL_law 884 = .ok (.istore 5, 2) := dk_54 5 (dk_at dksL_law_32 3 rfl rfl)
theorem dL_law_886 : decode cL_law 886 = .ok (.aload_n 2, 1) := dk_44 (dk_at dksL_law_32 5 rfl rfl)
theorem dL_law_887 : decode cL_law 887 = .ok (.aload_n 0, 1) := dk_42 (dk_at dksL_law_32 6 rfl rfl)
theorem dL_law_888 : decode cL_law 888 = .ok (.iload 4, 2) := dk_21 4 (dk_at dksL_law_32 7 rfl rfl)
theorem dL_law_890 : decode cL_law 890 = .ok (.iconst 1, 1) := dk_4 (dk_at dksL_law_32 9 rfl rfl)
theorem dL_law_891 : decode cL_law 891 = .ok (.iadd, 1) := dk_96 (dk_at dksL_law_32 10 rfl rfl)
theorem dL_law_892 : decode cL_law 892 = .ok (.iaload, 1) := dk_46 (dk_at dksL_law_32 11 rfl rfl)
theorem dL_law_893 : decode cL_law 893 = .ok (.aload_n 0, 1) := dk_42 (dk_at dksL_law_32 12 rfl rfl)
theorem dL_law_894 : decode cL_law 894 = .ok (.iload 4, 2) := dk_21 4 (dk_at dksL_law_32 13 rfl rfl)
theorem dL_law_896 : decode cL_law 896 = .ok (.iconst 2, 1) := dk_5 (dk_at dksL_law_32 15 rfl rfl)
theorem dL_law_897 : decode cL_law 897 = .ok (.iadd, 1) := dk_96 (dk_at dksL_law_32 16 rfl rfl)
theorem dL_law_898 : decode cL_law 898 = .ok (.iaload, 1) := dk_46 (dk_at dksL_law_32 17 rfl rfl)
theorem dL_law_899 : decode cL_law 899 = .ok (.aload_n 0, 1) := dk_42 (dk_at dksL_law_32 18 rfl rfl)
theorem dL_law_900 : decode cL_law 900 = .ok (.iload 4, 2) := dk_21 4 (dk_at dksL_law_32 19 rfl rfl)
theorem dL_law_902 : decode cL_law 902 = .ok (.iconst 3, 1) := dk_6 (dk_at dksL_law_32 21 rfl rfl)
theorem dL_law_903 : decode cL_law 903 = .ok (.iadd, 1) := dk_96 (dk_at dksL_law_32 22 rfl rfl)
theorem dL_law_904 : decode cL_law 904 = .ok (.iaload, 1) := dk_46 (dk_at dksL_law_32 23 rfl rfl)
theorem dL_law_905 : decode cL_law 905 = .ok (.invokevirtual 160, 3) := dk_182 0 160 (dk_at dksL_law_33 0 rfl rfl)
theorem dL_law_908 : decode cL_law 908 = .ok (.istore 6, 2) := dk_54 6 (dk_at dksL_law_33 3 rfl rfl)
theorem dL_law_910 : decode cL_law 910 = .ok (.aload_n 2, 1) := dk_44 (dk_at dksL_law_33 5 rfl rfl)
theorem dL_law_911 : decode cL_law 911 = .ok (.invokevirtual 129, 3) := dk_182 0 129 (dk_at dksL_law_33 6 rfl rfl)
theorem dL_law_914 : decode cL_law 914 = .ok (.iload 5, 2) := dk_21 5 (dk_at dksL_law_33 9 rfl rfl)
theorem dL_law_916 : decode cL_law 916 = .ok (.if_icmp .eq 5, 3) := dk_159 0 5 (dk_at dksL_law_33 11 rfl rfl)
theorem dL_law_919 : decode cL_law 919 = .ok (.iconst 0, 1) := dk_3 (dk_at dksL_law_33 14 rfl rfl)
theorem dL_law_920 : decode cL_law 920 = .ok (.ireturn, 1) := dk_172 (dk_at dksL_law_33 15 rfl rfl)
theorem dL_law_921 : decode cL_law 921 = .ok (.iload 5, 2) := dk_21 5 (dk_at dksL_law_33 16 rfl rfl)
theorem dL_law_923 : decode cL_law 923 = .ok (.ifCond .ne 15, 3) := dk_154 0 15 (dk_at dksL_law_33 18 rfl rfl)
theorem dL_law_926 : decode cL_law 926 = .ok (.aload_n 3, 1) := dk_45 (dk_at dksL_law_33 21 rfl rfl)
theorem dL_law_927 : decode cL_law 927 = .ok (.iconst 0, 1) := dk_3 (dk_at dksL_law_33 22 rfl rfl)
theorem dL_law_928 : decode cL_law 928 = .ok (.laload, 1) := dk_47 (dk_at dksL_law_33 23 rfl rfl)
theorem dL_law_929 : decode cL_law 929 = .ok (.iload 6, 2) := dk_21 6 (dk_at dksL_law_34 0 rfl rfl)
theorem dL_law_931 : decode cL_law 931 = .ok (.i2l, 1) := dk_133 (dk_at dksL_law_34 2 rfl rfl)
theorem dL_law_932 : decode cL_law 932 = .ok (.lcmp, 1) := dk_148 (dk_at dksL_law_34 3 rfl rfl)
theorem dL_law_933 : decode cL_law 933 = .ok (.ifCond .eq 5, 3) := dk_153 0 5 (dk_at dksL_law_34 4 rfl rfl)
theorem dL_law_936 : decode cL_law 936 = .ok (.iconst 0, 1) := dk_3 (dk_at dksL_law_34 7 rfl rfl)
theorem dL_law_937 : decode cL_law 937 = .ok (.ireturn, 1) := dk_172 (dk_at dksL_law_34 8 rfl rfl)
theorem dL_law_938 : decode cL_law 938 = .ok (.goto 1622, 3) := dk_167 6 86 (dk_at dksL_law_34 9 rfl rfl)
theorem dL_law_941 : decode cL_law 941 = .ok (.aload_n 1, 1) := dk_43 (dk_at dksL_law_34 12 rfl rfl)
theorem dL_law_942 : decode cL_law 942 = .ok (.aload_n 0, 1) := dk_42 (dk_at dksL_law_34 13 rfl rfl)
theorem dL_law_943 : decode cL_law 943 = .ok (.iload 4, 2) := dk_21 4 (dk_at dksL_law_34 14 rfl rfl)
theorem dL_law_945 : decode cL_law 945 = .ok (.iconst 1, 1) := dk_4 (dk_at dksL_law_34 16 rfl rfl)
theorem dL_law_946 : decode cL_law 946 = .ok (.iadd, 1) := dk_96 (dk_at dksL_law_34 17 rfl rfl)
theorem dL_law_947 : decode cL_law 947 = .ok (.iaload, 1) := dk_46 (dk_at dksL_law_34 18 rfl rfl)
theorem dL_law_948 : decode cL_law 948 = .ok (.aload_n 0, 1) := dk_42 (dk_at dksL_law_34 19 rfl rfl)
theorem dL_law_949 : decode cL_law 949 = .ok (.iload 4, 2) := dk_21 4 (dk_at dksL_law_34 20 rfl rfl)
theorem dL_law_951 : decode cL_law 951 = .ok (.iconst 2, 1) := dk_5 (dk_at dksL_law_34 22 rfl rfl)
theorem dL_law_952 : decode cL_law 952 = .ok (.iadd, 1) := dk_96 (dk_at dksL_law_34 23 rfl rfl)
theorem dL_law_953 : decode cL_law 953 = .ok (.iaload, 1) := dk_46 (dk_at dksL_law_35 0 rfl rfl)
theorem dL_law_954 : decode cL_law 954 = .ok (.aload_n 0, 1) := dk_42 (dk_at dksL_law_35 1 rfl rfl)
theorem dL_law_955 : decode cL_law 955 = .ok (.iload 4, 2) := dk_21 4 (dk_at dksL_law_35 2 rfl rfl)
theorem dL_law_957 : decode cL_law 957 = .ok (.iconst 3, 1) := dk_6 (dk_at dksL_law_35 4 rfl rfl)
theorem dL_law_958 : decode cL_law 958 = .ok (.iadd, 1) := dk_96 (dk_at dksL_law_35 5 rfl rfl)
theorem dL_law_959 : decode cL_law 959 = .ok (.iaload, 1) := dk_46 (dk_at dksL_law_35 6 rfl rfl)
theorem dL_law_960 : decode cL_law 960 = .ok (.aload_n 3, 1) := dk_45 (dk_at dksL_law_35 7 rfl rfl)
theorem dL_law_961 : decode cL_law 961 = .ok (.invokestatic 161, 3) := dk_184 0 161 (dk_at dksL_law_35 8 rfl rfl)
theorem dL_law_964 : decode cL_law 964 = .ok (.istore 5, 2) := dk_54 5 (dk_at dksL_law_35 11 rfl rfl)
theorem dL_law_966 : decode cL_law 966 = .ok (.aload_n 2, 1) := dk_44 (dk_at dksL_law_35 13 rfl rfl)
theorem dL_law_967 : decode cL_law 967 = .ok (.aload_n 0, 1) := dk_42 (dk_at dksL_law_35 14 rfl rfl)
theorem dL_law_968 : decode cL_law 968 = .ok (.iload 4, 2) := dk_21 4 (dk_at dksL_law_35 15 rfl rfl)
theorem dL_law_970 : decode cL_law 970 = .ok (.iconst 1, 1) := dk_4 (dk_at dksL_law_35 17 rfl rfl)
theorem dL_law_971 : decode cL_law 971 = .ok (.iadd, 1) := dk_96 (dk_at dksL_law_35 18 rfl rfl)
theorem dL_law_972 : decode cL_law 972 = .ok (.iaload, 1) := dk_46 (dk_at dksL_law_35 19 rfl rfl)
theorem dL_law_973 : decode cL_law 973 = .ok (.aload_n 0, 1) := dk_42 (dk_at dksL_law_35 20 rfl rfl)
theorem dL_law_974 : decode cL_law 974 = .ok (.iload 4, 2) := dk_21 4 (dk_at dksL_law_35 21 rfl rfl)
theorem dL_law_976 : decode cL_law 976 = .ok (.iconst 2, 1) := dk_5 (dk_at dksL_law_35 23 rfl rfl)
theorem dL_law_977 : decode cL_law 977 = .ok (.iadd, 1) := dk_96 (dk_at dksL_law_36 0 rfl rfl)
theorem dL_law_978 : decode cL_law 978 = .ok (.iaload, 1) := dk_46 (dk_at dksL_law_36 1 rfl rfl)
theorem dL_law_979 : decode cL_law 979 = .ok (.aload_n 0, 1) := dk_42 (dk_at dksL_law_36 2 rfl rfl)
theorem dL_law_980 : decode cL_law 980 = .ok (.iload 4, 2) := dk_21 4 (dk_at dksL_law_36 3 rfl rfl)
theorem dL_law_982 : decode cL_law 982 = .ok (.iconst 3, 1) := dk_6 (dk_at dksL_law_36 5 rfl rfl)
theorem dL_law_983 : decode cL_law 983 = .ok (.iadd, 1) := dk_96 (dk_at dksL_law_36 6 rfl rfl)
theorem dL_law_984 : decode cL_law 984 = .ok (.iaload, 1) := dk_46 (dk_at dksL_law_36 7 rfl rfl)
theorem dL_law_985 : decode cL_law 985 = .ok (.invokevirtual 163, 3) := dk_182 0 163 (dk_at dksL_law_36 8 rfl rfl)
theorem dL_law_988 : decode cL_law 988 = .ok (.istore 6, 2) := dk_54 6 (dk_at dksL_law_36 11 rfl rfl)
theorem dL_law_990 : decode cL_law 990 = .ok (.aload_n 2, 1) := dk_44 (dk_at dksL_law_36 13 rfl rfl)
theorem dL_law_991 : decode cL_law 991 = .ok (.invokevirtual 129, 3) := dk_182 0 129 (dk_at dksL_law_36 14 rfl rfl)
theorem dL_law_994 : decode cL_law 994 = .ok (.iload 5, 2) := dk_21 5 (dk_at dksL_law_36 17 rfl rfl)
theorem dL_law_996 : decode cL_law 996 = .ok (.if_icmp .eq 5, 3) := dk_159 0 5 (dk_at dksL_law_36 19 rfl rfl)
theorem dL_law_999 : decode cL_law 999 = .ok (.iconst 0, 1) := dk_3 (dk_at dksL_law_36 22 rfl rfl)
theorem dL_law_1000 : decode cL_law 1000 = .ok (.ireturn, 1) := dk_172 (dk_at dksL_law_36 23 rfl rfl)
theorem dL_law_1001 : decode cL_law 1001 = .ok (.iload 5, 2) := dk_21 5 (dk_at dksL_law_37 0 rfl rfl)
theorem dL_law_1003 : decode cL_law 1003 = .ok (.ifCond .ne 15, 3) := dk_154 0 15 (dk_at dksL_law_37 2 rfl rfl)
theorem dL_law_1006 : decode cL_law 1006 = .ok (.aload_n 3, 1) := dk_45 (dk_at dksL_law_37 5 rfl rfl)
theorem dL_law_1007 : decode cL_law 1007 = .ok (.iconst 0, 1) := dk_3 (dk_at dksL_law_37 6 rfl rfl)
theorem dL_law_1008 : decode cL_law 1008 = .ok (.laload, 1) := dk_47 (dk_at dksL_law_37 7 rfl rfl)
theorem dL_law_1009 : decode cL_law 1009 = .ok (.iload 6, 2) := dk_21 6 (dk_at dksL_law_37 8 rfl rfl)
theorem dL_law_1011 : decode cL_law 1011 = .ok (.i2l, 1) := dk_133 (dk_at dksL_law_37 10 rfl rfl)
theorem dL_law_1012 : decode cL_law 1012 = .ok (.lcmp, 1) := dk_148 (dk_at dksL_law_37 11 rfl rfl)
theorem dL_law_1013 : decode cL_law 1013 = .ok (.ifCond .eq 5, 3) := dk_153 0 5 (dk_at dksL_law_37 12 rfl rfl)
theorem dL_law_1016 : decode cL_law 1016 = .ok (.iconst 0, 1) := dk_3 (dk_at dksL_law_37 15 rfl rfl)
theorem dL_law_1017 : decode cL_law 1017 = .ok (.ireturn, 1) := dk_172 (dk_at dksL_law_37 16 rfl rfl)
theorem dL_law_1018 : decode cL_law 1018 = .ok (.goto 1542, 3) := dk_167 6 6 (dk_at dksL_law_37 17 rfl rfl)
theorem dL_law_1021 : decode cL_law 1021 = .ok (.aload_n 1, 1) := dk_43 (dk_at dksL_law_37 20 rfl rfl)
theorem dL_law_1022 : decode cL_law 1022 = .ok (.aload_n 0, 1) := dk_42 (dk_at dksL_law_37 21 rfl rfl)
theorem dL_law_1023 : decode cL_law 1023 = .ok (.iload 4, 2) := dk_21 4 (dk_at dksL_law_37 22 rfl rfl)
theorem dL_law_1025 : decode cL_law 1025 = .ok (.iconst 1, 1) := dk_4 (dk_at dksL_law_38 0 rfl rfl)
theorem dL_law_1026 : decode cL_law 1026 = .ok (.iadd, 1) := dk_96 (dk_at dksL_law_38 1 rfl rfl)
theorem dL_law_1027 : decode cL_law 1027 = .ok (.iaload, 1) := dk_46 (dk_at dksL_law_38 2 rfl rfl)
theorem dL_law_1028 : decode cL_law 1028 = .ok (.aload_n 0, 1) := dk_42 (dk_at dksL_law_38 3 rfl rfl)
theorem dL_law_1029 : decode cL_law 1029 = .ok (.iload 4, 2) := dk_21 4 (dk_at dksL_law_38 4 rfl rfl)
theorem dL_law_1031 : decode cL_law 1031 = .ok (.iconst 2, 1) := dk_5 (dk_at dksL_law_38 6 rfl rfl)
theorem dL_law_1032 : decode cL_law 1032 = .ok (.iadd, 1) := dk_96 (dk_at dksL_law_38 7 rfl rfl)
theorem dL_law_1033 : decode cL_law 1033 = .ok (.iaload, 1) := dk_46 (dk_at dksL_law_38 8 rfl rfl)
theorem dL_law_1034 : decode cL_law 1034 = .ok (.aload_n 0, 1) := dk_42 (dk_at dksL_law_38 9 rfl rfl)
theorem dL_law_1035 : decode cL_law 1035 = .ok (.iload 4, 2) := dk_21 4 (dk_at dksL_law_38 10 rfl rfl)
theorem dL_law_1037 : decode cL_law 1037 = .ok (.iconst 3, 1) := dk_6 (dk_at dksL_law_38 12 rfl rfl)
theorem dL_law_1038 : decode cL_law 1038 = .ok (.iadd, 1) := dk_96 (dk_at dksL_law_38 13 rfl rfl)
theorem dL_law_1039 : decode cL_law 1039 = .ok (.iaload, 1) := dk_46 (dk_at dksL_law_38 14 rfl rfl)
theorem dL_law_1040 : decode cL_law 1040 = .ok (.aload_n 3, 1) := dk_45 (dk_at dksL_law_38 15 rfl rfl)
theorem dL_law_1041 : decode cL_law 1041 = .ok (.invokestatic 164, 3) := dk_184 0 164 (dk_at dksL_law_38 16 rfl rfl)
theorem dL_law_1044 : decode cL_law 1044 = .ok (.istore 5, 2) := dk_54 5 (dk_at dksL_law_38 19 rfl rfl)
theorem dL_law_1046 : decode cL_law 1046 = .ok (.aload_n 2, 1) := dk_44 (dk_at dksL_law_38 21 rfl rfl)
theorem dL_law_1047 : decode cL_law 1047 = .ok (.aload_n 0, 1) := dk_42 (dk_at dksL_law_38 22 rfl rfl)
theorem dL_law_1048 : decode cL_law 1048 = .ok (.iload 4, 2) := dk_21 4 (dk_at dksL_law_39 0 rfl rfl)
theorem dL_law_1050 : decode cL_law 1050 = .ok (.iconst 1, 1) := dk_4 (dk_at dksL_law_39 2 rfl rfl)
theorem dL_law_1051 : decode cL_law 1051 = .ok (.iadd, 1) := dk_96 (dk_at dksL_law_39 3 rfl rfl)
theorem dL_law_1052 : decode cL_law 1052 = .ok (.iaload, 1) := dk_46 (dk_at dksL_law_39 4 rfl rfl)
theorem dL_law_1053 : decode cL_law 1053 = .ok (.aload_n 0, 1) := dk_42 (dk_at dksL_law_39 5 rfl rfl)
theorem dL_law_1054 : decode cL_law 1054 = .ok (.iload 4, 2) := dk_21 4 (dk_at dksL_law_39 6 rfl rfl)
theorem dL_law_1056 : decode cL_law 1056 = .ok (.iconst 2, 1) := dk_5 (dk_at dksL_law_39 8 rfl rfl)
theorem dL_law_1057 : decode cL_law 1057 = .ok (.iadd, 1) := dk_96 (dk_at dksL_law_39 9 rfl rfl)
theorem dL_law_1058 : decode cL_law 1058 = .ok (.iaload, 1) := dk_46 (dk_at dksL_law_39 10 rfl rfl)
theorem dL_law_1059 : decode cL_law 1059 = .ok (.aload_n 0, 1) := dk_42 (dk_at dksL_law_39 11 rfl rfl)
theorem dL_law_1060 : decode cL_law 1060 = .ok (.iload 4, 2) := dk_21 4 (dk_at dksL_law_39 12 rfl rfl)
theorem dL_law_1062 : decode cL_law 1062 = .ok (.iconst 3, 1) := dk_6 (dk_at dksL_law_39 14 rfl rfl)
theorem dL_law_1063 : decode cL_law 1063 = .ok (.iadd, 1) := dk_96 (dk_at dksL_law_39 15 rfl rfl)
theorem dL_law_1064 : decode cL_law 1064 = .ok (.iaload, 1) := dk_46 (dk_at dksL_law_39 16 rfl rfl)
theorem dL_law_1065 : decode cL_law 1065 = .ok (.invokevirtual 166, 3) := dk_182 0 166 (dk_at dksL_law_39 17 rfl rfl)
theorem dL_law_1068 : decode cL_law 1068 = .ok (.istore 6, 2) := dk_54 6 (dk_at dksL_law_39 20 rfl rfl)
theorem dL_law_1070 : decode cL_law 1070 = .ok (.aload_n 2, 1) := dk_44 (dk_at dksL_law_39 22 rfl rfl)
theorem dL_law_1071 : decode cL_law 1071 = .ok (.invokevirtual 129, 3) := dk_182 0 129 (dk_at dksL_law_40 0 rfl rfl)
theorem dL_law_1074 : decode cL_law 1074 = .ok (.iload 5, 2) := dk_21 5 (dk_at dksL_law_40 3 rfl rfl)
theorem dL_law_1076 : decode cL_law 1076 = .ok (.if_icmp .eq 5, 3) := dk_159 0 5 (dk_at dksL_law_40 5 rfl rfl)
theorem dL_law_1079 : decode cL_law 1079 = .ok (.iconst 0, 1) := dk_3 (dk_at dksL_law_40 8 rfl rfl)
theorem dL_law_1080 : decode cL_law 1080 = .ok (.ireturn, 1) := dk_172 (dk_at dksL_law_40 9 rfl rfl)
theorem dL_law_1081 : decode cL_law 1081 = .ok (.iload 5, 2) := dk_21 5 (dk_at dksL_law_40 10 rfl rfl)
theorem dL_law_1083 : decode cL_law 1083 = .ok (.ifCond .ne 15, 3) := dk_154 0 15 (dk_at dksL_law_40 12 rfl rfl)
theorem dL_law_1086 : decode cL_law 1086 = .ok (.aload_n 3, 1) := dk_45 (dk_at dksL_law_40 15 rfl rfl)
theorem dL_law_1087 : decode cL_law 1087 = .ok (.iconst 0, 1) := dk_3 (dk_at dksL_law_40 16 rfl rfl)
theorem dL_law_1088 : decode cL_law 1088 = .ok (.laload, 1) := dk_47 (dk_at dksL_law_40 17 rfl rfl)
theorem dL_law_1089 : decode cL_law 1089 = .ok (.iload 6, 2) := dk_21 6 (dk_at dksL_law_40 18 rfl rfl)
theorem dL_law_1091 : decode cL_law 1091 = .ok (.i2l, 1) := dk_133 (dk_at dksL_law_40 20 rfl rfl)
theorem dL_law_1092 : decode cL_law 1092 = .ok (.lcmp, 1) := dk_148 (dk_at dksL_law_40 21 rfl rfl)
theorem dL_law_1093 : decode cL_law 1093 = .ok (.ifCond .eq 5, 3) := dk_153 0 5 (dk_at dksL_law_41 0 rfl rfl)
theorem dL_law_1096 : decode cL_law 1096 = .ok (.iconst 0, 1) := dk_3 (dk_at dksL_law_41 3 rfl rfl)
theorem dL_law_1097 : decode cL_law 1097 = .ok (.ireturn, 1) := dk_172 (dk_at dksL_law_41 4 rfl rfl)
theorem dL_law_1098 : decode cL_law 1098 = .ok (.goto 1462, 3) := dk_167 5 182 (dk_at dksL_law_41 5 rfl rfl)
theorem dL_law_1101 : decode cL_law 1101 = .ok (.aload_n 1, 1) := dk_43 (dk_at dksL_law_41 8 rfl rfl)
theorem dL_law_1102 : decode cL_law 1102 = .ok (.aload_n 0, 1) := dk_42 (dk_at dksL_law_41 9 rfl rfl)
theorem dL_law_1103 : decode cL_law 1103 = .ok (.iload 4, 2) := dk_21 4 (dk_at dksL_law_41 10 rfl rfl)
theorem dL_law_1105 : decode cL_law 1105 = .ok (.iconst 1, 1) := dk_4 (dk_at dksL_law_41 12 rfl rfl)
theorem dL_law_1106 : decode cL_law 1106 = .ok (.iadd, 1) := dk_96 (dk_at dksL_law_41 13 rfl rfl)
theorem dL_law_1107 : decode cL_law 1107 = .ok (.iaload, 1) := dk_46 (dk_at dksL_law_41 14 rfl rfl)
theorem dL_law_1108 : decode cL_law 1108 = .ok (.aload_n 0, 1) := dk_42 (dk_at dksL_law_41 15 rfl rfl)
theorem dL_law_1109 : decode cL_law 1109 = .ok (.iload 4, 2) := dk_21 4 (dk_at dksL_law_41 16 rfl rfl)
theorem dL_law_1111 : decode cL_law 1111 = .ok (.iconst 2, 1) := dk_5 (dk_at dksL_law_41 18 rfl rfl)
theorem dL_law_1112 : decode cL_law 1112 = .ok (.iadd, 1) := dk_96 (dk_at dksL_law_41 19 rfl rfl)
theorem dL_law_1113 : decode cL_law 1113 = .ok (.iaload, 1) := dk_46 (dk_at dksL_law_41 20 rfl rfl)
theorem dL_law_1114 : decode cL_law 1114 = .ok (.aload_n 3, 1) := dk_45 (dk_at dksL_law_41 21 rfl rfl)
theorem dL_law_1115 : decode cL_law 1115 = .ok (.invokestatic 167, 3) := dk_184 0 167 (dk_at dksL_law_42 0 rfl rfl)
theorem dL_law_1118 : decode cL_law 1118 = .ok (.istore 5, 2) := dk_54 5 (dk_at dksL_law_42 3 rfl rfl)
theorem dL_law_1120 : decode cL_law 1120 = .ok (.aload_n 2, 1) := dk_44 (dk_at dksL_law_42 5 rfl rfl)
theorem dL_law_1121 : decode cL_law 1121 = .ok (.aload_n 0, 1) := dk_42 (dk_at dksL_law_42 6 rfl rfl)
theorem dL_law_1122 : decode cL_law 1122 = .ok (.iload 4, 2) := dk_21 4 (dk_at dksL_law_42 7 rfl rfl)
theorem dL_law_1124 : decode cL_law 1124 = .ok (.iconst 1, 1) := dk_4 (dk_at dksL_law_42 9 rfl rfl)
theorem dL_law_1125 : decode cL_law 1125 = .ok (.iadd, 1) := dk_96 (dk_at dksL_law_42 10 rfl rfl)
theorem dL_law_1126 : decode cL_law 1126 = .ok (.iaload, 1) := dk_46 (dk_at dksL_law_42 11 rfl rfl)
theorem dL_law_1127 : decode cL_law 1127 = .ok (.aload_n 0, 1) := dk_42 (dk_at dksL_law_42 12 rfl rfl)
theorem dL_law_1128 : decode cL_law 1128 = .ok (.iload 4, 2) := dk_21 4 (dk_at dksL_law_42 13 rfl rfl)
theorem dL_law_1130 : decode cL_law 1130 = .ok (.iconst 2, 1) := dk_5 (dk_at dksL_law_42 15 rfl rfl)
theorem dL_law_1131 : decode cL_law 1131 = .ok (.iadd, 1) := dk_96 (dk_at dksL_law_42 16 rfl rfl)
theorem dL_law_1132 : decode cL_law 1132 = .ok (.iaload, 1) := dk_46 (dk_at dksL_law_42 17 rfl rfl)
theorem dL_law_1133 : decode cL_law 1133 = .ok (.invokevirtual 169, 3) := dk_182 0 169 (dk_at dksL_law_42 18 rfl rfl)
theorem dL_law_1136 : decode cL_law 1136 = .ok (.istore 6, 2) := dk_54 6 (dk_at dksL_law_42 21 rfl rfl)
theorem dL_law_1138 : decode cL_law 1138 = .ok (.aload_n 2, 1) := dk_44 (dk_at dksL_law_42 23 rfl rfl)
theorem dL_law_1139 : decode cL_law 1139 = .ok (.invokevirtual 129, 3) := dk_182 0 129 (dk_at dksL_law_43 0 rfl rfl)
theorem dL_law_1142 : decode cL_law 1142 = .ok (.iload 5, 2) := dk_21 5 (dk_at dksL_law_43 3 rfl rfl)
theorem dL_law_1144 : decode cL_law 1144 = .ok (.if_icmp .eq 5, 3) := dk_159 0 5 (dk_at dksL_law_43 5 rfl rfl)
theorem dL_law_1147 : decode cL_law 1147 = .ok (.iconst 0, 1) := dk_3 (dk_at dksL_law_43 8 rfl rfl)
theorem dL_law_1148 : decode cL_law 1148 = .ok (.ireturn, 1) := dk_172 (dk_at dksL_law_43 9 rfl rfl)
theorem dL_law_1149 : decode cL_law 1149 = .ok (.iload 5, 2) := dk_21 5 (dk_at dksL_law_43 10 rfl rfl)
theorem dL_law_1151 : decode cL_law 1151 = .ok (.ifCond .ne 15, 3) := dk_154 0 15 (dk_at dksL_law_43 12 rfl rfl)
theorem dL_law_1154 : decode cL_law 1154 = .ok (.aload_n 3, 1) := dk_45 (dk_at dksL_law_43 15 rfl rfl)
theorem dL_law_1155 : decode cL_law 1155 = .ok (.iconst 0, 1) := dk_3 (dk_at dksL_law_43 16 rfl rfl)
theorem dL_law_1156 : decode cL_law 1156 = .ok (.laload, 1) := dk_47 (dk_at dksL_law_43 17 rfl rfl)
theorem dL_law_1157 : decode cL_law 1157 = .ok (.iload 6, 2) := dk_21 6 (dk_at dksL_law_43 18 rfl rfl)
theorem dL_law_1159 : decode cL_law 1159 = .ok (.i2l, 1) := dk_133 (dk_at dksL_law_43 20 rfl rfl)
theorem dL_law_1160 : decode cL_law 1160 = .ok (.lcmp, 1) := dk_148 (dk_at dksL_law_43 21 rfl rfl)
theorem dL_law_1161 : decode cL_law 1161 = .ok (.ifCond .eq 5, 3) := dk_153 0 5 (dk_at dksL_law_44 0 rfl rfl)
theorem dL_law_1164 : decode cL_law 1164 = .ok (.iconst 0, 1) := dk_3 (dk_at dksL_law_44 3 rfl rfl)
theorem dL_law_1165 : decode cL_law 1165 = .ok (.ireturn, 1) := dk_172 (dk_at dksL_law_44 4 rfl rfl)
theorem dL_law_1166 : decode cL_law 1166 = .ok (.goto 1394, 3) := dk_167 5 114 (dk_at dksL_law_44 5 rfl rfl)
theorem dL_law_1169 : decode cL_law 1169 = .ok (.aload_n 1, 1) := dk_43 (dk_at dksL_law_44 8 rfl rfl)
theorem dL_law_1170 : decode cL_law 1170 = .ok (.aload_n 0, 1) := dk_42 (dk_at dksL_law_44 9 rfl rfl)
theorem dL_law_1171 : decode cL_law 1171 = .ok (.iload 4, 2) := dk_21 4 (dk_at dksL_law_44 10 rfl rfl)
theorem dL_law_1173 : decode cL_law 1173 = .ok (.iconst 1, 1) := dk_4 (dk_at dksL_law_44 12 rfl rfl)
theorem dL_law_1174 : decode cL_law 1174 = .ok (.iadd, 1) := dk_96 (dk_at dksL_law_44 13 rfl rfl)
theorem dL_law_1175 : decode cL_law 1175 = .ok (.iaload, 1) := dk_46 (dk_at dksL_law_44 14 rfl rfl)
theorem dL_law_1176 : decode cL_law 1176 = .ok (.aload_n 0, 1) := dk_42 (dk_at dksL_law_44 15 rfl rfl)
theorem dL_law_1177 : decode cL_law 1177 = .ok (.iload 4, 2) := dk_21 4 (dk_at dksL_law_44 16 rfl rfl)
theorem dL_law_1179 : decode cL_law 1179 = .ok (.iconst 2, 1) := dk_5 (dk_at dksL_law_44 18 rfl rfl)
theorem dL_law_1180 : decode cL_law 1180 = .ok (.iadd, 1) := dk_96 (dk_at dksL_law_44 19 rfl rfl)
theorem dL_law_1181 : decode cL_law 1181 = .ok (.iaload, 1) := dk_46 (dk_at dksL_law_44 20 rfl rfl)
theorem dL_law_1182 : decode cL_law 1182 = .ok (.aload_n 0, 1) := dk_42 (dk_at dksL_law_44 21 rfl rfl)
theorem dL_law_1183 : decode cL_law 1183 = .ok (.iload 4, 2) := dk_21 4 (dk_at dksL_law_44 22 rfl rfl)
theorem dL_law_1185 : decode cL_law 1185 = .ok (.iconst 3, 1) := dk_6 (dk_at dksL_law_45 0 rfl rfl)
theorem dL_law_1186 : decode cL_law 1186 = .ok (.iadd, 1) := dk_96 (dk_at dksL_law_45 1 rfl rfl)
theorem dL_law_1187 : decode cL_law 1187 = .ok (.iaload, 1) := dk_46 (dk_at dksL_law_45 2 rfl rfl)
theorem dL_law_1188 : decode cL_law 1188 = .ok (.aload_n 3, 1) := dk_45 (dk_at dksL_law_45 3 rfl rfl)
theorem dL_law_1189 : decode cL_law 1189 = .ok (.invokestatic 170, 3) := dk_184 0 170 (dk_at dksL_law_45 4 rfl rfl)
theorem dL_law_1192 : decode cL_law 1192 = .ok (.istore 5, 2) := dk_54 5 (dk_at dksL_law_45 7 rfl rfl)
theorem dL_law_1194 : decode cL_law 1194 = .ok (.aload_n 2, 1) := dk_44 (dk_at dksL_law_45 9 rfl rfl)
theorem dL_law_1195 : decode cL_law 1195 = .ok (.aload_n 0, 1) := dk_42 (dk_at dksL_law_45 10 rfl rfl)
theorem dL_law_1196 : decode cL_law 1196 = .ok (.iload 4, 2) := dk_21 4 (dk_at dksL_law_45 11 rfl rfl)
theorem dL_law_1198 : decode cL_law 1198 = .ok (.iconst 1, 1) := dk_4 (dk_at dksL_law_45 13 rfl rfl)
theorem dL_law_1199 : decode cL_law 1199 = .ok (.iadd, 1) := dk_96 (dk_at dksL_law_45 14 rfl rfl)
theorem dL_law_1200 : decode cL_law 1200 = .ok (.iaload, 1) := dk_46 (dk_at dksL_law_45 15 rfl rfl)
theorem dL_law_1201 : decode cL_law 1201 = .ok (.aload_n 0, 1) := dk_42 (dk_at dksL_law_45 16 rfl rfl)
theorem dL_law_1202 : decode cL_law 1202 = .ok (.iload 4, 2) := dk_21 4 (dk_at dksL_law_45 17 rfl rfl)
theorem dL_law_1204 : decode cL_law 1204 = .ok (.iconst 2, 1) := dk_5 (dk_at dksL_law_45 19 rfl rfl)
theorem dL_law_1205 : decode cL_law 1205 = .ok (.iadd, 1) := dk_96 (dk_at dksL_law_45 20 rfl rfl)
theorem dL_law_1206 : decode cL_law 1206 = .ok (.iaload, 1) := dk_46 (dk_at dksL_law_45 21 rfl rfl)
theorem dL_law_1207 : decode cL_law 1207 = .ok (.aload_n 0, 1) := dk_42 (dk_at dksL_law_45 22 rfl rfl)
theorem dL_law_1208 : decode cL_law 1208 = .ok (.iload 4, 2) := dk_21 4 (dk_at dksL_law_46 0 rfl rfl)
theorem dL_law_1210 : decode cL_law 1210 = .ok (.iconst 3, 1) := dk_6 (dk_at dksL_law_46 2 rfl rfl)
theorem dL_law_1211 : decode cL_law 1211 = .ok (.iadd, 1) := dk_96 (dk_at dksL_law_46 3 rfl rfl)
theorem dL_law_1212 : decode cL_law 1212 = .ok (.iaload, 1) := dk_46 (dk_at dksL_law_46 4 rfl rfl)
theorem dL_law_1213 : decode cL_law 1213 = .ok (.invokevirtual 172, 3) := dk_182 0 172 (dk_at dksL_law_46 5 rfl rfl)
theorem dL_law_1216 : decode cL_law 1216 = .ok (.istore 6, 2) := dk_54 6 (dk_at dksL_law_46 8 rfl rfl)
theorem dL_law_1218 : decode cL_law 1218 = .ok (.aload_n 2, 1) := dk_44 (dk_at dksL_law_46 10 rfl rfl)
theorem dL_law_1219 : decode cL_law 1219 = .ok (.invokevirtual 129, 3) := dk_182 0 129 (dk_at dksL_law_46 11 rfl rfl)
theorem dL_law_1222 : decode cL_law 1222 = .ok (.iload 5, 2) := dk_21 5 (dk_at dksL_law_46 14 rfl rfl)
theorem dL_law_1224 : decode cL_law 1224 = .ok (.if_icmp .eq 5, 3) := dk_159 0 5 (dk_at dksL_law_46 16 rfl rfl)
theorem dL_law_1227 : decode cL_law 1227 = .ok (.iconst 0, 1) := dk_3 (dk_at dksL_law_46 19 rfl rfl)
theorem dL_law_1228 : decode cL_law 1228 = .ok (.ireturn, 1) := dk_172 (dk_at dksL_law_46 20 rfl rfl)
theorem dL_law_1229 : decode cL_law 1229 = .ok (.iload 5, 2) := dk_21 5 (dk_at dksL_law_46 21 rfl rfl)
theorem dL_law_1231 : decode cL_law 1231 = .ok (.ifCond .ne 15, 3) := dk_154 0 15 (dk_at dksL_law_47 0 rfl rfl)
theorem dL_law_1234 : decode cL_law 1234 = .ok (.aload_n 3, 1) := dk_45 (dk_at dksL_law_47 3 rfl rfl)
theorem dL_law_1235 : decode cL_law 1235 = .ok (.iconst 0, 1) := dk_3 (dk_at dksL_law_47 4 rfl rfl)
theorem dL_law_1236 : decode cL_law 1236 = .ok (.laload, 1) := dk_47 (dk_at dksL_law_47 5 rfl rfl)
theorem dL_law_1237 : decode cL_law 1237 = .ok (.iload 6, 2) := dk_21 6 (dk_at dksL_law_47 6 rfl rfl)
theorem dL_law_1239 : decode cL_law 1239 = .ok (.i2l, 1) := dk_133 (dk_at dksL_law_47 8 rfl rfl)
theorem dL_law_1240 : decode cL_law 1240 = .ok (.lcmp, 1) := dk_148 (dk_at dksL_law_47 9 rfl rfl)
theorem dL_law_1241 : decode cL_law 1241 = .ok (.ifCond .eq 5, 3) := dk_153 0 5 (dk_at dksL_law_47 10 rfl rfl)
theorem dL_law_1244 : decode cL_law 1244 = .ok (.iconst 0, 1) := dk_3 (dk_at dksL_law_47 13 rfl rfl)
theorem dL_law_1245 : decode cL_law 1245 = .ok (.ireturn, 1) := dk_172 (dk_at dksL_law_47 14 rfl rfl)
theorem dL_law_1246 : decode cL_law 1246 = .ok (.goto 1314, 3) := dk_167 5 34 (dk_at dksL_law_47 15 rfl rfl)
theorem dL_law_1249 : decode cL_law 1249 = .ok (.aload_n 1, 1) := dk_43 (dk_at dksL_law_47 18 rfl rfl)
theorem dL_law_1250 : decode cL_law 1250 = .ok (.aload_n 0, 1) := dk_42 (dk_at dksL_law_47 19 rfl rfl)
theorem dL_law_1251 : decode cL_law 1251 = .ok (.iload 4, 2) := dk_21 4 (dk_at dksL_law_47 20 rfl rfl)
theorem dL_law_1253 : decode cL_law 1253 = .ok (.iconst 1, 1) := dk_4 (dk_at dksL_law_47 22 rfl rfl)
theorem dL_law_1254 : decode cL_law 1254 = .ok (.iadd, 1) := dk_96 (dk_at dksL_law_47 23 rfl rfl)
theorem dL_law_1255 : decode cL_law 1255 = .ok (.iaload, 1) := dk_46 (dk_at dksL_law_48 0 rfl rfl)
theorem dL_law_1256 : decode cL_law 1256 = .ok (.aload_n 0, 1) := dk_42 (dk_at dksL_law_48 1 rfl rfl)
theorem dL_law_1257 : decode cL_law 1257 = .ok (.iload 4, 2) := dk_21 4 (dk_at dksL_law_48 2 rfl rfl)
theorem dL_law_1259 : decode cL_law 1259 = .ok (.iconst 2, 1) := dk_5 (dk_at dksL_law_48 4 rfl rfl)
theorem dL_law_1260 : decode cL_law 1260 = .ok (.iadd, 1) := dk_96 (dk_at dksL_law_48 5 rfl rfl)
theorem dL_law_1261 : decode cL_law 1261 = .ok (.iaload, 1) := dk_46 (dk_at dksL_law_48 6 rfl rfl)
theorem dL_law_1262 : decode cL_law 1262 = .ok (.aload_n 0, 1) := dk_42 (dk_at dksL_law_48 7 rfl rfl)
theorem dL_law_1263 : decode cL_law 1263 = .ok (.iload 4, 2) := dk_21 4 (dk_at dksL_law_48 8 rfl rfl)
theorem dL_law_1265 : decode cL_law 1265 = .ok (.iconst 3, 1) := dk_6 (dk_at dksL_law_48 10 rfl rfl)
theorem dL_law_1266 : decode cL_law 1266 = .ok (.iadd, 1) := dk_96 (dk_at dksL_law_48 11 rfl rfl)
theorem dL_law_1267 : decode cL_law 1267 = .ok (.iaload, 1) := dk_46 (dk_at dksL_law_48 12 rfl rfl)
theorem dL_law_1268 : decode cL_law 1268 = .ok (.aload_n 3, 1) := dk_45 (dk_at dksL_law_48 13 rfl rfl)
theorem dL_law_1269 : decode cL_law 1269 = .ok (.invokestatic 173, 3) := dk_184 0 173 (dk_at dksL_law_48 14 rfl rfl)
theorem dL_law_1272 : decode cL_law 1272 = .ok (.istore 5, 2) := dk_54 5 (dk_at dksL_law_48 17 rfl rfl)
theorem dL_law_1274 : decode cL_law 1274 = .ok (.aload_n 2, 1) := dk_44 (dk_at dksL_law_48 19 rfl rfl)
theorem dL_law_1275 : decode cL_law 1275 = .ok (.aload_n 0, 1) := dk_42 (dk_at dksL_law_48 20 rfl rfl)
theorem dL_law_1276 : decode cL_law 1276 = .ok (.iload 4, 2) := dk_21 4 (dk_at dksL_law_48 21 rfl rfl)
theorem dL_law_1278 : decode cL_law 1278 = .ok (.iconst 1, 1) := dk_4 (dk_at dksL_law_48 23 rfl rfl)
theorem dL_law_1279 : decode cL_law 1279 = .ok (.iadd, 1) := dk_96 (dk_at dksL_law_49 0 rfl rfl)
theorem dL_law_1280 : decode cL_law 1280 = .ok (.iaload, 1) := dk_46 (dk_at dksL_law_49 1 rfl rfl)
theorem dL_law_1281 : decode cL_law 1281 = .ok (.aload_n 0, 1) := dk_42 (dk_at dksL_law_49 2 rfl rfl)
theorem dL_law_1282 : decode cL_law 1282 = .ok (.iload 4, 2) := dk_21 4 (dk_at dksL_law_49 3 rfl rfl)
theorem dL_law_1284 : decode cL_law 1284 = .ok (.iconst 2, 1) := dk_5 (dk_at dksL_law_49 5 rfl rfl)
theorem dL_law_1285 : decode cL_law 1285 = .ok (.iadd, 1) := dk_96 (dk_at dksL_law_49 6 rfl rfl)
theorem dL_law_1286 : decode cL_law 1286 = .ok (.iaload, 1) := dk_46 (dk_at dksL_law_49 7 rfl rfl)
theorem dL_law_1287 : decode cL_law 1287 = .ok (.aload_n 0, 1) := dk_42 (dk_at dksL_law_49 8 rfl rfl)
theorem dL_law_1288 : decode cL_law 1288 = .ok (.iload 4, 2) := dk_21 4 (dk_at dksL_law_49 9 rfl rfl)
theorem dL_law_1290 : decode cL_law 1290 = .ok (.iconst 3, 1) := dk_6 (dk_at dksL_law_49 11 rfl rfl)
theorem dL_law_1291 : decode cL_law 1291 = .ok (.iadd, 1) := dk_96 (dk_at dksL_law_49 12 rfl rfl)
theorem dL_law_1292 : decode cL_law 1292 = .ok (.iaload, 1) := dk_46 (dk_at dksL_law_49 13 rfl rfl)
theorem dL_law_1293 : decode cL_law 1293 = .ok (.invokevirtual 175, 3) := dk_182 0 175 (dk_at dksL_law_49 14 rfl rfl)
theorem dL_law_1296 : decode cL_law 1296 = .ok (.istore 6, 2) := dk_54 6 (dk_at dksL_law_49 17 rfl rfl)
theorem dL_law_1298 : decode cL_law 1298 = .ok (.aload_n 2, 1) := dk_44 (dk_at dksL_law_49 19 rfl rfl)
theorem dL_law_1299 : decode cL_law 1299 = .ok (.invokevirtual 129, 3) := dk_182 0 129 (dk_at dksL_law_49 20 rfl rfl)
theorem dL_law_1302 : decode cL_law 1302 = .ok (.iload 5, 2) := dk_21 5 (dk_at dksL_law_50 0 rfl rfl)
theorem dL_law_1304 : decode cL_law 1304 = .ok (.if_icmp .eq 5, 3) := dk_159 0 5 (dk_at dksL_law_50 2 rfl rfl)
theorem dL_law_1307 : decode cL_law 1307 = .ok (.iconst 0, 1) := dk_3 (dk_at dksL_law_50 5 rfl rfl)
theorem dL_law_1308 : decode cL_law 1308 = .ok (.ireturn, 1) := dk_172 (dk_at dksL_law_50 6 rfl rfl)
theorem dL_law_1309 : decode cL_law 1309 = .ok (.iload 5, 2) := dk_21 5 (dk_at dksL_law_50 7 rfl rfl)
theorem dL_law_1311 : decode cL_law 1311 = .ok (.ifCond .ne 15, 3) := dk_154 0 15 (dk_at dksL_law_50 9 rfl rfl)
theorem dL_law_1314 : decode cL_law 1314 = .ok (.aload_n 3, 1) := dk_45 (dk_at dksL_law_50 12 rfl rfl)
theorem dL_law_1315 : decode cL_law 1315 = .ok (.iconst 0, 1) := dk_3 (dk_at dksL_law_50 13 rfl rfl)
theorem dL_law_1316 : decode cL_law 1316 = .ok (.laload, 1) := dk_47 (dk_at dksL_law_50 14 rfl rfl)
theorem dL_law_1317 : decode cL_law 1317 = .ok (.iload 6, 2) := dk_21 6 (dk_at dksL_law_50 15 rfl rfl)
theorem dL_law_1319 : decode cL_law 1319 = .ok (.i2l, 1) := dk_133 (dk_at dksL_law_50 17 rfl rfl)
theorem dL_law_1320 : decode cL_law 1320 = .ok (.lcmp, 1) := dk_148 (dk_at dksL_law_50 18 rfl rfl)
theorem dL_law_1321 : decode cL_law 1321 = .ok (.ifCond .eq 5, 3) := dk_153 0 5 (dk_at dksL_law_50 19 rfl rfl)
theorem dL_law_1324 : decode cL_law 1324 = .ok (.iconst 0, 1) := dk_3 (dk_at dksL_law_50 22 rfl rfl)
theorem dL_law_1325 : decode cL_law 1325 = .ok (.ireturn, 1) := dk_172 (dk_at dksL_law_50 23 rfl rfl)
theorem dL_law_1326 : decode cL_law 1326 = .ok (.goto 1234, 3) := dk_167 4 210 (dk_at dksL_law_51 0 rfl rfl)
theorem dL_law_1329 : decode cL_law 1329 = .ok (.aload_n 1, 1) := dk_43 (dk_at dksL_law_51 3 rfl rfl)
theorem dL_law_1330 : decode cL_law 1330 = .ok (.aload_n 0, 1) := dk_42 (dk_at dksL_law_51 4 rfl rfl)
theorem dL_law_1331 : decode cL_law 1331 = .ok (.iload 4, 2) := dk_21 4 (dk_at dksL_law_51 5 rfl rfl)
theorem dL_law_1333 : decode cL_law 1333 = .ok (.iconst 1, 1) := dk_4 (dk_at dksL_law_51 7 rfl rfl)
theorem dL_law_1334 : decode cL_law 1334 = .ok (.iadd, 1) := dk_96 (dk_at dksL_law_51 8 rfl rfl)
theorem dL_law_1335 : decode cL_law 1335 = .ok (.iaload, 1) := dk_46 (dk_at dksL_law_51 9 rfl rfl)
theorem dL_law_1336 : decode cL_law 1336 = .ok (.aload_n 0, 1) := dk_42 (dk_at dksL_law_51 10 rfl rfl)
theorem dL_law_1337 : decode cL_law 1337 = .ok (.iload 4, 2) := dk_21 4 (dk_at dksL_law_51 11 rfl rfl)
theorem dL_law_1339 : decode cL_law 1339 = .ok (.iconst 2, 1) := dk_5 (dk_at dksL_law_51 13 rfl rfl)
theorem dL_law_1340 : decode cL_law 1340 = .ok (.iadd, 1) := dk_96 (dk_at dksL_law_51 14 rfl rfl)
theorem dL_law_1341 : decode cL_law 1341 = .ok (.iaload, 1) := dk_46 (dk_at dksL_law_51 15 rfl rfl)
theorem dL_law_1342 : decode cL_law 1342 = .ok (.aload_n 0, 1) := dk_42 (dk_at dksL_law_51 16 rfl rfl)
theorem dL_law_1343 : decode cL_law 1343 = .ok (.iload 4, 2) := dk_21 4 (dk_at dksL_law_51 17 rfl rfl)
theorem dL_law_1345 : decode cL_law 1345 = .ok (.iconst 3, 1) := dk_6 (dk_at dksL_law_51 19 rfl rfl)
theorem dL_law_1346 : decode cL_law 1346 = .ok (.iadd, 1) := dk_96 (dk_at dksL_law_51 20 rfl rfl)
theorem dL_law_1347 : decode cL_law 1347 = .ok (.iaload, 1) := dk_46 (dk_at dksL_law_51 21 rfl rfl)
theorem dL_law_1348 : decode cL_law 1348 = .ok (.aload_n 0, 1) := dk_42 (dk_at dksL_law_51 22 rfl rfl)
theorem dL_law_1349 : decode cL_law 1349 = .ok (.iload 4, 2) := dk_21 4 (dk_at dksL_law_52 0 rfl rfl)
theorem dL_law_1351 : decode cL_law 1351 = .ok (.iconst 4, 1) := dk_7 (dk_at dksL_law_52 2 rfl rfl)
theorem dL_law_1352 : decode cL_law 1352 = .ok (.iadd, 1) := dk_96 (dk_at dksL_law_52 3 rfl rfl)
theorem dL_law_1353 : decode cL_law 1353 = .ok (.iaload, 1) := dk_46 (dk_at dksL_law_52 4 rfl rfl)
theorem dL_law_1354 : decode cL_law 1354 = .ok (.aload_n 3, 1) := dk_45 (dk_at dksL_law_52 5 rfl rfl)
theorem dL_law_1355 : decode cL_law 1355 = .ok (.invokestatic 176, 3) := dk_184 0 176 (dk_at dksL_law_52 6 rfl rfl)
theorem dL_law_1358 : decode cL_law 1358 = .ok (.istore 5, 2) := dk_54 5 (dk_at dksL_law_52 9 rfl rfl)
theorem dL_law_1360 : decode cL_law 1360 = .ok (.aload_n 2, 1) := dk_44 (dk_at dksL_law_52 11 rfl rfl)
theorem dL_law_1361 : decode cL_law 1361 = .ok (.aload_n 0, 1) := dk_42 (dk_at dksL_law_52 12 rfl rfl)
theorem dL_law_1362 : decode cL_law 1362 = .ok (.iload 4, 2) := dk_21 4 (dk_at dksL_law_52 13 rfl rfl)
theorem dL_law_1364 : decode cL_law 1364 = .ok (.iconst 1, 1) := dk_4 (dk_at dksL_law_52 15 rfl rfl)
theorem dL_law_1365 : decode cL_law 1365 = .ok (.iadd, 1) := dk_96 (dk_at dksL_law_52 16 rfl rfl)
theorem dL_law_1366 : decode cL_law 1366 = .ok (.iaload, 1) := dk_46 (dk_at dksL_law_52 17 rfl rfl)
theorem dL_law_1367 : decode cL_law 1367 = .ok (.aload_n 0, 1) := dk_42 (dk_at dksL_law_52 18 rfl rfl)
theorem dL_law_1368 : decode cL_law 1368 = .ok (.iload 4, 2) := dk_21 4 (dk_at dksL_law_52 19 rfl rfl)
theorem dL_law_1370 : decode cL_law 1370 = .ok (.iconst 2, 1) := dk_5 (dk_at dksL_law_52 21 rfl rfl)
theorem dL_law_1371 : decode cL_law 1371 = .ok (.iadd, 1) := dk_96 (dk_at dksL_law_52 22 rfl rfl)
theorem dL_law_1372 : decode cL_law 1372 = .ok (.iaload, 1) := dk_46 (dk_at dksL_law_52 23 rfl rfl)
theorem dL_law_1373 : decode cL_law 1373 = .ok (.aload_n 0, 1) := dk_42 (dk_at dksL_law_53 0 rfl rfl)
theorem dL_law_1374 : decode cL_law 1374 = .ok (.iload 4, 2) := dk_21 4 (dk_at dksL_law_53 1 rfl rfl)
theorem dL_law_1376 : decode cL_law 1376 = .ok (.iconst 3, 1) := dk_6 (dk_at dksL_law_53 3 rfl rfl)
theorem dL_law_1377 : decode cL_law 1377 = .ok (.iadd, 1) := dk_96 (dk_at dksL_law_53 4 rfl rfl)
theorem dL_law_1378 : decode cL_law 1378 = .ok (.iaload, 1) := dk_46 (dk_at dksL_law_53 5 rfl rfl)
theorem dL_law_1379 : decode cL_law 1379 = .ok (.aload_n 0, 1) := dk_42 (dk_at dksL_law_53 6 rfl rfl)
theorem dL_law_1380 : decode cL_law 1380 = .ok (.iload 4, 2) := dk_21 4 (dk_at dksL_law_53 7 rfl rfl)
theorem dL_law_1382 : decode cL_law 1382 = .ok (.iconst 4, 1) := dk_7 (dk_at dksL_law_53 9 rfl rfl)
theorem dL_law_1383 : decode cL_law 1383 = .ok (.iadd, 1) := dk_96 (dk_at dksL_law_53 10 rfl rfl)
theorem dL_law_1384 : decode cL_law 1384 = .ok (.iaload, 1) := dk_46 (dk_at dksL_law_53 11 rfl rfl)
theorem dL_law_1385 : decode cL_law 1385 = .ok (.invokevirtual 178, 3) := dk_182 0 178 (dk_at dksL_law_53 12 rfl rfl)
theorem dL_law_1388 : decode cL_law 1388 = .ok (.istore 6, 2) := dk_54 6 (dk_at dksL_law_53 15 rfl rfl)
theorem dL_law_1390 : decode cL_law 1390 = .ok (.aload_n 2, 1) := dk_44 (dk_at dksL_law_53 17 rfl rfl)
theorem dL_law_1391 : decode cL_law 1391 = .ok (.invokevirtual 129, 3) := dk_182 0 129 (dk_at dksL_law_53 18 rfl rfl)
theorem dL_law_1394 : decode cL_law 1394 = .ok (.iload 5, 2) := dk_21 5 (dk_at dksL_law_53 21 rfl rfl)
theorem dL_law_1396 : decode cL_law 1396 = .ok (.if_icmp .eq 5, 3) := dk_159 0 5 (dk_at dksL_law_54 0 rfl rfl)
theorem dL_law_1399 : decode cL_law 1399 = .ok (.iconst 0, 1) := dk_3 (dk_at dksL_law_54 3 rfl rfl)
theorem dL_law_1400 : decode cL_law 1400 = .ok (.ireturn, 1) := dk_172 (dk_at dksL_law_54 4 rfl rfl)
theorem dL_law_1401 : decode cL_law 1401 = .ok (.iload 5, 2) := dk_21 5 (dk_at dksL_law_54 5 rfl rfl)
theorem dL_law_1403 : decode cL_law 1403 = .ok (.ifCond .ne 15, 3) := dk_154 0 15 (dk_at dksL_law_54 7 rfl rfl)
theorem dL_law_1406 : decode cL_law 1406 = .ok (.aload_n 3, 1) := dk_45 (dk_at dksL_law_54 10 rfl rfl)
theorem dL_law_1407 : decode cL_law 1407 = .ok (.iconst 0, 1) := dk_3 (dk_at dksL_law_54 11 rfl rfl)
theorem dL_law_1408 : decode cL_law 1408 = .ok (.laload, 1) := dk_47 (dk_at dksL_law_54 12 rfl rfl)
theorem dL_law_1409 : decode cL_law 1409 = .ok (.iload 6, 2) := dk_21 6 (dk_at dksL_law_54 13 rfl rfl)
theorem dL_law_1411 : decode cL_law 1411 = .ok (.i2l, 1) := dk_133 (dk_at dksL_law_54 15 rfl rfl)
theorem dL_law_1412 : decode cL_law 1412 = .ok (.lcmp, 1) := dk_148 (dk_at dksL_law_54 16 rfl rfl)
theorem dL_law_1413 : decode cL_law 1413 = .ok (.ifCond .eq 5, 3) := dk_153 0 5 (dk_at dksL_law_54 17 rfl rfl)
theorem dL_law_1416 : decode cL_law 1416 = .ok (.iconst 0, 1) := dk_3 (dk_at dksL_law_54 20 rfl rfl)
theorem dL_law_1417 : decode cL_law 1417 = .ok (.ireturn, 1) := dk_172 (dk_at dksL_law_54 21 rfl rfl)
theorem dL_law_1418 : decode cL_law 1418 = .ok (.goto 1142, 3) := dk_167 4 118 (dk_at dksL_law_55 0 rfl rfl)
theorem dL_law_1421 : decode cL_law 1421 = .ok (.aload_n 1, 1) := dk_43 (dk_at dksL_law_55 3 rfl rfl)
theorem dL_law_1422 : decode cL_law 1422 = .ok (.aload_n 0, 1) := dk_42 (dk_at dksL_law_55 4 rfl rfl)
theorem dL_law_1423 : decode cL_law 1423 = .ok (.iload 4, 2) := dk_21 4 (dk_at dksL_law_55 5 rfl rfl)
theorem dL_law_1425 : decode cL_law 1425 = .ok (.iconst 1, 1) := dk_4 (dk_at dksL_law_55 7 rfl rfl)
theorem dL_law_1426 : decode cL_law 1426 = .ok (.iadd, 1) := dk_96 (dk_at dksL_law_55 8 rfl rfl)
theorem dL_law_1427 : decode cL_law 1427 = .ok (.iaload, 1) := dk_46 (dk_at dksL_law_55 9 rfl rfl)
theorem dL_law_1428 : decode cL_law 1428 = .ok (.aload_n 0, 1) := dk_42 (dk_at dksL_law_55 10 rfl rfl)
theorem dL_law_1429 : decode cL_law 1429 = .ok (.iload 4, 2) := dk_21 4 (dk_at dksL_law_55 11 rfl rfl)
theorem dL_law_1431 : decode cL_law 1431 = .ok (.iconst 2, 1) := dk_5 (dk_at dksL_law_55 13 rfl rfl)
theorem dL_law_1432 : decode cL_law 1432 = .ok (.iadd, 1) := dk_96 (dk_at dksL_law_55 14 rfl rfl)
theorem dL_law_1433 : decode cL_law 1433 = .ok (.iaload, 1) := dk_46 (dk_at dksL_law_55 15 rfl rfl)
theorem dL_law_1434 : decode cL_law 1434 = .ok (.aload_n 3, 1) := dk_45 (dk_at dksL_law_55 16 rfl rfl)
theorem dL_law_1435 : decode cL_law 1435 = .ok (.invokestatic 179, 3) := dk_184 0 179 (dk_at dksL_law_55 17 rfl rfl)
theorem dL_law_1438 : decode cL_law 1438 = .ok (.istore 5, 2) := dk_54 5 (dk_at dksL_law_55 20 rfl rfl)
theorem dL_law_1440 : decode cL_law 1440 = .ok (.aload_n 2, 1) := dk_44 (dk_at dksL_law_55 22 rfl rfl)
theorem dL_law_1441 : decode cL_law 1441 = .ok (.aload_n 0, 1) := dk_42 (dk_at dksL_law_55 23 rfl rfl)
theorem dL_law_1442 : decode cL_law 1442 = .ok (.iload 4, 2) := dk_21 4 (dk_at dksL_law_56 0 rfl rfl)
theorem dL_law_1444 : decode cL_law 1444 = .ok (.iconst 1, 1) := dk_4 (dk_at dksL_law_56 2 rfl rfl)
theorem dL_law_1445 : decode cL_law 1445 = .ok (.iadd, 1) := dk_96 (dk_at dksL_law_56 3 rfl rfl)
theorem dL_law_1446 : decode cL_law 1446 = .ok (.iaload, 1) := dk_46 (dk_at dksL_law_56 4 rfl rfl)
theorem dL_law_1447 : decode cL_law 1447 = .ok (.aload_n 0, 1) := dk_42 (dk_at dksL_law_56 5 rfl rfl)
theorem dL_law_1448 : decode cL_law 1448 = .ok (.iload 4, 2) := dk_21 4 (dk_at dksL_law_56 6 rfl rfl)
theorem dL_law_1450 : decode cL_law 1450 = .ok (.iconst 2, 1) := dk_5 (dk_at dksL_law_56 8 rfl rfl)
theorem dL_law_1451 : decode cL_law 1451 = .ok (.iadd, 1) := dk_96 (dk_at dksL_law_56 9 rfl rfl)
theorem dL_law_1452 : decode cL_law 1452 = .ok (.iaload, 1) := dk_46 (dk_at dksL_law_56 10 rfl rfl)
theorem dL_law_1453 : decode cL_law 1453 = .ok (.invokevirtual 181, 3) := dk_182 0 181 (dk_at dksL_law_56 11 rfl rfl)
theorem dL_law_1456 : decode cL_law 1456 = .ok (.istore 6, 2) := dk_54 6 (dk_at dksL_law_56 14 rfl rfl)
theorem dL_law_1458 : decode cL_law 1458 = .ok (.aload_n 2, 1) := dk_44 (dk_at dksL_law_56 16 rfl rfl)
theorem dL_law_1459 : decode cL_law 1459 = .ok (.invokevirtual 129, 3) := dk_182 0 129 (dk_at dksL_law_56 17 rfl rfl)
theorem dL_law_1462 : decode cL_law 1462 = .ok (.iload 5, 2) := dk_21 5 (dk_at dksL_law_56 20 rfl rfl)
theorem dL_law_1464 : decode cL_law 1464 = .ok (.if_icmp .eq 5, 3) := dk_159 0 5 (dk_at dksL_law_57 0 rfl rfl)
theorem dL_law_1467 : decode cL_law 1467 = .ok (.iconst 0, 1) := dk_3 (dk_at dksL_law_57 3 rfl rfl)
theorem dL_law_1468 : decode cL_law 1468 = .ok (.ireturn, 1) := dk_172 (dk_at dksL_law_57 4 rfl rfl)
theorem dL_law_1469 : decode cL_law 1469 = .ok (.iload 5, 2) := dk_21 5 (dk_at dksL_law_57 5 rfl rfl)
theorem dL_law_1471 : decode cL_law 1471 = .ok (.ifCond .ne 15, 3) := dk_154 0 15 (dk_at dksL_law_57 7 rfl rfl)
theorem dL_law_1474 : decode cL_law 1474 = .ok (.aload_n 3, 1) := dk_45 (dk_at dksL_law_57 10 rfl rfl)
theorem dL_law_1475 : decode cL_law 1475 = .ok (.iconst 0, 1) := dk_3 (dk_at dksL_law_57 11 rfl rfl)
theorem dL_law_1476 : decode cL_law 1476 = .ok (.laload, 1) := dk_47 (dk_at dksL_law_57 12 rfl rfl)
theorem dL_law_1477 : decode cL_law 1477 = .ok (.iload 6, 2) := dk_21 6 (dk_at dksL_law_57 13 rfl rfl)
theorem dL_law_1479 : decode cL_law 1479 = .ok (.i2l, 1) := dk_133 (dk_at dksL_law_57 15 rfl rfl)
theorem dL_law_1480 : decode cL_law 1480 = .ok (.lcmp, 1) := dk_148 (dk_at dksL_law_57 16 rfl rfl)
theorem dL_law_1481 : decode cL_law 1481 = .ok (.ifCond .eq 5, 3) := dk_153 0 5 (dk_at dksL_law_57 17 rfl rfl)
theorem dL_law_1484 : decode cL_law 1484 = .ok (.iconst 0, 1) := dk_3 (dk_at dksL_law_57 20 rfl rfl)
theorem dL_law_1485 : decode cL_law 1485 = .ok (.ireturn, 1) := dk_172 (dk_at dksL_law_57 21 rfl rfl)
theorem dL_law_1486 : decode cL_law 1486 = .ok (.goto 1074, 3) := dk_167 4 50 (dk_at dksL_law_58 0 rfl rfl)
theorem dL_law_1489 : decode cL_law 1489 = .ok (.aload_n 1, 1) := dk_43 (dk_at dksL_law_58 3 rfl rfl)
theorem dL_law_1490 : decode cL_law 1490 = .ok (.invokevirtual 182, 3) := dk_182 0 182 (dk_at dksL_law_58 4 rfl rfl)
theorem dL_law_1493 : decode cL_law 1493 = .ok (.aload_n 2, 1) := dk_44 (dk_at dksL_law_58 7 rfl rfl)
theorem dL_law_1494 : decode cL_law 1494 = .ok (.invokevirtual 185, 3) := dk_182 0 185 (dk_at dksL_law_58 8 rfl rfl)
theorem dL_law_1497 : decode cL_law 1497 = .ok (.if_icmp .eq 1063, 3) := dk_159 4 39 (dk_at dksL_law_58 11 rfl rfl)
theorem dL_law_1500 : decode cL_law 1500 = .ok (.iconst 0, 1) := dk_3 (dk_at dksL_law_58 14 rfl rfl)
theorem dL_law_1501 : decode cL_law 1501 = .ok (.ireturn, 1) := dk_172 (dk_at dksL_law_58 15 rfl rfl)
theorem dL_law_1502 : decode cL_law 1502 = .ok (.aload_n 1, 1) := dk_43 (dk_at dksL_law_58 16 rfl rfl)
theorem dL_law_1503 : decode cL_law 1503 = .ok (.invokevirtual 186, 3) := dk_182 0 186 (dk_at dksL_law_58 17 rfl rfl)
theorem dL_law_1506 : decode cL_law 1506 = .ok (.aload_n 2, 1) := dk_44 (dk_at dksL_law_58 20 rfl rfl)
theorem dL_law_1507 : decode cL_law 1507 = .ok (.invokevirtual 189, 3) := dk_182 0 189 (dk_at dksL_law_58 21 rfl rfl)
theorem dL_law_1510 : decode cL_law 1510 = .ok (.if_icmp .eq 1050, 3) := dk_159 4 26 (dk_at dksL_law_59 0 rfl rfl)
theorem dL_law_1513 : decode cL_law 1513 = .ok (.iconst 0, 1) := dk_3 (dk_at dksL_law_59 3 rfl rfl)
theorem dL_law_1514 : decode cL_law 1514 = .ok (.ireturn, 1) := dk_172 (dk_at dksL_law_59 4 rfl rfl)
theorem dL_law_1515 : decode cL_law 1515 = .ok (.aload_n 1, 1) := dk_43 (dk_at dksL_law_59 5 rfl rfl)
theorem dL_law_1516 : decode cL_law 1516 = .ok (.aload_n 0, 1) := dk_42 (dk_at dksL_law_59 6 rfl rfl)
theorem dL_law_1517 : decode cL_law 1517 = .ok (.iload 4, 2) := dk_21 4 (dk_at dksL_law_59 7 rfl rfl)
theorem dL_law_1519 : decode cL_law 1519 = .ok (.iconst 1, 1) := dk_4 (dk_at dksL_law_59 9 rfl rfl)
theorem dL_law_1520 : decode cL_law 1520 = .ok (.iadd, 1) := dk_96 (dk_at dksL_law_59 10 rfl rfl)
theorem dL_law_1521 : decode cL_law 1521 = .ok (.iaload, 1) := dk_46 (dk_at dksL_law_59 11 rfl rfl)
theorem dL_law_1522 : decode cL_law 1522 = .ok (.aload_n 3, 1) := dk_45 (dk_at dksL_law_59 12 rfl rfl)
theorem dL_law_1523 : decode cL_law 1523 = .ok (.invokestatic 190, 3) := dk_184 0 190 (dk_at dksL_law_59 13 rfl rfl)
theorem dL_law_1526 : decode cL_law 1526 = .ok (.istore 5, 2) := dk_54 5 (dk_at dksL_law_59 16 rfl rfl)
theorem dL_law_1528 : decode cL_law 1528 = .ok (.aload_n 2, 1) := dk_44 (dk_at dksL_law_59 18 rfl rfl)
theorem dL_law_1529 : decode cL_law 1529 = .ok (.aload_n 0, 1) := dk_42 (dk_at dksL_law_59 19 rfl rfl)
theorem dL_law_1530 : decode cL_law 1530 = .ok (.iload 4, 2) := dk_21 4 (dk_at dksL_law_59 20 rfl rfl)
theorem dL_law_1532 : decode cL_law 1532 = .ok (.iconst 1, 1) := dk_4 (dk_at dksL_law_59 22 rfl rfl)
theorem dL_law_1533 : decode cL_law 1533 = .ok (.iadd, 1) := dk_96 (dk_at dksL_law_59 23 rfl rfl)
theorem dL_law_1534 : decode cL_law 1534 = .ok (.iaload, 1) := dk_46 (dk_at dksL_law_60 0 rfl rfl)
theorem dL_law_1535 : decode cL_law 1535 = .ok (.invokevirtual 192, 3) := dk_182 0 192 (dk_at dksL_law_60 1 rfl rfl)
theorem dL_law_1538 : decode cL_law 1538 = .ok (.istore 6, 2) := dk_54 6 (dk_at dksL_law_60 4 rfl rfl)
theorem dL_law_1540 : decode cL_law 1540 = .ok (.aload_n 2, 1) := dk_44 (dk_at dksL_law_60 6 rfl rfl)
theorem dL_law_1541 : decode cL_law 1541 = .ok (.invokevirtual 129, 3) := dk_182 0 129 (dk_at dksL_law_60 7 rfl rfl)
theorem dL_law_1544 : decode cL_law 1544 = .ok (.iload 5, 2) := dk_21 5 (dk_at dksL_law_60 10 rfl rfl)
theorem dL_law_1546 : decode cL_law 1546 = .ok (.if_icmp .eq 5, 3) := dk_159 0 5 (dk_at dksL_law_60 12 rfl rfl)
theorem dL_law_1549 : decode cL_law 1549 = .ok (.iconst 0, 1) := dk_3 (dk_at dksL_law_60 15 rfl rfl)
theorem dL_law_1550 : decode cL_law 1550 = .ok (.ireturn, 1) := dk_172 (dk_at dksL_law_60 16 rfl rfl)
theorem dL_law_1551 : decode cL_law 1551 = .ok (.iload 5, 2) := dk_21 5 (dk_at dksL_law_60 17 rfl rfl)
theorem dL_law_1553 : decode cL_law 1553 = .ok (.ifCond .ne 15, 3) := dk_154 0 15 (dk_at dksL_law_60 19 rfl rfl)
theorem dL_law_1556 : decode cL_law 1556 = .ok (.aload_n 3, 1) := dk_45 (dk_at dksL_law_60 22 rfl rfl)
theorem dL_law_1557 : decode cL_law 1557 = .ok (.iconst 0, 1) := dk_3 (dk_at dksL_law_60 23 rfl rfl)
theorem dL_law_1558 : decode cL_law 1558 = .ok (.laload, 1) := dk_47 (dk_at dksL_law_61 0 rfl rfl)
theorem dL_law_1559 : decode cL_law 1559 = .ok (.iload 6, 2) := dk_21 6 (dk_at dksL_law_61 1 rfl rfl)
theorem dL_law_1561 : decode cL_law 1561 = .ok (.i2l, 1) := dk_133 (dk_at dksL_law_61 3 rfl rfl)
theorem dL_law_1562 : decode cL_law 1562 = .ok (.lcmp, 1) := dk_148 (dk_at dksL_law_61 4 rfl rfl)
theorem dL_law_1563 : decode cL_law 1563 = .ok (.ifCond .eq 5, 3) := dk_153 0 5 (dk_at dksL_law_61 5 rfl rfl)
theorem dL_law_1566 : decode cL_law 1566 = .ok (.iconst 0, 1) := dk_3 (dk_at dksL_law_61 8 rfl rfl)
theorem dL_law_1567 : decode cL_law 1567 = .ok (.ireturn, 1) := dk_172 (dk_at dksL_law_61 9 rfl rfl)
theorem dL_law_1568 : decode cL_law 1568 = .ok (.goto 992, 3) := dk_167 3 224 (dk_at dksL_law_61 10 rfl rfl)
theorem dL_law_1571 : decode cL_law 1571 = .ok (.aload_n 1, 1) := dk_43 (dk_at dksL_law_61 13 rfl rfl)
theorem dL_law_1572 : decode cL_law 1572 = .ok (.aload_n 0, 1) := dk_42 (dk_at dksL_law_61 14 rfl rfl)
theorem dL_law_1573 : decode cL_law 1573 = .ok (.iload 4, 2) := dk_21 4 (dk_at dksL_law_61 15 rfl rfl)
theorem dL_law_1575 : decode cL_law 1575 = .ok (.iconst 1, 1) := dk_4 (dk_at dksL_law_61 17 rfl rfl)
theorem dL_law_1576 : decode cL_law 1576 = .ok (.iadd, 1) := dk_96 (dk_at dksL_law_61 18 rfl rfl)
theorem dL_law_1577 : decode cL_law 1577 = .ok (.iaload, 1) := dk_46 (dk_at dksL_law_61 19 rfl rfl)
theorem dL_law_1578 : decode cL_law 1578 = .ok (.aload_n 0, 1) := dk_42 (dk_at dksL_law_61 20 rfl rfl)
theorem dL_law_1579 : decode cL_law 1579 = .ok (.iload 4, 2) := dk_21 4 (dk_at dksL_law_61 21 rfl rfl)
theorem dL_law_1581 : decode cL_law 1581 = .ok (.iconst 2, 1) := dk_5 (dk_at dksL_law_61 23 rfl rfl)
theorem dL_law_1582 : decode cL_law 1582 = .ok (.iadd, 1) := dk_96 (dk_at dksL_law_62 0 rfl rfl)
theorem dL_law_1583 : decode cL_law 1583 = .ok (.iaload, 1) := dk_46 (dk_at dksL_law_62 1 rfl rfl)
theorem dL_law_1584 : decode cL_law 1584 = .ok (.aload_n 3, 1) := dk_45 (dk_at dksL_law_62 2 rfl rfl)
theorem dL_law_1585 : decode cL_law 1585 = .ok (.invokestatic 193, 3) := dk_184 0 193 (dk_at dksL_law_62 3 rfl rfl)
theorem dL_law_1588 : decode cL_law 1588 = .ok (.istore 5, 2) := dk_54 5 (dk_at dksL_law_62 6 rfl rfl)
theorem dL_law_1590 : decode cL_law 1590 = .ok (.aload_n 2, 1) := dk_44 (dk_at dksL_law_62 8 rfl rfl)
theorem dL_law_1591 : decode cL_law 1591 = .ok (.aload_n 0, 1) := dk_42 (dk_at dksL_law_62 9 rfl rfl)
theorem dL_law_1592 : decode cL_law 1592 = .ok (.iload 4, 2) := dk_21 4 (dk_at dksL_law_62 10 rfl rfl)
theorem dL_law_1594 : decode cL_law 1594 = .ok (.iconst 1, 1) := dk_4 (dk_at dksL_law_62 12 rfl rfl)
theorem dL_law_1595 : decode cL_law 1595 = .ok (.iadd, 1) := dk_96 (dk_at dksL_law_62 13 rfl rfl)
theorem dL_law_1596 : decode cL_law 1596 = .ok (.iaload, 1) := dk_46 (dk_at dksL_law_62 14 rfl rfl)
theorem dL_law_1597 : decode cL_law 1597 = .ok (.aload_n 0, 1) := dk_42 (dk_at dksL_law_62 15 rfl rfl)
theorem dL_law_1598 : decode cL_law 1598 = .ok (.iload 4, 2) := dk_21 4 (dk_at dksL_law_62 16 rfl rfl)
theorem dL_law_1600 : decode cL_law 1600 = .ok (.iconst 2, 1) := dk_5 (dk_at dksL_law_62 18 rfl rfl)
theorem dL_law_1601 : decode cL_law 1601 = .ok (.iadd, 1) := dk_96 (dk_at dksL_law_62 19 rfl rfl)
theorem dL_law_1602 : decode cL_law 1602 = .ok (.iaload, 1) := dk_46 (dk_at dksL_law_62 20 rfl rfl)
theorem dL_law_1603 : decode cL_law 1603 = .ok (.invokevirtual 195, 3) := dk_182 0 195 (dk_at dksL_law_62 21 rfl rfl)
theorem dL_law_1606 : decode cL_law 1606 = .ok (.istore 6, 2) := dk_54 6 (dk_at dksL_law_63 0 rfl rfl)
theorem dL_law_1608 : decode cL_law 1608 = .ok (.aload_n 2, 1) := dk_44 (dk_at dksL_law_63 2 rfl rfl)
theorem dL_law_1609 : decode cL_law 1609 = .ok (.invokevirtual 129, 3) := dk_182 0 129 (dk_at dksL_law_63 3 rfl rfl)
theorem dL_law_1612 : decode cL_law 1612 = .ok (.iload 5, 2) := dk_21 5 (dk_at dksL_law_63 6 rfl rfl)
theorem dL_law_1614 : decode cL_law 1614 = .ok (.if_icmp .eq 5, 3) := dk_159 0 5 (dk_at dksL_law_63 8 rfl rfl)
theorem dL_law_1617 : decode cL_law 1617 = .ok (.iconst 0, 1) := dk_3 (dk_at dksL_law_63 11 rfl rfl)
theorem dL_law_1618 : decode cL_law 1618 = .ok (.ireturn, 1) := dk_172 (dk_at dksL_law_63 12 rfl rfl)
theorem dL_law_1619 : decode cL_law 1619 = .ok (.iload 5, 2) := dk_21 5 (dk_at dksL_law_63 13 rfl rfl)
theorem dL_law_1621 : decode cL_law 1621 = .ok (.ifCond .ne 15, 3) := dk_154 0 15 (dk_at dksL_law_63 15 rfl rfl)
theorem dL_law_1624 : decode cL_law 1624 = .ok (.aload_n 3, 1) := dk_45 (dk_at dksL_law_63 18 rfl rfl)
theorem dL_law_1625 : decode cL_law 1625 = .ok (.iconst 0, 1) := dk_3 (dk_at dksL_law_63 19 rfl rfl)
theorem dL_law_1626 : decode cL_law 1626 = .ok (.laload, 1) := dk_47 (dk_at dksL_law_63 20 rfl rfl)
theorem dL_law_1627 : decode cL_law 1627 = .ok (.iload 6, 2) := dk_21 6 (dk_at dksL_law_63 21 rfl rfl)
theorem dL_law_1629 : decode cL_law 1629 = .ok (.i2l, 1) := dk_133 (dk_at dksL_law_63 23 rfl rfl)
theorem dL_law_1630 : decode cL_law 1630 = .ok (.lcmp, 1) := dk_148 (dk_at dksL_law_64 0 rfl rfl)
theorem dL_law_1631 : decode cL_law 1631 = .ok (.ifCond .eq 5, 3) := dk_153 0 5 (dk_at dksL_law_64 1 rfl rfl)
theorem dL_law_1634 : decode cL_law 1634 = .ok (.iconst 0, 1) := dk_3 (dk_at dksL_law_64 4 rfl rfl)
theorem dL_law_1635 : decode cL_law 1635 = .ok (.ireturn, 1) := dk_172 (dk_at dksL_law_64 5 rfl rfl)
theorem dL_law_1636 : decode cL_law 1636 = .ok (.goto 924, 3) := dk_167 3 156 (dk_at dksL_law_64 6 rfl rfl)
theorem dL_law_1639 : decode cL_law 1639 = .ok (.aload_n 1, 1) := dk_43 (dk_at dksL_law_64 9 rfl rfl)
theorem dL_law_1640 : decode cL_law 1640 = .ok (.aload_n 0, 1) := dk_42 (dk_at dksL_law_64 10 rfl rfl)
theorem dL_law_1641 : decode cL_law 1641 = .ok (.iload 4, 2) := dk_21 4 (dk_at dksL_law_64 11 rfl rfl)
theorem dL_law_1643 : decode cL_law 1643 = .ok (.iconst 1, 1) := dk_4 (dk_at dksL_law_64 13 rfl rfl)
theorem dL_law_1644 : decode cL_law 1644 = .ok (.iadd, 1) := dk_96 (dk_at dksL_law_64 14 rfl rfl)
theorem dL_law_1645 : decode cL_law 1645 = .ok (.iaload, 1) := dk_46 (dk_at dksL_law_64 15 rfl rfl)
theorem dL_law_1646 : decode cL_law 1646 = .ok (.aload_n 3, 1) := dk_45 (dk_at dksL_law_64 16 rfl rfl)
theorem dL_law_1647 : decode cL_law 1647 = .ok (.invokestatic 196, 3) := dk_184 0 196 (dk_at dksL_law_64 17 rfl rfl)
theorem dL_law_1650 : decode cL_law 1650 = .ok (.istore 5, 2) := dk_54 5 (dk_at dksL_law_64 20 rfl rfl)
theorem dL_law_1652 : decode cL_law 1652 = .ok (.aload_n 2, 1) := dk_44 (dk_at dksL_law_64 22 rfl rfl)
theorem dL_law_1653 : decode cL_law 1653 = .ok (.aload_n 0, 1) := dk_42 (dk_at dksL_law_64 23 rfl rfl)
theorem dL_law_1654 : decode cL_law 1654 = .ok (.iload 4, 2) := dk_21 4 (dk_at dksL_law_65 0 rfl rfl)
theorem dL_law_1656 : decode cL_law 1656 = .ok (.iconst 1, 1) := dk_4 (dk_at dksL_law_65 2 rfl rfl)
theorem dL_law_1657 : decode cL_law 1657 = .ok (.iadd, 1) := dk_96 (dk_at dksL_law_65 3 rfl rfl)
theorem dL_law_1658 : decode cL_law 1658 = .ok (.iaload, 1) := dk_46 (dk_at dksL_law_65 4 rfl rfl)
theorem dL_law_1659 : decode cL_law 1659 = .ok (.invokevirtual 198, 3) := dk_182 0 198 (dk_at dksL_law_65 5 rfl rfl)
theorem dL_law_1662 : decode cL_law 1662 = .ok (.istore 6, 2) := dk_54 6 (dk_at dksL_law_65 8 rfl rfl)
theorem dL_law_1664 : decode cL_law 1664 = .ok (.aload_n 2, 1) := dk_44 (dk_at dksL_law_65 10 rfl rfl)
theorem dL_law_1665 : decode cL_law 1665 = .ok (.invokevirtual 129, 3) := dk_182 0 129 (dk_at dksL_law_65 11 rfl rfl)
theorem dL_law_1668 : decode cL_law 1668 = .ok (.iload 5, 2) := dk_21 5 (dk_at dksL_law_65 14 rfl rfl)
theorem dL_law_1670 : decode cL_law 1670 = .ok (.if_icmp .eq 5, 3) := dk_159 0 5 (dk_at dksL_law_65 16 rfl rfl)
theorem dL_law_1673 : decode cL_law 1673 = .ok (.iconst 0, 1) := dk_3 (dk_at dksL_law_65 19 rfl rfl)
theorem dL_law_1674 : decode cL_law 1674 = .ok (.ireturn, 1) := dk_172 (dk_at dksL_law_65 20 rfl rfl)
theorem dL_law_1675 : decode cL_law 1675 = .ok (.iload 5, 2) := dk_21 5 (dk_at dksL_law_65 21 rfl rfl)
theorem dL_law_1677 : decode cL_law 1677 = .ok (.ifCond .ne 15, 3) := dk_154 0 15 (dk_at dksL_law_66 0 rfl rfl)
theorem dL_law_1680 : decode cL_law 1680 = .ok (.aload_n 3, 1) := dk_45 (dk_at dksL_law_66 3 rfl rfl)
theorem dL_law_1681 : decode cL_law 1681 = .ok (.iconst 0, 1) := dk_3 (dk_at dksL_law_66 4 rfl rfl)
theorem dL_law_1682 : decode cL_law 1682 = .ok (.laload, 1) := dk_47 (dk_at dksL_law_66 5 rfl rfl)
theorem dL_law_1683 : decode cL_law 1683 = .ok (.iload 6, 2) := dk_21 6 (dk_at dksL_law_66 6 rfl rfl)
theorem dL_law_1685 : decode cL_law 1685 = .ok (.i2l, 1) := dk_133 (dk_at dksL_law_66 8 rfl rfl)
theorem dL_law_1686 : decode cL_law 1686 = .ok (.lcmp, 1) := dk_148 (dk_at dksL_law_66 9 rfl rfl)
theorem dL_law_1687 : decode cL_law 1687 = .ok (.ifCond .eq 5, 3) := dk_153 0 5 (dk_at dksL_law_66 10 rfl rfl)
theorem dL_law_1690 : decode cL_law 1690 = .ok (.iconst 0, 1) := dk_3 (dk_at dksL_law_66 13 rfl rfl)
theorem dL_law_1691 : decode cL_law 1691 = .ok (.ireturn, 1) := dk_172 (dk_at dksL_law_66 14 rfl rfl)
theorem dL_law_1692 : decode cL_law 1692 = .ok (.goto 868, 3) := dk_167 3 100 (dk_at dksL_law_66 15 rfl rfl)
theorem dL_law_1695 : decode cL_law 1695 = .ok (.aload_n 1, 1) := dk_43 (dk_at dksL_law_66 18 rfl rfl)
theorem dL_law_1696 : decode cL_law 1696 = .ok (.aload_n 0, 1) := dk_42 (dk_at dksL_law_66 19 rfl rfl)
theorem dL_law_1697 : decode cL_law 1697 = .ok (.iload 4, 2) := dk_21 4 (dk_at dksL_law_66 20 rfl rfl)
theorem dL_law_1699 : decode cL_law 1699 = .ok (.iconst 1, 1) := dk_4 (dk_at dksL_law_66 22 rfl rfl)
theorem dL_law_1700 : decode cL_law 1700 = .ok (.iadd, 1) := dk_96 (dk_at dksL_law_66 23 rfl rfl)
theorem dL_law_1701 : decode cL_law 1701 = .ok (.iaload, 1) := dk_46 (dk_at dksL_law_67 0 rfl rfl)
theorem dL_law_1702 : decode cL_law 1702 = .ok (.aload_n 0, 1) := dk_42 (dk_at dksL_law_67 1 rfl rfl)
theorem dL_law_1703 : decode cL_law 1703 = .ok (.iload 4, 2) := dk_21 4 (dk_at dksL_law_67 2 rfl rfl)
theorem dL_law_1705 : decode cL_law 1705 = .ok (.iconst 2, 1) := dk_5 (dk_at dksL_law_67 4 rfl rfl)
theorem dL_law_1706 : decode cL_law 1706 = .ok (.iadd, 1) := dk_96 (dk_at dksL_law_67 5 rfl rfl)
theorem dL_law_1707 : decode cL_law 1707 = .ok (.iaload, 1) := dk_46 (dk_at dksL_law_67 6 rfl rfl)
theorem dL_law_1708 : decode cL_law 1708 = .ok (.aload_n 3, 1) := dk_45 (dk_at dksL_law_67 7 rfl rfl)
theorem dL_law_1709 : decode cL_law 1709 = .ok (.invokestatic 199, 3) := dk_184 0 199 (dk_at dksL_law_67 8 rfl rfl)
theorem dL_law_1712 : decode cL_law 1712 = .ok (.istore 5, 2) := dk_54 5 (dk_at dksL_law_67 11 rfl rfl)
theorem dL_law_1714 : decode cL_law 1714 = .ok (.aload_n 2, 1) := dk_44 (dk_at dksL_law_67 13 rfl rfl)
theorem dL_law_1715 : decode cL_law 1715 = .ok (.aload_n 0, 1) := dk_42 (dk_at dksL_law_67 14 rfl rfl)
theorem dL_law_1716 : decode cL_law 1716 = .ok (.iload 4, 2) := dk_21 4 (dk_at dksL_law_67 15 rfl rfl)
theorem dL_law_1718 : decode cL_law 1718 = .ok (.iconst 1, 1) := dk_4 (dk_at dksL_law_67 17 rfl rfl)
theorem dL_law_1719 : decode cL_law 1719 = .ok (.iadd, 1) := dk_96 (dk_at dksL_law_67 18 rfl rfl)
theorem dL_law_1720 : decode cL_law 1720 = .ok (.iaload, 1) := dk_46 (dk_at dksL_law_67 19 rfl rfl)
theorem dL_law_1721 : decode cL_law 1721 = .ok (.aload_n 0, 1) := dk_42 (dk_at dksL_law_67 20 rfl rfl)
theorem dL_law_1722 : decode cL_law 1722 = .ok (.iload 4, 2) := dk_21 4 (dk_at dksL_law_67 21 rfl rfl)
theorem dL_law_1724 : decode cL_law 1724 = .ok (.iconst 2, 1) := dk_5 (dk_at dksL_law_67 23 rfl rfl)
theorem dL_law_1725 : decode cL_law 1725 = .ok (.iadd, 1) := dk_96 (dk_at dksL_law_68 0 rfl rfl)
theorem dL_law_1726 : decode cL_law 1726 = .ok (.iaload, 1) := dk_46 (dk_at dksL_law_68 1 rfl rfl)
theorem dL_law_1727 : decode cL_law 1727 = .ok (.invokevirtual 201, 3) := dk_182 0 201 (dk_at dksL_law_68 2 rfl rfl)
theorem dL_law_1730 : decode cL_law 1730 = .ok (.istore 6, 2) := dk_54 6 (dk_at dksL_law_68 5 rfl rfl)
theorem dL_law_1732 : decode cL_law 1732 = .ok (.aload_n 2, 1) := dk_44 (dk_at dksL_law_68 7 rfl rfl)
theorem dL_law_1733 : decode cL_law 1733 = .ok (.invokevirtual 129, 3) := dk_182 0 129 (dk_at dksL_law_68 8 rfl rfl)
theorem dL_law_1736 : decode cL_law 1736 = .ok (.iload 5, 2) := dk_21 5 (dk_at dksL_law_68 11 rfl rfl)
theorem dL_law_1738 : decode cL_law 1738 = .ok (.if_icmp .eq 5, 3) := dk_159 0 5 (dk_at dksL_law_68 13 rfl rfl)
theorem dL_law_1741 : decode cL_law 1741 = .ok (.iconst 0, 1) := dk_3 (dk_at dksL_law_68 16 rfl rfl)
theorem dL_law_1742 : decode cL_law 1742 = .ok (.ireturn, 1) := dk_172 (dk_at dksL_law_68 17 rfl rfl)
theorem dL_law_1743 : decode cL_law 1743 = .ok (.iload 5, 2) := dk_21 5 (dk_at dksL_law_68 18 rfl rfl)
theorem dL_law_1745 : decode cL_law 1745 = .ok (.ifCond .ne 15, 3) := dk_154 0 15 (dk_at dksL_law_68 20 rfl rfl)
theorem dL_law_1748 : decode cL_law 1748 = .ok (.aload_n 3, 1) := dk_45 (dk_at dksL_law_68 23 rfl rfl)
theorem dL_law_1749 : decode cL_law 1749 = .ok (.iconst 0, 1) := dk_3 (dk_at dksL_law_69 0 rfl rfl)
theorem dL_law_1750 : decode cL_law 1750 = .ok (.laload, 1) := dk_47 (dk_at dksL_law_69 1 rfl rfl)
theorem dL_law_1751 : decode cL_law 1751 = .ok (.iload 6, 2) := dk_21 6 (dk_at dksL_law_69 2 rfl rfl)
theorem dL_law_1753 : decode cL_law 1753 = .ok (.i2l, 1) := dk_133 (dk_at dksL_law_69 4 rfl rfl)
theorem dL_law_1754 : decode cL_law 1754 = .ok (.lcmp, 1) := dk_148 (dk_at dksL_law_69 5 rfl rfl)
theorem dL_law_1755 : decode cL_law 1755 = .ok (.ifCond .eq 5, 3) := dk_153 0 5 (dk_at dksL_law_69 6 rfl rfl)
theorem dL_law_1758 : decode cL_law 1758 = .ok (.iconst 0, 1) := dk_3 (dk_at dksL_law_69 9 rfl rfl)
theorem dL_law_1759 : decode cL_law 1759 = .ok (.ireturn, 1) := dk_172 (dk_at dksL_law_69 10 rfl rfl)
theorem dL_law_1760 : decode cL_law 1760 = .ok (.goto 800, 3) := dk_167 3 32 (dk_at dksL_law_69 11 rfl rfl)
theorem dL_law_1763 : decode cL_law 1763 = .ok (.aload_n 1, 1) := dk_43 (dk_at dksL_law_69 14 rfl rfl)
theorem dL_law_1764 : decode cL_law 1764 = .ok (.aload_n 0, 1) := dk_42 (dk_at dksL_law_69 15 rfl rfl)
theorem dL_law_1765 : decode cL_law 1765 = .ok (.iload 4, 2) := dk_21 4 (dk_at dksL_law_69 16 rfl rfl)
theorem dL_law_1767 : decode cL_law 1767 = .ok (.iconst 1, 1) := dk_4 (dk_at dksL_law_69 18 rfl rfl)
theorem dL_law_1768 : decode cL_law 1768 = .ok (.iadd, 1) := dk_96 (dk_at dksL_law_69 19 rfl rfl)
theorem dL_law_1769 : decode cL_law 1769 = .ok (.iaload, 1) := dk_46 (dk_at dksL_law_69 20 rfl rfl)
theorem dL_law_1770 : decode cL_law 1770 = .ok (.aload_n 0, 1) := dk_42 (dk_at dksL_law_69 21 rfl rfl)
theorem dL_law_1771 : decode cL_law 1771 = .ok (.iload 4, 2) := dk_21 4 (dk_at dksL_law_69 22 rfl rfl)
theorem dL_law_1773 : decode cL_law 1773 = .ok (.iconst 2, 1) := dk_5 (dk_at dksL_law_70 0 rfl rfl)
theorem dL_law_1774 : decode cL_law 1774 = .ok (.iadd, 1) := dk_96 (dk_at dksL_law_70 1 rfl rfl)
theorem dL_law_1775 : decode cL_law 1775 = .ok (.iaload, 1) := dk_46 (dk_at dksL_law_70 2 rfl rfl)
theorem dL_law_1776 : decode cL_law 1776 = .ok (.aload_n 3, 1) := dk_45 (dk_at dksL_law_70 3 rfl rfl)
theorem dL_law_1777 : decode cL_law 1777 = .ok (.invokestatic 202, 3) := dk_184 0 202 (dk_at dksL_law_70 4 rfl rfl)
theorem dL_law_1780 : decode cL_law 1780 = .ok (.istore 5, 2) := dk_54 5 (dk_at dksL_law_70 7 rfl rfl)
theorem dL_law_1782 : decode cL_law 1782 = .ok (.aload_n 2, 1) := dk_44 (dk_at dksL_law_70 9 rfl rfl)
theorem dL_law_1783 : decode cL_law 1783 = .ok (.aload_n 0, 1) := dk_42 (dk_at dksL_law_70 10 rfl rfl)
theorem dL_law_1784 : decode cL_law 1784 = .ok (.iload 4, 2) := dk_21 4 (dk_at dksL_law_70 11 rfl rfl)
theorem dL_law_1786 : decode cL_law 1786 = .ok (.iconst 1, 1) := dk_4 (dk_at dksL_law_70 13 rfl rfl)
theorem dL_law_1787 : decode cL_law 1787 = .ok (.iadd, 1) := dk_96 (dk_at dksL_law_70 14 rfl rfl)
theorem dL_law_1788 : decode cL_law 1788 = .ok (.iaload, 1) := dk_46 (dk_at dksL_law_70 15 rfl rfl)
theorem dL_law_1789 : decode cL_law 1789 = .ok (.aload_n 0, 1) := dk_42 (dk_at dksL_law_70 16 rfl rfl)
theorem dL_law_1790 : decode cL_law 1790 = .ok (.iload 4, 2) := dk_21 4 (dk_at dksL_law_70 17 rfl rfl)
theorem dL_law_1792 : decode cL_law 1792 = .ok (.iconst 2, 1) := dk_5 (dk_at dksL_law_70 19 rfl rfl)
theorem dL_law_1793 : decode cL_law 1793 = .ok (.iadd, 1) := dk_96 (dk_at dksL_law_70 20 rfl rfl)
theorem dL_law_1794 : decode cL_law 1794 = .ok (.iaload, 1) := dk_46 (dk_at dksL_law_70 21 rfl rfl)
theorem dL_law_1795 : decode cL_law 1795 = .ok (.invokevirtual 204, 3) := dk_182 0 204 (dk_at dksL_law_71 0 rfl rfl)
theorem dL_law_1798 : decode cL_law 1798 = .ok (.istore 6, 2) := dk_54 6 (dk_at dksL_law_71 3 rfl rfl)
theorem dL_law_1800 : decode cL_law 1800 = .ok (.aload_n 2, 1) := dk_44 (dk_at dksL_law_71 5 rfl rfl)
theorem dL_law_1801 : decode cL_law 1801 = .ok (.invokevirtual 129, 3) := dk_182 0 129 (dk_at dksL_law_71 6 rfl rfl)
theorem dL_law_1804 : decode cL_law 1804 = .ok (.iload 5, 2) := dk_21 5 (dk_at dksL_law_71 9 rfl rfl)
theorem dL_law_1806 : decode cL_law 1806 = .ok (.if_icmp .eq 5, 3) := dk_159 0 5 (dk_at dksL_law_71 11 rfl rfl)
theorem dL_law_1809 : decode cL_law 1809 = .ok (.iconst 0, 1) := dk_3 (dk_at dksL_law_71 14 rfl rfl)
theorem dL_law_1810 : decode cL_law 1810 = .ok (.ireturn, 1) := dk_172 (dk_at dksL_law_71 15 rfl rfl)
theorem dL_law_1811 : decode cL_law 1811 = .ok (.iload 5, 2) := dk_21 5 (dk_at dksL_law_71 16 rfl rfl)
theorem dL_law_1813 : decode cL_law 1813 = .ok (.ifCond .ne 15, 3) := dk_154 0 15 (dk_at dksL_law_71 18 rfl rfl)
theorem dL_law_1816 : decode cL_law 1816 = .ok (.aload_n 3, 1) := dk_45 (dk_at dksL_law_71 21 rfl rfl)
theorem dL_law_1817 : decode cL_law 1817 = .ok (.iconst 0, 1) := dk_3 (dk_at dksL_law_71 22 rfl rfl)
theorem dL_law_1818 : decode cL_law 1818 = .ok (.laload, 1) := dk_47 (dk_at dksL_law_71 23 rfl rfl)
theorem dL_law_1819 : decode cL_law 1819 = .ok (.iload 6, 2) := dk_21 6 (dk_at dksL_law_72 0 rfl rfl)
theorem dL_law_1821 : decode cL_law 1821 = .ok (.i2l, 1) := dk_133 (dk_at dksL_law_72 2 rfl rfl)
theorem dL_law_1822 : decode cL_law 1822 = .ok (.lcmp, 1) := dk_148 (dk_at dksL_law_72 3 rfl rfl)
theorem dL_law_1823 : decode cL_law 1823 = .ok (.ifCond .eq 5, 3) := dk_153 0 5 (dk_at dksL_law_72 4 rfl rfl)
theorem dL_law_1826 : decode cL_law 1826 = .ok (.iconst 0, 1) := dk_3 (dk_at dksL_law_72 7 rfl rfl)
theorem dL_law_1827 : decode cL_law 1827 = .ok (.ireturn, 1) := dk_172 (dk_at dksL_law_72 8 rfl rfl)
theorem dL_law_1828 : decode cL_law 1828 = .ok (.goto 732, 3) := dk_167 2 220 (dk_at dksL_law_72 9 rfl rfl)
theorem dL_law_1831 : decode cL_law 1831 = .ok (.aload_n 1, 1) := dk_43 (dk_at dksL_law_72 12 rfl rfl)
theorem dL_law_1832 : decode cL_law 1832 = .ok (.aload_n 0, 1) := dk_42 (dk_at dksL_law_72 13 rfl rfl)
theorem dL_law_1833 : decode cL_law 1833 = .ok (.iload 4, 2) := dk_21 4 (dk_at dksL_law_72 14 rfl rfl)
theorem dL_law_1835 : decode cL_law 1835 = .ok (.iconst 1, 1) := dk_4 (dk_at dksL_law_72 16 rfl rfl)
theorem dL_law_1836 : decode cL_law 1836 = .ok (.iadd, 1) := dk_96 (dk_at dksL_law_72 17 rfl rfl)
theorem dL_law_1837 : decode cL_law 1837 = .ok (.iaload, 1) := dk_46 (dk_at dksL_law_72 18 rfl rfl)
theorem dL_law_1838 : decode cL_law 1838 = .ok (.aload_n 0, 1) := dk_42 (dk_at dksL_law_72 19 rfl rfl)
theorem dL_law_1839 : decode cL_law 1839 = .ok (.iload 4, 2) := dk_21 4 (dk_at dksL_law_72 20 rfl rfl)
theorem dL_law_1841 : decode cL_law 1841 = .ok (.iconst 2, 1) := dk_5 (dk_at dksL_law_72 22 rfl rfl)
theorem dL_law_1842 : decode cL_law 1842 = .ok (.iadd, 1) := dk_96 (dk_at dksL_law_72 23 rfl rfl)
theorem dL_law_1843 : decode cL_law 1843 = .ok (.iaload, 1) := dk_46 (dk_at dksL_law_73 0 rfl rfl)
theorem dL_law_1844 : decode cL_law 1844 = .ok (.aload_n 3, 1) := dk_45 (dk_at dksL_law_73 1 rfl rfl)
theorem dL_law_1845 : decode cL_law 1845 = .ok (.invokestatic 205, 3) := dk_184 0 205 (dk_at dksL_law_73 2 rfl rfl)
theorem dL_law_1848 : decode cL_law 1848 = .ok (.istore 5, 2) := dk_54 5 (dk_at dksL_law_73 5 rfl rfl)
theorem dL_law_1850 : decode cL_law 1850 = .ok (.aload_n 2, 1) := dk_44 (dk_at dksL_law_73 7 rfl rfl)
theorem dL_law_1851 : decode cL_law 1851 = .ok (.aload_n 0, 1) := dk_42 (dk_at dksL_law_73 8 rfl rfl)
theorem dL_law_1852 : decode cL_law 1852 = .ok (.iload 4, 2) := dk_21 4 (dk_at dksL_law_73 9 rfl rfl)
theorem dL_law_1854 : decode cL_law 1854 = .ok (.iconst 1, 1) := dk_4 (dk_at dksL_law_73 11 rfl rfl)
theorem dL_law_1855 : decode cL_law 1855 = .ok (.iadd, 1) := dk_96 (dk_at dksL_law_73 12 rfl rfl)
theorem dL_law_1856 : decode cL_law 1856 = .ok (.iaload, 1) := dk_46 (dk_at dksL_law_73 13 rfl rfl)
theorem dL_law_1857 : decode cL_law 1857 = .ok (.aload_n 0, 1) := dk_42 (dk_at dksL_law_73 14 rfl rfl)
theorem dL_law_1858 : decode cL_law 1858 = .ok (.iload 4, 2) := dk_21 4 (dk_at dksL_law_73 15 rfl rfl)
theorem dL_law_1860 : decode cL_law 1860 = .ok (.iconst 2, 1) := dk_5 (dk_at dksL_law_73 17 rfl rfl)
theorem dL_law_1861 : decode cL_law 1861 = .ok (.iadd, 1) := dk_96 (dk_at dksL_law_73 18 rfl rfl)
theorem dL_law_1862 : decode cL_law 1862 = .ok (.iaload, 1) := dk_46 (dk_at dksL_law_73 19 rfl rfl)
theorem dL_law_1863 : decode cL_law 1863 = .ok (.invokevirtual 207, 3) := dk_182 0 207 (dk_at dksL_law_73 20 rfl rfl)
theorem dL_law_1866 : decode cL_law 1866 = .ok (.istore 6, 2) := dk_54 6 (dk_at dksL_law_74 0 rfl rfl)
theorem dL_law_1868 : decode cL_law 1868 = .ok (.aload_n 2, 1) := dk_44 (dk_at dksL_law_74 2 rfl rfl)
theorem dL_law_1869 : decode cL_law 1869 = .ok (.invokevirtual 129, 3) := dk_182 0 129 (dk_at dksL_law_74 3 rfl rfl)
theorem dL_law_1872 : decode cL_law 1872 = .ok (.iload 5, 2) := dk_21 5 (dk_at dksL_law_74 6 rfl rfl)
theorem dL_law_1874 : decode cL_law 1874 = .ok (.if_icmp .eq 5, 3) := dk_159 0 5 (dk_at dksL_law_74 8 rfl rfl)
theorem dL_law_1877 : decode cL_law 1877 = .ok (.iconst 0, 1) := dk_3 (dk_at dksL_law_74 11 rfl rfl)
theorem dL_law_1878 : decode cL_law 1878 = .ok (.ireturn, 1) := dk_172 (dk_at dksL_law_74 12 rfl rfl)
theorem dL_law_1879 : decode cL_law 1879 = .ok (.iload 5, 2) := dk_21 5 (dk_at dksL_law_74 13 rfl rfl)
theorem dL_law_1881 : decode cL_law 1881 = .ok (.ifCond .ne 15, 3) := dk_154 0 15 (dk_at dksL_law_74 15 rfl rfl)
theorem dL_law_1884 : decode cL_law 1884 = .ok (.aload_n 3, 1) := dk_45 (dk_at dksL_law_74 18 rfl rfl)
theorem dL_law_1885 : decode cL_law 1885 = .ok (.iconst 0, 1) := dk_3 (dk_at dksL_law_74 19 rfl rfl)
theorem dL_law_1886 : decode cL_law 1886 = .ok (.laload, 1) := dk_47 (dk_at dksL_law_74 20 rfl rfl)
theorem dL_law_1887 : decode cL_law 1887 = .ok (.iload 6, 2) := dk_21 6 (dk_at dksL_law_74 21 rfl rfl)
theorem dL_law_1889 : decode cL_law 1889 = .ok (.i2l, 1) := dk_133 (dk_at dksL_law_74 23 rfl rfl)
theorem dL_law_1890 : decode cL_law 1890 = .ok (.lcmp, 1) := dk_148 (dk_at dksL_law_75 0 rfl rfl)
theorem dL_law_1891 : decode cL_law 1891 = .ok (.ifCond .eq 5, 3) := dk_153 0 5 (dk_at dksL_law_75 1 rfl rfl)
theorem dL_law_1894 : decode cL_law 1894 = .ok (.iconst 0, 1) := dk_3 (dk_at dksL_law_75 4 rfl rfl)
theorem dL_law_1895 : decode cL_law 1895 = .ok (.ireturn, 1) := dk_172 (dk_at dksL_law_75 5 rfl rfl)
theorem dL_law_1896 : decode cL_law 1896 = .ok (.goto 664, 3) := dk_167 2 152 (dk_at dksL_law_75 6 rfl rfl)
theorem dL_law_1899 : decode cL_law 1899 = .ok (.aload_n 1, 1) := dk_43 (dk_at dksL_law_75 9 rfl rfl)
theorem dL_law_1900 : decode cL_law 1900 = .ok (.aload_n 0, 1) := dk_42 (dk_at dksL_law_75 10 rfl rfl)
theorem dL_law_1901 : decode cL_law 1901 = .ok (.iload 4, 2) := dk_21 4 (dk_at dksL_law_75 11 rfl rfl)
theorem dL_law_1903 : decode cL_law 1903 = .ok (.iconst 1, 1) := dk_4 (dk_at dksL_law_75 13 rfl rfl)
theorem dL_law_1904 : decode cL_law 1904 = .ok (.iadd, 1) := dk_96 (dk_at dksL_law_75 14 rfl rfl)
theorem dL_law_1905 : decode cL_law 1905 = .ok (.iaload, 1) := dk_46 (dk_at dksL_law_75 15 rfl rfl)
theorem dL_law_1906 : decode cL_law 1906 = .ok (.aload_n 0, 1) := dk_42 (dk_at dksL_law_75 16 rfl rfl)
theorem dL_law_1907 : decode cL_law 1907 = .ok (.iload 4, 2) := dk_21 4 (dk_at dksL_law_75 17 rfl rfl)
theorem dL_law_1909 : decode cL_law 1909 = .ok (.iconst 2, 1) := dk_5 (dk_at dksL_law_75 19 rfl rfl)
theorem dL_law_1910 : decode cL_law 1910 = .ok (.iadd, 1) := dk_96 (dk_at dksL_law_75 20 rfl rfl)
theorem dL_law_1911 : decode cL_law 1911 = .ok (.iaload, 1) := dk_46 (dk_at dksL_law_75 21 rfl rfl)
theorem dL_law_1912 : decode cL_law 1912 = .ok (.aload_n 3, 1) := dk_45 (dk_at dksL_law_75 22 rfl rfl)
theorem dL_law_1913 : decode cL_law 1913 = .ok (.invokestatic 208, 3) := dk_184 0 208 (dk_at dksL_law_76 0 rfl rfl)
theorem dL_law_1916 : decode cL_law 1916 = .ok (.istore 5, 2) := dk_54 5 (dk_at dksL_law_76 3 rfl rfl)
theorem dL_law_1918 : decode cL_law 1918 = .ok (.aload_n 2, 1) := dk_44 (dk_at dksL_law_76 5 rfl rfl)
theorem dL_law_1919 : decode cL_law 1919 = .ok (.aload_n 0, 1) := dk_42 (dk_at dksL_law_76 6 rfl rfl)
theorem dL_law_1920 : decode cL_law 1920 = .ok (.iload 4, 2) := dk_21 4 (dk_at dksL_law_76 7 rfl rfl)
theorem dL_law_1922 : decode cL_law 1922 = .ok (.iconst 1, 1) := dk_4 (dk_at dksL_law_76 9 rfl rfl)
theorem dL_law_1923 : decode cL_law 1923 = .ok (.iadd, 1) := dk_96 (dk_at dksL_law_76 10 rfl rfl)
theorem dL_law_1924 : decode cL_law 1924 = .ok (.iaload, 1) := dk_46 (dk_at dksL_law_76 11 rfl rfl)
theorem dL_law_1925 : decode cL_law 1925 = .ok (.aload_n 0, 1) := dk_42 (dk_at dksL_law_76 12 rfl rfl)
theorem dL_law_1926 : decode cL_law 1926 = .ok (.iload 4, 2) := dk_21 4 (dk_at dksL_law_76 13 rfl rfl)
theorem dL_law_1928 : decode cL_law 1928 = .ok (.iconst 2, 1) := dk_5 (dk_at dksL_law_76 15 rfl rfl)
theorem dL_law_1929 : decode cL_law 1929 = .ok (.iadd, 1) := dk_96 (dk_at dksL_law_76 16 rfl rfl)
theorem dL_law_1930 : decode cL_law 1930 = .ok (.iaload, 1) := dk_46 (dk_at dksL_law_76 17 rfl rfl)
theorem dL_law_1931 : decode cL_law 1931 = .ok (.invokevirtual 210, 3) := dk_182 0 210 (dk_at dksL_law_76 18 rfl rfl)
theorem dL_law_1934 : decode cL_law 1934 = .ok (.istore 6, 2) := dk_54 6 (dk_at dksL_law_76 21 rfl rfl)
theorem dL_law_1936 : decode cL_law 1936 = .ok (.aload_n 2, 1) := dk_44 (dk_at dksL_law_76 23 rfl rfl)
theorem dL_law_1937 : decode cL_law 1937 = .ok (.invokevirtual 129, 3) := dk_182 0 129 (dk_at dksL_law_77 0 rfl rfl)
theorem dL_law_1940 : decode cL_law 1940 = .ok (.iload 5, 2) := dk_21 5 (dk_at dksL_law_77 3 rfl rfl)
theorem dL_law_1942 : decode cL_law 1942 = .ok (.if_icmp .eq 5, 3) := dk_159 0 5 (dk_at dksL_law_77 5 rfl rfl)
theorem dL_law_1945 : decode cL_law 1945 = .ok (.iconst 0, 1) := dk_3 (dk_at dksL_law_77 8 rfl rfl)
theorem dL_law_1946 : decode cL_law 1946 = .ok (.ireturn, 1) := dk_172 (dk_at dksL_law_77 9 rfl rfl)
theorem dL_law_1947 : decode cL_law 1947 = .ok (.iload 5, 2) := dk_21 5 (dk_at dksL_law_77 10 rfl rfl)
theorem dL_law_1949 : decode cL_law 1949 = .ok (.ifCond .ne 15, 3) := dk_154 0 15 (dk_at dksL_law_77 12 rfl rfl)
theorem dL_law_1952 : decode cL_law 1952 = .ok (.aload_n 3, 1) := dk_45 (dk_at dksL_law_77 15 rfl rfl)
theorem dL_law_1953 : decode cL_law 1953 = .ok (.iconst 0, 1) := dk_3 (dk_at dksL_law_77 16 rfl rfl)
theorem dL_law_1954 : decode cL_law 1954 = .ok (.laload, 1) := dk_47 (dk_at dksL_law_77 17 rfl rfl)
theorem dL_law_1955 : decode cL_law 1955 = .ok (.iload 6, 2) := dk_21 6 (dk_at dksL_law_77 18 rfl rfl)
theorem dL_law_1957 : decode cL_law 1957 = .ok (.i2l, 1) := dk_133 (dk_at dksL_law_77 20 rfl rfl)
theorem dL_law_1958 : decode cL_law 1958 = .ok (.lcmp, 1) := dk_148 (dk_at dksL_law_77 21 rfl rfl)
theorem dL_law_1959 : decode cL_law 1959 = .ok (.ifCond .eq 5, 3) := dk_153 0 5 (dk_at dksL_law_78 0 rfl rfl)
theorem dL_law_1962 : decode cL_law 1962 = .ok (.iconst 0, 1) := dk_3 (dk_at dksL_law_78 3 rfl rfl)
theorem dL_law_1963 : decode cL_law 1963 = .ok (.ireturn, 1) := dk_172 (dk_at dksL_law_78 4 rfl rfl)
theorem dL_law_1964 : decode cL_law 1964 = .ok (.goto 596, 3) := dk_167 2 84 (dk_at dksL_law_78 5 rfl rfl)
theorem dL_law_1967 : decode cL_law 1967 = .ok (.aload_n 1, 1) := dk_43 (dk_at dksL_law_78 8 rfl rfl)
theorem dL_law_1968 : decode cL_law 1968 = .ok (.aload_n 0, 1) := dk_42 (dk_at dksL_law_78 9 rfl rfl)
theorem dL_law_1969 : decode cL_law 1969 = .ok (.iload 4, 2) := dk_21 4 (dk_at dksL_law_78 10 rfl rfl)
theorem dL_law_1971 : decode cL_law 1971 = .ok (.iconst 1, 1) := dk_4 (dk_at dksL_law_78 12 rfl rfl)
theorem dL_law_1972 : decode cL_law 1972 = .ok (.iadd, 1) := dk_96 (dk_at dksL_law_78 13 rfl rfl)
theorem dL_law_1973 : decode cL_law 1973 = .ok (.iaload, 1) := dk_46 (dk_at dksL_law_78 14 rfl rfl)
theorem dL_law_1974 : decode cL_law 1974 = .ok (.aload_n 0, 1) := dk_42 (dk_at dksL_law_78 15 rfl rfl)
theorem dL_law_1975 : decode cL_law 1975 = .ok (.iload 4, 2) := dk_21 4 (dk_at dksL_law_78 16 rfl rfl)
theorem dL_law_1977 : decode cL_law 1977 = .ok (.iconst 2, 1) := dk_5 (dk_at dksL_law_78 18 rfl rfl)
theorem dL_law_1978 : decode cL_law 1978 = .ok (.iadd, 1) := dk_96 (dk_at dksL_law_78 19 rfl rfl)
theorem dL_law_1979 : decode cL_law 1979 = .ok (.iaload, 1) := dk_46 (dk_at dksL_law_78 20 rfl rfl)
theorem dL_law_1980 : decode cL_law 1980 = .ok (.aload_n 3, 1) := dk_45 (dk_at dksL_law_78 21 rfl rfl)
theorem dL_law_1981 : decode cL_law 1981 = .ok (.invokestatic 211, 3) := dk_184 0 211 (dk_at dksL_law_79 0 rfl rfl)
theorem dL_law_1984 : decode cL_law 1984 = .ok (.istore 5, 2) := dk_54 5 (dk_at dksL_law_79 3 rfl rfl)
theorem dL_law_1986 : decode cL_law 1986 = .ok (.aload_n 2, 1) := dk_44 (dk_at dksL_law_79 5 rfl rfl)
theorem dL_law_1987 : decode cL_law 1987 = .ok (.aload_n 0, 1) := dk_42 (dk_at dksL_law_79 6 rfl rfl)
theorem dL_law_1988 : decode cL_law 1988 = .ok (.iload 4, 2) := dk_21 4 (dk_at dksL_law_79 7 rfl rfl)
theorem dL_law_1990 : decode cL_law 1990 = .ok (.iconst 1, 1) := dk_4 (dk_at dksL_law_79 9 rfl rfl)
theorem dL_law_1991 : decode cL_law 1991 = .ok (.iadd, 1) := dk_96 (dk_at dksL_law_79 10 rfl rfl)
theorem dL_law_1992 : decode cL_law 1992 = .ok (.iaload, 1) := dk_46 (dk_at dksL_law_79 11 rfl rfl)
theorem dL_law_1993 : decode cL_law 1993 = .ok (.aload_n 0, 1) := dk_42 (dk_at dksL_law_79 12 rfl rfl)
theorem dL_law_1994 : decode cL_law 1994 = .ok (.iload 4, 2) := dk_21 4 (dk_at dksL_law_79 13 rfl rfl)
theorem dL_law_1996 : decode cL_law 1996 = .ok (.iconst 2, 1) := dk_5 (dk_at dksL_law_79 15 rfl rfl)
theorem dL_law_1997 : decode cL_law 1997 = .ok (.iadd, 1) := dk_96 (dk_at dksL_law_79 16 rfl rfl)
theorem dL_law_1998 : decode cL_law 1998 = .ok (.iaload, 1) := dk_46 (dk_at dksL_law_79 17 rfl rfl)
theorem dL_law_1999 : decode cL_law 1999 = .ok (.invokevirtual 213, 3) := dk_182 0 213 (dk_at dksL_law_79 18 rfl rfl)
theorem dL_law_2002 : decode cL_law 2002 = .ok (.istore 6, 2) := dk_54 6 (dk_at dksL_law_79 21 rfl rfl)
theorem dL_law_2004 : decode cL_law 2004 = .ok (.aload_n 2, 1) := dk_44 (dk_at dksL_law_79 23 rfl rfl)
theorem dL_law_2005 : decode cL_law 2005 = .ok (.invokevirtual 129, 3) := dk_182 0 129 (dk_at dksL_law_80 0 rfl rfl)
theorem dL_law_2008 : decode cL_law 2008 = .ok (.iload 5, 2) := dk_21 5 (dk_at dksL_law_80 3 rfl rfl)
theorem dL_law_2010 : decode cL_law 2010 = .ok (.if_icmp .eq 5, 3) := dk_159 0 5 (dk_at dksL_law_80 5 rfl rfl)
theorem dL_law_2013 : decode cL_law 2013 = .ok (.iconst 0, 1) := dk_3 (dk_at dksL_law_80 8 rfl rfl)
theorem dL_law_2014 : decode cL_law 2014 = .ok (.ireturn, 1) := dk_172 (dk_at dksL_law_80 9 rfl rfl)
theorem dL_law_2015 : decode cL_law 2015 = .ok (.iload 5, 2) := dk_21 5 (dk_at dksL_law_80 10 rfl rfl)
theorem dL_law_2017 : decode cL_law 2017 = .ok (.ifCond .ne 15, 3) := dk_154 0 15 (dk_at dksL_law_80 12 rfl rfl)
theorem dL_law_2020 : decode cL_law 2020 = .ok (.aload_n 3, 1) := dk_45 (dk_at dksL_law_80 15 rfl rfl)
theorem dL_law_2021 : decode cL_law 2021 = .ok (.iconst 0, 1) := dk_3 (dk_at dksL_law_80 16 rfl rfl)
theorem dL_law_2022 : decode cL_law 2022 = .ok (.laload, 1) := dk_47 (dk_at dksL_law_80 17 rfl rfl)
theorem dL_law_2023 : decode cL_law 2023 = .ok (.iload 6, 2) := dk_21 6 (dk_at dksL_law_80 18 rfl rfl)
theorem dL_law_2025 : decode cL_law 2025 = .ok (.i2l, 1) := dk_133 (dk_at dksL_law_80 20 rfl rfl)
theorem dL_law_2026 : decode cL_law 2026 = .ok (.lcmp, 1) := dk_148 (dk_at dksL_law_80 21 rfl rfl)
theorem dL_law_2027 : decode cL_law 2027 = .ok (.ifCond .eq 5, 3) := dk_153 0 5 (dk_at dksL_law_81 0 rfl rfl)
theorem dL_law_2030 : decode cL_law 2030 = .ok (.iconst 0, 1) := dk_3 (dk_at dksL_law_81 3 rfl rfl)
theorem dL_law_2031 : decode cL_law 2031 = .ok (.ireturn, 1) := dk_172 (dk_at dksL_law_81 4 rfl rfl)
theorem dL_law_2032 : decode cL_law 2032 = .ok (.goto 528, 3) := dk_167 2 16 (dk_at dksL_law_81 5 rfl rfl)
theorem dL_law_2035 : decode cL_law 2035 = .ok (.aload_n 1, 1) := dk_43 (dk_at dksL_law_81 8 rfl rfl)
theorem dL_law_2036 : decode cL_law 2036 = .ok (.aload_n 0, 1) := dk_42 (dk_at dksL_law_81 9 rfl rfl)
theorem dL_law_2037 : decode cL_law 2037 = .ok (.iload 4, 2) := dk_21 4 (dk_at dksL_law_81 10 rfl rfl)
theorem dL_law_2039 : decode cL_law 2039 = .ok (.iconst 1, 1) := dk_4 (dk_at dksL_law_81 12 rfl rfl)
theorem dL_law_2040 : decode cL_law 2040 = .ok (.iadd, 1) := dk_96 (dk_at dksL_law_81 13 rfl rfl)
theorem dL_law_2041 : decode cL_law 2041 = .ok (.iaload, 1) := dk_46 (dk_at dksL_law_81 14 rfl rfl)
theorem dL_law_2042 : decode cL_law 2042 = .ok (.aload_n 0, 1) := dk_42 (dk_at dksL_law_81 15 rfl rfl)
theorem dL_law_2043 : decode cL_law 2043 = .ok (.iload 4, 2) := dk_21 4 (dk_at dksL_law_81 16 rfl rfl)
theorem dL_law_2045 : decode cL_law 2045 = .ok (.iconst 2, 1) := dk_5 (dk_at dksL_law_81 18 rfl rfl)
theorem dL_law_2046 : decode cL_law 2046 = .ok (.iadd, 1) := dk_96 (dk_at dksL_law_81 19 rfl rfl)
theorem dL_law_2047 : decode cL_law 2047 = .ok (.iaload, 1) := dk_46 (dk_at dksL_law_81 20 rfl rfl)
theorem dL_law_2048 : decode cL_law 2048 = .ok (.aload_n 3, 1) := dk_45 (dk_at dksL_law_81 21 rfl rfl)
theorem dL_law_2049 : decode cL_law 2049 = .ok (.invokestatic 214, 3) := dk_184 0 214 (dk_at dksL_law_82 0 rfl rfl)
theorem dL_law_2052 : decode cL_law 2052 = .ok (.istore 5, 2) := dk_54 5 (dk_at dksL_law_82 3 rfl rfl)
theorem dL_law_2054 : decode cL_law 2054 = .ok (.aload_n 2, 1) := dk_44 (dk_at dksL_law_82 5 rfl rfl)
theorem dL_law_2055 : decode cL_law 2055 = .ok (.aload_n 0, 1) := dk_42 (dk_at dksL_law_82 6 rfl rfl)
theorem dL_law_2056 : decode cL_law 2056 = .ok (.iload 4, 2) := dk_21 4 (dk_at dksL_law_82 7 rfl rfl)
theorem dL_law_2058 : decode cL_law 2058 = .ok (.iconst 1, 1) := dk_4 (dk_at dksL_law_82 9 rfl rfl)
theorem dL_law_2059 : decode cL_law 2059 = .ok (.iadd, 1) := dk_96 (dk_at dksL_law_82 10 rfl rfl)
theorem dL_law_2060 : decode cL_law 2060 = .ok (.iaload, 1) := dk_46 (dk_at dksL_law_82 11 rfl rfl)
theorem dL_law_2061 : decode cL_law 2061 = .ok (.aload_n 0, 1) := dk_42 (dk_at dksL_law_82 12 rfl rfl)
theorem dL_law_2062 : decode cL_law 2062 = .ok (.iload 4, 2) := dk_21 4 (dk_at dksL_law_82 13 rfl rfl)
theorem dL_law_2064 : decode cL_law 2064 = .ok (.iconst 2, 1) := dk_5 (dk_at dksL_law_82 15 rfl rfl)
theorem dL_law_2065 : decode cL_law 2065 = .ok (.iadd, 1) := dk_96 (dk_at dksL_law_82 16 rfl rfl)
theorem dL_law_2066 : decode cL_law 2066 = .ok (.iaload, 1) := dk_46 (dk_at dksL_law_82 17 rfl rfl)
theorem dL_law_2067 : decode cL_law 2067 = .ok (.invokevirtual 216, 3) := dk_182 0 216 (dk_at dksL_law_82 18 rfl rfl)
theorem dL_law_2070 : decode cL_law 2070 = .ok (.istore 6, 2) := dk_54 6 (dk_at dksL_law_82 21 rfl rfl)
theorem dL_law_2072 : decode cL_law 2072 = .ok (.aload_n 2, 1) := dk_44 (dk_at dksL_law_82 23 rfl rfl)
theorem dL_law_2073 : decode cL_law 2073 = .ok (.invokevirtual 129, 3) := dk_182 0 129 (dk_at dksL_law_83 0 rfl rfl)
theorem dL_law_2076 : decode cL_law 2076 = .ok (.iload 5, 2) := dk_21 5 (dk_at dksL_law_83 3 rfl rfl)
theorem dL_law_2078 : decode cL_law 2078 = .ok (.if_icmp .eq 5, 3) := dk_159 0 5 (dk_at dksL_law_83 5 rfl rfl)
theorem dL_law_2081 : decode cL_law 2081 = .ok (.iconst 0, 1) := dk_3 (dk_at dksL_law_83 8 rfl rfl)
theorem dL_law_2082 : decode cL_law 2082 = .ok (.ireturn, 1) := dk_172 (dk_at dksL_law_83 9 rfl rfl)
theorem dL_law_2083 : decode cL_law 2083 = .ok (.iload 5, 2) := dk_21 5 (dk_at dksL_law_83 10 rfl rfl)
theorem dL_law_2085 : decode cL_law 2085 = .ok (.ifCond .ne 22, 3) := dk_154 0 22 (dk_at dksL_law_83 12 rfl rfl)
theorem dL_law_2088 : decode cL_law 2088 = .ok (.aload_n 3, 1) := dk_45 (dk_at dksL_law_83 15 rfl rfl)
theorem dL_law_2089 : decode cL_law 2089 = .ok (.iconst 0, 1) := dk_3 (dk_at dksL_law_83 16 rfl rfl)
theorem dL_law_2090 : decode cL_law 2090 = .ok (.laload, 1) := dk_47 (dk_at dksL_law_83 17 rfl rfl)
theorem dL_law_2091 : decode cL_law 2091 = .ok (.iload 6, 2) := dk_21 6 (dk_at dksL_law_83 18 rfl rfl)
theorem dL_law_2093 : decode cL_law 2093 = .ok (.ifCond .eq 7, 3) := dk_153 0 7 (dk_at dksL_law_83 20 rfl rfl)
theorem dL_law_2096 : decode cL_law 2096 = .ok (.lconst 1, 1) := dk_10 (dk_at dksL_law_83 23 rfl rfl)
theorem dL_law_2097 : decode cL_law 2097 = .ok (.goto 4, 3) := dk_167 0 4 (dk_at dksL_law_84 0 rfl rfl)
theorem dL_law_2100 : decode cL_law 2100 = .ok (.lconst 0, 1) := dk_9 (dk_at dksL_law_84 3 rfl rfl)
theorem dL_law_2101 : decode cL_law 2101 = .ok (.lcmp, 1) := dk_148 (dk_at dksL_law_84 4 rfl rfl)
theorem dL_law_2102 : decode cL_law 2102 = .ok (.ifCond .eq 5, 3) := dk_153 0 5 (dk_at dksL_law_84 5 rfl rfl)
theorem dL_law_2105 : decode cL_law 2105 = .ok (.iconst 0, 1) := dk_3 (dk_at dksL_law_84 8 rfl rfl)
theorem dL_law_2106 : decode cL_law 2106 = .ok (.ireturn, 1) := dk_172 (dk_at dksL_law_84 9 rfl rfl)
theorem dL_law_2107 : decode cL_law 2107 = .ok (.goto 453, 3) := dk_167 1 197 (dk_at dksL_law_84 10 rfl rfl)
theorem dL_law_2110 : decode cL_law 2110 = .ok (.aload_n 1, 1) := dk_43 (dk_at dksL_law_84 13 rfl rfl)
theorem dL_law_2111 : decode cL_law 2111 = .ok (.aload_n 0, 1) := dk_42 (dk_at dksL_law_84 14 rfl rfl)
theorem dL_law_2112 : decode cL_law 2112 = .ok (.iload 4, 2) := dk_21 4 (dk_at dksL_law_84 15 rfl rfl)
theorem dL_law_2114 : decode cL_law 2114 = .ok (.iconst 1, 1) := dk_4 (dk_at dksL_law_84 17 rfl rfl)
theorem dL_law_2115 : decode cL_law 2115 = .ok (.iadd, 1) := dk_96 (dk_at dksL_law_84 18 rfl rfl)
theorem dL_law_2116 : decode cL_law 2116 = .ok (.iaload, 1) := dk_46 (dk_at dksL_law_84 19 rfl rfl)
theorem dL_law_2117 : decode cL_law 2117 = .ok (.aload_n 0, 1) := dk_42 (dk_at dksL_law_84 20 rfl rfl)
theorem dL_law_2118 : decode cL_law 2118 = .ok (.iload 4, 2) := dk_21 4 (dk_at dksL_law_84 21 rfl rfl)
theorem dL_law_2120 : decode cL_law 2120 = .ok (.iconst 2, 1) := dk_5 (dk_at dksL_law_84 23 rfl rfl)
theorem dL_law_2121 : decode cL_law 2121 = .ok (.iadd, 1) := dk_96 (dk_at dksL_law_85 0 rfl rfl)
theorem dL_law_2122 : decode cL_law 2122 = .ok (.iaload, 1) := dk_46 (dk_at dksL_law_85 1 rfl rfl)
theorem dL_law_2123 : decode cL_law 2123 = .ok (.aload_n 3, 1) := dk_45 (dk_at dksL_law_85 2 rfl rfl)
theorem dL_law_2124 : decode cL_law 2124 = .ok (.invokestatic 217, 3) := dk_184 0 217 (dk_at dksL_law_85 3 rfl rfl)
theorem dL_law_2127 : decode cL_law 2127 = .ok (.istore 5, 2) := dk_54 5 (dk_at dksL_law_85 6 rfl rfl)
theorem dL_law_2129 : decode cL_law 2129 = .ok (.aload_n 2, 1) := dk_44 (dk_at dksL_law_85 8 rfl rfl)
theorem dL_law_2130 : decode cL_law 2130 = .ok (.aload_n 0, 1) := dk_42 (dk_at dksL_law_85 9 rfl rfl)
theorem dL_law_2131 : decode cL_law 2131 = .ok (.iload 4, 2) := dk_21 4 (dk_at dksL_law_85 10 rfl rfl)
theorem dL_law_2133 : decode cL_law 2133 = .ok (.iconst 1, 1) := dk_4 (dk_at dksL_law_85 12 rfl rfl)
theorem dL_law_2134 : decode cL_law 2134 = .ok (.iadd, 1) := dk_96 (dk_at dksL_law_85 13 rfl rfl)
theorem dL_law_2135 : decode cL_law 2135 = .ok (.iaload, 1) := dk_46 (dk_at dksL_law_85 14 rfl rfl)
theorem dL_law_2136 : decode cL_law 2136 = .ok (.aload_n 0, 1) := dk_42 (dk_at dksL_law_85 15 rfl rfl)
theorem dL_law_2137 : decode cL_law 2137 = .ok (.iload 4, 2) := dk_21 4 (dk_at dksL_law_85 16 rfl rfl)
theorem dL_law_2139 : decode cL_law 2139 = .ok (.iconst 2, 1) := dk_5 (dk_at dksL_law_85 18 rfl rfl)
theorem dL_law_2140 : decode cL_law 2140 = .ok (.iadd, 1) := dk_96 (dk_at dksL_law_85 19 rfl rfl)
theorem dL_law_2141 : decode cL_law 2141 = .ok (.iaload, 1) := dk_46 (dk_at dksL_law_85 20 rfl rfl)
theorem dL_law_2142 : decode cL_law 2142 = .ok (.invokevirtual 219, 3) := dk_182 0 219 (dk_at dksL_law_85 21 rfl rfl)
theorem dL_law_2145 : decode cL_law 2145 = .ok (.istore 6, 2) := dk_54 6 (dk_at dksL_law_86 0 rfl rfl)
theorem dL_law_2147 : decode cL_law 2147 = .ok (.aload_n 2, 1) := dk_44 (dk_at dksL_law_86 2 rfl rfl)
theorem dL_law_2148 : decode cL_law 2148 = .ok (.invokevirtual 129, 3) := dk_182 0 129 (dk_at dksL_law_86 3 rfl rfl)
theorem dL_law_2151 : decode cL_law 2151 = .ok (.iload 5, 2) := dk_21 5 (dk_at dksL_law_86 6 rfl rfl)
theorem dL_law_2153 : decode cL_law 2153 = .ok (.if_icmp .eq 5, 3) := dk_159 0 5 (dk_at dksL_law_86 8 rfl rfl)
theorem dL_law_2156 : decode cL_law 2156 = .ok (.iconst 0, 1) := dk_3 (dk_at dksL_law_86 11 rfl rfl)
theorem dL_law_2157 : decode cL_law 2157 = .ok (.ireturn, 1) := dk_172 (dk_at dksL_law_86 12 rfl rfl)
theorem dL_law_2158 : decode cL_law 2158 = .ok (.iload 5, 2) := dk_21 5 (dk_at dksL_law_86 13 rfl rfl)
theorem dL_law_2160 : decode cL_law 2160 = .ok (.ifCond .ne 15, 3) := dk_154 0 15 (dk_at dksL_law_86 15 rfl rfl)
theorem dL_law_2163 : decode cL_law 2163 = .ok (.aload_n 3, 1) := dk_45 (dk_at dksL_law_86 18 rfl rfl)
theorem dL_law_2164 : decode cL_law 2164 = .ok (.iconst 0, 1) := dk_3 (dk_at dksL_law_86 19 rfl rfl)
theorem dL_law_2165 : decode cL_law 2165 = .ok (.laload, 1) := dk_47 (dk_at dksL_law_86 20 rfl rfl)
theorem dL_law_2166 : decode cL_law 2166 = .ok (.iload 6, 2) := dk_21 6 (dk_at dksL_law_86 21 rfl rfl)
theorem dL_law_2168 : decode cL_law 2168 = .ok (.i2l, 1) := dk_133 (dk_at dksL_law_86 23 rfl rfl)
theorem dL_law_2169 : decode cL_law 2169 = .ok (.lcmp, 1) := dk_148 (dk_at dksL_law_87 0 rfl rfl)
theorem dL_law_2170 : decode cL_law 2170 = .ok (.ifCond .eq 5, 3) := dk_153 0 5 (dk_at dksL_law_87 1 rfl rfl)
theorem dL_law_2173 : decode cL_law 2173 = .ok (.iconst 0, 1) := dk_3 (dk_at dksL_law_87 4 rfl rfl)
theorem dL_law_2174 : decode cL_law 2174 = .ok (.ireturn, 1) := dk_172 (dk_at dksL_law_87 5 rfl rfl)
theorem dL_law_2175 : decode cL_law 2175 = .ok (.goto 385, 3) := dk_167 1 129 (dk_at dksL_law_87 6 rfl rfl)
theorem dL_law_2178 : decode cL_law 2178 = .ok (.aload_n 1, 1) := dk_43 (dk_at dksL_law_87 9 rfl rfl)
theorem dL_law_2179 : decode cL_law 2179 = .ok (.aload_n 0, 1) := dk_42 (dk_at dksL_law_87 10 rfl rfl)
theorem dL_law_2180 : decode cL_law 2180 = .ok (.iload 4, 2) := dk_21 4 (dk_at dksL_law_87 11 rfl rfl)
theorem dL_law_2182 : decode cL_law 2182 = .ok (.iconst 1, 1) := dk_4 (dk_at dksL_law_87 13 rfl rfl)
theorem dL_law_2183 : decode cL_law 2183 = .ok (.iadd, 1) := dk_96 (dk_at dksL_law_87 14 rfl rfl)
theorem dL_law_2184 : decode cL_law 2184 = .ok (.iaload, 1) := dk_46 (dk_at dksL_law_87 15 rfl rfl)
theorem dL_law_2185 : decode cL_law 2185 = .ok (.aload_n 3, 1) := dk_45 (dk_at dksL_law_87 16 rfl rfl)
theorem dL_law_2186 : decode cL_law 2186 = .ok (.invokestatic 220, 3) := dk_184 0 220 (dk_at dksL_law_87 17 rfl rfl)
theorem dL_law_2189 : decode cL_law 2189 = .ok (.istore 5, 2) := dk_54 5 (dk_at dksL_law_87 20 rfl rfl)
theorem dL_law_2191 : decode cL_law 2191 = .ok (.aload_n 2, 1) := dk_44 (dk_at dksL_law_87 22 rfl rfl)
theorem dL_law_2192 : decode cL_law 2192 = .ok (.aload_n 0, 1) := dk_42 (dk_at dksL_law_87 23 rfl rfl)
theorem dL_law_2193 : decode cL_law 2193 = .ok (.iload 4, 2) := dk_21 4 (dk_at dksL_law_88 0 rfl rfl)
theorem dL_law_2195 : decode cL_law 2195 = .ok (.iconst 1, 1) := dk_4 (dk_at dksL_law_88 2 rfl rfl)
theorem dL_law_2196 : decode cL_law 2196 = .ok (.iadd, 1) := dk_96 (dk_at dksL_law_88 3 rfl rfl)
theorem dL_law_2197 : decode cL_law 2197 = .ok (.iaload, 1) := dk_46 (dk_at dksL_law_88 4 rfl rfl)
theorem dL_law_2198 : decode cL_law 2198 = .ok (.invokevirtual 222, 3) := dk_182 0 222 (dk_at dksL_law_88 5 rfl rfl)
theorem dL_law_2201 : decode cL_law 2201 = .ok (.istore 6, 2) := dk_54 6 (dk_at dksL_law_88 8 rfl rfl)
theorem dL_law_2203 : decode cL_law 2203 = .ok (.aload_n 2, 1) := dk_44 (dk_at dksL_law_88 10 rfl rfl)
theorem dL_law_2204 : decode cL_law 2204 = .ok (.invokevirtual 129, 3) := dk_182 0 129 (dk_at dksL_law_88 11 rfl rfl)
theorem dL_law_2207 : decode cL_law 2207 = .ok (.iload 5, 2) := dk_21 5 (dk_at dksL_law_88 14 rfl rfl)
theorem dL_law_2209 : decode cL_law 2209 = .ok (.if_icmp .eq 5, 3) := dk_159 0 5 (dk_at dksL_law_88 16 rfl rfl)
theorem dL_law_2212 : decode cL_law 2212 = .ok (.iconst 0, 1) := dk_3 (dk_at dksL_law_88 19 rfl rfl)
theorem dL_law_2213 : decode cL_law 2213 = .ok (.ireturn, 1) := dk_172 (dk_at dksL_law_88 20 rfl rfl)
theorem dL_law_2214 : decode cL_law 2214 = .ok (.iload 5, 2) := dk_21 5 (dk_at dksL_law_88 21 rfl rfl)
theorem dL_law_2216 : decode cL_law 2216 = .ok (.ifCond .ne 15, 3) := dk_154 0 15 (dk_at dksL_law_89 0 rfl rfl)
theorem dL_law_2219 : decode cL_law 2219 = .ok (.aload_n 3, 1) := dk_45 (dk_at dksL_law_89 3 rfl rfl)
theorem dL_law_2220 : decode cL_law 2220 = .ok (.iconst 0, 1) := dk_3 (dk_at dksL_law_89 4 rfl rfl)
theorem dL_law_2221 : decode cL_law 2221 = .ok (.laload, 1) := dk_47 (dk_at dksL_law_89 5 rfl rfl)
theorem dL_law_2222 : decode cL_law 2222 = .ok (.iload 6, 2) := dk_21 6 (dk_at dksL_law_89 6 rfl rfl)
theorem dL_law_2224 : decode cL_law 2224 = .ok (.i2l, 1) := dk_133 (dk_at dksL_law_89 8 rfl rfl)
theorem dL_law_2225 : decode cL_law 2225 = .ok (.lcmp, 1) := dk_148 (dk_at dksL_law_89 9 rfl rfl)
theorem dL_law_2226 : decode cL_law 2226 = .ok (.ifCond .eq 5, 3) := dk_153 0 5 (dk_at dksL_law_89 10 rfl rfl)
theorem dL_law_2229 : decode cL_law 2229 = .ok (.iconst 0, 1) := dk_3 (dk_at dksL_law_89 13 rfl rfl)
theorem dL_law_2230 : decode cL_law 2230 = .ok (.ireturn, 1) := dk_172 (dk_at dksL_law_89 14 rfl rfl)
theorem dL_law_2231 : decode cL_law 2231 = .ok (.goto 329, 3) := dk_167 1 73 (dk_at dksL_law_89 15 rfl rfl)
theorem dL_law_2234 : decode cL_law 2234 = .ok (.aload_n 1, 1) := dk_43 (dk_at dksL_law_89 18 rfl rfl)
theorem dL_law_2235 : decode cL_law 2235 = .ok (.invokevirtual 223, 3) := dk_182 0 223 (dk_at dksL_law_89 19 rfl rfl)
theorem dL_law_2238 : decode cL_law 2238 = .ok (.f2d, 1) := dk_141 (dk_at dksL_law_89 22 rfl rfl)
theorem dL_law_2239 : decode cL_law 2239 = .ok (.dstore 5, 2) := dk_57 5 (dk_at dksL_law_90 0 rfl rfl)
theorem dL_law_2241 : decode cL_law 2241 = .ok (.aload_n 2, 1) := dk_44 (dk_at dksL_law_90 2 rfl rfl)
theorem dL_law_2242 : decode cL_law 2242 = .ok (.invokevirtual 227, 3) := dk_182 0 227 (dk_at dksL_law_90 3 rfl rfl)
theorem dL_law_2245 : decode cL_law 2245 = .ok (.f2d, 1) := dk_141 (dk_at dksL_law_90 6 rfl rfl)
theorem dL_law_2246 : decode cL_law 2246 = .ok (.dstore 7, 2) := dk_57 7 (dk_at dksL_law_90 7 rfl rfl)
theorem dL_law_2248 : decode cL_law 2248 = .ok (.dload 5, 2) := dk_24 5 (dk_at dksL_law_90 9 rfl rfl)
theorem dL_law_2250 : decode cL_law 2250 = .ok (.dload 7, 2) := dk_24 7 (dk_at dksL_law_90 11 rfl rfl)
theorem dL_law_2252 : decode cL_law 2252 = .ok (.dcmp .l, 1) := dk_151 (dk_at dksL_law_90 13 rfl rfl)
theorem dL_law_2253 : decode cL_law 2253 = .ok (.ifCond .eq 21, 3) := dk_153 0 21 (dk_at dksL_law_90 14 rfl rfl)
theorem dL_law_2256 : decode cL_law 2256 = .ok (.dload 5, 2) := dk_24 5 (dk_at dksL_law_90 17 rfl rfl)
theorem dL_law_2258 : decode cL_law 2258 = .ok (.dload 5, 2) := dk_24 5 (dk_at dksL_law_90 19 rfl rfl)
theorem dL_law_2260 : decode cL_law 2260 = .ok (.dcmp .l, 1) := dk_151 (dk_at dksL_law_90 21 rfl rfl)
theorem dL_law_2261 : decode cL_law 2261 = .ok (.ifCond .eq 11, 3) := dk_153 0 11 (dk_at dksL_law_91 0 rfl rfl)
theorem dL_law_2264 : decode cL_law 2264 = .ok (.dload 7, 2) := dk_24 7 (dk_at dksL_law_91 3 rfl rfl)
theorem dL_law_2266 : decode cL_law 2266 = .ok (.dload 7, 2) := dk_24 7 (dk_at dksL_law_91 5 rfl rfl)
theorem dL_law_2268 : decode cL_law 2268 = .ok (.dcmp .l, 1) := dk_151 (dk_at dksL_law_91 7 rfl rfl)
theorem dL_law_2269 : decode cL_law 2269 = .ok (.ifCond .ne 5, 3) := dk_154 0 5 (dk_at dksL_law_91 8 rfl rfl)
theorem dL_law_2272 : decode cL_law 2272 = .ok (.iconst 0, 1) := dk_3 (dk_at dksL_law_91 11 rfl rfl)
theorem dL_law_2273 : decode cL_law 2273 = .ok (.ireturn, 1) := dk_172 (dk_at dksL_law_91 12 rfl rfl)
theorem dL_law_2274 : decode cL_law 2274 = .ok (.goto 286, 3) := dk_167 1 30 (dk_at dksL_law_91 13 rfl rfl)
theorem dL_law_2277 : decode cL_law 2277 = .ok (.aload_n 1, 1) := dk_43 (dk_at dksL_law_91 16 rfl rfl)
theorem dL_law_2278 : decode cL_law 2278 = .ok (.invokevirtual 228, 3) := dk_182 0 228 (dk_at dksL_law_91 17 rfl rfl)
theorem dL_law_2281 : decode cL_law 2281 = .ok (.dstore 5, 2) := dk_57 5 (dk_at dksL_law_91 20 rfl rfl)
theorem dL_law_2283 : decode cL_law 2283 = .ok (.aload_n 2, 1) := dk_44 (dk_at dksL_law_91 22 rfl rfl)
theorem dL_law_2284 : decode cL_law 2284 = .ok (.invokevirtual 232, 3) := dk_182 0 232 (dk_at dksL_law_92 0 rfl rfl)
theorem dL_law_2287 : decode cL_law 2287 = .ok (.dstore 7, 2) := dk_57 7 (dk_at dksL_law_92 3 rfl rfl)
theorem dL_law_2289 : decode cL_law 2289 = .ok (.dload 5, 2) := dk_24 5 (dk_at dksL_law_92 5 rfl rfl)
theorem dL_law_2291 : decode cL_law 2291 = .ok (.dload 7, 2) := dk_24 7 (dk_at dksL_law_92 7 rfl rfl)
theorem dL_law_2293 : decode cL_law 2293 = .ok (.dcmp .l, 1) := dk_151 (dk_at dksL_law_92 9 rfl rfl)
theorem dL_law_2294 : decode cL_law 2294 = .ok (.ifCond .eq 21, 3) := dk_153 0 21 (dk_at dksL_law_92 10 rfl rfl)
theorem dL_law_2297 : decode cL_law 2297 = .ok (.dload 5, 2) := dk_24 5 (dk_at dksL_law_92 13 rfl rfl)
theorem dL_law_2299 : decode cL_law 2299 = .ok (.dload 5, 2) := dk_24 5 (dk_at dksL_law_92 15 rfl rfl)
theorem dL_law_2301 : decode cL_law 2301 = .ok (.dcmp .l, 1) := dk_151 (dk_at dksL_law_92 17 rfl rfl)
theorem dL_law_2302 : decode cL_law 2302 = .ok (.ifCond .eq 11, 3) := dk_153 0 11 (dk_at dksL_law_92 18 rfl rfl)
theorem dL_law_2305 : decode cL_law 2305 = .ok (.dload 7, 2) := dk_24 7 (dk_at dksL_law_92 21 rfl rfl)
theorem dL_law_2307 : decode cL_law 2307 = .ok (.dload 7, 2) := dk_24 7 (dk_at dksL_law_93 0 rfl rfl)
theorem dL_law_2309 : decode cL_law 2309 = .ok (.dcmp .l, 1) := dk_151 (dk_at dksL_law_93 2 rfl rfl)
theorem dL_law_2310 : decode cL_law 2310 = .ok (.ifCond .ne 5, 3) := dk_154 0 5 (dk_at dksL_law_93 3 rfl rfl)
theorem dL_law_2313 : decode cL_law 2313 = .ok (.iconst 0, 1) := dk_3 (dk_at dksL_law_93 6 rfl rfl)
theorem dL_law_2314 : decode cL_law 2314 = .ok (.ireturn, 1) := dk_172 (dk_at dksL_law_93 7 rfl rfl)
theorem dL_law_2315 : decode cL_law 2315 = .ok (.goto 245, 3) := dk_167 0 245 (dk_at dksL_law_93 8 rfl rfl)
theorem dL_law_2318 : decode cL_law 2318 = .ok (.aload_n 1, 1) := dk_43 (dk_at dksL_law_93 11 rfl rfl)
theorem dL_law_2319 : decode cL_law 2319 = .ok (.invokevirtual 233, 3) := dk_182 0 233 (dk_at dksL_law_93 12 rfl rfl)
theorem dL_law_2322 : decode cL_law 2322 = .ok (.aload_n 2, 1) := dk_44 (dk_at dksL_law_93 15 rfl rfl)
theorem dL_law_2323 : decode cL_law 2323 = .ok (.invokevirtual 236, 3) := dk_182 0 236 (dk_at dksL_law_93 16 rfl rfl)
theorem dL_law_2326 : decode cL_law 2326 = .ok (.if_icmp .eq 234, 3) := dk_159 0 234 (dk_at dksL_law_93 19 rfl rfl)
theorem dL_law_2329 : decode cL_law 2329 = .ok (.iconst 0, 1) := dk_3 (dk_at dksL_law_93 22 rfl rfl)
theorem dL_law_2330 : decode cL_law 2330 = .ok (.ireturn, 1) := dk_172 (dk_at dksL_law_93 23 rfl rfl)
theorem dL_law_2331 : decode cL_law 2331 = .ok (.aload_n 1, 1) := dk_43 (dk_at dksL_law_94 0 rfl rfl)
theorem dL_law_2332 : decode cL_law 2332 = .ok (.aload_n 0, 1) := dk_42 (dk_at dksL_law_94 1 rfl rfl)
theorem dL_law_2333 : decode cL_law 2333 = .ok (.iload 4, 2) := dk_21 4 (dk_at dksL_law_94 2 rfl rfl)
theorem dL_law_2335 : decode cL_law 2335 = .ok (.iconst 1, 1) := dk_4 (dk_at dksL_law_94 4 rfl rfl)
theorem dL_law_2336 : decode cL_law 2336 = .ok (.iadd, 1) := dk_96 (dk_at dksL_law_94 5 rfl rfl)
theorem dL_law_2337 : decode cL_law 2337 = .ok (.iaload, 1) := dk_46 (dk_at dksL_law_94 6 rfl rfl)
theorem dL_law_2338 : decode cL_law 2338 = .ok (.aload_n 3, 1) := dk_45 (dk_at dksL_law_94 7 rfl rfl)
theorem dL_law_2339 : decode cL_law 2339 = .ok (.invokestatic 237, 3) := dk_184 0 237 (dk_at dksL_law_94 8 rfl rfl)
theorem dL_law_2342 : decode cL_law 2342 = .ok (.istore 5, 2) := dk_54 5 (dk_at dksL_law_94 11 rfl rfl)
theorem dL_law_2344 : decode cL_law 2344 = .ok (.aload_n 2, 1) := dk_44 (dk_at dksL_law_94 13 rfl rfl)
theorem dL_law_2345 : decode cL_law 2345 = .ok (.aload_n 0, 1) := dk_42 (dk_at dksL_law_94 14 rfl rfl)
theorem dL_law_2346 : decode cL_law 2346 = .ok (.iload 4, 2) := dk_21 4 (dk_at dksL_law_94 15 rfl rfl)
theorem dL_law_2348 : decode cL_law 2348 = .ok (.iconst 1, 1) := dk_4 (dk_at dksL_law_94 17 rfl rfl)
theorem dL_law_2349 : decode cL_law 2349 = .ok (.iadd, 1) := dk_96 (dk_at dksL_law_94 18 rfl rfl)
theorem dL_law_2350 : decode cL_law 2350 = .ok (.iaload, 1) := dk_46 (dk_at dksL_law_94 19 rfl rfl)
theorem dL_law_2351 : decode cL_law 2351 = .ok (.invokevirtual 239, 3) := dk_182 0 239 (dk_at dksL_law_94 20 rfl rfl)
theorem dL_law_2354 : decode cL_law 2354 = .ok (.istore 6, 2) := dk_54 6 (dk_at dksL_law_95 0 rfl rfl)
theorem dL_law_2356 : decode cL_law 2356 = .ok (.aload_n 2, 1) := dk_44 (dk_at dksL_law_95 2 rfl rfl)
theorem dL_law_2357 : decode cL_law 2357 = .ok (.invokevirtual 129, 3) := dk_182 0 129 (dk_at dksL_law_95 3 rfl rfl)
theorem dL_law_2360 : decode cL_law 2360 = .ok (.iload 5, 2) := dk_21 5 (dk_at dksL_law_95 6 rfl rfl)
theorem dL_law_2362 : decode cL_law 2362 = .ok (.if_icmp .eq 5, 3) := dk_159 0 5 (dk_at dksL_law_95 8 rfl rfl)
theorem dL_law_2365 : decode cL_law 2365 = .ok (.iconst 0, 1) := dk_3 (dk_at dksL_law_95 11 rfl rfl)
theorem dL_law_2366 : decode cL_law 2366 = .ok (.ireturn, 1) := dk_172 (dk_at dksL_law_95 12 rfl rfl)
theorem dL_law_2367 : decode cL_law 2367 = .ok (.iload 5, 2) := dk_21 5 (dk_at dksL_law_95 13 rfl rfl)
theorem dL_law_2369 : decode cL_law 2369 = .ok (.ifCond .ne 15, 3) := dk_154 0 15 (dk_at dksL_law_95 15 rfl rfl)
theorem dL_law_2372 : decode cL_law 2372 = .ok (.aload_n 3, 1) := dk_45 (dk_at dksL_law_95 18 rfl rfl)
theorem dL_law_2373 : decode cL_law 2373 = .ok (.iconst 0, 1) := dk_3 (dk_at dksL_law_95 19 rfl rfl)
theorem dL_law_2374 : decode cL_law 2374 = .ok (.laload, 1) := dk_47 (dk_at dksL_law_95 20 rfl rfl)
theorem dL_law_2375 : decode cL_law 2375 = .ok (.iload 6, 2) := dk_21 6 (dk_at dksL_law_95 21 rfl rfl)
theorem dL_law_2377 : decode cL_law 2377 = .ok (.i2l, 1) := dk_133 (dk_at dksL_law_95 23 rfl rfl)
theorem dL_law_2378 : decode cL_law 2378 = .ok (.lcmp, 1) := dk_148 (dk_at dksL_law_96 0 rfl rfl)
theorem dL_law_2379 : decode cL_law 2379 = .ok (.ifCond .eq 5, 3) := dk_153 0 5 (dk_at dksL_law_96 1 rfl rfl)
theorem dL_law_2382 : decode cL_law 2382 = .ok (.iconst 0, 1) := dk_3 (dk_at dksL_law_96 4 rfl rfl)
theorem dL_law_2383 : decode cL_law 2383 = .ok (.ireturn, 1) := dk_172 (dk_at dksL_law_96 5 rfl rfl)
theorem dL_law_2384 : decode cL_law 2384 = .ok (.goto 176, 3) := dk_167 0 176 (dk_at dksL_law_96 6 rfl rfl)
theorem dL_law_2387 : decode cL_law 2387 = .ok (.aload_n 1, 1) := dk_43 (dk_at dksL_law_96 9 rfl rfl)
theorem dL_law_2388 : decode cL_law 2388 = .ok (.aload_n 0, 1) := dk_42 (dk_at dksL_law_96 10 rfl rfl)
theorem dL_law_2389 : decode cL_law 2389 = .ok (.iload 4, 2) := dk_21 4 (dk_at dksL_law_96 11 rfl rfl)
theorem dL_law_2391 : decode cL_law 2391 = .ok (.iconst 1, 1) := dk_4 (dk_at dksL_law_96 13 rfl rfl)
theorem dL_law_2392 : decode cL_law 2392 = .ok (.iadd, 1) := dk_96 (dk_at dksL_law_96 14 rfl rfl)
theorem dL_law_2393 : decode cL_law 2393 = .ok (.iaload, 1) := dk_46 (dk_at dksL_law_96 15 rfl rfl)
theorem dL_law_2394 : decode cL_law 2394 = .ok (.aload_n 0, 1) := dk_42 (dk_at dksL_law_96 16 rfl rfl)
theorem dL_law_2395 : decode cL_law 2395 = .ok (.iload 4, 2) := dk_21 4 (dk_at dksL_law_96 17 rfl rfl)
theorem dL_law_2397 : decode cL_law 2397 = .ok (.iconst 2, 1) := dk_5 (dk_at dksL_law_96 19 rfl rfl)
theorem dL_law_2398 : decode cL_law 2398 = .ok (.iadd, 1) := dk_96 (dk_at dksL_law_96 20 rfl rfl)
theorem dL_law_2399 : decode cL_law 2399 = .ok (.iaload, 1) := dk_46 (dk_at dksL_law_96 21 rfl rfl)
theorem dL_law_2400 : decode cL_law 2400 = .ok (.aload_n 0, 1) := dk_42 (dk_at dksL_law_96 22 rfl rfl)
theorem dL_law_2401 : decode cL_law 2401 = .ok (.iload 4, 2) := dk_21 4 (dk_at dksL_law_97 0 rfl rfl)
theorem dL_law_2403 : decode cL_law 2403 = .ok (.iconst 3, 1) := dk_6 (dk_at dksL_law_97 2 rfl rfl)
theorem dL_law_2404 : decode cL_law 2404 = .ok (.iadd, 1) := dk_96 (dk_at dksL_law_97 3 rfl rfl)
theorem dL_law_2405 : decode cL_law 2405 = .ok (.iaload, 1) := dk_46 (dk_at dksL_law_97 4 rfl rfl)
theorem dL_law_2406 : decode cL_law 2406 = .ok (.aload_n 3, 1) := dk_45 (dk_at dksL_law_97 5 rfl rfl)
theorem dL_law_2407 : decode cL_law 2407 = .ok (.invokestatic 240, 3) := dk_184 0 240 (dk_at dksL_law_97 6 rfl rfl)
theorem dL_law_2410 : decode cL_law 2410 = .ok (.istore 5, 2) := dk_54 5 (dk_at dksL_law_97 9 rfl rfl)
theorem dL_law_2412 : decode cL_law 2412 = .ok (.aload_n 2, 1) := dk_44 (dk_at dksL_law_97 11 rfl rfl)
theorem dL_law_2413 : decode cL_law 2413 = .ok (.aload_n 0, 1) := dk_42 (dk_at dksL_law_97 12 rfl rfl)
theorem dL_law_2414 : decode cL_law 2414 = .ok (.iload 4, 2) := dk_21 4 (dk_at dksL_law_97 13 rfl rfl)
theorem dL_law_2416 : decode cL_law 2416 = .ok (.iconst 1, 1) := dk_4 (dk_at dksL_law_97 15 rfl rfl)
theorem dL_law_2417 : decode cL_law 2417 = .ok (.iadd, 1) := dk_96 (dk_at dksL_law_97 16 rfl rfl)
theorem dL_law_2418 : decode cL_law 2418 = .ok (.iaload, 1) := dk_46 (dk_at dksL_law_97 17 rfl rfl)
theorem dL_law_2419 : decode cL_law 2419 = .ok (.aload_n 0, 1) := dk_42 (dk_at dksL_law_97 18 rfl rfl)
theorem dL_law_2420 : decode cL_law 2420 = .ok (.iload 4, 2) := dk_21 4 (dk_at dksL_law_97 19 rfl rfl)
theorem dL_law_2422 : decode cL_law 2422 = .ok (.iconst 2, 1) := dk_5 (dk_at dksL_law_97 21 rfl rfl)
theorem dL_law_2423 : decode cL_law 2423 = .ok (.iadd, 1) := dk_96 (dk_at dksL_law_97 22 rfl rfl)
theorem dL_law_2424 : decode cL_law 2424 = .ok (.iaload, 1) := dk_46 (dk_at dksL_law_97 23 rfl rfl)
theorem dL_law_2425 : decode cL_law 2425 = .ok (.aload_n 0, 1) := dk_42 (dk_at dksL_law_98 0 rfl rfl)
theorem dL_law_2426 : decode cL_law 2426 = .ok (.iload 4, 2) := dk_21 4 (dk_at dksL_law_98 1 rfl rfl)
theorem dL_law_2428 : decode cL_law 2428 = .ok (.iconst 3, 1) := dk_6 (dk_at dksL_law_98 3 rfl rfl)
theorem dL_law_2429 : decode cL_law 2429 = .ok (.iadd, 1) := dk_96 (dk_at dksL_law_98 4 rfl rfl)
theorem dL_law_2430 : decode cL_law 2430 = .ok (.iaload, 1) := dk_46 (dk_at dksL_law_98 5 rfl rfl)
theorem dL_law_2431 : decode cL_law 2431 = .ok (.invokevirtual 242, 3) := dk_182 0 242 (dk_at dksL_law_98 6 rfl rfl)
theorem dL_law_2434 : decode cL_law 2434 = .ok (.istore 6, 2) := dk_54 6 (dk_at dksL_law_98 9 rfl rfl)
theorem dL_law_2436 : decode cL_law 2436 = .ok (.aload_n 2, 1) := dk_44 (dk_at dksL_law_98 11 rfl rfl)
theorem dL_law_2437 : decode cL_law 2437 = .ok (.invokevirtual 129, 3) := dk_182 0 129 (dk_at dksL_law_98 12 rfl rfl)
theorem dL_law_2440 : decode cL_law 2440 = .ok (.iload 5, 2) := dk_21 5 (dk_at dksL_law_98 15 rfl rfl)
theorem dL_law_2442 : decode cL_law 2442 = .ok (.if_icmp .eq 5, 3) := dk_159 0 5 (dk_at dksL_law_98 17 rfl rfl)
theorem dL_law_2445 : decode cL_law 2445 = .ok (.iconst 0, 1) := dk_3 (dk_at dksL_law_98 20 rfl rfl)
theorem dL_law_2446 : decode cL_law 2446 = .ok (.ireturn, 1) := dk_172 (dk_at dksL_law_98 21 rfl rfl)
theorem dL_law_2447 : decode cL_law 2447 = .ok (.iload 5, 2) := dk_21 5 (dk_at dksL_law_98 22 rfl rfl)
theorem dL_law_2449 : decode cL_law 2449 = .ok (.ifCond .ne 15, 3) := dk_154 0 15 (dk_at dksL_law_99 0 rfl rfl)
theorem dL_law_2452 : decode cL_law 2452 = .ok (.aload_n 3, 1) := dk_45 (dk_at dksL_law_99 3 rfl rfl)
theorem dL_law_2453 : decode cL_law 2453 = .ok (.iconst 0, 1) := dk_3 (dk_at dksL_law_99 4 rfl rfl)
theorem dL_law_2454 : decode cL_law 2454 = .ok (.laload, 1) := dk_47 (dk_at dksL_law_99 5 rfl rfl)
theorem dL_law_2455 : decode cL_law 2455 = .ok (.iload 6, 2) := dk_21 6 (dk_at dksL_law_99 6 rfl rfl)
theorem dL_law_2457 : decode cL_law 2457 = .ok (.i2l, 1) := dk_133 (dk_at dksL_law_99 8 rfl rfl)
theorem dL_law_2458 : decode cL_law 2458 = .ok (.lcmp, 1) := dk_148 (dk_at dksL_law_99 9 rfl rfl)
theorem dL_law_2459 : decode cL_law 2459 = .ok (.ifCond .eq 5, 3) := dk_153 0 5 (dk_at dksL_law_99 10 rfl rfl)
theorem dL_law_2462 : decode cL_law 2462 = .ok (.iconst 0, 1) := dk_3 (dk_at dksL_law_99 13 rfl rfl)
theorem dL_law_2463 : decode cL_law 2463 = .ok (.ireturn, 1) := dk_172 (dk_at dksL_law_99 14 rfl rfl)
theorem dL_law_2464 : decode cL_law 2464 = .ok (.goto 96, 3) := dk_167 0 96 (dk_at dksL_law_99 15 rfl rfl)
theorem dL_law_2467 : decode cL_law 2467 = .ok (.aload_n 1, 1) := dk_43 (dk_at dksL_law_99 18 rfl rfl)
theorem dL_law_2468 : decode cL_law 2468 = .ok (.aload_n 0, 1) := dk_42 (dk_at dksL_law_99 19 rfl rfl)
theorem dL_law_2469 : decode cL_law 2469 = .ok (.iload 4, 2) := dk_21 4 (dk_at dksL_law_99 20 rfl rfl)
theorem dL_law_2471 : decode cL_law 2471 = .ok (.iconst 1, 1) := dk_4 (dk_at dksL_law_99 22 rfl rfl)
theorem dL_law_2472 : decode cL_law 2472 = .ok (.iadd, 1) := dk_96 (dk_at dksL_law_99 23 rfl rfl)
theorem dL_law_2473 : decode cL_law 2473 = .ok (.iaload, 1) := dk_46 (dk_at dksL_law_100 0 rfl rfl)
theorem dL_law_2474 : decode cL_law 2474 = .ok (.aload_n 0, 1) := dk_42 (dk_at dksL_law_100 1 rfl rfl)
theorem dL_law_2475 : decode cL_law 2475 = .ok (.iload 4, 2) := dk_21 4 (dk_at dksL_law_100 2 rfl rfl)
theorem dL_law_2477 : decode cL_law 2477 = .ok (.iconst 2, 1) := dk_5 (dk_at dksL_law_100 4 rfl rfl)
theorem dL_law_2478 : decode cL_law 2478 = .ok (.iadd, 1) := dk_96 (dk_at dksL_law_100 5 rfl rfl)
theorem dL_law_2479 : decode cL_law 2479 = .ok (.iaload, 1) := dk_46 (dk_at dksL_law_100 6 rfl rfl)
theorem dL_law_2480 : decode cL_law 2480 = .ok (.aload_n 0, 1) := dk_42 (dk_at dksL_law_100 7 rfl rfl)
theorem dL_law_2481 : decode cL_law 2481 = .ok (.iload 4, 2) := dk_21 4 (dk_at dksL_law_100 8 rfl rfl)
theorem dL_law_2483 : decode cL_law 2483 = .ok (.iconst 3, 1) := dk_6 (dk_at dksL_law_100 10 rfl rfl)
theorem dL_law_2484 : decode cL_law 2484 = .ok (.iadd, 1) := dk_96 (dk_at dksL_law_100 11 rfl rfl)
theorem dL_law_2485 : decode cL_law 2485 = .ok (.iaload, 1) := dk_46 (dk_at dksL_law_100 12 rfl rfl)
theorem dL_law_2486 : decode cL_law 2486 = .ok (.aload_n 3, 1) := dk_45 (dk_at dksL_law_100 13 rfl rfl)
theorem dL_law_2487 : decode cL_law 2487 = .ok (.invokestatic 243, 3) := dk_184 0 243 (dk_at dksL_law_100 14 rfl rfl)
theorem dL_law_2490 : decode cL_law 2490 = .ok (.istore 5, 2) := dk_54 5 (dk_at dksL_law_100 17 rfl rfl)
theorem dL_law_2492 : decode cL_law 2492 = .ok (.aload_n 2, 1) := dk_44 (dk_at dksL_law_100 19 rfl rfl)
theorem dL_law_2493 : decode cL_law 2493 = .ok (.aload_n 0, 1) := dk_42 (dk_at dksL_law_100 20 rfl rfl)
theorem dL_law_2494 : decode cL_law 2494 = .ok (.iload 4, 2) := dk_21 4 (dk_at dksL_law_100 21 rfl rfl)
theorem dL_law_2496 : decode cL_law 2496 = .ok (.iconst 1, 1) := dk_4 (dk_at dksL_law_100 23 rfl rfl)
theorem dL_law_2497 : decode cL_law 2497 = .ok (.iadd, 1) := dk_96 (dk_at dksL_law_101 0 rfl rfl)
theorem dL_law_2498 : decode cL_law 2498 = .ok (.iaload, 1) := dk_46 (dk_at dksL_law_101 1 rfl rfl)
theorem dL_law_2499 : decode cL_law 2499 = .ok (.aload_n 0, 1) := dk_42 (dk_at dksL_law_101 2 rfl rfl)
theorem dL_law_2500 : decode cL_law 2500 = .ok (.iload 4, 2) := dk_21 4 (dk_at dksL_law_101 3 rfl rfl)
theorem dL_law_2502 : decode cL_law 2502 = .ok (.iconst 2, 1) := dk_5 (dk_at dksL_law_101 5 rfl rfl)
theorem dL_law_2503 : decode cL_law 2503 = .ok (.iadd, 1) := dk_96 (dk_at dksL_law_101 6 rfl rfl)
theorem dL_law_2504 : decode cL_law 2504 = .ok (.iaload, 1) := dk_46 (dk_at dksL_law_101 7 rfl rfl)
theorem dL_law_2505 : decode cL_law 2505 = .ok (.aload_n 0, 1) := dk_42 (dk_at dksL_law_101 8 rfl rfl)
theorem dL_law_2506 : decode cL_law 2506 = .ok (.iload 4, 2) := dk_21 4 (dk_at dksL_law_101 9 rfl rfl)
theorem dL_law_2508 : decode cL_law 2508 = .ok (.iconst 3, 1) := dk_6 (dk_at dksL_law_101 11 rfl rfl)
theorem dL_law_2509 : decode cL_law 2509 = .ok (.iadd, 1) := dk_96 (dk_at dksL_law_101 12 rfl rfl)
theorem dL_law_2510 : decode cL_law 2510 = .ok (.iaload, 1) := dk_46 (dk_at dksL_law_101 13 rfl rfl)
theorem dL_law_2511 : decode cL_law 2511 = .ok (.invokevirtual 245, 3) := dk_182 0 245 (dk_at dksL_law_101 14 rfl rfl)
theorem dL_law_2514 : decode cL_law 2514 = .ok (.istore 6, 2) := dk_54 6 (dk_at dksL_law_101 17 rfl rfl)
theorem dL_law_2516 : decode cL_law 2516 = .ok (.aload_n 2, 1) := dk_44 (dk_at dksL_law_101 19 rfl rfl)
theorem dL_law_2517 : decode cL_law 2517 = .ok (.invokevirtual 129, 3) := dk_182 0 129 (dk_at dksL_law_101 20 rfl rfl)
theorem dL_law_2520 : decode cL_law 2520 = .ok (.iload 5, 2) := dk_21 5 (dk_at dksL_law_102 0 rfl rfl)
theorem dL_law_2522 : decode cL_law 2522 = .ok (.if_icmp .eq 5, 3) := dk_159 0 5 (dk_at dksL_law_102 2 rfl rfl)
theorem dL_law_2525 : decode cL_law 2525 = .ok (.iconst 0, 1) := dk_3 (dk_at dksL_law_102 5 rfl rfl)
theorem dL_law_2526 : decode cL_law 2526 = .ok (.ireturn, 1) := dk_172 (dk_at dksL_law_102 6 rfl rfl)
theorem dL_law_2527 : decode cL_law 2527 = .ok (.iload 5, 2) := dk_21 5 (dk_at dksL_law_102 7 rfl rfl)
theorem dL_law_2529 : decode cL_law 2529 = .ok (.ifCond .ne 15, 3) := dk_154 0 15 (dk_at dksL_law_102 9 rfl rfl)
theorem dL_law_2532 : decode cL_law 2532 = .ok (.aload_n 3, 1) := dk_45 (dk_at dksL_law_102 12 rfl rfl)
theorem dL_law_2533 : decode cL_law 2533 = .ok (.iconst 0, 1) := dk_3 (dk_at dksL_law_102 13 rfl rfl)
theorem dL_law_2534 : decode cL_law 2534 = .ok (.laload, 1) := dk_47 (dk_at dksL_law_102 14 rfl rfl)
theorem dL_law_2535 : decode cL_law 2535 = .ok (.iload 6, 2) := dk_21 6 (dk_at dksL_law_102 15 rfl rfl)
theorem dL_law_2537 : decode cL_law 2537 = .ok (.i2l, 1) := dk_133 (dk_at dksL_law_102 17 rfl rfl)
theorem dL_law_2538 : decode cL_law 2538 = .ok (.lcmp, 1) := dk_148 (dk_at dksL_law_102 18 rfl rfl)
theorem dL_law_2539 : decode cL_law 2539 = .ok (.ifCond .eq 5, 3) := dk_153 0 5 (dk_at dksL_law_102 19 rfl rfl)
theorem dL_law_2542 : decode cL_law 2542 = .ok (.iconst 0, 1) := dk_3 (dk_at dksL_law_102 22 rfl rfl)
theorem dL_law_2543 : decode cL_law 2543 = .ok (.ireturn, 1) := dk_172 (dk_at dksL_law_102 23 rfl rfl)
theorem dL_law_2544 : decode cL_law 2544 = .ok (.goto 16, 3) := dk_167 0 16 (dk_at dksL_law_103 0 rfl rfl)
theorem dL_law_2547 : decode cL_law 2547 = .ok (.aload_n 1, 1) := dk_43 (dk_at dksL_law_103 3 rfl rfl)
theorem dL_law_2548 : decode cL_law 2548 = .ok (.invokevirtual 246, 3) := dk_182 0 246 (dk_at dksL_law_103 4 rfl rfl)
theorem dL_law_2551 : decode cL_law 2551 = .ok (.aload_n 2, 1) := dk_44 (dk_at dksL_law_103 7 rfl rfl)
theorem dL_law_2552 : decode cL_law 2552 = .ok (.invokevirtual 249, 3) := dk_182 0 249 (dk_at dksL_law_103 8 rfl rfl)
theorem dL_law_2555 : decode cL_law 2555 = .ok (.if_icmp .eq 5, 3) := dk_159 0 5 (dk_at dksL_law_103 11 rfl rfl)
theorem dL_law_2558 : decode cL_law 2558 = .ok (.iconst 0, 1) := dk_3 (dk_at dksL_law_103 14 rfl rfl)
theorem dL_law_2559 : decode cL_law 2559 = .ok (.ireturn, 1) := dk_172 (dk_at dksL_law_103 15 rfl rfl)
theorem dL_law_2560 : decode cL_law 2560 = .ok (.iinc 4 6, 3) := dk_132 4 6 (dk_at dksL_law_103 16 rfl rfl)
theorem dL_law_2563 : decode cL_law 2563 = .ok (.goto (-2540), 3) := dk_167 246 20 (dk_at dksL_law_103 19 rfl rfl)
theorem dL_law_2566 : decode cL_law 2566 = .ok (.iconst 1, 1) := dk_4 (dk_at dksL_law_103 22 rfl rfl)
theorem dL_law_2567 : decode cL_law 2567 = .ok (.ireturn, 1) := dk_172 (dk_at dksL_law_103 23 rfl rfl)
