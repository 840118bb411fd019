/-! CheckoutDesk$2 -/
set_option maxRecDepth 100000
def RX17 : String := "CheckoutDesk$2"
def TX17 : u_T := fun k => match k with
  | 0 => ("CheckoutDesk$2", "val$hours", "I", true)
  | _ => ("CheckoutDesk$2", "this$0", "LCheckoutDesk;", true)
def tyX17 : Nat → FieldType := fun k => match k with
  | 0 => .int
  | _ => .object "CheckoutDesk"
abbrev wsX170 : List Cond := u_ws RX17 TX17 2
theorem nmX17 : ∀ a, a < 2 → ∀ b, b < 2 → a ≠ b → (TX17 a).2.1 ≠ (TX17 b).2.1 := by decide +kernel
theorem tyX17_ok : ∀ k, k < 2 → parseFieldDescriptor (TX17 k).2.2.1 = some (tyX17 k) := by decide +kernel
abbrev cX17_on : ByteArray := prog_13_method_2_code
def yX17_on : MethodName := ⟨RX17, "on", "(LCheckoutDesk$Store;)I"⟩
def dkwX17_on_1 : List UInt8 := [181, 0, 27, 28, 172]
abbrev dktX17_on_1 : List UInt8 := dkwX17_on_1 ++ []
def dkwX17_on_0 : List UInt8 := [42, 180, 0, 9, 4, 16, 100, 184, 0, 19, 184, 0, 23, 43, 180, 0, 27, 61, 43, 42, 180, 0, 9]
abbrev dktX17_on_0 : List UInt8 := dkwX17_on_0 ++ dktX17_on_1
theorem dksX17_on_0 : cX17_on.data.toList.drop 0 = dktX17_on_0 := by decide +kernel
theorem dksX17_on_1 : cX17_on.data.toList.drop 23 = dktX17_on_1 := dk_seg dksX17_on_0 23 rfl rfl
theorem dX17_on_0 : decode cX17_on 0 = .ok (.aload_n 0, 1) := dk_42 (dk_at dksX17_on_0 0 rfl rfl)
theorem dX17_on_1 : decode cX17_on 1 = .ok (.getfield 9, 3) := dk_180 0 9 (dk_at dksX17_on_0 1 rfl rfl)
theorem dX17_on_4 : decode cX17_on 4 = .ok (.iconst 1, 1) := dk_4 (dk_at dksX17_on_0 4 rfl rfl)
theorem dX17_on_5 : decode cX17_on 5 = .ok (.bipush 100, 2) := dk_16 100 (dk_at dksX17_on_0 5 rfl rfl)
theorem dX17_on_7 : decode cX17_on 7 = .ok (.invokestatic 19, 3) := dk_184 0 19 (dk_at dksX17_on_0 7 rfl rfl)
theorem dX17_on_10 : decode cX17_on 10 = .ok (.invokestatic 23, 3) := dk_184 0 23 (dk_at dksX17_on_0 10 rfl rfl)
theorem dX17_on_13 : decode cX17_on 13 = .ok (.aload_n 1, 1) := dk_43 (dk_at dksX17_on_0 13 rfl rfl)
theorem dX17_on_14 : decode cX17_on 14 = .ok (.getfield 27, 3) := dk_180 0 27 (dk_at dksX17_on_0 14 rfl rfl)
theorem dX17_on_17 : decode cX17_on 17 = .ok (.istore_n 2, 1) := dk_61 (dk_at dksX17_on_0 17 rfl rfl)
theorem dX17_on_18 : decode cX17_on 18 = .ok (.aload_n 1, 1) := dk_43 (dk_at dksX17_on_0 18 rfl rfl)
theorem dX17_on_19 : decode cX17_on 19 = .ok (.aload_n 0, 1) := dk_42 (dk_at dksX17_on_0 19 rfl rfl)
theorem dX17_on_20 : decode cX17_on 20 = .ok (.getfield 9, 3) := dk_180 0 9 (dk_at dksX17_on_0 20 rfl rfl)
theorem dX17_on_23 : decode cX17_on 23 = .ok (.putfield 27, 3) := dk_181 0 27 (dk_at dksX17_on_1 0 rfl rfl)
theorem dX17_on_26 : decode cX17_on 26 = .ok (.iload_n 2, 1) := dk_28 (dk_at dksX17_on_1 3 rfl rfl)
theorem dX17_on_27 : decode cX17_on 27 = .ok (.ireturn, 1) := dk_172 (dk_at dksX17_on_1 4 rfl rfl)
abbrev cX17_init : ByteArray := prog_13_method_1_code
def yX17_init : MethodName := ⟨RX17, "<init>", "(LCheckoutDesk;I)V"⟩
def dkwX17_init_0 : List UInt8 := [42, 43, 181, 0, 3, 42, 28, 181, 0, 9, 42, 183, 0, 13, 177]
abbrev dktX17_init_0 : List UInt8 := dkwX17_init_0 ++ []
theorem dksX17_init_0 : cX17_init.data.toList.drop 0 = dktX17_init_0 := by decide +kernel
theorem dX17_init_0 : decode cX17_init 0 = .ok (.aload_n 0, 1) := dk_42 (dk_at dksX17_init_0 0 rfl rfl)
theorem dX17_init_1 : decode cX17_init 1 = .ok (.aload_n 1, 1) := dk_43 (dk_at dksX17_init_0 1 rfl rfl)
theorem dX17_init_2 : decode cX17_init 2 = .ok (.putfield 3, 3) := dk_181 0 3 (dk_at dksX17_init_0 2 rfl rfl)
theorem dX17_init_5 : decode cX17_init 5 = .ok (.aload_n 0, 1) := dk_42 (dk_at dksX17_init_0 5 rfl rfl)
theorem dX17_init_6 : decode cX17_init 6 = .ok (.iload_n 2, 1) := dk_28 (dk_at dksX17_init_0 6 rfl rfl)
theorem dX17_init_7 : decode cX17_init 7 = .ok (.putfield 9, 3) := dk_181 0 9 (dk_at dksX17_init_0 7 rfl rfl)
theorem dX17_init_10 : decode cX17_init 10 = .ok (.aload_n 0, 1) := dk_42 (dk_at dksX17_init_0 10 rfl rfl)
theorem dX17_init_11 : decode cX17_init 11 = .ok (.invokespecial 13, 3) := dk_183 0 13 (dk_at dksX17_init_0 11 rfl rfl)
theorem dX17_init_14 : decode cX17_init 14 = .ok (.return_, 1) := dk_177 (dk_at dksX17_init_0 14 rfl rfl)
theorem q82 : (Jvm.Cond.initialized "CheckoutDesk$2") ∈ lw_all := lw_g (lw_at lw_m1 40 rfl) rfl
theorem q186 : (Jvm.Cond.fieldLinkNest "CheckoutDesk$2" (27 : Nat) "CheckoutDesk$Store" "lapse" "I" "CheckoutDesk") ∈ lw_tbl := lw_at lw_m1 144 rfl
theorem q1109 : (Jvm.Cond.selects "CheckoutDesk$2" ({ cls := "java/lang/Object", name := "getClass", desc := "()Ljava/lang/Class;" } : Jvm.MethodName) ({ cls := "java/lang/Object", name := "getClass", desc := "()Ljava/lang/Class;" } : Jvm.MethodName)) ∈ lw_all := lw_g (lw_at lw_m5 107 rfl) rfl
theorem q1322 : (Jvm.Cond.castable "CheckoutDesk$2" "CheckoutDesk$Act") ∈ lw_tbl := lw_at lw_m6 80 rfl
theorem q1323 : (Jvm.Cond.selects "CheckoutDesk$2" ({ cls := "CheckoutDesk$Act", name := "on", desc := "(LCheckoutDesk$Store;)I" } : Jvm.MethodName) ({ cls := "CheckoutDesk$2", name := "on", desc := "(LCheckoutDesk$Store;)I" } : Jvm.MethodName)) ∈ lw_all := lw_g (lw_at lw_m6 81 rfl) rfl
theorem q1324 : (Jvm.Cond.unhidden "CheckoutDesk$2" "on" "(LCheckoutDesk$Store;)I") ∈ lw_tbl := lw_at lw_m6 82 rfl
theorem q1325 : (Jvm.Cond.instanceMethod ({ cls := "CheckoutDesk$2", name := "on", desc := "(LCheckoutDesk$Store;)I" } : Jvm.MethodName)) ∈ lw_all := lw_g (lw_at lw_m6 83 rfl) rfl
theorem q1326 : (Jvm.Cond.publicMethod ({ cls := "CheckoutDesk$2", name := "on", desc := "(LCheckoutDesk$Store;)I" } : Jvm.MethodName)) ∈ lw_tbl := lw_at lw_m6 84 rfl
theorem q1327 : (Jvm.Cond.code ({ cls := "CheckoutDesk$2", name := "on", desc := "(LCheckoutDesk$Store;)I" } : Jvm.MethodName) prog_13_method_2_code (3 : Nat) (Option.some Jvm.ClassFile.FieldType.int)) ∈ lw_all := lw_g (lw_at lw_m6 85 rfl) rfl
theorem q1328 : (Jvm.Cond.methodLinkNest "CheckoutDesk$2" (19 : Nat) ({ cls := "CheckoutDesk", name := "inRange", desc := "(III)Z" } : Jvm.MethodName) "CheckoutDesk") ∈ lw_tbl := lw_at lw_m6 86 rfl
theorem q1329 : (Jvm.Cond.methodLinkNest "CheckoutDesk$2" (23 : Nat) ({ cls := "CheckoutDesk", name := "requireArgument", desc := "(Z)V" } : Jvm.MethodName) "CheckoutDesk") ∈ lw_tbl := lw_at lw_m6 87 rfl
theorem q1791 : (Jvm.Cond.instantiable "CheckoutDesk$2" (2 : Nat)) ∈ lw_all := lw_g (lw_at lw_m8 69 rfl) rfl
theorem q1793 : (Jvm.Cond.instanceMethod ({ cls := "CheckoutDesk$2", name := "<init>", desc := "(LCheckoutDesk;I)V" } : Jvm.MethodName)) ∈ lw_all := lw_g (lw_at lw_m8 71 rfl) rfl
theorem q1794 : (Jvm.Cond.code ({ cls := "CheckoutDesk$2", name := "<init>", desc := "(LCheckoutDesk;I)V" } : Jvm.MethodName) prog_13_method_1_code (3 : Nat) (Option.none : Option Jvm.ClassFile.FieldType)) ∈ lw_all := lw_g (lw_at lw_m8 72 rfl) rfl
theorem q1795 : (Jvm.Cond.methodLink "CheckoutDesk$2" (13 : Nat) ({ cls := "java/lang/Object", name := "<init>", desc := "()V" } : Jvm.MethodName)) ∈ lw_all := lw_g (lw_at lw_m8 73 rfl) rfl
theorem q1796 : (Jvm.Cond.fieldLink "CheckoutDesk$2" (9 : Nat) "CheckoutDesk$2" "val$hours" "I") ∈ lw_all := lw_g (lw_at lw_m8 74 rfl) rfl
theorem q1797 : (Jvm.Cond.fieldLink "CheckoutDesk$2" (3 : Nat) "CheckoutDesk$2" "this$0" "LCheckoutDesk;") ∈ lw_all := lw_g (lw_at lw_m8 75 rfl) rfl
theorem q1798 : (Jvm.Cond.laysFinal "CheckoutDesk$2" "CheckoutDesk$2" "val$hours" "I") ∈ lw_all := lw_g (lw_at lw_m8 76 rfl) rfl
theorem q1799 : (Jvm.Cond.soleField "CheckoutDesk$2" "val$hours") ∈ lw_all := lw_g (lw_at lw_m8 77 rfl) rfl
theorem q1800 : (Jvm.Cond.laysFinal "CheckoutDesk$2" "CheckoutDesk$2" "this$0" "LCheckoutDesk;") ∈ lw_all := lw_g (lw_at lw_m8 78 rfl) rfl
theorem q1801 : (Jvm.Cond.soleField "CheckoutDesk$2" "this$0") ∈ lw_all := lw_g (lw_at lw_m8 79 rfl) rfl
theorem q1802 : (Jvm.Cond.superclass "CheckoutDesk$2" "java/lang/Object") ∈ lw_all := lw_g (lw_at lw_m8 80 rfl) rfl
theorem q2697 : (Jvm.Cond.castable "CheckoutDesk$2" "java/lang/Object") ∈ lw_tbl := lw_at lw_m12 15 rfl
theorem in_X17 : ∀ w ∈ wsX170, w ∈ lw_all := lw_in wsX170 [1798, 1800] (by decide +kernel) (by decide +kernel)
/-! CheckoutDesk$3 -/
set_option maxRecDepth 100000
def RX18 : String := "CheckoutDesk$3"
def TX18 : u_T := fun k => match k with
  | 0 => ("CheckoutDesk$3", "val$owner", "I", true)
  | 1 => ("CheckoutDesk$3", "val$text", "I", true)
  | _ => ("CheckoutDesk$3", "this$0", "LCheckoutDesk;", true)
def tyX18 : Nat → FieldType := fun k => match k with
  | 0 => .int
  | 1 => .int
  | _ => .object "CheckoutDesk"
abbrev wsX180 : List Cond := u_ws RX18 TX18 3
theorem nmX18 : ∀ a, a < 3 → ∀ b, b < 3 → a ≠ b → (TX18 a).2.1 ≠ (TX18 b).2.1 := by decide +kernel
theorem tyX18_ok : ∀ k, k < 3 → parseFieldDescriptor (TX18 k).2.2.1 = some (tyX18 k) := by decide +kernel
abbrev cX18_on : ByteArray := prog_15_method_2_code
def yX18_on : MethodName := ⟨RX18, "on", "(LCheckoutDesk$Store;)I"⟩
def dkwX18_on_3 : List UInt8 := [3, 3, 4, 187, 0, 60, 89, 42, 180, 0, 13, 183, 0, 62, 182, 0, 63, 87, 28, 172]
abbrev dktX18_on_3 : List UInt8 := dkwX18_on_3 ++ []
def dkwX18_on_2 : List UInt8 := [184, 0, 49, 43, 180, 0, 34, 187, 0, 52, 89, 42, 180, 0, 9, 183, 0, 54, 182, 0, 56, 61, 43, 28]
abbrev dktX18_on_2 : List UInt8 := dkwX18_on_2 ++ dktX18_on_3
def dkwX18_on_1 : List UInt8 := [180, 0, 34, 182, 0, 40, 153, 0, 17, 43, 180, 0, 46, 182, 0, 40, 153, 0, 7, 4, 167, 0, 4, 3]
abbrev dktX18_on_1 : List UInt8 := dkwX18_on_1 ++ dktX18_on_2
def dkwX18_on_0 : List UInt8 := [42, 180, 0, 9, 184, 0, 22, 42, 180, 0, 13, 3, 17, 39, 15, 184, 0, 26, 184, 0, 30, 43]
abbrev dktX18_on_0 : List UInt8 := dkwX18_on_0 ++ dktX18_on_1
theorem dksX18_on_0 : cX18_on.data.toList.drop 0 = dktX18_on_0 := by decide +kernel
theorem dksX18_on_1 : cX18_on.data.toList.drop 22 = dktX18_on_1 := dk_seg dksX18_on_0 22 rfl rfl
theorem dksX18_on_2 : cX18_on.data.toList.drop 46 = dktX18_on_2 := dk_seg dksX18_on_1 24 rfl rfl
theorem dksX18_on_3 : cX18_on.data.toList.drop 70 = dktX18_on_3 := dk_seg dksX18_on_2 24 rfl rfl
theorem dX18_on_0 : decode cX18_on 0 = .ok (.aload_n 0, 1) := dk_42 (dk_at dksX18_on_0 0 rfl rfl)
theorem dX18_on_1 : decode cX18_on 1 = .ok (.getfield 9, 3) := dk_180 0 9 (dk_at dksX18_on_0 1 rfl rfl)
theorem dX18_on_4 : decode cX18_on 4 = .ok (.invokestatic 22, 3) := dk_184 0 22 (dk_at dksX18_on_0 4 rfl rfl)
theorem dX18_on_7 : decode cX18_on 7 = .ok (.aload_n 0, 1) := dk_42 (dk_at dksX18_on_0 7 rfl rfl)
theorem dX18_on_8 : decode cX18_on 8 = .ok (.getfield 13, 3) := dk_180 0 13 (dk_at dksX18_on_0 8 rfl rfl)
theorem dX18_on_11 : decode cX18_on 11 = .ok (.iconst 0, 1) := dk_3 (dk_at dksX18_on_0 11 rfl rfl)
theorem dX18_on_12 : decode cX18_on 12 = .ok (.sipush 9999, 3) := dk_17 39 15 (dk_at dksX18_on_0 12 rfl rfl)
theorem dX18_on_15 : decode cX18_on 15 = .ok (.invokestatic 26, 3) := dk_184 0 26 (dk_at dksX18_on_0 15 rfl rfl)
theorem dX18_on_18 : decode cX18_on 18 = .ok (.invokestatic 30, 3) := dk_184 0 30 (dk_at dksX18_on_0 18 rfl rfl)
theorem dX18_on_21 : decode cX18_on 21 = .ok (.aload_n 1, 1) := dk_43 (dk_at dksX18_on_0 21 rfl rfl)
theorem dX18_on_22 : decode cX18_on 22 = .ok (.getfield 34, 3) := dk_180 0 34 (dk_at dksX18_on_1 0 rfl rfl)
theorem dX18_on_25 : decode cX18_on 25 = .ok (.invokevirtual 40, 3) := dk_182 0 40 (dk_at dksX18_on_1 3 rfl rfl)
theorem dX18_on_28 : decode cX18_on 28 = .ok (.ifCond .eq 17, 3) := dk_153 0 17 (dk_at dksX18_on_1 6 rfl rfl)
theorem dX18_on_31 : decode cX18_on 31 = .ok (.aload_n 1, 1) := dk_43 (dk_at dksX18_on_1 9 rfl rfl)
theorem dX18_on_32 : decode cX18_on 32 = .ok (.getfield 46, 3) := dk_180 0 46 (dk_at dksX18_on_1 10 rfl rfl)
theorem dX18_on_35 : decode cX18_on 35 = .ok (.invokevirtual 40, 3) := dk_182 0 40 (dk_at dksX18_on_1 13 rfl rfl)
theorem dX18_on_38 : decode cX18_on 38 = .ok (.ifCond .eq 7, 3) := dk_153 0 7 (dk_at dksX18_on_1 16 rfl rfl)
theorem dX18_on_41 : decode cX18_on 41 = .ok (.iconst 1, 1) := dk_4 (dk_at dksX18_on_1 19 rfl rfl)
theorem dX18_on_42 : decode cX18_on 42 = .ok (.goto 4, 3) := dk_167 0 4 (dk_at dksX18_on_1 20 rfl rfl)
theorem dX18_on_45 : decode cX18_on 45 = .ok (.iconst 0, 1) := dk_3 (dk_at dksX18_on_1 23 rfl rfl)
theorem dX18_on_46 : decode cX18_on 46 = .ok (.invokestatic 49, 3) := dk_184 0 49 (dk_at dksX18_on_2 0 rfl rfl)
theorem dX18_on_49 : decode cX18_on 49 = .ok (.aload_n 1, 1) := dk_43 (dk_at dksX18_on_2 3 rfl rfl)
theorem dX18_on_50 : decode cX18_on 50 = .ok (.getfield 34, 3) := dk_180 0 34 (dk_at dksX18_on_2 4 rfl rfl)
theorem dX18_on_53 : decode cX18_on 53 = .ok (.new 52, 3) := dk_187 0 52 (dk_at dksX18_on_2 7 rfl rfl)
theorem dX18_on_56 : decode cX18_on 56 = .ok (.dup, 1) := dk_89 (dk_at dksX18_on_2 10 rfl rfl)
theorem dX18_on_57 : decode cX18_on 57 = .ok (.aload_n 0, 1) := dk_42 (dk_at dksX18_on_2 11 rfl rfl)
theorem dX18_on_58 : decode cX18_on 58 = .ok (.getfield 9, 3) := dk_180 0 9 (dk_at dksX18_on_2 12 rfl rfl)
theorem dX18_on_61 : decode cX18_on 61 = .ok (.invokespecial 54, 3) := dk_183 0 54 (dk_at dksX18_on_2 15 rfl rfl)
theorem dX18_on_64 : decode cX18_on 64 = .ok (.invokevirtual 56, 3) := dk_182 0 56 (dk_at dksX18_on_2 18 rfl rfl)
theorem dX18_on_67 : decode cX18_on 67 = .ok (.istore_n 2, 1) := dk_61 (dk_at dksX18_on_2 21 rfl rfl)
theorem dX18_on_68 : decode cX18_on 68 = .ok (.aload_n 1, 1) := dk_43 (dk_at dksX18_on_2 22 rfl rfl)
theorem dX18_on_69 : decode cX18_on 69 = .ok (.iload_n 2, 1) := dk_28 (dk_at dksX18_on_2 23 rfl rfl)
theorem dX18_on_70 : decode cX18_on 70 = .ok (.iconst 0, 1) := dk_3 (dk_at dksX18_on_3 0 rfl rfl)
theorem dX18_on_71 : decode cX18_on 71 = .ok (.iconst 0, 1) := dk_3 (dk_at dksX18_on_3 1 rfl rfl)
theorem dX18_on_72 : decode cX18_on 72 = .ok (.iconst 1, 1) := dk_4 (dk_at dksX18_on_3 2 rfl rfl)
theorem dX18_on_73 : decode cX18_on 73 = .ok (.new 60, 3) := dk_187 0 60 (dk_at dksX18_on_3 3 rfl rfl)
theorem dX18_on_76 : decode cX18_on 76 = .ok (.dup, 1) := dk_89 (dk_at dksX18_on_3 6 rfl rfl)
theorem dX18_on_77 : decode cX18_on 77 = .ok (.aload_n 0, 1) := dk_42 (dk_at dksX18_on_3 7 rfl rfl)
theorem dX18_on_78 : decode cX18_on 78 = .ok (.getfield 13, 3) := dk_180 0 13 (dk_at dksX18_on_3 8 rfl rfl)
theorem dX18_on_81 : decode cX18_on 81 = .ok (.invokespecial 62, 3) := dk_183 0 62 (dk_at dksX18_on_3 11 rfl rfl)
theorem dX18_on_84 : decode cX18_on 84 = .ok (.invokevirtual 63, 3) := dk_182 0 63 (dk_at dksX18_on_3 14 rfl rfl)
theorem dX18_on_87 : decode cX18_on 87 = .ok (.pop, 1) := dk_87 (dk_at dksX18_on_3 17 rfl rfl)
theorem dX18_on_88 : decode cX18_on 88 = .ok (.iload_n 2, 1) := dk_28 (dk_at dksX18_on_3 18 rfl rfl)
theorem dX18_on_89 : decode cX18_on 89 = .ok (.ireturn, 1) := dk_172 (dk_at dksX18_on_3 19 rfl rfl)
abbrev cX18_init : ByteArray := prog_15_method_1_code
def yX18_init : MethodName := ⟨RX18, "<init>", "(LCheckoutDesk;II)V"⟩
def dkwX18_init_0 : List UInt8 := [42, 43, 181, 0, 3, 42, 28, 181, 0, 9, 42, 29, 181, 0, 13, 42, 183, 0, 16, 177]
abbrev dktX18_init_0 : List UInt8 := dkwX18_init_0 ++ []
theorem dksX18_init_0 : cX18_init.data.toList.drop 0 = dktX18_init_0 := by decide +kernel
theorem dX18_init_0 : decode cX18_init 0 = .ok (.aload_n 0, 1) := dk_42 (dk_at dksX18_init_0 0 rfl rfl)
theorem dX18_init_1 : decode cX18_init 1 = .ok (.aload_n 1, 1) := dk_43 (dk_at dksX18_init_0 1 rfl rfl)
theorem dX18_init_2 : decode cX18_init 2 = .ok (.putfield 3, 3) := dk_181 0 3 (dk_at dksX18_init_0 2 rfl rfl)
theorem dX18_init_5 : decode cX18_init 5 = .ok (.aload_n 0, 1) := dk_42 (dk_at dksX18_init_0 5 rfl rfl)
theorem dX18_init_6 : decode cX18_init 6 = .ok (.iload_n 2, 1) := dk_28 (dk_at dksX18_init_0 6 rfl rfl)
theorem dX18_init_7 : decode cX18_init 7 = .ok (.putfield 9, 3) := dk_181 0 9 (dk_at dksX18_init_0 7 rfl rfl)
theorem dX18_init_10 : decode cX18_init 10 = .ok (.aload_n 0, 1) := dk_42 (dk_at dksX18_init_0 10 rfl rfl)
theorem dX18_init_11 : decode cX18_init 11 = .ok (.iload_n 3, 1) := dk_29 (dk_at dksX18_init_0 11 rfl rfl)
theorem dX18_init_12 : decode cX18_init 12 = .ok (.putfield 13, 3) := dk_181 0 13 (dk_at dksX18_init_0 12 rfl rfl)
theorem dX18_init_15 : decode cX18_init 15 = .ok (.aload_n 0, 1) := dk_42 (dk_at dksX18_init_0 15 rfl rfl)
theorem dX18_init_16 : decode cX18_init 16 = .ok (.invokespecial 16, 3) := dk_183 0 16 (dk_at dksX18_init_0 16 rfl rfl)
theorem dX18_init_19 : decode cX18_init 19 = .ok (.return_, 1) := dk_177 (dk_at dksX18_init_0 19 rfl rfl)
theorem q84 : (Jvm.Cond.initialized "CheckoutDesk$3") ∈ lw_all := lw_g (lw_at lw_m1 42 rfl) rfl
theorem q166 : (Jvm.Cond.fieldLinkNest "CheckoutDesk$3" (34 : Nat) "CheckoutDesk$Store" "documents" "LCheckoutDesk$Row;" "CheckoutDesk") ∈ lw_tbl := lw_at lw_m1 124 rfl
theorem q169 : (Jvm.Cond.fieldLinkNest "CheckoutDesk$3" (46 : Nat) "CheckoutDesk$Store" "versions" "LCheckoutDesk$Row;" "CheckoutDesk") ∈ lw_tbl := lw_at lw_m1 127 rfl
theorem q1111 : (Jvm.Cond.selects "CheckoutDesk$3" ({ cls := "java/lang/Object", name := "getClass", desc := "()Ljava/lang/Class;" } : Jvm.MethodName) ({ cls := "java/lang/Object", name := "getClass", desc := "()Ljava/lang/Class;" } : Jvm.MethodName)) ∈ lw_all := lw_g (lw_at lw_m5 109 rfl) rfl
theorem q1330 : (Jvm.Cond.castable "CheckoutDesk$3" "CheckoutDesk$Act") ∈ lw_tbl := lw_at lw_m6 88 rfl
theorem q1331 : (Jvm.Cond.selects "CheckoutDesk$3" ({ cls := "CheckoutDesk$Act", name := "on", desc := "(LCheckoutDesk$Store;)I" } : Jvm.MethodName) ({ cls := "CheckoutDesk$3", name := "on", desc := "(LCheckoutDesk$Store;)I" } : Jvm.MethodName)) ∈ lw_all := lw_g (lw_at lw_m6 89 rfl) rfl
theorem q1332 : (Jvm.Cond.unhidden "CheckoutDesk$3" "on" "(LCheckoutDesk$Store;)I") ∈ lw_tbl := lw_at lw_m6 90 rfl
theorem q1333 : (Jvm.Cond.instanceMethod ({ cls := "CheckoutDesk$3", name := "on", desc := "(LCheckoutDesk$Store;)I" } : Jvm.MethodName)) ∈ lw_all := lw_g (lw_at lw_m6 91 rfl) rfl
theorem q1334 : (Jvm.Cond.publicMethod ({ cls := "CheckoutDesk$3", name := "on", desc := "(LCheckoutDesk$Store;)I" } : Jvm.MethodName)) ∈ lw_tbl := lw_at lw_m6 92 rfl
theorem q1335 : (Jvm.Cond.code ({ cls := "CheckoutDesk$3", name := "on", desc := "(LCheckoutDesk$Store;)I" } : Jvm.MethodName) prog_15_method_2_code (3 : Nat) (Option.some Jvm.ClassFile.FieldType.int)) ∈ lw_all := lw_g (lw_at lw_m6 93 rfl) rfl
theorem q1336 : (Jvm.Cond.methodLinkNest "CheckoutDesk$3" (22 : Nat) ({ cls := "CheckoutDesk", name := "requirePerson", desc := "(I)V" } : Jvm.MethodName) "CheckoutDesk") ∈ lw_tbl := lw_at lw_m6 94 rfl
theorem q1337 : (Jvm.Cond.methodLinkNest "CheckoutDesk$3" (26 : Nat) ({ cls := "CheckoutDesk", name := "inRange", desc := "(III)Z" } : Jvm.MethodName) "CheckoutDesk") ∈ lw_tbl := lw_at lw_m6 95 rfl
theorem q1338 : (Jvm.Cond.methodLinkNest "CheckoutDesk$3" (30 : Nat) ({ cls := "CheckoutDesk", name := "requireArgument", desc := "(Z)V" } : Jvm.MethodName) "CheckoutDesk") ∈ lw_tbl := lw_at lw_m6 96 rfl
theorem q1339 : (Jvm.Cond.methodLink "CheckoutDesk$3" (40 : Nat) ({ cls := "CheckoutDesk$Row", name := "hasRoom", desc := "()Z" } : Jvm.MethodName)) ∈ lw_all := lw_g (lw_at lw_m6 97 rfl) rfl
theorem q1340 : (Jvm.Cond.methodLinkNest "CheckoutDesk$3" (49 : Nat) ({ cls := "CheckoutDesk", name := "requireState", desc := "(Z)V" } : Jvm.MethodName) "CheckoutDesk") ∈ lw_tbl := lw_at lw_m6 98 rfl
theorem q1341 : (Jvm.Cond.classLink "CheckoutDesk$3" (52 : Nat) "CheckoutDesk$Document") ∈ lw_all := lw_g (lw_at lw_m6 99 rfl) rfl
theorem q1343 : (Jvm.Cond.methodLink "CheckoutDesk$3" (54 : Nat) ({ cls := "CheckoutDesk$Document", name := "<init>", desc := "(I)V" } : Jvm.MethodName)) ∈ lw_all := lw_g (lw_at lw_m6 101 rfl) rfl
theorem q1372 : (Jvm.Cond.methodLink "CheckoutDesk$3" (56 : Nat) ({ cls := "CheckoutDesk$Row", name := "add", desc := "(Ljava/lang/Object;)I" } : Jvm.MethodName)) ∈ lw_all := lw_g (lw_at lw_m6 130 rfl) rfl
theorem q1373 : (Jvm.Cond.classLink "CheckoutDesk$3" (60 : Nat) "CheckoutDesk$Content") ∈ lw_all := lw_g (lw_at lw_m6 131 rfl) rfl
theorem q1374 : (Jvm.Cond.methodLink "CheckoutDesk$3" (62 : Nat) ({ cls := "CheckoutDesk$Content", name := "<init>", desc := "(I)V" } : Jvm.MethodName)) ∈ lw_all := lw_g (lw_at lw_m6 132 rfl) rfl
theorem q1377 : (Jvm.Cond.methodLink "CheckoutDesk$3" (63 : Nat) ({ cls := "CheckoutDesk$Store", name := "make", desc := "(IIIILCheckoutDesk$Content;)LCheckoutDesk$Version;" } : Jvm.MethodName)) ∈ lw_all := lw_g (lw_at lw_m6 135 rfl) rfl
theorem q1812 : (Jvm.Cond.instantiable "CheckoutDesk$3" (3 : Nat)) ∈ lw_all := lw_g (lw_at lw_m8 90 rfl) rfl
theorem q1814 : (Jvm.Cond.instanceMethod ({ cls := "CheckoutDesk$3", name := "<init>", desc := "(LCheckoutDesk;II)V" } : Jvm.MethodName)) ∈ lw_all := lw_g (lw_at lw_m8 92 rfl) rfl
theorem q1815 : (Jvm.Cond.code ({ cls := "CheckoutDesk$3", name := "<init>", desc := "(LCheckoutDesk;II)V" } : Jvm.MethodName) prog_15_method_1_code (4 : Nat) (Option.none : Option Jvm.ClassFile.FieldType)) ∈ lw_all := lw_g (lw_at lw_m8 93 rfl) rfl
theorem q1816 : (Jvm.Cond.methodLink "CheckoutDesk$3" (16 : Nat) ({ cls := "java/lang/Object", name := "<init>", desc := "()V" } : Jvm.MethodName)) ∈ lw_all := lw_g (lw_at lw_m8 94 rfl) rfl
theorem q1817 : (Jvm.Cond.fieldLink "CheckoutDesk$3" (9 : Nat) "CheckoutDesk$3" "val$owner" "I") ∈ lw_all := lw_g (lw_at lw_m8 95 rfl) rfl
theorem q1818 : (Jvm.Cond.fieldLink "CheckoutDesk$3" (13 : Nat) "CheckoutDesk$3" "val$text" "I") ∈ lw_all := lw_g (lw_at lw_m8 96 rfl) rfl
theorem q1819 : (Jvm.Cond.fieldLink "CheckoutDesk$3" (3 : Nat) "CheckoutDesk$3" "this$0" "LCheckoutDesk;") ∈ lw_all := lw_g (lw_at lw_m8 97 rfl) rfl
theorem q1820 : (Jvm.Cond.laysFinal "CheckoutDesk$3" "CheckoutDesk$3" "val$owner" "I") ∈ lw_all := lw_g (lw_at lw_m8 98 rfl) rfl
theorem q1821 : (Jvm.Cond.soleField "CheckoutDesk$3" "val$owner") ∈ lw_all := lw_g (lw_at lw_m8 99 rfl) rfl
theorem q1822 : (Jvm.Cond.laysFinal "CheckoutDesk$3" "CheckoutDesk$3" "val$text" "I") ∈ lw_all := lw_g (lw_at lw_m8 100 rfl) rfl
theorem q1823 : (Jvm.Cond.soleField "CheckoutDesk$3" "val$text") ∈ lw_all := lw_g (lw_at lw_m8 101 rfl) rfl
theorem q1824 : (Jvm.Cond.laysFinal "CheckoutDesk$3" "CheckoutDesk$3" "this$0" "LCheckoutDesk;") ∈ lw_all := lw_g (lw_at lw_m8 102 rfl) rfl
theorem q1825 : (Jvm.Cond.soleField "CheckoutDesk$3" "this$0") ∈ lw_all := lw_g (lw_at lw_m8 103 rfl) rfl
theorem q1826 : (Jvm.Cond.superclass "CheckoutDesk$3" "java/lang/Object") ∈ lw_all := lw_g (lw_at lw_m8 104 rfl) rfl
theorem q2699 : (Jvm.Cond.castable "CheckoutDesk$3" "java/lang/Object") ∈ lw_tbl := lw_at lw_m12 17 rfl
theorem in_X18 : ∀ w ∈ wsX180, w ∈ lw_all := lw_in wsX180 [1820, 1822, 1824] (by decide +kernel) (by decide +kernel)
/-! CheckoutDesk$4 -/
set_option maxRecDepth 100000
def RX19 : String := "CheckoutDesk$4"
def TX19 : u_T := fun k => match k with
  | 0 => ("CheckoutDesk$4", "val$by", "I", true)
  | 1 => ("CheckoutDesk$4", "val$document", "I", true)
  | 2 => ("CheckoutDesk$4", "val$person", "I", true)
  | 3 => ("CheckoutDesk$4", "val$right", "I", true)
  | _ => ("CheckoutDesk$4", "this$0", "LCheckoutDesk;", true)
def tyX19 : Nat → FieldType := fun k => match k with
  | 0 => .int
  | 1 => .int
  | 2 => .int
  | 3 => .int
  | _ => .object "CheckoutDesk"
abbrev wsX190 : List Cond := u_ws RX19 TX19 5
theorem nmX19 : ∀ a, a < 5 → ∀ b, b < 5 → a ≠ b → (TX19 a).2.1 ≠ (TX19 b).2.1 := by decide +kernel
theorem tyX19_ok : ∀ k, k < 5 → parseFieldDescriptor (TX19 k).2.2.1 = some (tyX19 k) := by decide +kernel
abbrev cX19_on : ByteArray := prog_16_method_2_code
def yX19_on : MethodName := ⟨RX19, "on", "(LCheckoutDesk$Store;)I"⟩
def dkwX19_on_4 : List UInt8 := [180, 0, 19, 79, 29, 172]
abbrev dktX19_on_4 : List UInt8 := dkwX19_on_4 ++ []
def dkwX19_on_3 : List UInt8 := [184, 0, 51, 44, 180, 0, 54, 42, 180, 0, 16, 46, 62, 44, 180, 0, 54, 42, 180, 0, 16, 42]
abbrev dktX19_on_3 : List UInt8 := dkwX19_on_3 ++ dktX19_on_4
def dkwX19_on_2 : List UInt8 := [167, 0, 4, 3, 184, 0, 47, 44, 180, 0, 42, 42, 180, 0, 9, 160, 0, 7, 4, 167, 0, 4, 3]
abbrev dktX19_on_2 : List UInt8 := dkwX19_on_2 ++ dktX19_on_3
def dkwX19_on_1 : List UInt8 := [180, 0, 19, 3, 5, 184, 0, 38, 153, 0, 18, 44, 180, 0, 42, 42, 180, 0, 16, 159, 0, 7, 4]
abbrev dktX19_on_1 : List UInt8 := dkwX19_on_1 ++ dktX19_on_2
def dkwX19_on_0 : List UInt8 := [42, 180, 0, 9, 184, 0, 28, 43, 42, 180, 0, 13, 182, 0, 32, 77, 42, 180, 0, 16, 184, 0, 28, 42]
abbrev dktX19_on_0 : List UInt8 := dkwX19_on_0 ++ dktX19_on_1
theorem dksX19_on_0 : cX19_on.data.toList.drop 0 = dktX19_on_0 := by decide +kernel
theorem dksX19_on_1 : cX19_on.data.toList.drop 24 = dktX19_on_1 := dk_seg dksX19_on_0 24 rfl rfl
theorem dksX19_on_2 : cX19_on.data.toList.drop 47 = dktX19_on_2 := dk_seg dksX19_on_1 23 rfl rfl
theorem dksX19_on_3 : cX19_on.data.toList.drop 70 = dktX19_on_3 := dk_seg dksX19_on_2 23 rfl rfl
theorem dksX19_on_4 : cX19_on.data.toList.drop 92 = dktX19_on_4 := dk_seg dksX19_on_3 22 rfl rfl
theorem dX19_on_0 : decode cX19_on 0 = .ok (.aload_n 0, 1) := dk_42 (dk_at dksX19_on_0 0 rfl rfl)
theorem dX19_on_1 : decode cX19_on 1 = .ok (.getfield 9, 3) := dk_180 0 9 (dk_at dksX19_on_0 1 rfl rfl)
theorem dX19_on_4 : decode cX19_on 4 = .ok (.invokestatic 28, 3) := dk_184 0 28 (dk_at dksX19_on_0 4 rfl rfl)
theorem dX19_on_7 : decode cX19_on 7 = .ok (.aload_n 1, 1) := dk_43 (dk_at dksX19_on_0 7 rfl rfl)
theorem dX19_on_8 : decode cX19_on 8 = .ok (.aload_n 0, 1) := dk_42 (dk_at dksX19_on_0 8 rfl rfl)
theorem dX19_on_9 : decode cX19_on 9 = .ok (.getfield 13, 3) := dk_180 0 13 (dk_at dksX19_on_0 9 rfl rfl)
theorem dX19_on_12 : decode cX19_on 12 = .ok (.invokevirtual 32, 3) := dk_182 0 32 (dk_at dksX19_on_0 12 rfl rfl)
theorem dX19_on_15 : decode cX19_on 15 = .ok (.astore_n 2, 1) := dk_77 (dk_at dksX19_on_0 15 rfl rfl)
theorem dX19_on_16 : decode cX19_on 16 = .ok (.aload_n 0, 1) := dk_42 (dk_at dksX19_on_0 16 rfl rfl)
theorem dX19_on_17 : decode cX19_on 17 = .ok (.getfield 16, 3) := dk_180 0 16 (dk_at dksX19_on_0 17 rfl rfl)
theorem dX19_on_20 : decode cX19_on 20 = .ok (.invokestatic 28, 3) := dk_184 0 28 (dk_at dksX19_on_0 20 rfl rfl)
theorem dX19_on_23 : decode cX19_on 23 = .ok (.aload_n 0, 1) := dk_42 (dk_at dksX19_on_0 23 rfl rfl)
theorem dX19_on_24 : decode cX19_on 24 = .ok (.getfield 19, 3) := dk_180 0 19 (dk_at dksX19_on_1 0 rfl rfl)
theorem dX19_on_27 : decode cX19_on 27 = .ok (.iconst 0, 1) := dk_3 (dk_at dksX19_on_1 3 rfl rfl)
theorem dX19_on_28 : decode cX19_on 28 = .ok (.iconst 2, 1) := dk_5 (dk_at dksX19_on_1 4 rfl rfl)
theorem dX19_on_29 : decode cX19_on 29 = .ok (.invokestatic 38, 3) := dk_184 0 38 (dk_at dksX19_on_1 5 rfl rfl)
theorem dX19_on_32 : decode cX19_on 32 = .ok (.ifCond .eq 18, 3) := dk_153 0 18 (dk_at dksX19_on_1 8 rfl rfl)
theorem dX19_on_35 : decode cX19_on 35 = .ok (.aload_n 2, 1) := dk_44 (dk_at dksX19_on_1 11 rfl rfl)
theorem dX19_on_36 : decode cX19_on 36 = .ok (.getfield 42, 3) := dk_180 0 42 (dk_at dksX19_on_1 12 rfl rfl)
theorem dX19_on_39 : decode cX19_on 39 = .ok (.aload_n 0, 1) := dk_42 (dk_at dksX19_on_1 15 rfl rfl)
theorem dX19_on_40 : decode cX19_on 40 = .ok (.getfield 16, 3) := dk_180 0 16 (dk_at dksX19_on_1 16 rfl rfl)
theorem dX19_on_43 : decode cX19_on 43 = .ok (.if_icmp .eq 7, 3) := dk_159 0 7 (dk_at dksX19_on_1 19 rfl rfl)
theorem dX19_on_46 : decode cX19_on 46 = .ok (.iconst 1, 1) := dk_4 (dk_at dksX19_on_1 22 rfl rfl)
theorem dX19_on_47 : decode cX19_on 47 = .ok (.goto 4, 3) := dk_167 0 4 (dk_at dksX19_on_2 0 rfl rfl)
theorem dX19_on_50 : decode cX19_on 50 = .ok (.iconst 0, 1) := dk_3 (dk_at dksX19_on_2 3 rfl rfl)
theorem dX19_on_51 : decode cX19_on 51 = .ok (.invokestatic 47, 3) := dk_184 0 47 (dk_at dksX19_on_2 4 rfl rfl)
theorem dX19_on_54 : decode cX19_on 54 = .ok (.aload_n 2, 1) := dk_44 (dk_at dksX19_on_2 7 rfl rfl)
theorem dX19_on_55 : decode cX19_on 55 = .ok (.getfield 42, 3) := dk_180 0 42 (dk_at dksX19_on_2 8 rfl rfl)
theorem dX19_on_58 : decode cX19_on 58 = .ok (.aload_n 0, 1) := dk_42 (dk_at dksX19_on_2 11 rfl rfl)
theorem dX19_on_59 : decode cX19_on 59 = .ok (.getfield 9, 3) := dk_180 0 9 (dk_at dksX19_on_2 12 rfl rfl)
theorem dX19_on_62 : decode cX19_on 62 = .ok (.if_icmp .ne 7, 3) := dk_160 0 7 (dk_at dksX19_on_2 15 rfl rfl)
theorem dX19_on_65 : decode cX19_on 65 = .ok (.iconst 1, 1) := dk_4 (dk_at dksX19_on_2 18 rfl rfl)
theorem dX19_on_66 : decode cX19_on 66 = .ok (.goto 4, 3) := dk_167 0 4 (dk_at dksX19_on_2 19 rfl rfl)
theorem dX19_on_69 : decode cX19_on 69 = .ok (.iconst 0, 1) := dk_3 (dk_at dksX19_on_2 22 rfl rfl)
theorem dX19_on_70 : decode cX19_on 70 = .ok (.invokestatic 51, 3) := dk_184 0 51 (dk_at dksX19_on_3 0 rfl rfl)
theorem dX19_on_73 : decode cX19_on 73 = .ok (.aload_n 2, 1) := dk_44 (dk_at dksX19_on_3 3 rfl rfl)
theorem dX19_on_74 : decode cX19_on 74 = .ok (.getfield 54, 3) := dk_180 0 54 (dk_at dksX19_on_3 4 rfl rfl)
theorem dX19_on_77 : decode cX19_on 77 = .ok (.aload_n 0, 1) := dk_42 (dk_at dksX19_on_3 7 rfl rfl)
theorem dX19_on_78 : decode cX19_on 78 = .ok (.getfield 16, 3) := dk_180 0 16 (dk_at dksX19_on_3 8 rfl rfl)
theorem dX19_on_81 : decode cX19_on 81 = .ok (.iaload, 1) := dk_46 (dk_at dksX19_on_3 11 rfl rfl)
theorem dX19_on_82 : decode cX19_on 82 = .ok (.istore_n 3, 1) := dk_62 (dk_at dksX19_on_3 12 rfl rfl)
theorem dX19_on_83 : decode cX19_on 83 = .ok (.aload_n 2, 1) := dk_44 (dk_at dksX19_on_3 13 rfl rfl)
theorem dX19_on_84 : decode cX19_on 84 = .ok (.getfield 54, 3) := dk_180 0 54 (dk_at dksX19_on_3 14 rfl rfl)
theorem dX19_on_87 : decode cX19_on 87 = .ok (.aload_n 0, 1) := dk_42 (dk_at dksX19_on_3 17 rfl rfl)
theorem dX19_on_88 : decode cX19_on 88 = .ok (.getfield 16, 3) := dk_180 0 16 (dk_at dksX19_on_3 18 rfl rfl)
theorem dX19_on_91 : decode cX19_on 91 = .ok (.aload_n 0, 1) := dk_42 (dk_at dksX19_on_3 21 rfl rfl)
theorem dX19_on_92 : decode cX19_on 92 = .ok (.getfield 19, 3) := dk_180 0 19 (dk_at dksX19_on_4 0 rfl rfl)
theorem dX19_on_95 : decode cX19_on 95 = .ok (.iastore, 1) := dk_79 (dk_at dksX19_on_4 3 rfl rfl)
theorem dX19_on_96 : decode cX19_on 96 = .ok (.iload_n 3, 1) := dk_29 (dk_at dksX19_on_4 4 rfl rfl)
theorem dX19_on_97 : decode cX19_on 97 = .ok (.ireturn, 1) := dk_172 (dk_at dksX19_on_4 5 rfl rfl)
abbrev cX19_init : ByteArray := prog_16_method_1_code
def yX19_init : MethodName := ⟨RX19, "<init>", "(LCheckoutDesk;IIII)V"⟩
def dkwX19_init_1 : List UInt8 := [181, 0, 19, 42, 183, 0, 22, 177]
abbrev dktX19_init_1 : List UInt8 := dkwX19_init_1 ++ []
def dkwX19_init_0 : List UInt8 := [42, 43, 181, 0, 3, 42, 28, 181, 0, 9, 42, 29, 181, 0, 13, 42, 21, 4, 181, 0, 16, 42, 21, 5]
abbrev dktX19_init_0 : List UInt8 := dkwX19_init_0 ++ dktX19_init_1
theorem dksX19_init_0 : cX19_init.data.toList.drop 0 = dktX19_init_0 := by decide +kernel
theorem dksX19_init_1 : cX19_init.data.toList.drop 24 = dktX19_init_1 := dk_seg dksX19_init_0 24 rfl rfl
theorem dX19_init_0 : decode cX19_init 0 = .ok (.aload_n 0, 1) := dk_42 (dk_at dksX19_init_0 0 rfl rfl)
theorem dX19_init_1 : decode cX19_init 1 = .ok (.aload_n 1, 1) := dk_43 (dk_at dksX19_init_0 1 rfl rfl)
theorem dX19_init_2 : decode cX19_init 2 = .ok (.putfield 3, 3) := dk_181 0 3 (dk_at dksX19_init_0 2 rfl rfl)
theorem dX19_init_5 : decode cX19_init 5 = .ok (.aload_n 0, 1) := dk_42 (dk_at dksX19_init_0 5 rfl rfl)
theorem dX19_init_6 : decode cX19_init 6 = .ok (.iload_n 2, 1) := dk_28 (dk_at dksX19_init_0 6 rfl rfl)
theorem dX19_init_7 : decode cX19_init 7 = .ok (.putfield 9, 3) := dk_181 0 9 (dk_at dksX19_init_0 7 rfl rfl)
theorem dX19_init_10 : decode cX19_init 10 = .ok (.aload_n 0, 1) := dk_42 (dk_at dksX19_init_0 10 rfl rfl)
theorem dX19_init_11 : decode cX19_init 11 = .ok (.iload_n 3, 1) := dk_29 (dk_at dksX19_init_0 11 rfl rfl)
theorem dX19_init_12 : decode cX19_init 12 = .ok (.putfield 13, 3) := dk_181 0 13 (dk_at dksX19_init_0 12 rfl rfl)
theorem dX19_init_15 : decode cX19_init 15 = .ok (.aload_n 0, 1) := dk_42 (dk_at dksX19_init_0 15 rfl rfl)
theorem dX19_init_16 : decode cX19_init 16 = .ok (.iload 4, 2) := dk_21 4 (dk_at dksX19_init_0 16 rfl rfl)
theorem dX19_init_18 : decode cX19_init 18 = .ok (.putfield 16, 3) := dk_181 0 16 (dk_at dksX19_init_0 18 rfl rfl)
theorem dX19_init_21 : decode cX19_init 21 = .ok (.aload_n 0, 1) := dk_42 (dk_at dksX19_init_0 21 rfl rfl)
theorem dX19_init_22 : decode cX19_init 22 = .ok (.iload 5, 2) := dk_21 5 (dk_at dksX19_init_0 22 rfl rfl)
theorem dX19_init_24 : decode cX19_init 24 = .ok (.putfield 19, 3) := dk_181 0 19 (dk_at dksX19_init_1 0 rfl rfl)
theorem dX19_init_27 : decode cX19_init 27 = .ok (.aload_n 0, 1) := dk_42 (dk_at dksX19_init_1 3 rfl rfl)
theorem dX19_init_28 : decode cX19_init 28 = .ok (.invokespecial 22, 3) := dk_183 0 22 (dk_at dksX19_init_1 4 rfl rfl)
theorem dX19_init_31 : decode cX19_init 31 = .ok (.return_, 1) := dk_177 (dk_at dksX19_init_1 7 rfl rfl)
theorem q85 : (Jvm.Cond.initialized "CheckoutDesk$4") ∈ lw_all := lw_g (lw_at lw_m1 43 rfl) rfl
theorem q1112 : (Jvm.Cond.selects "CheckoutDesk$4" ({ cls := "java/lang/Object", name := "getClass", desc := "()Ljava/lang/Class;" } : Jvm.MethodName) ({ cls := "java/lang/Object", name := "getClass", desc := "()Ljava/lang/Class;" } : Jvm.MethodName)) ∈ lw_all := lw_g (lw_at lw_m5 110 rfl) rfl
theorem q1354 : (Jvm.Cond.fieldLinkNest "CheckoutDesk$4" (42 : Nat) "CheckoutDesk$Document" "owner" "I" "CheckoutDesk") ∈ lw_tbl := lw_at lw_m6 112 rfl
theorem q1358 : (Jvm.Cond.fieldLinkNest "CheckoutDesk$4" (54 : Nat) "CheckoutDesk$Document" "rights" "[I" "CheckoutDesk") ∈ lw_tbl := lw_at lw_m6 116 rfl
theorem q1378 : (Jvm.Cond.castable "CheckoutDesk$4" "CheckoutDesk$Act") ∈ lw_tbl := lw_at lw_m6 136 rfl
theorem q1379 : (Jvm.Cond.selects "CheckoutDesk$4" ({ cls := "CheckoutDesk$Act", name := "on", desc := "(LCheckoutDesk$Store;)I" } : Jvm.MethodName) ({ cls := "CheckoutDesk$4", name := "on", desc := "(LCheckoutDesk$Store;)I" } : Jvm.MethodName)) ∈ lw_all := lw_g (lw_at lw_m6 137 rfl) rfl
theorem q1380 : (Jvm.Cond.unhidden "CheckoutDesk$4" "on" "(LCheckoutDesk$Store;)I") ∈ lw_tbl := lw_at lw_m6 138 rfl
theorem q1381 : (Jvm.Cond.instanceMethod ({ cls := "CheckoutDesk$4", name := "on", desc := "(LCheckoutDesk$Store;)I" } : Jvm.MethodName)) ∈ lw_all := lw_g (lw_at lw_m6 139 rfl) rfl
theorem q1382 : (Jvm.Cond.publicMethod ({ cls := "CheckoutDesk$4", name := "on", desc := "(LCheckoutDesk$Store;)I" } : Jvm.MethodName)) ∈ lw_tbl := lw_at lw_m6 140 rfl
theorem q1383 : (Jvm.Cond.code ({ cls := "CheckoutDesk$4", name := "on", desc := "(LCheckoutDesk$Store;)I" } : Jvm.MethodName) prog_16_method_2_code (4 : Nat) (Option.some Jvm.ClassFile.FieldType.int)) ∈ lw_all := lw_g (lw_at lw_m6 141 rfl) rfl
theorem q1384 : (Jvm.Cond.methodLinkNest "CheckoutDesk$4" (28 : Nat) ({ cls := "CheckoutDesk", name := "requirePerson", desc := "(I)V" } : Jvm.MethodName) "CheckoutDesk") ∈ lw_tbl := lw_at lw_m6 142 rfl
theorem q1385 : (Jvm.Cond.methodLink "CheckoutDesk$4" (32 : Nat) ({ cls := "CheckoutDesk$Store", name := "document", desc := "(I)LCheckoutDesk$Document;" } : Jvm.MethodName)) ∈ lw_all := lw_g (lw_at lw_m6 143 rfl) rfl
theorem q1386 : (Jvm.Cond.methodLinkNest "CheckoutDesk$4" (38 : Nat) ({ cls := "CheckoutDesk", name := "inRange", desc := "(III)Z" } : Jvm.MethodName) "CheckoutDesk") ∈ lw_tbl := lw_at lw_m6 144 rfl
theorem q1387 : (Jvm.Cond.methodLinkNest "CheckoutDesk$4" (47 : Nat) ({ cls := "CheckoutDesk", name := "requireArgument", desc := "(Z)V" } : Jvm.MethodName) "CheckoutDesk") ∈ lw_tbl := lw_at lw_m6 145 rfl
theorem q1388 : (Jvm.Cond.methodLinkNest "CheckoutDesk$4" (51 : Nat) ({ cls := "CheckoutDesk", name := "requireState", desc := "(Z)V" } : Jvm.MethodName) "CheckoutDesk") ∈ lw_tbl := lw_at lw_m6 146 rfl
theorem q1835 : (Jvm.Cond.instantiable "CheckoutDesk$4" (5 : Nat)) ∈ lw_all := lw_g (lw_at lw_m8 113 rfl) rfl
theorem q1837 : (Jvm.Cond.instanceMethod ({ cls := "CheckoutDesk$4", name := "<init>", desc := "(LCheckoutDesk;IIII)V" } : Jvm.MethodName)) ∈ lw_all := lw_g (lw_at lw_m8 115 rfl) rfl
theorem q1838 : (Jvm.Cond.code ({ cls := "CheckoutDesk$4", name := "<init>", desc := "(LCheckoutDesk;IIII)V" } : Jvm.MethodName) prog_16_method_1_code (6 : Nat) (Option.none : Option Jvm.ClassFile.FieldType)) ∈ lw_all := lw_g (lw_at lw_m8 116 rfl) rfl
theorem q1839 : (Jvm.Cond.methodLink "CheckoutDesk$4" (22 : Nat) ({ cls := "java/lang/Object", name := "<init>", desc := "()V" } : Jvm.MethodName)) ∈ lw_all := lw_g (lw_at lw_m8 117 rfl) rfl
theorem q1840 : (Jvm.Cond.fieldLink "CheckoutDesk$4" (9 : Nat) "CheckoutDesk$4" "val$by" "I") ∈ lw_all := lw_g (lw_at lw_m8 118 rfl) rfl
theorem q1841 : (Jvm.Cond.fieldLink "CheckoutDesk$4" (13 : Nat) "CheckoutDesk$4" "val$document" "I") ∈ lw_all := lw_g (lw_at lw_m8 119 rfl) rfl
theorem q1842 : (Jvm.Cond.fieldLink "CheckoutDesk$4" (16 : Nat) "CheckoutDesk$4" "val$person" "I") ∈ lw_all := lw_g (lw_at lw_m8 120 rfl) rfl
theorem q1843 : (Jvm.Cond.fieldLink "CheckoutDesk$4" (19 : Nat) "CheckoutDesk$4" "val$right" "I") ∈ lw_all := lw_g (lw_at lw_m8 121 rfl) rfl
theorem q1844 : (Jvm.Cond.fieldLink "CheckoutDesk$4" (3 : Nat) "CheckoutDesk$4" "this$0" "LCheckoutDesk;") ∈ lw_all := lw_g (lw_at lw_m8 122 rfl) rfl
theorem q1845 : (Jvm.Cond.laysFinal "CheckoutDesk$4" "CheckoutDesk$4" "val$by" "I") ∈ lw_all := lw_g (lw_at lw_m8 123 rfl) rfl
theorem q1846 : (Jvm.Cond.soleField "CheckoutDesk$4" "val$by") ∈ lw_all := lw_g (lw_at lw_m8 124 rfl) rfl
theorem q1847 : (Jvm.Cond.laysFinal "CheckoutDesk$4" "CheckoutDesk$4" "val$document" "I") ∈ lw_all := lw_g (lw_at lw_m8 125 rfl) rfl
theorem q1848 : (Jvm.Cond.soleField "CheckoutDesk$4" "val$document") ∈ lw_all := lw_g (lw_at lw_m8 126 rfl) rfl
theorem q1849 : (Jvm.Cond.laysFinal "CheckoutDesk$4" "CheckoutDesk$4" "val$person" "I") ∈ lw_all := lw_g (lw_at lw_m8 127 rfl) rfl
theorem q1850 : (Jvm.Cond.soleField "CheckoutDesk$4" "val$person") ∈ lw_all := lw_g (lw_at lw_m8 128 rfl) rfl
theorem q1851 : (Jvm.Cond.laysFinal "CheckoutDesk$4" "CheckoutDesk$4" "val$right" "I") ∈ lw_all := lw_g (lw_at lw_m8 129 rfl) rfl
theorem q1852 : (Jvm.Cond.soleField "CheckoutDesk$4" "val$right") ∈ lw_all := lw_g (lw_at lw_m8 130 rfl) rfl
theorem q1853 : (Jvm.Cond.laysFinal "CheckoutDesk$4" "CheckoutDesk$4" "this$0" "LCheckoutDesk;") ∈ lw_all := lw_g (lw_at lw_m8 131 rfl) rfl
theorem q1854 : (Jvm.Cond.soleField "CheckoutDesk$4" "this$0") ∈ lw_all := lw_g (lw_at lw_m8 132 rfl) rfl
theorem q1855 : (Jvm.Cond.superclass "CheckoutDesk$4" "java/lang/Object") ∈ lw_all := lw_g (lw_at lw_m8 133 rfl) rfl
theorem q2705 : (Jvm.Cond.castable "CheckoutDesk$4" "java/lang/Object") ∈ lw_tbl := lw_at lw_m12 23 rfl
theorem in_X19 : ∀ w ∈ wsX190, w ∈ lw_all := lw_in wsX190 [1845, 1847, 1849, 1851, 1853] (by decide +kernel) (by decide +kernel)
/-! CheckoutDesk$5 -/
set_option maxRecDepth 100000
def RX20 : String := "CheckoutDesk$5"
def TX20 : u_T := fun k => match k with
  | 0 => ("CheckoutDesk$5", "val$person", "I", true)
  | 1 => ("CheckoutDesk$5", "val$document", "I", true)
  | 2 => ("CheckoutDesk$5", "val$branch", "I", true)
  | _ => ("CheckoutDesk$5", "this$0", "LCheckoutDesk;", true)
def tyX20 : Nat → FieldType := fun k => match k with
  | 0 => .int
  | 1 => .int
  | 2 => .int
  | _ => .object "CheckoutDesk"
abbrev wsX200 : List Cond := u_ws RX20 TX20 4
theorem nmX20 : ∀ a, a < 4 → ∀ b, b < 4 → a ≠ b → (TX20 a).2.1 ≠ (TX20 b).2.1 := by decide +kernel
theorem tyX20_ok : ∀ k, k < 4 → parseFieldDescriptor (TX20 k).2.2.1 = some (tyX20 k) := by decide +kernel
abbrev cX20_on : ByteArray := prog_17_method_2_code
def yX20_on : MethodName := ⟨RX20, "on", "(LCheckoutDesk$Store;)I"⟩
def dkwX20_on_4 : List UInt8 := [44, 180, 0, 43, 180, 0, 65, 180, 0, 69, 172]
abbrev dktX20_on_4 : List UInt8 := dkwX20_on_4 ++ []
def dkwX20_on_3 : List UInt8 := [180, 0, 11, 42, 180, 0, 14, 182, 0, 55, 42, 180, 0, 7, 43, 180, 0, 59, 183, 0, 62, 181, 0, 43]
abbrev dktX20_on_3 : List UInt8 := dkwX20_on_3 ++ dktX20_on_4
def dkwX20_on_2 : List UInt8 := [180, 0, 43, 182, 0, 49, 153, 0, 7, 4, 167, 0, 4, 3, 184, 0, 39, 44, 187, 0, 53, 89, 43, 42]
abbrev dktX20_on_2 : List UInt8 := dkwX20_on_2 ++ dktX20_on_3
def dkwX20_on_1 : List UInt8 := [180, 0, 7, 42, 180, 0, 11, 182, 0, 35, 184, 0, 39, 44, 180, 0, 43, 198, 0, 14, 43, 44]
abbrev dktX20_on_1 : List UInt8 := dkwX20_on_1 ++ dktX20_on_2
def dkwX20_on_0 : List UInt8 := [42, 180, 0, 7, 184, 0, 23, 43, 42, 180, 0, 11, 42, 180, 0, 14, 182, 0, 29, 77, 43, 42]
abbrev dktX20_on_0 : List UInt8 := dkwX20_on_0 ++ dktX20_on_1
theorem dksX20_on_0 : cX20_on.data.toList.drop 0 = dktX20_on_0 := by decide +kernel
theorem dksX20_on_1 : cX20_on.data.toList.drop 22 = dktX20_on_1 := dk_seg dksX20_on_0 22 rfl rfl
theorem dksX20_on_2 : cX20_on.data.toList.drop 44 = dktX20_on_2 := dk_seg dksX20_on_1 22 rfl rfl
theorem dksX20_on_3 : cX20_on.data.toList.drop 68 = dktX20_on_3 := dk_seg dksX20_on_2 24 rfl rfl
theorem dksX20_on_4 : cX20_on.data.toList.drop 92 = dktX20_on_4 := dk_seg dksX20_on_3 24 rfl rfl
theorem dX20_on_0 : decode cX20_on 0 = .ok (.aload_n 0, 1) := dk_42 (dk_at dksX20_on_0 0 rfl rfl)
theorem dX20_on_1 : decode cX20_on 1 = .ok (.getfield 7, 3) := dk_180 0 7 (dk_at dksX20_on_0 1 rfl rfl)
theorem dX20_on_4 : decode cX20_on 4 = .ok (.invokestatic 23, 3) := dk_184 0 23 (dk_at dksX20_on_0 4 rfl rfl)
theorem dX20_on_7 : decode cX20_on 7 = .ok (.aload_n 1, 1) := dk_43 (dk_at dksX20_on_0 7 rfl rfl)
theorem dX20_on_8 : decode cX20_on 8 = .ok (.aload_n 0, 1) := dk_42 (dk_at dksX20_on_0 8 rfl rfl)
theorem dX20_on_9 : decode cX20_on 9 = .ok (.getfield 11, 3) := dk_180 0 11 (dk_at dksX20_on_0 9 rfl rfl)
theorem dX20_on_12 : decode cX20_on 12 = .ok (.aload_n 0, 1) := dk_42 (dk_at dksX20_on_0 12 rfl rfl)
theorem dX20_on_13 : decode cX20_on 13 = .ok (.getfield 14, 3) := dk_180 0 14 (dk_at dksX20_on_0 13 rfl rfl)
theorem dX20_on_16 : decode cX20_on 16 = .ok (.invokevirtual 29, 3) := dk_182 0 29 (dk_at dksX20_on_0 16 rfl rfl)
theorem dX20_on_19 : decode cX20_on 19 = .ok (.astore_n 2, 1) := dk_77 (dk_at dksX20_on_0 19 rfl rfl)
theorem dX20_on_20 : decode cX20_on 20 = .ok (.aload_n 1, 1) := dk_43 (dk_at dksX20_on_0 20 rfl rfl)
theorem dX20_on_21 : decode cX20_on 21 = .ok (.aload_n 0, 1) := dk_42 (dk_at dksX20_on_0 21 rfl rfl)
theorem dX20_on_22 : decode cX20_on 22 = .ok (.getfield 7, 3) := dk_180 0 7 (dk_at dksX20_on_1 0 rfl rfl)
theorem dX20_on_25 : decode cX20_on 25 = .ok (.aload_n 0, 1) := dk_42 (dk_at dksX20_on_1 3 rfl rfl)
theorem dX20_on_26 : decode cX20_on 26 = .ok (.getfield 11, 3) := dk_180 0 11 (dk_at dksX20_on_1 4 rfl rfl)
theorem dX20_on_29 : decode cX20_on 29 = .ok (.invokevirtual 35, 3) := dk_182 0 35 (dk_at dksX20_on_1 7 rfl rfl)
theorem dX20_on_32 : decode cX20_on 32 = .ok (.invokestatic 39, 3) := dk_184 0 39 (dk_at dksX20_on_1 10 rfl rfl)
theorem dX20_on_35 : decode cX20_on 35 = .ok (.aload_n 2, 1) := dk_44 (dk_at dksX20_on_1 13 rfl rfl)
theorem dX20_on_36 : decode cX20_on 36 = .ok (.getfield 43, 3) := dk_180 0 43 (dk_at dksX20_on_1 14 rfl rfl)
theorem dX20_on_39 : decode cX20_on 39 = .ok (.ifnull 14, 3) := dk_198 0 14 (dk_at dksX20_on_1 17 rfl rfl)
theorem dX20_on_42 : decode cX20_on 42 = .ok (.aload_n 1, 1) := dk_43 (dk_at dksX20_on_1 20 rfl rfl)
theorem dX20_on_43 : decode cX20_on 43 = .ok (.aload_n 2, 1) := dk_44 (dk_at dksX20_on_1 21 rfl rfl)
theorem dX20_on_44 : decode cX20_on 44 = .ok (.getfield 43, 3) := dk_180 0 43 (dk_at dksX20_on_2 0 rfl rfl)
theorem dX20_on_47 : decode cX20_on 47 = .ok (.invokevirtual 49, 3) := dk_182 0 49 (dk_at dksX20_on_2 3 rfl rfl)
theorem dX20_on_50 : decode cX20_on 50 = .ok (.ifCond .eq 7, 3) := dk_153 0 7 (dk_at dksX20_on_2 6 rfl rfl)
theorem dX20_on_53 : decode cX20_on 53 = .ok (.iconst 1, 1) := dk_4 (dk_at dksX20_on_2 9 rfl rfl)
theorem dX20_on_54 : decode cX20_on 54 = .ok (.goto 4, 3) := dk_167 0 4 (dk_at dksX20_on_2 10 rfl rfl)
theorem dX20_on_57 : decode cX20_on 57 = .ok (.iconst 0, 1) := dk_3 (dk_at dksX20_on_2 13 rfl rfl)
theorem dX20_on_58 : decode cX20_on 58 = .ok (.invokestatic 39, 3) := dk_184 0 39 (dk_at dksX20_on_2 14 rfl rfl)
theorem dX20_on_61 : decode cX20_on 61 = .ok (.aload_n 2, 1) := dk_44 (dk_at dksX20_on_2 17 rfl rfl)
theorem dX20_on_62 : decode cX20_on 62 = .ok (.new 53, 3) := dk_187 0 53 (dk_at dksX20_on_2 18 rfl rfl)
theorem dX20_on_65 : decode cX20_on 65 = .ok (.dup, 1) := dk_89 (dk_at dksX20_on_2 21 rfl rfl)
theorem dX20_on_66 : decode cX20_on 66 = .ok (.aload_n 1, 1) := dk_43 (dk_at dksX20_on_2 22 rfl rfl)
theorem dX20_on_67 : decode cX20_on 67 = .ok (.aload_n 0, 1) := dk_42 (dk_at dksX20_on_2 23 rfl rfl)
theorem dX20_on_68 : decode cX20_on 68 = .ok (.getfield 11, 3) := dk_180 0 11 (dk_at dksX20_on_3 0 rfl rfl)
theorem dX20_on_71 : decode cX20_on 71 = .ok (.aload_n 0, 1) := dk_42 (dk_at dksX20_on_3 3 rfl rfl)
theorem dX20_on_72 : decode cX20_on 72 = .ok (.getfield 14, 3) := dk_180 0 14 (dk_at dksX20_on_3 4 rfl rfl)
theorem dX20_on_75 : decode cX20_on 75 = .ok (.invokevirtual 55, 3) := dk_182 0 55 (dk_at dksX20_on_3 7 rfl rfl)
theorem dX20_on_78 : decode cX20_on 78 = .ok (.aload_n 0, 1) := dk_42 (dk_at dksX20_on_3 10 rfl rfl)
theorem dX20_on_79 : decode cX20_on 79 = .ok (.getfield 7, 3) := dk_180 0 7 (dk_at dksX20_on_3 11 rfl rfl)
theorem dX20_on_82 : decode cX20_on 82 = .ok (.aload_n 1, 1) := dk_43 (dk_at dksX20_on_3 14 rfl rfl)
theorem dX20_on_83 : decode cX20_on 83 = .ok (.getfield 59, 3) := dk_180 0 59 (dk_at dksX20_on_3 15 rfl rfl)
theorem dX20_on_86 : decode cX20_on 86 = .ok (.invokespecial 62, 3) := dk_183 0 62 (dk_at dksX20_on_3 18 rfl rfl)
theorem dX20_on_89 : decode cX20_on 89 = .ok (.putfield 43, 3) := dk_181 0 43 (dk_at dksX20_on_3 21 rfl rfl)
theorem dX20_on_92 : decode cX20_on 92 = .ok (.aload_n 2, 1) := dk_44 (dk_at dksX20_on_4 0 rfl rfl)
theorem dX20_on_93 : decode cX20_on 93 = .ok (.getfield 43, 3) := dk_180 0 43 (dk_at dksX20_on_4 1 rfl rfl)
theorem dX20_on_96 : decode cX20_on 96 = .ok (.getfield 65, 3) := dk_180 0 65 (dk_at dksX20_on_4 4 rfl rfl)
theorem dX20_on_99 : decode cX20_on 99 = .ok (.getfield 69, 3) := dk_180 0 69 (dk_at dksX20_on_4 7 rfl rfl)
theorem dX20_on_102 : decode cX20_on 102 = .ok (.ireturn, 1) := dk_172 (dk_at dksX20_on_4 10 rfl rfl)
abbrev cX20_init : ByteArray := prog_17_method_1_code
def yX20_init : MethodName := ⟨RX20, "<init>", "(LCheckoutDesk;III)V"⟩
def dkwX20_init_1 : List UInt8 := [183, 0, 17, 177]
abbrev dktX20_init_1 : List UInt8 := dkwX20_init_1 ++ []
def dkwX20_init_0 : List UInt8 := [42, 43, 181, 0, 1, 42, 28, 181, 0, 7, 42, 29, 181, 0, 11, 42, 21, 4, 181, 0, 14, 42]
abbrev dktX20_init_0 : List UInt8 := dkwX20_init_0 ++ dktX20_init_1
theorem dksX20_init_0 : cX20_init.data.toList.drop 0 = dktX20_init_0 := by decide +kernel
theorem dksX20_init_1 : cX20_init.data.toList.drop 22 = dktX20_init_1 := dk_seg dksX20_init_0 22 rfl rfl
theorem dX20_init_0 : decode cX20_init 0 = .ok (.aload_n 0, 1) := dk_42 (dk_at dksX20_init_0 0 rfl rfl)
theorem dX20_init_1 : decode cX20_init 1 = .ok (.aload_n 1, 1) := dk_43 (dk_at dksX20_init_0 1 rfl rfl)
theorem dX20_init_2 : decode cX20_init 2 = .ok (.putfield 1, 3) := dk_181 0 1 (dk_at dksX20_init_0 2 rfl rfl)
theorem dX20_init_5 : decode cX20_init 5 = .ok (.aload_n 0, 1) := dk_42 (dk_at dksX20_init_0 5 rfl rfl)
theorem dX20_init_6 : decode cX20_init 6 = .ok (.iload_n 2, 1) := dk_28 (dk_at dksX20_init_0 6 rfl rfl)
theorem dX20_init_7 : decode cX20_init 7 = .ok (.putfield 7, 3) := dk_181 0 7 (dk_at dksX20_init_0 7 rfl rfl)
theorem dX20_init_10 : decode cX20_init 10 = .ok (.aload_n 0, 1) := dk_42 (dk_at dksX20_init_0 10 rfl rfl)
theorem dX20_init_11 : decode cX20_init 11 = .ok (.iload_n 3, 1) := dk_29 (dk_at dksX20_init_0 11 rfl rfl)
theorem dX20_init_12 : decode cX20_init 12 = .ok (.putfield 11, 3) := dk_181 0 11 (dk_at dksX20_init_0 12 rfl rfl)
theorem dX20_init_15 : decode cX20_init 15 = .ok (.aload_n 0, 1) := dk_42 (dk_at dksX20_init_0 15 rfl rfl)
theorem dX20_init_16 : decode cX20_init 16 = .ok (.iload 4, 2) := dk_21 4 (dk_at dksX20_init_0 16 rfl rfl)
theorem dX20_init_18 : decode cX20_init 18 = .ok (.putfield 14, 3) := dk_181 0 14 (dk_at dksX20_init_0 18 rfl rfl)
theorem dX20_init_21 : decode cX20_init 21 = .ok (.aload_n 0, 1) := dk_42 (dk_at dksX20_init_0 21 rfl rfl)
theorem dX20_init_22 : decode cX20_init 22 = .ok (.invokespecial 17, 3) := dk_183 0 17 (dk_at dksX20_init_1 0 rfl rfl)
theorem dX20_init_25 : decode cX20_init 25 = .ok (.return_, 1) := dk_177 (dk_at dksX20_init_1 3 rfl rfl)
theorem q86 : (Jvm.Cond.initialized "CheckoutDesk$5") ∈ lw_all := lw_g (lw_at lw_m1 44 rfl) rfl
theorem q182 : (Jvm.Cond.fieldLinkNest "CheckoutDesk$5" (59 : Nat) "CheckoutDesk$Store" "clock" "I" "CheckoutDesk") ∈ lw_tbl := lw_at lw_m1 140 rfl
theorem q1051 : (Jvm.Cond.fieldLinkNest "CheckoutDesk$5" (43 : Nat) "CheckoutDesk$Branch" "copy" "LCheckoutDesk$Copy;" "CheckoutDesk") ∈ lw_tbl := lw_at lw_m5 49 rfl
theorem q1113 : (Jvm.Cond.selects "CheckoutDesk$5" ({ cls := "java/lang/Object", name := "getClass", desc := "()Ljava/lang/Class;" } : Jvm.MethodName) ({ cls := "java/lang/Object", name := "getClass", desc := "()Ljava/lang/Class;" } : Jvm.MethodName)) ∈ lw_all := lw_g (lw_at lw_m5 111 rfl) rfl
theorem q1174 : (Jvm.Cond.fieldLinkNest "CheckoutDesk$5" (69 : Nat) "CheckoutDesk$Version" "number" "I" "CheckoutDesk") ∈ lw_tbl := lw_at lw_m5 172 rfl
theorem q1389 : (Jvm.Cond.castable "CheckoutDesk$5" "CheckoutDesk$Act") ∈ lw_tbl := lw_at lw_m6 147 rfl
theorem q1390 : (Jvm.Cond.selects "CheckoutDesk$5" ({ cls := "CheckoutDesk$Act", name := "on", desc := "(LCheckoutDesk$Store;)I" } : Jvm.MethodName) ({ cls := "CheckoutDesk$5", name := "on", desc := "(LCheckoutDesk$Store;)I" } : Jvm.MethodName)) ∈ lw_all := lw_g (lw_at lw_m6 148 rfl) rfl
theorem q1391 : (Jvm.Cond.unhidden "CheckoutDesk$5" "on" "(LCheckoutDesk$Store;)I") ∈ lw_tbl := lw_at lw_m6 149 rfl
theorem q1392 : (Jvm.Cond.instanceMethod ({ cls := "CheckoutDesk$5", name := "on", desc := "(LCheckoutDesk$Store;)I" } : Jvm.MethodName)) ∈ lw_all := lw_g (lw_at lw_m6 150 rfl) rfl
theorem q1393 : (Jvm.Cond.publicMethod ({ cls := "CheckoutDesk$5", name := "on", desc := "(LCheckoutDesk$Store;)I" } : Jvm.MethodName)) ∈ lw_tbl := lw_at lw_m6 151 rfl
theorem q1394 : (Jvm.Cond.code ({ cls := "CheckoutDesk$5", name := "on", desc := "(LCheckoutDesk$Store;)I" } : Jvm.MethodName) prog_17_method_2_code (3 : Nat) (Option.some Jvm.ClassFile.FieldType.int)) ∈ lw_all := lw_g (lw_at lw_m6 152 rfl) rfl
theorem q1395 : (Jvm.Cond.methodLinkNest "CheckoutDesk$5" (23 : Nat) ({ cls := "CheckoutDesk", name := "requirePerson", desc := "(I)V" } : Jvm.MethodName) "CheckoutDesk") ∈ lw_tbl := lw_at lw_m6 153 rfl
theorem q1396 : (Jvm.Cond.methodLink "CheckoutDesk$5" (29 : Nat) ({ cls := "CheckoutDesk$Store", name := "branch", desc := "(II)LCheckoutDesk$Branch;" } : Jvm.MethodName)) ∈ lw_all := lw_g (lw_at lw_m6 154 rfl) rfl
theorem q1397 : (Jvm.Cond.methodLink "CheckoutDesk$5" (35 : Nat) ({ cls := "CheckoutDesk$Store", name := "isWriter", desc := "(II)Z" } : Jvm.MethodName)) ∈ lw_all := lw_g (lw_at lw_m6 155 rfl) rfl
theorem q1398 : (Jvm.Cond.methodLinkNest "CheckoutDesk$5" (39 : Nat) ({ cls := "CheckoutDesk", name := "requireState", desc := "(Z)V" } : Jvm.MethodName) "CheckoutDesk") ∈ lw_tbl := lw_at lw_m6 156 rfl
theorem q1399 : (Jvm.Cond.methodLink "CheckoutDesk$5" (49 : Nat) ({ cls := "CheckoutDesk$Store", name := "hasLapsed", desc := "(LCheckoutDesk$Copy;)Z" } : Jvm.MethodName)) ∈ lw_all := lw_g (lw_at lw_m6 157 rfl) rfl
theorem q1400 : (Jvm.Cond.classLink "CheckoutDesk$5" (53 : Nat) "CheckoutDesk$Copy") ∈ lw_all := lw_g (lw_at lw_m6 158 rfl) rfl
theorem q1402 : (Jvm.Cond.methodLink "CheckoutDesk$5" (55 : Nat) ({ cls := "CheckoutDesk$Store", name := "newest", desc := "(II)LCheckoutDesk$Version;" } : Jvm.MethodName)) ∈ lw_all := lw_g (lw_at lw_m6 160 rfl) rfl
theorem q1403 : (Jvm.Cond.methodLink "CheckoutDesk$5" (62 : Nat) ({ cls := "CheckoutDesk$Copy", name := "<init>", desc := "(LCheckoutDesk$Version;II)V" } : Jvm.MethodName)) ∈ lw_all := lw_g (lw_at lw_m6 161 rfl) rfl
theorem q1409 : (Jvm.Cond.fieldLinkNest "CheckoutDesk$5" (65 : Nat) "CheckoutDesk$Copy" "origin" "LCheckoutDesk$Version;" "CheckoutDesk") ∈ lw_tbl := lw_at lw_m6 167 rfl
theorem q1864 : (Jvm.Cond.instantiable "CheckoutDesk$5" (4 : Nat)) ∈ lw_all := lw_g (lw_at lw_m8 142 rfl) rfl
theorem q1866 : (Jvm.Cond.instanceMethod ({ cls := "CheckoutDesk$5", name := "<init>", desc := "(LCheckoutDesk;III)V" } : Jvm.MethodName)) ∈ lw_all := lw_g (lw_at lw_m8 144 rfl) rfl
theorem q1867 : (Jvm.Cond.code ({ cls := "CheckoutDesk$5", name := "<init>", desc := "(LCheckoutDesk;III)V" } : Jvm.MethodName) prog_17_method_1_code (5 : Nat) (Option.none : Option Jvm.ClassFile.FieldType)) ∈ lw_all := lw_g (lw_at lw_m8 145 rfl) rfl
theorem q1868 : (Jvm.Cond.methodLink "CheckoutDesk$5" (17 : Nat) ({ cls := "java/lang/Object", name := "<init>", desc := "()V" } : Jvm.MethodName)) ∈ lw_all := lw_g (lw_at lw_m8 146 rfl) rfl
theorem q1869 : (Jvm.Cond.fieldLink "CheckoutDesk$5" (7 : Nat) "CheckoutDesk$5" "val$person" "I") ∈ lw_all := lw_g (lw_at lw_m8 147 rfl) rfl
theorem q1870 : (Jvm.Cond.fieldLink "CheckoutDesk$5" (11 : Nat) "CheckoutDesk$5" "val$document" "I") ∈ lw_all := lw_g (lw_at lw_m8 148 rfl) rfl
theorem q1871 : (Jvm.Cond.fieldLink "CheckoutDesk$5" (14 : Nat) "CheckoutDesk$5" "val$branch" "I") ∈ lw_all := lw_g (lw_at lw_m8 149 rfl) rfl
theorem q1872 : (Jvm.Cond.fieldLink "CheckoutDesk$5" (1 : Nat) "CheckoutDesk$5" "this$0" "LCheckoutDesk;") ∈ lw_all := lw_g (lw_at lw_m8 150 rfl) rfl
theorem q1873 : (Jvm.Cond.laysFinal "CheckoutDesk$5" "CheckoutDesk$5" "val$person" "I") ∈ lw_all := lw_g (lw_at lw_m8 151 rfl) rfl
theorem q1874 : (Jvm.Cond.soleField "CheckoutDesk$5" "val$person") ∈ lw_all := lw_g (lw_at lw_m8 152 rfl) rfl
theorem q1875 : (Jvm.Cond.laysFinal "CheckoutDesk$5" "CheckoutDesk$5" "val$document" "I") ∈ lw_all := lw_g (lw_at lw_m8 153 rfl) rfl
theorem q1876 : (Jvm.Cond.soleField "CheckoutDesk$5" "val$document") ∈ lw_all := lw_g (lw_at lw_m8 154 rfl) rfl
theorem q1877 : (Jvm.Cond.laysFinal "CheckoutDesk$5" "CheckoutDesk$5" "val$branch" "I") ∈ lw_all := lw_g (lw_at lw_m8 155 rfl) rfl
theorem q1878 : (Jvm.Cond.soleField "CheckoutDesk$5" "val$branch") ∈ lw_all := lw_g (lw_at lw_m8 156 rfl) rfl
theorem q1879 : (Jvm.Cond.laysFinal "CheckoutDesk$5" "CheckoutDesk$5" "this$0" "LCheckoutDesk;") ∈ lw_all := lw_g (lw_at lw_m8 157 rfl) rfl
theorem q1880 : (Jvm.Cond.soleField "CheckoutDesk$5" "this$0") ∈ lw_all := lw_g (lw_at lw_m8 158 rfl) rfl
theorem q1881 : (Jvm.Cond.superclass "CheckoutDesk$5" "java/lang/Object") ∈ lw_all := lw_g (lw_at lw_m8 159 rfl) rfl
theorem q2706 : (Jvm.Cond.castable "CheckoutDesk$5" "java/lang/Object") ∈ lw_tbl := lw_at lw_m12 24 rfl
theorem in_X20 : ∀ w ∈ wsX200, w ∈ lw_all := lw_in wsX200 [1873, 1875, 1877, 1879] (by decide +kernel) (by decide +kernel)
/-! CheckoutDesk$6 -/
set_option maxRecDepth 100000
def RX21 : String := "CheckoutDesk$6"
def TX21 : u_T := fun k => match k with
  | 0 => ("CheckoutDesk$6", "val$person", "I", true)
  | 1 => ("CheckoutDesk$6", "val$document", "I", true)
  | 2 => ("CheckoutDesk$6", "val$branch", "I", true)
  | 3 => ("CheckoutDesk$6", "val$what", "I", true)
  | 4 => ("CheckoutDesk$6", "val$value", "I", true)
  | _ => ("CheckoutDesk$6", "this$0", "LCheckoutDesk;", true)
def tyX21 : Nat → FieldType := fun k => match k with
  | 0 => .int
  | 1 => .int
  | 2 => .int
  | 3 => .int
  | 4 => .int
  | _ => .object "CheckoutDesk"
abbrev wsX210 : List Cond := u_ws RX21 TX21 6
theorem nmX21 : ∀ a, a < 6 → ∀ b, b < 6 → a ≠ b → (TX21 a).2.1 ≠ (TX21 b).2.1 := by decide +kernel
theorem tyX21_ok : ∀ k, k < 6 → parseFieldDescriptor (TX21 k).2.2.1 = some (tyX21 k) := by decide +kernel
abbrev cX21_on : ByteArray := prog_18_method_2_code
def yX21_on : MethodName := ⟨RX21, "on", "(LCheckoutDesk$Store;)I"⟩
def dkwX21_on_3 : List UInt8 := [180, 0, 20, 79, 29, 172]
abbrev dktX21_on_3 : List UInt8 := dkwX21_on_3 ++ []
def dkwX21_on_2 : List UInt8 := [184, 0, 49, 77, 44, 180, 0, 53, 42, 180, 0, 17, 46, 62, 44, 180, 0, 53, 42, 180, 0, 17, 42]
abbrev dktX21_on_2 : List UInt8 := dkwX21_on_2 ++ dktX21_on_3
def dkwX21_on_1 : List UInt8 := [42, 180, 0, 20, 184, 0, 41, 184, 0, 45, 43, 42, 180, 0, 7, 42, 180, 0, 11, 42, 180, 0, 14]
abbrev dktX21_on_1 : List UInt8 := dkwX21_on_1 ++ dktX21_on_2
def dkwX21_on_0 : List UInt8 := [42, 180, 0, 7, 184, 0, 29, 43, 42, 180, 0, 11, 42, 180, 0, 14, 182, 0, 35, 87, 42, 180, 0, 17]
abbrev dktX21_on_0 : List UInt8 := dkwX21_on_0 ++ dktX21_on_1
theorem dksX21_on_0 : cX21_on.data.toList.drop 0 = dktX21_on_0 := by decide +kernel
theorem dksX21_on_1 : cX21_on.data.toList.drop 24 = dktX21_on_1 := dk_seg dksX21_on_0 24 rfl rfl
theorem dksX21_on_2 : cX21_on.data.toList.drop 47 = dktX21_on_2 := dk_seg dksX21_on_1 23 rfl rfl
theorem dksX21_on_3 : cX21_on.data.toList.drop 70 = dktX21_on_3 := dk_seg dksX21_on_2 23 rfl rfl
theorem dX21_on_0 : decode cX21_on 0 = .ok (.aload_n 0, 1) := dk_42 (dk_at dksX21_on_0 0 rfl rfl)
theorem dX21_on_1 : decode cX21_on 1 = .ok (.getfield 7, 3) := dk_180 0 7 (dk_at dksX21_on_0 1 rfl rfl)
theorem dX21_on_4 : decode cX21_on 4 = .ok (.invokestatic 29, 3) := dk_184 0 29 (dk_at dksX21_on_0 4 rfl rfl)
theorem dX21_on_7 : decode cX21_on 7 = .ok (.aload_n 1, 1) := dk_43 (dk_at dksX21_on_0 7 rfl rfl)
theorem dX21_on_8 : decode cX21_on 8 = .ok (.aload_n 0, 1) := dk_42 (dk_at dksX21_on_0 8 rfl rfl)
theorem dX21_on_9 : decode cX21_on 9 = .ok (.getfield 11, 3) := dk_180 0 11 (dk_at dksX21_on_0 9 rfl rfl)
theorem dX21_on_12 : decode cX21_on 12 = .ok (.aload_n 0, 1) := dk_42 (dk_at dksX21_on_0 12 rfl rfl)
theorem dX21_on_13 : decode cX21_on 13 = .ok (.getfield 14, 3) := dk_180 0 14 (dk_at dksX21_on_0 13 rfl rfl)
theorem dX21_on_16 : decode cX21_on 16 = .ok (.invokevirtual 35, 3) := dk_182 0 35 (dk_at dksX21_on_0 16 rfl rfl)
theorem dX21_on_19 : decode cX21_on 19 = .ok (.pop, 1) := dk_87 (dk_at dksX21_on_0 19 rfl rfl)
theorem dX21_on_20 : decode cX21_on 20 = .ok (.aload_n 0, 1) := dk_42 (dk_at dksX21_on_0 20 rfl rfl)
theorem dX21_on_21 : decode cX21_on 21 = .ok (.getfield 17, 3) := dk_180 0 17 (dk_at dksX21_on_0 21 rfl rfl)
theorem dX21_on_24 : decode cX21_on 24 = .ok (.aload_n 0, 1) := dk_42 (dk_at dksX21_on_1 0 rfl rfl)
theorem dX21_on_25 : decode cX21_on 25 = .ok (.getfield 20, 3) := dk_180 0 20 (dk_at dksX21_on_1 1 rfl rfl)
theorem dX21_on_28 : decode cX21_on 28 = .ok (.invokestatic 41, 3) := dk_184 0 41 (dk_at dksX21_on_1 4 rfl rfl)
theorem dX21_on_31 : decode cX21_on 31 = .ok (.invokestatic 45, 3) := dk_184 0 45 (dk_at dksX21_on_1 7 rfl rfl)
theorem dX21_on_34 : decode cX21_on 34 = .ok (.aload_n 1, 1) := dk_43 (dk_at dksX21_on_1 10 rfl rfl)
theorem dX21_on_35 : decode cX21_on 35 = .ok (.aload_n 0, 1) := dk_42 (dk_at dksX21_on_1 11 rfl rfl)
theorem dX21_on_36 : decode cX21_on 36 = .ok (.getfield 7, 3) := dk_180 0 7 (dk_at dksX21_on_1 12 rfl rfl)
theorem dX21_on_39 : decode cX21_on 39 = .ok (.aload_n 0, 1) := dk_42 (dk_at dksX21_on_1 15 rfl rfl)
theorem dX21_on_40 : decode cX21_on 40 = .ok (.getfield 11, 3) := dk_180 0 11 (dk_at dksX21_on_1 16 rfl rfl)
theorem dX21_on_43 : decode cX21_on 43 = .ok (.aload_n 0, 1) := dk_42 (dk_at dksX21_on_1 19 rfl rfl)
theorem dX21_on_44 : decode cX21_on 44 = .ok (.getfield 14, 3) := dk_180 0 14 (dk_at dksX21_on_1 20 rfl rfl)
theorem dX21_on_47 : decode cX21_on 47 = .ok (.invokestatic 49, 3) := dk_184 0 49 (dk_at dksX21_on_2 0 rfl rfl)
theorem dX21_on_50 : decode cX21_on 50 = .ok (.astore_n 2, 1) := dk_77 (dk_at dksX21_on_2 3 rfl rfl)
theorem dX21_on_51 : decode cX21_on 51 = .ok (.aload_n 2, 1) := dk_44 (dk_at dksX21_on_2 4 rfl rfl)
theorem dX21_on_52 : decode cX21_on 52 = .ok (.getfield 53, 3) := dk_180 0 53 (dk_at dksX21_on_2 5 rfl rfl)
theorem dX21_on_55 : decode cX21_on 55 = .ok (.aload_n 0, 1) := dk_42 (dk_at dksX21_on_2 8 rfl rfl)
theorem dX21_on_56 : decode cX21_on 56 = .ok (.getfield 17, 3) := dk_180 0 17 (dk_at dksX21_on_2 9 rfl rfl)
theorem dX21_on_59 : decode cX21_on 59 = .ok (.iaload, 1) := dk_46 (dk_at dksX21_on_2 12 rfl rfl)
theorem dX21_on_60 : decode cX21_on 60 = .ok (.istore_n 3, 1) := dk_62 (dk_at dksX21_on_2 13 rfl rfl)
theorem dX21_on_61 : decode cX21_on 61 = .ok (.aload_n 2, 1) := dk_44 (dk_at dksX21_on_2 14 rfl rfl)
theorem dX21_on_62 : decode cX21_on 62 = .ok (.getfield 53, 3) := dk_180 0 53 (dk_at dksX21_on_2 15 rfl rfl)
theorem dX21_on_65 : decode cX21_on 65 = .ok (.aload_n 0, 1) := dk_42 (dk_at dksX21_on_2 18 rfl rfl)
theorem dX21_on_66 : decode cX21_on 66 = .ok (.getfield 17, 3) := dk_180 0 17 (dk_at dksX21_on_2 19 rfl rfl)
theorem dX21_on_69 : decode cX21_on 69 = .ok (.aload_n 0, 1) := dk_42 (dk_at dksX21_on_2 22 rfl rfl)
theorem dX21_on_70 : decode cX21_on 70 = .ok (.getfield 20, 3) := dk_180 0 20 (dk_at dksX21_on_3 0 rfl rfl)
theorem dX21_on_73 : decode cX21_on 73 = .ok (.iastore, 1) := dk_79 (dk_at dksX21_on_3 3 rfl rfl)
theorem dX21_on_74 : decode cX21_on 74 = .ok (.iload_n 3, 1) := dk_29 (dk_at dksX21_on_3 4 rfl rfl)
theorem dX21_on_75 : decode cX21_on 75 = .ok (.ireturn, 1) := dk_172 (dk_at dksX21_on_3 5 rfl rfl)
abbrev cX21_init : ByteArray := prog_18_method_1_code
def yX21_init : MethodName := ⟨RX21, "<init>", "(LCheckoutDesk;IIIII)V"⟩
def dkwX21_init_1 : List UInt8 := [181, 0, 17, 42, 21, 6, 181, 0, 20, 42, 183, 0, 23, 177]
abbrev dktX21_init_1 : List UInt8 := dkwX21_init_1 ++ []
def dkwX21_init_0 : List UInt8 := [42, 43, 181, 0, 1, 42, 28, 181, 0, 7, 42, 29, 181, 0, 11, 42, 21, 4, 181, 0, 14, 42, 21, 5]
abbrev dktX21_init_0 : List UInt8 := dkwX21_init_0 ++ dktX21_init_1
theorem dksX21_init_0 : cX21_init.data.toList.drop 0 = dktX21_init_0 := by decide +kernel
theorem dksX21_init_1 : cX21_init.data.toList.drop 24 = dktX21_init_1 := dk_seg dksX21_init_0 24 rfl rfl
theorem dX21_init_0 : decode cX21_init 0 = .ok (.aload_n 0, 1) := dk_42 (dk_at dksX21_init_0 0 rfl rfl)
theorem dX21_init_1 : decode cX21_init 1 = .ok (.aload_n 1, 1) := dk_43 (dk_at dksX21_init_0 1 rfl rfl)
theorem dX21_init_2 : decode cX21_init 2 = .ok (.putfield 1, 3) := dk_181 0 1 (dk_at dksX21_init_0 2 rfl rfl)
theorem dX21_init_5 : decode cX21_init 5 = .ok (.aload_n 0, 1) := dk_42 (dk_at dksX21_init_0 5 rfl rfl)
theorem dX21_init_6 : decode cX21_init 6 = .ok (.iload_n 2, 1) := dk_28 (dk_at dksX21_init_0 6 rfl rfl)
theorem dX21_init_7 : decode cX21_init 7 = .ok (.putfield 7, 3) := dk_181 0 7 (dk_at dksX21_init_0 7 rfl rfl)
theorem dX21_init_10 : decode cX21_init 10 = .ok (.aload_n 0, 1) := dk_42 (dk_at dksX21_init_0 10 rfl rfl)
theorem dX21_init_11 : decode cX21_init 11 = .ok (.iload_n 3, 1) := dk_29 (dk_at dksX21_init_0 11 rfl rfl)
theorem dX21_init_12 : decode cX21_init 12 = .ok (.putfield 11, 3) := dk_181 0 11 (dk_at dksX21_init_0 12 rfl rfl)
theorem dX21_init_15 : decode cX21_init 15 = .ok (.aload_n 0, 1) := dk_42 (dk_at dksX21_init_0 15 rfl rfl)
theorem dX21_init_16 : decode cX21_init 16 = .ok (.iload 4, 2) := dk_21 4 (dk_at dksX21_init_0 16 rfl rfl)
theorem dX21_init_18 : decode cX21_init 18 = .ok (.putfield 14, 3) := dk_181 0 14 (dk_at dksX21_init_0 18 rfl rfl)
theorem dX21_init_21 : decode cX21_init 21 = .ok (.aload_n 0, 1) := dk_42 (dk_at dksX21_init_0 21 rfl rfl)
theorem dX21_init_22 : decode cX21_init 22 = .ok (.iload 5, 2) := dk_21 5 (dk_at dksX21_init_0 22 rfl rfl)
theorem dX21_init_24 : decode cX21_init 24 = .ok (.putfield 17, 3) := dk_181 0 17 (dk_at dksX21_init_1 0 rfl rfl)
theorem dX21_init_27 : decode cX21_init 27 = .ok (.aload_n 0, 1) := dk_42 (dk_at dksX21_init_1 3 rfl rfl)
theorem dX21_init_28 : decode cX21_init 28 = .ok (.iload 6, 2) := dk_21 6 (dk_at dksX21_init_1 4 rfl rfl)
theorem dX21_init_30 : decode cX21_init 30 = .ok (.putfield 20, 3) := dk_181 0 20 (dk_at dksX21_init_1 6 rfl rfl)
theorem dX21_init_33 : decode cX21_init 33 = .ok (.aload_n 0, 1) := dk_42 (dk_at dksX21_init_1 9 rfl rfl)
theorem dX21_init_34 : decode cX21_init 34 = .ok (.invokespecial 23, 3) := dk_183 0 23 (dk_at dksX21_init_1 10 rfl rfl)
theorem dX21_init_37 : decode cX21_init 37 = .ok (.return_, 1) := dk_177 (dk_at dksX21_init_1 13 rfl rfl)
theorem q87 : (Jvm.Cond.initialized "CheckoutDesk$6") ∈ lw_all := lw_g (lw_at lw_m1 45 rfl) rfl
theorem q1114 : (Jvm.Cond.selects "CheckoutDesk$6" ({ cls := "java/lang/Object", name := "getClass", desc := "()Ljava/lang/Class;" } : Jvm.MethodName) ({ cls := "java/lang/Object", name := "getClass", desc := "()Ljava/lang/Class;" } : Jvm.MethodName)) ∈ lw_all := lw_g (lw_at lw_m5 112 rfl) rfl
theorem q1201 : (Jvm.Cond.fieldLink "CheckoutDesk$6" (53 : Nat) "CheckoutDesk$Copy" "values" "[I") ∈ lw_all := lw_g (lw_at lw_m5 199 rfl) rfl
theorem q1425 : (Jvm.Cond.castable "CheckoutDesk$6" "CheckoutDesk$Act") ∈ lw_tbl := lw_at lw_m6 183 rfl
theorem q1426 : (Jvm.Cond.selects "CheckoutDesk$6" ({ cls := "CheckoutDesk$Act", name := "on", desc := "(LCheckoutDesk$Store;)I" } : Jvm.MethodName) ({ cls := "CheckoutDesk$6", name := "on", desc := "(LCheckoutDesk$Store;)I" } : Jvm.MethodName)) ∈ lw_all := lw_g (lw_at lw_m6 184 rfl) rfl
theorem q1427 : (Jvm.Cond.unhidden "CheckoutDesk$6" "on" "(LCheckoutDesk$Store;)I") ∈ lw_tbl := lw_at lw_m6 185 rfl
theorem q1428 : (Jvm.Cond.instanceMethod ({ cls := "CheckoutDesk$6", name := "on", desc := "(LCheckoutDesk$Store;)I" } : Jvm.MethodName)) ∈ lw_all := lw_g (lw_at lw_m6 186 rfl) rfl
theorem q1429 : (Jvm.Cond.publicMethod ({ cls := "CheckoutDesk$6", name := "on", desc := "(LCheckoutDesk$Store;)I" } : Jvm.MethodName)) ∈ lw_tbl := lw_at lw_m6 187 rfl
theorem q1430 : (Jvm.Cond.code ({ cls := "CheckoutDesk$6", name := "on", desc := "(LCheckoutDesk$Store;)I" } : Jvm.MethodName) prog_18_method_2_code (4 : Nat) (Option.some Jvm.ClassFile.FieldType.int)) ∈ lw_all := lw_g (lw_at lw_m6 188 rfl) rfl
theorem q1431 : (Jvm.Cond.methodLinkNest "CheckoutDesk$6" (29 : Nat) ({ cls := "CheckoutDesk", name := "requirePerson", desc := "(I)V" } : Jvm.MethodName) "CheckoutDesk") ∈ lw_tbl := lw_at lw_m6 189 rfl
theorem q1432 : (Jvm.Cond.methodLink "CheckoutDesk$6" (35 : Nat) ({ cls := "CheckoutDesk$Store", name := "branch", desc := "(II)LCheckoutDesk$Branch;" } : Jvm.MethodName)) ∈ lw_all := lw_g (lw_at lw_m6 190 rfl) rfl
theorem q1433 : (Jvm.Cond.methodLinkNest "CheckoutDesk$6" (41 : Nat) ({ cls := "CheckoutDesk", name := "isPlace", desc := "(II)Z" } : Jvm.MethodName) "CheckoutDesk") ∈ lw_tbl := lw_at lw_m6 191 rfl
theorem q1436 : (Jvm.Cond.methodLinkNest "CheckoutDesk$6" (45 : Nat) ({ cls := "CheckoutDesk", name := "requireArgument", desc := "(Z)V" } : Jvm.MethodName) "CheckoutDesk") ∈ lw_tbl := lw_at lw_m6 194 rfl
theorem q1437 : (Jvm.Cond.methodLinkNest "CheckoutDesk$6" (49 : Nat) ({ cls := "CheckoutDesk", name := "held", desc := "(LCheckoutDesk$Store;III)LCheckoutDesk$Copy;" } : Jvm.MethodName) "CheckoutDesk") ∈ lw_tbl := lw_at lw_m6 195 rfl
theorem q1890 : (Jvm.Cond.instantiable "CheckoutDesk$6" (6 : Nat)) ∈ lw_all := lw_g (lw_at lw_m8 168 rfl) rfl
theorem q1892 : (Jvm.Cond.instanceMethod ({ cls := "CheckoutDesk$6", name := "<init>", desc := "(LCheckoutDesk;IIIII)V" } : Jvm.MethodName)) ∈ lw_all := lw_g (lw_at lw_m8 170 rfl) rfl
theorem q1893 : (Jvm.Cond.code ({ cls := "CheckoutDesk$6", name := "<init>", desc := "(LCheckoutDesk;IIIII)V" } : Jvm.MethodName) prog_18_method_1_code (7 : Nat) (Option.none : Option Jvm.ClassFile.FieldType)) ∈ lw_all := lw_g (lw_at lw_m8 171 rfl) rfl
theorem q1894 : (Jvm.Cond.methodLink "CheckoutDesk$6" (23 : Nat) ({ cls := "java/lang/Object", name := "<init>", desc := "()V" } : Jvm.MethodName)) ∈ lw_all := lw_g (lw_at lw_m8 172 rfl) rfl
theorem q1895 : (Jvm.Cond.fieldLink "CheckoutDesk$6" (7 : Nat) "CheckoutDesk$6" "val$person" "I") ∈ lw_all := lw_g (lw_at lw_m8 173 rfl) rfl
theorem q1896 : (Jvm.Cond.fieldLink "CheckoutDesk$6" (11 : Nat) "CheckoutDesk$6" "val$document" "I") ∈ lw_all := lw_g (lw_at lw_m8 174 rfl) rfl
theorem q1897 : (Jvm.Cond.fieldLink "CheckoutDesk$6" (14 : Nat) "CheckoutDesk$6" "val$branch" "I") ∈ lw_all := lw_g (lw_at lw_m8 175 rfl) rfl
theorem q1898 : (Jvm.Cond.fieldLink "CheckoutDesk$6" (17 : Nat) "CheckoutDesk$6" "val$what" "I") ∈ lw_all := lw_g (lw_at lw_m8 176 rfl) rfl
theorem q1899 : (Jvm.Cond.fieldLink "CheckoutDesk$6" (20 : Nat) "CheckoutDesk$6" "val$value" "I") ∈ lw_all := lw_g (lw_at lw_m8 177 rfl) rfl
theorem q1900 : (Jvm.Cond.fieldLink "CheckoutDesk$6" (1 : Nat) "CheckoutDesk$6" "this$0" "LCheckoutDesk;") ∈ lw_all := lw_g (lw_at lw_m8 178 rfl) rfl
theorem q1901 : (Jvm.Cond.laysFinal "CheckoutDesk$6" "CheckoutDesk$6" "val$person" "I") ∈ lw_all := lw_g (lw_at lw_m8 179 rfl) rfl
theorem q1902 : (Jvm.Cond.soleField "CheckoutDesk$6" "val$person") ∈ lw_all := lw_g (lw_at lw_m8 180 rfl) rfl
theorem q1903 : (Jvm.Cond.laysFinal "CheckoutDesk$6" "CheckoutDesk$6" "val$document" "I") ∈ lw_all := lw_g (lw_at lw_m8 181 rfl) rfl
theorem q1904 : (Jvm.Cond.soleField "CheckoutDesk$6" "val$document") ∈ lw_all := lw_g (lw_at lw_m8 182 rfl) rfl
theorem q1905 : (Jvm.Cond.laysFinal "CheckoutDesk$6" "CheckoutDesk$6" "val$branch" "I") ∈ lw_all := lw_g (lw_at lw_m8 183 rfl) rfl
theorem q1906 : (Jvm.Cond.soleField "CheckoutDesk$6" "val$branch") ∈ lw_all := lw_g (lw_at lw_m8 184 rfl) rfl
theorem q1907 : (Jvm.Cond.laysFinal "CheckoutDesk$6" "CheckoutDesk$6" "val$what" "I") ∈ lw_all := lw_g (lw_at lw_m8 185 rfl) rfl
theorem q1908 : (Jvm.Cond.soleField "CheckoutDesk$6" "val$what") ∈ lw_all := lw_g (lw_at lw_m8 186 rfl) rfl
theorem q1909 : (Jvm.Cond.laysFinal "CheckoutDesk$6" "CheckoutDesk$6" "val$value" "I") ∈ lw_all := lw_g (lw_at lw_m8 187 rfl) rfl
theorem q1910 : (Jvm.Cond.soleField "CheckoutDesk$6" "val$value") ∈ lw_all := lw_g (lw_at lw_m8 188 rfl) rfl
theorem q1911 : (Jvm.Cond.laysFinal "CheckoutDesk$6" "CheckoutDesk$6" "this$0" "LCheckoutDesk;") ∈ lw_all := lw_g (lw_at lw_m8 189 rfl) rfl
theorem q1912 : (Jvm.Cond.soleField "CheckoutDesk$6" "this$0") ∈ lw_all := lw_g (lw_at lw_m8 190 rfl) rfl
theorem q1913 : (Jvm.Cond.superclass "CheckoutDesk$6" "java/lang/Object") ∈ lw_all := lw_g (lw_at lw_m8 191 rfl) rfl
theorem q2707 : (Jvm.Cond.castable "CheckoutDesk$6" "java/lang/Object") ∈ lw_tbl := lw_at lw_m12 25 rfl
theorem in_X21 : ∀ w ∈ wsX210, w ∈ lw_all := lw_in wsX210 [1901, 1903, 1905, 1907, 1909, 1911] (by decide +kernel) (by decide +kernel)
/-! CheckoutDesk$7 -/
set_option maxRecDepth 100000
def RX22 : String := "CheckoutDesk$7"
def TX22 : u_T := fun k => match k with
  | 0 => ("CheckoutDesk$7", "val$person", "I", true)
  | 1 => ("CheckoutDesk$7", "val$document", "I", true)
  | 2 => ("CheckoutDesk$7", "val$branch", "I", true)
  | 3 => ("CheckoutDesk$7", "val$major", "Z", true)
  | _ => ("CheckoutDesk$7", "this$0", "LCheckoutDesk;", true)
def tyX22 : Nat → FieldType := fun k => match k with
  | 0 => .int
  | 1 => .int
  | 2 => .int
  | 3 => .boolean
  | _ => .object "CheckoutDesk"
abbrev wsX220 : List Cond := u_ws RX22 TX22 5
theorem nmX22 : ∀ a, a < 5 → ∀ b, b < 5 → a ≠ b → (TX22 a).2.1 ≠ (TX22 b).2.1 := by decide +kernel
theorem tyX22_ok : ∀ k, k < 5 → parseFieldDescriptor (TX22 k).2.2.1 = some (tyX22 k) := by decide +kernel
abbrev cX22_on : ByteArray := prog_19_method_2_code
def yX22_on : MethodName := ⟨RX22, "on", "(LCheckoutDesk$Store;)I"⟩
def dkwX22_on_5 : List UInt8 := [180, 0, 79, 172]
abbrev dktX22_on_5 : List UInt8 := dkwX22_on_5 ++ []
def dkwX22_on_4 : List UInt8 := [96, 42, 180, 0, 17, 153, 0, 7, 3, 167, 0, 10, 25, 4, 180, 0, 72, 4, 96, 45, 182, 0, 75]
abbrev dktX22_on_4 : List UInt8 := dkwX22_on_4 ++ dktX22_on_5
def dkwX22_on_3 : List UInt8 := [180, 0, 11, 42, 180, 0, 14, 25, 4, 180, 0, 67, 42, 180, 0, 17, 153, 0, 7, 4, 167, 0, 4, 3]
abbrev dktX22_on_3 : List UInt8 := dkwX22_on_3 ++ dktX22_on_4
def dkwX22_on_2 : List UInt8 := [184, 0, 53, 43, 42, 180, 0, 11, 42, 180, 0, 14, 182, 0, 57, 58, 4, 44, 1, 181, 0, 61, 43, 42]
abbrev dktX22_on_2 : List UInt8 := dkwX22_on_2 ++ dktX22_on_3
def dkwX22_on_1 : List UInt8 := [180, 0, 7, 42, 180, 0, 11, 42, 180, 0, 14, 184, 0, 39, 78, 43, 180, 0, 43, 182, 0, 47]
abbrev dktX22_on_1 : List UInt8 := dkwX22_on_1 ++ dktX22_on_2
def dkwX22_on_0 : List UInt8 := [42, 180, 0, 7, 184, 0, 27, 43, 42, 180, 0, 11, 42, 180, 0, 14, 182, 0, 33, 77, 43, 42]
abbrev dktX22_on_0 : List UInt8 := dkwX22_on_0 ++ dktX22_on_1
theorem dksX22_on_0 : cX22_on.data.toList.drop 0 = dktX22_on_0 := by decide +kernel
theorem dksX22_on_1 : cX22_on.data.toList.drop 22 = dktX22_on_1 := dk_seg dksX22_on_0 22 rfl rfl
theorem dksX22_on_2 : cX22_on.data.toList.drop 44 = dktX22_on_2 := dk_seg dksX22_on_1 22 rfl rfl
theorem dksX22_on_3 : cX22_on.data.toList.drop 68 = dktX22_on_3 := dk_seg dksX22_on_2 24 rfl rfl
theorem dksX22_on_4 : cX22_on.data.toList.drop 92 = dktX22_on_4 := dk_seg dksX22_on_3 24 rfl rfl
theorem dksX22_on_5 : cX22_on.data.toList.drop 115 = dktX22_on_5 := dk_seg dksX22_on_4 23 rfl rfl
theorem dX22_on_0 : decode cX22_on 0 = .ok (.aload_n 0, 1) := dk_42 (dk_at dksX22_on_0 0 rfl rfl)
theorem dX22_on_1 : decode cX22_on 1 = .ok (.getfield 7, 3) := dk_180 0 7 (dk_at dksX22_on_0 1 rfl rfl)
theorem dX22_on_4 : decode cX22_on 4 = .ok (.invokestatic 27, 3) := dk_184 0 27 (dk_at dksX22_on_0 4 rfl rfl)
theorem dX22_on_7 : decode cX22_on 7 = .ok (.aload_n 1, 1) := dk_43 (dk_at dksX22_on_0 7 rfl rfl)
theorem dX22_on_8 : decode cX22_on 8 = .ok (.aload_n 0, 1) := dk_42 (dk_at dksX22_on_0 8 rfl rfl)
theorem dX22_on_9 : decode cX22_on 9 = .ok (.getfield 11, 3) := dk_180 0 11 (dk_at dksX22_on_0 9 rfl rfl)
theorem dX22_on_12 : decode cX22_on 12 = .ok (.aload_n 0, 1) := dk_42 (dk_at dksX22_on_0 12 rfl rfl)
theorem dX22_on_13 : decode cX22_on 13 = .ok (.getfield 14, 3) := dk_180 0 14 (dk_at dksX22_on_0 13 rfl rfl)
theorem dX22_on_16 : decode cX22_on 16 = .ok (.invokevirtual 33, 3) := dk_182 0 33 (dk_at dksX22_on_0 16 rfl rfl)
theorem dX22_on_19 : decode cX22_on 19 = .ok (.astore_n 2, 1) := dk_77 (dk_at dksX22_on_0 19 rfl rfl)
theorem dX22_on_20 : decode cX22_on 20 = .ok (.aload_n 1, 1) := dk_43 (dk_at dksX22_on_0 20 rfl rfl)
theorem dX22_on_21 : decode cX22_on 21 = .ok (.aload_n 0, 1) := dk_42 (dk_at dksX22_on_0 21 rfl rfl)
theorem dX22_on_22 : decode cX22_on 22 = .ok (.getfield 7, 3) := dk_180 0 7 (dk_at dksX22_on_1 0 rfl rfl)
theorem dX22_on_25 : decode cX22_on 25 = .ok (.aload_n 0, 1) := dk_42 (dk_at dksX22_on_1 3 rfl rfl)
theorem dX22_on_26 : decode cX22_on 26 = .ok (.getfield 11, 3) := dk_180 0 11 (dk_at dksX22_on_1 4 rfl rfl)
theorem dX22_on_29 : decode cX22_on 29 = .ok (.aload_n 0, 1) := dk_42 (dk_at dksX22_on_1 7 rfl rfl)
theorem dX22_on_30 : decode cX22_on 30 = .ok (.getfield 14, 3) := dk_180 0 14 (dk_at dksX22_on_1 8 rfl rfl)
theorem dX22_on_33 : decode cX22_on 33 = .ok (.invokestatic 39, 3) := dk_184 0 39 (dk_at dksX22_on_1 11 rfl rfl)
theorem dX22_on_36 : decode cX22_on 36 = .ok (.astore_n 3, 1) := dk_78 (dk_at dksX22_on_1 14 rfl rfl)
theorem dX22_on_37 : decode cX22_on 37 = .ok (.aload_n 1, 1) := dk_43 (dk_at dksX22_on_1 15 rfl rfl)
theorem dX22_on_38 : decode cX22_on 38 = .ok (.getfield 43, 3) := dk_180 0 43 (dk_at dksX22_on_1 16 rfl rfl)
theorem dX22_on_41 : decode cX22_on 41 = .ok (.invokevirtual 47, 3) := dk_182 0 47 (dk_at dksX22_on_1 19 rfl rfl)
theorem dX22_on_44 : decode cX22_on 44 = .ok (.invokestatic 53, 3) := dk_184 0 53 (dk_at dksX22_on_2 0 rfl rfl)
theorem dX22_on_47 : decode cX22_on 47 = .ok (.aload_n 1, 1) := dk_43 (dk_at dksX22_on_2 3 rfl rfl)
theorem dX22_on_48 : decode cX22_on 48 = .ok (.aload_n 0, 1) := dk_42 (dk_at dksX22_on_2 4 rfl rfl)
theorem dX22_on_49 : decode cX22_on 49 = .ok (.getfield 11, 3) := dk_180 0 11 (dk_at dksX22_on_2 5 rfl rfl)
theorem dX22_on_52 : decode cX22_on 52 = .ok (.aload_n 0, 1) := dk_42 (dk_at dksX22_on_2 8 rfl rfl)
theorem dX22_on_53 : decode cX22_on 53 = .ok (.getfield 14, 3) := dk_180 0 14 (dk_at dksX22_on_2 9 rfl rfl)
theorem dX22_on_56 : decode cX22_on 56 = .ok (.invokevirtual 57, 3) := dk_182 0 57 (dk_at dksX22_on_2 12 rfl rfl)
theorem dX22_on_59 : decode cX22_on 59 = .ok (.astore 4, 2) := dk_58 4 (dk_at dksX22_on_2 15 rfl rfl)
theorem dX22_on_61 : decode cX22_on 61 = .ok (.aload_n 2, 1) := dk_44 (dk_at dksX22_on_2 17 rfl rfl)
theorem dX22_on_62 : decode cX22_on 62 = .ok (.aconst_null, 1) := dk_1 (dk_at dksX22_on_2 18 rfl rfl)
theorem dX22_on_63 : decode cX22_on 63 = .ok (.putfield 61, 3) := dk_181 0 61 (dk_at dksX22_on_2 19 rfl rfl)
theorem dX22_on_66 : decode cX22_on 66 = .ok (.aload_n 1, 1) := dk_43 (dk_at dksX22_on_2 22 rfl rfl)
theorem dX22_on_67 : decode cX22_on 67 = .ok (.aload_n 0, 1) := dk_42 (dk_at dksX22_on_2 23 rfl rfl)
theorem dX22_on_68 : decode cX22_on 68 = .ok (.getfield 11, 3) := dk_180 0 11 (dk_at dksX22_on_3 0 rfl rfl)
theorem dX22_on_71 : decode cX22_on 71 = .ok (.aload_n 0, 1) := dk_42 (dk_at dksX22_on_3 3 rfl rfl)
theorem dX22_on_72 : decode cX22_on 72 = .ok (.getfield 14, 3) := dk_180 0 14 (dk_at dksX22_on_3 4 rfl rfl)
theorem dX22_on_75 : decode cX22_on 75 = .ok (.aload 4, 2) := dk_25 4 (dk_at dksX22_on_3 7 rfl rfl)
theorem dX22_on_77 : decode cX22_on 77 = .ok (.getfield 67, 3) := dk_180 0 67 (dk_at dksX22_on_3 9 rfl rfl)
theorem dX22_on_80 : decode cX22_on 80 = .ok (.aload_n 0, 1) := dk_42 (dk_at dksX22_on_3 12 rfl rfl)
theorem dX22_on_81 : decode cX22_on 81 = .ok (.getfield 17, 3) := dk_180 0 17 (dk_at dksX22_on_3 13 rfl rfl)
theorem dX22_on_84 : decode cX22_on 84 = .ok (.ifCond .eq 7, 3) := dk_153 0 7 (dk_at dksX22_on_3 16 rfl rfl)
theorem dX22_on_87 : decode cX22_on 87 = .ok (.iconst 1, 1) := dk_4 (dk_at dksX22_on_3 19 rfl rfl)
theorem dX22_on_88 : decode cX22_on 88 = .ok (.goto 4, 3) := dk_167 0 4 (dk_at dksX22_on_3 20 rfl rfl)
theorem dX22_on_91 : decode cX22_on 91 = .ok (.iconst 0, 1) := dk_3 (dk_at dksX22_on_3 23 rfl rfl)
theorem dX22_on_92 : decode cX22_on 92 = .ok (.iadd, 1) := dk_96 (dk_at dksX22_on_4 0 rfl rfl)
theorem dX22_on_93 : decode cX22_on 93 = .ok (.aload_n 0, 1) := dk_42 (dk_at dksX22_on_4 1 rfl rfl)
theorem dX22_on_94 : decode cX22_on 94 = .ok (.getfield 17, 3) := dk_180 0 17 (dk_at dksX22_on_4 2 rfl rfl)
theorem dX22_on_97 : decode cX22_on 97 = .ok (.ifCond .eq 7, 3) := dk_153 0 7 (dk_at dksX22_on_4 5 rfl rfl)
theorem dX22_on_100 : decode cX22_on 100 = .ok (.iconst 0, 1) := dk_3 (dk_at dksX22_on_4 8 rfl rfl)
theorem dX22_on_101 : decode cX22_on 101 = .ok (.goto 10, 3) := dk_167 0 10 (dk_at dksX22_on_4 9 rfl rfl)
theorem dX22_on_104 : decode cX22_on 104 = .ok (.aload 4, 2) := dk_25 4 (dk_at dksX22_on_4 12 rfl rfl)
theorem dX22_on_106 : decode cX22_on 106 = .ok (.getfield 72, 3) := dk_180 0 72 (dk_at dksX22_on_4 14 rfl rfl)
theorem dX22_on_109 : decode cX22_on 109 = .ok (.iconst 1, 1) := dk_4 (dk_at dksX22_on_4 17 rfl rfl)
theorem dX22_on_110 : decode cX22_on 110 = .ok (.iadd, 1) := dk_96 (dk_at dksX22_on_4 18 rfl rfl)
theorem dX22_on_111 : decode cX22_on 111 = .ok (.aload_n 3, 1) := dk_45 (dk_at dksX22_on_4 19 rfl rfl)
theorem dX22_on_112 : decode cX22_on 112 = .ok (.invokevirtual 75, 3) := dk_182 0 75 (dk_at dksX22_on_4 20 rfl rfl)
theorem dX22_on_115 : decode cX22_on 115 = .ok (.getfield 79, 3) := dk_180 0 79 (dk_at dksX22_on_5 0 rfl rfl)
theorem dX22_on_118 : decode cX22_on 118 = .ok (.ireturn, 1) := dk_172 (dk_at dksX22_on_5 3 rfl rfl)
abbrev cX22_init : ByteArray := prog_19_method_1_code
def yX22_init : MethodName := ⟨RX22, "<init>", "(LCheckoutDesk;IIIZ)V"⟩
def dkwX22_init_1 : List UInt8 := [181, 0, 17, 42, 183, 0, 21, 177]
abbrev dktX22_init_1 : List UInt8 := dkwX22_init_1 ++ []
def dkwX22_init_0 : List UInt8 := [42, 43, 181, 0, 1, 42, 28, 181, 0, 7, 42, 29, 181, 0, 11, 42, 21, 4, 181, 0, 14, 42, 21, 5]
abbrev dktX22_init_0 : List UInt8 := dkwX22_init_0 ++ dktX22_init_1
theorem dksX22_init_0 : cX22_init.data.toList.drop 0 = dktX22_init_0 := by decide +kernel
theorem dksX22_init_1 : cX22_init.data.toList.drop 24 = dktX22_init_1 := dk_seg dksX22_init_0 24 rfl rfl
theorem dX22_init_0 : decode cX22_init 0 = .ok (.aload_n 0, 1) := dk_42 (dk_at dksX22_init_0 0 rfl rfl)
theorem dX22_init_1 : decode cX22_init 1 = .ok (.aload_n 1, 1) := dk_43 (dk_at dksX22_init_0 1 rfl rfl)
theorem dX22_init_2 : decode cX22_init 2 = .ok (.putfield 1, 3) := dk_181 0 1 (dk_at dksX22_init_0 2 rfl rfl)
theorem dX22_init_5 : decode cX22_init 5 = .ok (.aload_n 0, 1) := dk_42 (dk_at dksX22_init_0 5 rfl rfl)
theorem dX22_init_6 : decode cX22_init 6 = .ok (.iload_n 2, 1) := dk_28 (dk_at dksX22_init_0 6 rfl rfl)
theorem dX22_init_7 : decode cX22_init 7 = .ok (.putfield 7, 3) := dk_181 0 7 (dk_at dksX22_init_0 7 rfl rfl)
theorem dX22_init_10 : decode cX22_init 10 = .ok (.aload_n 0, 1) := dk_42 (dk_at dksX22_init_0 10 rfl rfl)
theorem dX22_init_11 : decode cX22_init 11 = .ok (.iload_n 3, 1) := dk_29 (dk_at dksX22_init_0 11 rfl rfl)
theorem dX22_init_12 : decode cX22_init 12 = .ok (.putfield 11, 3) := dk_181 0 11 (dk_at dksX22_init_0 12 rfl rfl)
theorem dX22_init_15 : decode cX22_init 15 = .ok (.aload_n 0, 1) := dk_42 (dk_at dksX22_init_0 15 rfl rfl)
theorem dX22_init_16 : decode cX22_init 16 = .ok (.iload 4, 2) := dk_21 4 (dk_at dksX22_init_0 16 rfl rfl)
theorem dX22_init_18 : decode cX22_init 18 = .ok (.putfield 14, 3) := dk_181 0 14 (dk_at dksX22_init_0 18 rfl rfl)
theorem dX22_init_21 : decode cX22_init 21 = .ok (.aload_n 0, 1) := dk_42 (dk_at dksX22_init_0 21 rfl rfl)
theorem dX22_init_22 : decode cX22_init 22 = .ok (.iload 5, 2) := dk_21 5 (dk_at dksX22_init_0 22 rfl rfl)
theorem dX22_init_24 : decode cX22_init 24 = .ok (.putfield 17, 3) := dk_181 0 17 (dk_at dksX22_init_1 0 rfl rfl)
theorem dX22_init_27 : decode cX22_init 27 = .ok (.aload_n 0, 1) := dk_42 (dk_at dksX22_init_1 3 rfl rfl)
theorem dX22_init_28 : decode cX22_init 28 = .ok (.invokespecial 21, 3) := dk_183 0 21 (dk_at dksX22_init_1 4 rfl rfl)
theorem dX22_init_31 : decode cX22_init 31 = .ok (.return_, 1) := dk_177 (dk_at dksX22_init_1 7 rfl rfl)
theorem q88 : (Jvm.Cond.initialized "CheckoutDesk$7") ∈ lw_all := lw_g (lw_at lw_m1 46 rfl) rfl
theorem q170 : (Jvm.Cond.fieldLinkNest "CheckoutDesk$7" (43 : Nat) "CheckoutDesk$Store" "versions" "LCheckoutDesk$Row;" "CheckoutDesk") ∈ lw_tbl := lw_at lw_m1 128 rfl
theorem q1054 : (Jvm.Cond.fieldLinkNest "CheckoutDesk$7" (61 : Nat) "CheckoutDesk$Branch" "copy" "LCheckoutDesk$Copy;" "CheckoutDesk") ∈ lw_tbl := lw_at lw_m5 52 rfl
theorem q1115 : (Jvm.Cond.selects "CheckoutDesk$7" ({ cls := "java/lang/Object", name := "getClass", desc := "()Ljava/lang/Class;" } : Jvm.MethodName) ({ cls := "java/lang/Object", name := "getClass", desc := "()Ljava/lang/Class;" } : Jvm.MethodName)) ∈ lw_all := lw_g (lw_at lw_m5 113 rfl) rfl
theorem q1175 : (Jvm.Cond.fieldLinkNest "CheckoutDesk$7" (79 : Nat) "CheckoutDesk$Version" "number" "I" "CheckoutDesk") ∈ lw_tbl := lw_at lw_m5 173 rfl
theorem q1187 : (Jvm.Cond.fieldLinkNest "CheckoutDesk$7" (67 : Nat) "CheckoutDesk$Version" "major" "I" "CheckoutDesk") ∈ lw_tbl := lw_at lw_m5 185 rfl
theorem q1192 : (Jvm.Cond.fieldLinkNest "CheckoutDesk$7" (72 : Nat) "CheckoutDesk$Version" "minor" "I" "CheckoutDesk") ∈ lw_tbl := lw_at lw_m5 190 rfl
theorem q1442 : (Jvm.Cond.castable "CheckoutDesk$7" "CheckoutDesk$Act") ∈ lw_tbl := lw_at lw_m6 200 rfl
theorem q1443 : (Jvm.Cond.selects "CheckoutDesk$7" ({ cls := "CheckoutDesk$Act", name := "on", desc := "(LCheckoutDesk$Store;)I" } : Jvm.MethodName) ({ cls := "CheckoutDesk$7", name := "on", desc := "(LCheckoutDesk$Store;)I" } : Jvm.MethodName)) ∈ lw_all := lw_g (lw_at lw_m6 201 rfl) rfl
theorem q1444 : (Jvm.Cond.unhidden "CheckoutDesk$7" "on" "(LCheckoutDesk$Store;)I") ∈ lw_tbl := lw_at lw_m6 202 rfl
theorem q1445 : (Jvm.Cond.instanceMethod ({ cls := "CheckoutDesk$7", name := "on", desc := "(LCheckoutDesk$Store;)I" } : Jvm.MethodName)) ∈ lw_all := lw_g (lw_at lw_m6 203 rfl) rfl
theorem q1446 : (Jvm.Cond.publicMethod ({ cls := "CheckoutDesk$7", name := "on", desc := "(LCheckoutDesk$Store;)I" } : Jvm.MethodName)) ∈ lw_tbl := lw_at lw_m6 204 rfl
theorem q1447 : (Jvm.Cond.code ({ cls := "CheckoutDesk$7", name := "on", desc := "(LCheckoutDesk$Store;)I" } : Jvm.MethodName) prog_19_method_2_code (5 : Nat) (Option.some Jvm.ClassFile.FieldType.int)) ∈ lw_all := lw_g (lw_at lw_m6 205 rfl) rfl
theorem q1448 : (Jvm.Cond.methodLinkNest "CheckoutDesk$7" (27 : Nat) ({ cls := "CheckoutDesk", name := "requirePerson", desc := "(I)V" } : Jvm.MethodName) "CheckoutDesk") ∈ lw_tbl := lw_at lw_m6 206 rfl
theorem q1449 : (Jvm.Cond.methodLink "CheckoutDesk$7" (33 : Nat) ({ cls := "CheckoutDesk$Store", name := "branch", desc := "(II)LCheckoutDesk$Branch;" } : Jvm.MethodName)) ∈ lw_all := lw_g (lw_at lw_m6 207 rfl) rfl
theorem q1450 : (Jvm.Cond.methodLinkNest "CheckoutDesk$7" (39 : Nat) ({ cls := "CheckoutDesk", name := "held", desc := "(LCheckoutDesk$Store;III)LCheckoutDesk$Copy;" } : Jvm.MethodName) "CheckoutDesk") ∈ lw_tbl := lw_at lw_m6 208 rfl
theorem q1451 : (Jvm.Cond.methodLink "CheckoutDesk$7" (47 : Nat) ({ cls := "CheckoutDesk$Row", name := "hasRoom", desc := "()Z" } : Jvm.MethodName)) ∈ lw_all := lw_g (lw_at lw_m6 209 rfl) rfl
theorem q1452 : (Jvm.Cond.methodLinkNest "CheckoutDesk$7" (53 : Nat) ({ cls := "CheckoutDesk", name := "requireState", desc := "(Z)V" } : Jvm.MethodName) "CheckoutDesk") ∈ lw_tbl := lw_at lw_m6 210 rfl
theorem q1453 : (Jvm.Cond.methodLink "CheckoutDesk$7" (57 : Nat) ({ cls := "CheckoutDesk$Store", name := "newest", desc := "(II)LCheckoutDesk$Version;" } : Jvm.MethodName)) ∈ lw_all := lw_g (lw_at lw_m6 211 rfl) rfl
theorem q1454 : (Jvm.Cond.methodLink "CheckoutDesk$7" (75 : Nat) ({ cls := "CheckoutDesk$Store", name := "make", desc := "(IIIILCheckoutDesk$Content;)LCheckoutDesk$Version;" } : Jvm.MethodName)) ∈ lw_all := lw_g (lw_at lw_m6 212 rfl) rfl
theorem q1922 : (Jvm.Cond.instantiable "CheckoutDesk$7" (5 : Nat)) ∈ lw_all := lw_g (lw_at lw_m8 200 rfl) rfl
theorem q1924 : (Jvm.Cond.instanceMethod ({ cls := "CheckoutDesk$7", name := "<init>", desc := "(LCheckoutDesk;IIIZ)V" } : Jvm.MethodName)) ∈ lw_all := lw_g (lw_at lw_m8 202 rfl) rfl
theorem q1925 : (Jvm.Cond.code ({ cls := "CheckoutDesk$7", name := "<init>", desc := "(LCheckoutDesk;IIIZ)V" } : Jvm.MethodName) prog_19_method_1_code (6 : Nat) (Option.none : Option Jvm.ClassFile.FieldType)) ∈ lw_all := lw_g (lw_at lw_m8 203 rfl) rfl
theorem q1926 : (Jvm.Cond.methodLink "CheckoutDesk$7" (21 : Nat) ({ cls := "java/lang/Object", name := "<init>", desc := "()V" } : Jvm.MethodName)) ∈ lw_all := lw_g (lw_at lw_m8 204 rfl) rfl
theorem q1927 : (Jvm.Cond.fieldLink "CheckoutDesk$7" (7 : Nat) "CheckoutDesk$7" "val$person" "I") ∈ lw_all := lw_g (lw_at lw_m8 205 rfl) rfl
theorem q1928 : (Jvm.Cond.fieldLink "CheckoutDesk$7" (11 : Nat) "CheckoutDesk$7" "val$document" "I") ∈ lw_all := lw_g (lw_at lw_m8 206 rfl) rfl
theorem q1929 : (Jvm.Cond.fieldLink "CheckoutDesk$7" (14 : Nat) "CheckoutDesk$7" "val$branch" "I") ∈ lw_all := lw_g (lw_at lw_m8 207 rfl) rfl
theorem q1930 : (Jvm.Cond.fieldLink "CheckoutDesk$7" (17 : Nat) "CheckoutDesk$7" "val$major" "Z") ∈ lw_all := lw_g (lw_at lw_m8 208 rfl) rfl
theorem q1931 : (Jvm.Cond.fieldLink "CheckoutDesk$7" (1 : Nat) "CheckoutDesk$7" "this$0" "LCheckoutDesk;") ∈ lw_all := lw_g (lw_at lw_m8 209 rfl) rfl
theorem q1932 : (Jvm.Cond.laysFinal "CheckoutDesk$7" "CheckoutDesk$7" "val$person" "I") ∈ lw_all := lw_g (lw_at lw_m8 210 rfl) rfl
theorem q1933 : (Jvm.Cond.soleField "CheckoutDesk$7" "val$person") ∈ lw_all := lw_g (lw_at lw_m8 211 rfl) rfl
theorem q1934 : (Jvm.Cond.laysFinal "CheckoutDesk$7" "CheckoutDesk$7" "val$document" "I") ∈ lw_all := lw_g (lw_at lw_m8 212 rfl) rfl
theorem q1935 : (Jvm.Cond.soleField "CheckoutDesk$7" "val$document") ∈ lw_all := lw_g (lw_at lw_m8 213 rfl) rfl
theorem q1936 : (Jvm.Cond.laysFinal "CheckoutDesk$7" "CheckoutDesk$7" "val$branch" "I") ∈ lw_all := lw_g (lw_at lw_m8 214 rfl) rfl
theorem q1937 : (Jvm.Cond.soleField "CheckoutDesk$7" "val$branch") ∈ lw_all := lw_g (lw_at lw_m8 215 rfl) rfl
theorem q1938 : (Jvm.Cond.laysFinal "CheckoutDesk$7" "CheckoutDesk$7" "val$major" "Z") ∈ lw_all := lw_g (lw_at lw_m8 216 rfl) rfl
theorem q1939 : (Jvm.Cond.soleField "CheckoutDesk$7" "val$major") ∈ lw_all := lw_g (lw_at lw_m8 217 rfl) rfl
theorem q1940 : (Jvm.Cond.laysFinal "CheckoutDesk$7" "CheckoutDesk$7" "this$0" "LCheckoutDesk;") ∈ lw_all := lw_g (lw_at lw_m8 218 rfl) rfl
theorem q1941 : (Jvm.Cond.soleField "CheckoutDesk$7" "this$0") ∈ lw_all := lw_g (lw_at lw_m8 219 rfl) rfl
theorem q1942 : (Jvm.Cond.superclass "CheckoutDesk$7" "java/lang/Object") ∈ lw_all := lw_g (lw_at lw_m8 220 rfl) rfl
theorem q2710 : (Jvm.Cond.castable "CheckoutDesk$7" "java/lang/Object") ∈ lw_tbl := lw_at lw_m12 28 rfl
theorem in_X22 : ∀ w ∈ wsX220, w ∈ lw_all := lw_in wsX220 [1932, 1934, 1936, 1938, 1940] (by decide +kernel) (by decide +kernel)
/-! CheckoutDesk$8 -/
set_option maxRecDepth 100000
def RX23 : String := "CheckoutDesk$8"
def TX23 : u_T := fun k => match k with
  | 0 => ("CheckoutDesk$8", "val$person", "I", true)
  | 1 => ("CheckoutDesk$8", "val$document", "I", true)
  | 2 => ("CheckoutDesk$8", "val$branch", "I", true)
  | _ => ("CheckoutDesk$8", "this$0", "LCheckoutDesk;", true)
def tyX23 : Nat → FieldType := fun k => match k with
  | 0 => .int
  | 1 => .int
  | 2 => .int
  | _ => .object "CheckoutDesk"
abbrev wsX230 : List Cond := u_ws RX23 TX23 4
theorem nmX23 : ∀ a, a < 4 → ∀ b, b < 4 → a ≠ b → (TX23 a).2.1 ≠ (TX23 b).2.1 := by decide +kernel
theorem tyX23_ok : ∀ k, k < 4 → parseFieldDescriptor (TX23 k).2.2.1 = some (tyX23 k) := by decide +kernel
abbrev cX23_on : ByteArray := prog_20_method_2_code
def yX23_on : MethodName := ⟨RX23, "on", "(LCheckoutDesk$Store;)I"⟩
def dkwX23_on_1 : List UInt8 := [43, 180, 0, 33, 44, 180, 0, 38, 100, 62, 44, 43, 180, 0, 33, 181, 0, 38, 29, 172]
abbrev dktX23_on_1 : List UInt8 := dkwX23_on_1 ++ []
def dkwX23_on_0 : List UInt8 := [42, 180, 0, 7, 184, 0, 23, 43, 42, 180, 0, 7, 42, 180, 0, 11, 42, 180, 0, 14, 184, 0, 29, 77]
abbrev dktX23_on_0 : List UInt8 := dkwX23_on_0 ++ dktX23_on_1
theorem dksX23_on_0 : cX23_on.data.toList.drop 0 = dktX23_on_0 := by decide +kernel
theorem dksX23_on_1 : cX23_on.data.toList.drop 24 = dktX23_on_1 := dk_seg dksX23_on_0 24 rfl rfl
theorem dX23_on_0 : decode cX23_on 0 = .ok (.aload_n 0, 1) := dk_42 (dk_at dksX23_on_0 0 rfl rfl)
theorem dX23_on_1 : decode cX23_on 1 = .ok (.getfield 7, 3) := dk_180 0 7 (dk_at dksX23_on_0 1 rfl rfl)
theorem dX23_on_4 : decode cX23_on 4 = .ok (.invokestatic 23, 3) := dk_184 0 23 (dk_at dksX23_on_0 4 rfl rfl)
theorem dX23_on_7 : decode cX23_on 7 = .ok (.aload_n 1, 1) := dk_43 (dk_at dksX23_on_0 7 rfl rfl)
theorem dX23_on_8 : decode cX23_on 8 = .ok (.aload_n 0, 1) := dk_42 (dk_at dksX23_on_0 8 rfl rfl)
theorem dX23_on_9 : decode cX23_on 9 = .ok (.getfield 7, 3) := dk_180 0 7 (dk_at dksX23_on_0 9 rfl rfl)
theorem dX23_on_12 : decode cX23_on 12 = .ok (.aload_n 0, 1) := dk_42 (dk_at dksX23_on_0 12 rfl rfl)
theorem dX23_on_13 : decode cX23_on 13 = .ok (.getfield 11, 3) := dk_180 0 11 (dk_at dksX23_on_0 13 rfl rfl)
theorem dX23_on_16 : decode cX23_on 16 = .ok (.aload_n 0, 1) := dk_42 (dk_at dksX23_on_0 16 rfl rfl)
theorem dX23_on_17 : decode cX23_on 17 = .ok (.getfield 14, 3) := dk_180 0 14 (dk_at dksX23_on_0 17 rfl rfl)
theorem dX23_on_20 : decode cX23_on 20 = .ok (.invokestatic 29, 3) := dk_184 0 29 (dk_at dksX23_on_0 20 rfl rfl)
theorem dX23_on_23 : decode cX23_on 23 = .ok (.astore_n 2, 1) := dk_77 (dk_at dksX23_on_0 23 rfl rfl)
theorem dX23_on_24 : decode cX23_on 24 = .ok (.aload_n 1, 1) := dk_43 (dk_at dksX23_on_1 0 rfl rfl)
theorem dX23_on_25 : decode cX23_on 25 = .ok (.getfield 33, 3) := dk_180 0 33 (dk_at dksX23_on_1 1 rfl rfl)
theorem dX23_on_28 : decode cX23_on 28 = .ok (.aload_n 2, 1) := dk_44 (dk_at dksX23_on_1 4 rfl rfl)
theorem dX23_on_29 : decode cX23_on 29 = .ok (.getfield 38, 3) := dk_180 0 38 (dk_at dksX23_on_1 5 rfl rfl)
theorem dX23_on_32 : decode cX23_on 32 = .ok (.isub, 1) := dk_100 (dk_at dksX23_on_1 8 rfl rfl)
theorem dX23_on_33 : decode cX23_on 33 = .ok (.istore_n 3, 1) := dk_62 (dk_at dksX23_on_1 9 rfl rfl)
theorem dX23_on_34 : decode cX23_on 34 = .ok (.aload_n 2, 1) := dk_44 (dk_at dksX23_on_1 10 rfl rfl)
theorem dX23_on_35 : decode cX23_on 35 = .ok (.aload_n 1, 1) := dk_43 (dk_at dksX23_on_1 11 rfl rfl)
theorem dX23_on_36 : decode cX23_on 36 = .ok (.getfield 33, 3) := dk_180 0 33 (dk_at dksX23_on_1 12 rfl rfl)
theorem dX23_on_39 : decode cX23_on 39 = .ok (.putfield 38, 3) := dk_181 0 38 (dk_at dksX23_on_1 15 rfl rfl)
theorem dX23_on_42 : decode cX23_on 42 = .ok (.iload_n 3, 1) := dk_29 (dk_at dksX23_on_1 18 rfl rfl)
theorem dX23_on_43 : decode cX23_on 43 = .ok (.ireturn, 1) := dk_172 (dk_at dksX23_on_1 19 rfl rfl)
abbrev cX23_init : ByteArray := prog_20_method_1_code
def yX23_init : MethodName := ⟨RX23, "<init>", "(LCheckoutDesk;III)V"⟩
def dkwX23_init_1 : List UInt8 := [183, 0, 17, 177]
abbrev dktX23_init_1 : List UInt8 := dkwX23_init_1 ++ []
def dkwX23_init_0 : List UInt8 := [42, 43, 181, 0, 1, 42, 28, 181, 0, 7, 42, 29, 181, 0, 11, 42, 21, 4, 181, 0, 14, 42]
abbrev dktX23_init_0 : List UInt8 := dkwX23_init_0 ++ dktX23_init_1
theorem dksX23_init_0 : cX23_init.data.toList.drop 0 = dktX23_init_0 := by decide +kernel
theorem dksX23_init_1 : cX23_init.data.toList.drop 22 = dktX23_init_1 := dk_seg dksX23_init_0 22 rfl rfl
theorem dX23_init_0 : decode cX23_init 0 = .ok (.aload_n 0, 1) := dk_42 (dk_at dksX23_init_0 0 rfl rfl)
theorem dX23_init_1 : decode cX23_init 1 = .ok (.aload_n 1, 1) := dk_43 (dk_at dksX23_init_0 1 rfl rfl)
theorem dX23_init_2 : decode cX23_init 2 = .ok (.putfield 1, 3) := dk_181 0 1 (dk_at dksX23_init_0 2 rfl rfl)
theorem dX23_init_5 : decode cX23_init 5 = .ok (.aload_n 0, 1) := dk_42 (dk_at dksX23_init_0 5 rfl rfl)
theorem dX23_init_6 : decode cX23_init 6 = .ok (.iload_n 2, 1) := dk_28 (dk_at dksX23_init_0 6 rfl rfl)
theorem dX23_init_7 : decode cX23_init 7 = .ok (.putfield 7, 3) := dk_181 0 7 (dk_at dksX23_init_0 7 rfl rfl)
theorem dX23_init_10 : decode cX23_init 10 = .ok (.aload_n 0, 1) := dk_42 (dk_at dksX23_init_0 10 rfl rfl)
theorem dX23_init_11 : decode cX23_init 11 = .ok (.iload_n 3, 1) := dk_29 (dk_at dksX23_init_0 11 rfl rfl)
theorem dX23_init_12 : decode cX23_init 12 = .ok (.putfield 11, 3) := dk_181 0 11 (dk_at dksX23_init_0 12 rfl rfl)
theorem dX23_init_15 : decode cX23_init 15 = .ok (.aload_n 0, 1) := dk_42 (dk_at dksX23_init_0 15 rfl rfl)
theorem dX23_init_16 : decode cX23_init 16 = .ok (.iload 4, 2) := dk_21 4 (dk_at dksX23_init_0 16 rfl rfl)
theorem dX23_init_18 : decode cX23_init 18 = .ok (.putfield 14, 3) := dk_181 0 14 (dk_at dksX23_init_0 18 rfl rfl)
theorem dX23_init_21 : decode cX23_init 21 = .ok (.aload_n 0, 1) := dk_42 (dk_at dksX23_init_0 21 rfl rfl)
theorem dX23_init_22 : decode cX23_init 22 = .ok (.invokespecial 17, 3) := dk_183 0 17 (dk_at dksX23_init_1 0 rfl rfl)
theorem dX23_init_25 : decode cX23_init 25 = .ok (.return_, 1) := dk_177 (dk_at dksX23_init_1 3 rfl rfl)
theorem q89 : (Jvm.Cond.initialized "CheckoutDesk$8") ∈ lw_all := lw_g (lw_at lw_m1 47 rfl) rfl
theorem q181 : (Jvm.Cond.fieldLinkNest "CheckoutDesk$8" (33 : Nat) "CheckoutDesk$Store" "clock" "I" "CheckoutDesk") ∈ lw_tbl := lw_at lw_m1 139 rfl
theorem q1116 : (Jvm.Cond.selects "CheckoutDesk$8" ({ cls := "java/lang/Object", name := "getClass", desc := "()Ljava/lang/Class;" } : Jvm.MethodName) ({ cls := "java/lang/Object", name := "getClass", desc := "()Ljava/lang/Class;" } : Jvm.MethodName)) ∈ lw_all := lw_g (lw_at lw_m5 114 rfl) rfl
theorem q1414 : (Jvm.Cond.fieldLinkNest "CheckoutDesk$8" (38 : Nat) "CheckoutDesk$Copy" "since" "I" "CheckoutDesk") ∈ lw_tbl := lw_at lw_m6 172 rfl
theorem q1455 : (Jvm.Cond.castable "CheckoutDesk$8" "CheckoutDesk$Act") ∈ lw_tbl := lw_at lw_m6 213 rfl
theorem q1456 : (Jvm.Cond.selects "CheckoutDesk$8" ({ cls := "CheckoutDesk$Act", name := "on", desc := "(LCheckoutDesk$Store;)I" } : Jvm.MethodName) ({ cls := "CheckoutDesk$8", name := "on", desc := "(LCheckoutDesk$Store;)I" } : Jvm.MethodName)) ∈ lw_all := lw_g (lw_at lw_m6 214 rfl) rfl
theorem q1457 : (Jvm.Cond.unhidden "CheckoutDesk$8" "on" "(LCheckoutDesk$Store;)I") ∈ lw_tbl := lw_at lw_m6 215 rfl
theorem q1458 : (Jvm.Cond.instanceMethod ({ cls := "CheckoutDesk$8", name := "on", desc := "(LCheckoutDesk$Store;)I" } : Jvm.MethodName)) ∈ lw_all := lw_g (lw_at lw_m6 216 rfl) rfl
theorem q1459 : (Jvm.Cond.publicMethod ({ cls := "CheckoutDesk$8", name := "on", desc := "(LCheckoutDesk$Store;)I" } : Jvm.MethodName)) ∈ lw_tbl := lw_at lw_m6 217 rfl
theorem q1460 : (Jvm.Cond.code ({ cls := "CheckoutDesk$8", name := "on", desc := "(LCheckoutDesk$Store;)I" } : Jvm.MethodName) prog_20_method_2_code (4 : Nat) (Option.some Jvm.ClassFile.FieldType.int)) ∈ lw_all := lw_g (lw_at lw_m6 218 rfl) rfl
theorem q1461 : (Jvm.Cond.methodLinkNest "CheckoutDesk$8" (23 : Nat) ({ cls := "CheckoutDesk", name := "requirePerson", desc := "(I)V" } : Jvm.MethodName) "CheckoutDesk") ∈ lw_tbl := lw_at lw_m6 219 rfl
theorem q1462 : (Jvm.Cond.methodLinkNest "CheckoutDesk$8" (29 : Nat) ({ cls := "CheckoutDesk", name := "held", desc := "(LCheckoutDesk$Store;III)LCheckoutDesk$Copy;" } : Jvm.MethodName) "CheckoutDesk") ∈ lw_tbl := lw_at lw_m6 220 rfl
theorem q1951 : (Jvm.Cond.instantiable "CheckoutDesk$8" (4 : Nat)) ∈ lw_all := lw_g (lw_at lw_m8 229 rfl) rfl
theorem q1953 : (Jvm.Cond.instanceMethod ({ cls := "CheckoutDesk$8", name := "<init>", desc := "(LCheckoutDesk;III)V" } : Jvm.MethodName)) ∈ lw_all := lw_g (lw_at lw_m8 231 rfl) rfl
theorem q1954 : (Jvm.Cond.code ({ cls := "CheckoutDesk$8", name := "<init>", desc := "(LCheckoutDesk;III)V" } : Jvm.MethodName) prog_20_method_1_code (5 : Nat) (Option.none : Option Jvm.ClassFile.FieldType)) ∈ lw_all := lw_g (lw_at lw_m8 232 rfl) rfl
theorem q1955 : (Jvm.Cond.methodLink "CheckoutDesk$8" (17 : Nat) ({ cls := "java/lang/Object", name := "<init>", desc := "()V" } : Jvm.MethodName)) ∈ lw_all := lw_g (lw_at lw_m8 233 rfl) rfl
theorem q1956 : (Jvm.Cond.fieldLink "CheckoutDesk$8" (7 : Nat) "CheckoutDesk$8" "val$person" "I") ∈ lw_all := lw_g (lw_at lw_m8 234 rfl) rfl
theorem q1957 : (Jvm.Cond.fieldLink "CheckoutDesk$8" (11 : Nat) "CheckoutDesk$8" "val$document" "I") ∈ lw_all := lw_g (lw_at lw_m8 235 rfl) rfl
theorem q1958 : (Jvm.Cond.fieldLink "CheckoutDesk$8" (14 : Nat) "CheckoutDesk$8" "val$branch" "I") ∈ lw_all := lw_g (lw_at lw_m8 236 rfl) rfl
theorem q1959 : (Jvm.Cond.fieldLink "CheckoutDesk$8" (1 : Nat) "CheckoutDesk$8" "this$0" "LCheckoutDesk;") ∈ lw_all := lw_g (lw_at lw_m8 237 rfl) rfl
theorem q1960 : (Jvm.Cond.laysFinal "CheckoutDesk$8" "CheckoutDesk$8" "val$person" "I") ∈ lw_all := lw_g (lw_at lw_m8 238 rfl) rfl
theorem q1961 : (Jvm.Cond.soleField "CheckoutDesk$8" "val$person") ∈ lw_all := lw_g (lw_at lw_m8 239 rfl) rfl
theorem q1962 : (Jvm.Cond.laysFinal "CheckoutDesk$8" "CheckoutDesk$8" "val$document" "I") ∈ lw_all := lw_g (lw_at lw_m9 0 rfl) rfl
theorem q1963 : (Jvm.Cond.soleField "CheckoutDesk$8" "val$document") ∈ lw_all := lw_g (lw_at lw_m9 1 rfl) rfl
theorem q1964 : (Jvm.Cond.laysFinal "CheckoutDesk$8" "CheckoutDesk$8" "val$branch" "I") ∈ lw_all := lw_g (lw_at lw_m9 2 rfl) rfl
theorem q1965 : (Jvm.Cond.soleField "CheckoutDesk$8" "val$branch") ∈ lw_all := lw_g (lw_at lw_m9 3 rfl) rfl
theorem q1966 : (Jvm.Cond.laysFinal "CheckoutDesk$8" "CheckoutDesk$8" "this$0" "LCheckoutDesk;") ∈ lw_all := lw_g (lw_at lw_m9 4 rfl) rfl
theorem q1967 : (Jvm.Cond.soleField "CheckoutDesk$8" "this$0") ∈ lw_all := lw_g (lw_at lw_m9 5 rfl) rfl
theorem q1968 : (Jvm.Cond.superclass "CheckoutDesk$8" "java/lang/Object") ∈ lw_all := lw_g (lw_at lw_m9 6 rfl) rfl
theorem q2711 : (Jvm.Cond.castable "CheckoutDesk$8" "java/lang/Object") ∈ lw_tbl := lw_at lw_m12 29 rfl
theorem in_X23 : ∀ w ∈ wsX230, w ∈ lw_all := lw_in wsX230 [1960, 1962, 1964, 1966] (by decide +kernel) (by decide +kernel)
/-! CheckoutDesk$9 -/
set_option maxRecDepth 100000
def RX24 : String := "CheckoutDesk$9"
def TX24 : u_T := fun k => match k with
  | 0 => ("CheckoutDesk$9", "val$person", "I", true)
  | 1 => ("CheckoutDesk$9", "val$document", "I", true)
  | 2 => ("CheckoutDesk$9", "val$branch", "I", true)
  | _ => ("CheckoutDesk$9", "this$0", "LCheckoutDesk;", true)
def tyX24 : Nat → FieldType := fun k => match k with
  | 0 => .int
  | 1 => .int
  | 2 => .int
  | _ => .object "CheckoutDesk"
abbrev wsX240 : List Cond := u_ws RX24 TX24 4
theorem nmX24 : ∀ a, a < 4 → ∀ b, b < 4 → a ≠ b → (TX24 a).2.1 ≠ (TX24 b).2.1 := by decide +kernel
theorem tyX24_ok : ∀ k, k < 4 → parseFieldDescriptor (TX24 k).2.2.1 = some (tyX24 k) := by decide +kernel
abbrev cX24_on : ByteArray := prog_21_method_2_code
def yX24_on : MethodName := ⟨RX24, "on", "(LCheckoutDesk$Store;)I"⟩
def dkwX24_on_3 : List UInt8 := [167, 0, 4, 3, 184, 0, 41, 44, 1, 181, 0, 35, 29, 172]
abbrev dktX24_on_3 : List UInt8 := dkwX24_on_3 ++ []
def dkwX24_on_2 : List UInt8 := [159, 0, 21, 43, 42, 180, 0, 11, 182, 0, 50, 180, 0, 54, 42, 180, 0, 7, 160, 0, 7, 4]
abbrev dktX24_on_2 : List UInt8 := dkwX24_on_2 ++ dktX24_on_3
def dkwX24_on_1 : List UInt8 := [198, 0, 7, 4, 167, 0, 4, 3, 184, 0, 41, 44, 180, 0, 35, 180, 0, 45, 62, 29, 42, 180, 0, 7]
abbrev dktX24_on_1 : List UInt8 := dkwX24_on_1 ++ dktX24_on_2
def dkwX24_on_0 : List UInt8 := [42, 180, 0, 7, 184, 0, 23, 43, 42, 180, 0, 11, 42, 180, 0, 14, 182, 0, 29, 77, 44, 180, 0, 35]
abbrev dktX24_on_0 : List UInt8 := dkwX24_on_0 ++ dktX24_on_1
theorem dksX24_on_0 : cX24_on.data.toList.drop 0 = dktX24_on_0 := by decide +kernel
theorem dksX24_on_1 : cX24_on.data.toList.drop 24 = dktX24_on_1 := dk_seg dksX24_on_0 24 rfl rfl
theorem dksX24_on_2 : cX24_on.data.toList.drop 48 = dktX24_on_2 := dk_seg dksX24_on_1 24 rfl rfl
theorem dksX24_on_3 : cX24_on.data.toList.drop 70 = dktX24_on_3 := dk_seg dksX24_on_2 22 rfl rfl
theorem dX24_on_0 : decode cX24_on 0 = .ok (.aload_n 0, 1) := dk_42 (dk_at dksX24_on_0 0 rfl rfl)
theorem dX24_on_1 : decode cX24_on 1 = .ok (.getfield 7, 3) := dk_180 0 7 (dk_at dksX24_on_0 1 rfl rfl)
theorem dX24_on_4 : decode cX24_on 4 = .ok (.invokestatic 23, 3) := dk_184 0 23 (dk_at dksX24_on_0 4 rfl rfl)
theorem dX24_on_7 : decode cX24_on 7 = .ok (.aload_n 1, 1) := dk_43 (dk_at dksX24_on_0 7 rfl rfl)
theorem dX24_on_8 : decode cX24_on 8 = .ok (.aload_n 0, 1) := dk_42 (dk_at dksX24_on_0 8 rfl rfl)
theorem dX24_on_9 : decode cX24_on 9 = .ok (.getfield 11, 3) := dk_180 0 11 (dk_at dksX24_on_0 9 rfl rfl)
theorem dX24_on_12 : decode cX24_on 12 = .ok (.aload_n 0, 1) := dk_42 (dk_at dksX24_on_0 12 rfl rfl)
theorem dX24_on_13 : decode cX24_on 13 = .ok (.getfield 14, 3) := dk_180 0 14 (dk_at dksX24_on_0 13 rfl rfl)
theorem dX24_on_16 : decode cX24_on 16 = .ok (.invokevirtual 29, 3) := dk_182 0 29 (dk_at dksX24_on_0 16 rfl rfl)
theorem dX24_on_19 : decode cX24_on 19 = .ok (.astore_n 2, 1) := dk_77 (dk_at dksX24_on_0 19 rfl rfl)
theorem dX24_on_20 : decode cX24_on 20 = .ok (.aload_n 2, 1) := dk_44 (dk_at dksX24_on_0 20 rfl rfl)
theorem dX24_on_21 : decode cX24_on 21 = .ok (.getfield 35, 3) := dk_180 0 35 (dk_at dksX24_on_0 21 rfl rfl)
theorem dX24_on_24 : decode cX24_on 24 = .ok (.ifnull 7, 3) := dk_198 0 7 (dk_at dksX24_on_1 0 rfl rfl)
theorem dX24_on_27 : decode cX24_on 27 = .ok (.iconst 1, 1) := dk_4 (dk_at dksX24_on_1 3 rfl rfl)
theorem dX24_on_28 : decode cX24_on 28 = .ok (.goto 4, 3) := dk_167 0 4 (dk_at dksX24_on_1 4 rfl rfl)
theorem dX24_on_31 : decode cX24_on 31 = .ok (.iconst 0, 1) := dk_3 (dk_at dksX24_on_1 7 rfl rfl)
theorem dX24_on_32 : decode cX24_on 32 = .ok (.invokestatic 41, 3) := dk_184 0 41 (dk_at dksX24_on_1 8 rfl rfl)
theorem dX24_on_35 : decode cX24_on 35 = .ok (.aload_n 2, 1) := dk_44 (dk_at dksX24_on_1 11 rfl rfl)
theorem dX24_on_36 : decode cX24_on 36 = .ok (.getfield 35, 3) := dk_180 0 35 (dk_at dksX24_on_1 12 rfl rfl)
theorem dX24_on_39 : decode cX24_on 39 = .ok (.getfield 45, 3) := dk_180 0 45 (dk_at dksX24_on_1 15 rfl rfl)
theorem dX24_on_42 : decode cX24_on 42 = .ok (.istore_n 3, 1) := dk_62 (dk_at dksX24_on_1 18 rfl rfl)
theorem dX24_on_43 : decode cX24_on 43 = .ok (.iload_n 3, 1) := dk_29 (dk_at dksX24_on_1 19 rfl rfl)
theorem dX24_on_44 : decode cX24_on 44 = .ok (.aload_n 0, 1) := dk_42 (dk_at dksX24_on_1 20 rfl rfl)
theorem dX24_on_45 : decode cX24_on 45 = .ok (.getfield 7, 3) := dk_180 0 7 (dk_at dksX24_on_1 21 rfl rfl)
theorem dX24_on_48 : decode cX24_on 48 = .ok (.if_icmp .eq 21, 3) := dk_159 0 21 (dk_at dksX24_on_2 0 rfl rfl)
theorem dX24_on_51 : decode cX24_on 51 = .ok (.aload_n 1, 1) := dk_43 (dk_at dksX24_on_2 3 rfl rfl)
theorem dX24_on_52 : decode cX24_on 52 = .ok (.aload_n 0, 1) := dk_42 (dk_at dksX24_on_2 4 rfl rfl)
theorem dX24_on_53 : decode cX24_on 53 = .ok (.getfield 11, 3) := dk_180 0 11 (dk_at dksX24_on_2 5 rfl rfl)
theorem dX24_on_56 : decode cX24_on 56 = .ok (.invokevirtual 50, 3) := dk_182 0 50 (dk_at dksX24_on_2 8 rfl rfl)
theorem dX24_on_59 : decode cX24_on 59 = .ok (.getfield 54, 3) := dk_180 0 54 (dk_at dksX24_on_2 11 rfl rfl)
theorem dX24_on_62 : decode cX24_on 62 = .ok (.aload_n 0, 1) := dk_42 (dk_at dksX24_on_2 14 rfl rfl)
theorem dX24_on_63 : decode cX24_on 63 = .ok (.getfield 7, 3) := dk_180 0 7 (dk_at dksX24_on_2 15 rfl rfl)
theorem dX24_on_66 : decode cX24_on 66 = .ok (.if_icmp .ne 7, 3) := dk_160 0 7 (dk_at dksX24_on_2 18 rfl rfl)
theorem dX24_on_69 : decode cX24_on 69 = .ok (.iconst 1, 1) := dk_4 (dk_at dksX24_on_2 21 rfl rfl)
theorem dX24_on_70 : decode cX24_on 70 = .ok (.goto 4, 3) := dk_167 0 4 (dk_at dksX24_on_3 0 rfl rfl)
theorem dX24_on_73 : decode cX24_on 73 = .ok (.iconst 0, 1) := dk_3 (dk_at dksX24_on_3 3 rfl rfl)
theorem dX24_on_74 : decode cX24_on 74 = .ok (.invokestatic 41, 3) := dk_184 0 41 (dk_at dksX24_on_3 4 rfl rfl)
theorem dX24_on_77 : decode cX24_on 77 = .ok (.aload_n 2, 1) := dk_44 (dk_at dksX24_on_3 7 rfl rfl)
theorem dX24_on_78 : decode cX24_on 78 = .ok (.aconst_null, 1) := dk_1 (dk_at dksX24_on_3 8 rfl rfl)
theorem dX24_on_79 : decode cX24_on 79 = .ok (.putfield 35, 3) := dk_181 0 35 (dk_at dksX24_on_3 9 rfl rfl)
theorem dX24_on_82 : decode cX24_on 82 = .ok (.iload_n 3, 1) := dk_29 (dk_at dksX24_on_3 12 rfl rfl)
theorem dX24_on_83 : decode cX24_on 83 = .ok (.ireturn, 1) := dk_172 (dk_at dksX24_on_3 13 rfl rfl)
abbrev cX24_init : ByteArray := prog_21_method_1_code
def yX24_init : MethodName := ⟨RX24, "<init>", "(LCheckoutDesk;III)V"⟩
def dkwX24_init_1 : List UInt8 := [183, 0, 17, 177]
abbrev dktX24_init_1 : List UInt8 := dkwX24_init_1 ++ []
def dkwX24_init_0 : List UInt8 := [42, 43, 181, 0, 1, 42, 28, 181, 0, 7, 42, 29, 181, 0, 11, 42, 21, 4, 181, 0, 14, 42]
abbrev dktX24_init_0 : List UInt8 := dkwX24_init_0 ++ dktX24_init_1
theorem dksX24_init_0 : cX24_init.data.toList.drop 0 = dktX24_init_0 := by decide +kernel
theorem dksX24_init_1 : cX24_init.data.toList.drop 22 = dktX24_init_1 := dk_seg dksX24_init_0 22 rfl rfl
theorem dX24_init_0 : decode cX24_init 0 = .ok (.aload_n 0, 1) := dk_42 (dk_at dksX24_init_0 0 rfl rfl)
theorem dX24_init_1 : decode cX24_init 1 = .ok (.aload_n 1, 1) := dk_43 (dk_at dksX24_init_0 1 rfl rfl)
theorem dX24_init_2 : decode cX24_init 2 = .ok (.putfield 1, 3) := dk_181 0 1 (dk_at dksX24_init_0 2 rfl rfl)
theorem dX24_init_5 : decode cX24_init 5 = .ok (.aload_n 0, 1) := dk_42 (dk_at dksX24_init_0 5 rfl rfl)
theorem dX24_init_6 : decode cX24_init 6 = .ok (.iload_n 2, 1) := dk_28 (dk_at dksX24_init_0 6 rfl rfl)
theorem dX24_init_7 : decode cX24_init 7 = .ok (.putfield 7, 3) := dk_181 0 7 (dk_at dksX24_init_0 7 rfl rfl)
theorem dX24_init_10 : decode cX24_init 10 = .ok (.aload_n 0, 1) := dk_42 (dk_at dksX24_init_0 10 rfl rfl)
theorem dX24_init_11 : decode cX24_init 11 = .ok (.iload_n 3, 1) := dk_29 (dk_at dksX24_init_0 11 rfl rfl)
theorem dX24_init_12 : decode cX24_init 12 = .ok (.putfield 11, 3) := dk_181 0 11 (dk_at dksX24_init_0 12 rfl rfl)
theorem dX24_init_15 : decode cX24_init 15 = .ok (.aload_n 0, 1) := dk_42 (dk_at dksX24_init_0 15 rfl rfl)
theorem dX24_init_16 : decode cX24_init 16 = .ok (.iload 4, 2) := dk_21 4 (dk_at dksX24_init_0 16 rfl rfl)
theorem dX24_init_18 : decode cX24_init 18 = .ok (.putfield 14, 3) := dk_181 0 14 (dk_at dksX24_init_0 18 rfl rfl)
theorem dX24_init_21 : decode cX24_init 21 = .ok (.aload_n 0, 1) := dk_42 (dk_at dksX24_init_0 21 rfl rfl)
theorem dX24_init_22 : decode cX24_init 22 = .ok (.invokespecial 17, 3) := dk_183 0 17 (dk_at dksX24_init_1 0 rfl rfl)
theorem dX24_init_25 : decode cX24_init 25 = .ok (.return_, 1) := dk_177 (dk_at dksX24_init_1 3 rfl rfl)
theorem q90 : (Jvm.Cond.initialized "CheckoutDesk$9") ∈ lw_all := lw_g (lw_at lw_m1 48 rfl) rfl
theorem q1050 : (Jvm.Cond.fieldLinkNest "CheckoutDesk$9" (35 : Nat) "CheckoutDesk$Branch" "copy" "LCheckoutDesk$Copy;" "CheckoutDesk") ∈ lw_tbl := lw_at lw_m5 48 rfl
theorem q1117 : (Jvm.Cond.selects "CheckoutDesk$9" ({ cls := "java/lang/Object", name := "getClass", desc := "()Ljava/lang/Class;" } : Jvm.MethodName) ({ cls := "java/lang/Object", name := "getClass", desc := "()Ljava/lang/Class;" } : Jvm.MethodName)) ∈ lw_all := lw_g (lw_at lw_m5 115 rfl) rfl
theorem q1355 : (Jvm.Cond.fieldLinkNest "CheckoutDesk$9" (54 : Nat) "CheckoutDesk$Document" "owner" "I" "CheckoutDesk") ∈ lw_tbl := lw_at lw_m6 113 rfl
theorem q1411 : (Jvm.Cond.fieldLinkNest "CheckoutDesk$9" (45 : Nat) "CheckoutDesk$Copy" "holder" "I" "CheckoutDesk") ∈ lw_tbl := lw_at lw_m6 169 rfl
theorem q1463 : (Jvm.Cond.castable "CheckoutDesk$9" "CheckoutDesk$Act") ∈ lw_tbl := lw_at lw_m6 221 rfl
theorem q1464 : (Jvm.Cond.selects "CheckoutDesk$9" ({ cls := "CheckoutDesk$Act", name := "on", desc := "(LCheckoutDesk$Store;)I" } : Jvm.MethodName) ({ cls := "CheckoutDesk$9", name := "on", desc := "(LCheckoutDesk$Store;)I" } : Jvm.MethodName)) ∈ lw_all := lw_g (lw_at lw_m6 222 rfl) rfl
theorem q1465 : (Jvm.Cond.unhidden "CheckoutDesk$9" "on" "(LCheckoutDesk$Store;)I") ∈ lw_tbl := lw_at lw_m6 223 rfl
theorem q1466 : (Jvm.Cond.instanceMethod ({ cls := "CheckoutDesk$9", name := "on", desc := "(LCheckoutDesk$Store;)I" } : Jvm.MethodName)) ∈ lw_all := lw_g (lw_at lw_m6 224 rfl) rfl
theorem q1467 : (Jvm.Cond.publicMethod ({ cls := "CheckoutDesk$9", name := "on", desc := "(LCheckoutDesk$Store;)I" } : Jvm.MethodName)) ∈ lw_tbl := lw_at lw_m6 225 rfl
theorem q1468 : (Jvm.Cond.code ({ cls := "CheckoutDesk$9", name := "on", desc := "(LCheckoutDesk$Store;)I" } : Jvm.MethodName) prog_21_method_2_code (4 : Nat) (Option.some Jvm.ClassFile.FieldType.int)) ∈ lw_all := lw_g (lw_at lw_m6 226 rfl) rfl
theorem q1469 : (Jvm.Cond.methodLinkNest "CheckoutDesk$9" (23 : Nat) ({ cls := "CheckoutDesk", name := "requirePerson", desc := "(I)V" } : Jvm.MethodName) "CheckoutDesk") ∈ lw_tbl := lw_at lw_m6 227 rfl
theorem q1470 : (Jvm.Cond.methodLink "CheckoutDesk$9" (29 : Nat) ({ cls := "CheckoutDesk$Store", name := "branch", desc := "(II)LCheckoutDesk$Branch;" } : Jvm.MethodName)) ∈ lw_all := lw_g (lw_at lw_m6 228 rfl) rfl
theorem q1471 : (Jvm.Cond.methodLinkNest "CheckoutDesk$9" (41 : Nat) ({ cls := "CheckoutDesk", name := "requireState", desc := "(Z)V" } : Jvm.MethodName) "CheckoutDesk") ∈ lw_tbl := lw_at lw_m6 229 rfl
theorem q1472 : (Jvm.Cond.methodLink "CheckoutDesk$9" (50 : Nat) ({ cls := "CheckoutDesk$Store", name := "document", desc := "(I)LCheckoutDesk$Document;" } : Jvm.MethodName)) ∈ lw_all := lw_g (lw_at lw_m6 230 rfl) rfl
theorem q1977 : (Jvm.Cond.instantiable "CheckoutDesk$9" (4 : Nat)) ∈ lw_all := lw_g (lw_at lw_m9 15 rfl) rfl
theorem q1979 : (Jvm.Cond.instanceMethod ({ cls := "CheckoutDesk$9", name := "<init>", desc := "(LCheckoutDesk;III)V" } : Jvm.MethodName)) ∈ lw_all := lw_g (lw_at lw_m9 17 rfl) rfl
theorem q1980 : (Jvm.Cond.code ({ cls := "CheckoutDesk$9", name := "<init>", desc := "(LCheckoutDesk;III)V" } : Jvm.MethodName) prog_21_method_1_code (5 : Nat) (Option.none : Option Jvm.ClassFile.FieldType)) ∈ lw_all := lw_g (lw_at lw_m9 18 rfl) rfl
theorem q1981 : (Jvm.Cond.methodLink "CheckoutDesk$9" (17 : Nat) ({ cls := "java/lang/Object", name := "<init>", desc := "()V" } : Jvm.MethodName)) ∈ lw_all := lw_g (lw_at lw_m9 19 rfl) rfl
theorem q1982 : (Jvm.Cond.fieldLink "CheckoutDesk$9" (7 : Nat) "CheckoutDesk$9" "val$person" "I") ∈ lw_all := lw_g (lw_at lw_m9 20 rfl) rfl
theorem q1983 : (Jvm.Cond.fieldLink "CheckoutDesk$9" (11 : Nat) "CheckoutDesk$9" "val$document" "I") ∈ lw_all := lw_g (lw_at lw_m9 21 rfl) rfl
theorem q1984 : (Jvm.Cond.fieldLink "CheckoutDesk$9" (14 : Nat) "CheckoutDesk$9" "val$branch" "I") ∈ lw_all := lw_g (lw_at lw_m9 22 rfl) rfl
theorem q1985 : (Jvm.Cond.fieldLink "CheckoutDesk$9" (1 : Nat) "CheckoutDesk$9" "this$0" "LCheckoutDesk;") ∈ lw_all := lw_g (lw_at lw_m9 23 rfl) rfl
theorem q1986 : (Jvm.Cond.laysFinal "CheckoutDesk$9" "CheckoutDesk$9" "val$person" "I") ∈ lw_all := lw_g (lw_at lw_m9 24 rfl) rfl
theorem q1987 : (Jvm.Cond.soleField "CheckoutDesk$9" "val$person") ∈ lw_all := lw_g (lw_at lw_m9 25 rfl) rfl
theorem q1988 : (Jvm.Cond.laysFinal "CheckoutDesk$9" "CheckoutDesk$9" "val$document" "I") ∈ lw_all := lw_g (lw_at lw_m9 26 rfl) rfl
theorem q1989 : (Jvm.Cond.soleField "CheckoutDesk$9" "val$document") ∈ lw_all := lw_g (lw_at lw_m9 27 rfl) rfl
theorem q1990 : (Jvm.Cond.laysFinal "CheckoutDesk$9" "CheckoutDesk$9" "val$branch" "I") ∈ lw_all := lw_g (lw_at lw_m9 28 rfl) rfl
theorem q1991 : (Jvm.Cond.soleField "CheckoutDesk$9" "val$branch") ∈ lw_all := lw_g (lw_at lw_m9 29 rfl) rfl
theorem q1992 : (Jvm.Cond.laysFinal "CheckoutDesk$9" "CheckoutDesk$9" "this$0" "LCheckoutDesk;") ∈ lw_all := lw_g (lw_at lw_m9 30 rfl) rfl
theorem q1993 : (Jvm.Cond.soleField "CheckoutDesk$9" "this$0") ∈ lw_all := lw_g (lw_at lw_m9 31 rfl) rfl
theorem q1994 : (Jvm.Cond.superclass "CheckoutDesk$9" "java/lang/Object") ∈ lw_all := lw_g (lw_at lw_m9 32 rfl) rfl
theorem q2712 : (Jvm.Cond.castable "CheckoutDesk$9" "java/lang/Object") ∈ lw_tbl := lw_at lw_m12 30 rfl
theorem in_X24 : ∀ w ∈ wsX240, w ∈ lw_all := lw_in wsX240 [1986, 1988, 1990, 1992] (by decide +kernel) (by decide +kernel)
/-! CheckoutDesk$10 -/
set_option maxRecDepth 100000
def RX25 : String := "CheckoutDesk$10"
def TX25 : u_T := fun k => match k with
  | 0 => ("CheckoutDesk$10", "val$person", "I", true)
  | 1 => ("CheckoutDesk$10", "val$document", "I", true)
  | 2 => ("CheckoutDesk$10", "val$branch", "I", true)
  | _ => ("CheckoutDesk$10", "this$0", "LCheckoutDesk;", true)
def tyX25 : Nat → FieldType := fun k => match k with
  | 0 => .int
  | 1 => .int
  | 2 => .int
  | _ => .object "CheckoutDesk"
abbrev wsX250 : List Cond := u_ws RX25 TX25 4
theorem nmX25 : ∀ a, a < 4 → ∀ b, b < 4 → a ≠ b → (TX25 a).2.1 ≠ (TX25 b).2.1 := by decide +kernel
theorem tyX25_ok : ∀ k, k < 4 → parseFieldDescriptor (TX25 k).2.2.1 = some (tyX25 k) := by decide +kernel
abbrev cX25_on : ByteArray := prog_3_method_2_code
def yX25_on : MethodName := ⟨RX25, "on", "(LCheckoutDesk$Store;)I"⟩
def dkwX25_on_3 : List UInt8 := [184, 0, 39, 45, 89, 180, 0, 59, 4, 96, 181, 0, 59, 45, 3, 181, 0, 62, 45, 180, 0, 65, 172]
abbrev dktX25_on_3 : List UInt8 := dkwX25_on_3 ++ []
def dkwX25_on_2 : List UInt8 := [182, 0, 43, 78, 44, 180, 0, 47, 199, 0, 14, 45, 182, 0, 53, 154, 0, 7, 4, 167, 0, 4, 3]
abbrev dktX25_on_2 : List UInt8 := dkwX25_on_2 ++ dktX25_on_3
def dkwX25_on_1 : List UInt8 := [180, 0, 7, 42, 180, 0, 11, 182, 0, 35, 184, 0, 39, 43, 42, 180, 0, 11, 42, 180, 0, 14]
abbrev dktX25_on_1 : List UInt8 := dkwX25_on_1 ++ dktX25_on_2
def dkwX25_on_0 : List UInt8 := [42, 180, 0, 7, 184, 0, 23, 43, 42, 180, 0, 11, 42, 180, 0, 14, 182, 0, 29, 77, 43, 42]
abbrev dktX25_on_0 : List UInt8 := dkwX25_on_0 ++ dktX25_on_1
theorem dksX25_on_0 : cX25_on.data.toList.drop 0 = dktX25_on_0 := by decide +kernel
theorem dksX25_on_1 : cX25_on.data.toList.drop 22 = dktX25_on_1 := dk_seg dksX25_on_0 22 rfl rfl
theorem dksX25_on_2 : cX25_on.data.toList.drop 44 = dktX25_on_2 := dk_seg dksX25_on_1 22 rfl rfl
theorem dksX25_on_3 : cX25_on.data.toList.drop 67 = dktX25_on_3 := dk_seg dksX25_on_2 23 rfl rfl
theorem dX25_on_0 : decode cX25_on 0 = .ok (.aload_n 0, 1) := dk_42 (dk_at dksX25_on_0 0 rfl rfl)
theorem dX25_on_1 : decode cX25_on 1 = .ok (.getfield 7, 3) := dk_180 0 7 (dk_at dksX25_on_0 1 rfl rfl)
theorem dX25_on_4 : decode cX25_on 4 = .ok (.invokestatic 23, 3) := dk_184 0 23 (dk_at dksX25_on_0 4 rfl rfl)
theorem dX25_on_7 : decode cX25_on 7 = .ok (.aload_n 1, 1) := dk_43 (dk_at dksX25_on_0 7 rfl rfl)
theorem dX25_on_8 : decode cX25_on 8 = .ok (.aload_n 0, 1) := dk_42 (dk_at dksX25_on_0 8 rfl rfl)
theorem dX25_on_9 : decode cX25_on 9 = .ok (.getfield 11, 3) := dk_180 0 11 (dk_at dksX25_on_0 9 rfl rfl)
theorem dX25_on_12 : decode cX25_on 12 = .ok (.aload_n 0, 1) := dk_42 (dk_at dksX25_on_0 12 rfl rfl)
theorem dX25_on_13 : decode cX25_on 13 = .ok (.getfield 14, 3) := dk_180 0 14 (dk_at dksX25_on_0 13 rfl rfl)
theorem dX25_on_16 : decode cX25_on 16 = .ok (.invokevirtual 29, 3) := dk_182 0 29 (dk_at dksX25_on_0 16 rfl rfl)
theorem dX25_on_19 : decode cX25_on 19 = .ok (.astore_n 2, 1) := dk_77 (dk_at dksX25_on_0 19 rfl rfl)
theorem dX25_on_20 : decode cX25_on 20 = .ok (.aload_n 1, 1) := dk_43 (dk_at dksX25_on_0 20 rfl rfl)
theorem dX25_on_21 : decode cX25_on 21 = .ok (.aload_n 0, 1) := dk_42 (dk_at dksX25_on_0 21 rfl rfl)
theorem dX25_on_22 : decode cX25_on 22 = .ok (.getfield 7, 3) := dk_180 0 7 (dk_at dksX25_on_1 0 rfl rfl)
theorem dX25_on_25 : decode cX25_on 25 = .ok (.aload_n 0, 1) := dk_42 (dk_at dksX25_on_1 3 rfl rfl)
theorem dX25_on_26 : decode cX25_on 26 = .ok (.getfield 11, 3) := dk_180 0 11 (dk_at dksX25_on_1 4 rfl rfl)
theorem dX25_on_29 : decode cX25_on 29 = .ok (.invokevirtual 35, 3) := dk_182 0 35 (dk_at dksX25_on_1 7 rfl rfl)
theorem dX25_on_32 : decode cX25_on 32 = .ok (.invokestatic 39, 3) := dk_184 0 39 (dk_at dksX25_on_1 10 rfl rfl)
theorem dX25_on_35 : decode cX25_on 35 = .ok (.aload_n 1, 1) := dk_43 (dk_at dksX25_on_1 13 rfl rfl)
theorem dX25_on_36 : decode cX25_on 36 = .ok (.aload_n 0, 1) := dk_42 (dk_at dksX25_on_1 14 rfl rfl)
theorem dX25_on_37 : decode cX25_on 37 = .ok (.getfield 11, 3) := dk_180 0 11 (dk_at dksX25_on_1 15 rfl rfl)
theorem dX25_on_40 : decode cX25_on 40 = .ok (.aload_n 0, 1) := dk_42 (dk_at dksX25_on_1 18 rfl rfl)
theorem dX25_on_41 : decode cX25_on 41 = .ok (.getfield 14, 3) := dk_180 0 14 (dk_at dksX25_on_1 19 rfl rfl)
theorem dX25_on_44 : decode cX25_on 44 = .ok (.invokevirtual 43, 3) := dk_182 0 43 (dk_at dksX25_on_2 0 rfl rfl)
theorem dX25_on_47 : decode cX25_on 47 = .ok (.astore_n 3, 1) := dk_78 (dk_at dksX25_on_2 3 rfl rfl)
theorem dX25_on_48 : decode cX25_on 48 = .ok (.aload_n 2, 1) := dk_44 (dk_at dksX25_on_2 4 rfl rfl)
theorem dX25_on_49 : decode cX25_on 49 = .ok (.getfield 47, 3) := dk_180 0 47 (dk_at dksX25_on_2 5 rfl rfl)
theorem dX25_on_52 : decode cX25_on 52 = .ok (.ifnonnull 14, 3) := dk_199 0 14 (dk_at dksX25_on_2 8 rfl rfl)
theorem dX25_on_55 : decode cX25_on 55 = .ok (.aload_n 3, 1) := dk_45 (dk_at dksX25_on_2 11 rfl rfl)
theorem dX25_on_56 : decode cX25_on 56 = .ok (.invokevirtual 53, 3) := dk_182 0 53 (dk_at dksX25_on_2 12 rfl rfl)
theorem dX25_on_59 : decode cX25_on 59 = .ok (.ifCond .ne 7, 3) := dk_154 0 7 (dk_at dksX25_on_2 15 rfl rfl)
theorem dX25_on_62 : decode cX25_on 62 = .ok (.iconst 1, 1) := dk_4 (dk_at dksX25_on_2 18 rfl rfl)
theorem dX25_on_63 : decode cX25_on 63 = .ok (.goto 4, 3) := dk_167 0 4 (dk_at dksX25_on_2 19 rfl rfl)
theorem dX25_on_66 : decode cX25_on 66 = .ok (.iconst 0, 1) := dk_3 (dk_at dksX25_on_2 22 rfl rfl)
theorem dX25_on_67 : decode cX25_on 67 = .ok (.invokestatic 39, 3) := dk_184 0 39 (dk_at dksX25_on_3 0 rfl rfl)
theorem dX25_on_70 : decode cX25_on 70 = .ok (.aload_n 3, 1) := dk_45 (dk_at dksX25_on_3 3 rfl rfl)
theorem dX25_on_71 : decode cX25_on 71 = .ok (.dup, 1) := dk_89 (dk_at dksX25_on_3 4 rfl rfl)
theorem dX25_on_72 : decode cX25_on 72 = .ok (.getfield 59, 3) := dk_180 0 59 (dk_at dksX25_on_3 5 rfl rfl)
theorem dX25_on_75 : decode cX25_on 75 = .ok (.iconst 1, 1) := dk_4 (dk_at dksX25_on_3 8 rfl rfl)
theorem dX25_on_76 : decode cX25_on 76 = .ok (.iadd, 1) := dk_96 (dk_at dksX25_on_3 9 rfl rfl)
theorem dX25_on_77 : decode cX25_on 77 = .ok (.putfield 59, 3) := dk_181 0 59 (dk_at dksX25_on_3 10 rfl rfl)
theorem dX25_on_80 : decode cX25_on 80 = .ok (.aload_n 3, 1) := dk_45 (dk_at dksX25_on_3 13 rfl rfl)
theorem dX25_on_81 : decode cX25_on 81 = .ok (.iconst 0, 1) := dk_3 (dk_at dksX25_on_3 14 rfl rfl)
theorem dX25_on_82 : decode cX25_on 82 = .ok (.putfield 62, 3) := dk_181 0 62 (dk_at dksX25_on_3 15 rfl rfl)
theorem dX25_on_85 : decode cX25_on 85 = .ok (.aload_n 3, 1) := dk_45 (dk_at dksX25_on_3 18 rfl rfl)
theorem dX25_on_86 : decode cX25_on 86 = .ok (.getfield 65, 3) := dk_180 0 65 (dk_at dksX25_on_3 19 rfl rfl)
theorem dX25_on_89 : decode cX25_on 89 = .ok (.ireturn, 1) := dk_172 (dk_at dksX25_on_3 22 rfl rfl)
abbrev cX25_init : ByteArray := prog_3_method_1_code
def yX25_init : MethodName := ⟨RX25, "<init>", "(LCheckoutDesk;III)V"⟩
def dkwX25_init_1 : List UInt8 := [183, 0, 17, 177]
abbrev dktX25_init_1 : List UInt8 := dkwX25_init_1 ++ []
def dkwX25_init_0 : List UInt8 := [42, 43, 181, 0, 1, 42, 28, 181, 0, 7, 42, 29, 181, 0, 11, 42, 21, 4, 181, 0, 14, 42]
abbrev dktX25_init_0 : List UInt8 := dkwX25_init_0 ++ dktX25_init_1
theorem dksX25_init_0 : cX25_init.data.toList.drop 0 = dktX25_init_0 := by decide +kernel
theorem dksX25_init_1 : cX25_init.data.toList.drop 22 = dktX25_init_1 := dk_seg dksX25_init_0 22 rfl rfl
theorem dX25_init_0 : decode cX25_init 0 = .ok (.aload_n 0, 1) := dk_42 (dk_at dksX25_init_0 0 rfl rfl)
theorem dX25_init_1 : decode cX25_init 1 = .ok (.aload_n 1, 1) := dk_43 (dk_at dksX25_init_0 1 rfl rfl)
theorem dX25_init_2 : decode cX25_init 2 = .ok (.putfield 1, 3) := dk_181 0 1 (dk_at dksX25_init_0 2 rfl rfl)
theorem dX25_init_5 : decode cX25_init 5 = .ok (.aload_n 0, 1) := dk_42 (dk_at dksX25_init_0 5 rfl rfl)
theorem dX25_init_6 : decode cX25_init 6 = .ok (.iload_n 2, 1) := dk_28 (dk_at dksX25_init_0 6 rfl rfl)
theorem dX25_init_7 : decode cX25_init 7 = .ok (.putfield 7, 3) := dk_181 0 7 (dk_at dksX25_init_0 7 rfl rfl)
theorem dX25_init_10 : decode cX25_init 10 = .ok (.aload_n 0, 1) := dk_42 (dk_at dksX25_init_0 10 rfl rfl)
theorem dX25_init_11 : decode cX25_init 11 = .ok (.iload_n 3, 1) := dk_29 (dk_at dksX25_init_0 11 rfl rfl)
theorem dX25_init_12 : decode cX25_init 12 = .ok (.putfield 11, 3) := dk_181 0 11 (dk_at dksX25_init_0 12 rfl rfl)
theorem dX25_init_15 : decode cX25_init 15 = .ok (.aload_n 0, 1) := dk_42 (dk_at dksX25_init_0 15 rfl rfl)
theorem dX25_init_16 : decode cX25_init 16 = .ok (.iload 4, 2) := dk_21 4 (dk_at dksX25_init_0 16 rfl rfl)
theorem dX25_init_18 : decode cX25_init 18 = .ok (.putfield 14, 3) := dk_181 0 14 (dk_at dksX25_init_0 18 rfl rfl)
theorem dX25_init_21 : decode cX25_init 21 = .ok (.aload_n 0, 1) := dk_42 (dk_at dksX25_init_0 21 rfl rfl)
theorem dX25_init_22 : decode cX25_init 22 = .ok (.invokespecial 17, 3) := dk_183 0 17 (dk_at dksX25_init_1 0 rfl rfl)
theorem dX25_init_25 : decode cX25_init 25 = .ok (.return_, 1) := dk_177 (dk_at dksX25_init_1 3 rfl rfl)
theorem q91 : (Jvm.Cond.initialized "CheckoutDesk$10") ∈ lw_all := lw_g (lw_at lw_m1 49 rfl) rfl
theorem q927 : (Jvm.Cond.castable "CheckoutDesk$10" "CheckoutDesk$Act") ∈ lw_tbl := lw_at lw_m4 165 rfl
theorem q928 : (Jvm.Cond.selects "CheckoutDesk$10" ({ cls := "CheckoutDesk$Act", name := "on", desc := "(LCheckoutDesk$Store;)I" } : Jvm.MethodName) ({ cls := "CheckoutDesk$10", name := "on", desc := "(LCheckoutDesk$Store;)I" } : Jvm.MethodName)) ∈ lw_all := lw_g (lw_at lw_m4 166 rfl) rfl
theorem q929 : (Jvm.Cond.unhidden "CheckoutDesk$10" "on" "(LCheckoutDesk$Store;)I") ∈ lw_tbl := lw_at lw_m4 167 rfl
theorem q930 : (Jvm.Cond.instanceMethod ({ cls := "CheckoutDesk$10", name := "on", desc := "(LCheckoutDesk$Store;)I" } : Jvm.MethodName)) ∈ lw_all := lw_g (lw_at lw_m4 168 rfl) rfl
theorem q931 : (Jvm.Cond.publicMethod ({ cls := "CheckoutDesk$10", name := "on", desc := "(LCheckoutDesk$Store;)I" } : Jvm.MethodName)) ∈ lw_tbl := lw_at lw_m4 169 rfl
theorem q932 : (Jvm.Cond.code ({ cls := "CheckoutDesk$10", name := "on", desc := "(LCheckoutDesk$Store;)I" } : Jvm.MethodName) prog_3_method_2_code (4 : Nat) (Option.some Jvm.ClassFile.FieldType.int)) ∈ lw_all := lw_g (lw_at lw_m4 170 rfl) rfl
theorem q933 : (Jvm.Cond.methodLinkNest "CheckoutDesk$10" (23 : Nat) ({ cls := "CheckoutDesk", name := "requirePerson", desc := "(I)V" } : Jvm.MethodName) "CheckoutDesk") ∈ lw_tbl := lw_at lw_m4 171 rfl
theorem q938 : (Jvm.Cond.methodLink "CheckoutDesk$10" (29 : Nat) ({ cls := "CheckoutDesk$Store", name := "branch", desc := "(II)LCheckoutDesk$Branch;" } : Jvm.MethodName)) ∈ lw_all := lw_g (lw_at lw_m4 176 rfl) rfl
theorem q947 : (Jvm.Cond.methodLink "CheckoutDesk$10" (35 : Nat) ({ cls := "CheckoutDesk$Store", name := "isWriter", desc := "(II)Z" } : Jvm.MethodName)) ∈ lw_all := lw_g (lw_at lw_m4 185 rfl) rfl
theorem q951 : (Jvm.Cond.methodLinkNest "CheckoutDesk$10" (39 : Nat) ({ cls := "CheckoutDesk", name := "requireState", desc := "(Z)V" } : Jvm.MethodName) "CheckoutDesk") ∈ lw_tbl := lw_at lw_m4 189 rfl
theorem q952 : (Jvm.Cond.methodLink "CheckoutDesk$10" (43 : Nat) ({ cls := "CheckoutDesk$Store", name := "newest", desc := "(II)LCheckoutDesk$Version;" } : Jvm.MethodName)) ∈ lw_all := lw_g (lw_at lw_m4 190 rfl) rfl
theorem q972 : (Jvm.Cond.methodLink "CheckoutDesk$10" (53 : Nat) ({ cls := "CheckoutDesk$Version", name := "isReleased", desc := "()Z" } : Jvm.MethodName)) ∈ lw_all := lw_g (lw_at lw_m4 210 rfl) rfl
theorem q1052 : (Jvm.Cond.fieldLinkNest "CheckoutDesk$10" (47 : Nat) "CheckoutDesk$Branch" "copy" "LCheckoutDesk$Copy;" "CheckoutDesk") ∈ lw_tbl := lw_at lw_m5 50 rfl
theorem q1099 : (Jvm.Cond.selects "CheckoutDesk$10" ({ cls := "java/lang/Object", name := "getClass", desc := "()Ljava/lang/Class;" } : Jvm.MethodName) ({ cls := "java/lang/Object", name := "getClass", desc := "()Ljava/lang/Class;" } : Jvm.MethodName)) ∈ lw_all := lw_g (lw_at lw_m5 97 rfl) rfl
theorem q1173 : (Jvm.Cond.fieldLinkNest "CheckoutDesk$10" (65 : Nat) "CheckoutDesk$Version" "number" "I" "CheckoutDesk") ∈ lw_tbl := lw_at lw_m5 171 rfl
theorem q1186 : (Jvm.Cond.fieldLinkNest "CheckoutDesk$10" (59 : Nat) "CheckoutDesk$Version" "major" "I" "CheckoutDesk") ∈ lw_tbl := lw_at lw_m5 184 rfl
theorem q1191 : (Jvm.Cond.fieldLinkNest "CheckoutDesk$10" (62 : Nat) "CheckoutDesk$Version" "minor" "I" "CheckoutDesk") ∈ lw_tbl := lw_at lw_m5 189 rfl
theorem q2003 : (Jvm.Cond.instantiable "CheckoutDesk$10" (4 : Nat)) ∈ lw_all := lw_g (lw_at lw_m9 41 rfl) rfl
theorem q2005 : (Jvm.Cond.instanceMethod ({ cls := "CheckoutDesk$10", name := "<init>", desc := "(LCheckoutDesk;III)V" } : Jvm.MethodName)) ∈ lw_all := lw_g (lw_at lw_m9 43 rfl) rfl
theorem q2006 : (Jvm.Cond.code ({ cls := "CheckoutDesk$10", name := "<init>", desc := "(LCheckoutDesk;III)V" } : Jvm.MethodName) prog_3_method_1_code (5 : Nat) (Option.none : Option Jvm.ClassFile.FieldType)) ∈ lw_all := lw_g (lw_at lw_m9 44 rfl) rfl
theorem q2007 : (Jvm.Cond.methodLink "CheckoutDesk$10" (17 : Nat) ({ cls := "java/lang/Object", name := "<init>", desc := "()V" } : Jvm.MethodName)) ∈ lw_all := lw_g (lw_at lw_m9 45 rfl) rfl
theorem q2008 : (Jvm.Cond.fieldLink "CheckoutDesk$10" (7 : Nat) "CheckoutDesk$10" "val$person" "I") ∈ lw_all := lw_g (lw_at lw_m9 46 rfl) rfl
theorem q2009 : (Jvm.Cond.fieldLink "CheckoutDesk$10" (11 : Nat) "CheckoutDesk$10" "val$document" "I") ∈ lw_all := lw_g (lw_at lw_m9 47 rfl) rfl
theorem q2010 : (Jvm.Cond.fieldLink "CheckoutDesk$10" (14 : Nat) "CheckoutDesk$10" "val$branch" "I") ∈ lw_all := lw_g (lw_at lw_m9 48 rfl) rfl
theorem q2011 : (Jvm.Cond.fieldLink "CheckoutDesk$10" (1 : Nat) "CheckoutDesk$10" "this$0" "LCheckoutDesk;") ∈ lw_all := lw_g (lw_at lw_m9 49 rfl) rfl
theorem q2012 : (Jvm.Cond.laysFinal "CheckoutDesk$10" "CheckoutDesk$10" "val$person" "I") ∈ lw_all := lw_g (lw_at lw_m9 50 rfl) rfl
theorem q2013 : (Jvm.Cond.soleField "CheckoutDesk$10" "val$person") ∈ lw_all := lw_g (lw_at lw_m9 51 rfl) rfl
theorem q2014 : (Jvm.Cond.laysFinal "CheckoutDesk$10" "CheckoutDesk$10" "val$document" "I") ∈ lw_all := lw_g (lw_at lw_m9 52 rfl) rfl
theorem q2015 : (Jvm.Cond.soleField "CheckoutDesk$10" "val$document") ∈ lw_all := lw_g (lw_at lw_m9 53 rfl) rfl
theorem q2016 : (Jvm.Cond.laysFinal "CheckoutDesk$10" "CheckoutDesk$10" "val$branch" "I") ∈ lw_all := lw_g (lw_at lw_m9 54 rfl) rfl
theorem q2017 : (Jvm.Cond.soleField "CheckoutDesk$10" "val$branch") ∈ lw_all := lw_g (lw_at lw_m9 55 rfl) rfl
theorem q2018 : (Jvm.Cond.laysFinal "CheckoutDesk$10" "CheckoutDesk$10" "this$0" "LCheckoutDesk;") ∈ lw_all := lw_g (lw_at lw_m9 56 rfl) rfl
theorem q2019 : (Jvm.Cond.soleField "CheckoutDesk$10" "this$0") ∈ lw_all := lw_g (lw_at lw_m9 57 rfl) rfl
theorem q2020 : (Jvm.Cond.superclass "CheckoutDesk$10" "java/lang/Object") ∈ lw_all := lw_g (lw_at lw_m9 58 rfl) rfl
theorem q2713 : (Jvm.Cond.castable "CheckoutDesk$10" "java/lang/Object") ∈ lw_tbl := lw_at lw_m12 31 rfl
theorem in_X25 : ∀ w ∈ wsX250, w ∈ lw_all := lw_in wsX250 [2012, 2014, 2016, 2018] (by decide +kernel) (by decide +kernel)
/-! CheckoutDesk$11 -/
set_option maxRecDepth 100000
def RX26 : String := "CheckoutDesk$11"
def TX26 : u_T := fun k => match k with
  | 0 => ("CheckoutDesk$11", "val$person", "I", true)
  | 1 => ("CheckoutDesk$11", "val$document", "I", true)
  | 2 => ("CheckoutDesk$11", "val$branch", "I", true)
  | _ => ("CheckoutDesk$11", "this$0", "LCheckoutDesk;", true)
def tyX26 : Nat → FieldType := fun k => match k with
  | 0 => .int
  | 1 => .int
  | 2 => .int
  | _ => .object "CheckoutDesk"
abbrev wsX260 : List Cond := u_ws RX26 TX26 4
theorem nmX26 : ∀ a, a < 4 → ∀ b, b < 4 → a ≠ b → (TX26 a).2.1 ≠ (TX26 b).2.1 := by decide +kernel
theorem tyX26_ok : ∀ k, k < 4 → parseFieldDescriptor (TX26 k).2.2.1 = some (tyX26 k) := by decide +kernel
abbrev cX26_on : ByteArray := prog_4_method_2_code
def yX26_on : MethodName := ⟨RX26, "on", "(LCheckoutDesk$Store;)I"⟩
def dkwX26_on_5 : List UInt8 := [28, 172]
abbrev dktX26_on_5 : List UInt8 := dkwX26_on_5 ++ []
def dkwX26_on_4 : List UInt8 := [182, 0, 68, 153, 0, 6, 167, 0, 12, 25, 4, 4, 181, 0, 72, 132, 2, 1, 132, 3, 1, 167, 255, 192]
abbrev dktX26_on_4 : List UInt8 := dkwX26_on_4 ++ dktX26_on_5
def dkwX26_on_3 : List UInt8 := [192, 0, 62, 58, 4, 25, 4, 42, 180, 0, 11, 42, 180, 0, 14, 182, 0, 64, 153, 0, 24, 43, 25, 4]
abbrev dktX26_on_3 : List UInt8 := dkwX26_on_3 ++ dktX26_on_4
def dkwX26_on_2 : List UInt8 := [3, 61, 3, 62, 29, 43, 180, 0, 48, 182, 0, 52, 162, 0, 59, 43, 180, 0, 48, 29, 182, 0, 58]
abbrev dktX26_on_2 : List UInt8 := dkwX26_on_2 ++ dktX26_on_3
def dkwX26_on_1 : List UInt8 := [180, 0, 11, 182, 0, 35, 180, 0, 39, 42, 180, 0, 7, 160, 0, 7, 4, 167, 0, 4, 3, 184, 0, 44]
abbrev dktX26_on_1 : List UInt8 := dkwX26_on_1 ++ dktX26_on_2
def dkwX26_on_0 : List UInt8 := [42, 180, 0, 7, 184, 0, 23, 43, 42, 180, 0, 11, 42, 180, 0, 14, 182, 0, 29, 87, 43, 42]
abbrev dktX26_on_0 : List UInt8 := dkwX26_on_0 ++ dktX26_on_1
theorem dksX26_on_0 : cX26_on.data.toList.drop 0 = dktX26_on_0 := by decide +kernel
theorem dksX26_on_1 : cX26_on.data.toList.drop 22 = dktX26_on_1 := dk_seg dksX26_on_0 22 rfl rfl
theorem dksX26_on_2 : cX26_on.data.toList.drop 46 = dktX26_on_2 := dk_seg dksX26_on_1 24 rfl rfl
theorem dksX26_on_3 : cX26_on.data.toList.drop 69 = dktX26_on_3 := dk_seg dksX26_on_2 23 rfl rfl
theorem dksX26_on_4 : cX26_on.data.toList.drop 93 = dktX26_on_4 := dk_seg dksX26_on_3 24 rfl rfl
theorem dksX26_on_5 : cX26_on.data.toList.drop 117 = dktX26_on_5 := dk_seg dksX26_on_4 24 rfl rfl
theorem dX26_on_0 : decode cX26_on 0 = .ok (.aload_n 0, 1) := dk_42 (dk_at dksX26_on_0 0 rfl rfl)
theorem dX26_on_1 : decode cX26_on 1 = .ok (.getfield 7, 3) := dk_180 0 7 (dk_at dksX26_on_0 1 rfl rfl)
theorem dX26_on_4 : decode cX26_on 4 = .ok (.invokestatic 23, 3) := dk_184 0 23 (dk_at dksX26_on_0 4 rfl rfl)
theorem dX26_on_7 : decode cX26_on 7 = .ok (.aload_n 1, 1) := dk_43 (dk_at dksX26_on_0 7 rfl rfl)
theorem dX26_on_8 : decode cX26_on 8 = .ok (.aload_n 0, 1) := dk_42 (dk_at dksX26_on_0 8 rfl rfl)
theorem dX26_on_9 : decode cX26_on 9 = .ok (.getfield 11, 3) := dk_180 0 11 (dk_at dksX26_on_0 9 rfl rfl)
theorem dX26_on_12 : decode cX26_on 12 = .ok (.aload_n 0, 1) := dk_42 (dk_at dksX26_on_0 12 rfl rfl)
theorem dX26_on_13 : decode cX26_on 13 = .ok (.getfield 14, 3) := dk_180 0 14 (dk_at dksX26_on_0 13 rfl rfl)
theorem dX26_on_16 : decode cX26_on 16 = .ok (.invokevirtual 29, 3) := dk_182 0 29 (dk_at dksX26_on_0 16 rfl rfl)
theorem dX26_on_19 : decode cX26_on 19 = .ok (.pop, 1) := dk_87 (dk_at dksX26_on_0 19 rfl rfl)
theorem dX26_on_20 : decode cX26_on 20 = .ok (.aload_n 1, 1) := dk_43 (dk_at dksX26_on_0 20 rfl rfl)
theorem dX26_on_21 : decode cX26_on 21 = .ok (.aload_n 0, 1) := dk_42 (dk_at dksX26_on_0 21 rfl rfl)
theorem dX26_on_22 : decode cX26_on 22 = .ok (.getfield 11, 3) := dk_180 0 11 (dk_at dksX26_on_1 0 rfl rfl)
theorem dX26_on_25 : decode cX26_on 25 = .ok (.invokevirtual 35, 3) := dk_182 0 35 (dk_at dksX26_on_1 3 rfl rfl)
theorem dX26_on_28 : decode cX26_on 28 = .ok (.getfield 39, 3) := dk_180 0 39 (dk_at dksX26_on_1 6 rfl rfl)
theorem dX26_on_31 : decode cX26_on 31 = .ok (.aload_n 0, 1) := dk_42 (dk_at dksX26_on_1 9 rfl rfl)
theorem dX26_on_32 : decode cX26_on 32 = .ok (.getfield 7, 3) := dk_180 0 7 (dk_at dksX26_on_1 10 rfl rfl)
theorem dX26_on_35 : decode cX26_on 35 = .ok (.if_icmp .ne 7, 3) := dk_160 0 7 (dk_at dksX26_on_1 13 rfl rfl)
theorem dX26_on_38 : decode cX26_on 38 = .ok (.iconst 1, 1) := dk_4 (dk_at dksX26_on_1 16 rfl rfl)
theorem dX26_on_39 : decode cX26_on 39 = .ok (.goto 4, 3) := dk_167 0 4 (dk_at dksX26_on_1 17 rfl rfl)
theorem dX26_on_42 : decode cX26_on 42 = .ok (.iconst 0, 1) := dk_3 (dk_at dksX26_on_1 20 rfl rfl)
theorem dX26_on_43 : decode cX26_on 43 = .ok (.invokestatic 44, 3) := dk_184 0 44 (dk_at dksX26_on_1 21 rfl rfl)
theorem dX26_on_46 : decode cX26_on 46 = .ok (.iconst 0, 1) := dk_3 (dk_at dksX26_on_2 0 rfl rfl)
theorem dX26_on_47 : decode cX26_on 47 = .ok (.istore_n 2, 1) := dk_61 (dk_at dksX26_on_2 1 rfl rfl)
theorem dX26_on_48 : decode cX26_on 48 = .ok (.iconst 0, 1) := dk_3 (dk_at dksX26_on_2 2 rfl rfl)
theorem dX26_on_49 : decode cX26_on 49 = .ok (.istore_n 3, 1) := dk_62 (dk_at dksX26_on_2 3 rfl rfl)
theorem dX26_on_50 : decode cX26_on 50 = .ok (.iload_n 3, 1) := dk_29 (dk_at dksX26_on_2 4 rfl rfl)
theorem dX26_on_51 : decode cX26_on 51 = .ok (.aload_n 1, 1) := dk_43 (dk_at dksX26_on_2 5 rfl rfl)
theorem dX26_on_52 : decode cX26_on 52 = .ok (.getfield 48, 3) := dk_180 0 48 (dk_at dksX26_on_2 6 rfl rfl)
theorem dX26_on_55 : decode cX26_on 55 = .ok (.invokevirtual 52, 3) := dk_182 0 52 (dk_at dksX26_on_2 9 rfl rfl)
theorem dX26_on_58 : decode cX26_on 58 = .ok (.if_icmp .ge 59, 3) := dk_162 0 59 (dk_at dksX26_on_2 12 rfl rfl)
theorem dX26_on_61 : decode cX26_on 61 = .ok (.aload_n 1, 1) := dk_43 (dk_at dksX26_on_2 15 rfl rfl)
theorem dX26_on_62 : decode cX26_on 62 = .ok (.getfield 48, 3) := dk_180 0 48 (dk_at dksX26_on_2 16 rfl rfl)
theorem dX26_on_65 : decode cX26_on 65 = .ok (.iload_n 3, 1) := dk_29 (dk_at dksX26_on_2 19 rfl rfl)
theorem dX26_on_66 : decode cX26_on 66 = .ok (.invokevirtual 58, 3) := dk_182 0 58 (dk_at dksX26_on_2 20 rfl rfl)
theorem dX26_on_69 : decode cX26_on 69 = .ok (.checkcast 62, 3) := dk_192 0 62 (dk_at dksX26_on_3 0 rfl rfl)
theorem dX26_on_72 : decode cX26_on 72 = .ok (.astore 4, 2) := dk_58 4 (dk_at dksX26_on_3 3 rfl rfl)
theorem dX26_on_74 : decode cX26_on 74 = .ok (.aload 4, 2) := dk_25 4 (dk_at dksX26_on_3 5 rfl rfl)
theorem dX26_on_76 : decode cX26_on 76 = .ok (.aload_n 0, 1) := dk_42 (dk_at dksX26_on_3 7 rfl rfl)
theorem dX26_on_77 : decode cX26_on 77 = .ok (.getfield 11, 3) := dk_180 0 11 (dk_at dksX26_on_3 8 rfl rfl)
theorem dX26_on_80 : decode cX26_on 80 = .ok (.aload_n 0, 1) := dk_42 (dk_at dksX26_on_3 11 rfl rfl)
theorem dX26_on_81 : decode cX26_on 81 = .ok (.getfield 14, 3) := dk_180 0 14 (dk_at dksX26_on_3 12 rfl rfl)
theorem dX26_on_84 : decode cX26_on 84 = .ok (.invokevirtual 64, 3) := dk_182 0 64 (dk_at dksX26_on_3 15 rfl rfl)
theorem dX26_on_87 : decode cX26_on 87 = .ok (.ifCond .eq 24, 3) := dk_153 0 24 (dk_at dksX26_on_3 18 rfl rfl)
theorem dX26_on_90 : decode cX26_on 90 = .ok (.aload_n 1, 1) := dk_43 (dk_at dksX26_on_3 21 rfl rfl)
theorem dX26_on_91 : decode cX26_on 91 = .ok (.aload 4, 2) := dk_25 4 (dk_at dksX26_on_3 22 rfl rfl)
theorem dX26_on_93 : decode cX26_on 93 = .ok (.invokevirtual 68, 3) := dk_182 0 68 (dk_at dksX26_on_4 0 rfl rfl)
theorem dX26_on_96 : decode cX26_on 96 = .ok (.ifCond .eq 6, 3) := dk_153 0 6 (dk_at dksX26_on_4 3 rfl rfl)
theorem dX26_on_99 : decode cX26_on 99 = .ok (.goto 12, 3) := dk_167 0 12 (dk_at dksX26_on_4 6 rfl rfl)
theorem dX26_on_102 : decode cX26_on 102 = .ok (.aload 4, 2) := dk_25 4 (dk_at dksX26_on_4 9 rfl rfl)
theorem dX26_on_104 : decode cX26_on 104 = .ok (.iconst 1, 1) := dk_4 (dk_at dksX26_on_4 11 rfl rfl)
theorem dX26_on_105 : decode cX26_on 105 = .ok (.putfield 72, 3) := dk_181 0 72 (dk_at dksX26_on_4 12 rfl rfl)
theorem dX26_on_108 : decode cX26_on 108 = .ok (.iinc 2 1, 3) := dk_132 2 1 (dk_at dksX26_on_4 15 rfl rfl)
theorem dX26_on_111 : decode cX26_on 111 = .ok (.iinc 3 1, 3) := dk_132 3 1 (dk_at dksX26_on_4 18 rfl rfl)
theorem dX26_on_114 : decode cX26_on 114 = .ok (.goto (-64), 3) := dk_167 255 192 (dk_at dksX26_on_4 21 rfl rfl)
theorem dX26_on_117 : decode cX26_on 117 = .ok (.iload_n 2, 1) := dk_28 (dk_at dksX26_on_5 0 rfl rfl)
theorem dX26_on_118 : decode cX26_on 118 = .ok (.ireturn, 1) := dk_172 (dk_at dksX26_on_5 1 rfl rfl)
abbrev cX26_init : ByteArray := prog_4_method_1_code
def yX26_init : MethodName := ⟨RX26, "<init>", "(LCheckoutDesk;III)V"⟩
def dkwX26_init_1 : List UInt8 := [183, 0, 17, 177]
abbrev dktX26_init_1 : List UInt8 := dkwX26_init_1 ++ []
def dkwX26_init_0 : List UInt8 := [42, 43, 181, 0, 1, 42, 28, 181, 0, 7, 42, 29, 181, 0, 11, 42, 21, 4, 181, 0, 14, 42]
abbrev dktX26_init_0 : List UInt8 := dkwX26_init_0 ++ dktX26_init_1
theorem dksX26_init_0 : cX26_init.data.toList.drop 0 = dktX26_init_0 := by decide +kernel
theorem dksX26_init_1 : cX26_init.data.toList.drop 22 = dktX26_init_1 := dk_seg dksX26_init_0 22 rfl rfl
theorem dX26_init_0 : decode cX26_init 0 = .ok (.aload_n 0, 1) := dk_42 (dk_at dksX26_init_0 0 rfl rfl)
theorem dX26_init_1 : decode cX26_init 1 = .ok (.aload_n 1, 1) := dk_43 (dk_at dksX26_init_0 1 rfl rfl)
theorem dX26_init_2 : decode cX26_init 2 = .ok (.putfield 1, 3) := dk_181 0 1 (dk_at dksX26_init_0 2 rfl rfl)
theorem dX26_init_5 : decode cX26_init 5 = .ok (.aload_n 0, 1) := dk_42 (dk_at dksX26_init_0 5 rfl rfl)
theorem dX26_init_6 : decode cX26_init 6 = .ok (.iload_n 2, 1) := dk_28 (dk_at dksX26_init_0 6 rfl rfl)
theorem dX26_init_7 : decode cX26_init 7 = .ok (.putfield 7, 3) := dk_181 0 7 (dk_at dksX26_init_0 7 rfl rfl)
theorem dX26_init_10 : decode cX26_init 10 = .ok (.aload_n 0, 1) := dk_42 (dk_at dksX26_init_0 10 rfl rfl)
theorem dX26_init_11 : decode cX26_init 11 = .ok (.iload_n 3, 1) := dk_29 (dk_at dksX26_init_0 11 rfl rfl)
theorem dX26_init_12 : decode cX26_init 12 = .ok (.putfield 11, 3) := dk_181 0 11 (dk_at dksX26_init_0 12 rfl rfl)
theorem dX26_init_15 : decode cX26_init 15 = .ok (.aload_n 0, 1) := dk_42 (dk_at dksX26_init_0 15 rfl rfl)
theorem dX26_init_16 : decode cX26_init 16 = .ok (.iload 4, 2) := dk_21 4 (dk_at dksX26_init_0 16 rfl rfl)
theorem dX26_init_18 : decode cX26_init 18 = .ok (.putfield 14, 3) := dk_181 0 14 (dk_at dksX26_init_0 18 rfl rfl)
theorem dX26_init_21 : decode cX26_init 21 = .ok (.aload_n 0, 1) := dk_42 (dk_at dksX26_init_0 21 rfl rfl)
theorem dX26_init_22 : decode cX26_init 22 = .ok (.invokespecial 17, 3) := dk_183 0 17 (dk_at dksX26_init_1 0 rfl rfl)
theorem dX26_init_25 : decode cX26_init 25 = .ok (.return_, 1) := dk_177 (dk_at dksX26_init_1 3 rfl rfl)
theorem q92 : (Jvm.Cond.initialized "CheckoutDesk$11") ∈ lw_all := lw_g (lw_at lw_m1 50 rfl) rfl
theorem q172 : (Jvm.Cond.fieldLinkNest "CheckoutDesk$11" (48 : Nat) "CheckoutDesk$Store" "versions" "LCheckoutDesk$Row;" "CheckoutDesk") ∈ lw_tbl := lw_at lw_m1 130 rfl
theorem q973 : (Jvm.Cond.castable "CheckoutDesk$11" "CheckoutDesk$Act") ∈ lw_tbl := lw_at lw_m4 211 rfl
theorem q974 : (Jvm.Cond.selects "CheckoutDesk$11" ({ cls := "CheckoutDesk$Act", name := "on", desc := "(LCheckoutDesk$Store;)I" } : Jvm.MethodName) ({ cls := "CheckoutDesk$11", name := "on", desc := "(LCheckoutDesk$Store;)I" } : Jvm.MethodName)) ∈ lw_all := lw_g (lw_at lw_m4 212 rfl) rfl
theorem q975 : (Jvm.Cond.unhidden "CheckoutDesk$11" "on" "(LCheckoutDesk$Store;)I") ∈ lw_tbl := lw_at lw_m4 213 rfl
theorem q976 : (Jvm.Cond.instanceMethod ({ cls := "CheckoutDesk$11", name := "on", desc := "(LCheckoutDesk$Store;)I" } : Jvm.MethodName)) ∈ lw_all := lw_g (lw_at lw_m4 214 rfl) rfl
theorem q977 : (Jvm.Cond.publicMethod ({ cls := "CheckoutDesk$11", name := "on", desc := "(LCheckoutDesk$Store;)I" } : Jvm.MethodName)) ∈ lw_tbl := lw_at lw_m4 215 rfl
theorem q978 : (Jvm.Cond.code ({ cls := "CheckoutDesk$11", name := "on", desc := "(LCheckoutDesk$Store;)I" } : Jvm.MethodName) prog_4_method_2_code (5 : Nat) (Option.some Jvm.ClassFile.FieldType.int)) ∈ lw_all := lw_g (lw_at lw_m4 216 rfl) rfl
theorem q979 : (Jvm.Cond.methodLinkNest "CheckoutDesk$11" (23 : Nat) ({ cls := "CheckoutDesk", name := "requirePerson", desc := "(I)V" } : Jvm.MethodName) "CheckoutDesk") ∈ lw_tbl := lw_at lw_m4 217 rfl
theorem q980 : (Jvm.Cond.methodLink "CheckoutDesk$11" (29 : Nat) ({ cls := "CheckoutDesk$Store", name := "branch", desc := "(II)LCheckoutDesk$Branch;" } : Jvm.MethodName)) ∈ lw_all := lw_g (lw_at lw_m4 218 rfl) rfl
theorem q981 : (Jvm.Cond.methodLink "CheckoutDesk$11" (35 : Nat) ({ cls := "CheckoutDesk$Store", name := "document", desc := "(I)LCheckoutDesk$Document;" } : Jvm.MethodName)) ∈ lw_all := lw_g (lw_at lw_m4 219 rfl) rfl
theorem q982 : (Jvm.Cond.methodLinkNest "CheckoutDesk$11" (44 : Nat) ({ cls := "CheckoutDesk", name := "requireState", desc := "(Z)V" } : Jvm.MethodName) "CheckoutDesk") ∈ lw_tbl := lw_at lw_m4 220 rfl
theorem q983 : (Jvm.Cond.methodLink "CheckoutDesk$11" (52 : Nat) ({ cls := "CheckoutDesk$Row", name := "size", desc := "()I" } : Jvm.MethodName)) ∈ lw_all := lw_g (lw_at lw_m4 221 rfl) rfl
theorem q984 : (Jvm.Cond.methodLink "CheckoutDesk$11" (58 : Nat) ({ cls := "CheckoutDesk$Row", name := "get", desc := "(I)Ljava/lang/Object;" } : Jvm.MethodName)) ∈ lw_all := lw_g (lw_at lw_m4 222 rfl) rfl
theorem q985 : (Jvm.Cond.classLink "CheckoutDesk$11" (62 : Nat) "CheckoutDesk$Version") ∈ lw_all := lw_g (lw_at lw_m4 223 rfl) rfl
theorem q986 : (Jvm.Cond.methodLink "CheckoutDesk$11" (64 : Nat) ({ cls := "CheckoutDesk$Version", name := "isOf", desc := "(II)Z" } : Jvm.MethodName)) ∈ lw_all := lw_g (lw_at lw_m4 224 rfl) rfl
theorem q987 : (Jvm.Cond.methodLink "CheckoutDesk$11" (68 : Nat) ({ cls := "CheckoutDesk$Store", name := "isNeeded", desc := "(LCheckoutDesk$Version;)Z" } : Jvm.MethodName)) ∈ lw_all := lw_g (lw_at lw_m4 225 rfl) rfl
theorem q1100 : (Jvm.Cond.selects "CheckoutDesk$11" ({ cls := "java/lang/Object", name := "getClass", desc := "()Ljava/lang/Class;" } : Jvm.MethodName) ({ cls := "java/lang/Object", name := "getClass", desc := "()Ljava/lang/Class;" } : Jvm.MethodName)) ∈ lw_all := lw_g (lw_at lw_m5 98 rfl) rfl
theorem q1196 : (Jvm.Cond.fieldLinkNest "CheckoutDesk$11" (72 : Nat) "CheckoutDesk$Version" "isGone" "Z" "CheckoutDesk") ∈ lw_tbl := lw_at lw_m5 194 rfl
theorem q1353 : (Jvm.Cond.fieldLinkNest "CheckoutDesk$11" (39 : Nat) "CheckoutDesk$Document" "owner" "I" "CheckoutDesk") ∈ lw_tbl := lw_at lw_m6 111 rfl
theorem q2029 : (Jvm.Cond.instantiable "CheckoutDesk$11" (4 : Nat)) ∈ lw_all := lw_g (lw_at lw_m9 67 rfl) rfl
theorem q2031 : (Jvm.Cond.instanceMethod ({ cls := "CheckoutDesk$11", name := "<init>", desc := "(LCheckoutDesk;III)V" } : Jvm.MethodName)) ∈ lw_all := lw_g (lw_at lw_m9 69 rfl) rfl
theorem q2032 : (Jvm.Cond.code ({ cls := "CheckoutDesk$11", name := "<init>", desc := "(LCheckoutDesk;III)V" } : Jvm.MethodName) prog_4_method_1_code (5 : Nat) (Option.none : Option Jvm.ClassFile.FieldType)) ∈ lw_all := lw_g (lw_at lw_m9 70 rfl) rfl
theorem q2033 : (Jvm.Cond.methodLink "CheckoutDesk$11" (17 : Nat) ({ cls := "java/lang/Object", name := "<init>", desc := "()V" } : Jvm.MethodName)) ∈ lw_all := lw_g (lw_at lw_m9 71 rfl) rfl
theorem q2034 : (Jvm.Cond.fieldLink "CheckoutDesk$11" (7 : Nat) "CheckoutDesk$11" "val$person" "I") ∈ lw_all := lw_g (lw_at lw_m9 72 rfl) rfl
theorem q2035 : (Jvm.Cond.fieldLink "CheckoutDesk$11" (11 : Nat) "CheckoutDesk$11" "val$document" "I") ∈ lw_all := lw_g (lw_at lw_m9 73 rfl) rfl
theorem q2036 : (Jvm.Cond.fieldLink "CheckoutDesk$11" (14 : Nat) "CheckoutDesk$11" "val$branch" "I") ∈ lw_all := lw_g (lw_at lw_m9 74 rfl) rfl
theorem q2037 : (Jvm.Cond.fieldLink "CheckoutDesk$11" (1 : Nat) "CheckoutDesk$11" "this$0" "LCheckoutDesk;") ∈ lw_all := lw_g (lw_at lw_m9 75 rfl) rfl
theorem q2038 : (Jvm.Cond.laysFinal "CheckoutDesk$11" "CheckoutDesk$11" "val$person" "I") ∈ lw_all := lw_g (lw_at lw_m9 76 rfl) rfl
theorem q2039 : (Jvm.Cond.soleField "CheckoutDesk$11" "val$person") ∈ lw_all := lw_g (lw_at lw_m9 77 rfl) rfl
theorem q2040 : (Jvm.Cond.laysFinal "CheckoutDesk$11" "CheckoutDesk$11" "val$document" "I") ∈ lw_all := lw_g (lw_at lw_m9 78 rfl) rfl
theorem q2041 : (Jvm.Cond.soleField "CheckoutDesk$11" "val$document") ∈ lw_all := lw_g (lw_at lw_m9 79 rfl) rfl
theorem q2042 : (Jvm.Cond.laysFinal "CheckoutDesk$11" "CheckoutDesk$11" "val$branch" "I") ∈ lw_all := lw_g (lw_at lw_m9 80 rfl) rfl
theorem q2043 : (Jvm.Cond.soleField "CheckoutDesk$11" "val$branch") ∈ lw_all := lw_g (lw_at lw_m9 81 rfl) rfl
theorem q2044 : (Jvm.Cond.laysFinal "CheckoutDesk$11" "CheckoutDesk$11" "this$0" "LCheckoutDesk;") ∈ lw_all := lw_g (lw_at lw_m9 82 rfl) rfl
theorem q2045 : (Jvm.Cond.soleField "CheckoutDesk$11" "this$0") ∈ lw_all := lw_g (lw_at lw_m9 83 rfl) rfl
theorem q2046 : (Jvm.Cond.superclass "CheckoutDesk$11" "java/lang/Object") ∈ lw_all := lw_g (lw_at lw_m9 84 rfl) rfl
theorem q2714 : (Jvm.Cond.castable "CheckoutDesk$11" "java/lang/Object") ∈ lw_tbl := lw_at lw_m12 32 rfl
theorem in_X26 : ∀ w ∈ wsX260, w ∈ lw_all := lw_in wsX260 [2038, 2040, 2042, 2044] (by decide +kernel) (by decide +kernel)
/-! CheckoutDesk$12 -/
set_option maxRecDepth 100000
def RX27 : String := "CheckoutDesk$12"
def TX27 : u_T := fun k => match k with
  | 0 => ("CheckoutDesk$12", "val$person", "I", true)
  | 1 => ("CheckoutDesk$12", "val$version", "I", true)
  | _ => ("CheckoutDesk$12", "this$0", "LCheckoutDesk;", true)
def tyX27 : Nat → FieldType := fun k => match k with
  | 0 => .int
  | 1 => .int
  | _ => .object "CheckoutDesk"
abbrev wsX270 : List Cond := u_ws RX27 TX27 3
theorem nmX27 : ∀ a, a < 3 → ∀ b, b < 3 → a ≠ b → (TX27 a).2.1 ≠ (TX27 b).2.1 := by decide +kernel
theorem tyX27_ok : ∀ k, k < 3 → parseFieldDescriptor (TX27 k).2.2.1 = some (tyX27 k) := by decide +kernel
abbrev cX27_on : ByteArray := prog_5_method_2_code
def yX27_on : MethodName := ⟨RX27, "on", "(LCheckoutDesk$Store;)I"⟩
def dkwX27_on_4 : List UInt8 := [182, 0, 72, 87, 21, 4, 172]
abbrev dktX27_on_4 : List UInt8 := dkwX27_on_4 ++ []
def dkwX27_on_3 : List UInt8 := [45, 187, 0, 63, 89, 44, 183, 0, 65, 182, 0, 68, 54, 4, 43, 44, 180, 0, 32, 21, 4, 3, 4, 44]
abbrev dktX27_on_3 : List UInt8 := dkwX27_on_3 ++ dktX27_on_4
def dkwX27_on_2 : List UInt8 := [182, 0, 54, 153, 0, 17, 43, 180, 0, 60, 182, 0, 54, 153, 0, 7, 4, 167, 0, 4, 3, 184, 0, 41]
abbrev dktX27_on_2 : List UInt8 := dkwX27_on_2 ++ dktX27_on_3
def dkwX27_on_1 : List UInt8 := [180, 0, 32, 182, 0, 37, 184, 0, 41, 43, 44, 180, 0, 32, 182, 0, 45, 180, 0, 48, 78, 45]
abbrev dktX27_on_1 : List UInt8 := dkwX27_on_1 ++ dktX27_on_2
def dkwX27_on_0 : List UInt8 := [42, 180, 0, 7, 184, 0, 20, 43, 42, 180, 0, 11, 182, 0, 26, 77, 43, 42, 180, 0, 7, 44]
abbrev dktX27_on_0 : List UInt8 := dkwX27_on_0 ++ dktX27_on_1
theorem dksX27_on_0 : cX27_on.data.toList.drop 0 = dktX27_on_0 := by decide +kernel
theorem dksX27_on_1 : cX27_on.data.toList.drop 22 = dktX27_on_1 := dk_seg dksX27_on_0 22 rfl rfl
theorem dksX27_on_2 : cX27_on.data.toList.drop 44 = dktX27_on_2 := dk_seg dksX27_on_1 22 rfl rfl
theorem dksX27_on_3 : cX27_on.data.toList.drop 68 = dktX27_on_3 := dk_seg dksX27_on_2 24 rfl rfl
theorem dksX27_on_4 : cX27_on.data.toList.drop 92 = dktX27_on_4 := dk_seg dksX27_on_3 24 rfl rfl
theorem dX27_on_0 : decode cX27_on 0 = .ok (.aload_n 0, 1) := dk_42 (dk_at dksX27_on_0 0 rfl rfl)
theorem dX27_on_1 : decode cX27_on 1 = .ok (.getfield 7, 3) := dk_180 0 7 (dk_at dksX27_on_0 1 rfl rfl)
theorem dX27_on_4 : decode cX27_on 4 = .ok (.invokestatic 20, 3) := dk_184 0 20 (dk_at dksX27_on_0 4 rfl rfl)
theorem dX27_on_7 : decode cX27_on 7 = .ok (.aload_n 1, 1) := dk_43 (dk_at dksX27_on_0 7 rfl rfl)
theorem dX27_on_8 : decode cX27_on 8 = .ok (.aload_n 0, 1) := dk_42 (dk_at dksX27_on_0 8 rfl rfl)
theorem dX27_on_9 : decode cX27_on 9 = .ok (.getfield 11, 3) := dk_180 0 11 (dk_at dksX27_on_0 9 rfl rfl)
theorem dX27_on_12 : decode cX27_on 12 = .ok (.invokevirtual 26, 3) := dk_182 0 26 (dk_at dksX27_on_0 12 rfl rfl)
theorem dX27_on_15 : decode cX27_on 15 = .ok (.astore_n 2, 1) := dk_77 (dk_at dksX27_on_0 15 rfl rfl)
theorem dX27_on_16 : decode cX27_on 16 = .ok (.aload_n 1, 1) := dk_43 (dk_at dksX27_on_0 16 rfl rfl)
theorem dX27_on_17 : decode cX27_on 17 = .ok (.aload_n 0, 1) := dk_42 (dk_at dksX27_on_0 17 rfl rfl)
theorem dX27_on_18 : decode cX27_on 18 = .ok (.getfield 7, 3) := dk_180 0 7 (dk_at dksX27_on_0 18 rfl rfl)
theorem dX27_on_21 : decode cX27_on 21 = .ok (.aload_n 2, 1) := dk_44 (dk_at dksX27_on_0 21 rfl rfl)
theorem dX27_on_22 : decode cX27_on 22 = .ok (.getfield 32, 3) := dk_180 0 32 (dk_at dksX27_on_1 0 rfl rfl)
theorem dX27_on_25 : decode cX27_on 25 = .ok (.invokevirtual 37, 3) := dk_182 0 37 (dk_at dksX27_on_1 3 rfl rfl)
theorem dX27_on_28 : decode cX27_on 28 = .ok (.invokestatic 41, 3) := dk_184 0 41 (dk_at dksX27_on_1 6 rfl rfl)
theorem dX27_on_31 : decode cX27_on 31 = .ok (.aload_n 1, 1) := dk_43 (dk_at dksX27_on_1 9 rfl rfl)
theorem dX27_on_32 : decode cX27_on 32 = .ok (.aload_n 2, 1) := dk_44 (dk_at dksX27_on_1 10 rfl rfl)
theorem dX27_on_33 : decode cX27_on 33 = .ok (.getfield 32, 3) := dk_180 0 32 (dk_at dksX27_on_1 11 rfl rfl)
theorem dX27_on_36 : decode cX27_on 36 = .ok (.invokevirtual 45, 3) := dk_182 0 45 (dk_at dksX27_on_1 14 rfl rfl)
theorem dX27_on_39 : decode cX27_on 39 = .ok (.getfield 48, 3) := dk_180 0 48 (dk_at dksX27_on_1 17 rfl rfl)
theorem dX27_on_42 : decode cX27_on 42 = .ok (.astore_n 3, 1) := dk_78 (dk_at dksX27_on_1 20 rfl rfl)
theorem dX27_on_43 : decode cX27_on 43 = .ok (.aload_n 3, 1) := dk_45 (dk_at dksX27_on_1 21 rfl rfl)
theorem dX27_on_44 : decode cX27_on 44 = .ok (.invokevirtual 54, 3) := dk_182 0 54 (dk_at dksX27_on_2 0 rfl rfl)
theorem dX27_on_47 : decode cX27_on 47 = .ok (.ifCond .eq 17, 3) := dk_153 0 17 (dk_at dksX27_on_2 3 rfl rfl)
theorem dX27_on_50 : decode cX27_on 50 = .ok (.aload_n 1, 1) := dk_43 (dk_at dksX27_on_2 6 rfl rfl)
theorem dX27_on_51 : decode cX27_on 51 = .ok (.getfield 60, 3) := dk_180 0 60 (dk_at dksX27_on_2 7 rfl rfl)
theorem dX27_on_54 : decode cX27_on 54 = .ok (.invokevirtual 54, 3) := dk_182 0 54 (dk_at dksX27_on_2 10 rfl rfl)
theorem dX27_on_57 : decode cX27_on 57 = .ok (.ifCond .eq 7, 3) := dk_153 0 7 (dk_at dksX27_on_2 13 rfl rfl)
theorem dX27_on_60 : decode cX27_on 60 = .ok (.iconst 1, 1) := dk_4 (dk_at dksX27_on_2 16 rfl rfl)
theorem dX27_on_61 : decode cX27_on 61 = .ok (.goto 4, 3) := dk_167 0 4 (dk_at dksX27_on_2 17 rfl rfl)
theorem dX27_on_64 : decode cX27_on 64 = .ok (.iconst 0, 1) := dk_3 (dk_at dksX27_on_2 20 rfl rfl)
theorem dX27_on_65 : decode cX27_on 65 = .ok (.invokestatic 41, 3) := dk_184 0 41 (dk_at dksX27_on_2 21 rfl rfl)
theorem dX27_on_68 : decode cX27_on 68 = .ok (.aload_n 3, 1) := dk_45 (dk_at dksX27_on_3 0 rfl rfl)
theorem dX27_on_69 : decode cX27_on 69 = .ok (.new 63, 3) := dk_187 0 63 (dk_at dksX27_on_3 1 rfl rfl)
theorem dX27_on_72 : decode cX27_on 72 = .ok (.dup, 1) := dk_89 (dk_at dksX27_on_3 4 rfl rfl)
theorem dX27_on_73 : decode cX27_on 73 = .ok (.aload_n 2, 1) := dk_44 (dk_at dksX27_on_3 5 rfl rfl)
theorem dX27_on_74 : decode cX27_on 74 = .ok (.invokespecial 65, 3) := dk_183 0 65 (dk_at dksX27_on_3 6 rfl rfl)
theorem dX27_on_77 : decode cX27_on 77 = .ok (.invokevirtual 68, 3) := dk_182 0 68 (dk_at dksX27_on_3 9 rfl rfl)
theorem dX27_on_80 : decode cX27_on 80 = .ok (.istore 4, 2) := dk_54 4 (dk_at dksX27_on_3 12 rfl rfl)
theorem dX27_on_82 : decode cX27_on 82 = .ok (.aload_n 1, 1) := dk_43 (dk_at dksX27_on_3 14 rfl rfl)
theorem dX27_on_83 : decode cX27_on 83 = .ok (.aload_n 2, 1) := dk_44 (dk_at dksX27_on_3 15 rfl rfl)
theorem dX27_on_84 : decode cX27_on 84 = .ok (.getfield 32, 3) := dk_180 0 32 (dk_at dksX27_on_3 16 rfl rfl)
theorem dX27_on_87 : decode cX27_on 87 = .ok (.iload 4, 2) := dk_21 4 (dk_at dksX27_on_3 19 rfl rfl)
theorem dX27_on_89 : decode cX27_on 89 = .ok (.iconst 0, 1) := dk_3 (dk_at dksX27_on_3 21 rfl rfl)
theorem dX27_on_90 : decode cX27_on 90 = .ok (.iconst 1, 1) := dk_4 (dk_at dksX27_on_3 22 rfl rfl)
theorem dX27_on_91 : decode cX27_on 91 = .ok (.aload_n 2, 1) := dk_44 (dk_at dksX27_on_3 23 rfl rfl)
theorem dX27_on_92 : decode cX27_on 92 = .ok (.invokevirtual 72, 3) := dk_182 0 72 (dk_at dksX27_on_4 0 rfl rfl)
theorem dX27_on_95 : decode cX27_on 95 = .ok (.pop, 1) := dk_87 (dk_at dksX27_on_4 3 rfl rfl)
theorem dX27_on_96 : decode cX27_on 96 = .ok (.iload 4, 2) := dk_21 4 (dk_at dksX27_on_4 4 rfl rfl)
theorem dX27_on_98 : decode cX27_on 98 = .ok (.ireturn, 1) := dk_172 (dk_at dksX27_on_4 6 rfl rfl)
abbrev cX27_init : ByteArray := prog_5_method_1_code
def yX27_init : MethodName := ⟨RX27, "<init>", "(LCheckoutDesk;II)V"⟩
def dkwX27_init_0 : List UInt8 := [42, 43, 181, 0, 1, 42, 28, 181, 0, 7, 42, 29, 181, 0, 11, 42, 183, 0, 14, 177]
abbrev dktX27_init_0 : List UInt8 := dkwX27_init_0 ++ []
theorem dksX27_init_0 : cX27_init.data.toList.drop 0 = dktX27_init_0 := by decide +kernel
theorem dX27_init_0 : decode cX27_init 0 = .ok (.aload_n 0, 1) := dk_42 (dk_at dksX27_init_0 0 rfl rfl)
theorem dX27_init_1 : decode cX27_init 1 = .ok (.aload_n 1, 1) := dk_43 (dk_at dksX27_init_0 1 rfl rfl)
theorem dX27_init_2 : decode cX27_init 2 = .ok (.putfield 1, 3) := dk_181 0 1 (dk_at dksX27_init_0 2 rfl rfl)
theorem dX27_init_5 : decode cX27_init 5 = .ok (.aload_n 0, 1) := dk_42 (dk_at dksX27_init_0 5 rfl rfl)
theorem dX27_init_6 : decode cX27_init 6 = .ok (.iload_n 2, 1) := dk_28 (dk_at dksX27_init_0 6 rfl rfl)
theorem dX27_init_7 : decode cX27_init 7 = .ok (.putfield 7, 3) := dk_181 0 7 (dk_at dksX27_init_0 7 rfl rfl)
theorem dX27_init_10 : decode cX27_init 10 = .ok (.aload_n 0, 1) := dk_42 (dk_at dksX27_init_0 10 rfl rfl)
theorem dX27_init_11 : decode cX27_init 11 = .ok (.iload_n 3, 1) := dk_29 (dk_at dksX27_init_0 11 rfl rfl)
theorem dX27_init_12 : decode cX27_init 12 = .ok (.putfield 11, 3) := dk_181 0 11 (dk_at dksX27_init_0 12 rfl rfl)
theorem dX27_init_15 : decode cX27_init 15 = .ok (.aload_n 0, 1) := dk_42 (dk_at dksX27_init_0 15 rfl rfl)
theorem dX27_init_16 : decode cX27_init 16 = .ok (.invokespecial 14, 3) := dk_183 0 14 (dk_at dksX27_init_0 16 rfl rfl)
theorem dX27_init_19 : decode cX27_init 19 = .ok (.return_, 1) := dk_177 (dk_at dksX27_init_0 19 rfl rfl)
theorem q93 : (Jvm.Cond.initialized "CheckoutDesk$12") ∈ lw_all := lw_g (lw_at lw_m1 51 rfl) rfl
theorem q171 : (Jvm.Cond.fieldLinkNest "CheckoutDesk$12" (60 : Nat) "CheckoutDesk$Store" "versions" "LCheckoutDesk$Row;" "CheckoutDesk") ∈ lw_tbl := lw_at lw_m1 129 rfl
theorem q1019 : (Jvm.Cond.castable "CheckoutDesk$12" "CheckoutDesk$Act") ∈ lw_tbl := lw_at lw_m5 17 rfl
theorem q1020 : (Jvm.Cond.selects "CheckoutDesk$12" ({ cls := "CheckoutDesk$Act", name := "on", desc := "(LCheckoutDesk$Store;)I" } : Jvm.MethodName) ({ cls := "CheckoutDesk$12", name := "on", desc := "(LCheckoutDesk$Store;)I" } : Jvm.MethodName)) ∈ lw_all := lw_g (lw_at lw_m5 18 rfl) rfl
theorem q1021 : (Jvm.Cond.unhidden "CheckoutDesk$12" "on" "(LCheckoutDesk$Store;)I") ∈ lw_tbl := lw_at lw_m5 19 rfl
theorem q1022 : (Jvm.Cond.instanceMethod ({ cls := "CheckoutDesk$12", name := "on", desc := "(LCheckoutDesk$Store;)I" } : Jvm.MethodName)) ∈ lw_all := lw_g (lw_at lw_m5 20 rfl) rfl
theorem q1023 : (Jvm.Cond.publicMethod ({ cls := "CheckoutDesk$12", name := "on", desc := "(LCheckoutDesk$Store;)I" } : Jvm.MethodName)) ∈ lw_tbl := lw_at lw_m5 21 rfl
theorem q1024 : (Jvm.Cond.code ({ cls := "CheckoutDesk$12", name := "on", desc := "(LCheckoutDesk$Store;)I" } : Jvm.MethodName) prog_5_method_2_code (5 : Nat) (Option.some Jvm.ClassFile.FieldType.int)) ∈ lw_all := lw_g (lw_at lw_m5 22 rfl) rfl
theorem q1025 : (Jvm.Cond.methodLinkNest "CheckoutDesk$12" (20 : Nat) ({ cls := "CheckoutDesk", name := "requirePerson", desc := "(I)V" } : Jvm.MethodName) "CheckoutDesk") ∈ lw_tbl := lw_at lw_m5 23 rfl
theorem q1026 : (Jvm.Cond.methodLink "CheckoutDesk$12" (26 : Nat) ({ cls := "CheckoutDesk$Store", name := "version", desc := "(I)LCheckoutDesk$Version;" } : Jvm.MethodName)) ∈ lw_all := lw_g (lw_at lw_m5 24 rfl) rfl
theorem q1031 : (Jvm.Cond.methodLink "CheckoutDesk$12" (37 : Nat) ({ cls := "CheckoutDesk$Store", name := "isWriter", desc := "(II)Z" } : Jvm.MethodName)) ∈ lw_all := lw_g (lw_at lw_m5 29 rfl) rfl
theorem q1032 : (Jvm.Cond.methodLinkNest "CheckoutDesk$12" (41 : Nat) ({ cls := "CheckoutDesk", name := "requireState", desc := "(Z)V" } : Jvm.MethodName) "CheckoutDesk") ∈ lw_tbl := lw_at lw_m5 30 rfl
theorem q1033 : (Jvm.Cond.methodLink "CheckoutDesk$12" (45 : Nat) ({ cls := "CheckoutDesk$Store", name := "document", desc := "(I)LCheckoutDesk$Document;" } : Jvm.MethodName)) ∈ lw_all := lw_g (lw_at lw_m5 31 rfl) rfl
theorem q1034 : (Jvm.Cond.methodLink "CheckoutDesk$12" (54 : Nat) ({ cls := "CheckoutDesk$Row", name := "hasRoom", desc := "()Z" } : Jvm.MethodName)) ∈ lw_all := lw_g (lw_at lw_m5 32 rfl) rfl
theorem q1038 : (Jvm.Cond.classLink "CheckoutDesk$12" (63 : Nat) "CheckoutDesk$Branch") ∈ lw_all := lw_g (lw_at lw_m5 36 rfl) rfl
theorem q1040 : (Jvm.Cond.methodLink "CheckoutDesk$12" (65 : Nat) ({ cls := "CheckoutDesk$Branch", name := "<init>", desc := "(LCheckoutDesk$Version;)V" } : Jvm.MethodName)) ∈ lw_all := lw_g (lw_at lw_m5 38 rfl) rfl
theorem q1061 : (Jvm.Cond.methodLink "CheckoutDesk$12" (68 : Nat) ({ cls := "CheckoutDesk$Row", name := "add", desc := "(Ljava/lang/Object;)I" } : Jvm.MethodName)) ∈ lw_all := lw_g (lw_at lw_m5 59 rfl) rfl
theorem q1101 : (Jvm.Cond.selects "CheckoutDesk$12" ({ cls := "java/lang/Object", name := "getClass", desc := "()Ljava/lang/Class;" } : Jvm.MethodName) ({ cls := "java/lang/Object", name := "getClass", desc := "()Ljava/lang/Class;" } : Jvm.MethodName)) ∈ lw_all := lw_g (lw_at lw_m5 99 rfl) rfl
theorem q1159 : (Jvm.Cond.methodLink "CheckoutDesk$12" (72 : Nat) ({ cls := "CheckoutDesk$Store", name := "make", desc := "(IIIILCheckoutDesk$Content;)LCheckoutDesk$Version;" } : Jvm.MethodName)) ∈ lw_all := lw_g (lw_at lw_m5 157 rfl) rfl
theorem q1178 : (Jvm.Cond.fieldLinkNest "CheckoutDesk$12" (32 : Nat) "CheckoutDesk$Version" "document" "I" "CheckoutDesk") ∈ lw_tbl := lw_at lw_m5 176 rfl
theorem q1362 : (Jvm.Cond.fieldLinkNest "CheckoutDesk$12" (48 : Nat) "CheckoutDesk$Document" "branches" "LCheckoutDesk$Row;" "CheckoutDesk") ∈ lw_tbl := lw_at lw_m6 120 rfl
theorem q2055 : (Jvm.Cond.instantiable "CheckoutDesk$12" (3 : Nat)) ∈ lw_all := lw_g (lw_at lw_m9 93 rfl) rfl
theorem q2057 : (Jvm.Cond.instanceMethod ({ cls := "CheckoutDesk$12", name := "<init>", desc := "(LCheckoutDesk;II)V" } : Jvm.MethodName)) ∈ lw_all := lw_g (lw_at lw_m9 95 rfl) rfl
theorem q2058 : (Jvm.Cond.code ({ cls := "CheckoutDesk$12", name := "<init>", desc := "(LCheckoutDesk;II)V" } : Jvm.MethodName) prog_5_method_1_code (4 : Nat) (Option.none : Option Jvm.ClassFile.FieldType)) ∈ lw_all := lw_g (lw_at lw_m9 96 rfl) rfl
theorem q2059 : (Jvm.Cond.methodLink "CheckoutDesk$12" (14 : Nat) ({ cls := "java/lang/Object", name := "<init>", desc := "()V" } : Jvm.MethodName)) ∈ lw_all := lw_g (lw_at lw_m9 97 rfl) rfl
theorem q2060 : (Jvm.Cond.fieldLink "CheckoutDesk$12" (7 : Nat) "CheckoutDesk$12" "val$person" "I") ∈ lw_all := lw_g (lw_at lw_m9 98 rfl) rfl
theorem q2061 : (Jvm.Cond.fieldLink "CheckoutDesk$12" (11 : Nat) "CheckoutDesk$12" "val$version" "I") ∈ lw_all := lw_g (lw_at lw_m9 99 rfl) rfl
theorem q2062 : (Jvm.Cond.fieldLink "CheckoutDesk$12" (1 : Nat) "CheckoutDesk$12" "this$0" "LCheckoutDesk;") ∈ lw_all := lw_g (lw_at lw_m9 100 rfl) rfl
theorem q2063 : (Jvm.Cond.laysFinal "CheckoutDesk$12" "CheckoutDesk$12" "val$person" "I") ∈ lw_all := lw_g (lw_at lw_m9 101 rfl) rfl
theorem q2064 : (Jvm.Cond.soleField "CheckoutDesk$12" "val$person") ∈ lw_all := lw_g (lw_at lw_m9 102 rfl) rfl
theorem q2065 : (Jvm.Cond.laysFinal "CheckoutDesk$12" "CheckoutDesk$12" "val$version" "I") ∈ lw_all := lw_g (lw_at lw_m9 103 rfl) rfl
theorem q2066 : (Jvm.Cond.soleField "CheckoutDesk$12" "val$version") ∈ lw_all := lw_g (lw_at lw_m9 104 rfl) rfl
theorem q2067 : (Jvm.Cond.laysFinal "CheckoutDesk$12" "CheckoutDesk$12" "this$0" "LCheckoutDesk;") ∈ lw_all := lw_g (lw_at lw_m9 105 rfl) rfl
theorem q2068 : (Jvm.Cond.soleField "CheckoutDesk$12" "this$0") ∈ lw_all := lw_g (lw_at lw_m9 106 rfl) rfl
theorem q2069 : (Jvm.Cond.superclass "CheckoutDesk$12" "java/lang/Object") ∈ lw_all := lw_g (lw_at lw_m9 107 rfl) rfl
theorem q2715 : (Jvm.Cond.castable "CheckoutDesk$12" "java/lang/Object") ∈ lw_tbl := lw_at lw_m12 33 rfl
theorem in_X27 : ∀ w ∈ wsX270, w ∈ lw_all := lw_in wsX270 [2063, 2065, 2067] (by decide +kernel) (by decide +kernel)
/-! CheckoutDesk$13 -/
set_option maxRecDepth 100000
def RX28 : String := "CheckoutDesk$13"
def TX28 : u_T := fun k => match k with
  | 0 => ("CheckoutDesk$13", "val$person", "I", true)
  | 1 => ("CheckoutDesk$13", "val$document", "I", true)
  | 2 => ("CheckoutDesk$13", "val$branch", "I", true)
  | _ => ("CheckoutDesk$13", "this$0", "LCheckoutDesk;", true)
def tyX28 : Nat → FieldType := fun k => match k with
  | 0 => .int
  | 1 => .int
  | 2 => .int
  | _ => .object "CheckoutDesk"
abbrev wsX280 : List Cond := u_ws RX28 TX28 4
theorem nmX28 : ∀ a, a < 4 → ∀ b, b < 4 → a ≠ b → (TX28 a).2.1 ≠ (TX28 b).2.1 := by decide +kernel
theorem tyX28_ok : ∀ k, k < 4 → parseFieldDescriptor (TX28 k).2.2.1 = some (tyX28 k) := by decide +kernel
abbrev cX28_on : ByteArray := prog_6_method_2_code
def yX28_on : MethodName := ⟨RX28, "on", "(LCheckoutDesk$Store;)I"⟩
def dkwX28_on_10 : List UInt8 := [87, 44, 25, 4, 181, 0, 71, 21, 6, 172]
abbrev dktX28_on_10 : List UInt8 := dkwX28_on_10 ++ []
def dkwX28_on_9 : List UInt8 := [167, 255, 167, 43, 42, 180, 0, 13, 3, 45, 180, 0, 82, 45, 180, 0, 85, 4, 96, 25, 5, 182, 0, 88]
abbrev dktX28_on_9 : List UInt8 := dkwX28_on_9 ++ dktX28_on_10
def dkwX28_on_8 : List UInt8 := [45, 180, 0, 75, 21, 7, 46, 25, 4, 180, 0, 75, 21, 7, 46, 159, 0, 6, 132, 6, 1, 132, 7, 1]
abbrev dktX28_on_8 : List UInt8 := dkwX28_on_8 ++ dktX28_on_9
def dkwX28_on_7 : List UInt8 := [21, 8, 160, 0, 22, 25, 5, 180, 0, 81, 21, 7, 25, 4, 180, 0, 75, 21, 7, 46, 79, 167, 0, 24]
abbrev dktX28_on_7 : List UInt8 := dkwX28_on_7 ++ dktX28_on_8
def dkwX28_on_6 : List UInt8 := [25, 4, 180, 0, 75, 21, 7, 46, 21, 8, 160, 0, 6, 167, 0, 55, 45, 180, 0, 75, 21, 7, 46]
abbrev dktX28_on_6 : List UInt8 := dkwX28_on_6 ++ dktX28_on_7
def dkwX28_on_5 : List UInt8 := [3, 54, 6, 3, 54, 7, 21, 7, 6, 162, 0, 89, 44, 180, 0, 71, 180, 0, 75, 21, 7, 46, 54, 8]
abbrev dktX28_on_5 : List UInt8 := dkwX28_on_5 ++ dktX28_on_6
def dkwX28_on_4 : List UInt8 := [43, 42, 180, 0, 13, 42, 180, 0, 16, 182, 0, 62, 58, 4, 187, 0, 66, 89, 45, 183, 0, 68, 58, 5]
abbrev dktX28_on_4 : List UInt8 := dkwX28_on_4 ++ dktX28_on_5
def dkwX28_on_3 : List UInt8 := [182, 0, 56, 153, 0, 7, 4, 167, 0, 4, 3, 184, 0, 43, 43, 42, 180, 0, 13, 3, 182, 0, 62, 78]
abbrev dktX28_on_3 : List UInt8 := dkwX28_on_3 ++ dktX28_on_4
def dkwX28_on_2 : List UInt8 := [184, 0, 43, 43, 42, 180, 0, 13, 3, 182, 0, 29, 180, 0, 46, 199, 0, 17, 43, 180, 0, 52]
abbrev dktX28_on_2 : List UInt8 := dkwX28_on_2 ++ dktX28_on_3
def dkwX28_on_1 : List UInt8 := [153, 0, 7, 4, 167, 0, 4, 3, 184, 0, 35, 43, 42, 180, 0, 9, 42, 180, 0, 13, 182, 0, 39]
abbrev dktX28_on_1 : List UInt8 := dkwX28_on_1 ++ dktX28_on_2
def dkwX28_on_0 : List UInt8 := [42, 180, 0, 9, 184, 0, 25, 43, 42, 180, 0, 13, 42, 180, 0, 16, 182, 0, 29, 77, 42, 180, 0, 16]
abbrev dktX28_on_0 : List UInt8 := dkwX28_on_0 ++ dktX28_on_1
theorem dksX28_on_0 : cX28_on.data.toList.drop 0 = dktX28_on_0 := by decide +kernel
theorem dksX28_on_1 : cX28_on.data.toList.drop 24 = dktX28_on_1 := dk_seg dksX28_on_0 24 rfl rfl
theorem dksX28_on_2 : cX28_on.data.toList.drop 47 = dktX28_on_2 := dk_seg dksX28_on_1 23 rfl rfl
theorem dksX28_on_3 : cX28_on.data.toList.drop 69 = dktX28_on_3 := dk_seg dksX28_on_2 22 rfl rfl
theorem dksX28_on_4 : cX28_on.data.toList.drop 93 = dktX28_on_4 := dk_seg dksX28_on_3 24 rfl rfl
theorem dksX28_on_5 : cX28_on.data.toList.drop 117 = dktX28_on_5 := dk_seg dksX28_on_4 24 rfl rfl
theorem dksX28_on_6 : cX28_on.data.toList.drop 141 = dktX28_on_6 := dk_seg dksX28_on_5 24 rfl rfl
theorem dksX28_on_7 : cX28_on.data.toList.drop 164 = dktX28_on_7 := dk_seg dksX28_on_6 23 rfl rfl
theorem dksX28_on_8 : cX28_on.data.toList.drop 188 = dktX28_on_8 := dk_seg dksX28_on_7 24 rfl rfl
theorem dksX28_on_9 : cX28_on.data.toList.drop 212 = dktX28_on_9 := dk_seg dksX28_on_8 24 rfl rfl
theorem dksX28_on_10 : cX28_on.data.toList.drop 236 = dktX28_on_10 := dk_seg dksX28_on_9 24 rfl rfl
theorem dX28_on_0 : decode cX28_on 0 = .ok (.aload_n 0, 1) := dk_42 (dk_at dksX28_on_0 0 rfl rfl)
theorem dX28_on_1 : decode cX28_on 1 = .ok (.getfield 9, 3) := dk_180 0 9 (dk_at dksX28_on_0 1 rfl rfl)
theorem dX28_on_4 : decode cX28_on 4 = .ok (.invokestatic 25, 3) := dk_184 0 25 (dk_at dksX28_on_0 4 rfl rfl)
theorem dX28_on_7 : decode cX28_on 7 = .ok (.aload_n 1, 1) := dk_43 (dk_at dksX28_on_0 7 rfl rfl)
theorem dX28_on_8 : decode cX28_on 8 = .ok (.aload_n 0, 1) := dk_42 (dk_at dksX28_on_0 8 rfl rfl)
theorem dX28_on_9 : decode cX28_on 9 = .ok (.getfield 13, 3) := dk_180 0 13 (dk_at dksX28_on_0 9 rfl rfl)
theorem dX28_on_12 : decode cX28_on 12 = .ok (.aload_n 0, 1) := dk_42 (dk_at dksX28_on_0 12 rfl rfl)
theorem dX28_on_13 : decode cX28_on 13 = .ok (.getfield 16, 3) := dk_180 0 16 (dk_at dksX28_on_0 13 rfl rfl)
theorem dX28_on_16 : decode cX28_on 16 = .ok (.invokevirtual 29, 3) := dk_182 0 29 (dk_at dksX28_on_0 16 rfl rfl)
theorem dX28_on_19 : decode cX28_on 19 = .ok (.astore_n 2, 1) := dk_77 (dk_at dksX28_on_0 19 rfl rfl)
theorem dX28_on_20 : decode cX28_on 20 = .ok (.aload_n 0, 1) := dk_42 (dk_at dksX28_on_0 20 rfl rfl)
theorem dX28_on_21 : decode cX28_on 21 = .ok (.getfield 16, 3) := dk_180 0 16 (dk_at dksX28_on_0 21 rfl rfl)
theorem dX28_on_24 : decode cX28_on 24 = .ok (.ifCond .eq 7, 3) := dk_153 0 7 (dk_at dksX28_on_1 0 rfl rfl)
theorem dX28_on_27 : decode cX28_on 27 = .ok (.iconst 1, 1) := dk_4 (dk_at dksX28_on_1 3 rfl rfl)
theorem dX28_on_28 : decode cX28_on 28 = .ok (.goto 4, 3) := dk_167 0 4 (dk_at dksX28_on_1 4 rfl rfl)
theorem dX28_on_31 : decode cX28_on 31 = .ok (.iconst 0, 1) := dk_3 (dk_at dksX28_on_1 7 rfl rfl)
theorem dX28_on_32 : decode cX28_on 32 = .ok (.invokestatic 35, 3) := dk_184 0 35 (dk_at dksX28_on_1 8 rfl rfl)
theorem dX28_on_35 : decode cX28_on 35 = .ok (.aload_n 1, 1) := dk_43 (dk_at dksX28_on_1 11 rfl rfl)
theorem dX28_on_36 : decode cX28_on 36 = .ok (.aload_n 0, 1) := dk_42 (dk_at dksX28_on_1 12 rfl rfl)
theorem dX28_on_37 : decode cX28_on 37 = .ok (.getfield 9, 3) := dk_180 0 9 (dk_at dksX28_on_1 13 rfl rfl)
theorem dX28_on_40 : decode cX28_on 40 = .ok (.aload_n 0, 1) := dk_42 (dk_at dksX28_on_1 16 rfl rfl)
theorem dX28_on_41 : decode cX28_on 41 = .ok (.getfield 13, 3) := dk_180 0 13 (dk_at dksX28_on_1 17 rfl rfl)
theorem dX28_on_44 : decode cX28_on 44 = .ok (.invokevirtual 39, 3) := dk_182 0 39 (dk_at dksX28_on_1 20 rfl rfl)
theorem dX28_on_47 : decode cX28_on 47 = .ok (.invokestatic 43, 3) := dk_184 0 43 (dk_at dksX28_on_2 0 rfl rfl)
theorem dX28_on_50 : decode cX28_on 50 = .ok (.aload_n 1, 1) := dk_43 (dk_at dksX28_on_2 3 rfl rfl)
theorem dX28_on_51 : decode cX28_on 51 = .ok (.aload_n 0, 1) := dk_42 (dk_at dksX28_on_2 4 rfl rfl)
theorem dX28_on_52 : decode cX28_on 52 = .ok (.getfield 13, 3) := dk_180 0 13 (dk_at dksX28_on_2 5 rfl rfl)
theorem dX28_on_55 : decode cX28_on 55 = .ok (.iconst 0, 1) := dk_3 (dk_at dksX28_on_2 8 rfl rfl)
theorem dX28_on_56 : decode cX28_on 56 = .ok (.invokevirtual 29, 3) := dk_182 0 29 (dk_at dksX28_on_2 9 rfl rfl)
theorem dX28_on_59 : decode cX28_on 59 = .ok (.getfield 46, 3) := dk_180 0 46 (dk_at dksX28_on_2 12 rfl rfl)
theorem dX28_on_62 : decode cX28_on 62 = .ok (.ifnonnull 17, 3) := dk_199 0 17 (dk_at dksX28_on_2 15 rfl rfl)
theorem dX28_on_65 : decode cX28_on 65 = .ok (.aload_n 1, 1) := dk_43 (dk_at dksX28_on_2 18 rfl rfl)
theorem dX28_on_66 : decode cX28_on 66 = .ok (.getfield 52, 3) := dk_180 0 52 (dk_at dksX28_on_2 19 rfl rfl)
theorem dX28_on_69 : decode cX28_on 69 = .ok (.invokevirtual 56, 3) := dk_182 0 56 (dk_at dksX28_on_3 0 rfl rfl)
theorem dX28_on_72 : decode cX28_on 72 = .ok (.ifCond .eq 7, 3) := dk_153 0 7 (dk_at dksX28_on_3 3 rfl rfl)
theorem dX28_on_75 : decode cX28_on 75 = .ok (.iconst 1, 1) := dk_4 (dk_at dksX28_on_3 6 rfl rfl)
theorem dX28_on_76 : decode cX28_on 76 = .ok (.goto 4, 3) := dk_167 0 4 (dk_at dksX28_on_3 7 rfl rfl)
theorem dX28_on_79 : decode cX28_on 79 = .ok (.iconst 0, 1) := dk_3 (dk_at dksX28_on_3 10 rfl rfl)
theorem dX28_on_80 : decode cX28_on 80 = .ok (.invokestatic 43, 3) := dk_184 0 43 (dk_at dksX28_on_3 11 rfl rfl)
theorem dX28_on_83 : decode cX28_on 83 = .ok (.aload_n 1, 1) := dk_43 (dk_at dksX28_on_3 14 rfl rfl)
theorem dX28_on_84 : decode cX28_on 84 = .ok (.aload_n 0, 1) := dk_42 (dk_at dksX28_on_3 15 rfl rfl)
theorem dX28_on_85 : decode cX28_on 85 = .ok (.getfield 13, 3) := dk_180 0 13 (dk_at dksX28_on_3 16 rfl rfl)
theorem dX28_on_88 : decode cX28_on 88 = .ok (.iconst 0, 1) := dk_3 (dk_at dksX28_on_3 19 rfl rfl)
theorem dX28_on_89 : decode cX28_on 89 = .ok (.invokevirtual 62, 3) := dk_182 0 62 (dk_at dksX28_on_3 20 rfl rfl)
theorem dX28_on_92 : decode cX28_on 92 = .ok (.astore_n 3, 1) := dk_78 (dk_at dksX28_on_3 23 rfl rfl)
theorem dX28_on_93 : decode cX28_on 93 = .ok (.aload_n 1, 1) := dk_43 (dk_at dksX28_on_4 0 rfl rfl)
theorem dX28_on_94 : decode cX28_on 94 = .ok (.aload_n 0, 1) := dk_42 (dk_at dksX28_on_4 1 rfl rfl)
theorem dX28_on_95 : decode cX28_on 95 = .ok (.getfield 13, 3) := dk_180 0 13 (dk_at dksX28_on_4 2 rfl rfl)
theorem dX28_on_98 : decode cX28_on 98 = .ok (.aload_n 0, 1) := dk_42 (dk_at dksX28_on_4 5 rfl rfl)
theorem dX28_on_99 : decode cX28_on 99 = .ok (.getfield 16, 3) := dk_180 0 16 (dk_at dksX28_on_4 6 rfl rfl)
theorem dX28_on_102 : decode cX28_on 102 = .ok (.invokevirtual 62, 3) := dk_182 0 62 (dk_at dksX28_on_4 9 rfl rfl)
theorem dX28_on_105 : decode cX28_on 105 = .ok (.astore 4, 2) := dk_58 4 (dk_at dksX28_on_4 12 rfl rfl)
theorem dX28_on_107 : decode cX28_on 107 = .ok (.new 66, 3) := dk_187 0 66 (dk_at dksX28_on_4 14 rfl rfl)
theorem dX28_on_110 : decode cX28_on 110 = .ok (.dup, 1) := dk_89 (dk_at dksX28_on_4 17 rfl rfl)
theorem dX28_on_111 : decode cX28_on 111 = .ok (.aload_n 3, 1) := dk_45 (dk_at dksX28_on_4 18 rfl rfl)
theorem dX28_on_112 : decode cX28_on 112 = .ok (.invokespecial 68, 3) := dk_183 0 68 (dk_at dksX28_on_4 19 rfl rfl)
theorem dX28_on_115 : decode cX28_on 115 = .ok (.astore 5, 2) := dk_58 5 (dk_at dksX28_on_4 22 rfl rfl)
theorem dX28_on_117 : decode cX28_on 117 = .ok (.iconst 0, 1) := dk_3 (dk_at dksX28_on_5 0 rfl rfl)
theorem dX28_on_118 : decode cX28_on 118 = .ok (.istore 6, 2) := dk_54 6 (dk_at dksX28_on_5 1 rfl rfl)
theorem dX28_on_120 : decode cX28_on 120 = .ok (.iconst 0, 1) := dk_3 (dk_at dksX28_on_5 3 rfl rfl)
theorem dX28_on_121 : decode cX28_on 121 = .ok (.istore 7, 2) := dk_54 7 (dk_at dksX28_on_5 4 rfl rfl)
theorem dX28_on_123 : decode cX28_on 123 = .ok (.iload 7, 2) := dk_21 7 (dk_at dksX28_on_5 6 rfl rfl)
theorem dX28_on_125 : decode cX28_on 125 = .ok (.iconst 3, 1) := dk_6 (dk_at dksX28_on_5 8 rfl rfl)
theorem dX28_on_126 : decode cX28_on 126 = .ok (.if_icmp .ge 89, 3) := dk_162 0 89 (dk_at dksX28_on_5 9 rfl rfl)
theorem dX28_on_129 : decode cX28_on 129 = .ok (.aload_n 2, 1) := dk_44 (dk_at dksX28_on_5 12 rfl rfl)
theorem dX28_on_130 : decode cX28_on 130 = .ok (.getfield 71, 3) := dk_180 0 71 (dk_at dksX28_on_5 13 rfl rfl)
theorem dX28_on_133 : decode cX28_on 133 = .ok (.getfield 75, 3) := dk_180 0 75 (dk_at dksX28_on_5 16 rfl rfl)
theorem dX28_on_136 : decode cX28_on 136 = .ok (.iload 7, 2) := dk_21 7 (dk_at dksX28_on_5 19 rfl rfl)
theorem dX28_on_138 : decode cX28_on 138 = .ok (.iaload, 1) := dk_46 (dk_at dksX28_on_5 21 rfl rfl)
theorem dX28_on_139 : decode cX28_on 139 = .ok (.istore 8, 2) := dk_54 8 (dk_at dksX28_on_5 22 rfl rfl)
theorem dX28_on_141 : decode cX28_on 141 = .ok (.aload 4, 2) := dk_25 4 (dk_at dksX28_on_6 0 rfl rfl)
theorem dX28_on_143 : decode cX28_on 143 = .ok (.getfield 75, 3) := dk_180 0 75 (dk_at dksX28_on_6 2 rfl rfl)
theorem dX28_on_146 : decode cX28_on 146 = .ok (.iload 7, 2) := dk_21 7 (dk_at dksX28_on_6 5 rfl rfl)
theorem dX28_on_148 : decode cX28_on 148 = .ok (.iaload, 1) := dk_46 (dk_at dksX28_on_6 7 rfl rfl)
theorem dX28_on_149 : decode cX28_on 149 = .ok (.iload 8, 2) := dk_21 8 (dk_at dksX28_on_6 8 rfl rfl)
theorem dX28_on_151 : decode cX28_on 151 = .ok (.if_icmp .ne 6, 3) := dk_160 0 6 (dk_at dksX28_on_6 10 rfl rfl)
theorem dX28_on_154 : decode cX28_on 154 = .ok (.goto 55, 3) := dk_167 0 55 (dk_at dksX28_on_6 13 rfl rfl)
theorem dX28_on_157 : decode cX28_on 157 = .ok (.aload_n 3, 1) := dk_45 (dk_at dksX28_on_6 16 rfl rfl)
theorem dX28_on_158 : decode cX28_on 158 = .ok (.getfield 75, 3) := dk_180 0 75 (dk_at dksX28_on_6 17 rfl rfl)
theorem dX28_on_161 : decode cX28_on 161 = .ok (.iload 7, 2) := dk_21 7 (dk_at dksX28_on_6 20 rfl rfl)
theorem dX28_on_163 : decode cX28_on 163 = .ok (.iaload, 1) := dk_46 (dk_at dksX28_on_6 22 rfl rfl)
theorem dX28_on_164 : decode cX28_on 164 = .ok (.iload 8, 2) := dk_21 8 (dk_at dksX28_on_7 0 rfl rfl)
theorem dX28_on_166 : decode cX28_on 166 = .ok (.if_icmp .ne 22, 3) := dk_160 0 22 (dk_at dksX28_on_7 2 rfl rfl)
theorem dX28_on_169 : decode cX28_on 169 = .ok (.aload 5, 2) := dk_25 5 (dk_at dksX28_on_7 5 rfl rfl)
theorem dX28_on_171 : decode cX28_on 171 = .ok (.getfield 81, 3) := dk_180 0 81 (dk_at dksX28_on_7 7 rfl rfl)
theorem dX28_on_174 : decode cX28_on 174 = .ok (.iload 7, 2) := dk_21 7 (dk_at dksX28_on_7 10 rfl rfl)
theorem dX28_on_176 : decode cX28_on 176 = .ok (.aload 4, 2) := dk_25 4 (dk_at dksX28_on_7 12 rfl rfl)
theorem dX28_on_178 : decode cX28_on 178 = .ok (.getfield 75, 3) := dk_180 0 75 (dk_at dksX28_on_7 14 rfl rfl)
theorem dX28_on_181 : decode cX28_on 181 = .ok (.iload 7, 2) := dk_21 7 (dk_at dksX28_on_7 17 rfl rfl)
theorem dX28_on_183 : decode cX28_on 183 = .ok (.iaload, 1) := dk_46 (dk_at dksX28_on_7 19 rfl rfl)
theorem dX28_on_184 : decode cX28_on 184 = .ok (.iastore, 1) := dk_79 (dk_at dksX28_on_7 20 rfl rfl)
theorem dX28_on_185 : decode cX28_on 185 = .ok (.goto 24, 3) := dk_167 0 24 (dk_at dksX28_on_7 21 rfl rfl)
theorem dX28_on_188 : decode cX28_on 188 = .ok (.aload_n 3, 1) := dk_45 (dk_at dksX28_on_8 0 rfl rfl)
theorem dX28_on_189 : decode cX28_on 189 = .ok (.getfield 75, 3) := dk_180 0 75 (dk_at dksX28_on_8 1 rfl rfl)
theorem dX28_on_192 : decode cX28_on 192 = .ok (.iload 7, 2) := dk_21 7 (dk_at dksX28_on_8 4 rfl rfl)
theorem dX28_on_194 : decode cX28_on 194 = .ok (.iaload, 1) := dk_46 (dk_at dksX28_on_8 6 rfl rfl)
theorem dX28_on_195 : decode cX28_on 195 = .ok (.aload 4, 2) := dk_25 4 (dk_at dksX28_on_8 7 rfl rfl)
theorem dX28_on_197 : decode cX28_on 197 = .ok (.getfield 75, 3) := dk_180 0 75 (dk_at dksX28_on_8 9 rfl rfl)
theorem dX28_on_200 : decode cX28_on 200 = .ok (.iload 7, 2) := dk_21 7 (dk_at dksX28_on_8 12 rfl rfl)
theorem dX28_on_202 : decode cX28_on 202 = .ok (.iaload, 1) := dk_46 (dk_at dksX28_on_8 14 rfl rfl)
theorem dX28_on_203 : decode cX28_on 203 = .ok (.if_icmp .eq 6, 3) := dk_159 0 6 (dk_at dksX28_on_8 15 rfl rfl)
theorem dX28_on_206 : decode cX28_on 206 = .ok (.iinc 6 1, 3) := dk_132 6 1 (dk_at dksX28_on_8 18 rfl rfl)
theorem dX28_on_209 : decode cX28_on 209 = .ok (.iinc 7 1, 3) := dk_132 7 1 (dk_at dksX28_on_8 21 rfl rfl)
theorem dX28_on_212 : decode cX28_on 212 = .ok (.goto (-89), 3) := dk_167 255 167 (dk_at dksX28_on_9 0 rfl rfl)
theorem dX28_on_215 : decode cX28_on 215 = .ok (.aload_n 1, 1) := dk_43 (dk_at dksX28_on_9 3 rfl rfl)
theorem dX28_on_216 : decode cX28_on 216 = .ok (.aload_n 0, 1) := dk_42 (dk_at dksX28_on_9 4 rfl rfl)
theorem dX28_on_217 : decode cX28_on 217 = .ok (.getfield 13, 3) := dk_180 0 13 (dk_at dksX28_on_9 5 rfl rfl)
theorem dX28_on_220 : decode cX28_on 220 = .ok (.iconst 0, 1) := dk_3 (dk_at dksX28_on_9 8 rfl rfl)
theorem dX28_on_221 : decode cX28_on 221 = .ok (.aload_n 3, 1) := dk_45 (dk_at dksX28_on_9 9 rfl rfl)
theorem dX28_on_222 : decode cX28_on 222 = .ok (.getfield 82, 3) := dk_180 0 82 (dk_at dksX28_on_9 10 rfl rfl)
theorem dX28_on_225 : decode cX28_on 225 = .ok (.aload_n 3, 1) := dk_45 (dk_at dksX28_on_9 13 rfl rfl)
theorem dX28_on_226 : decode cX28_on 226 = .ok (.getfield 85, 3) := dk_180 0 85 (dk_at dksX28_on_9 14 rfl rfl)
theorem dX28_on_229 : decode cX28_on 229 = .ok (.iconst 1, 1) := dk_4 (dk_at dksX28_on_9 17 rfl rfl)
theorem dX28_on_230 : decode cX28_on 230 = .ok (.iadd, 1) := dk_96 (dk_at dksX28_on_9 18 rfl rfl)
theorem dX28_on_231 : decode cX28_on 231 = .ok (.aload 5, 2) := dk_25 5 (dk_at dksX28_on_9 19 rfl rfl)
theorem dX28_on_233 : decode cX28_on 233 = .ok (.invokevirtual 88, 3) := dk_182 0 88 (dk_at dksX28_on_9 21 rfl rfl)
theorem dX28_on_236 : decode cX28_on 236 = .ok (.pop, 1) := dk_87 (dk_at dksX28_on_10 0 rfl rfl)
theorem dX28_on_237 : decode cX28_on 237 = .ok (.aload_n 2, 1) := dk_44 (dk_at dksX28_on_10 1 rfl rfl)
theorem dX28_on_238 : decode cX28_on 238 = .ok (.aload 4, 2) := dk_25 4 (dk_at dksX28_on_10 2 rfl rfl)
theorem dX28_on_240 : decode cX28_on 240 = .ok (.putfield 71, 3) := dk_181 0 71 (dk_at dksX28_on_10 4 rfl rfl)
theorem dX28_on_243 : decode cX28_on 243 = .ok (.iload 6, 2) := dk_21 6 (dk_at dksX28_on_10 7 rfl rfl)
theorem dX28_on_245 : decode cX28_on 245 = .ok (.ireturn, 1) := dk_172 (dk_at dksX28_on_10 9 rfl rfl)
abbrev cX28_init : ByteArray := prog_6_method_1_code
def yX28_init : MethodName := ⟨RX28, "<init>", "(LCheckoutDesk;III)V"⟩
def dkwX28_init_1 : List UInt8 := [183, 0, 19, 177]
abbrev dktX28_init_1 : List UInt8 := dkwX28_init_1 ++ []
def dkwX28_init_0 : List UInt8 := [42, 43, 181, 0, 3, 42, 28, 181, 0, 9, 42, 29, 181, 0, 13, 42, 21, 4, 181, 0, 16, 42]
abbrev dktX28_init_0 : List UInt8 := dkwX28_init_0 ++ dktX28_init_1
theorem dksX28_init_0 : cX28_init.data.toList.drop 0 = dktX28_init_0 := by decide +kernel
theorem dksX28_init_1 : cX28_init.data.toList.drop 22 = dktX28_init_1 := dk_seg dksX28_init_0 22 rfl rfl
theorem dX28_init_0 : decode cX28_init 0 = .ok (.aload_n 0, 1) := dk_42 (dk_at dksX28_init_0 0 rfl rfl)
theorem dX28_init_1 : decode cX28_init 1 = .ok (.aload_n 1, 1) := dk_43 (dk_at dksX28_init_0 1 rfl rfl)
theorem dX28_init_2 : decode cX28_init 2 = .ok (.putfield 3, 3) := dk_181 0 3 (dk_at dksX28_init_0 2 rfl rfl)
theorem dX28_init_5 : decode cX28_init 5 = .ok (.aload_n 0, 1) := dk_42 (dk_at dksX28_init_0 5 rfl rfl)
theorem dX28_init_6 : decode cX28_init 6 = .ok (.iload_n 2, 1) := dk_28 (dk_at dksX28_init_0 6 rfl rfl)
theorem dX28_init_7 : decode cX28_init 7 = .ok (.putfield 9, 3) := dk_181 0 9 (dk_at dksX28_init_0 7 rfl rfl)
theorem dX28_init_10 : decode cX28_init 10 = .ok (.aload_n 0, 1) := dk_42 (dk_at dksX28_init_0 10 rfl rfl)
theorem dX28_init_11 : decode cX28_init 11 = .ok (.iload_n 3, 1) := dk_29 (dk_at dksX28_init_0 11 rfl rfl)
theorem dX28_init_12 : decode cX28_init 12 = .ok (.putfield 13, 3) := dk_181 0 13 (dk_at dksX28_init_0 12 rfl rfl)
theorem dX28_init_15 : decode cX28_init 15 = .ok (.aload_n 0, 1) := dk_42 (dk_at dksX28_init_0 15 rfl rfl)
theorem dX28_init_16 : decode cX28_init 16 = .ok (.iload 4, 2) := dk_21 4 (dk_at dksX28_init_0 16 rfl rfl)
theorem dX28_init_18 : decode cX28_init 18 = .ok (.putfield 16, 3) := dk_181 0 16 (dk_at dksX28_init_0 18 rfl rfl)
theorem dX28_init_21 : decode cX28_init 21 = .ok (.aload_n 0, 1) := dk_42 (dk_at dksX28_init_0 21 rfl rfl)
theorem dX28_init_22 : decode cX28_init 22 = .ok (.invokespecial 19, 3) := dk_183 0 19 (dk_at dksX28_init_1 0 rfl rfl)
theorem dX28_init_25 : decode cX28_init 25 = .ok (.return_, 1) := dk_177 (dk_at dksX28_init_1 3 rfl rfl)
theorem q94 : (Jvm.Cond.initialized "CheckoutDesk$13") ∈ lw_all := lw_g (lw_at lw_m1 52 rfl) rfl
theorem q173 : (Jvm.Cond.fieldLinkNest "CheckoutDesk$13" (52 : Nat) "CheckoutDesk$Store" "versions" "LCheckoutDesk$Row;" "CheckoutDesk") ∈ lw_tbl := lw_at lw_m1 131 rfl
theorem q1046 : (Jvm.Cond.fieldLinkNest "CheckoutDesk$13" (71 : Nat) "CheckoutDesk$Branch" "origin" "LCheckoutDesk$Version;" "CheckoutDesk") ∈ lw_tbl := lw_at lw_m5 44 rfl
theorem q1053 : (Jvm.Cond.fieldLinkNest "CheckoutDesk$13" (46 : Nat) "CheckoutDesk$Branch" "copy" "LCheckoutDesk$Copy;" "CheckoutDesk") ∈ lw_tbl := lw_at lw_m5 51 rfl
theorem q1102 : (Jvm.Cond.selects "CheckoutDesk$13" ({ cls := "java/lang/Object", name := "getClass", desc := "()Ljava/lang/Class;" } : Jvm.MethodName) ({ cls := "java/lang/Object", name := "getClass", desc := "()Ljava/lang/Class;" } : Jvm.MethodName)) ∈ lw_all := lw_g (lw_at lw_m5 100 rfl) rfl
theorem q1188 : (Jvm.Cond.fieldLinkNest "CheckoutDesk$13" (82 : Nat) "CheckoutDesk$Version" "major" "I" "CheckoutDesk") ∈ lw_tbl := lw_at lw_m5 186 rfl
theorem q1193 : (Jvm.Cond.fieldLinkNest "CheckoutDesk$13" (85 : Nat) "CheckoutDesk$Version" "minor" "I" "CheckoutDesk") ∈ lw_tbl := lw_at lw_m5 191 rfl
theorem q1203 : (Jvm.Cond.fieldLink "CheckoutDesk$13" (75 : Nat) "CheckoutDesk$Version" "values" "[I") ∈ lw_all := lw_g (lw_at lw_m5 201 rfl) rfl
theorem q1205 : (Jvm.Cond.fieldLink "CheckoutDesk$13" (81 : Nat) "CheckoutDesk$Content" "values" "[I") ∈ lw_all := lw_g (lw_at lw_m5 203 rfl) rfl
theorem q1224 : (Jvm.Cond.castable "CheckoutDesk$13" "CheckoutDesk$Act") ∈ lw_tbl := lw_at lw_m5 222 rfl
theorem q1225 : (Jvm.Cond.selects "CheckoutDesk$13" ({ cls := "CheckoutDesk$Act", name := "on", desc := "(LCheckoutDesk$Store;)I" } : Jvm.MethodName) ({ cls := "CheckoutDesk$13", name := "on", desc := "(LCheckoutDesk$Store;)I" } : Jvm.MethodName)) ∈ lw_all := lw_g (lw_at lw_m5 223 rfl) rfl
theorem q1226 : (Jvm.Cond.unhidden "CheckoutDesk$13" "on" "(LCheckoutDesk$Store;)I") ∈ lw_tbl := lw_at lw_m5 224 rfl
theorem q1227 : (Jvm.Cond.instanceMethod ({ cls := "CheckoutDesk$13", name := "on", desc := "(LCheckoutDesk$Store;)I" } : Jvm.MethodName)) ∈ lw_all := lw_g (lw_at lw_m5 225 rfl) rfl
theorem q1228 : (Jvm.Cond.publicMethod ({ cls := "CheckoutDesk$13", name := "on", desc := "(LCheckoutDesk$Store;)I" } : Jvm.MethodName)) ∈ lw_tbl := lw_at lw_m5 226 rfl
theorem q1229 : (Jvm.Cond.code ({ cls := "CheckoutDesk$13", name := "on", desc := "(LCheckoutDesk$Store;)I" } : Jvm.MethodName) prog_6_method_2_code (9 : Nat) (Option.some Jvm.ClassFile.FieldType.int)) ∈ lw_all := lw_g (lw_at lw_m5 227 rfl) rfl
theorem q1230 : (Jvm.Cond.methodLinkNest "CheckoutDesk$13" (25 : Nat) ({ cls := "CheckoutDesk", name := "requirePerson", desc := "(I)V" } : Jvm.MethodName) "CheckoutDesk") ∈ lw_tbl := lw_at lw_m5 228 rfl
theorem q1231 : (Jvm.Cond.methodLink "CheckoutDesk$13" (29 : Nat) ({ cls := "CheckoutDesk$Store", name := "branch", desc := "(II)LCheckoutDesk$Branch;" } : Jvm.MethodName)) ∈ lw_all := lw_g (lw_at lw_m5 229 rfl) rfl
theorem q1232 : (Jvm.Cond.methodLinkNest "CheckoutDesk$13" (35 : Nat) ({ cls := "CheckoutDesk", name := "requireArgument", desc := "(Z)V" } : Jvm.MethodName) "CheckoutDesk") ∈ lw_tbl := lw_at lw_m5 230 rfl
theorem q1233 : (Jvm.Cond.methodLink "CheckoutDesk$13" (39 : Nat) ({ cls := "CheckoutDesk$Store", name := "isWriter", desc := "(II)Z" } : Jvm.MethodName)) ∈ lw_all := lw_g (lw_at lw_m5 231 rfl) rfl
theorem q1234 : (Jvm.Cond.methodLinkNest "CheckoutDesk$13" (43 : Nat) ({ cls := "CheckoutDesk", name := "requireState", desc := "(Z)V" } : Jvm.MethodName) "CheckoutDesk") ∈ lw_tbl := lw_at lw_m5 232 rfl
theorem q1235 : (Jvm.Cond.methodLink "CheckoutDesk$13" (56 : Nat) ({ cls := "CheckoutDesk$Row", name := "hasRoom", desc := "()Z" } : Jvm.MethodName)) ∈ lw_all := lw_g (lw_at lw_m5 233 rfl) rfl
theorem q1236 : (Jvm.Cond.methodLink "CheckoutDesk$13" (62 : Nat) ({ cls := "CheckoutDesk$Store", name := "newest", desc := "(II)LCheckoutDesk$Version;" } : Jvm.MethodName)) ∈ lw_all := lw_g (lw_at lw_m5 234 rfl) rfl
theorem q1237 : (Jvm.Cond.classLink "CheckoutDesk$13" (66 : Nat) "CheckoutDesk$Content") ∈ lw_all := lw_g (lw_at lw_m5 235 rfl) rfl
theorem q1239 : (Jvm.Cond.methodLink "CheckoutDesk$13" (68 : Nat) ({ cls := "CheckoutDesk$Content", name := "<init>", desc := "(LCheckoutDesk$Content;)V" } : Jvm.MethodName)) ∈ lw_all := lw_g (lw_at lw_m5 237 rfl) rfl
theorem q1242 : (Jvm.Cond.methodLink "CheckoutDesk$13" (88 : Nat) ({ cls := "CheckoutDesk$Store", name := "make", desc := "(IIIILCheckoutDesk$Content;)LCheckoutDesk$Version;" } : Jvm.MethodName)) ∈ lw_all := lw_g (lw_at lw_m6 0 rfl) rfl
theorem q2078 : (Jvm.Cond.instantiable "CheckoutDesk$13" (4 : Nat)) ∈ lw_all := lw_g (lw_at lw_m9 116 rfl) rfl
theorem q2080 : (Jvm.Cond.instanceMethod ({ cls := "CheckoutDesk$13", name := "<init>", desc := "(LCheckoutDesk;III)V" } : Jvm.MethodName)) ∈ lw_all := lw_g (lw_at lw_m9 118 rfl) rfl
theorem q2081 : (Jvm.Cond.code ({ cls := "CheckoutDesk$13", name := "<init>", desc := "(LCheckoutDesk;III)V" } : Jvm.MethodName) prog_6_method_1_code (5 : Nat) (Option.none : Option Jvm.ClassFile.FieldType)) ∈ lw_all := lw_g (lw_at lw_m9 119 rfl) rfl
theorem q2082 : (Jvm.Cond.methodLink "CheckoutDesk$13" (19 : Nat) ({ cls := "java/lang/Object", name := "<init>", desc := "()V" } : Jvm.MethodName)) ∈ lw_all := lw_g (lw_at lw_m9 120 rfl) rfl
theorem q2083 : (Jvm.Cond.fieldLink "CheckoutDesk$13" (9 : Nat) "CheckoutDesk$13" "val$person" "I") ∈ lw_all := lw_g (lw_at lw_m9 121 rfl) rfl
theorem q2084 : (Jvm.Cond.fieldLink "CheckoutDesk$13" (13 : Nat) "CheckoutDesk$13" "val$document" "I") ∈ lw_all := lw_g (lw_at lw_m9 122 rfl) rfl
theorem q2085 : (Jvm.Cond.fieldLink "CheckoutDesk$13" (16 : Nat) "CheckoutDesk$13" "val$branch" "I") ∈ lw_all := lw_g (lw_at lw_m9 123 rfl) rfl
theorem q2086 : (Jvm.Cond.fieldLink "CheckoutDesk$13" (3 : Nat) "CheckoutDesk$13" "this$0" "LCheckoutDesk;") ∈ lw_all := lw_g (lw_at lw_m9 124 rfl) rfl
theorem q2087 : (Jvm.Cond.laysFinal "CheckoutDesk$13" "CheckoutDesk$13" "val$person" "I") ∈ lw_all := lw_g (lw_at lw_m9 125 rfl) rfl
theorem q2088 : (Jvm.Cond.soleField "CheckoutDesk$13" "val$person") ∈ lw_all := lw_g (lw_at lw_m9 126 rfl) rfl
theorem q2089 : (Jvm.Cond.laysFinal "CheckoutDesk$13" "CheckoutDesk$13" "val$document" "I") ∈ lw_all := lw_g (lw_at lw_m9 127 rfl) rfl
theorem q2090 : (Jvm.Cond.soleField "CheckoutDesk$13" "val$document") ∈ lw_all := lw_g (lw_at lw_m9 128 rfl) rfl
theorem q2091 : (Jvm.Cond.laysFinal "CheckoutDesk$13" "CheckoutDesk$13" "val$branch" "I") ∈ lw_all := lw_g (lw_at lw_m9 129 rfl) rfl
theorem q2092 : (Jvm.Cond.soleField "CheckoutDesk$13" "val$branch") ∈ lw_all := lw_g (lw_at lw_m9 130 rfl) rfl
theorem q2093 : (Jvm.Cond.laysFinal "CheckoutDesk$13" "CheckoutDesk$13" "this$0" "LCheckoutDesk;") ∈ lw_all := lw_g (lw_at lw_m9 131 rfl) rfl
theorem q2094 : (Jvm.Cond.soleField "CheckoutDesk$13" "this$0") ∈ lw_all := lw_g (lw_at lw_m9 132 rfl) rfl
theorem q2095 : (Jvm.Cond.superclass "CheckoutDesk$13" "java/lang/Object") ∈ lw_all := lw_g (lw_at lw_m9 133 rfl) rfl
theorem q2716 : (Jvm.Cond.castable "CheckoutDesk$13" "java/lang/Object") ∈ lw_tbl := lw_at lw_m12 34 rfl
theorem in_X28 : ∀ w ∈ wsX280, w ∈ lw_all := lw_in wsX280 [2087, 2089, 2091, 2093] (by decide +kernel) (by decide +kernel)
/-! CheckoutDesk$14 -/
set_option maxRecDepth 100000
def RX29 : String := "CheckoutDesk$14"
def TX29 : u_T := fun k => match k with
  | 0 => ("CheckoutDesk$14", "val$person", "I", true)
  | 1 => ("CheckoutDesk$14", "val$document", "I", true)
  | 2 => ("CheckoutDesk$14", "val$version", "I", true)
  | _ => ("CheckoutDesk$14", "this$0", "LCheckoutDesk;", true)
def tyX29 : Nat → FieldType := fun k => match k with
  | 0 => .int
  | 1 => .int
  | 2 => .int
  | _ => .object "CheckoutDesk"
abbrev wsX290 : List Cond := u_ws RX29 TX29 4
theorem nmX29 : ∀ a, a < 4 → ∀ b, b < 4 → a ≠ b → (TX29 a).2.1 ≠ (TX29 b).2.1 := by decide +kernel
theorem tyX29_ok : ∀ k, k < 4 → parseFieldDescriptor (TX29 k).2.2.1 = some (tyX29 k) := by decide +kernel
abbrev cX29_on : ByteArray := prog_7_method_2_code
def yX29_on : MethodName := ⟨RX29, "on", "(LCheckoutDesk$Store;)I"⟩
def dkwX29_on_4 : List UInt8 := [172]
abbrev dktX29_on_4 : List UInt8 := dkwX29_on_4 ++ []
def dkwX29_on_3 : List UInt8 := [43, 180, 0, 51, 187, 0, 61, 89, 42, 180, 0, 13, 44, 180, 0, 63, 3, 44, 183, 0, 67, 182, 0, 70]
abbrev dktX29_on_3 : List UInt8 := dkwX29_on_3 ++ dktX29_on_4
def dkwX29_on_2 : List UInt8 := [182, 0, 43, 153, 0, 7, 4, 167, 0, 4, 3, 184, 0, 47, 43, 180, 0, 51, 182, 0, 55, 184, 0, 47]
abbrev dktX29_on_2 : List UInt8 := dkwX29_on_2 ++ dktX29_on_3
def dkwX29_on_1 : List UInt8 := [77, 43, 42, 180, 0, 9, 42, 180, 0, 13, 182, 0, 39, 153, 0, 19, 43, 42, 180, 0, 9, 44]
abbrev dktX29_on_1 : List UInt8 := dkwX29_on_1 ++ dktX29_on_2
def dkwX29_on_0 : List UInt8 := [42, 180, 0, 9, 184, 0, 25, 43, 42, 180, 0, 13, 182, 0, 29, 87, 43, 42, 180, 0, 16, 182, 0, 35]
abbrev dktX29_on_0 : List UInt8 := dkwX29_on_0 ++ dktX29_on_1
theorem dksX29_on_0 : cX29_on.data.toList.drop 0 = dktX29_on_0 := by decide +kernel
theorem dksX29_on_1 : cX29_on.data.toList.drop 24 = dktX29_on_1 := dk_seg dksX29_on_0 24 rfl rfl
theorem dksX29_on_2 : cX29_on.data.toList.drop 46 = dktX29_on_2 := dk_seg dksX29_on_1 22 rfl rfl
theorem dksX29_on_3 : cX29_on.data.toList.drop 70 = dktX29_on_3 := dk_seg dksX29_on_2 24 rfl rfl
theorem dksX29_on_4 : cX29_on.data.toList.drop 94 = dktX29_on_4 := dk_seg dksX29_on_3 24 rfl rfl
theorem dX29_on_0 : decode cX29_on 0 = .ok (.aload_n 0, 1) := dk_42 (dk_at dksX29_on_0 0 rfl rfl)
theorem dX29_on_1 : decode cX29_on 1 = .ok (.getfield 9, 3) := dk_180 0 9 (dk_at dksX29_on_0 1 rfl rfl)
theorem dX29_on_4 : decode cX29_on 4 = .ok (.invokestatic 25, 3) := dk_184 0 25 (dk_at dksX29_on_0 4 rfl rfl)
theorem dX29_on_7 : decode cX29_on 7 = .ok (.aload_n 1, 1) := dk_43 (dk_at dksX29_on_0 7 rfl rfl)
theorem dX29_on_8 : decode cX29_on 8 = .ok (.aload_n 0, 1) := dk_42 (dk_at dksX29_on_0 8 rfl rfl)
theorem dX29_on_9 : decode cX29_on 9 = .ok (.getfield 13, 3) := dk_180 0 13 (dk_at dksX29_on_0 9 rfl rfl)
theorem dX29_on_12 : decode cX29_on 12 = .ok (.invokevirtual 29, 3) := dk_182 0 29 (dk_at dksX29_on_0 12 rfl rfl)
theorem dX29_on_15 : decode cX29_on 15 = .ok (.pop, 1) := dk_87 (dk_at dksX29_on_0 15 rfl rfl)
theorem dX29_on_16 : decode cX29_on 16 = .ok (.aload_n 1, 1) := dk_43 (dk_at dksX29_on_0 16 rfl rfl)
theorem dX29_on_17 : decode cX29_on 17 = .ok (.aload_n 0, 1) := dk_42 (dk_at dksX29_on_0 17 rfl rfl)
theorem dX29_on_18 : decode cX29_on 18 = .ok (.getfield 16, 3) := dk_180 0 16 (dk_at dksX29_on_0 18 rfl rfl)
theorem dX29_on_21 : decode cX29_on 21 = .ok (.invokevirtual 35, 3) := dk_182 0 35 (dk_at dksX29_on_0 21 rfl rfl)
theorem dX29_on_24 : decode cX29_on 24 = .ok (.astore_n 2, 1) := dk_77 (dk_at dksX29_on_1 0 rfl rfl)
theorem dX29_on_25 : decode cX29_on 25 = .ok (.aload_n 1, 1) := dk_43 (dk_at dksX29_on_1 1 rfl rfl)
theorem dX29_on_26 : decode cX29_on 26 = .ok (.aload_n 0, 1) := dk_42 (dk_at dksX29_on_1 2 rfl rfl)
theorem dX29_on_27 : decode cX29_on 27 = .ok (.getfield 9, 3) := dk_180 0 9 (dk_at dksX29_on_1 3 rfl rfl)
theorem dX29_on_30 : decode cX29_on 30 = .ok (.aload_n 0, 1) := dk_42 (dk_at dksX29_on_1 6 rfl rfl)
theorem dX29_on_31 : decode cX29_on 31 = .ok (.getfield 13, 3) := dk_180 0 13 (dk_at dksX29_on_1 7 rfl rfl)
theorem dX29_on_34 : decode cX29_on 34 = .ok (.invokevirtual 39, 3) := dk_182 0 39 (dk_at dksX29_on_1 10 rfl rfl)
theorem dX29_on_37 : decode cX29_on 37 = .ok (.ifCond .eq 19, 3) := dk_153 0 19 (dk_at dksX29_on_1 13 rfl rfl)
theorem dX29_on_40 : decode cX29_on 40 = .ok (.aload_n 1, 1) := dk_43 (dk_at dksX29_on_1 16 rfl rfl)
theorem dX29_on_41 : decode cX29_on 41 = .ok (.aload_n 0, 1) := dk_42 (dk_at dksX29_on_1 17 rfl rfl)
theorem dX29_on_42 : decode cX29_on 42 = .ok (.getfield 9, 3) := dk_180 0 9 (dk_at dksX29_on_1 18 rfl rfl)
theorem dX29_on_45 : decode cX29_on 45 = .ok (.aload_n 2, 1) := dk_44 (dk_at dksX29_on_1 21 rfl rfl)
theorem dX29_on_46 : decode cX29_on 46 = .ok (.invokevirtual 43, 3) := dk_182 0 43 (dk_at dksX29_on_2 0 rfl rfl)
theorem dX29_on_49 : decode cX29_on 49 = .ok (.ifCond .eq 7, 3) := dk_153 0 7 (dk_at dksX29_on_2 3 rfl rfl)
theorem dX29_on_52 : decode cX29_on 52 = .ok (.iconst 1, 1) := dk_4 (dk_at dksX29_on_2 6 rfl rfl)
theorem dX29_on_53 : decode cX29_on 53 = .ok (.goto 4, 3) := dk_167 0 4 (dk_at dksX29_on_2 7 rfl rfl)
theorem dX29_on_56 : decode cX29_on 56 = .ok (.iconst 0, 1) := dk_3 (dk_at dksX29_on_2 10 rfl rfl)
theorem dX29_on_57 : decode cX29_on 57 = .ok (.invokestatic 47, 3) := dk_184 0 47 (dk_at dksX29_on_2 11 rfl rfl)
theorem dX29_on_60 : decode cX29_on 60 = .ok (.aload_n 1, 1) := dk_43 (dk_at dksX29_on_2 14 rfl rfl)
theorem dX29_on_61 : decode cX29_on 61 = .ok (.getfield 51, 3) := dk_180 0 51 (dk_at dksX29_on_2 15 rfl rfl)
theorem dX29_on_64 : decode cX29_on 64 = .ok (.invokevirtual 55, 3) := dk_182 0 55 (dk_at dksX29_on_2 18 rfl rfl)
theorem dX29_on_67 : decode cX29_on 67 = .ok (.invokestatic 47, 3) := dk_184 0 47 (dk_at dksX29_on_2 21 rfl rfl)
theorem dX29_on_70 : decode cX29_on 70 = .ok (.aload_n 1, 1) := dk_43 (dk_at dksX29_on_3 0 rfl rfl)
theorem dX29_on_71 : decode cX29_on 71 = .ok (.getfield 51, 3) := dk_180 0 51 (dk_at dksX29_on_3 1 rfl rfl)
theorem dX29_on_74 : decode cX29_on 74 = .ok (.new 61, 3) := dk_187 0 61 (dk_at dksX29_on_3 4 rfl rfl)
theorem dX29_on_77 : decode cX29_on 77 = .ok (.dup, 1) := dk_89 (dk_at dksX29_on_3 7 rfl rfl)
theorem dX29_on_78 : decode cX29_on 78 = .ok (.aload_n 0, 1) := dk_42 (dk_at dksX29_on_3 8 rfl rfl)
theorem dX29_on_79 : decode cX29_on 79 = .ok (.getfield 13, 3) := dk_180 0 13 (dk_at dksX29_on_3 9 rfl rfl)
theorem dX29_on_82 : decode cX29_on 82 = .ok (.aload_n 2, 1) := dk_44 (dk_at dksX29_on_3 12 rfl rfl)
theorem dX29_on_83 : decode cX29_on 83 = .ok (.getfield 63, 3) := dk_180 0 63 (dk_at dksX29_on_3 13 rfl rfl)
theorem dX29_on_86 : decode cX29_on 86 = .ok (.iconst 0, 1) := dk_3 (dk_at dksX29_on_3 16 rfl rfl)
theorem dX29_on_87 : decode cX29_on 87 = .ok (.aload_n 2, 1) := dk_44 (dk_at dksX29_on_3 17 rfl rfl)
theorem dX29_on_88 : decode cX29_on 88 = .ok (.invokespecial 67, 3) := dk_183 0 67 (dk_at dksX29_on_3 18 rfl rfl)
theorem dX29_on_91 : decode cX29_on 91 = .ok (.invokevirtual 70, 3) := dk_182 0 70 (dk_at dksX29_on_3 21 rfl rfl)
theorem dX29_on_94 : decode cX29_on 94 = .ok (.ireturn, 1) := dk_172 (dk_at dksX29_on_4 0 rfl rfl)
abbrev cX29_init : ByteArray := prog_7_method_1_code
def yX29_init : MethodName := ⟨RX29, "<init>", "(LCheckoutDesk;III)V"⟩
def dkwX29_init_1 : List UInt8 := [183, 0, 19, 177]
abbrev dktX29_init_1 : List UInt8 := dkwX29_init_1 ++ []
def dkwX29_init_0 : List UInt8 := [42, 43, 181, 0, 3, 42, 28, 181, 0, 9, 42, 29, 181, 0, 13, 42, 21, 4, 181, 0, 16, 42]
abbrev dktX29_init_0 : List UInt8 := dkwX29_init_0 ++ dktX29_init_1
theorem dksX29_init_0 : cX29_init.data.toList.drop 0 = dktX29_init_0 := by decide +kernel
theorem dksX29_init_1 : cX29_init.data.toList.drop 22 = dktX29_init_1 := dk_seg dksX29_init_0 22 rfl rfl
theorem dX29_init_0 : decode cX29_init 0 = .ok (.aload_n 0, 1) := dk_42 (dk_at dksX29_init_0 0 rfl rfl)
theorem dX29_init_1 : decode cX29_init 1 = .ok (.aload_n 1, 1) := dk_43 (dk_at dksX29_init_0 1 rfl rfl)
theorem dX29_init_2 : decode cX29_init 2 = .ok (.putfield 3, 3) := dk_181 0 3 (dk_at dksX29_init_0 2 rfl rfl)
theorem dX29_init_5 : decode cX29_init 5 = .ok (.aload_n 0, 1) := dk_42 (dk_at dksX29_init_0 5 rfl rfl)
theorem dX29_init_6 : decode cX29_init 6 = .ok (.iload_n 2, 1) := dk_28 (dk_at dksX29_init_0 6 rfl rfl)
theorem dX29_init_7 : decode cX29_init 7 = .ok (.putfield 9, 3) := dk_181 0 9 (dk_at dksX29_init_0 7 rfl rfl)
theorem dX29_init_10 : decode cX29_init 10 = .ok (.aload_n 0, 1) := dk_42 (dk_at dksX29_init_0 10 rfl rfl)
theorem dX29_init_11 : decode cX29_init 11 = .ok (.iload_n 3, 1) := dk_29 (dk_at dksX29_init_0 11 rfl rfl)
theorem dX29_init_12 : decode cX29_init 12 = .ok (.putfield 13, 3) := dk_181 0 13 (dk_at dksX29_init_0 12 rfl rfl)
theorem dX29_init_15 : decode cX29_init 15 = .ok (.aload_n 0, 1) := dk_42 (dk_at dksX29_init_0 15 rfl rfl)
theorem dX29_init_16 : decode cX29_init 16 = .ok (.iload 4, 2) := dk_21 4 (dk_at dksX29_init_0 16 rfl rfl)
theorem dX29_init_18 : decode cX29_init 18 = .ok (.putfield 16, 3) := dk_181 0 16 (dk_at dksX29_init_0 18 rfl rfl)
theorem dX29_init_21 : decode cX29_init 21 = .ok (.aload_n 0, 1) := dk_42 (dk_at dksX29_init_0 21 rfl rfl)
theorem dX29_init_22 : decode cX29_init 22 = .ok (.invokespecial 19, 3) := dk_183 0 19 (dk_at dksX29_init_1 0 rfl rfl)
theorem dX29_init_25 : decode cX29_init 25 = .ok (.return_, 1) := dk_177 (dk_at dksX29_init_1 3 rfl rfl)
theorem q95 : (Jvm.Cond.initialized "CheckoutDesk$14") ∈ lw_all := lw_g (lw_at lw_m1 53 rfl) rfl
theorem q178 : (Jvm.Cond.fieldLinkNest "CheckoutDesk$14" (51 : Nat) "CheckoutDesk$Store" "links" "LCheckoutDesk$Row;" "CheckoutDesk") ∈ lw_tbl := lw_at lw_m1 136 rfl
theorem q1103 : (Jvm.Cond.selects "CheckoutDesk$14" ({ cls := "java/lang/Object", name := "getClass", desc := "()Ljava/lang/Class;" } : Jvm.MethodName) ({ cls := "java/lang/Object", name := "getClass", desc := "()Ljava/lang/Class;" } : Jvm.MethodName)) ∈ lw_all := lw_g (lw_at lw_m5 101 rfl) rfl
theorem q1179 : (Jvm.Cond.fieldLinkNest "CheckoutDesk$14" (63 : Nat) "CheckoutDesk$Version" "document" "I" "CheckoutDesk") ∈ lw_tbl := lw_at lw_m5 177 rfl
theorem q1243 : (Jvm.Cond.castable "CheckoutDesk$14" "CheckoutDesk$Act") ∈ lw_tbl := lw_at lw_m6 1 rfl
theorem q1244 : (Jvm.Cond.selects "CheckoutDesk$14" ({ cls := "CheckoutDesk$Act", name := "on", desc := "(LCheckoutDesk$Store;)I" } : Jvm.MethodName) ({ cls := "CheckoutDesk$14", name := "on", desc := "(LCheckoutDesk$Store;)I" } : Jvm.MethodName)) ∈ lw_all := lw_g (lw_at lw_m6 2 rfl) rfl
theorem q1245 : (Jvm.Cond.unhidden "CheckoutDesk$14" "on" "(LCheckoutDesk$Store;)I") ∈ lw_tbl := lw_at lw_m6 3 rfl
theorem q1246 : (Jvm.Cond.instanceMethod ({ cls := "CheckoutDesk$14", name := "on", desc := "(LCheckoutDesk$Store;)I" } : Jvm.MethodName)) ∈ lw_all := lw_g (lw_at lw_m6 4 rfl) rfl
theorem q1247 : (Jvm.Cond.publicMethod ({ cls := "CheckoutDesk$14", name := "on", desc := "(LCheckoutDesk$Store;)I" } : Jvm.MethodName)) ∈ lw_tbl := lw_at lw_m6 5 rfl
theorem q1248 : (Jvm.Cond.code ({ cls := "CheckoutDesk$14", name := "on", desc := "(LCheckoutDesk$Store;)I" } : Jvm.MethodName) prog_7_method_2_code (3 : Nat) (Option.some Jvm.ClassFile.FieldType.int)) ∈ lw_all := lw_g (lw_at lw_m6 6 rfl) rfl
theorem q1249 : (Jvm.Cond.methodLinkNest "CheckoutDesk$14" (25 : Nat) ({ cls := "CheckoutDesk", name := "requirePerson", desc := "(I)V" } : Jvm.MethodName) "CheckoutDesk") ∈ lw_tbl := lw_at lw_m6 7 rfl
theorem q1250 : (Jvm.Cond.methodLink "CheckoutDesk$14" (29 : Nat) ({ cls := "CheckoutDesk$Store", name := "document", desc := "(I)LCheckoutDesk$Document;" } : Jvm.MethodName)) ∈ lw_all := lw_g (lw_at lw_m6 8 rfl) rfl
theorem q1251 : (Jvm.Cond.methodLink "CheckoutDesk$14" (35 : Nat) ({ cls := "CheckoutDesk$Store", name := "version", desc := "(I)LCheckoutDesk$Version;" } : Jvm.MethodName)) ∈ lw_all := lw_g (lw_at lw_m6 9 rfl) rfl
theorem q1252 : (Jvm.Cond.methodLink "CheckoutDesk$14" (39 : Nat) ({ cls := "CheckoutDesk$Store", name := "isWriter", desc := "(II)Z" } : Jvm.MethodName)) ∈ lw_all := lw_g (lw_at lw_m6 10 rfl) rfl
theorem q1253 : (Jvm.Cond.methodLink "CheckoutDesk$14" (43 : Nat) ({ cls := "CheckoutDesk$Store", name := "maySee", desc := "(ILCheckoutDesk$Version;)Z" } : Jvm.MethodName)) ∈ lw_all := lw_g (lw_at lw_m6 11 rfl) rfl
theorem q1254 : (Jvm.Cond.methodLinkNest "CheckoutDesk$14" (47 : Nat) ({ cls := "CheckoutDesk", name := "requireState", desc := "(Z)V" } : Jvm.MethodName) "CheckoutDesk") ∈ lw_tbl := lw_at lw_m6 12 rfl
theorem q1255 : (Jvm.Cond.methodLink "CheckoutDesk$14" (55 : Nat) ({ cls := "CheckoutDesk$Row", name := "hasRoom", desc := "()Z" } : Jvm.MethodName)) ∈ lw_all := lw_g (lw_at lw_m6 13 rfl) rfl
theorem q1256 : (Jvm.Cond.classLink "CheckoutDesk$14" (61 : Nat) "CheckoutDesk$Link") ∈ lw_all := lw_g (lw_at lw_m6 14 rfl) rfl
theorem q1258 : (Jvm.Cond.methodLink "CheckoutDesk$14" (67 : Nat) ({ cls := "CheckoutDesk$Link", name := "<init>", desc := "(IIILCheckoutDesk$Version;)V" } : Jvm.MethodName)) ∈ lw_all := lw_g (lw_at lw_m6 16 rfl) rfl
theorem q1281 : (Jvm.Cond.methodLink "CheckoutDesk$14" (70 : Nat) ({ cls := "CheckoutDesk$Row", name := "add", desc := "(Ljava/lang/Object;)I" } : Jvm.MethodName)) ∈ lw_all := lw_g (lw_at lw_m6 39 rfl) rfl
theorem q2104 : (Jvm.Cond.instantiable "CheckoutDesk$14" (4 : Nat)) ∈ lw_all := lw_g (lw_at lw_m9 142 rfl) rfl
theorem q2106 : (Jvm.Cond.instanceMethod ({ cls := "CheckoutDesk$14", name := "<init>", desc := "(LCheckoutDesk;III)V" } : Jvm.MethodName)) ∈ lw_all := lw_g (lw_at lw_m9 144 rfl) rfl
theorem q2107 : (Jvm.Cond.code ({ cls := "CheckoutDesk$14", name := "<init>", desc := "(LCheckoutDesk;III)V" } : Jvm.MethodName) prog_7_method_1_code (5 : Nat) (Option.none : Option Jvm.ClassFile.FieldType)) ∈ lw_all := lw_g (lw_at lw_m9 145 rfl) rfl
theorem q2108 : (Jvm.Cond.methodLink "CheckoutDesk$14" (19 : Nat) ({ cls := "java/lang/Object", name := "<init>", desc := "()V" } : Jvm.MethodName)) ∈ lw_all := lw_g (lw_at lw_m9 146 rfl) rfl
theorem q2109 : (Jvm.Cond.fieldLink "CheckoutDesk$14" (9 : Nat) "CheckoutDesk$14" "val$person" "I") ∈ lw_all := lw_g (lw_at lw_m9 147 rfl) rfl
theorem q2110 : (Jvm.Cond.fieldLink "CheckoutDesk$14" (13 : Nat) "CheckoutDesk$14" "val$document" "I") ∈ lw_all := lw_g (lw_at lw_m9 148 rfl) rfl
theorem q2111 : (Jvm.Cond.fieldLink "CheckoutDesk$14" (16 : Nat) "CheckoutDesk$14" "val$version" "I") ∈ lw_all := lw_g (lw_at lw_m9 149 rfl) rfl
theorem q2112 : (Jvm.Cond.fieldLink "CheckoutDesk$14" (3 : Nat) "CheckoutDesk$14" "this$0" "LCheckoutDesk;") ∈ lw_all := lw_g (lw_at lw_m9 150 rfl) rfl
theorem q2113 : (Jvm.Cond.laysFinal "CheckoutDesk$14" "CheckoutDesk$14" "val$person" "I") ∈ lw_all := lw_g (lw_at lw_m9 151 rfl) rfl
theorem q2114 : (Jvm.Cond.soleField "CheckoutDesk$14" "val$person") ∈ lw_all := lw_g (lw_at lw_m9 152 rfl) rfl
theorem q2115 : (Jvm.Cond.laysFinal "CheckoutDesk$14" "CheckoutDesk$14" "val$document" "I") ∈ lw_all := lw_g (lw_at lw_m9 153 rfl) rfl
theorem q2116 : (Jvm.Cond.soleField "CheckoutDesk$14" "val$document") ∈ lw_all := lw_g (lw_at lw_m9 154 rfl) rfl
theorem q2117 : (Jvm.Cond.laysFinal "CheckoutDesk$14" "CheckoutDesk$14" "val$version" "I") ∈ lw_all := lw_g (lw_at lw_m9 155 rfl) rfl
theorem q2118 : (Jvm.Cond.soleField "CheckoutDesk$14" "val$version") ∈ lw_all := lw_g (lw_at lw_m9 156 rfl) rfl
theorem q2119 : (Jvm.Cond.laysFinal "CheckoutDesk$14" "CheckoutDesk$14" "this$0" "LCheckoutDesk;") ∈ lw_all := lw_g (lw_at lw_m9 157 rfl) rfl
theorem q2120 : (Jvm.Cond.soleField "CheckoutDesk$14" "this$0") ∈ lw_all := lw_g (lw_at lw_m9 158 rfl) rfl
theorem q2121 : (Jvm.Cond.superclass "CheckoutDesk$14" "java/lang/Object") ∈ lw_all := lw_g (lw_at lw_m9 159 rfl) rfl
theorem q2717 : (Jvm.Cond.castable "CheckoutDesk$14" "java/lang/Object") ∈ lw_tbl := lw_at lw_m12 35 rfl
theorem in_X29 : ∀ w ∈ wsX290, w ∈ lw_all := lw_in wsX290 [2113, 2115, 2117, 2119] (by decide +kernel) (by decide +kernel)
/-! CheckoutDesk$15 -/
set_option maxRecDepth 100000
def RX30 : String := "CheckoutDesk$15"
def TX30 : u_T := fun k => match k with
  | 0 => ("CheckoutDesk$15", "val$person", "I", true)
  | 1 => ("CheckoutDesk$15", "val$document", "I", true)
  | 2 => ("CheckoutDesk$15", "val$target", "I", true)
  | 3 => ("CheckoutDesk$15", "val$kind", "I", true)
  | _ => ("CheckoutDesk$15", "this$0", "LCheckoutDesk;", true)
def tyX30 : Nat → FieldType := fun k => match k with
  | 0 => .int
  | 1 => .int
  | 2 => .int
  | 3 => .int
  | _ => .object "CheckoutDesk"
abbrev wsX300 : List Cond := u_ws RX30 TX30 5
theorem nmX30 : ∀ a, a < 5 → ∀ b, b < 5 → a ≠ b → (TX30 a).2.1 ≠ (TX30 b).2.1 := by decide +kernel
theorem tyX30_ok : ∀ k, k < 5 → parseFieldDescriptor (TX30 k).2.2.1 = some (tyX30 k) := by decide +kernel
abbrev cX30_on : ByteArray := prog_8_method_2_code
def yX30_on : MethodName := ⟨RX30, "on", "(LCheckoutDesk$Store;)I"⟩
def dkwX30_on_3 : List UInt8 := [42, 180, 0, 13, 42, 180, 0, 16, 42, 180, 0, 19, 1, 183, 0, 65, 182, 0, 68, 172]
abbrev dktX30_on_3 : List UInt8 := dkwX30_on_3 ++ []
def dkwX30_on_2 : List UInt8 := [182, 0, 46, 184, 0, 50, 43, 180, 0, 53, 182, 0, 57, 184, 0, 50, 43, 180, 0, 53, 187, 0, 63, 89]
abbrev dktX30_on_2 : List UInt8 := dkwX30_on_2 ++ dktX30_on_3
def dkwX30_on_1 : List UInt8 := [87, 42, 180, 0, 19, 4, 5, 184, 0, 38, 184, 0, 42, 43, 42, 180, 0, 9, 42, 180, 0, 13]
abbrev dktX30_on_1 : List UInt8 := dkwX30_on_1 ++ dktX30_on_2
def dkwX30_on_0 : List UInt8 := [42, 180, 0, 9, 184, 0, 28, 43, 42, 180, 0, 13, 182, 0, 32, 87, 43, 42, 180, 0, 16, 182, 0, 32]
abbrev dktX30_on_0 : List UInt8 := dkwX30_on_0 ++ dktX30_on_1
theorem dksX30_on_0 : cX30_on.data.toList.drop 0 = dktX30_on_0 := by decide +kernel
theorem dksX30_on_1 : cX30_on.data.toList.drop 24 = dktX30_on_1 := dk_seg dksX30_on_0 24 rfl rfl
theorem dksX30_on_2 : cX30_on.data.toList.drop 46 = dktX30_on_2 := dk_seg dksX30_on_1 22 rfl rfl
theorem dksX30_on_3 : cX30_on.data.toList.drop 70 = dktX30_on_3 := dk_seg dksX30_on_2 24 rfl rfl
theorem dX30_on_0 : decode cX30_on 0 = .ok (.aload_n 0, 1) := dk_42 (dk_at dksX30_on_0 0 rfl rfl)
theorem dX30_on_1 : decode cX30_on 1 = .ok (.getfield 9, 3) := dk_180 0 9 (dk_at dksX30_on_0 1 rfl rfl)
theorem dX30_on_4 : decode cX30_on 4 = .ok (.invokestatic 28, 3) := dk_184 0 28 (dk_at dksX30_on_0 4 rfl rfl)
theorem dX30_on_7 : decode cX30_on 7 = .ok (.aload_n 1, 1) := dk_43 (dk_at dksX30_on_0 7 rfl rfl)
theorem dX30_on_8 : decode cX30_on 8 = .ok (.aload_n 0, 1) := dk_42 (dk_at dksX30_on_0 8 rfl rfl)
theorem dX30_on_9 : decode cX30_on 9 = .ok (.getfield 13, 3) := dk_180 0 13 (dk_at dksX30_on_0 9 rfl rfl)
theorem dX30_on_12 : decode cX30_on 12 = .ok (.invokevirtual 32, 3) := dk_182 0 32 (dk_at dksX30_on_0 12 rfl rfl)
theorem dX30_on_15 : decode cX30_on 15 = .ok (.pop, 1) := dk_87 (dk_at dksX30_on_0 15 rfl rfl)
theorem dX30_on_16 : decode cX30_on 16 = .ok (.aload_n 1, 1) := dk_43 (dk_at dksX30_on_0 16 rfl rfl)
theorem dX30_on_17 : decode cX30_on 17 = .ok (.aload_n 0, 1) := dk_42 (dk_at dksX30_on_0 17 rfl rfl)
theorem dX30_on_18 : decode cX30_on 18 = .ok (.getfield 16, 3) := dk_180 0 16 (dk_at dksX30_on_0 18 rfl rfl)
theorem dX30_on_21 : decode cX30_on 21 = .ok (.invokevirtual 32, 3) := dk_182 0 32 (dk_at dksX30_on_0 21 rfl rfl)
theorem dX30_on_24 : decode cX30_on 24 = .ok (.pop, 1) := dk_87 (dk_at dksX30_on_1 0 rfl rfl)
theorem dX30_on_25 : decode cX30_on 25 = .ok (.aload_n 0, 1) := dk_42 (dk_at dksX30_on_1 1 rfl rfl)
theorem dX30_on_26 : decode cX30_on 26 = .ok (.getfield 19, 3) := dk_180 0 19 (dk_at dksX30_on_1 2 rfl rfl)
theorem dX30_on_29 : decode cX30_on 29 = .ok (.iconst 1, 1) := dk_4 (dk_at dksX30_on_1 5 rfl rfl)
theorem dX30_on_30 : decode cX30_on 30 = .ok (.iconst 2, 1) := dk_5 (dk_at dksX30_on_1 6 rfl rfl)
theorem dX30_on_31 : decode cX30_on 31 = .ok (.invokestatic 38, 3) := dk_184 0 38 (dk_at dksX30_on_1 7 rfl rfl)
theorem dX30_on_34 : decode cX30_on 34 = .ok (.invokestatic 42, 3) := dk_184 0 42 (dk_at dksX30_on_1 10 rfl rfl)
theorem dX30_on_37 : decode cX30_on 37 = .ok (.aload_n 1, 1) := dk_43 (dk_at dksX30_on_1 13 rfl rfl)
theorem dX30_on_38 : decode cX30_on 38 = .ok (.aload_n 0, 1) := dk_42 (dk_at dksX30_on_1 14 rfl rfl)
theorem dX30_on_39 : decode cX30_on 39 = .ok (.getfield 9, 3) := dk_180 0 9 (dk_at dksX30_on_1 15 rfl rfl)
theorem dX30_on_42 : decode cX30_on 42 = .ok (.aload_n 0, 1) := dk_42 (dk_at dksX30_on_1 18 rfl rfl)
theorem dX30_on_43 : decode cX30_on 43 = .ok (.getfield 13, 3) := dk_180 0 13 (dk_at dksX30_on_1 19 rfl rfl)
theorem dX30_on_46 : decode cX30_on 46 = .ok (.invokevirtual 46, 3) := dk_182 0 46 (dk_at dksX30_on_2 0 rfl rfl)
theorem dX30_on_49 : decode cX30_on 49 = .ok (.invokestatic 50, 3) := dk_184 0 50 (dk_at dksX30_on_2 3 rfl rfl)
theorem dX30_on_52 : decode cX30_on 52 = .ok (.aload_n 1, 1) := dk_43 (dk_at dksX30_on_2 6 rfl rfl)
theorem dX30_on_53 : decode cX30_on 53 = .ok (.getfield 53, 3) := dk_180 0 53 (dk_at dksX30_on_2 7 rfl rfl)
theorem dX30_on_56 : decode cX30_on 56 = .ok (.invokevirtual 57, 3) := dk_182 0 57 (dk_at dksX30_on_2 10 rfl rfl)
theorem dX30_on_59 : decode cX30_on 59 = .ok (.invokestatic 50, 3) := dk_184 0 50 (dk_at dksX30_on_2 13 rfl rfl)
theorem dX30_on_62 : decode cX30_on 62 = .ok (.aload_n 1, 1) := dk_43 (dk_at dksX30_on_2 16 rfl rfl)
theorem dX30_on_63 : decode cX30_on 63 = .ok (.getfield 53, 3) := dk_180 0 53 (dk_at dksX30_on_2 17 rfl rfl)
theorem dX30_on_66 : decode cX30_on 66 = .ok (.new 63, 3) := dk_187 0 63 (dk_at dksX30_on_2 20 rfl rfl)
theorem dX30_on_69 : decode cX30_on 69 = .ok (.dup, 1) := dk_89 (dk_at dksX30_on_2 23 rfl rfl)
theorem dX30_on_70 : decode cX30_on 70 = .ok (.aload_n 0, 1) := dk_42 (dk_at dksX30_on_3 0 rfl rfl)
theorem dX30_on_71 : decode cX30_on 71 = .ok (.getfield 13, 3) := dk_180 0 13 (dk_at dksX30_on_3 1 rfl rfl)
theorem dX30_on_74 : decode cX30_on 74 = .ok (.aload_n 0, 1) := dk_42 (dk_at dksX30_on_3 4 rfl rfl)
theorem dX30_on_75 : decode cX30_on 75 = .ok (.getfield 16, 3) := dk_180 0 16 (dk_at dksX30_on_3 5 rfl rfl)
theorem dX30_on_78 : decode cX30_on 78 = .ok (.aload_n 0, 1) := dk_42 (dk_at dksX30_on_3 8 rfl rfl)
theorem dX30_on_79 : decode cX30_on 79 = .ok (.getfield 19, 3) := dk_180 0 19 (dk_at dksX30_on_3 9 rfl rfl)
theorem dX30_on_82 : decode cX30_on 82 = .ok (.aconst_null, 1) := dk_1 (dk_at dksX30_on_3 12 rfl rfl)
theorem dX30_on_83 : decode cX30_on 83 = .ok (.invokespecial 65, 3) := dk_183 0 65 (dk_at dksX30_on_3 13 rfl rfl)
theorem dX30_on_86 : decode cX30_on 86 = .ok (.invokevirtual 68, 3) := dk_182 0 68 (dk_at dksX30_on_3 16 rfl rfl)
theorem dX30_on_89 : decode cX30_on 89 = .ok (.ireturn, 1) := dk_172 (dk_at dksX30_on_3 19 rfl rfl)
abbrev cX30_init : ByteArray := prog_8_method_1_code
def yX30_init : MethodName := ⟨RX30, "<init>", "(LCheckoutDesk;IIII)V"⟩
def dkwX30_init_1 : List UInt8 := [181, 0, 19, 42, 183, 0, 22, 177]
abbrev dktX30_init_1 : List UInt8 := dkwX30_init_1 ++ []
def dkwX30_init_0 : List UInt8 := [42, 43, 181, 0, 3, 42, 28, 181, 0, 9, 42, 29, 181, 0, 13, 42, 21, 4, 181, 0, 16, 42, 21, 5]
abbrev dktX30_init_0 : List UInt8 := dkwX30_init_0 ++ dktX30_init_1
theorem dksX30_init_0 : cX30_init.data.toList.drop 0 = dktX30_init_0 := by decide +kernel
theorem dksX30_init_1 : cX30_init.data.toList.drop 24 = dktX30_init_1 := dk_seg dksX30_init_0 24 rfl rfl
theorem dX30_init_0 : decode cX30_init 0 = .ok (.aload_n 0, 1) := dk_42 (dk_at dksX30_init_0 0 rfl rfl)
theorem dX30_init_1 : decode cX30_init 1 = .ok (.aload_n 1, 1) := dk_43 (dk_at dksX30_init_0 1 rfl rfl)
theorem dX30_init_2 : decode cX30_init 2 = .ok (.putfield 3, 3) := dk_181 0 3 (dk_at dksX30_init_0 2 rfl rfl)
theorem dX30_init_5 : decode cX30_init 5 = .ok (.aload_n 0, 1) := dk_42 (dk_at dksX30_init_0 5 rfl rfl)
theorem dX30_init_6 : decode cX30_init 6 = .ok (.iload_n 2, 1) := dk_28 (dk_at dksX30_init_0 6 rfl rfl)
theorem dX30_init_7 : decode cX30_init 7 = .ok (.putfield 9, 3) := dk_181 0 9 (dk_at dksX30_init_0 7 rfl rfl)
theorem dX30_init_10 : decode cX30_init 10 = .ok (.aload_n 0, 1) := dk_42 (dk_at dksX30_init_0 10 rfl rfl)
theorem dX30_init_11 : decode cX30_init 11 = .ok (.iload_n 3, 1) := dk_29 (dk_at dksX30_init_0 11 rfl rfl)
theorem dX30_init_12 : decode cX30_init 12 = .ok (.putfield 13, 3) := dk_181 0 13 (dk_at dksX30_init_0 12 rfl rfl)
theorem dX30_init_15 : decode cX30_init 15 = .ok (.aload_n 0, 1) := dk_42 (dk_at dksX30_init_0 15 rfl rfl)
theorem dX30_init_16 : decode cX30_init 16 = .ok (.iload 4, 2) := dk_21 4 (dk_at dksX30_init_0 16 rfl rfl)
theorem dX30_init_18 : decode cX30_init 18 = .ok (.putfield 16, 3) := dk_181 0 16 (dk_at dksX30_init_0 18 rfl rfl)
theorem dX30_init_21 : decode cX30_init 21 = .ok (.aload_n 0, 1) := dk_42 (dk_at dksX30_init_0 21 rfl rfl)
theorem dX30_init_22 : decode cX30_init 22 = .ok (.iload 5, 2) := dk_21 5 (dk_at dksX30_init_0 22 rfl rfl)
theorem dX30_init_24 : decode cX30_init 24 = .ok (.putfield 19, 3) := dk_181 0 19 (dk_at dksX30_init_1 0 rfl rfl)
theorem dX30_init_27 : decode cX30_init 27 = .ok (.aload_n 0, 1) := dk_42 (dk_at dksX30_init_1 3 rfl rfl)
theorem dX30_init_28 : decode cX30_init 28 = .ok (.invokespecial 22, 3) := dk_183 0 22 (dk_at dksX30_init_1 4 rfl rfl)
theorem dX30_init_31 : decode cX30_init 31 = .ok (.return_, 1) := dk_177 (dk_at dksX30_init_1 7 rfl rfl)
theorem q96 : (Jvm.Cond.initialized "CheckoutDesk$15") ∈ lw_all := lw_g (lw_at lw_m1 54 rfl) rfl
theorem q177 : (Jvm.Cond.fieldLinkNest "CheckoutDesk$15" (53 : Nat) "CheckoutDesk$Store" "links" "LCheckoutDesk$Row;" "CheckoutDesk") ∈ lw_tbl := lw_at lw_m1 135 rfl
theorem q1104 : (Jvm.Cond.selects "CheckoutDesk$15" ({ cls := "java/lang/Object", name := "getClass", desc := "()Ljava/lang/Class;" } : Jvm.MethodName) ({ cls := "java/lang/Object", name := "getClass", desc := "()Ljava/lang/Class;" } : Jvm.MethodName)) ∈ lw_all := lw_g (lw_at lw_m5 102 rfl) rfl
theorem q1282 : (Jvm.Cond.castable "CheckoutDesk$15" "CheckoutDesk$Act") ∈ lw_tbl := lw_at lw_m6 40 rfl
theorem q1283 : (Jvm.Cond.selects "CheckoutDesk$15" ({ cls := "CheckoutDesk$Act", name := "on", desc := "(LCheckoutDesk$Store;)I" } : Jvm.MethodName) ({ cls := "CheckoutDesk$15", name := "on", desc := "(LCheckoutDesk$Store;)I" } : Jvm.MethodName)) ∈ lw_all := lw_g (lw_at lw_m6 41 rfl) rfl
theorem q1284 : (Jvm.Cond.unhidden "CheckoutDesk$15" "on" "(LCheckoutDesk$Store;)I") ∈ lw_tbl := lw_at lw_m6 42 rfl
theorem q1285 : (Jvm.Cond.instanceMethod ({ cls := "CheckoutDesk$15", name := "on", desc := "(LCheckoutDesk$Store;)I" } : Jvm.MethodName)) ∈ lw_all := lw_g (lw_at lw_m6 43 rfl) rfl
theorem q1286 : (Jvm.Cond.publicMethod ({ cls := "CheckoutDesk$15", name := "on", desc := "(LCheckoutDesk$Store;)I" } : Jvm.MethodName)) ∈ lw_tbl := lw_at lw_m6 44 rfl
theorem q1287 : (Jvm.Cond.code ({ cls := "CheckoutDesk$15", name := "on", desc := "(LCheckoutDesk$Store;)I" } : Jvm.MethodName) prog_8_method_2_code (2 : Nat) (Option.some Jvm.ClassFile.FieldType.int)) ∈ lw_all := lw_g (lw_at lw_m6 45 rfl) rfl
theorem q1288 : (Jvm.Cond.methodLinkNest "CheckoutDesk$15" (28 : Nat) ({ cls := "CheckoutDesk", name := "requirePerson", desc := "(I)V" } : Jvm.MethodName) "CheckoutDesk") ∈ lw_tbl := lw_at lw_m6 46 rfl
theorem q1289 : (Jvm.Cond.methodLink "CheckoutDesk$15" (32 : Nat) ({ cls := "CheckoutDesk$Store", name := "document", desc := "(I)LCheckoutDesk$Document;" } : Jvm.MethodName)) ∈ lw_all := lw_g (lw_at lw_m6 47 rfl) rfl
theorem q1290 : (Jvm.Cond.methodLinkNest "CheckoutDesk$15" (38 : Nat) ({ cls := "CheckoutDesk", name := "inRange", desc := "(III)Z" } : Jvm.MethodName) "CheckoutDesk") ∈ lw_tbl := lw_at lw_m6 48 rfl
theorem q1291 : (Jvm.Cond.methodLinkNest "CheckoutDesk$15" (42 : Nat) ({ cls := "CheckoutDesk", name := "requireArgument", desc := "(Z)V" } : Jvm.MethodName) "CheckoutDesk") ∈ lw_tbl := lw_at lw_m6 49 rfl
theorem q1292 : (Jvm.Cond.methodLink "CheckoutDesk$15" (46 : Nat) ({ cls := "CheckoutDesk$Store", name := "isWriter", desc := "(II)Z" } : Jvm.MethodName)) ∈ lw_all := lw_g (lw_at lw_m6 50 rfl) rfl
theorem q1293 : (Jvm.Cond.methodLinkNest "CheckoutDesk$15" (50 : Nat) ({ cls := "CheckoutDesk", name := "requireState", desc := "(Z)V" } : Jvm.MethodName) "CheckoutDesk") ∈ lw_tbl := lw_at lw_m6 51 rfl
theorem q1294 : (Jvm.Cond.methodLink "CheckoutDesk$15" (57 : Nat) ({ cls := "CheckoutDesk$Row", name := "hasRoom", desc := "()Z" } : Jvm.MethodName)) ∈ lw_all := lw_g (lw_at lw_m6 52 rfl) rfl
theorem q1295 : (Jvm.Cond.classLink "CheckoutDesk$15" (63 : Nat) "CheckoutDesk$Link") ∈ lw_all := lw_g (lw_at lw_m6 53 rfl) rfl
theorem q1296 : (Jvm.Cond.methodLink "CheckoutDesk$15" (65 : Nat) ({ cls := "CheckoutDesk$Link", name := "<init>", desc := "(IIILCheckoutDesk$Version;)V" } : Jvm.MethodName)) ∈ lw_all := lw_g (lw_at lw_m6 54 rfl) rfl
theorem q1297 : (Jvm.Cond.methodLink "CheckoutDesk$15" (68 : Nat) ({ cls := "CheckoutDesk$Row", name := "add", desc := "(Ljava/lang/Object;)I" } : Jvm.MethodName)) ∈ lw_all := lw_g (lw_at lw_m6 55 rfl) rfl
theorem q2130 : (Jvm.Cond.instantiable "CheckoutDesk$15" (5 : Nat)) ∈ lw_all := lw_g (lw_at lw_m9 168 rfl) rfl
theorem q2132 : (Jvm.Cond.instanceMethod ({ cls := "CheckoutDesk$15", name := "<init>", desc := "(LCheckoutDesk;IIII)V" } : Jvm.MethodName)) ∈ lw_all := lw_g (lw_at lw_m9 170 rfl) rfl
theorem q2133 : (Jvm.Cond.code ({ cls := "CheckoutDesk$15", name := "<init>", desc := "(LCheckoutDesk;IIII)V" } : Jvm.MethodName) prog_8_method_1_code (6 : Nat) (Option.none : Option Jvm.ClassFile.FieldType)) ∈ lw_all := lw_g (lw_at lw_m9 171 rfl) rfl
theorem q2134 : (Jvm.Cond.methodLink "CheckoutDesk$15" (22 : Nat) ({ cls := "java/lang/Object", name := "<init>", desc := "()V" } : Jvm.MethodName)) ∈ lw_all := lw_g (lw_at lw_m9 172 rfl) rfl
theorem q2135 : (Jvm.Cond.fieldLink "CheckoutDesk$15" (9 : Nat) "CheckoutDesk$15" "val$person" "I") ∈ lw_all := lw_g (lw_at lw_m9 173 rfl) rfl
theorem q2136 : (Jvm.Cond.fieldLink "CheckoutDesk$15" (13 : Nat) "CheckoutDesk$15" "val$document" "I") ∈ lw_all := lw_g (lw_at lw_m9 174 rfl) rfl
theorem q2137 : (Jvm.Cond.fieldLink "CheckoutDesk$15" (16 : Nat) "CheckoutDesk$15" "val$target" "I") ∈ lw_all := lw_g (lw_at lw_m9 175 rfl) rfl
theorem q2138 : (Jvm.Cond.fieldLink "CheckoutDesk$15" (19 : Nat) "CheckoutDesk$15" "val$kind" "I") ∈ lw_all := lw_g (lw_at lw_m9 176 rfl) rfl
theorem q2139 : (Jvm.Cond.fieldLink "CheckoutDesk$15" (3 : Nat) "CheckoutDesk$15" "this$0" "LCheckoutDesk;") ∈ lw_all := lw_g (lw_at lw_m9 177 rfl) rfl
theorem q2140 : (Jvm.Cond.laysFinal "CheckoutDesk$15" "CheckoutDesk$15" "val$person" "I") ∈ lw_all := lw_g (lw_at lw_m9 178 rfl) rfl
theorem q2141 : (Jvm.Cond.soleField "CheckoutDesk$15" "val$person") ∈ lw_all := lw_g (lw_at lw_m9 179 rfl) rfl
theorem q2142 : (Jvm.Cond.laysFinal "CheckoutDesk$15" "CheckoutDesk$15" "val$document" "I") ∈ lw_all := lw_g (lw_at lw_m9 180 rfl) rfl
theorem q2143 : (Jvm.Cond.soleField "CheckoutDesk$15" "val$document") ∈ lw_all := lw_g (lw_at lw_m9 181 rfl) rfl
theorem q2144 : (Jvm.Cond.laysFinal "CheckoutDesk$15" "CheckoutDesk$15" "val$target" "I") ∈ lw_all := lw_g (lw_at lw_m9 182 rfl) rfl
theorem q2145 : (Jvm.Cond.soleField "CheckoutDesk$15" "val$target") ∈ lw_all := lw_g (lw_at lw_m9 183 rfl) rfl
theorem q2146 : (Jvm.Cond.laysFinal "CheckoutDesk$15" "CheckoutDesk$15" "val$kind" "I") ∈ lw_all := lw_g (lw_at lw_m9 184 rfl) rfl
theorem q2147 : (Jvm.Cond.soleField "CheckoutDesk$15" "val$kind") ∈ lw_all := lw_g (lw_at lw_m9 185 rfl) rfl
theorem q2148 : (Jvm.Cond.laysFinal "CheckoutDesk$15" "CheckoutDesk$15" "this$0" "LCheckoutDesk;") ∈ lw_all := lw_g (lw_at lw_m9 186 rfl) rfl
theorem q2149 : (Jvm.Cond.soleField "CheckoutDesk$15" "this$0") ∈ lw_all := lw_g (lw_at lw_m9 187 rfl) rfl
theorem q2150 : (Jvm.Cond.superclass "CheckoutDesk$15" "java/lang/Object") ∈ lw_all := lw_g (lw_at lw_m9 188 rfl) rfl
theorem q2718 : (Jvm.Cond.castable "CheckoutDesk$15" "java/lang/Object") ∈ lw_tbl := lw_at lw_m12 36 rfl
theorem in_X30 : ∀ w ∈ wsX300, w ∈ lw_all := lw_in wsX300 [2140, 2142, 2144, 2146, 2148] (by decide +kernel) (by decide +kernel)
/-! CheckoutDesk$16 -/
set_option maxRecDepth 100000
def RX31 : String := "CheckoutDesk$16"
def TX31 : u_T := fun k => match k with
  | 0 => ("CheckoutDesk$16", "val$person", "I", true)
  | 1 => ("CheckoutDesk$16", "val$link", "I", true)
  | _ => ("CheckoutDesk$16", "this$0", "LCheckoutDesk;", true)
def tyX31 : Nat → FieldType := fun k => match k with
  | 0 => .int
  | 1 => .int
  | _ => .object "CheckoutDesk"
abbrev wsX310 : List Cond := u_ws RX31 TX31 3
theorem nmX31 : ∀ a, a < 3 → ∀ b, b < 3 → a ≠ b → (TX31 a).2.1 ≠ (TX31 b).2.1 := by decide +kernel
theorem tyX31_ok : ∀ k, k < 3 → parseFieldDescriptor (TX31 k).2.2.1 = some (tyX31 k) := by decide +kernel
abbrev cX31_on : ByteArray := prog_9_method_2_code
def yX31_on : MethodName := ⟨RX31, "on", "(LCheckoutDesk$Store;)I"⟩
def dkwX31_on_2 : List UInt8 := [87, 44, 180, 0, 40, 172]
abbrev dktX31_on_2 : List UInt8 := dkwX31_on_2 ++ []
def dkwX31_on_1 : List UInt8 := [180, 0, 7, 44, 180, 0, 40, 182, 0, 43, 184, 0, 47, 43, 180, 0, 26, 42, 180, 0, 11, 182, 0, 51]
abbrev dktX31_on_1 : List UInt8 := dkwX31_on_1 ++ dktX31_on_2
def dkwX31_on_0 : List UInt8 := [42, 180, 0, 7, 184, 0, 20, 43, 180, 0, 26, 42, 180, 0, 11, 182, 0, 32, 192, 0, 38, 77, 43, 42]
abbrev dktX31_on_0 : List UInt8 := dkwX31_on_0 ++ dktX31_on_1
theorem dksX31_on_0 : cX31_on.data.toList.drop 0 = dktX31_on_0 := by decide +kernel
theorem dksX31_on_1 : cX31_on.data.toList.drop 24 = dktX31_on_1 := dk_seg dksX31_on_0 24 rfl rfl
theorem dksX31_on_2 : cX31_on.data.toList.drop 48 = dktX31_on_2 := dk_seg dksX31_on_1 24 rfl rfl
theorem dX31_on_0 : decode cX31_on 0 = .ok (.aload_n 0, 1) := dk_42 (dk_at dksX31_on_0 0 rfl rfl)
theorem dX31_on_1 : decode cX31_on 1 = .ok (.getfield 7, 3) := dk_180 0 7 (dk_at dksX31_on_0 1 rfl rfl)
theorem dX31_on_4 : decode cX31_on 4 = .ok (.invokestatic 20, 3) := dk_184 0 20 (dk_at dksX31_on_0 4 rfl rfl)
theorem dX31_on_7 : decode cX31_on 7 = .ok (.aload_n 1, 1) := dk_43 (dk_at dksX31_on_0 7 rfl rfl)
theorem dX31_on_8 : decode cX31_on 8 = .ok (.getfield 26, 3) := dk_180 0 26 (dk_at dksX31_on_0 8 rfl rfl)
theorem dX31_on_11 : decode cX31_on 11 = .ok (.aload_n 0, 1) := dk_42 (dk_at dksX31_on_0 11 rfl rfl)
theorem dX31_on_12 : decode cX31_on 12 = .ok (.getfield 11, 3) := dk_180 0 11 (dk_at dksX31_on_0 12 rfl rfl)
theorem dX31_on_15 : decode cX31_on 15 = .ok (.invokevirtual 32, 3) := dk_182 0 32 (dk_at dksX31_on_0 15 rfl rfl)
theorem dX31_on_18 : decode cX31_on 18 = .ok (.checkcast 38, 3) := dk_192 0 38 (dk_at dksX31_on_0 18 rfl rfl)
theorem dX31_on_21 : decode cX31_on 21 = .ok (.astore_n 2, 1) := dk_77 (dk_at dksX31_on_0 21 rfl rfl)
theorem dX31_on_22 : decode cX31_on 22 = .ok (.aload_n 1, 1) := dk_43 (dk_at dksX31_on_0 22 rfl rfl)
theorem dX31_on_23 : decode cX31_on 23 = .ok (.aload_n 0, 1) := dk_42 (dk_at dksX31_on_0 23 rfl rfl)
theorem dX31_on_24 : decode cX31_on 24 = .ok (.getfield 7, 3) := dk_180 0 7 (dk_at dksX31_on_1 0 rfl rfl)
theorem dX31_on_27 : decode cX31_on 27 = .ok (.aload_n 2, 1) := dk_44 (dk_at dksX31_on_1 3 rfl rfl)
theorem dX31_on_28 : decode cX31_on 28 = .ok (.getfield 40, 3) := dk_180 0 40 (dk_at dksX31_on_1 4 rfl rfl)
theorem dX31_on_31 : decode cX31_on 31 = .ok (.invokevirtual 43, 3) := dk_182 0 43 (dk_at dksX31_on_1 7 rfl rfl)
theorem dX31_on_34 : decode cX31_on 34 = .ok (.invokestatic 47, 3) := dk_184 0 47 (dk_at dksX31_on_1 10 rfl rfl)
theorem dX31_on_37 : decode cX31_on 37 = .ok (.aload_n 1, 1) := dk_43 (dk_at dksX31_on_1 13 rfl rfl)
theorem dX31_on_38 : decode cX31_on 38 = .ok (.getfield 26, 3) := dk_180 0 26 (dk_at dksX31_on_1 14 rfl rfl)
theorem dX31_on_41 : decode cX31_on 41 = .ok (.aload_n 0, 1) := dk_42 (dk_at dksX31_on_1 17 rfl rfl)
theorem dX31_on_42 : decode cX31_on 42 = .ok (.getfield 11, 3) := dk_180 0 11 (dk_at dksX31_on_1 18 rfl rfl)
theorem dX31_on_45 : decode cX31_on 45 = .ok (.invokevirtual 51, 3) := dk_182 0 51 (dk_at dksX31_on_1 21 rfl rfl)
theorem dX31_on_48 : decode cX31_on 48 = .ok (.pop, 1) := dk_87 (dk_at dksX31_on_2 0 rfl rfl)
theorem dX31_on_49 : decode cX31_on 49 = .ok (.aload_n 2, 1) := dk_44 (dk_at dksX31_on_2 1 rfl rfl)
theorem dX31_on_50 : decode cX31_on 50 = .ok (.getfield 40, 3) := dk_180 0 40 (dk_at dksX31_on_2 2 rfl rfl)
theorem dX31_on_53 : decode cX31_on 53 = .ok (.ireturn, 1) := dk_172 (dk_at dksX31_on_2 5 rfl rfl)
abbrev cX31_init : ByteArray := prog_9_method_1_code
def yX31_init : MethodName := ⟨RX31, "<init>", "(LCheckoutDesk;II)V"⟩
def dkwX31_init_0 : List UInt8 := [42, 43, 181, 0, 1, 42, 28, 181, 0, 7, 42, 29, 181, 0, 11, 42, 183, 0, 14, 177]
abbrev dktX31_init_0 : List UInt8 := dkwX31_init_0 ++ []
theorem dksX31_init_0 : cX31_init.data.toList.drop 0 = dktX31_init_0 := by decide +kernel
theorem dX31_init_0 : decode cX31_init 0 = .ok (.aload_n 0, 1) := dk_42 (dk_at dksX31_init_0 0 rfl rfl)
theorem dX31_init_1 : decode cX31_init 1 = .ok (.aload_n 1, 1) := dk_43 (dk_at dksX31_init_0 1 rfl rfl)
theorem dX31_init_2 : decode cX31_init 2 = .ok (.putfield 1, 3) := dk_181 0 1 (dk_at dksX31_init_0 2 rfl rfl)
theorem dX31_init_5 : decode cX31_init 5 = .ok (.aload_n 0, 1) := dk_42 (dk_at dksX31_init_0 5 rfl rfl)
theorem dX31_init_6 : decode cX31_init 6 = .ok (.iload_n 2, 1) := dk_28 (dk_at dksX31_init_0 6 rfl rfl)
theorem dX31_init_7 : decode cX31_init 7 = .ok (.putfield 7, 3) := dk_181 0 7 (dk_at dksX31_init_0 7 rfl rfl)
theorem dX31_init_10 : decode cX31_init 10 = .ok (.aload_n 0, 1) := dk_42 (dk_at dksX31_init_0 10 rfl rfl)
theorem dX31_init_11 : decode cX31_init 11 = .ok (.iload_n 3, 1) := dk_29 (dk_at dksX31_init_0 11 rfl rfl)
theorem dX31_init_12 : decode cX31_init 12 = .ok (.putfield 11, 3) := dk_181 0 11 (dk_at dksX31_init_0 12 rfl rfl)
theorem dX31_init_15 : decode cX31_init 15 = .ok (.aload_n 0, 1) := dk_42 (dk_at dksX31_init_0 15 rfl rfl)
theorem dX31_init_16 : decode cX31_init 16 = .ok (.invokespecial 14, 3) := dk_183 0 14 (dk_at dksX31_init_0 16 rfl rfl)
theorem dX31_init_19 : decode cX31_init 19 = .ok (.return_, 1) := dk_177 (dk_at dksX31_init_0 19 rfl rfl)
theorem q97 : (Jvm.Cond.initialized "CheckoutDesk$16") ∈ lw_all := lw_g (lw_at lw_m1 55 rfl) rfl
theorem q176 : (Jvm.Cond.fieldLinkNest "CheckoutDesk$16" (26 : Nat) "CheckoutDesk$Store" "links" "LCheckoutDesk$Row;" "CheckoutDesk") ∈ lw_tbl := lw_at lw_m1 134 rfl
theorem q1105 : (Jvm.Cond.selects "CheckoutDesk$16" ({ cls := "java/lang/Object", name := "getClass", desc := "()Ljava/lang/Class;" } : Jvm.MethodName) ({ cls := "java/lang/Object", name := "getClass", desc := "()Ljava/lang/Class;" } : Jvm.MethodName)) ∈ lw_all := lw_g (lw_at lw_m5 103 rfl) rfl
theorem q1263 : (Jvm.Cond.fieldLinkNest "CheckoutDesk$16" (40 : Nat) "CheckoutDesk$Link" "from" "I" "CheckoutDesk") ∈ lw_tbl := lw_at lw_m6 21 rfl
theorem q1298 : (Jvm.Cond.castable "CheckoutDesk$16" "CheckoutDesk$Act") ∈ lw_tbl := lw_at lw_m6 56 rfl
theorem q1299 : (Jvm.Cond.selects "CheckoutDesk$16" ({ cls := "CheckoutDesk$Act", name := "on", desc := "(LCheckoutDesk$Store;)I" } : Jvm.MethodName) ({ cls := "CheckoutDesk$16", name := "on", desc := "(LCheckoutDesk$Store;)I" } : Jvm.MethodName)) ∈ lw_all := lw_g (lw_at lw_m6 57 rfl) rfl
theorem q1300 : (Jvm.Cond.unhidden "CheckoutDesk$16" "on" "(LCheckoutDesk$Store;)I") ∈ lw_tbl := lw_at lw_m6 58 rfl
theorem q1301 : (Jvm.Cond.instanceMethod ({ cls := "CheckoutDesk$16", name := "on", desc := "(LCheckoutDesk$Store;)I" } : Jvm.MethodName)) ∈ lw_all := lw_g (lw_at lw_m6 59 rfl) rfl
theorem q1302 : (Jvm.Cond.publicMethod ({ cls := "CheckoutDesk$16", name := "on", desc := "(LCheckoutDesk$Store;)I" } : Jvm.MethodName)) ∈ lw_tbl := lw_at lw_m6 60 rfl
theorem q1303 : (Jvm.Cond.code ({ cls := "CheckoutDesk$16", name := "on", desc := "(LCheckoutDesk$Store;)I" } : Jvm.MethodName) prog_9_method_2_code (3 : Nat) (Option.some Jvm.ClassFile.FieldType.int)) ∈ lw_all := lw_g (lw_at lw_m6 61 rfl) rfl
theorem q1304 : (Jvm.Cond.methodLinkNest "CheckoutDesk$16" (20 : Nat) ({ cls := "CheckoutDesk", name := "requirePerson", desc := "(I)V" } : Jvm.MethodName) "CheckoutDesk") ∈ lw_tbl := lw_at lw_m6 62 rfl
theorem q1305 : (Jvm.Cond.methodLink "CheckoutDesk$16" (32 : Nat) ({ cls := "CheckoutDesk$Row", name := "get", desc := "(I)Ljava/lang/Object;" } : Jvm.MethodName)) ∈ lw_all := lw_g (lw_at lw_m6 63 rfl) rfl
theorem q1306 : (Jvm.Cond.classLink "CheckoutDesk$16" (38 : Nat) "CheckoutDesk$Link") ∈ lw_all := lw_g (lw_at lw_m6 64 rfl) rfl
theorem q1307 : (Jvm.Cond.methodLink "CheckoutDesk$16" (43 : Nat) ({ cls := "CheckoutDesk$Store", name := "isWriter", desc := "(II)Z" } : Jvm.MethodName)) ∈ lw_all := lw_g (lw_at lw_m6 65 rfl) rfl
theorem q1308 : (Jvm.Cond.methodLinkNest "CheckoutDesk$16" (47 : Nat) ({ cls := "CheckoutDesk", name := "requireState", desc := "(Z)V" } : Jvm.MethodName) "CheckoutDesk") ∈ lw_tbl := lw_at lw_m6 66 rfl
theorem q1309 : (Jvm.Cond.methodLink "CheckoutDesk$16" (51 : Nat) ({ cls := "CheckoutDesk$Row", name := "remove", desc := "(I)Ljava/lang/Object;" } : Jvm.MethodName)) ∈ lw_all := lw_g (lw_at lw_m6 67 rfl) rfl
theorem q2159 : (Jvm.Cond.instantiable "CheckoutDesk$16" (3 : Nat)) ∈ lw_all := lw_g (lw_at lw_m9 197 rfl) rfl
theorem q2161 : (Jvm.Cond.instanceMethod ({ cls := "CheckoutDesk$16", name := "<init>", desc := "(LCheckoutDesk;II)V" } : Jvm.MethodName)) ∈ lw_all := lw_g (lw_at lw_m9 199 rfl) rfl
theorem q2162 : (Jvm.Cond.code ({ cls := "CheckoutDesk$16", name := "<init>", desc := "(LCheckoutDesk;II)V" } : Jvm.MethodName) prog_9_method_1_code (4 : Nat) (Option.none : Option Jvm.ClassFile.FieldType)) ∈ lw_all := lw_g (lw_at lw_m9 200 rfl) rfl
theorem q2163 : (Jvm.Cond.methodLink "CheckoutDesk$16" (14 : Nat) ({ cls := "java/lang/Object", name := "<init>", desc := "()V" } : Jvm.MethodName)) ∈ lw_all := lw_g (lw_at lw_m9 201 rfl) rfl
theorem q2164 : (Jvm.Cond.fieldLink "CheckoutDesk$16" (7 : Nat) "CheckoutDesk$16" "val$person" "I") ∈ lw_all := lw_g (lw_at lw_m9 202 rfl) rfl
theorem q2165 : (Jvm.Cond.fieldLink "CheckoutDesk$16" (11 : Nat) "CheckoutDesk$16" "val$link" "I") ∈ lw_all := lw_g (lw_at lw_m9 203 rfl) rfl
theorem q2166 : (Jvm.Cond.fieldLink "CheckoutDesk$16" (1 : Nat) "CheckoutDesk$16" "this$0" "LCheckoutDesk;") ∈ lw_all := lw_g (lw_at lw_m9 204 rfl) rfl
theorem q2167 : (Jvm.Cond.laysFinal "CheckoutDesk$16" "CheckoutDesk$16" "val$person" "I") ∈ lw_all := lw_g (lw_at lw_m9 205 rfl) rfl
theorem q2168 : (Jvm.Cond.soleField "CheckoutDesk$16" "val$person") ∈ lw_all := lw_g (lw_at lw_m9 206 rfl) rfl
theorem q2169 : (Jvm.Cond.laysFinal "CheckoutDesk$16" "CheckoutDesk$16" "val$link" "I") ∈ lw_all := lw_g (lw_at lw_m9 207 rfl) rfl
theorem q2170 : (Jvm.Cond.soleField "CheckoutDesk$16" "val$link") ∈ lw_all := lw_g (lw_at lw_m9 208 rfl) rfl
theorem q2171 : (Jvm.Cond.laysFinal "CheckoutDesk$16" "CheckoutDesk$16" "this$0" "LCheckoutDesk;") ∈ lw_all := lw_g (lw_at lw_m9 209 rfl) rfl
theorem q2172 : (Jvm.Cond.soleField "CheckoutDesk$16" "this$0") ∈ lw_all := lw_g (lw_at lw_m9 210 rfl) rfl
theorem q2173 : (Jvm.Cond.superclass "CheckoutDesk$16" "java/lang/Object") ∈ lw_all := lw_g (lw_at lw_m9 211 rfl) rfl
theorem q2719 : (Jvm.Cond.castable "CheckoutDesk$16" "java/lang/Object") ∈ lw_tbl := lw_at lw_m12 37 rfl
theorem in_X31 : ∀ w ∈ wsX310, w ∈ lw_all := lw_in wsX310 [2167, 2169, 2171] (by decide +kernel) (by decide +kernel)
/-! CheckoutDesk$17 -/
set_option maxRecDepth 100000
def RX32 : String := "CheckoutDesk$17"
def TX32 : u_T := fun k => match k with
  | 0 => ("CheckoutDesk$17", "val$owner", "I", true)
  | 1 => ("CheckoutDesk$17", "val$its", "LCheckoutDesk$Version;", true)
  | _ => ("CheckoutDesk$17", "this$0", "LCheckoutDesk;", true)
def tyX32 : Nat → FieldType := fun k => match k with
  | 0 => .int
  | 1 => .object "CheckoutDesk$Version"
  | _ => .object "CheckoutDesk"
abbrev wsX320 : List Cond := u_ws RX32 TX32 3
theorem nmX32 : ∀ a, a < 3 → ∀ b, b < 3 → a ≠ b → (TX32 a).2.1 ≠ (TX32 b).2.1 := by decide +kernel
theorem tyX32_ok : ∀ k, k < 3 → parseFieldDescriptor (TX32 k).2.2.1 = some (tyX32 k) := by decide +kernel
abbrev cX32_fits : ByteArray := prog_10_method_3_code
def yX32_fits : MethodName := ⟨RX32, "fits", "(Ljava/lang/Object;)Z"⟩
def dkwX32_fits_0 : List UInt8 := [42, 43, 192, 0, 33, 182, 0, 35, 172]
abbrev dktX32_fits_0 : List UInt8 := dkwX32_fits_0 ++ []
theorem dksX32_fits_0 : cX32_fits.data.toList.drop 0 = dktX32_fits_0 := by decide +kernel
theorem dX32_fits_0 : decode cX32_fits 0 = .ok (.aload_n 0, 1) := dk_42 (dk_at dksX32_fits_0 0 rfl rfl)
theorem dX32_fits_1 : decode cX32_fits 1 = .ok (.aload_n 1, 1) := dk_43 (dk_at dksX32_fits_0 1 rfl rfl)
theorem dX32_fits_2 : decode cX32_fits 2 = .ok (.checkcast 33, 3) := dk_192 0 33 (dk_at dksX32_fits_0 2 rfl rfl)
theorem dX32_fits_5 : decode cX32_fits 5 = .ok (.invokevirtual 35, 3) := dk_182 0 35 (dk_at dksX32_fits_0 5 rfl rfl)
theorem dX32_fits_8 : decode cX32_fits 8 = .ok (.ireturn, 1) := dk_172 (dk_at dksX32_fits_0 8 rfl rfl)
abbrev cX32_fits_2 : ByteArray := prog_10_method_2_code
def yX32_fits_2 : MethodName := ⟨RX32, "fits", "(LCheckoutDesk$Link;)Z"⟩
def dkwX32_fits_2_1 : List UInt8 := [167, 0, 4, 3, 172]
abbrev dktX32_fits_2_1 : List UInt8 := dkwX32_fits_2_1 ++ []
def dkwX32_fits_2_0 : List UInt8 := [42, 180, 0, 1, 180, 0, 21, 43, 42, 180, 0, 7, 182, 0, 27, 42, 180, 0, 11, 166, 0, 7, 4]
abbrev dktX32_fits_2_0 : List UInt8 := dkwX32_fits_2_0 ++ dktX32_fits_2_1
theorem dksX32_fits_2_0 : cX32_fits_2.data.toList.drop 0 = dktX32_fits_2_0 := by decide +kernel
theorem dksX32_fits_2_1 : cX32_fits_2.data.toList.drop 23 = dktX32_fits_2_1 := dk_seg dksX32_fits_2_0 23 rfl rfl
theorem dX32_fits_2_0 : decode cX32_fits_2 0 = .ok (.aload_n 0, 1) := dk_42 (dk_at dksX32_fits_2_0 0 rfl rfl)
theorem dX32_fits_2_1 : decode cX32_fits_2 1 = .ok (.getfield 1, 3) := dk_180 0 1 (dk_at dksX32_fits_2_0 1 rfl rfl)
theorem dX32_fits_2_4 : decode cX32_fits_2 4 = .ok (.getfield 21, 3) := dk_180 0 21 (dk_at dksX32_fits_2_0 4 rfl rfl)
theorem dX32_fits_2_7 : decode cX32_fits_2 7 = .ok (.aload_n 1, 1) := dk_43 (dk_at dksX32_fits_2_0 7 rfl rfl)
theorem dX32_fits_2_8 : decode cX32_fits_2 8 = .ok (.aload_n 0, 1) := dk_42 (dk_at dksX32_fits_2_0 8 rfl rfl)
theorem dX32_fits_2_9 : decode cX32_fits_2 9 = .ok (.getfield 7, 3) := dk_180 0 7 (dk_at dksX32_fits_2_0 9 rfl rfl)
theorem dX32_fits_2_12 : decode cX32_fits_2 12 = .ok (.invokevirtual 27, 3) := dk_182 0 27 (dk_at dksX32_fits_2_0 12 rfl rfl)
theorem dX32_fits_2_15 : decode cX32_fits_2 15 = .ok (.aload_n 0, 1) := dk_42 (dk_at dksX32_fits_2_0 15 rfl rfl)
theorem dX32_fits_2_16 : decode cX32_fits_2 16 = .ok (.getfield 11, 3) := dk_180 0 11 (dk_at dksX32_fits_2_0 16 rfl rfl)
theorem dX32_fits_2_19 : decode cX32_fits_2 19 = .ok (.if_acmp .ne 7, 3) := dk_166 0 7 (dk_at dksX32_fits_2_0 19 rfl rfl)
theorem dX32_fits_2_22 : decode cX32_fits_2 22 = .ok (.iconst 1, 1) := dk_4 (dk_at dksX32_fits_2_0 22 rfl rfl)
theorem dX32_fits_2_23 : decode cX32_fits_2 23 = .ok (.goto 4, 3) := dk_167 0 4 (dk_at dksX32_fits_2_1 0 rfl rfl)
theorem dX32_fits_2_26 : decode cX32_fits_2 26 = .ok (.iconst 0, 1) := dk_3 (dk_at dksX32_fits_2_1 3 rfl rfl)
theorem dX32_fits_2_27 : decode cX32_fits_2 27 = .ok (.ireturn, 1) := dk_172 (dk_at dksX32_fits_2_1 4 rfl rfl)
abbrev cX32_init : ByteArray := prog_10_method_1_code
def yX32_init : MethodName := ⟨RX32, "<init>", "(LCheckoutDesk;ILCheckoutDesk$Version;)V"⟩
def dkwX32_init_0 : List UInt8 := [42, 43, 181, 0, 1, 42, 28, 181, 0, 7, 42, 45, 181, 0, 11, 42, 183, 0, 15, 177]
abbrev dktX32_init_0 : List UInt8 := dkwX32_init_0 ++ []
theorem dksX32_init_0 : cX32_init.data.toList.drop 0 = dktX32_init_0 := by decide +kernel
theorem dX32_init_0 : decode cX32_init 0 = .ok (.aload_n 0, 1) := dk_42 (dk_at dksX32_init_0 0 rfl rfl)
theorem dX32_init_1 : decode cX32_init 1 = .ok (.aload_n 1, 1) := dk_43 (dk_at dksX32_init_0 1 rfl rfl)
theorem dX32_init_2 : decode cX32_init 2 = .ok (.putfield 1, 3) := dk_181 0 1 (dk_at dksX32_init_0 2 rfl rfl)
theorem dX32_init_5 : decode cX32_init 5 = .ok (.aload_n 0, 1) := dk_42 (dk_at dksX32_init_0 5 rfl rfl)
theorem dX32_init_6 : decode cX32_init 6 = .ok (.iload_n 2, 1) := dk_28 (dk_at dksX32_init_0 6 rfl rfl)
theorem dX32_init_7 : decode cX32_init 7 = .ok (.putfield 7, 3) := dk_181 0 7 (dk_at dksX32_init_0 7 rfl rfl)
theorem dX32_init_10 : decode cX32_init 10 = .ok (.aload_n 0, 1) := dk_42 (dk_at dksX32_init_0 10 rfl rfl)
theorem dX32_init_11 : decode cX32_init 11 = .ok (.aload_n 3, 1) := dk_45 (dk_at dksX32_init_0 11 rfl rfl)
theorem dX32_init_12 : decode cX32_init 12 = .ok (.putfield 11, 3) := dk_181 0 11 (dk_at dksX32_init_0 12 rfl rfl)
theorem dX32_init_15 : decode cX32_init 15 = .ok (.aload_n 0, 1) := dk_42 (dk_at dksX32_init_0 15 rfl rfl)
theorem dX32_init_16 : decode cX32_init 16 = .ok (.invokespecial 15, 3) := dk_183 0 15 (dk_at dksX32_init_0 16 rfl rfl)
theorem dX32_init_19 : decode cX32_init 19 = .ok (.return_, 1) := dk_177 (dk_at dksX32_init_0 19 rfl rfl)
theorem q99 : (Jvm.Cond.initialized "CheckoutDesk$17") ∈ lw_all := lw_g (lw_at lw_m1 57 rfl) rfl
theorem q203 : (Jvm.Cond.fieldLinkNest "CheckoutDesk$17" (21 : Nat) "CheckoutDesk" "now" "LCheckoutDesk$Store;" "CheckoutDesk") ∈ lw_tbl := lw_at lw_m1 161 rfl
theorem q272 : (Jvm.Cond.castable "CheckoutDesk$17" "CheckoutDesk$Test") ∈ lw_tbl := lw_at lw_m1 230 rfl
theorem q273 : (Jvm.Cond.selects "CheckoutDesk$17" ({ cls := "CheckoutDesk$Test", name := "fits", desc := "(Ljava/lang/Object;)Z" } : Jvm.MethodName) ({ cls := "CheckoutDesk$17", name := "fits", desc := "(Ljava/lang/Object;)Z" } : Jvm.MethodName)) ∈ lw_all := lw_g (lw_at lw_m1 231 rfl) rfl
theorem q274 : (Jvm.Cond.unhidden "CheckoutDesk$17" "fits" "(Ljava/lang/Object;)Z") ∈ lw_tbl := lw_at lw_m1 232 rfl
theorem q275 : (Jvm.Cond.instanceMethod ({ cls := "CheckoutDesk$17", name := "fits", desc := "(Ljava/lang/Object;)Z" } : Jvm.MethodName)) ∈ lw_all := lw_g (lw_at lw_m1 233 rfl) rfl
theorem q276 : (Jvm.Cond.publicMethod ({ cls := "CheckoutDesk$17", name := "fits", desc := "(Ljava/lang/Object;)Z" } : Jvm.MethodName)) ∈ lw_tbl := lw_at lw_m1 234 rfl
theorem q277 : (Jvm.Cond.code ({ cls := "CheckoutDesk$17", name := "fits", desc := "(Ljava/lang/Object;)Z" } : Jvm.MethodName) prog_10_method_3_code (2 : Nat) (Option.some Jvm.ClassFile.FieldType.boolean)) ∈ lw_all := lw_g (lw_at lw_m1 235 rfl) rfl
theorem q278 : (Jvm.Cond.classLink "CheckoutDesk$17" (33 : Nat) "CheckoutDesk$Link") ∈ lw_all := lw_g (lw_at lw_m1 236 rfl) rfl
theorem q279 : (Jvm.Cond.methodLink "CheckoutDesk$17" (35 : Nat) ({ cls := "CheckoutDesk$17", name := "fits", desc := "(LCheckoutDesk$Link;)Z" } : Jvm.MethodName)) ∈ lw_all := lw_g (lw_at lw_m1 237 rfl) rfl
theorem q280 : (Jvm.Cond.instanceMethod ({ cls := "CheckoutDesk$17", name := "fits", desc := "(LCheckoutDesk$Link;)Z" } : Jvm.MethodName)) ∈ lw_all := lw_g (lw_at lw_m1 238 rfl) rfl
theorem q281 : (Jvm.Cond.selects "CheckoutDesk$17" ({ cls := "CheckoutDesk$17", name := "fits", desc := "(LCheckoutDesk$Link;)Z" } : Jvm.MethodName) ({ cls := "CheckoutDesk$17", name := "fits", desc := "(LCheckoutDesk$Link;)Z" } : Jvm.MethodName)) ∈ lw_all := lw_g (lw_at lw_m1 239 rfl) rfl
theorem q282 : (Jvm.Cond.code ({ cls := "CheckoutDesk$17", name := "fits", desc := "(LCheckoutDesk$Link;)Z" } : Jvm.MethodName) prog_10_method_2_code (2 : Nat) (Option.some Jvm.ClassFile.FieldType.boolean)) ∈ lw_all := lw_g (lw_at lw_m2 0 rfl) rfl
theorem q283 : (Jvm.Cond.methodLink "CheckoutDesk$17" (27 : Nat) ({ cls := "CheckoutDesk$Store", name := "opened", desc := "(LCheckoutDesk$Link;I)LCheckoutDesk$Version;" } : Jvm.MethodName)) ∈ lw_all := lw_g (lw_at lw_m2 1 rfl) rfl
theorem q1106 : (Jvm.Cond.selects "CheckoutDesk$17" ({ cls := "java/lang/Object", name := "getClass", desc := "()Ljava/lang/Class;" } : Jvm.MethodName) ({ cls := "java/lang/Object", name := "getClass", desc := "()Ljava/lang/Class;" } : Jvm.MethodName)) ∈ lw_all := lw_g (lw_at lw_m5 104 rfl) rfl
theorem q2278 : (Jvm.Cond.instantiable "CheckoutDesk$17" (3 : Nat)) ∈ lw_all := lw_g (lw_at lw_m10 76 rfl) rfl
theorem q2280 : (Jvm.Cond.instanceMethod ({ cls := "CheckoutDesk$17", name := "<init>", desc := "(LCheckoutDesk;ILCheckoutDesk$Version;)V" } : Jvm.MethodName)) ∈ lw_all := lw_g (lw_at lw_m10 78 rfl) rfl
theorem q2281 : (Jvm.Cond.code ({ cls := "CheckoutDesk$17", name := "<init>", desc := "(LCheckoutDesk;ILCheckoutDesk$Version;)V" } : Jvm.MethodName) prog_10_method_1_code (4 : Nat) (Option.none : Option Jvm.ClassFile.FieldType)) ∈ lw_all := lw_g (lw_at lw_m10 79 rfl) rfl
theorem q2282 : (Jvm.Cond.methodLink "CheckoutDesk$17" (15 : Nat) ({ cls := "java/lang/Object", name := "<init>", desc := "()V" } : Jvm.MethodName)) ∈ lw_all := lw_g (lw_at lw_m10 80 rfl) rfl
theorem q2283 : (Jvm.Cond.fieldLink "CheckoutDesk$17" (7 : Nat) "CheckoutDesk$17" "val$owner" "I") ∈ lw_all := lw_g (lw_at lw_m10 81 rfl) rfl
theorem q2284 : (Jvm.Cond.fieldLink "CheckoutDesk$17" (11 : Nat) "CheckoutDesk$17" "val$its" "LCheckoutDesk$Version;") ∈ lw_all := lw_g (lw_at lw_m10 82 rfl) rfl
theorem q2285 : (Jvm.Cond.fieldLink "CheckoutDesk$17" (1 : Nat) "CheckoutDesk$17" "this$0" "LCheckoutDesk;") ∈ lw_all := lw_g (lw_at lw_m10 83 rfl) rfl
theorem q2286 : (Jvm.Cond.laysFinal "CheckoutDesk$17" "CheckoutDesk$17" "val$owner" "I") ∈ lw_all := lw_g (lw_at lw_m10 84 rfl) rfl
theorem q2287 : (Jvm.Cond.soleField "CheckoutDesk$17" "val$owner") ∈ lw_all := lw_g (lw_at lw_m10 85 rfl) rfl
theorem q2288 : (Jvm.Cond.laysFinal "CheckoutDesk$17" "CheckoutDesk$17" "val$its" "LCheckoutDesk$Version;") ∈ lw_all := lw_g (lw_at lw_m10 86 rfl) rfl
theorem q2289 : (Jvm.Cond.soleField "CheckoutDesk$17" "val$its") ∈ lw_all := lw_g (lw_at lw_m10 87 rfl) rfl
theorem q2290 : (Jvm.Cond.laysFinal "CheckoutDesk$17" "CheckoutDesk$17" "this$0" "LCheckoutDesk;") ∈ lw_all := lw_g (lw_at lw_m10 88 rfl) rfl
theorem q2291 : (Jvm.Cond.soleField "CheckoutDesk$17" "this$0") ∈ lw_all := lw_g (lw_at lw_m10 89 rfl) rfl
theorem q2292 : (Jvm.Cond.superclass "CheckoutDesk$17" "java/lang/Object") ∈ lw_all := lw_g (lw_at lw_m10 90 rfl) rfl
theorem q2722 : (Jvm.Cond.castable "CheckoutDesk$17" "java/lang/Object") ∈ lw_tbl := lw_at lw_m12 40 rfl
theorem in_X32 : ∀ w ∈ wsX320, w ∈ lw_all := lw_in wsX320 [2286, 2288, 2290] (by decide +kernel) (by decide +kernel)
/-! CheckoutDesk$18 -/
set_option maxRecDepth 100000
def RX33 : String := "CheckoutDesk$18"
def TX33 : u_T := fun k => match k with
  | _ => ("CheckoutDesk$18", "this$0", "LCheckoutDesk;", true)
def tyX33 : Nat → FieldType := fun k => match k with
  | _ => .object "CheckoutDesk"
abbrev wsX330 : List Cond := u_ws RX33 TX33 1
theorem nmX33 : ∀ a, a < 1 → ∀ b, b < 1 → a ≠ b → (TX33 a).2.1 ≠ (TX33 b).2.1 := by decide +kernel
theorem tyX33_ok : ∀ k, k < 1 → parseFieldDescriptor (TX33 k).2.2.1 = some (tyX33 k) := by decide +kernel
abbrev cX33_init : ByteArray := prog_11_method_1_code
def yX33_init : MethodName := ⟨RX33, "<init>", "(LCheckoutDesk;)V"⟩
def dkwX33_init_0 : List UInt8 := [42, 43, 181, 0, 1, 42, 183, 0, 7, 177]
abbrev dktX33_init_0 : List UInt8 := dkwX33_init_0 ++ []
theorem dksX33_init_0 : cX33_init.data.toList.drop 0 = dktX33_init_0 := by decide +kernel
theorem dX33_init_0 : decode cX33_init 0 = .ok (.aload_n 0, 1) := dk_42 (dk_at dksX33_init_0 0 rfl rfl)
theorem dX33_init_1 : decode cX33_init 1 = .ok (.aload_n 1, 1) := dk_43 (dk_at dksX33_init_0 1 rfl rfl)
theorem dX33_init_2 : decode cX33_init 2 = .ok (.putfield 1, 3) := dk_181 0 1 (dk_at dksX33_init_0 2 rfl rfl)
theorem dX33_init_5 : decode cX33_init 5 = .ok (.aload_n 0, 1) := dk_42 (dk_at dksX33_init_0 5 rfl rfl)
theorem dX33_init_6 : decode cX33_init 6 = .ok (.invokespecial 7, 3) := dk_183 0 7 (dk_at dksX33_init_0 6 rfl rfl)
theorem dX33_init_9 : decode cX33_init 9 = .ok (.return_, 1) := dk_177 (dk_at dksX33_init_0 9 rfl rfl)
abbrev cX33_fits : ByteArray := prog_11_method_3_code
def yX33_fits : MethodName := ⟨RX33, "fits", "(Ljava/lang/Object;)Z"⟩
def dkwX33_fits_0 : List UInt8 := [42, 43, 192, 0, 14, 182, 0, 19, 172]
abbrev dktX33_fits_0 : List UInt8 := dkwX33_fits_0 ++ []
theorem dksX33_fits_0 : cX33_fits.data.toList.drop 0 = dktX33_fits_0 := by decide +kernel
theorem dX33_fits_0 : decode cX33_fits 0 = .ok (.aload_n 0, 1) := dk_42 (dk_at dksX33_fits_0 0 rfl rfl)
theorem dX33_fits_1 : decode cX33_fits 1 = .ok (.aload_n 1, 1) := dk_43 (dk_at dksX33_fits_0 1 rfl rfl)
theorem dX33_fits_2 : decode cX33_fits 2 = .ok (.checkcast 14, 3) := dk_192 0 14 (dk_at dksX33_fits_0 2 rfl rfl)
theorem dX33_fits_5 : decode cX33_fits 5 = .ok (.invokevirtual 19, 3) := dk_182 0 19 (dk_at dksX33_fits_0 5 rfl rfl)
theorem dX33_fits_8 : decode cX33_fits 8 = .ok (.ireturn, 1) := dk_172 (dk_at dksX33_fits_0 8 rfl rfl)
abbrev cX33_fits_2 : ByteArray := prog_11_method_2_code
def yX33_fits_2 : MethodName := ⟨RX33, "fits", "(LCheckoutDesk$Content;)Z"⟩
def dkwX33_fits_2_0 : List UInt8 := [43, 182, 0, 13, 154, 0, 7, 4, 167, 0, 4, 3, 172]
abbrev dktX33_fits_2_0 : List UInt8 := dkwX33_fits_2_0 ++ []
theorem dksX33_fits_2_0 : cX33_fits_2.data.toList.drop 0 = dktX33_fits_2_0 := by decide +kernel
theorem dX33_fits_2_0 : decode cX33_fits_2 0 = .ok (.aload_n 1, 1) := dk_43 (dk_at dksX33_fits_2_0 0 rfl rfl)
theorem dX33_fits_2_1 : decode cX33_fits_2 1 = .ok (.invokevirtual 13, 3) := dk_182 0 13 (dk_at dksX33_fits_2_0 1 rfl rfl)
theorem dX33_fits_2_4 : decode cX33_fits_2 4 = .ok (.ifCond .ne 7, 3) := dk_154 0 7 (dk_at dksX33_fits_2_0 4 rfl rfl)
theorem dX33_fits_2_7 : decode cX33_fits_2 7 = .ok (.iconst 1, 1) := dk_4 (dk_at dksX33_fits_2_0 7 rfl rfl)
theorem dX33_fits_2_8 : decode cX33_fits_2 8 = .ok (.goto 4, 3) := dk_167 0 4 (dk_at dksX33_fits_2_0 8 rfl rfl)
theorem dX33_fits_2_11 : decode cX33_fits_2 11 = .ok (.iconst 0, 1) := dk_3 (dk_at dksX33_fits_2_0 11 rfl rfl)
theorem dX33_fits_2_12 : decode cX33_fits_2 12 = .ok (.ireturn, 1) := dk_172 (dk_at dksX33_fits_2_0 12 rfl rfl)
theorem q100 : (Jvm.Cond.initialized "CheckoutDesk$18") ∈ lw_all := lw_g (lw_at lw_m1 58 rfl) rfl
theorem q241 : (Jvm.Cond.instantiable "CheckoutDesk$18" (1 : Nat)) ∈ lw_all := lw_g (lw_at lw_m1 199 rfl) rfl
theorem q243 : (Jvm.Cond.instanceMethod ({ cls := "CheckoutDesk$18", name := "<init>", desc := "(LCheckoutDesk;)V" } : Jvm.MethodName)) ∈ lw_all := lw_g (lw_at lw_m1 201 rfl) rfl
theorem q244 : (Jvm.Cond.code ({ cls := "CheckoutDesk$18", name := "<init>", desc := "(LCheckoutDesk;)V" } : Jvm.MethodName) prog_11_method_1_code (2 : Nat) (Option.none : Option Jvm.ClassFile.FieldType)) ∈ lw_all := lw_g (lw_at lw_m1 202 rfl) rfl
theorem q245 : (Jvm.Cond.methodLink "CheckoutDesk$18" (7 : Nat) ({ cls := "java/lang/Object", name := "<init>", desc := "()V" } : Jvm.MethodName)) ∈ lw_all := lw_g (lw_at lw_m1 203 rfl) rfl
theorem q246 : (Jvm.Cond.fieldLink "CheckoutDesk$18" (1 : Nat) "CheckoutDesk$18" "this$0" "LCheckoutDesk;") ∈ lw_all := lw_g (lw_at lw_m1 204 rfl) rfl
theorem q247 : (Jvm.Cond.laysFinal "CheckoutDesk$18" "CheckoutDesk$18" "this$0" "LCheckoutDesk;") ∈ lw_all := lw_g (lw_at lw_m1 205 rfl) rfl
theorem q248 : (Jvm.Cond.soleField "CheckoutDesk$18" "this$0") ∈ lw_all := lw_g (lw_at lw_m1 206 rfl) rfl
theorem q249 : (Jvm.Cond.superclass "CheckoutDesk$18" "java/lang/Object") ∈ lw_all := lw_g (lw_at lw_m1 207 rfl) rfl
theorem q413 : (Jvm.Cond.castable "CheckoutDesk$18" "CheckoutDesk$Test") ∈ lw_tbl := lw_at lw_m2 131 rfl
theorem q414 : (Jvm.Cond.selects "CheckoutDesk$18" ({ cls := "CheckoutDesk$Test", name := "fits", desc := "(Ljava/lang/Object;)Z" } : Jvm.MethodName) ({ cls := "CheckoutDesk$18", name := "fits", desc := "(Ljava/lang/Object;)Z" } : Jvm.MethodName)) ∈ lw_all := lw_g (lw_at lw_m2 132 rfl) rfl
theorem q415 : (Jvm.Cond.unhidden "CheckoutDesk$18" "fits" "(Ljava/lang/Object;)Z") ∈ lw_tbl := lw_at lw_m2 133 rfl
theorem q416 : (Jvm.Cond.instanceMethod ({ cls := "CheckoutDesk$18", name := "fits", desc := "(Ljava/lang/Object;)Z" } : Jvm.MethodName)) ∈ lw_all := lw_g (lw_at lw_m2 134 rfl) rfl
theorem q417 : (Jvm.Cond.publicMethod ({ cls := "CheckoutDesk$18", name := "fits", desc := "(Ljava/lang/Object;)Z" } : Jvm.MethodName)) ∈ lw_tbl := lw_at lw_m2 135 rfl
theorem q418 : (Jvm.Cond.code ({ cls := "CheckoutDesk$18", name := "fits", desc := "(Ljava/lang/Object;)Z" } : Jvm.MethodName) prog_11_method_3_code (2 : Nat) (Option.some Jvm.ClassFile.FieldType.boolean)) ∈ lw_all := lw_g (lw_at lw_m2 136 rfl) rfl
theorem q419 : (Jvm.Cond.classLink "CheckoutDesk$18" (14 : Nat) "CheckoutDesk$Content") ∈ lw_all := lw_g (lw_at lw_m2 137 rfl) rfl
theorem q420 : (Jvm.Cond.methodLink "CheckoutDesk$18" (19 : Nat) ({ cls := "CheckoutDesk$18", name := "fits", desc := "(LCheckoutDesk$Content;)Z" } : Jvm.MethodName)) ∈ lw_all := lw_g (lw_at lw_m2 138 rfl) rfl
theorem q421 : (Jvm.Cond.instanceMethod ({ cls := "CheckoutDesk$18", name := "fits", desc := "(LCheckoutDesk$Content;)Z" } : Jvm.MethodName)) ∈ lw_all := lw_g (lw_at lw_m2 139 rfl) rfl
theorem q422 : (Jvm.Cond.selects "CheckoutDesk$18" ({ cls := "CheckoutDesk$18", name := "fits", desc := "(LCheckoutDesk$Content;)Z" } : Jvm.MethodName) ({ cls := "CheckoutDesk$18", name := "fits", desc := "(LCheckoutDesk$Content;)Z" } : Jvm.MethodName)) ∈ lw_all := lw_g (lw_at lw_m2 140 rfl) rfl
theorem q423 : (Jvm.Cond.code ({ cls := "CheckoutDesk$18", name := "fits", desc := "(LCheckoutDesk$Content;)Z" } : Jvm.MethodName) prog_11_method_2_code (2 : Nat) (Option.some Jvm.ClassFile.FieldType.boolean)) ∈ lw_all := lw_g (lw_at lw_m2 141 rfl) rfl
theorem q424 : (Jvm.Cond.methodLink "CheckoutDesk$18" (13 : Nat) ({ cls := "CheckoutDesk$Content", name := "isGone", desc := "()Z" } : Jvm.MethodName)) ∈ lw_all := lw_g (lw_at lw_m2 142 rfl) rfl
theorem q1107 : (Jvm.Cond.selects "CheckoutDesk$18" ({ cls := "java/lang/Object", name := "getClass", desc := "()Ljava/lang/Class;" } : Jvm.MethodName) ({ cls := "java/lang/Object", name := "getClass", desc := "()Ljava/lang/Class;" } : Jvm.MethodName)) ∈ lw_all := lw_g (lw_at lw_m5 105 rfl) rfl
theorem q2723 : (Jvm.Cond.castable "CheckoutDesk$18" "java/lang/Object") ∈ lw_tbl := lw_at lw_m12 41 rfl
theorem in_X33 : ∀ w ∈ wsX330, w ∈ lw_all := lw_in wsX330 [247] (by decide +kernel) (by decide +kernel)
/-! CheckoutDesk$19 -/
set_option maxRecDepth 100000
def RX34 : String := "CheckoutDesk$19"
def TX34 : u_T := fun k => match k with
  | _ => ("CheckoutDesk$19", "this$0", "LCheckoutDesk;", true)
def tyX34 : Nat → FieldType := fun k => match k with
  | _ => .object "CheckoutDesk"
abbrev wsX340 : List Cond := u_ws RX34 TX34 1
theorem nmX34 : ∀ a, a < 1 → ∀ b, b < 1 → a ≠ b → (TX34 a).2.1 ≠ (TX34 b).2.1 := by decide +kernel
theorem tyX34_ok : ∀ k, k < 1 → parseFieldDescriptor (TX34 k).2.2.1 = some (tyX34 k) := by decide +kernel
abbrev cX34_fits : ByteArray := prog_12_method_3_code
def yX34_fits : MethodName := ⟨RX34, "fits", "(Ljava/lang/Object;)Z"⟩
def dkwX34_fits_0 : List UInt8 := [42, 43, 192, 0, 14, 182, 0, 23, 172]
abbrev dktX34_fits_0 : List UInt8 := dkwX34_fits_0 ++ []
theorem dksX34_fits_0 : cX34_fits.data.toList.drop 0 = dktX34_fits_0 := by decide +kernel
theorem dX34_fits_0 : decode cX34_fits 0 = .ok (.aload_n 0, 1) := dk_42 (dk_at dksX34_fits_0 0 rfl rfl)
theorem dX34_fits_1 : decode cX34_fits 1 = .ok (.aload_n 1, 1) := dk_43 (dk_at dksX34_fits_0 1 rfl rfl)
theorem dX34_fits_2 : decode cX34_fits 2 = .ok (.checkcast 14, 3) := dk_192 0 14 (dk_at dksX34_fits_0 2 rfl rfl)
theorem dX34_fits_5 : decode cX34_fits 5 = .ok (.invokevirtual 23, 3) := dk_182 0 23 (dk_at dksX34_fits_0 5 rfl rfl)
theorem dX34_fits_8 : decode cX34_fits 8 = .ok (.ireturn, 1) := dk_172 (dk_at dksX34_fits_0 8 rfl rfl)
abbrev cX34_fits_2 : ByteArray := prog_12_method_2_code
def yX34_fits_2 : MethodName := ⟨RX34, "fits", "(LCheckoutDesk$Version;)Z"⟩
def dkwX34_fits_2_0 : List UInt8 := [43, 180, 0, 13, 154, 0, 14, 43, 182, 0, 19, 153, 0, 7, 4, 167, 0, 4, 3, 172]
abbrev dktX34_fits_2_0 : List UInt8 := dkwX34_fits_2_0 ++ []
theorem dksX34_fits_2_0 : cX34_fits_2.data.toList.drop 0 = dktX34_fits_2_0 := by decide +kernel
theorem dX34_fits_2_0 : decode cX34_fits_2 0 = .ok (.aload_n 1, 1) := dk_43 (dk_at dksX34_fits_2_0 0 rfl rfl)
theorem dX34_fits_2_1 : decode cX34_fits_2 1 = .ok (.getfield 13, 3) := dk_180 0 13 (dk_at dksX34_fits_2_0 1 rfl rfl)
theorem dX34_fits_2_4 : decode cX34_fits_2 4 = .ok (.ifCond .ne 14, 3) := dk_154 0 14 (dk_at dksX34_fits_2_0 4 rfl rfl)
theorem dX34_fits_2_7 : decode cX34_fits_2 7 = .ok (.aload_n 1, 1) := dk_43 (dk_at dksX34_fits_2_0 7 rfl rfl)
theorem dX34_fits_2_8 : decode cX34_fits_2 8 = .ok (.invokevirtual 19, 3) := dk_182 0 19 (dk_at dksX34_fits_2_0 8 rfl rfl)
theorem dX34_fits_2_11 : decode cX34_fits_2 11 = .ok (.ifCond .eq 7, 3) := dk_153 0 7 (dk_at dksX34_fits_2_0 11 rfl rfl)
theorem dX34_fits_2_14 : decode cX34_fits_2 14 = .ok (.iconst 1, 1) := dk_4 (dk_at dksX34_fits_2_0 14 rfl rfl)
theorem dX34_fits_2_15 : decode cX34_fits_2 15 = .ok (.goto 4, 3) := dk_167 0 4 (dk_at dksX34_fits_2_0 15 rfl rfl)
theorem dX34_fits_2_18 : decode cX34_fits_2 18 = .ok (.iconst 0, 1) := dk_3 (dk_at dksX34_fits_2_0 18 rfl rfl)
theorem dX34_fits_2_19 : decode cX34_fits_2 19 = .ok (.ireturn, 1) := dk_172 (dk_at dksX34_fits_2_0 19 rfl rfl)
abbrev cX34_init : ByteArray := prog_12_method_1_code
def yX34_init : MethodName := ⟨RX34, "<init>", "(LCheckoutDesk;)V"⟩
def dkwX34_init_0 : List UInt8 := [42, 43, 181, 0, 1, 42, 183, 0, 7, 177]
abbrev dktX34_init_0 : List UInt8 := dkwX34_init_0 ++ []
theorem dksX34_init_0 : cX34_init.data.toList.drop 0 = dktX34_init_0 := by decide +kernel
theorem dX34_init_0 : decode cX34_init 0 = .ok (.aload_n 0, 1) := dk_42 (dk_at dksX34_init_0 0 rfl rfl)
theorem dX34_init_1 : decode cX34_init 1 = .ok (.aload_n 1, 1) := dk_43 (dk_at dksX34_init_0 1 rfl rfl)
theorem dX34_init_2 : decode cX34_init 2 = .ok (.putfield 1, 3) := dk_181 0 1 (dk_at dksX34_init_0 2 rfl rfl)
theorem dX34_init_5 : decode cX34_init 5 = .ok (.aload_n 0, 1) := dk_42 (dk_at dksX34_init_0 5 rfl rfl)
theorem dX34_init_6 : decode cX34_init 6 = .ok (.invokespecial 7, 3) := dk_183 0 7 (dk_at dksX34_init_0 6 rfl rfl)
theorem dX34_init_9 : decode cX34_init 9 = .ok (.return_, 1) := dk_177 (dk_at dksX34_init_0 9 rfl rfl)
theorem q101 : (Jvm.Cond.initialized "CheckoutDesk$19") ∈ lw_all := lw_g (lw_at lw_m1 59 rfl) rfl
theorem q433 : (Jvm.Cond.castable "CheckoutDesk$19" "CheckoutDesk$Test") ∈ lw_tbl := lw_at lw_m2 151 rfl
theorem q434 : (Jvm.Cond.selects "CheckoutDesk$19" ({ cls := "CheckoutDesk$Test", name := "fits", desc := "(Ljava/lang/Object;)Z" } : Jvm.MethodName) ({ cls := "CheckoutDesk$19", name := "fits", desc := "(Ljava/lang/Object;)Z" } : Jvm.MethodName)) ∈ lw_all := lw_g (lw_at lw_m2 152 rfl) rfl
theorem q435 : (Jvm.Cond.unhidden "CheckoutDesk$19" "fits" "(Ljava/lang/Object;)Z") ∈ lw_tbl := lw_at lw_m2 153 rfl
theorem q436 : (Jvm.Cond.instanceMethod ({ cls := "CheckoutDesk$19", name := "fits", desc := "(Ljava/lang/Object;)Z" } : Jvm.MethodName)) ∈ lw_all := lw_g (lw_at lw_m2 154 rfl) rfl
theorem q437 : (Jvm.Cond.publicMethod ({ cls := "CheckoutDesk$19", name := "fits", desc := "(Ljava/lang/Object;)Z" } : Jvm.MethodName)) ∈ lw_tbl := lw_at lw_m2 155 rfl
theorem q438 : (Jvm.Cond.code ({ cls := "CheckoutDesk$19", name := "fits", desc := "(Ljava/lang/Object;)Z" } : Jvm.MethodName) prog_12_method_3_code (2 : Nat) (Option.some Jvm.ClassFile.FieldType.boolean)) ∈ lw_all := lw_g (lw_at lw_m2 156 rfl) rfl
theorem q439 : (Jvm.Cond.classLink "CheckoutDesk$19" (14 : Nat) "CheckoutDesk$Version") ∈ lw_all := lw_g (lw_at lw_m2 157 rfl) rfl
theorem q440 : (Jvm.Cond.methodLink "CheckoutDesk$19" (23 : Nat) ({ cls := "CheckoutDesk$19", name := "fits", desc := "(LCheckoutDesk$Version;)Z" } : Jvm.MethodName)) ∈ lw_all := lw_g (lw_at lw_m2 158 rfl) rfl
theorem q441 : (Jvm.Cond.instanceMethod ({ cls := "CheckoutDesk$19", name := "fits", desc := "(LCheckoutDesk$Version;)Z" } : Jvm.MethodName)) ∈ lw_all := lw_g (lw_at lw_m2 159 rfl) rfl
theorem q442 : (Jvm.Cond.selects "CheckoutDesk$19" ({ cls := "CheckoutDesk$19", name := "fits", desc := "(LCheckoutDesk$Version;)Z" } : Jvm.MethodName) ({ cls := "CheckoutDesk$19", name := "fits", desc := "(LCheckoutDesk$Version;)Z" } : Jvm.MethodName)) ∈ lw_all := lw_g (lw_at lw_m2 160 rfl) rfl
theorem q443 : (Jvm.Cond.code ({ cls := "CheckoutDesk$19", name := "fits", desc := "(LCheckoutDesk$Version;)Z" } : Jvm.MethodName) prog_12_method_2_code (2 : Nat) (Option.some Jvm.ClassFile.FieldType.boolean)) ∈ lw_all := lw_g (lw_at lw_m2 161 rfl) rfl
theorem q444 : (Jvm.Cond.methodLink "CheckoutDesk$19" (19 : Nat) ({ cls := "CheckoutDesk$Version", name := "isReleased", desc := "()Z" } : Jvm.MethodName)) ∈ lw_all := lw_g (lw_at lw_m2 162 rfl) rfl
theorem q739 : (Jvm.Cond.instantiable "CheckoutDesk$19" (1 : Nat)) ∈ lw_all := lw_g (lw_at lw_m3 217 rfl) rfl
theorem q741 : (Jvm.Cond.instanceMethod ({ cls := "CheckoutDesk$19", name := "<init>", desc := "(LCheckoutDesk;)V" } : Jvm.MethodName)) ∈ lw_all := lw_g (lw_at lw_m3 219 rfl) rfl
theorem q742 : (Jvm.Cond.code ({ cls := "CheckoutDesk$19", name := "<init>", desc := "(LCheckoutDesk;)V" } : Jvm.MethodName) prog_12_method_1_code (2 : Nat) (Option.none : Option Jvm.ClassFile.FieldType)) ∈ lw_all := lw_g (lw_at lw_m3 220 rfl) rfl
theorem q743 : (Jvm.Cond.methodLink "CheckoutDesk$19" (7 : Nat) ({ cls := "java/lang/Object", name := "<init>", desc := "()V" } : Jvm.MethodName)) ∈ lw_all := lw_g (lw_at lw_m3 221 rfl) rfl
theorem q744 : (Jvm.Cond.fieldLink "CheckoutDesk$19" (1 : Nat) "CheckoutDesk$19" "this$0" "LCheckoutDesk;") ∈ lw_all := lw_g (lw_at lw_m3 222 rfl) rfl
theorem q745 : (Jvm.Cond.laysFinal "CheckoutDesk$19" "CheckoutDesk$19" "this$0" "LCheckoutDesk;") ∈ lw_all := lw_g (lw_at lw_m3 223 rfl) rfl
theorem q746 : (Jvm.Cond.soleField "CheckoutDesk$19" "this$0") ∈ lw_all := lw_g (lw_at lw_m3 224 rfl) rfl
theorem q747 : (Jvm.Cond.superclass "CheckoutDesk$19" "java/lang/Object") ∈ lw_all := lw_g (lw_at lw_m3 225 rfl) rfl
theorem q1108 : (Jvm.Cond.selects "CheckoutDesk$19" ({ cls := "java/lang/Object", name := "getClass", desc := "()Ljava/lang/Class;" } : Jvm.MethodName) ({ cls := "java/lang/Object", name := "getClass", desc := "()Ljava/lang/Class;" } : Jvm.MethodName)) ∈ lw_all := lw_g (lw_at lw_m5 106 rfl) rfl
theorem q1195 : (Jvm.Cond.fieldLinkNest "CheckoutDesk$19" (13 : Nat) "CheckoutDesk$Version" "isGone" "Z" "CheckoutDesk") ∈ lw_tbl := lw_at lw_m5 193 rfl
theorem q2724 : (Jvm.Cond.castable "CheckoutDesk$19" "java/lang/Object") ∈ lw_tbl := lw_at lw_m12 42 rfl
theorem in_X34 : ∀ w ∈ wsX340, w ∈ lw_all := lw_in wsX340 [745] (by decide +kernel) (by decide +kernel)
/-! CheckoutDesk$20 -/
set_option maxRecDepth 100000
def RX35 : String := "CheckoutDesk$20"
def TX35 : u_T := fun k => match k with
  | _ => ("CheckoutDesk$20", "this$0", "LCheckoutDesk;", true)
def tyX35 : Nat → FieldType := fun k => match k with
  | _ => .object "CheckoutDesk"
abbrev wsX350 : List Cond := u_ws RX35 TX35 1
theorem nmX35 : ∀ a, a < 1 → ∀ b, b < 1 → a ≠ b → (TX35 a).2.1 ≠ (TX35 b).2.1 := by decide +kernel
theorem tyX35_ok : ∀ k, k < 1 → parseFieldDescriptor (TX35 k).2.2.1 = some (tyX35 k) := by decide +kernel
abbrev cX35_fits : ByteArray := prog_14_method_3_code
def yX35_fits : MethodName := ⟨RX35, "fits", "(Ljava/lang/Object;)Z"⟩
def dkwX35_fits_0 : List UInt8 := [42, 43, 192, 0, 14, 182, 0, 31, 172]
abbrev dktX35_fits_0 : List UInt8 := dkwX35_fits_0 ++ []
theorem dksX35_fits_0 : cX35_fits.data.toList.drop 0 = dktX35_fits_0 := by decide +kernel
theorem dX35_fits_0 : decode cX35_fits 0 = .ok (.aload_n 0, 1) := dk_42 (dk_at dksX35_fits_0 0 rfl rfl)
theorem dX35_fits_1 : decode cX35_fits 1 = .ok (.aload_n 1, 1) := dk_43 (dk_at dksX35_fits_0 1 rfl rfl)
theorem dX35_fits_2 : decode cX35_fits 2 = .ok (.checkcast 14, 3) := dk_192 0 14 (dk_at dksX35_fits_0 2 rfl rfl)
theorem dX35_fits_5 : decode cX35_fits 5 = .ok (.invokevirtual 31, 3) := dk_182 0 31 (dk_at dksX35_fits_0 5 rfl rfl)
theorem dX35_fits_8 : decode cX35_fits 8 = .ok (.ireturn, 1) := dk_172 (dk_at dksX35_fits_0 8 rfl rfl)
abbrev cX35_fits_2 : ByteArray := prog_14_method_2_code
def yX35_fits_2 : MethodName := ⟨RX35, "fits", "(LCheckoutDesk$Branch;)Z"⟩
def dkwX35_fits_2_1 : List UInt8 := [4, 167, 0, 4, 3, 172]
abbrev dktX35_fits_2_1 : List UInt8 := dkwX35_fits_2_1 ++ []
def dkwX35_fits_2_0 : List UInt8 := [43, 180, 0, 13, 198, 0, 24, 42, 180, 0, 1, 180, 0, 19, 43, 180, 0, 13, 182, 0, 25, 154, 0, 7]
abbrev dktX35_fits_2_0 : List UInt8 := dkwX35_fits_2_0 ++ dktX35_fits_2_1
theorem dksX35_fits_2_0 : cX35_fits_2.data.toList.drop 0 = dktX35_fits_2_0 := by decide +kernel
theorem dksX35_fits_2_1 : cX35_fits_2.data.toList.drop 24 = dktX35_fits_2_1 := dk_seg dksX35_fits_2_0 24 rfl rfl
theorem dX35_fits_2_0 : decode cX35_fits_2 0 = .ok (.aload_n 1, 1) := dk_43 (dk_at dksX35_fits_2_0 0 rfl rfl)
theorem dX35_fits_2_1 : decode cX35_fits_2 1 = .ok (.getfield 13, 3) := dk_180 0 13 (dk_at dksX35_fits_2_0 1 rfl rfl)
theorem dX35_fits_2_4 : decode cX35_fits_2 4 = .ok (.ifnull 24, 3) := dk_198 0 24 (dk_at dksX35_fits_2_0 4 rfl rfl)
theorem dX35_fits_2_7 : decode cX35_fits_2 7 = .ok (.aload_n 0, 1) := dk_42 (dk_at dksX35_fits_2_0 7 rfl rfl)
theorem dX35_fits_2_8 : decode cX35_fits_2 8 = .ok (.getfield 1, 3) := dk_180 0 1 (dk_at dksX35_fits_2_0 8 rfl rfl)
theorem dX35_fits_2_11 : decode cX35_fits_2 11 = .ok (.getfield 19, 3) := dk_180 0 19 (dk_at dksX35_fits_2_0 11 rfl rfl)
theorem dX35_fits_2_14 : decode cX35_fits_2 14 = .ok (.aload_n 1, 1) := dk_43 (dk_at dksX35_fits_2_0 14 rfl rfl)
theorem dX35_fits_2_15 : decode cX35_fits_2 15 = .ok (.getfield 13, 3) := dk_180 0 13 (dk_at dksX35_fits_2_0 15 rfl rfl)
theorem dX35_fits_2_18 : decode cX35_fits_2 18 = .ok (.invokevirtual 25, 3) := dk_182 0 25 (dk_at dksX35_fits_2_0 18 rfl rfl)
theorem dX35_fits_2_21 : decode cX35_fits_2 21 = .ok (.ifCond .ne 7, 3) := dk_154 0 7 (dk_at dksX35_fits_2_0 21 rfl rfl)
theorem dX35_fits_2_24 : decode cX35_fits_2 24 = .ok (.iconst 1, 1) := dk_4 (dk_at dksX35_fits_2_1 0 rfl rfl)
theorem dX35_fits_2_25 : decode cX35_fits_2 25 = .ok (.goto 4, 3) := dk_167 0 4 (dk_at dksX35_fits_2_1 1 rfl rfl)
theorem dX35_fits_2_28 : decode cX35_fits_2 28 = .ok (.iconst 0, 1) := dk_3 (dk_at dksX35_fits_2_1 4 rfl rfl)
theorem dX35_fits_2_29 : decode cX35_fits_2 29 = .ok (.ireturn, 1) := dk_172 (dk_at dksX35_fits_2_1 5 rfl rfl)
abbrev cX35_init : ByteArray := prog_14_method_1_code
def yX35_init : MethodName := ⟨RX35, "<init>", "(LCheckoutDesk;)V"⟩
def dkwX35_init_0 : List UInt8 := [42, 43, 181, 0, 1, 42, 183, 0, 7, 177]
abbrev dktX35_init_0 : List UInt8 := dkwX35_init_0 ++ []
theorem dksX35_init_0 : cX35_init.data.toList.drop 0 = dktX35_init_0 := by decide +kernel
theorem dX35_init_0 : decode cX35_init 0 = .ok (.aload_n 0, 1) := dk_42 (dk_at dksX35_init_0 0 rfl rfl)
theorem dX35_init_1 : decode cX35_init 1 = .ok (.aload_n 1, 1) := dk_43 (dk_at dksX35_init_0 1 rfl rfl)
theorem dX35_init_2 : decode cX35_init 2 = .ok (.putfield 1, 3) := dk_181 0 1 (dk_at dksX35_init_0 2 rfl rfl)
theorem dX35_init_5 : decode cX35_init 5 = .ok (.aload_n 0, 1) := dk_42 (dk_at dksX35_init_0 5 rfl rfl)
theorem dX35_init_6 : decode cX35_init 6 = .ok (.invokespecial 7, 3) := dk_183 0 7 (dk_at dksX35_init_0 6 rfl rfl)
theorem dX35_init_9 : decode cX35_init 9 = .ok (.return_, 1) := dk_177 (dk_at dksX35_init_0 9 rfl rfl)
theorem q102 : (Jvm.Cond.initialized "CheckoutDesk$20") ∈ lw_all := lw_g (lw_at lw_m1 60 rfl) rfl
theorem q204 : (Jvm.Cond.fieldLinkNest "CheckoutDesk$20" (19 : Nat) "CheckoutDesk" "now" "LCheckoutDesk$Store;" "CheckoutDesk") ∈ lw_tbl := lw_at lw_m1 162 rfl
theorem q445 : (Jvm.Cond.castable "CheckoutDesk$20" "CheckoutDesk$Test") ∈ lw_tbl := lw_at lw_m2 163 rfl
theorem q446 : (Jvm.Cond.selects "CheckoutDesk$20" ({ cls := "CheckoutDesk$Test", name := "fits", desc := "(Ljava/lang/Object;)Z" } : Jvm.MethodName) ({ cls := "CheckoutDesk$20", name := "fits", desc := "(Ljava/lang/Object;)Z" } : Jvm.MethodName)) ∈ lw_all := lw_g (lw_at lw_m2 164 rfl) rfl
theorem q447 : (Jvm.Cond.unhidden "CheckoutDesk$20" "fits" "(Ljava/lang/Object;)Z") ∈ lw_tbl := lw_at lw_m2 165 rfl
theorem q448 : (Jvm.Cond.instanceMethod ({ cls := "CheckoutDesk$20", name := "fits", desc := "(Ljava/lang/Object;)Z" } : Jvm.MethodName)) ∈ lw_all := lw_g (lw_at lw_m2 166 rfl) rfl
theorem q449 : (Jvm.Cond.publicMethod ({ cls := "CheckoutDesk$20", name := "fits", desc := "(Ljava/lang/Object;)Z" } : Jvm.MethodName)) ∈ lw_tbl := lw_at lw_m2 167 rfl
theorem q450 : (Jvm.Cond.code ({ cls := "CheckoutDesk$20", name := "fits", desc := "(Ljava/lang/Object;)Z" } : Jvm.MethodName) prog_14_method_3_code (2 : Nat) (Option.some Jvm.ClassFile.FieldType.boolean)) ∈ lw_all := lw_g (lw_at lw_m2 168 rfl) rfl
theorem q451 : (Jvm.Cond.classLink "CheckoutDesk$20" (14 : Nat) "CheckoutDesk$Branch") ∈ lw_all := lw_g (lw_at lw_m2 169 rfl) rfl
theorem q452 : (Jvm.Cond.methodLink "CheckoutDesk$20" (31 : Nat) ({ cls := "CheckoutDesk$20", name := "fits", desc := "(LCheckoutDesk$Branch;)Z" } : Jvm.MethodName)) ∈ lw_all := lw_g (lw_at lw_m2 170 rfl) rfl
theorem q453 : (Jvm.Cond.instanceMethod ({ cls := "CheckoutDesk$20", name := "fits", desc := "(LCheckoutDesk$Branch;)Z" } : Jvm.MethodName)) ∈ lw_all := lw_g (lw_at lw_m2 171 rfl) rfl
theorem q454 : (Jvm.Cond.selects "CheckoutDesk$20" ({ cls := "CheckoutDesk$20", name := "fits", desc := "(LCheckoutDesk$Branch;)Z" } : Jvm.MethodName) ({ cls := "CheckoutDesk$20", name := "fits", desc := "(LCheckoutDesk$Branch;)Z" } : Jvm.MethodName)) ∈ lw_all := lw_g (lw_at lw_m2 172 rfl) rfl
theorem q455 : (Jvm.Cond.code ({ cls := "CheckoutDesk$20", name := "fits", desc := "(LCheckoutDesk$Branch;)Z" } : Jvm.MethodName) prog_14_method_2_code (2 : Nat) (Option.some Jvm.ClassFile.FieldType.boolean)) ∈ lw_all := lw_g (lw_at lw_m2 173 rfl) rfl
theorem q456 : (Jvm.Cond.methodLink "CheckoutDesk$20" (25 : Nat) ({ cls := "CheckoutDesk$Store", name := "hasLapsed", desc := "(LCheckoutDesk$Copy;)Z" } : Jvm.MethodName)) ∈ lw_all := lw_g (lw_at lw_m2 174 rfl) rfl
theorem q753 : (Jvm.Cond.instantiable "CheckoutDesk$20" (1 : Nat)) ∈ lw_all := lw_g (lw_at lw_m3 231 rfl) rfl
theorem q755 : (Jvm.Cond.instanceMethod ({ cls := "CheckoutDesk$20", name := "<init>", desc := "(LCheckoutDesk;)V" } : Jvm.MethodName)) ∈ lw_all := lw_g (lw_at lw_m3 233 rfl) rfl
theorem q756 : (Jvm.Cond.code ({ cls := "CheckoutDesk$20", name := "<init>", desc := "(LCheckoutDesk;)V" } : Jvm.MethodName) prog_14_method_1_code (2 : Nat) (Option.none : Option Jvm.ClassFile.FieldType)) ∈ lw_all := lw_g (lw_at lw_m3 234 rfl) rfl
theorem q757 : (Jvm.Cond.methodLink "CheckoutDesk$20" (7 : Nat) ({ cls := "java/lang/Object", name := "<init>", desc := "()V" } : Jvm.MethodName)) ∈ lw_all := lw_g (lw_at lw_m3 235 rfl) rfl
theorem q758 : (Jvm.Cond.fieldLink "CheckoutDesk$20" (1 : Nat) "CheckoutDesk$20" "this$0" "LCheckoutDesk;") ∈ lw_all := lw_g (lw_at lw_m3 236 rfl) rfl
theorem q759 : (Jvm.Cond.laysFinal "CheckoutDesk$20" "CheckoutDesk$20" "this$0" "LCheckoutDesk;") ∈ lw_all := lw_g (lw_at lw_m3 237 rfl) rfl
theorem q760 : (Jvm.Cond.soleField "CheckoutDesk$20" "this$0") ∈ lw_all := lw_g (lw_at lw_m3 238 rfl) rfl
theorem q761 : (Jvm.Cond.superclass "CheckoutDesk$20" "java/lang/Object") ∈ lw_all := lw_g (lw_at lw_m3 239 rfl) rfl
theorem q1048 : (Jvm.Cond.fieldLinkNest "CheckoutDesk$20" (13 : Nat) "CheckoutDesk$Branch" "copy" "LCheckoutDesk$Copy;" "CheckoutDesk") ∈ lw_tbl := lw_at lw_m5 46 rfl
theorem q1110 : (Jvm.Cond.selects "CheckoutDesk$20" ({ cls := "java/lang/Object", name := "getClass", desc := "()Ljava/lang/Class;" } : Jvm.MethodName) ({ cls := "java/lang/Object", name := "getClass", desc := "()Ljava/lang/Class;" } : Jvm.MethodName)) ∈ lw_all := lw_g (lw_at lw_m5 108 rfl) rfl
theorem q2725 : (Jvm.Cond.castable "CheckoutDesk$20" "java/lang/Object") ∈ lw_tbl := lw_at lw_m12 43 rfl
theorem in_X35 : ∀ w ∈ wsX350, w ∈ lw_all := lw_in wsX350 [759] (by decide +kernel) (by decide +kernel)
