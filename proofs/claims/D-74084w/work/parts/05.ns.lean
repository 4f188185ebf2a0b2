/-! StripeShelf$Fault -/
set_option maxRecDepth 100000
def RX2 : String := "StripeShelf$Fault"
def TX2 : u_T := fun k => match k with
  | 0 => ("java/lang/Throwable", "cause", "Ljava/lang/Throwable;", false)
  | 1 => ("java/lang/Throwable", "stackTrace", "[Ljava/lang/StackTraceElement;", false)
  | 2 => ("java/lang/Throwable", "suppressedExceptions", "Ljava/util/List;", false)
  | 3 => ("java/lang/Throwable", "detailMessage", "Ljava/lang/String;", false)
  | 4 => ("java/lang/Throwable", "backtrace", "Ljava/lang/Object;", false)
  | _ => ("java/lang/Throwable", "depth", "I", false)
def tyX2 : Nat → FieldType := fun k => match k with
  | 0 => .object "java/lang/Throwable"
  | 1 => .array (.object "java/lang/StackTraceElement")
  | 2 => .object "java/util/List"
  | 3 => .object "java/lang/String"
  | 4 => .object "java/lang/Object"
  | _ => .int
abbrev wsX20 : List Cond := u_ws RX2 TX2 6
theorem nmX2 : ∀ a, a < 6 → ∀ b, b < 6 → a ≠ b → (TX2 a).2.1 ≠ (TX2 b).2.1 := by decide +kernel
theorem tyX2_ok : ∀ k, k < 6 → parseFieldDescriptor (TX2 k).2.2.1 = some (tyX2 k) := by decide +kernel
abbrev cX2_init : ByteArray := prog_3_method_1_code
def yX2_init : MethodName := ⟨RX2, "<init>", "()V"⟩
theorem dX2_init_0 : decode cX2_init 0 = .ok (.aload_n 0, 1) := by decide +kernel
theorem dX2_init_1 : decode cX2_init 1 = .ok (.invokespecial 1, 3) := by decide +kernel
theorem dX2_init_4 : decode cX2_init 4 = .ok (.return_, 1) := by decide +kernel
theorem q135 : (Jvm.Cond.initialized "StripeShelf$Fault") ∈ lw_all := lw_g (lw_at lw_m1 4 rfl) rfl
theorem q980 : (Jvm.Cond.instantiable "StripeShelf$Fault" (6 : Nat)) ∈ lw_all := lw_g (lw_at lw_m4 129 rfl) rfl
theorem q981 : (Jvm.Cond.castable "StripeShelf$Fault" "StripeShelf$Fault") ∈ lw_tbl := lw_at lw_m4 130 rfl
theorem q986 : (Jvm.Cond.selects "StripeShelf$Fault" ({ cls := "java/lang/Throwable", name := "fillInStackTrace", desc := "(I)Ljava/lang/Throwable;" } : Jvm.MethodName) ({ cls := "java/lang/Throwable", name := "fillInStackTrace", desc := "(I)Ljava/lang/Throwable;" } : Jvm.MethodName)) ∈ lw_all := lw_g (lw_at lw_m4 135 rfl) rfl
theorem q987 : (Jvm.Cond.selects "StripeShelf$Fault" ({ cls := "java/lang/Throwable", name := "fillInStackTrace", desc := "()Ljava/lang/Throwable;" } : Jvm.MethodName) ({ cls := "java/lang/Throwable", name := "fillInStackTrace", desc := "()Ljava/lang/Throwable;" } : Jvm.MethodName)) ∈ lw_all := lw_g (lw_at lw_m4 136 rfl) rfl
theorem q988 : (Jvm.Cond.lays "StripeShelf$Fault" "java/lang/Throwable" "cause" "Ljava/lang/Throwable;") ∈ lw_all := lw_g (lw_at lw_m4 137 rfl) rfl
theorem q990 : (Jvm.Cond.lays "StripeShelf$Fault" "java/lang/Throwable" "stackTrace" "[Ljava/lang/StackTraceElement;") ∈ lw_all := lw_g (lw_at lw_m4 139 rfl) rfl
theorem q992 : (Jvm.Cond.lays "StripeShelf$Fault" "java/lang/Throwable" "suppressedExceptions" "Ljava/util/List;") ∈ lw_all := lw_g (lw_at lw_m4 141 rfl) rfl
theorem q994 : (Jvm.Cond.lays "StripeShelf$Fault" "java/lang/Throwable" "detailMessage" "Ljava/lang/String;") ∈ lw_all := lw_g (lw_at lw_m4 143 rfl) rfl
theorem q996 : (Jvm.Cond.lays "StripeShelf$Fault" "java/lang/Throwable" "backtrace" "Ljava/lang/Object;") ∈ lw_all := lw_g (lw_at lw_m4 145 rfl) rfl
theorem q1018 : (Jvm.Cond.instanceMethod ({ cls := "StripeShelf$Fault", name := "<init>", desc := "()V" } : Jvm.MethodName)) ∈ lw_all := lw_g (lw_at lw_m4 167 rfl) rfl
theorem q1019 : (Jvm.Cond.code ({ cls := "StripeShelf$Fault", name := "<init>", desc := "()V" } : Jvm.MethodName) prog_3_method_1_code (1 : Nat) (Option.none : Option Jvm.ClassFile.FieldType)) ∈ lw_all := lw_g (lw_at lw_m4 168 rfl) rfl
theorem q1020 : (Jvm.Cond.methodLink "StripeShelf$Fault" (1 : Nat) ({ cls := "java/lang/Exception", name := "<init>", desc := "()V" } : Jvm.MethodName)) ∈ lw_all := lw_g (lw_at lw_m4 169 rfl) rfl
theorem q1032 : (Jvm.Cond.lays "StripeShelf$Fault" "java/lang/Throwable" "depth" "I") ∈ lw_all := lw_g (lw_at lw_m4 181 rfl) rfl
theorem q1035 : (Jvm.Cond.superclass "StripeShelf$Fault" "java/lang/Exception") ∈ lw_all := lw_g (lw_at lw_m4 184 rfl) rfl
theorem q1836 : (Jvm.Cond.castable "StripeShelf$Fault" "java/lang/Object") ∈ lw_tbl := lw_at lw_m8 25 rfl
theorem in_X2 : ∀ w ∈ wsX20, w ∈ lw_all := lw_in wsX20 [988, 990, 992, 994, 996, 1032] (by decide +kernel) (by decide +kernel)

/-! StripeShelf$Field -/
set_option maxRecDepth 100000
def RX3 : String := "StripeShelf$Field"
def TX3 : u_T := fun k => match k with
  | 0 => ("StripeShelf$Field", "power", "[I", true)
  | 1 => ("StripeShelf$Field", "log", "[I", true)
  | 2 => ("StripeShelf$Field", "whole", "[I", true)
  | _ => ("StripeShelf$Field", "this$0", "LStripeShelf;", true)
def tyX3 : Nat → FieldType := fun k => match k with
  | 0 => .array .int
  | 1 => .array .int
  | 2 => .array .int
  | _ => .object "StripeShelf"
abbrev wsX30 : List Cond := u_ws RX3 TX3 4
theorem nmX3 : ∀ a, a < 4 → ∀ b, b < 4 → a ≠ b → (TX3 a).2.1 ≠ (TX3 b).2.1 := by decide +kernel
theorem tyX3_ok : ∀ k, k < 4 → parseFieldDescriptor (TX3 k).2.2.1 = some (tyX3 k) := by decide +kernel
abbrev cX3_becomes : ByteArray := prog_4_method_2_code
def yX3_becomes : MethodName := ⟨RX3, "becomes", "(I)V"⟩
def dkwX3_becomes_2 : List UInt8 := [161, 0, 12, 28, 42, 180, 0, 22, 27, 46, 130, 61, 132, 3, 1, 167, 255, 199, 177]
abbrev dktX3_becomes_2 : List UInt8 := dkwX3_becomes_2 ++ []
def dkwX3_becomes_1 : List UInt8 := [17, 1, 0, 96, 4, 100, 28, 79, 42, 180, 0, 19, 28, 29, 79, 28, 4, 120, 61, 28, 17, 1, 0]
abbrev dktX3_becomes_1 : List UInt8 := dkwX3_becomes_1 ++ dktX3_becomes_2
def dkwX3_becomes_0 : List UInt8 := [4, 61, 3, 62, 29, 17, 0, 255, 162, 0, 56, 42, 180, 0, 15, 29, 28, 79, 42, 180, 0, 15, 29]
abbrev dktX3_becomes_0 : List UInt8 := dkwX3_becomes_0 ++ dktX3_becomes_1
theorem dksX3_becomes_0 : cX3_becomes.data.toList.drop 0 = dktX3_becomes_0 := by decide +kernel
theorem dksX3_becomes_1 : cX3_becomes.data.toList.drop 23 = dktX3_becomes_1 := dk_seg dksX3_becomes_0 23 rfl rfl
theorem dksX3_becomes_2 : cX3_becomes.data.toList.drop 46 = dktX3_becomes_2 := dk_seg dksX3_becomes_1 23 rfl rfl
theorem dX3_becomes_0 : decode cX3_becomes 0 = .ok (.iconst 1, 1) := dk_4 (dk_at dksX3_becomes_0 0 rfl rfl)
theorem dX3_becomes_1 : decode cX3_becomes 1 = .ok (.istore_n 2, 1) := dk_61 (dk_at dksX3_becomes_0 1 rfl rfl)
theorem dX3_becomes_2 : decode cX3_becomes 2 = .ok (.iconst 0, 1) := dk_3 (dk_at dksX3_becomes_0 2 rfl rfl)
theorem dX3_becomes_3 : decode cX3_becomes 3 = .ok (.istore_n 3, 1) := dk_62 (dk_at dksX3_becomes_0 3 rfl rfl)
theorem dX3_becomes_4 : decode cX3_becomes 4 = .ok (.iload_n 3, 1) := dk_29 (dk_at dksX3_becomes_0 4 rfl rfl)
theorem dX3_becomes_5 : decode cX3_becomes 5 = .ok (.sipush 255, 3) := dk_17 0 255 (dk_at dksX3_becomes_0 5 rfl rfl)
theorem dX3_becomes_8 : decode cX3_becomes 8 = .ok (.if_icmp .ge 56, 3) := dk_162 0 56 (dk_at dksX3_becomes_0 8 rfl rfl)
theorem dX3_becomes_11 : decode cX3_becomes 11 = .ok (.aload_n 0, 1) := dk_42 (dk_at dksX3_becomes_0 11 rfl rfl)
theorem dX3_becomes_12 : decode cX3_becomes 12 = .ok (.getfield 15, 3) := dk_180 0 15 (dk_at dksX3_becomes_0 12 rfl rfl)
theorem dX3_becomes_15 : decode cX3_becomes 15 = .ok (.iload_n 3, 1) := dk_29 (dk_at dksX3_becomes_0 15 rfl rfl)
theorem dX3_becomes_16 : decode cX3_becomes 16 = .ok (.iload_n 2, 1) := dk_28 (dk_at dksX3_becomes_0 16 rfl rfl)
theorem dX3_becomes_17 : decode cX3_becomes 17 = .ok (.iastore, 1) := dk_79 (dk_at dksX3_becomes_0 17 rfl rfl)
theorem dX3_becomes_18 : decode cX3_becomes 18 = .ok (.aload_n 0, 1) := dk_42 (dk_at dksX3_becomes_0 18 rfl rfl)
theorem dX3_becomes_19 : decode cX3_becomes 19 = .ok (.getfield 15, 3) := dk_180 0 15 (dk_at dksX3_becomes_0 19 rfl rfl)
theorem dX3_becomes_22 : decode cX3_becomes 22 = .ok (.iload_n 3, 1) := dk_29 (dk_at dksX3_becomes_0 22 rfl rfl)
theorem dX3_becomes_23 : decode cX3_becomes 23 = .ok (.sipush 256, 3) := dk_17 1 0 (dk_at dksX3_becomes_1 0 rfl rfl)
theorem dX3_becomes_26 : decode cX3_becomes 26 = .ok (.iadd, 1) := dk_96 (dk_at dksX3_becomes_1 3 rfl rfl)
theorem dX3_becomes_27 : decode cX3_becomes 27 = .ok (.iconst 1, 1) := dk_4 (dk_at dksX3_becomes_1 4 rfl rfl)
theorem dX3_becomes_28 : decode cX3_becomes 28 = .ok (.isub, 1) := dk_100 (dk_at dksX3_becomes_1 5 rfl rfl)
theorem dX3_becomes_29 : decode cX3_becomes 29 = .ok (.iload_n 2, 1) := dk_28 (dk_at dksX3_becomes_1 6 rfl rfl)
theorem dX3_becomes_30 : decode cX3_becomes 30 = .ok (.iastore, 1) := dk_79 (dk_at dksX3_becomes_1 7 rfl rfl)
theorem dX3_becomes_31 : decode cX3_becomes 31 = .ok (.aload_n 0, 1) := dk_42 (dk_at dksX3_becomes_1 8 rfl rfl)
theorem dX3_becomes_32 : decode cX3_becomes 32 = .ok (.getfield 19, 3) := dk_180 0 19 (dk_at dksX3_becomes_1 9 rfl rfl)
theorem dX3_becomes_35 : decode cX3_becomes 35 = .ok (.iload_n 2, 1) := dk_28 (dk_at dksX3_becomes_1 12 rfl rfl)
theorem dX3_becomes_36 : decode cX3_becomes 36 = .ok (.iload_n 3, 1) := dk_29 (dk_at dksX3_becomes_1 13 rfl rfl)
theorem dX3_becomes_37 : decode cX3_becomes 37 = .ok (.iastore, 1) := dk_79 (dk_at dksX3_becomes_1 14 rfl rfl)
theorem dX3_becomes_38 : decode cX3_becomes 38 = .ok (.iload_n 2, 1) := dk_28 (dk_at dksX3_becomes_1 15 rfl rfl)
theorem dX3_becomes_39 : decode cX3_becomes 39 = .ok (.iconst 1, 1) := dk_4 (dk_at dksX3_becomes_1 16 rfl rfl)
theorem dX3_becomes_40 : decode cX3_becomes 40 = .ok (.ishl, 1) := dk_120 (dk_at dksX3_becomes_1 17 rfl rfl)
theorem dX3_becomes_41 : decode cX3_becomes 41 = .ok (.istore_n 2, 1) := dk_61 (dk_at dksX3_becomes_1 18 rfl rfl)
theorem dX3_becomes_42 : decode cX3_becomes 42 = .ok (.iload_n 2, 1) := dk_28 (dk_at dksX3_becomes_1 19 rfl rfl)
theorem dX3_becomes_43 : decode cX3_becomes 43 = .ok (.sipush 256, 3) := dk_17 1 0 (dk_at dksX3_becomes_1 20 rfl rfl)
theorem dX3_becomes_46 : decode cX3_becomes 46 = .ok (.if_icmp .lt 12, 3) := dk_161 0 12 (dk_at dksX3_becomes_2 0 rfl rfl)
theorem dX3_becomes_49 : decode cX3_becomes 49 = .ok (.iload_n 2, 1) := dk_28 (dk_at dksX3_becomes_2 3 rfl rfl)
theorem dX3_becomes_50 : decode cX3_becomes 50 = .ok (.aload_n 0, 1) := dk_42 (dk_at dksX3_becomes_2 4 rfl rfl)
theorem dX3_becomes_51 : decode cX3_becomes 51 = .ok (.getfield 22, 3) := dk_180 0 22 (dk_at dksX3_becomes_2 5 rfl rfl)
theorem dX3_becomes_54 : decode cX3_becomes 54 = .ok (.iload_n 1, 1) := dk_27 (dk_at dksX3_becomes_2 8 rfl rfl)
theorem dX3_becomes_55 : decode cX3_becomes 55 = .ok (.iaload, 1) := dk_46 (dk_at dksX3_becomes_2 9 rfl rfl)
theorem dX3_becomes_56 : decode cX3_becomes 56 = .ok (.ixor, 1) := dk_130 (dk_at dksX3_becomes_2 10 rfl rfl)
theorem dX3_becomes_57 : decode cX3_becomes 57 = .ok (.istore_n 2, 1) := dk_61 (dk_at dksX3_becomes_2 11 rfl rfl)
theorem dX3_becomes_58 : decode cX3_becomes 58 = .ok (.iinc 3 1, 3) := dk_132 3 1 (dk_at dksX3_becomes_2 12 rfl rfl)
theorem dX3_becomes_61 : decode cX3_becomes 61 = .ok (.goto (-57), 3) := dk_167 255 199 (dk_at dksX3_becomes_2 15 rfl rfl)
theorem dX3_becomes_64 : decode cX3_becomes 64 = .ok (.return_, 1) := dk_177 (dk_at dksX3_becomes_2 18 rfl rfl)
abbrev cX3_power : ByteArray := prog_4_method_5_code
def yX3_power : MethodName := ⟨RX3, "power", "(I)I"⟩
def dkwX3_power_0 : List UInt8 := [42, 180, 0, 15, 27, 17, 0, 255, 112, 46, 172]
abbrev dktX3_power_0 : List UInt8 := dkwX3_power_0 ++ []
theorem dksX3_power_0 : cX3_power.data.toList.drop 0 = dktX3_power_0 := by decide +kernel
theorem dX3_power_0 : decode cX3_power 0 = .ok (.aload_n 0, 1) := dk_42 (dk_at dksX3_power_0 0 rfl rfl)
theorem dX3_power_1 : decode cX3_power 1 = .ok (.getfield 15, 3) := dk_180 0 15 (dk_at dksX3_power_0 1 rfl rfl)
theorem dX3_power_4 : decode cX3_power 4 = .ok (.iload_n 1, 1) := dk_27 (dk_at dksX3_power_0 4 rfl rfl)
theorem dX3_power_5 : decode cX3_power 5 = .ok (.sipush 255, 3) := dk_17 0 255 (dk_at dksX3_power_0 5 rfl rfl)
theorem dX3_power_8 : decode cX3_power 8 = .ok (.irem, 1) := dk_112 (dk_at dksX3_power_0 8 rfl rfl)
theorem dX3_power_9 : decode cX3_power 9 = .ok (.iaload, 1) := dk_46 (dk_at dksX3_power_0 9 rfl rfl)
theorem dX3_power_10 : decode cX3_power 10 = .ok (.ireturn, 1) := dk_172 (dk_at dksX3_power_0 10 rfl rfl)
abbrev cX3_times : ByteArray := prog_4_method_3_code
def yX3_times : MethodName := ⟨RX3, "times", "(II)I"⟩
def dkwX3_times_1 : List UInt8 := [180, 0, 19, 28, 46, 96, 46, 172]
abbrev dktX3_times_1 : List UInt8 := dkwX3_times_1 ++ []
def dkwX3_times_0 : List UInt8 := [27, 153, 0, 7, 28, 154, 0, 7, 3, 167, 0, 21, 42, 180, 0, 15, 42, 180, 0, 19, 27, 46, 42]
abbrev dktX3_times_0 : List UInt8 := dkwX3_times_0 ++ dktX3_times_1
theorem dksX3_times_0 : cX3_times.data.toList.drop 0 = dktX3_times_0 := by decide +kernel
theorem dksX3_times_1 : cX3_times.data.toList.drop 23 = dktX3_times_1 := dk_seg dksX3_times_0 23 rfl rfl
theorem dX3_times_0 : decode cX3_times 0 = .ok (.iload_n 1, 1) := dk_27 (dk_at dksX3_times_0 0 rfl rfl)
theorem dX3_times_1 : decode cX3_times 1 = .ok (.ifCond .eq 7, 3) := dk_153 0 7 (dk_at dksX3_times_0 1 rfl rfl)
theorem dX3_times_4 : decode cX3_times 4 = .ok (.iload_n 2, 1) := dk_28 (dk_at dksX3_times_0 4 rfl rfl)
theorem dX3_times_5 : decode cX3_times 5 = .ok (.ifCond .ne 7, 3) := dk_154 0 7 (dk_at dksX3_times_0 5 rfl rfl)
theorem dX3_times_8 : decode cX3_times 8 = .ok (.iconst 0, 1) := dk_3 (dk_at dksX3_times_0 8 rfl rfl)
theorem dX3_times_9 : decode cX3_times 9 = .ok (.goto 21, 3) := dk_167 0 21 (dk_at dksX3_times_0 9 rfl rfl)
theorem dX3_times_12 : decode cX3_times 12 = .ok (.aload_n 0, 1) := dk_42 (dk_at dksX3_times_0 12 rfl rfl)
theorem dX3_times_13 : decode cX3_times 13 = .ok (.getfield 15, 3) := dk_180 0 15 (dk_at dksX3_times_0 13 rfl rfl)
theorem dX3_times_16 : decode cX3_times 16 = .ok (.aload_n 0, 1) := dk_42 (dk_at dksX3_times_0 16 rfl rfl)
theorem dX3_times_17 : decode cX3_times 17 = .ok (.getfield 19, 3) := dk_180 0 19 (dk_at dksX3_times_0 17 rfl rfl)
theorem dX3_times_20 : decode cX3_times 20 = .ok (.iload_n 1, 1) := dk_27 (dk_at dksX3_times_0 20 rfl rfl)
theorem dX3_times_21 : decode cX3_times 21 = .ok (.iaload, 1) := dk_46 (dk_at dksX3_times_0 21 rfl rfl)
theorem dX3_times_22 : decode cX3_times 22 = .ok (.aload_n 0, 1) := dk_42 (dk_at dksX3_times_0 22 rfl rfl)
theorem dX3_times_23 : decode cX3_times 23 = .ok (.getfield 19, 3) := dk_180 0 19 (dk_at dksX3_times_1 0 rfl rfl)
theorem dX3_times_26 : decode cX3_times 26 = .ok (.iload_n 2, 1) := dk_28 (dk_at dksX3_times_1 3 rfl rfl)
theorem dX3_times_27 : decode cX3_times 27 = .ok (.iaload, 1) := dk_46 (dk_at dksX3_times_1 4 rfl rfl)
theorem dX3_times_28 : decode cX3_times 28 = .ok (.iadd, 1) := dk_96 (dk_at dksX3_times_1 5 rfl rfl)
theorem dX3_times_29 : decode cX3_times 29 = .ok (.iaload, 1) := dk_46 (dk_at dksX3_times_1 6 rfl rfl)
theorem dX3_times_30 : decode cX3_times 30 = .ok (.ireturn, 1) := dk_172 (dk_at dksX3_times_1 7 rfl rfl)
abbrev cX3_over : ByteArray := prog_4_method_4_code
def yX3_over : MethodName := ⟨RX3, "over", "(II)I"⟩
def dkwX3_over_1 : List UInt8 := [42, 180, 0, 19, 28, 46, 100, 46, 172]
abbrev dktX3_over_1 : List UInt8 := dkwX3_over_1 ++ []
def dkwX3_over_0 : List UInt8 := [27, 154, 0, 7, 3, 167, 0, 27, 42, 180, 0, 15, 42, 180, 0, 19, 27, 46, 17, 1, 0, 96, 4, 100]
abbrev dktX3_over_0 : List UInt8 := dkwX3_over_0 ++ dktX3_over_1
theorem dksX3_over_0 : cX3_over.data.toList.drop 0 = dktX3_over_0 := by decide +kernel
theorem dksX3_over_1 : cX3_over.data.toList.drop 24 = dktX3_over_1 := dk_seg dksX3_over_0 24 rfl rfl
theorem dX3_over_0 : decode cX3_over 0 = .ok (.iload_n 1, 1) := dk_27 (dk_at dksX3_over_0 0 rfl rfl)
theorem dX3_over_1 : decode cX3_over 1 = .ok (.ifCond .ne 7, 3) := dk_154 0 7 (dk_at dksX3_over_0 1 rfl rfl)
theorem dX3_over_4 : decode cX3_over 4 = .ok (.iconst 0, 1) := dk_3 (dk_at dksX3_over_0 4 rfl rfl)
theorem dX3_over_5 : decode cX3_over 5 = .ok (.goto 27, 3) := dk_167 0 27 (dk_at dksX3_over_0 5 rfl rfl)
theorem dX3_over_8 : decode cX3_over 8 = .ok (.aload_n 0, 1) := dk_42 (dk_at dksX3_over_0 8 rfl rfl)
theorem dX3_over_9 : decode cX3_over 9 = .ok (.getfield 15, 3) := dk_180 0 15 (dk_at dksX3_over_0 9 rfl rfl)
theorem dX3_over_12 : decode cX3_over 12 = .ok (.aload_n 0, 1) := dk_42 (dk_at dksX3_over_0 12 rfl rfl)
theorem dX3_over_13 : decode cX3_over 13 = .ok (.getfield 19, 3) := dk_180 0 19 (dk_at dksX3_over_0 13 rfl rfl)
theorem dX3_over_16 : decode cX3_over 16 = .ok (.iload_n 1, 1) := dk_27 (dk_at dksX3_over_0 16 rfl rfl)
theorem dX3_over_17 : decode cX3_over 17 = .ok (.iaload, 1) := dk_46 (dk_at dksX3_over_0 17 rfl rfl)
theorem dX3_over_18 : decode cX3_over 18 = .ok (.sipush 256, 3) := dk_17 1 0 (dk_at dksX3_over_0 18 rfl rfl)
theorem dX3_over_21 : decode cX3_over 21 = .ok (.iadd, 1) := dk_96 (dk_at dksX3_over_0 21 rfl rfl)
theorem dX3_over_22 : decode cX3_over 22 = .ok (.iconst 1, 1) := dk_4 (dk_at dksX3_over_0 22 rfl rfl)
theorem dX3_over_23 : decode cX3_over 23 = .ok (.isub, 1) := dk_100 (dk_at dksX3_over_0 23 rfl rfl)
theorem dX3_over_24 : decode cX3_over 24 = .ok (.aload_n 0, 1) := dk_42 (dk_at dksX3_over_1 0 rfl rfl)
theorem dX3_over_25 : decode cX3_over 25 = .ok (.getfield 19, 3) := dk_180 0 19 (dk_at dksX3_over_1 1 rfl rfl)
theorem dX3_over_28 : decode cX3_over 28 = .ok (.iload_n 2, 1) := dk_28 (dk_at dksX3_over_1 4 rfl rfl)
theorem dX3_over_29 : decode cX3_over 29 = .ok (.iaload, 1) := dk_46 (dk_at dksX3_over_1 5 rfl rfl)
theorem dX3_over_30 : decode cX3_over 30 = .ok (.isub, 1) := dk_100 (dk_at dksX3_over_1 6 rfl rfl)
theorem dX3_over_31 : decode cX3_over 31 = .ok (.iaload, 1) := dk_46 (dk_at dksX3_over_1 7 rfl rfl)
theorem dX3_over_32 : decode cX3_over 32 = .ok (.ireturn, 1) := dk_172 (dk_at dksX3_over_1 8 rfl rfl)
abbrev cX3_init : ByteArray := prog_4_method_1_code
def yX3_init : MethodName := ⟨RX3, "<init>", "(LStripeShelf;)V"⟩
def dkwX3_init_2 : List UInt8 := [17, 1, 43, 79, 42, 180, 0, 22, 5, 17, 1, 45, 79, 42, 180, 0, 22, 6, 17, 1, 77, 79, 177]
abbrev dktX3_init_2 : List UInt8 := dkwX3_init_2 ++ []
def dkwX3_init_1 : List UInt8 := [181, 0, 19, 42, 7, 188, 10, 181, 0, 22, 42, 180, 0, 22, 3, 17, 1, 29, 79, 42, 180, 0, 22, 4]
abbrev dktX3_init_1 : List UInt8 := dkwX3_init_1 ++ dktX3_init_2
def dkwX3_init_0 : List UInt8 := [42, 43, 181, 0, 3, 42, 183, 0, 9, 42, 17, 2, 0, 188, 10, 181, 0, 15, 42, 17, 1, 0, 188, 10]
abbrev dktX3_init_0 : List UInt8 := dkwX3_init_0 ++ dktX3_init_1
theorem dksX3_init_0 : cX3_init.data.toList.drop 0 = dktX3_init_0 := by decide +kernel
theorem dksX3_init_1 : cX3_init.data.toList.drop 24 = dktX3_init_1 := dk_seg dksX3_init_0 24 rfl rfl
theorem dksX3_init_2 : cX3_init.data.toList.drop 48 = dktX3_init_2 := dk_seg dksX3_init_1 24 rfl rfl
theorem dX3_init_0 : decode cX3_init 0 = .ok (.aload_n 0, 1) := dk_42 (dk_at dksX3_init_0 0 rfl rfl)
theorem dX3_init_1 : decode cX3_init 1 = .ok (.aload_n 1, 1) := dk_43 (dk_at dksX3_init_0 1 rfl rfl)
theorem dX3_init_2 : decode cX3_init 2 = .ok (.putfield 3, 3) := dk_181 0 3 (dk_at dksX3_init_0 2 rfl rfl)
theorem dX3_init_5 : decode cX3_init 5 = .ok (.aload_n 0, 1) := dk_42 (dk_at dksX3_init_0 5 rfl rfl)
theorem dX3_init_6 : decode cX3_init 6 = .ok (.invokespecial 9, 3) := dk_183 0 9 (dk_at dksX3_init_0 6 rfl rfl)
theorem dX3_init_9 : decode cX3_init 9 = .ok (.aload_n 0, 1) := dk_42 (dk_at dksX3_init_0 9 rfl rfl)
theorem dX3_init_10 : decode cX3_init 10 = .ok (.sipush 512, 3) := dk_17 2 0 (dk_at dksX3_init_0 10 rfl rfl)
theorem dX3_init_13 : decode cX3_init 13 = .ok (.newarray .int, 2) := dk_188_10 (dk_at dksX3_init_0 13 rfl rfl)
theorem dX3_init_15 : decode cX3_init 15 = .ok (.putfield 15, 3) := dk_181 0 15 (dk_at dksX3_init_0 15 rfl rfl)
theorem dX3_init_18 : decode cX3_init 18 = .ok (.aload_n 0, 1) := dk_42 (dk_at dksX3_init_0 18 rfl rfl)
theorem dX3_init_19 : decode cX3_init 19 = .ok (.sipush 256, 3) := dk_17 1 0 (dk_at dksX3_init_0 19 rfl rfl)
theorem dX3_init_22 : decode cX3_init 22 = .ok (.newarray .int, 2) := dk_188_10 (dk_at dksX3_init_0 22 rfl rfl)
theorem dX3_init_24 : decode cX3_init 24 = .ok (.putfield 19, 3) := dk_181 0 19 (dk_at dksX3_init_1 0 rfl rfl)
theorem dX3_init_27 : decode cX3_init 27 = .ok (.aload_n 0, 1) := dk_42 (dk_at dksX3_init_1 3 rfl rfl)
theorem dX3_init_28 : decode cX3_init 28 = .ok (.iconst 4, 1) := dk_7 (dk_at dksX3_init_1 4 rfl rfl)
theorem dX3_init_29 : decode cX3_init 29 = .ok (.newarray .int, 2) := dk_188_10 (dk_at dksX3_init_1 5 rfl rfl)
theorem dX3_init_31 : decode cX3_init 31 = .ok (.putfield 22, 3) := dk_181 0 22 (dk_at dksX3_init_1 7 rfl rfl)
theorem dX3_init_34 : decode cX3_init 34 = .ok (.aload_n 0, 1) := dk_42 (dk_at dksX3_init_1 10 rfl rfl)
theorem dX3_init_35 : decode cX3_init 35 = .ok (.getfield 22, 3) := dk_180 0 22 (dk_at dksX3_init_1 11 rfl rfl)
theorem dX3_init_38 : decode cX3_init 38 = .ok (.iconst 0, 1) := dk_3 (dk_at dksX3_init_1 14 rfl rfl)
theorem dX3_init_39 : decode cX3_init 39 = .ok (.sipush 285, 3) := dk_17 1 29 (dk_at dksX3_init_1 15 rfl rfl)
theorem dX3_init_42 : decode cX3_init 42 = .ok (.iastore, 1) := dk_79 (dk_at dksX3_init_1 18 rfl rfl)
theorem dX3_init_43 : decode cX3_init 43 = .ok (.aload_n 0, 1) := dk_42 (dk_at dksX3_init_1 19 rfl rfl)
theorem dX3_init_44 : decode cX3_init 44 = .ok (.getfield 22, 3) := dk_180 0 22 (dk_at dksX3_init_1 20 rfl rfl)
theorem dX3_init_47 : decode cX3_init 47 = .ok (.iconst 1, 1) := dk_4 (dk_at dksX3_init_1 23 rfl rfl)
theorem dX3_init_48 : decode cX3_init 48 = .ok (.sipush 299, 3) := dk_17 1 43 (dk_at dksX3_init_2 0 rfl rfl)
theorem dX3_init_51 : decode cX3_init 51 = .ok (.iastore, 1) := dk_79 (dk_at dksX3_init_2 3 rfl rfl)
theorem dX3_init_52 : decode cX3_init 52 = .ok (.aload_n 0, 1) := dk_42 (dk_at dksX3_init_2 4 rfl rfl)
theorem dX3_init_53 : decode cX3_init 53 = .ok (.getfield 22, 3) := dk_180 0 22 (dk_at dksX3_init_2 5 rfl rfl)
theorem dX3_init_56 : decode cX3_init 56 = .ok (.iconst 2, 1) := dk_5 (dk_at dksX3_init_2 8 rfl rfl)
theorem dX3_init_57 : decode cX3_init 57 = .ok (.sipush 301, 3) := dk_17 1 45 (dk_at dksX3_init_2 9 rfl rfl)
theorem dX3_init_60 : decode cX3_init 60 = .ok (.iastore, 1) := dk_79 (dk_at dksX3_init_2 12 rfl rfl)
theorem dX3_init_61 : decode cX3_init 61 = .ok (.aload_n 0, 1) := dk_42 (dk_at dksX3_init_2 13 rfl rfl)
theorem dX3_init_62 : decode cX3_init 62 = .ok (.getfield 22, 3) := dk_180 0 22 (dk_at dksX3_init_2 14 rfl rfl)
theorem dX3_init_65 : decode cX3_init 65 = .ok (.iconst 3, 1) := dk_6 (dk_at dksX3_init_2 17 rfl rfl)
theorem dX3_init_66 : decode cX3_init 66 = .ok (.sipush 333, 3) := dk_17 1 77 (dk_at dksX3_init_2 18 rfl rfl)
theorem dX3_init_69 : decode cX3_init 69 = .ok (.iastore, 1) := dk_79 (dk_at dksX3_init_2 21 rfl rfl)
theorem dX3_init_70 : decode cX3_init 70 = .ok (.return_, 1) := dk_177 (dk_at dksX3_init_2 22 rfl rfl)
theorem q136 : (Jvm.Cond.initialized "StripeShelf$Field") ∈ lw_all := lw_g (lw_at lw_m1 5 rfl) rfl
theorem q321 : (Jvm.Cond.instanceMethod ({ cls := "StripeShelf$Field", name := "becomes", desc := "(I)V" } : Jvm.MethodName)) ∈ lw_all := lw_g (lw_at lw_m1 190 rfl) rfl
theorem q322 : (Jvm.Cond.selects "StripeShelf$Field" ({ cls := "StripeShelf$Field", name := "becomes", desc := "(I)V" } : Jvm.MethodName) ({ cls := "StripeShelf$Field", name := "becomes", desc := "(I)V" } : Jvm.MethodName)) ∈ lw_all := lw_g (lw_at lw_m1 191 rfl) rfl
theorem q323 : (Jvm.Cond.code ({ cls := "StripeShelf$Field", name := "becomes", desc := "(I)V" } : Jvm.MethodName) prog_4_method_2_code (4 : Nat) (Option.none : Option Jvm.ClassFile.FieldType)) ∈ lw_all := lw_g (lw_at lw_m1 192 rfl) rfl
theorem q469 : (Jvm.Cond.instanceMethod ({ cls := "StripeShelf$Field", name := "power", desc := "(I)I" } : Jvm.MethodName)) ∈ lw_all := lw_g (lw_at lw_m2 98 rfl) rfl
theorem q470 : (Jvm.Cond.selects "StripeShelf$Field" ({ cls := "StripeShelf$Field", name := "power", desc := "(I)I" } : Jvm.MethodName) ({ cls := "StripeShelf$Field", name := "power", desc := "(I)I" } : Jvm.MethodName)) ∈ lw_all := lw_g (lw_at lw_m2 99 rfl) rfl
theorem q471 : (Jvm.Cond.code ({ cls := "StripeShelf$Field", name := "power", desc := "(I)I" } : Jvm.MethodName) prog_4_method_5_code (2 : Nat) (Option.some Jvm.ClassFile.FieldType.int)) ∈ lw_all := lw_g (lw_at lw_m2 100 rfl) rfl
theorem q473 : (Jvm.Cond.instanceMethod ({ cls := "StripeShelf$Field", name := "times", desc := "(II)I" } : Jvm.MethodName)) ∈ lw_all := lw_g (lw_at lw_m2 102 rfl) rfl
theorem q474 : (Jvm.Cond.selects "StripeShelf$Field" ({ cls := "StripeShelf$Field", name := "times", desc := "(II)I" } : Jvm.MethodName) ({ cls := "StripeShelf$Field", name := "times", desc := "(II)I" } : Jvm.MethodName)) ∈ lw_all := lw_g (lw_at lw_m2 103 rfl) rfl
theorem q475 : (Jvm.Cond.code ({ cls := "StripeShelf$Field", name := "times", desc := "(II)I" } : Jvm.MethodName) prog_4_method_3_code (3 : Nat) (Option.some Jvm.ClassFile.FieldType.int)) ∈ lw_all := lw_g (lw_at lw_m2 104 rfl) rfl
theorem q634 : (Jvm.Cond.instanceMethod ({ cls := "StripeShelf$Field", name := "over", desc := "(II)I" } : Jvm.MethodName)) ∈ lw_all := lw_g (lw_at lw_m3 23 rfl) rfl
theorem q635 : (Jvm.Cond.selects "StripeShelf$Field" ({ cls := "StripeShelf$Field", name := "over", desc := "(II)I" } : Jvm.MethodName) ({ cls := "StripeShelf$Field", name := "over", desc := "(II)I" } : Jvm.MethodName)) ∈ lw_all := lw_g (lw_at lw_m3 24 rfl) rfl
theorem q636 : (Jvm.Cond.code ({ cls := "StripeShelf$Field", name := "over", desc := "(II)I" } : Jvm.MethodName) prog_4_method_4_code (3 : Nat) (Option.some Jvm.ClassFile.FieldType.int)) ∈ lw_all := lw_g (lw_at lw_m3 25 rfl) rfl
theorem q1037 : (Jvm.Cond.instantiable "StripeShelf$Field" (4 : Nat)) ∈ lw_all := lw_g (lw_at lw_m4 186 rfl) rfl
theorem q1039 : (Jvm.Cond.instanceMethod ({ cls := "StripeShelf$Field", name := "<init>", desc := "(LStripeShelf;)V" } : Jvm.MethodName)) ∈ lw_all := lw_g (lw_at lw_m4 188 rfl) rfl
theorem q1040 : (Jvm.Cond.code ({ cls := "StripeShelf$Field", name := "<init>", desc := "(LStripeShelf;)V" } : Jvm.MethodName) prog_4_method_1_code (2 : Nat) (Option.none : Option Jvm.ClassFile.FieldType)) ∈ lw_all := lw_g (lw_at lw_m4 189 rfl) rfl
theorem q1041 : (Jvm.Cond.methodLink "StripeShelf$Field" (9 : Nat) ({ cls := "java/lang/Object", name := "<init>", desc := "()V" } : Jvm.MethodName)) ∈ lw_all := lw_g (lw_at lw_m4 190 rfl) rfl
theorem q1042 : (Jvm.Cond.fieldLink "StripeShelf$Field" (15 : Nat) "StripeShelf$Field" "power" "[I") ∈ lw_all := lw_g (lw_at lw_m4 191 rfl) rfl
theorem q1043 : (Jvm.Cond.fieldLink "StripeShelf$Field" (19 : Nat) "StripeShelf$Field" "log" "[I") ∈ lw_all := lw_g (lw_at lw_m4 192 rfl) rfl
theorem q1045 : (Jvm.Cond.fieldLink "StripeShelf$Field" (22 : Nat) "StripeShelf$Field" "whole" "[I") ∈ lw_all := lw_g (lw_at lw_m4 194 rfl) rfl
theorem q1046 : (Jvm.Cond.fieldLink "StripeShelf$Field" (3 : Nat) "StripeShelf$Field" "this$0" "LStripeShelf;") ∈ lw_all := lw_g (lw_at lw_m4 195 rfl) rfl
theorem q1047 : (Jvm.Cond.laysFinal "StripeShelf$Field" "StripeShelf$Field" "power" "[I") ∈ lw_all := lw_g (lw_at lw_m4 196 rfl) rfl
theorem q1048 : (Jvm.Cond.soleField "StripeShelf$Field" "power") ∈ lw_all := lw_g (lw_at lw_m4 197 rfl) rfl
theorem q1049 : (Jvm.Cond.laysFinal "StripeShelf$Field" "StripeShelf$Field" "log" "[I") ∈ lw_all := lw_g (lw_at lw_m4 198 rfl) rfl
theorem q1050 : (Jvm.Cond.soleField "StripeShelf$Field" "log") ∈ lw_all := lw_g (lw_at lw_m4 199 rfl) rfl
theorem q1051 : (Jvm.Cond.laysFinal "StripeShelf$Field" "StripeShelf$Field" "whole" "[I") ∈ lw_all := lw_g (lw_at lw_m4 200 rfl) rfl
theorem q1052 : (Jvm.Cond.soleField "StripeShelf$Field" "whole") ∈ lw_all := lw_g (lw_at lw_m4 201 rfl) rfl
theorem q1053 : (Jvm.Cond.laysFinal "StripeShelf$Field" "StripeShelf$Field" "this$0" "LStripeShelf;") ∈ lw_all := lw_g (lw_at lw_m4 202 rfl) rfl
theorem q1054 : (Jvm.Cond.soleField "StripeShelf$Field" "this$0") ∈ lw_all := lw_g (lw_at lw_m4 203 rfl) rfl
theorem q1055 : (Jvm.Cond.superclass "StripeShelf$Field" "java/lang/Object") ∈ lw_all := lw_g (lw_at lw_m4 204 rfl) rfl
theorem q1837 : (Jvm.Cond.castable "StripeShelf$Field" "java/lang/Object") ∈ lw_tbl := lw_at lw_m8 26 rfl
theorem in_X3 : ∀ w ∈ wsX30, w ∈ lw_all := lw_in wsX30 [1047, 1049, 1051, 1053] (by decide +kernel) (by decide +kernel)

/-! StripeShelf$Past -/
set_option maxRecDepth 100000
def RX4 : String := "StripeShelf$Past"
def TX4 : u_T := fun k => match k with
  | 0 => ("StripeShelf$Past", "row", "LStripeShelf$Row;", true)
  | _ => ("StripeShelf$Past", "most", "I", true)
def tyX4 : Nat → FieldType := fun k => match k with
  | 0 => .object "StripeShelf$Row"
  | _ => .int
abbrev wsX40 : List Cond := u_ws RX4 TX4 2
theorem nmX4 : ∀ a, a < 2 → ∀ b, b < 2 → a ≠ b → (TX4 a).2.1 ≠ (TX4 b).2.1 := by decide +kernel
theorem tyX4_ok : ∀ k, k < 2 → parseFieldDescriptor (TX4 k).2.2.1 = some (tyX4 k) := by decide +kernel
abbrev cX4_keeps : ByteArray := prog_7_method_2_code
def yX4_keeps : MethodName := ⟨RX4, "keeps", "(LStripeShelf$Copied;)V"⟩
def dkwX4_keeps_1 : List UInt8 := [180, 0, 10, 43, 185, 0, 26, 1, 0, 192, 0, 27, 182, 0, 32, 177]
abbrev dktX4_keeps_1 : List UInt8 := dkwX4_keeps_1 ++ []
def dkwX4_keeps_0 : List UInt8 := [42, 180, 0, 10, 180, 0, 20, 42, 180, 0, 16, 160, 0, 10, 42, 180, 0, 10, 182, 0, 23, 42]
abbrev dktX4_keeps_0 : List UInt8 := dkwX4_keeps_0 ++ dktX4_keeps_1
theorem dksX4_keeps_0 : cX4_keeps.data.toList.drop 0 = dktX4_keeps_0 := by decide +kernel
theorem dksX4_keeps_1 : cX4_keeps.data.toList.drop 22 = dktX4_keeps_1 := dk_seg dksX4_keeps_0 22 rfl rfl
theorem dX4_keeps_0 : decode cX4_keeps 0 = .ok (.aload_n 0, 1) := dk_42 (dk_at dksX4_keeps_0 0 rfl rfl)
theorem dX4_keeps_1 : decode cX4_keeps 1 = .ok (.getfield 10, 3) := dk_180 0 10 (dk_at dksX4_keeps_0 1 rfl rfl)
theorem dX4_keeps_4 : decode cX4_keeps 4 = .ok (.getfield 20, 3) := dk_180 0 20 (dk_at dksX4_keeps_0 4 rfl rfl)
theorem dX4_keeps_7 : decode cX4_keeps 7 = .ok (.aload_n 0, 1) := dk_42 (dk_at dksX4_keeps_0 7 rfl rfl)
theorem dX4_keeps_8 : decode cX4_keeps 8 = .ok (.getfield 16, 3) := dk_180 0 16 (dk_at dksX4_keeps_0 8 rfl rfl)
theorem dX4_keeps_11 : decode cX4_keeps 11 = .ok (.if_icmp .ne 10, 3) := dk_160 0 10 (dk_at dksX4_keeps_0 11 rfl rfl)
theorem dX4_keeps_14 : decode cX4_keeps 14 = .ok (.aload_n 0, 1) := dk_42 (dk_at dksX4_keeps_0 14 rfl rfl)
theorem dX4_keeps_15 : decode cX4_keeps 15 = .ok (.getfield 10, 3) := dk_180 0 10 (dk_at dksX4_keeps_0 15 rfl rfl)
theorem dX4_keeps_18 : decode cX4_keeps 18 = .ok (.invokevirtual 23, 3) := dk_182 0 23 (dk_at dksX4_keeps_0 18 rfl rfl)
theorem dX4_keeps_21 : decode cX4_keeps 21 = .ok (.aload_n 0, 1) := dk_42 (dk_at dksX4_keeps_0 21 rfl rfl)
theorem dX4_keeps_22 : decode cX4_keeps 22 = .ok (.getfield 10, 3) := dk_180 0 10 (dk_at dksX4_keeps_1 0 rfl rfl)
theorem dX4_keeps_25 : decode cX4_keeps 25 = .ok (.aload_n 1, 1) := dk_43 (dk_at dksX4_keeps_1 3 rfl rfl)
theorem dX4_keeps_26 : decode cX4_keeps 26 = .ok (.invokeinterface 26 1, 5) := by decide +kernel
theorem dX4_keeps_31 : decode cX4_keeps 31 = .ok (.checkcast 27, 3) := dk_192 0 27 (dk_at dksX4_keeps_1 9 rfl rfl)
theorem dX4_keeps_34 : decode cX4_keeps 34 = .ok (.invokevirtual 32, 3) := dk_182 0 32 (dk_at dksX4_keeps_1 12 rfl rfl)
theorem dX4_keeps_37 : decode cX4_keeps 37 = .ok (.return_, 1) := dk_177 (dk_at dksX4_keeps_1 15 rfl rfl)
abbrev cX4_init : ByteArray := prog_7_method_1_code
def yX4_init : MethodName := ⟨RX4, "<init>", "(I)V"⟩
def dkwX4_init_0 : List UInt8 := [42, 183, 0, 1, 42, 187, 0, 7, 89, 183, 0, 9, 181, 0, 10, 42, 27, 181, 0, 16, 177]
abbrev dktX4_init_0 : List UInt8 := dkwX4_init_0 ++ []
theorem dksX4_init_0 : cX4_init.data.toList.drop 0 = dktX4_init_0 := by decide +kernel
theorem dX4_init_0 : decode cX4_init 0 = .ok (.aload_n 0, 1) := dk_42 (dk_at dksX4_init_0 0 rfl rfl)
theorem dX4_init_1 : decode cX4_init 1 = .ok (.invokespecial 1, 3) := dk_183 0 1 (dk_at dksX4_init_0 1 rfl rfl)
theorem dX4_init_4 : decode cX4_init 4 = .ok (.aload_n 0, 1) := dk_42 (dk_at dksX4_init_0 4 rfl rfl)
theorem dX4_init_5 : decode cX4_init 5 = .ok (.new 7, 3) := dk_187 0 7 (dk_at dksX4_init_0 5 rfl rfl)
theorem dX4_init_8 : decode cX4_init 8 = .ok (.dup, 1) := dk_89 (dk_at dksX4_init_0 8 rfl rfl)
theorem dX4_init_9 : decode cX4_init 9 = .ok (.invokespecial 9, 3) := dk_183 0 9 (dk_at dksX4_init_0 9 rfl rfl)
theorem dX4_init_12 : decode cX4_init 12 = .ok (.putfield 10, 3) := dk_181 0 10 (dk_at dksX4_init_0 12 rfl rfl)
theorem dX4_init_15 : decode cX4_init 15 = .ok (.aload_n 0, 1) := dk_42 (dk_at dksX4_init_0 15 rfl rfl)
theorem dX4_init_16 : decode cX4_init 16 = .ok (.iload_n 1, 1) := dk_27 (dk_at dksX4_init_0 16 rfl rfl)
theorem dX4_init_17 : decode cX4_init 17 = .ok (.putfield 16, 3) := dk_181 0 16 (dk_at dksX4_init_0 17 rfl rfl)
theorem dX4_init_20 : decode cX4_init 20 = .ok (.return_, 1) := dk_177 (dk_at dksX4_init_0 20 rfl rfl)
theorem q137 : (Jvm.Cond.initialized "StripeShelf$Past") ∈ lw_all := lw_g (lw_at lw_m1 6 rfl) rfl
theorem q341 : (Jvm.Cond.fieldLinkNest "StripeShelf$Past" (20 : Nat) "StripeShelf$Row" "size" "I" "StripeShelf") ∈ lw_tbl := lw_at lw_m1 210 rfl
theorem q537 : (Jvm.Cond.instanceMethod ({ cls := "StripeShelf$Past", name := "keeps", desc := "(LStripeShelf$Copied;)V" } : Jvm.MethodName)) ∈ lw_all := lw_g (lw_at lw_m2 166 rfl) rfl
theorem q538 : (Jvm.Cond.selects "StripeShelf$Past" ({ cls := "StripeShelf$Past", name := "keeps", desc := "(LStripeShelf$Copied;)V" } : Jvm.MethodName) ({ cls := "StripeShelf$Past", name := "keeps", desc := "(LStripeShelf$Copied;)V" } : Jvm.MethodName)) ∈ lw_all := lw_g (lw_at lw_m2 167 rfl) rfl
theorem q539 : (Jvm.Cond.code ({ cls := "StripeShelf$Past", name := "keeps", desc := "(LStripeShelf$Copied;)V" } : Jvm.MethodName) prog_7_method_2_code (2 : Nat) (Option.none : Option Jvm.ClassFile.FieldType)) ∈ lw_all := lw_g (lw_at lw_m2 168 rfl) rfl
theorem q540 : (Jvm.Cond.methodLink "StripeShelf$Past" (23 : Nat) ({ cls := "StripeShelf$Row", name := "dropsFirst", desc := "()V" } : Jvm.MethodName)) ∈ lw_all := lw_g (lw_at lw_m2 169 rfl) rfl
theorem q544 : (Jvm.Cond.interfaceEntry "StripeShelf$Past" (26 : Nat)) ∈ lw_tbl := lw_at lw_m2 173 rfl
theorem q545 : (Jvm.Cond.methodLink "StripeShelf$Past" (26 : Nat) ({ cls := "StripeShelf$Copied", name := "copied", desc := "()Ljava/lang/Object;" } : Jvm.MethodName)) ∈ lw_all := lw_g (lw_at lw_m2 174 rfl) rfl
theorem q593 : (Jvm.Cond.classLink "StripeShelf$Past" (27 : Nat) "StripeShelf$Copied") ∈ lw_all := lw_g (lw_at lw_m2 222 rfl) rfl
theorem q594 : (Jvm.Cond.methodLink "StripeShelf$Past" (32 : Nat) ({ cls := "StripeShelf$Row", name := "adds", desc := "(Ljava/lang/Object;)V" } : Jvm.MethodName)) ∈ lw_all := lw_g (lw_at lw_m2 223 rfl) rfl
theorem q1057 : (Jvm.Cond.instantiable "StripeShelf$Past" (2 : Nat)) ∈ lw_all := lw_g (lw_at lw_m4 206 rfl) rfl
theorem q1059 : (Jvm.Cond.instanceMethod ({ cls := "StripeShelf$Past", name := "<init>", desc := "(I)V" } : Jvm.MethodName)) ∈ lw_all := lw_g (lw_at lw_m4 208 rfl) rfl
theorem q1060 : (Jvm.Cond.code ({ cls := "StripeShelf$Past", name := "<init>", desc := "(I)V" } : Jvm.MethodName) prog_7_method_1_code (2 : Nat) (Option.none : Option Jvm.ClassFile.FieldType)) ∈ lw_all := lw_g (lw_at lw_m4 209 rfl) rfl
theorem q1061 : (Jvm.Cond.methodLink "StripeShelf$Past" (1 : Nat) ({ cls := "java/lang/Object", name := "<init>", desc := "()V" } : Jvm.MethodName)) ∈ lw_all := lw_g (lw_at lw_m4 210 rfl) rfl
theorem q1062 : (Jvm.Cond.classLink "StripeShelf$Past" (7 : Nat) "StripeShelf$Row") ∈ lw_all := lw_g (lw_at lw_m4 211 rfl) rfl
theorem q1063 : (Jvm.Cond.methodLinkNest "StripeShelf$Past" (9 : Nat) ({ cls := "StripeShelf$Row", name := "<init>", desc := "()V" } : Jvm.MethodName) "StripeShelf") ∈ lw_tbl := lw_at lw_m4 212 rfl
theorem q1064 : (Jvm.Cond.fieldLink "StripeShelf$Past" (10 : Nat) "StripeShelf$Past" "row" "LStripeShelf$Row;") ∈ lw_all := lw_g (lw_at lw_m4 213 rfl) rfl
theorem q1066 : (Jvm.Cond.fieldLink "StripeShelf$Past" (16 : Nat) "StripeShelf$Past" "most" "I") ∈ lw_all := lw_g (lw_at lw_m4 215 rfl) rfl
theorem q1067 : (Jvm.Cond.laysFinal "StripeShelf$Past" "StripeShelf$Past" "row" "LStripeShelf$Row;") ∈ lw_all := lw_g (lw_at lw_m4 216 rfl) rfl
theorem q1068 : (Jvm.Cond.soleField "StripeShelf$Past" "row") ∈ lw_all := lw_g (lw_at lw_m4 217 rfl) rfl
theorem q1069 : (Jvm.Cond.laysFinal "StripeShelf$Past" "StripeShelf$Past" "most" "I") ∈ lw_all := lw_g (lw_at lw_m4 218 rfl) rfl
theorem q1070 : (Jvm.Cond.soleField "StripeShelf$Past" "most") ∈ lw_all := lw_g (lw_at lw_m4 219 rfl) rfl
theorem q1071 : (Jvm.Cond.superclass "StripeShelf$Past" "java/lang/Object") ∈ lw_all := lw_g (lw_at lw_m4 220 rfl) rfl
theorem q1838 : (Jvm.Cond.castable "StripeShelf$Past" "java/lang/Object") ∈ lw_tbl := lw_at lw_m8 27 rfl
theorem in_X4 : ∀ w ∈ wsX40, w ∈ lw_all := lw_in wsX40 [1067, 1069] (by decide +kernel) (by decide +kernel)

/-! StripeShelf$Row -/
set_option maxRecDepth 100000
def RX5 : String := "StripeShelf$Row"
def TX5 : u_T := fun k => match k with
  | 0 => ("StripeShelf$Row", "first", "LStripeShelf$Link;", false)
  | 1 => ("StripeShelf$Row", "last", "LStripeShelf$Link;", false)
  | _ => ("StripeShelf$Row", "size", "I", false)
def tyX5 : Nat → FieldType := fun k => match k with
  | 0 => .object "StripeShelf$Link"
  | 1 => .object "StripeShelf$Link"
  | _ => .int
abbrev wsX50 : List Cond := u_ws RX5 TX5 3
theorem nmX5 : ∀ a, a < 3 → ∀ b, b < 3 → a ≠ b → (TX5 a).2.1 ≠ (TX5 b).2.1 := by decide +kernel
theorem tyX5_ok : ∀ k, k < 3 → parseFieldDescriptor (TX5 k).2.2.1 = some (tyX5 k) := by decide +kernel
abbrev cX5_init : ByteArray := prog_8_method_1_code
def yX5_init : MethodName := ⟨RX5, "<init>", "()V"⟩
theorem dX5_init_0 : decode cX5_init 0 = .ok (.aload_n 0, 1) := by decide +kernel
theorem dX5_init_1 : decode cX5_init 1 = .ok (.invokespecial 1, 3) := by decide +kernel
theorem dX5_init_4 : decode cX5_init 4 = .ok (.return_, 1) := by decide +kernel
abbrev cX5_empties : ByteArray := prog_8_method_5_code
def yX5_empties : MethodName := ⟨RX5, "empties", "()V"⟩
def dkwX5_empties_0 : List UInt8 := [42, 1, 181, 0, 21, 42, 1, 181, 0, 12, 42, 3, 181, 0, 27, 177]
abbrev dktX5_empties_0 : List UInt8 := dkwX5_empties_0 ++ []
theorem dksX5_empties_0 : cX5_empties.data.toList.drop 0 = dktX5_empties_0 := by decide +kernel
theorem dX5_empties_0 : decode cX5_empties 0 = .ok (.aload_n 0, 1) := dk_42 (dk_at dksX5_empties_0 0 rfl rfl)
theorem dX5_empties_1 : decode cX5_empties 1 = .ok (.aconst_null, 1) := dk_1 (dk_at dksX5_empties_0 1 rfl rfl)
theorem dX5_empties_2 : decode cX5_empties 2 = .ok (.putfield 21, 3) := dk_181 0 21 (dk_at dksX5_empties_0 2 rfl rfl)
theorem dX5_empties_5 : decode cX5_empties 5 = .ok (.aload_n 0, 1) := dk_42 (dk_at dksX5_empties_0 5 rfl rfl)
theorem dX5_empties_6 : decode cX5_empties 6 = .ok (.aconst_null, 1) := dk_1 (dk_at dksX5_empties_0 6 rfl rfl)
theorem dX5_empties_7 : decode cX5_empties 7 = .ok (.putfield 12, 3) := dk_181 0 12 (dk_at dksX5_empties_0 7 rfl rfl)
theorem dX5_empties_10 : decode cX5_empties 10 = .ok (.aload_n 0, 1) := dk_42 (dk_at dksX5_empties_0 10 rfl rfl)
theorem dX5_empties_11 : decode cX5_empties 11 = .ok (.iconst 0, 1) := dk_3 (dk_at dksX5_empties_0 11 rfl rfl)
theorem dX5_empties_12 : decode cX5_empties 12 = .ok (.putfield 27, 3) := dk_181 0 27 (dk_at dksX5_empties_0 12 rfl rfl)
theorem dX5_empties_15 : decode cX5_empties 15 = .ok (.return_, 1) := dk_177 (dk_at dksX5_empties_0 15 rfl rfl)
abbrev cX5_dropsFirst : ByteArray := prog_8_method_4_code
def yX5_dropsFirst : MethodName := ⟨RX5, "dropsFirst", "()V"⟩
def dkwX5_dropsFirst_1 : List UInt8 := [167, 0, 11, 42, 180, 0, 21, 1, 181, 0, 18, 42, 89, 180, 0, 27, 4, 100, 181, 0, 27, 177]
abbrev dktX5_dropsFirst_1 : List UInt8 := dkwX5_dropsFirst_1 ++ []
def dkwX5_dropsFirst_0 : List UInt8 := [42, 42, 180, 0, 21, 180, 0, 24, 181, 0, 21, 42, 180, 0, 21, 199, 0, 11, 42, 1, 181, 0, 12]
abbrev dktX5_dropsFirst_0 : List UInt8 := dkwX5_dropsFirst_0 ++ dktX5_dropsFirst_1
theorem dksX5_dropsFirst_0 : cX5_dropsFirst.data.toList.drop 0 = dktX5_dropsFirst_0 := by decide +kernel
theorem dksX5_dropsFirst_1 : cX5_dropsFirst.data.toList.drop 23 = dktX5_dropsFirst_1 := dk_seg dksX5_dropsFirst_0 23 rfl rfl
theorem dX5_dropsFirst_0 : decode cX5_dropsFirst 0 = .ok (.aload_n 0, 1) := dk_42 (dk_at dksX5_dropsFirst_0 0 rfl rfl)
theorem dX5_dropsFirst_1 : decode cX5_dropsFirst 1 = .ok (.aload_n 0, 1) := dk_42 (dk_at dksX5_dropsFirst_0 1 rfl rfl)
theorem dX5_dropsFirst_2 : decode cX5_dropsFirst 2 = .ok (.getfield 21, 3) := dk_180 0 21 (dk_at dksX5_dropsFirst_0 2 rfl rfl)
theorem dX5_dropsFirst_5 : decode cX5_dropsFirst 5 = .ok (.getfield 24, 3) := dk_180 0 24 (dk_at dksX5_dropsFirst_0 5 rfl rfl)
theorem dX5_dropsFirst_8 : decode cX5_dropsFirst 8 = .ok (.putfield 21, 3) := dk_181 0 21 (dk_at dksX5_dropsFirst_0 8 rfl rfl)
theorem dX5_dropsFirst_11 : decode cX5_dropsFirst 11 = .ok (.aload_n 0, 1) := dk_42 (dk_at dksX5_dropsFirst_0 11 rfl rfl)
theorem dX5_dropsFirst_12 : decode cX5_dropsFirst 12 = .ok (.getfield 21, 3) := dk_180 0 21 (dk_at dksX5_dropsFirst_0 12 rfl rfl)
theorem dX5_dropsFirst_15 : decode cX5_dropsFirst 15 = .ok (.ifnonnull 11, 3) := dk_199 0 11 (dk_at dksX5_dropsFirst_0 15 rfl rfl)
theorem dX5_dropsFirst_18 : decode cX5_dropsFirst 18 = .ok (.aload_n 0, 1) := dk_42 (dk_at dksX5_dropsFirst_0 18 rfl rfl)
theorem dX5_dropsFirst_19 : decode cX5_dropsFirst 19 = .ok (.aconst_null, 1) := dk_1 (dk_at dksX5_dropsFirst_0 19 rfl rfl)
theorem dX5_dropsFirst_20 : decode cX5_dropsFirst 20 = .ok (.putfield 12, 3) := dk_181 0 12 (dk_at dksX5_dropsFirst_0 20 rfl rfl)
theorem dX5_dropsFirst_23 : decode cX5_dropsFirst 23 = .ok (.goto 11, 3) := dk_167 0 11 (dk_at dksX5_dropsFirst_1 0 rfl rfl)
theorem dX5_dropsFirst_26 : decode cX5_dropsFirst 26 = .ok (.aload_n 0, 1) := dk_42 (dk_at dksX5_dropsFirst_1 3 rfl rfl)
theorem dX5_dropsFirst_27 : decode cX5_dropsFirst 27 = .ok (.getfield 21, 3) := dk_180 0 21 (dk_at dksX5_dropsFirst_1 4 rfl rfl)
theorem dX5_dropsFirst_30 : decode cX5_dropsFirst 30 = .ok (.aconst_null, 1) := dk_1 (dk_at dksX5_dropsFirst_1 7 rfl rfl)
theorem dX5_dropsFirst_31 : decode cX5_dropsFirst 31 = .ok (.putfield 18, 3) := dk_181 0 18 (dk_at dksX5_dropsFirst_1 8 rfl rfl)
theorem dX5_dropsFirst_34 : decode cX5_dropsFirst 34 = .ok (.aload_n 0, 1) := dk_42 (dk_at dksX5_dropsFirst_1 11 rfl rfl)
theorem dX5_dropsFirst_35 : decode cX5_dropsFirst 35 = .ok (.dup, 1) := dk_89 (dk_at dksX5_dropsFirst_1 12 rfl rfl)
theorem dX5_dropsFirst_36 : decode cX5_dropsFirst 36 = .ok (.getfield 27, 3) := dk_180 0 27 (dk_at dksX5_dropsFirst_1 13 rfl rfl)
theorem dX5_dropsFirst_39 : decode cX5_dropsFirst 39 = .ok (.iconst 1, 1) := dk_4 (dk_at dksX5_dropsFirst_1 16 rfl rfl)
theorem dX5_dropsFirst_40 : decode cX5_dropsFirst 40 = .ok (.isub, 1) := dk_100 (dk_at dksX5_dropsFirst_1 17 rfl rfl)
theorem dX5_dropsFirst_41 : decode cX5_dropsFirst 41 = .ok (.putfield 27, 3) := dk_181 0 27 (dk_at dksX5_dropsFirst_1 18 rfl rfl)
theorem dX5_dropsFirst_44 : decode cX5_dropsFirst 44 = .ok (.return_, 1) := dk_177 (dk_at dksX5_dropsFirst_1 21 rfl rfl)
abbrev cX5_adds : ByteArray := prog_8_method_2_code
def yX5_adds : MethodName := ⟨RX5, "adds", "(Ljava/lang/Object;)V"⟩
def dkwX5_adds_2 : List UInt8 := [180, 0, 27, 4, 96, 181, 0, 27, 177]
abbrev dktX5_adds_2 : List UInt8 := dkwX5_adds_2 ++ []
def dkwX5_adds_1 : List UInt8 := [42, 44, 181, 0, 21, 167, 0, 11, 42, 180, 0, 12, 44, 181, 0, 24, 42, 44, 181, 0, 12, 42, 89]
abbrev dktX5_adds_1 : List UInt8 := dkwX5_adds_1 ++ dktX5_adds_2
def dkwX5_adds_0 : List UInt8 := [187, 0, 7, 89, 43, 183, 0, 9, 77, 44, 42, 180, 0, 12, 181, 0, 18, 42, 180, 0, 12, 199, 0, 11]
abbrev dktX5_adds_0 : List UInt8 := dkwX5_adds_0 ++ dktX5_adds_1
theorem dksX5_adds_0 : cX5_adds.data.toList.drop 0 = dktX5_adds_0 := by decide +kernel
theorem dksX5_adds_1 : cX5_adds.data.toList.drop 24 = dktX5_adds_1 := dk_seg dksX5_adds_0 24 rfl rfl
theorem dksX5_adds_2 : cX5_adds.data.toList.drop 47 = dktX5_adds_2 := dk_seg dksX5_adds_1 23 rfl rfl
theorem dX5_adds_0 : decode cX5_adds 0 = .ok (.new 7, 3) := dk_187 0 7 (dk_at dksX5_adds_0 0 rfl rfl)
theorem dX5_adds_3 : decode cX5_adds 3 = .ok (.dup, 1) := dk_89 (dk_at dksX5_adds_0 3 rfl rfl)
theorem dX5_adds_4 : decode cX5_adds 4 = .ok (.aload_n 1, 1) := dk_43 (dk_at dksX5_adds_0 4 rfl rfl)
theorem dX5_adds_5 : decode cX5_adds 5 = .ok (.invokespecial 9, 3) := dk_183 0 9 (dk_at dksX5_adds_0 5 rfl rfl)
theorem dX5_adds_8 : decode cX5_adds 8 = .ok (.astore_n 2, 1) := dk_77 (dk_at dksX5_adds_0 8 rfl rfl)
theorem dX5_adds_9 : decode cX5_adds 9 = .ok (.aload_n 2, 1) := dk_44 (dk_at dksX5_adds_0 9 rfl rfl)
theorem dX5_adds_10 : decode cX5_adds 10 = .ok (.aload_n 0, 1) := dk_42 (dk_at dksX5_adds_0 10 rfl rfl)
theorem dX5_adds_11 : decode cX5_adds 11 = .ok (.getfield 12, 3) := dk_180 0 12 (dk_at dksX5_adds_0 11 rfl rfl)
theorem dX5_adds_14 : decode cX5_adds 14 = .ok (.putfield 18, 3) := dk_181 0 18 (dk_at dksX5_adds_0 14 rfl rfl)
theorem dX5_adds_17 : decode cX5_adds 17 = .ok (.aload_n 0, 1) := dk_42 (dk_at dksX5_adds_0 17 rfl rfl)
theorem dX5_adds_18 : decode cX5_adds 18 = .ok (.getfield 12, 3) := dk_180 0 12 (dk_at dksX5_adds_0 18 rfl rfl)
theorem dX5_adds_21 : decode cX5_adds 21 = .ok (.ifnonnull 11, 3) := dk_199 0 11 (dk_at dksX5_adds_0 21 rfl rfl)
theorem dX5_adds_24 : decode cX5_adds 24 = .ok (.aload_n 0, 1) := dk_42 (dk_at dksX5_adds_1 0 rfl rfl)
theorem dX5_adds_25 : decode cX5_adds 25 = .ok (.aload_n 2, 1) := dk_44 (dk_at dksX5_adds_1 1 rfl rfl)
theorem dX5_adds_26 : decode cX5_adds 26 = .ok (.putfield 21, 3) := dk_181 0 21 (dk_at dksX5_adds_1 2 rfl rfl)
theorem dX5_adds_29 : decode cX5_adds 29 = .ok (.goto 11, 3) := dk_167 0 11 (dk_at dksX5_adds_1 5 rfl rfl)
theorem dX5_adds_32 : decode cX5_adds 32 = .ok (.aload_n 0, 1) := dk_42 (dk_at dksX5_adds_1 8 rfl rfl)
theorem dX5_adds_33 : decode cX5_adds 33 = .ok (.getfield 12, 3) := dk_180 0 12 (dk_at dksX5_adds_1 9 rfl rfl)
theorem dX5_adds_36 : decode cX5_adds 36 = .ok (.aload_n 2, 1) := dk_44 (dk_at dksX5_adds_1 12 rfl rfl)
theorem dX5_adds_37 : decode cX5_adds 37 = .ok (.putfield 24, 3) := dk_181 0 24 (dk_at dksX5_adds_1 13 rfl rfl)
theorem dX5_adds_40 : decode cX5_adds 40 = .ok (.aload_n 0, 1) := dk_42 (dk_at dksX5_adds_1 16 rfl rfl)
theorem dX5_adds_41 : decode cX5_adds 41 = .ok (.aload_n 2, 1) := dk_44 (dk_at dksX5_adds_1 17 rfl rfl)
theorem dX5_adds_42 : decode cX5_adds 42 = .ok (.putfield 12, 3) := dk_181 0 12 (dk_at dksX5_adds_1 18 rfl rfl)
theorem dX5_adds_45 : decode cX5_adds 45 = .ok (.aload_n 0, 1) := dk_42 (dk_at dksX5_adds_1 21 rfl rfl)
theorem dX5_adds_46 : decode cX5_adds 46 = .ok (.dup, 1) := dk_89 (dk_at dksX5_adds_1 22 rfl rfl)
theorem dX5_adds_47 : decode cX5_adds 47 = .ok (.getfield 27, 3) := dk_180 0 27 (dk_at dksX5_adds_2 0 rfl rfl)
theorem dX5_adds_50 : decode cX5_adds 50 = .ok (.iconst 1, 1) := dk_4 (dk_at dksX5_adds_2 3 rfl rfl)
theorem dX5_adds_51 : decode cX5_adds 51 = .ok (.iadd, 1) := dk_96 (dk_at dksX5_adds_2 4 rfl rfl)
theorem dX5_adds_52 : decode cX5_adds 52 = .ok (.putfield 27, 3) := dk_181 0 27 (dk_at dksX5_adds_2 5 rfl rfl)
theorem dX5_adds_55 : decode cX5_adds 55 = .ok (.return_, 1) := dk_177 (dk_at dksX5_adds_2 8 rfl rfl)
abbrev cX5_takesLast : ByteArray := prog_8_method_3_code
def yX5_takesLast : MethodName := ⟨RX5, "takesLast", "()Ljava/lang/Object;"⟩
def dkwX5_takesLast_2 : List UInt8 := [43, 180, 0, 31, 176]
abbrev dktX5_takesLast_2 : List UInt8 := dkwX5_takesLast_2 ++ []
def dkwX5_takesLast_1 : List UInt8 := [181, 0, 21, 167, 0, 11, 42, 180, 0, 12, 1, 181, 0, 24, 42, 89, 180, 0, 27, 4, 100, 181, 0, 27]
abbrev dktX5_takesLast_1 : List UInt8 := dkwX5_takesLast_1 ++ dktX5_takesLast_2
def dkwX5_takesLast_0 : List UInt8 := [42, 180, 0, 12, 76, 42, 43, 180, 0, 18, 181, 0, 12, 42, 180, 0, 12, 199, 0, 11, 42, 1]
abbrev dktX5_takesLast_0 : List UInt8 := dkwX5_takesLast_0 ++ dktX5_takesLast_1
theorem dksX5_takesLast_0 : cX5_takesLast.data.toList.drop 0 = dktX5_takesLast_0 := by decide +kernel
theorem dksX5_takesLast_1 : cX5_takesLast.data.toList.drop 22 = dktX5_takesLast_1 := dk_seg dksX5_takesLast_0 22 rfl rfl
theorem dksX5_takesLast_2 : cX5_takesLast.data.toList.drop 46 = dktX5_takesLast_2 := dk_seg dksX5_takesLast_1 24 rfl rfl
theorem dX5_takesLast_0 : decode cX5_takesLast 0 = .ok (.aload_n 0, 1) := dk_42 (dk_at dksX5_takesLast_0 0 rfl rfl)
theorem dX5_takesLast_1 : decode cX5_takesLast 1 = .ok (.getfield 12, 3) := dk_180 0 12 (dk_at dksX5_takesLast_0 1 rfl rfl)
theorem dX5_takesLast_4 : decode cX5_takesLast 4 = .ok (.astore_n 1, 1) := dk_76 (dk_at dksX5_takesLast_0 4 rfl rfl)
theorem dX5_takesLast_5 : decode cX5_takesLast 5 = .ok (.aload_n 0, 1) := dk_42 (dk_at dksX5_takesLast_0 5 rfl rfl)
theorem dX5_takesLast_6 : decode cX5_takesLast 6 = .ok (.aload_n 1, 1) := dk_43 (dk_at dksX5_takesLast_0 6 rfl rfl)
theorem dX5_takesLast_7 : decode cX5_takesLast 7 = .ok (.getfield 18, 3) := dk_180 0 18 (dk_at dksX5_takesLast_0 7 rfl rfl)
theorem dX5_takesLast_10 : decode cX5_takesLast 10 = .ok (.putfield 12, 3) := dk_181 0 12 (dk_at dksX5_takesLast_0 10 rfl rfl)
theorem dX5_takesLast_13 : decode cX5_takesLast 13 = .ok (.aload_n 0, 1) := dk_42 (dk_at dksX5_takesLast_0 13 rfl rfl)
theorem dX5_takesLast_14 : decode cX5_takesLast 14 = .ok (.getfield 12, 3) := dk_180 0 12 (dk_at dksX5_takesLast_0 14 rfl rfl)
theorem dX5_takesLast_17 : decode cX5_takesLast 17 = .ok (.ifnonnull 11, 3) := dk_199 0 11 (dk_at dksX5_takesLast_0 17 rfl rfl)
theorem dX5_takesLast_20 : decode cX5_takesLast 20 = .ok (.aload_n 0, 1) := dk_42 (dk_at dksX5_takesLast_0 20 rfl rfl)
theorem dX5_takesLast_21 : decode cX5_takesLast 21 = .ok (.aconst_null, 1) := dk_1 (dk_at dksX5_takesLast_0 21 rfl rfl)
theorem dX5_takesLast_22 : decode cX5_takesLast 22 = .ok (.putfield 21, 3) := dk_181 0 21 (dk_at dksX5_takesLast_1 0 rfl rfl)
theorem dX5_takesLast_25 : decode cX5_takesLast 25 = .ok (.goto 11, 3) := dk_167 0 11 (dk_at dksX5_takesLast_1 3 rfl rfl)
theorem dX5_takesLast_28 : decode cX5_takesLast 28 = .ok (.aload_n 0, 1) := dk_42 (dk_at dksX5_takesLast_1 6 rfl rfl)
theorem dX5_takesLast_29 : decode cX5_takesLast 29 = .ok (.getfield 12, 3) := dk_180 0 12 (dk_at dksX5_takesLast_1 7 rfl rfl)
theorem dX5_takesLast_32 : decode cX5_takesLast 32 = .ok (.aconst_null, 1) := dk_1 (dk_at dksX5_takesLast_1 10 rfl rfl)
theorem dX5_takesLast_33 : decode cX5_takesLast 33 = .ok (.putfield 24, 3) := dk_181 0 24 (dk_at dksX5_takesLast_1 11 rfl rfl)
theorem dX5_takesLast_36 : decode cX5_takesLast 36 = .ok (.aload_n 0, 1) := dk_42 (dk_at dksX5_takesLast_1 14 rfl rfl)
theorem dX5_takesLast_37 : decode cX5_takesLast 37 = .ok (.dup, 1) := dk_89 (dk_at dksX5_takesLast_1 15 rfl rfl)
theorem dX5_takesLast_38 : decode cX5_takesLast 38 = .ok (.getfield 27, 3) := dk_180 0 27 (dk_at dksX5_takesLast_1 16 rfl rfl)
theorem dX5_takesLast_41 : decode cX5_takesLast 41 = .ok (.iconst 1, 1) := dk_4 (dk_at dksX5_takesLast_1 19 rfl rfl)
theorem dX5_takesLast_42 : decode cX5_takesLast 42 = .ok (.isub, 1) := dk_100 (dk_at dksX5_takesLast_1 20 rfl rfl)
theorem dX5_takesLast_43 : decode cX5_takesLast 43 = .ok (.putfield 27, 3) := dk_181 0 27 (dk_at dksX5_takesLast_1 21 rfl rfl)
theorem dX5_takesLast_46 : decode cX5_takesLast 46 = .ok (.aload_n 1, 1) := dk_43 (dk_at dksX5_takesLast_2 0 rfl rfl)
theorem dX5_takesLast_47 : decode cX5_takesLast 47 = .ok (.getfield 31, 3) := dk_180 0 31 (dk_at dksX5_takesLast_2 1 rfl rfl)
theorem dX5_takesLast_50 : decode cX5_takesLast 50 = .ok (.areturn, 1) := dk_176 (dk_at dksX5_takesLast_2 4 rfl rfl)
abbrev cX5_fromLast : ByteArray := prog_8_method_6_code
def yX5_fromLast : MethodName := ⟨RX5, "fromLast", "(I)Ljava/lang/Object;"⟩
def dkwX5_fromLast_1 : List UInt8 := [180, 0, 31, 176]
abbrev dktX5_fromLast_1 : List UInt8 := dkwX5_fromLast_1 ++ []
def dkwX5_fromLast_0 : List UInt8 := [42, 180, 0, 12, 77, 3, 62, 29, 27, 162, 0, 14, 44, 180, 0, 18, 77, 132, 3, 1, 167, 255, 243, 44]
abbrev dktX5_fromLast_0 : List UInt8 := dkwX5_fromLast_0 ++ dktX5_fromLast_1
theorem dksX5_fromLast_0 : cX5_fromLast.data.toList.drop 0 = dktX5_fromLast_0 := by decide +kernel
theorem dksX5_fromLast_1 : cX5_fromLast.data.toList.drop 24 = dktX5_fromLast_1 := dk_seg dksX5_fromLast_0 24 rfl rfl
theorem dX5_fromLast_0 : decode cX5_fromLast 0 = .ok (.aload_n 0, 1) := dk_42 (dk_at dksX5_fromLast_0 0 rfl rfl)
theorem dX5_fromLast_1 : decode cX5_fromLast 1 = .ok (.getfield 12, 3) := dk_180 0 12 (dk_at dksX5_fromLast_0 1 rfl rfl)
theorem dX5_fromLast_4 : decode cX5_fromLast 4 = .ok (.astore_n 2, 1) := dk_77 (dk_at dksX5_fromLast_0 4 rfl rfl)
theorem dX5_fromLast_5 : decode cX5_fromLast 5 = .ok (.iconst 0, 1) := dk_3 (dk_at dksX5_fromLast_0 5 rfl rfl)
theorem dX5_fromLast_6 : decode cX5_fromLast 6 = .ok (.istore_n 3, 1) := dk_62 (dk_at dksX5_fromLast_0 6 rfl rfl)
theorem dX5_fromLast_7 : decode cX5_fromLast 7 = .ok (.iload_n 3, 1) := dk_29 (dk_at dksX5_fromLast_0 7 rfl rfl)
theorem dX5_fromLast_8 : decode cX5_fromLast 8 = .ok (.iload_n 1, 1) := dk_27 (dk_at dksX5_fromLast_0 8 rfl rfl)
theorem dX5_fromLast_9 : decode cX5_fromLast 9 = .ok (.if_icmp .ge 14, 3) := dk_162 0 14 (dk_at dksX5_fromLast_0 9 rfl rfl)
theorem dX5_fromLast_12 : decode cX5_fromLast 12 = .ok (.aload_n 2, 1) := dk_44 (dk_at dksX5_fromLast_0 12 rfl rfl)
theorem dX5_fromLast_13 : decode cX5_fromLast 13 = .ok (.getfield 18, 3) := dk_180 0 18 (dk_at dksX5_fromLast_0 13 rfl rfl)
theorem dX5_fromLast_16 : decode cX5_fromLast 16 = .ok (.astore_n 2, 1) := dk_77 (dk_at dksX5_fromLast_0 16 rfl rfl)
theorem dX5_fromLast_17 : decode cX5_fromLast 17 = .ok (.iinc 3 1, 3) := dk_132 3 1 (dk_at dksX5_fromLast_0 17 rfl rfl)
theorem dX5_fromLast_20 : decode cX5_fromLast 20 = .ok (.goto (-13), 3) := dk_167 255 243 (dk_at dksX5_fromLast_0 20 rfl rfl)
theorem dX5_fromLast_23 : decode cX5_fromLast 23 = .ok (.aload_n 2, 1) := dk_44 (dk_at dksX5_fromLast_0 23 rfl rfl)
theorem dX5_fromLast_24 : decode cX5_fromLast 24 = .ok (.getfield 31, 3) := dk_180 0 31 (dk_at dksX5_fromLast_1 0 rfl rfl)
theorem dX5_fromLast_27 : decode cX5_fromLast 27 = .ok (.areturn, 1) := dk_176 (dk_at dksX5_fromLast_1 3 rfl rfl)
theorem q138 : (Jvm.Cond.initialized "StripeShelf$Row") ∈ lw_all := lw_g (lw_at lw_m1 7 rfl) rfl
theorem q333 : (Jvm.Cond.instantiable "StripeShelf$Row" (3 : Nat)) ∈ lw_all := lw_g (lw_at lw_m1 202 rfl) rfl
theorem q335 : (Jvm.Cond.instanceMethod ({ cls := "StripeShelf$Row", name := "<init>", desc := "()V" } : Jvm.MethodName)) ∈ lw_all := lw_g (lw_at lw_m1 204 rfl) rfl
theorem q336 : (Jvm.Cond.code ({ cls := "StripeShelf$Row", name := "<init>", desc := "()V" } : Jvm.MethodName) prog_8_method_1_code (1 : Nat) (Option.none : Option Jvm.ClassFile.FieldType)) ∈ lw_all := lw_g (lw_at lw_m1 205 rfl) rfl
theorem q337 : (Jvm.Cond.methodLink "StripeShelf$Row" (1 : Nat) ({ cls := "java/lang/Object", name := "<init>", desc := "()V" } : Jvm.MethodName)) ∈ lw_all := lw_g (lw_at lw_m1 206 rfl) rfl
theorem q338 : (Jvm.Cond.fieldLink "StripeShelf$Row" (21 : Nat) "StripeShelf$Row" "first" "LStripeShelf$Link;") ∈ lw_all := lw_g (lw_at lw_m1 207 rfl) rfl
theorem q340 : (Jvm.Cond.fieldLink "StripeShelf$Row" (12 : Nat) "StripeShelf$Row" "last" "LStripeShelf$Link;") ∈ lw_all := lw_g (lw_at lw_m1 209 rfl) rfl
theorem q342 : (Jvm.Cond.fieldLink "StripeShelf$Row" (27 : Nat) "StripeShelf$Row" "size" "I") ∈ lw_all := lw_g (lw_at lw_m1 211 rfl) rfl
theorem q344 : (Jvm.Cond.lays "StripeShelf$Row" "StripeShelf$Row" "first" "LStripeShelf$Link;") ∈ lw_all := lw_g (lw_at lw_m1 213 rfl) rfl
theorem q345 : (Jvm.Cond.soleField "StripeShelf$Row" "first") ∈ lw_all := lw_g (lw_at lw_m1 214 rfl) rfl
theorem q346 : (Jvm.Cond.lays "StripeShelf$Row" "StripeShelf$Row" "last" "LStripeShelf$Link;") ∈ lw_all := lw_g (lw_at lw_m1 215 rfl) rfl
theorem q347 : (Jvm.Cond.soleField "StripeShelf$Row" "last") ∈ lw_all := lw_g (lw_at lw_m1 216 rfl) rfl
theorem q348 : (Jvm.Cond.lays "StripeShelf$Row" "StripeShelf$Row" "size" "I") ∈ lw_all := lw_g (lw_at lw_m1 217 rfl) rfl
theorem q349 : (Jvm.Cond.soleField "StripeShelf$Row" "size") ∈ lw_all := lw_g (lw_at lw_m1 218 rfl) rfl
theorem q350 : (Jvm.Cond.superclass "StripeShelf$Row" "java/lang/Object") ∈ lw_all := lw_g (lw_at lw_m1 219 rfl) rfl
theorem q477 : (Jvm.Cond.instanceMethod ({ cls := "StripeShelf$Row", name := "empties", desc := "()V" } : Jvm.MethodName)) ∈ lw_all := lw_g (lw_at lw_m2 106 rfl) rfl
theorem q478 : (Jvm.Cond.selects "StripeShelf$Row" ({ cls := "StripeShelf$Row", name := "empties", desc := "()V" } : Jvm.MethodName) ({ cls := "StripeShelf$Row", name := "empties", desc := "()V" } : Jvm.MethodName)) ∈ lw_all := lw_g (lw_at lw_m2 107 rfl) rfl
theorem q479 : (Jvm.Cond.code ({ cls := "StripeShelf$Row", name := "empties", desc := "()V" } : Jvm.MethodName) prog_8_method_5_code (1 : Nat) (Option.none : Option Jvm.ClassFile.FieldType)) ∈ lw_all := lw_g (lw_at lw_m2 108 rfl) rfl
theorem q541 : (Jvm.Cond.instanceMethod ({ cls := "StripeShelf$Row", name := "dropsFirst", desc := "()V" } : Jvm.MethodName)) ∈ lw_all := lw_g (lw_at lw_m2 170 rfl) rfl
theorem q542 : (Jvm.Cond.selects "StripeShelf$Row" ({ cls := "StripeShelf$Row", name := "dropsFirst", desc := "()V" } : Jvm.MethodName) ({ cls := "StripeShelf$Row", name := "dropsFirst", desc := "()V" } : Jvm.MethodName)) ∈ lw_all := lw_g (lw_at lw_m2 171 rfl) rfl
theorem q543 : (Jvm.Cond.code ({ cls := "StripeShelf$Row", name := "dropsFirst", desc := "()V" } : Jvm.MethodName) prog_8_method_4_code (1 : Nat) (Option.none : Option Jvm.ClassFile.FieldType)) ∈ lw_all := lw_g (lw_at lw_m2 172 rfl) rfl
theorem q571 : (Jvm.Cond.instanceMethod ({ cls := "StripeShelf$Row", name := "adds", desc := "(Ljava/lang/Object;)V" } : Jvm.MethodName)) ∈ lw_all := lw_g (lw_at lw_m2 200 rfl) rfl
theorem q572 : (Jvm.Cond.selects "StripeShelf$Row" ({ cls := "StripeShelf$Row", name := "adds", desc := "(Ljava/lang/Object;)V" } : Jvm.MethodName) ({ cls := "StripeShelf$Row", name := "adds", desc := "(Ljava/lang/Object;)V" } : Jvm.MethodName)) ∈ lw_all := lw_g (lw_at lw_m2 201 rfl) rfl
theorem q573 : (Jvm.Cond.code ({ cls := "StripeShelf$Row", name := "adds", desc := "(Ljava/lang/Object;)V" } : Jvm.MethodName) prog_8_method_2_code (3 : Nat) (Option.none : Option Jvm.ClassFile.FieldType)) ∈ lw_all := lw_g (lw_at lw_m2 202 rfl) rfl
theorem q574 : (Jvm.Cond.classLink "StripeShelf$Row" (7 : Nat) "StripeShelf$Link") ∈ lw_all := lw_g (lw_at lw_m2 203 rfl) rfl
theorem q576 : (Jvm.Cond.methodLink "StripeShelf$Row" (9 : Nat) ({ cls := "StripeShelf$Link", name := "<init>", desc := "(Ljava/lang/Object;)V" } : Jvm.MethodName)) ∈ lw_all := lw_g (lw_at lw_m2 205 rfl) rfl
theorem q582 : (Jvm.Cond.fieldLinkNest "StripeShelf$Row" (31 : Nat) "StripeShelf$Link" "its" "Ljava/lang/Object;" "StripeShelf") ∈ lw_tbl := lw_at lw_m2 211 rfl
theorem q583 : (Jvm.Cond.fieldLinkNest "StripeShelf$Row" (18 : Nat) "StripeShelf$Link" "ahead" "LStripeShelf$Link;" "StripeShelf") ∈ lw_tbl := lw_at lw_m2 212 rfl
theorem q584 : (Jvm.Cond.fieldLinkNest "StripeShelf$Row" (24 : Nat) "StripeShelf$Link" "behind" "LStripeShelf$Link;" "StripeShelf") ∈ lw_tbl := lw_at lw_m2 213 rfl
theorem q837 : (Jvm.Cond.instanceMethod ({ cls := "StripeShelf$Row", name := "takesLast", desc := "()Ljava/lang/Object;" } : Jvm.MethodName)) ∈ lw_all := lw_g (lw_at lw_m3 226 rfl) rfl
theorem q838 : (Jvm.Cond.selects "StripeShelf$Row" ({ cls := "StripeShelf$Row", name := "takesLast", desc := "()Ljava/lang/Object;" } : Jvm.MethodName) ({ cls := "StripeShelf$Row", name := "takesLast", desc := "()Ljava/lang/Object;" } : Jvm.MethodName)) ∈ lw_all := lw_g (lw_at lw_m3 227 rfl) rfl
theorem q839 : (Jvm.Cond.code ({ cls := "StripeShelf$Row", name := "takesLast", desc := "()Ljava/lang/Object;" } : Jvm.MethodName) prog_8_method_3_code (2 : Nat) (Option.some (Jvm.ClassFile.FieldType.object "java/lang/Object"))) ∈ lw_all := lw_g (lw_at lw_m3 228 rfl) rfl
theorem q846 : (Jvm.Cond.instanceMethod ({ cls := "StripeShelf$Row", name := "fromLast", desc := "(I)Ljava/lang/Object;" } : Jvm.MethodName)) ∈ lw_all := lw_g (lw_at lw_m3 235 rfl) rfl
theorem q847 : (Jvm.Cond.selects "StripeShelf$Row" ({ cls := "StripeShelf$Row", name := "fromLast", desc := "(I)Ljava/lang/Object;" } : Jvm.MethodName) ({ cls := "StripeShelf$Row", name := "fromLast", desc := "(I)Ljava/lang/Object;" } : Jvm.MethodName)) ∈ lw_all := lw_g (lw_at lw_m3 236 rfl) rfl
theorem q848 : (Jvm.Cond.code ({ cls := "StripeShelf$Row", name := "fromLast", desc := "(I)Ljava/lang/Object;" } : Jvm.MethodName) prog_8_method_6_code (4 : Nat) (Option.some (Jvm.ClassFile.FieldType.object "java/lang/Object"))) ∈ lw_all := lw_g (lw_at lw_m3 237 rfl) rfl
theorem q1839 : (Jvm.Cond.castable "StripeShelf$Row" "java/lang/Object") ∈ lw_tbl := lw_at lw_m8 28 rfl
theorem in_X5 : ∀ w ∈ wsX50, w ∈ lw_all := lw_in wsX50 [344, 346, 348] (by decide +kernel) (by decide +kernel)

/-! StripeShelf$State -/
set_option maxRecDepth 100000
def RX7 : String := "StripeShelf$State"
def TX7 : u_T := fun k => match k with
  | 0 => ("StripeShelf$State", "cells", "[I", true)
  | 1 => ("StripeShelf$State", "kind", "[I", true)
  | 2 => ("StripeShelf$State", "done", "[I", true)
  | 3 => ("StripeShelf$State", "reads", "[I", true)
  | 4 => ("StripeShelf$State", "writes", "[I", true)
  | 5 => ("StripeShelf$State", "mended", "[I", true)
  | 6 => ("StripeShelf$State", "dirty", "I", false)
  | 7 => ("StripeShelf$State", "spares", "I", false)
  | 8 => ("StripeShelf$State", "cursor", "I", false)
  | 9 => ("StripeShelf$State", "open", "I", false)
  | 10 => ("StripeShelf$State", "passed", "I", false)
  | 11 => ("StripeShelf$State", "wrongDisk", "I", false)
  | 12 => ("StripeShelf$State", "wrongStripe", "I", false)
  | 13 => ("StripeShelf$State", "wrongByte", "I", false)
  | _ => ("StripeShelf$State", "log", "LStripeShelf$Row;", true)
def tyX7 : Nat → FieldType := fun k => match k with
  | 0 => .array .int
  | 1 => .array .int
  | 2 => .array .int
  | 3 => .array .int
  | 4 => .array .int
  | 5 => .array .int
  | 6 => .int
  | 7 => .int
  | 8 => .int
  | 9 => .int
  | 10 => .int
  | 11 => .int
  | 12 => .int
  | 13 => .int
  | _ => .object "StripeShelf$Row"
abbrev wsX70 : List Cond := u_ws RX7 TX7 15
set_option maxRecDepth 100000 in
theorem nmX7 : ∀ a, a < 15 → ∀ b, b < 15 → a ≠ b → (TX7 a).2.1 ≠ (TX7 b).2.1 := by decide +kernel
set_option maxRecDepth 100000 in
theorem tyX7_ok : ∀ k, k < 15 → parseFieldDescriptor (TX7 k).2.2.1 = some (tyX7 k) := by decide +kernel
abbrev cX7_init : ByteArray := prog_9_method_1_code
def yX7_init : MethodName := ⟨RX7, "<init>", "()V"⟩
def dkwX7_init_3 : List UInt8 := [89, 183, 0, 42, 181, 0, 43, 177]
abbrev dktX7_init_3 : List UInt8 := dkwX7_init_3 ++ []
def dkwX7_init_2 : List UInt8 := [188, 10, 181, 0, 27, 42, 2, 181, 0, 30, 42, 2, 181, 0, 34, 42, 2, 181, 0, 37, 42, 187, 0, 40]
abbrev dktX7_init_2 : List UInt8 := dkwX7_init_2 ++ dktX7_init_3
def dkwX7_init_1 : List UInt8 := [188, 10, 181, 0, 18, 42, 16, 8, 188, 10, 181, 0, 21, 42, 16, 8, 188, 10, 181, 0, 24, 42, 16, 8]
abbrev dktX7_init_1 : List UInt8 := dkwX7_init_1 ++ dktX7_init_2
def dkwX7_init_0 : List UInt8 := [42, 183, 0, 3, 42, 17, 1, 128, 188, 10, 181, 0, 9, 42, 16, 8, 188, 10, 181, 0, 15, 42, 16, 8]
abbrev dktX7_init_0 : List UInt8 := dkwX7_init_0 ++ dktX7_init_1
theorem dksX7_init_0 : cX7_init.data.toList.drop 0 = dktX7_init_0 := by decide +kernel
theorem dksX7_init_1 : cX7_init.data.toList.drop 24 = dktX7_init_1 := dk_seg dksX7_init_0 24 rfl rfl
theorem dksX7_init_2 : cX7_init.data.toList.drop 48 = dktX7_init_2 := dk_seg dksX7_init_1 24 rfl rfl
theorem dksX7_init_3 : cX7_init.data.toList.drop 72 = dktX7_init_3 := dk_seg dksX7_init_2 24 rfl rfl
theorem dX7_init_0 : decode cX7_init 0 = .ok (.aload_n 0, 1) := dk_42 (dk_at dksX7_init_0 0 rfl rfl)
theorem dX7_init_1 : decode cX7_init 1 = .ok (.invokespecial 3, 3) := dk_183 0 3 (dk_at dksX7_init_0 1 rfl rfl)
theorem dX7_init_4 : decode cX7_init 4 = .ok (.aload_n 0, 1) := dk_42 (dk_at dksX7_init_0 4 rfl rfl)
theorem dX7_init_5 : decode cX7_init 5 = .ok (.sipush 384, 3) := dk_17 1 128 (dk_at dksX7_init_0 5 rfl rfl)
theorem dX7_init_8 : decode cX7_init 8 = .ok (.newarray .int, 2) := dk_188_10 (dk_at dksX7_init_0 8 rfl rfl)
theorem dX7_init_10 : decode cX7_init 10 = .ok (.putfield 9, 3) := dk_181 0 9 (dk_at dksX7_init_0 10 rfl rfl)
theorem dX7_init_13 : decode cX7_init 13 = .ok (.aload_n 0, 1) := dk_42 (dk_at dksX7_init_0 13 rfl rfl)
theorem dX7_init_14 : decode cX7_init 14 = .ok (.bipush 8, 2) := dk_16 8 (dk_at dksX7_init_0 14 rfl rfl)
theorem dX7_init_16 : decode cX7_init 16 = .ok (.newarray .int, 2) := dk_188_10 (dk_at dksX7_init_0 16 rfl rfl)
theorem dX7_init_18 : decode cX7_init 18 = .ok (.putfield 15, 3) := dk_181 0 15 (dk_at dksX7_init_0 18 rfl rfl)
theorem dX7_init_21 : decode cX7_init 21 = .ok (.aload_n 0, 1) := dk_42 (dk_at dksX7_init_0 21 rfl rfl)
theorem dX7_init_22 : decode cX7_init 22 = .ok (.bipush 8, 2) := dk_16 8 (dk_at dksX7_init_0 22 rfl rfl)
theorem dX7_init_24 : decode cX7_init 24 = .ok (.newarray .int, 2) := dk_188_10 (dk_at dksX7_init_1 0 rfl rfl)
theorem dX7_init_26 : decode cX7_init 26 = .ok (.putfield 18, 3) := dk_181 0 18 (dk_at dksX7_init_1 2 rfl rfl)
theorem dX7_init_29 : decode cX7_init 29 = .ok (.aload_n 0, 1) := dk_42 (dk_at dksX7_init_1 5 rfl rfl)
theorem dX7_init_30 : decode cX7_init 30 = .ok (.bipush 8, 2) := dk_16 8 (dk_at dksX7_init_1 6 rfl rfl)
theorem dX7_init_32 : decode cX7_init 32 = .ok (.newarray .int, 2) := dk_188_10 (dk_at dksX7_init_1 8 rfl rfl)
theorem dX7_init_34 : decode cX7_init 34 = .ok (.putfield 21, 3) := dk_181 0 21 (dk_at dksX7_init_1 10 rfl rfl)
theorem dX7_init_37 : decode cX7_init 37 = .ok (.aload_n 0, 1) := dk_42 (dk_at dksX7_init_1 13 rfl rfl)
theorem dX7_init_38 : decode cX7_init 38 = .ok (.bipush 8, 2) := dk_16 8 (dk_at dksX7_init_1 14 rfl rfl)
theorem dX7_init_40 : decode cX7_init 40 = .ok (.newarray .int, 2) := dk_188_10 (dk_at dksX7_init_1 16 rfl rfl)
theorem dX7_init_42 : decode cX7_init 42 = .ok (.putfield 24, 3) := dk_181 0 24 (dk_at dksX7_init_1 18 rfl rfl)
theorem dX7_init_45 : decode cX7_init 45 = .ok (.aload_n 0, 1) := dk_42 (dk_at dksX7_init_1 21 rfl rfl)
theorem dX7_init_46 : decode cX7_init 46 = .ok (.bipush 8, 2) := dk_16 8 (dk_at dksX7_init_1 22 rfl rfl)
theorem dX7_init_48 : decode cX7_init 48 = .ok (.newarray .int, 2) := dk_188_10 (dk_at dksX7_init_2 0 rfl rfl)
theorem dX7_init_50 : decode cX7_init 50 = .ok (.putfield 27, 3) := dk_181 0 27 (dk_at dksX7_init_2 2 rfl rfl)
theorem dX7_init_53 : decode cX7_init 53 = .ok (.aload_n 0, 1) := dk_42 (dk_at dksX7_init_2 5 rfl rfl)
theorem dX7_init_54 : decode cX7_init 54 = .ok (.iconst (-1), 1) := dk_2 (dk_at dksX7_init_2 6 rfl rfl)
theorem dX7_init_55 : decode cX7_init 55 = .ok (.putfield 30, 3) := dk_181 0 30 (dk_at dksX7_init_2 7 rfl rfl)
theorem dX7_init_58 : decode cX7_init 58 = .ok (.aload_n 0, 1) := dk_42 (dk_at dksX7_init_2 10 rfl rfl)
theorem dX7_init_59 : decode cX7_init 59 = .ok (.iconst (-1), 1) := dk_2 (dk_at dksX7_init_2 11 rfl rfl)
theorem dX7_init_60 : decode cX7_init 60 = .ok (.putfield 34, 3) := dk_181 0 34 (dk_at dksX7_init_2 12 rfl rfl)
theorem dX7_init_63 : decode cX7_init 63 = .ok (.aload_n 0, 1) := dk_42 (dk_at dksX7_init_2 15 rfl rfl)
theorem dX7_init_64 : decode cX7_init 64 = .ok (.iconst (-1), 1) := dk_2 (dk_at dksX7_init_2 16 rfl rfl)
theorem dX7_init_65 : decode cX7_init 65 = .ok (.putfield 37, 3) := dk_181 0 37 (dk_at dksX7_init_2 17 rfl rfl)
theorem dX7_init_68 : decode cX7_init 68 = .ok (.aload_n 0, 1) := dk_42 (dk_at dksX7_init_2 20 rfl rfl)
theorem dX7_init_69 : decode cX7_init 69 = .ok (.new 40, 3) := dk_187 0 40 (dk_at dksX7_init_2 21 rfl rfl)
theorem dX7_init_72 : decode cX7_init 72 = .ok (.dup, 1) := dk_89 (dk_at dksX7_init_3 0 rfl rfl)
theorem dX7_init_73 : decode cX7_init 73 = .ok (.invokespecial 42, 3) := dk_183 0 42 (dk_at dksX7_init_3 1 rfl rfl)
theorem dX7_init_76 : decode cX7_init 76 = .ok (.putfield 43, 3) := dk_181 0 43 (dk_at dksX7_init_3 4 rfl rfl)
theorem dX7_init_79 : decode cX7_init 79 = .ok (.return_, 1) := dk_177 (dk_at dksX7_init_3 7 rfl rfl)
abbrev cX7_isThere : ByteArray := prog_9_method_4_code
def yX7_isThere : MethodName := ⟨RX7, "isThere", "(II)Z"⟩
def dkwX7_isThere_1 : List UInt8 := [27, 46, 162, 0, 7, 4, 167, 0, 4, 3, 172]
abbrev dktX7_isThere_1 : List UInt8 := dkwX7_isThere_1 ++ []
def dkwX7_isThere_0 : List UInt8 := [42, 180, 0, 15, 27, 46, 153, 0, 23, 42, 180, 0, 15, 27, 46, 5, 160, 0, 17, 28, 42, 180, 0, 18]
abbrev dktX7_isThere_0 : List UInt8 := dkwX7_isThere_0 ++ dktX7_isThere_1
theorem dksX7_isThere_0 : cX7_isThere.data.toList.drop 0 = dktX7_isThere_0 := by decide +kernel
theorem dksX7_isThere_1 : cX7_isThere.data.toList.drop 24 = dktX7_isThere_1 := dk_seg dksX7_isThere_0 24 rfl rfl
theorem dX7_isThere_0 : decode cX7_isThere 0 = .ok (.aload_n 0, 1) := dk_42 (dk_at dksX7_isThere_0 0 rfl rfl)
theorem dX7_isThere_1 : decode cX7_isThere 1 = .ok (.getfield 15, 3) := dk_180 0 15 (dk_at dksX7_isThere_0 1 rfl rfl)
theorem dX7_isThere_4 : decode cX7_isThere 4 = .ok (.iload_n 1, 1) := dk_27 (dk_at dksX7_isThere_0 4 rfl rfl)
theorem dX7_isThere_5 : decode cX7_isThere 5 = .ok (.iaload, 1) := dk_46 (dk_at dksX7_isThere_0 5 rfl rfl)
theorem dX7_isThere_6 : decode cX7_isThere 6 = .ok (.ifCond .eq 23, 3) := dk_153 0 23 (dk_at dksX7_isThere_0 6 rfl rfl)
theorem dX7_isThere_9 : decode cX7_isThere 9 = .ok (.aload_n 0, 1) := dk_42 (dk_at dksX7_isThere_0 9 rfl rfl)
theorem dX7_isThere_10 : decode cX7_isThere 10 = .ok (.getfield 15, 3) := dk_180 0 15 (dk_at dksX7_isThere_0 10 rfl rfl)
theorem dX7_isThere_13 : decode cX7_isThere 13 = .ok (.iload_n 1, 1) := dk_27 (dk_at dksX7_isThere_0 13 rfl rfl)
theorem dX7_isThere_14 : decode cX7_isThere 14 = .ok (.iaload, 1) := dk_46 (dk_at dksX7_isThere_0 14 rfl rfl)
theorem dX7_isThere_15 : decode cX7_isThere 15 = .ok (.iconst 2, 1) := dk_5 (dk_at dksX7_isThere_0 15 rfl rfl)
theorem dX7_isThere_16 : decode cX7_isThere 16 = .ok (.if_icmp .ne 17, 3) := dk_160 0 17 (dk_at dksX7_isThere_0 16 rfl rfl)
theorem dX7_isThere_19 : decode cX7_isThere 19 = .ok (.iload_n 2, 1) := dk_28 (dk_at dksX7_isThere_0 19 rfl rfl)
theorem dX7_isThere_20 : decode cX7_isThere 20 = .ok (.aload_n 0, 1) := dk_42 (dk_at dksX7_isThere_0 20 rfl rfl)
theorem dX7_isThere_21 : decode cX7_isThere 21 = .ok (.getfield 18, 3) := dk_180 0 18 (dk_at dksX7_isThere_0 21 rfl rfl)
theorem dX7_isThere_24 : decode cX7_isThere 24 = .ok (.iload_n 1, 1) := dk_27 (dk_at dksX7_isThere_1 0 rfl rfl)
theorem dX7_isThere_25 : decode cX7_isThere 25 = .ok (.iaload, 1) := dk_46 (dk_at dksX7_isThere_1 1 rfl rfl)
theorem dX7_isThere_26 : decode cX7_isThere 26 = .ok (.if_icmp .ge 7, 3) := dk_162 0 7 (dk_at dksX7_isThere_1 2 rfl rfl)
theorem dX7_isThere_29 : decode cX7_isThere 29 = .ok (.iconst 1, 1) := dk_4 (dk_at dksX7_isThere_1 5 rfl rfl)
theorem dX7_isThere_30 : decode cX7_isThere 30 = .ok (.goto 4, 3) := dk_167 0 4 (dk_at dksX7_isThere_1 6 rfl rfl)
theorem dX7_isThere_33 : decode cX7_isThere 33 = .ok (.iconst 0, 1) := dk_3 (dk_at dksX7_isThere_1 9 rfl rfl)
theorem dX7_isThere_34 : decode cX7_isThere 34 = .ok (.ireturn, 1) := dk_172 (dk_at dksX7_isThere_1 10 rfl rfl)
abbrev cX7_copied : ByteArray := prog_9_method_9_code
def yX7_copied : MethodName := ⟨RX7, "copied", "()Ljava/lang/Object;"⟩
theorem dX7_copied_0 : decode cX7_copied 0 = .ok (.aload_n 0, 1) := by decide +kernel
theorem dX7_copied_1 : decode cX7_copied 1 = .ok (.invokevirtual 84, 3) := by decide +kernel
theorem dX7_copied_4 : decode cX7_copied 4 = .ok (.areturn, 1) := by decide +kernel
abbrev cX7_copied_2 : ByteArray := prog_9_method_2_code
def yX7_copied_2 : MethodName := ⟨RX7, "copied", "()LStripeShelf$State;"⟩
def dkwX7_copied_2_0 : List UInt8 := [187, 0, 10, 89, 183, 0, 47, 42, 182, 0, 48, 176]
abbrev dktX7_copied_2_0 : List UInt8 := dkwX7_copied_2_0 ++ []
theorem dksX7_copied_2_0 : cX7_copied_2.data.toList.drop 0 = dktX7_copied_2_0 := by decide +kernel
theorem dX7_copied_2_0 : decode cX7_copied_2 0 = .ok (.new 10, 3) := dk_187 0 10 (dk_at dksX7_copied_2_0 0 rfl rfl)
theorem dX7_copied_2_3 : decode cX7_copied_2 3 = .ok (.dup, 1) := dk_89 (dk_at dksX7_copied_2_0 3 rfl rfl)
theorem dX7_copied_2_4 : decode cX7_copied_2 4 = .ok (.invokespecial 47, 3) := dk_183 0 47 (dk_at dksX7_copied_2_0 4 rfl rfl)
theorem dX7_copied_2_7 : decode cX7_copied_2 7 = .ok (.aload_n 0, 1) := dk_42 (dk_at dksX7_copied_2_0 7 rfl rfl)
theorem dX7_copied_2_8 : decode cX7_copied_2 8 = .ok (.invokevirtual 48, 3) := dk_182 0 48 (dk_at dksX7_copied_2_0 8 rfl rfl)
theorem dX7_copied_2_11 : decode cX7_copied_2 11 = .ok (.areturn, 1) := dk_176 (dk_at dksX7_copied_2_0 11 rfl rfl)
abbrev cX7_like : ByteArray := prog_9_method_3_code
def yX7_like : MethodName := ⟨RX7, "like", "(LStripeShelf$State;)LStripeShelf$State;"⟩
def dkwX7_like_7 : List UInt8 := [180, 0, 43, 42, 180, 0, 43, 16, 60, 184, 0, 76, 42, 176]
abbrev dktX7_like_7 : List UInt8 := dkwX7_like_7 ++ []
def dkwX7_like_6 : List UInt8 := [180, 0, 34, 181, 0, 34, 42, 43, 180, 0, 37, 181, 0, 37, 42, 180, 0, 43, 182, 0, 73, 43]
abbrev dktX7_like_6 : List UInt8 := dkwX7_like_6 ++ dktX7_like_7
def dkwX7_like_5 : List UInt8 := [180, 0, 67, 181, 0, 67, 42, 43, 180, 0, 70, 181, 0, 70, 42, 43, 180, 0, 30, 181, 0, 30, 42, 43]
abbrev dktX7_like_5 : List UInt8 := dkwX7_like_5 ++ dktX7_like_6
def dkwX7_like_4 : List UInt8 := [180, 0, 58, 181, 0, 58, 42, 43, 180, 0, 61, 181, 0, 61, 42, 43, 180, 0, 64, 181, 0, 64, 42, 43]
abbrev dktX7_like_4 : List UInt8 := dkwX7_like_4 ++ dktX7_like_5
def dkwX7_like_3 : List UInt8 := [3, 16, 8, 184, 0, 52, 43, 180, 0, 27, 3, 42, 180, 0, 27, 3, 16, 8, 184, 0, 52, 42, 43]
abbrev dktX7_like_3 : List UInt8 := dkwX7_like_3 ++ dktX7_like_4
def dkwX7_like_2 : List UInt8 := [43, 180, 0, 21, 3, 42, 180, 0, 21, 3, 16, 8, 184, 0, 52, 43, 180, 0, 24, 3, 42, 180, 0, 24]
abbrev dktX7_like_2 : List UInt8 := dkwX7_like_2 ++ dktX7_like_3
def dkwX7_like_1 : List UInt8 := [180, 0, 15, 3, 16, 8, 184, 0, 52, 43, 180, 0, 18, 3, 42, 180, 0, 18, 3, 16, 8, 184, 0, 52]
abbrev dktX7_like_1 : List UInt8 := dkwX7_like_1 ++ dktX7_like_2
def dkwX7_like_0 : List UInt8 := [43, 180, 0, 9, 3, 42, 180, 0, 9, 3, 42, 180, 0, 9, 190, 184, 0, 52, 43, 180, 0, 15, 3, 42]
abbrev dktX7_like_0 : List UInt8 := dkwX7_like_0 ++ dktX7_like_1
theorem dksX7_like_0 : cX7_like.data.toList.drop 0 = dktX7_like_0 := by decide +kernel
theorem dksX7_like_1 : cX7_like.data.toList.drop 24 = dktX7_like_1 := dk_seg dksX7_like_0 24 rfl rfl
theorem dksX7_like_2 : cX7_like.data.toList.drop 48 = dktX7_like_2 := dk_seg dksX7_like_1 24 rfl rfl
theorem dksX7_like_3 : cX7_like.data.toList.drop 72 = dktX7_like_3 := dk_seg dksX7_like_2 24 rfl rfl
theorem dksX7_like_4 : cX7_like.data.toList.drop 95 = dktX7_like_4 := dk_seg dksX7_like_3 23 rfl rfl
theorem dksX7_like_5 : cX7_like.data.toList.drop 119 = dktX7_like_5 := dk_seg dksX7_like_4 24 rfl rfl
theorem dksX7_like_6 : cX7_like.data.toList.drop 143 = dktX7_like_6 := dk_seg dksX7_like_5 24 rfl rfl
theorem dksX7_like_7 : cX7_like.data.toList.drop 165 = dktX7_like_7 := dk_seg dksX7_like_6 22 rfl rfl
theorem dX7_like_0 : decode cX7_like 0 = .ok (.aload_n 1, 1) := dk_43 (dk_at dksX7_like_0 0 rfl rfl)
theorem dX7_like_1 : decode cX7_like 1 = .ok (.getfield 9, 3) := dk_180 0 9 (dk_at dksX7_like_0 1 rfl rfl)
theorem dX7_like_4 : decode cX7_like 4 = .ok (.iconst 0, 1) := dk_3 (dk_at dksX7_like_0 4 rfl rfl)
theorem dX7_like_5 : decode cX7_like 5 = .ok (.aload_n 0, 1) := dk_42 (dk_at dksX7_like_0 5 rfl rfl)
theorem dX7_like_6 : decode cX7_like 6 = .ok (.getfield 9, 3) := dk_180 0 9 (dk_at dksX7_like_0 6 rfl rfl)
theorem dX7_like_9 : decode cX7_like 9 = .ok (.iconst 0, 1) := dk_3 (dk_at dksX7_like_0 9 rfl rfl)
theorem dX7_like_10 : decode cX7_like 10 = .ok (.aload_n 0, 1) := dk_42 (dk_at dksX7_like_0 10 rfl rfl)
theorem dX7_like_11 : decode cX7_like 11 = .ok (.getfield 9, 3) := dk_180 0 9 (dk_at dksX7_like_0 11 rfl rfl)
theorem dX7_like_14 : decode cX7_like 14 = .ok (.arraylength, 1) := dk_190 (dk_at dksX7_like_0 14 rfl rfl)
theorem dX7_like_15 : decode cX7_like 15 = .ok (.invokestatic 52, 3) := dk_184 0 52 (dk_at dksX7_like_0 15 rfl rfl)
theorem dX7_like_18 : decode cX7_like 18 = .ok (.aload_n 1, 1) := dk_43 (dk_at dksX7_like_0 18 rfl rfl)
theorem dX7_like_19 : decode cX7_like 19 = .ok (.getfield 15, 3) := dk_180 0 15 (dk_at dksX7_like_0 19 rfl rfl)
theorem dX7_like_22 : decode cX7_like 22 = .ok (.iconst 0, 1) := dk_3 (dk_at dksX7_like_0 22 rfl rfl)
theorem dX7_like_23 : decode cX7_like 23 = .ok (.aload_n 0, 1) := dk_42 (dk_at dksX7_like_0 23 rfl rfl)
theorem dX7_like_24 : decode cX7_like 24 = .ok (.getfield 15, 3) := dk_180 0 15 (dk_at dksX7_like_1 0 rfl rfl)
theorem dX7_like_27 : decode cX7_like 27 = .ok (.iconst 0, 1) := dk_3 (dk_at dksX7_like_1 3 rfl rfl)
theorem dX7_like_28 : decode cX7_like 28 = .ok (.bipush 8, 2) := dk_16 8 (dk_at dksX7_like_1 4 rfl rfl)
theorem dX7_like_30 : decode cX7_like 30 = .ok (.invokestatic 52, 3) := dk_184 0 52 (dk_at dksX7_like_1 6 rfl rfl)
theorem dX7_like_33 : decode cX7_like 33 = .ok (.aload_n 1, 1) := dk_43 (dk_at dksX7_like_1 9 rfl rfl)
theorem dX7_like_34 : decode cX7_like 34 = .ok (.getfield 18, 3) := dk_180 0 18 (dk_at dksX7_like_1 10 rfl rfl)
theorem dX7_like_37 : decode cX7_like 37 = .ok (.iconst 0, 1) := dk_3 (dk_at dksX7_like_1 13 rfl rfl)
theorem dX7_like_38 : decode cX7_like 38 = .ok (.aload_n 0, 1) := dk_42 (dk_at dksX7_like_1 14 rfl rfl)
theorem dX7_like_39 : decode cX7_like 39 = .ok (.getfield 18, 3) := dk_180 0 18 (dk_at dksX7_like_1 15 rfl rfl)
theorem dX7_like_42 : decode cX7_like 42 = .ok (.iconst 0, 1) := dk_3 (dk_at dksX7_like_1 18 rfl rfl)
theorem dX7_like_43 : decode cX7_like 43 = .ok (.bipush 8, 2) := dk_16 8 (dk_at dksX7_like_1 19 rfl rfl)
theorem dX7_like_45 : decode cX7_like 45 = .ok (.invokestatic 52, 3) := dk_184 0 52 (dk_at dksX7_like_1 21 rfl rfl)
theorem dX7_like_48 : decode cX7_like 48 = .ok (.aload_n 1, 1) := dk_43 (dk_at dksX7_like_2 0 rfl rfl)
theorem dX7_like_49 : decode cX7_like 49 = .ok (.getfield 21, 3) := dk_180 0 21 (dk_at dksX7_like_2 1 rfl rfl)
theorem dX7_like_52 : decode cX7_like 52 = .ok (.iconst 0, 1) := dk_3 (dk_at dksX7_like_2 4 rfl rfl)
theorem dX7_like_53 : decode cX7_like 53 = .ok (.aload_n 0, 1) := dk_42 (dk_at dksX7_like_2 5 rfl rfl)
theorem dX7_like_54 : decode cX7_like 54 = .ok (.getfield 21, 3) := dk_180 0 21 (dk_at dksX7_like_2 6 rfl rfl)
theorem dX7_like_57 : decode cX7_like 57 = .ok (.iconst 0, 1) := dk_3 (dk_at dksX7_like_2 9 rfl rfl)
theorem dX7_like_58 : decode cX7_like 58 = .ok (.bipush 8, 2) := dk_16 8 (dk_at dksX7_like_2 10 rfl rfl)
theorem dX7_like_60 : decode cX7_like 60 = .ok (.invokestatic 52, 3) := dk_184 0 52 (dk_at dksX7_like_2 12 rfl rfl)
theorem dX7_like_63 : decode cX7_like 63 = .ok (.aload_n 1, 1) := dk_43 (dk_at dksX7_like_2 15 rfl rfl)
theorem dX7_like_64 : decode cX7_like 64 = .ok (.getfield 24, 3) := dk_180 0 24 (dk_at dksX7_like_2 16 rfl rfl)
theorem dX7_like_67 : decode cX7_like 67 = .ok (.iconst 0, 1) := dk_3 (dk_at dksX7_like_2 19 rfl rfl)
theorem dX7_like_68 : decode cX7_like 68 = .ok (.aload_n 0, 1) := dk_42 (dk_at dksX7_like_2 20 rfl rfl)
theorem dX7_like_69 : decode cX7_like 69 = .ok (.getfield 24, 3) := dk_180 0 24 (dk_at dksX7_like_2 21 rfl rfl)
theorem dX7_like_72 : decode cX7_like 72 = .ok (.iconst 0, 1) := dk_3 (dk_at dksX7_like_3 0 rfl rfl)
theorem dX7_like_73 : decode cX7_like 73 = .ok (.bipush 8, 2) := dk_16 8 (dk_at dksX7_like_3 1 rfl rfl)
theorem dX7_like_75 : decode cX7_like 75 = .ok (.invokestatic 52, 3) := dk_184 0 52 (dk_at dksX7_like_3 3 rfl rfl)
theorem dX7_like_78 : decode cX7_like 78 = .ok (.aload_n 1, 1) := dk_43 (dk_at dksX7_like_3 6 rfl rfl)
theorem dX7_like_79 : decode cX7_like 79 = .ok (.getfield 27, 3) := dk_180 0 27 (dk_at dksX7_like_3 7 rfl rfl)
theorem dX7_like_82 : decode cX7_like 82 = .ok (.iconst 0, 1) := dk_3 (dk_at dksX7_like_3 10 rfl rfl)
theorem dX7_like_83 : decode cX7_like 83 = .ok (.aload_n 0, 1) := dk_42 (dk_at dksX7_like_3 11 rfl rfl)
theorem dX7_like_84 : decode cX7_like 84 = .ok (.getfield 27, 3) := dk_180 0 27 (dk_at dksX7_like_3 12 rfl rfl)
theorem dX7_like_87 : decode cX7_like 87 = .ok (.iconst 0, 1) := dk_3 (dk_at dksX7_like_3 15 rfl rfl)
theorem dX7_like_88 : decode cX7_like 88 = .ok (.bipush 8, 2) := dk_16 8 (dk_at dksX7_like_3 16 rfl rfl)
theorem dX7_like_90 : decode cX7_like 90 = .ok (.invokestatic 52, 3) := dk_184 0 52 (dk_at dksX7_like_3 18 rfl rfl)
theorem dX7_like_93 : decode cX7_like 93 = .ok (.aload_n 0, 1) := dk_42 (dk_at dksX7_like_3 21 rfl rfl)
theorem dX7_like_94 : decode cX7_like 94 = .ok (.aload_n 1, 1) := dk_43 (dk_at dksX7_like_3 22 rfl rfl)
theorem dX7_like_95 : decode cX7_like 95 = .ok (.getfield 58, 3) := dk_180 0 58 (dk_at dksX7_like_4 0 rfl rfl)
theorem dX7_like_98 : decode cX7_like 98 = .ok (.putfield 58, 3) := dk_181 0 58 (dk_at dksX7_like_4 3 rfl rfl)
theorem dX7_like_101 : decode cX7_like 101 = .ok (.aload_n 0, 1) := dk_42 (dk_at dksX7_like_4 6 rfl rfl)
theorem dX7_like_102 : decode cX7_like 102 = .ok (.aload_n 1, 1) := dk_43 (dk_at dksX7_like_4 7 rfl rfl)
theorem dX7_like_103 : decode cX7_like 103 = .ok (.getfield 61, 3) := dk_180 0 61 (dk_at dksX7_like_4 8 rfl rfl)
theorem dX7_like_106 : decode cX7_like 106 = .ok (.putfield 61, 3) := dk_181 0 61 (dk_at dksX7_like_4 11 rfl rfl)
theorem dX7_like_109 : decode cX7_like 109 = .ok (.aload_n 0, 1) := dk_42 (dk_at dksX7_like_4 14 rfl rfl)
theorem dX7_like_110 : decode cX7_like 110 = .ok (.aload_n 1, 1) := dk_43 (dk_at dksX7_like_4 15 rfl rfl)
theorem dX7_like_111 : decode cX7_like 111 = .ok (.getfield 64, 3) := dk_180 0 64 (dk_at dksX7_like_4 16 rfl rfl)
theorem dX7_like_114 : decode cX7_like 114 = .ok (.putfield 64, 3) := dk_181 0 64 (dk_at dksX7_like_4 19 rfl rfl)
theorem dX7_like_117 : decode cX7_like 117 = .ok (.aload_n 0, 1) := dk_42 (dk_at dksX7_like_4 22 rfl rfl)
theorem dX7_like_118 : decode cX7_like 118 = .ok (.aload_n 1, 1) := dk_43 (dk_at dksX7_like_4 23 rfl rfl)
theorem dX7_like_119 : decode cX7_like 119 = .ok (.getfield 67, 3) := dk_180 0 67 (dk_at dksX7_like_5 0 rfl rfl)
theorem dX7_like_122 : decode cX7_like 122 = .ok (.putfield 67, 3) := dk_181 0 67 (dk_at dksX7_like_5 3 rfl rfl)
theorem dX7_like_125 : decode cX7_like 125 = .ok (.aload_n 0, 1) := dk_42 (dk_at dksX7_like_5 6 rfl rfl)
theorem dX7_like_126 : decode cX7_like 126 = .ok (.aload_n 1, 1) := dk_43 (dk_at dksX7_like_5 7 rfl rfl)
theorem dX7_like_127 : decode cX7_like 127 = .ok (.getfield 70, 3) := dk_180 0 70 (dk_at dksX7_like_5 8 rfl rfl)
theorem dX7_like_130 : decode cX7_like 130 = .ok (.putfield 70, 3) := dk_181 0 70 (dk_at dksX7_like_5 11 rfl rfl)
theorem dX7_like_133 : decode cX7_like 133 = .ok (.aload_n 0, 1) := dk_42 (dk_at dksX7_like_5 14 rfl rfl)
theorem dX7_like_134 : decode cX7_like 134 = .ok (.aload_n 1, 1) := dk_43 (dk_at dksX7_like_5 15 rfl rfl)
theorem dX7_like_135 : decode cX7_like 135 = .ok (.getfield 30, 3) := dk_180 0 30 (dk_at dksX7_like_5 16 rfl rfl)
theorem dX7_like_138 : decode cX7_like 138 = .ok (.putfield 30, 3) := dk_181 0 30 (dk_at dksX7_like_5 19 rfl rfl)
theorem dX7_like_141 : decode cX7_like 141 = .ok (.aload_n 0, 1) := dk_42 (dk_at dksX7_like_5 22 rfl rfl)
theorem dX7_like_142 : decode cX7_like 142 = .ok (.aload_n 1, 1) := dk_43 (dk_at dksX7_like_5 23 rfl rfl)
theorem dX7_like_143 : decode cX7_like 143 = .ok (.getfield 34, 3) := dk_180 0 34 (dk_at dksX7_like_6 0 rfl rfl)
theorem dX7_like_146 : decode cX7_like 146 = .ok (.putfield 34, 3) := dk_181 0 34 (dk_at dksX7_like_6 3 rfl rfl)
theorem dX7_like_149 : decode cX7_like 149 = .ok (.aload_n 0, 1) := dk_42 (dk_at dksX7_like_6 6 rfl rfl)
theorem dX7_like_150 : decode cX7_like 150 = .ok (.aload_n 1, 1) := dk_43 (dk_at dksX7_like_6 7 rfl rfl)
theorem dX7_like_151 : decode cX7_like 151 = .ok (.getfield 37, 3) := dk_180 0 37 (dk_at dksX7_like_6 8 rfl rfl)
theorem dX7_like_154 : decode cX7_like 154 = .ok (.putfield 37, 3) := dk_181 0 37 (dk_at dksX7_like_6 11 rfl rfl)
theorem dX7_like_157 : decode cX7_like 157 = .ok (.aload_n 0, 1) := dk_42 (dk_at dksX7_like_6 14 rfl rfl)
theorem dX7_like_158 : decode cX7_like 158 = .ok (.getfield 43, 3) := dk_180 0 43 (dk_at dksX7_like_6 15 rfl rfl)
theorem dX7_like_161 : decode cX7_like 161 = .ok (.invokevirtual 73, 3) := dk_182 0 73 (dk_at dksX7_like_6 18 rfl rfl)
theorem dX7_like_164 : decode cX7_like 164 = .ok (.aload_n 1, 1) := dk_43 (dk_at dksX7_like_6 21 rfl rfl)
theorem dX7_like_165 : decode cX7_like 165 = .ok (.getfield 43, 3) := dk_180 0 43 (dk_at dksX7_like_7 0 rfl rfl)
theorem dX7_like_168 : decode cX7_like 168 = .ok (.aload_n 0, 1) := dk_42 (dk_at dksX7_like_7 3 rfl rfl)
theorem dX7_like_169 : decode cX7_like 169 = .ok (.getfield 43, 3) := dk_180 0 43 (dk_at dksX7_like_7 4 rfl rfl)
theorem dX7_like_172 : decode cX7_like 172 = .ok (.bipush 60, 2) := dk_16 60 (dk_at dksX7_like_7 7 rfl rfl)
theorem dX7_like_174 : decode cX7_like 174 = .ok (.invokestatic 76, 3) := dk_184 0 76 (dk_at dksX7_like_7 9 rfl rfl)
theorem dX7_like_177 : decode cX7_like 177 = .ok (.aload_n 0, 1) := dk_42 (dk_at dksX7_like_7 12 rfl rfl)
theorem dX7_like_178 : decode cX7_like 178 = .ok (.areturn, 1) := dk_176 (dk_at dksX7_like_7 13 rfl rfl)
abbrev cX7_cost : ByteArray := prog_9_method_8_code
def yX7_cost : MethodName := ⟨RX7, "cost", "()I"⟩
def dkwX7_cost_0 : List UInt8 := [42, 42, 180, 0, 21, 182, 0, 80, 42, 42, 180, 0, 24, 182, 0, 80, 96, 172]
abbrev dktX7_cost_0 : List UInt8 := dkwX7_cost_0 ++ []
theorem dksX7_cost_0 : cX7_cost.data.toList.drop 0 = dktX7_cost_0 := by decide +kernel
theorem dX7_cost_0 : decode cX7_cost 0 = .ok (.aload_n 0, 1) := dk_42 (dk_at dksX7_cost_0 0 rfl rfl)
theorem dX7_cost_1 : decode cX7_cost 1 = .ok (.aload_n 0, 1) := dk_42 (dk_at dksX7_cost_0 1 rfl rfl)
theorem dX7_cost_2 : decode cX7_cost 2 = .ok (.getfield 21, 3) := dk_180 0 21 (dk_at dksX7_cost_0 2 rfl rfl)
theorem dX7_cost_5 : decode cX7_cost 5 = .ok (.invokevirtual 80, 3) := dk_182 0 80 (dk_at dksX7_cost_0 5 rfl rfl)
theorem dX7_cost_8 : decode cX7_cost 8 = .ok (.aload_n 0, 1) := dk_42 (dk_at dksX7_cost_0 8 rfl rfl)
theorem dX7_cost_9 : decode cX7_cost 9 = .ok (.aload_n 0, 1) := dk_42 (dk_at dksX7_cost_0 9 rfl rfl)
theorem dX7_cost_10 : decode cX7_cost 10 = .ok (.getfield 24, 3) := dk_180 0 24 (dk_at dksX7_cost_0 10 rfl rfl)
theorem dX7_cost_13 : decode cX7_cost 13 = .ok (.invokevirtual 80, 3) := dk_182 0 80 (dk_at dksX7_cost_0 13 rfl rfl)
theorem dX7_cost_16 : decode cX7_cost 16 = .ok (.iadd, 1) := dk_96 (dk_at dksX7_cost_0 16 rfl rfl)
theorem dX7_cost_17 : decode cX7_cost 17 = .ok (.ireturn, 1) := dk_172 (dk_at dksX7_cost_0 17 rfl rfl)
abbrev cX7_sum : ByteArray := prog_9_method_7_code
def yX7_sum : MethodName := ⟨RX7, "sum", "([I)I"⟩
def dkwX7_sum_1 : List UInt8 := [28, 21, 6, 96, 61, 132, 5, 1, 167, 255, 235, 28, 172]
abbrev dktX7_sum_1 : List UInt8 := dkwX7_sum_1 ++ []
def dkwX7_sum_0 : List UInt8 := [3, 61, 43, 78, 45, 190, 54, 4, 3, 54, 5, 21, 5, 21, 4, 162, 0, 20, 45, 21, 5, 46, 54, 6]
abbrev dktX7_sum_0 : List UInt8 := dkwX7_sum_0 ++ dktX7_sum_1
theorem dksX7_sum_0 : cX7_sum.data.toList.drop 0 = dktX7_sum_0 := by decide +kernel
theorem dksX7_sum_1 : cX7_sum.data.toList.drop 24 = dktX7_sum_1 := dk_seg dksX7_sum_0 24 rfl rfl
theorem dX7_sum_0 : decode cX7_sum 0 = .ok (.iconst 0, 1) := dk_3 (dk_at dksX7_sum_0 0 rfl rfl)
theorem dX7_sum_1 : decode cX7_sum 1 = .ok (.istore_n 2, 1) := dk_61 (dk_at dksX7_sum_0 1 rfl rfl)
theorem dX7_sum_2 : decode cX7_sum 2 = .ok (.aload_n 1, 1) := dk_43 (dk_at dksX7_sum_0 2 rfl rfl)
theorem dX7_sum_3 : decode cX7_sum 3 = .ok (.astore_n 3, 1) := dk_78 (dk_at dksX7_sum_0 3 rfl rfl)
theorem dX7_sum_4 : decode cX7_sum 4 = .ok (.aload_n 3, 1) := dk_45 (dk_at dksX7_sum_0 4 rfl rfl)
theorem dX7_sum_5 : decode cX7_sum 5 = .ok (.arraylength, 1) := dk_190 (dk_at dksX7_sum_0 5 rfl rfl)
theorem dX7_sum_6 : decode cX7_sum 6 = .ok (.istore 4, 2) := dk_54 4 (dk_at dksX7_sum_0 6 rfl rfl)
theorem dX7_sum_8 : decode cX7_sum 8 = .ok (.iconst 0, 1) := dk_3 (dk_at dksX7_sum_0 8 rfl rfl)
theorem dX7_sum_9 : decode cX7_sum 9 = .ok (.istore 5, 2) := dk_54 5 (dk_at dksX7_sum_0 9 rfl rfl)
theorem dX7_sum_11 : decode cX7_sum 11 = .ok (.iload 5, 2) := dk_21 5 (dk_at dksX7_sum_0 11 rfl rfl)
theorem dX7_sum_13 : decode cX7_sum 13 = .ok (.iload 4, 2) := dk_21 4 (dk_at dksX7_sum_0 13 rfl rfl)
theorem dX7_sum_15 : decode cX7_sum 15 = .ok (.if_icmp .ge 20, 3) := dk_162 0 20 (dk_at dksX7_sum_0 15 rfl rfl)
theorem dX7_sum_18 : decode cX7_sum 18 = .ok (.aload_n 3, 1) := dk_45 (dk_at dksX7_sum_0 18 rfl rfl)
theorem dX7_sum_19 : decode cX7_sum 19 = .ok (.iload 5, 2) := dk_21 5 (dk_at dksX7_sum_0 19 rfl rfl)
theorem dX7_sum_21 : decode cX7_sum 21 = .ok (.iaload, 1) := dk_46 (dk_at dksX7_sum_0 21 rfl rfl)
theorem dX7_sum_22 : decode cX7_sum 22 = .ok (.istore 6, 2) := dk_54 6 (dk_at dksX7_sum_0 22 rfl rfl)
theorem dX7_sum_24 : decode cX7_sum 24 = .ok (.iload_n 2, 1) := dk_28 (dk_at dksX7_sum_1 0 rfl rfl)
theorem dX7_sum_25 : decode cX7_sum 25 = .ok (.iload 6, 2) := dk_21 6 (dk_at dksX7_sum_1 1 rfl rfl)
theorem dX7_sum_27 : decode cX7_sum 27 = .ok (.iadd, 1) := dk_96 (dk_at dksX7_sum_1 3 rfl rfl)
theorem dX7_sum_28 : decode cX7_sum 28 = .ok (.istore_n 2, 1) := dk_61 (dk_at dksX7_sum_1 4 rfl rfl)
theorem dX7_sum_29 : decode cX7_sum 29 = .ok (.iinc 5 1, 3) := dk_132 5 1 (dk_at dksX7_sum_1 5 rfl rfl)
theorem dX7_sum_32 : decode cX7_sum 32 = .ok (.goto (-21), 3) := dk_167 255 235 (dk_at dksX7_sum_1 8 rfl rfl)
theorem dX7_sum_35 : decode cX7_sum 35 = .ok (.iload_n 2, 1) := dk_28 (dk_at dksX7_sum_1 11 rfl rfl)
theorem dX7_sum_36 : decode cX7_sum 36 = .ok (.ireturn, 1) := dk_172 (dk_at dksX7_sum_1 12 rfl rfl)
abbrev cX7_read : ByteArray := prog_9_method_5_code
def yX7_read : MethodName := ⟨RX7, "read", "(II)I"⟩
def dkwX7_read_0 : List UInt8 := [42, 180, 0, 21, 27, 92, 46, 28, 96, 79, 28, 172]
abbrev dktX7_read_0 : List UInt8 := dkwX7_read_0 ++ []
theorem dksX7_read_0 : cX7_read.data.toList.drop 0 = dktX7_read_0 := by decide +kernel
theorem dX7_read_0 : decode cX7_read 0 = .ok (.aload_n 0, 1) := dk_42 (dk_at dksX7_read_0 0 rfl rfl)
theorem dX7_read_1 : decode cX7_read 1 = .ok (.getfield 21, 3) := dk_180 0 21 (dk_at dksX7_read_0 1 rfl rfl)
theorem dX7_read_4 : decode cX7_read 4 = .ok (.iload_n 1, 1) := dk_27 (dk_at dksX7_read_0 4 rfl rfl)
theorem dX7_read_5 : decode cX7_read 5 = .ok (.dup2, 1) := dk_92 (dk_at dksX7_read_0 5 rfl rfl)
theorem dX7_read_6 : decode cX7_read 6 = .ok (.iaload, 1) := dk_46 (dk_at dksX7_read_0 6 rfl rfl)
theorem dX7_read_7 : decode cX7_read 7 = .ok (.iload_n 2, 1) := dk_28 (dk_at dksX7_read_0 7 rfl rfl)
theorem dX7_read_8 : decode cX7_read 8 = .ok (.iadd, 1) := dk_96 (dk_at dksX7_read_0 8 rfl rfl)
theorem dX7_read_9 : decode cX7_read 9 = .ok (.iastore, 1) := dk_79 (dk_at dksX7_read_0 9 rfl rfl)
theorem dX7_read_10 : decode cX7_read 10 = .ok (.iload_n 2, 1) := dk_28 (dk_at dksX7_read_0 10 rfl rfl)
theorem dX7_read_11 : decode cX7_read 11 = .ok (.ireturn, 1) := dk_172 (dk_at dksX7_read_0 11 rfl rfl)
abbrev cX7_written : ByteArray := prog_9_method_6_code
def yX7_written : MethodName := ⟨RX7, "written", "(II)I"⟩
def dkwX7_written_0 : List UInt8 := [42, 180, 0, 24, 27, 92, 46, 28, 96, 79, 28, 172]
abbrev dktX7_written_0 : List UInt8 := dkwX7_written_0 ++ []
theorem dksX7_written_0 : cX7_written.data.toList.drop 0 = dktX7_written_0 := by decide +kernel
theorem dX7_written_0 : decode cX7_written 0 = .ok (.aload_n 0, 1) := dk_42 (dk_at dksX7_written_0 0 rfl rfl)
theorem dX7_written_1 : decode cX7_written 1 = .ok (.getfield 24, 3) := dk_180 0 24 (dk_at dksX7_written_0 1 rfl rfl)
theorem dX7_written_4 : decode cX7_written 4 = .ok (.iload_n 1, 1) := dk_27 (dk_at dksX7_written_0 4 rfl rfl)
theorem dX7_written_5 : decode cX7_written 5 = .ok (.dup2, 1) := dk_92 (dk_at dksX7_written_0 5 rfl rfl)
theorem dX7_written_6 : decode cX7_written 6 = .ok (.iaload, 1) := dk_46 (dk_at dksX7_written_0 6 rfl rfl)
theorem dX7_written_7 : decode cX7_written 7 = .ok (.iload_n 2, 1) := dk_28 (dk_at dksX7_written_0 7 rfl rfl)
theorem dX7_written_8 : decode cX7_written 8 = .ok (.iadd, 1) := dk_96 (dk_at dksX7_written_0 8 rfl rfl)
theorem dX7_written_9 : decode cX7_written 9 = .ok (.iastore, 1) := dk_79 (dk_at dksX7_written_0 9 rfl rfl)
theorem dX7_written_10 : decode cX7_written 10 = .ok (.iload_n 2, 1) := dk_28 (dk_at dksX7_written_0 10 rfl rfl)
theorem dX7_written_11 : decode cX7_written 11 = .ok (.ireturn, 1) := dk_172 (dk_at dksX7_written_0 11 rfl rfl)
theorem q147 : (Jvm.Cond.initialized "StripeShelf$State") ∈ lw_all := lw_g (lw_at lw_m1 16 rfl) rfl
theorem q325 : (Jvm.Cond.instantiable "StripeShelf$State" (15 : Nat)) ∈ lw_all := lw_g (lw_at lw_m1 194 rfl) rfl
theorem q327 : (Jvm.Cond.instanceMethod ({ cls := "StripeShelf$State", name := "<init>", desc := "()V" } : Jvm.MethodName)) ∈ lw_all := lw_g (lw_at lw_m1 196 rfl) rfl
theorem q328 : (Jvm.Cond.code ({ cls := "StripeShelf$State", name := "<init>", desc := "()V" } : Jvm.MethodName) prog_9_method_1_code (1 : Nat) (Option.none : Option Jvm.ClassFile.FieldType)) ∈ lw_all := lw_g (lw_at lw_m1 197 rfl) rfl
theorem q329 : (Jvm.Cond.methodLink "StripeShelf$State" (3 : Nat) ({ cls := "java/lang/Object", name := "<init>", desc := "()V" } : Jvm.MethodName)) ∈ lw_all := lw_g (lw_at lw_m1 198 rfl) rfl
theorem q332 : (Jvm.Cond.classLink "StripeShelf$State" (40 : Nat) "StripeShelf$Row") ∈ lw_all := lw_g (lw_at lw_m1 201 rfl) rfl
theorem q334 : (Jvm.Cond.methodLinkNest "StripeShelf$State" (42 : Nat) ({ cls := "StripeShelf$Row", name := "<init>", desc := "()V" } : Jvm.MethodName) "StripeShelf") ∈ lw_tbl := lw_at lw_m1 203 rfl
theorem q352 : (Jvm.Cond.fieldLink "StripeShelf$State" (9 : Nat) "StripeShelf$State" "cells" "[I") ∈ lw_all := lw_g (lw_at lw_m1 221 rfl) rfl
theorem q354 : (Jvm.Cond.fieldLink "StripeShelf$State" (15 : Nat) "StripeShelf$State" "kind" "[I") ∈ lw_all := lw_g (lw_at lw_m1 223 rfl) rfl
theorem q356 : (Jvm.Cond.fieldLink "StripeShelf$State" (18 : Nat) "StripeShelf$State" "done" "[I") ∈ lw_all := lw_g (lw_at lw_m1 225 rfl) rfl
theorem q358 : (Jvm.Cond.fieldLink "StripeShelf$State" (21 : Nat) "StripeShelf$State" "reads" "[I") ∈ lw_all := lw_g (lw_at lw_m1 227 rfl) rfl
theorem q360 : (Jvm.Cond.fieldLink "StripeShelf$State" (24 : Nat) "StripeShelf$State" "writes" "[I") ∈ lw_all := lw_g (lw_at lw_m1 229 rfl) rfl
theorem q362 : (Jvm.Cond.fieldLink "StripeShelf$State" (27 : Nat) "StripeShelf$State" "mended" "[I") ∈ lw_all := lw_g (lw_at lw_m1 231 rfl) rfl
theorem q364 : (Jvm.Cond.fieldLink "StripeShelf$State" (58 : Nat) "StripeShelf$State" "dirty" "I") ∈ lw_all := lw_g (lw_at lw_m1 233 rfl) rfl
theorem q366 : (Jvm.Cond.fieldLink "StripeShelf$State" (61 : Nat) "StripeShelf$State" "spares" "I") ∈ lw_all := lw_g (lw_at lw_m1 235 rfl) rfl
theorem q368 : (Jvm.Cond.fieldLink "StripeShelf$State" (64 : Nat) "StripeShelf$State" "cursor" "I") ∈ lw_all := lw_g (lw_at lw_m1 237 rfl) rfl
theorem q370 : (Jvm.Cond.fieldLink "StripeShelf$State" (67 : Nat) "StripeShelf$State" "open" "I") ∈ lw_all := lw_g (lw_at lw_m1 239 rfl) rfl
theorem q372 : (Jvm.Cond.fieldLink "StripeShelf$State" (70 : Nat) "StripeShelf$State" "passed" "I") ∈ lw_all := lw_g (lw_at lw_m2 1 rfl) rfl
theorem q374 : (Jvm.Cond.fieldLink "StripeShelf$State" (30 : Nat) "StripeShelf$State" "wrongDisk" "I") ∈ lw_all := lw_g (lw_at lw_m2 3 rfl) rfl
theorem q376 : (Jvm.Cond.fieldLink "StripeShelf$State" (34 : Nat) "StripeShelf$State" "wrongStripe" "I") ∈ lw_all := lw_g (lw_at lw_m2 5 rfl) rfl
theorem q378 : (Jvm.Cond.fieldLink "StripeShelf$State" (37 : Nat) "StripeShelf$State" "wrongByte" "I") ∈ lw_all := lw_g (lw_at lw_m2 7 rfl) rfl
theorem q380 : (Jvm.Cond.fieldLink "StripeShelf$State" (43 : Nat) "StripeShelf$State" "log" "LStripeShelf$Row;") ∈ lw_all := lw_g (lw_at lw_m2 9 rfl) rfl
theorem q382 : (Jvm.Cond.laysFinal "StripeShelf$State" "StripeShelf$State" "cells" "[I") ∈ lw_all := lw_g (lw_at lw_m2 11 rfl) rfl
theorem q383 : (Jvm.Cond.soleField "StripeShelf$State" "cells") ∈ lw_all := lw_g (lw_at lw_m2 12 rfl) rfl
theorem q384 : (Jvm.Cond.laysFinal "StripeShelf$State" "StripeShelf$State" "kind" "[I") ∈ lw_all := lw_g (lw_at lw_m2 13 rfl) rfl
theorem q385 : (Jvm.Cond.soleField "StripeShelf$State" "kind") ∈ lw_all := lw_g (lw_at lw_m2 14 rfl) rfl
theorem q386 : (Jvm.Cond.laysFinal "StripeShelf$State" "StripeShelf$State" "done" "[I") ∈ lw_all := lw_g (lw_at lw_m2 15 rfl) rfl
theorem q387 : (Jvm.Cond.soleField "StripeShelf$State" "done") ∈ lw_all := lw_g (lw_at lw_m2 16 rfl) rfl
theorem q388 : (Jvm.Cond.laysFinal "StripeShelf$State" "StripeShelf$State" "reads" "[I") ∈ lw_all := lw_g (lw_at lw_m2 17 rfl) rfl
theorem q389 : (Jvm.Cond.soleField "StripeShelf$State" "reads") ∈ lw_all := lw_g (lw_at lw_m2 18 rfl) rfl
theorem q390 : (Jvm.Cond.laysFinal "StripeShelf$State" "StripeShelf$State" "writes" "[I") ∈ lw_all := lw_g (lw_at lw_m2 19 rfl) rfl
theorem q391 : (Jvm.Cond.soleField "StripeShelf$State" "writes") ∈ lw_all := lw_g (lw_at lw_m2 20 rfl) rfl
theorem q392 : (Jvm.Cond.laysFinal "StripeShelf$State" "StripeShelf$State" "mended" "[I") ∈ lw_all := lw_g (lw_at lw_m2 21 rfl) rfl
theorem q393 : (Jvm.Cond.soleField "StripeShelf$State" "mended") ∈ lw_all := lw_g (lw_at lw_m2 22 rfl) rfl
theorem q394 : (Jvm.Cond.lays "StripeShelf$State" "StripeShelf$State" "dirty" "I") ∈ lw_all := lw_g (lw_at lw_m2 23 rfl) rfl
theorem q395 : (Jvm.Cond.soleField "StripeShelf$State" "dirty") ∈ lw_all := lw_g (lw_at lw_m2 24 rfl) rfl
theorem q396 : (Jvm.Cond.lays "StripeShelf$State" "StripeShelf$State" "spares" "I") ∈ lw_all := lw_g (lw_at lw_m2 25 rfl) rfl
theorem q397 : (Jvm.Cond.soleField "StripeShelf$State" "spares") ∈ lw_all := lw_g (lw_at lw_m2 26 rfl) rfl
theorem q398 : (Jvm.Cond.lays "StripeShelf$State" "StripeShelf$State" "cursor" "I") ∈ lw_all := lw_g (lw_at lw_m2 27 rfl) rfl
theorem q399 : (Jvm.Cond.soleField "StripeShelf$State" "cursor") ∈ lw_all := lw_g (lw_at lw_m2 28 rfl) rfl
theorem q400 : (Jvm.Cond.lays "StripeShelf$State" "StripeShelf$State" "open" "I") ∈ lw_all := lw_g (lw_at lw_m2 29 rfl) rfl
theorem q401 : (Jvm.Cond.soleField "StripeShelf$State" "open") ∈ lw_all := lw_g (lw_at lw_m2 30 rfl) rfl
theorem q402 : (Jvm.Cond.lays "StripeShelf$State" "StripeShelf$State" "passed" "I") ∈ lw_all := lw_g (lw_at lw_m2 31 rfl) rfl
theorem q403 : (Jvm.Cond.soleField "StripeShelf$State" "passed") ∈ lw_all := lw_g (lw_at lw_m2 32 rfl) rfl
theorem q404 : (Jvm.Cond.lays "StripeShelf$State" "StripeShelf$State" "wrongDisk" "I") ∈ lw_all := lw_g (lw_at lw_m2 33 rfl) rfl
theorem q405 : (Jvm.Cond.soleField "StripeShelf$State" "wrongDisk") ∈ lw_all := lw_g (lw_at lw_m2 34 rfl) rfl
theorem q406 : (Jvm.Cond.lays "StripeShelf$State" "StripeShelf$State" "wrongStripe" "I") ∈ lw_all := lw_g (lw_at lw_m2 35 rfl) rfl
theorem q407 : (Jvm.Cond.soleField "StripeShelf$State" "wrongStripe") ∈ lw_all := lw_g (lw_at lw_m2 36 rfl) rfl
theorem q408 : (Jvm.Cond.lays "StripeShelf$State" "StripeShelf$State" "wrongByte" "I") ∈ lw_all := lw_g (lw_at lw_m2 37 rfl) rfl
theorem q409 : (Jvm.Cond.soleField "StripeShelf$State" "wrongByte") ∈ lw_all := lw_g (lw_at lw_m2 38 rfl) rfl
theorem q410 : (Jvm.Cond.laysFinal "StripeShelf$State" "StripeShelf$State" "log" "LStripeShelf$Row;") ∈ lw_all := lw_g (lw_at lw_m2 39 rfl) rfl
theorem q411 : (Jvm.Cond.soleField "StripeShelf$State" "log") ∈ lw_all := lw_g (lw_at lw_m2 40 rfl) rfl
theorem q412 : (Jvm.Cond.superclass "StripeShelf$State" "java/lang/Object") ∈ lw_all := lw_g (lw_at lw_m2 41 rfl) rfl
theorem q461 : (Jvm.Cond.instanceMethod ({ cls := "StripeShelf$State", name := "isThere", desc := "(II)Z" } : Jvm.MethodName)) ∈ lw_all := lw_g (lw_at lw_m2 90 rfl) rfl
theorem q462 : (Jvm.Cond.selects "StripeShelf$State" ({ cls := "StripeShelf$State", name := "isThere", desc := "(II)Z" } : Jvm.MethodName) ({ cls := "StripeShelf$State", name := "isThere", desc := "(II)Z" } : Jvm.MethodName)) ∈ lw_all := lw_g (lw_at lw_m2 91 rfl) rfl
theorem q463 : (Jvm.Cond.code ({ cls := "StripeShelf$State", name := "isThere", desc := "(II)Z" } : Jvm.MethodName) prog_9_method_4_code (3 : Nat) (Option.some Jvm.ClassFile.FieldType.boolean)) ∈ lw_all := lw_g (lw_at lw_m2 92 rfl) rfl
theorem q548 : (Jvm.Cond.castable "StripeShelf$State" "StripeShelf$Copied") ∈ lw_tbl := lw_at lw_m2 177 rfl
theorem q549 : (Jvm.Cond.selects "StripeShelf$State" ({ cls := "StripeShelf$Copied", name := "copied", desc := "()Ljava/lang/Object;" } : Jvm.MethodName) ({ cls := "StripeShelf$State", name := "copied", desc := "()Ljava/lang/Object;" } : Jvm.MethodName)) ∈ lw_all := lw_g (lw_at lw_m2 178 rfl) rfl
theorem q550 : (Jvm.Cond.unhidden "StripeShelf$State" "copied" "()Ljava/lang/Object;") ∈ lw_tbl := lw_at lw_m2 179 rfl
theorem q551 : (Jvm.Cond.instanceMethod ({ cls := "StripeShelf$State", name := "copied", desc := "()Ljava/lang/Object;" } : Jvm.MethodName)) ∈ lw_all := lw_g (lw_at lw_m2 180 rfl) rfl
theorem q552 : (Jvm.Cond.publicMethod ({ cls := "StripeShelf$State", name := "copied", desc := "()Ljava/lang/Object;" } : Jvm.MethodName)) ∈ lw_tbl := lw_at lw_m2 181 rfl
theorem q553 : (Jvm.Cond.code ({ cls := "StripeShelf$State", name := "copied", desc := "()Ljava/lang/Object;" } : Jvm.MethodName) prog_9_method_9_code (1 : Nat) (Option.some (Jvm.ClassFile.FieldType.object "java/lang/Object"))) ∈ lw_all := lw_g (lw_at lw_m2 182 rfl) rfl
theorem q554 : (Jvm.Cond.methodLink "StripeShelf$State" (84 : Nat) ({ cls := "StripeShelf$State", name := "copied", desc := "()LStripeShelf$State;" } : Jvm.MethodName)) ∈ lw_all := lw_g (lw_at lw_m2 183 rfl) rfl
theorem q555 : (Jvm.Cond.instanceMethod ({ cls := "StripeShelf$State", name := "copied", desc := "()LStripeShelf$State;" } : Jvm.MethodName)) ∈ lw_all := lw_g (lw_at lw_m2 184 rfl) rfl
theorem q556 : (Jvm.Cond.selects "StripeShelf$State" ({ cls := "StripeShelf$State", name := "copied", desc := "()LStripeShelf$State;" } : Jvm.MethodName) ({ cls := "StripeShelf$State", name := "copied", desc := "()LStripeShelf$State;" } : Jvm.MethodName)) ∈ lw_all := lw_g (lw_at lw_m2 185 rfl) rfl
theorem q557 : (Jvm.Cond.code ({ cls := "StripeShelf$State", name := "copied", desc := "()LStripeShelf$State;" } : Jvm.MethodName) prog_9_method_2_code (1 : Nat) (Option.some (Jvm.ClassFile.FieldType.object "StripeShelf$State"))) ∈ lw_all := lw_g (lw_at lw_m2 186 rfl) rfl
theorem q558 : (Jvm.Cond.classLink "StripeShelf$State" (10 : Nat) "StripeShelf$State") ∈ lw_all := lw_g (lw_at lw_m2 187 rfl) rfl
theorem q559 : (Jvm.Cond.methodLink "StripeShelf$State" (47 : Nat) ({ cls := "StripeShelf$State", name := "<init>", desc := "()V" } : Jvm.MethodName)) ∈ lw_all := lw_g (lw_at lw_m2 188 rfl) rfl
theorem q560 : (Jvm.Cond.methodLink "StripeShelf$State" (48 : Nat) ({ cls := "StripeShelf$State", name := "like", desc := "(LStripeShelf$State;)LStripeShelf$State;" } : Jvm.MethodName)) ∈ lw_all := lw_g (lw_at lw_m2 189 rfl) rfl
theorem q561 : (Jvm.Cond.instanceMethod ({ cls := "StripeShelf$State", name := "like", desc := "(LStripeShelf$State;)LStripeShelf$State;" } : Jvm.MethodName)) ∈ lw_all := lw_g (lw_at lw_m2 190 rfl) rfl
theorem q562 : (Jvm.Cond.selects "StripeShelf$State" ({ cls := "StripeShelf$State", name := "like", desc := "(LStripeShelf$State;)LStripeShelf$State;" } : Jvm.MethodName) ({ cls := "StripeShelf$State", name := "like", desc := "(LStripeShelf$State;)LStripeShelf$State;" } : Jvm.MethodName)) ∈ lw_all := lw_g (lw_at lw_m2 191 rfl) rfl
theorem q563 : (Jvm.Cond.code ({ cls := "StripeShelf$State", name := "like", desc := "(LStripeShelf$State;)LStripeShelf$State;" } : Jvm.MethodName) prog_9_method_3_code (2 : Nat) (Option.some (Jvm.ClassFile.FieldType.object "StripeShelf$State"))) ∈ lw_all := lw_g (lw_at lw_m2 192 rfl) rfl
theorem q564 : (Jvm.Cond.methodLink "StripeShelf$State" (52 : Nat) ({ cls := "java/lang/System", name := "arraycopy", desc := "(Ljava/lang/Object;ILjava/lang/Object;II)V" } : Jvm.MethodName)) ∈ lw_all := lw_g (lw_at lw_m2 193 rfl) rfl
theorem q565 : (Jvm.Cond.methodLink "StripeShelf$State" (73 : Nat) ({ cls := "StripeShelf$Row", name := "empties", desc := "()V" } : Jvm.MethodName)) ∈ lw_all := lw_g (lw_at lw_m2 194 rfl) rfl
theorem q566 : (Jvm.Cond.methodLinkNest "StripeShelf$State" (76 : Nat) ({ cls := "StripeShelf", name := "pours", desc := "(LStripeShelf$Row;LStripeShelf$Row;I)V" } : Jvm.MethodName) "StripeShelf") ∈ lw_tbl := lw_at lw_m2 195 rfl
theorem q596 : (Jvm.Cond.instanceMethod ({ cls := "StripeShelf$State", name := "cost", desc := "()I" } : Jvm.MethodName)) ∈ lw_all := lw_g (lw_at lw_m2 225 rfl) rfl
theorem q597 : (Jvm.Cond.selects "StripeShelf$State" ({ cls := "StripeShelf$State", name := "cost", desc := "()I" } : Jvm.MethodName) ({ cls := "StripeShelf$State", name := "cost", desc := "()I" } : Jvm.MethodName)) ∈ lw_all := lw_g (lw_at lw_m2 226 rfl) rfl
theorem q598 : (Jvm.Cond.code ({ cls := "StripeShelf$State", name := "cost", desc := "()I" } : Jvm.MethodName) prog_9_method_8_code (1 : Nat) (Option.some Jvm.ClassFile.FieldType.int)) ∈ lw_all := lw_g (lw_at lw_m2 227 rfl) rfl
theorem q599 : (Jvm.Cond.methodLink "StripeShelf$State" (80 : Nat) ({ cls := "StripeShelf$State", name := "sum", desc := "([I)I" } : Jvm.MethodName)) ∈ lw_all := lw_g (lw_at lw_m2 228 rfl) rfl
theorem q600 : (Jvm.Cond.instanceMethod ({ cls := "StripeShelf$State", name := "sum", desc := "([I)I" } : Jvm.MethodName)) ∈ lw_all := lw_g (lw_at lw_m2 229 rfl) rfl
theorem q601 : (Jvm.Cond.selects "StripeShelf$State" ({ cls := "StripeShelf$State", name := "sum", desc := "([I)I" } : Jvm.MethodName) ({ cls := "StripeShelf$State", name := "sum", desc := "([I)I" } : Jvm.MethodName)) ∈ lw_all := lw_g (lw_at lw_m2 230 rfl) rfl
theorem q602 : (Jvm.Cond.code ({ cls := "StripeShelf$State", name := "sum", desc := "([I)I" } : Jvm.MethodName) prog_9_method_7_code (7 : Nat) (Option.some Jvm.ClassFile.FieldType.int)) ∈ lw_all := lw_g (lw_at lw_m2 231 rfl) rfl
theorem q692 : (Jvm.Cond.instanceMethod ({ cls := "StripeShelf$State", name := "read", desc := "(II)I" } : Jvm.MethodName)) ∈ lw_all := lw_g (lw_at lw_m3 81 rfl) rfl
theorem q693 : (Jvm.Cond.selects "StripeShelf$State" ({ cls := "StripeShelf$State", name := "read", desc := "(II)I" } : Jvm.MethodName) ({ cls := "StripeShelf$State", name := "read", desc := "(II)I" } : Jvm.MethodName)) ∈ lw_all := lw_g (lw_at lw_m3 82 rfl) rfl
theorem q694 : (Jvm.Cond.code ({ cls := "StripeShelf$State", name := "read", desc := "(II)I" } : Jvm.MethodName) prog_9_method_5_code (3 : Nat) (Option.some Jvm.ClassFile.FieldType.int)) ∈ lw_all := lw_g (lw_at lw_m3 83 rfl) rfl
theorem q700 : (Jvm.Cond.instanceMethod ({ cls := "StripeShelf$State", name := "written", desc := "(II)I" } : Jvm.MethodName)) ∈ lw_all := lw_g (lw_at lw_m3 89 rfl) rfl
theorem q701 : (Jvm.Cond.selects "StripeShelf$State" ({ cls := "StripeShelf$State", name := "written", desc := "(II)I" } : Jvm.MethodName) ({ cls := "StripeShelf$State", name := "written", desc := "(II)I" } : Jvm.MethodName)) ∈ lw_all := lw_g (lw_at lw_m3 90 rfl) rfl
theorem q702 : (Jvm.Cond.code ({ cls := "StripeShelf$State", name := "written", desc := "(II)I" } : Jvm.MethodName) prog_9_method_6_code (3 : Nat) (Option.some Jvm.ClassFile.FieldType.int)) ∈ lw_all := lw_g (lw_at lw_m3 91 rfl) rfl
theorem q1841 : (Jvm.Cond.castable "StripeShelf$State" "java/lang/Object") ∈ lw_tbl := lw_at lw_m8 30 rfl
theorem in_X7 : ∀ w ∈ wsX70, w ∈ lw_all := lw_in wsX70 [382, 384, 386, 388, 390, 392, 394, 396, 398, 400, 402, 404, 406, 408, 410] (by decide +kernel) (by decide +kernel)

/-! StripeShelf$Link -/
set_option maxRecDepth 100000
def RX8 : String := "StripeShelf$Link"
def TX8 : u_T := fun k => match k with
  | 0 => ("StripeShelf$Link", "its", "Ljava/lang/Object;", true)
  | 1 => ("StripeShelf$Link", "ahead", "LStripeShelf$Link;", false)
  | _ => ("StripeShelf$Link", "behind", "LStripeShelf$Link;", false)
def tyX8 : Nat → FieldType := fun k => match k with
  | 0 => .object "java/lang/Object"
  | 1 => .object "StripeShelf$Link"
  | _ => .object "StripeShelf$Link"
abbrev wsX80 : List Cond := u_ws RX8 TX8 3
theorem nmX8 : ∀ a, a < 3 → ∀ b, b < 3 → a ≠ b → (TX8 a).2.1 ≠ (TX8 b).2.1 := by decide +kernel
theorem tyX8_ok : ∀ k, k < 3 → parseFieldDescriptor (TX8 k).2.2.1 = some (tyX8 k) := by decide +kernel
abbrev cX8_init : ByteArray := prog_5_method_1_code
def yX8_init : MethodName := ⟨RX8, "<init>", "(Ljava/lang/Object;)V"⟩
def dkwX8_init_0 : List UInt8 := [42, 183, 0, 1, 42, 43, 181, 0, 7, 177]
abbrev dktX8_init_0 : List UInt8 := dkwX8_init_0 ++ []
theorem dksX8_init_0 : cX8_init.data.toList.drop 0 = dktX8_init_0 := by decide +kernel
theorem dX8_init_0 : decode cX8_init 0 = .ok (.aload_n 0, 1) := dk_42 (dk_at dksX8_init_0 0 rfl rfl)
theorem dX8_init_1 : decode cX8_init 1 = .ok (.invokespecial 1, 3) := dk_183 0 1 (dk_at dksX8_init_0 1 rfl rfl)
theorem dX8_init_4 : decode cX8_init 4 = .ok (.aload_n 0, 1) := dk_42 (dk_at dksX8_init_0 4 rfl rfl)
theorem dX8_init_5 : decode cX8_init 5 = .ok (.aload_n 1, 1) := dk_43 (dk_at dksX8_init_0 5 rfl rfl)
theorem dX8_init_6 : decode cX8_init 6 = .ok (.putfield 7, 3) := dk_181 0 7 (dk_at dksX8_init_0 6 rfl rfl)
theorem dX8_init_9 : decode cX8_init 9 = .ok (.return_, 1) := dk_177 (dk_at dksX8_init_0 9 rfl rfl)
theorem q152 : (Jvm.Cond.initialized "StripeShelf$Link") ∈ lw_all := lw_g (lw_at lw_m1 21 rfl) rfl
theorem q575 : (Jvm.Cond.instantiable "StripeShelf$Link" (3 : Nat)) ∈ lw_all := lw_g (lw_at lw_m2 204 rfl) rfl
theorem q577 : (Jvm.Cond.instanceMethod ({ cls := "StripeShelf$Link", name := "<init>", desc := "(Ljava/lang/Object;)V" } : Jvm.MethodName)) ∈ lw_all := lw_g (lw_at lw_m2 206 rfl) rfl
theorem q578 : (Jvm.Cond.code ({ cls := "StripeShelf$Link", name := "<init>", desc := "(Ljava/lang/Object;)V" } : Jvm.MethodName) prog_5_method_1_code (2 : Nat) (Option.none : Option Jvm.ClassFile.FieldType)) ∈ lw_all := lw_g (lw_at lw_m2 207 rfl) rfl
theorem q579 : (Jvm.Cond.methodLink "StripeShelf$Link" (1 : Nat) ({ cls := "java/lang/Object", name := "<init>", desc := "()V" } : Jvm.MethodName)) ∈ lw_all := lw_g (lw_at lw_m2 208 rfl) rfl
theorem q580 : (Jvm.Cond.fieldLink "StripeShelf$Link" (7 : Nat) "StripeShelf$Link" "its" "Ljava/lang/Object;") ∈ lw_all := lw_g (lw_at lw_m2 209 rfl) rfl
theorem q586 : (Jvm.Cond.laysFinal "StripeShelf$Link" "StripeShelf$Link" "its" "Ljava/lang/Object;") ∈ lw_all := lw_g (lw_at lw_m2 215 rfl) rfl
theorem q587 : (Jvm.Cond.soleField "StripeShelf$Link" "its") ∈ lw_all := lw_g (lw_at lw_m2 216 rfl) rfl
theorem q588 : (Jvm.Cond.lays "StripeShelf$Link" "StripeShelf$Link" "ahead" "LStripeShelf$Link;") ∈ lw_all := lw_g (lw_at lw_m2 217 rfl) rfl
theorem q589 : (Jvm.Cond.soleField "StripeShelf$Link" "ahead") ∈ lw_all := lw_g (lw_at lw_m2 218 rfl) rfl
theorem q590 : (Jvm.Cond.lays "StripeShelf$Link" "StripeShelf$Link" "behind" "LStripeShelf$Link;") ∈ lw_all := lw_g (lw_at lw_m2 219 rfl) rfl
theorem q591 : (Jvm.Cond.soleField "StripeShelf$Link" "behind") ∈ lw_all := lw_g (lw_at lw_m2 220 rfl) rfl
theorem q592 : (Jvm.Cond.superclass "StripeShelf$Link" "java/lang/Object") ∈ lw_all := lw_g (lw_at lw_m2 221 rfl) rfl
theorem q1843 : (Jvm.Cond.castable "StripeShelf$Link" "java/lang/Object") ∈ lw_tbl := lw_at lw_m8 32 rfl
theorem in_X8 : ∀ w ∈ wsX80, w ∈ lw_all := lw_in wsX80 [586, 588, 590] (by decide +kernel) (by decide +kernel)

/-! StripeShelf$Way -/
set_option maxRecDepth 100000
def RX9 : String := "StripeShelf$Way"
def TX9 : u_T := fun k => match k with
  | 0 => ("StripeShelf$Way", "sort", "I", true)
  | 1 => ("StripeShelf$Way", "reads", "I", true)
  | _ => ("StripeShelf$Way", "writes", "I", true)
def tyX9 : Nat → FieldType := fun k => match k with
  | 0 => .int
  | 1 => .int
  | _ => .int
abbrev wsX90 : List Cond := u_ws RX9 TX9 3
theorem nmX9 : ∀ a, a < 3 → ∀ b, b < 3 → a ≠ b → (TX9 a).2.1 ≠ (TX9 b).2.1 := by decide +kernel
theorem tyX9_ok : ∀ k, k < 3 → parseFieldDescriptor (TX9 k).2.2.1 = some (tyX9 k) := by decide +kernel
abbrev cX9_init : ByteArray := prog_10_method_1_code
def yX9_init : MethodName := ⟨RX9, "<init>", "(III)V"⟩
def dkwX9_init_0 : List UInt8 := [42, 183, 0, 1, 42, 27, 181, 0, 7, 42, 28, 181, 0, 13, 42, 29, 181, 0, 16, 177]
abbrev dktX9_init_0 : List UInt8 := dkwX9_init_0 ++ []
theorem dksX9_init_0 : cX9_init.data.toList.drop 0 = dktX9_init_0 := by decide +kernel
theorem dX9_init_0 : decode cX9_init 0 = .ok (.aload_n 0, 1) := dk_42 (dk_at dksX9_init_0 0 rfl rfl)
theorem dX9_init_1 : decode cX9_init 1 = .ok (.invokespecial 1, 3) := dk_183 0 1 (dk_at dksX9_init_0 1 rfl rfl)
theorem dX9_init_4 : decode cX9_init 4 = .ok (.aload_n 0, 1) := dk_42 (dk_at dksX9_init_0 4 rfl rfl)
theorem dX9_init_5 : decode cX9_init 5 = .ok (.iload_n 1, 1) := dk_27 (dk_at dksX9_init_0 5 rfl rfl)
theorem dX9_init_6 : decode cX9_init 6 = .ok (.putfield 7, 3) := dk_181 0 7 (dk_at dksX9_init_0 6 rfl rfl)
theorem dX9_init_9 : decode cX9_init 9 = .ok (.aload_n 0, 1) := dk_42 (dk_at dksX9_init_0 9 rfl rfl)
theorem dX9_init_10 : decode cX9_init 10 = .ok (.iload_n 2, 1) := dk_28 (dk_at dksX9_init_0 10 rfl rfl)
theorem dX9_init_11 : decode cX9_init 11 = .ok (.putfield 13, 3) := dk_181 0 13 (dk_at dksX9_init_0 11 rfl rfl)
theorem dX9_init_14 : decode cX9_init 14 = .ok (.aload_n 0, 1) := dk_42 (dk_at dksX9_init_0 14 rfl rfl)
theorem dX9_init_15 : decode cX9_init 15 = .ok (.iload_n 3, 1) := dk_29 (dk_at dksX9_init_0 15 rfl rfl)
theorem dX9_init_16 : decode cX9_init 16 = .ok (.putfield 16, 3) := dk_181 0 16 (dk_at dksX9_init_0 16 rfl rfl)
theorem dX9_init_19 : decode cX9_init 19 = .ok (.return_, 1) := dk_177 (dk_at dksX9_init_0 19 rfl rfl)
abbrev cX9_compareTo : ByteArray := prog_10_method_3_code
def yX9_compareTo : MethodName := ⟨RX9, "compareTo", "(Ljava/lang/Object;)I"⟩
def dkwX9_compareTo_0 : List UInt8 := [42, 43, 192, 0, 8, 182, 0, 19, 172]
abbrev dktX9_compareTo_0 : List UInt8 := dkwX9_compareTo_0 ++ []
theorem dksX9_compareTo_0 : cX9_compareTo.data.toList.drop 0 = dktX9_compareTo_0 := by decide +kernel
theorem dX9_compareTo_0 : decode cX9_compareTo 0 = .ok (.aload_n 0, 1) := dk_42 (dk_at dksX9_compareTo_0 0 rfl rfl)
theorem dX9_compareTo_1 : decode cX9_compareTo 1 = .ok (.aload_n 1, 1) := dk_43 (dk_at dksX9_compareTo_0 1 rfl rfl)
theorem dX9_compareTo_2 : decode cX9_compareTo 2 = .ok (.checkcast 8, 3) := dk_192 0 8 (dk_at dksX9_compareTo_0 2 rfl rfl)
theorem dX9_compareTo_5 : decode cX9_compareTo 5 = .ok (.invokevirtual 19, 3) := dk_182 0 19 (dk_at dksX9_compareTo_0 5 rfl rfl)
theorem dX9_compareTo_8 : decode cX9_compareTo 8 = .ok (.ireturn, 1) := dk_172 (dk_at dksX9_compareTo_0 8 rfl rfl)
abbrev cX9_compareTo_2 : ByteArray := prog_10_method_2_code
def yX9_compareTo_2 : MethodName := ⟨RX9, "compareTo", "(LStripeShelf$Way;)I"⟩
def dkwX9_compareTo_2_0 : List UInt8 := [42, 180, 0, 13, 42, 180, 0, 16, 96, 43, 180, 0, 13, 100, 43, 180, 0, 16, 100, 172]
abbrev dktX9_compareTo_2_0 : List UInt8 := dkwX9_compareTo_2_0 ++ []
theorem dksX9_compareTo_2_0 : cX9_compareTo_2.data.toList.drop 0 = dktX9_compareTo_2_0 := by decide +kernel
theorem dX9_compareTo_2_0 : decode cX9_compareTo_2 0 = .ok (.aload_n 0, 1) := dk_42 (dk_at dksX9_compareTo_2_0 0 rfl rfl)
theorem dX9_compareTo_2_1 : decode cX9_compareTo_2 1 = .ok (.getfield 13, 3) := dk_180 0 13 (dk_at dksX9_compareTo_2_0 1 rfl rfl)
theorem dX9_compareTo_2_4 : decode cX9_compareTo_2 4 = .ok (.aload_n 0, 1) := dk_42 (dk_at dksX9_compareTo_2_0 4 rfl rfl)
theorem dX9_compareTo_2_5 : decode cX9_compareTo_2 5 = .ok (.getfield 16, 3) := dk_180 0 16 (dk_at dksX9_compareTo_2_0 5 rfl rfl)
theorem dX9_compareTo_2_8 : decode cX9_compareTo_2 8 = .ok (.iadd, 1) := dk_96 (dk_at dksX9_compareTo_2_0 8 rfl rfl)
theorem dX9_compareTo_2_9 : decode cX9_compareTo_2 9 = .ok (.aload_n 1, 1) := dk_43 (dk_at dksX9_compareTo_2_0 9 rfl rfl)
theorem dX9_compareTo_2_10 : decode cX9_compareTo_2 10 = .ok (.getfield 13, 3) := dk_180 0 13 (dk_at dksX9_compareTo_2_0 10 rfl rfl)
theorem dX9_compareTo_2_13 : decode cX9_compareTo_2 13 = .ok (.isub, 1) := dk_100 (dk_at dksX9_compareTo_2_0 13 rfl rfl)
theorem dX9_compareTo_2_14 : decode cX9_compareTo_2 14 = .ok (.aload_n 1, 1) := dk_43 (dk_at dksX9_compareTo_2_0 14 rfl rfl)
theorem dX9_compareTo_2_15 : decode cX9_compareTo_2 15 = .ok (.getfield 16, 3) := dk_180 0 16 (dk_at dksX9_compareTo_2_0 15 rfl rfl)
theorem dX9_compareTo_2_18 : decode cX9_compareTo_2 18 = .ok (.isub, 1) := dk_100 (dk_at dksX9_compareTo_2_0 18 rfl rfl)
theorem dX9_compareTo_2_19 : decode cX9_compareTo_2 19 = .ok (.ireturn, 1) := dk_172 (dk_at dksX9_compareTo_2_0 19 rfl rfl)
theorem q153 : (Jvm.Cond.initialized "StripeShelf$Way") ∈ lw_all := lw_g (lw_at lw_m1 22 rfl) rfl
theorem q650 : (Jvm.Cond.instantiable "StripeShelf$Way" (3 : Nat)) ∈ lw_all := lw_g (lw_at lw_m3 39 rfl) rfl
theorem q652 : (Jvm.Cond.instanceMethod ({ cls := "StripeShelf$Way", name := "<init>", desc := "(III)V" } : Jvm.MethodName)) ∈ lw_all := lw_g (lw_at lw_m3 41 rfl) rfl
theorem q653 : (Jvm.Cond.code ({ cls := "StripeShelf$Way", name := "<init>", desc := "(III)V" } : Jvm.MethodName) prog_10_method_1_code (4 : Nat) (Option.none : Option Jvm.ClassFile.FieldType)) ∈ lw_all := lw_g (lw_at lw_m3 42 rfl) rfl
theorem q654 : (Jvm.Cond.methodLink "StripeShelf$Way" (1 : Nat) ({ cls := "java/lang/Object", name := "<init>", desc := "()V" } : Jvm.MethodName)) ∈ lw_all := lw_g (lw_at lw_m3 43 rfl) rfl
theorem q655 : (Jvm.Cond.fieldLink "StripeShelf$Way" (7 : Nat) "StripeShelf$Way" "sort" "I") ∈ lw_all := lw_g (lw_at lw_m3 44 rfl) rfl
theorem q657 : (Jvm.Cond.fieldLink "StripeShelf$Way" (13 : Nat) "StripeShelf$Way" "reads" "I") ∈ lw_all := lw_g (lw_at lw_m3 46 rfl) rfl
theorem q659 : (Jvm.Cond.fieldLink "StripeShelf$Way" (16 : Nat) "StripeShelf$Way" "writes" "I") ∈ lw_all := lw_g (lw_at lw_m3 48 rfl) rfl
theorem q661 : (Jvm.Cond.laysFinal "StripeShelf$Way" "StripeShelf$Way" "sort" "I") ∈ lw_all := lw_g (lw_at lw_m3 50 rfl) rfl
theorem q662 : (Jvm.Cond.soleField "StripeShelf$Way" "sort") ∈ lw_all := lw_g (lw_at lw_m3 51 rfl) rfl
theorem q663 : (Jvm.Cond.laysFinal "StripeShelf$Way" "StripeShelf$Way" "reads" "I") ∈ lw_all := lw_g (lw_at lw_m3 52 rfl) rfl
theorem q664 : (Jvm.Cond.soleField "StripeShelf$Way" "reads") ∈ lw_all := lw_g (lw_at lw_m3 53 rfl) rfl
theorem q665 : (Jvm.Cond.laysFinal "StripeShelf$Way" "StripeShelf$Way" "writes" "I") ∈ lw_all := lw_g (lw_at lw_m3 54 rfl) rfl
theorem q666 : (Jvm.Cond.soleField "StripeShelf$Way" "writes") ∈ lw_all := lw_g (lw_at lw_m3 55 rfl) rfl
theorem q667 : (Jvm.Cond.superclass "StripeShelf$Way" "java/lang/Object") ∈ lw_all := lw_g (lw_at lw_m3 56 rfl) rfl
theorem q676 : (Jvm.Cond.castable "StripeShelf$Way" "java/lang/Comparable") ∈ lw_tbl := lw_at lw_m3 65 rfl
theorem q677 : (Jvm.Cond.selects "StripeShelf$Way" ({ cls := "java/lang/Comparable", name := "compareTo", desc := "(Ljava/lang/Object;)I" } : Jvm.MethodName) ({ cls := "StripeShelf$Way", name := "compareTo", desc := "(Ljava/lang/Object;)I" } : Jvm.MethodName)) ∈ lw_all := lw_g (lw_at lw_m3 66 rfl) rfl
theorem q678 : (Jvm.Cond.unhidden "StripeShelf$Way" "compareTo" "(Ljava/lang/Object;)I") ∈ lw_tbl := lw_at lw_m3 67 rfl
theorem q679 : (Jvm.Cond.instanceMethod ({ cls := "StripeShelf$Way", name := "compareTo", desc := "(Ljava/lang/Object;)I" } : Jvm.MethodName)) ∈ lw_all := lw_g (lw_at lw_m3 68 rfl) rfl
theorem q680 : (Jvm.Cond.publicMethod ({ cls := "StripeShelf$Way", name := "compareTo", desc := "(Ljava/lang/Object;)I" } : Jvm.MethodName)) ∈ lw_tbl := lw_at lw_m3 69 rfl
theorem q681 : (Jvm.Cond.code ({ cls := "StripeShelf$Way", name := "compareTo", desc := "(Ljava/lang/Object;)I" } : Jvm.MethodName) prog_10_method_3_code (2 : Nat) (Option.some Jvm.ClassFile.FieldType.int)) ∈ lw_all := lw_g (lw_at lw_m3 70 rfl) rfl
theorem q682 : (Jvm.Cond.classLink "StripeShelf$Way" (8 : Nat) "StripeShelf$Way") ∈ lw_all := lw_g (lw_at lw_m3 71 rfl) rfl
theorem q683 : (Jvm.Cond.methodLink "StripeShelf$Way" (19 : Nat) ({ cls := "StripeShelf$Way", name := "compareTo", desc := "(LStripeShelf$Way;)I" } : Jvm.MethodName)) ∈ lw_all := lw_g (lw_at lw_m3 72 rfl) rfl
theorem q684 : (Jvm.Cond.instanceMethod ({ cls := "StripeShelf$Way", name := "compareTo", desc := "(LStripeShelf$Way;)I" } : Jvm.MethodName)) ∈ lw_all := lw_g (lw_at lw_m3 73 rfl) rfl
theorem q685 : (Jvm.Cond.selects "StripeShelf$Way" ({ cls := "StripeShelf$Way", name := "compareTo", desc := "(LStripeShelf$Way;)I" } : Jvm.MethodName) ({ cls := "StripeShelf$Way", name := "compareTo", desc := "(LStripeShelf$Way;)I" } : Jvm.MethodName)) ∈ lw_all := lw_g (lw_at lw_m3 74 rfl) rfl
theorem q686 : (Jvm.Cond.code ({ cls := "StripeShelf$Way", name := "compareTo", desc := "(LStripeShelf$Way;)I" } : Jvm.MethodName) prog_10_method_2_code (2 : Nat) (Option.some Jvm.ClassFile.FieldType.int)) ∈ lw_all := lw_g (lw_at lw_m3 75 rfl) rfl
theorem q1844 : (Jvm.Cond.castable "StripeShelf$Way" "java/lang/Object") ∈ lw_tbl := lw_at lw_m8 33 rfl
theorem in_X9 : ∀ w ∈ wsX90, w ∈ lw_all := lw_in wsX90 [661, 663, 665] (by decide +kernel) (by decide +kernel)

/-! StripeShelf$Note -/
set_option maxRecDepth 100000
def RX10 : String := "StripeShelf$Note"
def TX10 : u_T := fun k => match k with
  | 0 => ("StripeShelf$Note", "sort", "I", true)
  | 1 => ("StripeShelf$Note", "number", "I", true)
  | _ => ("StripeShelf$Note", "cost", "I", true)
def tyX10 : Nat → FieldType := fun k => match k with
  | 0 => .int
  | 1 => .int
  | _ => .int
abbrev wsX100 : List Cond := u_ws RX10 TX10 3
theorem nmX10 : ∀ a, a < 3 → ∀ b, b < 3 → a ≠ b → (TX10 a).2.1 ≠ (TX10 b).2.1 := by decide +kernel
theorem tyX10_ok : ∀ k, k < 3 → parseFieldDescriptor (TX10 k).2.2.1 = some (tyX10 k) := by decide +kernel
abbrev cX10_init : ByteArray := prog_6_method_1_code
def yX10_init : MethodName := ⟨RX10, "<init>", "(III)V"⟩
def dkwX10_init_0 : List UInt8 := [42, 183, 0, 1, 42, 27, 181, 0, 7, 42, 28, 181, 0, 13, 42, 29, 181, 0, 16, 177]
abbrev dktX10_init_0 : List UInt8 := dkwX10_init_0 ++ []
theorem dksX10_init_0 : cX10_init.data.toList.drop 0 = dktX10_init_0 := by decide +kernel
theorem dX10_init_0 : decode cX10_init 0 = .ok (.aload_n 0, 1) := dk_42 (dk_at dksX10_init_0 0 rfl rfl)
theorem dX10_init_1 : decode cX10_init 1 = .ok (.invokespecial 1, 3) := dk_183 0 1 (dk_at dksX10_init_0 1 rfl rfl)
theorem dX10_init_4 : decode cX10_init 4 = .ok (.aload_n 0, 1) := dk_42 (dk_at dksX10_init_0 4 rfl rfl)
theorem dX10_init_5 : decode cX10_init 5 = .ok (.iload_n 1, 1) := dk_27 (dk_at dksX10_init_0 5 rfl rfl)
theorem dX10_init_6 : decode cX10_init 6 = .ok (.putfield 7, 3) := dk_181 0 7 (dk_at dksX10_init_0 6 rfl rfl)
theorem dX10_init_9 : decode cX10_init 9 = .ok (.aload_n 0, 1) := dk_42 (dk_at dksX10_init_0 9 rfl rfl)
theorem dX10_init_10 : decode cX10_init 10 = .ok (.iload_n 2, 1) := dk_28 (dk_at dksX10_init_0 10 rfl rfl)
theorem dX10_init_11 : decode cX10_init 11 = .ok (.putfield 13, 3) := dk_181 0 13 (dk_at dksX10_init_0 11 rfl rfl)
theorem dX10_init_14 : decode cX10_init 14 = .ok (.aload_n 0, 1) := dk_42 (dk_at dksX10_init_0 14 rfl rfl)
theorem dX10_init_15 : decode cX10_init 15 = .ok (.iload_n 3, 1) := dk_29 (dk_at dksX10_init_0 15 rfl rfl)
theorem dX10_init_16 : decode cX10_init 16 = .ok (.putfield 16, 3) := dk_181 0 16 (dk_at dksX10_init_0 16 rfl rfl)
theorem dX10_init_19 : decode cX10_init 19 = .ok (.return_, 1) := dk_177 (dk_at dksX10_init_0 19 rfl rfl)
theorem q154 : (Jvm.Cond.initialized "StripeShelf$Note") ∈ lw_all := lw_g (lw_at lw_m1 23 rfl) rfl
theorem q760 : (Jvm.Cond.instantiable "StripeShelf$Note" (3 : Nat)) ∈ lw_all := lw_g (lw_at lw_m3 149 rfl) rfl
theorem q762 : (Jvm.Cond.instanceMethod ({ cls := "StripeShelf$Note", name := "<init>", desc := "(III)V" } : Jvm.MethodName)) ∈ lw_all := lw_g (lw_at lw_m3 151 rfl) rfl
theorem q763 : (Jvm.Cond.code ({ cls := "StripeShelf$Note", name := "<init>", desc := "(III)V" } : Jvm.MethodName) prog_6_method_1_code (4 : Nat) (Option.none : Option Jvm.ClassFile.FieldType)) ∈ lw_all := lw_g (lw_at lw_m3 152 rfl) rfl
theorem q764 : (Jvm.Cond.methodLink "StripeShelf$Note" (1 : Nat) ({ cls := "java/lang/Object", name := "<init>", desc := "()V" } : Jvm.MethodName)) ∈ lw_all := lw_g (lw_at lw_m3 153 rfl) rfl
theorem q765 : (Jvm.Cond.fieldLink "StripeShelf$Note" (7 : Nat) "StripeShelf$Note" "sort" "I") ∈ lw_all := lw_g (lw_at lw_m3 154 rfl) rfl
theorem q767 : (Jvm.Cond.fieldLink "StripeShelf$Note" (13 : Nat) "StripeShelf$Note" "number" "I") ∈ lw_all := lw_g (lw_at lw_m3 156 rfl) rfl
theorem q769 : (Jvm.Cond.fieldLink "StripeShelf$Note" (16 : Nat) "StripeShelf$Note" "cost" "I") ∈ lw_all := lw_g (lw_at lw_m3 158 rfl) rfl
theorem q771 : (Jvm.Cond.laysFinal "StripeShelf$Note" "StripeShelf$Note" "sort" "I") ∈ lw_all := lw_g (lw_at lw_m3 160 rfl) rfl
theorem q772 : (Jvm.Cond.soleField "StripeShelf$Note" "sort") ∈ lw_all := lw_g (lw_at lw_m3 161 rfl) rfl
theorem q773 : (Jvm.Cond.laysFinal "StripeShelf$Note" "StripeShelf$Note" "number" "I") ∈ lw_all := lw_g (lw_at lw_m3 162 rfl) rfl
theorem q774 : (Jvm.Cond.soleField "StripeShelf$Note" "number") ∈ lw_all := lw_g (lw_at lw_m3 163 rfl) rfl
theorem q775 : (Jvm.Cond.laysFinal "StripeShelf$Note" "StripeShelf$Note" "cost" "I") ∈ lw_all := lw_g (lw_at lw_m3 164 rfl) rfl
theorem q776 : (Jvm.Cond.soleField "StripeShelf$Note" "cost") ∈ lw_all := lw_g (lw_at lw_m3 165 rfl) rfl
theorem q777 : (Jvm.Cond.superclass "StripeShelf$Note" "java/lang/Object") ∈ lw_all := lw_g (lw_at lw_m3 166 rfl) rfl
theorem q1845 : (Jvm.Cond.castable "StripeShelf$Note" "java/lang/Object") ∈ lw_tbl := lw_at lw_m8 34 rfl
theorem in_X10 : ∀ w ∈ wsX100, w ∈ lw_all := lw_in wsX100 [771, 773, 775] (by decide +kernel) (by decide +kernel)

/-! StripeShelfLaw -/
set_option maxRecDepth 100000
def RX0 : String := "StripeShelfLaw"
abbrev cX0_read : ByteArray := method_3_code
def yX0_read : MethodName := ⟨RX0, "read", "(LStripeShelf;I[J)I"⟩
def dkwX0_read_0 : List UInt8 := [44, 3, 42, 27, 182, 0, 7, 133, 80, 167, 0, 6, 78, 4, 172, 3, 172]
abbrev dktX0_read_0 : List UInt8 := dkwX0_read_0 ++ []
theorem dksX0_read_0 : cX0_read.data.toList.drop 0 = dktX0_read_0 := by decide +kernel
theorem dX0_read_0 : decode cX0_read 0 = .ok (.aload_n 2, 1) := dk_44 (dk_at dksX0_read_0 0 rfl rfl)
theorem dX0_read_1 : decode cX0_read 1 = .ok (.iconst 0, 1) := dk_3 (dk_at dksX0_read_0 1 rfl rfl)
theorem dX0_read_2 : decode cX0_read 2 = .ok (.aload_n 0, 1) := dk_42 (dk_at dksX0_read_0 2 rfl rfl)
theorem dX0_read_3 : decode cX0_read 3 = .ok (.iload_n 1, 1) := dk_27 (dk_at dksX0_read_0 3 rfl rfl)
theorem dX0_read_4 : decode cX0_read 4 = .ok (.invokevirtual 7, 3) := dk_182 0 7 (dk_at dksX0_read_0 4 rfl rfl)
theorem dX0_read_7 : decode cX0_read 7 = .ok (.i2l, 1) := dk_133 (dk_at dksX0_read_0 7 rfl rfl)
theorem dX0_read_8 : decode cX0_read 8 = .ok (.lastore, 1) := dk_80 (dk_at dksX0_read_0 8 rfl rfl)
theorem dX0_read_9 : decode cX0_read 9 = .ok (.goto 6, 3) := dk_167 0 6 (dk_at dksX0_read_0 9 rfl rfl)
theorem dX0_read_12 : decode cX0_read 12 = .ok (.astore_n 3, 1) := dk_78 (dk_at dksX0_read_0 12 rfl rfl)
theorem dX0_read_13 : decode cX0_read 13 = .ok (.iconst 1, 1) := dk_4 (dk_at dksX0_read_0 13 rfl rfl)
theorem dX0_read_14 : decode cX0_read 14 = .ok (.ireturn, 1) := dk_172 (dk_at dksX0_read_0 14 rfl rfl)
theorem dX0_read_15 : decode cX0_read 15 = .ok (.iconst 0, 1) := dk_3 (dk_at dksX0_read_0 15 rfl rfl)
theorem dX0_read_16 : decode cX0_read 16 = .ok (.ireturn, 1) := dk_172 (dk_at dksX0_read_0 16 rfl rfl)
theorem q131 : (Jvm.Cond.initialized "StripeShelfLaw") ∈ lw_all := lw_g (lw_at lw_m1 0 rfl) rfl
theorem q155 : (Jvm.Cond.methodLink "StripeShelfLaw" (19 : Nat) ({ cls := "StripeShelf", name := "feed", desc := "(IIIII)I" } : Jvm.MethodName)) ∈ lw_all := lw_g (lw_at lw_m1 24 rfl) rfl
theorem q162 : (Jvm.Cond.methodLink "StripeShelfLaw" (24 : Nat) ({ cls := "StripeShelf", name := "end", desc := "(I)Z" } : Jvm.MethodName)) ∈ lw_all := lw_g (lw_at lw_m1 31 rfl) rfl
theorem q169 : (Jvm.Cond.methodLink "StripeShelfLaw" (29 : Nat) ({ cls := "StripeShelf", name := "fault", desc := "(I)I" } : Jvm.MethodName)) ∈ lw_all := lw_g (lw_at lw_m1 38 rfl) rfl
theorem q308 : (Jvm.Cond.methodLink "StripeShelfLaw" (33 : Nat) ({ cls := "StripeShelf", name := "text", desc := "(I)I" } : Jvm.MethodName)) ∈ lw_all := lw_g (lw_at lw_m1 177 rfl) rfl
theorem q484 : (Jvm.Cond.methodLink "StripeShelfLaw" (85 : Nat) ({ cls := "StripeShelf", name := "write", desc := "(II)I" } : Jvm.MethodName)) ∈ lw_all := lw_g (lw_at lw_m2 113 rfl) rfl
theorem q778 : (Jvm.Cond.methodLink "StripeShelfLaw" (89 : Nat) ({ cls := "StripeShelf", name := "lose", desc := "(I)I" } : Jvm.MethodName)) ∈ lw_all := lw_g (lw_at lw_m3 167 rfl) rfl
theorem q782 : (Jvm.Cond.methodLink "StripeShelfLaw" (93 : Nat) ({ cls := "StripeShelf", name := "replace", desc := "(I)I" } : Jvm.MethodName)) ∈ lw_all := lw_g (lw_at lw_m3 171 rfl) rfl
theorem q786 : (Jvm.Cond.methodLink "StripeShelfLaw" (97 : Nat) ({ cls := "StripeShelf", name := "rebuild", desc := "(II)I" } : Jvm.MethodName)) ∈ lw_all := lw_g (lw_at lw_m3 175 rfl) rfl
theorem q790 : (Jvm.Cond.methodLink "StripeShelfLaw" (101 : Nat) ({ cls := "StripeShelf", name := "scrub", desc := "(I)I" } : Jvm.MethodName)) ∈ lw_all := lw_g (lw_at lw_m3 179 rfl) rfl
theorem q794 : (Jvm.Cond.methodLink "StripeShelfLaw" (105 : Nat) ({ cls := "StripeShelf", name := "spoil", desc := "(IIII)I" } : Jvm.MethodName)) ∈ lw_all := lw_g (lw_at lw_m3 183 rfl) rfl
theorem q798 : (Jvm.Cond.methodLink "StripeShelfLaw" (110 : Nat) ({ cls := "StripeShelf", name := "tear", desc := "(III)I" } : Jvm.MethodName)) ∈ lw_all := lw_g (lw_at lw_m3 187 rfl) rfl
theorem q802 : (Jvm.Cond.methodLink "StripeShelfLaw" (114 : Nat) ({ cls := "StripeShelf", name := "clean", desc := "()I" } : Jvm.MethodName)) ∈ lw_all := lw_g (lw_at lw_m3 191 rfl) rfl
theorem q806 : (Jvm.Cond.methodLink "StripeShelfLaw" (118 : Nat) ({ cls := "StripeShelf", name := "full", desc := "(IIII)I" } : Jvm.MethodName)) ∈ lw_all := lw_g (lw_at lw_m3 195 rfl) rfl
theorem q810 : (Jvm.Cond.methodLink "StripeShelfLaw" (124 : Nat) ({ cls := "StripeShelf", name := "years", desc := "(IJ)I" } : Jvm.MethodName)) ∈ lw_all := lw_g (lw_at lw_m3 199 rfl) rfl
theorem q828 : (Jvm.Cond.methodLink "StripeShelfLaw" (129 : Nat) ({ cls := "StripeShelf", name := "status", desc := "(I)I" } : Jvm.MethodName)) ∈ lw_all := lw_g (lw_at lw_m3 217 rfl) rfl
theorem q832 : (Jvm.Cond.methodLink "StripeShelfLaw" (133 : Nat) ({ cls := "StripeShelf", name := "undo", desc := "()I" } : Jvm.MethodName)) ∈ lw_all := lw_g (lw_at lw_m3 221 rfl) rfl
theorem q840 : (Jvm.Cond.methodLink "StripeShelfLaw" (137 : Nat) ({ cls := "StripeShelf", name := "log", desc := "(II)I" } : Jvm.MethodName)) ∈ lw_all := lw_g (lw_at lw_m3 229 rfl) rfl
theorem q849 : (Jvm.Cond.methodLink "StripeShelfLaw" (37 : Nat) ({ cls := "StripeShelf", name := "rule", desc := "(I)I" } : Jvm.MethodName)) ∈ lw_all := lw_g (lw_at lw_m3 238 rfl) rfl
theorem q853 : (Jvm.Cond.methodLink "StripeShelfLaw" (41 : Nat) ({ cls := "StripeShelf", name := "times", desc := "(II)I" } : Jvm.MethodName)) ∈ lw_all := lw_g (lw_at lw_m4 2 rfl) rfl
theorem q861 : (Jvm.Cond.methodLink "StripeShelfLaw" (46 : Nat) ({ cls := "StripeShelf", name := "over", desc := "(II)I" } : Jvm.MethodName)) ∈ lw_all := lw_g (lw_at lw_m4 10 rfl) rfl
theorem q865 : (Jvm.Cond.methodLink "StripeShelfLaw" (50 : Nat) ({ cls := "StripeShelf", name := "power", desc := "(I)I" } : Jvm.MethodName)) ∈ lw_all := lw_g (lw_at lw_m4 14 rfl) rfl
theorem q869 : (Jvm.Cond.methodLink "StripeShelfLaw" (54 : Nat) ({ cls := "StripeShelf", name := "logOf", desc := "(I)I" } : Jvm.MethodName)) ∈ lw_all := lw_g (lw_at lw_m4 18 rfl) rfl
theorem q873 : (Jvm.Cond.methodLink "StripeShelfLaw" (58 : Nat) ({ cls := "StripeShelf", name := "place", desc := "(II)I" } : Jvm.MethodName)) ∈ lw_all := lw_g (lw_at lw_m4 22 rfl) rfl
theorem q877 : (Jvm.Cond.methodLink "StripeShelfLaw" (62 : Nat) ({ cls := "StripeShelf", name := "part", desc := "(II)I" } : Jvm.MethodName)) ∈ lw_all := lw_g (lw_at lw_m4 26 rfl) rfl
theorem q881 : (Jvm.Cond.methodLink "StripeShelfLaw" (76 : Nat) ({ cls := "StripeShelf", name := "cell", desc := "(III)I" } : Jvm.MethodName)) ∈ lw_all := lw_g (lw_at lw_m4 30 rfl) rfl
theorem q889 : (Jvm.Cond.methodLink "StripeShelfLaw" (81 : Nat) ({ cls := "StripeShelf", name := "disk", desc := "(II)I" } : Jvm.MethodName)) ∈ lw_all := lw_g (lw_at lw_m4 38 rfl) rfl
theorem q893 : (Jvm.Cond.methodLink "StripeShelfLaw" (141 : Nat) ({ cls := "StripeShelf", name := "cost", desc := "(II)I" } : Jvm.MethodName)) ∈ lw_all := lw_g (lw_at lw_m4 42 rfl) rfl
theorem q897 : (Jvm.Cond.methodLink "StripeShelfLaw" (145 : Nat) ({ cls := "StripeShelf", name := "told", desc := "(IIIII)I" } : Jvm.MethodName)) ∈ lw_all := lw_g (lw_at lw_m4 46 rfl) rfl
theorem q901 : (Jvm.Cond.methodLink "StripeShelfLaw" (149 : Nat) ({ cls := "StripeShelf", name := "who", desc := "(II)I" } : Jvm.MethodName)) ∈ lw_all := lw_g (lw_at lw_m4 50 rfl) rfl
theorem q905 : (Jvm.Cond.methodLink "StripeShelfLaw" (153 : Nat) ({ cls := "StripeShelf", name := "more", desc := "()I" } : Jvm.MethodName)) ∈ lw_all := lw_g (lw_at lw_m4 54 rfl) rfl
theorem q909 : (Jvm.Cond.methodLink "StripeShelfLaw" (157 : Nat) ({ cls := "StripeShelf", name := "left", desc := "(I)I" } : Jvm.MethodName)) ∈ lw_all := lw_g (lw_at lw_m4 58 rfl) rfl
theorem q915 : (Jvm.Cond.methodLink "StripeShelfLaw" (161 : Nat) ({ cls := "StripeShelf", name := "fit", desc := "()I" } : Jvm.MethodName)) ∈ lw_all := lw_g (lw_at lw_m4 64 rfl) rfl
theorem q919 : (Jvm.Cond.methodLink "StripeShelfLaw" (165 : Nat) ({ cls := "StripeShelf", name := "checked", desc := "(I)I" } : Jvm.MethodName)) ∈ lw_all := lw_g (lw_at lw_m4 68 rfl) rfl
theorem q923 : (Jvm.Cond.methodLink "StripeShelfLaw" (169 : Nat) ({ cls := "StripeShelf", name := "equal", desc := "()I" } : Jvm.MethodName)) ∈ lw_all := lw_g (lw_at lw_m4 72 rfl) rfl
theorem q927 : (Jvm.Cond.methodLink "StripeShelfLaw" (177 : Nat) ({ cls := "StripeShelf", name := "risk", desc := "()I" } : Jvm.MethodName)) ∈ lw_all := lw_g (lw_at lw_m4 76 rfl) rfl
theorem q931 : (Jvm.Cond.methodLink "StripeShelfLaw" (181 : Nat) ({ cls := "StripeShelf", name := "first", desc := "(I)I" } : Jvm.MethodName)) ∈ lw_all := lw_g (lw_at lw_m4 80 rfl) rfl
theorem q939 : (Jvm.Cond.methodLink "StripeShelfLaw" (185 : Nat) ({ cls := "StripeShelf", name := "votes", desc := "(II)I" } : Jvm.MethodName)) ∈ lw_all := lw_g (lw_at lw_m4 88 rfl) rfl
theorem q943 : (Jvm.Cond.methodLink "StripeShelfLaw" (173 : Nat) ({ cls := "StripeShelf", name := "span", desc := "(I)I" } : Jvm.MethodName)) ∈ lw_all := lw_g (lw_at lw_m4 92 rfl) rfl
theorem q947 : (Jvm.Cond.methodLink "StripeShelfLaw" (189 : Nat) ({ cls := "StripeShelf", name := "step", desc := "(III)I" } : Jvm.MethodName)) ∈ lw_all := lw_g (lw_at lw_m4 96 rfl) rfl
theorem q955 : (Jvm.Cond.methodLink "StripeShelfLaw" (193 : Nat) ({ cls := "StripeShelf", name := "run", desc := "(II)I" } : Jvm.MethodName)) ∈ lw_all := lw_g (lw_at lw_m4 104 rfl) rfl
theorem q963 : (Jvm.Cond.methodLink "StripeShelfLaw" (197 : Nat) ({ cls := "StripeShelf", name := "perform", desc := "(I)I" } : Jvm.MethodName)) ∈ lw_all := lw_g (lw_at lw_m4 112 rfl) rfl
theorem q967 : (Jvm.Cond.methodLink "StripeShelfLaw" (201 : Nat) ({ cls := "StripeShelf", name := "most", desc := "(I)I" } : Jvm.MethodName)) ∈ lw_all := lw_g (lw_at lw_m4 116 rfl) rfl
theorem q975 : (Jvm.Cond.classLink "StripeShelfLaw" (8 : Nat) "StripeShelf") ∈ lw_all := lw_g (lw_at lw_m4 124 rfl) rfl
theorem q976 : (Jvm.Cond.methodLink "StripeShelfLaw" (15 : Nat) ({ cls := "StripeShelf", name := "<init>", desc := "()V" } : Jvm.MethodName)) ∈ lw_all := lw_g (lw_at lw_m4 125 rfl) rfl
theorem q1171 : (Jvm.Cond.methodLink "StripeShelfLaw" (205 : Nat) ({ cls := "StripeShelf", name := "image", desc := "()I" } : Jvm.MethodName)) ∈ lw_all := lw_g (lw_at lw_m5 80 rfl) rfl
theorem q1175 : (Jvm.Cond.methodLink "StripeShelfLaw" (209 : Nat) ({ cls := "StripeShelf", name := "back", desc := "()I" } : Jvm.MethodName)) ∈ lw_all := lw_g (lw_at lw_m5 84 rfl) rfl
theorem q1179 : (Jvm.Cond.methodLink "StripeShelfLaw" (213 : Nat) ({ cls := "StripeShelf", name := "count", desc := "(I)I" } : Jvm.MethodName)) ∈ lw_all := lw_g (lw_at lw_m5 88 rfl) rfl
theorem q1183 : (Jvm.Cond.methodLink "StripeShelfLaw" (66 : Nat) ({ cls := "StripeShelfLaw", name := "read", desc := "(LStripeShelf;I[J)I" } : Jvm.MethodName)) ∈ lw_all := lw_g (lw_at lw_m5 92 rfl) rfl
theorem q1184 : (Jvm.Cond.static ({ cls := "StripeShelfLaw", name := "read", desc := "(LStripeShelf;I[J)I" } : Jvm.MethodName)) ∈ lw_all := lw_g (lw_at lw_m5 93 rfl) rfl
theorem q1185 : (Jvm.Cond.codeWith ({ cls := "StripeShelfLaw", name := "read", desc := "(LStripeShelf;I[J)I" } : Jvm.MethodName) method_3_code (4 : Nat) (Option.some Jvm.ClassFile.FieldType.int) [((0 : Nat), (9 : Nat), (12 : Nat), (13 : Nat))]) ∈ lw_all := lw_g (lw_at lw_m5 94 rfl) rfl
theorem q1186 : (Jvm.Cond.classLink "StripeShelfLaw" (13 : Nat) "java/util/NoSuchElementException") ∈ lw_all := lw_g (lw_at lw_m5 95 rfl) rfl
theorem q1187 : (Jvm.Cond.methodLink "StripeShelfLaw" (7 : Nat) ({ cls := "StripeShelf", name := "read", desc := "(I)I" } : Jvm.MethodName)) ∈ lw_all := lw_g (lw_at lw_m5 96 rfl) rfl
theorem q1211 : (Jvm.Cond.classLink "StripeShelfLaw" (16 : Nat) "StripeShelfModel") ∈ lw_all := lw_g (lw_at lw_m5 120 rfl) rfl
theorem q1213 : (Jvm.Cond.methodLink "StripeShelfLaw" (18 : Nat) ({ cls := "StripeShelfModel", name := "<init>", desc := "()V" } : Jvm.MethodName)) ∈ lw_all := lw_g (lw_at lw_m5 122 rfl) rfl
theorem q1315 : (Jvm.Cond.methodLink "StripeShelfLaw" (72 : Nat) ({ cls := "StripeShelfModel", name := "thrown", desc := "()I" } : Jvm.MethodName)) ∈ lw_all := lw_g (lw_at lw_m5 224 rfl) rfl
theorem q1319 : (Jvm.Cond.methodLink "StripeShelfLaw" (23 : Nat) ({ cls := "StripeShelfModel", name := "feed", desc := "(IIIII)I" } : Jvm.MethodName)) ∈ lw_all := lw_g (lw_at lw_m5 228 rfl) rfl
theorem q1330 : (Jvm.Cond.methodLink "StripeShelfLaw" (28 : Nat) ({ cls := "StripeShelfModel", name := "end", desc := "(I)Z" } : Jvm.MethodName)) ∈ lw_all := lw_g (lw_at lw_m5 239 rfl) rfl
theorem q1334 : (Jvm.Cond.methodLink "StripeShelfLaw" (32 : Nat) ({ cls := "StripeShelfModel", name := "fault", desc := "(I)I" } : Jvm.MethodName)) ∈ lw_all := lw_g (lw_at lw_m6 3 rfl) rfl
theorem q1421 : (Jvm.Cond.methodLink "StripeShelfLaw" (45 : Nat) ({ cls := "StripeShelfModel", name := "times", desc := "(II)I" } : Jvm.MethodName)) ∈ lw_all := lw_g (lw_at lw_m6 90 rfl) rfl
theorem q1432 : (Jvm.Cond.methodLink "StripeShelfLaw" (49 : Nat) ({ cls := "StripeShelfModel", name := "over", desc := "(II)I" } : Jvm.MethodName)) ∈ lw_all := lw_g (lw_at lw_m6 101 rfl) rfl
theorem q1440 : (Jvm.Cond.methodLink "StripeShelfLaw" (53 : Nat) ({ cls := "StripeShelfModel", name := "power", desc := "(I)I" } : Jvm.MethodName)) ∈ lw_all := lw_g (lw_at lw_m6 109 rfl) rfl
theorem q1445 : (Jvm.Cond.methodLink "StripeShelfLaw" (57 : Nat) ({ cls := "StripeShelfModel", name := "logOf", desc := "(I)I" } : Jvm.MethodName)) ∈ lw_all := lw_g (lw_at lw_m6 114 rfl) rfl
theorem q1450 : (Jvm.Cond.methodLink "StripeShelfLaw" (36 : Nat) ({ cls := "StripeShelfModel", name := "text", desc := "(I)I" } : Jvm.MethodName)) ∈ lw_all := lw_g (lw_at lw_m6 119 rfl) rfl
theorem q1536 : (Jvm.Cond.methodLink "StripeShelfLaw" (88 : Nat) ({ cls := "StripeShelfModel", name := "write", desc := "(II)I" } : Jvm.MethodName)) ∈ lw_all := lw_g (lw_at lw_m6 205 rfl) rfl
theorem q1649 : (Jvm.Cond.methodLink "StripeShelfLaw" (92 : Nat) ({ cls := "StripeShelfModel", name := "lose", desc := "(I)I" } : Jvm.MethodName)) ∈ lw_all := lw_g (lw_at lw_m7 78 rfl) rfl
theorem q1653 : (Jvm.Cond.methodLink "StripeShelfLaw" (96 : Nat) ({ cls := "StripeShelfModel", name := "replace", desc := "(I)I" } : Jvm.MethodName)) ∈ lw_all := lw_g (lw_at lw_m7 82 rfl) rfl
theorem q1657 : (Jvm.Cond.methodLink "StripeShelfLaw" (100 : Nat) ({ cls := "StripeShelfModel", name := "rebuild", desc := "(II)I" } : Jvm.MethodName)) ∈ lw_all := lw_g (lw_at lw_m7 86 rfl) rfl
theorem q1661 : (Jvm.Cond.methodLink "StripeShelfLaw" (104 : Nat) ({ cls := "StripeShelfModel", name := "scrub", desc := "(I)I" } : Jvm.MethodName)) ∈ lw_all := lw_g (lw_at lw_m7 90 rfl) rfl
theorem q1665 : (Jvm.Cond.methodLink "StripeShelfLaw" (109 : Nat) ({ cls := "StripeShelfModel", name := "spoil", desc := "(IIII)I" } : Jvm.MethodName)) ∈ lw_all := lw_g (lw_at lw_m7 94 rfl) rfl
theorem q1669 : (Jvm.Cond.methodLink "StripeShelfLaw" (113 : Nat) ({ cls := "StripeShelfModel", name := "tear", desc := "(III)I" } : Jvm.MethodName)) ∈ lw_all := lw_g (lw_at lw_m7 98 rfl) rfl
theorem q1673 : (Jvm.Cond.methodLink "StripeShelfLaw" (117 : Nat) ({ cls := "StripeShelfModel", name := "clean", desc := "()I" } : Jvm.MethodName)) ∈ lw_all := lw_g (lw_at lw_m7 102 rfl) rfl
theorem q1677 : (Jvm.Cond.methodLink "StripeShelfLaw" (121 : Nat) ({ cls := "StripeShelfModel", name := "full", desc := "(IIII)I" } : Jvm.MethodName)) ∈ lw_all := lw_g (lw_at lw_m7 106 rfl) rfl
theorem q1681 : (Jvm.Cond.methodLink "StripeShelfLaw" (128 : Nat) ({ cls := "StripeShelfModel", name := "years", desc := "(IJ)I" } : Jvm.MethodName)) ∈ lw_all := lw_g (lw_at lw_m7 110 rfl) rfl
theorem q1700 : (Jvm.Cond.methodLink "StripeShelfLaw" (132 : Nat) ({ cls := "StripeShelfModel", name := "status", desc := "(I)I" } : Jvm.MethodName)) ∈ lw_all := lw_g (lw_at lw_m7 129 rfl) rfl
theorem q1705 : (Jvm.Cond.methodLink "StripeShelfLaw" (136 : Nat) ({ cls := "StripeShelfModel", name := "undo", desc := "()I" } : Jvm.MethodName)) ∈ lw_all := lw_g (lw_at lw_m7 134 rfl) rfl
theorem q1709 : (Jvm.Cond.methodLink "StripeShelfLaw" (140 : Nat) ({ cls := "StripeShelfModel", name := "log", desc := "(II)I" } : Jvm.MethodName)) ∈ lw_all := lw_g (lw_at lw_m7 138 rfl) rfl
theorem q1714 : (Jvm.Cond.methodLink "StripeShelfLaw" (208 : Nat) ({ cls := "StripeShelfModel", name := "image", desc := "()I" } : Jvm.MethodName)) ∈ lw_all := lw_g (lw_at lw_m7 143 rfl) rfl
theorem q1718 : (Jvm.Cond.methodLink "StripeShelfLaw" (212 : Nat) ({ cls := "StripeShelfModel", name := "back", desc := "()I" } : Jvm.MethodName)) ∈ lw_all := lw_g (lw_at lw_m7 147 rfl) rfl
theorem q1722 : (Jvm.Cond.methodLink "StripeShelfLaw" (40 : Nat) ({ cls := "StripeShelfModel", name := "rule", desc := "(I)I" } : Jvm.MethodName)) ∈ lw_all := lw_g (lw_at lw_m7 151 rfl) rfl
theorem q1726 : (Jvm.Cond.methodLink "StripeShelfLaw" (61 : Nat) ({ cls := "StripeShelfModel", name := "place", desc := "(II)I" } : Jvm.MethodName)) ∈ lw_all := lw_g (lw_at lw_m7 155 rfl) rfl
theorem q1730 : (Jvm.Cond.methodLink "StripeShelfLaw" (65 : Nat) ({ cls := "StripeShelfModel", name := "part", desc := "(II)I" } : Jvm.MethodName)) ∈ lw_all := lw_g (lw_at lw_m7 159 rfl) rfl
theorem q1734 : (Jvm.Cond.methodLink "StripeShelfLaw" (71 : Nat) ({ cls := "StripeShelfModel", name := "read", desc := "(I)I" } : Jvm.MethodName)) ∈ lw_all := lw_g (lw_at lw_m7 163 rfl) rfl
theorem q1738 : (Jvm.Cond.methodLink "StripeShelfLaw" (80 : Nat) ({ cls := "StripeShelfModel", name := "cell", desc := "(III)I" } : Jvm.MethodName)) ∈ lw_all := lw_g (lw_at lw_m7 167 rfl) rfl
theorem q1742 : (Jvm.Cond.methodLink "StripeShelfLaw" (84 : Nat) ({ cls := "StripeShelfModel", name := "disk", desc := "(II)I" } : Jvm.MethodName)) ∈ lw_all := lw_g (lw_at lw_m7 171 rfl) rfl
theorem q1746 : (Jvm.Cond.methodLink "StripeShelfLaw" (144 : Nat) ({ cls := "StripeShelfModel", name := "cost", desc := "(II)I" } : Jvm.MethodName)) ∈ lw_all := lw_g (lw_at lw_m7 175 rfl) rfl
theorem q1750 : (Jvm.Cond.methodLink "StripeShelfLaw" (148 : Nat) ({ cls := "StripeShelfModel", name := "told", desc := "(IIIII)I" } : Jvm.MethodName)) ∈ lw_all := lw_g (lw_at lw_m7 179 rfl) rfl
theorem q1754 : (Jvm.Cond.methodLink "StripeShelfLaw" (152 : Nat) ({ cls := "StripeShelfModel", name := "who", desc := "(II)I" } : Jvm.MethodName)) ∈ lw_all := lw_g (lw_at lw_m7 183 rfl) rfl
theorem q1758 : (Jvm.Cond.methodLink "StripeShelfLaw" (156 : Nat) ({ cls := "StripeShelfModel", name := "more", desc := "()I" } : Jvm.MethodName)) ∈ lw_all := lw_g (lw_at lw_m7 187 rfl) rfl
theorem q1762 : (Jvm.Cond.methodLink "StripeShelfLaw" (160 : Nat) ({ cls := "StripeShelfModel", name := "left", desc := "(I)I" } : Jvm.MethodName)) ∈ lw_all := lw_g (lw_at lw_m7 191 rfl) rfl
theorem q1766 : (Jvm.Cond.methodLink "StripeShelfLaw" (180 : Nat) ({ cls := "StripeShelfModel", name := "risk", desc := "()I" } : Jvm.MethodName)) ∈ lw_all := lw_g (lw_at lw_m7 195 rfl) rfl
theorem q1774 : (Jvm.Cond.methodLink "StripeShelfLaw" (184 : Nat) ({ cls := "StripeShelfModel", name := "first", desc := "(I)I" } : Jvm.MethodName)) ∈ lw_all := lw_g (lw_at lw_m7 203 rfl) rfl
theorem q1778 : (Jvm.Cond.methodLink "StripeShelfLaw" (188 : Nat) ({ cls := "StripeShelfModel", name := "votes", desc := "(II)I" } : Jvm.MethodName)) ∈ lw_all := lw_g (lw_at lw_m7 207 rfl) rfl
theorem q1786 : (Jvm.Cond.methodLink "StripeShelfLaw" (164 : Nat) ({ cls := "StripeShelfModel", name := "fit", desc := "()I" } : Jvm.MethodName)) ∈ lw_all := lw_g (lw_at lw_m7 215 rfl) rfl
theorem q1794 : (Jvm.Cond.methodLink "StripeShelfLaw" (168 : Nat) ({ cls := "StripeShelfModel", name := "checked", desc := "(I)I" } : Jvm.MethodName)) ∈ lw_all := lw_g (lw_at lw_m7 223 rfl) rfl
theorem q1798 : (Jvm.Cond.methodLink "StripeShelfLaw" (172 : Nat) ({ cls := "StripeShelfModel", name := "equal", desc := "()I" } : Jvm.MethodName)) ∈ lw_all := lw_g (lw_at lw_m7 227 rfl) rfl
theorem q1802 : (Jvm.Cond.methodLink "StripeShelfLaw" (176 : Nat) ({ cls := "StripeShelfModel", name := "span", desc := "(I)I" } : Jvm.MethodName)) ∈ lw_all := lw_g (lw_at lw_m7 231 rfl) rfl
theorem q1806 : (Jvm.Cond.methodLink "StripeShelfLaw" (192 : Nat) ({ cls := "StripeShelfModel", name := "step", desc := "(III)I" } : Jvm.MethodName)) ∈ lw_all := lw_g (lw_at lw_m7 235 rfl) rfl
theorem q1815 : (Jvm.Cond.methodLink "StripeShelfLaw" (196 : Nat) ({ cls := "StripeShelfModel", name := "run", desc := "(II)I" } : Jvm.MethodName)) ∈ lw_all := lw_g (lw_at lw_m8 4 rfl) rfl
theorem q1819 : (Jvm.Cond.methodLink "StripeShelfLaw" (200 : Nat) ({ cls := "StripeShelfModel", name := "perform", desc := "(I)I" } : Jvm.MethodName)) ∈ lw_all := lw_g (lw_at lw_m8 8 rfl) rfl
theorem q1823 : (Jvm.Cond.methodLink "StripeShelfLaw" (204 : Nat) ({ cls := "StripeShelfModel", name := "most", desc := "(I)I" } : Jvm.MethodName)) ∈ lw_all := lw_g (lw_at lw_m8 12 rfl) rfl
theorem q1827 : (Jvm.Cond.methodLink "StripeShelfLaw" (216 : Nat) ({ cls := "StripeShelfModel", name := "count", desc := "(I)I" } : Jvm.MethodName)) ∈ lw_all := lw_g (lw_at lw_m8 16 rfl) rfl
theorem q1831 : (Jvm.Cond.constantLong "StripeShelfLaw" (122 : Nat) (4294967295 : Int64)) ∈ lw_all := lw_g (lw_at lw_m8 20 rfl) rfl

/-! java/lang/Throwable -/
set_option maxRecDepth 100000
def RJ0 : String := "java/lang/Throwable"
def TJ0 : u_T := fun k => match k with
  | 0 => ("java/lang/Throwable", "cause", "Ljava/lang/Throwable;", false)
  | 1 => ("java/lang/Throwable", "stackTrace", "[Ljava/lang/StackTraceElement;", false)
  | 2 => ("java/lang/Throwable", "suppressedExceptions", "Ljava/util/List;", false)
  | 3 => ("java/lang/Throwable", "detailMessage", "Ljava/lang/String;", false)
  | _ => ("java/lang/Throwable", "backtrace", "Ljava/lang/Object;", false)
def tyJ0 : Nat → FieldType := fun k => match k with
  | 0 => .object "java/lang/Throwable"
  | 1 => .array (.object "java/lang/StackTraceElement")
  | 2 => .object "java/util/List"
  | 3 => .object "java/lang/String"
  | _ => .object "java/lang/Object"
abbrev wsJ00 : List Cond := u_ws RJ0 TJ0 5
theorem nmJ0 : ∀ a, a < 5 → ∀ b, b < 5 → a ≠ b → (TJ0 a).2.1 ≠ (TJ0 b).2.1 := by decide +kernel
theorem tyJ0_ok : ∀ k, k < 5 → parseFieldDescriptor (TJ0 k).2.2.1 = some (tyJ0 k) := by decide +kernel
abbrev cJ0_init : ByteArray := prog_26_method_1_code
def yJ0_init : MethodName := ⟨RJ0, "<init>", "()V"⟩
def dkwJ0_init_1 : List UInt8 := [182, 0, 27, 87, 177]
abbrev dktJ0_init_1 : List UInt8 := dkwJ0_init_1 ++ []
def dkwJ0_init_0 : List UInt8 := [42, 183, 0, 1, 42, 42, 181, 0, 7, 42, 178, 0, 13, 181, 0, 17, 42, 178, 0, 20, 181, 0, 24, 42]
abbrev dktJ0_init_0 : List UInt8 := dkwJ0_init_0 ++ dktJ0_init_1
theorem dksJ0_init_0 : cJ0_init.data.toList.drop 0 = dktJ0_init_0 := by decide +kernel
theorem dksJ0_init_1 : cJ0_init.data.toList.drop 24 = dktJ0_init_1 := dk_seg dksJ0_init_0 24 rfl rfl
theorem dJ0_init_0 : decode cJ0_init 0 = .ok (.aload_n 0, 1) := dk_42 (dk_at dksJ0_init_0 0 rfl rfl)
theorem dJ0_init_1 : decode cJ0_init 1 = .ok (.invokespecial 1, 3) := dk_183 0 1 (dk_at dksJ0_init_0 1 rfl rfl)
theorem dJ0_init_4 : decode cJ0_init 4 = .ok (.aload_n 0, 1) := dk_42 (dk_at dksJ0_init_0 4 rfl rfl)
theorem dJ0_init_5 : decode cJ0_init 5 = .ok (.aload_n 0, 1) := dk_42 (dk_at dksJ0_init_0 5 rfl rfl)
theorem dJ0_init_6 : decode cJ0_init 6 = .ok (.putfield 7, 3) := dk_181 0 7 (dk_at dksJ0_init_0 6 rfl rfl)
theorem dJ0_init_9 : decode cJ0_init 9 = .ok (.aload_n 0, 1) := dk_42 (dk_at dksJ0_init_0 9 rfl rfl)
theorem dJ0_init_10 : decode cJ0_init 10 = .ok (.getstatic 13, 3) := dk_178 0 13 (dk_at dksJ0_init_0 10 rfl rfl)
theorem dJ0_init_13 : decode cJ0_init 13 = .ok (.putfield 17, 3) := dk_181 0 17 (dk_at dksJ0_init_0 13 rfl rfl)
theorem dJ0_init_16 : decode cJ0_init 16 = .ok (.aload_n 0, 1) := dk_42 (dk_at dksJ0_init_0 16 rfl rfl)
theorem dJ0_init_17 : decode cJ0_init 17 = .ok (.getstatic 20, 3) := dk_178 0 20 (dk_at dksJ0_init_0 17 rfl rfl)
theorem dJ0_init_20 : decode cJ0_init 20 = .ok (.putfield 24, 3) := dk_181 0 24 (dk_at dksJ0_init_0 20 rfl rfl)
theorem dJ0_init_23 : decode cJ0_init 23 = .ok (.aload_n 0, 1) := dk_42 (dk_at dksJ0_init_0 23 rfl rfl)
theorem dJ0_init_24 : decode cJ0_init 24 = .ok (.invokevirtual 27, 3) := dk_182 0 27 (dk_at dksJ0_init_1 0 rfl rfl)
theorem dJ0_init_27 : decode cJ0_init 27 = .ok (.pop, 1) := dk_87 (dk_at dksJ0_init_1 3 rfl rfl)
theorem dJ0_init_28 : decode cJ0_init 28 = .ok (.return_, 1) := dk_177 (dk_at dksJ0_init_1 4 rfl rfl)
theorem q133 : (Jvm.Cond.initialized "java/lang/Throwable") ∈ lw_all := lw_g (lw_at lw_m1 2 rfl) rfl
theorem q984 : (Jvm.Cond.declares ({ cls := "java/lang/Throwable", name := "<init>", desc := "()V" } : Jvm.MethodName)) ∈ lw_tbl := lw_at lw_m4 133 rfl
theorem q985 : (Jvm.Cond.declares ({ cls := "java/lang/Throwable", name := "<init>", desc := "(Ljava/lang/String;)V" } : Jvm.MethodName)) ∈ lw_tbl := lw_at lw_m4 134 rfl
theorem q989 : (Jvm.Cond.lays "java/lang/Throwable" "java/lang/Throwable" "cause" "Ljava/lang/Throwable;") ∈ lw_all := lw_g (lw_at lw_m4 138 rfl) rfl
theorem q991 : (Jvm.Cond.lays "java/lang/Throwable" "java/lang/Throwable" "stackTrace" "[Ljava/lang/StackTraceElement;") ∈ lw_all := lw_g (lw_at lw_m4 140 rfl) rfl
theorem q993 : (Jvm.Cond.lays "java/lang/Throwable" "java/lang/Throwable" "suppressedExceptions" "Ljava/util/List;") ∈ lw_all := lw_g (lw_at lw_m4 142 rfl) rfl
theorem q995 : (Jvm.Cond.lays "java/lang/Throwable" "java/lang/Throwable" "detailMessage" "Ljava/lang/String;") ∈ lw_all := lw_g (lw_at lw_m4 144 rfl) rfl
theorem q997 : (Jvm.Cond.lays "java/lang/Throwable" "java/lang/Throwable" "backtrace" "Ljava/lang/Object;") ∈ lw_all := lw_g (lw_at lw_m4 146 rfl) rfl
theorem q998 : (Jvm.Cond.fieldLink "java/lang/Throwable" (198 : Nat) "java/lang/Throwable" "backtrace" "Ljava/lang/Object;") ∈ lw_all := lw_g (lw_at lw_m4 147 rfl) rfl
theorem q999 : (Jvm.Cond.superclass "java/lang/Throwable" "java/lang/Object") ∈ lw_all := lw_g (lw_at lw_m4 148 rfl) rfl
theorem q1000 : (Jvm.Cond.instanceMethod ({ cls := "java/lang/Throwable", name := "<init>", desc := "()V" } : Jvm.MethodName)) ∈ lw_all := lw_g (lw_at lw_m4 149 rfl) rfl
theorem q1001 : (Jvm.Cond.code ({ cls := "java/lang/Throwable", name := "<init>", desc := "()V" } : Jvm.MethodName) prog_26_method_1_code (1 : Nat) (Option.none : Option Jvm.ClassFile.FieldType)) ∈ lw_all := lw_g (lw_at lw_m4 150 rfl) rfl
theorem q1002 : (Jvm.Cond.methodLink "java/lang/Throwable" (1 : Nat) ({ cls := "java/lang/Object", name := "<init>", desc := "()V" } : Jvm.MethodName)) ∈ lw_all := lw_g (lw_at lw_m4 151 rfl) rfl
theorem q1003 : (Jvm.Cond.fieldLink "java/lang/Throwable" (13 : Nat) "java/lang/Throwable" "UNASSIGNED_STACK" "[Ljava/lang/StackTraceElement;") ∈ lw_all := lw_g (lw_at lw_m4 152 rfl) rfl
theorem q1004 : (Jvm.Cond.laysStatic "java/lang/Throwable" "UNASSIGNED_STACK" "[Ljava/lang/StackTraceElement;") ∈ lw_tbl := lw_at lw_m4 153 rfl
theorem q1005 : (Jvm.Cond.fieldLink "java/lang/Throwable" (20 : Nat) "java/lang/Throwable" "SUPPRESSED_SENTINEL" "Ljava/util/List;") ∈ lw_all := lw_g (lw_at lw_m4 154 rfl) rfl
theorem q1006 : (Jvm.Cond.laysStatic "java/lang/Throwable" "SUPPRESSED_SENTINEL" "Ljava/util/List;") ∈ lw_tbl := lw_at lw_m4 155 rfl
theorem q1007 : (Jvm.Cond.methodLink "java/lang/Throwable" (27 : Nat) ({ cls := "java/lang/Throwable", name := "fillInStackTrace", desc := "()Ljava/lang/Throwable;" } : Jvm.MethodName)) ∈ lw_all := lw_g (lw_at lw_m4 156 rfl) rfl
theorem q1008 : (Jvm.Cond.instanceMethod ({ cls := "java/lang/Throwable", name := "fillInStackTrace", desc := "()Ljava/lang/Throwable;" } : Jvm.MethodName)) ∈ lw_all := lw_g (lw_at lw_m4 157 rfl) rfl
theorem q1009 : (Jvm.Cond.sameMethod "java/lang/Throwable" "java/lang/Throwable" "fillInStackTrace" "()Ljava/lang/Throwable;") ∈ lw_all := lw_g (lw_at lw_m4 158 rfl) rfl
theorem q1011 : (Jvm.Cond.codeSync ({ cls := "java/lang/Throwable", name := "fillInStackTrace", desc := "()Ljava/lang/Throwable;" } : Jvm.MethodName) prog_26_method_18_code (1 : Nat) (Option.some (Jvm.ClassFile.FieldType.object "java/lang/Throwable"))) ∈ lw_all := lw_g (lw_at lw_m4 160 rfl) rfl
theorem q1012 : (Jvm.Cond.methodLink "java/lang/Throwable" (202 : Nat) ({ cls := "java/lang/Throwable", name := "fillInStackTrace", desc := "(I)Ljava/lang/Throwable;" } : Jvm.MethodName)) ∈ lw_all := lw_g (lw_at lw_m4 161 rfl) rfl
theorem q1013 : (Jvm.Cond.privateMethod ({ cls := "java/lang/Throwable", name := "fillInStackTrace", desc := "(I)Ljava/lang/Throwable;" } : Jvm.MethodName)) ∈ lw_tbl := lw_at lw_m4 162 rfl
theorem q1014 : (Jvm.Cond.instanceMethod ({ cls := "java/lang/Throwable", name := "fillInStackTrace", desc := "(I)Ljava/lang/Throwable;" } : Jvm.MethodName)) ∈ lw_all := lw_g (lw_at lw_m4 163 rfl) rfl
theorem q1015 : (Jvm.Cond.instantiable "java/lang/Throwable" (6 : Nat)) ∈ lw_all := lw_g (lw_at lw_m4 164 rfl) rfl
theorem q1016 : (Jvm.Cond.native ({ cls := "java/lang/Throwable", name := "fillInStackTrace", desc := "(I)Ljava/lang/Throwable;" } : Jvm.MethodName)) ∈ lw_all := lw_g (lw_at lw_m4 165 rfl) rfl
theorem q1024 : (Jvm.Cond.fieldLink "java/lang/Throwable" (198 : Nat) "java/lang/Throwable" "backtrace" "Ljava/lang/Object;") ∈ lw_all := lw_g (lw_at lw_m4 173 rfl) rfl
theorem q1025 : (Jvm.Cond.fieldLink "java/lang/Throwable" (7 : Nat) "java/lang/Throwable" "cause" "Ljava/lang/Throwable;") ∈ lw_all := lw_g (lw_at lw_m4 174 rfl) rfl
theorem q1026 : (Jvm.Cond.fieldLink "java/lang/Throwable" (17 : Nat) "java/lang/Throwable" "stackTrace" "[Ljava/lang/StackTraceElement;") ∈ lw_all := lw_g (lw_at lw_m4 175 rfl) rfl
theorem q1027 : (Jvm.Cond.fieldLink "java/lang/Throwable" (24 : Nat) "java/lang/Throwable" "suppressedExceptions" "Ljava/util/List;") ∈ lw_all := lw_g (lw_at lw_m4 176 rfl) rfl
theorem q1028 : (Jvm.Cond.soleField "java/lang/Throwable" "backtrace") ∈ lw_all := lw_g (lw_at lw_m4 177 rfl) rfl
theorem q1029 : (Jvm.Cond.soleField "java/lang/Throwable" "detailMessage") ∈ lw_all := lw_g (lw_at lw_m4 178 rfl) rfl
theorem q1030 : (Jvm.Cond.soleField "java/lang/Throwable" "cause") ∈ lw_all := lw_g (lw_at lw_m4 179 rfl) rfl
theorem q1031 : (Jvm.Cond.soleField "java/lang/Throwable" "stackTrace") ∈ lw_all := lw_g (lw_at lw_m4 180 rfl) rfl
theorem q1033 : (Jvm.Cond.soleField "java/lang/Throwable" "depth") ∈ lw_all := lw_g (lw_at lw_m4 182 rfl) rfl
theorem q1034 : (Jvm.Cond.soleField "java/lang/Throwable" "suppressedExceptions") ∈ lw_all := lw_g (lw_at lw_m4 183 rfl) rfl
theorem q1833 : (Jvm.Cond.sameMethod "java/lang/Throwable" "java/lang/Throwable" "fillInStackTrace" "(I)Ljava/lang/Throwable;") ∈ lw_all := lw_g (lw_at lw_m8 22 rfl) rfl
theorem q1846 : (Jvm.Cond.castable "java/lang/Throwable" "java/lang/Object") ∈ lw_tbl := lw_at lw_m8 35 rfl
theorem in_J0 : ∀ w ∈ wsJ00, w ∈ lw_all := lw_in wsJ00 [989, 991, 993, 995, 997] (by decide +kernel) (by decide +kernel)

/-! java/lang/Exception -/
set_option maxRecDepth 100000
def RJ1 : String := "java/lang/Exception"
abbrev cJ1_init : ByteArray := prog_17_method_1_code
def yJ1_init : MethodName := ⟨RJ1, "<init>", "()V"⟩
theorem dJ1_init_0 : decode cJ1_init 0 = .ok (.aload_n 0, 1) := by decide +kernel
theorem dJ1_init_1 : decode cJ1_init 1 = .ok (.invokespecial 1, 3) := by decide +kernel
theorem dJ1_init_4 : decode cJ1_init 4 = .ok (.return_, 1) := by decide +kernel
theorem q134 : (Jvm.Cond.initialized "java/lang/Exception") ∈ lw_all := lw_g (lw_at lw_m1 3 rfl) rfl
theorem q982 : (Jvm.Cond.declares ({ cls := "java/lang/Exception", name := "<init>", desc := "()V" } : Jvm.MethodName)) ∈ lw_tbl := lw_at lw_m4 131 rfl
theorem q983 : (Jvm.Cond.declares ({ cls := "java/lang/Exception", name := "<init>", desc := "(Ljava/lang/String;)V" } : Jvm.MethodName)) ∈ lw_tbl := lw_at lw_m4 132 rfl
theorem q1021 : (Jvm.Cond.instanceMethod ({ cls := "java/lang/Exception", name := "<init>", desc := "()V" } : Jvm.MethodName)) ∈ lw_all := lw_g (lw_at lw_m4 170 rfl) rfl
theorem q1022 : (Jvm.Cond.code ({ cls := "java/lang/Exception", name := "<init>", desc := "()V" } : Jvm.MethodName) prog_17_method_1_code (1 : Nat) (Option.none : Option Jvm.ClassFile.FieldType)) ∈ lw_all := lw_g (lw_at lw_m4 171 rfl) rfl
theorem q1023 : (Jvm.Cond.methodLink "java/lang/Exception" (1 : Nat) ({ cls := "java/lang/Throwable", name := "<init>", desc := "()V" } : Jvm.MethodName)) ∈ lw_all := lw_g (lw_at lw_m4 172 rfl) rfl

/-! java/lang/String -/
set_option maxRecDepth 100000
def RJ2 : String := "java/lang/String"
abbrev cJ2_length : ByteArray := prog_22_method_54_code
def yJ2_length : MethodName := ⟨RJ2, "length", "()I"⟩
def dkwJ2_length_0 : List UInt8 := [42, 180, 0, 9, 190, 42, 182, 1, 79, 122, 172]
abbrev dktJ2_length_0 : List UInt8 := dkwJ2_length_0 ++ []
theorem dksJ2_length_0 : cJ2_length.data.toList.drop 0 = dktJ2_length_0 := by decide +kernel
theorem dJ2_length_0 : decode cJ2_length 0 = .ok (.aload_n 0, 1) := dk_42 (dk_at dksJ2_length_0 0 rfl rfl)
theorem dJ2_length_1 : decode cJ2_length 1 = .ok (.getfield 9, 3) := dk_180 0 9 (dk_at dksJ2_length_0 1 rfl rfl)
theorem dJ2_length_4 : decode cJ2_length 4 = .ok (.arraylength, 1) := dk_190 (dk_at dksJ2_length_0 4 rfl rfl)
theorem dJ2_length_5 : decode cJ2_length 5 = .ok (.aload_n 0, 1) := dk_42 (dk_at dksJ2_length_0 5 rfl rfl)
theorem dJ2_length_6 : decode cJ2_length 6 = .ok (.invokevirtual 335, 3) := dk_182 1 79 (dk_at dksJ2_length_0 6 rfl rfl)
theorem dJ2_length_9 : decode cJ2_length 9 = .ok (.ishr, 1) := dk_122 (dk_at dksJ2_length_0 9 rfl rfl)
theorem dJ2_length_10 : decode cJ2_length 10 = .ok (.ireturn, 1) := dk_172 (dk_at dksJ2_length_0 10 rfl rfl)
abbrev cJ2_coder : ByteArray := prog_22_method_152_code
def yJ2_coder : MethodName := ⟨RJ2, "coder", "()B"⟩
def dkwJ2_coder_0 : List UInt8 := [178, 0, 38, 153, 0, 10, 42, 180, 0, 15, 167, 0, 4, 4, 172]
abbrev dktJ2_coder_0 : List UInt8 := dkwJ2_coder_0 ++ []
theorem dksJ2_coder_0 : cJ2_coder.data.toList.drop 0 = dktJ2_coder_0 := by decide +kernel
theorem dJ2_coder_0 : decode cJ2_coder 0 = .ok (.getstatic 38, 3) := dk_178 0 38 (dk_at dksJ2_coder_0 0 rfl rfl)
theorem dJ2_coder_3 : decode cJ2_coder 3 = .ok (.ifCond .eq 10, 3) := dk_153 0 10 (dk_at dksJ2_coder_0 3 rfl rfl)
theorem dJ2_coder_6 : decode cJ2_coder 6 = .ok (.aload_n 0, 1) := dk_42 (dk_at dksJ2_coder_0 6 rfl rfl)
theorem dJ2_coder_7 : decode cJ2_coder 7 = .ok (.getfield 15, 3) := dk_180 0 15 (dk_at dksJ2_coder_0 7 rfl rfl)
theorem dJ2_coder_10 : decode cJ2_coder 10 = .ok (.goto 4, 3) := dk_167 0 4 (dk_at dksJ2_coder_0 10 rfl rfl)
theorem dJ2_coder_13 : decode cJ2_coder 13 = .ok (.iconst 1, 1) := dk_4 (dk_at dksJ2_coder_0 13 rfl rfl)
theorem dJ2_coder_14 : decode cJ2_coder 14 = .ok (.ireturn, 1) := dk_172 (dk_at dksJ2_coder_0 14 rfl rfl)
abbrev cJ2_indexOf : ByteArray := prog_22_method_79_code
def yJ2_indexOf : MethodName := ⟨RJ2, "indexOf", "(I)I"⟩
def dkwJ2_indexOf_0 : List UInt8 := [42, 27, 3, 182, 2, 121, 172]
abbrev dktJ2_indexOf_0 : List UInt8 := dkwJ2_indexOf_0 ++ []
theorem dksJ2_indexOf_0 : cJ2_indexOf.data.toList.drop 0 = dktJ2_indexOf_0 := by decide +kernel
theorem dJ2_indexOf_0 : decode cJ2_indexOf 0 = .ok (.aload_n 0, 1) := dk_42 (dk_at dksJ2_indexOf_0 0 rfl rfl)
theorem dJ2_indexOf_1 : decode cJ2_indexOf 1 = .ok (.iload_n 1, 1) := dk_27 (dk_at dksJ2_indexOf_0 1 rfl rfl)
theorem dJ2_indexOf_2 : decode cJ2_indexOf 2 = .ok (.iconst 0, 1) := dk_3 (dk_at dksJ2_indexOf_0 2 rfl rfl)
theorem dJ2_indexOf_3 : decode cJ2_indexOf 3 = .ok (.invokevirtual 633, 3) := dk_182 2 121 (dk_at dksJ2_indexOf_0 3 rfl rfl)
theorem dJ2_indexOf_6 : decode cJ2_indexOf 6 = .ok (.ireturn, 1) := dk_172 (dk_at dksJ2_indexOf_0 6 rfl rfl)
abbrev cJ2_indexOf_2 : ByteArray := prog_22_method_80_code
def yJ2_indexOf_2 : MethodName := ⟨RJ2, "indexOf", "(II)I"⟩
def dkwJ2_indexOf_2_1 : List UInt8 := [180, 0, 9, 27, 28, 42, 182, 1, 249, 184, 2, 128, 172]
abbrev dktJ2_indexOf_2_1 : List UInt8 := dkwJ2_indexOf_2_1 ++ []
def dkwJ2_indexOf_2_0 : List UInt8 := [42, 182, 1, 236, 153, 0, 19, 42, 180, 0, 9, 27, 28, 42, 182, 1, 249, 184, 2, 125, 167, 0, 16, 42]
abbrev dktJ2_indexOf_2_0 : List UInt8 := dkwJ2_indexOf_2_0 ++ dktJ2_indexOf_2_1
theorem dksJ2_indexOf_2_0 : cJ2_indexOf_2.data.toList.drop 0 = dktJ2_indexOf_2_0 := by decide +kernel
theorem dksJ2_indexOf_2_1 : cJ2_indexOf_2.data.toList.drop 24 = dktJ2_indexOf_2_1 := dk_seg dksJ2_indexOf_2_0 24 rfl rfl
theorem dJ2_indexOf_2_0 : decode cJ2_indexOf_2 0 = .ok (.aload_n 0, 1) := dk_42 (dk_at dksJ2_indexOf_2_0 0 rfl rfl)
theorem dJ2_indexOf_2_1 : decode cJ2_indexOf_2 1 = .ok (.invokevirtual 492, 3) := dk_182 1 236 (dk_at dksJ2_indexOf_2_0 1 rfl rfl)
theorem dJ2_indexOf_2_4 : decode cJ2_indexOf_2 4 = .ok (.ifCond .eq 19, 3) := dk_153 0 19 (dk_at dksJ2_indexOf_2_0 4 rfl rfl)
theorem dJ2_indexOf_2_7 : decode cJ2_indexOf_2 7 = .ok (.aload_n 0, 1) := dk_42 (dk_at dksJ2_indexOf_2_0 7 rfl rfl)
theorem dJ2_indexOf_2_8 : decode cJ2_indexOf_2 8 = .ok (.getfield 9, 3) := dk_180 0 9 (dk_at dksJ2_indexOf_2_0 8 rfl rfl)
theorem dJ2_indexOf_2_11 : decode cJ2_indexOf_2 11 = .ok (.iload_n 1, 1) := dk_27 (dk_at dksJ2_indexOf_2_0 11 rfl rfl)
theorem dJ2_indexOf_2_12 : decode cJ2_indexOf_2 12 = .ok (.iload_n 2, 1) := dk_28 (dk_at dksJ2_indexOf_2_0 12 rfl rfl)
theorem dJ2_indexOf_2_13 : decode cJ2_indexOf_2 13 = .ok (.aload_n 0, 1) := dk_42 (dk_at dksJ2_indexOf_2_0 13 rfl rfl)
theorem dJ2_indexOf_2_14 : decode cJ2_indexOf_2 14 = .ok (.invokevirtual 505, 3) := dk_182 1 249 (dk_at dksJ2_indexOf_2_0 14 rfl rfl)
theorem dJ2_indexOf_2_17 : decode cJ2_indexOf_2 17 = .ok (.invokestatic 637, 3) := dk_184 2 125 (dk_at dksJ2_indexOf_2_0 17 rfl rfl)
theorem dJ2_indexOf_2_20 : decode cJ2_indexOf_2 20 = .ok (.goto 16, 3) := dk_167 0 16 (dk_at dksJ2_indexOf_2_0 20 rfl rfl)
theorem dJ2_indexOf_2_23 : decode cJ2_indexOf_2 23 = .ok (.aload_n 0, 1) := dk_42 (dk_at dksJ2_indexOf_2_0 23 rfl rfl)
theorem dJ2_indexOf_2_24 : decode cJ2_indexOf_2 24 = .ok (.getfield 9, 3) := dk_180 0 9 (dk_at dksJ2_indexOf_2_1 0 rfl rfl)
theorem dJ2_indexOf_2_27 : decode cJ2_indexOf_2 27 = .ok (.iload_n 1, 1) := dk_27 (dk_at dksJ2_indexOf_2_1 3 rfl rfl)
theorem dJ2_indexOf_2_28 : decode cJ2_indexOf_2 28 = .ok (.iload_n 2, 1) := dk_28 (dk_at dksJ2_indexOf_2_1 4 rfl rfl)
theorem dJ2_indexOf_2_29 : decode cJ2_indexOf_2 29 = .ok (.aload_n 0, 1) := dk_42 (dk_at dksJ2_indexOf_2_1 5 rfl rfl)
theorem dJ2_indexOf_2_30 : decode cJ2_indexOf_2 30 = .ok (.invokevirtual 505, 3) := dk_182 1 249 (dk_at dksJ2_indexOf_2_1 6 rfl rfl)
theorem dJ2_indexOf_2_33 : decode cJ2_indexOf_2 33 = .ok (.invokestatic 640, 3) := dk_184 2 128 (dk_at dksJ2_indexOf_2_1 9 rfl rfl)
theorem dJ2_indexOf_2_36 : decode cJ2_indexOf_2 36 = .ok (.ireturn, 1) := dk_172 (dk_at dksJ2_indexOf_2_1 12 rfl rfl)
abbrev cJ2_isLatin1 : ByteArray := prog_22_method_154_code
def yJ2_isLatin1 : MethodName := ⟨RJ2, "isLatin1", "()Z"⟩
def dkwJ2_isLatin1_0 : List UInt8 := [178, 0, 38, 153, 0, 14, 42, 180, 0, 15, 154, 0, 7, 4, 167, 0, 4, 3, 172]
abbrev dktJ2_isLatin1_0 : List UInt8 := dkwJ2_isLatin1_0 ++ []
theorem dksJ2_isLatin1_0 : cJ2_isLatin1.data.toList.drop 0 = dktJ2_isLatin1_0 := by decide +kernel
theorem dJ2_isLatin1_0 : decode cJ2_isLatin1 0 = .ok (.getstatic 38, 3) := dk_178 0 38 (dk_at dksJ2_isLatin1_0 0 rfl rfl)
theorem dJ2_isLatin1_3 : decode cJ2_isLatin1 3 = .ok (.ifCond .eq 14, 3) := dk_153 0 14 (dk_at dksJ2_isLatin1_0 3 rfl rfl)
theorem dJ2_isLatin1_6 : decode cJ2_isLatin1 6 = .ok (.aload_n 0, 1) := dk_42 (dk_at dksJ2_isLatin1_0 6 rfl rfl)
theorem dJ2_isLatin1_7 : decode cJ2_isLatin1 7 = .ok (.getfield 15, 3) := dk_180 0 15 (dk_at dksJ2_isLatin1_0 7 rfl rfl)
theorem dJ2_isLatin1_10 : decode cJ2_isLatin1 10 = .ok (.ifCond .ne 7, 3) := dk_154 0 7 (dk_at dksJ2_isLatin1_0 10 rfl rfl)
theorem dJ2_isLatin1_13 : decode cJ2_isLatin1 13 = .ok (.iconst 1, 1) := dk_4 (dk_at dksJ2_isLatin1_0 13 rfl rfl)
theorem dJ2_isLatin1_14 : decode cJ2_isLatin1 14 = .ok (.goto 4, 3) := dk_167 0 4 (dk_at dksJ2_isLatin1_0 14 rfl rfl)
theorem dJ2_isLatin1_17 : decode cJ2_isLatin1 17 = .ok (.iconst 0, 1) := dk_3 (dk_at dksJ2_isLatin1_0 17 rfl rfl)
theorem dJ2_isLatin1_18 : decode cJ2_isLatin1 18 = .ok (.ireturn, 1) := dk_172 (dk_at dksJ2_isLatin1_0 18 rfl rfl)
abbrev cJ2_checkBoundsBeginEnd : ByteArray := prog_22_method_158_code
def yJ2_checkBoundsBeginEnd : MethodName := ⟨RJ2, "checkBoundsBeginEnd", "(III)V"⟩
def dkwJ2_checkBoundsBeginEnd_0 : List UInt8 := [26, 27, 28, 178, 4, 29, 184, 4, 38, 87, 177]
abbrev dktJ2_checkBoundsBeginEnd_0 : List UInt8 := dkwJ2_checkBoundsBeginEnd_0 ++ []
theorem dksJ2_checkBoundsBeginEnd_0 : cJ2_checkBoundsBeginEnd.data.toList.drop 0 = dktJ2_checkBoundsBeginEnd_0 := by decide +kernel
theorem dJ2_checkBoundsBeginEnd_0 : decode cJ2_checkBoundsBeginEnd 0 = .ok (.iload_n 0, 1) := dk_26 (dk_at dksJ2_checkBoundsBeginEnd_0 0 rfl rfl)
theorem dJ2_checkBoundsBeginEnd_1 : decode cJ2_checkBoundsBeginEnd 1 = .ok (.iload_n 1, 1) := dk_27 (dk_at dksJ2_checkBoundsBeginEnd_0 1 rfl rfl)
theorem dJ2_checkBoundsBeginEnd_2 : decode cJ2_checkBoundsBeginEnd 2 = .ok (.iload_n 2, 1) := dk_28 (dk_at dksJ2_checkBoundsBeginEnd_0 2 rfl rfl)
theorem dJ2_checkBoundsBeginEnd_3 : decode cJ2_checkBoundsBeginEnd 3 = .ok (.getstatic 1053, 3) := dk_178 4 29 (dk_at dksJ2_checkBoundsBeginEnd_0 3 rfl rfl)
theorem dJ2_checkBoundsBeginEnd_6 : decode cJ2_checkBoundsBeginEnd 6 = .ok (.invokestatic 1062, 3) := dk_184 4 38 (dk_at dksJ2_checkBoundsBeginEnd_0 6 rfl rfl)
theorem dJ2_checkBoundsBeginEnd_9 : decode cJ2_checkBoundsBeginEnd 9 = .ok (.pop, 1) := dk_87 (dk_at dksJ2_checkBoundsBeginEnd_0 9 rfl rfl)
theorem dJ2_checkBoundsBeginEnd_10 : decode cJ2_checkBoundsBeginEnd 10 = .ok (.return_, 1) := dk_177 (dk_at dksJ2_checkBoundsBeginEnd_0 10 rfl rfl)
abbrev cJ2_charAt : ByteArray := prog_22_method_56_code
def yJ2_charAt : MethodName := ⟨RJ2, "charAt", "(I)C"⟩
def dkwJ2_charAt_1 : List UInt8 := [172]
abbrev dktJ2_charAt_1 : List UInt8 := dkwJ2_charAt_1 ++ []
def dkwJ2_charAt_0 : List UInt8 := [42, 182, 1, 236, 153, 0, 12, 42, 180, 0, 9, 27, 184, 1, 239, 172, 42, 180, 0, 9, 27, 184, 1, 242]
abbrev dktJ2_charAt_0 : List UInt8 := dkwJ2_charAt_0 ++ dktJ2_charAt_1
theorem dksJ2_charAt_0 : cJ2_charAt.data.toList.drop 0 = dktJ2_charAt_0 := by decide +kernel
theorem dksJ2_charAt_1 : cJ2_charAt.data.toList.drop 24 = dktJ2_charAt_1 := dk_seg dksJ2_charAt_0 24 rfl rfl
theorem dJ2_charAt_0 : decode cJ2_charAt 0 = .ok (.aload_n 0, 1) := dk_42 (dk_at dksJ2_charAt_0 0 rfl rfl)
theorem dJ2_charAt_1 : decode cJ2_charAt 1 = .ok (.invokevirtual 492, 3) := dk_182 1 236 (dk_at dksJ2_charAt_0 1 rfl rfl)
theorem dJ2_charAt_4 : decode cJ2_charAt 4 = .ok (.ifCond .eq 12, 3) := dk_153 0 12 (dk_at dksJ2_charAt_0 4 rfl rfl)
theorem dJ2_charAt_7 : decode cJ2_charAt 7 = .ok (.aload_n 0, 1) := dk_42 (dk_at dksJ2_charAt_0 7 rfl rfl)
theorem dJ2_charAt_8 : decode cJ2_charAt 8 = .ok (.getfield 9, 3) := dk_180 0 9 (dk_at dksJ2_charAt_0 8 rfl rfl)
theorem dJ2_charAt_11 : decode cJ2_charAt 11 = .ok (.iload_n 1, 1) := dk_27 (dk_at dksJ2_charAt_0 11 rfl rfl)
theorem dJ2_charAt_12 : decode cJ2_charAt 12 = .ok (.invokestatic 495, 3) := dk_184 1 239 (dk_at dksJ2_charAt_0 12 rfl rfl)
theorem dJ2_charAt_15 : decode cJ2_charAt 15 = .ok (.ireturn, 1) := dk_172 (dk_at dksJ2_charAt_0 15 rfl rfl)
theorem dJ2_charAt_16 : decode cJ2_charAt 16 = .ok (.aload_n 0, 1) := dk_42 (dk_at dksJ2_charAt_0 16 rfl rfl)
theorem dJ2_charAt_17 : decode cJ2_charAt 17 = .ok (.getfield 9, 3) := dk_180 0 9 (dk_at dksJ2_charAt_0 17 rfl rfl)
theorem dJ2_charAt_20 : decode cJ2_charAt 20 = .ok (.iload_n 1, 1) := dk_27 (dk_at dksJ2_charAt_0 20 rfl rfl)
theorem dJ2_charAt_21 : decode cJ2_charAt 21 = .ok (.invokestatic 498, 3) := dk_184 1 242 (dk_at dksJ2_charAt_0 21 rfl rfl)
theorem dJ2_charAt_24 : decode cJ2_charAt 24 = .ok (.ireturn, 1) := dk_172 (dk_at dksJ2_charAt_1 0 rfl rfl)
abbrev cJ2_checkIndex : ByteArray := prog_22_method_155_code
def yJ2_checkIndex : MethodName := ⟨RJ2, "checkIndex", "(II)V"⟩
def dkwJ2_checkIndex_0 : List UInt8 := [26, 27, 178, 4, 29, 184, 4, 35, 87, 177]
abbrev dktJ2_checkIndex_0 : List UInt8 := dkwJ2_checkIndex_0 ++ []
theorem dksJ2_checkIndex_0 : cJ2_checkIndex.data.toList.drop 0 = dktJ2_checkIndex_0 := by decide +kernel
theorem dJ2_checkIndex_0 : decode cJ2_checkIndex 0 = .ok (.iload_n 0, 1) := dk_26 (dk_at dksJ2_checkIndex_0 0 rfl rfl)
theorem dJ2_checkIndex_1 : decode cJ2_checkIndex 1 = .ok (.iload_n 1, 1) := dk_27 (dk_at dksJ2_checkIndex_0 1 rfl rfl)
theorem dJ2_checkIndex_2 : decode cJ2_checkIndex 2 = .ok (.getstatic 1053, 3) := dk_178 4 29 (dk_at dksJ2_checkIndex_0 2 rfl rfl)
theorem dJ2_checkIndex_5 : decode cJ2_checkIndex 5 = .ok (.invokestatic 1059, 3) := dk_184 4 35 (dk_at dksJ2_checkIndex_0 5 rfl rfl)
theorem dJ2_checkIndex_8 : decode cJ2_checkIndex 8 = .ok (.pop, 1) := dk_87 (dk_at dksJ2_checkIndex_0 8 rfl rfl)
theorem dJ2_checkIndex_9 : decode cJ2_checkIndex 9 = .ok (.return_, 1) := dk_177 (dk_at dksJ2_checkIndex_0 9 rfl rfl)
theorem q140 : (Jvm.Cond.initialized "java/lang/String") ∈ lw_all := lw_g (lw_at lw_m1 9 rfl) rfl
theorem q197 : (Jvm.Cond.instanceMethod ({ cls := "java/lang/String", name := "length", desc := "()I" } : Jvm.MethodName)) ∈ lw_all := lw_g (lw_at lw_m1 66 rfl) rfl
theorem q198 : (Jvm.Cond.selects "java/lang/String" ({ cls := "java/lang/String", name := "length", desc := "()I" } : Jvm.MethodName) ({ cls := "java/lang/String", name := "length", desc := "()I" } : Jvm.MethodName)) ∈ lw_all := lw_g (lw_at lw_m1 67 rfl) rfl
theorem q199 : (Jvm.Cond.code ({ cls := "java/lang/String", name := "length", desc := "()I" } : Jvm.MethodName) prog_22_method_54_code (1 : Nat) (Option.some Jvm.ClassFile.FieldType.int)) ∈ lw_all := lw_g (lw_at lw_m1 68 rfl) rfl
theorem q200 : (Jvm.Cond.methodLink "java/lang/String" (335 : Nat) ({ cls := "java/lang/String", name := "coder", desc := "()B" } : Jvm.MethodName)) ∈ lw_all := lw_g (lw_at lw_m1 69 rfl) rfl
theorem q201 : (Jvm.Cond.instanceMethod ({ cls := "java/lang/String", name := "coder", desc := "()B" } : Jvm.MethodName)) ∈ lw_all := lw_g (lw_at lw_m1 70 rfl) rfl
theorem q202 : (Jvm.Cond.selects "java/lang/String" ({ cls := "java/lang/String", name := "coder", desc := "()B" } : Jvm.MethodName) ({ cls := "java/lang/String", name := "coder", desc := "()B" } : Jvm.MethodName)) ∈ lw_all := lw_g (lw_at lw_m1 71 rfl) rfl
theorem q203 : (Jvm.Cond.code ({ cls := "java/lang/String", name := "coder", desc := "()B" } : Jvm.MethodName) prog_22_method_152_code (1 : Nat) (Option.some Jvm.ClassFile.FieldType.byte)) ∈ lw_all := lw_g (lw_at lw_m1 72 rfl) rfl
theorem q204 : (Jvm.Cond.fieldLink "java/lang/String" (38 : Nat) "java/lang/String" "COMPACT_STRINGS" "Z") ∈ lw_all := lw_g (lw_at lw_m1 73 rfl) rfl
theorem q205 : (Jvm.Cond.laysStatic "java/lang/String" "COMPACT_STRINGS" "Z") ∈ lw_tbl := lw_at lw_m1 74 rfl
theorem q207 : (Jvm.Cond.instanceMethod ({ cls := "java/lang/String", name := "indexOf", desc := "(I)I" } : Jvm.MethodName)) ∈ lw_all := lw_g (lw_at lw_m1 76 rfl) rfl
theorem q208 : (Jvm.Cond.selects "java/lang/String" ({ cls := "java/lang/String", name := "indexOf", desc := "(I)I" } : Jvm.MethodName) ({ cls := "java/lang/String", name := "indexOf", desc := "(I)I" } : Jvm.MethodName)) ∈ lw_all := lw_g (lw_at lw_m1 77 rfl) rfl
theorem q209 : (Jvm.Cond.code ({ cls := "java/lang/String", name := "indexOf", desc := "(I)I" } : Jvm.MethodName) prog_22_method_79_code (2 : Nat) (Option.some Jvm.ClassFile.FieldType.int)) ∈ lw_all := lw_g (lw_at lw_m1 78 rfl) rfl
theorem q210 : (Jvm.Cond.methodLink "java/lang/String" (633 : Nat) ({ cls := "java/lang/String", name := "indexOf", desc := "(II)I" } : Jvm.MethodName)) ∈ lw_all := lw_g (lw_at lw_m1 79 rfl) rfl
theorem q211 : (Jvm.Cond.instanceMethod ({ cls := "java/lang/String", name := "indexOf", desc := "(II)I" } : Jvm.MethodName)) ∈ lw_all := lw_g (lw_at lw_m1 80 rfl) rfl
theorem q212 : (Jvm.Cond.selects "java/lang/String" ({ cls := "java/lang/String", name := "indexOf", desc := "(II)I" } : Jvm.MethodName) ({ cls := "java/lang/String", name := "indexOf", desc := "(II)I" } : Jvm.MethodName)) ∈ lw_all := lw_g (lw_at lw_m1 81 rfl) rfl
theorem q213 : (Jvm.Cond.code ({ cls := "java/lang/String", name := "indexOf", desc := "(II)I" } : Jvm.MethodName) prog_22_method_80_code (3 : Nat) (Option.some Jvm.ClassFile.FieldType.int)) ∈ lw_all := lw_g (lw_at lw_m1 82 rfl) rfl
theorem q214 : (Jvm.Cond.methodLink "java/lang/String" (492 : Nat) ({ cls := "java/lang/String", name := "isLatin1", desc := "()Z" } : Jvm.MethodName)) ∈ lw_all := lw_g (lw_at lw_m1 83 rfl) rfl
theorem q215 : (Jvm.Cond.instanceMethod ({ cls := "java/lang/String", name := "isLatin1", desc := "()Z" } : Jvm.MethodName)) ∈ lw_all := lw_g (lw_at lw_m1 84 rfl) rfl
theorem q216 : (Jvm.Cond.selects "java/lang/String" ({ cls := "java/lang/String", name := "isLatin1", desc := "()Z" } : Jvm.MethodName) ({ cls := "java/lang/String", name := "isLatin1", desc := "()Z" } : Jvm.MethodName)) ∈ lw_all := lw_g (lw_at lw_m1 85 rfl) rfl
theorem q217 : (Jvm.Cond.code ({ cls := "java/lang/String", name := "isLatin1", desc := "()Z" } : Jvm.MethodName) prog_22_method_154_code (1 : Nat) (Option.some Jvm.ClassFile.FieldType.boolean)) ∈ lw_all := lw_g (lw_at lw_m1 86 rfl) rfl
theorem q218 : (Jvm.Cond.methodLink "java/lang/String" (505 : Nat) ({ cls := "java/lang/String", name := "length", desc := "()I" } : Jvm.MethodName)) ∈ lw_all := lw_g (lw_at lw_m1 87 rfl) rfl
theorem q219 : (Jvm.Cond.methodLink "java/lang/String" (637 : Nat) ({ cls := "java/lang/StringLatin1", name := "indexOf", desc := "([BIII)I" } : Jvm.MethodName)) ∈ lw_all := lw_g (lw_at lw_m1 88 rfl) rfl
theorem q234 : (Jvm.Cond.methodLink "java/lang/String" (640 : Nat) ({ cls := "java/lang/StringUTF16", name := "indexOf", desc := "([BIII)I" } : Jvm.MethodName)) ∈ lw_all := lw_g (lw_at lw_m1 103 rfl) rfl
theorem q250 : (Jvm.Cond.static ({ cls := "java/lang/String", name := "checkBoundsBeginEnd", desc := "(III)V" } : Jvm.MethodName)) ∈ lw_all := lw_g (lw_at lw_m1 119 rfl) rfl
theorem q251 : (Jvm.Cond.code ({ cls := "java/lang/String", name := "checkBoundsBeginEnd", desc := "(III)V" } : Jvm.MethodName) prog_22_method_158_code (3 : Nat) (Option.none : Option Jvm.ClassFile.FieldType)) ∈ lw_all := lw_g (lw_at lw_m1 120 rfl) rfl
theorem q252 : (Jvm.Cond.fieldLink "java/lang/String" (1053 : Nat) "jdk/internal/util/Preconditions" "SIOOBE_FORMATTER" "Ljava/util/function/BiFunction;") ∈ lw_all := lw_g (lw_at lw_m1 121 rfl) rfl
theorem q254 : (Jvm.Cond.methodLink "java/lang/String" (1062 : Nat) ({ cls := "jdk/internal/util/Preconditions", name := "checkFromToIndex", desc := "(IIILjava/util/function/BiFunction;)I" } : Jvm.MethodName)) ∈ lw_all := lw_g (lw_at lw_m1 123 rfl) rfl
theorem q1371 : (Jvm.Cond.instanceMethod ({ cls := "java/lang/String", name := "charAt", desc := "(I)C" } : Jvm.MethodName)) ∈ lw_all := lw_g (lw_at lw_m6 40 rfl) rfl
theorem q1372 : (Jvm.Cond.selects "java/lang/String" ({ cls := "java/lang/String", name := "charAt", desc := "(I)C" } : Jvm.MethodName) ({ cls := "java/lang/String", name := "charAt", desc := "(I)C" } : Jvm.MethodName)) ∈ lw_all := lw_g (lw_at lw_m6 41 rfl) rfl
theorem q1373 : (Jvm.Cond.code ({ cls := "java/lang/String", name := "charAt", desc := "(I)C" } : Jvm.MethodName) prog_22_method_56_code (2 : Nat) (Option.some Jvm.ClassFile.FieldType.char)) ∈ lw_all := lw_g (lw_at lw_m6 42 rfl) rfl
theorem q1374 : (Jvm.Cond.methodLink "java/lang/String" (495 : Nat) ({ cls := "java/lang/StringLatin1", name := "charAt", desc := "([BI)C" } : Jvm.MethodName)) ∈ lw_all := lw_g (lw_at lw_m6 43 rfl) rfl
theorem q1378 : (Jvm.Cond.static ({ cls := "java/lang/String", name := "checkIndex", desc := "(II)V" } : Jvm.MethodName)) ∈ lw_all := lw_g (lw_at lw_m6 47 rfl) rfl
theorem q1379 : (Jvm.Cond.code ({ cls := "java/lang/String", name := "checkIndex", desc := "(II)V" } : Jvm.MethodName) prog_22_method_155_code (2 : Nat) (Option.none : Option Jvm.ClassFile.FieldType)) ∈ lw_all := lw_g (lw_at lw_m6 48 rfl) rfl
theorem q1380 : (Jvm.Cond.methodLink "java/lang/String" (1059 : Nat) ({ cls := "jdk/internal/util/Preconditions", name := "checkIndex", desc := "(IILjava/util/function/BiFunction;)I" } : Jvm.MethodName)) ∈ lw_all := lw_g (lw_at lw_m6 49 rfl) rfl
theorem q1383 : (Jvm.Cond.methodLink "java/lang/String" (498 : Nat) ({ cls := "java/lang/StringUTF16", name := "charAt", desc := "([BI)C" } : Jvm.MethodName)) ∈ lw_all := lw_g (lw_at lw_m6 52 rfl) rfl
theorem q1834 : (Jvm.Cond.castable "java/lang/String" "java/lang/Comparable") ∈ lw_tbl := lw_at lw_m8 23 rfl
theorem q1847 : (Jvm.Cond.castable "java/lang/String" "java/lang/Object") ∈ lw_tbl := lw_at lw_m8 36 rfl
theorem q1848 : (Jvm.Cond.fieldLink "java/lang/String" (9 : Nat) "java/lang/String" "value" "[B") ∈ lw_all := lw_g (lw_at lw_m8 37 rfl) rfl
theorem q1849 : (Jvm.Cond.fieldLink "java/lang/String" (15 : Nat) "java/lang/String" "coder" "B") ∈ lw_all := lw_g (lw_at lw_m8 38 rfl) rfl

/-! java/lang/StringLatin1 -/
set_option maxRecDepth 100000
def RJ3 : String := "java/lang/StringLatin1"
abbrev cJ3_indexOf : ByteArray := prog_23_method_22_code
def yJ3_indexOf : MethodName := ⟨RJ3, "indexOf", "([BIII)I"⟩
def dkwJ3_indexOf_1 : List UInt8 := [161, 0, 5, 2, 172, 42, 27, 28, 29, 184, 0, 95, 172]
abbrev dktJ3_indexOf_1 : List UInt8 := dkwJ3_indexOf_1 ++ []
def dkwJ3_indexOf_0 : List UInt8 := [27, 184, 0, 88, 154, 0, 5, 2, 172, 28, 3, 184, 0, 92, 61, 29, 42, 190, 184, 0, 38, 62, 28, 29]
abbrev dktJ3_indexOf_0 : List UInt8 := dkwJ3_indexOf_0 ++ dktJ3_indexOf_1
theorem dksJ3_indexOf_0 : cJ3_indexOf.data.toList.drop 0 = dktJ3_indexOf_0 := by decide +kernel
theorem dksJ3_indexOf_1 : cJ3_indexOf.data.toList.drop 24 = dktJ3_indexOf_1 := dk_seg dksJ3_indexOf_0 24 rfl rfl
theorem dJ3_indexOf_0 : decode cJ3_indexOf 0 = .ok (.iload_n 1, 1) := dk_27 (dk_at dksJ3_indexOf_0 0 rfl rfl)
theorem dJ3_indexOf_1 : decode cJ3_indexOf 1 = .ok (.invokestatic 88, 3) := dk_184 0 88 (dk_at dksJ3_indexOf_0 1 rfl rfl)
theorem dJ3_indexOf_4 : decode cJ3_indexOf 4 = .ok (.ifCond .ne 5, 3) := dk_154 0 5 (dk_at dksJ3_indexOf_0 4 rfl rfl)
theorem dJ3_indexOf_7 : decode cJ3_indexOf 7 = .ok (.iconst (-1), 1) := dk_2 (dk_at dksJ3_indexOf_0 7 rfl rfl)
theorem dJ3_indexOf_8 : decode cJ3_indexOf 8 = .ok (.ireturn, 1) := dk_172 (dk_at dksJ3_indexOf_0 8 rfl rfl)
theorem dJ3_indexOf_9 : decode cJ3_indexOf 9 = .ok (.iload_n 2, 1) := dk_28 (dk_at dksJ3_indexOf_0 9 rfl rfl)
theorem dJ3_indexOf_10 : decode cJ3_indexOf 10 = .ok (.iconst 0, 1) := dk_3 (dk_at dksJ3_indexOf_0 10 rfl rfl)
theorem dJ3_indexOf_11 : decode cJ3_indexOf 11 = .ok (.invokestatic 92, 3) := dk_184 0 92 (dk_at dksJ3_indexOf_0 11 rfl rfl)
theorem dJ3_indexOf_14 : decode cJ3_indexOf 14 = .ok (.istore_n 2, 1) := dk_61 (dk_at dksJ3_indexOf_0 14 rfl rfl)
theorem dJ3_indexOf_15 : decode cJ3_indexOf 15 = .ok (.iload_n 3, 1) := dk_29 (dk_at dksJ3_indexOf_0 15 rfl rfl)
theorem dJ3_indexOf_16 : decode cJ3_indexOf 16 = .ok (.aload_n 0, 1) := dk_42 (dk_at dksJ3_indexOf_0 16 rfl rfl)
theorem dJ3_indexOf_17 : decode cJ3_indexOf 17 = .ok (.arraylength, 1) := dk_190 (dk_at dksJ3_indexOf_0 17 rfl rfl)
theorem dJ3_indexOf_18 : decode cJ3_indexOf 18 = .ok (.invokestatic 38, 3) := dk_184 0 38 (dk_at dksJ3_indexOf_0 18 rfl rfl)
theorem dJ3_indexOf_21 : decode cJ3_indexOf 21 = .ok (.istore_n 3, 1) := dk_62 (dk_at dksJ3_indexOf_0 21 rfl rfl)
theorem dJ3_indexOf_22 : decode cJ3_indexOf 22 = .ok (.iload_n 2, 1) := dk_28 (dk_at dksJ3_indexOf_0 22 rfl rfl)
theorem dJ3_indexOf_23 : decode cJ3_indexOf 23 = .ok (.iload_n 3, 1) := dk_29 (dk_at dksJ3_indexOf_0 23 rfl rfl)
theorem dJ3_indexOf_24 : decode cJ3_indexOf 24 = .ok (.if_icmp .lt 5, 3) := dk_161 0 5 (dk_at dksJ3_indexOf_1 0 rfl rfl)
theorem dJ3_indexOf_27 : decode cJ3_indexOf 27 = .ok (.iconst (-1), 1) := dk_2 (dk_at dksJ3_indexOf_1 3 rfl rfl)
theorem dJ3_indexOf_28 : decode cJ3_indexOf 28 = .ok (.ireturn, 1) := dk_172 (dk_at dksJ3_indexOf_1 4 rfl rfl)
theorem dJ3_indexOf_29 : decode cJ3_indexOf 29 = .ok (.aload_n 0, 1) := dk_42 (dk_at dksJ3_indexOf_1 5 rfl rfl)
theorem dJ3_indexOf_30 : decode cJ3_indexOf 30 = .ok (.iload_n 1, 1) := dk_27 (dk_at dksJ3_indexOf_1 6 rfl rfl)
theorem dJ3_indexOf_31 : decode cJ3_indexOf 31 = .ok (.iload_n 2, 1) := dk_28 (dk_at dksJ3_indexOf_1 7 rfl rfl)
theorem dJ3_indexOf_32 : decode cJ3_indexOf 32 = .ok (.iload_n 3, 1) := dk_29 (dk_at dksJ3_indexOf_1 8 rfl rfl)
theorem dJ3_indexOf_33 : decode cJ3_indexOf 33 = .ok (.invokestatic 95, 3) := dk_184 0 95 (dk_at dksJ3_indexOf_1 9 rfl rfl)
theorem dJ3_indexOf_36 : decode cJ3_indexOf 36 = .ok (.ireturn, 1) := dk_172 (dk_at dksJ3_indexOf_1 12 rfl rfl)
abbrev cJ3_canEncode : ByteArray := prog_23_method_4_code
def yJ3_canEncode : MethodName := ⟨RJ3, "canEncode", "(I)Z"⟩
def dkwJ3_canEncode_0 : List UInt8 := [26, 155, 0, 14, 26, 17, 0, 255, 163, 0, 7, 4, 167, 0, 4, 3, 172]
abbrev dktJ3_canEncode_0 : List UInt8 := dkwJ3_canEncode_0 ++ []
theorem dksJ3_canEncode_0 : cJ3_canEncode.data.toList.drop 0 = dktJ3_canEncode_0 := by decide +kernel
theorem dJ3_canEncode_0 : decode cJ3_canEncode 0 = .ok (.iload_n 0, 1) := dk_26 (dk_at dksJ3_canEncode_0 0 rfl rfl)
theorem dJ3_canEncode_1 : decode cJ3_canEncode 1 = .ok (.ifCond .lt 14, 3) := dk_155 0 14 (dk_at dksJ3_canEncode_0 1 rfl rfl)
theorem dJ3_canEncode_4 : decode cJ3_canEncode 4 = .ok (.iload_n 0, 1) := dk_26 (dk_at dksJ3_canEncode_0 4 rfl rfl)
theorem dJ3_canEncode_5 : decode cJ3_canEncode 5 = .ok (.sipush 255, 3) := dk_17 0 255 (dk_at dksJ3_canEncode_0 5 rfl rfl)
theorem dJ3_canEncode_8 : decode cJ3_canEncode 8 = .ok (.if_icmp .gt 7, 3) := dk_163 0 7 (dk_at dksJ3_canEncode_0 8 rfl rfl)
theorem dJ3_canEncode_11 : decode cJ3_canEncode 11 = .ok (.iconst 1, 1) := dk_4 (dk_at dksJ3_canEncode_0 11 rfl rfl)
theorem dJ3_canEncode_12 : decode cJ3_canEncode 12 = .ok (.goto 4, 3) := dk_167 0 4 (dk_at dksJ3_canEncode_0 12 rfl rfl)
theorem dJ3_canEncode_15 : decode cJ3_canEncode 15 = .ok (.iconst 0, 1) := dk_3 (dk_at dksJ3_canEncode_0 15 rfl rfl)
theorem dJ3_canEncode_16 : decode cJ3_canEncode 16 = .ok (.ireturn, 1) := dk_172 (dk_at dksJ3_canEncode_0 16 rfl rfl)
abbrev cJ3_indexOfChar : ByteArray := prog_23_method_23_code
def yJ3_indexOfChar : MethodName := ⟨RJ3, "indexOfChar", "([BIII)I"⟩
def dkwJ3_indexOfChar_1 : List UInt8 := [172, 132, 5, 1, 167, 255, 235, 2, 172]
abbrev dktJ3_indexOfChar_1 : List UInt8 := dkwJ3_indexOfChar_1 ++ []
def dkwJ3_indexOfChar_0 : List UInt8 := [27, 145, 54, 4, 28, 54, 5, 21, 5, 29, 162, 0, 21, 42, 21, 5, 51, 21, 4, 160, 0, 6, 21, 5]
abbrev dktJ3_indexOfChar_0 : List UInt8 := dkwJ3_indexOfChar_0 ++ dktJ3_indexOfChar_1
theorem dksJ3_indexOfChar_0 : cJ3_indexOfChar.data.toList.drop 0 = dktJ3_indexOfChar_0 := by decide +kernel
theorem dksJ3_indexOfChar_1 : cJ3_indexOfChar.data.toList.drop 24 = dktJ3_indexOfChar_1 := dk_seg dksJ3_indexOfChar_0 24 rfl rfl
theorem dJ3_indexOfChar_0 : decode cJ3_indexOfChar 0 = .ok (.iload_n 1, 1) := dk_27 (dk_at dksJ3_indexOfChar_0 0 rfl rfl)
theorem dJ3_indexOfChar_1 : decode cJ3_indexOfChar 1 = .ok (.i2b, 1) := dk_145 (dk_at dksJ3_indexOfChar_0 1 rfl rfl)
theorem dJ3_indexOfChar_2 : decode cJ3_indexOfChar 2 = .ok (.istore 4, 2) := dk_54 4 (dk_at dksJ3_indexOfChar_0 2 rfl rfl)
theorem dJ3_indexOfChar_4 : decode cJ3_indexOfChar 4 = .ok (.iload_n 2, 1) := dk_28 (dk_at dksJ3_indexOfChar_0 4 rfl rfl)
theorem dJ3_indexOfChar_5 : decode cJ3_indexOfChar 5 = .ok (.istore 5, 2) := dk_54 5 (dk_at dksJ3_indexOfChar_0 5 rfl rfl)
theorem dJ3_indexOfChar_7 : decode cJ3_indexOfChar 7 = .ok (.iload 5, 2) := dk_21 5 (dk_at dksJ3_indexOfChar_0 7 rfl rfl)
theorem dJ3_indexOfChar_9 : decode cJ3_indexOfChar 9 = .ok (.iload_n 3, 1) := dk_29 (dk_at dksJ3_indexOfChar_0 9 rfl rfl)
theorem dJ3_indexOfChar_10 : decode cJ3_indexOfChar 10 = .ok (.if_icmp .ge 21, 3) := dk_162 0 21 (dk_at dksJ3_indexOfChar_0 10 rfl rfl)
theorem dJ3_indexOfChar_13 : decode cJ3_indexOfChar 13 = .ok (.aload_n 0, 1) := dk_42 (dk_at dksJ3_indexOfChar_0 13 rfl rfl)
theorem dJ3_indexOfChar_14 : decode cJ3_indexOfChar 14 = .ok (.iload 5, 2) := dk_21 5 (dk_at dksJ3_indexOfChar_0 14 rfl rfl)
theorem dJ3_indexOfChar_16 : decode cJ3_indexOfChar 16 = .ok (.baload, 1) := dk_51 (dk_at dksJ3_indexOfChar_0 16 rfl rfl)
theorem dJ3_indexOfChar_17 : decode cJ3_indexOfChar 17 = .ok (.iload 4, 2) := dk_21 4 (dk_at dksJ3_indexOfChar_0 17 rfl rfl)
theorem dJ3_indexOfChar_19 : decode cJ3_indexOfChar 19 = .ok (.if_icmp .ne 6, 3) := dk_160 0 6 (dk_at dksJ3_indexOfChar_0 19 rfl rfl)
theorem dJ3_indexOfChar_22 : decode cJ3_indexOfChar 22 = .ok (.iload 5, 2) := dk_21 5 (dk_at dksJ3_indexOfChar_0 22 rfl rfl)
theorem dJ3_indexOfChar_24 : decode cJ3_indexOfChar 24 = .ok (.ireturn, 1) := dk_172 (dk_at dksJ3_indexOfChar_1 0 rfl rfl)
theorem dJ3_indexOfChar_25 : decode cJ3_indexOfChar 25 = .ok (.iinc 5 1, 3) := dk_132 5 1 (dk_at dksJ3_indexOfChar_1 1 rfl rfl)
theorem dJ3_indexOfChar_28 : decode cJ3_indexOfChar 28 = .ok (.goto (-21), 3) := dk_167 255 235 (dk_at dksJ3_indexOfChar_1 4 rfl rfl)
theorem dJ3_indexOfChar_31 : decode cJ3_indexOfChar 31 = .ok (.iconst (-1), 1) := dk_2 (dk_at dksJ3_indexOfChar_1 7 rfl rfl)
theorem dJ3_indexOfChar_32 : decode cJ3_indexOfChar 32 = .ok (.ireturn, 1) := dk_172 (dk_at dksJ3_indexOfChar_1 8 rfl rfl)
abbrev cJ3_charAt : ByteArray := prog_23_method_2_code
def yJ3_charAt : MethodName := ⟨RJ3, "charAt", "([BI)C"⟩
def dkwJ3_charAt_0 : List UInt8 := [27, 42, 190, 184, 0, 9, 42, 27, 51, 17, 0, 255, 126, 146, 172]
abbrev dktJ3_charAt_0 : List UInt8 := dkwJ3_charAt_0 ++ []
theorem dksJ3_charAt_0 : cJ3_charAt.data.toList.drop 0 = dktJ3_charAt_0 := by decide +kernel
theorem dJ3_charAt_0 : decode cJ3_charAt 0 = .ok (.iload_n 1, 1) := dk_27 (dk_at dksJ3_charAt_0 0 rfl rfl)
theorem dJ3_charAt_1 : decode cJ3_charAt 1 = .ok (.aload_n 0, 1) := dk_42 (dk_at dksJ3_charAt_0 1 rfl rfl)
theorem dJ3_charAt_2 : decode cJ3_charAt 2 = .ok (.arraylength, 1) := dk_190 (dk_at dksJ3_charAt_0 2 rfl rfl)
theorem dJ3_charAt_3 : decode cJ3_charAt 3 = .ok (.invokestatic 9, 3) := dk_184 0 9 (dk_at dksJ3_charAt_0 3 rfl rfl)
theorem dJ3_charAt_6 : decode cJ3_charAt 6 = .ok (.aload_n 0, 1) := dk_42 (dk_at dksJ3_charAt_0 6 rfl rfl)
theorem dJ3_charAt_7 : decode cJ3_charAt 7 = .ok (.iload_n 1, 1) := dk_27 (dk_at dksJ3_charAt_0 7 rfl rfl)
theorem dJ3_charAt_8 : decode cJ3_charAt 8 = .ok (.baload, 1) := dk_51 (dk_at dksJ3_charAt_0 8 rfl rfl)
theorem dJ3_charAt_9 : decode cJ3_charAt 9 = .ok (.sipush 255, 3) := dk_17 0 255 (dk_at dksJ3_charAt_0 9 rfl rfl)
theorem dJ3_charAt_12 : decode cJ3_charAt 12 = .ok (.iand, 1) := dk_126 (dk_at dksJ3_charAt_0 12 rfl rfl)
theorem dJ3_charAt_13 : decode cJ3_charAt 13 = .ok (.i2c, 1) := dk_146 (dk_at dksJ3_charAt_0 13 rfl rfl)
theorem dJ3_charAt_14 : decode cJ3_charAt 14 = .ok (.ireturn, 1) := dk_172 (dk_at dksJ3_charAt_0 14 rfl rfl)
theorem q141 : (Jvm.Cond.initialized "java/lang/StringLatin1") ∈ lw_all := lw_g (lw_at lw_m1 10 rfl) rfl
theorem q220 : (Jvm.Cond.static ({ cls := "java/lang/StringLatin1", name := "indexOf", desc := "([BIII)I" } : Jvm.MethodName)) ∈ lw_all := lw_g (lw_at lw_m1 89 rfl) rfl
theorem q221 : (Jvm.Cond.code ({ cls := "java/lang/StringLatin1", name := "indexOf", desc := "([BIII)I" } : Jvm.MethodName) prog_23_method_22_code (4 : Nat) (Option.some Jvm.ClassFile.FieldType.int)) ∈ lw_all := lw_g (lw_at lw_m1 90 rfl) rfl
theorem q222 : (Jvm.Cond.methodLink "java/lang/StringLatin1" (88 : Nat) ({ cls := "java/lang/StringLatin1", name := "canEncode", desc := "(I)Z" } : Jvm.MethodName)) ∈ lw_all := lw_g (lw_at lw_m1 91 rfl) rfl
theorem q223 : (Jvm.Cond.static ({ cls := "java/lang/StringLatin1", name := "canEncode", desc := "(I)Z" } : Jvm.MethodName)) ∈ lw_all := lw_g (lw_at lw_m1 92 rfl) rfl
theorem q224 : (Jvm.Cond.code ({ cls := "java/lang/StringLatin1", name := "canEncode", desc := "(I)Z" } : Jvm.MethodName) prog_23_method_4_code (1 : Nat) (Option.some Jvm.ClassFile.FieldType.boolean)) ∈ lw_all := lw_g (lw_at lw_m1 93 rfl) rfl
theorem q225 : (Jvm.Cond.methodLink "java/lang/StringLatin1" (92 : Nat) ({ cls := "java/lang/Math", name := "max", desc := "(II)I" } : Jvm.MethodName)) ∈ lw_all := lw_g (lw_at lw_m1 94 rfl) rfl
theorem q228 : (Jvm.Cond.methodLink "java/lang/StringLatin1" (38 : Nat) ({ cls := "java/lang/Math", name := "min", desc := "(II)I" } : Jvm.MethodName)) ∈ lw_all := lw_g (lw_at lw_m1 97 rfl) rfl
theorem q231 : (Jvm.Cond.methodLink "java/lang/StringLatin1" (95 : Nat) ({ cls := "java/lang/StringLatin1", name := "indexOfChar", desc := "([BIII)I" } : Jvm.MethodName)) ∈ lw_all := lw_g (lw_at lw_m1 100 rfl) rfl
theorem q232 : (Jvm.Cond.static ({ cls := "java/lang/StringLatin1", name := "indexOfChar", desc := "([BIII)I" } : Jvm.MethodName)) ∈ lw_all := lw_g (lw_at lw_m1 101 rfl) rfl
theorem q233 : (Jvm.Cond.code ({ cls := "java/lang/StringLatin1", name := "indexOfChar", desc := "([BIII)I" } : Jvm.MethodName) prog_23_method_23_code (6 : Nat) (Option.some Jvm.ClassFile.FieldType.int)) ∈ lw_all := lw_g (lw_at lw_m1 102 rfl) rfl
theorem q1375 : (Jvm.Cond.static ({ cls := "java/lang/StringLatin1", name := "charAt", desc := "([BI)C" } : Jvm.MethodName)) ∈ lw_all := lw_g (lw_at lw_m6 44 rfl) rfl
theorem q1376 : (Jvm.Cond.code ({ cls := "java/lang/StringLatin1", name := "charAt", desc := "([BI)C" } : Jvm.MethodName) prog_23_method_2_code (2 : Nat) (Option.some Jvm.ClassFile.FieldType.char)) ∈ lw_all := lw_g (lw_at lw_m6 45 rfl) rfl
theorem q1377 : (Jvm.Cond.methodLink "java/lang/StringLatin1" (9 : Nat) ({ cls := "java/lang/String", name := "checkIndex", desc := "(II)V" } : Jvm.MethodName)) ∈ lw_all := lw_g (lw_at lw_m6 46 rfl) rfl

/-! java/lang/Math -/
set_option maxRecDepth 100000
def RJ4 : String := "java/lang/Math"
abbrev cJ4_max : ByteArray := prog_19_method_65_code
def yJ4_max : MethodName := ⟨RJ4, "max", "(II)I"⟩
def dkwJ4_max_0 : List UInt8 := [26, 27, 161, 0, 7, 26, 167, 0, 4, 27, 172]
abbrev dktJ4_max_0 : List UInt8 := dkwJ4_max_0 ++ []
theorem dksJ4_max_0 : cJ4_max.data.toList.drop 0 = dktJ4_max_0 := by decide +kernel
theorem dJ4_max_0 : decode cJ4_max 0 = .ok (.iload_n 0, 1) := dk_26 (dk_at dksJ4_max_0 0 rfl rfl)
theorem dJ4_max_1 : decode cJ4_max 1 = .ok (.iload_n 1, 1) := dk_27 (dk_at dksJ4_max_0 1 rfl rfl)
theorem dJ4_max_2 : decode cJ4_max 2 = .ok (.if_icmp .lt 7, 3) := dk_161 0 7 (dk_at dksJ4_max_0 2 rfl rfl)
theorem dJ4_max_5 : decode cJ4_max 5 = .ok (.iload_n 0, 1) := dk_26 (dk_at dksJ4_max_0 5 rfl rfl)
theorem dJ4_max_6 : decode cJ4_max 6 = .ok (.goto 4, 3) := dk_167 0 4 (dk_at dksJ4_max_0 6 rfl rfl)
theorem dJ4_max_9 : decode cJ4_max 9 = .ok (.iload_n 1, 1) := dk_27 (dk_at dksJ4_max_0 9 rfl rfl)
theorem dJ4_max_10 : decode cJ4_max 10 = .ok (.ireturn, 1) := dk_172 (dk_at dksJ4_max_0 10 rfl rfl)
abbrev cJ4_min : ByteArray := prog_19_method_69_code
def yJ4_min : MethodName := ⟨RJ4, "min", "(II)I"⟩
def dkwJ4_min_0 : List UInt8 := [26, 27, 163, 0, 7, 26, 167, 0, 4, 27, 172]
abbrev dktJ4_min_0 : List UInt8 := dkwJ4_min_0 ++ []
theorem dksJ4_min_0 : cJ4_min.data.toList.drop 0 = dktJ4_min_0 := by decide +kernel
theorem dJ4_min_0 : decode cJ4_min 0 = .ok (.iload_n 0, 1) := dk_26 (dk_at dksJ4_min_0 0 rfl rfl)
theorem dJ4_min_1 : decode cJ4_min 1 = .ok (.iload_n 1, 1) := dk_27 (dk_at dksJ4_min_0 1 rfl rfl)
theorem dJ4_min_2 : decode cJ4_min 2 = .ok (.if_icmp .gt 7, 3) := dk_163 0 7 (dk_at dksJ4_min_0 2 rfl rfl)
theorem dJ4_min_5 : decode cJ4_min 5 = .ok (.iload_n 0, 1) := dk_26 (dk_at dksJ4_min_0 5 rfl rfl)
theorem dJ4_min_6 : decode cJ4_min 6 = .ok (.goto 4, 3) := dk_167 0 4 (dk_at dksJ4_min_0 6 rfl rfl)
theorem dJ4_min_9 : decode cJ4_min 9 = .ok (.iload_n 1, 1) := dk_27 (dk_at dksJ4_min_0 9 rfl rfl)
theorem dJ4_min_10 : decode cJ4_min 10 = .ok (.ireturn, 1) := dk_172 (dk_at dksJ4_min_0 10 rfl rfl)
theorem q142 : (Jvm.Cond.initialized "java/lang/Math") ∈ lw_all := lw_g (lw_at lw_m1 11 rfl) rfl
theorem q226 : (Jvm.Cond.static ({ cls := "java/lang/Math", name := "max", desc := "(II)I" } : Jvm.MethodName)) ∈ lw_all := lw_g (lw_at lw_m1 95 rfl) rfl
theorem q227 : (Jvm.Cond.code ({ cls := "java/lang/Math", name := "max", desc := "(II)I" } : Jvm.MethodName) prog_19_method_65_code (2 : Nat) (Option.some Jvm.ClassFile.FieldType.int)) ∈ lw_all := lw_g (lw_at lw_m1 96 rfl) rfl
theorem q229 : (Jvm.Cond.static ({ cls := "java/lang/Math", name := "min", desc := "(II)I" } : Jvm.MethodName)) ∈ lw_all := lw_g (lw_at lw_m1 98 rfl) rfl
theorem q230 : (Jvm.Cond.code ({ cls := "java/lang/Math", name := "min", desc := "(II)I" } : Jvm.MethodName) prog_19_method_69_code (2 : Nat) (Option.some Jvm.ClassFile.FieldType.int)) ∈ lw_all := lw_g (lw_at lw_m1 99 rfl) rfl

/-! java/lang/StringUTF16 -/
set_option maxRecDepth 100000
def RJ5 : String := "java/lang/StringUTF16"
abbrev cJ5_indexOf : ByteArray := prog_24_method_40_code
def yJ5_indexOf : MethodName := ⟨RJ5, "indexOf", "([BIII)I"⟩
def dkwJ5_indexOf_1 : List UInt8 := [18, 227, 162, 0, 11, 42, 27, 28, 29, 184, 0, 228, 172, 42, 27, 28, 29, 184, 0, 232, 172]
abbrev dktJ5_indexOf_1 : List UInt8 := dkwJ5_indexOf_1 ++ []
def dkwJ5_indexOf_0 : List UInt8 := [28, 3, 184, 0, 224, 61, 29, 42, 190, 4, 122, 184, 0, 183, 62, 28, 29, 161, 0, 5, 2, 172, 27]
abbrev dktJ5_indexOf_0 : List UInt8 := dkwJ5_indexOf_0 ++ dktJ5_indexOf_1
theorem dksJ5_indexOf_0 : cJ5_indexOf.data.toList.drop 0 = dktJ5_indexOf_0 := by decide +kernel
theorem dksJ5_indexOf_1 : cJ5_indexOf.data.toList.drop 23 = dktJ5_indexOf_1 := dk_seg dksJ5_indexOf_0 23 rfl rfl
theorem dJ5_indexOf_0 : decode cJ5_indexOf 0 = .ok (.iload_n 2, 1) := dk_28 (dk_at dksJ5_indexOf_0 0 rfl rfl)
theorem dJ5_indexOf_1 : decode cJ5_indexOf 1 = .ok (.iconst 0, 1) := dk_3 (dk_at dksJ5_indexOf_0 1 rfl rfl)
theorem dJ5_indexOf_2 : decode cJ5_indexOf 2 = .ok (.invokestatic 224, 3) := dk_184 0 224 (dk_at dksJ5_indexOf_0 2 rfl rfl)
theorem dJ5_indexOf_5 : decode cJ5_indexOf 5 = .ok (.istore_n 2, 1) := dk_61 (dk_at dksJ5_indexOf_0 5 rfl rfl)
theorem dJ5_indexOf_6 : decode cJ5_indexOf 6 = .ok (.iload_n 3, 1) := dk_29 (dk_at dksJ5_indexOf_0 6 rfl rfl)
theorem dJ5_indexOf_7 : decode cJ5_indexOf 7 = .ok (.aload_n 0, 1) := dk_42 (dk_at dksJ5_indexOf_0 7 rfl rfl)
theorem dJ5_indexOf_8 : decode cJ5_indexOf 8 = .ok (.arraylength, 1) := dk_190 (dk_at dksJ5_indexOf_0 8 rfl rfl)
theorem dJ5_indexOf_9 : decode cJ5_indexOf 9 = .ok (.iconst 1, 1) := dk_4 (dk_at dksJ5_indexOf_0 9 rfl rfl)
theorem dJ5_indexOf_10 : decode cJ5_indexOf 10 = .ok (.ishr, 1) := dk_122 (dk_at dksJ5_indexOf_0 10 rfl rfl)
theorem dJ5_indexOf_11 : decode cJ5_indexOf 11 = .ok (.invokestatic 183, 3) := dk_184 0 183 (dk_at dksJ5_indexOf_0 11 rfl rfl)
theorem dJ5_indexOf_14 : decode cJ5_indexOf 14 = .ok (.istore_n 3, 1) := dk_62 (dk_at dksJ5_indexOf_0 14 rfl rfl)
theorem dJ5_indexOf_15 : decode cJ5_indexOf 15 = .ok (.iload_n 2, 1) := dk_28 (dk_at dksJ5_indexOf_0 15 rfl rfl)
theorem dJ5_indexOf_16 : decode cJ5_indexOf 16 = .ok (.iload_n 3, 1) := dk_29 (dk_at dksJ5_indexOf_0 16 rfl rfl)
theorem dJ5_indexOf_17 : decode cJ5_indexOf 17 = .ok (.if_icmp .lt 5, 3) := dk_161 0 5 (dk_at dksJ5_indexOf_0 17 rfl rfl)
theorem dJ5_indexOf_20 : decode cJ5_indexOf 20 = .ok (.iconst (-1), 1) := dk_2 (dk_at dksJ5_indexOf_0 20 rfl rfl)
theorem dJ5_indexOf_21 : decode cJ5_indexOf 21 = .ok (.ireturn, 1) := dk_172 (dk_at dksJ5_indexOf_0 21 rfl rfl)
theorem dJ5_indexOf_22 : decode cJ5_indexOf 22 = .ok (.iload_n 1, 1) := dk_27 (dk_at dksJ5_indexOf_0 22 rfl rfl)
theorem dJ5_indexOf_23 : decode cJ5_indexOf 23 = .ok (.ldc 227, 2) := dk_18 227 (dk_at dksJ5_indexOf_1 0 rfl rfl)
theorem dJ5_indexOf_25 : decode cJ5_indexOf 25 = .ok (.if_icmp .ge 11, 3) := dk_162 0 11 (dk_at dksJ5_indexOf_1 2 rfl rfl)
theorem dJ5_indexOf_28 : decode cJ5_indexOf 28 = .ok (.aload_n 0, 1) := dk_42 (dk_at dksJ5_indexOf_1 5 rfl rfl)
theorem dJ5_indexOf_29 : decode cJ5_indexOf 29 = .ok (.iload_n 1, 1) := dk_27 (dk_at dksJ5_indexOf_1 6 rfl rfl)
theorem dJ5_indexOf_30 : decode cJ5_indexOf 30 = .ok (.iload_n 2, 1) := dk_28 (dk_at dksJ5_indexOf_1 7 rfl rfl)
theorem dJ5_indexOf_31 : decode cJ5_indexOf 31 = .ok (.iload_n 3, 1) := dk_29 (dk_at dksJ5_indexOf_1 8 rfl rfl)
theorem dJ5_indexOf_32 : decode cJ5_indexOf 32 = .ok (.invokestatic 228, 3) := dk_184 0 228 (dk_at dksJ5_indexOf_1 9 rfl rfl)
theorem dJ5_indexOf_35 : decode cJ5_indexOf 35 = .ok (.ireturn, 1) := dk_172 (dk_at dksJ5_indexOf_1 12 rfl rfl)
theorem dJ5_indexOf_36 : decode cJ5_indexOf 36 = .ok (.aload_n 0, 1) := dk_42 (dk_at dksJ5_indexOf_1 13 rfl rfl)
theorem dJ5_indexOf_37 : decode cJ5_indexOf 37 = .ok (.iload_n 1, 1) := dk_27 (dk_at dksJ5_indexOf_1 14 rfl rfl)
theorem dJ5_indexOf_38 : decode cJ5_indexOf 38 = .ok (.iload_n 2, 1) := dk_28 (dk_at dksJ5_indexOf_1 15 rfl rfl)
theorem dJ5_indexOf_39 : decode cJ5_indexOf 39 = .ok (.iload_n 3, 1) := dk_29 (dk_at dksJ5_indexOf_1 16 rfl rfl)
theorem dJ5_indexOf_40 : decode cJ5_indexOf 40 = .ok (.invokestatic 232, 3) := dk_184 0 232 (dk_at dksJ5_indexOf_1 17 rfl rfl)
theorem dJ5_indexOf_43 : decode cJ5_indexOf 43 = .ok (.ireturn, 1) := dk_172 (dk_at dksJ5_indexOf_1 20 rfl rfl)
abbrev cJ5_indexOfChar : ByteArray := prog_24_method_47_code
def yJ5_indexOfChar : MethodName := ⟨RJ5, "indexOfChar", "([BIII)I"⟩
def dkwJ5_indexOfChar_0 : List UInt8 := [28, 29, 42, 184, 0, 96, 42, 27, 28, 29, 184, 0, 244, 172]
abbrev dktJ5_indexOfChar_0 : List UInt8 := dkwJ5_indexOfChar_0 ++ []
theorem dksJ5_indexOfChar_0 : cJ5_indexOfChar.data.toList.drop 0 = dktJ5_indexOfChar_0 := by decide +kernel
theorem dJ5_indexOfChar_0 : decode cJ5_indexOfChar 0 = .ok (.iload_n 2, 1) := dk_28 (dk_at dksJ5_indexOfChar_0 0 rfl rfl)
theorem dJ5_indexOfChar_1 : decode cJ5_indexOfChar 1 = .ok (.iload_n 3, 1) := dk_29 (dk_at dksJ5_indexOfChar_0 1 rfl rfl)
theorem dJ5_indexOfChar_2 : decode cJ5_indexOfChar 2 = .ok (.aload_n 0, 1) := dk_42 (dk_at dksJ5_indexOfChar_0 2 rfl rfl)
theorem dJ5_indexOfChar_3 : decode cJ5_indexOfChar 3 = .ok (.invokestatic 96, 3) := dk_184 0 96 (dk_at dksJ5_indexOfChar_0 3 rfl rfl)
theorem dJ5_indexOfChar_6 : decode cJ5_indexOfChar 6 = .ok (.aload_n 0, 1) := dk_42 (dk_at dksJ5_indexOfChar_0 6 rfl rfl)
theorem dJ5_indexOfChar_7 : decode cJ5_indexOfChar 7 = .ok (.iload_n 1, 1) := dk_27 (dk_at dksJ5_indexOfChar_0 7 rfl rfl)
theorem dJ5_indexOfChar_8 : decode cJ5_indexOfChar 8 = .ok (.iload_n 2, 1) := dk_28 (dk_at dksJ5_indexOfChar_0 8 rfl rfl)
theorem dJ5_indexOfChar_9 : decode cJ5_indexOfChar 9 = .ok (.iload_n 3, 1) := dk_29 (dk_at dksJ5_indexOfChar_0 9 rfl rfl)
theorem dJ5_indexOfChar_10 : decode cJ5_indexOfChar 10 = .ok (.invokestatic 244, 3) := dk_184 0 244 (dk_at dksJ5_indexOfChar_0 10 rfl rfl)
theorem dJ5_indexOfChar_13 : decode cJ5_indexOfChar 13 = .ok (.ireturn, 1) := dk_172 (dk_at dksJ5_indexOfChar_0 13 rfl rfl)
abbrev cJ5_checkBoundsBeginEnd : ByteArray := prog_24_method_93_code
def yJ5_checkBoundsBeginEnd : MethodName := ⟨RJ5, "checkBoundsBeginEnd", "(II[B)V"⟩
def dkwJ5_checkBoundsBeginEnd_0 : List UInt8 := [26, 27, 44, 184, 0, 48, 184, 0, 241, 177]
abbrev dktJ5_checkBoundsBeginEnd_0 : List UInt8 := dkwJ5_checkBoundsBeginEnd_0 ++ []
theorem dksJ5_checkBoundsBeginEnd_0 : cJ5_checkBoundsBeginEnd.data.toList.drop 0 = dktJ5_checkBoundsBeginEnd_0 := by decide +kernel
theorem dJ5_checkBoundsBeginEnd_0 : decode cJ5_checkBoundsBeginEnd 0 = .ok (.iload_n 0, 1) := dk_26 (dk_at dksJ5_checkBoundsBeginEnd_0 0 rfl rfl)
theorem dJ5_checkBoundsBeginEnd_1 : decode cJ5_checkBoundsBeginEnd 1 = .ok (.iload_n 1, 1) := dk_27 (dk_at dksJ5_checkBoundsBeginEnd_0 1 rfl rfl)
theorem dJ5_checkBoundsBeginEnd_2 : decode cJ5_checkBoundsBeginEnd 2 = .ok (.aload_n 2, 1) := dk_44 (dk_at dksJ5_checkBoundsBeginEnd_0 2 rfl rfl)
theorem dJ5_checkBoundsBeginEnd_3 : decode cJ5_checkBoundsBeginEnd 3 = .ok (.invokestatic 48, 3) := dk_184 0 48 (dk_at dksJ5_checkBoundsBeginEnd_0 3 rfl rfl)
theorem dJ5_checkBoundsBeginEnd_6 : decode cJ5_checkBoundsBeginEnd 6 = .ok (.invokestatic 241, 3) := dk_184 0 241 (dk_at dksJ5_checkBoundsBeginEnd_0 6 rfl rfl)
theorem dJ5_checkBoundsBeginEnd_9 : decode cJ5_checkBoundsBeginEnd 9 = .ok (.return_, 1) := dk_177 (dk_at dksJ5_checkBoundsBeginEnd_0 9 rfl rfl)
abbrev cJ5_length : ByteArray := prog_24_method_6_code
def yJ5_length : MethodName := ⟨RJ5, "length", "([B)I"⟩
def dkwJ5_length_0 : List UInt8 := [42, 190, 4, 122, 172]
abbrev dktJ5_length_0 : List UInt8 := dkwJ5_length_0 ++ []
theorem dksJ5_length_0 : cJ5_length.data.toList.drop 0 = dktJ5_length_0 := by decide +kernel
theorem dJ5_length_0 : decode cJ5_length 0 = .ok (.aload_n 0, 1) := dk_42 (dk_at dksJ5_length_0 0 rfl rfl)
theorem dJ5_length_1 : decode cJ5_length 1 = .ok (.arraylength, 1) := dk_190 (dk_at dksJ5_length_0 1 rfl rfl)
theorem dJ5_length_2 : decode cJ5_length 2 = .ok (.iconst 1, 1) := dk_4 (dk_at dksJ5_length_0 2 rfl rfl)
theorem dJ5_length_3 : decode cJ5_length 3 = .ok (.ishr, 1) := dk_122 (dk_at dksJ5_length_0 3 rfl rfl)
theorem dJ5_length_4 : decode cJ5_length 4 = .ok (.ireturn, 1) := dk_172 (dk_at dksJ5_length_0 4 rfl rfl)
abbrev cJ5_indexOfCharUnsafe : ByteArray := prog_24_method_48_code
def yJ5_indexOfCharUnsafe : MethodName := ⟨RJ5, "indexOfCharUnsafe", "([BIII)I"⟩
def dkwJ5_indexOfCharUnsafe_1 : List UInt8 := [132, 4, 1, 167, 255, 234, 2, 172]
abbrev dktJ5_indexOfCharUnsafe_1 : List UInt8 := dkwJ5_indexOfCharUnsafe_1 ++ []
def dkwJ5_indexOfCharUnsafe_0 : List UInt8 := [28, 54, 4, 21, 4, 29, 162, 0, 22, 42, 21, 4, 184, 0, 71, 27, 160, 0, 6, 21, 4, 172]
abbrev dktJ5_indexOfCharUnsafe_0 : List UInt8 := dkwJ5_indexOfCharUnsafe_0 ++ dktJ5_indexOfCharUnsafe_1
theorem dksJ5_indexOfCharUnsafe_0 : cJ5_indexOfCharUnsafe.data.toList.drop 0 = dktJ5_indexOfCharUnsafe_0 := by decide +kernel
theorem dksJ5_indexOfCharUnsafe_1 : cJ5_indexOfCharUnsafe.data.toList.drop 22 = dktJ5_indexOfCharUnsafe_1 := dk_seg dksJ5_indexOfCharUnsafe_0 22 rfl rfl
theorem dJ5_indexOfCharUnsafe_0 : decode cJ5_indexOfCharUnsafe 0 = .ok (.iload_n 2, 1) := dk_28 (dk_at dksJ5_indexOfCharUnsafe_0 0 rfl rfl)
theorem dJ5_indexOfCharUnsafe_1 : decode cJ5_indexOfCharUnsafe 1 = .ok (.istore 4, 2) := dk_54 4 (dk_at dksJ5_indexOfCharUnsafe_0 1 rfl rfl)
theorem dJ5_indexOfCharUnsafe_3 : decode cJ5_indexOfCharUnsafe 3 = .ok (.iload 4, 2) := dk_21 4 (dk_at dksJ5_indexOfCharUnsafe_0 3 rfl rfl)
theorem dJ5_indexOfCharUnsafe_5 : decode cJ5_indexOfCharUnsafe 5 = .ok (.iload_n 3, 1) := dk_29 (dk_at dksJ5_indexOfCharUnsafe_0 5 rfl rfl)
theorem dJ5_indexOfCharUnsafe_6 : decode cJ5_indexOfCharUnsafe 6 = .ok (.if_icmp .ge 22, 3) := dk_162 0 22 (dk_at dksJ5_indexOfCharUnsafe_0 6 rfl rfl)
theorem dJ5_indexOfCharUnsafe_9 : decode cJ5_indexOfCharUnsafe 9 = .ok (.aload_n 0, 1) := dk_42 (dk_at dksJ5_indexOfCharUnsafe_0 9 rfl rfl)
theorem dJ5_indexOfCharUnsafe_10 : decode cJ5_indexOfCharUnsafe 10 = .ok (.iload 4, 2) := dk_21 4 (dk_at dksJ5_indexOfCharUnsafe_0 10 rfl rfl)
theorem dJ5_indexOfCharUnsafe_12 : decode cJ5_indexOfCharUnsafe 12 = .ok (.invokestatic 71, 3) := dk_184 0 71 (dk_at dksJ5_indexOfCharUnsafe_0 12 rfl rfl)
theorem dJ5_indexOfCharUnsafe_15 : decode cJ5_indexOfCharUnsafe 15 = .ok (.iload_n 1, 1) := dk_27 (dk_at dksJ5_indexOfCharUnsafe_0 15 rfl rfl)
theorem dJ5_indexOfCharUnsafe_16 : decode cJ5_indexOfCharUnsafe 16 = .ok (.if_icmp .ne 6, 3) := dk_160 0 6 (dk_at dksJ5_indexOfCharUnsafe_0 16 rfl rfl)
theorem dJ5_indexOfCharUnsafe_19 : decode cJ5_indexOfCharUnsafe 19 = .ok (.iload 4, 2) := dk_21 4 (dk_at dksJ5_indexOfCharUnsafe_0 19 rfl rfl)
theorem dJ5_indexOfCharUnsafe_21 : decode cJ5_indexOfCharUnsafe 21 = .ok (.ireturn, 1) := dk_172 (dk_at dksJ5_indexOfCharUnsafe_0 21 rfl rfl)
theorem dJ5_indexOfCharUnsafe_22 : decode cJ5_indexOfCharUnsafe 22 = .ok (.iinc 4 1, 3) := dk_132 4 1 (dk_at dksJ5_indexOfCharUnsafe_1 0 rfl rfl)
theorem dJ5_indexOfCharUnsafe_25 : decode cJ5_indexOfCharUnsafe 25 = .ok (.goto (-22), 3) := dk_167 255 234 (dk_at dksJ5_indexOfCharUnsafe_1 3 rfl rfl)
theorem dJ5_indexOfCharUnsafe_28 : decode cJ5_indexOfCharUnsafe 28 = .ok (.iconst (-1), 1) := dk_2 (dk_at dksJ5_indexOfCharUnsafe_1 6 rfl rfl)
theorem dJ5_indexOfCharUnsafe_29 : decode cJ5_indexOfCharUnsafe 29 = .ok (.ireturn, 1) := dk_172 (dk_at dksJ5_indexOfCharUnsafe_1 7 rfl rfl)
abbrev cJ5_getChar : ByteArray := prog_24_method_5_code
def yJ5_getChar : MethodName := ⟨RJ5, "getChar", "([BI)C"⟩
def dkwJ5_getChar_2 : List UInt8 := [51, 17, 0, 255, 126, 178, 0, 63, 120, 128, 146, 172]
abbrev dktJ5_getChar_2 : List UInt8 := dkwJ5_getChar_2 ++ []
def dkwJ5_getChar_1 : List UInt8 := [183, 0, 56, 191, 27, 4, 120, 60, 42, 27, 132, 1, 1, 51, 17, 0, 255, 126, 178, 0, 59, 120, 42, 27]
abbrev dktJ5_getChar_1 : List UInt8 := dkwJ5_getChar_1 ++ dktJ5_getChar_2
def dkwJ5_getChar_0 : List UInt8 := [178, 0, 44, 154, 0, 25, 27, 155, 0, 11, 27, 42, 184, 0, 48, 161, 0, 13, 187, 0, 52, 89, 18, 54]
abbrev dktJ5_getChar_0 : List UInt8 := dkwJ5_getChar_0 ++ dktJ5_getChar_1
theorem dksJ5_getChar_0 : cJ5_getChar.data.toList.drop 0 = dktJ5_getChar_0 := by decide +kernel
theorem dksJ5_getChar_1 : cJ5_getChar.data.toList.drop 24 = dktJ5_getChar_1 := dk_seg dksJ5_getChar_0 24 rfl rfl
theorem dksJ5_getChar_2 : cJ5_getChar.data.toList.drop 48 = dktJ5_getChar_2 := dk_seg dksJ5_getChar_1 24 rfl rfl
theorem dJ5_getChar_0 : decode cJ5_getChar 0 = .ok (.getstatic 44, 3) := dk_178 0 44 (dk_at dksJ5_getChar_0 0 rfl rfl)
theorem dJ5_getChar_3 : decode cJ5_getChar 3 = .ok (.ifCond .ne 25, 3) := dk_154 0 25 (dk_at dksJ5_getChar_0 3 rfl rfl)
theorem dJ5_getChar_6 : decode cJ5_getChar 6 = .ok (.iload_n 1, 1) := dk_27 (dk_at dksJ5_getChar_0 6 rfl rfl)
theorem dJ5_getChar_7 : decode cJ5_getChar 7 = .ok (.ifCond .lt 11, 3) := dk_155 0 11 (dk_at dksJ5_getChar_0 7 rfl rfl)
theorem dJ5_getChar_10 : decode cJ5_getChar 10 = .ok (.iload_n 1, 1) := dk_27 (dk_at dksJ5_getChar_0 10 rfl rfl)
theorem dJ5_getChar_11 : decode cJ5_getChar 11 = .ok (.aload_n 0, 1) := dk_42 (dk_at dksJ5_getChar_0 11 rfl rfl)
theorem dJ5_getChar_12 : decode cJ5_getChar 12 = .ok (.invokestatic 48, 3) := dk_184 0 48 (dk_at dksJ5_getChar_0 12 rfl rfl)
theorem dJ5_getChar_15 : decode cJ5_getChar 15 = .ok (.if_icmp .lt 13, 3) := dk_161 0 13 (dk_at dksJ5_getChar_0 15 rfl rfl)
theorem dJ5_getChar_18 : decode cJ5_getChar 18 = .ok (.new 52, 3) := dk_187 0 52 (dk_at dksJ5_getChar_0 18 rfl rfl)
theorem dJ5_getChar_21 : decode cJ5_getChar 21 = .ok (.dup, 1) := dk_89 (dk_at dksJ5_getChar_0 21 rfl rfl)
theorem dJ5_getChar_22 : decode cJ5_getChar 22 = .ok (.ldc 54, 2) := dk_18 54 (dk_at dksJ5_getChar_0 22 rfl rfl)
theorem dJ5_getChar_24 : decode cJ5_getChar 24 = .ok (.invokespecial 56, 3) := dk_183 0 56 (dk_at dksJ5_getChar_1 0 rfl rfl)
theorem dJ5_getChar_27 : decode cJ5_getChar 27 = .ok (.athrow, 1) := dk_191 (dk_at dksJ5_getChar_1 3 rfl rfl)
theorem dJ5_getChar_28 : decode cJ5_getChar 28 = .ok (.iload_n 1, 1) := dk_27 (dk_at dksJ5_getChar_1 4 rfl rfl)
theorem dJ5_getChar_29 : decode cJ5_getChar 29 = .ok (.iconst 1, 1) := dk_4 (dk_at dksJ5_getChar_1 5 rfl rfl)
theorem dJ5_getChar_30 : decode cJ5_getChar 30 = .ok (.ishl, 1) := dk_120 (dk_at dksJ5_getChar_1 6 rfl rfl)
theorem dJ5_getChar_31 : decode cJ5_getChar 31 = .ok (.istore_n 1, 1) := dk_60 (dk_at dksJ5_getChar_1 7 rfl rfl)
theorem dJ5_getChar_32 : decode cJ5_getChar 32 = .ok (.aload_n 0, 1) := dk_42 (dk_at dksJ5_getChar_1 8 rfl rfl)
theorem dJ5_getChar_33 : decode cJ5_getChar 33 = .ok (.iload_n 1, 1) := dk_27 (dk_at dksJ5_getChar_1 9 rfl rfl)
theorem dJ5_getChar_34 : decode cJ5_getChar 34 = .ok (.iinc 1 1, 3) := dk_132 1 1 (dk_at dksJ5_getChar_1 10 rfl rfl)
theorem dJ5_getChar_37 : decode cJ5_getChar 37 = .ok (.baload, 1) := dk_51 (dk_at dksJ5_getChar_1 13 rfl rfl)
theorem dJ5_getChar_38 : decode cJ5_getChar 38 = .ok (.sipush 255, 3) := dk_17 0 255 (dk_at dksJ5_getChar_1 14 rfl rfl)
theorem dJ5_getChar_41 : decode cJ5_getChar 41 = .ok (.iand, 1) := dk_126 (dk_at dksJ5_getChar_1 17 rfl rfl)
theorem dJ5_getChar_42 : decode cJ5_getChar 42 = .ok (.getstatic 59, 3) := dk_178 0 59 (dk_at dksJ5_getChar_1 18 rfl rfl)
theorem dJ5_getChar_45 : decode cJ5_getChar 45 = .ok (.ishl, 1) := dk_120 (dk_at dksJ5_getChar_1 21 rfl rfl)
theorem dJ5_getChar_46 : decode cJ5_getChar 46 = .ok (.aload_n 0, 1) := dk_42 (dk_at dksJ5_getChar_1 22 rfl rfl)
theorem dJ5_getChar_47 : decode cJ5_getChar 47 = .ok (.iload_n 1, 1) := dk_27 (dk_at dksJ5_getChar_1 23 rfl rfl)
theorem dJ5_getChar_48 : decode cJ5_getChar 48 = .ok (.baload, 1) := dk_51 (dk_at dksJ5_getChar_2 0 rfl rfl)
theorem dJ5_getChar_49 : decode cJ5_getChar 49 = .ok (.sipush 255, 3) := dk_17 0 255 (dk_at dksJ5_getChar_2 1 rfl rfl)
theorem dJ5_getChar_52 : decode cJ5_getChar 52 = .ok (.iand, 1) := dk_126 (dk_at dksJ5_getChar_2 4 rfl rfl)
theorem dJ5_getChar_53 : decode cJ5_getChar 53 = .ok (.getstatic 63, 3) := dk_178 0 63 (dk_at dksJ5_getChar_2 5 rfl rfl)
theorem dJ5_getChar_56 : decode cJ5_getChar 56 = .ok (.ishl, 1) := dk_120 (dk_at dksJ5_getChar_2 8 rfl rfl)
theorem dJ5_getChar_57 : decode cJ5_getChar 57 = .ok (.ior, 1) := dk_128 (dk_at dksJ5_getChar_2 9 rfl rfl)
theorem dJ5_getChar_58 : decode cJ5_getChar 58 = .ok (.i2c, 1) := dk_146 (dk_at dksJ5_getChar_2 10 rfl rfl)
theorem dJ5_getChar_59 : decode cJ5_getChar 59 = .ok (.ireturn, 1) := dk_172 (dk_at dksJ5_getChar_2 11 rfl rfl)
abbrev cJ5_indexOfSupplementary : ByteArray := prog_24_method_49_code
def yJ5_indexOfSupplementary : MethodName := ⟨RJ5, "indexOfSupplementary", "([BIII)I"⟩
def dkwJ5_indexOfSupplementary_3 : List UInt8 := [167, 255, 218, 2, 172]
abbrev dktJ5_indexOfSupplementary_3 : List UInt8 := dkwJ5_indexOfSupplementary_3 ++ []
def dkwJ5_indexOfSupplementary_2 : List UInt8 := [160, 0, 19, 42, 21, 6, 4, 96, 184, 0, 71, 21, 5, 160, 0, 6, 21, 6, 172, 132, 6, 1]
abbrev dktJ5_indexOfSupplementary_2 : List UInt8 := dkwJ5_indexOfSupplementary_2 ++ dktJ5_indexOfSupplementary_3
def dkwJ5_indexOfSupplementary_1 : List UInt8 := [184, 0, 96, 28, 54, 6, 21, 6, 29, 4, 100, 162, 0, 36, 42, 21, 6, 184, 0, 71, 21, 4]
abbrev dktJ5_indexOfSupplementary_1 : List UInt8 := dkwJ5_indexOfSupplementary_1 ++ dktJ5_indexOfSupplementary_2
def dkwJ5_indexOfSupplementary_0 : List UInt8 := [27, 184, 0, 164, 153, 0, 65, 27, 184, 0, 157, 54, 4, 27, 184, 0, 161, 54, 5, 28, 29, 42]
abbrev dktJ5_indexOfSupplementary_0 : List UInt8 := dkwJ5_indexOfSupplementary_0 ++ dktJ5_indexOfSupplementary_1
theorem dksJ5_indexOfSupplementary_0 : cJ5_indexOfSupplementary.data.toList.drop 0 = dktJ5_indexOfSupplementary_0 := by decide +kernel
theorem dksJ5_indexOfSupplementary_1 : cJ5_indexOfSupplementary.data.toList.drop 22 = dktJ5_indexOfSupplementary_1 := dk_seg dksJ5_indexOfSupplementary_0 22 rfl rfl
theorem dksJ5_indexOfSupplementary_2 : cJ5_indexOfSupplementary.data.toList.drop 44 = dktJ5_indexOfSupplementary_2 := dk_seg dksJ5_indexOfSupplementary_1 22 rfl rfl
theorem dksJ5_indexOfSupplementary_3 : cJ5_indexOfSupplementary.data.toList.drop 66 = dktJ5_indexOfSupplementary_3 := dk_seg dksJ5_indexOfSupplementary_2 22 rfl rfl
theorem dJ5_indexOfSupplementary_0 : decode cJ5_indexOfSupplementary 0 = .ok (.iload_n 1, 1) := dk_27 (dk_at dksJ5_indexOfSupplementary_0 0 rfl rfl)
theorem dJ5_indexOfSupplementary_1 : decode cJ5_indexOfSupplementary 1 = .ok (.invokestatic 164, 3) := dk_184 0 164 (dk_at dksJ5_indexOfSupplementary_0 1 rfl rfl)
theorem dJ5_indexOfSupplementary_4 : decode cJ5_indexOfSupplementary 4 = .ok (.ifCond .eq 65, 3) := dk_153 0 65 (dk_at dksJ5_indexOfSupplementary_0 4 rfl rfl)
theorem dJ5_indexOfSupplementary_7 : decode cJ5_indexOfSupplementary 7 = .ok (.iload_n 1, 1) := dk_27 (dk_at dksJ5_indexOfSupplementary_0 7 rfl rfl)
theorem dJ5_indexOfSupplementary_8 : decode cJ5_indexOfSupplementary 8 = .ok (.invokestatic 157, 3) := dk_184 0 157 (dk_at dksJ5_indexOfSupplementary_0 8 rfl rfl)
theorem dJ5_indexOfSupplementary_11 : decode cJ5_indexOfSupplementary 11 = .ok (.istore 4, 2) := dk_54 4 (dk_at dksJ5_indexOfSupplementary_0 11 rfl rfl)
theorem dJ5_indexOfSupplementary_13 : decode cJ5_indexOfSupplementary 13 = .ok (.iload_n 1, 1) := dk_27 (dk_at dksJ5_indexOfSupplementary_0 13 rfl rfl)
theorem dJ5_indexOfSupplementary_14 : decode cJ5_indexOfSupplementary 14 = .ok (.invokestatic 161, 3) := dk_184 0 161 (dk_at dksJ5_indexOfSupplementary_0 14 rfl rfl)
theorem dJ5_indexOfSupplementary_17 : decode cJ5_indexOfSupplementary 17 = .ok (.istore 5, 2) := dk_54 5 (dk_at dksJ5_indexOfSupplementary_0 17 rfl rfl)
theorem dJ5_indexOfSupplementary_19 : decode cJ5_indexOfSupplementary 19 = .ok (.iload_n 2, 1) := dk_28 (dk_at dksJ5_indexOfSupplementary_0 19 rfl rfl)
theorem dJ5_indexOfSupplementary_20 : decode cJ5_indexOfSupplementary 20 = .ok (.iload_n 3, 1) := dk_29 (dk_at dksJ5_indexOfSupplementary_0 20 rfl rfl)
theorem dJ5_indexOfSupplementary_21 : decode cJ5_indexOfSupplementary 21 = .ok (.aload_n 0, 1) := dk_42 (dk_at dksJ5_indexOfSupplementary_0 21 rfl rfl)
theorem dJ5_indexOfSupplementary_22 : decode cJ5_indexOfSupplementary 22 = .ok (.invokestatic 96, 3) := dk_184 0 96 (dk_at dksJ5_indexOfSupplementary_1 0 rfl rfl)
theorem dJ5_indexOfSupplementary_25 : decode cJ5_indexOfSupplementary 25 = .ok (.iload_n 2, 1) := dk_28 (dk_at dksJ5_indexOfSupplementary_1 3 rfl rfl)
theorem dJ5_indexOfSupplementary_26 : decode cJ5_indexOfSupplementary 26 = .ok (.istore 6, 2) := dk_54 6 (dk_at dksJ5_indexOfSupplementary_1 4 rfl rfl)
theorem dJ5_indexOfSupplementary_28 : decode cJ5_indexOfSupplementary 28 = .ok (.iload 6, 2) := dk_21 6 (dk_at dksJ5_indexOfSupplementary_1 6 rfl rfl)
theorem dJ5_indexOfSupplementary_30 : decode cJ5_indexOfSupplementary 30 = .ok (.iload_n 3, 1) := dk_29 (dk_at dksJ5_indexOfSupplementary_1 8 rfl rfl)
theorem dJ5_indexOfSupplementary_31 : decode cJ5_indexOfSupplementary 31 = .ok (.iconst 1, 1) := dk_4 (dk_at dksJ5_indexOfSupplementary_1 9 rfl rfl)
theorem dJ5_indexOfSupplementary_32 : decode cJ5_indexOfSupplementary 32 = .ok (.isub, 1) := dk_100 (dk_at dksJ5_indexOfSupplementary_1 10 rfl rfl)
theorem dJ5_indexOfSupplementary_33 : decode cJ5_indexOfSupplementary 33 = .ok (.if_icmp .ge 36, 3) := dk_162 0 36 (dk_at dksJ5_indexOfSupplementary_1 11 rfl rfl)
theorem dJ5_indexOfSupplementary_36 : decode cJ5_indexOfSupplementary 36 = .ok (.aload_n 0, 1) := dk_42 (dk_at dksJ5_indexOfSupplementary_1 14 rfl rfl)
theorem dJ5_indexOfSupplementary_37 : decode cJ5_indexOfSupplementary 37 = .ok (.iload 6, 2) := dk_21 6 (dk_at dksJ5_indexOfSupplementary_1 15 rfl rfl)
theorem dJ5_indexOfSupplementary_39 : decode cJ5_indexOfSupplementary 39 = .ok (.invokestatic 71, 3) := dk_184 0 71 (dk_at dksJ5_indexOfSupplementary_1 17 rfl rfl)
theorem dJ5_indexOfSupplementary_42 : decode cJ5_indexOfSupplementary 42 = .ok (.iload 4, 2) := dk_21 4 (dk_at dksJ5_indexOfSupplementary_1 20 rfl rfl)
theorem dJ5_indexOfSupplementary_44 : decode cJ5_indexOfSupplementary 44 = .ok (.if_icmp .ne 19, 3) := dk_160 0 19 (dk_at dksJ5_indexOfSupplementary_2 0 rfl rfl)
theorem dJ5_indexOfSupplementary_47 : decode cJ5_indexOfSupplementary 47 = .ok (.aload_n 0, 1) := dk_42 (dk_at dksJ5_indexOfSupplementary_2 3 rfl rfl)
theorem dJ5_indexOfSupplementary_48 : decode cJ5_indexOfSupplementary 48 = .ok (.iload 6, 2) := dk_21 6 (dk_at dksJ5_indexOfSupplementary_2 4 rfl rfl)
theorem dJ5_indexOfSupplementary_50 : decode cJ5_indexOfSupplementary 50 = .ok (.iconst 1, 1) := dk_4 (dk_at dksJ5_indexOfSupplementary_2 6 rfl rfl)
theorem dJ5_indexOfSupplementary_51 : decode cJ5_indexOfSupplementary 51 = .ok (.iadd, 1) := dk_96 (dk_at dksJ5_indexOfSupplementary_2 7 rfl rfl)
theorem dJ5_indexOfSupplementary_52 : decode cJ5_indexOfSupplementary 52 = .ok (.invokestatic 71, 3) := dk_184 0 71 (dk_at dksJ5_indexOfSupplementary_2 8 rfl rfl)
theorem dJ5_indexOfSupplementary_55 : decode cJ5_indexOfSupplementary 55 = .ok (.iload 5, 2) := dk_21 5 (dk_at dksJ5_indexOfSupplementary_2 11 rfl rfl)
theorem dJ5_indexOfSupplementary_57 : decode cJ5_indexOfSupplementary 57 = .ok (.if_icmp .ne 6, 3) := dk_160 0 6 (dk_at dksJ5_indexOfSupplementary_2 13 rfl rfl)
theorem dJ5_indexOfSupplementary_60 : decode cJ5_indexOfSupplementary 60 = .ok (.iload 6, 2) := dk_21 6 (dk_at dksJ5_indexOfSupplementary_2 16 rfl rfl)
theorem dJ5_indexOfSupplementary_62 : decode cJ5_indexOfSupplementary 62 = .ok (.ireturn, 1) := dk_172 (dk_at dksJ5_indexOfSupplementary_2 18 rfl rfl)
theorem dJ5_indexOfSupplementary_63 : decode cJ5_indexOfSupplementary 63 = .ok (.iinc 6 1, 3) := dk_132 6 1 (dk_at dksJ5_indexOfSupplementary_2 19 rfl rfl)
theorem dJ5_indexOfSupplementary_66 : decode cJ5_indexOfSupplementary 66 = .ok (.goto (-38), 3) := dk_167 255 218 (dk_at dksJ5_indexOfSupplementary_3 0 rfl rfl)
theorem dJ5_indexOfSupplementary_69 : decode cJ5_indexOfSupplementary 69 = .ok (.iconst (-1), 1) := dk_2 (dk_at dksJ5_indexOfSupplementary_3 3 rfl rfl)
theorem dJ5_indexOfSupplementary_70 : decode cJ5_indexOfSupplementary 70 = .ok (.ireturn, 1) := dk_172 (dk_at dksJ5_indexOfSupplementary_3 4 rfl rfl)
abbrev cJ5_charAt : ByteArray := prog_24_method_83_code
def yJ5_charAt : MethodName := ⟨RJ5, "charAt", "([BI)C"⟩
def dkwJ5_charAt_0 : List UInt8 := [27, 42, 184, 0, 67, 42, 27, 184, 0, 71, 172]
abbrev dktJ5_charAt_0 : List UInt8 := dkwJ5_charAt_0 ++ []
theorem dksJ5_charAt_0 : cJ5_charAt.data.toList.drop 0 = dktJ5_charAt_0 := by decide +kernel
theorem dJ5_charAt_0 : decode cJ5_charAt 0 = .ok (.iload_n 1, 1) := dk_27 (dk_at dksJ5_charAt_0 0 rfl rfl)
theorem dJ5_charAt_1 : decode cJ5_charAt 1 = .ok (.aload_n 0, 1) := dk_42 (dk_at dksJ5_charAt_0 1 rfl rfl)
theorem dJ5_charAt_2 : decode cJ5_charAt 2 = .ok (.invokestatic 67, 3) := dk_184 0 67 (dk_at dksJ5_charAt_0 2 rfl rfl)
theorem dJ5_charAt_5 : decode cJ5_charAt 5 = .ok (.aload_n 0, 1) := dk_42 (dk_at dksJ5_charAt_0 5 rfl rfl)
theorem dJ5_charAt_6 : decode cJ5_charAt 6 = .ok (.iload_n 1, 1) := dk_27 (dk_at dksJ5_charAt_0 6 rfl rfl)
theorem dJ5_charAt_7 : decode cJ5_charAt 7 = .ok (.invokestatic 71, 3) := dk_184 0 71 (dk_at dksJ5_charAt_0 7 rfl rfl)
theorem dJ5_charAt_10 : decode cJ5_charAt 10 = .ok (.ireturn, 1) := dk_172 (dk_at dksJ5_charAt_0 10 rfl rfl)
abbrev cJ5_checkIndex : ByteArray := prog_24_method_91_code
def yJ5_checkIndex : MethodName := ⟨RJ5, "checkIndex", "(I[B)V"⟩
def dkwJ5_checkIndex_0 : List UInt8 := [26, 43, 184, 0, 48, 184, 1, 158, 177]
abbrev dktJ5_checkIndex_0 : List UInt8 := dkwJ5_checkIndex_0 ++ []
theorem dksJ5_checkIndex_0 : cJ5_checkIndex.data.toList.drop 0 = dktJ5_checkIndex_0 := by decide +kernel
theorem dJ5_checkIndex_0 : decode cJ5_checkIndex 0 = .ok (.iload_n 0, 1) := dk_26 (dk_at dksJ5_checkIndex_0 0 rfl rfl)
theorem dJ5_checkIndex_1 : decode cJ5_checkIndex 1 = .ok (.aload_n 1, 1) := dk_43 (dk_at dksJ5_checkIndex_0 1 rfl rfl)
theorem dJ5_checkIndex_2 : decode cJ5_checkIndex 2 = .ok (.invokestatic 48, 3) := dk_184 0 48 (dk_at dksJ5_checkIndex_0 2 rfl rfl)
theorem dJ5_checkIndex_5 : decode cJ5_checkIndex 5 = .ok (.invokestatic 414, 3) := dk_184 1 158 (dk_at dksJ5_checkIndex_0 5 rfl rfl)
theorem dJ5_checkIndex_8 : decode cJ5_checkIndex 8 = .ok (.return_, 1) := dk_177 (dk_at dksJ5_checkIndex_0 8 rfl rfl)
theorem q143 : (Jvm.Cond.initialized "java/lang/StringUTF16") ∈ lw_all := lw_g (lw_at lw_m1 12 rfl) rfl
theorem q235 : (Jvm.Cond.static ({ cls := "java/lang/StringUTF16", name := "indexOf", desc := "([BIII)I" } : Jvm.MethodName)) ∈ lw_all := lw_g (lw_at lw_m1 104 rfl) rfl
theorem q236 : (Jvm.Cond.code ({ cls := "java/lang/StringUTF16", name := "indexOf", desc := "([BIII)I" } : Jvm.MethodName) prog_24_method_40_code (4 : Nat) (Option.some Jvm.ClassFile.FieldType.int)) ∈ lw_all := lw_g (lw_at lw_m1 105 rfl) rfl
theorem q237 : (Jvm.Cond.methodLink "java/lang/StringUTF16" (224 : Nat) ({ cls := "java/lang/Math", name := "max", desc := "(II)I" } : Jvm.MethodName)) ∈ lw_all := lw_g (lw_at lw_m1 106 rfl) rfl
theorem q238 : (Jvm.Cond.methodLink "java/lang/StringUTF16" (183 : Nat) ({ cls := "java/lang/Math", name := "min", desc := "(II)I" } : Jvm.MethodName)) ∈ lw_all := lw_g (lw_at lw_m1 107 rfl) rfl
theorem q239 : (Jvm.Cond.constant "java/lang/StringUTF16" (227 : Nat) (65536 : Int32)) ∈ lw_all := lw_g (lw_at lw_m1 108 rfl) rfl
theorem q240 : (Jvm.Cond.methodLink "java/lang/StringUTF16" (228 : Nat) ({ cls := "java/lang/StringUTF16", name := "indexOfChar", desc := "([BIII)I" } : Jvm.MethodName)) ∈ lw_all := lw_g (lw_at lw_m1 109 rfl) rfl
theorem q241 : (Jvm.Cond.static ({ cls := "java/lang/StringUTF16", name := "indexOfChar", desc := "([BIII)I" } : Jvm.MethodName)) ∈ lw_all := lw_g (lw_at lw_m1 110 rfl) rfl
theorem q242 : (Jvm.Cond.code ({ cls := "java/lang/StringUTF16", name := "indexOfChar", desc := "([BIII)I" } : Jvm.MethodName) prog_24_method_47_code (4 : Nat) (Option.some Jvm.ClassFile.FieldType.int)) ∈ lw_all := lw_g (lw_at lw_m1 111 rfl) rfl
theorem q243 : (Jvm.Cond.methodLink "java/lang/StringUTF16" (96 : Nat) ({ cls := "java/lang/StringUTF16", name := "checkBoundsBeginEnd", desc := "(II[B)V" } : Jvm.MethodName)) ∈ lw_all := lw_g (lw_at lw_m1 112 rfl) rfl
theorem q244 : (Jvm.Cond.static ({ cls := "java/lang/StringUTF16", name := "checkBoundsBeginEnd", desc := "(II[B)V" } : Jvm.MethodName)) ∈ lw_all := lw_g (lw_at lw_m1 113 rfl) rfl
theorem q245 : (Jvm.Cond.code ({ cls := "java/lang/StringUTF16", name := "checkBoundsBeginEnd", desc := "(II[B)V" } : Jvm.MethodName) prog_24_method_93_code (3 : Nat) (Option.none : Option Jvm.ClassFile.FieldType)) ∈ lw_all := lw_g (lw_at lw_m1 114 rfl) rfl
theorem q246 : (Jvm.Cond.methodLink "java/lang/StringUTF16" (48 : Nat) ({ cls := "java/lang/StringUTF16", name := "length", desc := "([B)I" } : Jvm.MethodName)) ∈ lw_all := lw_g (lw_at lw_m1 115 rfl) rfl
theorem q247 : (Jvm.Cond.static ({ cls := "java/lang/StringUTF16", name := "length", desc := "([B)I" } : Jvm.MethodName)) ∈ lw_all := lw_g (lw_at lw_m1 116 rfl) rfl
theorem q248 : (Jvm.Cond.code ({ cls := "java/lang/StringUTF16", name := "length", desc := "([B)I" } : Jvm.MethodName) prog_24_method_6_code (1 : Nat) (Option.some Jvm.ClassFile.FieldType.int)) ∈ lw_all := lw_g (lw_at lw_m1 117 rfl) rfl
theorem q249 : (Jvm.Cond.methodLink "java/lang/StringUTF16" (241 : Nat) ({ cls := "java/lang/String", name := "checkBoundsBeginEnd", desc := "(III)V" } : Jvm.MethodName)) ∈ lw_all := lw_g (lw_at lw_m1 118 rfl) rfl
theorem q257 : (Jvm.Cond.methodLink "java/lang/StringUTF16" (244 : Nat) ({ cls := "java/lang/StringUTF16", name := "indexOfCharUnsafe", desc := "([BIII)I" } : Jvm.MethodName)) ∈ lw_all := lw_g (lw_at lw_m1 126 rfl) rfl
theorem q258 : (Jvm.Cond.static ({ cls := "java/lang/StringUTF16", name := "indexOfCharUnsafe", desc := "([BIII)I" } : Jvm.MethodName)) ∈ lw_all := lw_g (lw_at lw_m1 127 rfl) rfl
theorem q259 : (Jvm.Cond.code ({ cls := "java/lang/StringUTF16", name := "indexOfCharUnsafe", desc := "([BIII)I" } : Jvm.MethodName) prog_24_method_48_code (5 : Nat) (Option.some Jvm.ClassFile.FieldType.int)) ∈ lw_all := lw_g (lw_at lw_m1 128 rfl) rfl
theorem q260 : (Jvm.Cond.methodLink "java/lang/StringUTF16" (71 : Nat) ({ cls := "java/lang/StringUTF16", name := "getChar", desc := "([BI)C" } : Jvm.MethodName)) ∈ lw_all := lw_g (lw_at lw_m1 129 rfl) rfl
theorem q261 : (Jvm.Cond.static ({ cls := "java/lang/StringUTF16", name := "getChar", desc := "([BI)C" } : Jvm.MethodName)) ∈ lw_all := lw_g (lw_at lw_m1 130 rfl) rfl
theorem q262 : (Jvm.Cond.code ({ cls := "java/lang/StringUTF16", name := "getChar", desc := "([BI)C" } : Jvm.MethodName) prog_24_method_5_code (2 : Nat) (Option.some Jvm.ClassFile.FieldType.char)) ∈ lw_all := lw_g (lw_at lw_m1 131 rfl) rfl
theorem q263 : (Jvm.Cond.fieldLink "java/lang/StringUTF16" (44 : Nat) "java/lang/StringUTF16" "$assertionsDisabled" "Z") ∈ lw_all := lw_g (lw_at lw_m1 132 rfl) rfl
theorem q264 : (Jvm.Cond.laysStatic "java/lang/StringUTF16" "$assertionsDisabled" "Z") ∈ lw_tbl := lw_at lw_m1 133 rfl
theorem q265 : (Jvm.Cond.fieldLink "java/lang/StringUTF16" (59 : Nat) "java/lang/StringUTF16" "HI_BYTE_SHIFT" "I") ∈ lw_all := lw_g (lw_at lw_m1 134 rfl) rfl
theorem q266 : (Jvm.Cond.laysStatic "java/lang/StringUTF16" "HI_BYTE_SHIFT" "I") ∈ lw_tbl := lw_at lw_m1 135 rfl
theorem q267 : (Jvm.Cond.fieldLink "java/lang/StringUTF16" (63 : Nat) "java/lang/StringUTF16" "LO_BYTE_SHIFT" "I") ∈ lw_all := lw_g (lw_at lw_m1 136 rfl) rfl
theorem q268 : (Jvm.Cond.laysStatic "java/lang/StringUTF16" "LO_BYTE_SHIFT" "I") ∈ lw_tbl := lw_at lw_m1 137 rfl
theorem q269 : (Jvm.Cond.methodLink "java/lang/StringUTF16" (232 : Nat) ({ cls := "java/lang/StringUTF16", name := "indexOfSupplementary", desc := "([BIII)I" } : Jvm.MethodName)) ∈ lw_all := lw_g (lw_at lw_m1 138 rfl) rfl
theorem q270 : (Jvm.Cond.static ({ cls := "java/lang/StringUTF16", name := "indexOfSupplementary", desc := "([BIII)I" } : Jvm.MethodName)) ∈ lw_all := lw_g (lw_at lw_m1 139 rfl) rfl
theorem q271 : (Jvm.Cond.code ({ cls := "java/lang/StringUTF16", name := "indexOfSupplementary", desc := "([BIII)I" } : Jvm.MethodName) prog_24_method_49_code (7 : Nat) (Option.some Jvm.ClassFile.FieldType.int)) ∈ lw_all := lw_g (lw_at lw_m1 140 rfl) rfl
theorem q272 : (Jvm.Cond.methodLink "java/lang/StringUTF16" (164 : Nat) ({ cls := "java/lang/Character", name := "isValidCodePoint", desc := "(I)Z" } : Jvm.MethodName)) ∈ lw_all := lw_g (lw_at lw_m1 141 rfl) rfl
theorem q275 : (Jvm.Cond.methodLink "java/lang/StringUTF16" (157 : Nat) ({ cls := "java/lang/Character", name := "highSurrogate", desc := "(I)C" } : Jvm.MethodName)) ∈ lw_all := lw_g (lw_at lw_m1 144 rfl) rfl
theorem q279 : (Jvm.Cond.methodLink "java/lang/StringUTF16" (161 : Nat) ({ cls := "java/lang/Character", name := "lowSurrogate", desc := "(I)C" } : Jvm.MethodName)) ∈ lw_all := lw_g (lw_at lw_m1 148 rfl) rfl
theorem q1384 : (Jvm.Cond.static ({ cls := "java/lang/StringUTF16", name := "charAt", desc := "([BI)C" } : Jvm.MethodName)) ∈ lw_all := lw_g (lw_at lw_m6 53 rfl) rfl
theorem q1385 : (Jvm.Cond.code ({ cls := "java/lang/StringUTF16", name := "charAt", desc := "([BI)C" } : Jvm.MethodName) prog_24_method_83_code (2 : Nat) (Option.some Jvm.ClassFile.FieldType.char)) ∈ lw_all := lw_g (lw_at lw_m6 54 rfl) rfl
theorem q1386 : (Jvm.Cond.methodLink "java/lang/StringUTF16" (67 : Nat) ({ cls := "java/lang/StringUTF16", name := "checkIndex", desc := "(I[B)V" } : Jvm.MethodName)) ∈ lw_all := lw_g (lw_at lw_m6 55 rfl) rfl
theorem q1387 : (Jvm.Cond.static ({ cls := "java/lang/StringUTF16", name := "checkIndex", desc := "(I[B)V" } : Jvm.MethodName)) ∈ lw_all := lw_g (lw_at lw_m6 56 rfl) rfl
theorem q1388 : (Jvm.Cond.code ({ cls := "java/lang/StringUTF16", name := "checkIndex", desc := "(I[B)V" } : Jvm.MethodName) prog_24_method_91_code (2 : Nat) (Option.none : Option Jvm.ClassFile.FieldType)) ∈ lw_all := lw_g (lw_at lw_m6 57 rfl) rfl
theorem q1389 : (Jvm.Cond.methodLink "java/lang/StringUTF16" (414 : Nat) ({ cls := "java/lang/String", name := "checkIndex", desc := "(II)V" } : Jvm.MethodName)) ∈ lw_all := lw_g (lw_at lw_m6 58 rfl) rfl

/-! jdk/internal/util/Preconditions -/
set_option maxRecDepth 100000
def RJ6 : String := "jdk/internal/util/Preconditions"
abbrev cJ6_checkFromToIndex : ByteArray := prog_30_method_12_code
def yJ6_checkFromToIndex : MethodName := ⟨RJ6, "checkFromToIndex", "(IIILjava/util/function/BiFunction;)I"⟩
def dkwJ6_checkFromToIndex_0 : List UInt8 := [26, 155, 0, 13, 26, 27, 163, 0, 8, 27, 28, 164, 0, 11, 45, 26, 27, 28, 184, 0, 99, 191, 26, 172]
abbrev dktJ6_checkFromToIndex_0 : List UInt8 := dkwJ6_checkFromToIndex_0 ++ []
theorem dksJ6_checkFromToIndex_0 : cJ6_checkFromToIndex.data.toList.drop 0 = dktJ6_checkFromToIndex_0 := by decide +kernel
theorem dJ6_checkFromToIndex_0 : decode cJ6_checkFromToIndex 0 = .ok (.iload_n 0, 1) := dk_26 (dk_at dksJ6_checkFromToIndex_0 0 rfl rfl)
theorem dJ6_checkFromToIndex_1 : decode cJ6_checkFromToIndex 1 = .ok (.ifCond .lt 13, 3) := dk_155 0 13 (dk_at dksJ6_checkFromToIndex_0 1 rfl rfl)
theorem dJ6_checkFromToIndex_4 : decode cJ6_checkFromToIndex 4 = .ok (.iload_n 0, 1) := dk_26 (dk_at dksJ6_checkFromToIndex_0 4 rfl rfl)
theorem dJ6_checkFromToIndex_5 : decode cJ6_checkFromToIndex 5 = .ok (.iload_n 1, 1) := dk_27 (dk_at dksJ6_checkFromToIndex_0 5 rfl rfl)
theorem dJ6_checkFromToIndex_6 : decode cJ6_checkFromToIndex 6 = .ok (.if_icmp .gt 8, 3) := dk_163 0 8 (dk_at dksJ6_checkFromToIndex_0 6 rfl rfl)
theorem dJ6_checkFromToIndex_9 : decode cJ6_checkFromToIndex 9 = .ok (.iload_n 1, 1) := dk_27 (dk_at dksJ6_checkFromToIndex_0 9 rfl rfl)
theorem dJ6_checkFromToIndex_10 : decode cJ6_checkFromToIndex 10 = .ok (.iload_n 2, 1) := dk_28 (dk_at dksJ6_checkFromToIndex_0 10 rfl rfl)
theorem dJ6_checkFromToIndex_11 : decode cJ6_checkFromToIndex 11 = .ok (.if_icmp .le 11, 3) := dk_164 0 11 (dk_at dksJ6_checkFromToIndex_0 11 rfl rfl)
theorem dJ6_checkFromToIndex_14 : decode cJ6_checkFromToIndex 14 = .ok (.aload_n 3, 1) := dk_45 (dk_at dksJ6_checkFromToIndex_0 14 rfl rfl)
theorem dJ6_checkFromToIndex_15 : decode cJ6_checkFromToIndex 15 = .ok (.iload_n 0, 1) := dk_26 (dk_at dksJ6_checkFromToIndex_0 15 rfl rfl)
theorem dJ6_checkFromToIndex_16 : decode cJ6_checkFromToIndex 16 = .ok (.iload_n 1, 1) := dk_27 (dk_at dksJ6_checkFromToIndex_0 16 rfl rfl)
theorem dJ6_checkFromToIndex_17 : decode cJ6_checkFromToIndex 17 = .ok (.iload_n 2, 1) := dk_28 (dk_at dksJ6_checkFromToIndex_0 17 rfl rfl)
theorem dJ6_checkFromToIndex_18 : decode cJ6_checkFromToIndex 18 = .ok (.invokestatic 99, 3) := dk_184 0 99 (dk_at dksJ6_checkFromToIndex_0 18 rfl rfl)
theorem dJ6_checkFromToIndex_21 : decode cJ6_checkFromToIndex 21 = .ok (.athrow, 1) := dk_191 (dk_at dksJ6_checkFromToIndex_0 21 rfl rfl)
theorem dJ6_checkFromToIndex_22 : decode cJ6_checkFromToIndex 22 = .ok (.iload_n 0, 1) := dk_26 (dk_at dksJ6_checkFromToIndex_0 22 rfl rfl)
theorem dJ6_checkFromToIndex_23 : decode cJ6_checkFromToIndex 23 = .ok (.ireturn, 1) := dk_172 (dk_at dksJ6_checkFromToIndex_0 23 rfl rfl)
abbrev cJ6_checkIndex : ByteArray := prog_30_method_11_code
def yJ6_checkIndex : MethodName := ⟨RJ6, "checkIndex", "(IILjava/util/function/BiFunction;)I"⟩
def dkwJ6_checkIndex_0 : List UInt8 := [26, 155, 0, 8, 26, 27, 161, 0, 10, 44, 26, 27, 184, 0, 95, 191, 26, 172]
abbrev dktJ6_checkIndex_0 : List UInt8 := dkwJ6_checkIndex_0 ++ []
theorem dksJ6_checkIndex_0 : cJ6_checkIndex.data.toList.drop 0 = dktJ6_checkIndex_0 := by decide +kernel
theorem dJ6_checkIndex_0 : decode cJ6_checkIndex 0 = .ok (.iload_n 0, 1) := dk_26 (dk_at dksJ6_checkIndex_0 0 rfl rfl)
theorem dJ6_checkIndex_1 : decode cJ6_checkIndex 1 = .ok (.ifCond .lt 8, 3) := dk_155 0 8 (dk_at dksJ6_checkIndex_0 1 rfl rfl)
theorem dJ6_checkIndex_4 : decode cJ6_checkIndex 4 = .ok (.iload_n 0, 1) := dk_26 (dk_at dksJ6_checkIndex_0 4 rfl rfl)
theorem dJ6_checkIndex_5 : decode cJ6_checkIndex 5 = .ok (.iload_n 1, 1) := dk_27 (dk_at dksJ6_checkIndex_0 5 rfl rfl)
theorem dJ6_checkIndex_6 : decode cJ6_checkIndex 6 = .ok (.if_icmp .lt 10, 3) := dk_161 0 10 (dk_at dksJ6_checkIndex_0 6 rfl rfl)
theorem dJ6_checkIndex_9 : decode cJ6_checkIndex 9 = .ok (.aload_n 2, 1) := dk_44 (dk_at dksJ6_checkIndex_0 9 rfl rfl)
theorem dJ6_checkIndex_10 : decode cJ6_checkIndex 10 = .ok (.iload_n 0, 1) := dk_26 (dk_at dksJ6_checkIndex_0 10 rfl rfl)
theorem dJ6_checkIndex_11 : decode cJ6_checkIndex 11 = .ok (.iload_n 1, 1) := dk_27 (dk_at dksJ6_checkIndex_0 11 rfl rfl)
theorem dJ6_checkIndex_12 : decode cJ6_checkIndex 12 = .ok (.invokestatic 95, 3) := dk_184 0 95 (dk_at dksJ6_checkIndex_0 12 rfl rfl)
theorem dJ6_checkIndex_15 : decode cJ6_checkIndex 15 = .ok (.athrow, 1) := dk_191 (dk_at dksJ6_checkIndex_0 15 rfl rfl)
theorem dJ6_checkIndex_16 : decode cJ6_checkIndex 16 = .ok (.iload_n 0, 1) := dk_26 (dk_at dksJ6_checkIndex_0 16 rfl rfl)
theorem dJ6_checkIndex_17 : decode cJ6_checkIndex 17 = .ok (.ireturn, 1) := dk_172 (dk_at dksJ6_checkIndex_0 17 rfl rfl)
theorem q144 : (Jvm.Cond.initialized "jdk/internal/util/Preconditions") ∈ lw_all := lw_g (lw_at lw_m1 13 rfl) rfl
theorem q253 : (Jvm.Cond.laysStatic "jdk/internal/util/Preconditions" "SIOOBE_FORMATTER" "Ljava/util/function/BiFunction;") ∈ lw_tbl := lw_at lw_m1 122 rfl
theorem q255 : (Jvm.Cond.static ({ cls := "jdk/internal/util/Preconditions", name := "checkFromToIndex", desc := "(IIILjava/util/function/BiFunction;)I" } : Jvm.MethodName)) ∈ lw_all := lw_g (lw_at lw_m1 124 rfl) rfl
theorem q256 : (Jvm.Cond.code ({ cls := "jdk/internal/util/Preconditions", name := "checkFromToIndex", desc := "(IIILjava/util/function/BiFunction;)I" } : Jvm.MethodName) prog_30_method_12_code (4 : Nat) (Option.some Jvm.ClassFile.FieldType.int)) ∈ lw_all := lw_g (lw_at lw_m1 125 rfl) rfl
theorem q1381 : (Jvm.Cond.static ({ cls := "jdk/internal/util/Preconditions", name := "checkIndex", desc := "(IILjava/util/function/BiFunction;)I" } : Jvm.MethodName)) ∈ lw_all := lw_g (lw_at lw_m6 50 rfl) rfl
theorem q1382 : (Jvm.Cond.code ({ cls := "jdk/internal/util/Preconditions", name := "checkIndex", desc := "(IILjava/util/function/BiFunction;)I" } : Jvm.MethodName) prog_30_method_11_code (3 : Nat) (Option.some Jvm.ClassFile.FieldType.int)) ∈ lw_all := lw_g (lw_at lw_m6 51 rfl) rfl

/-! java/lang/Character -/
set_option maxRecDepth 100000
def RJ7 : String := "java/lang/Character"
abbrev cJ7_isValidCodePoint : ByteArray := prog_15_method_11_code
def yJ7_isValidCodePoint : MethodName := ⟨RJ7, "isValidCodePoint", "(I)Z"⟩
def dkwJ7_isValidCodePoint_0 : List UInt8 := [26, 16, 16, 124, 60, 27, 16, 17, 162, 0, 7, 4, 167, 0, 4, 3, 172]
abbrev dktJ7_isValidCodePoint_0 : List UInt8 := dkwJ7_isValidCodePoint_0 ++ []
theorem dksJ7_isValidCodePoint_0 : cJ7_isValidCodePoint.data.toList.drop 0 = dktJ7_isValidCodePoint_0 := by decide +kernel
theorem dJ7_isValidCodePoint_0 : decode cJ7_isValidCodePoint 0 = .ok (.iload_n 0, 1) := dk_26 (dk_at dksJ7_isValidCodePoint_0 0 rfl rfl)
theorem dJ7_isValidCodePoint_1 : decode cJ7_isValidCodePoint 1 = .ok (.bipush 16, 2) := dk_16 16 (dk_at dksJ7_isValidCodePoint_0 1 rfl rfl)
theorem dJ7_isValidCodePoint_3 : decode cJ7_isValidCodePoint 3 = .ok (.iushr, 1) := dk_124 (dk_at dksJ7_isValidCodePoint_0 3 rfl rfl)
theorem dJ7_isValidCodePoint_4 : decode cJ7_isValidCodePoint 4 = .ok (.istore_n 1, 1) := dk_60 (dk_at dksJ7_isValidCodePoint_0 4 rfl rfl)
theorem dJ7_isValidCodePoint_5 : decode cJ7_isValidCodePoint 5 = .ok (.iload_n 1, 1) := dk_27 (dk_at dksJ7_isValidCodePoint_0 5 rfl rfl)
theorem dJ7_isValidCodePoint_6 : decode cJ7_isValidCodePoint 6 = .ok (.bipush 17, 2) := dk_16 17 (dk_at dksJ7_isValidCodePoint_0 6 rfl rfl)
theorem dJ7_isValidCodePoint_8 : decode cJ7_isValidCodePoint 8 = .ok (.if_icmp .ge 7, 3) := dk_162 0 7 (dk_at dksJ7_isValidCodePoint_0 8 rfl rfl)
theorem dJ7_isValidCodePoint_11 : decode cJ7_isValidCodePoint 11 = .ok (.iconst 1, 1) := dk_4 (dk_at dksJ7_isValidCodePoint_0 11 rfl rfl)
theorem dJ7_isValidCodePoint_12 : decode cJ7_isValidCodePoint 12 = .ok (.goto 4, 3) := dk_167 0 4 (dk_at dksJ7_isValidCodePoint_0 12 rfl rfl)
theorem dJ7_isValidCodePoint_15 : decode cJ7_isValidCodePoint 15 = .ok (.iconst 0, 1) := dk_3 (dk_at dksJ7_isValidCodePoint_0 15 rfl rfl)
theorem dJ7_isValidCodePoint_16 : decode cJ7_isValidCodePoint 16 = .ok (.ireturn, 1) := dk_172 (dk_at dksJ7_isValidCodePoint_0 16 rfl rfl)
abbrev cJ7_highSurrogate : ByteArray := prog_15_method_28_code
def yJ7_highSurrogate : MethodName := ⟨RJ7, "highSurrogate", "(I)C"⟩
def dkwJ7_highSurrogate_0 : List UInt8 := [26, 16, 10, 124, 18, 110, 96, 146, 172]
abbrev dktJ7_highSurrogate_0 : List UInt8 := dkwJ7_highSurrogate_0 ++ []
theorem dksJ7_highSurrogate_0 : cJ7_highSurrogate.data.toList.drop 0 = dktJ7_highSurrogate_0 := by decide +kernel
theorem dJ7_highSurrogate_0 : decode cJ7_highSurrogate 0 = .ok (.iload_n 0, 1) := dk_26 (dk_at dksJ7_highSurrogate_0 0 rfl rfl)
theorem dJ7_highSurrogate_1 : decode cJ7_highSurrogate 1 = .ok (.bipush 10, 2) := dk_16 10 (dk_at dksJ7_highSurrogate_0 1 rfl rfl)
theorem dJ7_highSurrogate_3 : decode cJ7_highSurrogate 3 = .ok (.iushr, 1) := dk_124 (dk_at dksJ7_highSurrogate_0 3 rfl rfl)
theorem dJ7_highSurrogate_4 : decode cJ7_highSurrogate 4 = .ok (.ldc 110, 2) := dk_18 110 (dk_at dksJ7_highSurrogate_0 4 rfl rfl)
theorem dJ7_highSurrogate_6 : decode cJ7_highSurrogate 6 = .ok (.iadd, 1) := dk_96 (dk_at dksJ7_highSurrogate_0 6 rfl rfl)
theorem dJ7_highSurrogate_7 : decode cJ7_highSurrogate 7 = .ok (.i2c, 1) := dk_146 (dk_at dksJ7_highSurrogate_0 7 rfl rfl)
theorem dJ7_highSurrogate_8 : decode cJ7_highSurrogate 8 = .ok (.ireturn, 1) := dk_172 (dk_at dksJ7_highSurrogate_0 8 rfl rfl)
abbrev cJ7_lowSurrogate : ByteArray := prog_15_method_29_code
def yJ7_lowSurrogate : MethodName := ⟨RJ7, "lowSurrogate", "(I)C"⟩
def dkwJ7_lowSurrogate_0 : List UInt8 := [26, 17, 3, 255, 126, 18, 76, 96, 146, 172]
abbrev dktJ7_lowSurrogate_0 : List UInt8 := dkwJ7_lowSurrogate_0 ++ []
theorem dksJ7_lowSurrogate_0 : cJ7_lowSurrogate.data.toList.drop 0 = dktJ7_lowSurrogate_0 := by decide +kernel
theorem dJ7_lowSurrogate_0 : decode cJ7_lowSurrogate 0 = .ok (.iload_n 0, 1) := dk_26 (dk_at dksJ7_lowSurrogate_0 0 rfl rfl)
theorem dJ7_lowSurrogate_1 : decode cJ7_lowSurrogate 1 = .ok (.sipush 1023, 3) := dk_17 3 255 (dk_at dksJ7_lowSurrogate_0 1 rfl rfl)
theorem dJ7_lowSurrogate_4 : decode cJ7_lowSurrogate 4 = .ok (.iand, 1) := dk_126 (dk_at dksJ7_lowSurrogate_0 4 rfl rfl)
theorem dJ7_lowSurrogate_5 : decode cJ7_lowSurrogate 5 = .ok (.ldc 76, 2) := dk_18 76 (dk_at dksJ7_lowSurrogate_0 5 rfl rfl)
theorem dJ7_lowSurrogate_7 : decode cJ7_lowSurrogate 7 = .ok (.iadd, 1) := dk_96 (dk_at dksJ7_lowSurrogate_0 7 rfl rfl)
theorem dJ7_lowSurrogate_8 : decode cJ7_lowSurrogate 8 = .ok (.i2c, 1) := dk_146 (dk_at dksJ7_lowSurrogate_0 8 rfl rfl)
theorem dJ7_lowSurrogate_9 : decode cJ7_lowSurrogate 9 = .ok (.ireturn, 1) := dk_172 (dk_at dksJ7_lowSurrogate_0 9 rfl rfl)
theorem q145 : (Jvm.Cond.initialized "java/lang/Character") ∈ lw_all := lw_g (lw_at lw_m1 14 rfl) rfl
theorem q273 : (Jvm.Cond.static ({ cls := "java/lang/Character", name := "isValidCodePoint", desc := "(I)Z" } : Jvm.MethodName)) ∈ lw_all := lw_g (lw_at lw_m1 142 rfl) rfl
theorem q274 : (Jvm.Cond.code ({ cls := "java/lang/Character", name := "isValidCodePoint", desc := "(I)Z" } : Jvm.MethodName) prog_15_method_11_code (2 : Nat) (Option.some Jvm.ClassFile.FieldType.boolean)) ∈ lw_all := lw_g (lw_at lw_m1 143 rfl) rfl
theorem q276 : (Jvm.Cond.static ({ cls := "java/lang/Character", name := "highSurrogate", desc := "(I)C" } : Jvm.MethodName)) ∈ lw_all := lw_g (lw_at lw_m1 145 rfl) rfl
theorem q277 : (Jvm.Cond.code ({ cls := "java/lang/Character", name := "highSurrogate", desc := "(I)C" } : Jvm.MethodName) prog_15_method_28_code (1 : Nat) (Option.some Jvm.ClassFile.FieldType.char)) ∈ lw_all := lw_g (lw_at lw_m1 146 rfl) rfl
theorem q278 : (Jvm.Cond.constant "java/lang/Character" (110 : Nat) (55232 : Int32)) ∈ lw_all := lw_g (lw_at lw_m1 147 rfl) rfl
theorem q280 : (Jvm.Cond.static ({ cls := "java/lang/Character", name := "lowSurrogate", desc := "(I)C" } : Jvm.MethodName)) ∈ lw_all := lw_g (lw_at lw_m1 149 rfl) rfl
theorem q281 : (Jvm.Cond.code ({ cls := "java/lang/Character", name := "lowSurrogate", desc := "(I)C" } : Jvm.MethodName) prog_15_method_29_code (1 : Nat) (Option.some Jvm.ClassFile.FieldType.char)) ∈ lw_all := lw_g (lw_at lw_m1 150 rfl) rfl
theorem q282 : (Jvm.Cond.constant "java/lang/Character" (76 : Nat) (56320 : Int32)) ∈ lw_all := lw_g (lw_at lw_m1 151 rfl) rfl

/-! java/lang/RuntimeException -/
set_option maxRecDepth 100000
def RJ8 : String := "java/lang/RuntimeException"
abbrev cJ8_init : ByteArray := prog_21_method_1_code
def yJ8_init : MethodName := ⟨RJ8, "<init>", "()V"⟩
theorem dJ8_init_0 : decode cJ8_init 0 = .ok (.aload_n 0, 1) := by decide +kernel
theorem dJ8_init_1 : decode cJ8_init 1 = .ok (.invokespecial 1, 3) := by decide +kernel
theorem dJ8_init_4 : decode cJ8_init 4 = .ok (.return_, 1) := by decide +kernel
theorem q148 : (Jvm.Cond.initialized "java/lang/RuntimeException") ∈ lw_all := lw_g (lw_at lw_m1 17 rfl) rfl
theorem q1194 : (Jvm.Cond.declares ({ cls := "java/lang/RuntimeException", name := "<init>", desc := "()V" } : Jvm.MethodName)) ∈ lw_tbl := lw_at lw_m5 103 rfl
theorem q1195 : (Jvm.Cond.declares ({ cls := "java/lang/RuntimeException", name := "<init>", desc := "(Ljava/lang/String;)V" } : Jvm.MethodName)) ∈ lw_tbl := lw_at lw_m5 104 rfl
theorem q1206 : (Jvm.Cond.instanceMethod ({ cls := "java/lang/RuntimeException", name := "<init>", desc := "()V" } : Jvm.MethodName)) ∈ lw_all := lw_g (lw_at lw_m5 115 rfl) rfl
theorem q1207 : (Jvm.Cond.code ({ cls := "java/lang/RuntimeException", name := "<init>", desc := "()V" } : Jvm.MethodName) prog_21_method_1_code (1 : Nat) (Option.none : Option Jvm.ClassFile.FieldType)) ∈ lw_all := lw_g (lw_at lw_m5 116 rfl) rfl
theorem q1208 : (Jvm.Cond.methodLink "java/lang/RuntimeException" (1 : Nat) ({ cls := "java/lang/Exception", name := "<init>", desc := "()V" } : Jvm.MethodName)) ∈ lw_all := lw_g (lw_at lw_m5 117 rfl) rfl

/-! java/util/NoSuchElementException -/
set_option maxRecDepth 100000
def RJ9 : String := "java/util/NoSuchElementException"
def TJ9 : u_T := fun k => match k with
  | 0 => ("java/lang/Throwable", "cause", "Ljava/lang/Throwable;", false)
  | 1 => ("java/lang/Throwable", "stackTrace", "[Ljava/lang/StackTraceElement;", false)
  | 2 => ("java/lang/Throwable", "suppressedExceptions", "Ljava/util/List;", false)
  | 3 => ("java/lang/Throwable", "detailMessage", "Ljava/lang/String;", false)
  | 4 => ("java/lang/Throwable", "backtrace", "Ljava/lang/Object;", false)
  | _ => ("java/lang/Throwable", "depth", "I", false)
def tyJ9 : Nat → FieldType := fun k => match k with
  | 0 => .object "java/lang/Throwable"
  | 1 => .array (.object "java/lang/StackTraceElement")
  | 2 => .object "java/util/List"
  | 3 => .object "java/lang/String"
  | 4 => .object "java/lang/Object"
  | _ => .int
abbrev wsJ90 : List Cond := u_ws RJ9 TJ9 6
theorem nmJ9 : ∀ a, a < 6 → ∀ b, b < 6 → a ≠ b → (TJ9 a).2.1 ≠ (TJ9 b).2.1 := by decide +kernel
theorem tyJ9_ok : ∀ k, k < 6 → parseFieldDescriptor (TJ9 k).2.2.1 = some (tyJ9 k) := by decide +kernel
abbrev cJ9_init : ByteArray := prog_29_method_1_code
def yJ9_init : MethodName := ⟨RJ9, "<init>", "()V"⟩
theorem dJ9_init_0 : decode cJ9_init 0 = .ok (.aload_n 0, 1) := by decide +kernel
theorem dJ9_init_1 : decode cJ9_init 1 = .ok (.invokespecial 1, 3) := by decide +kernel
theorem dJ9_init_4 : decode cJ9_init 4 = .ok (.return_, 1) := by decide +kernel
theorem q149 : (Jvm.Cond.initialized "java/util/NoSuchElementException") ∈ lw_all := lw_g (lw_at lw_m1 18 rfl) rfl
theorem q1010 : (Jvm.Cond.selects "java/util/NoSuchElementException" ({ cls := "java/lang/Throwable", name := "fillInStackTrace", desc := "()Ljava/lang/Throwable;" } : Jvm.MethodName) ({ cls := "java/lang/Throwable", name := "fillInStackTrace", desc := "()Ljava/lang/Throwable;" } : Jvm.MethodName)) ∈ lw_all := lw_g (lw_at lw_m4 159 rfl) rfl
theorem q1192 : (Jvm.Cond.instantiable "java/util/NoSuchElementException" (6 : Nat)) ∈ lw_all := lw_g (lw_at lw_m5 101 rfl) rfl
theorem q1193 : (Jvm.Cond.castable "java/util/NoSuchElementException" "java/util/NoSuchElementException") ∈ lw_tbl := lw_at lw_m5 102 rfl
theorem q1196 : (Jvm.Cond.selects "java/util/NoSuchElementException" ({ cls := "java/lang/Throwable", name := "fillInStackTrace", desc := "(I)Ljava/lang/Throwable;" } : Jvm.MethodName) ({ cls := "java/lang/Throwable", name := "fillInStackTrace", desc := "(I)Ljava/lang/Throwable;" } : Jvm.MethodName)) ∈ lw_all := lw_g (lw_at lw_m5 105 rfl) rfl
theorem q1197 : (Jvm.Cond.lays "java/util/NoSuchElementException" "java/lang/Throwable" "cause" "Ljava/lang/Throwable;") ∈ lw_all := lw_g (lw_at lw_m5 106 rfl) rfl
theorem q1198 : (Jvm.Cond.lays "java/util/NoSuchElementException" "java/lang/Throwable" "stackTrace" "[Ljava/lang/StackTraceElement;") ∈ lw_all := lw_g (lw_at lw_m5 107 rfl) rfl
theorem q1199 : (Jvm.Cond.lays "java/util/NoSuchElementException" "java/lang/Throwable" "suppressedExceptions" "Ljava/util/List;") ∈ lw_all := lw_g (lw_at lw_m5 108 rfl) rfl
theorem q1200 : (Jvm.Cond.lays "java/util/NoSuchElementException" "java/lang/Throwable" "detailMessage" "Ljava/lang/String;") ∈ lw_all := lw_g (lw_at lw_m5 109 rfl) rfl
theorem q1201 : (Jvm.Cond.lays "java/util/NoSuchElementException" "java/lang/Throwable" "backtrace" "Ljava/lang/Object;") ∈ lw_all := lw_g (lw_at lw_m5 110 rfl) rfl
theorem q1203 : (Jvm.Cond.instanceMethod ({ cls := "java/util/NoSuchElementException", name := "<init>", desc := "()V" } : Jvm.MethodName)) ∈ lw_all := lw_g (lw_at lw_m5 112 rfl) rfl
theorem q1204 : (Jvm.Cond.code ({ cls := "java/util/NoSuchElementException", name := "<init>", desc := "()V" } : Jvm.MethodName) prog_29_method_1_code (1 : Nat) (Option.none : Option Jvm.ClassFile.FieldType)) ∈ lw_all := lw_g (lw_at lw_m5 113 rfl) rfl
theorem q1205 : (Jvm.Cond.methodLink "java/util/NoSuchElementException" (1 : Nat) ({ cls := "java/lang/RuntimeException", name := "<init>", desc := "()V" } : Jvm.MethodName)) ∈ lw_all := lw_g (lw_at lw_m5 114 rfl) rfl
theorem q1209 : (Jvm.Cond.lays "java/util/NoSuchElementException" "java/lang/Throwable" "depth" "I") ∈ lw_all := lw_g (lw_at lw_m5 118 rfl) rfl
theorem q1210 : (Jvm.Cond.superclass "java/util/NoSuchElementException" "java/lang/RuntimeException") ∈ lw_all := lw_g (lw_at lw_m5 119 rfl) rfl
theorem q1842 : (Jvm.Cond.castable "java/util/NoSuchElementException" "java/lang/Object") ∈ lw_tbl := lw_at lw_m8 31 rfl
theorem in_J9 : ∀ w ∈ wsJ90, w ∈ lw_all := lw_in wsJ90 [1197, 1198, 1199, 1200, 1201, 1209] (by decide +kernel) (by decide +kernel)

/-! java/lang/Integer -/
set_option maxRecDepth 100000
def RJ10 : String := "java/lang/Integer"
abbrev cJ10_numberOfTrailingZeros : ByteArray := prog_18_method_48_code
def yJ10_numberOfTrailingZeros : MethodName := ⟨RJ10, "numberOfTrailingZeros", "(I)I"⟩
def dkwJ10_numberOfTrailingZeros_3 : List UInt8 := [5, 124, 59, 27, 26, 4, 124, 96, 172]
abbrev dktJ10_numberOfTrailingZeros_3 : List UInt8 := dkwJ10_numberOfTrailingZeros_3 ++ []
def dkwJ10_numberOfTrailingZeros_2 : List UInt8 := [124, 59, 26, 16, 16, 164, 0, 10, 132, 1, 4, 26, 7, 124, 59, 26, 7, 164, 0, 10, 132, 1, 2, 26]
abbrev dktJ10_numberOfTrailingZeros_2 : List UInt8 := dkwJ10_numberOfTrailingZeros_2 ++ dktJ10_numberOfTrailingZeros_3
def dkwJ10_numberOfTrailingZeros_1 : List UInt8 := [164, 0, 11, 132, 1, 16, 26, 16, 16, 124, 59, 26, 17, 1, 0, 164, 0, 11, 132, 1, 8, 26, 16, 8]
abbrev dktJ10_numberOfTrailingZeros_1 : List UInt8 := dkwJ10_numberOfTrailingZeros_1 ++ dktJ10_numberOfTrailingZeros_2
def dkwJ10_numberOfTrailingZeros_0 : List UInt8 := [26, 2, 130, 26, 4, 100, 126, 59, 26, 157, 0, 8, 26, 16, 32, 126, 172, 4, 60, 26, 19, 1, 8]
abbrev dktJ10_numberOfTrailingZeros_0 : List UInt8 := dkwJ10_numberOfTrailingZeros_0 ++ dktJ10_numberOfTrailingZeros_1
theorem dksJ10_numberOfTrailingZeros_0 : cJ10_numberOfTrailingZeros.data.toList.drop 0 = dktJ10_numberOfTrailingZeros_0 := by decide +kernel
theorem dksJ10_numberOfTrailingZeros_1 : cJ10_numberOfTrailingZeros.data.toList.drop 23 = dktJ10_numberOfTrailingZeros_1 := dk_seg dksJ10_numberOfTrailingZeros_0 23 rfl rfl
theorem dksJ10_numberOfTrailingZeros_2 : cJ10_numberOfTrailingZeros.data.toList.drop 47 = dktJ10_numberOfTrailingZeros_2 := dk_seg dksJ10_numberOfTrailingZeros_1 24 rfl rfl
theorem dksJ10_numberOfTrailingZeros_3 : cJ10_numberOfTrailingZeros.data.toList.drop 71 = dktJ10_numberOfTrailingZeros_3 := dk_seg dksJ10_numberOfTrailingZeros_2 24 rfl rfl
theorem dJ10_numberOfTrailingZeros_0 : decode cJ10_numberOfTrailingZeros 0 = .ok (.iload_n 0, 1) := dk_26 (dk_at dksJ10_numberOfTrailingZeros_0 0 rfl rfl)
theorem dJ10_numberOfTrailingZeros_1 : decode cJ10_numberOfTrailingZeros 1 = .ok (.iconst (-1), 1) := dk_2 (dk_at dksJ10_numberOfTrailingZeros_0 1 rfl rfl)
theorem dJ10_numberOfTrailingZeros_2 : decode cJ10_numberOfTrailingZeros 2 = .ok (.ixor, 1) := dk_130 (dk_at dksJ10_numberOfTrailingZeros_0 2 rfl rfl)
theorem dJ10_numberOfTrailingZeros_3 : decode cJ10_numberOfTrailingZeros 3 = .ok (.iload_n 0, 1) := dk_26 (dk_at dksJ10_numberOfTrailingZeros_0 3 rfl rfl)
theorem dJ10_numberOfTrailingZeros_4 : decode cJ10_numberOfTrailingZeros 4 = .ok (.iconst 1, 1) := dk_4 (dk_at dksJ10_numberOfTrailingZeros_0 4 rfl rfl)
theorem dJ10_numberOfTrailingZeros_5 : decode cJ10_numberOfTrailingZeros 5 = .ok (.isub, 1) := dk_100 (dk_at dksJ10_numberOfTrailingZeros_0 5 rfl rfl)
theorem dJ10_numberOfTrailingZeros_6 : decode cJ10_numberOfTrailingZeros 6 = .ok (.iand, 1) := dk_126 (dk_at dksJ10_numberOfTrailingZeros_0 6 rfl rfl)
theorem dJ10_numberOfTrailingZeros_7 : decode cJ10_numberOfTrailingZeros 7 = .ok (.istore_n 0, 1) := dk_59 (dk_at dksJ10_numberOfTrailingZeros_0 7 rfl rfl)
theorem dJ10_numberOfTrailingZeros_8 : decode cJ10_numberOfTrailingZeros 8 = .ok (.iload_n 0, 1) := dk_26 (dk_at dksJ10_numberOfTrailingZeros_0 8 rfl rfl)
theorem dJ10_numberOfTrailingZeros_9 : decode cJ10_numberOfTrailingZeros 9 = .ok (.ifCond .gt 8, 3) := dk_157 0 8 (dk_at dksJ10_numberOfTrailingZeros_0 9 rfl rfl)
theorem dJ10_numberOfTrailingZeros_12 : decode cJ10_numberOfTrailingZeros 12 = .ok (.iload_n 0, 1) := dk_26 (dk_at dksJ10_numberOfTrailingZeros_0 12 rfl rfl)
theorem dJ10_numberOfTrailingZeros_13 : decode cJ10_numberOfTrailingZeros 13 = .ok (.bipush 32, 2) := dk_16 32 (dk_at dksJ10_numberOfTrailingZeros_0 13 rfl rfl)
theorem dJ10_numberOfTrailingZeros_15 : decode cJ10_numberOfTrailingZeros 15 = .ok (.iand, 1) := dk_126 (dk_at dksJ10_numberOfTrailingZeros_0 15 rfl rfl)
theorem dJ10_numberOfTrailingZeros_16 : decode cJ10_numberOfTrailingZeros 16 = .ok (.ireturn, 1) := dk_172 (dk_at dksJ10_numberOfTrailingZeros_0 16 rfl rfl)
theorem dJ10_numberOfTrailingZeros_17 : decode cJ10_numberOfTrailingZeros 17 = .ok (.iconst 1, 1) := dk_4 (dk_at dksJ10_numberOfTrailingZeros_0 17 rfl rfl)
theorem dJ10_numberOfTrailingZeros_18 : decode cJ10_numberOfTrailingZeros 18 = .ok (.istore_n 1, 1) := dk_60 (dk_at dksJ10_numberOfTrailingZeros_0 18 rfl rfl)
theorem dJ10_numberOfTrailingZeros_19 : decode cJ10_numberOfTrailingZeros 19 = .ok (.iload_n 0, 1) := dk_26 (dk_at dksJ10_numberOfTrailingZeros_0 19 rfl rfl)
theorem dJ10_numberOfTrailingZeros_20 : decode cJ10_numberOfTrailingZeros 20 = .ok (.ldc_w 264, 3) := dk_19 1 8 (dk_at dksJ10_numberOfTrailingZeros_0 20 rfl rfl)
theorem dJ10_numberOfTrailingZeros_23 : decode cJ10_numberOfTrailingZeros 23 = .ok (.if_icmp .le 11, 3) := dk_164 0 11 (dk_at dksJ10_numberOfTrailingZeros_1 0 rfl rfl)
theorem dJ10_numberOfTrailingZeros_26 : decode cJ10_numberOfTrailingZeros 26 = .ok (.iinc 1 16, 3) := dk_132 1 16 (dk_at dksJ10_numberOfTrailingZeros_1 3 rfl rfl)
theorem dJ10_numberOfTrailingZeros_29 : decode cJ10_numberOfTrailingZeros 29 = .ok (.iload_n 0, 1) := dk_26 (dk_at dksJ10_numberOfTrailingZeros_1 6 rfl rfl)
theorem dJ10_numberOfTrailingZeros_30 : decode cJ10_numberOfTrailingZeros 30 = .ok (.bipush 16, 2) := dk_16 16 (dk_at dksJ10_numberOfTrailingZeros_1 7 rfl rfl)
theorem dJ10_numberOfTrailingZeros_32 : decode cJ10_numberOfTrailingZeros 32 = .ok (.iushr, 1) := dk_124 (dk_at dksJ10_numberOfTrailingZeros_1 9 rfl rfl)
theorem dJ10_numberOfTrailingZeros_33 : decode cJ10_numberOfTrailingZeros 33 = .ok (.istore_n 0, 1) := dk_59 (dk_at dksJ10_numberOfTrailingZeros_1 10 rfl rfl)
theorem dJ10_numberOfTrailingZeros_34 : decode cJ10_numberOfTrailingZeros 34 = .ok (.iload_n 0, 1) := dk_26 (dk_at dksJ10_numberOfTrailingZeros_1 11 rfl rfl)
theorem dJ10_numberOfTrailingZeros_35 : decode cJ10_numberOfTrailingZeros 35 = .ok (.sipush 256, 3) := dk_17 1 0 (dk_at dksJ10_numberOfTrailingZeros_1 12 rfl rfl)
theorem dJ10_numberOfTrailingZeros_38 : decode cJ10_numberOfTrailingZeros 38 = .ok (.if_icmp .le 11, 3) := dk_164 0 11 (dk_at dksJ10_numberOfTrailingZeros_1 15 rfl rfl)
theorem dJ10_numberOfTrailingZeros_41 : decode cJ10_numberOfTrailingZeros 41 = .ok (.iinc 1 8, 3) := dk_132 1 8 (dk_at dksJ10_numberOfTrailingZeros_1 18 rfl rfl)
theorem dJ10_numberOfTrailingZeros_44 : decode cJ10_numberOfTrailingZeros 44 = .ok (.iload_n 0, 1) := dk_26 (dk_at dksJ10_numberOfTrailingZeros_1 21 rfl rfl)
theorem dJ10_numberOfTrailingZeros_45 : decode cJ10_numberOfTrailingZeros 45 = .ok (.bipush 8, 2) := dk_16 8 (dk_at dksJ10_numberOfTrailingZeros_1 22 rfl rfl)
theorem dJ10_numberOfTrailingZeros_47 : decode cJ10_numberOfTrailingZeros 47 = .ok (.iushr, 1) := dk_124 (dk_at dksJ10_numberOfTrailingZeros_2 0 rfl rfl)
theorem dJ10_numberOfTrailingZeros_48 : decode cJ10_numberOfTrailingZeros 48 = .ok (.istore_n 0, 1) := dk_59 (dk_at dksJ10_numberOfTrailingZeros_2 1 rfl rfl)
theorem dJ10_numberOfTrailingZeros_49 : decode cJ10_numberOfTrailingZeros 49 = .ok (.iload_n 0, 1) := dk_26 (dk_at dksJ10_numberOfTrailingZeros_2 2 rfl rfl)
theorem dJ10_numberOfTrailingZeros_50 : decode cJ10_numberOfTrailingZeros 50 = .ok (.bipush 16, 2) := dk_16 16 (dk_at dksJ10_numberOfTrailingZeros_2 3 rfl rfl)
theorem dJ10_numberOfTrailingZeros_52 : decode cJ10_numberOfTrailingZeros 52 = .ok (.if_icmp .le 10, 3) := dk_164 0 10 (dk_at dksJ10_numberOfTrailingZeros_2 5 rfl rfl)
theorem dJ10_numberOfTrailingZeros_55 : decode cJ10_numberOfTrailingZeros 55 = .ok (.iinc 1 4, 3) := dk_132 1 4 (dk_at dksJ10_numberOfTrailingZeros_2 8 rfl rfl)
theorem dJ10_numberOfTrailingZeros_58 : decode cJ10_numberOfTrailingZeros 58 = .ok (.iload_n 0, 1) := dk_26 (dk_at dksJ10_numberOfTrailingZeros_2 11 rfl rfl)
theorem dJ10_numberOfTrailingZeros_59 : decode cJ10_numberOfTrailingZeros 59 = .ok (.iconst 4, 1) := dk_7 (dk_at dksJ10_numberOfTrailingZeros_2 12 rfl rfl)
theorem dJ10_numberOfTrailingZeros_60 : decode cJ10_numberOfTrailingZeros 60 = .ok (.iushr, 1) := dk_124 (dk_at dksJ10_numberOfTrailingZeros_2 13 rfl rfl)
theorem dJ10_numberOfTrailingZeros_61 : decode cJ10_numberOfTrailingZeros 61 = .ok (.istore_n 0, 1) := dk_59 (dk_at dksJ10_numberOfTrailingZeros_2 14 rfl rfl)
theorem dJ10_numberOfTrailingZeros_62 : decode cJ10_numberOfTrailingZeros 62 = .ok (.iload_n 0, 1) := dk_26 (dk_at dksJ10_numberOfTrailingZeros_2 15 rfl rfl)
theorem dJ10_numberOfTrailingZeros_63 : decode cJ10_numberOfTrailingZeros 63 = .ok (.iconst 4, 1) := dk_7 (dk_at dksJ10_numberOfTrailingZeros_2 16 rfl rfl)
theorem dJ10_numberOfTrailingZeros_64 : decode cJ10_numberOfTrailingZeros 64 = .ok (.if_icmp .le 10, 3) := dk_164 0 10 (dk_at dksJ10_numberOfTrailingZeros_2 17 rfl rfl)
theorem dJ10_numberOfTrailingZeros_67 : decode cJ10_numberOfTrailingZeros 67 = .ok (.iinc 1 2, 3) := dk_132 1 2 (dk_at dksJ10_numberOfTrailingZeros_2 20 rfl rfl)
theorem dJ10_numberOfTrailingZeros_70 : decode cJ10_numberOfTrailingZeros 70 = .ok (.iload_n 0, 1) := dk_26 (dk_at dksJ10_numberOfTrailingZeros_2 23 rfl rfl)
theorem dJ10_numberOfTrailingZeros_71 : decode cJ10_numberOfTrailingZeros 71 = .ok (.iconst 2, 1) := dk_5 (dk_at dksJ10_numberOfTrailingZeros_3 0 rfl rfl)
theorem dJ10_numberOfTrailingZeros_72 : decode cJ10_numberOfTrailingZeros 72 = .ok (.iushr, 1) := dk_124 (dk_at dksJ10_numberOfTrailingZeros_3 1 rfl rfl)
theorem dJ10_numberOfTrailingZeros_73 : decode cJ10_numberOfTrailingZeros 73 = .ok (.istore_n 0, 1) := dk_59 (dk_at dksJ10_numberOfTrailingZeros_3 2 rfl rfl)
theorem dJ10_numberOfTrailingZeros_74 : decode cJ10_numberOfTrailingZeros 74 = .ok (.iload_n 1, 1) := dk_27 (dk_at dksJ10_numberOfTrailingZeros_3 3 rfl rfl)
theorem dJ10_numberOfTrailingZeros_75 : decode cJ10_numberOfTrailingZeros 75 = .ok (.iload_n 0, 1) := dk_26 (dk_at dksJ10_numberOfTrailingZeros_3 4 rfl rfl)
theorem dJ10_numberOfTrailingZeros_76 : decode cJ10_numberOfTrailingZeros 76 = .ok (.iconst 1, 1) := dk_4 (dk_at dksJ10_numberOfTrailingZeros_3 5 rfl rfl)
theorem dJ10_numberOfTrailingZeros_77 : decode cJ10_numberOfTrailingZeros 77 = .ok (.iushr, 1) := dk_124 (dk_at dksJ10_numberOfTrailingZeros_3 6 rfl rfl)
theorem dJ10_numberOfTrailingZeros_78 : decode cJ10_numberOfTrailingZeros 78 = .ok (.iadd, 1) := dk_96 (dk_at dksJ10_numberOfTrailingZeros_3 7 rfl rfl)
theorem dJ10_numberOfTrailingZeros_79 : decode cJ10_numberOfTrailingZeros 79 = .ok (.ireturn, 1) := dk_172 (dk_at dksJ10_numberOfTrailingZeros_3 8 rfl rfl)
abbrev cJ10_bitCount : ByteArray := prog_18_method_49_code
def yJ10_bitCount : MethodName := ⟨RJ10, "bitCount", "(I)I"⟩
def dkwJ10_bitCount_2 : List UInt8 := [26, 16, 63, 126, 172]
abbrev dktJ10_bitCount_2 : List UInt8 := dkwJ10_bitCount_2 ++ []
def dkwJ10_bitCount_1 : List UInt8 := [26, 26, 7, 124, 96, 19, 1, 11, 126, 59, 26, 26, 16, 8, 124, 96, 59, 26, 26, 16, 16, 124, 96, 59]
abbrev dktJ10_bitCount_1 : List UInt8 := dkwJ10_bitCount_1 ++ dktJ10_bitCount_2
def dkwJ10_bitCount_0 : List UInt8 := [26, 26, 4, 124, 19, 1, 9, 126, 100, 59, 26, 19, 1, 10, 126, 26, 5, 124, 19, 1, 10, 126, 96, 59]
abbrev dktJ10_bitCount_0 : List UInt8 := dkwJ10_bitCount_0 ++ dktJ10_bitCount_1
theorem dksJ10_bitCount_0 : cJ10_bitCount.data.toList.drop 0 = dktJ10_bitCount_0 := by decide +kernel
theorem dksJ10_bitCount_1 : cJ10_bitCount.data.toList.drop 24 = dktJ10_bitCount_1 := dk_seg dksJ10_bitCount_0 24 rfl rfl
theorem dksJ10_bitCount_2 : cJ10_bitCount.data.toList.drop 48 = dktJ10_bitCount_2 := dk_seg dksJ10_bitCount_1 24 rfl rfl
theorem dJ10_bitCount_0 : decode cJ10_bitCount 0 = .ok (.iload_n 0, 1) := dk_26 (dk_at dksJ10_bitCount_0 0 rfl rfl)
theorem dJ10_bitCount_1 : decode cJ10_bitCount 1 = .ok (.iload_n 0, 1) := dk_26 (dk_at dksJ10_bitCount_0 1 rfl rfl)
theorem dJ10_bitCount_2 : decode cJ10_bitCount 2 = .ok (.iconst 1, 1) := dk_4 (dk_at dksJ10_bitCount_0 2 rfl rfl)
theorem dJ10_bitCount_3 : decode cJ10_bitCount 3 = .ok (.iushr, 1) := dk_124 (dk_at dksJ10_bitCount_0 3 rfl rfl)
theorem dJ10_bitCount_4 : decode cJ10_bitCount 4 = .ok (.ldc_w 265, 3) := dk_19 1 9 (dk_at dksJ10_bitCount_0 4 rfl rfl)
theorem dJ10_bitCount_7 : decode cJ10_bitCount 7 = .ok (.iand, 1) := dk_126 (dk_at dksJ10_bitCount_0 7 rfl rfl)
theorem dJ10_bitCount_8 : decode cJ10_bitCount 8 = .ok (.isub, 1) := dk_100 (dk_at dksJ10_bitCount_0 8 rfl rfl)
theorem dJ10_bitCount_9 : decode cJ10_bitCount 9 = .ok (.istore_n 0, 1) := dk_59 (dk_at dksJ10_bitCount_0 9 rfl rfl)
theorem dJ10_bitCount_10 : decode cJ10_bitCount 10 = .ok (.iload_n 0, 1) := dk_26 (dk_at dksJ10_bitCount_0 10 rfl rfl)
theorem dJ10_bitCount_11 : decode cJ10_bitCount 11 = .ok (.ldc_w 266, 3) := dk_19 1 10 (dk_at dksJ10_bitCount_0 11 rfl rfl)
theorem dJ10_bitCount_14 : decode cJ10_bitCount 14 = .ok (.iand, 1) := dk_126 (dk_at dksJ10_bitCount_0 14 rfl rfl)
theorem dJ10_bitCount_15 : decode cJ10_bitCount 15 = .ok (.iload_n 0, 1) := dk_26 (dk_at dksJ10_bitCount_0 15 rfl rfl)
theorem dJ10_bitCount_16 : decode cJ10_bitCount 16 = .ok (.iconst 2, 1) := dk_5 (dk_at dksJ10_bitCount_0 16 rfl rfl)
theorem dJ10_bitCount_17 : decode cJ10_bitCount 17 = .ok (.iushr, 1) := dk_124 (dk_at dksJ10_bitCount_0 17 rfl rfl)
theorem dJ10_bitCount_18 : decode cJ10_bitCount 18 = .ok (.ldc_w 266, 3) := dk_19 1 10 (dk_at dksJ10_bitCount_0 18 rfl rfl)
theorem dJ10_bitCount_21 : decode cJ10_bitCount 21 = .ok (.iand, 1) := dk_126 (dk_at dksJ10_bitCount_0 21 rfl rfl)
theorem dJ10_bitCount_22 : decode cJ10_bitCount 22 = .ok (.iadd, 1) := dk_96 (dk_at dksJ10_bitCount_0 22 rfl rfl)
theorem dJ10_bitCount_23 : decode cJ10_bitCount 23 = .ok (.istore_n 0, 1) := dk_59 (dk_at dksJ10_bitCount_0 23 rfl rfl)
theorem dJ10_bitCount_24 : decode cJ10_bitCount 24 = .ok (.iload_n 0, 1) := dk_26 (dk_at dksJ10_bitCount_1 0 rfl rfl)
theorem dJ10_bitCount_25 : decode cJ10_bitCount 25 = .ok (.iload_n 0, 1) := dk_26 (dk_at dksJ10_bitCount_1 1 rfl rfl)
theorem dJ10_bitCount_26 : decode cJ10_bitCount 26 = .ok (.iconst 4, 1) := dk_7 (dk_at dksJ10_bitCount_1 2 rfl rfl)
theorem dJ10_bitCount_27 : decode cJ10_bitCount 27 = .ok (.iushr, 1) := dk_124 (dk_at dksJ10_bitCount_1 3 rfl rfl)
theorem dJ10_bitCount_28 : decode cJ10_bitCount 28 = .ok (.iadd, 1) := dk_96 (dk_at dksJ10_bitCount_1 4 rfl rfl)
theorem dJ10_bitCount_29 : decode cJ10_bitCount 29 = .ok (.ldc_w 267, 3) := dk_19 1 11 (dk_at dksJ10_bitCount_1 5 rfl rfl)
theorem dJ10_bitCount_32 : decode cJ10_bitCount 32 = .ok (.iand, 1) := dk_126 (dk_at dksJ10_bitCount_1 8 rfl rfl)
theorem dJ10_bitCount_33 : decode cJ10_bitCount 33 = .ok (.istore_n 0, 1) := dk_59 (dk_at dksJ10_bitCount_1 9 rfl rfl)
theorem dJ10_bitCount_34 : decode cJ10_bitCount 34 = .ok (.iload_n 0, 1) := dk_26 (dk_at dksJ10_bitCount_1 10 rfl rfl)
theorem dJ10_bitCount_35 : decode cJ10_bitCount 35 = .ok (.iload_n 0, 1) := dk_26 (dk_at dksJ10_bitCount_1 11 rfl rfl)
theorem dJ10_bitCount_36 : decode cJ10_bitCount 36 = .ok (.bipush 8, 2) := dk_16 8 (dk_at dksJ10_bitCount_1 12 rfl rfl)
theorem dJ10_bitCount_38 : decode cJ10_bitCount 38 = .ok (.iushr, 1) := dk_124 (dk_at dksJ10_bitCount_1 14 rfl rfl)
theorem dJ10_bitCount_39 : decode cJ10_bitCount 39 = .ok (.iadd, 1) := dk_96 (dk_at dksJ10_bitCount_1 15 rfl rfl)
theorem dJ10_bitCount_40 : decode cJ10_bitCount 40 = .ok (.istore_n 0, 1) := dk_59 (dk_at dksJ10_bitCount_1 16 rfl rfl)
theorem dJ10_bitCount_41 : decode cJ10_bitCount 41 = .ok (.iload_n 0, 1) := dk_26 (dk_at dksJ10_bitCount_1 17 rfl rfl)
theorem dJ10_bitCount_42 : decode cJ10_bitCount 42 = .ok (.iload_n 0, 1) := dk_26 (dk_at dksJ10_bitCount_1 18 rfl rfl)
theorem dJ10_bitCount_43 : decode cJ10_bitCount 43 = .ok (.bipush 16, 2) := dk_16 16 (dk_at dksJ10_bitCount_1 19 rfl rfl)
theorem dJ10_bitCount_45 : decode cJ10_bitCount 45 = .ok (.iushr, 1) := dk_124 (dk_at dksJ10_bitCount_1 21 rfl rfl)
theorem dJ10_bitCount_46 : decode cJ10_bitCount 46 = .ok (.iadd, 1) := dk_96 (dk_at dksJ10_bitCount_1 22 rfl rfl)
theorem dJ10_bitCount_47 : decode cJ10_bitCount 47 = .ok (.istore_n 0, 1) := dk_59 (dk_at dksJ10_bitCount_1 23 rfl rfl)
theorem dJ10_bitCount_48 : decode cJ10_bitCount 48 = .ok (.iload_n 0, 1) := dk_26 (dk_at dksJ10_bitCount_2 0 rfl rfl)
theorem dJ10_bitCount_49 : decode cJ10_bitCount 49 = .ok (.bipush 63, 2) := dk_16 63 (dk_at dksJ10_bitCount_2 1 rfl rfl)
theorem dJ10_bitCount_51 : decode cJ10_bitCount 51 = .ok (.iand, 1) := dk_126 (dk_at dksJ10_bitCount_2 3 rfl rfl)
theorem dJ10_bitCount_52 : decode cJ10_bitCount 52 = .ok (.ireturn, 1) := dk_172 (dk_at dksJ10_bitCount_2 4 rfl rfl)
theorem q151 : (Jvm.Cond.initialized "java/lang/Integer") ∈ lw_all := lw_g (lw_at lw_m1 20 rfl) rfl
theorem q620 : (Jvm.Cond.static ({ cls := "java/lang/Integer", name := "numberOfTrailingZeros", desc := "(I)I" } : Jvm.MethodName)) ∈ lw_all := lw_g (lw_at lw_m3 9 rfl) rfl
theorem q621 : (Jvm.Cond.code ({ cls := "java/lang/Integer", name := "numberOfTrailingZeros", desc := "(I)I" } : Jvm.MethodName) prog_18_method_48_code (2 : Nat) (Option.some Jvm.ClassFile.FieldType.int)) ∈ lw_all := lw_g (lw_at lw_m3 10 rfl) rfl
theorem q622 : (Jvm.Cond.constant "java/lang/Integer" (264 : Nat) (65536 : Int32)) ∈ lw_all := lw_g (lw_at lw_m3 11 rfl) rfl
theorem q624 : (Jvm.Cond.static ({ cls := "java/lang/Integer", name := "bitCount", desc := "(I)I" } : Jvm.MethodName)) ∈ lw_all := lw_g (lw_at lw_m3 13 rfl) rfl
theorem q625 : (Jvm.Cond.code ({ cls := "java/lang/Integer", name := "bitCount", desc := "(I)I" } : Jvm.MethodName) prog_18_method_49_code (1 : Nat) (Option.some Jvm.ClassFile.FieldType.int)) ∈ lw_all := lw_g (lw_at lw_m3 14 rfl) rfl
theorem q626 : (Jvm.Cond.constant "java/lang/Integer" (265 : Nat) (1431655765 : Int32)) ∈ lw_all := lw_g (lw_at lw_m3 15 rfl) rfl
theorem q627 : (Jvm.Cond.constant "java/lang/Integer" (266 : Nat) (858993459 : Int32)) ∈ lw_all := lw_g (lw_at lw_m3 16 rfl) rfl
theorem q628 : (Jvm.Cond.constant "java/lang/Integer" (267 : Nat) (252645135 : Int32)) ∈ lw_all := lw_g (lw_at lw_m3 17 rfl) rfl

/-! java/lang/Object -/
set_option maxRecDepth 100000
def RJ11 : String := "java/lang/Object"
abbrev cJ11_init : ByteArray := object_method_1_code
def yJ11_init : MethodName := ⟨RJ11, "<init>", "()V"⟩
theorem dJ11_init_0 : decode cJ11_init 0 = .ok (.return_, 1) := by decide +kernel
theorem q330 : (Jvm.Cond.instanceMethod ({ cls := "java/lang/Object", name := "<init>", desc := "()V" } : Jvm.MethodName)) ∈ lw_all := lw_g (lw_at lw_m1 199 rfl) rfl
theorem q331 : (Jvm.Cond.code ({ cls := "java/lang/Object", name := "<init>", desc := "()V" } : Jvm.MethodName) object_method_1_code (1 : Nat) (Option.none : Option Jvm.ClassFile.FieldType)) ∈ lw_all := lw_g (lw_at lw_m1 200 rfl) rfl

theorem q546 : (Jvm.Cond.interfaceMethod "StripeShelf$Copied" "StripeShelf$Copied" "copied" "()Ljava/lang/Object;") ∈ lw_tbl := lw_at lw_m2 175 rfl
set_option maxRecDepth 100000
theorem q547 : (Jvm.Cond.declares ({ cls := "StripeShelf$Copied", name := "copied", desc := "()Ljava/lang/Object;" } : Jvm.MethodName)) ∈ lw_tbl := lw_at lw_m2 176 rfl

theorem q674 : (Jvm.Cond.interfaceMethod "java/lang/Comparable" "java/lang/Comparable" "compareTo" "(Ljava/lang/Object;)I") ∈ lw_tbl := lw_at lw_m3 63 rfl
set_option maxRecDepth 100000
theorem q675 : (Jvm.Cond.declares ({ cls := "java/lang/Comparable", name := "compareTo", desc := "(Ljava/lang/Object;)I" } : Jvm.MethodName)) ∈ lw_tbl := lw_at lw_m3 64 rfl

theorem q150 : (Jvm.Cond.initialized "java/lang/Number") ∈ lw_all := lw_g (lw_at lw_m1 19 rfl) rfl
set_option maxRecDepth 100000

theorem q146 : (Jvm.Cond.initialized "java/lang/System") ∈ lw_all := lw_g (lw_at lw_m1 15 rfl) rfl
set_option maxRecDepth 100000
theorem q318 : (Jvm.Cond.static ({ cls := "java/lang/System", name := "arraycopy", desc := "(Ljava/lang/Object;ILjava/lang/Object;II)V" } : Jvm.MethodName)) ∈ lw_all := lw_g (lw_at lw_m1 187 rfl) rfl
theorem q319 : (Jvm.Cond.native ({ cls := "java/lang/System", name := "arraycopy", desc := "(Ljava/lang/Object;ILjava/lang/Object;II)V" } : Jvm.MethodName)) ∈ lw_all := lw_g (lw_at lw_m1 188 rfl) rfl

theorem q307 : (Jvm.Cond.arrayClass Jvm.ClassFile.FieldType.byte) ∈ lw_all := lw_g (lw_at lw_m1 176 rfl) rfl
set_option maxRecDepth 100000
theorem q351 : (Jvm.Cond.arrayClass Jvm.ClassFile.FieldType.int) ∈ lw_all := lw_g (lw_at lw_m1 220 rfl) rfl
theorem q1314 : (Jvm.Cond.arrayClass Jvm.ClassFile.FieldType.boolean) ∈ lw_all := lw_g (lw_at lw_m5 223 rfl) rfl
theorem q1832 : (Jvm.Cond.arrayClass Jvm.ClassFile.FieldType.long) ∈ lw_all := lw_g (lw_at lw_m8 21 rfl) rfl
